set_option maxRecDepth 100000
set_option maxHeartbeats 400000
/-! ===== what a node makes of values, in plain numbers ===== -/
def prB (a : Nat) : Nat → Bool
  | 0 => false
  | k + 1 => Bool.xor (prB a k) (a.testBit k)
def opW (op w wa wb lo a b c : Nat) : Nat :=
  if op = 3 then 2 ^ w - 1 - a else if op = 4 then (2 ^ w - a) % 2 ^ w else if op = 5 then (if a = 2 ^ wa - 1 then 1 else 0) else if op = 6 then (if a = 0 then 0 else 1) else if op = 7 then (if prB a 32 = true then 1 else 0) else if op = 8 then a / 2 ^ lo % 2 ^ w else if op = 9 then a * 2 ^ wb + b else if op = 10 then a ||| b else if op = 11 then a ^^^ b else if op = 12 then a &&& b else if op = 13 then (if a = b then 1 else 0) else if op = 14 then (if a = b then 0 else 1) else if op = 15 then (if a < b then 1 else 0) else if op = 16 then (a + b) % 2 ^ w else if op = 17 then (a + (2 ^ w - b)) % 2 ^ w else if op = 18 then a * b % 2 ^ w else if op = 19 then (if a = 1 then b else c) else if op = 20 then (if w ≤ b then 0 else a * 2 ^ b % 2 ^ w) else if w ≤ b then 0 else a / 2 ^ b
theorem sgB (v : Nat) : BitVec.ofInt 32 (sg v) = BitVec.ofNat 32 v := BitVec.ofInt_toInt
theorem sg_of {b : BitVec 32} {v : Nat} (h : b.toNat = v) : b.toInt = sg v := by
  unfold sg
  rw [← h, BitVec.ofNat_toNat, BitVec.setWidth_eq]
theorem sg_R (v : Nat) : inR (sg v) := by
  have h1 := BitVec.toInt_lt (x := BitVec.ofNat 32 v)
  have h2 := BitVec.le_toInt (x := BitVec.ofNat 32 v)
  unfold inR sg
  omega
theorem sg_val {v : Nat} (h : v < 4294967296) : sg v = if v < 2147483648 then (v : Int) else (v : Int) - 4294967296 := by
  unfold sg
  rw [BitVec.toInt_eq_toNat_cond, BitVec.toNat_ofNat, Nat.mod_eq_of_lt (by omega)]
  by_cases q : v < 2147483648
  · rw [if_pos (by omega), if_pos q]
  · rw [if_neg (by omega), if_neg q]; omega
theorem sg_inj {u v : Nat} (hu : u < 4294967296) (hv : v < 4294967296) : (sg u = sg v) = (u = v) := by
  rw [sg_val hu, sg_val hv]
  apply propext
  split <;> split <;> omega
theorem p32 {w : Nat} (h : w ≤ 32) : 2 ^ w ≤ 4294967296 := p2le (k := 32) h
theorem mask_v {w : Nat} (h : w ≤ 32) {σ : St} {Q : Int → St → Prop} : wp (F_X0_mask (w : Int)) σ Q = Q (sg (2 ^ w - 1)) σ := by
  have hd : ∀ j : Fin 32, w32 ((ishl 1 ((j : Nat) : Int)) - 1) = sg (2 ^ (j : Nat) - 1) := by decide +kernel
  simp only [F_X0_mask, wp_ite, wp_rt]
  by_cases e : w = 32
  · subst e
    rw [if_pos (show ((32 : Nat) : Int) = 32 from rfl), show sg (2 ^ 32 - 1) = -1 by decide +kernel]
  · rw [if_neg (by omega)]
    congr 1
    exact hd ⟨w, by omega⟩
theorem msk_v {e : Int} {b : BitVec 32} (he : BitVec.ofInt 32 e = b) {w : Nat} (hw : w ≤ 32) : iand e (sg (2 ^ w - 1)) = sg (b.toNat % 2 ^ w) := by
  have hp := p32 hw
  have h0 := Nat.two_pow_pos w
  unfold iand
  show ((BitVec.ofInt 32 e) &&& (BitVec.ofInt 32 (sg (2 ^ w - 1)))).toInt = _
  rw [he, sgB]
  apply sg_of
  rw [BitVec.toNat_and, BitVec.toNat_ofNat, Nat.mod_eq_of_lt (by omega), Nat.and_two_pow_sub_one_eq_mod]
theorem bv_w32 (x : Int) : BitVec.ofInt 32 (w32 x) = BitVec.ofInt 32 x := congrArg Int32.toBitVec (oi_w32 x)
theorem bN {v : Nat} (h : v < 4294967296) : (BitVec.ofNat 32 v).toNat = v := by rw [BitVec.toNat_ofNat, Nat.mod_eq_of_lt (by omega)]
theorem dvd32 {w : Nat} (h : w ≤ 32) : 2 ^ w ∣ 2 ^ 32 := Nat.pow_dvd_pow 2 h
section
variable {w a b : Nat}
theorem m_self (hw : w ≤ 32) (ha : a < 2 ^ w) : iand (sg a) (sg (2 ^ w - 1)) = sg a := by
  rw [msk_v (sgB a) hw, bN (by have := p32 hw; omega), Nat.mod_eq_of_lt ha]
theorem m_not (hw : w ≤ 32) (ha : a < 2 ^ w) : iand (ixor (sg a) (-1)) (sg (2 ^ w - 1)) = sg (2 ^ w - 1 - a) := by
  have hp := p32 hw
  have e : BitVec.ofInt 32 (ixor (sg a) (-1)) = ~~~ (BitVec.ofNat 32 a) := by
    have : BitVec.ofInt 32 (ixor (sg a) (-1)) = BitVec.ofInt 32 (sg a) ^^^ BitVec.ofInt 32 (-1) := BitVec.ofInt_toInt
    rw [this, sgB, show BitVec.ofInt 32 (-1) = BitVec.allOnes 32 from rfl, BitVec.xor_allOnes]
  rw [msk_v e hw, BitVec.toNat_not, bN (by omega)]
  congr 1
  obtain ⟨q, hq⟩ := dvd32 hw
  have h0 := Nat.two_pow_pos w
  have hq0 : 0 < q := by
    rcases Nat.eq_zero_or_pos q with z | z
    · rw [z, Nat.mul_zero] at hq; omega
    · exact z
  obtain ⟨r, hr⟩ : ∃ r, q = r + 1 := ⟨q - 1, by omega⟩
  rw [hr, Nat.mul_add, Nat.mul_one] at hq
  rw [hq, show 2 ^ w * r + 2 ^ w - 1 - a = (2 ^ w - 1 - a) + 2 ^ w * r by omega, Nat.add_mul_mod_self_left, Nat.mod_eq_of_lt (by omega)]
theorem m_neg (hw : w ≤ 32) (ha : a < 2 ^ w) : iand (w32 (-(sg a))) (sg (2 ^ w - 1)) = sg ((2 ^ w - a) % 2 ^ w) := by
  have hp := p32 hw
  have e : BitVec.ofInt 32 (w32 (-(sg a))) = - (BitVec.ofNat 32 a) := by rw [bv_w32, BitVec.ofInt_neg, sgB]
  rw [msk_v e hw, BitVec.toNat_neg, bN (by omega), Nat.mod_mod_of_dvd _ (dvd32 hw)]
  congr 1
  obtain ⟨q, hq⟩ := dvd32 hw
  have h0 := Nat.two_pow_pos w
  have hq0 : 0 < q := by
    rcases Nat.eq_zero_or_pos q with z | z
    · rw [z, Nat.mul_zero] at hq; omega
    · exact z
  obtain ⟨r, hr⟩ : ∃ r, q = r + 1 := ⟨q - 1, by omega⟩
  rw [hr, Nat.mul_add, Nat.mul_one] at hq
  rw [hq, show 2 ^ w * r + 2 ^ w - a = (2 ^ w - a) + 2 ^ w * r by omega, Nat.add_mul_mod_self_left]
theorem m_add (hw : w ≤ 32) : iand (w32 (sg a + sg b)) (sg (2 ^ w - 1)) = sg ((a + b) % 2 ^ w) := by
  have e : BitVec.ofInt 32 (w32 (sg a + sg b)) = BitVec.ofNat 32 a + BitVec.ofNat 32 b := by rw [bv_w32, BitVec.ofInt_add, sgB, sgB]
  rw [msk_v e hw, BitVec.toNat_add, BitVec.toNat_ofNat, BitVec.toNat_ofNat, ← Nat.add_mod, Nat.mod_mod_of_dvd _ (dvd32 hw)]
theorem m_mul (hw : w ≤ 32) : iand (w32 (sg a * sg b)) (sg (2 ^ w - 1)) = sg (a * b % 2 ^ w) := by
  have e : BitVec.ofInt 32 (w32 (sg a * sg b)) = BitVec.ofNat 32 a * BitVec.ofNat 32 b := by rw [bv_w32, BitVec.ofInt_mul, sgB, sgB]
  rw [msk_v e hw, BitVec.toNat_mul, BitVec.toNat_ofNat, BitVec.toNat_ofNat, ← Nat.mul_mod, Nat.mod_mod_of_dvd _ (dvd32 hw)]
theorem m_sub (hw : w ≤ 32) (hb : b < 2 ^ w) : iand (w32 (sg a - sg b)) (sg (2 ^ w - 1)) = sg ((a + (2 ^ w - b)) % 2 ^ w) := by
  have hp := p32 hw
  have e : BitVec.ofInt 32 (w32 (sg a - sg b)) = BitVec.ofNat 32 a + - BitVec.ofNat 32 b := by rw [bv_w32, Int.sub_eq_add_neg, BitVec.ofInt_add, BitVec.ofInt_neg, sgB, sgB]
  rw [msk_v e hw, BitVec.toNat_add, BitVec.toNat_neg, BitVec.toNat_ofNat, bN (by omega), ← Nat.add_mod, Nat.mod_mod_of_dvd _ (dvd32 hw)]
  congr 1
  obtain ⟨q, hq⟩ := dvd32 hw
  have h0 := Nat.two_pow_pos w
  have hq0 : 0 < q := by
    rcases Nat.eq_zero_or_pos q with z | z
    · rw [z, Nat.mul_zero] at hq; omega
    · exact z
  obtain ⟨r, hr⟩ : ∃ r, q = r + 1 := ⟨q - 1, by omega⟩
  rw [hr, Nat.mul_add, Nat.mul_one] at hq
  rw [hq, show a + (2 ^ w * r + 2 ^ w - b) = a + (2 ^ w - b) + 2 ^ w * r by omega, Nat.add_mul_mod_self_left]
theorem bv_and : BitVec.ofInt 32 (iand (sg a) (sg b)) = BitVec.ofNat 32 a &&& BitVec.ofNat 32 b := by
  have : BitVec.ofInt 32 (iand (sg a) (sg b)) = BitVec.ofInt 32 (sg a) &&& BitVec.ofInt 32 (sg b) := BitVec.ofInt_toInt
  rw [this, sgB, sgB]
theorem bv_or : BitVec.ofInt 32 (ior (sg a) (sg b)) = BitVec.ofNat 32 a ||| BitVec.ofNat 32 b := by
  have : BitVec.ofInt 32 (ior (sg a) (sg b)) = BitVec.ofInt 32 (sg a) ||| BitVec.ofInt 32 (sg b) := BitVec.ofInt_toInt
  rw [this, sgB, sgB]
theorem bv_xor : BitVec.ofInt 32 (ixor (sg a) (sg b)) = BitVec.ofNat 32 a ^^^ BitVec.ofNat 32 b := by
  have : BitVec.ofInt 32 (ixor (sg a) (sg b)) = BitVec.ofInt 32 (sg a) ^^^ BitVec.ofInt 32 (sg b) := BitVec.ofInt_toInt
  rw [this, sgB, sgB]
theorem m_and (hw : w ≤ 32) (ha : a < 2 ^ w) (hb : b < 2 ^ w) : iand (iand (sg a) (sg b)) (sg (2 ^ w - 1)) = sg (a &&& b) := by
  have hp := p32 hw
  rw [msk_v bv_and hw, BitVec.toNat_and, bN (by omega), bN (by omega), Nat.mod_eq_of_lt (Nat.and_lt_two_pow _ hb)]
theorem m_or (hw : w ≤ 32) (ha : a < 2 ^ w) (hb : b < 2 ^ w) : iand (ior (sg a) (sg b)) (sg (2 ^ w - 1)) = sg (a ||| b) := by
  have hp := p32 hw
  rw [msk_v bv_or hw, BitVec.toNat_or, bN (by omega), bN (by omega), Nat.mod_eq_of_lt (Nat.or_lt_two_pow ha hb)]
theorem m_xor (hw : w ≤ 32) (ha : a < 2 ^ w) (hb : b < 2 ^ w) : iand (ixor (sg a) (sg b)) (sg (2 ^ w - 1)) = sg (a ^^^ b) := by
  have hp := p32 hw
  rw [msk_v bv_xor hw, BitVec.toNat_xor, bN (by omega), bN (by omega), Nat.mod_eq_of_lt (Nat.xor_lt_two_pow ha hb)]
theorem ush_amt : ∀ k : Fin 32, ((Int32.ofInt (k : Nat)).toUInt32 &&& Int32.toUInt32 31).toBitVec.toNat % 32 = (k : Nat) := by decide +kernel
theorem bv_ushr {k : Nat} (hk : k < 32) : BitVec.ofInt 32 (iushr (sg a) (k : Int)) = BitVec.ofNat 32 a >>> k := by
  have h1 : BitVec.ofInt 32 (iushr (sg a) (k : Int)) = (((Int32.ofInt (sg a)).toUInt32 >>> ((Int32.ofInt (k : Int)).toUInt32 &&& Int32.toUInt32 31))).toBitVec := BitVec.ofInt_toInt
  rw [h1, UInt32.toBitVec_shiftRight]
  show (BitVec.ofInt 32 (sg a)) >>> _ = _
  rw [sgB]
  show BitVec.ofNat 32 a >>> (((Int32.ofInt (k : Int)).toUInt32 &&& Int32.toUInt32 31).toBitVec % 32#32).toNat = _
  rw [BitVec.toNat_umod]
  rw [show (32#32).toNat = 32 from rfl, ush_amt ⟨k, hk⟩]
theorem bv_shl {k : Nat} (hk : k < 32) : BitVec.ofInt 32 (ishl (sg a) (k : Int)) = BitVec.ofNat 32 a <<< k := by
  have h1 : BitVec.ofInt 32 (ishl (sg a) (k : Int)) = (Int32.ofInt (sg a) <<< (Int32.ofInt (k : Int) &&& 31)).toBitVec := BitVec.ofInt_toInt
  rw [h1, Int32.toBitVec_shiftLeft]
  show (BitVec.ofInt 32 (sg a)) <<< ((Int32.ofInt (k : Int) &&& 31).toBitVec.smod 32) = _
  rw [sgB]
  show BitVec.ofNat 32 a <<< ((Int32.ofInt (k : Int) &&& 31).toBitVec.smod 32).toNat = _
  rw [show ((Int32.ofInt (k : Int) &&& 31).toBitVec.smod 32).toNat = k from sh_amt ⟨k, hk⟩]
theorem m_ushr {k wa : Nat} (hk : k < 32) (hw : w ≤ 32) (hwa : wa ≤ 32) (ha : a < 2 ^ wa) : iand (iushr (sg a) (k : Int)) (sg (2 ^ w - 1)) = sg (a / 2 ^ k % 2 ^ w) := by
  have hp := p32 hwa
  rw [msk_v (bv_ushr hk) hw, BitVec.toNat_ushiftRight, bN (by omega), Nat.shiftRight_eq_div_pow]
theorem m_shl {k : Nat} (hk : k < 32) (hw : w ≤ 32) : iand (ishl (sg a) (k : Int)) (sg (2 ^ w - 1)) = sg (a * 2 ^ k % 2 ^ w) := by
  rw [msk_v (bv_shl hk) hw, BitVec.toNat_shiftLeft, BitVec.toNat_ofNat, Nat.shiftLeft_eq, Nat.mod_mod_of_dvd _ (dvd32 hw), ← Nat.mod_mod_of_dvd (a % 2 ^ 32 * 2 ^ k) (dvd32 hw), Nat.mod_mul_mod, Nat.mod_mod_of_dvd _ (dvd32 hw)]
end
