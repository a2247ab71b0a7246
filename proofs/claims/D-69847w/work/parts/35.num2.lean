set_option maxRecDepth 100000
theorem bvI (x : Int) : (Int32.ofInt x).toBitVec = BitVec.ofInt 32 x := rfl
theorem iand_mask {x : Int} {k : Nat} (hk : k ≤ 31) : iand x ((2 ^ k - 1 : Nat) : Int) = x % 2 ^ k := by
  unfold iand
  show ((Int32.ofInt x &&& Int32.ofInt ((2 ^ k - 1 : Nat) : Int)).toBitVec).toInt = _
  have e : (Int32.ofInt x &&& Int32.ofInt ((2 ^ k - 1 : Nat) : Int)).toBitVec = BitVec.ofInt 32 x &&& BitVec.ofInt 32 ((2 ^ k - 1 : Nat) : Int) := rfl
  have hp : 2 ^ k ≤ 2 ^ 31 := Nat.pow_le_pow_right (by decide) hk
  have hp2 : 0 < 2 ^ k := Nat.two_pow_pos k
  have h2 : (BitVec.ofInt 32 ((2 ^ k - 1 : Nat) : Int)).toNat = 2 ^ k - 1 := by
    rw [BitVec.ofInt_natCast, BitVec.toNat_ofNat, Nat.mod_eq_of_lt (by omega)]
  have h3 : (BitVec.ofInt 32 x &&& BitVec.ofInt 32 ((2 ^ k - 1 : Nat) : Int)).toNat = (BitVec.ofInt 32 x).toNat % 2 ^ k := by
    rw [BitVec.toNat_and, h2, Nat.and_two_pow_sub_one_eq_mod]
  have h4 : (BitVec.ofInt 32 x).toNat % 2 ^ k < 2 ^ k := Nat.mod_lt _ hp2
  rw [e, BitVec.toInt_eq_toNat_of_lt (by omega), h3, BitVec.toNat_ofInt]
  have h5 : ((2 ^ 32 : Nat) : Int) ∣ ((2 ^ 32 : Nat) : Int) := Int.dvd_refl _
  have h6 : 0 ≤ x % ((2 ^ 32 : Nat) : Int) := Int.emod_nonneg _ (by decide)
  rw [Int.natCast_emod, Int.toNat_of_nonneg h6]
  have h7 : ((2 ^ k : Nat) : Int) ∣ ((2 ^ 32 : Nat) : Int) := Int.natCast_dvd_natCast.mpr (Nat.pow_dvd_pow 2 (by omega))
  rw [Int.emod_emod_of_dvd _ h7]
  simp
theorem iand1 (x : Int) : iand x 1 = x % 2 := iand_mask (k := 1) (by decide)
theorem iand_n {x : Int} {m : Nat} (k : Nat) (hk : k ≤ 31) (hm : m = 2 ^ k - 1) : iand x (m : Int) = x % 2 ^ k := by subst hm; exact iand_mask hk
/-- a literal's value -/
def ofV (v : Nat → Int64) (b : Nat) : Int64 := if b % 2 = 1 then v (b / 2) ^^^ -1 else v (b / 2)
theorem ofV_x {v : Nat → Int64} {b : Nat} : v (b / 2) ^^^ (-(i2l ((b : Int) % 2))) = ofV v b := by
  unfold ofV
  rcases Nat.mod_two_eq_zero_or_one b with h | h
  · rw [show ((b : Int) % 2) = 0 by omega, h, if_neg (by decide)]
    show v (b / 2) ^^^ 0 = _
    simp
  · rw [show ((b : Int) % 2) = 1 by omega, h, if_pos rfl]
    rfl
