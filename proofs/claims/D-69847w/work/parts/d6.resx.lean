set_option maxRecDepth 100000
set_option maxHeartbeats 400000
/-! ===== designs: what the component makes of a node ===== -/
section
variable {w a b k : Nat}
theorem sg_0 : sg 0 = 0 := rfl
theorem sg_1 : sg 1 = 1 := rfl
theorem m_join {wa wb : Nat} (hw : wa + wb ≤ 32) (hwa : 1 ≤ wa) (ha : a < 2 ^ wa) (hb : b < 2 ^ wb) : iand (ior (ishl (sg a) (wb : Int)) (sg b)) (sg (2 ^ (wa + wb) - 1)) = sg (a * 2 ^ wb + b) := by
  have hp := p32 hw
  have hab : a * 2 ^ wb + b < 2 ^ (wa + wb) := by
    rw [Nat.pow_add]
    have : (a + 1) * 2 ^ wb ≤ 2 ^ wa * 2 ^ wb := Nat.mul_le_mul_right _ ha
    rw [Nat.add_mul, Nat.one_mul] at this
    omega
  have hp2 : 2 ^ wb ≤ 2 ^ (wa + wb) := Nat.pow_le_pow_right (by decide) (by omega)
  have e : BitVec.ofInt 32 (ior (ishl (sg a) (wb : Int)) (sg b)) = (BitVec.ofNat 32 a <<< wb) ||| BitVec.ofNat 32 b := by
    have : BitVec.ofInt 32 (ior (ishl (sg a) (wb : Int)) (sg b)) = BitVec.ofInt 32 (ishl (sg a) (wb : Int)) ||| BitVec.ofInt 32 (sg b) := BitVec.ofInt_toInt
    rw [this, bv_shl (by omega), sgB]
  have hla : a * 2 ^ wb < 2 ^ (wa + wb) := by omega
  have ha32 : a < 4294967296 := by
    have := Nat.mul_le_mul_left a (Nat.two_pow_pos wb)
    omega
  rw [msk_v e hw, BitVec.toNat_or, BitVec.toNat_shiftLeft, bN ha32, bN (by omega), Nat.shiftLeft_eq, Nat.mod_eq_of_lt (show a * 2 ^ wb < 2 ^ 32 by omega), ← Nat.shiftLeft_eq, ← Nat.shiftLeft_add_eq_or_of_lt hb, Nat.shiftLeft_eq, Nat.mod_eq_of_lt hab]
theorem w32_lo {x : Int} (h1 : -6442450944 ≤ x) (h2 : x < -2147483648) : w32 x = x + 4294967296 := by
  unfold w32
  omega
theorem sg_min (ha : a < 4294967296) : w32 (sg a + (-2147483648)) = (a : Int) - 2147483648 := by
  rw [sg_val ha]
  by_cases c : a < 2147483648
  · rw [if_pos c, w32_i (by omega) (by omega)]; omega
  · rw [if_neg c, w32_lo (by omega) (by omega)]; omega
theorem below_v (ha : a < 4294967296) (hb : b < 4294967296) {σ : St} {Q : Int → St → Prop} : wp (F_X13_isBelow (sg a) (sg b)) σ Q = Q (if a < b then 1 else 0) σ := by
  rw [F_X13_isBelow, sg_min ha, sg_min hb]
  by_cases c : a < b
  · rw [wp_ifn (by omega), c_rtZ (by decide) (by decide), if_pos c]
  · rw [wp_ifp (by omega), c_rtZ (by decide) (by decide), if_neg c]
/-- the parity of the first of some bits -/
def pX (f : Nat → Bool) : Nat → Bool
  | 0 => false
  | k + 1 => Bool.xor (pX f k) (f k)
theorem pX_xor {f g : Nat → Bool} : ∀ n, pX (fun k => Bool.xor (f k) (g k)) n = Bool.xor (pX f n) (pX g n)
  | 0 => rfl
  | n + 1 => by
    show Bool.xor (pX (fun k => Bool.xor (f k) (g k)) n) (Bool.xor (f n) (g n)) = Bool.xor (Bool.xor (pX f n) (f n)) (Bool.xor (pX g n) (g n))
    rw [pX_xor n]
    cases pX f n <;> cases pX g n <;> cases f n <;> cases g n <;> rfl
theorem pX_add {f : Nat → Bool} (n : Nat) : ∀ m, pX f (n + m) = Bool.xor (pX f n) (pX (fun k => f (n + k)) m)
  | 0 => by
    show pX f n = Bool.xor (pX f n) false
    cases pX f n <;> rfl
  | m + 1 => by
    show Bool.xor (pX f (n + m)) (f (n + m)) = Bool.xor (pX f n) (Bool.xor (pX (fun k => f (n + k)) m) (f (n + m)))
    rw [pX_add n m]
    cases pX f n <;> cases pX (fun k => f (n + k)) m <;> cases f (n + m) <;> rfl
theorem prB_pX (b : BitVec 32) : ∀ k, prB b.toNat k = pX (fun j => b.getLsbD j) k
  | 0 => rfl
  | k + 1 => by
    show Bool.xor (prB b.toNat k) (b.toNat.testBit k) = Bool.xor (pX (fun j => b.getLsbD j) k) (b.getLsbD k)
    rw [prB_pX b k]
    rfl
theorem pX_fold (x : BitVec 32) (n : Nat) : pX (fun j => (x ^^^ (x >>> n)).getLsbD j) n = pX (fun j => x.getLsbD j) (n + n) := by
  rw [pX_add, ← pX_xor]
  congr 1
  funext j
  rw [BitVec.getLsbD_xor, BitVec.getLsbD_ushiftRight]
/-- folding a word on itself -/
theorem fold_odd (b x1 x2 x3 x4 x5 : BitVec 32) (h1 : x1 = b ^^^ (b >>> 16)) (h2 : x2 = x1 ^^^ (x1 >>> 8)) (h3 : x3 = x2 ^^^ (x2 >>> 4)) (h4 : x4 = x3 ^^^ (x3 >>> 2)) (h5 : x5 = x4 ^^^ (x4 >>> 1)) : x5.getLsbD 0 = prB b.toNat 32 := by
  have e1 := pX_fold b 16
  have e2 := pX_fold x1 8
  have e3 := pX_fold x2 4
  have e4 := pX_fold x3 2
  have e5 := pX_fold x4 1
  rw [← h1] at e1
  rw [← h2] at e2
  rw [← h3] at e3
  rw [← h4] at e4
  rw [← h5] at e5
  rw [prB_pX b 32]
  have e : pX (fun j => x5.getLsbD j) 1 = x5.getLsbD 0 := by
    show Bool.xor false (x5.getLsbD 0) = _
    cases x5.getLsbD 0 <;> rfl
  rw [← e, e5, e4, e3, e2, e1]
end
section
variable {Ms : Nat → ModV} {top : Nat} {s : LYS} {V : Nat → Nat} {W : Nat → Nat → Nat} {σ σ' : St} {o i : Nat}
theorem odd_v {a : Nat} (ha : a < 4294967296) {Q : Int → St → Prop} : wp (F_X13_odd (sg a)) σ Q = Q (if prB a 32 = true then 1 else 0) σ := by
  obtain ⟨F', hF'⟩ : ∃ F', FU = F' + 6 := ⟨FU - 6, by have := FU_ge; omega⟩
  have st : ∀ (x : Int) (k : Nat), k < 32 → BitVec.ofInt 32 (ixor x (iushr x (k : Int))) = BitVec.ofInt 32 x ^^^ (BitVec.ofInt 32 x >>> k) := fun x k hk => by
    have h1 : BitVec.ofInt 32 (ixor x (iushr x (k : Int))) = BitVec.ofInt 32 x ^^^ BitVec.ofInt 32 (iushr x (k : Int)) := BitVec.ofInt_toInt
    have h2 : BitVec.ofInt 32 (iushr x (k : Int)) = BitVec.ofInt 32 x >>> k := by
      have e : iushr x (k : Int) = iushr (sg (BitVec.ofInt 32 x).toNat) (k : Int) := by
        show ((Int32.ofInt x).toUInt32 >>> _).toBitVec.toInt = ((Int32.ofInt (sg (BitVec.ofInt 32 x).toNat)).toUInt32 >>> _).toBitVec.toInt
        have : Int32.ofInt (sg (BitVec.ofInt 32 x).toNat) = Int32.ofInt x := by
          apply Int32.toBitVec_inj.mp
          show BitVec.ofInt 32 (sg (BitVec.ofInt 32 x).toNat) = BitVec.ofInt 32 x
          rw [sgB, BitVec.ofNat_toNat, BitVec.setWidth_eq]
        rw [this]
      rw [e, bv_ushr hk, BitVec.ofNat_toNat, BitVec.setWidth_eq]
    rw [h1, h2]
  have hs1 : ishr 16 1 = 8 := by decide +kernel
  have hs2 : ishr 8 1 = 4 := by decide +kernel
  have hs3 : ishr 4 1 = 2 := by decide +kernel
  have hs4 : ishr 2 1 = 1 := by decide +kernel
  have hs5 : ishr 1 1 = 0 := by decide +kernel
  rw [F_X13_odd, wp_lt, wp_lt, hF', X13_odd_5, wp_ifn (by decide), wp_lt, wp_lt, hs1, X13_odd_5, wp_ifn (by decide), wp_lt, wp_lt, hs2, X13_odd_5, wp_ifn (by decide), wp_lt, wp_lt, hs3, X13_odd_5, wp_ifn (by decide), wp_lt, wp_lt, hs4, X13_odd_5, wp_ifn (by decide), wp_lt, wp_lt, hs5, X13_odd_5, wp_ifp (by decide), X13_odd_22, wp_rt]
  generalize hx1 : ixor (sg a) (iushr (sg a) 16) = x1
  generalize hx2 : ixor x1 (iushr x1 8) = x2
  generalize hx3 : ixor x2 (iushr x2 4) = x3
  generalize hx4 : ixor x3 (iushr x3 2) = x4
  generalize hx5 : ixor x4 (iushr x4 1) = x5
  have e1 := st (sg a) 16 (by decide)
  have e2 := st x1 8 (by decide)
  have e3 := st x2 4 (by decide)
  have e4 := st x3 2 (by decide)
  have e5 := st x4 1 (by decide)
  rw [show ((16 : Nat) : Int) = 16 from rfl, hx1, sgB] at e1
  rw [show ((8 : Nat) : Int) = 8 from rfl, hx2] at e2
  rw [show ((4 : Nat) : Int) = 4 from rfl, hx3] at e3
  rw [show ((2 : Nat) : Int) = 2 from rfl, hx4] at e4
  rw [show ((1 : Nat) : Int) = 1 from rfl, hx5] at e5
  have hf := fold_odd (BitVec.ofNat 32 a) _ _ _ _ _ e1 e2 e3 e4 e5
  rw [bN ha] at hf
  have e6 : iand x5 1 = if prB a 32 = true then 1 else 0 := by
    unfold iand
    show (BitVec.ofInt 32 x5 &&& 1#32).toInt = _
    have e7 : BitVec.ofInt 32 x5 &&& 1#32 = if (BitVec.ofInt 32 x5).getLsbD 0 = true then 1#32 else 0#32 := by
      apply BitVec.eq_of_getLsbD_eq
      intro j hj
      rw [BitVec.getLsbD_and, BitVec.getLsbD_one]
      by_cases c : (BitVec.ofInt 32 x5).getLsbD 0 = true
      · rw [if_pos c, BitVec.getLsbD_one]
        by_cases cj : j = 0
        · subst cj; rw [c]; rfl
        · have : decide (j = 0) = false := decide_eq_false cj
          rw [this]; simp
      · rw [if_neg c, BitVec.getLsbD_zero]
        by_cases cj : j = 0
        · subst cj
          rw [Bool.not_eq_true] at c
          rw [c]; rfl
        · have : decide (j = 0) = false := decide_eq_false cj
          rw [this]; simp
    rw [e7, hf]
    by_cases c : prB a 32 = true
    · rw [if_pos c, if_pos c]; rfl
    · rw [if_neg c, if_neg c]; rfl
  rw [e6]
/-- the values of what inst i may read stand in the component -/
def VRX (Ms : Nat → ModV) (s : LYS) (σ : St) (o : Nat) (V : Nat → Nat) (P : Nat → Prop) : Prop := ∀ h, h < lsG s → P h → σ.1 (o + 20) h = sg (V h)
def WRX (Ms : Nat → ModV) (s : LYS) (σ : St) (o : Nat) (W : Nat → Nat → Nat) : Prop := ∀ g j, g < lsG s → kdS Ms s g = 4 → j < wsG Ms s g → σ.1 (o + 22) (wrdS Ms s g + j) = sg (W g j)
theorem resX (hd : DP Ms top s) (hD : isD o) (hX : DX σ o Ms top s) (hL : DL σ o Ms s) (hlim : limOK Ms s) (hi : i < lsI s) {n : Nat} (hn : n < mdN (moI Ms s i)) (hV : ∀ g, g < lsG s → V g < 2 ^ wdS Ms s g) (hWb : ∀ g j, g < lsG s → W g j < 2 ^ wdS Ms s g) (hVR : VRX Ms s σ o V (fun h => rdA Ms s i n h)) (hWR : WRX Ms s σ o W) (henv : ∀ m, gF (gI' Ms s i) n ≤ m → m < n → σ.1 (o + 25) m = sg (nv Ms s V W i m)) {Q : Int → St → Prop} (hQ : ∀ r, iand r (sg (2 ^ gW (gI' Ms s i) n - 1)) = sg (nv Ms s V W i n) → Q r σ) : wp (F_X13_result o (i : Int) (o + 27 + 25 * lsM s i) (n : Int)) σ Q := by
  have h200 := hd.2.1.2
  have h12 := hd.1.1
  obtain ⟨hm, ok⟩ := hd.inst hi
  have hMd := isMd_D hD (show lsM s i < 12 by omega)
  have n240 : mdN (moI Ms s i) ≤ 240 := ok.1.2.1
  obtain ⟨⟨z1, z2, z3, zf⟩, w0, -, w2, w3, w9, w19⟩ := hd.nod hi hn
  have fl : ∀ m, m < mdN (moI Ms s i) → gF (gI' Ms s i) m ≤ m := fun m hm => (hd.nod hi hm).1.2.2.2
  have hp := Nat.two_pow_pos (gW (gI' Ms s i) n)
  have h2w : 2 ≤ 2 ^ gW (gI' Ms s i) n := by
    have := p2le (k := gW (gI' Ms s i) n) z2
    omega
  have wlt : ∀ m, m < mdN (moI Ms s i) → nv Ms s V W i m < 2 ^ gW (gI' Ms s i) m ∧ gW (gI' Ms s i) m ≤ 32 := fun m hm => ⟨nv_lt hd hi hV hWb m hm, (hd.nod hi hm).1.2.2.1⟩
  have lt32 : ∀ m, m < mdN (moI Ms s i) → nv Ms s V W i m < 4294967296 := fun m hm => by
    have h1 := (wlt m hm).1
    have h2 := p32 (wlt m hm).2
    omega
  have hrow : ∀ m, m < mdN (moI Ms s i) → σ.1 (o + 27 + 25 * lsM s i + 9) m = (gO (gI' Ms s i) m : Int) ∧ σ.1 (o + 27 + 25 * lsM s i + 10) m = gA (gI' Ms s i) m ∧ σ.1 (o + 27 + 25 * lsM s i + 11) m = gB (gI' Ms s i) m ∧ σ.1 (o + 27 + 25 * lsM s i + 12) m = gC (gI' Ms s i) m ∧ σ.1 (o + 27 + 25 * lsM s i + 13) m = (gW (gI' Ms s i) m : Int) := fun m hmm => (hX.2.2.1 _ hm).2.2.1 m hmm
  obtain ⟨r9, r10, r11, r12, r13⟩ := hrow n hn
  have hnv := nv_eq (V := V) (W := W) hd hi hn
  rw [F_X13_result, wp_bd, MI_10 hMd (by omega) (by omega), tn, r10, wp_lt, wp_bd, MI_11 hMd (by omega) (by omega), tn, r11, wp_lt, wp_bd, MI_13 hMd (by omega) (by omega), tn, r13, wp_lt, wp_bd, MI_9 hMd (by omega) (by omega), tn, r9]
  have rd25 : ∀ (x : Int) (m : Nat), x = (m : Int) → gF (gI' Ms s i) n ≤ m → m < n → ∀ {Q' : Int → St → Prop}, wp (rdI (o + 25) x) σ Q' = Q' (sg (nv Ms s V W i m)) σ := fun x m e h1 h2 Q' => by rw [e, DI_25 hD (by omega) (by omega), tn, henv m h1 h2]
  unfold ndV at hnv
  by_cases c0 : gO (gI' Ms s i) n = 0
  · obtain ⟨-, x, x1, x2⟩ := w0 c0
    have := p32 z3
    rw [if_pos c0, x2, sg_un (by omega)] at hnv
    rw [wp_ifp (by omega), wp_rt]
    refine hQ _ ?_
    rw [x2, hnv]
    exact m_self z3 x1
  rw [wp_ifn (by omega)]
  rw [if_neg c0] at hnv
  by_cases c1 : gO (gI' Ms s i) n = 1
  · obtain ⟨t, t1, t2, t3, t4, -, t6⟩ := hd.rd hi hn c1
    rw [if_pos c1, t1, tn] at hnv
    have hx := hVR _ t4 ⟨c1, by rw [t1, tn]⟩
    rw [wp_ifp (by omega), t1, wp_bd, x_sgOf hd hD hX hi t2 (by
      rcases t3 with h | ⟨p, h1, h2, h3⟩
      · exact Or.inl h.1
      · exact Or.inr ⟨p, h1, h2, h3⟩), wp_bd, DI_20 hD (by omega) (by omega), tn, hx, wp_rt]
    refine hQ _ ?_
    rw [hnv]
    exact m_self z3 (by rw [← t6]; exact hV _ t4)
  rw [wp_ifn (by omega)]
  rw [if_neg c1] at hnv
  by_cases c2 : gO (gI' Ms s i) n = 2
  · obtain ⟨t, t1, t2, t3, t4, t5, t6, t7, t8, t9⟩ := hd.rm hi hn c2
    rw [if_pos c2, t1, t8, tn, tn] at hnv
    have hf1 := fl (n - 1) (by omega)
    have l1 := lt32 (n - 1) (by omega)
    rw [wp_ifp (by omega), t1, wp_bd, x_sgOf hd hD hX hi t2 (Or.inl rfl), sgOf_n, wp_bd, rd25 _ (n - 1) t8 (by omega) (by omega), wp_bd, F_X13_wordAt]
    have hz : (¬ nv Ms s V W i (n - 1) < wsG Ms s (lsL s (40 * i + t))) → iand 0 (sg (2 ^ gW (gI' Ms s i) n - 1)) = sg (nv Ms s V W i n) := fun h => by
      rw [hnv, if_neg h]
      have := m_self (a := 0) z3 hp
      rw [sg_0] at this
      exact this
    obtain ⟨-, -, -, -, -, ⟨s1, s2⟩, -⟩ := hd.sig t4
    rw [sg_val l1] at *
    by_cases q : nv Ms s V W i (n - 1) < 2147483648
    · rw [if_pos q]
      rw [wp_ifn (by omega), wp_bd, x_words hd hD hX t4]
      by_cases c : nv Ms s V W i (n - 1) < wsG Ms s (lsL s (40 * i + t))
      · have hw1 : wrdS Ms s (lsL s (40 * i + t)) + wsG Ms s (lsL s (40 * i + t)) ≤ wrdS Ms s (lsG s) := by
          have h1 : wrdS Ms s (lsL s (40 * i + t) + 1) ≤ wrdS Ms s (lsG s) := smF_mono (by omega)
          have h2 : wrdS Ms s (lsL s (40 * i + t) + 1) = wrdS Ms s (lsL s (40 * i + t)) + b1 (kdS Ms s (lsL s (40 * i + t)) = 4) (wsG Ms s (lsL s (40 * i + t))) := rfl
          rw [b1_y t5] at h2
          omega
        have hw2 := wrd_le hd (Nat.le_refl (lsG s))
        have hw3 := hlim.1.2
        rw [wp_ifn (by omega), wp_bd, DI_21 hD (by omega) (by omega), tn, (hL.1 _ t4).2, wp_bd, w32_i (by omega) (by omega), DI_22 hD (by omega) (by omega), show ((wrdS Ms s (lsL s (40 * i + t)) : Int) + (nv Ms s V W i (n - 1) : Int)).toNat = wrdS Ms s (lsL s (40 * i + t)) + nv Ms s V W i (n - 1) by omega, hWR _ _ t4 t5 c, wp_rt, wp_rt]
        refine hQ _ ?_
        rw [hnv, if_pos c]
        exact m_self z3 (by rw [← t6]; exact hWb _ _ t4)
      · rw [wp_ifp (by omega), wp_rt, wp_rt]
        exact hQ _ (hz c)
    · rw [if_neg q]
      rw [wp_ifp (by omega), wp_rt, wp_rt]
      exact hQ _ (hz (by omega))
  rw [wp_ifn (by omega)]
  rw [if_neg c2] at hnv
  have hself : ∀ v : Nat, v < 2 ^ gW (gI' Ms s i) n → nv Ms s V W i n = v → iand (sg v) (sg (2 ^ gW (gI' Ms s i) n - 1)) = sg (nv Ms s V W i n) := fun v h1 h2 => by rw [h2]; exact m_self z3 h1
  have h01 : ∀ (p : Prop) [Decidable p], nv Ms s V W i n = (if p then 1 else 0) → (p → Q 1 σ) ∧ (¬ p → Q 0 σ) := fun p _ h => ⟨fun y => hQ _ (by
      have := hself 1 (by omega) (by rw [h, if_pos y]); rw [sg_1] at this; exact this), fun y => hQ _ (by
      have := hself 0 (by omega) (by rw [h, if_neg y]); rw [sg_0] at this; exact this)⟩
  by_cases c8 : gO (gI' Ms s i) n ≤ 8
  · obtain ⟨q1, q2, q3, q4, q5, q6⟩ := w3 (by omega) c8
    have hf1 := fl (n - 1) (by omega)
    have lo1 : gF (gI' Ms s i) n ≤ n - 1 := by omega
    have l1 := lt32 (n - 1) (by omega)
    obtain ⟨v1, v2⟩ := wlt (n - 1) (by omega)
    rw [q2, tn] at hnv
    by_cases e3 : gO (gI' Ms s i) n = 3
    · have q4' := q4 (by omega)
      rw [wp_ifp (by omega), wp_bd, rd25 _ (n - 1) q2 lo1 (by omega), wp_rt]
      refine hQ _ ?_
      rw [hnv, e3]
      rw [← q4'] at v1
      exact m_not z3 v1
    rw [wp_ifn (by omega)]
    by_cases e4 : gO (gI' Ms s i) n = 4
    · have q4' := q4 (by omega)
      rw [wp_ifp (by omega), wp_bd, rd25 _ (n - 1) q2 lo1 (by omega), wp_rt]
      refine hQ _ ?_
      rw [hnv, e4]
      rw [← q4'] at v1
      exact m_neg z3 v1
    rw [wp_ifn (by omega)]
    by_cases e5 : gO (gI' Ms s i) n = 5
    · rw [e5] at hnv
      have hnv' : ∀ _ : Unit, nv Ms s V W i n = if nv Ms s V W i (n - 1) = 2 ^ gW (gI' Ms s i) (n - 1) - 1 then 1 else 0 := fun _ => hnv
      clear hnv
      have hp1 := p32 v2
      rw [wp_ifp (by omega), wp_bd, rd25 _ (n - 1) q2 lo1 (by omega), wp_bd, q2, MI_13 hMd (by omega) (by omega), tn, (hrow (n - 1) (by omega)).2.2.2.2, wp_bd, mask_v v2]
      by_cases c : nv Ms s V W i (n - 1) = 2 ^ gW (gI' Ms s i) (n - 1) - 1
      · rw [wp_ifp (by rw [c]), wp_rt]; exact (h01 _ (hnv' ())).1 c
      · rw [wp_ifn (fun h => c ((sg_inj l1 (by omega)).mp h)), wp_rt]; exact (h01 _ (hnv' ())).2 c
    rw [wp_ifn (by omega)]
    by_cases e6 : gO (gI' Ms s i) n = 6
    · rw [e6] at hnv
      have hnv' : ∀ _ : Unit, nv Ms s V W i n = if nv Ms s V W i (n - 1) = 0 then 0 else 1 := fun _ => hnv
      clear hnv
      rw [wp_ifp (by omega), wp_bd, rd25 _ (n - 1) q2 lo1 (by omega)]
      by_cases c : nv Ms s V W i (n - 1) = 0
      · rw [wp_ifp (by rw [c]; rfl), wp_rt]
        have := hself 0 (by omega) (by rw [hnv' (), if_pos c])
        rw [sg_0] at this
        exact hQ _ this
      · rw [wp_ifn (fun h => c ((sg_inj l1 (by decide)).mp (h.trans sg_0.symm))), wp_rt]
        have := hself 1 (by omega) (by rw [hnv' (), if_neg c])
        rw [sg_1] at this
        exact hQ _ this
    rw [wp_ifn (by omega)]
    by_cases e7 : gO (gI' Ms s i) n = 7
    · rw [e7] at hnv
      have hnv' : ∀ _ : Unit, nv Ms s V W i n = if prB (nv Ms s V W i (n - 1)) 32 = true then 1 else 0 := fun _ => hnv
      clear hnv
      obtain ⟨g1, g2⟩ := h01 _ (hnv' ())
      rw [wp_ifp (by omega), wp_bd, rd25 _ (n - 1) q2 lo1 (by omega), wp_bd, odd_v l1, wp_rt]
      by_cases c : prB (nv Ms s V W i (n - 1)) 32 = true
      · rw [if_pos c]; exact g1 c
      · rw [if_neg c]; exact g2 c
    have e8 : gO (gI' Ms s i) n = 8 := by omega
    obtain ⟨lo, x1, x2⟩ := q6 e8
    rw [e8, x1, tn] at hnv
    have hnv' : ∀ _ : Unit, nv Ms s V W i n = nv Ms s V W i (n - 1) / 2 ^ lo % 2 ^ gW (gI' Ms s i) n := fun _ => hnv
    clear hnv
    rw [wp_ifn (by omega), wp_ifp (by omega), wp_bd, rd25 _ (n - 1) q2 lo1 (by omega), wp_bd, MI_12 hMd (by omega) (by omega), tn, r12, x1, wp_rt]
    refine hQ _ ?_
    rw [hnv' ()]
    exact m_ushr (by omega) z3 v2 v1
  rw [wp_ifn (by omega), wp_ifn (by omega), wp_ifn (by omega), wp_ifn (by omega), wp_ifn (by omega), wp_ifn (by omega)]
  by_cases c19 : gO (gI' Ms s i) n = 19
  · obtain ⟨a, b, q1, q2, q3, q4, q5, q6, q7, q8, q9, q10⟩ := w19 c19
    have f1 := fl (n - 1) (by omega)
    have f2 := fl b (by omega)
    have f3 := fl a (by omega)
    rw [q2, q5, q6, tn, tn, tn, c19] at hnv
    have hnv' : ∀ _ : Unit, nv Ms s V W i n = if nv Ms s V W i a = 1 then nv Ms s V W i b else nv Ms s V W i (n - 1) := fun _ => hnv
    clear hnv
    have la := lt32 a (by omega)
    rw [wp_ifn (by omega), wp_ifn (by omega), wp_ifn (by omega), wp_ifn (by omega), wp_ifn (by omega), wp_ifn (by omega), wp_ifn (by omega), wp_ifn (by omega), wp_ifn (by omega), wp_ifn (by omega), wp_ifp (by omega), wp_bd, rd25 _ a q6 (by omega) (by omega)]
    by_cases c : nv Ms s V W i a = 1
    · rw [wp_ifp (by rw [c]; rfl), wp_bd, rd25 _ b q5 (by omega) (by omega), wp_rt]
      have hb := (wlt b (by omega)).1
      rw [q9] at hb
      exact hQ _ (hself _ hb (by rw [hnv' (), if_pos c]))
    · rw [wp_ifn (fun h => c ((sg_inj la (by decide)).mp (h.trans sg_1.symm))), wp_bd, MI_12 hMd (by omega) (by omega), tn, r12, wp_bd, rd25 _ (n - 1) q2 (by omega) (by omega), wp_rt]
      have hb := (wlt (n - 1) (by omega)).1
      rw [q10] at hb
      exact hQ _ (hself _ hb (by rw [hnv' (), if_neg c]))
  obtain ⟨q1, q2, q3, q4, q5, q6, q7, q8, q9⟩ := w9 (by omega) c19
  have f1 := fl (n - 1) (by omega)
  obtain ⟨A, hA⟩ : ∃ A, A = gF (gI' Ms s i) (n - 1) - 1 := ⟨_, rfl⟩
  rw [← hA] at q4 q5 q6 q7 q9
  have f2 := fl A (by omega)
  have la := lt32 A (by omega)
  have lb := lt32 (n - 1) (by omega)
  obtain ⟨va, va2⟩ := wlt A (by omega)
  obtain ⟨vb, vb2⟩ := wlt (n - 1) (by omega)
  have rdA' : ∀ {Q' : Int → St → Prop}, wp (rdI (o + 25) (gA (gI' Ms s i) n)) σ Q' = Q' (sg (nv Ms s V W i A)) σ := fun {Q'} => rd25 _ A q4 (by omega) (by omega)
  have rdB' : ∀ {Q' : Int → St → Prop}, wp (rdI (o + 25) (gB (gI' Ms s i) n)) σ Q' = Q' (sg (nv Ms s V W i (n - 1))) σ := fun {Q'} => rd25 _ (n - 1) q2 (by omega) (by omega)
  rw [q2, q4, tn, tn] at hnv
  by_cases e9 : gO (gI' Ms s i) n = 9
  · rw [e9] at hnv
    have hnv' : ∀ _ : Unit, nv Ms s V W i n = nv Ms s V W i A * 2 ^ gW (gI' Ms s i) (n - 1) + nv Ms s V W i (n - 1) := fun _ => hnv
    clear hnv
    have hw := q6 e9
    have := (hd.nod hi (show A < mdN (moI Ms s i) by omega)).1.2.1
    rw [wp_ifp (by omega), wp_bd, rdA', wp_bd, q2, MI_13 hMd (by omega) (by omega), tn, (hrow (n - 1) (by omega)).2.2.2.2, wp_bd, ← q2, rdB', wp_rt]
    refine hQ _ ?_
    rw [hnv' (), hw]
    exact m_join (by omega) this va vb
  rw [wp_ifn (by omega)]
  by_cases e10 : gO (gI' Ms s i) n = 10
  · rw [e10] at hnv
    have hw := q9 (by omega) (Or.inl (by omega))
    have hw2 := q7 (by omega) (by omega)
    rw [wp_ifp (by omega), wp_bd, rdA', wp_bd, rdB', wp_rt]
    refine hQ _ ?_
    rw [hnv]
    exact m_or z3 (by rw [hw]; exact va) (by rw [hw, hw2]; exact vb)
  rw [wp_ifn (by omega)]
  by_cases e11 : gO (gI' Ms s i) n = 11
  · rw [e11] at hnv
    have hw := q9 (by omega) (Or.inl (by omega))
    have hw2 := q7 (by omega) (by omega)
    rw [wp_ifp (by omega), wp_bd, rdA', wp_bd, rdB', wp_rt]
    refine hQ _ ?_
    rw [hnv]
    exact m_xor z3 (by rw [hw]; exact va) (by rw [hw, hw2]; exact vb)
  rw [wp_ifn (by omega)]
  by_cases e12 : gO (gI' Ms s i) n = 12
  · rw [e12] at hnv
    have hw := q9 (by omega) (Or.inl (by omega))
    have hw2 := q7 (by omega) (by omega)
    rw [wp_ifp (by omega), wp_bd, rdA', wp_bd, rdB', wp_rt]
    refine hQ _ ?_
    rw [hnv]
    exact m_and z3 (by rw [hw]; exact va) (by rw [hw, hw2]; exact vb)
  rw [wp_ifn (by omega)]
  by_cases e13 : gO (gI' Ms s i) n = 13
  · rw [e13] at hnv
    have hnv' : ∀ _ : Unit, nv Ms s V W i n = if nv Ms s V W i A = nv Ms s V W i (n - 1) then 1 else 0 := fun _ => hnv
    clear hnv
    obtain ⟨g1, g2⟩ := h01 _ (hnv' ())
    rw [wp_ifp (by omega), wp_bd, rdA', wp_bd, rdB']
    by_cases c : nv Ms s V W i A = nv Ms s V W i (n - 1)
    · rw [wp_ifp (by rw [c]), wp_rt]; exact g1 c
    · rw [wp_ifn (fun h => c ((sg_inj la lb).mp h)), wp_rt]; exact g2 c
  rw [wp_ifn (by omega)]
  by_cases e14 : gO (gI' Ms s i) n = 14
  · rw [e14] at hnv
    have hnv' : ∀ _ : Unit, nv Ms s V W i n = if nv Ms s V W i A = nv Ms s V W i (n - 1) then 0 else 1 := fun _ => hnv
    clear hnv
    rw [wp_ifp (by omega), wp_bd, rdA', wp_bd, rdB']
    by_cases c : nv Ms s V W i A = nv Ms s V W i (n - 1)
    · rw [wp_ifp (by rw [c]), wp_rt]
      have := hself 0 (by omega) (by rw [hnv' (), if_pos c])
      rw [sg_0] at this
      exact hQ _ this
    · rw [wp_ifn (fun h => c ((sg_inj la lb).mp h)), wp_rt]
      have := hself 1 (by omega) (by rw [hnv' (), if_neg c])
      rw [sg_1] at this
      exact hQ _ this
  rw [wp_ifn (by omega)]
  by_cases e15 : gO (gI' Ms s i) n = 15
  · rw [e15] at hnv
    have hnv' : ∀ _ : Unit, nv Ms s V W i n = if nv Ms s V W i A < nv Ms s V W i (n - 1) then 1 else 0 := fun _ => hnv
    clear hnv
    obtain ⟨g1, g2⟩ := h01 _ (hnv' ())
    rw [wp_ifp (by omega), wp_bd, rdA', wp_bd, rdB', wp_bd, below_v la lb]
    by_cases c : nv Ms s V W i A < nv Ms s V W i (n - 1)
    · rw [if_pos c, wp_ifn (by decide), wp_rt]; exact g1 c
    · rw [if_neg c, wp_ifp rfl, wp_rt]; exact g2 c
  rw [wp_ifn (by omega)]
  have hw := q9 (by omega) (Or.inr (by omega))
  rw [← hw] at va
  by_cases e16 : gO (gI' Ms s i) n = 16
  · rw [e16] at hnv
    rw [wp_ifp (by omega), wp_bd, rdA', wp_bd, rdB', wp_rt]
    refine hQ _ ?_
    rw [hnv]
    exact m_add z3
  rw [wp_ifn (by omega)]
  by_cases e17 : gO (gI' Ms s i) n = 17
  · rw [e17] at hnv
    have hw2 := q7 (by omega) (by omega)
    rw [wp_ifp (by omega), wp_bd, rdA', wp_bd, rdB', wp_rt]
    refine hQ _ ?_
    rw [hnv]
    exact m_sub z3 (by rw [hw, hw2]; exact vb)
  rw [wp_ifn (by omega)]
  by_cases e18 : gO (gI' Ms s i) n = 18
  · rw [e18] at hnv
    rw [wp_ifp (by omega), wp_bd, rdA', wp_bd, rdB', wp_rt]
    refine hQ _ ?_
    rw [hnv]
    exact m_mul z3
  rw [wp_ifn (by omega), wp_ifn (by omega), wp_bd, MI_9 hMd (by omega) (by omega), tn, r9, wp_bd, rdA', wp_bd, rdB', wp_bd, F_X13_shifted]
  have zero : nv Ms s V W i n = 0 → Q 0 σ := fun h => by
    have := hself 0 (by omega) h
    rw [sg_0] at this
    exact hQ _ this
  have hz : gW (gI' Ms s i) n ≤ nv Ms s V W i (n - 1) → nv Ms s V W i n = 0 := fun h => by
    by_cases e20 : gO (gI' Ms s i) n = 20
    · rw [hnv, e20]
      show (if _ then 0 else _) = 0
      rw [if_pos h]
    · have e21 : gO (gI' Ms s i) n = 21 := by omega
      rw [hnv, e21]
      show (if _ then 0 else _) = 0
      rw [if_pos h]
  rw [sg_val lb]
  by_cases c31 : nv Ms s V W i (n - 1) < 2147483648
  · rw [if_pos c31, wp_ifn (by omega)]
    by_cases cw : nv Ms s V W i (n - 1) < gW (gI' Ms s i) n
    · rw [wp_ifp (by omega)]
      by_cases e20 : gO (gI' Ms s i) n = 20
      · rw [wp_ifp (by omega), wp_rt, wp_rt]
        refine hQ _ ?_
        rw [hnv, e20]
        show _ = sg (if _ then 0 else _)
        rw [if_neg (by omega)]
        exact m_shl (by omega) z3
      · have e21 : gO (gI' Ms s i) n = 21 := by omega
        rw [wp_ifn (by omega), wp_rt, wp_rt]
        refine hQ _ ?_
        rw [hnv, e21]
        show _ = sg (if _ then 0 else _)
        rw [if_neg (by omega), m_ushr (by omega) z3 z3 va, Nat.mod_eq_of_lt (Nat.lt_of_le_of_lt (Nat.div_le_self _ _) va)]
    · rw [wp_ifn (by omega), wp_rt, wp_rt]
      exact zero (hz (by omega))
  · rw [if_neg c31, wp_ifp (by omega), wp_rt, wp_rt]
    exact zero (hz (by omega))
end
