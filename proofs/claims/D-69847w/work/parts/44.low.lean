set_option maxRecDepth 100000
/-! ===== the lowest bit ===== -/
def lowB (b : Nat → Bool) (k : Nat) : Prop := b k = true ∧ ∀ j, j < k → b j = false
theorem lowB_uniq {b : Nat → Bool} {k k' : Nat} (h : lowB b k) (h' : lowB b k') : k = k' := by
  rcases Nat.lt_trichotomy k k' with q | q | q
  · have := h'.2 k q; rw [h.1] at this; cases this
  · exact q
  · have := h.2 k' q; rw [h'.1] at this; cases this
theorem lowB_ex {b : Nat → Bool} : ∀ n, (∃ k, k < n ∧ b k = true) → ∃ k, k < n ∧ lowB b k
  | 0, ⟨k, h, _⟩ => absurd h (Nat.not_lt_zero k)
  | n + 1, ⟨k, h, hb⟩ => by
    by_cases q : ∃ k, k < n ∧ b k = true
    · obtain ⟨k, h1, h2⟩ := lowB_ex n q
      exact ⟨k, by omega, h2⟩
    · have hk : k = n := by
        rcases Nat.lt_or_ge k n with q2 | q2
        · exact absurd ⟨k, q2, hb⟩ q
        · omega
      subst hk
      refine ⟨k, by omega, hb, fun j hj => ?_⟩
      cases e : b j
      · rfl
      · exact absurd ⟨j, hj, e⟩ q
theorem bv_low {w : Nat} {x : BitVec w} (h : x ≠ 0#w) : ∃ k, k < w ∧ lowB x.getLsbD k := by
  apply lowB_ex
  apply Classical.byContradiction
  intro q
  apply h
  apply BitVec.eq_of_getLsbD_eq
  intro i hi
  rw [BitVec.getLsbD_zero]
  cases e : x.getLsbD i
  · rfl
  · exact absurd ⟨i, hi, e⟩ q
theorem msk {x : BitVec 32} {t : Nat} (ht : t < 32) (h : lowB x.getLsbD t) : ((x ^^^ BitVec.allOnes 32) &&& (x - 1#32)).toNat = 2 ^ t - 1 := by
  obtain ⟨h1, h2⟩ := h
  have hp : 0 < 2 ^ t := Nat.two_pow_pos t
  have hp2 : 2 ^ (t + 1) = 2 * 2 ^ t := by rw [Nat.pow_succ, Nat.mul_comm]
  have hn := x.isLt
  have e0 : x.toNat % 2 ^ t = 0 := by
    apply Nat.eq_of_testBit_eq
    intro i
    rw [Nat.testBit_mod_two_pow, Nat.zero_testBit]
    by_cases hi : i < t
    · have := h2 i hi
      rw [BitVec.getLsbD] at this
      rw [this, Bool.and_false]
    · rw [decide_eq_false hi, Bool.false_and]
  have e1 : x.toNat / 2 ^ t % 2 = 1 := by
    have := h1
    rw [BitVec.getLsbD, Nat.testBit_eq_decide_div_mod_eq] at this
    exact of_decide_eq_true this
  obtain ⟨m, hm⟩ : ∃ m, x.toNat / 2 ^ t = 2 * m + 1 := ⟨x.toNat / 2 ^ t / 2, by omega⟩
  have e2 : x.toNat = 2 ^ (t + 1) * m + 2 ^ t := by
    have := Nat.div_add_mod x.toNat (2 ^ t)
    rw [e0, hm, Nat.add_zero] at this
    rw [← this, hp2, Nat.mul_add, Nat.mul_one, ← Nat.mul_assoc, Nat.mul_comm (2 ^ t) 2]
  have e3 : (x - 1#32).toNat = 2 ^ (t + 1) * m + (2 ^ t - 1) := by
    rw [BitVec.toNat_sub]
    have : (1#32).toNat = 1 := rfl
    rw [this, show 2 ^ 32 - 1 + x.toNat = (x.toNat - 1) + 2 ^ 32 by omega, Nat.add_mod_right, Nat.mod_eq_of_lt (by omega)]
    omega
  apply Nat.eq_of_testBit_eq
  intro j
  rw [BitVec.toNat_and, Nat.testBit_and, Nat.testBit_two_pow_sub_one, e3, Nat.testBit_two_pow_mul_add _ (by omega), Nat.testBit_two_pow_sub_one]
  rw [show Nat.testBit (x ^^^ BitVec.allOnes 32).toNat j = BitVec.getLsbD (x ^^^ BitVec.allOnes 32) j from rfl, BitVec.getLsbD_xor, BitVec.getLsbD_allOnes]
  have e4 : x.getLsbD j = if j < t + 1 then (2 ^ t).testBit j else m.testBit (j - (t + 1)) := by
    rw [BitVec.getLsbD, e2, Nat.testBit_two_pow_mul_add _ (by omega)]
  by_cases hj : j < t
  · rw [h2 j hj, if_pos (by omega), decide_eq_true hj, decide_eq_true (show j < 32 by omega)]
    rfl
  · by_cases hj2 : j = t
    · subst hj2
      rw [h1, if_pos (by omega), decide_eq_false hj, Bool.and_false]
    · rw [e4, if_neg (by omega), if_neg (by omega), decide_eq_false hj]
      by_cases h32 : j < 32
      · rw [decide_eq_true h32]
        cases m.testBit (j - (t + 1)) <;> rfl
      · have : x.getLsbD j = false := BitVec.getLsbD_of_ge x j (by omega)
        rw [e4, if_neg (by omega)] at this
        rw [this, Bool.and_false]
def nt74 (x0 x1 : Int) : Int := w32 (x1 + (iushr x0 1))
def nt62 (x0 x1 : Int) : Int := if x0 ≤ 4 then nt74 x0 x1 else nt74 (iushr x0 2) (w32 (x1 + 2))
def nt49 (x0 x1 : Int) : Int := if x0 ≤ 16 then nt62 x0 x1 else nt62 (iushr x0 4) (w32 (x1 + 4))
def nt34 (x0 x1 : Int) : Int := if x0 ≤ 256 then nt49 x0 x1 else nt49 (iushr x0 8) (w32 (x1 + 8))
def ntF (i : Int) : Int := if 0 < i then (if i ≤ 65536 then nt34 i 1 else nt34 (iushr i 16) (w32 (1 + 16))) else iand i 32
theorem ntF_all : ∀ t : Fin 32, ntF ((2 ^ (t : Nat) - 1 : Nat) : Int) = ((t : Nat) : Int) := by decide +kernel
section
variable {σ : St} {Q : Int → St → Prop}
theorem wp_nt74 {x0 x1 : Int} : wp (J10_numberOfTrailingZeros_74 x0 x1) σ Q = Q (nt74 x0 x1) σ := by
  simp only [J10_numberOfTrailingZeros_74, wp_rt, nt74]
theorem wp_nt62 {x0 x1 : Int} : wp (J10_numberOfTrailingZeros_62 x0 x1) σ Q = Q (nt62 x0 x1) σ := by
  simp only [J10_numberOfTrailingZeros_62, wp_ite, wp_lt, wp_nt74, nt62]; split <;> rfl
theorem wp_nt49 {x0 x1 : Int} : wp (J10_numberOfTrailingZeros_49 x0 x1) σ Q = Q (nt49 x0 x1) σ := by
  simp only [J10_numberOfTrailingZeros_49, wp_ite, wp_lt, wp_nt62, nt49]; split <;> rfl
theorem wp_nt34 {x0 x1 : Int} : wp (J10_numberOfTrailingZeros_34 x0 x1) σ Q = Q (nt34 x0 x1) σ := by
  simp only [J10_numberOfTrailingZeros_34, wp_ite, wp_lt, wp_nt49, nt34]; split <;> rfl
theorem wp_ntF {a : Int} : wp (F_J10_numberOfTrailingZeros a) σ Q = Q (ntF (iand (ixor a (-1)) (w32 (a - 1)))) σ := by
  simp only [F_J10_numberOfTrailingZeros, wp_ite, wp_lt, wp_rt, wp_nt34, ntF]
  split
  · split <;> rfl
  · rfl
theorem wp_j10 {y : Int32} {t : Nat} (ht : t < 32) (h : lowB y.toBitVec.getLsbD t) : wp (F_J10_numberOfTrailingZeros y.toInt) σ Q = Q (t : Int) σ := by
  have e : iand (ixor y.toInt (-1)) (w32 (y.toInt - 1)) = ((2 ^ t - 1 : Nat) : Int) := by
    have hp : 2 ^ t ≤ 2 ^ 31 := p2le (by omega)
    unfold iand ixor
    rw [oi_ti, oi_ti, oi_w32, Int32.ofInt_sub, oi_ti]
    show BitVec.toInt ((y.toBitVec ^^^ BitVec.allOnes 32) &&& (y.toBitVec - 1#32)) = _
    have := msk ht h
    rw [BitVec.toInt_eq_toNat_of_lt (by omega), this]
  rw [wp_ntF, e, ntF_all ⟨t, ht⟩]
end
theorem se32 {x : BitVec 64} {j : Nat} (hj : j < 32) : (x.signExtend 32).getLsbD j = x.getLsbD j := by
  rw [BitVec.getLsbD_signExtend, decide_eq_true hj, Bool.true_and, if_pos (by omega)]
theorem us32 : ((Int32.ofInt 32).toInt64.toUInt64 &&& Int64.toUInt64 63) = 32 := by decide +kernel
theorem wp_ntz {v : Int64} {k : Nat} (hk : k < 64) (h : lowB v.toBitVec.getLsbD k) {σ : St} {Q : Int → St → Prop} : wp (F_J9_numberOfTrailingZeros v) σ Q = Q (k : Int) σ := by
  obtain ⟨h1, h2⟩ := h
  simp only [F_J9_numberOfTrailingZeros, wp_lt, wp_ite, wp_bd, wp_rt]
  by_cases hk2 : k < 32
  · have hl : lowB v.toInt32.toBitVec.getLsbD k := ⟨(se32 hk2).trans h1, fun j hj => (se32 (by omega)).trans (h2 j hj)⟩
    rw [if_neg]
    · exact wp_j10 hk2 hl
    · intro q
      have : v.toInt32 = 0 := Int32.toInt_inj.mp q
      have e := hl.1
      rw [this] at e
      have : (0 : Int32).toBitVec.getLsbD k = false := BitVec.getLsbD_zero
      rw [this] at e
      cases e
  · rw [if_pos]
    · have hb : ∀ j, j < 32 → ((lushr v 32).toInt32.toBitVec.getLsbD j) = v.toBitVec.getLsbD (32 + j) := by
        intro j hj
        refine (se32 hj).trans ?_
        show (lushr v 32).toBitVec.getLsbD j = _
        unfold lushr
        rw [us32]
        show (v.toBitVec >>> 32).getLsbD j = _
        rw [BitVec.getLsbD_ushiftRight]
      have hl : lowB (lushr v 32).toInt32.toBitVec.getLsbD (k - 32) := by
        refine ⟨?_, fun j hj => ?_⟩
        · rw [hb _ (by omega), show 32 + (k - 32) = k by omega]; exact h1
        · rw [hb _ (by omega)]; exact h2 _ (by omega)
      unfold l2i
      rw [wp_j10 (by omega) hl, w32_i (by omega) (by omega)]
      congr 1
      omega
    · show v.toInt32.toInt = (0 : Int32).toInt
      congr 1
      apply Int32.toBitVec_inj.mp
      apply BitVec.eq_of_getLsbD_eq
      intro i hi
      refine (se32 hi).trans ?_
      rw [h2 i (by omega)]
      exact BitVec.getLsbD_zero.symm
theorem sh_amt64 : ∀ k : Fin 64, (((Int32.ofInt (k : Nat)).toInt64 &&& 63).toBitVec.smod 64#64).toNat = (k : Nat) := by decide +kernel
/-- one bit of a long -/
theorem lbit {v : Int64} {k : Nat} (hk : k < 64) : (lshr v (k : Int)) &&& 1 = if v.toBitVec.getLsbD k = true then 1 else 0 := by
  apply Int64.toBitVec_inj.mp
  unfold lshr
  rw [Int64.toBitVec_and, Int64.toBitVec_shiftRight]
  unfold BitVec.sshiftRight'
  rw [show (((Int32.ofInt (k : Int)).toInt64 &&& 63).toBitVec.smod 64).toNat = k from sh_amt64 ⟨k, hk⟩]
  apply BitVec.eq_of_getLsbD_eq
  intro i hi
  rw [BitVec.getLsbD_and, BitVec.getLsbD_sshiftRight, show (1 : Int64).toBitVec = 1#64 from rfl, BitVec.getLsbD_one]
  by_cases h0 : i = 0
  · subst h0
    rw [show k + 0 = k from rfl, if_pos hk]
    cases v.toBitVec.getLsbD k <;> rfl
  · rw [decide_eq_false h0, Bool.and_false, Bool.and_false]
    cases v.toBitVec.getLsbD k
    · exact BitVec.getLsbD_zero.symm
    · show _ = (1#64).getLsbD i
      rw [BitVec.getLsbD_one, decide_eq_false h0, Bool.and_false]
theorem lb01 : ((0 : Int64) = 1) = False := by simp
theorem wp_low15 {v : Int64} {k : Nat} (hk : k < 64) (h : lowB v.toBitVec.getLsbD k) {σ : St} {Q : Int → St → Prop} : wp (F_X15_lowest v) σ Q = Q (k : Int) σ := by
  have hf := FU_ge
  refine wp_some (wp_eq ?_)
  simp only [F_X15_lowest, wp_lt]
  refine loopI (L := fun f (x : Int) (_ : Unit) => X15_lowest_2 f v x) (fun j _ τ => τ = σ) 0 k ?_ ?_ FU 0 () _ (by omega) (by omega) (by omega) rfl
  · rintro f j - τ - hj rfl ih
    simp (disch := omega) only [X15_lowest_2, wp_ite, wp_lt, wp_rt, lcm_eq, lbit (show j < 64 by omega), h.2 j hj, Bool.false_eq_true, if_false, if_true, w32_i]
    exact ih () _ rfl
  · rintro f - τ rfl
    simp (disch := omega) only [X15_lowest_2, wp_ite, wp_lt, wp_rt, lcm_eq, lbit hk, h.1, if_true]
    rw [if_neg (by decide)]
    (repeat' (first | (refine And.intro ?_ ?_) | omega | rfl | trivial))
theorem l_low {v : Int64} (h : ¬ v = 0) : ∃ k, k < 64 ∧ lowB v.toBitVec.getLsbD k := bv_low (fun q => h (Int64.toBitVec_inj.mp q))
