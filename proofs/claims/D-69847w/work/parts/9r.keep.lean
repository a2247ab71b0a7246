set_option maxRecDepth 100000
set_option maxHeartbeats 400000
/-! ===== read: names kept by the twin ===== -/
section
variable {T : Nat → Int} {n : Nat} {τ : St}
theorem keep15 {A m b q L : Nat} (hA : A ≠ 2075 ∧ A ≠ 2076) (hw : ∀ {σ : St} {i v : Int} {Q : Unit → St → Prop}, 0 ≤ i → i < (m : Int) → -128 ≤ v → v ≤ 127 → wp (wrB A i v) σ Q = Q () (stA σ.1 A (ups (σ.1 A) i.toNat v), σ.2)) (hb : b + 10 ≤ m) (hm : m ≤ 1000000) (ht : TXt T n τ) (hq : q + L ≤ n) (h33 : τ.1 2075 33 = (q : Int)) (h34 : τ.1 2075 34 = (L : Int)) {Q : Unit → St → Prop} (go : ∀ τ', (∀ x, x ≠ A → τ'.1 x = τ.1 x) → τ'.2 = τ.2 → (∀ j, j < 10 → τ'.1 A (b + j) = if j < L then T (q + j) else 0) → (∀ i, (i < b ∨ b + 10 ≤ i) → τ'.1 A i = τ.1 A i) → Q () τ') : wp (F_X15_keepName A (b : Int)) τ Q := by
  have hf := FU_ge
  obtain ⟨t1, t2, t3, t4⟩ := ht
  rw [F_X15_keepName, wp_lt]
  refine loopM (L := fun f (x : Int) => X15_keepName_2 f A (b : Int) x) (fun m' x υ => ∃ j : Nat, x = (j : Int) ∧ j ≤ 10 ∧ m' = 10 - j ∧ (∀ x, x ≠ A → υ.1 x = τ.1 x) ∧ υ.2 = τ.2 ∧ (∀ i, i < j → υ.1 A (b + i) = if i < L then T (q + i) else 0) ∧ ∀ i, (i < b ∨ b + 10 ≤ i) → υ.1 A i = τ.1 A i) ?_ FU 10 0 τ (by omega) ⟨0, rfl, by omega, rfl, fun _ _ => rfl, rfl, fun i hi => absurd hi (Nat.not_lt_zero i), fun _ _ => rfl⟩
  rintro f m' x υ ⟨j, rfl, hj, rfl, h1, h2, h3, h4⟩ ih
  show wp (X15_keepName_2 (f + 1) A (b : Int) (j : Int)) _ _
  rw [X15_keepName_2]
  by_cases c : j < 10
  · have key : ∀ v : Int, (-128 ≤ v ∧ v ≤ 127) → v = (if j < L then T (q + j) else 0) → wp (X15_keepName_35 (X15_keepName_2 f) A (b : Int) (j : Int) A ((b : Int) + (j : Int)) v) υ Q := by
      intro v hv e
      rw [X15_keepName_35, wp_bd, hw (by omega) (by omega) hv.1 hv.2, wp_lt, w32_i (by omega) (by omega), show ((b : Int) + (j : Int)).toNat = b + j by omega]
      refine ih (10 - (j + 1)) _ _ (by omega) ⟨j + 1, by omega, by omega, rfl, fun x hx => ?_, h2, fun i hi => ?_, fun i hi => ?_⟩
      · dsimp only; rw [stA_ne hx]; exact h1 x hx
      · dsimp only
        rw [stA_eq]
        by_cases e2 : i = j
        · subst e2; rw [ups_eq]; exact e
        · rw [ups_ne (by omega)]; exact h3 i (by omega)
      · dsimp only
        rw [stA_eq, ups_ne (by omega)]
        exact h4 i hi
    rw [wp_ifn (by omega), wp_bd, wp_gI, h1 2075 (by omega), h34]
    by_cases cL : j < L
    · have := t2 (q + j) (by omega)
      rw [wp_ifn (by omega), wp_bd, wp_gI, h1 2075 (by omega), h33, wp_bd, w32_i (by omega) (by omega), RI_2076 (by omega) (by omega), h1 2076 (by omega), show ((q : Int) + (j : Int)).toNat = q + j by omega, t4 _ (by omega), w32_i (by omega) (by omega)]
      exact key _ this (by rw [if_pos cL])
    · rw [wp_ifp (by omega), w32_i (by omega) (by omega)]
      exact key 0 (by decide) (by rw [if_neg cL])
  · rw [wp_ifp (by omega), wp_rt]
    exact go υ h1 h2 (fun i hi => h3 i (by omega)) h4
end
