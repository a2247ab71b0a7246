set_option maxRecDepth 100000
set_option maxHeartbeats 400000
/-! ===== read: names of modules ===== -/
section
variable {T : Nat → Int} {n q L : Nat} {σ τ : St}
/-- module k has the name that stands at q: component, twin -/
def mnE (T : Nat → Int) (q L : Nat) (σ : St) (k : Nat) : Prop := σ.1 (110 + 25 * k) 29 = (L : Int) ∧ ∀ j, j < L → σ.1 (110 + 25 * k + 1) j = T (q + j)
theorem alikeM {A m : Nat} (hrd : ∀ {i : Int} {Q : Int → St → Prop}, 0 ≤ i → i < (m : Int) → wp (rdB A i) σ Q = Q (σ.1 A i.toNat) σ) (hT : TXc T n σ) (hl : q + L ≤ n) (hm : L ≤ m) {Q : Int → St → Prop} (yes : (∀ j, j < L → σ.1 A j = T (q + j)) → Q 1 σ) (no : ¬ (∀ j, j < L → σ.1 A j = T (q + j)) → Q 0 σ) : wp (F_X2_isAlike A 0 4 (q : Int) (L : Int)) σ Q := by
  have hf := FU_ge
  have hn := hT.1
  rw [F_X2_isAlike, wp_lt, wp_lt]
  refine loopM (L := fun f (x : Int × Int) => X2_isAlike_6 f A 0 4 (q : Int) (L : Int) x.1 x.2) (fun m' x υ => ∃ k : Nat, x.2 = (k : Int) ∧ k ≤ L ∧ m' = L - k ∧ υ = σ ∧ ((x.1 = 1 ∧ ∀ j, j < k → σ.1 A j = T (q + j)) ∨ (x.1 = 0 ∧ ¬ ∀ j, j < L → σ.1 A j = T (q + j)))) ?_ FU L (1, 0) σ (by omega) ⟨0, rfl, Nat.zero_le _, rfl, rfl, Or.inl ⟨rfl, fun j hj => absurd hj (Nat.not_lt_zero j)⟩⟩
  rintro f m' ⟨x1, x2⟩ υ ⟨k, hx, hk, rfl, rfl, hc⟩ ih
  dsimp only at hx hc
  subst hx
  show wp (X2_isAlike_6 (f + 1) A 0 4 (q : Int) (L : Int) x1 (k : Int)) _ Q
  rw [X2_isAlike_6]
  rcases hc with ⟨rfl, hc⟩ | ⟨rfl, hc⟩
  · by_cases c2 : k < L
    · rw [wp_ifn (by omega), wp_ifn (by decide), wp_bd, w32_i (by omega) (by omega), hrd (by omega) (by omega), wp_bd, w32_i (by omega) (by omega), show (0 + (k : Int)).toNat = k by omega, show (q : Int) + (k : Int) = ((q + k : Nat) : Int) by omega, RI_4 (by omega) (by omega), tn, hT.2.2.2.1 _ (by omega)]
      by_cases c3 : υ.1 A k = T (q + k)
      · rw [wp_ifp c3, X2_isAlike_38, wp_lt, wp_lt, w32_i (by omega) (by omega)]
        refine ih (L - (k + 1)) (1, (k : Int) + 1) _ (by omega) ⟨k + 1, rfl, by omega, rfl, rfl, Or.inl ⟨rfl, fun j hj => ?_⟩⟩
        by_cases e : j = k
        · subst e; exact c3
        · exact hc j (by omega)
      · rw [wp_ifn c3, X2_isAlike_38, wp_lt, wp_lt, w32_i (by omega) (by omega)]
        exact ih (L - (k + 1)) (0, (k : Int) + 1) _ (by omega) ⟨k + 1, rfl, by omega, rfl, rfl, Or.inr ⟨rfl, fun hm => c3 (hm k c2)⟩⟩
    · obtain rfl : k = L := by omega
      rw [wp_ifp (by omega), c_rtZ (by decide) (by decide)]
      exact yes hc
  · by_cases c2 : k < L
    · rw [wp_ifn (by omega), wp_ifp rfl, c_rtZ (by decide) (by decide)]; exact no hc
    · rw [wp_ifp (by omega), c_rtZ (by decide) (by decide)]; exact no hc
theorem moduleOfM (hT : TXt T n τ) (h33 : τ.1 2075 33 = (q : Int)) (h34 : τ.1 2075 34 = (L : Int)) (hl : q + L ≤ n) {m : Nat} (hm : m ≤ 12) {Q : Int → St → Prop} (go : ∀ r, fnd (fun i => nmT T q L τ 2081 (10 * (48 + i))) m r → Q r τ) : wp (F_X15_moduleOf (m : Int)) τ Q := by
  have hf := FU_ge
  rw [F_X15_moduleOf, wp_lt]
  refine loopM (L := fun f (x : Int) => X15_moduleOf_2 f (m : Int) x) (fun m' x υ => ∃ i : Nat, x = (i : Int) ∧ i ≤ m ∧ m' = m - i ∧ υ = τ ∧ ∀ i', i' < i → ¬ nmT T q L τ 2081 (10 * (48 + i'))) ?_ FU m 0 τ (by omega) ⟨0, rfl, Nat.zero_le _, rfl, rfl, fun i hi => absurd hi (Nat.not_lt_zero i)⟩
  rintro f m' x υ ⟨i, rfl, hi, rfl, rfl, hno⟩ ih
  show wp (X15_moduleOf_2 (f + 1) (m : Int) (i : Int)) _ Q
  rw [X15_moduleOf_2]
  by_cases c : i < m
  · rw [wp_ifn (by omega), wp_bd, w32_i (x := 48 + (i : Int)) (by omega) (by omega), w32_i (by omega) (by omega), show 10 * (48 + (i : Int)) = ((10 * (48 + i) : Nat) : Int) by omega]
    refine isNameM hT h33 h34 hl (m := 600) (by omega) (by decide) (fun h1 h2 => RI_2081 h1 h2) (fun w => ?_) (fun w => ?_)
    · rw [wp_ifn (by decide), wp_rt]
      exact go _ (Or.inr ⟨i, c, rfl, w, hno⟩)
    · rw [wp_ifp rfl, wp_lt, w32_i (by omega) (by omega)]
      refine ih (m - (i + 1)) _ _ (by omega) ⟨i + 1, rfl, by omega, rfl, rfl, fun i' hi' => ?_⟩
      by_cases e : i' = i
      · subst e; exact w
      · exact hno i' (by omega)
  · obtain rfl : i = m := by omega
    rw [wp_ifp (by omega), wp_rt]
    exact go _ (Or.inl ⟨rfl, hno⟩)
end
