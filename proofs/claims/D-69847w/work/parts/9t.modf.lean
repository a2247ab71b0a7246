set_option maxRecDepth 100000
set_option maxHeartbeats 400000
/-! ===== read: the component finds a module ===== -/
section
variable {T : Nat → Int} {n q L : Nat} {σ : St}
theorem isNamedX {m : Nat} (hm : m < 12) (hT : TXc T n σ) (hl : q + L ≤ n) (h10 : L ≤ 10) {Q : Int → St → Prop} (yes : mnE T q L σ m → Q 1 σ) (no : ¬ mnE T q L σ m → Q 0 σ) : wp (F_X2_isNamed (110 + 25 * m) 4 (q : Int) (L : Int)) σ Q := by
  rw [F_X2_isNamed, wp_bd, wp_gI]
  by_cases c : (L : Int) = σ.1 (110 + 25 * m) 29
  · rw [wp_ifp c, wp_bd]
    refine alikeM (m := 10) (fun h1 h2 => MI_1 (isMd_k hm) h1 h2) hT hl h10 (fun w => ?_) (fun w => ?_)
    · rw [wp_ifn (by decide), c_rtZ (by decide) (by decide)]
      exact yes ⟨c.symm, w⟩
    · rw [wp_ifp rfl, c_rtZ (by decide) (by decide)]
      exact no (fun z => w z.2)
  · rw [wp_ifn c, c_rtZ (by decide) (by decide)]
    exact no (fun z => c z.1.symm)
theorem findModX {k : Nat} (hk : k ≤ 12) (h11 : σ.1 2 11 = (k : Int)) (hq : ∀ m, m < k → σ.2.2 1 m = some (110 + 25 * m)) (hT : TXc T n σ) (hl : q + L ≤ n) (h10 : L ≤ 10) {Q : Int → St → Prop} (go : ∀ r, fnd (mnE T q L σ) k r → Q r σ) : wp (F_X1_findModule (q : Int) (L : Int)) σ Q := by
  have hf := FU_ge
  rw [F_X1_findModule, wp_lt]
  refine loopM (L := fun f (x : Int) => X1_findModule_2 f (q : Int) (L : Int) x) (fun m' x υ => ∃ i : Nat, x = (i : Int) ∧ i ≤ k ∧ m' = k - i ∧ υ = σ ∧ ∀ i', i' < i → ¬ mnE T q L σ i') ?_ FU k 0 σ (by omega) ⟨0, rfl, Nat.zero_le _, rfl, rfl, fun i hi => absurd hi (Nat.not_lt_zero i)⟩
  rintro f m' x υ ⟨i, rfl, hi, rfl, rfl, hno⟩ ih
  show wp (X1_findModule_2 (f + 1) (q : Int) (L : Int) (i : Int)) _ Q
  rw [X1_findModule_2, wp_bd, wp_gI, h11]
  by_cases c : i < k
  · rw [wp_ifn (by omega), wp_bd, RI_1 (by omega) (by omega), tn, hq i c]
    show wp (ck (110 + 25 * i) 2 (bd (F_X2_isNamed (110 + 25 * i) 4 (q : Int) (L : Int)) fun v6 => if v6 = 0 then (lt (w32 ((i : Int) + 1)) fun x3_7 => (X1_findModule_2 f) (q : Int) (L : Int) x3_7) else X1_findModule_34 (i : Int))) υ Q
    rw [wp_ck, and_t (ly_Md (isMd_k (by omega))), wp_bd]
    refine isNamedX (by omega) hT hl h10 (fun w => ?_) (fun w => ?_)
    · rw [wp_ifn (by decide), X1_findModule_34, wp_bd, wp_gI, h11, wp_ifn (by omega), wp_rt]
      exact go _ (Or.inr ⟨i, c, rfl, w, hno⟩)
    · rw [wp_ifp rfl, wp_lt, w32_i (by omega) (by omega)]
      refine ih (k - (i + 1)) _ _ (by omega) ⟨i + 1, rfl, by omega, rfl, rfl, fun i' hi' => ?_⟩
      by_cases e : i' = i
      · subst e; exact w
      · exact hno i' (by omega)
  · obtain rfl : i = k := by omega
    rw [wp_ifp (by omega), X1_findModule_34, wp_bd, wp_gI, h11, wp_ifp (by omega), wp_rt]
    exact go _ (Or.inl ⟨rfl, hno⟩)
end
