set_option maxRecDepth 100000
set_option maxHeartbeats 400000
/-! ===== designs: what holds between two calls ===== -/
/-- a design and its state -/
def DCP (Ms : Nat → ModV) (top : Nat) (s : LYS) (v : VST) : Prop := DP Ms top s ∧ limOK Ms s ∧ (∀ g, g < lsG s → ¬ onR (hgG Ms s) (lsG s) g) ∧ VB Ms s v ∧ chOK Ms s
/-- the component's object o holds it -/
def DCX (Ms : Nat → ModV) (top : Nat) (s : LYS) (v : VST) (o : Nat) (σ : St) : Prop := DX σ o Ms top s ∧ CH σ o Ms s ∧ DL σ o Ms s ∧ OX Ms s o σ ∧ VX Ms s v o σ ∧ FX Ms s v o σ
/-- the twin's slot S holds it -/
def DCM (Ms : Nat → ModV) (top : Nat) (s : LYS) (v : VST) (S : Nat) (τ : St) : Prop := DM τ S Ms top s ∧ OM Ms s S τ ∧ VM Ms s v S τ
/-- the cells of a slot of the twin -/
def dcTw (S a i : Nat) : Prop := dT S a i ∨ (2127 ≤ a ∧ a ≤ 2130 ∧ 200 * S ≤ i ∧ i < 200 * S + 200) ∨ ((a = 2132 ∨ a = 2133) ∧ i = S)
def dcX (o a : Nat) (_ : Nat) : Prop := o ≤ a ∧ a ≤ o + 326
section
variable {Ms : Nat → ModV} {top : Nat} {s : LYS} {v : VST} {σ σ' τ τ' : St} {o S : Nat}
theorem DCX.fr (h : DCX Ms top s v o σ) (ht : top < 12) (e : agr (dcX o) σ σ') : DCX Ms top s v o σ' := by
  obtain ⟨hX, hC, hL, ⟨q, q1, q2, q3⟩, ⟨v1, v2, v3⟩, hf⟩ := h
  have r : ∀ a, o ≤ a → a ≤ o + 26 → σ'.1 a = σ.1 a := fun a h1 h2 => e.row (fun i => by unfold dcX; omega)
  refine ⟨hX.fr ht (agr.sub e (fun a i h => by unfold dP at h; unfold dcX; omega)), hC.fr (fun a h1 h2 => r a (by omega) (by omega)), ?_, ⟨q, q1, ?_, fun k hk => ?_⟩, ⟨fun g hg => ?_, fun g j hg h4 hj => ?_, ?_⟩, ?_⟩
  · unfold DL
    rw [r o (by omega) (by omega), r (o + 19) (by omega) (by omega), r (o + 21) (by omega) (by omega)]; exact hL
  · rw [r o (by omega) (by omega)]; exact q2
  · rw [r (o + 16) (by omega) (by omega)]; exact q3 k hk
  · rw [r (o + 20) (by omega) (by omega)]; exact v1 g hg
  · rw [r (o + 22) (by omega) (by omega)]; exact v2 g j hg h4 hj
  · rw [r o (by omega) (by omega)]; exact v3
  · unfold FX
    rw [r o (by omega) (by omega), r (o + 20) (by omega) (by omega)]; exact hf
theorem DCM.fr (h : DCM Ms top s v S τ) (hp : DCP Ms top s v) (e : agr (dcTw S) τ τ') : DCM Ms top s v S τ' := by
  obtain ⟨hM, ⟨q, q1, q2⟩, v1, v2, v3⟩ := h
  obtain ⟨hd, hlim, -⟩ := hp
  have h200 := hd.2.1.2
  refine ⟨hM.fr hd (agr.sub e (fun a i h => Or.inl h)), ⟨q, q1, fun k hk => ?_⟩, fun g hg => ?_, ?_, ?_⟩
  · rw [(e 2129 (200 * S + k) (Or.inr (Or.inl (by omega)))).1]; exact q2 k hk
  · obtain ⟨a1, a2, a3, a4⟩ := v1 g hg
    refine ⟨by rw [(e 2127 (200 * S + g) (Or.inr (Or.inl (by omega)))).1]; exact a1, fun ht => by rw [(e 2128 (200 * S + g) (Or.inr (Or.inl (by omega)))).2.1]; exact a2 ht, fun h3 => ?_, fun h4 j hj => ?_⟩
    · obtain ⟨g1, g2⟩ := stw_in hd hlim hg (Or.inl h3)
      have := (hd.sig hg).2.2.2.2.2.1.1
      rw [(e 2130 (200 * S + stwS Ms s g) (Or.inr (Or.inl (by omega)))).2.1]; exact a3 h3
    · obtain ⟨g1, g2⟩ := stw_in hd hlim hg (Or.inr h4)
      rw [(e 2130 (200 * S + (stwS Ms s g + j)) (Or.inr (Or.inl (by omega)))).2.1]; exact a4 h4 j hj
  · rw [(e 2132 S (Or.inr (Or.inr (by omega)))).1]; exact v2
  · rw [(e 2133 S (Or.inr (Or.inr (by omega)))).1]; exact v3
end
/-- a slot with a design, of at most c steps -/
def dcS (c : Nat) (S o : Nat) (σ : St) : Prop := ∃ (Ms : Nat → ModV) (top : Nat) (s : LYS) (v : VST), DCP Ms top s v ∧ v.2.2.2 ≤ c ∧ DCX Ms top s v o σ ∧ DCM Ms top s v S σ
/-- the objects of the designs -/
def dcO (ob : Nat → Nat) (σ : St) : Prop := (∀ s, s < 5 → σ.2.2 32 s = some (ob s) ∧ isD (ob s) ∧ ∀ m, m < 12 → σ.2.2 (ob s + 1) m = some (ob s + 27 + 25 * m)) ∧ ∀ s t, s < 5 → t < 5 → ob s = ob t → s = t
def I_des (c : Nat) (σ : St) : Prop := ∃ ob : Nat → Nat, dcO ob σ ∧ ∀ S, S < 4 → σ.1 33 S = σ.1 2114 S ∧ (σ.1 33 S = 0 ∨ σ.1 33 S = 1 ∧ dcS c S (ob S) σ)
def P_des (a k : Nat) : Prop := a = 32 ∨ (410 ≤ a ∧ a ≤ 736) ∨ (743 ≤ a ∧ a ≤ 1069) ∨ (1076 ≤ a ∧ a ≤ 1402) ∨ (1409 ≤ a ∧ a ≤ 1735) ∨ (1742 ≤ a ∧ a ≤ 2068) ∨ (2077 ≤ a ∧ a ≤ 2080 ∧ k < 48) ∨ (2082 ≤ a ∧ a ≤ 2086 ∧ k < 1920) ∨ (a = 2087 ∧ k < 19200) ∨ (2088 ≤ a ∧ a ≤ 2093 ∧ k < 14400) ∨ (2094 ≤ a ∧ a ≤ 2100 ∧ k < 9600) ∨ (2115 ≤ a ∧ a ≤ 2130) ∨ a = 2132 ∨ a = 2133
/-- hdOK of 78, by another name -/
def hdY (σ τ : St) : Prop := ∀ s, s < 4 → τ.1 33 s = σ.1 33 s ∧ τ.1 2114 s = σ.1 2114 s ∨ τ.1 33 s = 0 ∧ τ.1 2114 s = 0
/-- what a call on a design may change -/
def P_dz (a k : Nat) : Prop := P_des a k ∨ a = 33 ∨ a = 2114
section
variable {σ τ : St} {c c' S o : Nat} {ob : Nat → Nat}
theorem dcX_P {a i : Nat} (hD : isD o) (h : dcX o a i) : P_des a i := by
  obtain ⟨h1, h2⟩ := h
  unfold P_des
  rcases hD with rfl | rfl | rfl | rfl | rfl <;> omega
theorem dcT_P {a i : Nat} (hS : S < 4) (h : dcTw S a i) : P_des a i := by
  unfold P_des
  rcases h with h | h | h
  · unfold dT at h
    rcases h with h | h | h | h | h | h | h | h | h <;> omega
  · omega
  · omega
theorem dcS.fr (h : dcS c S o σ) (hc : c ≤ c') (e1 : agr (dcX o) σ τ) (e2 : agr (dcTw S) σ τ) : dcS c' S o τ := by
  obtain ⟨Ms, top, s, v, hp, hv, hX, hM⟩ := h
  exact ⟨Ms, top, s, v, hp, by omega, hX.fr hp.1.1.1 e1, hM.fr hp e2⟩
theorem dcO.fr (h : dcO ob σ) (e : agr P_des σ τ) : dcO ob τ := by
  refine ⟨fun s hs => ?_, h.2⟩
  obtain ⟨h1, h2, h3⟩ := h.1 s hs
  refine ⟨by rw [(e 32 s (Or.inl rfl)).2.2]; exact h1, h2, fun m hm => ?_⟩
  rw [(e (ob s + 1) m (dcX_P h2 (by unfold dcX; omega))).2.2]; exact h3 m hm
theorem I_des.mono (h : I_des c σ) (hc : c ≤ c') (e : agr P_des σ τ) (eh : hdY σ τ) : I_des c' τ := by
  obtain ⟨ob, hO, hs⟩ := h
  refine ⟨ob, hO.fr e, fun S hS => ?_⟩
  obtain ⟨h1, h2⟩ := hs S hS
  rcases eh S hS with ⟨z1, z2⟩ | ⟨z1, z2⟩
  · refine ⟨by rw [z1, z2]; exact h1, ?_⟩
    rw [z1]
    rcases h2 with h2 | ⟨h2, h3⟩
    · exact Or.inl h2
    · exact Or.inr ⟨h2, h3.fr hc (agr.sub e (fun a i h => dcX_P (hO.1 S (by omega)).2.1 h)) (agr.sub e (fun a i h => dcT_P hS h))⟩
  · exact ⟨by rw [z1, z2], Or.inl z1⟩
theorem hdY.of (e : agr (fun a _ => a = 33 ∨ a = 2114) σ τ) : hdY σ τ := fun s _ => Or.inl ⟨(e 33 s (Or.inl rfl)).1, (e 2114 s (Or.inr rfl)).1⟩
theorem I_des.vis (h : I_des c σ) (e : agr Vis σ τ) : I_des c τ := h.mono (Nat.le_refl _) (agr.sub e (fun a i h => by unfold P_des at h; unfold Vis; omega)) (hdY.of (agr.sub e (fun a i h => by unfold Vis; omega)))
/-- one slot has changed -/
theorem I_des.put (h : dcO ob σ) (hs : ∀ S, S < 4 → σ.1 33 S = σ.1 2114 S ∧ (σ.1 33 S = 0 ∨ σ.1 33 S = 1 ∧ dcS c S (ob S) σ)) (hS : S < 4) (hc : c ≤ c') (e : agr (fun a i => P_dz a i ∧ ¬ dcX (ob S) a i ∧ ¬ dcTw S a i) σ τ) (eP : ∀ m, τ.2.2 (ob S + 1) m = σ.2.2 (ob S + 1) m) (hn : dcS c' S (ob S) τ) (h1 : σ.1 33 S = 1) : I_des c' τ := by
  have hD := (h.1 S (by omega)).2.1
  have far : ∀ s, s < 5 → s ≠ S → ∀ a, ob s ≤ a → a ≤ ob s + 326 → a < ob S ∨ ob S + 326 < a := by
    intro s hs hne a a1 a2
    have hD' := (h.1 s hs).2.1
    have hne' : ob s ≠ ob S := fun e => hne (h.2 s S hs (by omega) e)
    rcases hD with w | w | w | w | w <;> rcases hD' with w' | w' | w' | w' | w' <;> omega
  have nT : ∀ a i, a < 2075 → ¬ dcTw S a i := by
    intro a i ha hh
    unfold dcTw dT at hh
    omega
  have bD : ∀ s, s < 5 → 410 ≤ ob s ∧ ob s + 326 < 2075 := by
    intro s hs
    rcases (h.1 s hs).2.1 with w | w | w | w | w <;> omega
  refine ⟨ob, ⟨fun s hs => ?_, h.2⟩, fun t ht => ?_⟩
  · obtain ⟨a1, a2, a3⟩ := h.1 s hs
    have b1 := bD S (by omega)
    have b2 := bD s hs
    refine ⟨by rw [(e 32 s ⟨Or.inl (Or.inl rfl), by unfold dcX; omega, nT _ _ (by decide)⟩).2.2]; exact a1, a2, fun m hm => ?_⟩
    by_cases hne : s = S
    · subst hne; rw [eP]; exact a3 m hm
    · rw [(e (ob s + 1) m ⟨Or.inl (dcX_P a2 (by unfold dcX; omega)), by have := far s hs hne (ob s + 1) (by omega) (by omega); unfold dcX; omega, nT _ _ (by omega)⟩).2.2]; exact a3 m hm
  · obtain ⟨z1, z2⟩ := hs t ht
    have b1 := bD S (by omega)
    have e33 : τ.1 33 t = σ.1 33 t := (e 33 t ⟨Or.inr (Or.inl rfl), by unfold dcX; omega, nT _ _ (by decide)⟩).1
    have e14 : τ.1 2114 t = σ.1 2114 t := (e 2114 t ⟨Or.inr (Or.inr rfl), by unfold dcX; omega, by unfold dcTw dT; omega⟩).1
    rw [e33, e14]
    refine ⟨z1, ?_⟩
    by_cases hne : t = S
    · subst hne; exact Or.inr ⟨h1, hn⟩
    · rcases z2 with z2 | ⟨z2, z3⟩
      · exact Or.inl z2
      · have b2 := bD t (by omega)
        refine Or.inr ⟨z2, z3.fr hc (agr.sub e (fun a i hh => ?_)) (agr.sub e (fun a i hh => ?_))⟩
        · have := far t (by omega) hne a hh.1 hh.2
          have h2 := hh.2
          exact ⟨Or.inl (dcX_P (h.1 t (by omega)).2.1 hh), by unfold dcX; omega, nT _ _ (by omega)⟩
        · have g1 : 2077 ≤ a := by
            unfold dcTw dT at hh
            omega
          refine ⟨Or.inl (dcT_P ht hh), by unfold dcX; omega, fun hh' => ?_⟩
          rcases hh with hh | hh | hh <;> rcases hh' with hh' | hh' | hh'
          · unfold dT at hh hh'
            rcases hh with hh | hh | hh | hh | hh | hh | hh | hh | hh <;> rcases hh' with hh' | hh' | hh' | hh' | hh' | hh' | hh' | hh' | hh' <;> omega
          all_goals (try unfold dT at hh); (try unfold dT at hh'); omega
end
