set_option maxRecDepth 100000
/-! ===== a table in which one looks from a place on, pure: 0 is free, k + 1 has k ===== -/
theorem cntB_hole {p : Nat → Bool} : ∀ n, cntB p n < n → ∃ y, y < n ∧ p y = false
  | 0, h => absurd h (Nat.not_lt_zero _)
  | n + 1, h => by
    cases e : p n
    · exact ⟨n, by omega, e⟩
    · unfold cntB at h
      rw [e, if_pos rfl] at h
      obtain ⟨y, h1, h2⟩ := cntB_hole (p := p) n (by omega)
      exact ⟨y, by omega, h2⟩
def hsh (S M : Nat) (In : Nat → Prop) (T hs : Nat → Nat) : Prop := (∀ j, j < S → T j = 0 ∨ In (T j - 1)) ∧ cntB (fun j => decide (T j ≠ 0)) S ≤ M ∧ ∀ k, In k → ∃ d, d < S ∧ T ((hs k + d) % S) = k + 1 ∧ ∀ d', d' < d → T ((hs k + d') % S) ≠ 0
/-- where one stops from h on -/
noncomputable def prb (S : Nat) (T : Nat → Nat) (mt : Nat → Prop) (h : Nat) : Nat := lst (fun d => T ((h + d) % S) = 0 ∨ mt (T ((h + d) % S) - 1)) S
section
variable {S M : Nat} {In : Nat → Prop} {T hs : Nat → Nat} {mt : Nat → Prop}
theorem prb_at {h : Nat} (hl : prb S T mt h < S) : T ((h + prb S T mt h) % S) = 0 ∨ mt (T ((h + prb S T mt h) % S) - 1) := (lst_spec (fun d => T ((h + d) % S) = 0 ∨ mt (T ((h + d) % S) - 1)) S).2.2 hl
theorem prb_on {h d : Nat} (hd : d < prb S T mt h) : T ((h + d) % S) ≠ 0 ∧ ¬ mt (T ((h + d) % S) - 1) := by
  have := (lst_spec (fun d => T ((h + d) % S) = 0 ∨ mt (T ((h + d) % S) - 1)) S).2.1 d hd
  exact ⟨fun q => this (Or.inl q), fun q => this (Or.inr q)⟩
theorem prb_lt (H : hsh S M In T hs) (hM : M < S) (h : Nat) : prb S T mt h < S := by
  obtain ⟨y, h1, h2⟩ := cntB_hole S (show cntB (fun j => decide (T j ≠ 0)) S < S by have := H.2.1; omega)
  have h3 : T y = 0 := by
    apply Classical.byContradiction
    intro q
    have : decide (T y ≠ 0) = true := decide_eq_true q
    rw [this] at h2
    cases h2
  refine (lst_lt (p := fun d => T ((h + d) % S) = 0 ∨ mt (T ((h + d) % S) - 1)) ⟨(y + (S - h % S)) % S, Nat.mod_lt _ (by omega), Or.inl ?_⟩).1
  have e : (h + (y + (S - h % S)) % S) % S = y := by
    have hh := Nat.mod_lt h (show 0 < S by omega)
    rw [Nat.add_mod_mod, ← Nat.mod_add_mod h S, show h % S + (y + (S - h % S)) = y + S by omega, Nat.add_mod_right, Nat.mod_eq_of_lt h1]
  rw [e]
  exact h3
theorem prb_hit (H : hsh S M In T hs) {k : Nat} (hk : In k) (hm : mt k) (hu : ∀ k', In k' → mt k' → k' = k) : prb S T mt (hs k) < S ∧ T ((hs k + prb S T mt (hs k)) % S) = k + 1 := by
  obtain ⟨d, h1, h2, h3⟩ := H.2.2 k hk
  have hle : prb S T mt (hs k) ≤ d := by
    rcases Nat.lt_or_ge d (prb S T mt (hs k)) with w | w
    · exact absurd (by rw [h2]; exact hm) (prb_on w).2
    · exact w
  have hS : 0 < S := by omega
  refine ⟨by omega, ?_⟩
  have hz : T ((hs k + prb S T mt (hs k)) % S) ≠ 0 := by
    by_cases e : prb S T mt (hs k) = d
    · rw [e, h2]; omega
    · exact h3 _ (by omega)
  rcases prb_at (show prb S T mt (hs k) < S by omega) with w | w
  · exact absurd w hz
  · rcases H.1 ((hs k + prb S T mt (hs k)) % S) (Nat.mod_lt _ hS) with q | q
    · exact absurd q hz
    · have := hu _ q w
      omega
theorem prb_miss (H : hsh S M In T hs) (hM : M < S) (hno : ∀ k', In k' → ¬ mt k') (h : Nat) : prb S T mt h < S ∧ T ((h + prb S T mt h) % S) = 0 ∧ ∀ d, d < prb S T mt h → T ((h + d) % S) ≠ 0 := by
  have hl := prb_lt (mt := mt) H hM h
  refine ⟨hl, ?_, fun d hd => (prb_on hd).1⟩
  rcases prb_at hl with w | w
  · exact w
  · rcases H.1 ((h + prb S T mt h) % S) (Nat.mod_lt _ (by omega)) with q | q
    · exact q
    · exact absurd w (hno _ q)
theorem hsh_ins (H : hsh S M In T hs) {k0 d0 : Nat} {hs' : Nat → Nat} (e : ∀ k, In k → hs' k = hs k) (hd : d0 < S) (h0 : T ((hs' k0 + d0) % S) = 0) (h1 : ∀ d, d < d0 → T ((hs' k0 + d) % S) ≠ 0) : hsh S (M + 1) (fun k => In k ∨ k = k0) (ups T ((hs' k0 + d0) % S) (k0 + 1)) hs' := by
  have hS : 0 < S := by omega
  have hlt := Nat.mod_lt (hs' k0 + d0) hS
  have keep : ∀ j, T j ≠ 0 → ups T ((hs' k0 + d0) % S) (k0 + 1) j = T j := fun j hj => ups_ne (fun q => hj (q ▸ h0))
  refine ⟨fun j hj => ?_, ?_, fun k hk => ?_⟩
  · by_cases q : j = (hs' k0 + d0) % S
    · rw [q, ups_eq]; exact Or.inr (Or.inr (by omega))
    · rw [ups_ne q]
      exact (H.1 j hj).imp id Or.inl
  · have e2 : (fun j => decide (ups T ((hs' k0 + d0) % S) (k0 + 1) j ≠ 0)) = ups (fun j => decide (T j ≠ 0)) ((hs' k0 + d0) % S) true := by
      funext j
      by_cases q : j = (hs' k0 + d0) % S
      · rw [q, ups_eq, ups_eq]; exact decide_eq_true (by omega)
      · rw [ups_ne q, ups_ne q]
    rw [e2, cntB_up (decide_eq_false (fun q => q h0)) S hlt]
    have := H.2.1
    omega
  · rcases hk with hk | hk
    · obtain ⟨d, a1, a2, a3⟩ := H.2.2 k hk
      rw [e k hk]
      refine ⟨d, a1, by rw [keep _ (by rw [a2]; omega)]; exact a2, fun d' hd' => ?_⟩
      rw [keep _ (a3 d' hd')]
      exact a3 d' hd'
    · subst hk
      refine ⟨d0, hd, ups_eq, fun d' hd' => ?_⟩
      rw [keep _ (h1 d' hd')]
      exact h1 d' hd'
end
