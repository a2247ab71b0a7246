set_option maxRecDepth 100000
theorem FU_s : ∃ f, FU = f + 1 := ⟨FU - 1, by have := FU_ge; omega⟩
def Out (P : Nat → Nat → Prop) (σ τ : St) : Prop := agr (fun a k => Vis a k ∧ ¬ P a k) σ τ
theorem Out.of {P : Nat → Nat → Prop} {σ τ : St} (h : agr Vis σ τ) : Out P σ τ := agr.sub h (fun _ _ q => q.1)
theorem agr.w {P : Nat → Nat → Prop} {σ τ : St} (h : agr P σ τ) {a : Nat} {g : Nat → Int} (hg : ∀ k, P a k → g k = σ.1 a k) : agr P σ (stA τ.1 a g, τ.2) := by
  intro b k hp
  refine ⟨?_, (h b k hp).2⟩
  show stA τ.1 a g b k = _
  by_cases e : b = a
  · subst e; rw [stA_eq]; exact hg k hp
  · rw [stA_ne e]; exact (h b k hp).1
theorem agr.v {P : Nat → Nat → Prop} {σ τ : St} (h : agr P σ τ) {a : Nat} {g : Nat → Int64} (hg : ∀ k, P a k → g k = σ.2.1 a k) : agr P σ (τ.1, stA τ.2.1 a g, τ.2.2) := by
  intro b k hp
  refine ⟨(h b k hp).1, ?_, (h b k hp).2.2⟩
  show stA τ.2.1 a g b k = _
  by_cases e : b = a
  · subst e; rw [stA_eq]; exact hg k hp
  · rw [stA_ne e]; exact (h b k hp).2.1
def I_txt (c : Nat) (σ : St) : Prop := ∃ n : Nat, n ≤ 8 * c ∧ (σ.1 2 2 = (n : Int) ∧ σ.1 2075 2 = (n : Int)) ∧ ∀ k, k < n → σ.1 4 k = σ.1 2076 k ∧ -128 ≤ σ.1 4 k ∧ σ.1 4 k ≤ 127
def P_txt (a k : Nat) : Prop := (a = 2 ∧ k = 2) ∨ a = 4 ∨ (a = 2075 ∧ k = 2) ∨ a = 2076
def P_told (a k : Nat) : Prop := (a = 0 ∧ 22 ≤ k ∧ k ≤ 24) ∨ a = 108 ∨ a = 2186 ∨ (a = 2075 ∧ 143 ≤ k ∧ k ≤ 145)
