set_option maxRecDepth 100000
/-! ===== what holds between two calls ===== -/
theorem stA_app {α : Type} {f : Nat → Nat → α} {a b k : Nat} {g : Nat → α} : stA f a g b k = if b = a then g k else f b k := by unfold stA; split <;> rfl
theorem ups_app {α : Type} {g : Nat → α} {i j : Nat} {v : α} : ups g i v j = if j = i then v else g j := rfl
/-- one call on both sides: the same answer, and P behind it -/
def both2 (f g : St → Option (Int × St)) (σ : St) (P : St → Prop) : Prop := wp f σ (fun r σ1 => wp g σ1 (fun q τ => r = q ∧ P τ))
/-- the places of P are unchanged -/
def agr (P : Nat → Nat → Prop) (σ τ : St) : Prop := ∀ a k, P a k → τ.1 a k = σ.1 a k ∧ τ.2.1 a k = σ.2.1 a k ∧ τ.2.2 a k = σ.2.2 a k
theorem agr.refl {P : Nat → Nat → Prop} {σ : St} : agr P σ σ := fun _ _ _ => ⟨rfl, rfl, rfl⟩
theorem agr.trans {P : Nat → Nat → Prop} {σ τ υ : St} (h1 : agr P σ τ) (h2 : agr P τ υ) : agr P σ υ := fun a k h => ⟨(h2 a k h).1.trans (h1 a k h).1, (h2 a k h).2.1.trans (h1 a k h).2.1, (h2 a k h).2.2.trans (h1 a k h).2.2⟩
theorem agr.sub {P P' : Nat → Nat → Prop} {σ τ : St} (h : agr P σ τ) (hs : ∀ a k, P' a k → P a k) : agr P' σ τ := fun a k q => h a k (hs a k q)
def P_pat (a k : Nat) : Prop := (a = 99 ∧ k = 3) ∨ (a = 2075 ∧ k = 152) ∨ a = 104 ∨ a = 2192
def I_pat (σ : St) : Prop := ∃ n : Nat, n ≤ 64 ∧ σ.1 99 3 = (n : Int) ∧ σ.1 2075 152 = (n : Int) ∧ ∀ k, k < n → σ.1 104 k = σ.1 2192 k ∧ 0 ≤ σ.1 104 k ∧ σ.1 104 k ≤ 2147483647
theorem I_pat.mono {σ τ : St} (h : I_pat σ) (e : agr P_pat σ τ) : I_pat τ := by
  obtain ⟨n, h1, h2, h3, h4⟩ := h
  refine ⟨n, h1, ?_, ?_, fun k hk => ?_⟩
  · rw [(e 99 3 (by unfold P_pat; omega)).1]; exact h2
  · rw [(e 2075 152 (by unfold P_pat; omega)).1]; exact h3
  · rw [(e 104 k (by unfold P_pat; omega)).1, (e 2192 k (by unfold P_pat; omega)).1]; exact h4 k hk
theorem op_pattern {a : Int} (ha : inR a) {σ : St} (h : I_pat σ) : both2 (F_X0_pattern a) (F_X15_pattern_2 a) σ (fun τ => I_pat τ ∧ agr (fun a k => ¬ (a = 2075 ∧ k = 0) ∧ ¬ P_pat a k) σ τ) := by
  obtain ⟨n, hn, h1, h2, h3⟩ := h
  unfold both2
  by_cases h0 : 0 ≤ a
  · by_cases h64 : n = 64
    · have e64 : ((n : Int) = 64) := by omega
      simp (disch := omega) only [F_X0_pattern, F_X15_pattern_2, wp_bd, wp_rt, wp_lt, wp_ite, wp_wrI, wp_gI, wp_pI, stA_eq, stA_ne, stA_stA, w32_i, L104, L2192, tn, h1, h2, h0, e64, if_true, ups_eq, ups_ne]
      refine ⟨trivial, I_pat.mono ⟨n, hn, h1, h2, h3⟩ (by intro b k hp; unfold P_pat at hp; refine ⟨?_, ?_, ?_⟩ <;> (try dsimp only) <;> simp only [stA_app, ups_app] <;> (repeat' split) <;> (try subst_vars) <;> first | rfl | (exfalso; omega)), (by intro b k hp; unfold P_pat at hp; refine ⟨?_, ?_, ?_⟩ <;> (try dsimp only) <;> simp only [stA_app, ups_app] <;> (repeat' split) <;> (try subst_vars) <;> first | rfl | (exfalso; omega))⟩
    · have e64 : ¬ ((n : Int) = 64) := by omega
      simp (disch := omega) only [F_X0_pattern, F_X15_pattern_2, wp_bd, wp_rt, wp_lt, wp_ite, wp_wrI, wp_gI, wp_pI, stA_eq, stA_ne, stA_stA, w32_i, L104, L2192, tn, h1, h2, h0, e64, if_true, if_false, ups_eq, ups_ne]
      refine ⟨by omega, by omega, trivial, ⟨n + 1, by omega, ?_, ?_, fun k hk => ?_⟩, (by intro b k hp; unfold P_pat at hp; refine ⟨?_, ?_, ?_⟩ <;> (try dsimp only) <;> simp only [stA_app, ups_app] <;> (repeat' split) <;> (try subst_vars) <;> first | rfl | (exfalso; omega))⟩
      · simp (disch := omega) only [stA_ne, stA_eq, ups_eq]; rfl
      · simp (disch := omega) only [stA_eq, ups_eq]; rfl
      · simp (disch := omega) only [stA_ne, stA_eq]
        by_cases e : k = n
        · subst e; rw [ups_eq, ups_eq]; exact ⟨rfl, h0, ha.2⟩
        · rw [ups_ne e, ups_ne e]; exact h3 k (by omega)
  · simp (disch := omega) only [F_X0_pattern, F_X15_pattern_2, wp_bd, wp_rt, wp_lt, wp_ite, wp_wrI, wp_gI, wp_pI, stA_eq, stA_ne, stA_stA, w32_i, L104, L2192, tn, h0, if_false]
    exact ⟨trivial, I_pat.mono ⟨n, hn, h1, h2, h3⟩ (by intro b k hp; unfold P_pat at hp; refine ⟨?_, ?_, ?_⟩ <;> (try dsimp only) <;> simp only [stA_app, ups_app] <;> (repeat' split) <;> (try subst_vars) <;> first | rfl | (exfalso; omega)), (by intro b k hp; unfold P_pat at hp; refine ⟨?_, ?_, ?_⟩ <;> (try dsimp only) <;> simp only [stA_app, ups_app] <;> (repeat' split) <;> (try subst_vars) <;> first | rfl | (exfalso; omega))⟩
