set_option maxRecDepth 100000
set_option maxHeartbeats 400000
def NB0 : NB := (0, fun _ => 0, fun _ => 0, false)
theorem wfB0 (lv : Nat) : wfB lv NB0 := ⟨Nat.zero_le _, fun k hk => absurd hk (Nat.not_lt_zero k), fun k k' hk => absurd hk (Nat.not_lt_zero k)⟩
theorem hsh0 {hs : Nat → Nat} : hsh 16384 0 (fun k => k < 0) (fun _ => 0) hs := ⟨fun j _ => Or.inl rfl, Nat.le_of_eq (cntB_none 16384 (fun _ _ => rfl)), fun k hk => absurd hk (Nat.not_lt_zero k)⟩
theorem beginX {w o : Nat} (hw : isW w) (ho : isN o) {σ : St} {i l : Nat} : ∃ g, F_X4_begin w o (i : Int) (l : Int) σ = some ((), stA (stA σ.1 o (ups (ups (ups (ups (σ.1 o) 0 (i : Int)) 1 (l : Int)) 2 0) 3 0)) (w + 1) g, σ.2.1, stA σ.2.2 w (ups (σ.2.2 w) 1 (some o))) ∧ ∀ j, j < 16384 → g j = 0 := by
  have hf := FU_ge
  have hw2 : w = 38 ∨ w = 59 := hw
  have hn := isN_le ho
  have key : wp (F_X4_begin w o (i : Int) (l : Int)) σ (fun _ τ => ∃ g, τ = (stA (stA σ.1 o (ups (ups (ups (ups (σ.1 o) 0 (i : Int)) 1 (l : Int)) 2 0) 3 0)) (w + 1) g, σ.2.1, stA σ.2.2 w (ups (σ.2.2 w) 1 (some o))) ∧ ∀ j, j < 16384 → g j = 0) := by
    simp (disch := omega) only [F_X4_begin, ↓wp_bd, ↓wp_rt, ↓wp_lt, wp_ifp, wp_ifn, ↓wp_pI, ↓wp_pQ, stA_eq, stA_ne, stA_stA, ups_eq, ups_ne, tn, tnA, tnS, tnM, tn0, tn1, Int.reduceToNat, if_pos, if_neg, if_true, if_false]
    refine loopI (L := fun f (y : Int) (_ : Unit) => X4_begin_28 w f y) (fun j _ τ => ∃ g, τ = (stA (stA σ.1 o (ups (ups (ups (ups (σ.1 o) 0 (i : Int)) 1 (l : Int)) 2 0) 3 0)) (w + 1) g, σ.2.1, stA σ.2.2 w (ups (σ.2.2 w) 1 (some o))) ∧ ∀ k, k < j → g k = 0) 0 16384 ?_ ?_ FU 0 () _ (by omega) (by omega) (by omega) ⟨σ.1 (w + 1), ?_, fun k hk => absurd hk (Nat.not_lt_zero k)⟩
    · rintro f j - τ - hj ⟨g, rfl, hg⟩ ih
      simp (disch := omega) only [X4_begin_28, ↓wp_bd, ↓wp_rt, ↓wp_lt, wp_ifp, wp_ifn, stA_eq, stA_ne, stA_stA, ups_eq, ups_ne, w32_i, tn, tnA, tnS, tnM, tn0, tn1, Int.reduceToNat, if_pos, if_neg, if_true, if_false, WV hw]
      refine ih () _ ⟨_, rfl, fun k hk => ?_⟩
      by_cases e : k = j
      · subst e; rw [ups_eq]
      · rw [ups_ne e]; exact hg k (by omega)
    · rintro f - τ ⟨g, rfl, hg⟩
      simp (disch := omega) only [X4_begin_28, ↓wp_bd, ↓wp_rt, ↓wp_lt, wp_ifp, wp_ifn, stA_eq, stA_ne, stA_stA, ups_eq, ups_ne, w32_i, tn, tnA, tnS, tnM, tn0, tn1, Int.reduceToNat, if_pos, if_neg, if_true, if_false]
      exact ⟨g, rfl, hg⟩
    · rw [show σ.1 (w + 1) = stA σ.1 o (ups (ups (ups (ups (σ.1 o) 0 (i : Int)) 1 (l : Int)) 2 0) 3 0) (w + 1) from (stA_ne (by omega)).symm, stA_self]
  obtain ⟨_, τ, e, g, rfl, h⟩ := key
  exact ⟨g, e, h⟩
