set_option maxRecDepth 100000
theorem wp_endOf {s : Nat} (hs : s < 5) {N : NetV} {σ : St} (hN : netM σ s N) (hw : netW N) {k : Nat} (hk : k < v_o N + v_l N) {Q : Int → St → Prop} : wp (F_X15_endOf (s : Int) (k : Int)) σ Q = Q (rootV N k : Int) σ := by
  have hb := hw.1
  simp (disch := omega) only [F_X15_endOf, wp_bd, wp_ite, wp_rdI, wp_rt, hN.1.2.2.2, LM, tn, w32_i]
  unfold rootV
  by_cases h : k < v_o N
  · rw [if_neg (by omega), if_pos h, show ((64 : Int) * (s : Int) + (k : Int)).toNat = 64 * s + k by omega, hN.2.2.1 k h]
    exact propext ⟨fun q => q.2.2, fun q => ⟨by omega, by omega, q⟩⟩
  · rw [if_pos (by omega), if_neg h, show ((200 : Int) * (s : Int) + (k : Int) - (v_o N : Int)).toNat = 200 * s + (k - v_o N) by omega, (hN.2.2.2 _ (by omega)).1]
    exact propext ⟨fun q => q.2.2.2, fun q => ⟨by omega, by omega, by omega, q⟩⟩
theorem wp_levels {s : Nat} (hs : s < 5) {N : NetV} {σ0 : St} (hN : netM σ0 s N) (hw : netW N) {Q : Int → St → Prop} (k : ∀ g, Q (lvlK N (v_o N + v_l N) : Nat) (stA σ0.1 2164 g, σ0.2)) : wp (F_X15_levels (s : Int)) σ0 Q := by
  have hb := hw.1
  have hf := FU_ge
  have hN2 : ∀ g, netM (stA σ0.1 2164 g, σ0.2) s N := fun g => by unfold netM; simp (disch := omega) only [stA_ne]; exact hN
  simp only [F_X15_levels, wp_lt]
  refine loopM (L := fun f (x : Int) => X15_levels_4 f (s : Int) 0 x) (fun m x σ => ∃ (j : Nat) (g : Nat → Int), x = (j : Int) ∧ m + j = v_i N + v_l N + 1 ∧ σ = (stA σ0.1 2164 g, σ0.2) ∧ ∀ i, i < j → g i = 0) ?_ FU (v_i N + v_l N + 1) 0 σ0 (by omega) ⟨0, σ0.1 2164, rfl, rfl, by rw [stA_self], fun i h => absurd h (Nat.not_lt_zero i)⟩
  rintro f m x σ ⟨j, g, rfl, hm, rfl, hg⟩ ih
  simp (disch := omega) only [X15_levels_4, F_X15_vars, wp_bd, wp_rt, wp_lt, wp_ite, wp_rdI, wp_wrI, stA_ne, stA_eq, stA_stA, hN.1.1, hN.1.2.1, w32_i, LM, tn]
  refine ⟨by omega, by omega, ?_⟩
  by_cases h : v_i N + v_l N < j
  · rw [if_pos (by omega)]
    clear ih
    simp only [X15_levels_26, wp_lt]
    refine loopM (L := fun f (x : Int) => X15_levels_28 f (s : Int) 0 x) (fun m x σ => ∃ (j : Nat) (g : Nat → Int), x = (j : Int) ∧ m + j = v_a N ∧ σ = (stA σ0.1 2164 g, σ0.2) ∧ ∀ i, i < v_i N + v_l N + 1 + j → g i = (dpK N j i : Int)) ?_ FU (v_a N) 0 _ (by omega) ⟨0, g, rfl, rfl, rfl, fun i h => hg i (by omega)⟩
    clear hg hm h g j f m
    rintro f m x σ ⟨j, g, rfl, hm, rfl, hg⟩ ih
    by_cases h : j < v_a N
    · have h1 := hN.2.1 j h
      have h2 := hw.2.1 j h
      have h3 := dpK_le N j (v_lo N j / 2)
      have h4 := dpK_le N j (v_hi N j / 2)
      have e0 : ((4000 : Int) * (s : Int) + (j : Int)).toNat = 4000 * s + j := by omega
      have e1 : ((v_lo N j : Int) / 2).toNat = v_lo N j / 2 := by omega
      have e2 : ((v_hi N j : Int) / 2).toNat = v_hi N j / 2 := by omega
      have e3 : ((v_i N : Int) + (v_l N : Int) + 1 + (j : Int)).toNat = v_i N + v_l N + 1 + j := by omega
      have g1 := hg (v_lo N j / 2) (by omega)
      have g2 := hg (v_hi N j / 2) (by omega)
      simp (disch := omega) only [X15_levels_28, X15_levels_106, F_X15_vars, wp_bd, wp_rt, wp_lt, wp_gI, wp_ite, wp_rdI, wp_wrI, stA_ne, stA_eq, stA_stA, hN.1.1, hN.1.2.1, hN.1.2.2.1, w32_i, LM, tn, h1, idiv_pos, e0, e1, e2, e3, g1, g2]
      rw [if_neg (by omega)]
      have key : ∀ v : Int, v = (1 + max (dpK N j (v_lo N j / 2)) (dpK N j (v_hi N j / 2)) : Nat) → wp (X15_levels_28 f (s : Int) 0 ((j : Int) + 1)) (stA σ0.1 2164 (ups g (v_i N + v_l N + 1 + j) v), σ0.2) Q := by
        intro v hv
        subst hv
        refine ih (m - 1) _ _ (by omega) ⟨j + 1, _, rfl, by omega, rfl, fun i hi => ?_⟩
        rw [dpK_succ]
        by_cases e : i = v_i N + v_l N + 1 + j
        · subst e; rw [ups_eq, ups_eq]
        · rw [ups_ne e, ups_ne e]; exact hg i (by omega)
      refine ⟨by omega, by omega, by omega, by omega, by omega, by omega, by omega, ?_⟩
      split
      · exact ⟨by omega, key _ (by omega)⟩
      · exact ⟨by omega, key _ (by omega)⟩
    · have hj : j = v_a N := by omega
      subst hj
      clear ih
      simp (disch := omega) only [X15_levels_28, wp_bd, wp_rdI, wp_ite, stA_ne, hN.1.2.2.1, LM, tn]
      rw [if_pos (Int.le_refl _)]
      refine ⟨by omega, ?_⟩
      simp only [X15_levels_114, wp_lt]
      refine loopM (L := fun f (x : Int × Int) => X15_levels_116 f (s : Int) x.1 x.2) (fun m x σ => ∃ j : Nat, x = ((lvlK N j : Int), (j : Int)) ∧ m + j = v_o N + v_l N ∧ σ = (stA σ0.1 2164 g, σ0.2)) ?_ FU (v_o N + v_l N) (0, 0) _ (by omega) ⟨0, rfl, by omega, rfl⟩
      rintro f m x σ ⟨j, rfl, hm, rfl⟩ ih
      have hl := lvlK_le N j
      by_cases h : j < v_o N + v_l N
      · have h1 := rootV_lt hw h
        have h2 := dpK_le N (v_a N) (rootV N j / 2)
        have e1 : ((rootV N j : Int) / 2).toNat = rootV N j / 2 := by omega
        have g1 := hg (rootV N j / 2) (by omega)
        simp (disch := omega) only [X15_levels_116, X15_levels_160, wp_bd, wp_rt, wp_lt, wp_ite, wp_rdI, stA_ne, stA_eq, hN.1.2.1, hN.1.2.2.2, w32_i, LM, tn, wp_endOf hs (hN2 g) hw h, idiv_pos, e1, g1]
        rw [if_neg (by omega)]
        refine ⟨by omega, by omega, by omega, ?_⟩
        split
        · exact ih (m - 1) (_, _) _ (by omega) ⟨j + 1, Prod.ext (by rw [lvlK_succ]; show (lvlK N j : Int) = _; omega) (by show (j : Int) + 1 = _; omega), by omega, rfl⟩
        · exact ih (m - 1) (_, _) _ (by omega) ⟨j + 1, Prod.ext (by rw [lvlK_succ]; show (dpK N (v_a N) _ : Int) = _; omega) (by show (j : Int) + 1 = _; omega), by omega, rfl⟩
      · have hj : j = v_o N + v_l N := by omega
        subst hj
        simp (disch := omega) only [X15_levels_116, wp_bd, wp_rt, wp_rdI, wp_ite, stA_ne, hN.1.2.1, hN.1.2.2.2, w32_i, LM, tn]
        rw [if_pos (by omega)]
        exact ⟨by omega, by omega, k g⟩
  · rw [if_neg (by omega)]
    refine ⟨by omega, ih (m - 1) _ _ (by omega) ⟨j + 1, _, rfl, by omega, rfl, fun i hi => ?_⟩⟩
    by_cases e : i = j
    · subst e; exact ups_eq
    · rw [ups_ne e]; exact hg i (by omega)
