set_option maxRecDepth 100000
theorem i10 : ((1 : Int) = 0) = False := by decide
theorem iand255 (x : Int) : iand x 255 = x % 256 := iand_mask (k := 8) (by decide)
theorem t0 : (0 : Int64).toInt = 0 := rfl
theorem t1 : (1 : Int64).toInt = 1 := rfl
theorem t3 : (3 : Int64).toInt = 3 := rfl
theorem t4 : (4 : Int64).toInt = 4 := rfl
theorem t8 : (8 : Int64).toInt = 8 := rfl
/-- all but the twin's code -/
def P0 (a k : Nat) : Prop := ¬ (a = 2075 ∧ k = 0)
def I_told (σ : St) : Prop := ∃ n : Nat, n ≤ 1030 ∧ (σ.1 0 22 = (n : Int) ∧ σ.1 2075 143 = (n : Int)) ∧ σ.1 0 23 = σ.1 2075 144 ∧ σ.1 0 24 = σ.1 2075 145 ∧ ∀ k, k < n → σ.1 108 k = σ.1 2186 k
def I_wr (σ : St) : Prop := ∃ n : Nat, n ≤ 60000 ∧ (σ.1 0 13 = (n : Int) ∧ σ.1 2075 87 = (n : Int)) ∧ ∀ k, k < n → σ.1 50 k = σ.1 2138 k ∧ 0 ≤ σ.1 50 k ∧ σ.1 50 k ≤ 127
def I_pl (σ : St) : Prop := σ.1 0 3 = σ.1 2075 29
def I_ring (σ : St) : Prop := ∃ n : Nat, n ≤ 200 ∧ (σ.1 0 9 = (n : Int) ∧ σ.1 2075 78 = (n : Int)) ∧ ∀ k, k < n → σ.1 36 k = σ.1 2134 k
def I_tab (σ : St) : Prop := ∃ n : Nat, n ≤ 300 ∧ (σ.1 73 5 = (n : Int) ∧ σ.1 2075 132 = (n : Int)) ∧ ∀ k, k < n → (σ.1 74 k = σ.1 2178 k ∧ σ.1 75 k = σ.1 2179 k ∧ σ.1 76 k = σ.1 2181 k ∧ σ.1 77 k = σ.1 2182 k) ∧ (0 ≤ σ.1 75 k ∧ σ.1 75 k ≤ 5) ∧ ∀ j : Nat, (j : Int) < σ.1 75 k → σ.1 78 (5 * k + j) = σ.1 2180 (5 * k + j)
theorem op_place {σ : St} (h : I_pl σ) : both2 F_X0_place F_X15_place σ (fun τ => agr P0 σ τ) := by
  unfold both2
  simp (disch := omega) only [F_X0_place, F_X15_place, wp_bd, wp_rt, wp_lt, wp_ite, wp_gI, wp_pI, stA_eq, stA_ne, stA_stA, tn, ups_ne]
  exact ⟨h, (by intro b k hp; unfold P0 at hp; refine ⟨?_, ?_, ?_⟩ <;> (try dsimp only) <;> simp only [stA_app, ups_app] <;> (repeat' split) <;> (try subst_vars) <;> first | rfl | (exfalso; omega))⟩
theorem op_patternAt {a : Int} (ha : inR a) {σ : St} (h : I_pat σ) : both2 (F_X0_patternAt a) (F_X15_patternAt a) σ (fun τ => agr P0 σ τ) := by
  obtain ⟨n, hn, h1, h2, h3⟩ := h
  obtain ⟨ha1, ha2⟩ := ha
  unfold both2
  simp (disch := omega) only [F_X0_patternAt, F_X15_patternAt, wp_bd, wp_rt, wp_lt, wp_ite, wp_rdI, wp_gI, wp_pI, stA_eq, stA_ne, stA_stA, w32_i, L104, L2192, tn, ups_ne, h1, h2, wp_isIn, wp_in15, i2l_t, show (0 : Int64).toInt = 0 from rfl]
  by_cases h : 0 ≤ a ∧ a ≤ (n : Int) - 1
  · obtain ⟨k, rfl⟩ := Int.eq_ofNat_of_zero_le h.1
    have e := h3 k (by omega)
    simp (disch := omega) only [h, and_self, if_true, if_false, tn, e, i10, true_and]
    exact ⟨by omega, by omega, (by intro b k hp; unfold P0 at hp; refine ⟨?_, ?_, ?_⟩ <;> (try dsimp only) <;> simp only [stA_app, ups_app] <;> (repeat' split) <;> (try subst_vars) <;> first | rfl | (exfalso; omega))⟩
  · simp only [h, if_false, if_true]
    exact ⟨trivial, (by intro b k hp; unfold P0 at hp; refine ⟨?_, ?_, ?_⟩ <;> (try dsimp only) <;> simp only [stA_app, ups_app] <;> (repeat' split) <;> (try subst_vars) <;> first | rfl | (exfalso; omega))⟩
theorem op_forget {σ : St} (h : I_pat σ) : both2 F_X0_forget F_X15_forget σ (fun τ => I_pat τ ∧ agr (fun a k => P0 a k ∧ ¬ P_pat a k) σ τ) := by
  obtain ⟨n, hn, h1, h2, h3⟩ := h
  unfold both2
  simp (disch := omega) only [F_X0_forget, F_X15_forget, wp_bd, wp_rt, wp_lt, wp_ite, wp_gI, wp_pI, stA_eq, stA_ne, stA_stA, tn, ups_ne, h1, h2]
  refine ⟨trivial, ⟨0, by omega, ?_, ?_, fun k hk => absurd hk (Nat.not_lt_zero k)⟩, (by intro b k hp; unfold P0 P_pat at hp; refine ⟨?_, ?_, ?_⟩ <;> (try dsimp only) <;> simp only [stA_app, ups_app] <;> (repeat' split) <;> (try subst_vars) <;> first | rfl | (exfalso; omega))⟩
  · simp (disch := omega) only [stA_ne, stA_eq, ups_eq]; rfl
  · simp (disch := omega) only [stA_eq, ups_eq]; rfl
theorem op_told {a : Int} (ha : inR a) {σ : St} (h : I_told σ) : both2 (F_X0_told a) (F_X15_told a) σ (fun τ => agr P0 σ τ) := by
  obtain ⟨n, hn, ⟨h1, h2⟩, h3, h4, h5⟩ := h
  obtain ⟨ha1, ha2⟩ := ha
  have hz : agr P0 σ (stA σ.1 2075 (ups (σ.1 2075) 0 0), σ.2) := (by intro b k hp; unfold P0 at hp; refine ⟨?_, ?_, ?_⟩ <;> (try dsimp only) <;> simp only [stA_app, ups_app] <;> (repeat' split) <;> (try subst_vars) <;> first | rfl | (exfalso; omega))
  unfold both2
  by_cases e0 : a = 0
  · subst e0
    simp (disch := omega) only [F_X0_told, F_X15_told, wp_bd, wp_rt, wp_lt, wp_ite, wp_rdI, wp_gI, wp_pI, stA_eq, stA_ne, stA_stA, w32_i, L108, L2186, tn, ups_ne, h1, h2, if_true, Int.le_refl, true_and]
    first | exact hz | exact ⟨trivial, hz⟩
  by_cases e1 : a = 1
  · subst e1
    simp (disch := omega) only [F_X0_told, F_X15_told, wp_bd, wp_rt, wp_lt, wp_ite, wp_rdI, wp_gI, wp_pI, stA_eq, stA_ne, stA_stA, w32_i, L108, L2186, tn, ups_ne, h3, if_true, if_false, i10, show ((0 : Int) ≤ 1) = True from by decide, true_and]
    first | exact hz | exact ⟨trivial, hz⟩
  by_cases e2 : a = 2
  · subst e2
    simp (disch := omega) only [F_X0_told, F_X15_told, wp_bd, wp_rt, wp_lt, wp_ite, wp_rdI, wp_gI, wp_pI, stA_eq, stA_ne, stA_stA, w32_i, L108, L2186, tn, ups_ne, h4, if_true, if_false, show ((2 : Int) = 0) = False from by decide, show ((2 : Int) = 1) = False from by decide, show ((0 : Int) ≤ 2) = True from by decide, true_and]
    first | exact hz | exact ⟨trivial, hz⟩
  by_cases e3 : 0 ≤ a
  · simp (disch := omega) only [F_X0_told, F_X15_told, wp_bd, wp_rt, wp_lt, wp_ite, wp_rdI, wp_gI, wp_pI, stA_eq, stA_ne, stA_stA, w32_i, L108, L2186, tn, ups_ne, h1, h2, if_true, if_false, e0, e1, e2, e3, true_and]
    by_cases h : (n : Int) ≤ a - 3
    · simp only [h, if_true]
      first | exact hz | exact ⟨trivial, hz⟩
    · simp only [h, if_false]
      have e := h5 (a - 3).toNat (by omega)
      rw [e]
      exact ⟨by omega, by omega, rfl, hz⟩
  · simp (disch := omega) only [F_X0_told, F_X15_told, wp_bd, wp_rt, wp_lt, wp_ite, wp_rdI, wp_gI, wp_pI, stA_eq, stA_ne, stA_stA, w32_i, L108, L2186, tn, e0, e1, e2, e3, if_false]
    first | exact hz | exact ⟨trivial, hz⟩
theorem op_ring {a : Int} (ha : inR a) {σ : St} (h : I_ring σ) : both2 (F_X0_ring a) (F_X15_ring a) σ (fun τ => agr P0 σ τ) := by
  obtain ⟨n, hn, ⟨h1, h2⟩, h3⟩ := h
  obtain ⟨ha1, ha2⟩ := ha
  have hz : agr P0 σ (stA σ.1 2075 (ups (σ.1 2075) 0 0), σ.2) := (by intro b k hp; unfold P0 at hp; refine ⟨?_, ?_, ?_⟩ <;> (try dsimp only) <;> simp only [stA_app, ups_app] <;> (repeat' split) <;> (try subst_vars) <;> first | rfl | (exfalso; omega))
  unfold both2
  simp (disch := omega) only [F_X0_ring, F_X15_ring, wp_bd, wp_rt, wp_lt, wp_ite, wp_rdI, wp_gI, wp_pI, stA_eq, stA_ne, stA_stA, w32_i, L36, L2134, tn, ups_ne, h1, h2, wp_isIn, wp_in15, i2l_t, show (0 : Int64).toInt = 0 from rfl]
  by_cases h : 0 ≤ a ∧ a ≤ (n : Int) - 1
  · obtain ⟨k, rfl⟩ := Int.eq_ofNat_of_zero_le h.1
    have e := h3 k (by omega)
    simp (disch := omega) only [h, and_self, if_true, if_false, tn, e, i10, true_and]
    exact ⟨by omega, by omega, hz⟩
  · simp only [h, if_false, if_true]
    first | exact hz | exact ⟨trivial, hz⟩
theorem op_octet {a : Int} (ha : inR a) {σ : St} (h : I_wr σ) : both2 (F_X0_octet a) (F_X15_octet a) σ (fun τ => agr P0 σ τ) := by
  obtain ⟨n, hn, ⟨h1, h2⟩, h3⟩ := h
  obtain ⟨ha1, ha2⟩ := ha
  have hz : agr P0 σ (stA σ.1 2075 (ups (σ.1 2075) 0 0), σ.2) := (by intro b k hp; unfold P0 at hp; refine ⟨?_, ?_, ?_⟩ <;> (try dsimp only) <;> simp only [stA_app, ups_app] <;> (repeat' split) <;> (try subst_vars) <;> first | rfl | (exfalso; omega))
  unfold both2
  simp (disch := omega) only [F_X0_octet, F_X15_octet, wp_bd, wp_rt, wp_lt, wp_ite, wp_rdB, wp_gI, wp_pI, stA_eq, stA_ne, stA_stA, w32_i, L50, L2138, tn, ups_ne, h1, h2, wp_isIn, wp_in15, i2l_t, show (0 : Int64).toInt = 0 from rfl]
  by_cases h : 0 ≤ a ∧ a ≤ (n : Int) - 1
  · obtain ⟨k, rfl⟩ := Int.eq_ofNat_of_zero_le h.1
    have e := h3 k (by omega)
    have e2 : iand (σ.1 2138 k) 255 = σ.1 2138 k := by
      rw [iand255]; omega
    simp (disch := omega) only [h, and_self, if_true, if_false, tn, e.1, i10, true_and, e2]
    exact ⟨by omega, by omega, hz⟩
  · simp only [h, if_false, if_true]
    first | exact hz | exact ⟨trivial, hz⟩
theorem op_table {a b : Int} (ha : inR a) (hb : inR b) {σ : St} (h : I_tab σ) : both2 (F_X0_table a b) (F_X15_table a b) σ (fun τ => agr P0 σ τ) := by
  obtain ⟨n, hn, ⟨h1, h2⟩, h3⟩ := h
  obtain ⟨ha1, ha2⟩ := ha
  obtain ⟨hb1, hb2⟩ := hb
  have hz : agr P0 σ (stA σ.1 2075 (ups (σ.1 2075) 0 0), σ.2) := (by intro b k hp; unfold P0 at hp; refine ⟨?_, ?_, ?_⟩ <;> (try dsimp only) <;> simp only [stA_app, ups_app] <;> (repeat' split) <;> (try subst_vars) <;> first | rfl | (exfalso; omega))
  unfold both2
  by_cases h : 0 ≤ a ∧ a ≤ (n : Int) - 1
  · obtain ⟨k, rfl⟩ := Int.eq_ofNat_of_zero_le h.1
    obtain ⟨⟨q1, q2, q3, q4⟩, q5, q6⟩ := h3 k (by omega)
    by_cases b0 : b = 0
    · simp (disch := omega) only [F_X0_table, F_X15_table, ↓wp_bd, ↓wp_rt, ↓wp_lt, wp_ifp, wp_ifn, ↓wp_gI, ↓wp_pI, stA_eq, stA_ne, stA_stA, ups_eq, ups_ne, w32_i, RI_74, RI_75, RI_76, RI_77, RI_78, RI_2178, RI_2179, RI_2180, RI_2181, RI_2182, tn, tnA, tnS, tnM, tn0, tn1, Int.reduceToNat, if_pos, if_neg, if_true, if_false, h1, h2, wp_isIn, wp_in15, i2l_t, t0, q1]
      (repeat' (first | (refine And.intro ?_ ?_) | omega | rfl | trivial)) <;> exact hz
    by_cases b1 : b = 1
    · simp (disch := omega) only [F_X0_table, F_X15_table, ↓wp_bd, ↓wp_rt, ↓wp_lt, wp_ifp, wp_ifn, ↓wp_gI, ↓wp_pI, stA_eq, stA_ne, stA_stA, ups_eq, ups_ne, w32_i, RI_74, RI_75, RI_76, RI_77, RI_78, RI_2178, RI_2179, RI_2180, RI_2181, RI_2182, tn, tnA, tnS, tnM, tn0, tn1, Int.reduceToNat, if_pos, if_neg, if_true, if_false, h1, h2, wp_isIn, wp_in15, i2l_t, t0, q2]
      (repeat' (first | (refine And.intro ?_ ?_) | omega | rfl | trivial)) <;> exact hz
    by_cases b2 : b = 2
    · simp (disch := omega) only [F_X0_table, F_X15_table, ↓wp_bd, ↓wp_rt, ↓wp_lt, wp_ifp, wp_ifn, ↓wp_gI, ↓wp_pI, stA_eq, stA_ne, stA_stA, ups_eq, ups_ne, w32_i, RI_74, RI_75, RI_76, RI_77, RI_78, RI_2178, RI_2179, RI_2180, RI_2181, RI_2182, tn, tnA, tnS, tnM, tn0, tn1, Int.reduceToNat, if_pos, if_neg, if_true, if_false, h1, h2, wp_isIn, wp_in15, i2l_t, t0, q3]
      (repeat' (first | (refine And.intro ?_ ?_) | omega | rfl | trivial)) <;> exact hz
    by_cases b3 : b = 3
    · simp (disch := omega) only [F_X0_table, F_X15_table, ↓wp_bd, ↓wp_rt, ↓wp_lt, wp_ifp, wp_ifn, ↓wp_gI, ↓wp_pI, stA_eq, stA_ne, stA_stA, ups_eq, ups_ne, w32_i, RI_74, RI_75, RI_76, RI_77, RI_78, RI_2178, RI_2179, RI_2180, RI_2181, RI_2182, tn, tnA, tnS, tnM, tn0, tn1, Int.reduceToNat, if_pos, if_neg, if_true, if_false, h1, h2, wp_isIn, wp_in15, i2l_t, t0, q4]
      (repeat' (first | (refine And.intro ?_ ?_) | omega | rfl | trivial)) <;> exact hz
    by_cases h8 : 4 ≤ b ∧ b ≤ 8
    · by_cases hq : σ.1 75 k ≤ b - 4
      · simp (disch := omega) only [F_X0_table, F_X15_table, ↓wp_bd, ↓wp_rt, ↓wp_lt, wp_ifp, wp_ifn, ↓wp_gI, ↓wp_pI, stA_eq, stA_ne, stA_stA, ups_eq, ups_ne, w32_i, RI_74, RI_75, RI_76, RI_77, RI_78, RI_2178, RI_2179, RI_2180, RI_2181, RI_2182, tn, tnA, tnS, tnM, tn0, tn1, Int.reduceToNat, if_pos, if_neg, if_true, if_false, h1, h2, wp_isIn, wp_in15, i2l_t, t0, t4, t8, ← q2]
        (repeat' (first | (refine And.intro ?_ ?_) | omega | rfl | trivial)) <;> exact hz
      · have e : (5 * (k : Int) + b - 4).toNat = 5 * k + (b - 4).toNat := by omega
        have e2 := q6 (b - 4).toNat (by omega)
        simp (disch := omega) only [F_X0_table, F_X15_table, ↓wp_bd, ↓wp_rt, ↓wp_lt, wp_ifp, wp_ifn, ↓wp_gI, ↓wp_pI, stA_eq, stA_ne, stA_stA, ups_eq, ups_ne, w32_i, RI_74, RI_75, RI_76, RI_77, RI_78, RI_2178, RI_2179, RI_2180, RI_2181, RI_2182, tn, tnA, tnS, tnM, tn0, tn1, Int.reduceToNat, if_pos, if_neg, if_true, if_false, h1, h2, wp_isIn, wp_in15, i2l_t, t0, t4, t8, ← q2]
        (repeat' (first | (refine And.intro ?_ ?_) | omega | rfl | trivial)) <;> first | exact hz | (rw [show 5 * k + b.toNat - 4 = 5 * k + (b - 4).toNat by omega, e2])
    · simp (disch := omega) only [F_X0_table, F_X15_table, ↓wp_bd, ↓wp_rt, ↓wp_lt, wp_ifp, wp_ifn, ↓wp_gI, ↓wp_pI, stA_eq, stA_ne, stA_stA, ups_eq, ups_ne, w32_i, RI_74, RI_75, RI_76, RI_77, RI_78, RI_2178, RI_2179, RI_2180, RI_2181, RI_2182, tn, tnA, tnS, tnM, tn0, tn1, Int.reduceToNat, if_pos, if_neg, if_true, if_false, h1, h2, wp_isIn, wp_in15, i2l_t, t0, t4, t8]
      (repeat' (first | (refine And.intro ?_ ?_) | omega | rfl | trivial)) <;> exact hz
  · simp (disch := omega) only [F_X0_table, F_X15_table, ↓wp_bd, ↓wp_rt, ↓wp_lt, wp_ifp, wp_ifn, ↓wp_gI, ↓wp_pI, stA_eq, stA_ne, stA_stA, ups_eq, ups_ne, w32_i, RI_74, RI_75, RI_76, RI_77, RI_78, RI_2178, RI_2179, RI_2180, RI_2181, RI_2182, tn, tnA, tnS, tnM, tn0, tn1, Int.reduceToNat, if_pos, if_neg, if_true, if_false, h1, h2, wp_isIn, wp_in15, i2l_t, t0]
    (repeat' (first | (refine And.intro ?_ ?_) | omega | rfl | trivial)) <;> exact hz
