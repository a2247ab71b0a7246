set_option maxRecDepth 100000
set_option maxHeartbeats 400000
theorem chOk_ins {hd ch : Nat → Int} {n h : Nat} {hs hs' : Nat → Nat} (H : chOk hd ch n hs) (e : ∀ k, k < n → hs' k = hs k) (e2 : hs' n = h) (hh : h < 16384) : chOk (ups hd h (n : Int)) (ups ch n (hd h)) (n + 1) hs' := by
  obtain ⟨h1, h2⟩ := H
  refine ⟨fun h' hh' => ?_, fun k hk => ?_⟩
  · by_cases c : h' = h
    · subst c
      exact Or.inr ⟨n, by omega, by rw [ups_eq], e2, fun k' q1 q2 => by omega⟩
    · rw [ups_ne c]
      rcases h1 h' hh' with ⟨q1, q2⟩ | ⟨k, q1, q2, q3, q4⟩
      · refine Or.inl ⟨q1, fun k hk => ?_⟩
        by_cases c2 : k = n
        · subst c2; rw [e2]; exact fun q => c q.symm
        · rw [e k (by omega)]; exact q2 k (by omega)
      · refine Or.inr ⟨k, by omega, q2, by rw [e k q1]; exact q3, fun k' a1 a2 => ?_⟩
        by_cases c2 : k' = n
        · subst c2; rw [e2]; exact fun q => c q.symm
        · rw [e k' (by omega)]; exact q4 k' a1 (by omega)
  · by_cases c : k = n
    · subst c
      rw [ups_eq, e2]
      rcases h1 h hh with ⟨q1, q2⟩ | ⟨k1, q1, q2, q3, q4⟩
      · exact Or.inl ⟨q1, fun k' hk' => by rw [e k' hk']; exact q2 k' hk'⟩
      · exact Or.inr ⟨k1, q1, q2, by rw [e k1 q1]; exact q3, fun k' a1 a2 => by rw [e k' a2]; exact q4 k' a1 a2⟩
    · have hkn : k < n := by omega
      rw [ups_ne c, e k hkn]
      rcases h2 k hkn with ⟨q1, q2⟩ | ⟨k1, q1, q2, q3, q4⟩
      · exact Or.inl ⟨q1, fun k' hk' => by rw [e k' (by omega)]; exact q2 k' hk'⟩
      · exact Or.inr ⟨k1, q1, q2, by rw [e k1 (by omega)]; exact q3, fun k' a1 a2 => by rw [e k' (by omega)]; exact q4 k' a1 a2⟩
theorem and15 {i l : Nat} (hi : i ≤ 64 ∧ l ≤ 200) {B : NB} {σ : St} (h : mkT σ i l B) (hB : wfB (i + l) B) {a b : Nat} (ha : ltB (i + l) B a) (hb : ltB (i + l) B b) : ∃ τ, F_X15_and (a : Int) (b : Int) σ = some (((andB (i + l) a b B).1 : Int), τ) ∧ mkT τ i l (andB (i + l) a b B).2 ∧ FrT_o σ τ := by
  have hm := h
  obtain ⟨⟨k1, k2, k3⟩, k5, k6, k7⟩ := h
  obtain ⟨b1, b2, b3⟩ := hB
  unfold ltB at ha hb
  have key : wp (F_X15_and (a : Int) (b : Int)) σ (fun r τ => r = ((andB (i + l) a b B).1 : Int) ∧ mkT τ i l (andB (i + l) a b B).2 ∧ FrT_o σ τ) := by
    unfold andB
    by_cases c1 : min a b = 0 ∨ ng (min a b) = max a b
    · rw [if_pos c1]
      exact an2_0 rfl rfl (by omega) c1 ⟨rfl, hm, FrT_o.refl⟩
    rw [if_neg c1]
    by_cases c2 : min a b = 1 ∨ min a b = max a b
    · rw [if_pos c2]
      exact an2_y rfl rfl (by omega) c1 c2 ⟨rfl, hm, FrT_o.refl⟩
    rw [if_neg c2]
    have hxy : max a b < 8530 := by omega
    refine an2_s rfl rfl hxy c1 c2 ?_
    generalize hx : min a b = x
    generalize hy : max a b = y
    have hh := hcT_lt x y
    refine an2_80 b1 k5 k7 rfl (fun hno => ?_) (fun k hk q1 q2 => ?_)
    · have hl : ¬ lst (fun k => B.2.1 k = x ∧ B.2.2.1 k = y) B.1 < B.1 := fun q => hno _ q ((lst_spec (fun k => B.2.1 k = x ∧ B.2.2.1 k = y) B.1).2.2 q)
      rw [if_neg hl]
      by_cases c4 : B.1 = 4000
      · rw [if_pos c4]
        generalize hQ : (fun (r : Int) (τ : St) => r = (((0, B.1, B.2.1, B.2.2.1, true) : Nat × NB).1 : Int) ∧ mkT τ i l ((0, B.1, B.2.1, B.2.2.1, true) : Nat × NB).2 ∧ FrT_o σ τ) = Q
        simp (disch := omega) only [X15_and_149, ↓wp_bd, ↓wp_rt, ↓wp_lt, wp_ifp, wp_ifn, c_pZ, stA_eq, stA_ne, stA_stA, ups_eq, ups_ne, w32_i, RI_2142, RI_2143, RI_2144, RV_2144, RV_2146, RV_2147, RI_2151, RV_2151, RV_2152, tn, tnA, tnS, tnM, tn0, tn1, Int.reduceToNat, if_pos, if_neg, if_true, if_false, k3]
        rw [← hQ]
        refine ⟨rfl, ⟨⟨?_, ?_, ?_⟩, fun k hk => ?_, ?_, ?_⟩, ⟨fun a q1 _ _ _ _ _ => ?_, fun k hk => ?_, fun k _ => ?_, fun k _ => ?_, rfl⟩⟩
        · simp (disch := omega) only [stA_ne]; exact k1
        · simp (disch := omega) only [stA_ne]; exact k2
        · simp (disch := omega) only [stA_ne]; exact k3
        · simp (disch := omega) only [stA_ne]; exact k5 k hk
        · simp (disch := omega) only [stA_eq, ups_eq]; rfl
        · simp (disch := omega) only [stA_ne]; exact k7
        · simp (disch := omega) only [stA_ne]
        · simp (disch := omega) only [stA_eq, ups_ne]
        · simp (disch := omega) only [stA_ne]
        · simp (disch := omega) only [stA_ne, and_self]
      · rw [if_neg c4]
        generalize hQ : (fun (r : Int) (τ : St) => r = (((2 * (i + l + 1 + B.1), B.1 + 1, ups B.2.1 B.1 x, ups B.2.2.1 B.1 y, B.2.2.2) : Nat × NB).1 : Int) ∧ mkT τ i l ((2 * (i + l + 1 + B.1), B.1 + 1, ups B.2.1 B.1 x, ups B.2.2.1 B.1 y, B.2.2.2) : Nat × NB).2 ∧ FrT_o σ τ) = Q
        simp (disch := omega) only [X15_and_149, ↓wp_bd, ↓wp_rt, ↓wp_lt, wp_ifp, wp_ifn, c_pZ, stA_eq, stA_ne, stA_stA, ups_eq, ups_ne, w32_i, RI_2142, RI_2143, RI_2144, RV_2144, RV_2146, RV_2147, RI_2151, RV_2151, RV_2152, tn, tnA, tnS, tnM, tn0, tn1, Int.reduceToNat, if_pos, if_neg, if_true, if_false, k1, k2, k3]
        rw [← hQ]
        have hins := chOk_ins k7 (h := hcT x y) (hs' := fun k => hcT (ups B.2.1 B.1 x k) (ups B.2.2.1 B.1 y k)) (fun k hk => by rw [ups_ne (by omega), ups_ne (by omega)]) (by rw [ups_eq, ups_eq]) hh
        refine ⟨by dsimp only; omega, ⟨⟨?_, ?_, ?_⟩, fun k hk => ?_, ?_, ?_⟩, ⟨fun a q1 q2 q3 q4 q5 q6 => ?_, fun k hk => ?_, fun k hk => ?_, fun k hk => ?_, rfl⟩⟩
        · simp (disch := omega) only [stA_ne]; exact k1
        · simp (disch := omega) only [stA_ne]; exact k2
        · simp (disch := omega) only [stA_ne, stA_eq, ups_eq]; omega
        · dsimp only at hk ⊢
          by_cases e : k = B.1
          · subst e; simp (disch := omega) only [stA_ne, stA_eq, ups_eq, and_self]
          · simp (disch := omega) only [stA_ne, stA_eq, ups_ne]; exact k5 k (by omega)
        · simp (disch := omega) only [stA_ne]; exact k6
        · simp (disch := omega) only [stA_ne, stA_eq]; exact hins
        · simp (disch := omega) only [stA_ne]
        · simp (disch := omega) only [stA_ne]
        · simp (disch := omega) only [stA_ne, stA_eq, ups_ne]
        · simp (disch := omega) only [stA_ne, stA_eq, ups_ne, and_self]
    · have hl : lst (fun k => B.2.1 k = x ∧ B.2.2.1 k = y) B.1 = k := lst_eq hk ⟨q1, q2⟩ (fun j hj q3 => by
        have := b3 j k (by omega) hk (q3.1.trans q1.symm) (q3.2.trans q2.symm)
        omega)
      rw [hl, if_pos hk]
      generalize hQ : (fun (r : Int) (τ : St) => r = (((2 * (i + l + 1 + k), B) : Nat × NB).1 : Int) ∧ mkT τ i l ((2 * (i + l + 1 + k), B) : Nat × NB).2 ∧ FrT_o σ τ) = Q
      simp (disch := omega) only [X15_and_116, ↓wp_bd, ↓wp_rt, ↓wp_lt, wp_ifp, wp_ifn, stA_eq, stA_ne, stA_stA, ups_eq, ups_ne, w32_i, RI_2142, RI_2143, tn, tnA, tnS, tnM, tn0, tn1, Int.reduceToNat, if_pos, if_neg, if_true, if_false, k1, k2]
      rw [← hQ]
      exact ⟨by dsimp only; omega, hm, FrT_o.refl⟩
  obtain ⟨r, τ, e, rfl, q⟩ := key
  exact ⟨τ, e, q⟩
