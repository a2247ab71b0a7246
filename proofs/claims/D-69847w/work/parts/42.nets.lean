set_option maxRecDepth 100000
/-! ===== loops with an index, what a call leaves alone ===== -/
theorem loopI {α ρ : Type} {L : Nat → Int → α → St → Option (ρ × St)} {Q : ρ → St → Prop} (I : Nat → α → St → Prop) (a b : Nat) (step : ∀ f j x σ, a ≤ j → j < b → I j x σ → (∀ x' τ, I (j + 1) x' τ → wp (L f ((j : Int) + 1) x') τ Q) → wp (L (f + 1) (j : Int) x) σ Q) (fin : ∀ f x σ, I b x σ → wp (L (f + 1) (b : Int) x) σ Q) : ∀ f j x σ, a ≤ j → j ≤ b → b < f + j → I j x σ → wp (L f (j : Int) x) σ Q
  | 0, j, x, σ, _, h, h1, _ => absurd h1 (by omega)
  | f + 1, j, x, σ, h0, h, h1, hi => by
    by_cases hj : j < b
    · refine step f j x σ h0 hj hi (fun x' τ hi' => ?_)
      have := loopI I a b step fin f (j + 1) x' τ (by omega) (by omega) (by omega) hi'
      rwa [Int.natCast_add] at this
    · have hb : j = b := by omega
      subst hb
      exact fin f x σ hi
/-- a loop whose state is known at each turn -/
theorem loopS {ρ : Type} {L : Nat → Int → St → Option (ρ × St)} {Q : ρ → St → Prop} (S : Nat → St) (b : Nat) (step : ∀ f j, j < b → wp (L f ((j : Int) + 1)) (S (j + 1)) Q → wp (L (f + 1) (j : Int)) (S j) Q) (fin : ∀ f, wp (L (f + 1) (b : Int)) (S b) Q) : ∀ f j, j ≤ b → b < f + j → wp (L f (j : Int)) (S j) Q
  | 0, j, h, h1 => absurd h1 (by omega)
  | f + 1, j, h, h1 => by
    by_cases hj : j < b
    · refine step f j hj ?_
      have := loopS S b step fin f (j + 1) (by omega) (by omega)
      rwa [Int.natCast_add] at this
    · have hb : j = b := by omega
      subst hb
      exact fin f
/-- what later calls may see -/
def Vis (a k : Nat) : Prop := ¬ ((5 ≤ a ∧ a ≤ 31) ∨ (37 ≤ a ∧ a ≤ 49) ∨ (51 ≤ a ∧ a ≤ 72) ∨ (79 ≤ a ∧ a ≤ 98) ∨ (100 ≤ a ∧ a ≤ 103) ∨ (105 ≤ a ∧ a ≤ 107) ∨ a = 109 ∨ (2101 ≤ a ∧ a ≤ 2113) ∨ a = 2131 ∨ (2135 ≤ a ∧ a ≤ 2137) ∨ a = 2139 ∨ a = 2140 ∨ (2151 ≤ a ∧ a ≤ 2177) ∨ (2183 ≤ a ∧ a ≤ 2185) ∨ (2187 ≤ a ∧ a ≤ 2191) ∨ (2193 ≤ a ∧ a ≤ 2196) ∨ (a = 2 ∧ k ≠ 2) ∨ (a = 2075 ∧ ¬ (k = 2 ∨ k = 3 ∨ k = 29 ∨ k = 78 ∨ k = 87 ∨ k = 132 ∨ k = 143 ∨ k = 144 ∨ k = 145 ∨ k = 152)))
theorem agr.i {P : Nat → Nat → Prop} {σ τ : St} (h : agr P σ τ) {a : Nat} (ha : ∀ k, ¬ P a k) (g : Nat → Int) : agr P σ (stA τ.1 a g, τ.2) := by
  intro b k hp
  refine ⟨?_, (h b k hp).2⟩
  show stA τ.1 a g b k = _
  rw [stA_ne (show b ≠ a by intro e; subst e; exact ha k hp)]
  exact (h b k hp).1
theorem agr.l {P : Nat → Nat → Prop} {σ τ : St} (h : agr P σ τ) {a : Nat} (ha : ∀ k, ¬ P a k) (g : Nat → Int64) : agr P σ (τ.1, stA τ.2.1 a g, τ.2.2) := by
  intro b k hp
  refine ⟨(h b k hp).1, ?_, (h b k hp).2.2⟩
  show stA τ.2.1 a g b k = _
  rw [stA_ne (show b ≠ a by intro e; subst e; exact ha k hp)]
  exact (h b k hp).2.1
theorem agr.u {P : Nat → Nat → Prop} {σ τ : St} (h : agr P σ τ) {a i : Nat} (ha : ¬ P a i) (v : Int) : agr P σ (stA τ.1 a (ups (τ.1 a) i v), τ.2) := by
  intro b k hp
  refine ⟨?_, (h b k hp).2⟩
  show stA τ.1 a _ b k = _
  by_cases e : b = a
  · subst e
    rw [stA_eq, ups_ne (show k ≠ i by intro e; subst e; exact ha hp)]
    exact (h b k hp).1
  · rw [stA_ne e]
    exact (h b k hp).1
/-! ===== the nets of both sides ===== -/
def I_net (σ : St) : Prop := ∃ (ob : Nat → Nat) (N : Nat → NetV), (∀ s, s < 5 → σ.2.2 34 s = some (ob s) ∧ isN (ob s)) ∧ (∀ s t, s < 5 → t < 5 → ob s = ob t → s = t) ∧ ∀ s, s < 4 → σ.1 35 s = σ.1 2141 s ∧ (σ.1 35 s = 0 ∨ σ.1 35 s = 1 ∧ netW (N s) ∧ netX σ (ob s) (N s) ∧ netM σ s (N s))
def P_net (a k : Nat) : Prop := a = 34 ∨ a = 35 ∨ (737 ≤ a ∧ a ≤ 742) ∨ (1070 ≤ a ∧ a ≤ 1075) ∨ (1403 ≤ a ∧ a ≤ 1408) ∨ (1736 ≤ a ∧ a ≤ 1741) ∨ (2069 ≤ a ∧ a ≤ 2074) ∨ (2141 ≤ a ∧ a ≤ 2150)
theorem netX.mono {σ τ : St} {o : Nat} {N : NetV} (h : netX σ o N) (e : ∀ i k, i < 6 → τ.1 (o + i) k = σ.1 (o + i) k) : netX τ o N := by
  obtain ⟨⟨h1, h2, h3, h4⟩, h5, h6, h7⟩ := h
  refine ⟨⟨?_, ?_, ?_, ?_⟩, fun k hk => ?_, fun k hk => ?_, fun k hk => ?_⟩
  · rw [← h1]; exact e 0 0 (by decide)
  · rw [← h2]; exact e 0 1 (by decide)
  · rw [← h3]; exact e 0 2 (by decide)
  · rw [← h4]; exact e 0 3 (by decide)
  · rw [e 1 k (by decide), e 2 k (by decide)]; exact h5 k hk
  · rw [e 3 k (by decide)]; exact h6 k hk
  · rw [e 4 k (by decide), e 5 k (by decide)]; exact h7 k hk
theorem netM.mono {σ τ : St} {s : Nat} {N : NetV} (h : netM σ s N) (e : ∀ i, i < 9 → τ.1 (2142 + i) = σ.1 (2142 + i)) : netM τ s N := by
  unfold netM
  rw [show τ.1 2142 = σ.1 2142 from e 0 (by decide), show τ.1 2143 = σ.1 2143 from e 1 (by decide), show τ.1 2144 = σ.1 2144 from e 2 (by decide), show τ.1 2145 = σ.1 2145 from e 3 (by decide), show τ.1 2146 = σ.1 2146 from e 4 (by decide), show τ.1 2147 = σ.1 2147 from e 5 (by decide), show τ.1 2148 = σ.1 2148 from e 6 (by decide), show τ.1 2149 = σ.1 2149 from e 7 (by decide), show τ.1 2150 = σ.1 2150 from e 8 (by decide)]
  exact h
theorem I_net.mono {σ τ : St} (h : I_net σ) (e : agr P_net σ τ) : I_net τ := by
  obtain ⟨ob, N, h1, h2, h3⟩ := h
  refine ⟨ob, N, fun s hs => ?_, h2, fun s hs => ?_⟩
  · rw [(e 34 s (by unfold P_net; omega)).2.2]; exact h1 s hs
  · rw [(e 35 s (by unfold P_net; omega)).1, (e 2141 s (by unfold P_net; omega)).1]
    refine ⟨(h3 s hs).1, (h3 s hs).2.imp id (fun q => ⟨q.1, q.2.1, netX.mono q.2.2.1 (fun i k hi => ?_), netM.mono q.2.2.2 (fun i hi => funext fun k => ?_)⟩)⟩
    · have ho := (h1 s (by omega)).2
      exact (e (ob s + i) k (by unfold P_net; omega)).1
    · exact (e (2142 + i) k (by unfold P_net; omega)).1
theorem net_cases {a : Int} (ha : inR a) {σ : St} (h : I_net σ) : (∃ (s o : Nat) (N : NetV), a = (s : Int) ∧ s < 4 ∧ isN o ∧ netW N ∧ netX σ o N ∧ netM σ s N ∧ F_X0_netAt a σ = some (some o, σ) ∧ ∀ τ : St, τ.1 2141 = σ.1 2141 → F_X15_noNet a τ = some (0, τ)) ∨ (F_X0_netAt a σ = some (none, σ) ∧ ∀ τ : St, τ.1 2141 = σ.1 2141 → F_X15_noNet a τ = some (1, τ)) := by
  obtain ⟨ob, N, h1, h2, h3⟩ := h
  obtain ⟨ha1, ha2⟩ := ha
  by_cases hr : 0 ≤ a ∧ a ≤ 3
  · obtain ⟨s, rfl⟩ := Int.eq_ofNat_of_zero_le hr.1
    have hs : s < 4 := by omega
    obtain ⟨e1, e2⟩ := h3 s hs
    have e3 := h1 s (by omega)
    rcases e2 with e2 | ⟨e2, e4, e5, e6⟩
    · refine Or.inr ⟨wp_eq ?_, fun τ ht => wp_eq ?_⟩
      · simp (disch := omega) only [F_X0_netAt, wp_bd, wp_rt, wp_lt, wp_ite, wp_rdB, wp_rdQ, stA_eq, stA_ne, stA_stA, L34, L35, tn, wp_isIn, i2l_t, t0, t3, hr, and_self, if_true, if_false, i10, e2]
        (repeat' (first | (refine And.intro ?_ ?_) | omega | rfl | trivial))
      · simp (disch := omega) only [F_X15_noNet, wp_bd, wp_rt, wp_lt, wp_ite, wp_rdB, wp_rtZ, stA_eq, stA_ne, stA_stA, L2141, tn, wp_in15, i2l_t, t0, t3, hr, and_self, if_true, if_false, i10, ht, ← e1, e2]
        (repeat' (first | (refine And.intro ?_ ?_) | omega | rfl | trivial))
    · refine Or.inl ⟨s, ob s, N s, rfl, hs, e3.2, e4, e5, e6, wp_eq ?_, fun τ ht => wp_eq ?_⟩
      · simp (disch := omega) only [F_X0_netAt, wp_bd, wp_rt, wp_lt, wp_ite, wp_rdB, wp_rdQ, stA_eq, stA_ne, stA_stA, L34, L35, tn, wp_isIn, i2l_t, t0, t3, hr, and_self, if_true, if_false, i10, e2, e3.1]
        (repeat' (first | (refine And.intro ?_ ?_) | omega | rfl | trivial))
      · simp (disch := omega) only [F_X15_noNet, wp_bd, wp_rt, wp_lt, wp_ite, wp_rdB, wp_rtZ, stA_eq, stA_ne, stA_stA, L2141, tn, wp_in15, i2l_t, t0, t3, hr, and_self, if_true, if_false, i10, ht, ← e1, e2]
        (repeat' (first | (refine And.intro ?_ ?_) | omega | rfl | trivial))
  · refine Or.inr ⟨wp_eq ?_, fun τ ht => wp_eq ?_⟩
    · simp (disch := omega) only [F_X0_netAt, wp_bd, wp_rt, wp_lt, wp_ite, wp_rdB, wp_rdQ, stA_eq, stA_ne, stA_stA, L34, L35, tn, wp_isIn, i2l_t, t0, t3, hr, if_true, if_false]
      (repeat' (first | (refine And.intro ?_ ?_) | omega | rfl | trivial))
    · simp (disch := omega) only [F_X15_noNet, wp_bd, wp_rt, wp_lt, wp_ite, wp_rdB, wp_rtZ, stA_eq, stA_ne, stA_stA, L2141, tn, wp_in15, i2l_t, t0, t3, hr, if_true, if_false]
      (repeat' (first | (refine And.intro ?_ ?_) | omega | rfl | trivial))
theorem agr_code {σ : St} : agr Vis σ (stA σ.1 2075 (ups (σ.1 2075) 0 0), σ.2) := agr.u agr.refl (by unfold Vis; omega) 0
theorem op_net {a b : Int} (ha : inR a) {σ : St} (h : I_net σ) : both2 (F_X0_net a b) (F_X15_net a b) σ (fun τ => agr Vis σ τ) := by
  unfold both2
  rcases net_cases ha h with ⟨s, o, N, rfl, hs, ho, hw, hX, hM, e1, e2⟩ | ⟨e1, e2⟩
  · have hM2 : netM (stA σ.1 2075 (ups (σ.1 2075) 0 0), σ.2) s N := netM.mono hM (fun i hi => stA_ne (by omega))
    have e3 := e2 (stA σ.1 2075 (ups (σ.1 2075) 0 0), σ.2) (by simp (disch := omega) only [stA_ne])
    by_cases b4 : b = 4
    · subst b4
      simp (disch := omega) only [F_X0_net, wp_bd, wp_rt, wp_lt, wp_ite, wp_gI, wp_ck, wp_on0, wp_on1, stA_eq, stA_ne, stA_stA, tn, wp_some e1, ly_N ho, true_and, show ((4 : Int) = 0) = False from by decide, show ((4 : Int) = 1) = False from by decide, show ((4 : Int) = 2) = False from by decide, show ((4 : Int) = 3) = False from by decide, if_true, if_false]
      refine wp_level ho hX hw (fun g => ?_)
      have hM3 : netM (stA (stA σ.1 109 g) 2075 (ups (stA σ.1 109 g 2075) 0 0), σ.2) s N := netM.mono hM (fun i hi => by show stA (stA σ.1 109 g) 2075 _ (2142 + i) = _; rw [stA_ne (by omega), stA_ne (by omega)])
      have e4 := e2 (stA (stA σ.1 109 g) 2075 (ups (stA σ.1 109 g 2075) 0 0), σ.2) (by simp (disch := omega) only [stA_ne])
      simp only [F_X15_net, wp_bd, wp_pI, wp_ite, wp_some e4, show ((4 : Int) = 0) = False from by decide, show ((4 : Int) = 1) = False from by decide, show ((4 : Int) = 2) = False from by decide, show ((4 : Int) = 3) = False from by decide, if_true, if_false]
      refine wp_levels (by omega) hM3 hw (fun g2 => ?_)
      simp only [wp_rt]
      exact ⟨trivial, ((agr.refl.i (a := 109) (by unfold Vis; omega) g).u (a := 2075) (i := 0) (by unfold Vis; omega) 0).i (a := 2164) (by unfold Vis; omega) g2⟩
    · by_cases b0 : b = 0
      · simp (disch := omega) only [F_X0_net, F_X15_net, ↓wp_bd, ↓wp_rt, ↓wp_lt, wp_ifp, wp_ifn, ↓wp_gI, ↓wp_pI, wp_on0, wp_on1, stA_eq, stA_ne, stA_stA, ups_eq, ups_ne, RI_2142, RI_2143, RI_2144, RI_2145, tn, tnA, tnS, tnM, tn0, tn1, Int.reduceToNat, if_pos, if_neg, if_true, if_false, wp_some e1, wp_some e3, c_ck (ly_N ho), hX.1.1, hM.1.1]
        (repeat' (first | (refine And.intro ?_ ?_) | omega | rfl | trivial)) <;> exact agr_code
      by_cases b1 : b = 1
      · simp (disch := omega) only [F_X0_net, F_X15_net, ↓wp_bd, ↓wp_rt, ↓wp_lt, wp_ifp, wp_ifn, ↓wp_gI, ↓wp_pI, wp_on0, wp_on1, stA_eq, stA_ne, stA_stA, ups_eq, ups_ne, RI_2142, RI_2143, RI_2144, RI_2145, tn, tnA, tnS, tnM, tn0, tn1, Int.reduceToNat, if_pos, if_neg, if_true, if_false, wp_some e1, wp_some e3, c_ck (ly_N ho), hX.1.2.1, hM.1.2.1]
        (repeat' (first | (refine And.intro ?_ ?_) | omega | rfl | trivial)) <;> exact agr_code
      by_cases b2 : b = 2
      · simp (disch := omega) only [F_X0_net, F_X15_net, ↓wp_bd, ↓wp_rt, ↓wp_lt, wp_ifp, wp_ifn, ↓wp_gI, ↓wp_pI, wp_on0, wp_on1, stA_eq, stA_ne, stA_stA, ups_eq, ups_ne, RI_2142, RI_2143, RI_2144, RI_2145, tn, tnA, tnS, tnM, tn0, tn1, Int.reduceToNat, if_pos, if_neg, if_true, if_false, wp_some e1, wp_some e3, c_ck (ly_N ho), hX.1.2.2.1, hM.1.2.2.1]
        (repeat' (first | (refine And.intro ?_ ?_) | omega | rfl | trivial)) <;> exact agr_code
      by_cases b3 : b = 3
      · simp (disch := omega) only [F_X0_net, F_X15_net, ↓wp_bd, ↓wp_rt, ↓wp_lt, wp_ifp, wp_ifn, ↓wp_gI, ↓wp_pI, wp_on0, wp_on1, stA_eq, stA_ne, stA_stA, ups_eq, ups_ne, RI_2142, RI_2143, RI_2144, RI_2145, tn, tnA, tnS, tnM, tn0, tn1, Int.reduceToNat, if_pos, if_neg, if_true, if_false, wp_some e1, wp_some e3, c_ck (ly_N ho), hX.1.2.2.2, hM.1.2.2.2]
        (repeat' (first | (refine And.intro ?_ ?_) | omega | rfl | trivial)) <;> exact agr_code
      · simp (disch := omega) only [F_X0_net, F_X15_net, ↓wp_bd, ↓wp_rt, ↓wp_lt, wp_ifp, wp_ifn, ↓wp_gI, ↓wp_pI, wp_on0, wp_on1, stA_eq, stA_ne, stA_stA, ups_eq, ups_ne, RI_2142, RI_2143, RI_2144, RI_2145, tn, tnA, tnS, tnM, tn0, tn1, Int.reduceToNat, if_pos, if_neg, if_true, if_false, wp_some e1, wp_some e3]
        (repeat' (first | (refine And.intro ?_ ?_) | omega | rfl | trivial)) <;> exact agr_code
  · have e3 := e2 (stA σ.1 2075 (ups (σ.1 2075) 0 0), σ.2) (by simp (disch := omega) only [stA_ne])
    simp (disch := omega) only [F_X0_net, F_X15_net, wp_bd, wp_rt, wp_lt, wp_ite, wp_rdI, wp_gI, wp_pI, wp_ck, wp_on0, wp_on1, stA_eq, stA_ne, stA_stA, L2142, L2143, L2144, L2145, tn, wp_some e1, wp_some e3, if_true, if_false, i10]
    (repeat' (first | (refine And.intro ?_ ?_) | omega | rfl | trivial)) <;> exact agr_code
