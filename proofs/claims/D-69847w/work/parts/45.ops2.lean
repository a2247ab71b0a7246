set_option maxRecDepth 100000
/-! ===== words of values ===== -/
def wds (N : NetV) : Nat := if v_i N + v_l N ≤ 6 then 1 else 2 ^ (v_i N + v_l N - 6)
def knw (N : NetV) : Int64 := if v_i N + v_l N < 6 then (lshl 1 (ishl 1 ((v_i N + v_l N : Nat) : Int))) - 1 else -1
theorem wds_le {N : NetV} (h : v_i N + v_l N ≤ 14) : wds N ≤ 256 := by
  unfold wds
  split
  · decide
  · exact p2le (k := 8) (by omega)
theorem lvc (N : NetV) : (v_i N : Int) + (v_l N : Int) = ((v_i N + v_l N : Nat) : Int) := by omega
section
variable {o s : Nat} {N : NetV} {σ : St}
theorem wp_words7 (hX : netX σ o N) (h14 : v_i N + v_l N ≤ 14) {Q : Int → St → Prop} : wp (F_X7_wordsOf o) σ Q = Q (wds N : Int) σ := by
  simp (disch := omega) only [F_X7_wordsOf, F_X14_leaves, wp_bd, wp_rt, wp_lt, wp_ite, wp_gI, stA_eq, stA_ne, stA_stA, w32_i, tn, hX.1.1, hX.1.2.1]
  unfold wds
  by_cases h : v_i N + v_l N ≤ 6
  · rw [if_neg (by omega), if_pos h]; rfl
  · rw [if_pos (by omega), if_neg h, show (v_i N : Int) + (v_l N : Int) - 6 = ((v_i N + v_l N - 6 : Nat) : Int) by omega, ishl1 (by omega)]
theorem wp_known7 (hX : netX σ o N) (h14 : v_i N + v_l N ≤ 14) {Q : Int64 → St → Prop} : wp (F_X7_known o) σ Q = Q (knw N) σ := by
  simp (disch := omega) only [F_X7_known, F_X14_leaves, wp_bd, wp_rt, wp_lt, wp_ite, wp_gI, stA_eq, stA_ne, stA_stA, w32_i, tn, hX.1.1, hX.1.2.1]
  unfold knw
  by_cases h : v_i N + v_l N < 6
  · rw [if_pos (by omega), if_pos h, lvc]
  · rw [if_neg (by omega), if_neg h]
theorem wp_words15 (hs : s < 5) (hM : netM σ s N) (h14 : v_i N + v_l N ≤ 14) {Q : Int → St → Prop} : wp (F_X15_wordsOf (s : Int)) σ Q = Q (wds N : Int) σ := by
  unfold wds
  by_cases h : v_i N + v_l N ≤ 6
  · simp (disch := omega) only [F_X15_wordsOf, ↓wp_bd, ↓wp_rt, ↓wp_lt, wp_ifp, wp_ifn, stA_eq, stA_ne, stA_stA, ups_eq, ups_ne, w32_i, RI_2142, RI_2143, tn, tnA, tnS, tnM, tn0, tn1, Int.reduceToNat, if_pos, if_neg, if_true, if_false, hM.1.1, hM.1.2.1]
    rfl
  · simp (disch := omega) only [F_X15_wordsOf, ↓wp_bd, ↓wp_rt, ↓wp_lt, wp_ifp, wp_ifn, stA_eq, stA_ne, stA_stA, ups_eq, ups_ne, w32_i, RI_2142, RI_2143, tn, tnA, tnS, tnM, tn0, tn1, Int.reduceToNat, if_pos, if_neg, if_true, if_false, hM.1.1, hM.1.2.1]
    rw [show (v_i N : Int) + (v_l N : Int) - 6 = ((v_i N + v_l N - 6 : Nat) : Int) by omega, ishl1 (by omega)]
theorem wp_count15 (hs : s < 5) (hM : netM σ s N) (h14 : v_i N + v_l N ≤ 14) {Q : Int64 → St → Prop} : wp (F_X15_counting (s : Int)) σ Q = Q (knw N) σ := by
  unfold knw
  by_cases h : v_i N + v_l N < 6
  · simp (disch := omega) only [F_X15_counting, ↓wp_bd, ↓wp_rt, ↓wp_lt, wp_ifp, wp_ifn, stA_eq, stA_ne, stA_stA, ups_eq, ups_ne, w32_i, RI_2142, RI_2143, tn, tnA, tnS, tnM, tn0, tn1, Int.reduceToNat, if_pos, if_neg, if_true, if_false, hM.1.1, hM.1.2.1, lvc]
  · simp (disch := omega) only [F_X15_counting, ↓wp_bd, ↓wp_rt, ↓wp_lt, wp_ifp, wp_ifn, stA_eq, stA_ne, stA_stA, ups_eq, ups_ne, w32_i, RI_2142, RI_2143, tn, tnA, tnS, tnM, tn0, tn1, Int.reduceToNat, if_pos, if_neg, if_true, if_false, hM.1.1, hM.1.2.1]
theorem wp_wide15 (hs : s < 5) (hM : netM σ s N) (hw : netW N) {m : Int} {Q : Int → St → Prop} : wp (F_X15_tooWide (s : Int) m) σ Q = Q (if ((v_i N + v_l N : Nat) : Int) ≤ m then 0 else 1) σ := by
  have hb := hw.1
  by_cases h : ((v_i N + v_l N : Nat) : Int) ≤ m
  · simp (disch := omega) only [F_X15_tooWide, ↓wp_bd, ↓wp_rt, ↓wp_lt, wp_ifp, wp_ifn, c_rtZ, stA_eq, stA_ne, stA_stA, ups_eq, ups_ne, w32_i, RI_2142, RI_2143, tn, tnA, tnS, tnM, tn0, tn1, Int.reduceToNat, if_pos, if_neg, if_true, if_false, hM.1.1, hM.1.2.1]
  · simp (disch := omega) only [F_X15_tooWide, ↓wp_bd, ↓wp_rt, ↓wp_lt, wp_ifp, wp_ifn, c_rtZ, stA_eq, stA_ne, stA_stA, ups_eq, ups_ne, w32_i, RI_2142, RI_2143, tn, tnA, tnS, tnM, tn0, tn1, Int.reduceToNat, if_pos, if_neg, if_true, if_false, hM.1.1, hM.1.2.1]
theorem lrX {w : Nat} (hl : la (w + 1) = 4265) (ho : isN o) (hX : netX σ o N) (hw : netW N) (h14 : v_i N + v_l N ≤ 14) {x : Nat} (hx : x < 256) : ∃ g1 g, F_X7_leaves w o (x : Int) σ = some ((), σ.1, stA σ.2.1 (w + 1) g1, σ.2.2) ∧ F_X7_run w o (σ.1, stA σ.2.1 (w + 1) g1, σ.2.2) = some ((), σ.1, stA σ.2.1 (w + 1) g, σ.2.2) ∧ ∀ i, i < v_i N + v_l N + 1 + v_a N → g i = gv N (wl N x) i := by
  refine ⟨_, rnK N 0 0 (v_a N) (ups (lvK x (v_i N + v_l N) (σ.2.1 (w + 1))) 0 0), leaves7 hl ho hX h14 hx, ?_, ?_⟩
  · have := run7 hl ho (N := N) (σ := (σ.1, stA σ.2.1 (w + 1) (lvK x (v_i N + v_l N) (σ.2.1 (w + 1))), σ.2.2)) hX hw
    dsimp only at this
    rw [stA_eq, stA_stA] at this
    exact this
  · refine rnK_congr hw (fun i hi => ?_) (v_a N) (Nat.le_refl _)
    by_cases e : i = 0
    · subst e; rw [ups_eq, wl0]
    · rw [ups_ne e]
      unfold wl lvK
      rw [if_pos (by omega), if_pos (by omega)]
theorem rn15 {a : Nat} (hl : la a = 4300) (hs : s < 5) (hM : netM σ s N) (hw : netW N) (h14 : v_i N + v_l N ≤ 14) {x : Nat} (hx : x < 256) : ∃ g, F_X15_run (s : Int) a (x : Int) (-1) 0 σ = some ((), σ.1, stA σ.2.1 a g, σ.2.2) ∧ ∀ i, i < v_i N + v_l N + 1 + v_a N → g i = gv N (wl N x) i := by
  refine ⟨_, run15 hl hs hM hw h14 hx (t := 0) (Or.inl ⟨rfl, rfl⟩), ?_⟩
  refine rnK_congr hw (fun i hi => ?_) (v_a N) (Nat.le_refl _)
  unfold wl lvK lsK
  by_cases e : i = 0
  · subst e; rw [if_neg (by omega), if_neg (by omega), ups_eq]
  · rw [if_pos (by omega), if_neg e, if_pos (by omega)]
theorem rs15 {a : Nat} (hl : la a = 4300) (hs : s < 5) (hM : netM σ s N) (hw : netW N) (h14 : v_i N + v_l N ≤ 14) {x : Nat} (hx : x < 256) {t : Nat} (ht : 0 < t) {as : Int64} : ∃ g, F_X15_run (s : Int) a (x : Int) (t : Int) as σ = some ((), σ.1, stA σ.2.1 a g, σ.2.2) ∧ ∀ i, i < v_i N + v_l N + 1 + v_a N → g i = sv N (wl N x) t as i := by
  refine ⟨_, run15 hl hs hM hw h14 hx (t := t) (Or.inr rfl), ?_⟩
  refine rnK_congr hw (fun i hi => ?_) (v_a N) (Nat.le_refl _)
  unfold lsK
  by_cases e : i = 0
  · subst e
    rw [if_neg (by omega), ups_eq]
    by_cases h : t < v_i N + v_l N + 1
    · rw [if_pos h, ups_ne (by omega), wl0]
    · rw [if_neg h, wl0]
  · rw [if_pos (by omega)]
    have hwl : wl N x i = lfV x (i - 1) := by unfold wl lvK; rw [if_pos (by omega)]
    by_cases h : t < v_i N + v_l N + 1
    · rw [if_pos h]
      by_cases e2 : i = t
      · subst e2; rw [if_pos rfl, ups_eq]
      · rw [if_neg e2, ups_ne e2, hwl]
    · rw [if_neg h, if_neg (by omega), hwl]
end
theorem both2_of {f g : St → Option (Int × St)} {σ σ1 τ : St} {r : Int} {P : St → Prop} (e1 : f σ = some (r, σ1)) (e2 : g σ1 = some (r, τ)) (h : P τ) : both2 f g σ P := ⟨r, σ1, e1, r, τ, e2, rfl, h⟩
theorem both2_wp {f g : St → Option (Int × St)} {σ : St} {P : St → Prop} (R : Int → Prop) (C : St → Prop) (e1 : wp f σ (fun r τ => R r ∧ C τ)) (e2 : ∀ τ, C τ → wp g τ (fun r υ => R r ∧ P υ)) (u : ∀ r q, R r → R q → r = q) : both2 f g σ P := by
  obtain ⟨r, σ1, h1, h2, h3⟩ := e1
  obtain ⟨q, τ, h4, h5, h6⟩ := e2 σ1 h3
  exact ⟨r, σ1, h1, q, τ, h4, u r q h2 h5, h6⟩
/-! ===== look ===== -/
def lkV (N : NetV) (b : Nat) (n : Nat) : Int := l2i ((lshr (ofV (gv N (wl N (n / 64))) b) ((n % 64 : Nat) : Int)) &&& 1)
theorem lookX {b k : Int} {n o : Nat} {N : NetV} {σ : St} (ho : isN o) (hX : netX σ o N) (hw : netW N) (h14 : v_i N + v_l N ≤ 14) (hn : n < 2 ^ (v_i N + v_l N)) {r : Nat} (hr : r < 2 * (v_i N + v_l N + 1 + v_a N)) (hk : b = 0 ∧ 0 ≤ k ∧ k < (v_o N : Int) ∧ r = v_ou N k.toNat ∨ b = 1 ∧ 0 ≤ k ∧ k < (v_l N : Int) ∧ r = v_ne N k.toNat) : wp (X0_look_87 b k (n : Int) o) σ (fun x τ => x = lkV N r n ∧ ∃ g, τ = (σ.1, stA σ.2.1 80 g, σ.2.2)) := by
  have hbd := hw.1
  have hn3 : n < 2 ^ 14 := Nat.lt_of_lt_of_le hn (p2le h14)
  obtain ⟨g1, g, q1, q2, q3⟩ := lrX (w := 79) L80 ho hX hw h14 (show n / 64 < 256 by omega)
  have d1 : idiv (n : Int) 64 = ((n / 64 : Nat) : Int) := by rw [idiv64 (by omega) (by omega)]; omega
  have d3 : irem (n : Int) 64 = ((n % 64 : Nat) : Int) := by rw [irem64 (by omega) (by omega)]; omega
  have fin : wp (X0_look_148 (n : Int) (r : Int)) (σ.1, stA σ.2.1 80 g, σ.2.2) (fun x τ => x = lkV N r n ∧ ∃ g, τ = (σ.1, stA σ.2.1 80 g, σ.2.2)) := by
    simp (disch := omega) only [X0_look_148, ↓wp_bd, ↓wp_rt, ↓wp_lt, wp_ifp, wp_ifn, stA_eq, stA_ne, stA_stA, ups_eq, ups_ne, tn, tnA, tnS, tnM, tn0, tn1, Int.reduceToNat, if_pos, if_neg, if_true, if_false, wp_of7 (w := 79) L80 (show r < 8530 by omega), d3]
    refine ⟨?_, g, rfl⟩
    unfold lkV
    rw [ofV_congr q3 hr]
  simp (disch := omega) only [X0_look_87, F_X14_leaves, ↓wp_bd, ↓wp_rt, ↓wp_lt, wp_ifp, wp_ifn, ↓wp_gI, stA_eq, stA_ne, stA_stA, ups_eq, ups_ne, w32_i, tn, tnA, tnS, tnM, tn0, tn1, Int.reduceToNat, if_pos, if_neg, if_true, if_false, hX.1.1, hX.1.2.1, d1, wp_some q1, wp_some q2]
  rcases hk with ⟨rfl, h1, h2, h3⟩ | ⟨rfl, h1, h2, h3⟩
  · have := hX.2.2.1 k.toNat (by omega)
    rw [← h3] at this
    simp (disch := omega) only [X0_look_87, ↓wp_bd, ↓wp_rt, ↓wp_lt, wp_ifp, wp_ifn, stA_eq, stA_ne, stA_stA, ups_eq, ups_ne, tn, tnA, tnS, tnM, tn0, tn1, Int.reduceToNat, if_pos, if_neg, if_true, if_false, NI_1 ho, NV_1 ho, NI_2 ho, NV_2 ho, NI_3 ho, NV_3 ho, NI_4 ho, NV_4 ho, NI_5 ho, NV_5 ho, this]
    exact fin
  · have := (hX.2.2.2 k.toNat (by omega)).1
    rw [← h3] at this
    simp (disch := omega) only [X0_look_87, ↓wp_bd, ↓wp_rt, ↓wp_lt, wp_ifp, wp_ifn, stA_eq, stA_ne, stA_stA, ups_eq, ups_ne, tn, tnA, tnS, tnM, tn0, tn1, Int.reduceToNat, if_pos, if_neg, if_true, if_false, NI_1 ho, NV_1 ho, NI_2 ho, NV_2 ho, NI_3 ho, NV_3 ho, NI_4 ho, NV_4 ho, NI_5 ho, NV_5 ho, this]
    exact fin
theorem look15 {b k : Int} {n s : Nat} {N : NetV} {σ : St} (hs : s < 4) (hM : netM σ s N) (hw : netW N) (h14 : v_i N + v_l N ≤ 14) (hn : n < 2 ^ (v_i N + v_l N)) {r : Nat} (hr : r < 2 * (v_i N + v_l N + 1 + v_a N)) (hk : b = 0 ∧ 0 ≤ k ∧ k < (v_o N : Int) ∧ r = v_ou N k.toNat ∨ b = 1 ∧ 0 ≤ k ∧ k < (v_l N : Int) ∧ r = v_ne N k.toNat) {v : Int} (hv : v = ((v_i N + v_l N : Nat) : Int)) : wp (X15_look_2_109 (s : Int) b k (n : Int) v) σ (fun x τ => x = lkV N r n ∧ ∃ g, τ = (σ.1, stA σ.2.1 2165 g, σ.2.2)) := by
  have hbd := hw.1
  have hn3 : n < 2 ^ 14 := Nat.lt_of_lt_of_le hn (p2le h14)
  obtain ⟨g, q2, q3⟩ := rn15 (a := 2165) L2165 (by omega) hM hw h14 (show n / 64 < 256 by omega)
  have d1 : ishr (n : Int) 6 = ((n / 64 : Nat) : Int) := by rw [ishr6 (by omega) (by omega)]; omega
  have d3 : iand (n : Int) 63 = ((n % 64 : Nat) : Int) := by rw [and63]; omega
  have fin : wp (X15_look_2_169 (n : Int) (r : Int)) (σ.1, stA σ.2.1 2165 g, σ.2.2) (fun x τ => x = lkV N r n ∧ ∃ g, τ = (σ.1, stA σ.2.1 2165 g, σ.2.2)) := by
    simp (disch := omega) only [X15_look_2_169, ↓wp_bd, ↓wp_rt, ↓wp_lt, wp_ifp, wp_ifn, stA_eq, stA_ne, stA_stA, ups_eq, ups_ne, tn, tnA, tnS, tnM, tn0, tn1, Int.reduceToNat, if_pos, if_neg, if_true, if_false, wp_of15 L2165 (show r < 8530 by omega), d3]
    refine ⟨?_, g, rfl⟩
    unfold lkV
    rw [ofV_congr q3 hr]
  rcases hk with ⟨rfl, h1, h2, h3⟩ | ⟨rfl, h1, h2, h3⟩
  · have := hM.2.2.1 k.toNat (by omega)
    rw [← h3] at this
    simp (disch := omega) only [X15_look_2_109, ↓wp_bd, ↓wp_rt, ↓wp_lt, wp_ifp, wp_ifn, stA_eq, stA_ne, stA_stA, ups_eq, ups_ne, w32_i, RI_2148, RI_2149, tn, tnA, tnS, tnM, tn0, tn1, Int.reduceToNat, if_pos, if_neg, if_true, if_false, d1, wp_some q2, this]
    exact fin
  · have := (hM.2.2.2 k.toNat (by omega)).1
    rw [← h3] at this
    simp (disch := omega) only [X15_look_2_109, ↓wp_bd, ↓wp_rt, ↓wp_lt, wp_ifp, wp_ifn, stA_eq, stA_ne, stA_stA, ups_eq, ups_ne, w32_i, RI_2148, RI_2149, tn, tnA, tnS, tnM, tn0, tn1, Int.reduceToNat, if_pos, if_neg, if_true, if_false, d1, wp_some q2, this]
    exact fin
theorem shr_le0 {d : Int} {k : Nat} (h0 : 0 ≤ d) (h1 : d ≤ 2147483647) (hk : k < 31) : (ishr d (k : Int) ≤ 0) = (d < ((2 ^ k : Nat) : Int)) := by
  rw [ishr_div ⟨by omega, h1⟩ (by omega)]
  have hp : (0 : Int) < ((2 ^ k : Nat) : Int) := by have := Nat.two_pow_pos k; omega
  have e : (2 : Int) ^ k = ((2 ^ k : Nat) : Int) := by norm_cast
  rw [e]
  apply propext
  constructor
  · intro h
    rcases Int.lt_or_le d ((2 ^ k : Nat) : Int) with q | q
    · exact q
    · have : 1 ≤ d / ((2 ^ k : Nat) : Int) := (Int.le_ediv_iff_mul_le hp).mpr (by omega)
      omega
  · intro h
    rw [Int.ediv_eq_zero_of_lt h0 h]
    omega
theorem op_look {a b c d : Int} (ha : inR a) (hb : inR b) (hc : inR c) (hd : inR d) {σ : St} (h : I_net σ) : both2 (F_X0_look a b c d) (F_X15_look_2 a b c d) σ (fun τ => agr Vis σ τ) := by
  obtain ⟨hb1, hb2⟩ := hb
  obtain ⟨hc1, hc2⟩ := hc
  obtain ⟨hd1, hd2⟩ := hd
  unfold both2
  rcases net_cases ha h with ⟨s, o, N, rfl, hs, ho, hw, hX, hM, e1, e2⟩ | ⟨e1, e2⟩
  · have hbd := hw.1
    have e3 := e2 (stA σ.1 2075 (ups (σ.1 2075) 0 0), σ.2) (by simp (disch := omega) only [stA_ne])
    by_cases hb : b = 0 ∨ b = 1
    · by_cases hk : b = 0 ∧ 0 ≤ c ∧ c < (v_o N : Int) ∨ b = 1 ∧ 0 ≤ c ∧ c < (v_l N : Int)
      · have hr : ∃ r : Nat, r < 2 * (v_i N + v_l N + 1 + v_a N) ∧ (b = 0 ∧ 0 ≤ c ∧ c < (v_o N : Int) ∧ r = v_ou N c.toNat ∨ b = 1 ∧ 0 ≤ c ∧ c < (v_l N : Int) ∧ r = v_ne N c.toNat) := by
          rcases hk with ⟨q0, q1, q2⟩ | ⟨q0, q1, q2⟩
          · exact ⟨_, hw.2.2.1 c.toNat (by omega), Or.inl ⟨q0, q1, q2, rfl⟩⟩
          · exact ⟨_, (hw.2.2.2 c.toNat (by omega)).1, Or.inr ⟨q0, q1, q2, rfl⟩⟩
        obtain ⟨r, hr1, hr2⟩ := hr
        -- both come to where the values are looked at
        have c1 : ∀ Q, wp (X0_look_47 b c d o (i2l c) 0 (if b = 0 then (v_o N : Int) else (v_l N : Int))) σ Q → wp (F_X0_look (s : Int) b c d) σ Q := by
          intro Q hQ
          rcases hk with ⟨rfl, hk⟩ | ⟨rfl, hk⟩
          · rw [if_pos rfl] at hQ
            simp (disch := omega) only [F_X0_look, ↓wp_bd, ↓wp_rt, ↓wp_lt, wp_ifp, wp_ifn, ↓wp_gI, wp_on0, wp_on1, stA_eq, stA_ne, stA_stA, ups_eq, ups_ne, tn, tnA, tnS, tnM, tn0, tn1, Int.reduceToNat, if_pos, if_neg, if_true, if_false, wp_some e1, c_ck (ly_N ho), wp_isIn, i2l_t, t0, t1, hX.1.2.2.2]
            exact hQ
          · rw [if_neg (by decide)] at hQ
            simp (disch := omega) only [F_X0_look, ↓wp_bd, ↓wp_rt, ↓wp_lt, wp_ifp, wp_ifn, ↓wp_gI, wp_on0, wp_on1, stA_eq, stA_ne, stA_stA, ups_eq, ups_ne, tn, tnA, tnS, tnM, tn0, tn1, Int.reduceToNat, if_pos, if_neg, if_true, if_false, wp_some e1, c_ck (ly_N ho), wp_isIn, i2l_t, t0, t1, hX.1.2.1]
            exact hQ
        have c2 : ∀ τ Q, netM τ s N → τ.1 2141 = σ.1 2141 → wp (X15_look_2_60 (s : Int) b c d) (stA τ.1 2075 (ups (τ.1 2075) 0 0), τ.2) Q → wp (F_X15_look_2 (s : Int) b c d) τ Q := by
          intro τ Q hMt ht hQ
          have e4 := e2 (stA τ.1 2075 (ups (τ.1 2075) 0 0), τ.2) (by rw [← ht]; simp (disch := omega) only [stA_ne])
          rcases hk with ⟨rfl, hk⟩ | ⟨rfl, hk⟩
          · simp (disch := omega) only [F_X15_look_2, X15_look_2_35, ↓wp_bd, ↓wp_rt, ↓wp_lt, wp_ifp, wp_ifn, ↓wp_pI, stA_eq, stA_ne, stA_stA, ups_eq, ups_ne, w32_i, RI_2143, RI_2145, tn, tnA, tnS, tnM, tn0, tn1, Int.reduceToNat, if_pos, if_neg, if_true, if_false, wp_some e4, wp_in15, i2l_t, t0, t1, hMt.1.2.2.2]
            exact hQ
          · simp (disch := omega) only [F_X15_look_2, X15_look_2_35, ↓wp_bd, ↓wp_rt, ↓wp_lt, wp_ifp, wp_ifn, ↓wp_pI, stA_eq, stA_ne, stA_stA, ups_eq, ups_ne, w32_i, RI_2143, RI_2145, tn, tnA, tnS, tnM, tn0, tn1, Int.reduceToNat, if_pos, if_neg, if_true, if_false, wp_some e4, wp_in15, i2l_t, t0, t1, hMt.1.2.1]
            exact hQ
        have hkk : 0 ≤ c ∧ c ≤ (if b = 0 then (v_o N : Int) else (v_l N : Int)) - 1 := by
          rcases hk with ⟨rfl, hk⟩ | ⟨rfl, hk⟩
          · rw [if_pos rfl]; omega
          · rw [if_neg (by decide)]; omega
        have hbb : (if b = 0 then (v_o N : Int) else (v_l N : Int)) ≤ 200 := by split <;> omega
        generalize (if b = 0 then (v_o N : Int) else (v_l N : Int)) = kk at c1 hkk hbb
        by_cases hn0 : d < 0
        · apply c1
          simp (disch := omega) only [X0_look_47, ↓wp_bd, ↓wp_rt, ↓wp_lt, wp_ifp, wp_ifn, stA_eq, stA_ne, stA_stA, ups_eq, ups_ne, w32_i, tn, tnA, tnS, tnM, tn0, tn1, Int.reduceToNat, if_pos, if_neg, if_true, if_false, wp_isIn, i2l_t, t0]
          apply c2 _ _ hM rfl
          simp (disch := omega) only [X15_look_2_60, ↓wp_bd, ↓wp_rt, ↓wp_lt, wp_ifp, wp_ifn, stA_eq, stA_ne, stA_stA, ups_eq, ups_ne, w32_i, RI_2142, RI_2143, tn, tnA, tnS, tnM, tn0, tn1, Int.reduceToNat, if_pos, if_neg, if_true, if_false, wp_in15, i2l_t, t0, t1, hM.1.1, hM.1.2.1]
          (repeat' (first | (refine And.intro ?_ ?_) | omega | rfl | trivial)) <;> exact agr_code
        by_cases h31 : v_i N + v_l N < 31
        · have sh := shr_le0 (d := d) (k := v_i N + v_l N) (by omega) (by omega) h31
          have sl := ishl1 h31
          by_cases hn2 : d < ((2 ^ (v_i N + v_l N) : Nat) : Int)
          · have hsh : ishr d ((v_i N + v_l N : Nat) : Int) ≤ 0 := by rw [sh]; exact hn2
            by_cases h14 : v_i N + v_l N ≤ 14
            · obtain ⟨n, rfl⟩ := Int.eq_ofNat_of_zero_le (show 0 ≤ d by omega)
              apply c1
              simp (disch := omega) only [X0_look_47, F_X14_leaves, ↓wp_bd, ↓wp_rt, ↓wp_lt, wp_ifp, wp_ifn, ↓wp_gI, stA_eq, stA_ne, stA_stA, ups_eq, ups_ne, w32_i, tn, tnA, tnS, tnM, tn0, tn1, Int.reduceToNat, if_pos, if_neg, if_true, if_false, wp_isIn, i2l_t, t0, hX.1.1, hX.1.2.1, lvc]
              refine wp_mono (lookX ho hX hw h14 (by omega) hr1 hr2) ?_
              rintro x τ ⟨rfl, g, rfl⟩
              apply c2 (σ.1, stA σ.2.1 80 g, σ.2.2) _ (netM.mono hM (fun i hi => rfl)) rfl
              have hM2 : netM (stA σ.1 2075 (ups (σ.1 2075) 0 0), stA σ.2.1 80 g, σ.2.2) s N := netM.mono hM (fun i hi => stA_ne (by omega))
              simp (disch := omega) only [X15_look_2_60, ↓wp_bd, ↓wp_rt, ↓wp_lt, wp_ifp, wp_ifn, stA_eq, stA_ne, stA_stA, ups_eq, ups_ne, w32_i, RI_2142, RI_2143, tn, tnA, tnS, tnM, tn0, tn1, Int.reduceToNat, if_pos, if_neg, if_true, if_false, wp_in15, i2l_t, t0, t1, hM.1.1, hM.1.2.1, lvc, sl]
              refine wp_mono (look15 hs hM2 hw h14 (by omega) hr1 hr2 rfl) ?_
              rintro x τ ⟨rfl, g2, rfl⟩
              exact ⟨rfl, ((agr.refl.u (a := 2075) (i := 0) (by unfold Vis; omega) 0).l (a := 80) (by unfold Vis; omega) g).l (a := 2165) (by unfold Vis; omega) g2⟩
            · apply c1
              simp (disch := omega) only [X0_look_47, X0_look_87, F_X14_leaves, ↓wp_bd, ↓wp_rt, ↓wp_lt, wp_ifp, wp_ifn, ↓wp_gI, stA_eq, stA_ne, stA_stA, ups_eq, ups_ne, w32_i, tn, tnA, tnS, tnM, tn0, tn1, Int.reduceToNat, if_pos, if_neg, if_true, if_false, wp_isIn, i2l_t, t0, hX.1.1, hX.1.2.1, lvc]
              apply c2 _ _ hM rfl
              simp (disch := omega) only [X15_look_2_60, X15_look_2_109, ↓wp_bd, ↓wp_rt, ↓wp_lt, wp_ifp, wp_ifn, stA_eq, stA_ne, stA_stA, ups_eq, ups_ne, w32_i, RI_2142, RI_2143, RI_2148, RI_2149, tn, tnA, tnS, tnM, tn0, tn1, Int.reduceToNat, if_pos, if_neg, if_true, if_false, wp_in15, i2l_t, t0, t1, hM.1.1, hM.1.2.1, lvc, sl]
              (repeat' (first | (refine And.intro ?_ ?_) | omega | rfl | trivial)) <;> exact agr_code
          · have hsh : ¬ ishr d ((v_i N + v_l N : Nat) : Int) ≤ 0 := by rw [sh]; exact hn2
            apply c1
            simp (disch := omega) only [X0_look_47, X0_look_87, F_X14_leaves, ↓wp_bd, ↓wp_rt, ↓wp_lt, wp_ifp, wp_ifn, ↓wp_gI, stA_eq, stA_ne, stA_stA, ups_eq, ups_ne, w32_i, tn, tnA, tnS, tnM, tn0, tn1, Int.reduceToNat, if_pos, if_neg, if_true, if_false, wp_isIn, i2l_t, t0, hX.1.1, hX.1.2.1, lvc]
            apply c2 _ _ hM rfl
            simp (disch := omega) only [X15_look_2_60, X15_look_2_109, ↓wp_bd, ↓wp_rt, ↓wp_lt, wp_ifp, wp_ifn, stA_eq, stA_ne, stA_stA, ups_eq, ups_ne, w32_i, RI_2142, RI_2143, RI_2148, RI_2149, tn, tnA, tnS, tnM, tn0, tn1, Int.reduceToNat, if_pos, if_neg, if_true, if_false, wp_in15, i2l_t, t0, t1, hM.1.1, hM.1.2.1, lvc, sl]
            (repeat' (first | (refine And.intro ?_ ?_) | omega | rfl | trivial)) <;> exact agr_code
        · apply c1
          simp (disch := omega) only [X0_look_47, X0_look_87, F_X14_leaves, ↓wp_bd, ↓wp_rt, ↓wp_lt, wp_ifp, wp_ifn, ↓wp_gI, stA_eq, stA_ne, stA_stA, ups_eq, ups_ne, w32_i, tn, tnA, tnS, tnM, tn0, tn1, Int.reduceToNat, if_pos, if_neg, if_true, if_false, wp_isIn, i2l_t, t0, hX.1.1, hX.1.2.1, lvc]
          apply c2 _ _ hM rfl
          simp (disch := omega) only [X15_look_2_60, X15_look_2_109, ↓wp_bd, ↓wp_rt, ↓wp_lt, wp_ifp, wp_ifn, stA_eq, stA_ne, stA_stA, ups_eq, ups_ne, w32_i, RI_2142, RI_2143, RI_2148, RI_2149, tn, tnA, tnS, tnM, tn0, tn1, Int.reduceToNat, if_pos, if_neg, if_true, if_false, wp_in15, i2l_t, t0, t1, hM.1.1, hM.1.2.1, lvc]
          (repeat' (first | (refine And.intro ?_ ?_) | omega | rfl | trivial)) <;> exact agr_code
      · rcases hb with rfl | rfl
        · simp (disch := omega) only [F_X0_look, X0_look_47, F_X15_look_2, ↓wp_bd, ↓wp_rt, ↓wp_lt, wp_ifp, wp_ifn, ↓wp_gI, ↓wp_pI, wp_on0, wp_on1, stA_eq, stA_ne, stA_stA, ups_eq, ups_ne, w32_i, RI_2145, tn, tnA, tnS, tnM, tn0, tn1, Int.reduceToNat, if_pos, if_neg, if_true, if_false, wp_some e1, wp_some e3, c_ck (ly_N ho), wp_isIn, wp_in15, i2l_t, t0, t1, hX.1.2.2.2, hM.1.2.2.2]
          (repeat' (first | (refine And.intro ?_ ?_) | omega | rfl | trivial)) <;> exact agr_code
        · simp (disch := omega) only [F_X0_look, X0_look_47, F_X15_look_2, X15_look_2_35, ↓wp_bd, ↓wp_rt, ↓wp_lt, wp_ifp, wp_ifn, ↓wp_gI, ↓wp_pI, wp_on0, wp_on1, stA_eq, stA_ne, stA_stA, ups_eq, ups_ne, w32_i, RI_2143, RI_2145, tn, tnA, tnS, tnM, tn0, tn1, Int.reduceToNat, if_pos, if_neg, if_true, if_false, wp_some e1, wp_some e3, c_ck (ly_N ho), wp_isIn, wp_in15, i2l_t, t0, t1, hX.1.2.1, hM.1.2.1]
          (repeat' (first | (refine And.intro ?_ ?_) | omega | rfl | trivial)) <;> exact agr_code
    · simp (disch := omega) only [F_X0_look, F_X15_look_2, X15_look_2_35, X15_look_2_60, ↓wp_bd, ↓wp_rt, ↓wp_lt, wp_ifp, wp_ifn, ↓wp_gI, ↓wp_pI, wp_on0, wp_on1, stA_eq, stA_ne, stA_stA, ups_eq, ups_ne, w32_i, RI_2142, RI_2143, RI_2145, tn, tnA, tnS, tnM, tn0, tn1, Int.reduceToNat, if_pos, if_neg, if_true, if_false, wp_some e1, wp_some e3, c_ck (ly_N ho), wp_isIn, wp_in15, i2l_t, t0, t1, hM.1.1, hM.1.2.1]
      (repeat' (first | (refine And.intro ?_ ?_) | omega | rfl | trivial)) <;> exact agr_code
  · have e3 := e2 (stA σ.1 2075 (ups (σ.1 2075) 0 0), σ.2) (by simp (disch := omega) only [stA_ne])
    simp (disch := omega) only [F_X0_look, F_X15_look_2, ↓wp_bd, ↓wp_rt, ↓wp_lt, wp_ifp, wp_ifn, ↓wp_gI, ↓wp_pI, wp_on0, wp_on1, stA_eq, stA_ne, stA_stA, ups_eq, ups_ne, w32_i, RI_2145, tn, tnA, tnS, tnM, tn0, tn1, Int.reduceToNat, if_pos, if_neg, if_true, if_false, wp_some e1, wp_some e3]
    (repeat' (first | (refine And.intro ?_ ?_) | omega | rfl | trivial)) <;> exact agr_code
