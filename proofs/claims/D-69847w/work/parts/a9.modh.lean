set_option maxRecDepth 100000
set_option maxHeartbeats 800000
/-! ===== read: a module, whole ===== -/
def ModP (k : Nat) (Ms : Nat → ModV) (T : Nat → Int) (n p : Nat) (σ τ σ' τ' : St) : Prop := k < 12 ∧ ∃ (M : ModV) (p' : Nat), p < p' ∧ modOK Ms k M ∧ modX σ' 5 M ∧ modM τ' (48 + k) M ∧ (τ'.1 2079 (48 + k) = (mdC M : Int) ∧ ∀ j, j < 10 → τ'.1 2081 (10 * (48 + k) + j) = if j < mdL M then mdmn M j else 0) ∧ (TKf T n σ' τ' p' ∧ τ'.1 2075 28 = 0 ∧ σ'.1 2 9 = 0) ∧ (agr nMX σ σ' ∧ agr (nMY k) τ τ') ∧ (BLs τ → BLs τ')
section
variable {k : Nat} {Ms : Nat → ModV} {c0 : Nat × Int} {σ0 τ0 : St} {T : Nat → Int} {n p : Nat} {σ τ σ' τ' σb τb : St} {q : Nat} {α β γ δ : Type}
theorem BS.cg2 (h : BS c0 σ0 τ0 T n σ τ) (e2 : σ'.1 2 2 = σ.1 2 2) (e4 : σ'.1 4 = σ.1 4) (e3 : σ'.2 = σ.2) (eN : agr (nX c0) σ σ') : BS c0 σ0 τ0 T n σ' τ := by
  obtain ⟨⟨a1, a2, a3, a4, a5⟩, h2, b3, b4, b5⟩ := h
  exact ⟨⟨a1, a2, by rw [e2]; exact a3, fun k hk => by rw [e4]; exact a4 k hk, fun i hi => by rw [e3]; exact a5 i hi⟩, h2, b3, b4.trans eN, b5⟩
theorem BS.cgY (h : BS c0 σ0 τ0 T n σ τ) (e2 : τ'.1 2075 2 = τ.1 2075 2) (e28 : τ'.1 2075 28 = τ.1 2075 28) (e37 : τ'.1 2075 37 = τ.1 2075 37) (e76 : τ'.1 2076 = τ.1 2076) (eN : agr (nY c0) τ τ') : BS c0 σ0 τ0 T n σ τ' := by
  obtain ⟨h1, ⟨c1, c2, c3, c4⟩, b3, b4, b5, b6⟩ := h
  exact ⟨h1, ⟨c1, c2, by rw [e2]; exact c3, fun k hk => by rw [e76]; exact c4 k hk⟩, by rw [e28]; exact b3, b4, b5.trans eN, by rw [e37]; exact b6⟩
/-- the start of the items -/
theorem it_start (hk12 : k < 12) (hRS : RS k Ms σ τ) (hb : BS (k, 12) σ0 τ0 T n σ τ) (h11 : σ.1 2 11 = (k : Int)) (h37 : τ.1 2075 37 = (k : Int)) (h9 : σ.1 2 9 = 0) (h36 : τ.1 2075 36 = 0) (h5 : σ.1 5 7 = 0 ∧ σ.1 5 13 = 0 ∧ σ.1 5 14 = 0 ∧ σ.1 5 22 = 0 ∧ σ.1 5 27 = 0) (h2 : σ.1 2 15 = 0 ∧ σ.1 2 16 = -1) (h30 : ∀ z, z < 1600 → σ.1 30 z = 0) (hT : τ.1 2077 (48 + k) = 0 ∧ τ.1 2075 38 = 0 ∧ τ.1 2075 39 = 0 ∧ τ.1 2075 46 = 0 ∧ τ.1 2075 47 = 0) : IT k (fun x => mdT (Ms x)) (fun x => mdkd (Ms x)) (fun x => mdwd (Ms x)) (k, 12) σ0 τ0 T n σ τ p σ τ := by
  obtain ⟨a7, a13, a14, a22, a27⟩ := h5
  obtain ⟨b77, b38, b39, b46, b47⟩ := hT
  have hv : VE k 0 (fun _ => 0) (fun _ => 0) (fun _ => 0) (fun x => mdT (Ms x)) (fun x => mdkd (Ms x)) (fun x => mdwd (Ms x)) σ τ := by
    refine ⟨hk12, ⟨h11, h37⟩, ⟨⟨a7, b77, by decide⟩, fun i hi => absurd hi (Nat.not_lt_zero i)⟩, fun i hi => absurd hi (Nat.not_lt_zero i), fun m hm => ⟨hRS.1 m (by omega), hRS.thR hm, fun i hi => ?_⟩⟩
    obtain ⟨⟨-, ⟨-, x2, -⟩, -⟩, -⟩ := hRS.2.2 m hm
    obtain ⟨⟨-, w1, w2, -⟩, -⟩ := x2 i hi
    exact ⟨w1, w2⟩
  refine ⟨0, fun _ => 0, fun _ => 0, fun _ => 0, fun _ => 0, fun _ => 0, (fun _ => 0, fun _ => 0, fun _ => 0, fun _ => 0, fun _ => 0, fun _ => 0), 0, 0, 0, 0, (fun _ => 0, fun _ => []), ⟨hb, ⟨hv, ⟨⟨a13, b38⟩, Nat.zero_le _⟩, ⟨0, b39, a14, Nat.zero_le _, Nat.le_refl _⟩, ⟨by decide, h9, h36⟩, fun i hi => absurd hi (Nat.not_lt_zero i)⟩, ⟨⟨⟨a22, a27⟩, b46, b47⟩, ⟨Nat.le_refl _, Nat.zero_le _, ⟨Nat.le_refl _, fun k hk => absurd hk (Nat.not_lt_zero k)⟩, fun c hc => absurd hc (Nat.not_lt_zero c), fun c c' _ hc => absurd hc (Nat.not_lt_zero c'), fun c hc => absurd hc (Nat.not_lt_zero c), fun c k hc => absurd hc (Nat.not_lt_zero c), fun c c' _ hc => absurd hc (Nat.not_lt_zero c')⟩, fun c hc => absurd hc (Nat.not_lt_zero c), fun c c' _ hc => absurd hc (Nat.not_lt_zero c'), fun c hc => absurd hc (Nat.not_lt_zero c)⟩, ⟨h2.2, ⟨rfl, rfl⟩, rfl⟩, ⟨⟨by rw [h2.1]; decide, by rw [h2.1]; decide⟩, fun i hi => absurd hi (Nat.not_lt_zero i), fun x y x' y' hv => ?_⟩, fun z hz => ?_⟩, ⟨by rw [h2.1]; decide, fun i hi => absurd hi (Nat.not_lt_zero i)⟩, Nat.le_refl _, agr.refl, agr.refl⟩
  · obtain ⟨i, -, hi, -⟩ := hv
    exact absurd hi (Nat.not_lt_zero i)
  · rw [show 1600 * 0 + z = z by omega, h30 z hz]
    refine ⟨Or.inl rfl, fun h => absurd h (by decide), fun ⟨x, y, _, h⟩ => ?_⟩
    exact absurd h (AL_none (fun k hk => absurd hk (Nat.not_lt_zero k)))
theorem module_LK (hRS : RS k Ms σ τ) (hk12 : k ≤ 12) (h11 : σ.1 2 11 = (k : Int)) (h37 : τ.1 2075 37 = (k : Int)) (h9 : σ.1 2 9 = 0) (hb : BS (k, 13) σ0 τ0 T n σ τ) (hk : TK T n σ τ p) : LK (k, 13) σ0 τ0 (fun _ : Unit => True) F_X1_module F_X15_readModule σ τ (fun _ _ σ' τ' => ModP k Ms T n p σ τ σ' τ') := by
  have hn := hb.1.1
  have hF := FU_ge
  rw [F_X1_module, F_X15_readModule]
  refine LK_want (R := fun _ _ => True) (a := 3) (b := 10) (by decide) (by decide) (by decide) hb hk (fun _ _ _ _ _ _ _ => trivial) trivial (by rw [if_pos rfl]; exact FT_rt trivial) (fun q0 q1 σ1 τ1 hq0 hq1 _ e1 e1' b1 _ k1 => ?_)
  rw [if_neg (by decide), LK_lc]
  refine LK_look (R := fun _ _ => True) b1 (Or.inl k1) (fun _ _ _ _ _ _ _ => trivial) trivial (by rw [if_neg (by decide)]; exact FT_gI (fun v => FT_fail (FT_rt trivial))) (fun q σ2 τ2 hq e2 e2' b2 _ k2 hin => ?_)
  have eX : agr kX σ σ2 := e1.trans e2
  have eY : agr kY τ τ2 := e1'.trans e2'
  have hRS2 : RS k Ms σ2 τ2 := hRS.fr hk12 (fun a q1 q2 => eX.row (fun i => by unfold kX; omega)) (funext fun i => (eX 1 i (by unfold kX; omega)).2.2) (fun m hm => agr.sub eY (fun a i h => by unfold stS at h; unfold kY; omega)) (fun i _ hi => (eY 2081 i (by unfold kY; omega)).1)
  have g11 : σ2.1 2 11 = (k : Int) := by rw [(eX 2 11 (by unfold kX; omega)).1]; exact h11
  have g37 : τ2.1 2075 37 = (k : Int) := by rw [(eY 2075 37 (by unfold kY; omega)).1]; exact h37
  have g9 : σ2.1 2 9 = 0 := by rw [(eX 2 9 (by unfold kX; omega)).1]; exact h9
  by_cases c : tkK T n q = 1
  · rw [if_pos c, if_pos ((km_eq hin (a := 1) (b := 1) (by decide)).mpr c)]
    obtain ⟨l1, l2, l3, l4⟩ := nm_tok k2.1 c
    refine LK_c ?_
    rw [wp_gI, k2.k6]
    refine LK_c ?_
    rw [wp_gI, k2.k7]
    refine LK_t ?_
    rw [wp_gI, g37]
    obtain ⟨r, hr, f1, f2⟩ := mod_both b2.1 b2.2.1 hk12 g11 (fun m hm => hRS2.1 m (by omega)) hRS2.mnr k2.1 c k2.t33 (k2.t34 (by rw [c]; decide) (by rw [c]; decide))
    refine LK_c (f1 _ ?_)
    refine LK_t (f2 _ ?_)
    rcases hr with rfl | ⟨i, rfl, hi⟩
    · rw [if_pos (by decide), if_pos (by decide)]
      refine LK_c ?_
      rw [wp_gI, g11]
      refine LK_t ?_
      rw [wp_gI, g37]
      by_cases c12 : k = 12
      · rw [if_pos (by omega), if_pos (by omega)]
        refine LK_c ?_
        rw [wp_gI, k2.k6]
        refine LK_t ?_
        rw [wp_gI, k2.t33]
        exact LK_flt (n' := 9) (by decide) b2 rfl (FT_rt trivial)
      · have hk' : k < 12 := by omega
        have b12 := BS_12 b2 g37 hk'
        rw [if_neg (by omega), if_neg (by omega)]
        refine LK_13 ?_
        refine LK_c ?_
        rw [clearX]
        refine LK_c ?_
        rw [wp_gI]
        refine LK_c ?_
        rw [wp_pI]
        refine LK_c ?_
        rw [wp_gI]
        refine LK_c ?_
        rw [wp_gI]
        simp (disch := decide) only [stA_ne, stA_eq, stA_stA, k2.k6, k2.k7]
        refine LK_c ?_
        rw [c_cpI (a := 4) (b := 6) (show lay 4 = (2, 4000) from by decide +kernel) (show lay 6 = (2, 10) from by decide +kernel) (by decide) (by omega) (by decide) (by omega) (by omega) (by omega)]
        refine LK_c ?_
        rw [wp_pI]
        refine LK_c ?_
        rw [wp_pI]
        simp (disch := decide) only [stA_ne, stA_eq, stA_stA, tn]
        -- the component's state
        generalize hS : ((stA _ _ _, _) : St) = σ3
        have sr : σ3.2 = σ2.2 := by subst hS; rfl
        have sA : ∀ x, x ≠ 2 → x ≠ 5 → x ≠ 6 → σ3.1 x = σ2.1 x := by
          intro x q1 q2 q3
          subst hS
          dsimp only
          rw [stA_ne q1, stA_ne q3, stA_ne q2]
        have s2 : ∀ i, i ≠ 15 → i ≠ 16 → σ3.1 2 i = σ2.1 2 i := by
          intro i q1 q2
          subst hS
          simp (disch := first | decide | assumption) only [stA_ne, stA_eq, ups_ne]
        have s15 : σ3.1 2 15 = 0 ∧ σ3.1 2 16 = -1 := by
          subst hS
          constructor <;> simp (disch := decide) only [stA_ne, stA_eq, ups_ne, ups_eq]
        have s5 : (σ3.1 5 7 = 0 ∧ σ3.1 5 13 = 0 ∧ σ3.1 5 14 = 0 ∧ σ3.1 5 22 = 0 ∧ σ3.1 5 27 = 0) ∧ σ3.1 5 30 = 0 ∧ σ3.1 5 29 = (tkL T n q : Int) := by
          subst hS
          refine ⟨⟨?_, ?_, ?_, ?_, ?_⟩, ?_, ?_⟩ <;> simp (disch := decide) only [stA_ne, stA_eq, ups_ne, ups_eq]
        have s6 : ∀ j, j < tkL T n q → σ3.1 6 j = T (q + j) := by
          intro j hj
          subst hS
          simp (disch := decide) only [stA_ne, stA_eq]
          unfold cpy
          rw [if_pos ⟨by omega, by omega⟩, show q + (j - (0 : Int).toNat) = q + j by omega]
          exact b2.1.2.2.2.1 _ (by omega)
        clear hS
        refine LK_c (clearR (r := 0) (by decide) (fun σ4 z1 z2 z3 z4 => ?_))
        have k4 : TKp T n σ4 τ2 q := k2.cong (fun i q1 q2 => by rw [z1 2 (by decide), s2 i (by omega) (by omega)]) (by rw [z2, sr]) (fun _ _ _ => rfl) rfl
        have aN : agr (nX (k, 12)) σ2 σ4 := fun a i h => by
          unfold nX at h
          dsimp only at h
          refine ⟨?_, by rw [z2, sr], by rw [z2, sr]⟩
          rw [z1 a (by omega)]
          by_cases e : a = 2
          · subst e; exact s2 i (by omega) (by omega)
          · rw [sA a e (by omega) (by omega)]
        have b4 : BS (k, 12) σ0 τ0 T n σ4 τ2 := b12.cg2 (by rw [z1 2 (by decide), s2 2 (by decide) (by decide)]) (by rw [z1 4 (by decide), sA 4 (by decide) (by decide) (by decide)]) (by rw [z2, sr]) aN
        refine LK_c (pass_l b4 k4 (by rw [c]; decide) (fun σ5 y1 y2 y3 => ?_))
        -- the twin
        refine LK_t ?_
        rw [wp_gI, g37]
        refine LK_t ?_
        rw [w32_i (x := 48 + (k : Int)) (by omega) (by omega), w32_i (by omega) (by omega), show 10 * (48 + (k : Int)) = ((10 * (48 + k) : Nat) : Int) by omega]
        refine keep15 (m := 600) (by decide) (fun h1 h2 h3 h4 => RV_2081 h1 h2 h3 h4) (by omega) (by decide) b2.2.1 l3 k2.t33 (k2.t34 (by rw [c]; decide) (by rw [c]; decide)) (fun τ3 u1 u2 u3 u4 => ?_)
        refine LK_t ?_
        rw [F_X15_take, wp_bd, c_pZ (by decide) (by decide), wp_rt]
        refine LK_t ?_
        rw [wp_gI]
        have v37 : τ3.1 2075 37 = (k : Int) := by rw [u1 2075 (by decide)]; exact g37
        simp (disch := decide) only [stA_ne, stA_eq, ups_ne, v37]
        refine LK_t ?_
        rw [w32_i (x := 48 + (k : Int)) (by omega) (by omega), RV_2077 (by omega) (by omega), show (48 + (k : Int)).toNat = 48 + k by omega]
        refine LK_t ?_
        rw [wp_pI]
        refine LK_t ?_
        rw [wp_pI]
        refine LK_t ?_
        rw [wp_pI]
        refine LK_t ?_
        rw [wp_pI]
        refine LK_t ?_
        rw [wp_pI]
        simp (disch := decide) only [stA_ne, stA_eq, stA_stA]
        generalize hU : ((stA _ _ _, _) : St) = τ4
        have tr : τ4.2 = τ2.2 := by subst hU; exact u2
        have tA : ∀ x, x ≠ 2075 → x ≠ 2077 → x ≠ 2081 → τ4.1 x = τ2.1 x := by
          intro x q1 q2 q3
          subst hU
          simp (disch := first | decide | assumption) only [stA_ne]
          exact u1 x q3
        have t77 : τ4.1 2077 = ups (τ2.1 2077) (48 + k) 0 := by
          subst hU
          simp (disch := decide) only [stA_ne, stA_eq]
          rw [u1 2077 (by decide)]
        have t81 : τ4.1 2081 = τ3.1 2081 := by
          subst hU
          simp (disch := decide) only [stA_ne]
        have t75 : ∀ i, i ≠ 31 → i ≠ 36 → i ≠ 38 → i ≠ 39 → i ≠ 46 → i ≠ 47 → τ4.1 2075 i = τ2.1 2075 i := by
          intro i q1 q2 q3 q4 q5 q6
          subst hU
          simp (disch := first | decide | assumption) only [stA_ne, stA_eq, ups_ne]
          rw [u1 2075 (by decide)]
        have t0 : τ4.1 2075 31 = 0 ∧ τ4.1 2075 36 = 0 ∧ τ4.1 2075 38 = 0 ∧ τ4.1 2075 39 = 0 ∧ τ4.1 2075 46 = 0 ∧ τ4.1 2075 47 = 0 := by
          subst hU
          refine ⟨?_, ?_, ?_, ?_, ?_, ?_⟩ <;> simp (disch := decide) only [stA_ne, stA_eq, ups_ne, ups_eq]
        clear hU
        have aY : agr (nMY k) τ2 τ4 := fun a i h => by
          unfold nMY at h
          refine ⟨?_, by rw [tr], by rw [tr]⟩
          by_cases q1 : a = 2075
          · subst q1; exact t75 i (by omega) (by omega) (by omega) (by omega) (by omega) (by omega)
          · by_cases q2 : a = 2077
            · subst q2; rw [t77, ups_ne (by omega)]
            · by_cases q3 : a = 2081
              · subst q3; rw [t81]; exact u4 i (by omega)
              · rw [tA a q1 q2 q3]
        have aY' : agr (nY (k, 12)) τ2 τ4 := fun a i h => by
          unfold nY at h
          dsimp only at h
          refine ⟨?_, by rw [tr], by rw [tr]⟩
          by_cases q1 : a = 2075
          · subst q1; exact t75 i (by omega) (by omega) (by omega) (by omega) (by omega) (by omega)
          · by_cases q2 : a = 2077
            · subst q2; rw [t77, ups_ne (by omega)]
            · by_cases q3 : a = 2081
              · subst q3; rw [t81]; exact u4 i (by omega)
              · rw [tA a q1 q2 q3]
        have aX : agr nMX σ2 σ5 := by
          refine agr.trans (τ := σ4) (fun a i h => ?_) (agr.sub y1 (fun a i h => by unfold nMX at h; unfold kX; omega))
          unfold nMX at h
          refine ⟨?_, by rw [z2, sr], by rw [z2, sr]⟩
          rw [z1 a (by omega)]
          by_cases e : a = 2
          · subst e; exact s2 i (by omega) (by omega)
          · rw [sA a e (by omega) (by omega)]
        have b5 : BS (k, 12) σ0 τ0 T n σ5 τ4 := (b4.fr y1 agr.refl).cgY (t75 2 (by decide) (by decide) (by decide) (by decide) (by decide) (by decide)) (t75 28 (by decide) (by decide) (by decide) (by decide) (by decide) (by decide)) (t75 37 (by decide) (by decide) (by decide) (by decide) (by decide) (by decide)) (tA 2076 (by decide) (by decide) (by decide)) aY'
        have k5 : TK T n σ5 τ4 (q + tkL T n q) := Or.inl ⟨l3, y2, t0.1, by rw [t75 30 (by decide) (by decide) (by decide) (by decide) (by decide) (by decide)]; exact k2.2.2.2.2.2.2.1⟩
        have hRS5 : RS k Ms σ5 τ4 := hRS2.fr hk12 (fun a q1 q2 => aX.row (fun i => by unfold nMX; omega)) (funext fun i => (aX 1 i (by unfold nMX; omega)).2.2) (fun m hm => agr.sub aY (fun a i h => by unfold stS at h; unfold nMY; omega)) (fun i _ hi => (aY 2081 i (by unfold nMY; omega)).1)
        have w5 : ∀ i, σ5.1 5 i = σ3.1 5 i := fun i => by rw [(y1 5 i (by unfold kX; omega)).1, z1 5 (by decide)]
        have w2 : ∀ i, 9 ≤ i → σ5.1 2 i = σ3.1 2 i := fun i hi => by rw [(y1 2 i (by unfold kX; omega)).1, z1 2 (by decide)]
        have w6 : ∀ i, σ5.1 6 i = σ3.1 6 i := fun i => by rw [(y1 6 i (by unfold kX; omega)).1, z1 6 (by decide)]
        have it := it_start (p := q + tkL T n q) hk' hRS5 b5 (by rw [w2 11 (by decide), s2 11 (by decide) (by decide)]; exact g11) (by rw [t75 37 (by decide) (by decide) (by decide) (by decide) (by decide) (by decide)]; exact g37) (by rw [w2 9 (by decide), s2 9 (by decide) (by decide)]; exact g9) t0.2.1 ⟨by rw [w5]; exact s5.1.1, by rw [w5]; exact s5.1.2.1, by rw [w5]; exact s5.1.2.2.1, by rw [w5]; exact s5.1.2.2.2.1, by rw [w5]; exact s5.1.2.2.2.2⟩ ⟨by rw [w2 15 (by decide)]; exact s15.1, by rw [w2 16 (by decide)]; exact s15.2⟩ (fun z hz => by
          have := z3 z hz
          rw [show 1600 * 0 + z = z by omega] at this
          rw [(y1 30 z (by unfold kX; omega)).1]; exact this) ⟨by rw [t77, ups_eq], t0.2.2.1, t0.2.2.2.1, t0.2.2.2.2.1, t0.2.2.2.2.2⟩
        refine LK_want (R := fun _ _ => True) (a := 123) (b := 30) (by decide) (by decide) (by decide) b5 k5 (fun _ _ _ _ _ _ _ => trivial) trivial (by rw [if_pos rfl]; exact FT_rt trivial) (fun q5 q6 σ6 τ6 hq5 hq6 _ i1 i2 b6 _ k6 => ?_)
        rw [if_neg (by decide), LK_lc]
        have k6l := k6.1
        refine LK_mono (mloop (k := k) (Ms := Ms) (L := tkL T n q) (p0 := q6) (σb := σ5) (τb := τ4) (Nat.le_refl _) rfl hRS5.mnr hRS5.2.1 ⟨l1, l2, fun j hj => by rw [w6, s6 j hj]; exact (l4 j hj).ne⟩ (by rw [w5]; exact s5.2.2) (by rw [w5]; exact s5.2.1) (n + 1) FU FU (by omega) (by omega) q6 σ6 τ6 (by omega) (Nat.le_refl _) (it.kk (by omega) i1 i2 b6) (Or.inl k6)) (fun _ _ σ' τ' h => ?_)
        obtain ⟨M, p', m1, m2, m3, m4, ⟨m5, m5'⟩, ⟨m6, m6'⟩, m7, ⟨m8, m8', m8''⟩, m9⟩ := h
        have eL : mdL M = tkL T n q := by
          have := m6'
          rw [w5, s5.2.2] at this
          omega
        refine ⟨hk', M, p', by omega, m2, m3, m4, ⟨m5, fun j hj => ?_⟩, m7, ⟨((agr.sub eX (fun a i h => by unfold nMX at h; unfold kX; omega)).trans aX).trans m8, ((agr.sub eY (fun a i h => by unfold nMY at h; unfold kY; omega)).trans aY).trans m8'⟩, fun hB => m9 (fun i => ?_)⟩
        · rw [m8'', t81, u3 j hj, eL]
          by_cases d : j < tkL T n q
          · rw [if_pos d, if_pos d, m6 j (by omega), w6, s6 j d]
          · rw [if_neg d, if_neg d]
        · rw [tA 2099 (by decide) (by decide) (by decide), (eY 2099 i (by unfold kY; omega)).1]; exact hB i
    · rw [if_neg (by omega), if_neg (by omega)]
      refine LK_c ?_
      rw [wp_gI, k2.k6]
      refine LK_t ?_
      rw [wp_gI, k2.t33]
      exact LK_flt (n' := 3) (by decide) b2 rfl (FT_rt trivial)
  · rw [if_neg c, if_neg (fun z => c ((km_eq hin (a := 1) (b := 1) (by decide)).mp z))]
    refine LK_c ?_
    rw [wp_gI, k2.k6]
    refine LK_t ?_
    rw [wp_gI, k2.t33]
    exact LK_flt (n' := 2) (by decide) b2 rfl (FT_rt trivial)
end
