set_option maxRecDepth 100000
set_option maxHeartbeats 400000
/-! ===== read: an item ===== -/
section
variable {k t : Nat} {kd wd pt ws bg : Nat → Nat} {Mt : Nat → Nat} {Mk Mw : Nat → Nat → Nat}
variable {c0 : Nat × Int} {σ0 τ0 : St} {T : Nat → Int} {n : Nat} {G : NG} {N nC nW nS p p' : Nat} {H : SG} {σ τ σ' τ' σb τb : St} {q L K w P s b m : Nat} {α γ δ : Type}
theorem km_item : ∀ K, K ∈ KS → (11 ≤ km K ∧ km K ≤ 16 ↔ 4 ≤ K ∧ K ≤ 9) ∧ (4 ≤ K → K ≤ 9 → km K = K + 7) := by decide
theorem look_c {E : XV → St → Prop} {p : Nat} (hk : TKp T n σ τ p) {Q : Int → St → Prop} : wpE F_X1_look σ Q E = Q (tkK T n p) σ := by
  obtain ⟨h1, h2, ⟨k1, k2, k3, k4, k5⟩, h3⟩ := hk
  rw [F_X1_look, wpE_bd, wp_gI, k1, wpE_ifn (by decide), X1_look_11, wpE_bd, wp_gI, k2, wpE_lE, wp_rt]
theorem t11l : (11 : Int64).toInt = 11 := by decide
theorem t16l : (16 : Int64).toInt = 16 := by decide
theorem FT_11 : FTw c0 (fun _ : Unit => True) (R_X15_oneStatement (-1) 0) := by
  unfold R_X15_oneStatement
  rw [show (100 : Nat) = 99 + 1 from rfl, gu_one]
  exact FT_one
theorem item_LK (hck : c0.1 ≤ k) (hc0 : c0.2 = 12) (hmn : MNR k σb τb) (hit : IT k Mt Mk Mw c0 σ0 τ0 T n σb τb p σ τ) (hk : TK T n σ τ p) : LK c0 σ0 τ0 (fun _ : Unit => True) F_X1_item (bd F_X15_look fun v3 => F_X15_item v3) σ τ (fun _ _ σ' τ' => ∃ p', p < p' ∧ IT k Mt Mk Mw c0 σ0 τ0 T n σb τb p' σ' τ' ∧ TK T n σ' τ' p') := by
  obtain ⟨t, kd, wd, pt, ws, bg, G, N, nC, nW, nS, H, hs, htw, hpsi, hbX, hbY⟩ := hit
  have hn4 := hs.1.1.1
  rw [F_X1_item]
  refine LK_look hs.1 hk (EX0.st VE.st) hs.2.1 (FT_item (by omega) (by decide) (by decide)) (fun q σ1 τ1 hq e1 e2 b1 x1 k1 hin => ?_)
  have hkm := km_item _ hin
  have hs1 := hs.kk hq e1 e2 b1
  rw [LK_lc]
  by_cases c : 4 ≤ tkK T n q ∧ tkK T n q ≤ 9
  · have ekm := hkm.2 c.1 c.2
    rw [if_neg (by omega), if_pos (by omega), item15_eq, if_neg (by omega), if_neg (by omega)]
    refine LK_t ?_
    rw [in15_yy (by rw [i2l_t (by omega) (by omega), t11l, t16l]; omega), if_neg (by decide)]
    refine LK_pass (R := fun _ _ => True) b1 k1 (by omega) (fun _ _ _ _ _ _ _ => trivial) trivial (fun q2 σ2 τ2 hq2 _ w1 w2 b2 _ k2 _ => ?_)
    rw [F_X15_newThing]
    simp only [bd_as, bd_ite, bd_rt']
    have ftT : ∀ z : Int, z = 0 → FTw c0 (fun _ : Unit => True) (if km (tkK T n q) = 16 then (bd (F_X15_instance z) fun _ => rt ()) else tailT (km (tkK T n q)) z) := fun z _ => FT_if (fun _ => FT_bd FT_inst (fun _ _ => FT_rt trivial)) (fun _ => FT_tailT)
    refine LK_look (R := fun _ _ => True) b2 (Or.inl k2) (fun _ _ _ _ _ _ _ => trivial) trivial (by rw [if_neg (by decide)]; exact FT_gI (fun v => FT_fail (ftT 0 rfl))) (fun q3 σ3 τ3 hq3 g1 g2 b3 _ k3 hin3 => ?_)
    have hs3 := hs1.kk (p' := q3) (by omega) (w1.trans g1) (w2.trans g2) b3
    have htw3 := htw.kk (e1.trans (w1.trans g1)) (e2.trans (w2.trans g2))
    by_cases c1 : tkK T n q3 = 1
    · rw [if_pos c1, if_pos ((km_eq hin3 (a := 1) (b := 1) (by decide)).mpr c1)]
      obtain ⟨l1, l2, l3, l4⟩ := nm_tok k3.1 c1
      have hv3 := hs3.2.1.1
      obtain ⟨v1, ⟨v2, v3⟩, ⟨⟨v4, v4', v4''⟩, -⟩, -⟩ := id hv3
      obtain ⟨r, hr, -, f1, f2⟩ := told_both b3 hv3 k3 c1
      refine LK_c ?_
      rw [wp_gI, k3.k6]
      refine LK_c ?_
      rw [wp_gI, k3.k7]
      refine LK_c (f1 _ ?_)
      refine LK_t ?_
      rw [wp_gI, v3]
      refine LK_t (f2 _ ?_)
      rcases hr with rfl | ⟨i, rfl, hi⟩
      · rw [if_pos (by decide), if_pos (by decide), X15_newThing_39]
        simp only [bd_as, bd_ite]
        refine LK_c ?_
        rw [wp_gI, v4]
        refine LK_t ?_
        rw [wp_gI, v3]
        refine LK_t ?_
        rw [w32_i (x := 48 + (k : Int)) (by omega) (by omega), RI_2077 (by omega) (by omega), show (48 + (k : Int)).toNat = 48 + k by omega, v4']
        by_cases c40 : t = 40
        · rw [if_pos (by omega), if_pos (by omega)]
          refine LK_c ?_
          rw [wp_gI, k3.k6]
          refine LK_t ?_
          rw [wp_gI, k3.t33]
          exact LK_flt (n' := 9) (by decide) b3 rfl (FT_bd FT_new66 ftT)
        · rw [if_neg (by omega), if_neg (by omega)]
          refine LK_c ?_
          rw [wp_gI, k3.k6, LK_lc]
          refine LK_c ?_
          rw [wp_gI, k3.k7, LK_lc]
          refine LK_c (pass_l b3 k3 (by omega) (fun σ4 z1 z2 z3 => ?_))
          obtain ⟨K, hK⟩ : ∃ K : Nat, tkK T n q = ((K + 4 : Nat) : Int) := ⟨(tkK T n q - 4).toNat, by omega⟩
          rw [show w32 (w32 (km (tkK T n q) - 10) - 1) = (K : Int) by rw [w32_i (x := km (tkK T n q) - 10) (by omega) (by omega), w32_i (by omega) (by omega)]; omega]
          refine LK_t (newT66 (k := k) (t := t) (T := T) (n := n) (q := q3) (L := tkL T n q3) b3.h37 v3 v1 v4' (by omega) b3.2.1 l3 k3.t33 (k3.t34 (by omega) (by omega)) (fun τ4 y1 y2 y3 => ?_))
          have hP : PT T q3 (tkL T n q3) k t K 0 1 0 σ3 τ3 σ4 τ4 := ⟨z1, y1, y2⟩
          have b4 : BS c0 σ0 τ0 T n σ4 τ4 := (b3.fr z1 agr.refl).frU hck y1 (by omega)
          have k4 : TK T n σ4 τ4 (q3 + tkL T n q3) := Or.inl ⟨l3, z2, y3.1, by rw [y3.2]; exact k3.2.2.2.2.2.2.1⟩
          have hbX3 := hbX.trans (nIX_k (e1.trans (w1.trans g1)))
          have hbY3 := hbY.trans (nIY_k (k := k) (e2.trans (w2.trans g2)))
          by_cases c9 : tkK T n q = 9
          · have hK5 : K = 5 := by omega
            subst hK5
            rw [if_pos c9, if_pos (by omega)]
            exact inst_LK hck hmn hs3 htw3 hpsi hbX3 hbY3 (by omega) ⟨l1, l2, l4⟩ l3 hP b4 k4 (by omega) (by omega)
          · rw [if_neg c9, if_neg (by omega), ekm]
            exact thing_LK hck v1 hK (by omega) hs3 htw3 hpsi hbX3 hbY3 (by omega) ⟨l1, l2, l4⟩ l3 hP b4 k4 (by omega) (by omega)
      · rw [if_neg (by omega), if_neg (by omega)]
        refine LK_c ?_
        rw [wp_gI, k3.k6]
        refine LK_t ?_
        rw [wp_gI, k3.t33]
        exact LK_flt (n' := 3) (by decide) b3 rfl (FT_bd (FT_new39 (by omega)) ftT)
    · rw [if_neg c1, if_neg (fun z => c1 ((km_eq hin3 (a := 1) (b := 1) (by decide)).mp z))]
      refine LK_c ?_
      rw [wp_gI, k3.k6]
      refine LK_t ?_
      rw [wp_gI, k3.t33]
      exact LK_flt (n' := 2) (by decide) b3 rfl (ftT 0 rfl)
  · have e16 : (if tkK T n q < 4 then X1_item_16 else if tkK T n q ≤ 9 then (bd (F_X1_pass) fun _ => bdE (F_X1_look) fun v3 => if v3 = 1 then (bd (gI 2 6) fun v4 => bd (gI 2 7) fun v5 => bd (F_X2_find 5 4 v4 v5) fun v6 => if v6 < 0 then (bd (gI 5 7) fun v7 => if v7 = 40 then (bd (gI 2 6) fun v => thw (0, 9, v)) else bd (gI 2 6) fun v8 => lt v8 fun x2_9 => bd (gI 2 7) fun v10 => lt v10 fun x3_11 => bd (F_X1_pass) fun _ => if tkK T n q = 9 then (bdE (F_X1_inst x2_9 x3_11) fun _ => X1_item_144) else bdE (F_X1_thing (tkK T n q) x2_9 x3_11) fun _ => X1_item_144) else bd (gI 2 6) fun v => thw (0, 3, v)) else bd (gI 2 6) fun v => thw (0, 2, v)) else X1_item_16) = X1_item_16 := by
      by_cases d : tkK T n q < 4
      · rw [if_pos d]
      · rw [if_neg d, if_neg (by omega)]
    rw [e16, item15_eq, X1_item_16]
    by_cases cs : tkK T n q = 1 ∨ tkK T n q = 10
    · have e11 : ∀ z, (if km (tkK T n q) = 1 then X15_item_11 else if km (tkK T n q) = 17 then X15_item_11 else z) = X15_item_11 := fun z => by
        rcases cs with d | d
        · rw [if_pos ((km_eq hin (a := 1) (b := 1) (by decide)).mpr d)]
        · rw [if_neg (fun w => by have := (km_eq hin (a := 1) (b := 1) (by decide)).mp w; omega), if_pos ((km_eq hin (a := 10) (b := 17) (by decide)).mpr d)]
      rw [e11, X15_item_11]
      refine LK_bd (B := fun _ : Unit => True) (LK_mono (P := fun _ _ σ' τ' => SPost k t kd wd pt Mt Mk Mw c0 σ0 τ0 T n 0 (-1) 0 [] G N nC nW nS q σ1 τ1 σ' τ') ?_ ?_) (fun _ _ => FT_rt trivial)
      · unfold R_X1_statement R_X15_oneStatement
        exact stm_all hc0 20 0 rfl 100 100 (by decide) (by decide) (-1) 0 [] G N nC nW nS q H σ1 τ1 hs1 (Or.inr k1)
      · rintro _ _ σ' τ' ⟨G', N', nC', nW', nS', p', H', hp', hst, hs', hk'⟩
        obtain ⟨⟨-, -, -, -, s1⟩, -, ⟨s2, s3⟩, -⟩ := hst
        refine LK_rt ⟨p', by omega, ⟨t, kd, wd, pt, ws, bg, G', N', nC', nW', nS', H', hs', (htw.kk e1 e2).fr (s2 2 15 (by unfold nSX; omega)).1 (s2.row (fun k => by unfold nSX; omega)) (s2.row (fun k => by unfold nSX; omega)) (s3.row (fun k => by unfold nSY; omega)) (funext fun i => (s3 2085 i (by unfold nSY; omega)).2.1), by omega, (hbX.trans (nIX_k e1)).trans (agr.sub s2 (fun a i h => by unfold nIX at h; unfold nSX; omega)), (hbY.trans (nIY_k e2)).trans (agr.sub s3 (fun a i h => by unfold nIY at h; unfold nSY; omega))⟩, hk'⟩
    · rw [if_neg (fun w => cs (Or.inl ((km_eq hin (a := 1) (b := 1) (by decide)).mp w))), if_neg (fun w => cs (Or.inr ((km_eq hin (a := 10) (b := 17) (by decide)).mp w)))]
      refine LK_t ?_
      rw [in15_nn (by
        have := km_R _ hin
        rw [i2l_t (by omega) (by omega), t11l, t16l]
        exact fun z => c (hkm.1.mp z)), if_pos rfl]
      have hS : R_X1_statement 0 = F_X1_statement (G_X1_block 99).2.2.2 0 := by
        unfold R_X1_statement
        rw [show (100 : Nat) = 99 + 1 from rfl, gs_statement]
      rw [hS, F_X1_statement]
      simp only [bdE_bdE]
      refine LK_E ?_
      rw [look_c k1, if_neg (fun w => cs (Or.inr w))]
      simp only [bdE_bd]
      refine LK_c ?_
      rw [wp_gI, k1.k5, if_neg (fun w => cs (Or.inl w)), bdE_bd]
      refine LK_c ?_
      rw [wp_gI, k1.k6, bdE_thw]
      refine LK_t ?_
      rw [wp_gI, k1.t33]
      exact LK_flt (n' := 2) (by decide) b1 rfl (FT_rt trivial)
end
