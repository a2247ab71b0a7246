set_option maxRecDepth 100000
set_option maxHeartbeats 400000
/-! ===== read: whole expressions ===== -/
theorem tailR_eq {re re' : St → Option (Int × St)} {rr rr' : Int → St → Option (Unit × St)} : tailR re rr = tailR re' rr' := by
  unfold tailR
  simp only [X15_primary_312, X15_primary_331]
theorem primary_eq {re : St → Option (Int × St)} {rr : Int → St → Option (Unit × St)} : F_X15_primary re rr = bd F_X15_look fun v1 => bd (gI 2075 33) fun v3 => if v1 = 32 then (bd (F_X15_opens) fun v22 => if v22 = 0 then (rt 0) else bd (F_X15_take) fun _ => bd re fun v23 => bd (F_X15_must 33) fun _ => bd (gI 2075 36) fun v27 => bd (pI 2075 36 (w32 (v27 - 1))) fun _ => rt v23) else if v1 = 30 then (bd (F_X15_opens) fun v22 => if v22 = 0 then (rt 0) else bd (F_X15_take) fun _ => bd re fun v20 => X15_primary_78 re rr FU v3 v20) else if v1 = 2 then (bd (F_X15_numberIn 1 32) fun v13 => bd (F_X15_must 42) fun v15 => if v15 = 0 then (rt 0) else bd (F_X15_numberIn 0 ((lshl 1 (l2i v13)) - 1)) fun v16 => bd (F_X15_node 60 0 0 0 (l2i v13) v16 1) fun v18 => rt v18) else if v1 = 1 then (bd (rr 0) (tailR re rr)) else bd (F_X15_fail 2 v3) fun _ => rt 0 := by
  rw [F_X15_primary]
  unfold tailR
  simp only [lt]
section
variable {k t : Nat} {kd wd pt : Nat → Nat} {Mt : Nat → Nat} {Mk Mw : Nat → Nat → Nat}
variable {V : St → St → Prop} {RD : Nat → Int → Nat → Prop} {WD : Nat → Nat → Prop} {c0 : Nat × Int} {σ0 τ0 : St} {T : Nat → Int} {n op : Nat} {γ δ : Type}
theorem xs_primary (hc0 : c0.2 = 12) (hop : op ≤ 20) {ec ec' : St → Option ((Int ⊕ XV) × St)} {re re' : St → Option (Int × St)} (h1 : op < 20 → XS (VE k t kd wd pt Mt Mk Mw) (RDk t kd wd pt Mt Mk Mw) (WDk t kd wd) c0 σ0 τ0 T n (op + 1) ec re) (h2 : op < 20 → XS (VE k t kd wd pt Mt Mk Mw) (RDk t kd wd pt Mt Mk Mw) (WDk t kd wd) c0 σ0 τ0 T n (op + 1) ec' re) (h3 : op < 20 → XS (VE k t kd wd pt Mt Mk Mw) (RDk t kd wd pt Mt Mk Mw) (WDk t kd wd) c0 σ0 τ0 T n (op + 1) ec' re') : XS (VE k t kd wd pt Mt Mk Mw) (RDk t kd wd pt Mt Mk Mw) (WDk t kd wd) c0 σ0 τ0 T n op (F_X1_primary ec (F_X1_joined ec') (F_X1_named ec')) (F_X15_primary re (fun a => F_X15_reference re' a)) := by
  refine ⟨fun σ τ p s G N j hb hx hk => ?_, ?_⟩
  · rw [F_X1_primary, primary_eq]
    simp only [lt, bdE_id]
    refine LK_look hb hk (EX0.st VE.st) hx ?_ (fun q σ1 τ1 hq e1 e2 b1 x1 k1 hin => ?_)
    · refine FT_gI (fun v => ?_)
      rw [if_neg (by decide), if_neg (by decide), if_neg (by decide), if_neg (by decide)]
      exact FT_fail (FT_rt ⟨by decide, by decide⟩)
    have pre : ∀ r y σ3 τ3, PE (VE k t kd wd pt Mt Mk Mw) (RDk t kd wd pt Mt Mk Mw) (WDk t kd wd) c0 σ0 τ0 T n σ1 τ1 p s G N j op r y σ3 τ3 → PE (VE k t kd wd pt Mt Mk Mw) (RDk t kd wd pt Mt Mk Mw) (WDk t kd wd) c0 σ0 τ0 T n σ τ p s G N j op r y σ3 τ3 := fun r y σ3 τ3 h => h.pre (agr_nEX (agr_kX9 e1)) (agr_nEY (agr_kY6 e2)) (Nat.le_refl p)
    have i1 := km_eq hin (a := 1) (b := 1) (by decide)
    have i2 := km_eq hin (a := 2) (b := 2) (by decide)
    have i40 := km_eq hin (a := 40) (b := 32) (by decide)
    have i123 := km_eq hin (a := 123) (b := 30) (by decide)
    refine LK_t ?_
    rw [wp_gI, k1.t33]
    by_cases c1 : tkK T n q = 1
    · rw [if_pos c1, if_neg (fun e => by have := i40.mp e; omega), if_neg (fun e => by have := i123.mp e; omega), if_neg (fun e => by have := i2.mp e; omega), if_pos (i1.mpr c1), tailR_eq (re' := re') (rr' := fun a => F_X15_reference re' a)]
      exact LK_mono (named_LK hc0 hop h3 b1 x1 k1 hq c1) pre
    rw [if_neg c1]
    by_cases c2 : tkK T n q = 2
    · rw [if_pos c2, if_neg (fun e => by have := i40.mp e; omega), if_neg (fun e => by have := i123.mp e; omega), if_pos (i2.mpr c2)]
      exact LK_mono (number_LK VE.st b1 x1 k1 hq) pre
    rw [if_neg c2]
    by_cases c40 : tkK T n q = 40
    · rw [if_pos c40, if_pos (i40.mpr c40)]
      exact LK_mono (paren_LK VE.st hop h1 b1 x1 k1 hq (by omega)) pre
    rw [if_neg c40]
    by_cases c123 : tkK T n q = 123
    · rw [if_pos c123, if_neg (fun e => by have := i40.mp e; omega), if_pos (i123.mpr c123)]
      exact LK_mono (joined_LK VE.st hop h2 b1 x1 k1 hq (by omega)) pre
    rw [if_neg c123, if_neg (fun e => c40 (i40.mp e)), if_neg (fun e => c123 (i123.mp e)), if_neg (fun e => c2 (i2.mp e)), if_neg (fun e => c1 (i1.mp e))]
    refine LK_c ?_
    rw [wp_gI, k1.k6]
    exact LK_flt (n' := 2) (by decide) b1 rfl (FT_rt ⟨by decide, by decide⟩)
  · rw [primary_eq]
    refine FT_bd FT_look (fun y hy => ?_)
    subst hy
    refine FT_gI (fun v => ?_)
    rw [if_neg (by decide), if_neg (by decide), if_neg (by decide), if_neg (by decide)]
    exact FT_fail (FT_rt ⟨by decide, by decide⟩)
theorem tern_W {G : NG} {N M1 M2 M3 : Nat} (h1 : N < M1) (h2 : M1 < M2) (h3 : M2 < M3) (f1 : gF G (M1 - 1) = N) (f2 : gF G (M2 - 1) = M1) (f3 : gF G (M3 - 1) = M2) (w1 : gW G (M1 - 1) = 1) (w2 : gW G (M2 - 1) = gW G (M3 - 1)) (wr : 1 ≤ gW G (M2 - 1) ∧ gW G (M2 - 1) ≤ 32) : nodW RD WD (gUp G M3 19 N (gW G (M2 - 1)) ((M1 - 1 : Nat) : Int) ((M2 - 1 : Nat) : Int) ((M3 - 1 : Nat) : Int)) M3 := by
  obtain ⟨⟨u1, u2, u3⟩, u4, u5, u6⟩ := gUp_at (G := G) (N := M3) (op := 19) (f := N) (w := gW G (M2 - 1)) (a := ((M1 - 1 : Nat) : Int)) (b := ((M2 - 1 : Nat) : Int)) (c := ((M3 - 1 : Nat) : Int))
  obtain ⟨⟨v1, v2, v3⟩, -⟩ := gAt.up (G := G) (N := M3) (op := 19) (f := N) (w := gW G (M2 - 1)) (i := M3 - 1) (a := ((M1 - 1 : Nat) : Int)) (b := ((M2 - 1 : Nat) : Int)) (c := ((M3 - 1 : Nat) : Int)) (by omega)
  obtain ⟨⟨x1, x2, x3⟩, -⟩ := gAt.up (G := G) (N := M3) (op := 19) (f := N) (w := gW G (M2 - 1)) (i := M2 - 1) (a := ((M1 - 1 : Nat) : Int)) (b := ((M2 - 1 : Nat) : Int)) (c := ((M3 - 1 : Nat) : Int)) (by omega)
  obtain ⟨⟨y1, y2, y3⟩, -⟩ := gAt.up (G := G) (N := M3) (op := 19) (f := N) (w := gW G (M2 - 1)) (i := M1 - 1) (a := ((M1 - 1 : Nat) : Int)) (b := ((M2 - 1 : Nat) : Int)) (c := ((M3 - 1 : Nat) : Int)) (by omega)
  unfold nodW
  rw [u1, u2, u3, u4, u5, u6]
  refine ⟨⟨by omega, wr.1, wr.2, by omega⟩, fun e => absurd e (by omega), fun e => absurd e (by omega), fun e => absurd e (by omega), fun _ e => absurd e (by omega), fun _ e => absurd rfl e, fun _ => ⟨M1 - 1, M2 - 1, by omega, rfl, ?_, ?_, rfl, rfl, ?_, ?_, ?_, ?_⟩⟩
  · rw [v2, f3]; omega
  · rw [x2, f2]; omega
  · rw [y2, f1]
  · rw [y3, w1]
  · rw [x3]
  · rw [v3, w2]
theorem FT_e106 {re : St → Option (Int × St)} {rl : Int → St → Option (Int × St)} {a b c : Int} (hb : BQ b) : FTw c0 BQ (X15_exp_106 re rl a b c) := by
  rw [X15_exp_106]
  refine FT_gI (fun v => FT_pI (by decide) (FT_rd 4200 (fun h1 h2 => RI_2105 h1 h2) hb (fun v' => FT_bd FT_node (fun q hq => ?_))))
  exact FT_rt (by rw [hq]; exact ⟨by decide, by decide⟩)
theorem xs_exp (hV : StE V) (hop : op ≤ 20) {ec oc : St → Option ((Int ⊕ XV) × St)} {re : St → Option (Int × St)} {rl : Int → St → Option (Int × St)} (hor : XS V RD WD c0 σ0 τ0 T n op oc (rl 0)) (hexp : op < 20 → XS V RD WD c0 σ0 τ0 T n (op + 1) ec re) : XS V RD WD c0 σ0 τ0 T n op (F_X1_exp ec oc) (F_X15_exp re rl) := by
  have r0 : FTw c0 BQ (rt 0) := FT_rt ⟨by decide, by decide⟩
  refine ⟨fun σ τ p s G N j hb hx hk => ?_, ?_⟩
  · rw [F_X1_exp, F_X15_exp]
    dsimp only [lt]
    refine LK_bd (LK_mono (hor.1 σ τ p s G N j hb hx hk) ?_) (fun y hy => ?_)
    · rintro r y σ1 τ1 ⟨p1, G1, M1, ⟨hp1, hM1⟩, rfl, rfl, f1, f1', b1, x1, k1, hG1, hF1⟩
      have bq1 : BQ ((M1 - 1 : Nat) : Int) := by
        have := x1.2.1.2
        have := k1.le
        have := b1.1.1
        exact ⟨by omega, by omega⟩
      refine LK_look b1 k1 (EX0.st hV) x1 (by rw [if_neg (by decide)]; exact FT_rt bq1) (fun q1 σ2 τ2 hq1 e1 e2 b2 x2 k2 hin => ?_)
      by_cases c : tkK T n q1 = 63
      · rw [if_pos c, if_pos ((km_eq hin (a := 63) (b := 40) (by decide)).mpr c)]
        refine LK_c ?_
        rw [wp_gI, k2.k6]
        refine LK_t ?_
        rw [wp_gI, k2.t33]
        refine LK_nest b2 k2 (by rw [c]; decide) hop x2.2.2.2.1.2.1 x2.2.2.2.1.2.2 r0 (fun q3 σ3 τ3 hq3 hop3 w1 w2 b3 o1 o2 k3 => ?_)
        have x3 := x2.fr9 hV w1 w2 (by omega) o1 o2
        have hxp := hexp hop3
        have k3l := k3.1
        have hn := b3.1.1
        have hNp := x3.2.1.2
        refine LK_c ?_
        rw [wdX x3 (by omega) (by omega)]
        refine LK_t ?_
        rw [wdM x3 (by omega) (by omega)]
        by_cases cw : gW G1 (M1 - 1) = 1
        · rw [if_pos (by omega), if_pos (by omega)]
          have k3' : TK T n σ3 τ3 ((q3 - s - 1) + (s + 1)) := by rw [show (q3 - s - 1) + (s + 1) = q3 by omega]; exact Or.inl k3
          refine LK_bd (LK_mono (hxp.1 σ3 τ3 (q3 - s - 1) (s + 1) G1 M1 j b3 (x3.le (by omega)) k3') ?_) (fun y hy => ?_)
          · rintro r y σ4 τ4 ⟨p4, G4, M2, ⟨hp4, hM2⟩, rfl, rfl, f4, f4', b4, x4, k4, hG4, hF4⟩
            have bq2 : BQ ((M2 - 1 : Nat) : Int) := by
              have := x4.2.1.2
              have := k4.le
              have := b4.1.1
              exact ⟨by omega, by omega⟩
            refine LK_want (a := 58) (b := 36) (by decide) (by decide) (by decide) b4 k4 (EX0.st hV) x4 (by rw [if_pos rfl]; exact r0) (fun q5 q6 σ5 τ5 hq5 hq6 _ g1 g2 b5 x5 k5 => ?_)
            rw [if_neg (by decide)]
            have k5' : TK T n σ5 τ5 ((q6 - s - 1) + (s + 1)) := by rw [show (q6 - s - 1) + (s + 1) = q6 by omega]; exact Or.inl k5
            refine LK_bd (LK_mono (hxp.1 σ5 τ5 (q6 - s - 1) (s + 1) G4 M2 j b5 (x5.le (by omega)) k5') ?_) (fun y hy => ?_)
            · rintro r y σ6 τ6 ⟨p6, G6, M3, ⟨hp6, hM3⟩, rfl, rfl, f6, f6', b6, x6, k6, hG6, hF6⟩
              have k6l := k6.le
              have hn6 := b6.1.1
              have hNp6 := x6.2.1.2
              have F2 : gF G6 (M2 - 1) = M1 := by rw [(hG6 (M2 - 1) (by omega)).1.2.1]; exact hF4
              have F1 : gF G6 (M1 - 1) = N := by rw [(hG6 (M1 - 1) (by omega)).1.2.1, (hG4 (M1 - 1) (by omega)).1.2.1]; exact hF1
              have W1 : gW G6 (M1 - 1) = 1 := by rw [(hG6 (M1 - 1) (by omega)).1.2.2, (hG4 (M1 - 1) (by omega)).1.2.2]; exact cw
              have wr2 := (x6.2.2.2.2 (M2 - 1) (by omega)).2.1
              refine LK_t ?_
              rw [gI28 (σ := σ) b6.2.2.1, if_pos rfl]
              refine LK_t ?_
              rw [wdM x6 (by omega) (by omega)]
              refine LK_t ?_
              rw [wdM x6 (by omega) (by omega)]
              by_cases ce : gW G6 (M2 - 1) = gW G6 (M3 - 1)
              · rw [if_pos (by omega), X15_exp_106]
                refine LK_closeK hV b6 k6 x6 (fun σ7 τ7 u1 u2 b7 k7 x7 => ?_)
                refine LK_c ?_
                rw [wdX x7 (by omega) (by omega)]
                refine LK_c ?_
                rw [wdX x7 (by omega) (by omega), if_pos (by omega)]
                refine LK_c ?_
                rw [wdX x7 (by omega) (by omega)]
                refine LK_t ?_
                rw [wdM x7 (by omega) (by omega)]
                refine LK_node (opn := 19) (f := N) (p' := p6 + 1) hV b7 x7 (by omega) (by omega) k7 (by unfold ndR; simp) (tern_W hM1 hM2 hM3 F1 F2 hF6 W1 ce ⟨wr2.2.1, wr2.2.2.1⟩) (fun σ8 τ8 v1 v2 b8 k8 x8 => ?_)
                exact LK_rt ⟨p6 + 1, _, M3 + 1, ⟨by omega, by omega⟩, by rw [show M3 + 1 - 1 = M3 by omega], by rw [show M3 + 1 - 1 = M3 by omega], (((((((f1.trans (agr_nEX (agr_kX9 e1))).trans (agr_nEX w1)).trans f4).trans (agr_nEX (agr_kX9 g1))).trans f6).trans (agr_nEX u1)).trans v1), (((((((f1'.trans (agr_nEY (agr_kY6 e2))).trans (agr_nEY w2)).trans f4').trans (agr_nEY (agr_kY6 g2))).trans f6').trans (agr_nEY u2)).trans v2), b8, x8, by rw [show p6 + 1 + s = p6 + (s + 1) by omega]; exact k8, fun i hi => (((hG1 i hi).trans (hG4 i (by omega))).trans (hG6 i (by omega))).trans (gAt.up (by omega)), by rw [show M3 + 1 - 1 = M3 by omega]; exact gUp_at.1.2.1⟩
              · rw [if_neg (by omega)]
                obtain ⟨o0, o1, o2⟩ := x6.2.2.2.1
                refine LK_c ?_
                rw [wp_gI]
                refine LK_c ?_
                rw [wp_pI]
                have a9 : agr kX9 σ6 (stA σ6.1 2 (ups (σ6.1 2) 9 (w32 (σ6.1 2 9 - 1))), σ6.2) := agr.refl.u (by unfold kX9; omega) _
                have b7 := b6.fr9 a9 (agr.refl (σ := τ6))
                have r18 : ∀ i, i < M3 → ∀ Q : Int → St → Prop, wp (F_X1_widthOf ((i : Nat) : Int)) (stA σ6.1 2 (ups (σ6.1 2) 9 (w32 (σ6.1 2 9 - 1))), σ6.2) Q = Q (gW G6 i : Int) (stA σ6.1 2 (ups (σ6.1 2) 9 (w32 (σ6.1 2 9 - 1))), σ6.2) := fun i hi Q => by
                  rw [F_X1_widthOf, wp_bd, RI_18 (by omega) (by omega), tn, wp_rt]
                  dsimp only
                  rw [stA_ne (by decide), (x6.2.2.2.2 i hi).1.1.2.2.2.2]
                refine LK_c ?_
                rw [r18 _ (by omega)]
                refine LK_c ?_
                rw [r18 _ (by omega), if_neg (by omega)]
                exact LK_flt (n' := 7) (by decide) b7 rfl (FT_e106 bq2)
            · exact FT_gF (fun v hv => FT_if (c := v = 0) (fun e => absurd e (by omega)) (fun _ => FT_e106 bq2))
          · exact FT_bd (FT_must (by decide)) (fun z hz => FT_if (fun _ => r0) (fun e => absurd hz e))
        · rw [if_neg (by omega), if_neg (by omega)]
          exact LK_flt (n' := 7) (by decide) b3 rfl r0
      · rw [if_neg c, if_neg (fun z => c ((km_eq hin (a := 63) (b := 40) (by decide)).mp z))]
        exact LK_rt ⟨q1 - s, G1, M1, ⟨by omega, hM1⟩, rfl, rfl, f1.trans (agr_nEX (agr_kX9 e1)), f1'.trans (agr_nEY (agr_kY6 e2)), b2, x2.le (by omega), by rw [show q1 - s + s = q1 by omega]; exact Or.inr k2, hG1, hF1⟩
    · refine FT_bd FT_look (fun z hz => ?_)
      subst hz
      rw [if_neg (by decide)]
      exact FT_rt hy
  · rw [F_X15_exp]
    dsimp only [lt]
    refine FT_bd hor.2 (fun y hy => FT_bd FT_look (fun z hz => ?_))
    subst hz
    rw [if_neg (by decide)]
    exact FT_rt hy
/-! depths -/
theorem gx_exp (m : Nat) : (G_X1_and (m + 1)).2.1 = F_X1_exp (G_X1_and m).2.1 (G_X1_and m).2.2.2.2.1 := rfl
theorem gx_joined (m : Nat) : (G_X1_and (m + 1)).2.2.1 = F_X1_joined (G_X1_and m).2.1 := rfl
theorem gx_named (m : Nat) : (G_X1_and (m + 1)).2.2.2.1 = F_X1_named (G_X1_and m).2.1 := rfl
theorem gx_or (m : Nat) : (G_X1_and (m + 1)).2.2.2.2.1 = F_X1_or (G_X1_and m).2.2.2.2.2.2.2.2.2.2.2.2 := rfl
theorem gx_part (m : Nat) : (G_X1_and (m + 1)).2.2.2.2.2.1 = F_X1_part (G_X1_and m).2.2.2.2.2.2.1 := rfl
theorem gx_primary (m : Nat) : (G_X1_and (m + 1)).2.2.2.2.2.2.1 = F_X1_primary (G_X1_and m).2.1 (G_X1_and m).2.2.1 (G_X1_and m).2.2.2.1 := rfl
theorem gx_product (m : Nat) : (G_X1_and (m + 1)).2.2.2.2.2.2.2.1 = F_X1_product (G_X1_and m).2.2.2.2.2.2.2.2.2.1 := rfl
theorem gx_same (m : Nat) : (G_X1_and (m + 1)).2.2.2.2.2.2.2.2.1 = F_X1_same (G_X1_and m).2.2.2.2.2.2.2.2.2.2.1 := rfl
theorem gx_shift (m : Nat) : (G_X1_and (m + 1)).2.2.2.2.2.2.2.2.2.1 = F_X1_shift (G_X1_and m).2.2.2.2.2.2.2.2.2.2.2.1 := rfl
theorem gx_sum (m : Nat) : (G_X1_and (m + 1)).2.2.2.2.2.2.2.2.2.2.1 = F_X1_sum (G_X1_and m).2.2.2.2.2.2.2.1 := rfl
theorem gx_unary (m : Nat) : (G_X1_and (m + 1)).2.2.2.2.2.2.2.2.2.2.2.1 = F_X1_unary (G_X1_and m).2.2.2.2.2.1 (G_X1_and m).2.2.2.2.2.2.2.2.2.2.2.1 := rfl
theorem gx_xor (m : Nat) : (G_X1_and (m + 1)).2.2.2.2.2.2.2.2.2.2.2.2 = F_X1_xor (G_X1_and m).1 := rfl
theorem gx_and (m : Nat) : (G_X1_and (m + 1)).1 = F_X1_and (G_X1_and m).2.2.2.2.2.2.2.2.1 := rfl
theorem gt_exp (m : Nat) : (G_X15_exp (m + 1)).1 = F_X15_exp (G_X15_exp m).1 (G_X15_exp m).2.1 := rfl
theorem gt_level (m : Nat) (a : Int) : (G_X15_exp (m + 1)).2.1 a = F_X15_level (G_X15_exp m).2.1 (G_X15_exp m).2.2.2.2.2 a := rfl
theorem gt_part (m : Nat) : (G_X15_exp (m + 1)).2.2.1 = F_X15_part (G_X15_exp m).2.2.2.1 := rfl
theorem gt_primary (m : Nat) : (G_X15_exp (m + 1)).2.2.2.1 = F_X15_primary (G_X15_exp m).1 (G_X15_exp m).2.2.2.2.1 := rfl
theorem gt_reference (m : Nat) : (G_X15_exp (m + 1)).2.2.2.2.1 = fun a1 => F_X15_reference (G_X15_exp m).1 a1 := rfl
theorem gt_unary (m : Nat) : (G_X15_exp (m + 1)).2.2.2.2.2 = F_X15_unary (G_X15_exp m).2.2.1 (G_X15_exp m).2.2.2.2.2 := rfl
theorem exp_step (hc0 : c0.2 = 12) (hop : op ≤ 20) (d : Nat) (hE : op < 20 → ∀ n1 n2, 12 * d ≤ n1 → 13 * d ≤ n2 → XS (VE k t kd wd pt Mt Mk Mw) (RDk t kd wd pt Mt Mk Mw) (WDk t kd wd) c0 σ0 τ0 T n (op + 1) (G_X1_and n1).2.1 (G_X15_exp n2).1) (hU : op < 20 → ∀ n1 n2, 12 * d ≤ n1 + 8 → 13 * d ≤ n2 + 9 → XS (VE k t kd wd pt Mt Mk Mw) (RDk t kd wd pt Mt Mk Mw) (WDk t kd wd) c0 σ0 τ0 T n (op + 1) (G_X1_and n1).2.2.2.2.2.2.2.2.2.2.2.1 (G_X15_exp n2).2.2.2.2.2) : (∀ n1 n2, 12 * d + 12 ≤ n1 → 13 * d + 13 ≤ n2 → XS (VE k t kd wd pt Mt Mk Mw) (RDk t kd wd pt Mt Mk Mw) (WDk t kd wd) c0 σ0 τ0 T n op (G_X1_and n1).2.1 (G_X15_exp n2).1) ∧ (∀ n1 n2, 12 * d + 4 ≤ n1 → 13 * d + 4 ≤ n2 → XS (VE k t kd wd pt Mt Mk Mw) (RDk t kd wd pt Mt Mk Mw) (WDk t kd wd) c0 σ0 τ0 T n op (G_X1_and n1).2.2.2.2.2.2.2.2.2.2.2.1 (G_X15_exp n2).2.2.2.2.2) := by
  have u : ∀ n1 n2, 12 * d + 4 ≤ n1 → 13 * d + 4 ≤ n2 → XS (VE k t kd wd pt Mt Mk Mw) (RDk t kd wd pt Mt Mk Mw) (WDk t kd wd) c0 σ0 τ0 T n op (G_X1_and n1).2.2.2.2.2.2.2.2.2.2.2.1 (G_X15_exp n2).2.2.2.2.2 := by
    intro n1 n2 l1 l2
    obtain ⟨m, rfl⟩ : ∃ m, n1 = m + 1 + 1 + 1 + 1 := ⟨n1 - 4, by omega⟩
    obtain ⟨q, rfl⟩ : ∃ q, n2 = q + 1 + 1 + 1 + 1 := ⟨n2 - 4, by omega⟩
    rw [gx_unary, gt_unary, gx_part, gt_part, gx_primary, gt_primary, gx_joined, gx_named, gt_reference]
    exact xs_unary VE.st hop (xs_part VE.st (xs_primary hc0 hop (fun h => hE h _ _ (by omega) (by omega)) (fun h => hE h _ _ (by omega) (by omega)) (fun h => hE h _ _ (by omega) (by omega)))) (fun h => hU h _ _ (by omega) (by omega))
  refine ⟨fun n1 n2 l1 l2 => ?_, u⟩
  obtain ⟨m, rfl⟩ : ∃ m, n1 = m + 4 + 1 + 1 + 1 + 1 + 1 + 1 + 1 + 1 := ⟨n1 - 12, by omega⟩
  obtain ⟨q, rfl⟩ : ∃ q, n2 = q + 4 + 1 + 1 + 1 + 1 + 1 + 1 + 1 + 1 + 1 := ⟨n2 - 13, by omega⟩
  rw [gx_exp, gt_exp]
  have l7 : (G_X15_exp (q + 4 + 1)).2.1 7 = (G_X15_exp (q + 4)).2.2.2.2.2 := by rw [gt_level, F_X15_level, if_pos rfl, bd_id]
  have s8 := u (m + 4) (q + 4) (by omega) (by omega)
  rw [← l7] at s8
  have s7 := xs_shift (rl := (G_X15_exp (q + 4 + 1)).2.1) (ru := (G_X15_exp (q + 4 + 1)).2.2.2.2.2) VE.st s8
  rw [← gx_shift, ← gt_level] at s7
  have s6 := xs_mul (rl := (G_X15_exp (q + 4 + 1 + 1)).2.1) (ru := (G_X15_exp (q + 4 + 1 + 1)).2.2.2.2.2) VE.st s7
  rw [← gx_product, ← gt_level] at s6
  have s5 := xs_sum (rl := (G_X15_exp (q + 4 + 1 + 1 + 1)).2.1) (ru := (G_X15_exp (q + 4 + 1 + 1 + 1)).2.2.2.2.2) VE.st s6
  rw [← gx_sum, ← gt_level] at s5
  have s4 := xs_same (rl := (G_X15_exp (q + 4 + 1 + 1 + 1 + 1)).2.1) (ru := (G_X15_exp (q + 4 + 1 + 1 + 1 + 1)).2.2.2.2.2) VE.st s5
  rw [← gx_same, ← gt_level] at s4
  have s3 := xs_and (rl := (G_X15_exp (q + 4 + 1 + 1 + 1 + 1 + 1)).2.1) (ru := (G_X15_exp (q + 4 + 1 + 1 + 1 + 1 + 1)).2.2.2.2.2) VE.st s4
  rw [← gx_and, ← gt_level] at s3
  have s2 := xs_xor (rl := (G_X15_exp (q + 4 + 1 + 1 + 1 + 1 + 1 + 1)).2.1) (ru := (G_X15_exp (q + 4 + 1 + 1 + 1 + 1 + 1 + 1)).2.2.2.2.2) VE.st s3
  rw [← gx_xor, ← gt_level] at s2
  have s1 := xs_or (rl := (G_X15_exp (q + 4 + 1 + 1 + 1 + 1 + 1 + 1 + 1)).2.1) (ru := (G_X15_exp (q + 4 + 1 + 1 + 1 + 1 + 1 + 1 + 1)).2.2.2.2.2) VE.st s2
  rw [← gx_or, ← gt_level] at s1
  exact xs_exp VE.st hop s1 (fun h => hE h _ _ (by omega) (by omega))
theorem exp_all (hc0 : c0.2 = 12) : ∀ d op, op + d = 20 → (∀ n1 n2, 12 * d + 12 ≤ n1 → 13 * d + 13 ≤ n2 → XS (VE k t kd wd pt Mt Mk Mw) (RDk t kd wd pt Mt Mk Mw) (WDk t kd wd) c0 σ0 τ0 T n op (G_X1_and n1).2.1 (G_X15_exp n2).1) ∧ (∀ n1 n2, 12 * d + 4 ≤ n1 → 13 * d + 4 ≤ n2 → XS (VE k t kd wd pt Mt Mk Mw) (RDk t kd wd pt Mt Mk Mw) (WDk t kd wd) c0 σ0 τ0 T n op (G_X1_and n1).2.2.2.2.2.2.2.2.2.2.2.1 (G_X15_exp n2).2.2.2.2.2) := by
  intro d
  induction d with
  | zero => intro op h; exact exp_step hc0 (by omega) 0 (fun h' => absurd h' (by omega)) (fun h' => absurd h' (by omega))
  | succ d ih =>
    intro op h
    obtain ⟨i1, i2⟩ := ih (op + 1) (by omega)
    exact exp_step hc0 (by omega) (d + 1) (fun _ n1 n2 l1 l2 => i1 n1 n2 (by omega) (by omega)) (fun _ n1 n2 l1 l2 => i2 n1 n2 (by omega) (by omega))
/-- expressions of both sides, at any depth -/
theorem xs_all (hc0 : c0.2 = 12) (hop : op ≤ 20) : XS (VE k t kd wd pt Mt Mk Mw) (RDk t kd wd pt Mt Mk Mw) (WDk t kd wd) c0 σ0 τ0 T n op R_X1_exp R_X15_exp := (exp_all hc0 (20 - op) op (by omega)).1 400 400 (by omega) (by omega)
end
