set_option maxRecDepth 100000
set_option maxHeartbeats 400000
/-! ===== read: joined expressions ===== -/
section
variable {V : St → St → Prop} {RD : Nat → Int → Nat → Prop} {WD : Nat → Nat → Prop} {c0 : Nat × Int} {σ0 τ0 : St} {T : Nat → Int} {n op : Nat} {γ δ : Type}
/-- a node of both sides that is not counted -/
theorem LK_nodeU {G : NG} {N j j' p p' pt : Nat} {σ τ : St} {opn f w : Nat} {a b c k A B C : Int} {v : Int64} {B' : δ → Prop} {f' : Int → St → Option ((γ ⊕ XV) × St)} {g' : Int → St → Option (δ × St)} {P : γ → δ → St → St → Prop} (hV : StE V) (hb : BS c0 σ0 τ0 T n σ τ) (hx : EX0 V RD WD G N j op p σ τ) (hp : p < p') (hpt : p' ≤ pt) (hk : TK T n σ τ pt) (hrel : ndR opn a b c k A B C v) (hW : nodW RD WD (gUp G N opn f w a b c) N) (hj : j % 65536 = j' % 65536 ∧ wt (gUp G N opn f w a b c) N + j' / 65536 ≤ j / 65536) (go : ∀ σ' τ', agr nEX σ σ' → agr nEY τ τ' → BS c0 σ0 τ0 T n σ' τ' → TK T n σ' τ' pt → EX0 V RD WD (gUp G N opn f w a b c) (N + 1) j' op p' σ' τ' → LK c0 σ0 τ0 B' (f' (N : Int)) (g' (N : Int)) σ' τ' P) : LK c0 σ0 τ0 B' (bd (F_X2_addNode 5 (opn : Int) a b c (w : Int)) f') (bd (F_X15_node k A B C (w : Int) v 0) g') σ τ P := by
  obtain ⟨h1, ⟨h2, h3⟩, ⟨ct, h4, h5, h6⟩, h7, h8⟩ := id hx
  have hpn : pt ≤ n := hk.le
  have hn := hb.1.1
  refine LK_c (addX h2.1 (by omega) (fun σ' z1 z2 z3 z4 => LK_t (nodeM (d := 0) hb.2.2.1 h2.2 h4 (by omega) (by omega) (Or.inl ⟨rfl, rfl⟩) (fun τ' y1 y2 y3 y4 y5 y6 => ?_))))
  exact go σ' τ' z1 y1 (hb.frE z1 y1 (by rw [y2 28 (by decide) (by decide)]; exact hb.2.2.1)) (hk.eq z2.1 z2.2.1 y2 y3) (hx.node (e := 0) (d := 0) hV hp z1 z2.1 h4 (by rw [z2.2.2, h5, Nat.add_zero]) ⟨by decide, by omega, by omega⟩ z3 z4 y1 y2 y4 y5 y6 hrel hW)
theorem join_W {G : NG} {N M N0 w : Nat} (hN : N0 < N) (hM : N < M) (hF0 : gF G (N - 1) = N0) (hF1 : gF G (M - 1) = N) (hw : w = gW G (N - 1) + gW G (M - 1)) (w1 : 1 ≤ w ∧ w ≤ 32) : nodW RD WD (gUp G M 9 N0 w ((N - 1 : Nat) : Int) ((M - 1 : Nat) : Int) (-1)) M := by
  obtain ⟨⟨u1, u2, u3⟩, u4, u5, u6⟩ := gUp_at (G := G) (N := M) (op := 9) (f := N0) (w := w) (a := ((N - 1 : Nat) : Int)) (b := ((M - 1 : Nat) : Int)) (c := -1)
  obtain ⟨⟨v1, v2, v3⟩, -⟩ := gAt.up (G := G) (N := M) (op := 9) (f := N0) (w := w) (i := M - 1) (a := ((N - 1 : Nat) : Int)) (b := ((M - 1 : Nat) : Int)) (c := -1) (by omega)
  obtain ⟨⟨x1, x2, x3⟩, -⟩ := gAt.up (G := G) (N := M) (op := 9) (f := N0) (w := w) (i := N - 1) (a := ((N - 1 : Nat) : Int)) (b := ((M - 1 : Nat) : Int)) (c := -1) (by omega)
  unfold nodW
  rw [u1, u2, u3, u4, u5, u6, v2, v3, hF1, x2, x3, hF0]
  exact ⟨⟨by omega, w1.1, w1.2, by omega⟩, fun e => absurd e (by omega), fun e => absurd e (by omega), fun e => absurd e (by omega), fun _ e => absurd e (by omega), fun _ _ => ⟨by omega, rfl, by omega, rfl, rfl, fun _ => hw, fun e => absurd e (by omega), fun e => absurd e (by omega), fun e => absurd e (by omega)⟩, fun e => absurd e (by omega)⟩
theorem FT_160 {re : St → Option (Int × St)} {rr : Int → St → Option (Unit × St)} {x : Int} (hx : BQ x) : FTw c0 BQ (X15_primary_160 re rr x) := by
  rw [X15_primary_160]
  dsimp only [lt]
  exact FT_bd (FT_must (by decide)) (fun z hz => FT_gI (fun v => FT_pI (by decide) (FT_gI (fun v => FT_pI (by decide) (FT_rt hx)))))
theorem FT_78 {re : St → Option (Int × St)} {rr : Int → St → Option (Unit × St)} {a x : Int} : ∀ f, 1 ≤ f → BQ x → FTw c0 BQ (X15_primary_78 re rr f a x) := by
  intro f hf hx
  obtain ⟨f', rfl⟩ : ∃ f', f = f' + 1 := ⟨f - 1, by omega⟩
  rw [X15_primary_78]
  refine FT_bd FT_look (fun y hy => ?_)
  subst hy
  rw [if_neg (by decide)]
  exact FT_160 hx
theorem FT_130 {re : St → Option (Int × St)} {rr : Int → St → Option (Unit × St)} {rec78 : Int → Int → St → Option (Int × St)} {a x y : Int} (hx : BQ x) (hy : BQ y) (hr : ∀ x, BQ x → FTw c0 BQ (rec78 a x)) : FTw c0 BQ (X15_primary_130 re rr rec78 a x y) := by
  rw [X15_primary_130]
  refine FT_rd 4200 (fun h1 h2 => RI_2105 h1 h2) hx (fun v => ?_)
  refine FT_rd 4200 (fun h1 h2 => RI_2105 h1 h2) hy (fun v' => ?_)
  refine FT_bd FT_node (fun q hq => ?_)
  exact hr q (by rw [hq]; exact ⟨by decide, by decide⟩)
theorem joinloop (hV : StE V) (hop : op < 20) {ec : St → Option ((Int ⊕ XV) × St)} {re : St → Option (Int × St)} {rr : Int → St → Option (Unit × St)} (hexp : XS V RD WD c0 σ0 τ0 T n (op + 1) ec re) {σb τb : St} {pb N0 j s q0 : Nat} {Gb : NG} (hj : j % 65536 ≤ 5000) : ∀ m f1 f2, m < f1 → m < f2 → ∀ σ τ p G N e, n - p < m → BS c0 σ0 τ0 T n σ τ → EX0 V RD WD G N (j + 1 + 65536 * e) (op + 1) p σ τ → (e = 1 ∨ e = 0 ∧ gO G (N - 1) = 9) → TK T n σ τ (p + s) → agr nEX σb σ → agr nEY τb τ → pb < p → N0 < N → (∀ i, i < N0 → gAt Gb G i) → gF G (N - 1) = N0 → LK c0 σ0 τ0 BQ (X1_joined_27 ec f1 (q0 : Int) ((N - 1 : Nat) : Int)) (X15_primary_78 re rr f2 (q0 : Int) ((N - 1 : Nat) : Int)) σ τ (PE V RD WD c0 σ0 τ0 T n σb τb pb s Gb N0 j op) := by
  intro m
  induction m with
  | zero => intro f1 f2 h1 h2 σ τ p G N e hm; omega
  | succ m ih =>
    intro f1 f2 h1 h2 σ τ p G N e hm hb hx he hk ea eb hpb hN0 hG hF
    obtain ⟨f1', rfl⟩ : ∃ f, f1 = f + 1 := ⟨f1 - 1, by omega⟩
    obtain ⟨f2', rfl⟩ : ∃ f, f2 = f + 1 := ⟨f2 - 1, by omega⟩
    have hpn := hk.le
    have hp4 := hb.1.1
    have hNp := hx.2.1.2
    have bq : BQ ((N - 1 : Nat) : Int) := ⟨by omega, by omega⟩
    have wr := (hx.2.2.2.2 (N - 1) (by omega)).2.1
    rw [X1_joined_27, X15_primary_78]
    refine LK_look hb hk (EX0.st hV) hx ?_ (fun q σ1 τ1 hq e1 e2 b1 x1 k1 hin => ?_)
    · rw [if_neg (by decide)]; exact FT_160 bq
    by_cases c : tkK T n q = 44
    · rw [if_pos c, if_pos ((km_eq hin (a := 44) (b := 39) (by decide)).mpr c)]
      refine LK_pass b1 k1 (by rw [c]; decide) (EX0.st hV) x1 (fun q2 σ2 τ2 hq2 _ w1 w2 b2 x2 k2 _ => ?_)
      have k2l := k2.1
      have k2' : TK T n σ2 τ2 ((q2 - s - 1) + (s + 1)) := by rw [show (q2 - s - 1) + (s + 1) = q2 by omega]; exact Or.inl k2
      have ft78 : ∀ x, BQ x → FTw c0 BQ (X15_primary_78 re rr f2' (q0 : Int) x) := fun x h => FT_78 f2' (by omega) h
      refine LK_bd (LK_mono (hexp.1 σ2 τ2 (q2 - s - 1) (s + 1) G N (j + 1 + 65536 * e) b2 (x2.le (by omega)) k2') ?_) (fun y hy => ?_)
      · rintro r y σ3 τ3 ⟨p3, G3, M, ⟨hp3, hM⟩, rfl, rfl, f3, f4, b3, x3, k3, hG3, hF3⟩
        have k3l := k3.le
        have hF3' : gF G3 (N - 1) = N0 := by rw [(hG3 (N - 1) (by omega)).1.2.1]; exact hF
        have wr1 := (x3.2.2.2.2 (N - 1) (by omega)).2.1
        have wr2 := (x3.2.2.2.2 (M - 1) (by omega)).2.1
        have bqM : BQ ((M - 1 : Nat) : Int) := by
          have := x3.2.1.2
          exact ⟨by omega, by omega⟩
        rw [LK_lc, LK_lt]
        refine LK_c ?_
        rw [wdX x3 (by omega) (by omega)]
        refine LK_c ?_
        rw [wdX x3 (by omega) (by omega), LK_lc]
        refine LK_t ?_
        rw [gI28 (σ := σ) b3.2.2.1, if_pos rfl]
        refine LK_t ?_
        rw [wdM x3 (by omega) (by omega)]
        refine LK_t ?_
        rw [wdM x3 (by omega) (by omega), w32_i (by omega) (by omega)]
        by_cases c2 : gW G3 (N - 1) + gW G3 (M - 1) ≤ 32
        · rw [if_pos (by omega), if_pos (by omega), X15_primary_130]
          refine LK_t ?_
          rw [wdM x3 (by omega) (by omega)]
          refine LK_t ?_
          rw [wdM x3 (by omega) (by omega), w32_i (by omega) (by omega), show (gW G3 (N - 1) : Int) + (gW G3 (M - 1) : Int) = ((gW G3 (N - 1) + gW G3 (M - 1) : Nat) : Int) by omega]
          refine LK_nodeU (opn := 9) (f := N0) (p' := p3 + 1) hV b3 x3 (by omega) (by omega) k3 (by unfold ndR; simp) (join_W hN0 hM hF3' hF3 rfl ⟨by omega, c2⟩) (j' := j + 1 + 65536 * 0) ⟨by omega, ?_⟩ (fun σ4 τ4 u1 u2 b4 k4 x4 => ?_)
          · rcases he with rfl | ⟨rfl, h9⟩
            · have := wt_le (G := gUp G3 M 9 N0 (gW G3 (N - 1) + gW G3 (M - 1)) ((N - 1 : Nat) : Int) ((M - 1 : Nat) : Int) (-1)) (i := M); omega
            · have : wt (gUp G3 M 9 N0 (gW G3 (N - 1) + gW G3 (M - 1)) ((N - 1 : Nat) : Int) ((M - 1 : Nat) : Int) (-1)) M = 0 := by
                have g := gUp_at (G := G3) (N := M) (op := 9) (f := N0) (w := gW G3 (N - 1) + gW G3 (M - 1)) (a := ((N - 1 : Nat) : Int)) (b := ((M - 1 : Nat) : Int)) (c := -1)
                unfold wt
                rw [g.1.1, g.2.1, tn, (gAt.up (by omega)).1.1, (hG3 (N - 1) (by omega)).1.1]
                exact if_pos ⟨rfl, by omega, h9⟩
              omega
          rw [LK_lc, LK_lt]
          have := ih f1' f2' (by omega) (by omega) σ4 τ4 (p3 + 1) _ (M + 1) 0 (by omega) b4 x4 (Or.inr ⟨rfl, by rw [show M + 1 - 1 = M by omega]; exact gUp_at.1.1⟩) (by rw [show p3 + 1 + s = p3 + (s + 1) by omega]; exact k4) ((((ea.trans (agr_nEX (agr_kX9 e1))).trans (agr_nEX (agr_kX9 w1))).trans f3).trans u1) ((((eb.trans (agr_nEY (agr_kY6 e2))).trans (agr_nEY (agr_kY6 w2))).trans f4).trans u2) (by omega) (by omega) (fun i hi => (hG i hi).trans ((hG3 i (by omega)).trans (gAt.up (by omega)))) (by rw [show M + 1 - 1 = M by omega]; exact gUp_at.1.2.1)
          rw [show M + 1 - 1 = M by omega] at this
          exact this
        · rw [if_neg (by omega), if_neg (by omega), X1_joined_65]
          exact LK_flt (n' := 7) (by decide) b3 rfl (FT_130 bq bqM ft78)
      · dsimp only [lt]
        exact FT_gF (fun v hv => FT_if (c := v = 0) (fun e => absurd e (by omega)) (fun _ => FT_130 bq hy ft78))
    · rw [if_neg c, if_neg (fun z => c ((km_eq hin (a := 44) (b := 39) (by decide)).mp z)), X1_joined_94, X15_primary_160]
      dsimp only [lt]
      refine LK_want (a := 125) (b := 31) (by decide) (by decide) (by decide) b1 (Or.inr k1) (EX0.st hV) x1 (FT_gI (fun v => FT_pI (by decide) (FT_gI (fun v => FT_pI (by decide) (FT_rt bq))))) (fun q5 q6 σ5 τ5 hq5 hq6 _ g1 g2 b5 x5 k5 => ?_)
      refine LK_closeK hV b5 (Or.inl k5) x5 (fun σ6 τ6 u1 u2 b6 k6 x6 => ?_)
      obtain ⟨h1, ⟨h2, h3⟩, ⟨ct, h4, h5, h6⟩, h7, h8⟩ := id x6
      have k6l := k6.le
      refine LK_t ?_
      rw [wp_gI, h4]
      refine LK_t ?_
      rw [wp_pI, w32_i (by omega) (by omega)]
      have e7 : agr nEY τ6 (stA τ6.1 2075 (ups (τ6.1 2075) 39 ((ct : Int) + 1)), τ6.2) := agr.refl.u (by unfold nEY; omega) _
      have e28 : ((stA τ6.1 2075 (ups (τ6.1 2075) 39 ((ct : Int) + 1)), τ6.2) : St).1 2075 28 = 0 := by dsimp only; rw [stA_eq, ups_ne (by decide)]; exact b6.2.2.1
      have e39 : ∀ i, i ≠ 39 → ((stA τ6.1 2075 (ups (τ6.1 2075) 39 ((ct : Int) + 1)), τ6.2) : St).1 2075 i = τ6.1 2075 i := fun i hi => by dsimp only; rw [stA_eq, ups_ne hi]
      refine LK_rt ⟨q6 - s, G, N, ⟨by omega, hN0⟩, rfl, rfl, ((ea.trans (agr_nEX (agr_kX9 e1))).trans (agr_nEX (agr_kX9 g1))).trans (agr_nEX u1), (((eb.trans (agr_nEY (agr_kY6 e2))).trans (agr_nEY (agr_kY6 g2))).trans (agr_nEY u2)).trans e7, b6.frE agr.refl e7 e28, ⟨hV _ _ _ _ agr.refl e7 h1, ⟨⟨h2.1, by rw [e39 38 (by decide)]; exact h2.2⟩, by omega⟩, ⟨ct + 1, by dsimp only; rw [stA_eq, ups_eq]; omega, by rw [h5]; rcases he with rfl | ⟨rfl, -⟩ <;> omega, by rcases he with rfl | ⟨rfl, -⟩ <;> omega, by rcases he with rfl | ⟨rfl, -⟩ <;> omega⟩, ⟨h7.1, h7.2.1, by rw [e39 36 (by decide)]; exact h7.2.2⟩, fun i hi => ⟨?_, (h8 i hi).2⟩⟩, (by rw [show q6 - s + s = q6 by omega]; exact k6.eq rfl rfl (fun i _ hi => e39 i hi) rfl), hG, hF⟩
      have := (h8 i hi).1
      unfold ndRel at this ⊢
      dsimp only
      rw [stA_ne (by decide), stA_ne (by decide), stA_ne (by decide), stA_ne (by decide), stA_ne (by decide)]
      exact this
theorem joined_LK (hV : StE V) (hop : op ≤ 20) {ec : St → Option ((Int ⊕ XV) × St)} {re : St → Option (Int × St)} {rr : Int → St → Option (Unit × St)} (hexp : op < 20 → XS V RD WD c0 σ0 τ0 T n (op + 1) ec re) {σ τ : St} {p s q N j : Nat} {G : NG} (hb : BS c0 σ0 τ0 T n σ τ) (hx : EX0 V RD WD G N j op p σ τ) (hk : TKp T n σ τ q) (hq : p + s ≤ q) (hK : tkK T n q ≠ 0) : LK c0 σ0 τ0 BQ (F_X1_joined ec) (bd (F_X15_opens) fun v22 => if v22 = 0 then (rt 0) else bd (F_X15_take) fun _ => bd re fun v20 => X15_primary_78 re rr FU (q : Int) v20) σ τ (PE V RD WD c0 σ0 τ0 T n σ τ p s G N j op) := by
  have hf := FU_ge
  rw [F_X1_joined]
  refine LK_c ?_
  rw [wp_gI, hk.k6, LK_lc]
  refine LK_nest hb hk hK hop hx.2.2.2.1.2.1 hx.2.2.2.1.2.2 (FT_rt ⟨by decide, by decide⟩) (fun q2 σ2 τ2 hq2 hop2 w1 w2 b2 o1 o2 k2 => ?_)
  have x2 := hx.fr9 hV w1 w2 (by omega) o1 o2
  have k2l := k2.1
  have hn := b2.1.1
  obtain ⟨h1, ⟨h2, h3⟩, ⟨ct, h4, h5, h6⟩, h7, h8⟩ := id x2
  refine LK_c ?_
  rw [wp_gI, h5]
  refine LK_c ?_
  rw [wp_pI, w32_i (by omega) (by omega)]
  have e7 : agr nEX σ2 (stA σ2.1 5 (ups (σ2.1 5) 14 (((ct + j % 65536 : Nat) : Int) + 1)), σ2.2) := agr.refl.u (by unfold nEX; omega) _
  have e2' : ((stA σ2.1 5 (ups (σ2.1 5) 14 (((ct + j % 65536 : Nat) : Int) + 1)), σ2.2) : St).1 2 = σ2.1 2 := by dsimp only; rw [stA_ne (by decide)]
  have x3 : EX0 V RD WD G N (j + 1 + 65536 * 1) (op + 1) (p + 1) (stA σ2.1 5 (ups (σ2.1 5) 14 (((ct + j % 65536 : Nat) : Int) + 1)), σ2.2) τ2 := by
    refine ⟨hV _ _ _ _ e7 agr.refl h1, ⟨⟨?_, h2.2⟩, by omega⟩, ⟨ct, h4, ?_, by omega, by omega⟩, ⟨h7.1, by rw [e2']; exact h7.2.1, h7.2.2⟩, fun i hi => ⟨?_, (h8 i hi).2⟩⟩
    · dsimp only; rw [stA_eq, ups_ne (by decide)]; exact h2.1
    · dsimp only; rw [stA_eq, ups_eq]; omega
    · have := (h8 i hi).1
      unfold ndRel at this ⊢
      dsimp only
      rw [stA_ne (by decide), stA_ne (by decide), stA_ne (by decide), stA_ne (by decide), stA_ne (by decide)]
      exact this
  have b3 : BS c0 σ0 τ0 T n (stA σ2.1 5 (ups (σ2.1 5) 14 (((ct + j % 65536 : Nat) : Int) + 1)), σ2.2) τ2 := b2.frE e7 agr.refl b2.2.2.1
  have k3 : TK T n (stA σ2.1 5 (ups (σ2.1 5) 14 (((ct + j % 65536 : Nat) : Int) + 1)), σ2.2) τ2 ((q2 - s) + s) := by
    rw [show (q2 - s) + s = q2 by omega]
    exact TK.eq (Or.inl k2) e2' rfl (fun i _ _ => rfl) rfl
  refine LK_bd (LK_mono ((hexp hop2).1 _ τ2 (q2 - s) s G N (j + 1 + 65536 * 1) b3 (x3.le (by omega)) k3) ?_) (fun y hy => FT_78 FU (by omega) hy)
  rintro r y σ4 τ4 ⟨p4, G4, M, ⟨hp4, hM⟩, rfl, rfl, f3, f4, b4, x4, k4, hG4, hF4⟩
  rw [LK_lc]
  exact joinloop hV hop2 (hexp hop2) (by omega) (n + 1) FU FU (by omega) (by omega) σ4 τ4 p4 G4 M 1 (by omega) b4 x4 (Or.inl rfl) k4 (((agr_nEX w1).trans e7).trans f3) ((agr_nEY w2).trans f4) (by omega) hM hG4 hF4
end
