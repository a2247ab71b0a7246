set_option maxRecDepth 100000
set_option maxHeartbeats 400000
/-! ===== read: connections, the walk ===== -/
theorem con1_eq {a : Int} : F_X1_connection a = bd (gI 2 6) fun v1 => bdE (F_X1_told) fun v3 => bd (rdI 9 v3) fun v5 => bd (F_X1_pass) fun _ => bd (gI 5 13) fun v8 => bd (rdI 10 v3) fun v11 => bdE (F_X1_look) fun v13 => if v13 = 46 then (bd (F_X1_pass) fun _ => bdE (F_X1_port v3 v1 1) fun v20 => bd (rdI 13 v3) fun v22 => bd (rdQ 1 v22) fun v23 => nn v23 fun o24 => ck o24 2 <| bd (rdI (o24 + 5) v20) fun v27 => X1_connection_181 a v3 v20 v8 (-1) v27) else bd (gI 2 5) fun v14 => if v14 = 40 then (if v5 = 4 then (bdE (F_X1_nest) fun _ => bdE (R_X1_exp) fun v15 => bdE (F_X1_want 41) fun _ => bd (gI 2 9) fun v19 => bd (pI 2 9 (w32 (v19 - 1))) fun _ => X1_connection_181 a v3 (-1) v8 v15 v11) else thw (0, 5, v1)) else if v5 = 0 then (X1_connection_171 v1) else if v5 = 4 then (X1_connection_171 v1) else if v5 = 5 then (X1_connection_171 v1) else X1_connection_181 a v3 (-1) v8 (-1) v11 := by
  rw [F_X1_connection]
  simp only [lt_eq]
theorem bd_rt' {α β : Type} {x : α} {h : α → St → Option (β × St)} : bd (rt x) h = h x := by
  have e : h x = h x := rfl
  exact e
theorem bd_lt' {α β γ : Type} {x : α} {f : α → St → Option (β × St)} {h : β → St → Option (γ × St)} : bd (lt x f) h = bd (f x) h := by
  rw [lt_eq]
theorem ref400 : R_X15_reference 1 = F_X15_reference (G_X15_exp 399).1 1 := by
  unfold R_X15_reference
  rw [show (400 : Nat) = 399 + 1 from rfl, gt_reference]
section
variable {k t : Nat} {kd wd pt : Nat → Nat} {Mt : Nat → Nat} {Mk Mw : Nat → Nat → Nat}
variable {c0 : Nat × Int} {σ0 τ0 : St} {T : Nat → Int} {n op : Nat} {a e : Int} {Lc : List (Nat × Bool)}
theorem xs_399 (hc0 : c0.2 = 12) (hop : op < 20) : XS (VE k t kd wd pt Mt Mk Mw) (RDk t kd wd pt Mt Mk Mw) (WDk t kd wd) c0 σ0 τ0 T n (op + 1) R_X1_exp (G_X15_exp 399).1 := (exp_all hc0 (20 - (op + 1)) (op + 1) (by omega)).1 400 399 (by omega) (by omega)
/-- the state behind a statement of a context -/
def SPost (k t : Nat) (kd wd pt : Nat → Nat) (Mt : Nat → Nat) (Mk Mw : Nat → Nat → Nat) (c0 : Nat × Int) (σ0 τ0 : St) (T : Nat → Int) (n op : Nat) (a e : Int) (Lc : List (Nat × Bool)) (G : NG) (N nC nW nS p : Nat) (σ τ σ' τ' : St) : Prop := ∃ G' N' nC' nW' nS' p' H', p < p' ∧ STP op a e G N nC nW nS σ τ G' N' nC' nW' nS' σ' τ' ∧ SX k t kd wd pt Mt Mk Mw c0 σ0 τ0 T n op a e Lc G' N' nC' nW' nS' p' H' σ' τ' ∧ TK T n σ' τ' p'
theorem con_LK (hc0 : c0.2 = 12) (hop : op ≤ 20) {σ τ : St} {G : NG} {N nC nW nS p q : Nat} {H : SG} (hs : SX k t kd wd pt Mt Mk Mw c0 σ0 τ0 T n op a e Lc G N nC nW nS p H σ τ) (hk : TKp T n σ τ q) (hpq : p ≤ q) (hK : tkK T n q = 1) : LK c0 σ0 τ0 (fun _ : Unit => True) (F_X1_connection (op : Int)) (F_X15_connection a e) σ τ (fun _ _ σ' τ' => SPost k t kd wd pt Mt Mk Mw c0 σ0 τ0 T n op a e Lc G N nC nW nS p σ τ σ' τ') := by
  obtain ⟨hb, hx, hsr, ⟨hcX, hcT, hcL⟩, hSL, hDV⟩ := id hs
  obtain ⟨⟨⟨c22, c27⟩, c46, c47⟩, ⟨h5, h6⟩, -⟩ := hsr
  have hql := hk.1
  have hn := hb.1.1
  have ha := crT.lt hcT
  obtain ⟨re, hre⟩ : ∃ re, re = (G_X15_exp 399).1 := ⟨_, rfl⟩
  have hxp1 : op < 20 → XS (VE k t kd wd pt Mt Mk Mw) (RDk t kd wd pt Mt Mk Mw) (WDk t kd wd) c0 σ0 τ0 T n (op + 1) R_X1_exp re := fun h => by rw [hre]; exact xs_399 hc0 h
  have hxp0 : XS (VE k t kd wd pt Mt Mk Mw) (RDk t kd wd pt Mt Mk Mw) (WDk t kd wd) c0 σ0 τ0 T n op R_X1_exp R_X15_exp := xs_all hc0 hop
  rw [con1_eq, con15_eq, ref400, ← hre]
  clear hre
  refine LK_t (st15 c46 (by omega) (by omega) (fun τ1 z1 z2 z3 z4 z5 => ?_))
  refine LK_t ?_
  rw [wp_gI, z2 47 (by decide), c47]
  refine LK_t ?_
  rw [wp_pI, w32_i (by omega) (by omega), show (nC : Int) + 1 = ((nC + 1 : Nat) : Int) by omega]
  have aY : agr nSY τ (stA τ1.1 2075 (ups (τ1.1 2075) 47 ((nC + 1 : Nat) : Int)), τ1.2) := by
    refine agr.trans (τ := τ1) (fun x k' hk' => ?_) (agr.refl.u (by unfold nSY; omega) _)
    refine ⟨?_, by rw [z3], by rw [z3]⟩
    by_cases cx : x = 2075
    · subst cx; exact z2 k' (by unfold nSY at hk'; omega)
    · rw [z1 x (by unfold nSY at hk'; omega) (by unfold nSY at hk'; omega) cx]
  have m75 : ∀ i, i ≠ 46 → i ≠ 47 → ((stA τ1.1 2075 (ups (τ1.1 2075) 47 ((nC + 1 : Nat) : Int)), τ1.2) : St).1 2075 i = τ.1 2075 i := fun i h1 h2 => by
    dsimp only; rw [stA_eq, ups_ne h2, z2 i h1]
  have mxx : ∀ x, x ≠ 2075 → ((stA τ1.1 2075 (ups (τ1.1 2075) 47 ((nC + 1 : Nat) : Int)), τ1.2) : St).1 x = τ1.1 x := fun x h1 => by
    dsimp only; rw [stA_ne h1]
  have m46 : ((stA τ1.1 2075 (ups (τ1.1 2075) 47 ((nC + 1 : Nat) : Int)), τ1.2) : St).1 2075 46 = ((nS + 1 : Nat) : Int) := by
    dsimp only; rw [stA_eq, ups_ne (by decide), z4]
  have m47 : ((stA τ1.1 2075 (ups (τ1.1 2075) 47 ((nC + 1 : Nat) : Int)), τ1.2) : St).1 2075 47 = ((nC + 1 : Nat) : Int) := by
    dsimp only; rw [stA_eq, ups_eq]
  have m2 : ((stA τ1.1 2075 (ups (τ1.1 2075) 47 ((nC + 1 : Nat) : Int)), τ1.2) : St).2 = τ.2 := z3
  generalize ((stA τ1.1 2075 (ups (τ1.1 2075) 47 ((nC + 1 : Nat) : Int)), τ1.2) : St) = τ2 at aY m75 mxx m46 m47 m2
  have b2 : BS c0 σ0 τ0 T n σ τ2 := hb.frS agr.refl aY (by rw [m75 28 (by decide) (by decide)]; exact hb.2.2.1)
  have k2 : TKp T n σ τ2 q := hk.cong (fun _ _ _ => rfl) rfl (fun i h1 h2 => m75 i (by omega) (by omega)) m2
  have hv2 : VE k t kd wd pt Mt Mk Mw σ τ2 := hx.1.stS agr.refl aY
  have x2 : EX0 (VE k t kd wd pt Mt Mk Mw) (RDk t kd wd pt Mt Mk Mw) (WDk t kd wd) G N 0 op p σ τ2 := hx.cong hv2 (fun _ _ => rfl) rfl (fun _ _ _ => rfl) (fun i h1 h2 => m75 i (by omega) (by omega)) (fun x h1 h2 => by rw [mxx x (by omega), z1 x (by omega) (by omega) (by omega)]) m2
  have ht40 := hv2.2.2.1.1.2.2
  have hk12 := hv2.1
  obtain ⟨r, hr, -, f1, f2⟩ := told_both b2 hv2 k2 hK
  rw [ref_eq]
  simp only [bd_as, bd_ite, bd_rt']
  refine LK_c ?_
  rw [wp_gI, k2.k6, F_X1_told, bdE_bd]
  refine LK_c ?_
  rw [wp_gI, k2.k6, bdE_bd]
  refine LK_c ?_
  rw [wp_gI, k2.k7, bdE_bd]
  refine LK_c (f1 _ ?_)
  refine LK_t ?_
  rw [wp_gI, k2.t33]
  refine LK_t ?_
  rw [wp_gI, hv2.2.1.2]
  refine LK_t (f2 _ ?_)
  rcases hr with rfl | ⟨i, rfl, hi⟩
  · rw [lt_eq, if_neg (by decide), if_neg (by decide), bdE_bd]
    refine LK_c ?_
    rw [wp_gI, k2.k6, bdE_thw]
    exact LK_flt (n' := 4) (by decide) b2 rfl FT_tailC
  rw [lt_eq, if_pos (by omega), if_pos (by omega), bdE_le]
  have e9 := (hv2.2.2.2.1 i hi).1.1
  have hkd5 : kd i ≤ 5 := by
    have h9 : 0 ≤ σ.1 9 i ∧ σ.1 9 i ≤ 5 := (hv2.2.2.1.2 i hi).2.1.2
    omega
  obtain ⟨sA, sB, -⟩ := hSL
  obtain ⟨s1, s2, s3⟩ := sB i hi
  refine LK_c ?_
  rw [RI_9 (by omega) (by omega), tn, e9]
  refine LK_pass b2 k2 (by rw [hK]; decide) (EX0.st VE.st) x2 (fun q3 σ3 τ3 hq3 _ w1 w2 b3 x3 k3 _ => ?_)
  have w1' : agr nEX σ σ3 := agr_nEX (agr_kX9 w1)
  have w2' : agr nEY τ2 τ3 := agr_nEY (agr_kY6 w2)
  have fin : ∀ (σ4 τ4 : St) (G3 : NG) (N3 p4 q' w : Nat) (y z : Int), agr nEX σ3 σ4 → agr nEY τ3 τ4 → BS c0 σ0 τ0 T n σ4 τ4 → EX0 (VE k t kd wd pt Mt Mk Mw) (RDk t kd wd pt Mt Mk Mw) (WDk t kd wd) G3 N3 0 op p4 σ4 τ4 → TK T n σ4 τ4 q' → p4 ≤ q' → p ≤ p4 → N ≤ N3 → (∀ i, i < N → gAt G G3 i) → (τ4.1 2075 55 = (i : Int) ∧ τ4.1 2075 56 = y ∧ τ4.1 2075 57 = z) → (∀ σ' τ', VE k t kd wd pt Mt Mk Mw σ' τ' → ∀ Q : Int → St → Prop, wp (F_X15_widthOf (i : Int) y) τ' Q = Q (w : Int) τ') → (0 ≤ σ.1 31 i ∧ σ.1 31 i + max 0 y < 1600) → (∀ G' M', N3 < M' → (∀ i, i < N3 → gAt G3 G' i) → gW G' (M' - 1) = w → CW t kd wd pt Mt Mk Mw M' G' (i : Int) y z (M' - 1)) → (∀ a : Nat, z = (a : Int) → a < N3 ∧ N = gF G3 a) → LK c0 σ0 τ0 (fun _ : Unit => True) (X1_connection_181 (op : Int) (i : Int) y (N : Int) z (w : Int)) (tailC (nS : Int) ()) σ4 τ4 (fun _ _ σ' τ' => SPost k t kd wd pt Mt Mk Mw c0 σ0 τ0 T n op a e Lc G N nC nW nS p σ τ σ' τ') := by
    intro σ4 τ4 G3 N3 p4 q' w y z y1 y2 b4 x4 k4 l1 l2 l3 hG hr57 hw hsl hCW hz
    have fX := w1'.trans y1
    have fY := w2'.trans y2
    have rY : ∀ x, 2107 ≤ x → x ≤ 2113 → τ4.1 x = τ1.1 x := fun x h1 h2 => (fY.row (fun k => by unfold nEY; omega)).trans (mxx x (by omega))
    have e31 : σ4.1 31 = σ.1 31 := fX.row (fun k => by unfold nEX; omega)
    refine LK_mono (con181 (w := w) (N0 := N) (nC := nC) VE.st (fun _ _ _ _ h1 h2 h3 => VE.stS h1 h2 h3) hxp0 b4 x4 k4 l1 ⟨by rw [(fX 5 22 (by unfold nEX; omega)).1]; exact c22, by omega⟩ (by omega) hop (by omega) hr57 hw (by rw [e31]; exact hsl)) (fun _ _ σ' τ' hP => ?_)
    obtain ⟨p', G', M, hP⟩ := hP
    exact con_fin (p3 := 0) hs l3 hG fX (aY.trans (agr_nSY fY)) (by rw [(fY 2075 46 (by unfold nEY; omega)).1]; exact m46) (by rw [(fY 2075 47 (by unfold nEY; omega)).1]; exact m47) (by omega) hop ⟨by rw [rY 2107 (by decide) (by decide), z5.1], by rw [rY 2108 (by decide) (by decide), z5.2.1], by rw [rY 2109 (by decide) (by decide), z5.2.2.1], by rw [rY 2110 (by decide) (by decide), z1 2110 (by omega) (by omega) (by decide)], by rw [rY 2111 (by decide) (by decide), z5.2.2.2.1], by rw [rY 2112 (by decide) (by decide), z5.2.2.2.2.1], by rw [rY 2113 (by decide) (by decide), z5.2.2.2.2.2]⟩ hi hCW hz ⟨Nat.le_refl _, l3⟩ hsl hP
  refine LK_c ?_
  rw [wp_gI, x3.2.1.1.1]
  refine LK_c ?_
  rw [RI_10 (by omega) (by omega), tn]
  refine refcore (B' := fun _ : Unit => True) (tgt := 1) (t0 := 0) (s := q3 - p) (p := p) (i := i) (q := q) (re := re) (h := tailC (nS : Int)) hc0 (Or.inr ⟨rfl, rfl⟩) hop hxp1 hi b3 x3 (by rw [show p + (q3 - p) = q3 by omega]; exact Or.inl k3) FT_tailC ?_ ?_ ?_ ?_
  · intro m q' σ' τ' h1 h2 h3 h4 y1 y2 b4 x4 k4 hr4
    obtain ⟨⟨u1, u2, u3, u4, u5⟩, u6, u7⟩ := wd15_p x4.1 hi h2 h3 (by omega)
    have hMd : isMd (110 + 25 * pt i) := isMd_k (by omega)
    refine LK_c ?_
    rw [RI_13 (by omega) (by omega), tn, u2]
    refine LK_c ?_
    rw [RI_1 (by omega) (by omega), tn, u3]
    have hnn : nn (some (110 + 25 * pt i)) (fun o22 => ck o22 2 <| bd (rdI (o22 + 5) (m : Int)) fun v27 => X1_connection_181 (op : Int) (i : Int) (m : Int) (N : Int) (-1) v27) = ck (110 + 25 * pt i) 2 (bd (rdI (110 + 25 * pt i + 5) (m : Int)) fun v27 => X1_connection_181 (op : Int) (i : Int) (m : Int) (N : Int) (-1) v27) := by unfold nn; rfl
    rw [hnn]
    unfold LK
    rw [wpE_ck, and_t (ly_Md hMd)]
    show LK c0 σ0 τ0 (fun _ : Unit => True) _ _ σ' τ' _
    refine LK_c ?_
    rw [MI_5 hMd (by omega) (by omega), tn, u5]
    refine fin σ' τ' G N p q' (Mw (pt i) m) (m : Int) (-1) y1 y2 b4 x4 k4 (by omega) (Nat.le_refl _) (Nat.le_refl _) (fun _ _ => gAt.refl) hr4 (fun σ5 τ5 h5 Q => (wd15_p h5 hi h2 h3 (by omega)).2.2 Q) ?_ (fun G' M' q1 q2 q3 => ⟨i, rfl, hi, by omega, Or.inr (Or.inr ⟨m, rfl, rfl, h2, h3, h4, q3⟩)⟩) (fun a ha => by omega)
    have := s3 h2 m h3
    omega
  · intro p' G' N' σ' τ' h1 h2 h3 y1 y2 b4 x4 k4 hG hF hr4
    have hN' : N' ≤ p' := x4.2.1.2
    rw [(wdr x3.1 hi (by omega)).1]
    refine fin σ' τ' G' N' p' (p' + (q3 - p) + 1) (wd i) (-1) ((N' - 1 : Nat) : Int) y1 y2 b4 x4 k4 (by omega) (by omega) (by omega) hG hr4 (fun σ5 τ5 h5 Q => wd15_n h5 hi (by omega)) ?_ (fun G2 M' q1 q2 q3 => ⟨i, rfl, hi, by omega, Or.inr (Or.inl ⟨N' - 1, rfl, rfl, by omega, h3, q3⟩)⟩) (fun a ha => ?_)
    · have := s2 (by omega)
      omega
    · have : a = N' - 1 := by omega
      subst this
      exact ⟨by omega, hF.symm⟩
  · intro q' σ' τ' h1 h2 h3 y1 y2 b4 x4 k4 hr4
    have hk1 : 1 ≤ kd i := by
      rcases Nat.eq_zero_or_pos (kd i) with w | w
      · exact absurd ⟨rfl, w⟩ h3
      · exact w
    rw [if_neg (by omega), if_neg (by omega), if_neg (by omega), (wdr x3.1 hi (by omega)).1]
    refine fin σ' τ' G N p q' (wd i) (-1) (-1) y1 y2 b4 x4 (Or.inr k4) (by omega) (Nat.le_refl _) (Nat.le_refl _) (fun _ _ => gAt.refl) hr4 (fun σ5 τ5 h5 Q => wd15_n h5 hi (by omega)) ?_ (fun G2 M' q1 q2 q3 => ⟨i, rfl, hi, by omega, Or.inl ⟨rfl, rfl, hk1, h2, q3⟩⟩) (fun a ha => by omega)
    have := s2 (by omega)
    omega
  · intro h
    rcases h with h4 | ⟨-, h0⟩
    · by_cases c4 : kd i = 4
      · rw [if_neg (by omega), if_pos (by omega), X1_connection_171]
      · rw [if_neg (by omega), if_neg (by omega), if_pos (by omega), X1_connection_171]
    · rw [if_pos (by omega), X1_connection_171]
end
