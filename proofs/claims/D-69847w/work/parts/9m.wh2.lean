set_option maxRecDepth 100000
set_option maxHeartbeats 400000
/-! ===== read: whens, the first block ===== -/
section
variable {k t : Nat} {kd wd pt : Nat → Nat} {Mt : Nat → Nat} {Mk Mw : Nat → Nat → Nat}
variable {c0 : Nat × Int} {σ0 τ0 : St} {T : Nat → Int} {n op : Nat} {a e : Int} {Lc : List (Nat × Bool)} {γ δ : Type}
/-- what a when has done up to the end of its first block -/
def WB (op : Nat) (a e : Int) (G : NG) (N nC nW nS : Nat) (σ τ : St) (u : Nat) (G' : NG) (N' nC' nW' nS' : Nat) (σ' τ' : St) : Prop := (N ≤ N' ∧ nC ≤ nC' ∧ nW + 1 ≤ nW' ∧ nS + 1 ≤ nS' ∧ nW' + 2 * nC' + 2 * nS + 1 ≤ nW + 2 * nC + 2 * nS') ∧ (∀ i, i < N → gAt G G' i) ∧ (agr nSX σ σ' ∧ agr nSY τ τ') ∧ (∀ x k, 26 ≤ x → x ≤ 29 → k < nW → σ'.1 x k = σ.1 x k) ∧ (∀ x k, 2107 ≤ x → x ≤ 2113 → k < nS → τ'.1 x k = τ.1 x k) ∧ (τ'.1 2107 nS = -1 ∧ τ'.1 2110 nS = (u : Int) ∧ τ'.1 2111 nS = a ∧ τ'.1 2112 nS = e ∧ τ'.1 2113 nS = 0) ∧ (u < N' ∧ gW G' u = 1 ∧ gF G' u = N ∧ σ'.1 26 nW = (u : Int) ∧ σ'.1 27 nW = (N : Int)) ∧ (∀ k, nS < k → k < nS' → (τ'.1 2111 k = (nS : Int) ∧ τ'.1 2112 k = 0) ∨ ((nS + 1 : Nat) : Int) ≤ τ'.1 2111 k) ∧ ∀ j z, (j < op + 1 ∨ (21 ≤ j ∧ j ≤ 20 + (op + 1))) → z < 1600 → σ'.1 30 (1600 * j + z) = σ.1 30 (1600 * j + z)
theorem whenA (hc0 : c0.2 = 12) (hop : op ≤ 20) {sc : Int → St → Option ((Unit ⊕ XV) × St)} {sm : Int → Int → St → Option (Unit × St)} {rb2 : Int → Int → St → Option ((Unit ⊕ XV) × St)} (hst : op < 20 → ∀ a e Lc G N nC nW nS p H σ τ, SX k t kd wd pt Mt Mk Mw c0 σ0 τ0 T n (op + 1) a e Lc G N nC nW nS p H σ τ → TK T n σ τ p → LK c0 σ0 τ0 (fun _ : Unit => True) (sc ((op + 1 : Nat) : Int)) (sm a e) σ τ (fun _ _ σ' τ' => SPost k t kd wd pt Mt Mk Mw c0 σ0 τ0 T n (op + 1) a e Lc G N nC nW nS p σ τ σ' τ')) (hft : ∀ a e, FTw c0 (fun _ : Unit => True) (sm a e)) {G : NG} {N nC nW nS p q : Nat} {H : SG} {σ τ : St} {P : Unit → Unit → St → St → Prop} (hs : SX k t kd wd pt Mt Mk Mw c0 σ0 τ0 T n op a e Lc G N nC nW nS p H σ τ) (hk : TKp T n σ τ q) (hpq : p ≤ q) (hK : tkK T n q = 10) (go : ∀ u G' N' nC' nW' nS' p' H' σ' τ', op < 20 → p < p' → WB op a e G N nC nW nS σ τ u G' N' nC' nW' nS' σ' τ' → BS c0 σ0 τ0 T n σ' τ' → EX0 (VE k t kd wd pt Mt Mk Mw) (RDk t kd wd pt Mt Mk Mw) (WDk t kd wd) G' N' 0 op p' σ' τ' → (∃ ps, ps + 1 ≤ p' ∧ SR t kd wd pt Mt Mk Mw G' N' nC' nW' nS' ps H' σ' τ') → SL t kd pt Mt σ' → DV σ' τ' (op + 1) nS' (nS : Int) 0 → TK T n σ' τ' p' → LK c0 σ0 τ0 (fun _ : Unit => True) (tailX (fun r => F_X1_block sc r) rb2 (op : Int) (N : Int) (u : Int) (σ.1 2 16)) (tailM (fun a e => F_X15_block sm a e) (nS : Int)) σ' τ' P) : LK c0 σ0 τ0 (fun _ : Unit => True) (F_X1_when (fun r => F_X1_block sc r) rb2 (op : Int)) (F_X15_when (fun a e => F_X15_block sm a e) a e) σ τ P := by
  obtain ⟨hb, hx, hsr, ⟨hcX, hcT, hcL⟩, hSL, hDV⟩ := id hs
  obtain ⟨⟨⟨c22, c27⟩, c46, c47⟩, ⟨h5, h6⟩, -⟩ := id hsr
  have hql := hk.1
  have hn := hb.1.1
  have ha := crT.lt hcT
  rw [when1_eq, when15_eq]
  refine LK_c ?_
  rw [wp_gI, hk.k6]
  refine LK_t ?_
  rw [wp_gI, hk.t33]
  refine LK_nest hb hk (by rw [hK]; decide) hop hx.2.2.2.1.2.1 hx.2.2.2.1.2.2 (FT_rt trivial) (fun q1 σ1 τ1 hq1 hop1 w1 w2 b1 o1 o2 k1 => ?_)
  have x1 := hx.fr9 VE.st w1 w2 (by omega) o1 o2
  have k1l := k1.1
  have nX1 := agr_nEX w1
  have nY1 := agr_nEY w2
  refine LK_t (st15 (nS := nS) (by rw [(nY1 2075 46 (by unfold nEY; omega)).1]; exact c46) (by omega) (by omega) (fun τ2 z1 z2 z3 z4 z5 => ?_))
  have aY : agr nSY τ1 τ2 := fun x k' hk' => by
    refine ⟨?_, by rw [z3], by rw [z3]⟩
    by_cases cx : x = 2075
    · subst cx; exact z2 k' (by unfold nSY at hk'; omega)
    · rw [z1 x (by unfold nSY at hk'; omega) (by unfold nSY at hk'; omega) cx]
  have b2 : BS c0 σ0 τ0 T n σ1 τ2 := b1.frS agr.refl aY (by rw [z2 28 (by decide)]; exact b1.2.2.1)
  have x2 : EX0 (VE k t kd wd pt Mt Mk Mw) (RDk t kd wd pt Mt Mk Mw) (WDk t kd wd) G N 0 (op + 1) p σ1 τ2 := x1.cong (x1.1.stS agr.refl aY) (fun _ _ => rfl) rfl (fun _ _ _ => rfl) (fun i h1 h2 => z2 i (by omega)) (fun x h1 h2 => z1 x (by omega) (by omega) (by omega)) z3
  have k2 : TK T n σ1 τ2 (q1 + 0) := Or.inl (k1.cong (fun _ _ _ => rfl) (fun i h1 h2 => z2 i (by omega)))
  refine LK_c ?_
  rw [wp_gI, x2.2.1.1.1]
  refine LK_bd (LK_mono ((xs_all (op := op + 1) hc0 (by omega)).1 σ1 τ2 q1 0 G N 0 b2 (x2.le (by omega)) k2) ?_) (fun y hy => FT_gF (fun v hv => FT_if (c := v = 0) (fun w => absurd w (by omega)) (fun _ => FT_56 (by omega))))
  rintro r y σ3 τ3 ⟨p3, G3, M, ⟨hp3, hM⟩, rfl, rfl, f3, f4, b3, x3, k3, hG3, hF3⟩
  have k3l := k3.le
  have hNp := x3.2.1.2
  obtain ⟨⟨-, -, -, -, w18⟩, w2105, -⟩ := (x3.2.2.2.2 (M - 1) (by omega)).1
  refine LK_c ?_
  rw [RI_18 (by omega) (by omega), tn, w18]
  refine LK_t ?_
  rw [gI28 (σ := σ) b3.2.2.1, if_pos rfl]
  refine LK_t ?_
  rw [RI_2105 (by omega) (by omega), tn, w2105]
  by_cases cw : gW G3 (M - 1) = 1
  · rw [if_pos (by omega), if_pos (by omega), when56_eq]
    have fX : agr nEX σ σ3 := nX1.trans f3
    have rX : ∀ x, 19 ≤ x → x ≤ 31 → σ3.1 x = σ.1 x := fun x q1 q2 => fX.row (fun k => by unfold nEX; omega)
    have rY1 : ∀ x, 2107 ≤ x → x ≤ 2113 → τ1.1 x = τ.1 x := fun x q1 q2 => nY1.row (fun k => by unfold nEY; omega)
    have rY3 : ∀ x, 2107 ≤ x → x ≤ 2113 → τ3.1 x = τ2.1 x := fun x q1 q2 => f4.row (fun k => by unfold nEY; omega)
    have e216 : σ3.1 2 16 = σ.1 2 16 := (fX 2 16 (by unfold nEX; omega)).1
    refine LK_c ?_
    rw [wp_gI, e216]
    refine LK_c (whenX (nW := nW) (by rw [(fX 5 27 (by unfold nEX; omega)).1]; exact c27) (by omega) (by decide) (fun σ4 y1 y2 y3 y4 y5 => ?_))
    refine LK_c ?_
    rw [wp_pI]
    refine LK_t ?_
    rw [RV_2110 (by omega) (by omega), tn]
    rw [show w32 ((op : Int) + 1) = ((op + 1 : Nat) : Int) by rw [w32_i (by omega) (by omega)]; omega]
    have sx : ∀ x, (x < 26 ∨ 29 < x) → x ≠ 5 → x ≠ 2 → ((stA σ4.1 2 (ups (σ4.1 2) 16 (nW : Int)), σ4.2) : St).1 x = σ3.1 x := fun x q1 q2 q3 => by dsimp only; rw [stA_ne q3, y1 x q1 q2]
    have s5 : ∀ i, i ≠ 27 → ((stA σ4.1 2 (ups (σ4.1 2) 16 (nW : Int)), σ4.2) : St).1 5 i = σ3.1 5 i := fun i q => by dsimp only; rw [stA_ne (by decide), y2 i q]
    have s2 : ∀ i, i ≠ 16 → ((stA σ4.1 2 (ups (σ4.1 2) 16 (nW : Int)), σ4.2) : St).1 2 i = σ3.1 2 i := fun i q => by dsimp only; rw [stA_eq, ups_ne q, y1 2 (by omega) (by decide)]
    have s216 : ((stA σ4.1 2 (ups (σ4.1 2) 16 (nW : Int)), σ4.2) : St).1 2 16 = (nW : Int) := by dsimp only; rw [stA_eq, ups_eq]
    have s527 : ((stA σ4.1 2 (ups (σ4.1 2) 16 (nW : Int)), σ4.2) : St).1 5 27 = ((nW + 1 : Nat) : Int) := by dsimp only; rw [stA_ne (by decide), y4]
    have sw : ∀ x, 26 ≤ x → x ≤ 29 → ((stA σ4.1 2 (ups (σ4.1 2) 16 (nW : Int)), σ4.2) : St).1 x = σ4.1 x := fun x q1 q2 => by dsimp only; rw [stA_ne (by omega)]
    have sr : ((stA σ4.1 2 (ups (σ4.1 2) 16 (nW : Int)), σ4.2) : St).2 = σ3.2 := y3
    generalize ((stA σ4.1 2 (ups (σ4.1 2) 16 (nW : Int)), σ4.2) : St) = σ5 at sx s5 s2 s216 s527 sw sr
    have tx : ∀ x, x ≠ 2110 → ((stA τ3.1 2110 (ups (τ3.1 2110) nS ((M - 1 : Nat) : Int)), τ3.2) : St).1 x = τ3.1 x := fun x q => by dsimp only; rw [stA_ne q]
    have t10 : ((stA τ3.1 2110 (ups (τ3.1 2110) nS ((M - 1 : Nat) : Int)), τ3.2) : St).1 2110 = ups (τ3.1 2110) nS ((M - 1 : Nat) : Int) := by dsimp only; rw [stA_eq]
    have tr : ((stA τ3.1 2110 (ups (τ3.1 2110) nS ((M - 1 : Nat) : Int)), τ3.2) : St).2 = τ3.2 := rfl
    generalize ((stA τ3.1 2110 (ups (τ3.1 2110) nS ((M - 1 : Nat) : Int)), τ3.2) : St) = τ4 at tx t10 tr
    obtain ⟨v26, v27, v28, v29⟩ := y5
    obtain ⟨v07, v08, v09, v11, v12, v13⟩ := z5
    have T4 : ∀ x k', 2107 ≤ x → x ≤ 2113 → k' < nS → τ4.1 x k' = τ.1 x k' := by
      intro x k' q1 q2 hk'
      have : x = 2107 ∨ x = 2108 ∨ x = 2109 ∨ x = 2110 ∨ x = 2111 ∨ x = 2112 ∨ x = 2113 := by omega
      rcases this with rfl | rfl | rfl | rfl | rfl | rfl | rfl
      · rw [tx 2107 (by decide), rY3 2107 (by decide) (by decide), v07, ups_ne (by omega), rY1 2107 (by decide) (by decide)]
      · rw [tx 2108 (by decide), rY3 2108 (by decide) (by decide), v08, ups_ne (by omega), rY1 2108 (by decide) (by decide)]
      · rw [tx 2109 (by decide), rY3 2109 (by decide) (by decide), v09, ups_ne (by omega), rY1 2109 (by decide) (by decide)]
      · rw [t10, ups_ne (by omega), rY3 2110 (by decide) (by decide), z1 2110 (by omega) (by omega) (by decide), rY1 2110 (by decide) (by decide)]
      · rw [tx 2111 (by decide), rY3 2111 (by decide) (by decide), v11, ups_ne (by omega), rY1 2111 (by decide) (by decide)]
      · rw [tx 2112 (by decide), rY3 2112 (by decide) (by decide), v12, ups_ne (by omega), rY1 2112 (by decide) (by decide)]
      · rw [tx 2113 (by decide), rY3 2113 (by decide) (by decide), v13, ups_ne (by omega), rY1 2113 (by decide) (by decide)]
    have n07 : τ4.1 2107 nS = -1 := by rw [tx 2107 (by decide), rY3 2107 (by decide) (by decide), v07, ups_eq]
    have n10 : τ4.1 2110 nS = ((M - 1 : Nat) : Int) := by rw [t10, ups_eq]
    have n11 : τ4.1 2111 nS = a := by rw [tx 2111 (by decide), rY3 2111 (by decide) (by decide), v11, ups_eq]
    have n12 : τ4.1 2112 nS = e := by rw [tx 2112 (by decide), rY3 2112 (by decide) (by decide), v12, ups_eq]
    have n13 : τ4.1 2113 nS = 0 := by rw [tx 2113 (by decide), rY3 2113 (by decide) (by decide), v13, ups_eq]
    have aX5 : agr nSX σ3 σ5 := fun x k' hk' => by
      refine ⟨?_, by rw [sr], by rw [sr]⟩
      by_cases c5 : x = 5
      · subst c5; exact s5 k' (by unfold nSX at hk'; omega)
      · by_cases c2 : x = 2
        · subst c2; exact s2 k' (by unfold nSX at hk'; omega)
        · rw [sx x (by unfold nSX at hk'; omega) c5 c2]
    have aY4 : agr nSY τ3 τ4 := fun x k' hk' => ⟨by rw [tx x (by unfold nSY at hk'; omega)], by rw [tr], by rw [tr]⟩
    have b5 : BS c0 σ0 τ0 T n σ5 τ4 := b3.frS aX5 aY4 (by rw [tx 2075 (by decide)]; exact b3.2.2.1)
    have x5 : EX0 (VE k t kd wd pt Mt Mk Mw) (RDk t kd wd pt Mt Mk Mw) (WDk t kd wd) G3 M 0 (op + 1) p3 σ5 τ4 := x3.cong (x3.1.stS aX5 aY4) (fun i hi => s5 i (by omega)) (s2 9 (by decide)) (fun x h1 h2 => sx x (by omega) (by omega) (by omega)) (fun i _ _ => by rw [tx 2075 (by decide)]) (fun x h1 h2 => tx x (by omega)) tr
    have k5 : TK T n σ5 τ4 p3 := TK.cong (show TK T n σ3 τ3 p3 from k3) (fun i h1 h2 => s2 i (by omega)) sr (fun i _ _ => by rw [tx 2075 (by decide)]) tr
    have W5 : ∀ x k', 26 ≤ x → x ≤ 29 → k' < nW → σ5.1 x k' = σ.1 x k' := by
      intro x k' q1 q2 hk'
      have : x = 26 ∨ x = 27 ∨ x = 28 ∨ x = 29 := by omega
      rcases this with rfl | rfl | rfl | rfl
      · rw [sw 26 (by decide) (by decide), v26, ups_ne (by omega), rX 26 (by decide) (by decide)]
      · rw [sw 27 (by decide) (by decide), v27, ups_ne (by omega), rX 27 (by decide) (by decide)]
      · rw [sw 28 (by decide) (by decide), v28, ups_ne (by omega), rX 28 (by decide) (by decide)]
      · rw [sw 29 (by decide) (by decide), v29, ups_ne (by omega), rX 29 (by decide) (by decide)]
    have X5 : ∀ x, (19 ≤ x ∧ x ≤ 25 ∨ x = 30 ∨ x = 31) → σ5.1 x = σ.1 x := fun x q => by rw [sx x (by omega) (by omega) (by omega), rX x (by omega) (by omega)]
    have hsr5 := SR_addW (G' := G3) (M := M) (nS' := nS + 1) (p' := p3 + 1) (σ' := σ5) (τ' := τ4) (Lc := Lc) hsr (by omega) hG3 (by omega) ⟨by rw [s5 22 (by decide), (fX 5 22 (by unfold nEX; omega)).1], s527⟩ (fun x q1 q2 => X5 x (by omega)) W5 ⟨by rw [tx 2075 (by decide), (f4 2075 46 (by unfold nEY; omega)).1, z4], by rw [tx 2075 (by decide), (f4 2075 47 (by unfold nEY; omega)).1, z2 47 (by decide), (nY1 2075 47 (by unfold nEY; omega)).1]⟩ (fun x k' q1 q2 q3 => T4 x k' q1 (by omega) q3) (Or.inr ⟨rfl, n07, by rw [n11, n12]; exact crT.mono _ _ _ _ _ (Nat.le_refl _) (fun k' hk' => ⟨T4 2110 k' (by decide) (by decide) hk', T4 2111 k' (by decide) (by decide) hk', T4 2112 k' (by decide) (by decide) hk'⟩) hcT, by omega⟩) (f := N) (u := M - 1) (by rw [sw 26 (by decide) (by decide), v26, ups_eq]) (by rw [sw 27 (by decide) (by decide), v27, ups_eq]) (Or.inl ⟨Nat.le_refl _, by omega, by omega⟩) (by
      have w1 := wS_exp (fun i hi => (x3.2.2.2.2 i hi).2) hM hF3
      have w2 := wS_cong N hG3
      have w4 := hsr.2.1.2.2.1.1
      omega) (fun k' hk' => by
      by_cases c : k' = nS
      · subst c; exact Or.inl n13
      · rw [T4 2113 k' (by decide) (by decide) (by omega)]; exact hsr.2.1.2.2.1.2 k' (by omega))
    refine blk_LK (Lc := (M - 1, false) :: Lc) (by omega) (fun G N nC nW nS p H σ τ => hst hop1 _ _ _ G N nC nW nS p H σ τ) (hft _ _) FT_tailM b5 x5 hsr5 ?_ ?_ (by rw [List.length_cons, hcL]) (hSL.fr (by rw [s2 15 (by decide), (fX 2 15 (by unfold nEX; omega)).1]) (X5 31 (by omega))) (fun k' hk' w => ?_) k5 (fun G' N' nC' nW' nS' p' H' σ' τ' hp' hB => ?_)
    · rw [s216]
      refine ⟨⟨by omega, by omega⟩, ⟨by show M - 1 < M; omega, cw, ?_, ?_, ?_⟩, ?_⟩
      · rw [sw 26 (by decide) (by decide), v26, show ((nW : Nat) : Int).toNat = nW by omega, ups_eq]
      · rw [sw 27 (by decide) (by decide), v27, show ((nW : Nat) : Int).toNat = nW by omega, ups_eq]
        show (N : Int) = (gF G3 (M - 1) : Int)
        rw [hF3]
      · rw [sw 28 (by decide) (by decide), v28, show ((nW : Nat) : Int).toNat = nW by omega, ups_eq]; rfl
      · rw [sw 29 (by decide) (by decide), v29, show ((nW : Nat) : Int).toNat = nW by omega, ups_eq, ← v29, ← sw 29 (by decide) (by decide)]
        exact crX.mono (by omega) (by omega) hG3 (fun k' hk' => ⟨W5 26 k' (by decide) (by decide) hk', W5 27 k' (by decide) (by decide) hk', W5 28 k' (by decide) (by decide) hk', W5 29 k' (by decide) (by decide) hk'⟩) _ _ hcX
    · refine ⟨⟨by omega, by omega⟩, ⟨by rw [show ((nS : Nat) : Int).toNat = nS by omega]; exact n10, rfl⟩, ?_⟩
      rw [show ((nS : Nat) : Int).toNat = nS by omega, n11, n12]
      exact crT.mono _ _ _ _ _ (Nat.le_refl _) (fun k' hk' => ⟨T4 2110 k' (by decide) (by decide) hk', T4 2111 k' (by decide) (by decide) hk', T4 2112 k' (by decide) (by decide) hk'⟩) hcT
    · by_cases c : k' = nS
      · subst c; rw [n11] at w; omega
      · have h3 : τ.1 2111 k' < (k' : Int) := rw_ord hsr k' (by omega)
        rw [T4 2111 k' (by decide) (by decide) (by omega)] at w
        omega
    · obtain ⟨⟨g1, g2, ⟨g3, g3'⟩, g4, g5, g6, g7, g8⟩, bb, bx, bs, bl, bd', bk⟩ := hB
      have aXf : agr nSX σ σ' := ((agr_nSX fX).trans aX5).trans g3
      have aYf : agr nSY τ τ' := ((((agr_nSY nY1).trans aY).trans (agr_nSY f4)).trans aY4).trans g3'
      have hgu := (g2 (M - 1) (by omega)).1
      refine go (M - 1) G' N' nC' nW' nS' p' H' σ' τ' hop1 (by omega) ⟨⟨by omega, by omega, by omega, by omega, by omega⟩, fun i hi => (hG3 i hi).trans (g2 i (by omega)), ⟨aXf, aYf⟩, fun x k' q1 q2 q3 => (g5 x k' q1 q2 (by omega)).trans (W5 x k' q1 q2 q3), fun x k' q1 q2 q3 => (g6 x k' q1 q2 (by omega)).trans (T4 x k' q1 q2 q3), ⟨by rw [g6 2107 nS (by decide) (by decide) (by omega)]; exact n07, by rw [g6 2110 nS (by decide) (by decide) (by omega)]; exact n10, by rw [g6 2111 nS (by decide) (by decide) (by omega)]; exact n11, by rw [g6 2112 nS (by decide) (by decide) (by omega)]; exact n12, by rw [g6 2113 nS (by decide) (by decide) (by omega)]; exact n13⟩, ⟨by omega, by rw [hgu.2.2]; exact cw, by rw [hgu.2.1]; exact hF3, by rw [g5 26 nW (by decide) (by decide) (by omega), sw 26 (by decide) (by decide), v26, ups_eq], by rw [g5 27 nW (by decide) (by decide) (by omega), sw 27 (by decide) (by decide), v27, ups_eq]⟩, fun k' q1 q2 => g7 k' (by omega) q2, fun j z hj hz => (g8 j z hj hz).trans (by rw [X5 30 (by omega)])⟩ bb bx bs bl bd' bk
  · rw [if_neg (by omega), if_neg (by omega)]
    exact LK_flt (n' := 7) (by decide) b3 rfl (FT_56 (by omega))
end
