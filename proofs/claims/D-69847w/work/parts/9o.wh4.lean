set_option maxRecDepth 100000
set_option maxHeartbeats 400000
/-! ===== read: whens, the else ===== -/
section
variable {k t : Nat} {kd wd pt : Nat → Nat} {Mt : Nat → Nat} {Mk Mw : Nat → Nat → Nat}
variable {c0 : Nat × Int} {σ0 τ0 : St} {T : Nat → Int} {n op : Nat} {a e : Int} {Lc : List (Nat × Bool)} {γ δ : Type}
theorem whenE (hop : op ≤ 20) {rb : Int → St → Option ((Unit ⊕ XV) × St)} {sc' : Int → St → Option ((Unit ⊕ XV) × St)} {sm : Int → Int → St → Option (Unit × St)} (hst : op < 20 → ∀ a e Lc G N nC nW nS p H σ τ, SX k t kd wd pt Mt Mk Mw c0 σ0 τ0 T n (op + 1) a e Lc G N nC nW nS p H σ τ → TK T n σ τ p → LK c0 σ0 τ0 (fun _ : Unit => True) (sc' ((op + 1 : Nat) : Int)) (sm a e) σ τ (fun _ _ σ' τ' => SPost k t kd wd pt Mt Mk Mw c0 σ0 τ0 T n (op + 1) a e Lc G N nC nW nS p σ τ σ' τ')) (hft : ∀ a e, FTw c0 (fun _ : Unit => True) (sm a e)) {G G' : NG} {N N' nC nC' nW nW' nS nS' p p' ps q u : Nat} {H H' : SG} {σ τ σ' τ' : St} (hs : SX k t kd wd pt Mt Mk Mw c0 σ0 τ0 T n op a e Lc G N nC nW nS p H σ τ) (hp : p < p') (h : WB op a e G N nC nW nS σ τ u G' N' nC' nW' nS' σ' τ') (hb : BS c0 σ0 τ0 T n σ' τ') (hx : EX0 (VE k t kd wd pt Mt Mk Mw) (RDk t kd wd pt Mt Mk Mw) (WDk t kd wd) G' N' 0 op p' σ' τ') (hps : ps + 1 ≤ p') (hsr : SR t kd wd pt Mt Mk Mw G' N' nC' nW' nS' ps H' σ' τ') (hSL : SL t kd pt Mt σ') (hDV : DV σ' τ' (op + 1) nS' (nS : Int) 0) (hk : TKp T n σ' τ' q) (hpq : p' ≤ q) (hK : tkK T n q ≠ 0) : LK c0 σ0 τ0 (fun _ : Unit => True) (bdE (F_X1_nest) fun _ => bd (F_X2_addWhen 5 (N : Int) (u : Int) 1 (σ.1 2 16)) fun v13 => bd (pI 2 16 v13) fun _ => bdE (F_X1_block2 (fun r => F_X1_block sc' r) ((op + 1 : Nat) : Int) ((op + 21 : Nat) : Int)) fun _ => X1_when_130 rb (fun r1 r2 => F_X1_block2 (fun r => F_X1_block sc' r) r1 r2) FU (op : Int) (σ.1 2 16) ((op + 1 : Nat) : Int) ((op + 21 : Nat) : Int) 0) (bd (F_X15_opens) fun v3 => if v3 = 0 then (rt ()) else bd (F_X15_take) fun _ => bd (wrB 2113 (nS : Int) 1) fun _ => bd (F_X15_block sm (nS : Int) 1) fun _ => bd (gI 2075 36) fun v4 => bd (pI 2075 36 (w32 (v4 - 1))) fun _ => rt ()) σ' τ' (fun _ _ σ2 τ2 => SPost k t kd wd pt Mt Mk Mw c0 σ0 τ0 T n op a e Lc G N nC nW nS p σ τ σ2 τ2) := by
  obtain ⟨hb0, hx0, hsr0, ⟨hcX, hcT, hcL⟩, hSL0, hDV0⟩ := id hs
  obtain ⟨⟨h1, h1', h1'', h1''', hx1⟩, h2, ⟨h3, h3'⟩, h4, h5, ⟨n07, n10, n11, n12, n13⟩, ⟨hu1, hu2, hu3, hu4, hu5⟩, h8, h9⟩ := id h
  obtain ⟨⟨⟨c22, c27⟩, c46, c47⟩, ⟨h5', h6'⟩, -⟩ := id hsr
  have hql := hk.1
  have hn := hb.1.1
  have ha := crT.lt hcT
  refine LK_nest hb hk hK hop hx.2.2.2.1.2.1 hx.2.2.2.1.2.2 (FT_rt trivial) (fun q1 σ1 τ1 hq1 hop1 w1 w2 b1 o1 o2 k1 => ?_)
  have x1 := hx.fr9 VE.st w1 w2 (by omega) o1 o2
  have k1l := k1.1
  have nX1 := agr_nEX w1
  have nY1 := agr_nEY w2
  refine LK_c (whenX (nW := nW') (by rw [(nX1 5 27 (by unfold nEX; omega)).1]; exact c27) (by omega) (by decide) (fun σ4 y1 y2 y3 y4 y5 => ?_))
  refine LK_c ?_
  rw [wp_pI]
  refine LK_t ?_
  rw [RV_2113 (by omega) (by omega) (by decide) (by decide), tn, F_X1_block2]
  simp only [bdE_bd, bdE_bdE, bdE_le]
  refine LK_c ?_
  have l30 : lay 30 = (3, 67200) := by decide +kernel
  rw [c_cpI (a := 30) (b := 30) l30 l30 (by decide) (by rw [w32_i (by omega) (by omega)]; omega) (by rw [w32_i (by omega) (by omega)]; omega) (by decide) (by rw [w32_i (by omega) (by omega)]; omega) (by rw [w32_i (by omega) (by omega)]; omega), w32_i (x := 1600 * ((op + 1 : Nat) : Int)) (by omega) (by omega), w32_i (x := 1600 * ((op + 21 : Nat) : Int)) (by omega) (by omega), show (1600 * ((op + 1 : Nat) : Int)).toNat = 1600 * (op + 1) by omega, show (1600 * ((op + 21 : Nat) : Int)).toNat = 1600 * (op + 21) by omega, show (1600 : Int).toNat = 1600 from rfl]
  dsimp only
  rw [stA_ne (a := 2) (b := 30) (by decide)]
  have sx : ∀ x, (x < 26 ∨ 30 < x) → x ≠ 5 → x ≠ 2 → ((stA (stA σ4.1 2 (ups (σ4.1 2) 16 (nW' : Int))) 30 (cpy (σ4.1 30) (1600 * (op + 1)) (σ4.1 30) (1600 * (op + 21)) 1600), σ4.2) : St).1 x = σ1.1 x := fun x q1 q2 q3 => by dsimp only; rw [stA_ne (by omega), stA_ne q3, y1 x (by omega) q2]
  have s5 : ∀ i, i ≠ 27 → ((stA (stA σ4.1 2 (ups (σ4.1 2) 16 (nW' : Int))) 30 (cpy (σ4.1 30) (1600 * (op + 1)) (σ4.1 30) (1600 * (op + 21)) 1600), σ4.2) : St).1 5 i = σ1.1 5 i := fun i q => by dsimp only; rw [stA_ne (by decide), stA_ne (by decide), y2 i q]
  have s2 : ∀ i, i ≠ 16 → ((stA (stA σ4.1 2 (ups (σ4.1 2) 16 (nW' : Int))) 30 (cpy (σ4.1 30) (1600 * (op + 1)) (σ4.1 30) (1600 * (op + 21)) 1600), σ4.2) : St).1 2 i = σ1.1 2 i := fun i q => by dsimp only; rw [stA_ne (by decide), stA_eq, ups_ne q, y1 2 (by omega) (by decide)]
  have s216 : ((stA (stA σ4.1 2 (ups (σ4.1 2) 16 (nW' : Int))) 30 (cpy (σ4.1 30) (1600 * (op + 1)) (σ4.1 30) (1600 * (op + 21)) 1600), σ4.2) : St).1 2 16 = (nW' : Int) := by dsimp only; rw [stA_ne (by decide), stA_eq, ups_eq]
  have s527 : ((stA (stA σ4.1 2 (ups (σ4.1 2) 16 (nW' : Int))) 30 (cpy (σ4.1 30) (1600 * (op + 1)) (σ4.1 30) (1600 * (op + 21)) 1600), σ4.2) : St).1 5 27 = ((nW' + 1 : Nat) : Int) := by dsimp only; rw [stA_ne (by decide), stA_ne (by decide), y4]
  have sw : ∀ x, 26 ≤ x → x ≤ 29 → ((stA (stA σ4.1 2 (ups (σ4.1 2) 16 (nW' : Int))) 30 (cpy (σ4.1 30) (1600 * (op + 1)) (σ4.1 30) (1600 * (op + 21)) 1600), σ4.2) : St).1 x = σ4.1 x := fun x q1 q2 => by dsimp only; rw [stA_ne (by omega), stA_ne (by omega)]
  have s30 : ((stA (stA σ4.1 2 (ups (σ4.1 2) 16 (nW' : Int))) 30 (cpy (σ4.1 30) (1600 * (op + 1)) (σ4.1 30) (1600 * (op + 21)) 1600), σ4.2) : St).1 30 = cpy (σ1.1 30) (1600 * (op + 1)) (σ1.1 30) (1600 * (op + 21)) 1600 := by dsimp only; rw [stA_eq, y1 30 (by omega) (by decide)]
  have sr : ((stA (stA σ4.1 2 (ups (σ4.1 2) 16 (nW' : Int))) 30 (cpy (σ4.1 30) (1600 * (op + 1)) (σ4.1 30) (1600 * (op + 21)) 1600), σ4.2) : St).2 = σ1.2 := y3
  generalize ((stA (stA σ4.1 2 (ups (σ4.1 2) 16 (nW' : Int))) 30 (cpy (σ4.1 30) (1600 * (op + 1)) (σ4.1 30) (1600 * (op + 21)) 1600), σ4.2) : St) = σ5 at sx s5 s2 s216 s527 sw s30 sr
  have tx : ∀ x, x ≠ 2113 → ((stA τ1.1 2113 (ups (τ1.1 2113) nS 1), τ1.2) : St).1 x = τ1.1 x := fun x q => by dsimp only; rw [stA_ne q]
  have t13 : ((stA τ1.1 2113 (ups (τ1.1 2113) nS 1), τ1.2) : St).1 2113 = ups (τ1.1 2113) nS 1 := by dsimp only; rw [stA_eq]
  have tr : ((stA τ1.1 2113 (ups (τ1.1 2113) nS 1), τ1.2) : St).2 = τ1.2 := rfl
  generalize ((stA τ1.1 2113 (ups (τ1.1 2113) nS 1), τ1.2) : St) = τ4 at tx t13 tr
  obtain ⟨v26, v27, v28, v29⟩ := y5
  have rX : ∀ x, 19 ≤ x → x ≤ 31 → σ1.1 x = σ'.1 x := fun x q1 q2 => nX1.row (fun k => by unfold nEX; omega)
  have rY : ∀ x, 2107 ≤ x → x ≤ 2113 → τ1.1 x = τ'.1 x := fun x q1 q2 => nY1.row (fun k => by unfold nEY; omega)
  have T4 : ∀ x k', 2107 ≤ x → x ≤ 2113 → (x ≠ 2113 ∨ k' ≠ nS) → τ4.1 x k' = τ'.1 x k' := by
    intro x k' q1 q2 q3
    by_cases c : x = 2113
    · subst c; rw [t13, ups_ne (by omega), rY 2113 (by decide) (by decide)]
    · rw [tx x c, rY x q1 q2]
  have W5 : ∀ x k', 26 ≤ x → x ≤ 29 → k' < nW' → σ5.1 x k' = σ'.1 x k' := by
    intro x k' q1 q2 hk'
    have : x = 26 ∨ x = 27 ∨ x = 28 ∨ x = 29 := by omega
    rcases this with rfl | rfl | rfl | rfl
    · rw [sw 26 (by decide) (by decide), v26, ups_ne (by omega), rX 26 (by decide) (by decide)]
    · rw [sw 27 (by decide) (by decide), v27, ups_ne (by omega), rX 27 (by decide) (by decide)]
    · rw [sw 28 (by decide) (by decide), v28, ups_ne (by omega), rX 28 (by decide) (by decide)]
    · rw [sw 29 (by decide) (by decide), v29, ups_ne (by omega), rX 29 (by decide) (by decide)]
  have X5 : ∀ x, (19 ≤ x ∧ x ≤ 25 ∨ x = 31) → σ5.1 x = σ'.1 x := fun x q => by rw [sx x (by omega) (by omega) (by omega), rX x (by omega) (by omega)]
  have aX5 : agr nSX σ1 σ5 := fun x k' hk' => by
    refine ⟨?_, by rw [sr], by rw [sr]⟩
    by_cases c5 : x = 5
    · subst c5; exact s5 k' (by unfold nSX at hk'; omega)
    · by_cases c2 : x = 2
      · subst c2; exact s2 k' (by unfold nSX at hk'; omega)
      · rw [sx x (by unfold nSX at hk'; omega) c5 c2]
  have aY4 : agr nSY τ1 τ4 := fun x k' hk' => ⟨by rw [tx x (by unfold nSY at hk'; omega)], by rw [tr], by rw [tr]⟩
  have b5 : BS c0 σ0 τ0 T n σ5 τ4 := b1.frS aX5 aY4 (by rw [tx 2075 (by decide)]; exact b1.2.2.1)
  have x5 : EX0 (VE k t kd wd pt Mt Mk Mw) (RDk t kd wd pt Mt Mk Mw) (WDk t kd wd) G' N' 0 (op + 1) q1 σ5 τ4 := (x1.le (q := q1) (by omega)).cong (x1.1.stS aX5 aY4) (fun i hi => s5 i (by omega)) (s2 9 (by decide)) (fun x h1 h2 => sx x (by omega) (by omega) (by omega)) (fun i _ _ => by rw [tx 2075 (by decide)]) (fun x h1 h2 => tx x (by omega)) tr
  have k5 : TK T n σ5 τ4 q1 := Or.inl (k1.cong (fun i h1 h2 => s2 i (by omega)) (fun i _ _ => by rw [tx 2075 (by decide)]))
  have hsr5 := SR_addW (G' := G') (M := N') (nS' := nS') (p' := q1 + 1) (σ' := σ5) (τ' := τ4) (Lc := []) hsr (Nat.le_refl _) (fun _ _ => gAt.refl) (by omega) ⟨by rw [s5 22 (by decide), (nX1 5 22 (by unfold nEX; omega)).1], s527⟩ (fun x q1 q2 => X5 x (by omega)) W5 ⟨by rw [tx 2075 (by decide), (nY1 2075 46 (by unfold nEY; omega)).1]; exact c46, by rw [tx 2075 (by decide), (nY1 2075 47 (by unfold nEY; omega)).1]⟩ (fun x k' q1 q2 q3 => T4 x k' q1 (by omega) (by omega)) (Or.inl rfl) (f := N) (u := u) (by rw [sw 26 (by decide) (by decide), v26, ups_eq]) (by rw [sw 27 (by decide) (by decide), v27, ups_eq]) (Or.inr ⟨nW, by omega, hu4, hu5⟩) hsr.2.1.2.2.1.1 (fun k' hk' => by
    by_cases c : k' = nS
    · subst c; rw [t13, ups_eq]; exact Or.inr rfl
    · rw [T4 2113 k' (by decide) (by decide) (by omega)]; exact hsr.2.1.2.2.1.2 k' hk')
  refine blk_LK (Lc := (u, true) :: Lc) (by omega) (fun G N nC nW nS p H σ τ => hst hop1 _ _ _ G N nC nW nS p H σ τ) (hft _ _) (FT_rt trivial) b5 x5 hsr5 ?_ ?_ (by rw [List.length_cons, hcL]) (hSL.fr (by rw [s2 15 (by decide), (nX1 2 15 (by unfold nEX; omega)).1]) (X5 31 (by omega))) (fun k' hk' w => ?_) k5 (fun G2 N2 nC2 nW2 nS2 p2 H2 σ8 τ8 hp2 hB => ?_)
  · rw [s216]
    refine ⟨⟨by omega, by omega⟩, ⟨hu1, hu2, ?_, ?_, ?_⟩, ?_⟩
    · rw [sw 26 (by decide) (by decide), v26, show ((nW' : Nat) : Int).toNat = nW' by omega, ups_eq]
    · rw [sw 27 (by decide) (by decide), v27, show ((nW' : Nat) : Int).toNat = nW' by omega, ups_eq]
      show (N : Int) = (gF G' u : Int)
      rw [hu3]
    · rw [sw 28 (by decide) (by decide), v28, show ((nW' : Nat) : Int).toNat = nW' by omega, ups_eq]; rfl
    · rw [sw 29 (by decide) (by decide), v29, show ((nW' : Nat) : Int).toNat = nW' by omega, ups_eq, ← v29, ← sw 29 (by decide) (by decide)]
      exact crX.mono h1 (by omega) h2 (fun k' hk' => ⟨(W5 26 k' (by decide) (by decide) (by omega)).trans (h4 26 k' (by decide) (by decide) hk'), (W5 27 k' (by decide) (by decide) (by omega)).trans (h4 27 k' (by decide) (by decide) hk'), (W5 28 k' (by decide) (by decide) (by omega)).trans (h4 28 k' (by decide) (by decide) hk'), (W5 29 k' (by decide) (by decide) (by omega)).trans (h4 29 k' (by decide) (by decide) hk')⟩) _ _ hcX
  · refine ⟨⟨by omega, by omega⟩, ⟨by rw [show ((nS : Nat) : Int).toNat = nS by omega, T4 2110 nS (by decide) (by decide) (by omega)]; exact n10, rfl⟩, ?_⟩
    rw [show ((nS : Nat) : Int).toNat = nS by omega, T4 2111 nS (by decide) (by decide) (by omega), T4 2112 nS (by decide) (by decide) (by omega), n11, n12]
    exact crT.mono _ _ _ _ _ (Nat.le_refl _) (fun k' hk' => ⟨(T4 2110 k' (by decide) (by decide) (by omega)).trans (h5 2110 k' (by decide) (by decide) hk'), (T4 2111 k' (by decide) (by decide) (by omega)).trans (h5 2111 k' (by decide) (by decide) hk'), (T4 2112 k' (by decide) (by decide) (by omega)).trans (h5 2112 k' (by decide) (by decide) hk')⟩) hcT
  · rw [T4 2111 k' (by decide) (by decide) (by omega), T4 2112 k' (by decide) (by decide) (by omega)] at w
    rcases Nat.lt_trichotomy k' nS with c | c | c
    · have h3 : τ.1 2111 k' < (k' : Int) := rw_ord hsr0 k' c
      rw [h5 2111 k' (by decide) (by decide) c] at w
      omega
    · subst c; omega
    · rcases h8 k' c hk' with ⟨z1, z2⟩ | z1 <;> omega
  · obtain ⟨⟨⟨g1, g1', g1'', g1''', gx1⟩, g2, ⟨g3, g3'⟩, g4, g5, g6, g7, g8⟩, bb, bx, ⟨ps2, hps2, bs⟩, bl, bd', bk⟩ := hB
    have e30 : ∀ i, (i < 1600 * (op + 21) ∨ 1600 * (op + 21) + 1600 ≤ i) → σ5.1 30 i = σ'.1 30 i := fun i hi => by rw [s30, cpy_off hi, rX 30 (by decide) (by decide)]
    have R0 : ∀ z, z < 1600 → σ8.1 30 (1600 * op + z) = σ.1 30 (1600 * op + z) := fun z hz => by rw [g8 op z (by omega) hz, e30 _ (by omega), h9 op z (by omega) hz]
    have R21 : ∀ z, z < 1600 → σ8.1 30 (1600 * (op + 21) + z) = σ'.1 30 (1600 * (op + 1) + z) := fun z hz => by rw [g8 (op + 21) z (by omega) hz, s30, cpy_on hz, rX 30 (by decide) (by decide)]
    have hS0 := bl.1
    unfold LK
    refine rowsW (S := (σ8.1 2 15).toNat) (by omega) ⟨by omega, by omega⟩ (fun z hz => by rw [R0 z hz]; exact (hDV0 z hz).1) (fun z hz => (bd' z hz).1) (fun z hz => by rw [R21 z hz]; exact (hDV z hz).1) (fun σ9 m1 m2 m3 m4 m5 => ?_)
    rw [wp_rt]
    have a9 : agr nSX σ8 σ9 := fun x k' hk' => by
      refine ⟨?_, by rw [m3], by rw [m3]⟩
      by_cases c2 : x = 2
      · subst c2; rw [m2, ups_ne (by unfold nSX at hk'; omega)]
      · rw [m1 x (by unfold nSX at hk'; omega) c2]
    have m2i : ∀ i, i ≠ 16 → σ9.1 2 i = σ8.1 2 i := fun i q => by rw [m2, ups_ne q]
    have aX : agr nSX σ σ9 := (((h3.trans (agr_nSX nX1)).trans aX5).trans g3).trans a9
    have aY : agr nSY τ τ8 := ((h3'.trans (agr_nSY nY1)).trans aY4).trans g3'
    have T8 : ∀ x k', 2107 ≤ x → x ≤ 2113 → k' < nS' → (x ≠ 2113 ∨ k' ≠ nS) → τ8.1 x k' = τ'.1 x k' := fun x k' q1 q2 q3 q4 => (g6 x k' q1 q2 q3).trans (T4 x k' q1 q2 q4)
    have N11 : τ8.1 2111 nS = a := by rw [T8 2111 nS (by decide) (by decide) (by omega) (by omega)]; exact n11
    have N12 : τ8.1 2112 nS = e := by rw [T8 2112 nS (by decide) (by decide) (by omega) (by omega)]; exact n12
    have N07 : τ8.1 2107 nS = -1 := by rw [T8 2107 nS (by decide) (by decide) (by omega) (by omega)]; exact n07
    have N13 : τ8.1 2113 nS = 1 := by rw [g6 2113 nS (by decide) (by decide) (by omega), t13, ups_eq]
    have hnew : ∀ k', nS < k' → k' < nS2 → (nS : Int) ≤ τ8.1 2111 k' := fun k' q1 q2 => by
      rcases Nat.lt_or_ge k' nS' with c | c
      · rw [T8 2111 k' (by decide) (by decide) c (by omega)]
        rcases h8 k' q1 c with ⟨w, _⟩ | w <;> omega
      · rcases g7 k' c q2 with ⟨w, _⟩ | w <;> omega
    have hgv : ∀ x y : Int, gives (rwT τ8) nS2 x y nS ↔ (AL (rwT τ8) nS2 x y (nS : Int) 0 ∧ AL (rwT τ8) nS2 x y (nS : Int) 1) := fun x y => by
      unfold gives
      constructor
      · rintro (⟨w, _⟩ | ⟨_, _, w⟩)
        · have : rTh (rwT τ8) nS = -1 := N07
          omega
        · exact w
      · intro w
        refine Or.inr ⟨?_, ?_, w⟩
        · show τ8.1 2107 nS < 0
          rw [N07]; decide
        · show τ8.1 2113 nS ≠ 0
          rw [N13]; decide
    have hA0 : ∀ x y : Int, AL (rwT τ8) nS2 x y (nS : Int) 0 ↔ AL (rwT τ') nS' x y (nS : Int) 0 := fun x y => by
      refine AL_ctx g1''' (fun k' q1 q2 => ⟨⟨T8 2107 k' (by decide) (by decide) q1 (by omega), T8 2108 k' (by decide) (by decide) q1 (by omega)⟩, ⟨T8 2111 k' (by decide) (by decide) q1 (by omega), T8 2112 k' (by decide) (by decide) q1 (by omega)⟩, T8 2113 k' (by decide) (by decide) q1 (by omega)⟩) (rw_ord hsr) (rw_ord bs) (fun k' q1 q2 => ?_)
      show ¬ (τ8.1 2111 k' = (nS : Int) ∧ τ8.1 2112 k' = 0) ∧ (τ8.1 2111 k' ≤ (nS : Int) ∨ (nS' : Int) ≤ τ8.1 2111 k')
      rcases g7 k' q1 q2 with ⟨z1, z2⟩ | z1
      · exact ⟨fun w => by omega, Or.inl (by omega)⟩
      · exact ⟨fun w => by omega, Or.inr z1⟩
    have e31 : σ8.1 31 = σ'.1 31 := (g3.row (fun k => by unfold nSX; omega)).trans (X5 31 (by omega))
    have e931 : σ9.1 31 = σ8.1 31 := m1 31 (by decide) (by decide)
    refine wfin (H' := H2) (p' := p2) (G' := G2) (N' := N2) (nC' := nC2) (nW' := nW2) (nS' := nS2) hs (by omega) ⟨⟨by omega, by omega, by omega, by omega, by omega⟩, fun i hi => (h2 i hi).trans (g2 i (by omega)), ⟨aX, aY⟩, by rw [m2, ups_eq], fun x k' q1 q2 q3 => ?_, fun x k' q1 q2 q3 => (T8 x k' q1 q2 (by omega) (by omega)).trans (h5 x k' q1 q2 q3), fun k' q1 q2 => ?_, fun j z hj hz => ?_⟩ (bb.frS a9 agr.refl bb.2.2.1) (bx.cong (bx.1.stS a9 agr.refl) (fun i _ => by rw [m1 5 (by decide) (by decide)]) (m2i 9 (by decide)) (fun x q1 q2 => m1 x (by omega) (by omega)) (fun _ _ _ => rfl) (fun _ _ _ => rfl) rfl) ?_ (bl.fr (m2i 15 (by decide)) e931) (bk.cong (fun i q1 q2 => m2i i (by omega)) m3 (fun _ _ _ => rfl) rfl) (by omega) ⟨N11, N12⟩ hnew (fun z hz => ?_)
    · rw [m1 x (by omega) (by omega), g5 x k' q1 q2 (by omega), W5 x k' q1 q2 (by omega)]
      exact h4 x k' q1 q2 q3
    · by_cases c : k' = nS
      · subst c; exact Or.inl ⟨N11, N12⟩
      · exact Or.inr (hnew k' (by omega) q2)
    · rw [m5 _ (by omega), g8 j z (by omega) hz, e30 _ (by omega), h9 j z (by omega) hz]
    · obtain ⟨⟨⟨r1, r2⟩, r3, r4⟩, ⟨r5, r6, rSO⟩, r7, r8, r9⟩ := bs
      exact ⟨⟨⟨by rw [m1 5 (by decide) (by decide)]; exact r1, by rw [m1 5 (by decide) (by decide)]; exact r2⟩, r3, r4⟩, ⟨r5, by omega, rSO.mono (Nat.le_refl _) (fun _ _ => gAt.refl) (fun x c q1 q2 _ => by rw [m1 x (by omega) (by omega)]) (fun x k q1 q2 _ => by rw [m1 x (by omega) (by omega)]) (fun _ _ => rfl)⟩, fun c hc => (r7 c hc).mono (Nat.le_refl _) (Nat.le_refl _) (Nat.le_refl _) (fun _ _ => gAt.refl) rfl rfl (fun x q1 q2 => by rw [m1 x (by omega) (by omega)]) (fun x k' q1 q2 _ => by rw [m1 x (by omega) (by omega)]) (fun _ _ _ => rfl), r8, r9⟩
    · obtain ⟨d1, d1'⟩ := bd' z hz
      obtain ⟨d0, d0'⟩ := hDV z hz
      obtain ⟨dz, -⟩ := hDV0 z hz
      rw [m4 z hz, R21 z hz, R0 z hz, e931]
      by_cases c : z < (σ8.1 2 15).toNat ∧ σ8.1 30 (1600 * (op + 1) + z) = 1 ∧ σ'.1 30 (1600 * (op + 1) + z) = 1
      · rw [if_pos c]
        refine ⟨Or.inr rfl, fun _ => ?_, fun _ => rfl⟩
        obtain ⟨x1, y1, q1, q2⟩ := d1'.mp c.2.1
        obtain ⟨x0, y0, q3, q4⟩ := d0'.mp c.2.2
        have q5 := (hA0 x0 y0).mpr q4
        rw [← e31] at q3
        obtain ⟨rfl, rfl⟩ := bl.2.2 x1 y1 x0 y0 (AL_VT bs q2) (AL_VT bs q5) (q1.trans q3.symm)
        exact Or.inr ⟨x1, y1, q1, (hgv _ _).mpr ⟨q5, q2⟩⟩
      · rw [if_neg c]
        refine ⟨dz, fun w => Or.inl w, fun w => ?_⟩
        rcases w with w | ⟨x, y, q1, q2⟩
        · exact w
        · obtain ⟨q3, q4⟩ := (hgv x y).mp q2
          refine absurd ⟨?_, d1'.mpr ⟨x, y, q1, q4⟩, d0'.mpr ⟨x, y, by rw [← e31]; exact q1, (hA0 x y).mp q3⟩⟩ c
          obtain ⟨i, rfl, hi, hy⟩ := AL_VT bs q4
          obtain ⟨u1, u2, u3⟩ := bl.2.1 i hi
          rw [show ((i : Nat) : Int).toNat = i by omega] at q1
          rcases hy with ⟨rfl, w⟩ | ⟨m, rfl, w1, w2⟩
          · have := u2 w; omega
          · have := u3 w1 m w2; omega
end
