set_option maxRecDepth 100000
set_option maxHeartbeats 400000
/-! ===== read: blocks ===== -/
section
variable {k t : Nat} {kd wd pt : Nat → Nat} {Mt : Nat → Nat} {Mk Mw : Nat → Nat → Nat}
variable {c0 : Nat × Int} {σ0 τ0 : St} {T : Nat → Int} {n op : Nat} {a e : Int} {Lc : List (Nat × Bool)} {γ δ : Type}
theorem SR.E {G : NG} {N nC nW nS p p' : Nat} {H : SG} {σ τ σ' τ' : St} (h : SR t kd wd pt Mt Mk Mw G N nC nW nS p H σ τ) (hp : p ≤ p') (eX : agr nEX σ σ') (eY : agr nEY τ τ') : SR t kd wd pt Mt Mk Mw G N nC nW nS p' H σ' τ' := by
  obtain ⟨⟨⟨h1, h2⟩, h3, h4⟩, ⟨h5, h6, hSO⟩, h7, h8, h9⟩ := h
  have rX : ∀ x, 19 ≤ x → x ≤ 29 → σ'.1 x = σ.1 x := fun x q1 q2 => eX.row (fun k => by unfold nEX; omega)
  have rY : ∀ x, 2107 ≤ x → x ≤ 2113 → τ'.1 x = τ.1 x := fun x q1 q2 => eY.row (fun k => by unfold nEY; omega)
  refine ⟨⟨⟨by rw [(eX 5 22 (by unfold nEX; omega)).1]; exact h1, by rw [(eX 5 27 (by unfold nEX; omega)).1]; exact h2⟩, by rw [(eY 2075 46 (by unfold nEY; omega)).1]; exact h3, by rw [(eY 2075 47 (by unfold nEY; omega)).1]; exact h4⟩, ⟨h5, by omega, hSO.mono (Nat.le_refl _) (fun _ _ => gAt.refl) (fun x c q1 q2 _ => by rw [rX x (by omega) (by omega)]) (fun x k q1 q2 _ => by rw [rX x (by omega) (by omega)]) (fun k _ => by rw [rY 2113 (by decide) (by decide)])⟩, fun c hc => (h7 c hc).mono (Nat.le_refl _) (Nat.le_refl _) (Nat.le_refl _) (fun _ _ => gAt.refl) rfl rfl (fun x q1 q2 => by rw [rX x q1 (by omega)]) (fun x k' q1 q2 _ => by rw [rX x (by omega) q2]) (fun x q1 q2 => by rw [rY x q1 (by omega)]), h8, fun k' hk' => ⟨(h9 k' hk').1.mono rfl (fun x k2 q1 q2 _ => by rw [rY x (by omega) (by omega)]) (by rw [rY 2111 (by decide) (by decide)]) (by rw [rY 2112 (by decide) (by decide)]), ?_⟩⟩
  rw [rY 2107 (by decide) (by decide)]
  exact (h9 k' hk').2
theorem DV.E {σ τ σ' τ' : St} {r nS : Nat} (h : DV σ τ r nS a e) (eX : agr nEX σ σ') (eY : agr nEY τ τ') : DV σ' τ' r nS a e := by
  have rY : ∀ x, 2107 ≤ x → x ≤ 2113 → τ'.1 x = τ.1 x := fun x q1 q2 => eY.row (fun k => by unfold nEY; omega)
  unfold DV rwT
  rw [eX.row (a := 30) (fun k => by unfold nEX; omega), eX.row (a := 31) (fun k => by unfold nEX; omega), rY 2107 (by decide) (by decide), rY 2108 (by decide) (by decide), rY 2111 (by decide) (by decide), rY 2112 (by decide) (by decide), rY 2113 (by decide) (by decide)]
  exact h
theorem SL.E {σ σ' : St} (h : SL t kd pt Mt σ) (eX : agr nEX σ σ') : SL t kd pt Mt σ' := h.fr (eX 2 15 (by unfold nEX; omega)).1 (eX.row (fun k => by unfold nEX; omega))
theorem SX.E {G : NG} {N nC nW nS p p' : Nat} {H : SG} {σ τ σ' τ' : St} (h : SX k t kd wd pt Mt Mk Mw c0 σ0 τ0 T n op a e Lc G N nC nW nS p H σ τ) (hp : p ≤ p') (eX : agr kX σ σ') (eY : agr kY τ τ') (hb : BS c0 σ0 τ0 T n σ' τ') (hx : EX0 (VE k t kd wd pt Mt Mk Mw) (RDk t kd wd pt Mt Mk Mw) (WDk t kd wd) G N 0 op p σ' τ') : SX k t kd wd pt Mt Mk Mw c0 σ0 τ0 T n op a e Lc G N nC nW nS p' H σ' τ' := by
  obtain ⟨h1, h2, h3, ⟨h4, h5, h6⟩, h7, h8⟩ := h
  have fX := agr_nEX (agr_kX9 eX)
  have fY := agr_nEY (agr_kY6 eY)
  have rX : ∀ x, 19 ≤ x → x ≤ 29 → σ'.1 x = σ.1 x := fun x q1 q2 => fX.row (fun k => by unfold nEX; omega)
  have rY : ∀ x, 2107 ≤ x → x ≤ 2113 → τ'.1 x = τ.1 x := fun x q1 q2 => fY.row (fun k => by unfold nEY; omega)
  refine ⟨hb, hx.le hp, h3.E hp fX fY, ⟨?_, ?_, h6⟩, h7.E fX, h8.E fX fY⟩
  · rw [rX 26 (by decide) (by decide), rX 27 (by decide) (by decide), rX 28 (by decide) (by decide), rX 29 (by decide) (by decide), (fX 2 16 (by unfold nEX; omega)).1]; exact h4
  · rw [rY 2110 (by decide) (by decide), rY 2111 (by decide) (by decide), rY 2112 (by decide) (by decide)]; exact h5
theorem STP.refl {G : NG} {N nC nW nS : Nat} {σ τ : St} : STP op a e G N nC nW nS σ τ G N nC nW nS σ τ := ⟨⟨Nat.le_refl _, Nat.le_refl _, Nat.le_refl _, Nat.le_refl _, Nat.le_refl _⟩, fun _ _ => gAt.refl, ⟨agr.refl, agr.refl⟩, rfl, fun _ _ _ _ _ => rfl, fun _ _ _ _ _ => rfl, fun k h1 h2 => absurd h2 (by omega), fun _ _ _ _ => rfl⟩
theorem STP.trans {G G1 G2 : NG} {N N1 N2 nC nC1 nC2 nW nW1 nW2 nS nS1 nS2 : Nat} {σ τ σ1 τ1 σ2 τ2 : St} (h : STP op a e G N nC nW nS σ τ G1 N1 nC1 nW1 nS1 σ1 τ1) (h' : STP op a e G1 N1 nC1 nW1 nS1 σ1 τ1 G2 N2 nC2 nW2 nS2 σ2 τ2) : STP op a e G N nC nW nS σ τ G2 N2 nC2 nW2 nS2 σ2 τ2 := by
  obtain ⟨a1, a2, ⟨a3, a3'⟩, a4, a5, a6, a7, a8⟩ := h
  obtain ⟨b1, b2, ⟨b3, b3'⟩, b4, b5, b6, b7, b8⟩ := h'
  refine ⟨by omega, fun i hi => (a2 i hi).trans (b2 i (by omega)), ⟨a3.trans b3, a3'.trans b3'⟩, b4.trans a4, fun x k q1 q2 q3 => (b5 x k q1 q2 (by omega)).trans (a5 x k q1 q2 q3), fun x k q1 q2 q3 => (b6 x k q1 q2 (by omega)).trans (a6 x k q1 q2 q3), fun k q1 q2 => ?_, fun j z hj hz => (b8 j z hj hz).trans (a8 j z hj hz)⟩
  rcases Nat.lt_or_ge k nS1 with c | c
  · rw [b6 2111 k (by decide) (by decide) c, b6 2112 k (by decide) (by decide) c]
    exact a7 k q1 c
  · exact (b7 k c q2).imp id (fun w => by omega)
theorem STP.E {G : NG} {N nC nW nS : Nat} {σ τ σ1 τ1 : St} (eX : agr kX σ σ1) (eY : agr kY τ τ1) : STP op a e G N nC nW nS σ τ G N nC nW nS σ1 τ1 := by
  have fX := agr_nEX (agr_kX9 eX)
  have fY := agr_nEY (agr_kY6 eY)
  exact ⟨⟨Nat.le_refl _, Nat.le_refl _, Nat.le_refl _, Nat.le_refl _, Nat.le_refl _⟩, fun _ _ => gAt.refl, ⟨agr_nSX fX, agr_nSY fY⟩, (fX 2 16 (by unfold nEX; omega)).1, fun x k q1 q2 _ => (fX x k (by unfold nEX; omega)).1, fun x k q1 q2 _ => (fY x k (by unfold nEY; omega)).1, fun k h1 h2 => absurd h2 (by omega), fun j z _ _ => (fX 30 _ (by unfold nEX; omega)).1⟩
/-- what stands behind a block -/
def BPost (k t : Nat) (kd wd pt : Nat → Nat) (Mt : Nat → Nat) (Mk Mw : Nat → Nat → Nat) (c0 : Nat × Int) (σ0 τ0 : St) (T : Nat → Int) (n op : Nat) (a e : Int) (G : NG) (N nC nW nS : Nat) (σ τ : St) (G' : NG) (N' nC' nW' nS' p' : Nat) (H' : SG) (σ' τ' : St) : Prop := STP (op + 1) a e G N nC nW nS σ τ G' N' nC' nW' nS' σ' τ' ∧ BS c0 σ0 τ0 T n σ' τ' ∧ EX0 (VE k t kd wd pt Mt Mk Mw) (RDk t kd wd pt Mt Mk Mw) (WDk t kd wd) G' N' 0 op p' σ' τ' ∧ (∃ ps, ps + 1 ≤ p' ∧ SR t kd wd pt Mt Mk Mw G' N' nC' nW' nS' ps H' σ' τ') ∧ SL t kd pt Mt σ' ∧ DV σ' τ' (op + 1) nS' a e ∧ TK T n σ' τ' p'
theorem FT_10 {sm : Int → Int → St → Option (Unit × St)} : ∀ f, 1 ≤ f → FTw c0 (fun _ : Unit => True) (X15_block_10 sm f a e) := by
  intro f hf
  obtain ⟨f', rfl⟩ : ∃ f', f = f' + 1 := ⟨f - 1, by omega⟩
  rw [X15_block_10]
  refine FT_gF (fun v hv => FT_if (c := v = 0) (fun e => absurd e (by omega)) (fun _ => ?_))
  rw [X15_block_35]
  exact FT_bd (FT_must (by decide)) (fun z hz => FT_rt trivial)
theorem FT_cl {B : δ → Prop} {g' : St → Option (δ × St)} (ft : FTw c0 B g') : FTw c0 B (bd (gI 2075 36) fun v => bd (pI 2075 36 (w32 (v - 1))) fun _ => g') := FT_gI (fun v => FT_pI (by decide) ft)
theorem blkloop (hop : op + 1 ≤ 20) {sc : Int → St → Option ((Unit ⊕ XV) × St)} {sm : Int → Int → St → Option (Unit × St)} (hst : ∀ G N nC nW nS p H σ τ, SX k t kd wd pt Mt Mk Mw c0 σ0 τ0 T n (op + 1) a e Lc G N nC nW nS p H σ τ → TK T n σ τ p → LK c0 σ0 τ0 (fun _ : Unit => True) (sc ((op + 1 : Nat) : Int)) (sm a e) σ τ (fun _ _ σ' τ' => SPost k t kd wd pt Mt Mk Mw c0 σ0 τ0 T n (op + 1) a e Lc G N nC nW nS p σ τ σ' τ')) (hft : FTw c0 (fun _ : Unit => True) (sm a e)) {B : δ → Prop} {f' : St → Option ((γ ⊕ XV) × St)} {g' : St → Option (δ × St)} {P : γ → δ → St → St → Prop} (ft : FTw c0 B g') {Gb : NG} {Nb bC bW bS pb : Nat} {σb τb : St} (go : ∀ G' N' nC' nW' nS' p' H' σ' τ', pb < p' → BPost k t kd wd pt Mt Mk Mw c0 σ0 τ0 T n op a e Gb Nb bC bW bS σb τb G' N' nC' nW' nS' p' H' σ' τ' → LK c0 σ0 τ0 B f' g' σ' τ' P) : ∀ m f1 f2, m < f1 → m < f2 → ∀ G N nC nW nS p H σ τ, n - p < m → pb ≤ p → STP (op + 1) a e Gb Nb bC bW bS σb τb G N nC nW nS σ τ → SX k t kd wd pt Mt Mk Mw c0 σ0 τ0 T n (op + 1) a e Lc G N nC nW nS p H σ τ → TK T n σ τ p → LK c0 σ0 τ0 B (bdE (X1_block_12 sc f1 ((op + 1 : Nat) : Int)) fun _ => f') (bd (X15_block_10 sm f2 a e) fun _ => bd (gI 2075 36) fun v => bd (pI 2075 36 (w32 (v - 1))) fun _ => g') σ τ P := by
  intro m
  induction m with
  | zero => intro f1 f2 h1 h2 G N nC nW nS p H σ τ hm; omega
  | succ m ih =>
    intro f1 f2 h1 h2 G N nC nW nS p H σ τ hm hpb hstp hs hk
    obtain ⟨f1', rfl⟩ : ∃ f, f1 = f + 1 := ⟨f1 - 1, by omega⟩
    obtain ⟨f2', rfl⟩ : ∃ f, f2 = f + 1 := ⟨f2 - 1, by omega⟩
    have hpn := hk.le
    have hb := hs.1
    have hx := hs.2.1
    rw [X1_block_12, X15_block_10]
    simp only [bdE_bdE, bdE_ite, bd_as, bd_ite]
    refine LK_t ?_
    rw [gI28 (σ := σ) hb.2.2.1, if_pos rfl]
    refine LK_look hb hk (EX0.st VE.st) hx ?_ (fun q σ1 τ1 hq e1 e2 b1 x1 k1 hin => ?_)
    · rw [if_neg (by decide)]
      exact FT_bd hft (fun _ _ => FT_bd (FT_10 f2' (by omega)) (fun _ _ => FT_cl ft))
    · by_cases c : tkK T n q = 125
      · rw [if_pos c, if_pos ((km_eq hin (a := 125) (b := 31) (by decide)).mpr c), X1_block_29, X15_block_35, F_X15_must]
        simp only [bdE_bd, bdE_le, bd_as, bd_ite]
        refine LK_t ?_
        rw [look_t b1.2.2.1 k1, if_pos ((km_eq hin (a := 125) (b := 31) (by decide)).mpr c)]
        obtain ⟨o0, o1, o2⟩ := x1.2.2.2.1
        refine LK_c ?_
        rw [wp_gI, o1]
        refine LK_c ?_
        rw [wp_pI, w32_i (by omega) (by omega), show ((op + 1 : Nat) : Int) - 1 = (op : Int) by omega]
        have a1 : agr kX9 σ1 (stA σ1.1 2 (ups (σ1.1 2) 9 (op : Int)), σ1.2) := agr.refl.u (by unfold kX9; omega) _
        have b2 := b1.fr9 a1 (agr.refl (σ := τ1))
        have k2 : TKp T n (stA σ1.1 2 (ups (σ1.1 2) 9 (op : Int)), σ1.2) τ1 q := k1.cong (fun i h1 h2 => by dsimp only; rw [stA_eq, ups_ne (by omega)]) rfl (fun _ _ _ => rfl) rfl
        refine LK_pass (R := fun _ _ => True) b2 k2 (by rw [c]; decide) (fun _ _ _ _ _ _ _ => trivial) trivial (fun q3 σ3 τ3 hq3 _ w1 w2 b3 _ k3 _ => ?_)
        refine LK_t ?_
        rw [c_rtZ (by decide) (by decide), bd_lt', bd_rt']
        have o36 : τ3.1 2075 36 = ((op + 1 : Nat) : Int) := by rw [(w2 2075 36 (by unfold kY; omega)).1]; exact o2
        refine LK_t ?_
        rw [wp_gI, o36]
        refine LK_t ?_
        rw [wp_pI, w32_i (by omega) (by omega), show ((op + 1 : Nat) : Int) - 1 = (op : Int) by omega]
        have a3 : agr kY6 τ3 (stA τ3.1 2075 (ups (τ3.1 2075) 36 (op : Int)), τ3.2) := agr.refl.u (by unfold kY6; omega) _
        have fX : agr kX9 σ1 σ3 := a1.trans (agr_kX9 w1)
        have fY : agr kY6 τ1 (stA τ3.1 2075 (ups (τ3.1 2075) 36 (op : Int)), τ3.2) := (agr_kY6 w2).trans a3
        have gX : agr kX9 σ σ3 := (agr_kX9 e1).trans fX
        have gY : agr kY6 τ (stA τ3.1 2075 (ups (τ3.1 2075) 36 (op : Int)), τ3.2) := (agr_kY6 e2).trans fY
        have hs3 := hs.2.2.1
        have s2 : STP (op + 1) a e G N nC nW nS σ τ G N nC nW nS σ3 (stA τ3.1 2075 (ups (τ3.1 2075) 36 (op : Int)), τ3.2) := by
          have hX := agr_nEX gX
          have hY := agr_nEY gY
          exact ⟨⟨Nat.le_refl _, Nat.le_refl _, Nat.le_refl _, Nat.le_refl _, Nat.le_refl _⟩, fun _ _ => gAt.refl, ⟨agr_nSX hX, agr_nSY hY⟩, (hX 2 16 (by unfold nEX; omega)).1, fun x k q1 q2 _ => (hX x k (by unfold nEX; omega)).1, fun x k q1 q2 _ => (hY x k (by unfold nEY; omega)).1, fun k h1 h2 => absurd h2 (by omega), fun j z _ _ => (hX 30 _ (by unfold nEX; omega)).1⟩
        refine go G N nC nW nS q3 H σ3 _ (by omega) ⟨hstp.trans s2, b3.fr9 agr.refl a3, ((x1.le (q := q3) (by omega)).fr9 VE.st fX fY (by omega) ?_ ?_), ⟨p, by omega, hs3.E (Nat.le_refl _) (agr_nEX gX) (agr_nEY gY)⟩, hs.2.2.2.2.1.E (agr_nEX gX), hs.2.2.2.2.2.E (agr_nEX gX) (agr_nEY gY), Or.inl ?_⟩
        · rw [(w1 2 9 (by unfold kX; omega)).1]; dsimp only; rw [stA_eq, ups_eq]
        · dsimp only; rw [stA_eq, ups_eq]
        · exact k3.cong (fun _ _ _ => rfl) (fun i h1 h2 => by dsimp only; rw [stA_eq, ups_ne (by omega)])
      · rw [if_neg c, if_neg (fun z => c ((km_eq hin (a := 125) (b := 31) (by decide)).mp z))]
        have hs1 := hs.E hq e1 e2 b1 x1
        refine LK_bd (LK_mono (hst G N nC nW nS q H σ1 τ1 hs1 (Or.inr k1)) ?_) (fun y hy => ?_)
        · rintro r y σ2 τ2 ⟨G2, N2, nC2, nW2, nS2, p2, H2, hp2, hstp2, hs2, k2⟩
          have := k2.le
          exact ih f1' f2' (by omega) (by omega) G2 N2 nC2 nW2 nS2 p2 H2 σ2 τ2 (by omega) (by omega) ((hstp.trans (STP.E e1 e2)).trans hstp2) hs2 k2
        · exact FT_bd (FT_10 f2' (by omega)) (fun _ _ => FT_cl ft)
end
