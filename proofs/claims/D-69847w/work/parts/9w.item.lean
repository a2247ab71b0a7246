set_option maxRecDepth 100000
set_option maxHeartbeats 400000
/-! ===== read: things of a kind ===== -/
/-- what items leave alone -/
def nIX (a i : Nat) : Prop := ¬ ((a = 2 ∧ ((3 ≤ i ∧ i ≤ 9) ∨ i = 15 ∨ i = 16)) ∨ (a = 5 ∧ (i = 7 ∨ i = 13 ∨ i = 14 ∨ i = 22 ∨ i = 27)) ∨ (7 ≤ a ∧ a ≤ 31))
def nIY (k a i : Nat) : Prop := ¬ ((a = 2075 ∧ ((30 ≤ i ∧ i ≤ 36) ∨ i = 38 ∨ i = 39 ∨ i = 46 ∨ i = 47 ∨ (55 ≤ i ∧ i ≤ 57))) ∨ (a = 2077 ∧ i = 48 + k) ∨ (2082 ≤ a ∧ a ≤ 2086 ∧ 40 * (48 + k) ≤ i) ∨ (a = 2087 ∧ 400 * (48 + k) ≤ i) ∨ (2101 ≤ a ∧ a ≤ 2113))
/-- between items -/
def IT (k : Nat) (Mt : Nat → Nat) (Mk Mw : Nat → Nat → Nat) (c0 : Nat × Int) (σ0 τ0 : St) (T : Nat → Int) (n : Nat) (σb τb : St) (p : Nat) (σ τ : St) : Prop := ∃ (t : Nat) (kd wd pt ws bg : Nat → Nat) (G : NG) (N nC nW nS : Nat) (H : SG), SX k t kd wd pt Mt Mk Mw c0 σ0 τ0 T n 0 (-1) 0 [] G N nC nW nS p H σ τ ∧ TW k t kd wd ws bg σ τ ∧ nW + 2 * nC ≤ 2 * nS ∧ agr nIX σb σ ∧ agr (nIY k) τb τ
section
variable {k t : Nat} {kd wd pt ws bg : Nat → Nat} {Mt : Nat → Nat} {Mk Mw : Nat → Nat → Nat}
variable {c0 : Nat × Int} {σ0 τ0 : St} {T : Nat → Int} {n : Nat} {G : NG} {N nC nW nS p p' : Nat} {H : SG} {σ τ σ' τ' σb τb : St} {q L K w P s b : Nat} {γ δ : Type}
theorem TW.fr (h : TW k t kd wd ws bg σ τ) (e15 : σ'.1 2 15 = σ.1 2 15) (e11 : σ'.1 11 = σ.1 11) (e12 : σ'.1 12 = σ.1 12) (f84 : τ'.1 2084 = τ.1 2084) (f85 : τ'.2.1 2085 = τ.2.1 2085) : TW k t kd wd ws bg σ' τ' := by
  unfold TW
  rw [e15, e11, e12, f84, f85]
  exact h
theorem TW.kk (h : TW k t kd wd ws bg σ τ) (e : agr kX σ σ') (e' : agr kY τ τ') : TW k t kd wd ws bg σ' τ' := h.fr (e 2 15 (by unfold kX; omega)).1 (e.row (fun k => by unfold kX; omega)) (e.row (fun k => by unfold kX; omega)) (e'.row (fun k => by unfold kY; omega)) (funext fun i => (e' 2085 i (by unfold kY; omega)).2.1)
theorem SX.kk (hs : SX k t kd wd pt Mt Mk Mw c0 σ0 τ0 T n 0 (-1) 0 [] G N nC nW nS p H σ τ) (hp : p ≤ p') (e : agr kX σ σ') (e' : agr kY τ τ') (hb : BS c0 σ0 τ0 T n σ' τ') : SX k t kd wd pt Mt Mk Mw c0 σ0 τ0 T n 0 (-1) 0 [] G N nC nW nS p' H σ' τ' := hs.E hp e e' hb (EX0.st VE.st _ _ _ _ e e' hs.2.1)
theorem nIX_k (h : agr kX σ σ') : agr nIX σ σ' := agr.sub h (fun a i q => by unfold nIX at q; unfold kX; omega)
theorem nIY_k (h : agr kY τ τ') : agr (nIY k) τ τ' := agr.sub h (fun a i q => by unfold nIY at q; unfold kY; omega)
theorem IT.kk (h : IT k Mt Mk Mw c0 σ0 τ0 T n σb τb p σ τ) (hp : p ≤ p') (e : agr kX σ σ') (e' : agr kY τ τ') (hb : BS c0 σ0 τ0 T n σ' τ') : IT k Mt Mk Mw c0 σ0 τ0 T n σb τb p' σ' τ' := by
  obtain ⟨t, kd, wd, pt, ws, bg, G, N, nC, nW, nS, H, h1, h2, h3, h4, h5⟩ := h
  exact ⟨t, kd, wd, pt, ws, bg, G, N, nC, nW, nS, H, h1.kk hp e e' hb, h2.kk e e', h3, h4.trans (nIX_k e), h5.trans (nIY_k e')⟩
theorem BS.frT (h : BS c0 σ0 τ0 T n σ τ) (e : agr (nTX t) σ σ') : BS c0 σ0 τ0 T n σ' τ := by
  obtain ⟨⟨a1, a2, a3, a4, a5⟩, h2, b3, b4, b5⟩ := h
  refine ⟨⟨a1, a2, ?_, fun k hk => ?_, fun i hi => ?_⟩, h2, b3, b4.trans (agr.sub e (fun a k q => by unfold nX at q; unfold nTX; omega)), b5⟩
  · rw [(e 2 2 (by unfold nTX; omega)).1]; exact a3
  · rw [(e 4 k (by unfold nTX; omega)).1]; exact a4 k hk
  · rw [(e 3 i (by unfold nTX; omega)).2.2]; exact a5 i hi
theorem BS.frU (hck : c0.1 ≤ k) (h : BS c0 σ0 τ0 T n σ τ) (e : agr (nTh k t) τ τ') (ht : t < 40) : BS c0 σ0 τ0 T n σ τ' := by
  obtain ⟨h1, ⟨c1, c2, c3, c4⟩, b3, b4, b5, b6⟩ := h
  refine ⟨h1, ⟨c1, c2, ?_, fun k hk => ?_⟩, ?_, b4, b5.trans (agr.sub e (fun a k q => by unfold nY at q; unfold nTh; omega)), ?_⟩
  · rw [(e 2075 2 (by unfold nTh; omega)).1]; exact c3
  · rw [(e 2076 k (by unfold nTh; omega)).1]; exact c4 k hk
  · rw [(e 2075 28 (by unfold nTh; omega)).1]; exact b3
  · rw [(e 2075 37 (by unfold nTh; omega)).1]; exact b6
/-- behind an item -/
theorem item_end {p0 : Nat} (hit : IT k Mt Mk Mw c0 σ0 τ0 T n σb τb p σ τ) (hk : TK T n σ τ p) (hp : p0 ≤ p) : LK c0 σ0 τ0 (fun _ : Unit => True) X1_item_144 X15_item_206 σ τ (fun _ _ σ' τ' => ∃ p', p0 < p' ∧ IT k Mt Mk Mw c0 σ0 τ0 T n σb τb p' σ' τ' ∧ TK T n σ' τ' p') := by
  have hb : BS c0 σ0 τ0 T n σ τ := by
    obtain ⟨t, kd, wd, pt, ws, bg, G, N, nC, nW, nS, H, h1, h2⟩ := hit
    exact h1.1
  rw [X1_item_144, X15_item_206]
  refine LK_want (R := fun _ _ => True) (a := 59) (b := 37) (by decide) (by decide) (by decide) hb hk (fun _ _ _ _ _ _ _ => trivial) trivial (FT_rt trivial) (fun q q' σ2 τ2 hq hq' _ e1 e2 b2 x2 k2 => ?_)
  exact LK_rt ⟨q', by omega, hit.kk (by omega) e1 e2 b2, Or.inl k2⟩
/-- the component keeps a thing -/
theorem LK_81 {x1 x5 x6 x7 : Int} {B : δ → Prop} {f' : St → Option ((γ ⊕ XV) × St)} {g : St → Option (δ × St)} {PP : γ → δ → St → St → Prop} (hx1 : x1 = ((K + 4 : Nat) : Int)) (hx5 : x5 = (w : Int)) (hK : K ≤ 5) (h7 : σ.1 5 7 = (t : Int)) (ht : t < 40) (hT : TXc T n σ) (hl : q + L ≤ n) (h10 : L ≤ 10) (h15 : 0 ≤ σ.1 2 15 ∧ σ.1 2 15 ≤ 1600) (go : ∀ σ', agr (nTX t) σ σ' → σ'.2 = σ.2 → (∀ i, i ≠ 15 → σ'.1 2 i = σ.1 2 i) → (σ'.1 5 7 = ((t + 1 : Nat) : Int) ∧ σ'.1 8 t = (L : Int) ∧ σ'.1 9 t = (K : Int) ∧ σ'.1 10 t = (w : Int) ∧ σ'.1 11 t = x6 ∧ σ'.1 12 t = x7 ∧ ∀ j, j < L → σ'.1 7 (10 * t + j) = T (q + j)) → σ'.1 31 t = σ.1 2 15 → σ'.1 2 15 = σ.1 2 15 + 1 → LK c0 σ0 τ0 B f' g σ' τ PP) : LK c0 σ0 τ0 B (bdE (X1_thing_81 x1 (q : Int) (L : Int) x5 x6 x7) fun _ => f') g σ τ PP := by
  have hn := hT.1
  subst hx1
  subst hx5
  rw [X1_thing_81]
  simp only [lt_eq, bdE_bd, bdE_le]
  rw [w32_i (x := ((K + 4 : Nat) : Int) - 4) (by omega) (by omega), show ((K + 4 : Nat) : Int) - 4 = (K : Int) by omega]
  refine LK_c (addT h7 ht (by omega) h10 (fun σ1 z1 z2 z3 z4 z5 => ?_))
  obtain ⟨z8, z9, z10, z11, z12⟩ := z5
  refine LK_c ?_
  rw [RV_11 (by omega) (by omega), tn]
  refine LK_c ?_
  rw [RV_12 (by omega) (by omega), tn]
  refine LK_c ?_
  rw [wp_gI]
  refine LK_c ?_
  rw [RV_31 (by omega) (by omega), tn]
  refine LK_c ?_
  rw [wp_gI]
  refine LK_c ?_
  rw [wp_pI]
  have e15 : σ1.1 2 15 = σ.1 2 15 := by rw [z2 2 (by omega)]
  simp (disch := decide) only [stA_ne, e15]
  rw [w32_i (by omega) (by omega)]
  refine go _ (fun a i h => ⟨?_, ?_, ?_⟩) z1 (fun i hi => ?_) ⟨?_, ?_, ?_, ?_, ?_, ?_, fun j hj => ?_⟩ ?_ ?_
  · unfold nTX at h
    simp only [stA_app, ups_app]
    by_cases c5 : a = 5
    · subst c5
      simp (disch := decide) only [if_neg]
      rw [z3, ups_ne (by omega)]
    · by_cases c7 : a = 7
      · subst c7
        simp (disch := decide) only [if_neg]
        rw [z4]
        unfold cpy
        rw [if_neg (by omega)]
      · by_cases cr : 8 ≤ a ∧ a ≤ 12
        · have : a = 8 ∨ a = 9 ∨ a = 10 ∨ a = 11 ∨ a = 12 := by omega
          rcases this with rfl | rfl | rfl | rfl | rfl
          · simp (disch := decide) only [if_neg]
            rw [z8, ups_ne (by omega)]
          · simp (disch := decide) only [if_neg]
            rw [z9, ups_ne (by omega)]
          · simp (disch := decide) only [if_neg]
            rw [z10, ups_ne (by omega)]
          · simp (disch := decide) only [if_neg, if_pos, if_true]
            rw [if_neg (by omega), z11, ups_ne (by omega)]
          · simp (disch := decide) only [if_neg, if_pos, if_true]
            rw [if_neg (by omega), z12, ups_ne (by omega)]
        · rw [z2 a (by omega), z2 2 (by omega), z2 31 (by omega)]
          repeat' split
          all_goals first | rfl | (exfalso; omega) | (subst_vars; rfl)
  · dsimp only; rw [z1]
  · dsimp only; rw [z1]
  · simp (disch := omega) only [stA_eq, stA_ne, ups_ne]
    rw [z2 2 (by omega)]
  · simp (disch := decide) only [stA_ne]
    rw [z3, ups_eq]
  · simp (disch := decide) only [stA_ne]
    rw [z8, ups_eq]
  · simp (disch := decide) only [stA_ne]
    rw [z9, ups_eq]
  · simp (disch := decide) only [stA_ne]
    rw [z10, ups_eq]
  · simp (disch := decide) only [stA_ne, stA_eq, ups_eq]
  · simp (disch := decide) only [stA_ne, stA_eq, ups_eq]
  · simp (disch := decide) only [stA_ne]
    rw [z4]
    unfold cpy
    rw [if_pos ⟨by omega, by omega⟩, show q + (10 * t + j - 10 * t) = q + j by omega]
    exact hT.2.2.2.1 _ (by omega)
  · simp (disch := decide) only [stA_ne, stA_eq, ups_eq]
  · simp (disch := decide) only [stA_ne, stA_eq, ups_eq]
/-- a told thing joins the others -/
theorem thing_join {p0 : Nat} {x1 x5 x6 x7 : Int} {σs τs : St} (hck : c0.1 ≤ k) (hx1 : x1 = ((K + 4 : Nat) : Int)) (hx5 : x5 = (w : Int)) (hx6 : x6 = (s : Int)) (hx7 : x7 = sg b) (hK : K ≤ 4) (hs : SX k t kd wd pt Mt Mk Mw c0 σ0 τ0 T n 0 (-1) 0 [] G N nC nW nS p H σs τs) (htw : TW k t kd wd ws bg σs τs) (hpsi : nW + 2 * nC ≤ 2 * nS) (hbX : agr nIX σb σs) (hbY : agr (nIY k) τb τs) (ht : t < 40) (hnm : 1 ≤ L ∧ L ≤ 10 ∧ ∀ j, j < L → pnz (T (q + j))) (hl : q + L ≤ n) (hP : PT T q L k t K w s b σs τs σ τ) (hb : BS c0 σ0 τ0 T n σ τ) (hk : TK T n σ τ p') (hp : p ≤ p') (hp0 : p0 ≤ p') (hr : (1 ≤ w ∧ w ≤ 32) ∧ (1 ≤ s ∧ s ≤ 64 ∧ (K ≠ 4 → s = 1)) ∧ (K = 3 → b < 2 ^ w) ∧ (K ≠ 3 → b = 0)) : LK c0 σ0 τ0 (fun _ : Unit => True) (bdE (X1_thing_81 x1 (q : Int) (L : Int) x5 x6 x7) fun _ => X1_item_144) X15_item_206 σ τ (fun _ _ σ' τ' => ∃ p', p0 < p' ∧ IT k Mt Mk Mw c0 σ0 τ0 T n σb τb p' σ' τ' ∧ TK T n σ' τ' p') := by
  obtain ⟨hX, hY, hR⟩ := hP
  have h7 : σ.1 5 7 = (t : Int) := by rw [(hX 5 7 (by unfold kX; omega)).1]; exact hs.2.1.1.2.2.1.1.1
  have e15 : σ.1 2 15 = σs.1 2 15 := (hX 2 15 (by unfold kX; omega)).1
  have h15 := hs.2.2.2.2.1.1
  refine LK_81 hx1 hx5 (by omega) h7 ht hb.1 hl hnm.2.1 (by rw [e15]; exact h15) (fun σ' z1 z2 z3 z4 z5 z6 => ?_)
  have aX : agr (nTX t) σs σ' := (agr.sub hX (fun a i h => by unfold nTX at h; unfold kX; omega)).trans z1
  have hb' := hb.frT z1
  have hNT : NT T q L k t K w 0 s b σs σ' τ := ⟨⟨hnm, ⟨z4.1, z4.2.1, z4.2.2.1, z4.2.2.2.1, by rw [z4.2.2.2.2.1, hx6], by rw [z4.2.2.2.2.2.1, hx7], z4.2.2.2.2.2.2⟩, by rw [z5, e15]⟩, hR, by omega, fun _ => hr.1, hr.2⟩
  obtain ⟨h1, h2⟩ := SX_add (p' := p') hs htw hp ht hb' aX hY hNT (fun h => absurd h (by omega)) (Or.inl ⟨by omega, by rw [z6, e15]⟩)
  refine item_end ⟨_, _, _, _, _, _, _, _, _, _, _, _, h1, h2, hpsi, hbX.trans (agr.sub aX (fun a i h => by unfold nIX at h; unfold nTX; omega)), hbY.trans (agr.sub hY (fun a i h => by unfold nIY at h; unfold nTh; omega))⟩ (hk.cong (fun i q1 q2 => z3 i (by omega)) z2 (fun _ _ _ => rfl) rfl) hp0
end
