set_option maxRecDepth 100000
set_option maxHeartbeats 400000
/-! ===== read: a block ===== -/
section
variable {k t : Nat} {kd wd pt : Nat → Nat} {Mt : Nat → Nat} {Mk Mw : Nat → Nat → Nat}
variable {c0 : Nat × Int} {σ0 τ0 : St} {T : Nat → Int} {n op : Nat} {a e : Int} {Lc : List (Nat × Bool)} {γ δ : Type}
theorem FT_blk {sm : Int → Int → St → Option (Unit × St)} : FTw c0 (fun _ : Unit => True) (F_X15_block sm a e) := by
  rw [F_X15_block]
  exact FT_bd (FT_must (by decide)) (fun z hz => FT_if (fun _ => FT_rt trivial) (fun w => absurd hz w))
theorem blk_LK (hop : op + 1 ≤ 20) {sc : Int → St → Option ((Unit ⊕ XV) × St)} {sm : Int → Int → St → Option (Unit × St)} (hst : ∀ G N nC nW nS p H σ τ, SX k t kd wd pt Mt Mk Mw c0 σ0 τ0 T n (op + 1) a e Lc G N nC nW nS p H σ τ → TK T n σ τ p → LK c0 σ0 τ0 (fun _ : Unit => True) (sc ((op + 1 : Nat) : Int)) (sm a e) σ τ (fun _ _ σ' τ' => SPost k t kd wd pt Mt Mk Mw c0 σ0 τ0 T n (op + 1) a e Lc G N nC nW nS p σ τ σ' τ')) (hft : FTw c0 (fun _ : Unit => True) (sm a e)) {B : δ → Prop} {f' : St → Option ((γ ⊕ XV) × St)} {g' : St → Option (δ × St)} {P : γ → δ → St → St → Prop} (ft : FTw c0 B g') {G : NG} {N nC nW nS p : Nat} {H : SG} {σ τ : St} (hb : BS c0 σ0 τ0 T n σ τ) (hx : EX0 (VE k t kd wd pt Mt Mk Mw) (RDk t kd wd pt Mt Mk Mw) (WDk t kd wd) G N 0 (op + 1) p σ τ) (hsr : SR t kd wd pt Mt Mk Mw G N nC nW nS (p + 1) H σ τ) (hcX : crX (σ.1 26) (σ.1 27) (σ.1 28) (σ.1 29) G N nW (σ.1 2 16) Lc) (hcT : crT (τ.1 2110) (τ.1 2111) (τ.1 2112) nS a e Lc) (hcL : Lc.length = op + 1) (hSL : SL t kd pt Mt σ) (hno : ∀ k, k < nS → ¬ (τ.1 2111 k = a ∧ τ.1 2112 k = e)) (hk : TK T n σ τ p) (go : ∀ G' N' nC' nW' nS' p' H' σ' τ', p < p' → BPost k t kd wd pt Mt Mk Mw c0 σ0 τ0 T n op a e G N nC nW nS σ τ G' N' nC' nW' nS' p' H' σ' τ' → LK c0 σ0 τ0 B f' g' σ' τ' P) : LK c0 σ0 τ0 B (bdE (F_X1_block sc ((op + 1 : Nat) : Int)) fun _ => f') (bd (F_X15_block sm a e) fun _ => bd (gI 2075 36) fun v => bd (pI 2075 36 (w32 (v - 1))) fun _ => g') σ τ P := by
  have hf := FU_ge
  have hn := hb.1.1
  rw [F_X1_block, F_X15_block]
  simp only [bdE_bd, bdE_bdE, bd_as, bd_ite, bd_rt']
  refine LK_c (clearR (by omega) (fun σ1 z1 z2 z3 z4 => ?_))
  have aX : agr nSX σ σ1 := fun x k' hk' => by
    refine ⟨?_, by rw [z2], by rw [z2]⟩
    rw [z1 x (by unfold nSX at hk'; omega)]
  have b1 : BS c0 σ0 τ0 T n σ1 τ := hb.frS aX agr.refl hb.2.2.1
  have x1 : EX0 (VE k t kd wd pt Mt Mk Mw) (RDk t kd wd pt Mt Mk Mw) (WDk t kd wd) G N 0 (op + 1) p σ1 τ := hx.cong (hx.1.stS aX agr.refl) (fun i _ => by rw [z1 5 (by decide)]) (by rw [z1 2 (by decide)]) (fun x h1 h2 => z1 x (by omega)) (fun _ _ _ => rfl) (fun _ _ _ => rfl) rfl
  have k1 : TK T n σ1 τ p := hk.cong (fun i _ _ => by rw [z1 2 (by decide)]) z2 (fun _ _ _ => rfl) rfl
  refine LK_want (a := 123) (b := 30) (by decide) (by decide) (by decide) b1 k1 (EX0.st VE.st) x1 (by rw [if_pos rfl]; exact FT_cl ft) (fun q q' σ2 τ2 hq hq' _ e1 e2 b2 x2 k2 => ?_)
  rw [if_neg (by decide), lt_eq]
  have fX := agr_nEX (agr_kX9 e1)
  have fY := agr_nEY (agr_kY6 e2)
  have rX : ∀ x, 19 ≤ x → x ≤ 29 → σ2.1 x = σ.1 x := fun x q1 q2 => (fX.row (fun k => by unfold nEX; omega)).trans (z1 x (by omega))
  have rY : ∀ x, 2107 ≤ x → x ≤ 2113 → τ2.1 x = τ.1 x := fun x q1 q2 => fY.row (fun k => by unfold nEY; omega)
  have e30 : σ2.1 30 = σ1.1 30 := fX.row (fun k => by unfold nEX; omega)
  have e31 : σ2.1 31 = σ.1 31 := (fX.row (fun k => by unfold nEX; omega)).trans (z1 31 (by decide))
  have e216 : σ2.1 2 16 = σ.1 2 16 := by rw [(fX 2 16 (by unfold nEX; omega)).1, z1 2 (by decide)]
  have e215 : σ2.1 2 15 = σ.1 2 15 := by rw [(fX 2 15 (by unfold nEX; omega)).1, z1 2 (by decide)]
  have hsr2 : SR t kd wd pt Mt Mk Mw G N nC nW nS q' H σ2 τ2 := by
    obtain ⟨⟨⟨h1, h2⟩, h3, h4⟩, ⟨h5, h6, hSO⟩, h7, h8, h9⟩ := hsr
    refine ⟨⟨⟨by rw [(fX 5 22 (by unfold nEX; omega)).1, z1 5 (by decide)]; exact h1, by rw [(fX 5 27 (by unfold nEX; omega)).1, z1 5 (by decide)]; exact h2⟩, by rw [(fY 2075 46 (by unfold nEY; omega)).1]; exact h3, by rw [(fY 2075 47 (by unfold nEY; omega)).1]; exact h4⟩, ⟨h5, by omega, hSO.mono (Nat.le_refl _) (fun _ _ => gAt.refl) (fun x c q1 q2 _ => by rw [rX x (by omega) (by omega)]) (fun x k q1 q2 _ => by rw [rX x (by omega) (by omega)]) (fun k _ => by rw [rY 2113 (by decide) (by decide)])⟩, fun c hc => (h7 c hc).mono (Nat.le_refl _) (Nat.le_refl _) (Nat.le_refl _) (fun _ _ => gAt.refl) rfl rfl (fun x q1 q2 => by rw [rX x q1 (by omega)]) (fun x k' q1 q2 _ => by rw [rX x (by omega) q2]) (fun x q1 q2 => by rw [rY x q1 (by omega)]), h8, fun k' hk' => ⟨(h9 k' hk').1.mono rfl (fun x k2 q1 q2 _ => by rw [rY x (by omega) (by omega)]) (by rw [rY 2111 (by decide) (by decide)]) (by rw [rY 2112 (by decide) (by decide)]), ?_⟩⟩
    rw [rY 2107 (by decide) (by decide)]
    exact (h9 k' hk').2
  refine blkloop hop hst hft ft (pb := p) (Gb := G) (σb := σ) (τb := τ) (fun G' N' nC' nW' nS' p' H' σ' τ' hp' hB => go G' N' nC' nW' nS' p' H' σ' τ' hp' hB) (n + 1) FU FU (by omega) (by omega) G N nC nW nS q' H σ2 τ2 (by omega) (by omega) ⟨⟨Nat.le_refl _, Nat.le_refl _, Nat.le_refl _, Nat.le_refl _, Nat.le_refl _⟩, fun _ _ => gAt.refl, ⟨aX.trans (agr_nSX fX), agr_nSY fY⟩, e216, fun x k' q1 q2 _ => by rw [rX x (by omega) q2], fun x k' q1 q2 _ => by rw [rY x q1 q2], fun k' h1 h2 => absurd h2 (by omega), fun j z hj hz => ?_⟩ ⟨b2, x2.le (by omega), hsr2, ⟨?_, ?_, hcL⟩, hSL.fr e215 e31, fun z hz => ?_⟩ (Or.inl k2)
  · rw [e30]; exact z4 _ (by omega)
  · rw [rX 26 (by decide) (by decide), rX 27 (by decide) (by decide), rX 28 (by decide) (by decide), rX 29 (by decide) (by decide), e216]; exact hcX
  · rw [rY 2110 (by decide) (by decide), rY 2111 (by decide) (by decide), rY 2112 (by decide) (by decide)]; exact hcT
  · rw [e30, z3 z hz]
    refine ⟨Or.inl rfl, fun h => absurd h (by decide), fun ⟨x, y, _, h⟩ => ?_⟩
    refine absurd h (AL_none (fun k' hk' => ?_))
    show ¬ (τ2.1 2111 k' = a ∧ τ2.1 2112 k' = e)
    rw [rY 2111 (by decide) (by decide), rY 2112 (by decide) (by decide)]
    exact hno k' hk'
end
