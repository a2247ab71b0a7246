set_option maxRecDepth 100000
set_option maxHeartbeats 400000
/-! ===== read: named things ===== -/
section
variable {α β γ : Type}
theorem bdE_bd {m : St → Option (α × St)} {f : α → St → Option ((β ⊕ XV) × St)} {g : β → St → Option ((γ ⊕ XV) × St)} : bdE (bd m f) g = bd m (fun v => bdE (f v) g) := by
  funext σ
  unfold bdE bd
  cases m σ <;> rfl
theorem bdE_ite {c : Prop} {hd : Decidable c} {a b : St → Option ((β ⊕ XV) × St)} {g : β → St → Option ((γ ⊕ XV) × St)} : bdE (if c then a else b) g = if c then bdE a g else bdE b g := by
  by_cases e : c
  · rw [if_pos e, if_pos e]
  · rw [if_neg e, if_neg e]
theorem bdE_le {x : β} {g : β → St → Option ((γ ⊕ XV) × St)} : bdE (lE (rt x)) g = g x := rfl
theorem bdE_thw {x : XV} {g : β → St → Option ((γ ⊕ XV) × St)} : bdE (thw x) g = thw x := rfl
end
/-- the twin behind a reference of an expression -/
noncomputable def tailR (re : St → Option (Int × St)) (rr : Int → St → Option (Unit × St)) : Unit → St → Option (Int × St) := fun _ => bd (gI 2075 28) fun v5 => if v5 ≤ 0 then (bd (gI 2075 55) fun v6 => bd (gI 2075 56) fun v8 => bd (F_X15_widthOf v6 v8) fun v9 => bd (gI 2075 56) fun v11 => if v11 < 0 then (bd (gI 2075 57) fun v12 => if v12 < 0 then (X15_primary_312 re rr v6 v9 61) else X15_primary_312 re rr v6 v9 63) else X15_primary_312 re rr v6 v9 62) else rt 0
section
variable {k t : Nat} {kd wd pt : Nat → Nat} {Mt : Nat → Nat} {Mk Mw : Nat → Nat → Nat}
variable {RD : Nat → Int → Nat → Prop} {WD : Nat → Nat → Prop} {c0 : Nat × Int} {σ0 τ0 : St} {T : Nat → Int} {n op : Nat} {γ δ : Type}
theorem FT_tailR {re : St → Option (Int × St)} {rr : Int → St → Option (Unit × St)} {u : Unit} : FTw c0 BQ (tailR re rr u) := by
  unfold tailR
  exact FT_gF (fun v hv => FT_if (c := v ≤ 0) (fun e => absurd e (by omega)) (fun _ => FT_rt ⟨by decide, by decide⟩))
theorem tail_step {σ τ : St} {i : Nat} {b c57 : Int} {w : Nat} {kk B : Int} {re : St → Option (Int × St)} {rr : Int → St → Option (Unit × St)} {f : St → Option ((γ ⊕ XV) × St)} {P : γ → Int → St → St → Prop} (h28 : τ.1 2075 28 = 0) (hr : τ.1 2075 55 = (i : Int) ∧ τ.1 2075 56 = b ∧ τ.1 2075 57 = c57) (hw : ∀ Q : Int → St → Prop, wp (F_X15_widthOf (i : Int) b) τ Q = Q (w : Int) τ) (hk : 0 ≤ b ∧ kk = 62 ∧ B = b ∨ b < 0 ∧ c57 < 0 ∧ kk = 61 ∧ B = c57 ∨ b < 0 ∧ 0 ≤ c57 ∧ kk = 63 ∧ B = c57) (h : LK c0 σ0 τ0 BQ f (bd (F_X15_node kk (i : Int) B 0 (w : Int) 0 1) fun v => rt v) σ τ P) : LK c0 σ0 τ0 BQ f (tailR re rr ()) σ τ P := by
  obtain ⟨r1, r2, r3⟩ := hr
  unfold tailR
  refine LK_t ?_
  rw [gI28 (σ := σ) h28, if_pos (by decide)]
  refine LK_t ?_
  rw [wp_gI, r1]
  refine LK_t ?_
  rw [wp_gI, r2]
  refine LK_t ?_
  rw [hw]
  refine LK_t ?_
  rw [wp_gI, r2]
  rcases hk with ⟨h1, rfl, rfl⟩ | ⟨h1, h2, rfl, rfl⟩ | ⟨h1, h2, rfl, rfl⟩
  · rw [if_neg (by omega), X15_primary_312]
    refine LK_t ?_
    rw [wp_gI, r2, if_neg (by omega)]
    refine LK_t ?_
    rw [wp_gI, r2, X15_primary_331]
    exact h
  · rw [if_pos h1]
    refine LK_t ?_
    rw [wp_gI, r3, if_pos h2, X15_primary_312]
    refine LK_t ?_
    rw [wp_gI, r2, if_pos h1]
    refine LK_t ?_
    rw [wp_gI, r3, X15_primary_331]
    exact h
  · rw [if_pos h1]
    refine LK_t ?_
    rw [wp_gI, r3, if_neg (by omega), X15_primary_312]
    refine LK_t ?_
    rw [wp_gI, r2, if_pos h1]
    refine LK_t ?_
    rw [wp_gI, r3, X15_primary_331]
    exact h
theorem wd15_n {σ τ : St} {i : Nat} (hv : VE k t kd wd pt Mt Mk Mw σ τ) (hi : i < t) (hk : kd i ≠ 5) {Q : Int → St → Prop} : wp (F_X15_widthOf (i : Int) (-1)) τ Q = Q (wd i : Int) τ := by
  obtain ⟨v1, ⟨v2, v3⟩, v4, v5, v6⟩ := hv
  have ht40 := v4.1.2.2
  have e1 := (v5 i hi).1
  have e2 : σ.1 10 i = τ.1 2083 (40 * (48 + k) + i) ∧ 1 ≤ σ.1 10 i ∧ σ.1 10 i ≤ 32 := (v4.2 i hi).2.2 (by show σ.1 9 i ≠ 5; rw [e1.1]; omega)
  rw [F_X15_widthOf, wp_ifp (by decide), wp_bd, thing15 v3 (by omega) (by omega), wp_bd, RI_2083 (by omega) (by omega), tn, wp_rt, ← e2.1, e1.2 hk]
theorem wdr {σ τ : St} {i : Nat} (hv : VE k t kd wd pt Mt Mk Mw σ τ) (hi : i < t) (hk : kd i ≠ 5) : σ.1 10 i = (wd i : Int) ∧ 1 ≤ wd i ∧ wd i ≤ 32 := by
  obtain ⟨v1, ⟨v2, v3⟩, v4, v5, v6⟩ := hv
  have e1 := (v5 i hi).1
  have e2 : σ.1 10 i = τ.1 2083 (40 * (48 + k) + i) ∧ 1 ≤ σ.1 10 i ∧ σ.1 10 i ≤ 32 := (v4.2 i hi).2.2 (by show σ.1 9 i ≠ 5; rw [e1.1]; omega)
  have := e1.2 hk
  exact ⟨this, by omega, by omega⟩
theorem wd15_p {σ τ : St} {i m : Nat} (hv : VE k t kd wd pt Mt Mk Mw σ τ) (hi : i < t) (hk : kd i = 5) (hm : m < Mt (pt i)) (hmk : Mk (pt i) m ≠ 5) : (pt i < k ∧ σ.1 13 i = (pt i : Int) ∧ σ.2.2 1 (pt i) = some (110 + 25 * pt i) ∧ m < 40 ∧ σ.1 (110 + 25 * pt i + 5) m = (Mw (pt i) m : Int)) ∧ (1 ≤ Mw (pt i) m ∧ Mw (pt i) m ≤ 32) ∧ ∀ Q : Int → St → Prop, wp (F_X15_widthOf (i : Int) (m : Int)) τ Q = Q (Mw (pt i) m : Int) τ := by
  obtain ⟨v1, ⟨v2, v3⟩, v4, v5, v6⟩ := hv
  have ht40 := v4.1.2.2
  obtain ⟨p1, p2, p3⟩ := (v5 i hi).2 hk
  obtain ⟨m1, m2, m3⟩ := v6 (pt i) p1
  obtain ⟨n1, n2⟩ := m3 m hm
  have n3 := n2 hmk
  have mt40 := m2.1.2.2
  have e2 := (m2.2 m hm).2.2 (by rw [n1]; omega)
  refine ⟨⟨p1, p2, m1, by omega, n3⟩, by omega, fun Q => ?_⟩
  rw [F_X15_widthOf, wp_ifn (by omega), wp_bd, thing15 v3 (by omega) (by omega), wp_bd, RI_2086 (by omega) (by omega), tn, p3, wp_bd, w32_i (x := 48 + (pt i : Int)) (by omega) (by omega), w32_i (x := 40 * (48 + (pt i : Int))) (by omega) (by omega), w32_i (by omega) (by omega), RI_2083 (by omega) (by omega), show (40 * (48 + (pt i : Int)) + (m : Int)).toNat = 40 * (48 + pt i) + m by omega, wp_rt, ← e2.1, n3]
theorem ref_W {G : NG} {N w i : Nat} {b : Int} (h : RD i b w) (h1 : 1 ≤ w ∧ w ≤ 32) : nodW RD WD (gUp G N 1 N w (i : Int) b (-1)) N := by
  obtain ⟨⟨u1, u2, u3⟩, u4, u5, u6⟩ := gUp_at (G := G) (N := N) (op := 1) (f := N) (w := w) (a := (i : Int)) (b := b) (c := -1)
  unfold nodW
  rw [u1, u2, u3, u4, u5, u6]
  exact ⟨⟨by omega, h1.1, h1.2, by omega⟩, fun e => absurd e (by omega), fun _ => ⟨rfl, i, rfl, h⟩, fun e => absurd e (by omega), fun e => absurd e (by omega), fun e => absurd e (by omega), fun e => absurd e (by omega)⟩
theorem arr_W {G : NG} {M N w i : Nat} (h : WD i w) (h1 : 1 ≤ w ∧ w ≤ 32) (hM : N < M) (hF : gF G (M - 1) = N) : nodW RD WD (gUp G M 2 N w (i : Int) ((M - 1 : Nat) : Int) (-1)) M := by
  obtain ⟨⟨u1, u2, u3⟩, u4, u5, u6⟩ := gUp_at (G := G) (N := M) (op := 2) (f := N) (w := w) (a := (i : Int)) (b := ((M - 1 : Nat) : Int)) (c := -1)
  obtain ⟨⟨v1, v2, v3⟩, -⟩ := gAt.up (G := G) (N := M) (op := 2) (f := N) (w := w) (i := M - 1) (a := (i : Int)) (b := ((M - 1 : Nat) : Int)) (c := -1) (by omega)
  unfold nodW
  rw [u1, u2, u3, u4, u5, u6, v2, v3, hF]
  exact ⟨⟨by omega, h1.1, h1.2, by omega⟩, fun e => absurd e (by omega), fun e => absurd e (by omega), fun _ => ⟨⟨i, rfl, h⟩, by omega, rfl, rfl⟩, fun e => absurd e (by omega), fun e => absurd e (by omega), fun e => absurd e (by omega)⟩
theorem named_LK {ec : St → Option ((Int ⊕ XV) × St)} {re : St → Option (Int × St)} {rr : Int → St → Option (Unit × St)} (hc0 : c0.2 = 12) (hop : op ≤ 20) (hexp : op < 20 → XS (VE k t kd wd pt Mt Mk Mw) (RDk t kd wd pt Mt Mk Mw) (WDk t kd wd) c0 σ0 τ0 T n (op + 1) ec re) {σ τ : St} {p s q N j : Nat} {G : NG} (hb : BS c0 σ0 τ0 T n σ τ) (hx : EX0 (VE k t kd wd pt Mt Mk Mw) (RDk t kd wd pt Mt Mk Mw) (WDk t kd wd) G N j op p σ τ) (hk : TKp T n σ τ q) (hq : p + s ≤ q) (hK : tkK T n q = 1) : LK c0 σ0 τ0 BQ (F_X1_named ec) (bd (F_X15_reference re 0) (tailR re rr)) σ τ (PE (VE k t kd wd pt Mt Mk Mw) (RDk t kd wd pt Mt Mk Mw) (WDk t kd wd) c0 σ0 τ0 T n σ τ p s G N j op) := by
  have hv0 := hx.1
  have ht40 := hv0.2.2.1.1.2.2
  have hk12 := hv0.1
  obtain ⟨r, hr, -, f1, f2⟩ := told_both hb hv0 hk hK
  rw [F_X1_named, ref_eq]
  simp only [bd_as, bd_ite, bd_rt]
  refine LK_c ?_
  rw [wp_gI, hk.k6, LK_lc, F_X1_told, bdE_bd]
  refine LK_c ?_
  rw [wp_gI, hk.k6, bdE_bd]
  refine LK_c ?_
  rw [wp_gI, hk.k7, bdE_bd]
  refine LK_c (f1 _ ?_)
  refine LK_t ?_
  rw [wp_gI, hk.t33]
  refine LK_t ?_
  rw [wp_gI, hv0.2.1.2]
  refine LK_t (f2 _ ?_)
  rcases hr with rfl | ⟨i, rfl, hi⟩
  · simp only [lt]
    rw [if_neg (by decide), if_neg (by decide), bdE_bd]
    refine LK_c ?_
    rw [wp_gI, hk.k6, bdE_thw]
    exact LK_flt (n' := 4) (by decide) hb rfl FT_tailR
  simp only [lt]
  rw [if_pos (by omega), if_pos (by omega), bdE_le]
  have e9 := (hv0.2.2.2.1 i hi).1.1
  refine LK_c ?_
  rw [RI_9 (by omega) (by omega), tn, e9]
  refine LK_pass hb hk (by rw [hK]; decide) (EX0.st VE.st) hx (fun q2 σ2 τ2 hq2 _ w1 w2 b2 x2 k2 _ => ?_)
  have w1' := agr_nEX (agr_kX9 w1)
  have w2' := agr_nEY (agr_kY6 w2)
  refine refcore (B' := BQ) (tgt := 0) (t0 := 1) (s := q2 - p) (p := p) (i := i) (q := q) (re := re) (h := tailR re rr) hc0 (Or.inl ⟨rfl, rfl⟩) hop hexp hi b2 x2 (by rw [show p + (q2 - p) = q2 by omega]; exact Or.inl k2) FT_tailR ?_ ?_ ?_ ?_
  · intro m q' σ' τ' h1 h2 h3 h4 z1 z2 b3 x3 k3 hr3
    obtain ⟨⟨y1, y2, y3, y4, y5⟩, y6, y7⟩ := wd15_p x3.1 hi h2 h3 (by omega)
    have hMd : isMd (110 + 25 * pt i) := isMd_k (by omega)
    refine LK_c ?_
    rw [RI_13 (by omega) (by omega), tn, y2]
    refine LK_c ?_
    rw [RI_1 (by omega) (by omega), tn, y3]
    have hnn : nn (some (110 + 25 * pt i)) (fun o22 => ck o22 2 <| bd (rdI (o22 + 5) (m : Int)) fun v25 => bd (F_X1_node 1 (i : Int) (m : Int) ((-1)) v25) fun v26 => lE (rt v26)) = ck (110 + 25 * pt i) 2 (bd (rdI (110 + 25 * pt i + 5) (m : Int)) fun v25 => bd (F_X1_node 1 (i : Int) (m : Int) ((-1)) v25) fun v26 => lE (rt v26)) := rfl
    rw [hnn]
    unfold LK
    rw [wpE_ck, and_t (ly_Md hMd)]
    show LK c0 σ0 τ0 BQ _ _ σ' τ' _
    refine LK_c ?_
    rw [MI_5 hMd (by omega) (by omega), tn, y5]
    refine tail_step b3.2.2.1 hr3 y7 (Or.inl ⟨by omega, rfl, rfl⟩) ?_
    refine LK_node (opn := 1) (f := N) (p' := q' - s) (pt := q') VE.st b3 x3 (by omega) (by omega) k3 (by unfold ndR; rw [if_neg (by decide), if_pos rfl]; exact ⟨Or.inr ⟨by omega, rfl, rfl⟩, rfl⟩) (ref_W ⟨hi, Or.inr ⟨m, rfl, h2, h3, h4, rfl⟩⟩ y6) (fun σ5 τ5 v1 v2 b5 k5 x5 => ?_)
    exact LK_rt ⟨q' - s, _, N + 1, ⟨by omega, by omega⟩, by rw [show N + 1 - 1 = N by omega], by rw [show N + 1 - 1 = N by omega], (w1'.trans z1).trans v1, (w2'.trans z2).trans v2, b5, x5, by rw [show q' - s + s = q' by omega]; exact k5, fun i hi => gAt.up hi, by rw [show N + 1 - 1 = N by omega]; exact gUp_at.1.2.1⟩
  · intro p' G' N' σ' τ' h1 h2 h3 z1 z2 b3 x3 k3 hG hF hr3
    have y1 := wdr x3.1 hi (by omega)
    refine LK_c ?_
    rw [RI_10 (by omega) (by omega), tn, y1.1]
    refine tail_step (w := wd i) b3.2.2.1 hr3 (fun Q => wd15_n x3.1 hi (by omega)) (Or.inr (Or.inr ⟨by omega, by omega, rfl, rfl⟩)) ?_
    refine LK_node (opn := 2) (f := N) (p' := p' + (q2 - p) + 1 - s) (pt := p' + (q2 - p) + 1) VE.st b3 x3 (by omega) (by omega) k3 (by unfold ndR; rw [if_neg (by decide), if_neg (by decide), if_pos rfl]; exact ⟨rfl, rfl, rfl⟩) (arr_W ⟨hi, h3, rfl⟩ y1.2 h2 hF) (fun σ5 τ5 v1 v2 b5 k5 x5 => ?_)
    exact LK_rt ⟨p' + (q2 - p) + 1 - s, _, N' + 1, ⟨by omega, by omega⟩, by rw [show N' + 1 - 1 = N' by omega], by rw [show N' + 1 - 1 = N' by omega], (w1'.trans z1).trans v1, (w2'.trans z2).trans v2, b5, x5, by rw [show p' + (q2 - p) + 1 - s + s = p' + (q2 - p) + 1 by omega]; exact k5, fun i hi => (hG i hi).trans (gAt.up (by omega)), by rw [show N' + 1 - 1 = N' by omega]; exact gUp_at.1.2.1⟩
  · intro q' σ' τ' h1 h2 _ z1 z2 b3 x3 k3 hr3
    have y1 := wdr x3.1 hi (by omega)
    rw [if_neg (by omega), if_neg (by omega)]
    refine LK_c ?_
    rw [RI_10 (by omega) (by omega), tn, y1.1]
    refine tail_step (w := wd i) b3.2.2.1 hr3 (fun Q => wd15_n x3.1 hi (by omega)) (Or.inr (Or.inl ⟨by omega, by omega, rfl, rfl⟩)) ?_
    refine LK_node (opn := 1) (f := N) (p' := q' - s) (pt := q') VE.st b3 x3 (by omega) (by omega) (Or.inr k3) (by unfold ndR; rw [if_neg (by decide), if_pos rfl]; exact ⟨Or.inl ⟨rfl, rfl⟩, rfl⟩) (ref_W ⟨hi, Or.inl ⟨rfl, h2, rfl⟩⟩ y1.2) (fun σ5 τ5 v1 v2 b5 k5 x5 => ?_)
    exact LK_rt ⟨q' - s, _, N + 1, ⟨by omega, by omega⟩, by rw [show N + 1 - 1 = N by omega], by rw [show N + 1 - 1 = N by omega], (w1'.trans z1).trans v1, (w2'.trans z2).trans v2, b5, x5, by rw [show q' - s + s = q' by omega]; exact k5, fun i hi => gAt.up hi, by rw [show N + 1 - 1 = N by omega]; exact gUp_at.1.2.1⟩
  · rintro (h4 | ⟨h, -⟩)
    · by_cases c4 : kd i = 4
      · rw [if_pos (by omega), X1_named_157]
      · have hkd5 : kd i ≤ 5 := by
          have h9 : 0 ≤ σ.1 9 i ∧ σ.1 9 i ≤ 5 := (hv0.2.2.1.2 i hi).2.1.2
          omega
        rw [if_neg (by omega), if_pos (by omega), X1_named_157]
    · exact absurd h (by decide)
end
