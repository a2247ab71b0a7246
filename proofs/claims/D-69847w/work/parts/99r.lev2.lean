set_option maxRecDepth 100000
set_option maxHeartbeats 400000
/-! ===== read: each level ===== -/
theorem lv_0 : ∀ K, K ∈ KS → (lvO (km K) = 0 ↔ K = 124) := by decide
theorem lv_1 : ∀ K, K ∈ KS → (lvO (km K) = 1 ↔ K = 94) := by decide
theorem lv_2 : ∀ K, K ∈ KS → (lvO (km K) = 2 ↔ K = 38) := by decide
theorem lv_3 : ∀ K, K ∈ KS → (lvO (km K) = 3 ↔ K = 16 ∨ K = 17 ∨ K = 60) := by decide
theorem lv_4 : ∀ K, K ∈ KS → (lvO (km K) = 4 ↔ K = 43 ∨ K = 45) := by decide
theorem lv_5 : ∀ K, K ∈ KS → (lvO (km K) = 5 ↔ K = 42) := by decide
theorem lv_6 : ∀ K, K ∈ KS → (lvO (km K) = 6 ↔ K = 18 ∨ K = 19) := by decide
section
variable {V : St → St → Prop} {RD : Nat → Int → Nat → Prop} {WD : Nat → Nat → Prop} {c0 : Nat × Int} {σ0 τ0 : St} {T : Nat → Int} {n op : Nat} {rl : Int → St → Option (Int × St)} {ru : St → Option (Int × St)} {nx : St → Option ((Int ⊕ XV) × St)}
theorem xs_or (hV : StE V) (hnx : XS V RD WD c0 σ0 τ0 T n op nx (rl 1)) : XS V RD WD c0 σ0 τ0 T n op (F_X1_or nx) (F_X15_level rl ru 0) := by
  refine binlev (l := 0) (Lc := X1_or_5 nx) (Ch := fun f x v1 => if v1 = 124 then (bd (F_X1_sign) fun v2 => lt v2 fun x2_3 => bdE nx fun v4 => bdE (F_X1_both 10 x v4 x2_3 0) fun v5 => lt v5 fun x1_6 => (X1_or_5 nx f) x1_6) else lE (rt x)) hV (by decide) (by decide) hnx (fun f x => rfl) (fun f x K σ τ g P hK hl h5 h => ?_) (fun f x K σ τ g P hK hl h5 h => ?_)
  · obtain rfl := (lv_0 K hK).mp hl
    rw [if_pos rfl]
    rw [show ((ocK 124 : Nat) : Int) = 10 from rfl] at h
    exact h
  · rw [if_neg (fun e => hl ((lv_0 K hK).mpr e))]; exact h
theorem xs_xor (hV : StE V) (hnx : XS V RD WD c0 σ0 τ0 T n op nx (rl 2)) : XS V RD WD c0 σ0 τ0 T n op (F_X1_xor nx) (F_X15_level rl ru 1) := by
  refine binlev (l := 1) (Lc := X1_xor_5 nx) (Ch := fun f x v1 => if v1 = 94 then (bd (F_X1_sign) fun v2 => lt v2 fun x2_3 => bdE nx fun v4 => bdE (F_X1_both 11 x v4 x2_3 0) fun v5 => lt v5 fun x1_6 => (X1_xor_5 nx f) x1_6) else lE (rt x)) hV (by decide) (by decide) hnx (fun f x => rfl) (fun f x K σ τ g P hK hl h5 h => ?_) (fun f x K σ τ g P hK hl h5 h => ?_)
  · obtain rfl := (lv_1 K hK).mp hl
    rw [if_pos rfl]
    rw [show ((ocK 94 : Nat) : Int) = 11 from rfl] at h
    exact h
  · rw [if_neg (fun e => hl ((lv_1 K hK).mpr e))]; exact h
theorem xs_and (hV : StE V) (hnx : XS V RD WD c0 σ0 τ0 T n op nx (rl 3)) : XS V RD WD c0 σ0 τ0 T n op (F_X1_and nx) (F_X15_level rl ru 2) := by
  refine binlev (l := 2) (Lc := X1_and_5 nx) (Ch := fun f x v1 => if v1 = 38 then (bd (F_X1_sign) fun v2 => lt v2 fun x2_3 => bdE nx fun v4 => bdE (F_X1_both 12 x v4 x2_3 0) fun v5 => lt v5 fun x1_6 => (X1_and_5 nx f) x1_6) else lE (rt x)) hV (by decide) (by decide) hnx (fun f x => rfl) (fun f x K σ τ g P hK hl h5 h => ?_) (fun f x K σ τ g P hK hl h5 h => ?_)
  · obtain rfl := (lv_2 K hK).mp hl
    rw [if_pos rfl]
    rw [show ((ocK 38 : Nat) : Int) = 12 from rfl] at h
    exact h
  · rw [if_neg (fun e => hl ((lv_2 K hK).mpr e))]; exact h
theorem xs_mul (hV : StE V) (hnx : XS V RD WD c0 σ0 τ0 T n op nx (rl 6)) : XS V RD WD c0 σ0 τ0 T n op (F_X1_product nx) (F_X15_level rl ru 5) := by
  refine binlev (l := 5) (Lc := X1_product_5 nx) (Ch := fun f x v1 => if v1 = 42 then (bd (F_X1_sign) fun v2 => lt v2 fun x2_3 => bdE nx fun v4 => bdE (F_X1_both 18 x v4 x2_3 0) fun v5 => lt v5 fun x1_6 => (X1_product_5 nx f) x1_6) else lE (rt x)) hV (by decide) (by decide) hnx (fun f x => rfl) (fun f x K σ τ g P hK hl h5 h => ?_) (fun f x K σ τ g P hK hl h5 h => ?_)
  · obtain rfl := (lv_5 K hK).mp hl
    rw [if_pos rfl]
    rw [show ((ocK 42 : Nat) : Int) = 18 from rfl] at h
    exact h
  · rw [if_neg (fun e => hl ((lv_5 K hK).mpr e))]; exact h
theorem xs_sum (hV : StE V) (hnx : XS V RD WD c0 σ0 τ0 T n op nx (rl 5)) : XS V RD WD c0 σ0 τ0 T n op (F_X1_sum nx) (F_X15_level rl ru 4) := by
  refine binlev (l := 4) (Lc := X1_sum_5 nx) (Ch := fun f x v1 => if v1 = 43 then (X1_sum_23 nx (X1_sum_5 nx f) x) else bd (gI 2 5) fun v2 => if v2 = 45 then (X1_sum_23 nx (X1_sum_5 nx f) x) else lE (rt x)) hV (by decide) (by decide) hnx (fun f x => rfl) (fun f x K σ τ g P hK hl h5 h => ?_) (fun f x K σ τ g P hK hl h5 h => ?_)
  · have k23 : LK c0 σ0 τ0 BQ (X1_sum_23 nx (X1_sum_5 nx f) x) g σ τ P := by
      rw [X1_sum_23]
      refine LK_c ?_
      rw [wp_gI, h5]
      rcases (lv_4 K hK).mp hl with rfl | rfl
      · rw [if_pos rfl, X1_sum_39, LK_lc]
        rw [show ((ocK 43 : Nat) : Int) = 16 from rfl] at h
        exact h
      · rw [if_neg (by decide), X1_sum_39, LK_lc]
        rw [show ((ocK 45 : Nat) : Int) = 17 from rfl] at h
        exact h
    rcases (lv_4 K hK).mp hl with e | e
    · rw [if_pos e]; exact k23
    · rw [if_neg (by omega)]
      refine LK_c ?_
      rw [wp_gI, h5, if_pos e]; exact k23
  · have hne : ¬ (K = 43 ∨ K = 45) := fun e => hl ((lv_4 K hK).mpr e)
    rw [if_neg (by omega)]
    refine LK_c ?_
    rw [wp_gI, h5, if_neg (by omega)]; exact h
theorem xs_same (hV : StE V) (hnx : XS V RD WD c0 σ0 τ0 T n op nx (rl 4)) : XS V RD WD c0 σ0 τ0 T n op (F_X1_same nx) (F_X15_level rl ru 3) := by
  have hf := FU_ge
  obtain ⟨f1, hf1⟩ : ∃ f, FU = f + 1 + 1 := ⟨FU - 2, by omega⟩
  have e : w32 ((3 : Int) + 1) = 4 := by rw [w32_i (by decide) (by decide)]; rfl
  have ft : ∀ q, BQ q → FTw c0 BQ (X15_level_21 rl ru FU 3 q 1) := fun q hq => FT_lv FU (by omega) hq
  refine ⟨fun σ τ p s G N j hb hx hk => ?_, ?_⟩
  · rw [F_X15_level, if_neg (by decide), e, F_X1_same]
    refine LK_bd (LK_mono (hnx.1 σ τ p s G N j hb hx hk) ?_) (fun y hy => ft y hy)
    rintro r y σ3 τ3 ⟨p3, G3, M, ⟨hp3, hM⟩, rfl, rfl, f3, f4, b3, x3, k3, hG3, hF3⟩
    have hpn := k3.le
    have hp4 := b3.1.1
    have hMp := x3.2.1.2
    have bq : BQ ((M - 1 : Nat) : Int) := ⟨by omega, by omega⟩
    rw [LK_lc, LK_lt, LK_lt, hf1, X15_level_21, if_neg (by decide)]
    refine LK_t ?_
    rw [gI28 (σ := σ) b3.2.2.1, if_pos rfl]
    refine LK_look b3 k3 (EX0.st hV) x3 (fun υ hυ h37 => ?_) (fun q σ' τ' hq e1 e2 b1 x1 k1 hin => ?_)
    · rw [wp_bd, lvX, if_neg (by decide)]
      exact FT_rt bq υ hυ h37
    rw [LK_lc]
    refine LK_t ?_
    rw [lvX]
    by_cases c : lvO (km (tkK T n q)) = 3
    · have h0 : tkK T n q ≠ 0 := (oc_r _ hin (by omega)).2.2.2
      have c16 := (lv_3 _ hin).mp c
      rw [if_pos c]
      have key : LK c0 σ0 τ0 BQ (bd F_X1_sign fun v1 => lt v1 fun x3_2 => X1_same_60 nx ((M - 1 : Nat) : Int) x3_2 (ocK (tkK T n q) : Int)) (bd (gI 2075 32) fun v4 => lt v4 fun x4_5 => bd (gI 2075 33) fun v6 => lt v6 fun x5_7 => bd (F_X15_take) fun _ => bd (rl (w32 (3 + 1))) fun v8 => lt v8 fun x6_9 => bd (gI 2075 28) fun v10 => if v10 = 0 then (if 6 ≤ (3 : Int) then (X15_level_105 rl ru (X15_level_21 rl ru (f1 + 1)) 3 ((M - 1 : Nat) : Int) x4_5 x6_9) else bd (rdI 2105 ((M - 1 : Nat) : Int)) fun v11 => bd (rdI 2105 x6_9) fun v12 => if v11 = v12 then (X15_level_105 rl ru (X15_level_21 rl ru (f1 + 1)) 3 ((M - 1 : Nat) : Int) x4_5 x6_9) else bd (F_X15_fail 7 x5_7) fun _ => X15_level_105 rl ru (X15_level_21 rl ru (f1 + 1)) 3 ((M - 1 : Nat) : Int) x4_5 x6_9) else X15_level_105 rl ru (X15_level_21 rl ru (f1 + 1)) 3 ((M - 1 : Nat) : Int) x4_5 x6_9) σ' τ' (PE V RD WD c0 σ0 τ0 T n σ τ p s G N j op) := by
        refine LK_t ?_
        rw [wp_gI, k1.t32, LK_lt]
        refine LK_t ?_
        rw [wp_gI, k1.t33, LK_lt]
        refine LK_sign b1 k1 h0 (EX0.st hV) x1 (fun q2 σ2 τ2 hq2 hqe w1 w2 b2 x2 k2 => ?_)
        rw [LK_lc, e, X1_same_60]
        have ft21 : ∀ x3, FTw c0 BQ (X15_level_21 rl ru (f1 + 1) 3 0 x3) := fun x3 => FT_lv (f1 + 1) (by omega) ⟨by decide, by decide⟩
        have k2' : TK T n σ2 τ2 ((q2 - s - 1) + (s + 1)) := by rw [show (q2 - s - 1) + (s + 1) = q2 by omega]; exact Or.inl k2
        refine LK_bd (LK_mono (hnx.1 σ2 τ2 (q2 - s - 1) (s + 1) G3 M j b2 (x2.le (by omega)) k2') ?_) (fun y hy => ?_)
        · rintro r y σ4 τ4 ⟨p4, G4, M4, ⟨hp4, hM4⟩, rfl, rfl, f5, f6, b4, x4, k4, hG4, hF4⟩
          rw [LK_lt]
          have k4l := k4.le
          have hF3' : gF G4 (M - 1) = N := by rw [(hG4 (M - 1) (by omega)).1.2.1]; exact hF3
          refine LK_both (l := 3) (N := M) (N0 := N) (Or.inl ⟨rfl, rfl, rfl⟩) hV (by decide) hin c b4 x4 (by omega) k4 hM hM4 hF3' hF4 ft21 (fun w σ5 τ5 u1 u2 b5 k5 x5 => ?_)
          rw [X15_level_21, if_pos rfl]
          refine LK_rt ⟨p4 + 1, _, M4 + 1, ⟨by omega, by omega⟩, by rw [show M4 + 1 - 1 = M4 by omega], by rw [show M4 + 1 - 1 = M4 by omega], ((((f3.trans (agr_nEX (agr_kX9 e1))).trans (agr_nEX (agr_kX9 w1))).trans f5).trans u1), ((((f4.trans (agr_nEY (agr_kY6 e2))).trans (agr_nEY (agr_kY6 w2))).trans f6).trans u2), b5, x5, by rw [show p4 + 1 + s = p4 + (s + 1) by omega]; exact k5, fun i hi => (hG3 i hi).trans ((hG4 i (by omega)).trans (gAt.up (by omega))), by rw [show M4 + 1 - 1 = M4 by omega]; exact gUp_at.1.2.1⟩
        · have h105 := FT_lv105 (rl := rl) (ru := ru) (l := 3) (k := km (tkK T n q)) (y := y) bq ft21
          exact FT_gF (fun v hv => FT_if (c := v = 0) (fun e => absurd e (by omega)) (fun _ => h105))
      have k30 : X1_same_30 nx ((M - 1 : Nat) : Int) (tkK T n q) = bd F_X1_sign fun v1 => lt v1 fun x3_2 => X1_same_60 nx ((M - 1 : Nat) : Int) x3_2 (ocK (tkK T n q) : Int) := by
        rw [X1_same_30]
        congr 1
        funext v1
        rcases c16 with w | w | w <;> rw [w] <;> rfl
      rw [← k30] at key
      rcases c16 with w | w | w
      · rw [if_pos w]; exact key
      · rw [if_neg (by omega), if_pos w]; exact key
      · rw [if_neg (by omega), if_neg (by omega), if_pos w]; exact key
    · have c16 : ¬ (tkK T n q = 16 ∨ tkK T n q = 17 ∨ tkK T n q = 60) := fun w => c ((lv_3 _ hin).mpr w)
      rw [if_neg c, if_neg (by omega), if_neg (by omega), if_neg (by omega)]
      exact LK_rt ⟨q - s, G3, M, ⟨by omega, hM⟩, rfl, rfl, f3.trans (agr_nEX (agr_kX9 e1)), f4.trans (agr_nEY (agr_kY6 e2)), b1, x1.le (by omega), by rw [show q - s + s = q by omega]; exact Or.inr k1, hG3, hF3⟩
  · rw [F_X15_level, if_neg (by decide), e]
    exact FT_bd hnx.2 (fun q hq => ft q hq)
theorem shloop (hV : StE V) (hnx : XS V RD WD c0 σ0 τ0 T n op nx (rl 7)) {σb τb : St} {pb N0 j s : Nat} {Gb : NG} : ∀ m f1 f2, m < f1 → m < f2 → ∀ σ τ p G N, n - p < m → BS c0 σ0 τ0 T n σ τ → EX0 V RD WD G N j op p σ τ → TK T n σ τ (p + s) → agr nEX σb σ → agr nEY τb τ → pb < p → N0 < N → (∀ i, i < N0 → gAt Gb G i) → gF G (N - 1) = N0 → LK c0 σ0 τ0 BQ (X1_shift_5 nx f1 ((N - 1 : Nat) : Int)) (X15_level_21 rl ru f2 6 ((N - 1 : Nat) : Int) 1) σ τ (PE V RD WD c0 σ0 τ0 T n σb τb pb s Gb N0 j op) := by
  intro m
  induction m with
  | zero => intro f1 f2 h1 h2 σ τ p G N hm; omega
  | succ m ih =>
    intro f1 f2 h1 h2 σ τ p G N hm hb hx hk ea eb hpb hN0 hG hF
    obtain ⟨f1', rfl⟩ : ∃ f, f1 = f + 1 := ⟨f1 - 1, by omega⟩
    obtain ⟨f2', rfl⟩ : ∃ f, f2 = f + 1 := ⟨f2 - 1, by omega⟩
    have hpn := hk.le
    have hp4 := hb.1.1
    have hNp := hx.2.1.2
    have bq : BQ ((N - 1 : Nat) : Int) := ⟨by omega, by omega⟩
    rw [X1_shift_5, X15_level_21, if_neg (by decide)]
    refine LK_t ?_
    rw [gI28 (σ := σ) hb.2.2.1, if_pos rfl]
    refine LK_look hb hk (EX0.st hV) hx (fun υ hυ h37 => ?_) (fun q σ' τ' hq e1 e2 b1 x1 k1 hin => ?_)
    · rw [wp_bd, lvX, if_neg (by decide)]
      exact FT_rt bq υ hυ h37
    refine LK_t ?_
    rw [lvX]
    by_cases c : lvO (km (tkK T n q)) = 6
    · have h0 : tkK T n q ≠ 0 := (oc_r _ hin (by omega)).2.2.2
      have c18 := (lv_6 _ hin).mp c
      rw [if_pos c]
      have key : ∀ g, LK c0 σ0 τ0 BQ (bd (F_X1_pass) fun _ => bdE nx fun v2 => bd (F_X1_widthOf ((N - 1 : Nat) : Int)) fun v3 => bd (F_X1_node (ocK (tkK T n q) : Int) ((N - 1 : Nat) : Int) v2 ((-1)) v3) fun v4 => lt v4 fun x1_5 => (X1_shift_5 nx f1') x1_5) g σ' τ' (PE V RD WD c0 σ0 τ0 T n σb τb pb s Gb N0 j op) → LK c0 σ0 τ0 BQ (if tkK T n q = 18 then X1_shift_23 nx (X1_shift_5 nx f1') ((N - 1 : Nat) : Int) else bd (gI 2 5) fun v2 => if v2 = 19 then X1_shift_23 nx (X1_shift_5 nx f1') ((N - 1 : Nat) : Int) else lE (rt ((N - 1 : Nat) : Int))) g σ' τ' (PE V RD WD c0 σ0 τ0 T n σb τb pb s Gb N0 j op) := by
        intro g h
        rcases c18 with w | w
        · rw [if_pos w, X1_shift_23]
          refine LK_c ?_
          rw [wp_gI, k1.k5, if_pos w, X1_shift_39, LK_lc]
          rw [w] at h
          exact h
        · rw [if_neg (by omega)]
          refine LK_c ?_
          rw [wp_gI, k1.k5, if_pos w, X1_shift_23]
          refine LK_c ?_
          rw [wp_gI, k1.k5, if_neg (by omega), X1_shift_39, LK_lc]
          rw [w] at h
          exact h
      refine key _ (LK_t ?_)
      rw [wp_gI, k1.t32, LK_lt]
      refine LK_t ?_
      rw [wp_gI, k1.t33, LK_lt]
      refine LK_pass b1 k1 h0 (EX0.st hV) x1 (fun q2 σ2 τ2 hq2 hqe w1 w2 b2 x2 k2 _ => ?_)
      rw [show w32 ((6 : Int) + 1) = 7 from by rw [w32_i (by decide) (by decide)]; rfl]
      have ft21 : ∀ x3, FTw c0 BQ (X15_level_21 rl ru f2' 6 0 x3) := fun x3 => FT_lv f2' (by omega) ⟨by decide, by decide⟩
      have k2' : TK T n σ2 τ2 ((q2 - s - 1) + (s + 1)) := by rw [show (q2 - s - 1) + (s + 1) = q2 by omega]; exact Or.inl k2
      refine LK_bd (LK_mono (hnx.1 σ2 τ2 (q2 - s - 1) (s + 1) G N j b2 (x2.le (by omega)) k2') ?_) (fun y hy => ?_)
      · rintro r y σ3 τ3 ⟨p3, G3, M, ⟨hp3, hM⟩, rfl, rfl, f3, f4, b3, x3, k3, hG3, hF3⟩
        have k3l := k3.le
        have hF3' : gF G3 (N - 1) = N0 := by rw [(hG3 (N - 1) (by omega)).1.2.1]; exact hF
        have wr := (x3.2.2.2.2 (N - 1) (by omega)).2.1
        rw [LK_lt]
        refine LK_t ?_
        rw [gI28 (σ := σ) b3.2.2.1, if_pos rfl, if_pos (by decide), X15_level_105, if_neg (by decide)]
        refine LK_t ?_
        rw [wdM x3 (by omega) (by omega)]
        refine LK_c ?_
        rw [wdX x3 (by omega) (by omega), X15_level_127]
        refine LK_node (f := N0) (p' := p3 + 1) hV b3 x3 (by omega) (by omega) k3 (oc_nd hin (by omega)) (two_W hin (by omega) hN0 hM hF3' hF3 ⟨wr.2.1, wr.2.2.1⟩ (fun z => absurd c z) (by rw [if_neg (by omega)])) (fun σ4 τ4 u1 u2 b4 k4 x4 => ?_)
        rw [LK_lc, LK_lt, if_neg (by decide), X15_level_143, LK_lt]
        have := ih f1' f2' (by omega) (by omega) σ4 τ4 (p3 + 1) _ (M + 1) (by omega) b4 x4 (by rw [show p3 + 1 + s = p3 + (s + 1) by omega]; exact k4) ((((ea.trans (agr_nEX (agr_kX9 e1))).trans (agr_nEX (agr_kX9 w1))).trans f3).trans u1) ((((eb.trans (agr_nEY (agr_kY6 e2))).trans (agr_nEY (agr_kY6 w2))).trans f4).trans u2) (by omega) (by omega) (fun i hi => (hG i hi).trans ((hG3 i (by omega)).trans (gAt.up (by omega)))) (by rw [show M + 1 - 1 = M by omega]; exact gUp_at.1.2.1)
        rw [show M + 1 - 1 = M by omega] at this
        exact this
      · have h105 := FT_lv105 (rl := rl) (ru := ru) (l := 6) (k := km (tkK T n q)) (y := y) bq ft21
        exact FT_gF (fun v hv => FT_if (c := v = 0) (fun e => absurd e (by omega)) (fun _ => h105))
    · have c18 : ¬ (tkK T n q = 18 ∨ tkK T n q = 19) := fun w => c ((lv_6 _ hin).mpr w)
      rw [if_neg c, if_neg (by omega)]
      refine LK_c ?_
      rw [wp_gI, k1.k5, if_neg (by omega)]
      exact LK_rt ⟨q - s, G, N, ⟨by omega, hN0⟩, rfl, rfl, ea.trans (agr_nEX (agr_kX9 e1)), eb.trans (agr_nEY (agr_kY6 e2)), b1, x1.le (by omega), by rw [show q - s + s = q by omega]; exact Or.inr k1, hG, hF⟩
theorem xs_shift (hV : StE V) (hnx : XS V RD WD c0 σ0 τ0 T n op nx (rl 7)) : XS V RD WD c0 σ0 τ0 T n op (F_X1_shift nx) (F_X15_level rl ru 6) := by
  have hf := FU_ge
  have e : w32 ((6 : Int) + 1) = 7 := by rw [w32_i (by decide) (by decide)]; rfl
  have ft : ∀ q, BQ q → FTw c0 BQ (X15_level_21 rl ru FU 6 q 1) := fun q hq => FT_lv FU (by omega) hq
  refine ⟨fun σ τ p s G N j hb hx hk => ?_, ?_⟩
  · rw [F_X15_level, if_neg (by decide), e, F_X1_shift]
    refine LK_bd (LK_mono (hnx.1 σ τ p s G N j hb hx hk) ?_) (fun y hy => ft y hy)
    rintro r y σ3 τ3 ⟨p3, G3, M, ⟨hp3, hM⟩, rfl, rfl, f1, f2, b3, x3, k3, hG3, hF3⟩
    have := b3.1.1
    exact shloop hV hnx (n + 1) FU FU (by omega) (by omega) σ3 τ3 p3 G3 M (by omega) b3 x3 k3 f1 f2 hp3 hM hG3 hF3
  · rw [F_X15_level, if_neg (by decide), e]
    exact FT_bd hnx.2 (fun q hq => ft q hq)
end
