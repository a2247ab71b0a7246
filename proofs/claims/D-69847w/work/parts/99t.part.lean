set_option maxRecDepth 100000
set_option maxHeartbeats 400000
/-! ===== read: slices ===== -/
theorem i2l_m1 {w : Nat} (hw : w ≤ 1000) : (i2l (w : Int) - 1).toInt = (w : Int) - 1 := by
  have e := i2l_t (x := (w : Int)) (by omega) (by omega)
  have e1 : (1 : Int64).toInt = 1 := by decide
  rw [lsub_t (by rw [e, e1]; omega) (by rw [e, e1]; omega), e, e1]
section
variable {V : St → St → Prop} {RD : Nat → Int → Nat → Prop} {WD : Nat → Nat → Prop} {c0 : Nat × Int} {σ0 τ0 : St} {T : Nat → Int} {n op : Nat} {γ δ : Type}
theorem sl_W {G : NG} {M N hi lo : Nat} (hM : N < M) (hF : gF G (M - 1) = N) (h1 : lo ≤ hi) (h2 : hi < gW G (M - 1)) (h3 : gW G (M - 1) ≤ 32) : nodW RD WD (gUp G M 8 N (hi - lo + 1) ((M - 1 : Nat) : Int) (hi : Int) (lo : Int)) M := by
  obtain ⟨⟨u1, u2, u3⟩, u4, u5, u6⟩ := gUp_at (G := G) (N := M) (op := 8) (f := N) (w := hi - lo + 1) (a := ((M - 1 : Nat) : Int)) (b := (hi : Int)) (c := (lo : Int))
  obtain ⟨⟨v1, v2, v3⟩, -⟩ := gAt.up (G := G) (N := M) (op := 8) (f := N) (w := hi - lo + 1) (i := M - 1) (a := ((M - 1 : Nat) : Int)) (b := (hi : Int)) (c := (lo : Int)) (by omega)
  unfold nodW
  rw [u1, u2, u3, u4, u5, u6, v2, v3, hF]
  refine ⟨⟨by omega, by omega, by omega, by omega⟩, fun e => absurd e (by omega), fun e => absurd e (by omega), fun e => absurd e (by omega), fun _ _ => ⟨by omega, rfl, rfl, fun e => absurd e (by omega), fun e e' => absurd e' (by omega), fun e => ⟨lo, rfl, by omega⟩⟩, fun e => absurd e (by omega), fun e => absurd e (by omega)⟩
theorem FT_p58 {pm : St → Option (Int × St)} {rec5 : Int → St → Option (Int × St)} {a b c : Int} : FTw c0 BQ (X15_part_58 pm rec5 a b c) := by
  rw [X15_part_58]
  refine FT_bd (FT_must (by decide)) (fun q hq => ?_)
  subst hq
  exact FT_if (fun _ => FT_rt ⟨by decide, by decide⟩) (fun e => absurd rfl e)
theorem partloop (hV : StE V) {pc : St → Option ((Int ⊕ XV) × St)} {pm : St → Option (Int × St)} {σb τb : St} {pb N0 j s : Nat} {Gb : NG} : ∀ m f1 f2, m < f1 → m < f2 → ∀ σ τ p G N, n - p < m → BS c0 σ0 τ0 T n σ τ → EX0 V RD WD G N j op p σ τ → TK T n σ τ (p + s) → agr nEX σb σ → agr nEY τb τ → pb < p → N0 < N → (∀ i, i < N0 → gAt Gb G i) → gF G (N - 1) = N0 → LK c0 σ0 τ0 BQ (X1_part_5 pc f1 ((N - 1 : Nat) : Int)) (X15_part_5 pm f2 ((N - 1 : Nat) : Int)) σ τ (PE V RD WD c0 σ0 τ0 T n σb τb pb s Gb N0 j op) := by
  intro m
  induction m with
  | zero => intro f1 f2 h1 h2 σ τ p G N hm; omega
  | succ m ih =>
    intro f1 f2 h1 h2 σ τ p G N hm hb hx hk ea eb hpb hN0 hG hF
    obtain ⟨f1', rfl⟩ : ∃ f, f1 = f + 1 := ⟨f1 - 1, by omega⟩
    obtain ⟨f2', rfl⟩ : ∃ f, f2 = f + 1 := ⟨f2 - 1, by omega⟩
    have hpn := hk.le
    have hp4 := hb.1.1
    have hNp := hx.2.1.2
    have bq : BQ ((N - 1 : Nat) : Int) := ⟨by omega, by omega⟩
    have wr := (hx.2.2.2.2 (N - 1) (by omega)).2.1
    have z0 : (0 : Int64).toInt = 0 := by decide
    rw [X1_part_5, X15_part_5]
    refine LK_look hb hk (EX0.st hV) hx ?_ (fun q σ1 τ1 hq e1 e2 b1 x1 k1 hin => ?_)
    · rw [if_neg (by decide)]; exact FT_rt bq
    by_cases c : tkK T n q = 91
    · rw [if_pos c, if_pos ((km_eq hin (a := 91) (b := 34) (by decide)).mpr c)]
      refine LK_pass b1 k1 (by rw [c]; decide) (EX0.st hV) x1 (fun q2 σ2 τ2 hq2 _ w1 w2 b2 x2 k2 _ => ?_)
      have k2l := k2.1
      refine LK_c ?_
      rw [wdX x2 (by omega) (by omega)]
      refine LK_t ?_
      rw [wdM x2 (by omega) (by omega)]
      refine LK_num b2 (Or.inl k2) (EX0.st hV) x2 (fun v => ?_) (fun v q3 σ3 τ3 hq3 v1 v2 y1 y2 b3 x3 k3 => ?_)
      · dsimp only [lt]
        refine FT_bd FT_look (fun y hy => ?_)
        subst hy
        rw [if_neg (by decide)]
        exact FT_p58
      · rw [z0] at v1
        rw [i2l_m1 (by omega)] at v2
        obtain ⟨hi, hhi⟩ := Int.eq_ofNat_of_zero_le v1
        have ev : l2i v = (hi : Int) := by rw [l2i_t (by omega) (by omega)]; exact hhi
        have hhi2 : (hi : Int) ≤ (gW G (N - 1) : Int) - 1 := by rw [← show v.toInt = (hi : Int) from hhi]; exact v2
        rw [LK_lc, LK_lc, LK_lt, LK_lt, ev]
        have fin : ∀ (lo q4 : Nat) σ4 τ4, q3 ≤ q4 → lo ≤ hi → agr kX σ3 σ4 → agr kY τ3 τ4 → BS c0 σ0 τ0 T n σ4 τ4 → EX0 V RD WD G N j op p σ4 τ4 → TK T n σ4 τ4 q4 → LK c0 σ0 τ0 BQ (X1_part_55 pc (X1_part_5 pc f1') ((N - 1 : Nat) : Int) (hi : Int) (lo : Int)) (X15_part_58 pm (X15_part_5 pm f2') ((N - 1 : Nat) : Int) (hi : Int) (lo : Int)) σ4 τ4 (PE V RD WD c0 σ0 τ0 T n σb τb pb s Gb N0 j op) := by
          intro lo q4 σ4 τ4 hq4 hlo u1 u2 b4 x4 k4
          rw [X1_part_55, X15_part_58]
          refine LK_want (a := 93) (b := 35) (by decide) (by decide) (by decide) b4 k4 (EX0.st hV) x4 (by rw [if_pos rfl]; exact FT_rt ⟨by decide, by decide⟩) (fun q5 q6 σ5 τ5 hq5 hq6 _ g1 g2 b5 x5 k5 => ?_)
          have k5l := k5.1
          rw [LK_lc, if_neg (by decide), show w32 (w32 ((hi : Int) - (lo : Int)) + 1) = ((hi - lo + 1 : Nat) : Int) by rw [w32_i (x := (hi : Int) - (lo : Int)) (by omega) (by omega), w32_i (by omega) (by omega)]; omega]
          refine LK_node (opn := 8) (f := N0) (p' := q6 - s) (pt := q6) hV b5 x5 (by omega) (by omega) (Or.inl k5) (by unfold ndR; rw [if_neg (by decide), if_neg (by decide), if_neg (by decide), if_pos rfl]; exact ⟨rfl, rfl, rfl⟩) (sl_W hN0 hF hlo (by omega) wr.2.2.1) (fun σ6 τ6 h1' h2' b6 k6 x6 => ?_)
          rw [LK_lc, LK_lt]
          have := ih f1' f2' (by omega) (by omega) σ6 τ6 (q6 - s) _ (N + 1) (by omega) b6 x6 (by rw [show q6 - s + s = q6 by omega]; exact k6) (((((((ea.trans (agr_nEX (agr_kX9 e1))).trans (agr_nEX (agr_kX9 w1))).trans (agr_nEX (agr_kX9 y1))).trans (agr_nEX (agr_kX9 u1))).trans (agr_nEX (agr_kX9 g1))).trans h1')) (((((((eb.trans (agr_nEY (agr_kY6 e2))).trans (agr_nEY (agr_kY6 w2))).trans (agr_nEY (agr_kY6 y2))).trans (agr_nEY (agr_kY6 u2))).trans (agr_nEY (agr_kY6 g2))).trans h2')) (by omega) (by omega) (fun i hi => (hG i hi).trans (gAt.up (by omega))) (by rw [show N + 1 - 1 = N by omega]; exact gUp_at.1.2.1)
          rw [show N + 1 - 1 = N by omega] at this
          exact this
        refine LK_look b3 (Or.inl k3) (EX0.st hV) x3 (by rw [if_neg (by decide)]; exact FT_p58) (fun q4 σ4 τ4 hq4 u1 u2 b4 x4 k4 hin4 => ?_)
        by_cases c2 : tkK T n q4 = 58
        · rw [if_pos c2, if_pos ((km_eq hin4 (a := 58) (b := 36) (by decide)).mpr c2)]
          refine LK_pass b4 k4 (by rw [c2]; decide) (EX0.st hV) x4 (fun q5 σ5 τ5 hq5 _ g1 g2 b5 x5 k5 _ => ?_)
          refine LK_num b5 (Or.inl k5) (EX0.st hV) x5 (fun v => by dsimp only [lt]; exact FT_p58) (fun v' q6 σ6 τ6 hq6 v3 v4 y3 y4 b6 x6 k6 => ?_)
          rw [z0] at v3
          rw [i2l_t (by omega) (by omega)] at v4
          obtain ⟨lo, hlo⟩ := Int.eq_ofNat_of_zero_le v3
          have ev2 : l2i v' = (lo : Int) := by rw [l2i_t (by omega) (by omega)]; exact hlo
          have hlo2 : (lo : Int) ≤ (hi : Int) := by rw [← show v'.toInt = (lo : Int) from hlo]; exact v4
          rw [LK_lc, LK_lt, ev2]
          exact fin lo q6 σ6 τ6 (by omega) (by omega) ((u1.trans g1).trans y3) ((u2.trans g2).trans y4) b6 x6 (Or.inl k6)
        · rw [if_neg c2, if_neg (fun z => c2 ((km_eq hin4 (a := 58) (b := 36) (by decide)).mp z))]
          exact fin hi q4 σ4 τ4 hq4 (Nat.le_refl _) u1 u2 b4 x4 (Or.inr k4)
    · rw [if_neg c, if_neg (fun z => c ((km_eq hin (a := 91) (b := 34) (by decide)).mp z))]
      exact LK_rt ⟨q - s, G, N, ⟨by omega, hN0⟩, rfl, rfl, ea.trans (agr_nEX (agr_kX9 e1)), eb.trans (agr_nEY (agr_kY6 e2)), b1, x1.le (by omega), by rw [show q - s + s = q by omega]; exact Or.inr k1, hG, hF⟩
theorem xs_part (hV : StE V) {pc : St → Option ((Int ⊕ XV) × St)} {pm : St → Option (Int × St)} (hp : XS V RD WD c0 σ0 τ0 T n op pc pm) : XS V RD WD c0 σ0 τ0 T n op (F_X1_part pc) (F_X15_part pm) := by
  have hf := FU_ge
  obtain ⟨f1, hf1⟩ : ∃ f, FU = f + 1 := ⟨FU - 1, by omega⟩
  have ft : ∀ q, BQ q → FTw c0 BQ (X15_part_5 pm FU q) := fun q hq => by
    rw [hf1, X15_part_5]
    refine FT_bd FT_look (fun y hy => ?_)
    subst hy
    rw [if_neg (by decide)]
    exact FT_rt hq
  refine ⟨fun σ τ p s G N j hb hx hk => ?_, ?_⟩
  · rw [F_X15_part, F_X1_part]
    refine LK_bd (LK_mono (hp.1 σ τ p s G N j hb hx hk) ?_) (fun y hy => ft y hy)
    rintro r y σ3 τ3 ⟨p3, G3, M, ⟨hp3, hM⟩, rfl, rfl, f1, f2, b3, x3, k3, hG3, hF3⟩
    have := b3.1.1
    exact partloop hV (n + 1) FU FU (by omega) (by omega) σ3 τ3 p3 G3 M (by omega) b3 x3 k3 f1 f2 hp3 hM hG3 hF3
  · rw [F_X15_part]
    exact FT_bd hp.2 (fun q hq => ft q hq)
end
