set_option maxRecDepth 100000
set_option maxHeartbeats 400000
/-! ===== read: numbers, what is in parentheses ===== -/
theorem l2i_sg {v : Int64} (h : 0 ≤ v.toInt) : l2i v = sg v.toInt.toNat := by
  show v.toInt32.toInt = (BitVec.ofNat 32 v.toInt.toNat).toInt
  rw [Int64.toInt_toInt32, BitVec.toInt_eq_toNat_bmod, BitVec.toNat_ofNat, Int.natCast_emod, Int.toNat_of_nonneg h]
  exact (Int.emod_bmod v.toInt (2 ^ 32)).symm
theorem lshw : ∀ w : Fin 33, (lshl 1 ((w : Nat) : Int) - 1).toInt = ((2 ^ (w : Nat) - 1 : Nat) : Int) := by decide +kernel
section
variable {V : St → St → Prop} {RD : Nat → Int → Nat → Prop} {WD : Nat → Nat → Prop} {c0 : Nat × Int} {σ0 τ0 : St} {T : Nat → Int} {n op : Nat} {γ δ : Type}
theorem num_W {G : NG} {N w x : Nat} (h1 : 1 ≤ w ∧ w ≤ 32) (hx : x < 2 ^ w) : nodW RD WD (gUp G N 0 N w (sg x) (-1) (-1)) N := by
  obtain ⟨⟨u1, u2, u3⟩, u4, u5, u6⟩ := gUp_at (G := G) (N := N) (op := 0) (f := N) (w := w) (a := sg x) (b := -1) (c := -1)
  unfold nodW
  rw [u1, u2, u3, u4, u5, u6]
  exact ⟨⟨by omega, h1.1, h1.2, by omega⟩, fun _ => ⟨rfl, x, hx, rfl⟩, fun e => absurd e (by omega), fun e => absurd e (by omega), fun e => absurd e (by omega), fun e => absurd e (by omega), fun e => absurd e (by omega)⟩
theorem number_LK (hV : StE V) {σ τ : St} {p s q N j : Nat} {G : NG} (hb : BS c0 σ0 τ0 T n σ τ) (hx : EX0 V RD WD G N j op p σ τ) (hk : TKp T n σ τ q) (hq : p + s ≤ q) : LK c0 σ0 τ0 BQ (bdE (F_X1_numberIn 1 32) fun v4 => bdE (F_X1_want 39) fun _ => bdE (F_X1_valueOf v4) fun v8 => bd (F_X1_node 0 v8 ((-1)) ((-1)) v4) fun v9 => lE (rt v9)) (bd (F_X15_numberIn 1 32) fun v13 => bd (F_X15_must 42) fun v15 => if v15 = 0 then (rt 0) else bd (F_X15_numberIn 0 ((lshl 1 (l2i v13)) - 1)) fun v16 => bd (F_X15_node 60 0 0 0 (l2i v13) v16 1) fun v18 => rt v18) σ τ (PE V RD WD c0 σ0 τ0 T n σ τ p s G N j op) := by
  have z0 : (0 : Int64).toInt = 0 := by decide
  have z1 : (1 : Int64).toInt = 1 := by decide
  have z32 : (32 : Int64).toInt = 32 := by decide
  have r0 : FTw c0 BQ (rt 0) := FT_rt ⟨by decide, by decide⟩
  refine LK_num hb (Or.inr hk) (EX0.st hV) hx (fun v => FT_bd (FT_must (by decide)) (fun z hz => FT_if (fun _ => r0) (fun e => absurd hz e))) (fun v q3 σ3 τ3 hq3 v1 v2 y1 y2 b3 x3 k3 => ?_)
  rw [z1] at v1
  rw [z32] at v2
  obtain ⟨w, hw⟩ := Int.eq_ofNat_of_zero_le (show 0 ≤ v.toInt by omega)
  have ev : l2i v = (w : Int) := by rw [l2i_t (by omega) (by omega)]; exact hw
  rw [ev]
  refine LK_want (a := 39) (b := 42) (by decide) (by decide) (by decide) b3 (Or.inl k3) (EX0.st hV) x3 (by rw [if_pos rfl]; exact r0) (fun q5 q6 σ5 τ5 hq5 hq6 _ g1 g2 b5 x5 k5 => ?_)
  rw [if_neg (by decide), F_X1_valueOf, bdE_id]
  refine LK_num b5 (Or.inl k5) (EX0.st hV) x5 (fun v => FT_bd FT_node (fun z hz => by rw [hz]; exact r0)) (fun v' q7 σ7 τ7 hq7 v3 v4 u1 u2 b7 x7 k7 => ?_)
  rw [z0] at v3
  rw [lshw ⟨w, by omega⟩] at v4
  dsimp only at v4
  have p2 : 2 ^ w ≤ 2 ^ 32 := Nat.pow_le_pow_right (by decide) (by omega)
  have p1 : 1 ≤ 2 ^ w := Nat.one_le_two_pow
  have hx' : v'.toInt.toNat < 2 ^ w := by omega
  have k7l := k7.1
  rw [l2i_sg v3]
  refine LK_node (opn := 0) (f := N) (p' := q7 - s) (pt := q7) hV b7 x7 (by omega) (by omega) (Or.inl k7) (by unfold ndR; rw [if_pos rfl]; exact ⟨rfl, v'.toInt.toNat, by omega, rfl, by omega⟩) (num_W ⟨by omega, by omega⟩ hx') (fun σ8 τ8 w1 w2 b8 k8 x8 => ?_)
  exact LK_rt ⟨q7 - s, _, N + 1, ⟨by omega, by omega⟩, by rw [show N + 1 - 1 = N by omega], by rw [show N + 1 - 1 = N by omega], (((agr_nEX (agr_kX9 y1)).trans (agr_nEX (agr_kX9 g1))).trans (agr_nEX (agr_kX9 u1))).trans w1, (((agr_nEY (agr_kY6 y2)).trans (agr_nEY (agr_kY6 g2))).trans (agr_nEY (agr_kY6 u2))).trans w2, b8, x8, by rw [show q7 - s + s = q7 by omega]; exact k8, fun i hi => gAt.up hi, by rw [show N + 1 - 1 = N by omega]; exact gUp_at.1.2.1⟩
theorem paren_LK (hV : StE V) (hop : op ≤ 20) {ec : St → Option ((Int ⊕ XV) × St)} {re : St → Option (Int × St)} (hexp : op < 20 → XS V RD WD c0 σ0 τ0 T n (op + 1) ec re) {σ τ : St} {p s q N j : Nat} {G : NG} (hb : BS c0 σ0 τ0 T n σ τ) (hx : EX0 V RD WD G N j op p σ τ) (hk : TKp T n σ τ q) (hq : p + s ≤ q) (hK : tkK T n q ≠ 0) : LK c0 σ0 τ0 BQ (bdE F_X1_nest fun _ => bdE ec fun v11 => bdE (F_X1_want 41) fun _ => bd (gI 2 9) fun v15 => bd (pI 2 9 (w32 (v15 - 1))) fun _ => lE (rt v11)) (bd (F_X15_opens) fun v22 => if v22 = 0 then (rt 0) else bd (F_X15_take) fun _ => bd re fun v23 => bd (F_X15_must 33) fun _ => bd (gI 2075 36) fun v27 => bd (pI 2075 36 (w32 (v27 - 1))) fun _ => rt v23) σ τ (PE V RD WD c0 σ0 τ0 T n σ τ p s G N j op) := by
  refine LK_nest hb hk hK hop hx.2.2.2.1.2.1 hx.2.2.2.1.2.2 (FT_rt ⟨by decide, by decide⟩) (fun q2 σ2 τ2 hq2 hop2 w1 w2 b2 o1 o2 k2 => ?_)
  have x2 := hx.fr9 hV w1 w2 (by omega) o1 o2
  have k2' : TK T n σ2 τ2 ((q2 - s) + s) := by rw [show (q2 - s) + s = q2 by omega]; exact Or.inl k2
  have ft : ∀ y, BQ y → FTw c0 BQ (bd (F_X15_must 33) fun _ => bd (gI 2075 36) fun v27 => bd (pI 2075 36 (w32 (v27 - 1))) fun _ => rt y) := fun y hy => FT_bd (FT_must (by decide)) (fun z hz => FT_gI (fun v => FT_pI (by decide) (FT_rt hy)))
  refine LK_bd (LK_mono ((hexp hop2).1 σ2 τ2 (q2 - s) s G N j b2 (x2.le (by omega)) k2') ?_) ft
  rintro r y σ3 τ3 ⟨p3, G3, M, ⟨hp3, hM⟩, rfl, rfl, f3, f4, b3, x3, k3, hG3, hF3⟩
  have bq : BQ ((M - 1 : Nat) : Int) := by
    have := x3.2.1.2
    have := k3.le
    have := b3.1.1
    exact ⟨by omega, by omega⟩
  refine LK_want (a := 41) (b := 33) (by decide) (by decide) (by decide) b3 k3 (EX0.st hV) x3 (FT_gI (fun v => FT_pI (by decide) (FT_rt bq))) (fun q5 q6 σ5 τ5 hq5 hq6 _ g1 g2 b5 x5 k5 => ?_)
  refine LK_closeK hV b5 (Or.inl k5) x5 (fun σ6 τ6 u1 u2 b6 k6 x6 => ?_)
  exact LK_rt ⟨q6 - s, G3, M, ⟨by omega, hM⟩, rfl, rfl, (((agr_nEX w1).trans f3).trans (agr_nEX (agr_kX9 g1))).trans (agr_nEX u1), (((agr_nEY w2).trans f4).trans (agr_nEY (agr_kY6 g2))).trans (agr_nEY u2), b6, x6.le (by omega), by rw [show q6 - s + s = q6 by omega]; exact k6, hG3, hF3⟩
end
