set_option maxRecDepth 100000
set_option maxHeartbeats 400000
/-! ===== read: a thing, an inst ===== -/
section
variable {c0 : Nat × Int}
theorem FT_206 : FTw c0 (fun _ : Unit => True) X15_item_206 := by
  rw [X15_item_206]
  exact FT_bd (FT_must (by decide)) (fun z hz => FT_rt trivial)
theorem FT_153 {x1 x2 : Int} : FTw c0 (fun _ : Unit => True) (X15_item_153 x1 x2) := by
  rw [X15_item_153]
  exact FT_if (fun _ => FT_bd (FT_must (by decide)) (fun z hz => FT_if (fun _ => FT_206) (fun w => absurd hz w))) (fun _ => FT_206)
theorem FT_107 {x1 x2 x3 : Int} : FTw c0 (fun _ : Unit => True) (X15_item_107 x1 x2 x3) := by
  rw [X15_item_107]
  exact FT_if (fun _ => FT_bd (FT_must (by decide)) (fun z hz => FT_if (fun _ => FT_153) (fun w => absurd hz w))) (fun _ => FT_153)
theorem FT_198 : FTw c0 (fun _ : Unit => True) X15_item_198 := by
  rw [X15_item_198]
  exact FT_bd (FT_must (by decide)) (fun z hz => FT_206)
/-- the twin behind the name of a thing -/
noncomputable def tailT (a1 x2 : Int) : St → Option (Unit × St) := bd (F_X15_must 36) fun v4 => if v4 = 0 then (rt ()) else bd (F_X15_numberIn 1 32) fun v5 => bd (gI 2075 28) fun v7 => if v7 = 0 then (bd (F_X15_thing x2) fun v8 => bd (wrI 2083 v8 (l2i v5)) fun _ => X15_item_107 a1 x2 (l2i v5)) else X15_item_107 a1 x2 (l2i v5)
theorem FT_tailT {a1 x2 : Int} : FTw c0 (fun _ : Unit => True) (tailT a1 x2) := by
  unfold tailT
  exact FT_bd (FT_must (by decide)) (fun z hz => FT_if (fun _ => FT_rt trivial) (fun w => absurd hz w))
theorem FT_inst {x2 : Int} : FTw c0 (fun _ : Unit => True) (F_X15_instance x2) := by
  rw [F_X15_instance]
  exact FT_bd (FT_must (by decide)) (fun z hz => FT_if (fun _ => FT_rt trivial) (fun w => absurd hz w))
theorem FT_new66 {x : Int} : FTw c0 (fun q : Int => q = 0) (X15_newThing_66 x) := by
  rw [X15_newThing_66]
  exact FT_gF (fun v hv => FT_if (fun e => absurd e (by omega)) (fun _ => FT_rt rfl))
theorem FT_new39 {x : Int} (hc : c0.2 ≤ 12) : FTw c0 (fun q : Int => q = 0) (X15_newThing_39 x) := by
  rw [X15_newThing_39]
  refine FT_g37 (fun v h1 h2 => ?_)
  rw [w32_i (by omega) (by omega)]
  refine FT_rd 60 (fun h1 h2 => RI_2077 h1 h2) ⟨by omega, by omega⟩ (fun v' => ?_)
  exact FT_if (fun _ => FT_gI (fun u => FT_fail FT_new66)) (fun _ => FT_new66)
end
section
variable {k t : Nat} {kd wd pt ws bg : Nat → Nat} {Mt : Nat → Nat} {Mk Mw : Nat → Nat → Nat}
variable {c0 : Nat × Int} {σ0 τ0 : St} {T : Nat → Int} {n : Nat} {G : NG} {N nC nW nS p p' : Nat} {H : SG} {σ τ σ' τ' σb τb : St} {q L K w P s b : Nat} {γ δ : Type}
theorem t1l : (1 : Int64).toInt = 1 := by decide
theorem t32l : (32 : Int64).toInt = 32 := by decide
theorem t64l : (64 : Int64).toInt = 64 := by decide
theorem BS.h37 (hb : BS c0 σ0 τ0 T n σ τ) : τ.1 2075 28 = 0 := hb.2.2.1
/-- the words behind a thing's name -/
theorem thing_LK {p0 : Nat} {x1 : Int} {σs τs : St} (hck : c0.1 ≤ k) (hk12 : k < 12) (hx1 : x1 = ((K + 4 : Nat) : Int)) (hK : K ≤ 4) (hs : SX k t kd wd pt Mt Mk Mw c0 σ0 τ0 T n 0 (-1) 0 [] G N nC nW nS p H σs τs) (htw : TW k t kd wd ws bg σs τs) (hpsi : nW + 2 * nC ≤ 2 * nS) (hbX : agr nIX σb σs) (hbY : agr (nIY k) τb τs) (ht : t < 40) (hnm : 1 ≤ L ∧ L ≤ 10 ∧ ∀ j, j < L → pnz (T (q + j))) (hl : q + L ≤ n) (hP : PT T q L k t K 0 1 0 σs τs σ τ) (hb : BS c0 σ0 τ0 T n σ τ) (hk : TK T n σ τ p') (hp : p ≤ p') (hp0 : p0 ≤ p') : LK c0 σ0 τ0 (fun _ : Unit => True) (bdE (F_X1_thing x1 (q : Int) (L : Int)) fun _ => X1_item_144) (tailT (x1 + 7) (t : Int)) σ τ (fun _ _ σ' τ' => ∃ p', p0 < p' ∧ IT k Mt Mk Mw c0 σ0 τ0 T n σb τb p' σ' τ' ∧ TK T n σ' τ' p') := by
  have g37 : τs.1 2075 37 = (k : Int) := hs.2.1.1.2.1.2
  have n37 : ∀ {w s b : Nat} {σ τ : St}, PT T q L k t K w s b σs τs σ τ → τ.1 2075 37 = (k : Int) := fun h => by rw [(h.2.1 2075 37 (by unfold nTh; omega)).1]; exact g37
  unfold tailT
  rw [F_X1_thing]
  simp only [lt_eq, bdE_bdE, bdE_ite]
  refine LK_want (a := 58) (b := 36) (by decide) (by decide) (by decide) hb hk PT.st hP (by rw [if_pos rfl]; exact FT_rt trivial) (fun q1 q2 σ1 τ1 hq1 hq2 _ _ _ b1 r1 k1 => ?_)
  rw [if_neg (by decide)]
  refine LK_num b1 (Or.inl k1) PT.st r1 (fun v => FT_gF (fun u hu => FT_if (c := u = 0) (fun e => absurd e (by omega)) (fun _ => FT_107))) (fun v q3 σ3 τ3 hq3 v1 v2 _ _ b3 r3 k3 => ?_)
  rw [t1l] at v1
  rw [t32l] at v2
  obtain ⟨w, hw⟩ := Int.eq_ofNat_of_zero_le (show 0 ≤ v.toInt by omega)
  have ev : l2i v = (w : Int) := by rw [l2i_t (by omega) (by omega)]; exact hw
  rw [ev]
  refine LK_t ?_
  rw [wp_gI, b3.h37, if_pos rfl]
  refine LK_t ?_
  rw [thing15 (n37 r3) hk12 (by omega)]
  refine LK_t ?_
  rw [RV_2083 (by omega) (by omega), tn]
  have r4 := r3.upw (w' := w)
  have b4 := b3.frU hck (agr.refl.u (a := 2083) (i := 40 * (48 + k) + t) (P := nTh k t) (by unfold nTh; omega) (w : Int)) ht
  have k4 : TK T n σ3 (stA τ3.1 2083 (ups (τ3.1 2083) (40 * (48 + k) + t) (w : Int)), τ3.2) q3 := TK.eq (Or.inl k3) rfl rfl (fun i _ _ => by dsimp only; rw [stA_ne (by decide)]) rfl
  generalize ((stA τ3.1 2083 (ups (τ3.1 2083) (40 * (48 + k) + t) (w : Int)), τ3.2) : St) = τ4 at r4 b4 k4 ⊢
  rw [X15_item_107]
  have hw32 : 1 ≤ w ∧ w ≤ 32 := by omega
  by_cases c7 : x1 = 7
  · have hK3 : K = 3 := by omega
    subst hK3
    rw [if_pos c7, if_pos (by omega)]
    refine LK_want (a := 61) (b := 41) (by decide) (by decide) (by decide) b4 k4 PT.st r4 (by rw [if_pos rfl]; exact FT_153) (fun q5 q6 σ5 τ5 hq5 hq6 _ _ _ b5 r5 k5 => ?_)
    rw [if_neg (by decide), F_X1_valueOf, bdE_id]
    refine LK_num b5 (Or.inl k5) PT.st r5 (fun v => FT_gF (fun u hu => FT_if (c := u = 0) (fun e => absurd e (by omega)) (fun _ => FT_153))) (fun v' q7 σ7 τ7 hq7 v3 v4 _ _ b7 r7 k7 => ?_)
    rw [show (0 : Int64).toInt = 0 by decide] at v3
    rw [lshw ⟨w, by omega⟩] at v4
    dsimp only at v4
    have p1 : 1 ≤ 2 ^ w := Nat.one_le_two_pow
    obtain ⟨b', hb'⟩ := Int.eq_ofNat_of_zero_le v3
    rw [lt_eq]
    refine LK_t ?_
    rw [wp_gI, b7.h37, if_pos rfl]
    refine LK_t ?_
    rw [thing15 (n37 r7) hk12 (by omega)]
    refine LK_t ?_
    rw [RV_2085 (by omega) (by omega), tn]
    have r8 := r7.upb hb'
    have b8 := b7.frU hck (agr.refl.v (a := 2085) (g := ups (τ7.2.1 2085) (40 * (48 + k) + t) v') (P := nTh k t) (fun i h => by unfold nTh at h; rw [ups_ne (by omega)])) ht
    have k8 : TK T n σ7 (τ7.1, stA τ7.2.1 2085 (ups (τ7.2.1 2085) (40 * (48 + k) + t) v'), τ7.2.2) q7 := TK.eq (Or.inl k7) rfl rfl (fun i _ _ => rfl) (by dsimp only; rw [stA_ne (by decide)])
    rw [X15_item_153, if_neg (by omega), l2i_sg v3]
    exact thing_join hck hx1 rfl rfl (by rw [hb']; rfl) (by decide) hs htw hpsi hbX hbY ht hnm hl r8 b8 k8 (by omega) (by omega) ⟨hw32, ⟨by decide, by decide, fun _ => rfl⟩, fun _ => by omega, fun h => absurd rfl h⟩
  · rw [if_neg c7, if_neg (c := x1 + 7 = 14) (by omega), X15_item_153]
    by_cases c8 : x1 = 8
    · have hK4 : K = 4 := by omega
      subst hK4
      rw [if_pos c8, if_pos (by omega)]
      refine LK_want (a := 91) (b := 34) (by decide) (by decide) (by decide) b4 k4 PT.st r4 (by rw [if_pos rfl]; exact FT_206) (fun q5 q6 σ5 τ5 hq5 hq6 _ _ _ b5 r5 k5 => ?_)
      rw [if_neg (by decide)]
      refine LK_num b5 (Or.inl k5) PT.st r5 (fun v => FT_gF (fun u hu => FT_if (c := u = 0) (fun e => absurd e (by omega)) (fun _ => FT_198))) (fun v' q7 σ7 τ7 hq7 v3 v4 _ _ b7 r7 k7 => ?_)
      rw [t1l] at v3
      rw [t64l] at v4
      obtain ⟨s, hs'⟩ := Int.eq_ofNat_of_zero_le (show 0 ≤ v'.toInt by omega)
      have ev' : l2i v' = (s : Int) := by rw [l2i_t (by omega) (by omega)]; exact hs'
      rw [ev', lt_eq]
      refine LK_t ?_
      rw [wp_gI, b7.h37, if_pos rfl]
      refine LK_t ?_
      rw [thing15 (n37 r7) hk12 (by omega)]
      refine LK_t ?_
      rw [RV_2084 (by omega) (by omega), tn]
      have r8 := r7.upz (s' := s)
      have b8 := b7.frU hck (agr.refl.u (a := 2084) (i := 40 * (48 + k) + t) (P := nTh k t) (by unfold nTh; omega) (s : Int)) ht
      have k8 : TK T n σ7 (stA τ7.1 2084 (ups (τ7.1 2084) (40 * (48 + k) + t) (s : Int)), τ7.2) q7 := TK.eq (Or.inl k7) rfl rfl (fun i _ _ => by dsimp only; rw [stA_ne (by decide)]) rfl
      generalize ((stA τ7.1 2084 (ups (τ7.1 2084) (40 * (48 + k) + t) (s : Int)), τ7.2) : St) = τ8 at r8 b8 k8 ⊢
      rw [X15_item_198]
      refine LK_want (a := 93) (b := 35) (by decide) (by decide) (by decide) b8 k8 PT.st r8 FT_206 (fun q9 q10 σ9 τ9 hq9 hq10 _ _ _ b9 r9 k9 => ?_)
      exact thing_join hck hx1 rfl rfl rfl (by decide) hs htw hpsi hbX hbY ht hnm hl r9 b9 (Or.inl k9) (by omega) (by omega) ⟨hw32, ⟨by omega, by omega, fun h => absurd rfl h⟩, fun h => absurd h (by decide), fun _ => rfl⟩
    · rw [if_neg c8, if_neg (by omega)]
      exact thing_join hck hx1 rfl rfl rfl (by omega) hs htw hpsi hbX hbY ht hnm hl r4 b4 k4 (by omega) (by omega) ⟨hw32, ⟨by decide, by decide, fun _ => rfl⟩, fun h => absurd h (by omega), fun _ => rfl⟩
end
