set_option maxRecDepth 100000
set_option maxHeartbeats 400000
/-! ===== read: references ===== -/
section
variable {k t : Nat} {kd wd pt : Nat → Nat} {Mt : Nat → Nat} {Mk Mw : Nat → Nat → Nat}
variable {RD : Nat → Int → Nat → Prop} {WD : Nat → Nat → Prop} {c0 : Nat × Int} {σ0 τ0 : St} {T : Nat → Int} {n op : Nat} {γ δ : Type}
/-- the twin behind a dot -/
noncomputable def segM (re : St → Option (Int × St)) (tgt q i kd x5 : Int) : St → Option (Unit × St) := bd (F_X15_look) fun v19 => if v19 = 1 then (if kd = 5 then (bd (F_X15_thing i) fun v20 => bd (rdI 2086 v20) fun v21 => bd (F_X15_thingOf v21) fun v22 => lt v22 fun x4_23 => if 0 ≤ x4_23 then (bd (F_X15_thing i) fun v24 => bd (rdI 2086 v24) fun v25 => bd (rdI 2082 (w32 ((w32 (40 * (w32 (48 + v25)))) + x4_23))) fun v26 => X15_reference_144 re tgt q i x4_23 x5 v26) else X15_reference_144 re tgt q i x4_23 x5 2) else bd (F_X15_fail 5 q) fun _ => rt ()) else bd (gI 2075 33) fun v27 => bd (F_X15_fail 2 v27) fun _ => rt ()
/-- the twin behind a thing's name -/
noncomputable def refD (re : St → Option (Int × St)) (a1 x2 x3 : Int) : St → Option (Unit × St) := bd (F_X15_look) fun v8 => bd (F_X15_thing x3) fun v10 => bd (rdI 2082 v10) fun v11 => if v8 = 38 then (bd (F_X15_take) fun _ => segM re a1 x2 x3 v11 (-1)) else if v8 = 32 then (if v11 = 4 then (bd (F_X15_opens) fun v13 => if v13 = 0 then (rt ()) else bd (F_X15_take) fun _ => bd (re) fun v14 => bd (F_X15_must 33) fun v16 => bd (gI 2075 36) fun v18 => bd (pI 2075 36 (w32 (v18 - 1))) fun _ => X15_reference_276 re x3 (-1) v14) else bd (F_X15_fail 5 x2) fun _ => rt ()) else if v8 < 0 then (X15_reference_276 re x3 (-1) (-1)) else if 4 ≤ v11 then (X15_reference_269 re x2) else if a1 = 0 then (X15_reference_276 re x3 (-1) (-1)) else if v11 = 0 then (X15_reference_269 re x2) else X15_reference_276 re x3 (-1) (-1)
theorem ref_eq {re : St → Option (Int × St)} {a1 : Int} : F_X15_reference re a1 = bd (gI 2075 33) fun v1 => bd (gI 2075 37) fun v3 => bd (F_X15_thingOf v3) fun v4 => if 0 ≤ v4 then (bd (F_X15_take) fun _ => refD re a1 v1 v4) else bd (F_X15_fail 4 v1) fun _ => rt () := by
  rw [F_X15_reference]
  unfold refD segM
  simp only [lt]
theorem FT_thing {B : δ → Prop} {i : Int} {g : Int → St → Option (δ × St)} (hc : c0.2 = 12) (hi : 0 ≤ i ∧ i < 40) (h : ∀ v, 0 ≤ v ∧ v < 2400 → FTw c0 B (g v)) : FTw c0 B (bd (F_X15_thing i) g) := fun τ h1 h3 => by
  rw [wp_bd, F_X15_thing, wp_bd, wp_gI, wp_rt]
  have e : w32 (w32 (40 * w32 (48 + τ.1 2075 37)) + i) = 40 * (48 + τ.1 2075 37) + i := by rw [w32_i (x := 48 + τ.1 2075 37) (by omega) (by omega), w32_i (x := 40 * (48 + τ.1 2075 37)) (by omega) (by omega), w32_i (by omega) (by omega)]
  rw [e]
  exact h _ (by omega) τ h1 h3
theorem FT_276 {B : δ → Prop} {re : St → Option (Int × St)} {a b c : Int} {g : Unit → St → Option (δ × St)} (h : FTw c0 B (g ())) : FTw c0 B (bd (X15_reference_276 re a b c) g) := by
  rw [X15_reference_276]
  simp only [bd_as, bd_rt]
  exact FT_pI (by decide) (FT_pI (by decide) (FT_pI (by decide) h))
theorem FT_269 {B : δ → Prop} {re : St → Option (Int × St)} {a : Int} {g : Unit → St → Option (δ × St)} (h : FTw c0 B (g ())) : FTw c0 B (bd (X15_reference_269 re a) g) := by
  rw [X15_reference_269]
  simp only [bd_as, bd_rt]
  exact FT_fail h
theorem FT_segM {re : St → Option (Int × St)} {tgt q i kd x5 : Int} : FTw c0 (fun _ : Unit => True) (segM re tgt q i kd x5) := by
  unfold segM
  refine FT_bd FT_look (fun y hy => ?_)
  subst hy
  rw [if_neg (by decide)]
  exact FT_gI (fun v => FT_fail (FT_rt trivial))
/-- a reference: a thing, a port or a word -/
theorem refcore {σ τ : St} {i j p q N s t0 : Nat} {G : NG} {tgt : Int} {B' : δ → Prop} {ec : St → Option ((Int ⊕ XV) × St)} {re : St → Option (Int × St)} {CP CA : Int → St → Option ((γ ⊕ XV) × St)} {CN : St → Option ((γ ⊕ XV) × St)} {h : Unit → St → Option (δ × St)} {P : γ → δ → St → St → Prop} (hc0 : c0.2 = 12) (ht01 : tgt = 0 ∧ t0 = 1 ∨ tgt = 1 ∧ t0 = 0) (hop : op ≤ 20) (hexp : op < 20 → XS (VE k t kd wd pt Mt Mk Mw) RD WD c0 σ0 τ0 T n (op + 1) ec re) (hi : i < t) (hb : BS c0 σ0 τ0 T n σ τ) (hx : EX0 (VE k t kd wd pt Mt Mk Mw) RD WD G N j op p σ τ) (hk : TK T n σ τ (p + s)) (fth : FTw c0 B' (h ()))
  (hP : ∀ (m : Nat) q' σ' τ', p + s < q' → kd i = 5 → m < Mt (pt i) → Mk (pt i) m = t0 → agr nEX σ σ' → agr nEY τ τ' → BS c0 σ0 τ0 T n σ' τ' → EX0 (VE k t kd wd pt Mt Mk Mw) RD WD G N j op p σ' τ' → TK T n σ' τ' q' → (τ'.1 2075 55 = (i : Int) ∧ τ'.1 2075 56 = (m : Int) ∧ τ'.1 2075 57 = -1) → LK c0 σ0 τ0 B' (CP (m : Int)) (h ()) σ' τ' P)
  (hA : ∀ p' G' N' σ' τ', p < p' → N < N' → kd i = 4 → agr nEX σ σ' → agr nEY τ τ' → BS c0 σ0 τ0 T n σ' τ' → EX0 (VE k t kd wd pt Mt Mk Mw) RD WD G' N' j op p' σ' τ' → TK T n σ' τ' (p' + s + 1) → (∀ x, x < N → gAt G G' x) → gF G' (N' - 1) = N → (τ'.1 2075 55 = (i : Int) ∧ τ'.1 2075 56 = -1 ∧ τ'.1 2075 57 = ((N' - 1 : Nat) : Int)) → LK c0 σ0 τ0 B' (CA ((N' - 1 : Nat) : Int)) (h ()) σ' τ' P)
  (hN : ∀ q' σ' τ', p + s ≤ q' → kd i ≤ 3 → ¬ (tgt = 1 ∧ kd i = 0) → agr nEX σ σ' → agr nEY τ τ' → BS c0 σ0 τ0 T n σ' τ' → EX0 (VE k t kd wd pt Mt Mk Mw) RD WD G N j op p σ' τ' → TKp T n σ' τ' q' → (τ'.1 2075 55 = (i : Int) ∧ τ'.1 2075 56 = -1 ∧ τ'.1 2075 57 = -1) → LK c0 σ0 τ0 B' CN (h ()) σ' τ' P)
  (hNo : (4 ≤ kd i ∨ tgt = 1 ∧ kd i = 0) → CN = thw (0, 5, (q : Int))) : LK c0 σ0 τ0 B' (bdE F_X1_look fun v7 => if v7 = 46 then (bd F_X1_pass fun _ => bdE (F_X1_port (i : Int) (q : Int) tgt) CP) else bd (gI 2 5) fun v8 => if v8 = 40 then (if (kd i : Int) = 4 then (bdE F_X1_nest fun _ => bdE ec fun v11 => bdE (F_X1_want 41) fun v13 => bd (gI 2 9) fun v15 => bd (pI 2 9 (w32 (v15 - 1))) fun _ => CA v11) else thw (0, 5, (q : Int))) else CN) (bd (refD re tgt (q : Int) (i : Int)) h) σ τ P := by
  have hv0 := hx.1
  have ht40 := hv0.2.2.1.1.2.2
  have hk12 := hv0.1
  have hkd5 : kd i ≤ 5 := by
    have h9 : 0 ≤ σ.1 9 i ∧ σ.1 9 i ≤ 5 := (hv0.2.2.1.2 i hi).2.1.2
    have := (hv0.2.2.2.1 i hi).1.1
    omega
  rw [refD]
  simp only [bd_as, bd_ite, bd_rt]
  refine LK_look hb hk (EX0.st VE.st) hx ?_ (fun q1 σ1 τ1 hq e1 e2 b1 x1 k1 hin => ?_)
  · refine FT_thing hc0 (by omega) (fun v hv => ?_)
    refine FT_rd 2400 (fun h1 h2 => RI_2082 h1 h2) hv (fun v11 => ?_)
    rw [if_neg (by decide), if_neg (by decide), if_pos (by decide)]
    exact FT_276 fth
  · have hv := x1.1
    obtain ⟨v1, ⟨v2, v3⟩, v4, v5, v6⟩ := id hv
    have hkm := km_R _ hin
    refine LK_t ?_
    rw [thing15 v3 (by omega) (by omega)]
    refine LK_t ?_
    rw [RI_2082 (by omega) (by omega), tn, ← (v4.2 i hi).2.1.1, show σ1.1 (5 + 4) i = (kd i : Int) from (v5 i hi).1.1]
    by_cases c46 : tkK T n q1 = 46
    · rw [if_pos c46, if_pos ((km_eq hin (a := 46) (b := 38) (by decide)).mpr c46)]
      refine LK_pass b1 k1 (by rw [c46]; decide) (EX0.st VE.st) x1 (fun q2 σ2 τ2 hq2 _ w1 w2 b2 x2 k2 _ => ?_)
      refine LK_bd (B := fun _ : Unit => True) ?_ (fun _ _ => fth)
      have k2' : TK T n σ2 τ2 (p + (q2 - p)) := by rw [show p + (q2 - p) = q2 by omega]; exact Or.inl k2
      refine port_LK ht01 hi b2 x2 k2' (fun m q' σ' τ' y1 y2 y3 y4 y5 y6 y7 y8 y9 y10 => hP m q' σ' τ' (by omega) y2 y3 y4 (((agr_nEX (agr_kX9 e1)).trans (agr_nEX (agr_kX9 w1))).trans (agr_nEX (agr_kX9 y5))) (((agr_nEY (agr_kY6 e2)).trans (agr_nEY (agr_kY6 w2))).trans y6) y7 y8 y9 y10)
    · rw [if_neg c46, if_neg (fun z => c46 ((km_eq hin (a := 46) (b := 38) (by decide)).mp z))]
      refine LK_c ?_
      rw [wp_gI, k1.k5]
      by_cases c40 : tkK T n q1 = 40
      · rw [if_pos c40, if_pos ((km_eq hin (a := 40) (b := 32) (by decide)).mpr c40)]
        by_cases c4 : kd i = 4
        · rw [if_pos (by omega), if_pos (by omega)]
          refine LK_nest b1 k1 (by rw [c40]; decide) hop x1.2.2.2.1.2.1 x1.2.2.2.1.2.2 fth (fun q2 σ2 τ2 hq2 hop2 w1 w2 b2 o1 o2 k2 => ?_)
          have x2 := x1.fr9 VE.st w1 w2 (by omega) o1 o2
          have k2' : TK T n σ2 τ2 ((q2 - s - 1) + (s + 1)) := by rw [show (q2 - s - 1) + (s + 1) = q2 by omega]; exact Or.inl k2
          refine LK_bd (LK_mono ((hexp hop2).1 σ2 τ2 (q2 - s - 1) (s + 1) G N j b2 (x2.le (by omega)) k2') ?_) (fun y hy => ?_)
          · rintro r y σ3 τ3 ⟨p3, G3, M, ⟨hp3, hM⟩, rfl, rfl, f3, f4, b3, x3, k3, hG3, hF3⟩
            refine LK_want (a := 41) (b := 33) (by decide) (by decide) (by decide) b3 k3 (EX0.st VE.st) x3 (FT_gI (fun v => FT_pI (by decide) (FT_276 fth))) (fun q5 q6 σ5 τ5 hq5 hq6 _ g1 g2 b5 x5 k5 => ?_)
            refine LK_closeK VE.st b5 (Or.inl k5) x5 (fun σ6 τ6 u1 u2 b6 k6 x6 => LK_t ?_)
            rw [ref276]
            have k6' : TK T n σ6 τ6 ((q6 - s - 1) + s + 1) := by rw [show (q6 - s - 1) + s + 1 = q6 by omega]; exact k6
            refine hA (q6 - s - 1) G3 M σ6 _ (by omega) hM c4 ((((((agr_nEX (agr_kX9 e1)).trans (agr_nEX w1)).trans f3).trans (agr_nEX (agr_kX9 g1))).trans (agr_nEX u1))) (((((((agr_nEY (agr_kY6 e2)).trans (agr_nEY w2)).trans f4).trans (agr_nEY (agr_kY6 g2))).trans (agr_nEY u2))).trans r57_agr) b6.r57 ((x6.le (by omega)).r57 VE.st) (TK.r57 k6') hG3 hF3 r57_v
          · refine FT_bd (FT_must (by decide)) (fun z hz => ?_)
            exact FT_gI (fun v => FT_pI (by decide) (FT_276 fth))
        · rw [if_neg (by omega), if_neg (by omega)]
          exact LK_flt (n' := 5) (by decide) b1 rfl fth
      · rw [if_neg c40, if_neg (fun z => c40 ((km_eq hin (a := 40) (b := 32) (by decide)).mp z)), if_neg (by omega)]
        have bad : (4 ≤ kd i ∨ tgt = 1 ∧ kd i = 0) → LK c0 σ0 τ0 B' CN (bd (X15_reference_269 re (q : Int)) h) σ1 τ1 P := by
          intro z
          rw [hNo z, X15_reference_269]
          simp only [bd_as, bd_rt]
          exact LK_flt (n' := 5) (by decide) b1 rfl fth
        have good : kd i ≤ 3 → ¬ (tgt = 1 ∧ kd i = 0) → LK c0 σ0 τ0 B' CN (bd (X15_reference_276 re (i : Int) (-1) (-1)) h) σ1 τ1 P := by
          intro z1 z2
          refine LK_t ?_
          rw [ref276]
          have k1' : TKp T n σ1 (r57 τ1 (i : Int) (-1) (-1)) q1 := by
            obtain ⟨h1, h2, h3, t1, t2, t3, t4, t5, t6⟩ := k1
            refine ⟨h1, h2, h3, ?_, ?_, ?_, ?_, ?_, t6⟩ <;> rw [r57_lt (by decide)] <;> assumption
          exact hN q1 σ1 _ hq z1 z2 (agr_nEX (agr_kX9 e1)) ((agr_nEY (agr_kY6 e2)).trans r57_agr) b1.r57 (x1.r57 VE.st) k1' r57_v
        by_cases c4 : 4 ≤ kd i
        · rw [if_pos (by omega)]; exact bad (Or.inl c4)
        · rw [if_neg (by omega)]
          rcases ht01 with ⟨z1, z2⟩ | ⟨z1, z2⟩
          · rw [if_pos z1]; exact good (by omega) (fun w => by omega)
          · rw [if_neg (by omega)]
            by_cases c0' : kd i = 0
            · rw [if_pos (by omega)]; exact bad (Or.inr ⟨z1, c0'⟩)
            · rw [if_neg (by omega)]; exact good (by omega) (fun w => c0' w.2)
end
