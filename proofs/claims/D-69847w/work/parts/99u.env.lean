set_option maxRecDepth 100000
set_option maxHeartbeats 400000
/-! ===== read: what names tell ===== -/
section
variable {α β γ δ : Type}
theorem bd_as {f : St → Option (α × St)} {g : α → St → Option (β × St)} {h : β → St → Option (γ × St)} : bd (bd f g) h = bd f (fun q => bd (g q) h) := by
  funext σ
  unfold bd
  cases f σ <;> rfl
theorem bd_ite {c : Prop} {hd : Decidable c} {a b : St → Option (α × St)} {h : α → St → Option (β × St)} : bd (if c then a else b) h = if c then bd a h else bd b h := by
  by_cases e : c
  · rw [if_pos e, if_pos e]
  · rw [if_neg e, if_neg e]
theorem bd_rt {x : α} {h : α → St → Option (β × St)} : bd (rt x) h = h x := rfl
theorem bd_lt {x : α} {f : α → St → Option (β × St)} {h : β → St → Option (γ × St)} : bd (lt x f) h = bd (f x) h := rfl
theorem bdE_id {f : St → Option ((α ⊕ XV) × St)} : bdE f (fun v => lE (rt v)) = f := by
  funext σ
  unfold bdE lE rt
  rcases f σ with _ | ⟨_ | _, τ⟩ <;> rfl
theorem bd_id {f : St → Option (α × St)} : bd f (fun v => rt v) = f := by
  funext σ
  unfold bd rt
  cases f σ <;> rfl
end
/-- things and modules of both sides, while the module k is read: it has t things, of kinds, widths, parts; module m has Mt m things -/
def VE (k t : Nat) (kd wd pt : Nat → Nat) (Mt : Nat → Nat) (Mk Mw : Nat → Nat → Nat) (σ τ : St) : Prop := k < 12 ∧ (σ.1 2 11 = (k : Int) ∧ τ.1 2075 37 = (k : Int)) ∧ thR σ 5 τ (48 + k) t ∧ (∀ i, i < t → (σ.1 9 i = (kd i : Int) ∧ (kd i ≠ 5 → σ.1 10 i = (wd i : Int))) ∧ (kd i = 5 → pt i < k ∧ σ.1 13 i = (pt i : Int) ∧ τ.1 2086 (40 * (48 + k) + i) = (pt i : Int))) ∧ ∀ m, m < k → σ.2.2 1 m = some (110 + 25 * m) ∧ thR σ (110 + 25 * m) τ (48 + m) (Mt m) ∧ ∀ i, i < Mt m → σ.1 (110 + 25 * m + 4) i = (Mk m i : Int) ∧ (Mk m i ≠ 5 → σ.1 (110 + 25 * m + 5) i = (Mw m i : Int))
def RDk (t : Nat) (kd wd pt : Nat → Nat) (Mt : Nat → Nat) (Mk Mw : Nat → Nat → Nat) (i : Nat) (b : Int) (w : Nat) : Prop := i < t ∧ (b = -1 ∧ kd i ≤ 3 ∧ w = wd i ∨ ∃ p : Nat, b = (p : Int) ∧ kd i = 5 ∧ p < Mt (pt i) ∧ Mk (pt i) p = 1 ∧ w = Mw (pt i) p)
def WDk (t : Nat) (kd wd : Nat → Nat) (i w : Nat) : Prop := i < t ∧ kd i = 4 ∧ w = wd i
theorem thR.fr {σ τ σ' τ' : St} {o S t : Nat} (h : thR σ o τ S t) (e7 : σ'.1 o 7 = σ.1 o 7) (e : ∀ a, o + 2 ≤ a → a ≤ o + 5 → σ'.1 a = σ.1 a) (f : ∀ a, a = 2077 ∨ a = 2082 ∨ a = 2083 ∨ a = 2087 → τ'.1 a = τ.1 a) : thR σ' o τ' S t := by
  unfold thR
  rw [e7, e (o + 2) (by omega) (by omega), e (o + 3) (by omega) (by omega), e (o + 4) (by omega) (by omega), e (o + 5) (by omega) (by omega), f 2077 (by decide), f 2082 (by decide), f 2083 (by decide), f 2087 (by decide)]
  exact h
section
variable {k t : Nat} {kd wd pt : Nat → Nat} {Mt : Nat → Nat} {Mk Mw : Nat → Nat → Nat}
theorem VE.st : StE (VE k t kd wd pt Mt Mk Mw) := by
  intro σ τ σ' τ' e e' h
  obtain ⟨h1, ⟨h2, h3⟩, h4, h5, h6⟩ := h
  have fc : ∀ a, (a = 1 ∨ (7 ≤ a ∧ a ≤ 13) ∨ 110 ≤ a) → σ'.1 a = σ.1 a := fun a ha => funext fun k => (e a k (by unfold nEX; omega)).1
  have ft : ∀ a, a = 2077 ∨ a = 2082 ∨ a = 2083 ∨ a = 2086 ∨ a = 2087 → τ'.1 a = τ.1 a := fun a ha => funext fun k => (e' a k (by unfold nEY; omega)).1
  refine ⟨h1, ⟨by rw [(e 2 11 (by unfold nEX; omega)).1]; exact h2, by rw [(e' 2075 37 (by unfold nEY; omega)).1]; exact h3⟩, h4.fr (e 5 7 (by unfold nEX; omega)).1 (fun a q1 q2 => fc a (by omega)) (fun a q => ft a (by omega)), fun i hi => ?_, fun m hm => ?_⟩
  · rw [fc 9 (by omega), fc 10 (by omega), fc 13 (by omega), ft 2086 (by omega)]; exact h5 i hi
  · obtain ⟨q1, q2, q3⟩ := h6 m hm
    refine ⟨by rw [(e 1 m (by unfold nEX; omega)).2.2]; exact q1, q2.fr (congrFun (fc _ (by omega)) 7) (fun a z1 z2 => fc a (by omega)) (fun a z => ft a (by omega)), fun i hi => ?_⟩
    rw [fc _ (by omega), fc _ (by omega)]; exact q3 i hi
variable {RD : Nat → Int → Nat → Prop} {WD : Nat → Nat → Prop} {c0 : Nat × Int} {σ0 τ0 : St} {T : Nat → Int} {n op : Nat} {γ δ : Type}
theorem thing15 {τ : St} (h : τ.1 2075 37 = (k : Int)) (hk : k < 12) {i : Nat} (hi : i < 100) {Q : Int → St → Prop} : wp (F_X15_thing (i : Int)) τ Q = Q ((40 * (48 + k) + i : Nat) : Int) τ := by
  rw [F_X15_thing, wp_bd, wp_gI, h, wp_rt, w32_i (x := 48 + (k : Int)) (by omega) (by omega), w32_i (x := 40 * (48 + (k : Int))) (by omega) (by omega), w32_i (by omega) (by omega), show 40 * (48 + (k : Int)) + (i : Int) = ((40 * (48 + k) + i : Nat) : Int) by omega]
/-- a told thing: what both sides find -/
theorem told_both {σ τ : St} {q : Nat} (hb : BS c0 σ0 τ0 T n σ τ) (hv : VE k t kd wd pt Mt Mk Mw σ τ) (hk : TKp T n σ τ q) (hK : tkK T n q = 1) : ∃ r : Int, (r = -1 ∨ ∃ i : Nat, r = (i : Int) ∧ i < t) ∧ fnd (nmE T q (tkL T n q) σ 5) t r ∧ (∀ Q : Int → St → Prop, Q r σ → wp (F_X2_find 5 4 (q : Int) (tkL T n q : Int)) σ Q) ∧ ∀ Q : Int → St → Prop, Q r τ → wp (F_X15_thingOf (k : Int)) τ Q :=
  find_both (Or.inl rfl) hb.1 hb.2.1 hv.1 hv.2.2.1 hk.1 hK hk.t33 (hk.t34 (by rw [hK]; decide) (by rw [hK]; decide))
/-- the three words of a reference -/
def r57 (τ : St) (a b c : Int) : St := (stA τ.1 2075 (ups (ups (ups (τ.1 2075) 55 a) 56 b) 57 c), τ.2)
theorem ref276 {τ : St} {re : St → Option (Int × St)} {a b c : Int} {Q : Unit → St → Prop} : wp (X15_reference_276 re a b c) τ Q = Q () (r57 τ a b c) := by
  rw [X15_reference_276, wp_bd, wp_pI, wp_bd, wp_pI, wp_bd, wp_pI, wp_rt]
  unfold r57
  dsimp only
  rw [stA_eq, stA_stA, stA_eq, stA_stA]
theorem r57_agr {τ : St} {a b c : Int} : agr nEY τ (r57 τ a b c) := by
  unfold r57
  refine agr.refl.w (a := 2075) (fun k q => ?_)
  unfold nEY at q
  rw [ups_ne (by omega), ups_ne (by omega), ups_ne (by omega)]
theorem r57_lt {τ : St} {a b c : Int} {i : Nat} (h : i < 55) : (r57 τ a b c).1 2075 i = τ.1 2075 i := by
  unfold r57; dsimp only; rw [stA_eq, ups_ne (by omega), ups_ne (by omega), ups_ne (by omega)]
theorem r57_a {τ : St} {a b c : Int} {x : Nat} (h : x ≠ 2075) : (r57 τ a b c).1 x = τ.1 x := by
  unfold r57; dsimp only; rw [stA_ne h]
theorem r57_v {τ : St} {a b c : Int} : (r57 τ a b c).1 2075 55 = a ∧ (r57 τ a b c).1 2075 56 = b ∧ (r57 τ a b c).1 2075 57 = c := by
  unfold r57; dsimp only; rw [stA_eq]
  refine ⟨?_, ?_, ?_⟩
  · rw [ups_ne (by decide), ups_ne (by decide), ups_eq]
  · rw [ups_ne (by decide), ups_eq]
  · rw [ups_eq]
theorem TK.r57 {σ τ : St} {p : Nat} {a b c : Int} (h : TK T n σ τ p) : TK T n σ (r57 τ a b c) p := by
  rcases h with ⟨h1, h2, h3, h4⟩ | ⟨h1, h2, h3, t1, t2, t3, t4, t5, t6⟩
  · refine Or.inl ⟨h1, h2, ?_, ?_⟩ <;> rw [r57_lt (by decide)] <;> assumption
  · refine Or.inr ⟨h1, h2, h3, ?_, ?_, ?_, ?_, ?_, t6⟩ <;> rw [r57_lt (by decide)] <;> assumption
theorem BS.r57 {σ τ : St} {a b c : Int} (h : BS c0 σ0 τ0 T n σ τ) : BS c0 σ0 τ0 T n σ (r57 τ a b c) := h.frE agr.refl r57_agr (by rw [r57_lt (by decide)]; exact h.2.2.1)
theorem EX0.r57 {V : St → St → Prop} {G : NG} {N j p : Nat} {σ τ : St} {a b c : Int} (hV : StE V) (h : EX0 V RD WD G N j op p σ τ) : EX0 V RD WD G N j op p σ (r57 τ a b c) := by
  obtain ⟨h1, ⟨h2, h3⟩, ⟨ct, h4, h5, h6⟩, h7, h8⟩ := h
  refine ⟨hV _ _ _ _ agr.refl r57_agr h1, ⟨⟨h2.1, by rw [r57_lt (by decide)]; exact h2.2⟩, h3⟩, ⟨ct, by rw [r57_lt (by decide)]; exact h4, h5, h6⟩, ⟨h7.1, h7.2.1, by rw [r57_lt (by decide)]; exact h7.2.2⟩, fun i hi => ⟨?_, (h8 i hi).2⟩⟩
  unfold ndRel
  rw [r57_a (by decide), r57_a (by decide), r57_a (by decide), r57_a (by decide), r57_a (by decide)]
  exact (h8 i hi).1
/-- behind the dot: the port of a part -/
theorem port_LK {σ τ : St} {i j p N q : Nat} {G : NG} {tgt : Int} {s t0 : Nat} (ht01 : tgt = 0 ∧ t0 = 1 ∨ tgt = 1 ∧ t0 = 0) (hi : i < t) (hb : BS c0 σ0 τ0 T n σ τ) (hx : EX0 (VE k t kd wd pt Mt Mk Mw) RD WD G N j op p σ τ) (hk : TK T n σ τ (p + s)) {x5 : Int} {re : St → Option (Int × St)} {P : Int → Unit → St → St → Prop} (go : ∀ (m : Nat) q' σ' τ', p + s < q' → kd i = 5 → m < Mt (pt i) → Mk (pt i) m = t0 → agr kX σ σ' → agr nEY τ τ' → BS c0 σ0 τ0 T n σ' τ' → EX0 (VE k t kd wd pt Mt Mk Mw) RD WD G N j op p σ' τ' → TK T n σ' τ' q' → (τ'.1 2075 55 = (i : Int) ∧ τ'.1 2075 56 = (m : Int) ∧ τ'.1 2075 57 = x5) → P (m : Int) () σ' τ') : LK c0 σ0 τ0 (fun _ : Unit => True) (F_X1_port (i : Int) (q : Int) tgt) (bd (F_X15_look) fun v19 => if v19 = 1 then (if (kd i : Int) = 5 then (bd (F_X15_thing (i : Int)) fun v20 => bd (rdI 2086 v20) fun v21 => bd (F_X15_thingOf v21) fun v22 => lt v22 fun x4_23 => if 0 ≤ x4_23 then (bd (F_X15_thing (i : Int)) fun v24 => bd (rdI 2086 v24) fun v25 => bd (rdI 2082 (w32 ((w32 (40 * (w32 (48 + v25)))) + x4_23))) fun v26 => X15_reference_144 re tgt (q : Int) (i : Int) x4_23 x5 v26) else X15_reference_144 re tgt (q : Int) (i : Int) x4_23 x5 2) else bd (F_X15_fail 5 (q : Int)) fun _ => rt ()) else bd (gI 2075 33) fun v27 => bd (F_X15_fail 2 v27) fun _ => rt ()) σ τ P := by
  have hv0 := hx.1
  have hkd5 : kd i ≤ 5 := by
    have h9 : 0 ≤ σ.1 9 i ∧ σ.1 9 i ≤ 5 := (hv0.2.2.1.2 i hi).2.1.2
    have := (hv0.2.2.2.1 i hi).1.1
    omega
  have hp4 : p + s ≤ 4000 := Nat.le_trans hk.le hb.1.1
  have ht40 := hv0.2.2.1.1.2.2
  rw [F_X1_port]
  refine LK_look hb hk (EX0.st VE.st) hx (by rw [if_neg (by decide)]; exact FT_gI (fun v => FT_fail (FT_rt trivial))) (fun q1 σ1 τ1 hq e1 e2 b1 x1 k1 hin => ?_)
  by_cases c : tkK T n q1 = 1
  · rw [if_pos c, if_pos ((km_eq hin (a := 1) (b := 1) (by decide)).mpr c)]
    have hv := x1.1
    obtain ⟨v1, ⟨v2, v3⟩, v4, v5, v6⟩ := id hv
    refine LK_c ?_
    rw [RI_9 (by omega) (by omega), tn, (v5 i hi).1.1]
    by_cases c5 : kd i = 5
    · obtain ⟨p1, p2, p3⟩ := (v5 i hi).2 c5
      obtain ⟨m1, m2, m3⟩ := v6 (pt i) p1
      have hMd : isMd (110 + 25 * pt i) := isMd_k (by omega)
      rw [if_pos (by omega), if_pos (by omega)]
      refine LK_c ?_
      rw [RI_13 (by omega) (by omega), tn, p2]
      refine LK_c ?_
      rw [RI_1 (by omega) (by omega), tn, m1]
      refine LK_c ?_
      rw [wp_gI, k1.k6]
      refine LK_c ?_
      rw [wp_gI, k1.k7]
      obtain ⟨r, hr, -, f1, f2⟩ := find_both (Or.inr hMd) b1.1 b1.2.1 (show pt i < 12 by omega) m2 k1.1 c k1.t33 (k1.t34 (by rw [c]; decide) (by rw [c]; decide))
      have hnn : nn (some (110 + 25 * pt i)) (fun o7 => ck o7 2 <| bd (F_X2_find o7 4 (q1 : Int) (tkL T n q1 : Int)) fun v10 => lt v10 fun x5_11 => if x5_11 < 0 then (X1_port_96) else bd (rdI (o7 + 4) x5_11) fun v12 => if v12 ≤ 1 then (bd (rdI (o7 + 4) x5_11) fun v13 => if tgt = 0 then (X1_port_126 (q : Int) x5_11 v13 1) else X1_port_126 (q : Int) x5_11 v13 0) else X1_port_96) = ck (110 + 25 * pt i) 2 (bd (F_X2_find (110 + 25 * pt i) 4 (q1 : Int) (tkL T n q1 : Int)) fun v10 => lt v10 fun x5_11 => if x5_11 < 0 then (X1_port_96) else bd (rdI ((110 + 25 * pt i) + 4) x5_11) fun v12 => if v12 ≤ 1 then (bd (rdI ((110 + 25 * pt i) + 4) x5_11) fun v13 => if tgt = 0 then (X1_port_126 (q : Int) x5_11 v13 1) else X1_port_126 (q : Int) x5_11 v13 0) else X1_port_96) := rfl
      rw [hnn]
      unfold LK
      rw [wpE_ck, and_t (ly_Md hMd)]
      show LK c0 σ0 τ0 (fun _ : Unit => True) _ _ σ1 τ1 P
      refine LK_c (f1 _ ?_)
      refine LK_t ?_
      rw [thing15 v3 (by omega) (by omega)]
      refine LK_t ?_
      rw [RI_2086 (by omega) (by omega), tn, p3]
      refine LK_t (f2 _ ?_)
      rw [LK_lc, LK_lt]
      rcases hr with rfl | ⟨m, rfl, hm⟩
      · rw [if_pos (by decide), if_neg (by decide), X15_reference_144, LK_lt, if_neg (by decide), X1_port_96]
        refine LK_c ?_
        rw [wp_gI, k1.k6]
        refine LK_t ?_
        rw [wp_gI, k1.t33]
        exact LK_flt (n' := 4) (by decide) b1 rfl (FT_rt trivial)
      · obtain ⟨n1, n2⟩ := m3 m hm
        have mk := (m2.2 m hm).2.1
        have mt40 := m2.1.2.2
        rw [if_neg (by omega), if_pos (by omega)]
        refine LK_t ?_
        rw [thing15 v3 (by omega) (by omega)]
        refine LK_t ?_
        rw [RI_2086 (by omega) (by omega), tn, p3]
        refine LK_t ?_
        rw [w32_i (x := 48 + (pt i : Int)) (by omega) (by omega), w32_i (x := 40 * (48 + (pt i : Int))) (by omega) (by omega), w32_i (by omega) (by omega), RI_2082 (by omega) (by omega), show (40 * (48 + (pt i : Int)) + (m : Int)).toNat = 40 * (48 + pt i) + m by omega, ← mk.1, n1, X15_reference_144, LK_lt]
        refine LK_c ?_
        rw [MI_4 hMd (by omega) (by omega), tn, n1]
        by_cases c1 : Mk (pt i) m ≤ 1
        · rw [if_pos (by omega), if_pos (by omega)]
          refine LK_c ?_
          rw [MI_4 hMd (by omega) (by omega), tn, n1]
          by_cases c2 : Mk (pt i) m = t0
          · have eC : (if tgt = 0 then (X1_port_126 (q : Int) (m : Int) (Mk (pt i) m : Int) 1) else X1_port_126 (q : Int) (m : Int) (Mk (pt i) m : Int) 0) = bd (F_X1_pass) fun _ => lE (rt (m : Int)) := by
              rcases ht01 with ⟨z1, z2⟩ | ⟨z1, z2⟩
              · rw [if_pos z1, X1_port_126, if_pos (by omega)]
              · rw [if_neg (by omega), X1_port_126, if_pos (by omega)]
            rw [eC]
            refine LK_pass b1 k1 (by rw [c]; decide) (EX0.st VE.st) x1 (fun q2 σ2 τ2 hq2 _ w1 w2 b2 x2 k2 _ => ?_)
            have eT : (if tgt = 0 then (X15_reference_177 re (q : Int) (i : Int) (m : Int) x5 (Mk (pt i) m : Int) 1) else X15_reference_177 re (q : Int) (i : Int) (m : Int) x5 (Mk (pt i) m : Int) 0) = X15_reference_276 re (i : Int) (m : Int) x5 := by
              rcases ht01 with ⟨z1, z2⟩ | ⟨z1, z2⟩
              · rw [if_pos z1, X15_reference_177, if_pos (by omega)]
              · rw [if_neg (by omega), X15_reference_177, if_pos (by omega)]
            rw [eT]
            refine LK_e ?_
            rw [ref276]
            exact go m q2 σ2 _ (by omega) c5 hm c2 (e1.trans w1) (((agr_nEY (agr_kY6 e2)).trans (agr_nEY (agr_kY6 w2))).trans r57_agr) b2.r57 (x2.r57 VE.st) (TK.r57 (Or.inl k2)) r57_v
          · have eC : (if tgt = 0 then (X1_port_126 (q : Int) (m : Int) (Mk (pt i) m : Int) 1) else X1_port_126 (q : Int) (m : Int) (Mk (pt i) m : Int) 0) = thw (0, 5, (q : Int)) := by
              rcases ht01 with ⟨z1, z2⟩ | ⟨z1, z2⟩
              · rw [if_pos z1, X1_port_126, if_neg (by omega)]
              · rw [if_neg (by omega), X1_port_126, if_neg (by omega)]
            have eT : (if tgt = 0 then (X15_reference_177 re (q : Int) (i : Int) (m : Int) x5 (Mk (pt i) m : Int) 1) else X15_reference_177 re (q : Int) (i : Int) (m : Int) x5 (Mk (pt i) m : Int) 0) = bd (F_X15_fail 5 (q : Int)) fun _ => rt () := by
              rcases ht01 with ⟨z1, z2⟩ | ⟨z1, z2⟩
              · rw [if_pos z1, X15_reference_177, if_neg (by omega)]
              · rw [if_neg (by omega), X15_reference_177, if_neg (by omega)]
            rw [eC]
            refine LK_t (take_r k1 (fun τ2 z1 z2 z3 => ?_))
            rw [eT]
            have b2 := b1.fr9 (agr.refl (σ := σ1)) (agr_kY6 z1)
            exact LK_flt (n' := 5) (by decide) b2 rfl (FT_rt trivial)
        · rw [if_neg (by omega), if_neg (by omega), X1_port_96]
          refine LK_c ?_
          rw [wp_gI, k1.k6]
          refine LK_t ?_
          rw [wp_gI, k1.t33]
          exact LK_flt (n' := 4) (by decide) b1 rfl (FT_rt trivial)
    · rw [if_neg (by omega), if_neg (by omega)]
      exact LK_flt (n' := 5) (by decide) b1 rfl (FT_rt trivial)
  · rw [if_neg c, if_neg (fun z => c ((km_eq hin (a := 1) (b := 1) (by decide)).mp z))]
    refine LK_c ?_
    rw [wp_gI, k1.k6]
    refine LK_t ?_
    rw [wp_gI, k1.t33]
    exact LK_flt (n' := 2) (by decide) b1 rfl (FT_rt trivial)
end
