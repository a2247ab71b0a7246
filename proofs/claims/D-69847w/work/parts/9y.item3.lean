set_option maxRecDepth 100000
set_option maxHeartbeats 400000
/-! ===== read: an inst, an item ===== -/
/-- names of modules on both sides -/
def MNR (k : Nat) (σ τ : St) : Prop := ∀ m, m < k → ∃ L : Nat, 1 ≤ L ∧ L ≤ 10 ∧ σ.1 (110 + 25 * m) 29 = (L : Int) ∧ ∀ j, j < 10 → τ.1 2081 (10 * (48 + m) + j) = (if j < L then σ.1 (110 + 25 * m + 1) j else 0) ∧ (j < L → σ.1 (110 + 25 * m + 1) j ≠ 0)
theorem MNR.fr {k : Nat} {σ τ σ' τ' : St} (h : MNR k σ τ) (e : ∀ a, 110 ≤ a → σ'.1 a = σ.1 a) (e' : τ'.1 2081 = τ.1 2081) : MNR k σ' τ' := by
  intro m hm
  rw [e _ (by omega), e _ (by omega), e']
  exact h m hm
section
variable {c0 : Nat × Int} {T : Nat → Int} {n q L k : Nat} {σ τ : St}
theorem mn_iff (hR : MNR k σ τ) {i : Nat} (hi : i < k) (h0 : ∀ j, j < L → T (q + j) ≠ 0) (h10 : L ≤ 10) : mnE T q L σ i ↔ nmT T q L τ 2081 (10 * (48 + i)) := by
  obtain ⟨L', l1, l2, l3, l4⟩ := hR i hi
  constructor
  · rintro ⟨w1, w2⟩ j hj
    have e : L' = L := by omega
    subst e
    rw [(l4 j hj).1]
    by_cases c : j < L'
    · rw [if_pos c, if_pos c]; exact w2 j c
    · rw [if_neg c, if_neg c]
  · intro w
    have e : L' = L := by
      rcases Nat.lt_trichotomy L' L with z | z | z
      · exfalso
        have a := w L' (by omega)
        rw [(l4 L' (by omega)).1, if_neg (Nat.lt_irrefl L'), if_pos z] at a
        exact h0 L' z a.symm
      · exact z
      · exfalso
        have a := w L (by omega)
        have b := l4 L (by omega)
        rw [b.1, if_pos z, if_neg (Nat.lt_irrefl L)] at a
        exact b.2 z a
    subst e
    refine ⟨l3, fun j hj => ?_⟩
    have a := w j (by omega)
    rw [(l4 j (by omega)).1, if_pos hj, if_pos hj] at a
    exact a
theorem mod_both (hc : TXc T n σ) (ht : TXt T n τ) (hk : k ≤ 12) (h11 : σ.1 2 11 = (k : Int)) (hq : ∀ m, m < k → σ.2.2 1 m = some (110 + 25 * m)) (hR : MNR k σ τ) (hqn : q ≤ n) (hK : tkK T n q = 1) (h33 : τ.1 2075 33 = (q : Int)) (h34 : τ.1 2075 34 = (tkL T n q : Int)) : ∃ r : Int, (r = -1 ∨ ∃ i : Nat, r = (i : Int) ∧ i < k) ∧ (∀ Q : Int → St → Prop, Q r σ → wp (F_X1_findModule (q : Int) (tkL T n q : Int)) σ Q) ∧ ∀ Q : Int → St → Prop, Q r τ → wp (F_X15_moduleOf (k : Int)) τ Q := by
  obtain ⟨l1, l2, l3, l4⟩ := nm_tok hqn hK
  obtain ⟨r, hr⟩ := fnd_ex (mnE T q (tkL T n q) σ) k
  refine ⟨r, ?_, fun Q hQ => findModX hk h11 hq hc l3 l2 (fun r' h' => fnd_u hr h' ▸ hQ), fun Q hQ => moduleOfM ht h33 h34 l3 hk (fun r' h' => ?_)⟩
  · rcases hr with ⟨w, _⟩ | ⟨i, w1, w2, _⟩
    · exact Or.inl w
    · exact Or.inr ⟨i, w2, w1⟩
  · have := fnd_congr (fun i hi => (mn_iff hR hi (fun j hj => (l4 j hj).ne) l2).symm) h'
    exact fnd_u hr this ▸ hQ
theorem FT_new {x : Int} (hc : c0.2 ≤ 12) : FTw c0 (fun q : Int => q = 0) (F_X15_newThing x) := by
  rw [F_X15_newThing]
  refine FT_bd FT_look (fun q hq => ?_)
  subst hq
  rw [if_neg (by decide)]
  exact FT_gI (fun v => FT_fail (FT_rt rfl))
theorem item15_eq {a1 : Int} : F_X15_item a1 = if a1 = 1 then (X15_item_11) else if a1 = 17 then (X15_item_11) else bd (F_X15_in (i2l a1) 11 16) fun v1 => if v1 = 0 then (bd (gI 2075 33) fun v9 => bd (F_X15_fail 2 v9) fun _ => rt ()) else bd (F_X15_take) fun _ => bd (F_X15_newThing (w32 ((w32 (a1 - 10)) - 1))) fun v2 => if a1 = 16 then (bd (F_X15_instance v2) fun _ => rt ()) else tailT a1 v2 := by
  rw [F_X15_item]
  unfold tailT
  simp only [lt_eq]
theorem FT_item {a1 : Int} (hc : c0.2 ≤ 12) (h1 : a1 ≠ 1) (h17 : a1 ≠ 17) : FTw c0 (fun _ : Unit => True) (F_X15_item a1) := by
  rw [item15_eq, if_neg h1, if_neg h17]
  refine FT_in (fun v => FT_if (fun _ => FT_gI (fun u => FT_fail (FT_rt trivial))) (fun _ => FT_bd FT_take (fun _ _ => FT_bd (FT_new hc) (fun z hz => ?_))))
  exact FT_if (fun _ => FT_bd FT_inst (fun _ _ => FT_rt trivial)) (fun _ => FT_tailT)
end
/-- the component keeps an inst -/
noncomputable def instC (q L m : Int) : St → Option ((Unit ⊕ XV) × St) := bd (F_X2_addThing 5 4 q L 5 0) fun v8 => bd (wrI 13 v8 m) fun _ => bd (gI 2 15) fun v10 => bd (wrI 31 v8 v10) fun _ => bd (gI 2 15) fun v11 => bd (rdQ 1 m) fun v12 => nn v12 fun o13 => ck o13 2 <| bd (gI o13 7) fun v16 => bd (pI 2 15 (w32 (v11 + v16))) fun _ => lE (rt ())
section
variable {k t : Nat} {kd wd pt ws bg : Nat → Nat} {Mt : Nat → Nat} {Mk Mw : Nat → Nat → Nat}
variable {c0 : Nat × Int} {σ0 τ0 : St} {T : Nat → Int} {n : Nat} {G : NG} {N nC nW nS p p' : Nat} {H : SG} {σ τ σ' τ' σb τb : St} {q L K w P s b m : Nat} {α γ δ : Type}
theorem LK_E {B : δ → Prop} {f : St → Option ((α ⊕ XV) × St)} {f' : α → St → Option ((γ ⊕ XV) × St)} {g : St → Option (δ × St)} {PP : γ → δ → St → St → Prop} (h : wpE f σ (fun r σ' => LK c0 σ0 τ0 B (f' r) g σ' τ PP) (fun _ _ => False)) : LK c0 σ0 τ0 B (bdE f f') g σ τ PP := by
  unfold LK
  rw [wpE_bdE]
  exact wpE_mono h (fun _ _ z => z) (fun _ _ z => z.elim)
theorem instX {E : XV → St → Prop} (h7 : σ.1 5 7 = (t : Int)) (ht : t < 40) (hT : TXc T n σ) (hl : q + L ≤ n) (h10 : L ≤ 10) (h15 : 0 ≤ σ.1 2 15 ∧ σ.1 2 15 ≤ 1600) (hm : m < 12) (hq : σ.2.2 1 m = some (110 + 25 * m)) {M7 : Nat} (hM : σ.1 (110 + 25 * m) 7 = (M7 : Int)) (h40 : M7 ≤ 40) {Q : Unit → St → Prop} (go : ∀ σ', agr (nTX t) σ σ' → σ'.2 = σ.2 → (∀ i, i ≠ 15 → σ'.1 2 i = σ.1 2 i) → (σ'.1 5 7 = ((t + 1 : Nat) : Int) ∧ σ'.1 8 t = (L : Int) ∧ σ'.1 9 t = 5 ∧ σ'.1 10 t = 0 ∧ σ'.1 11 t = 1 ∧ σ'.1 12 t = 0 ∧ ∀ j, j < L → σ'.1 7 (10 * t + j) = T (q + j)) → σ'.1 13 t = (m : Int) → σ'.1 31 t = σ.1 2 15 → σ'.1 2 15 = σ.1 2 15 + (M7 : Int) → Q () σ') : wpE (instC (q : Int) (L : Int) (m : Int)) σ Q E := by
  have hn := hT.1
  unfold instC
  rw [wpE_bd]
  show wp (F_X2_addThing 5 4 (q : Int) (L : Int) ((5 : Nat) : Int) ((0 : Nat) : Int)) σ _
  refine addT h7 ht (by omega) h10 (fun σ1 z1 z2 z3 z4 z5 => ?_)
  obtain ⟨z8, z9, z10, z11, z12⟩ := z5
  have e15 : σ1.1 2 15 = σ.1 2 15 := by rw [z2 2 (by omega)]
  have eM : σ1.1 (110 + 25 * m) 7 = (M7 : Int) := by rw [z2 _ (by omega)]; exact hM
  have eq : σ1.2.2 1 m = some (110 + 25 * m) := by rw [z1]; exact hq
  rw [wpE_bd, RV_13 (by omega) (by omega), tn, wpE_bd, wp_gI, wpE_bd, RV_31 (by omega) (by omega), tn, wpE_bd, wp_gI, wpE_bd, RI_1 (by omega) (by omega), tn]
  dsimp only
  rw [eq, wpE_nn, wpE_ck, and_t (ly_Md (isMd_k hm)), wpE_bd, wp_gI, wpE_bd, wp_pI, wpE_lE, wp_rt]
  dsimp only
  rw [stA_ne (a := 31) (b := 110 + 25 * m) (by omega), stA_ne (a := 13) (b := 110 + 25 * m) (by omega), eM]
  simp (disch := decide) only [stA_ne, e15]
  rw [w32_i (by omega) (by omega)]
  refine go _ (fun a i h => ⟨?_, ?_, ?_⟩) z1 (fun i hi => ?_) ⟨?_, ?_, ?_, ?_, ?_, ?_, fun j hj => ?_⟩ ?_ ?_ ?_
  · unfold nTX at h
    simp only [stA_app, ups_app]
    by_cases c5 : a = 5
    · subst c5
      simp (disch := decide) only [if_neg]
      rw [z3, ups_ne (by omega)]
    · by_cases c7 : a = 7
      · subst c7
        simp (disch := decide) only [if_neg]
        rw [z4]
        unfold cpy
        rw [if_neg (by omega)]
      · by_cases cr : 8 ≤ a ∧ a ≤ 12
        · have : a = 8 ∨ a = 9 ∨ a = 10 ∨ a = 11 ∨ a = 12 := by omega
          rcases this with rfl | rfl | rfl | rfl | rfl
          · simp (disch := decide) only [if_neg]
            rw [z8, ups_ne (by omega)]
          · simp (disch := decide) only [if_neg]
            rw [z9, ups_ne (by omega)]
          · simp (disch := decide) only [if_neg]
            rw [z10, ups_ne (by omega)]
          · simp (disch := decide) only [if_neg]
            rw [z11, ups_ne (by omega)]
          · simp (disch := decide) only [if_neg]
            rw [z12, ups_ne (by omega)]
        · rw [z2 a (by omega), z2 2 (by omega), z2 31 (by omega), z2 13 (by omega)]
          repeat' split
          all_goals first | rfl | (exfalso; omega) | (subst_vars; rfl)
  · dsimp only; rw [z1]
  · dsimp only; rw [z1]
  · simp (disch := omega) only [stA_eq, stA_ne, ups_ne]
    rw [z2 2 (by omega)]
  · simp (disch := decide) only [stA_ne]
    rw [z3, ups_eq]
  · simp (disch := decide) only [stA_ne]
    rw [z8, ups_eq]
  · simp (disch := decide) only [stA_ne]
    rw [z9, ups_eq]; rfl
  · simp (disch := decide) only [stA_ne]
    rw [z10, ups_eq]; rfl
  · simp (disch := decide) only [stA_ne]
    rw [z11, ups_eq]
  · simp (disch := decide) only [stA_ne]
    rw [z12, ups_eq]
  · simp (disch := decide) only [stA_ne]
    rw [z4]
    unfold cpy
    rw [if_pos ⟨by omega, by omega⟩, show q + (10 * t + j - 10 * t) = q + j by omega]
    exact hT.2.2.2.1 _ (by omega)
  · simp (disch := decide) only [stA_ne, stA_eq, ups_eq]
  · simp (disch := decide) only [stA_ne, stA_eq, ups_eq]
  · simp (disch := decide) only [stA_ne, stA_eq, ups_eq]
theorem PT.upp {σs τs : St} {P' : Int} (h : PT T q L k t K w s b σs τs σ τ) : PT T q L k t K w s b σs τs σ (stA τ.1 2086 (ups (τ.1 2086) (40 * (48 + k) + t) P'), τ.2) := by
  obtain ⟨h1, h2, m1, m2, m3, m4, m5, m6⟩ := h
  refine ⟨h1, h2.trans (agr.refl.u (by unfold nTh; omega) _), ?_, ?_, ?_, ?_, m5, fun j hj => ?_⟩
  · simp (disch := decide) only [stA_ne]; exact m1
  · simp (disch := decide) only [stA_ne]; exact m2
  · simp (disch := decide) only [stA_ne]; exact m3
  · simp (disch := decide) only [stA_ne]; exact m4
  · simp (disch := decide) only [stA_ne]; exact m6 j hj
theorem inst1_eq {a1 a2 : Int} : F_X1_inst a1 a2 = bdE (F_X1_want 61) fun _ => bdE (F_X1_look) fun v3 => if v3 = 1 then (bd (gI 2 6) fun v4 => bd (gI 2 7) fun v5 => bd (F_X1_findModule v4 v5) fun v6 => if 0 ≤ v6 then (bd (F_X1_pass) fun _ => instC a1 a2 v6) else bd (gI 2 6) fun v => thw (0, 4, v)) else bd (gI 2 6) fun v => thw (0, 2, v) := by
  rw [F_X1_inst]
  unfold instC
  simp only [lt_eq]
theorem inst15_eq {a1 : Int} : (bd (F_X15_instance a1) fun _ => rt ()) = bd (F_X15_must 41) fun v1 => if v1 = 0 then (rt ()) else bd (F_X15_look) fun v2 => if v2 = 1 then (bd (gI 2075 37) fun v3 => bd (F_X15_moduleOf v3) fun v4 => if 0 ≤ v4 then (bd (F_X15_take) fun _ => bd (F_X15_thing a1) fun v6 => bd (wrI 2086 v6 v4) fun _ => X15_item_206) else bd (gI 2075 33) fun v9 => bd (F_X15_fail 4 v9) fun _ => rt ()) else bd (gI 2075 33) fun v10 => bd (F_X15_fail 2 v10) fun _ => rt () := by
  rw [F_X15_instance, X15_item_206]
  simp only [lt_eq, bd_as, bd_ite, bd_rt']
/-- an inst -/
theorem inst_LK {p0 : Nat} {σs τs : St} (hck : c0.1 ≤ k) (hmn : MNR k σb τb) (hs : SX k t kd wd pt Mt Mk Mw c0 σ0 τ0 T n 0 (-1) 0 [] G N nC nW nS p H σs τs) (htw : TW k t kd wd ws bg σs τs) (hpsi : nW + 2 * nC ≤ 2 * nS) (hbX : agr nIX σb σs) (hbY : agr (nIY k) τb τs) (ht : t < 40) (hnm : 1 ≤ L ∧ L ≤ 10 ∧ ∀ j, j < L → pnz (T (q + j))) (hl : q + L ≤ n) (hP : PT T q L k t 5 0 1 0 σs τs σ τ) (hb : BS c0 σ0 τ0 T n σ τ) (hk : TK T n σ τ p') (hp : p ≤ p') (hp0 : p0 ≤ p') : LK c0 σ0 τ0 (fun _ : Unit => True) (bdE (F_X1_inst (q : Int) (L : Int)) fun _ => X1_item_144) (bd (F_X15_instance (t : Int)) fun _ => rt ()) σ τ (fun _ _ σ' τ' => ∃ p', p0 < p' ∧ IT k Mt Mk Mw c0 σ0 τ0 T n σb τb p' σ' τ' ∧ TK T n σ' τ' p') := by
  obtain ⟨v1, ⟨v2, v3⟩, v4, v5, v6⟩ := hs.2.1.1
  rw [inst1_eq, inst15_eq]
  simp only [bdE_bdE, bdE_bd, bdE_ite, bdE_thw]
  refine LK_want (a := 61) (b := 41) (by decide) (by decide) (by decide) hb hk PT.st hP (by rw [if_pos rfl]; exact FT_rt trivial) (fun q1 q2 σ1 τ1 hq1 hq2 _ _ _ b1 r1 k1 => ?_)
  rw [if_neg (by decide)]
  refine LK_look b1 (Or.inl k1) PT.st r1 (by rw [if_neg (by decide)]; exact FT_gI (fun v => FT_fail (FT_rt trivial))) (fun q3 σ3 τ3 hq3 e1 e2 b3 r3 k3 hin => ?_)
  by_cases c : tkK T n q3 = 1
  · rw [if_pos c, if_pos ((km_eq hin (a := 1) (b := 1) (by decide)).mpr c)]
    refine LK_c ?_
    rw [wp_gI, k3.k6]
    refine LK_c ?_
    rw [wp_gI, k3.k7]
    refine LK_t ?_
    have g37 : τ3.1 2075 37 = (k : Int) := by rw [(r3.2.1 2075 37 (by unfold nTh; omega)).1]; exact v3
    rw [wp_gI, g37]
    have g11 : σ3.1 2 11 = (k : Int) := by rw [(r3.1 2 11 (by unfold kX; omega)).1]; exact v2
    have gq : ∀ m, m < k → σ3.2.2 1 m = some (110 + 25 * m) := fun m hm => by rw [(r3.1 1 m (by unfold kX; omega)).2.2]; exact (v6 m hm).1
    have gX : ∀ a, 110 ≤ a → σ3.1 a = σb.1 a := fun a ha => (r3.1.row (a := a) (fun i => by unfold kX; omega)).trans (hbX.row (a := a) (fun i => by unfold nIX; omega))
    have gY : τ3.1 2081 = τb.1 2081 := (r3.2.1.row (a := 2081) (fun i => by unfold nTh; omega)).trans (hbY.row (a := 2081) (fun i => by unfold nIY; omega))
    have gmn : MNR k σ3 τ3 := hmn.fr gX gY
    obtain ⟨r, hr, f1, f2⟩ := mod_both b3.1 b3.2.1 (by omega) g11 gq gmn k3.1 c k3.t33 (k3.t34 (by rw [c]; decide) (by rw [c]; decide))
    refine LK_c (f1 _ ?_)
    refine LK_t (f2 _ ?_)
    rcases hr with rfl | ⟨m, rfl, hm⟩
    · rw [if_neg (by decide), if_neg (by decide)]
      refine LK_c ?_
      rw [wp_gI, k3.k6]
      refine LK_t ?_
      rw [wp_gI, k3.t33]
      exact LK_flt (n' := 4) (by decide) b3 rfl (FT_rt trivial)
    · rw [if_pos (by omega), if_pos (by omega)]
      obtain ⟨u1, u2, u3⟩ := v6 m hm
      refine LK_pass b3 k3 (by rw [c]; decide) PT.st r3 (fun q5 σ5 τ5 hq5 _ w1 w2 b5 r5 k5 _ => ?_)
      refine LK_t ?_
      have g37' : τ5.1 2075 37 = (k : Int) := by rw [(r5.2.1 2075 37 (by unfold nTh; omega)).1]; exact v3
      rw [thing15 g37' v1 (by omega)]
      refine LK_t ?_
      rw [RV_2086 (by omega) (by omega), tn]
      have r6 := r5.upp (P' := (m : Int))
      have b6 := b5.frU hck (agr.refl.u (a := 2086) (i := 40 * (48 + k) + t) (P := nTh k t) (by unfold nTh; omega) (m : Int)) ht
      have k6 : TK T n σ5 (stA τ5.1 2086 (ups (τ5.1 2086) (40 * (48 + k) + t) (m : Int)), τ5.2) q5 := TK.eq (Or.inl k5) rfl rfl (fun i _ _ => by dsimp only; rw [stA_ne (by decide)]) rfl
      have n86 : ((stA τ5.1 2086 (ups (τ5.1 2086) (40 * (48 + k) + t) (m : Int)), τ5.2) : St).1 2086 (40 * (48 + k) + t) = (m : Int) := by dsimp only; rw [stA_eq, ups_eq]
      generalize ((stA τ5.1 2086 (ups (τ5.1 2086) (40 * (48 + k) + t) (m : Int)), τ5.2) : St) = τ6 at r6 b6 k6 n86 ⊢
      obtain ⟨hX, hY, hR⟩ := r6
      have h7 : σ5.1 5 7 = (t : Int) := by rw [(hX 5 7 (by unfold kX; omega)).1]; exact v4.1.1
      have e15 : σ5.1 2 15 = σs.1 2 15 := (hX 2 15 (by unfold kX; omega)).1
      have h15 := hs.2.2.2.2.1.1
      have hM40 := u2.1.2.2
      refine LK_E (instX (M7 := Mt m) h7 ht b6.1 hl hnm.2.1 (by rw [e15]; exact h15) (by omega) (by rw [(hX 1 m (by unfold kX; omega)).2.2]; exact u1) (by rw [(hX _ 7 (by unfold kX; omega)).1]; exact u2.1.1) hM40 (fun σ' z1 z2 z3 z4 z13 z5 z6 => ?_))
      have aX : agr (nTX t) σs σ' := (agr.sub hX (fun a i h => by unfold nTX at h; unfold kX; omega)).trans z1
      have hb' := b6.frT z1
      have hNT : NT T q L k t 5 0 m 1 0 σs σ' τ6 := ⟨⟨hnm, ⟨z4.1, z4.2.1, z4.2.2.1, z4.2.2.2.1, z4.2.2.2.2.1, by rw [z4.2.2.2.2.2.1]; rfl, z4.2.2.2.2.2.2⟩, by rw [z5, e15]⟩, hR, by decide, fun h => absurd rfl h, ⟨by decide, by decide, fun _ => rfl⟩, fun h => absurd h (by decide), fun _ => rfl⟩
      obtain ⟨h1, h2⟩ := SX_add (p' := q5) hs htw (by omega) ht hb' aX hY hNT (fun _ => ⟨hm, z13, n86⟩) (Or.inr ⟨rfl, by rw [z6, e15], hM40⟩)
      exact item_end ⟨_, _, _, _, _, _, _, _, _, _, _, _, h1, h2, hpsi, hbX.trans (agr.sub aX (fun a i h => by unfold nIX at h; unfold nTX; omega)), hbY.trans (agr.sub hY (fun a i h => by unfold nIY at h; unfold nTh; omega))⟩ (k6.cong (fun i q1 q2 => z3 i (by omega)) z2 (fun _ _ _ => rfl) rfl) (by omega)
  · rw [if_neg c, if_neg (fun z => c ((km_eq hin (a := 1) (b := 1) (by decide)).mp z))]
    refine LK_c ?_
    rw [wp_gI, k3.k6]
    refine LK_t ?_
    rw [wp_gI, k3.t33]
    exact LK_flt (n' := 2) (by decide) b3 rfl (FT_rt trivial)
end
