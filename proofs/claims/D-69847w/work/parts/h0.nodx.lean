set_option maxRecDepth 100000
set_option maxHeartbeats 400000
/-! ===== bits: the component's nodes ===== -/
theorem ups_id {α : Type} {o : Nat → α} {j : Nat} : ups o j (o j) = o := by
  funext k
  by_cases e : k = j
  · subst e; rw [ups_eq]
  · rw [ups_ne e]
theorem CE.up' {c0 c : Nat → Int} {to w j : Nat} {o : Nat → Nat} (h : CE c0 c to w j o) (hj : j < w) : CE c0 (ups c (to + j) (o j : Int)) to w (j + 1) o := by
  have := h.up hj (v := o j)
  rw [ups_id] at this
  exact this
theorem PL.up' {c0 c : Nat → Int} {p j : Nat} {o : Nat → Nat} (h : PL c0 c p j o) : PL c0 (ups c (p + j) (o j : Int)) p (j + 1) o := by
  have := h.up (v := o j)
  rw [ups_id] at this
  exact this
theorem wpE_end {m : St → Option ((Unit ⊕ XV) × St)} {σ : St} {Q : Unit → St → Prop} {E : XV → St → Prop} : wpE (bdE m fun _ => lE (rt ())) σ Q E = wpE m σ Q E := by
  rw [wpE_bdE]
  congr 1
  funext x τ
  rw [wpE_lE, wp_rt]
section
variable {n i l : Nat} {σ0 σ : St} {B : NB} {E : XV → St → Prop} {Q : Unit → St → Prop}
theorem notX (hn : isN n) (hi : i ≤ 64 ∧ l ≤ 200) (h : KX n i l σ0 σ B) {a to w : Nat} {x : Nat → Nat} (hw : w ≤ 32) (hx : ltA (i + l) B w x) (ha : a + w ≤ to ∧ ∀ j, j < w → σ.1 45 (a + j) = (x j : Int)) (hto : to + w ≤ 776000) (hQ : ∀ τ, KX n i l σ0 τ B → CE (σ.1 45) (τ.1 45) to w w (fun j => ng (x j)) → Q () τ) : wpE (X3_single_59 FU (a : Int) (to : Int) (w : Int) 0) σ Q E := by
  have hF := FU_ge
  refine lpNE (w := w) (L := fun m j => X3_single_59 m (a : Int) (to : Int) (w : Int) (j : Int)) (I := fun j τ => KX n i l σ0 τ B ∧ CE (σ.1 45) (τ.1 45) to w j (fun j => ng (x j))) ?_ ?_ (show w < FU by omega) ⟨h, CE.init⟩
  · rintro m j τ hj ⟨k1, k2⟩ ih
    show wpE (X3_single_59 (m + 1) (a : Int) (to : Int) (w : Int) (j : Int)) τ Q E
    rw [X3_single_59, wpE_ifn (by omega), wpE_bd, wN (by omega), RI_45 (by omega) (by omega), tn, k2.1 _ (by omega), ha.2 j hj, ixor1 (ltB_lt k1.2.1 (by omega) (hx j hj)), wpE_bd, wN (by omega), RV_45 (by omega) (by omega), tn, wpE_lt, wN1 (by omega)]
    exact ih _ ⟨k1.w hn (Or.inl rfl), by dsimp only; rw [stA_eq]; exact k2.up' hj⟩
  · rintro m τ ⟨k1, k2⟩
    show wpE (X3_single_59 (m + 1) (a : Int) (to : Int) (w : Int) (w : Int)) τ Q E
    rw [X3_single_59, wpE_ifp (by omega), wpE_lE, wp_rt]
    exact hQ τ k1 k2
theorem slX (hn : isN n) (h : KX n i l σ0 σ B) {M m a to w lo wa : Nat} {x : Nat → Nat} (hM : isMd M) (hM2 : 100 ≤ M) (hm : m < 240) (r12 : σ.1 (M + 12) m = (lo : Int)) (hw : w ≤ 32) (hlo : lo + w ≤ wa) (ha : a + wa ≤ to ∧ ∀ j, j < wa → σ.1 45 (a + j) = (x j : Int)) (hto : to + w ≤ 776000) (hQ : ∀ τ, KX n i l σ0 τ B → CE (σ.1 45) (τ.1 45) to w w (fun j => x (lo + j)) → Q () τ) : wpE (X3_single_115 FU M (m : Int) (a : Int) (to : Int) (w : Int) 0) σ Q E := by
  have hF := FU_ge
  refine lpNE (w := w) (L := fun f j => X3_single_115 f M (m : Int) (a : Int) (to : Int) (w : Int) (j : Int)) (I := fun j τ => KX n i l σ0 τ B ∧ CE (σ.1 45) (τ.1 45) to w j (fun j => x (lo + j)) ∧ τ.1 (M + 12) m = (lo : Int)) ?_ ?_ (show w < FU by omega) ⟨h, CE.init, r12⟩
  · rintro f j τ hj ⟨k1, k2, k3⟩ ih
    show wpE (X3_single_115 (f + 1) M (m : Int) (a : Int) (to : Int) (w : Int) (j : Int)) τ Q E
    rw [X3_single_115, wpE_ifn (by omega), wpE_bd, MI_12 hM (by omega) (by omega), tn, k3, wpE_bd, wN (by omega), wN (by omega), RI_45 (by omega) (by omega), tn, Nat.add_assoc, k2.1 _ (by omega), ha.2 _ (by omega), wpE_bd, wN (by omega), RV_45 (by omega) (by omega), tn, wpE_lt, wN1 (by omega)]
    exact ih _ ⟨k1.w hn (Or.inl rfl), by dsimp only; rw [stA_eq]; exact k2.up' hj, by dsimp only; rw [stA_ne (by omega)]; exact k3⟩
  · rintro f τ ⟨k1, k2, -⟩
    show wpE (X3_single_115 (f + 1) M (m : Int) (a : Int) (to : Int) (w : Int) (w : Int)) τ Q E
    rw [X3_single_115, wpE_ifp (by omega), wpE_lE, wp_rt]
    exact hQ τ k1 k2
theorem jnX (hn : isN n) (h : KX n i l σ0 σ B) {a b to wa wb w : Nat} {x y : Nat → Nat} (hw : w = wa + wb) (hw2 : w ≤ 32) (ha : a + wa ≤ to ∧ ∀ j, j < wa → σ.1 45 (a + j) = (x j : Int)) (hb : b + wb ≤ to ∧ ∀ j, j < wb → σ.1 45 (b + j) = (y j : Int)) (hto : to + w ≤ 776000) (hQ : ∀ τ, KX n i l σ0 τ B → CE (σ.1 45) (τ.1 45) to w w (fun j => if w - wa ≤ j then x (j - (w - wa)) else y j) → Q () τ) : wpE (X3_single_168 FU (a : Int) (b : Int) (to : Int) (w : Int) (wb : Int) 0) σ Q E := by
  have hF := FU_ge
  refine lpNE (w := w) (L := fun f j => X3_single_168 f (a : Int) (b : Int) (to : Int) (w : Int) (wb : Int) (j : Int)) (I := fun j τ => KX n i l σ0 τ B ∧ CE (σ.1 45) (τ.1 45) to w j (fun j => if w - wa ≤ j then x (j - (w - wa)) else y j)) ?_ ?_ (show w < FU by omega) ⟨h, CE.init⟩
  · rintro f j τ hj ⟨k1, k2⟩ ih
    show wpE (X3_single_168 (f + 1) (a : Int) (b : Int) (to : Int) (w : Int) (wb : Int) (j : Int)) τ Q E
    have go : wpE (X3_single_217 (X3_single_168 f) (a : Int) (b : Int) (to : Int) (w : Int) (wb : Int) (j : Int) (w32 ((to : Int) + (j : Int))) ((if w - wa ≤ j then x (j - (w - wa)) else y j : Nat) : Int)) τ Q E := by
      rw [X3_single_217, wpE_bd, wN (by omega), RV_45 (by omega) (by omega), tn, wpE_lt, wN1 (by omega)]
      exact ih _ ⟨k1.w hn (Or.inl rfl), by dsimp only; rw [stA_eq]; exact k2.up' (o := fun j => if w - wa ≤ j then x (j - (w - wa)) else y j) hj⟩
    rw [X3_single_168, wpE_ifn (by omega)]
    by_cases c : w - wa ≤ j
    · rw [if_pos c] at go
      rw [wpE_ifp (by omega), wpE_bd, wN (a := a) (by omega), w32_i (x := ((a + j : Nat) : Int) - (wb : Int)) (by omega) (by omega), show ((a + j : Nat) : Int) - (wb : Int) = ((a + (j - (w - wa)) : Nat) : Int) by omega, RI_45 (by omega) (by omega), tn, k2.1 _ (by omega), ha.2 _ (by omega)]
      exact go
    · rw [if_neg c] at go
      rw [wpE_ifn (by omega), wpE_bd, wN (a := b) (by omega), RI_45 (by omega) (by omega), tn, k2.1 _ (by omega), hb.2 _ (by omega)]
      exact go
  · rintro f τ ⟨k1, k2⟩
    show wpE (X3_single_168 (f + 1) (a : Int) (b : Int) (to : Int) (w : Int) (wb : Int) (w : Int)) τ Q E
    rw [X3_single_168, wpE_ifp (by omega), wpE_lE, wp_rt]
    exact hQ τ k1 k2
/-- a fold over bits, kinds ALL, ANY, ODD -/
noncomputable def fdG (lv op s v : Nat) (B : NB) : Nat × NB := if op = 5 then andB lv s v B else if op = 6 then orB lv s v B else xorB lv s v B
theorem fl_fd {lv op s v : Nat} {B : NB} (h : flB B) : flB (fdG lv op s v B).2 := by
  unfold fdG
  split
  · exact fl_and h
  · split
    · exact fl_or h
    · exact fl_xor h
theorem rdX (hn : isN n) (hi : i ≤ 64 ∧ l ≤ 200) (h : KX n i l σ0 σ B) {op a to w s0 : Nat} {x : Nat → Nat} (hs0 : s0 ≤ 1) (hw : w ≤ 32) (hx : ltA (i + l) B w x) (ha : a + w ≤ 776000 ∧ ∀ j, j < w → σ.1 45 (a + j) = (x j : Int)) (hto : to + 1 ≤ 776000) (hE : ∀ τ, flB (rdB1 (fdG (i + l) op) w s0 x B).2 → FKX n σ0 τ → E (1, 0, 0) τ) (hQ : ∀ τ, KX n i l σ0 τ (rdB1 (fdG (i + l) op) w s0 x B).2 → CE (σ.1 45) (τ.1 45) to 1 1 (fun _ => (rdB1 (fdG (i + l) op) w s0 x B).1) → Q () τ) : wpE (X3_single_237 (op : Int) (a : Int) (to : Int) (w : Int) (s0 : Int)) σ Q E := by
  have hF := FU_ge
  have hs1 : ltB (i + l) B s0 := by unfold ltB; omega
  rw [X3_single_237, wpE_lt, wpE_lt]
  refine lpX (f := fun j s B => fdG (i + l) op s (x j) B) (x0 := s0) (B0 := B) (w := w) (L := fun f j s => X3_single_242 f (op : Int) (a : Int) (to : Int) (w : Int) (s : Int) (j : Int)) (I := fun j s B' τ => KX n i l σ0 τ B' ∧ goB (i + l) B B' ∧ ltB (i + l) B' s ∧ τ.1 45 = σ.1 45) (FR := FKX n σ0) (fun j s B' hf => fl_fd hf) hE ?_ ?_ (show w < FU by omega) ⟨h, goB.refl h.2.1, hs1, rfl⟩
  · rintro f j s B' τ hj ⟨k1, k2, k3, k4⟩ hE' ih
    show wpE (X3_single_242 (f + 1) (op : Int) (a : Int) (to : Int) (w : Int) (s : Int) (j : Int)) τ Q E
    rw [X3_single_242, wpE_ifn (by omega)]
    have hxj := k2.lt (hx j hj)
    by_cases c5 : op = 5
    · have e : fdG (i + l) op s (x j) B' = andB (i + l) s (x j) B' := if_pos c5
      rw [e] at hE' ih
      rw [wpE_ifp (by omega), wpE_bd, wN (by omega), RI_45 (by omega) (by omega), tn, k4, ha.2 j hj]
      refine kAnd hn hi k1 k3 hxj hE' (fun υ a1 a2 a3 a4 a5 => ?_)
      rw [X3_single_323, wpE_lt, wpE_lt, wN1 (by omega)]
      exact ih _ ⟨a1, k2.trans a2, a3, by rw [a4]; exact k4⟩
    · by_cases c6 : op = 6
      · have e : fdG (i + l) op s (x j) B' = orB (i + l) s (x j) B' := (if_neg c5).trans (if_pos c6)
        rw [e] at hE' ih
        rw [wpE_ifn (by omega), wpE_ifp (by omega), wpE_bd, wN (by omega), RI_45 (by omega) (by omega), tn, k4, ha.2 j hj]
        refine kOr hn hi k1 k3 hxj hE' (fun υ a1 a2 a3 a4 a5 => ?_)
        rw [X3_single_323, wpE_lt, wpE_lt, wN1 (by omega)]
        exact ih _ ⟨a1, k2.trans a2, a3, by rw [a4]; exact k4⟩
      · have e : fdG (i + l) op s (x j) B' = xorB (i + l) s (x j) B' := (if_neg c5).trans (if_neg c6)
        rw [e] at hE' ih
        rw [wpE_ifn (by omega), wpE_ifn (by omega), wpE_bd, wN (by omega), RI_45 (by omega) (by omega), tn, k4, ha.2 j hj]
        refine kXor hn hi k1 k3 hxj hE' (fun υ a1 a2 a3 a4 a5 => ?_)
        rw [X3_single_323, wpE_lt, wpE_lt, wN1 (by omega)]
        exact ih _ ⟨a1, k2.trans a2, a3, by rw [a4]; exact k4⟩
  · rintro f τ ⟨k1, k2, k3, k4⟩
    show wpE (X3_single_242 (f + 1) (op : Int) (a : Int) (to : Int) (w : Int) ((rdB1 (fdG (i + l) op) w s0 x B).1 : Int) (w : Int)) τ Q E
    rw [X3_single_242, wpE_ifp (by omega), X3_single_331, wpE_bd, RV_45 (by omega) (by omega), tn, wpE_lE, wp_rt]
    refine hQ _ (KX.w hn k1 (Or.inl rfl)) ?_
    dsimp only
    rw [stA_eq, k4]
    exact (CE.init (to := to) (w := 1) (o := fun _ => (rdB1 (fdG (i + l) op) w s0 x B).1)).up' (j := 0) (by decide)
/-- bit by bit: OR, XOR, AND -/
noncomputable def bwG (lv op a b : Nat) (B : NB) : Nat × NB := if op = 10 then orB lv a b B else if op = 11 then xorB lv a b B else andB lv a b B
theorem fl_bw {lv op a b : Nat} {B : NB} (h : flB B) : flB (bwG lv op a b B).2 := by
  unfold bwG
  split
  · exact fl_or h
  · split
    · exact fl_xor h
    · exact fl_and h
theorem bwX (hn : isN n) (hi : i ≤ 64 ∧ l ≤ 200) (h : KX n i l σ0 σ B) {op a b to w : Nat} {x y o : Nat → Nat} (hw : w ≤ 32) (hx : ltA (i + l) B w x) (hy : ltA (i + l) B w y) (ha : a + w ≤ to ∧ ∀ j, j < w → σ.1 45 (a + j) = (x j : Int)) (hb : b + w ≤ to ∧ ∀ j, j < w → σ.1 45 (b + j) = (y j : Int)) (hto : to + w ≤ 776000) (hE : ∀ τ, flB (mpB (fun j B => bwG (i + l) op (x j) (y j) B) w o B).2 → FKX n σ0 τ → E (1, 0, 0) τ) (hQ : ∀ τ, KX n i l σ0 τ (mpB (fun j B => bwG (i + l) op (x j) (y j) B) w o B).2 → CE (σ.1 45) (τ.1 45) to w w (mpB (fun j B => bwG (i + l) op (x j) (y j) B) w o B).1 → Q () τ) : wpE (X3_twofold_87 FU (op : Int) (to : Int) (w : Int) (a : Int) (b : Int) 0) σ Q E := by
  have hF := FU_ge
  refine lpX (f := fun j o B => (ups o j (bwG (i + l) op (x j) (y j) B).1, (bwG (i + l) op (x j) (y j) B).2)) (x0 := o) (B0 := B) (w := w) (L := fun f j _ => X3_twofold_87 f (op : Int) (to : Int) (w : Int) (a : Int) (b : Int) (j : Int)) (I := fun j o B' τ => KX n i l σ0 τ B' ∧ goB (i + l) B B' ∧ CE (σ.1 45) (τ.1 45) to w j o) (FR := FKX n σ0) (fun j s B' hf => fl_bw hf) hE ?_ ?_ (show w < FU by omega) ⟨h, goB.refl h.2.1, CE.init⟩
  · rintro f j o' B' τ hj ⟨k1, k2, k3⟩ hE' ih
    show wpE (X3_twofold_87 (f + 1) (op : Int) (to : Int) (w : Int) (a : Int) (b : Int) (j : Int)) τ Q E
    have hxj := k2.lt (hx j hj)
    have hyj := k2.lt (hy j hj)
    have fin : ∀ (R : Nat × NB) υ, R = bwG (i + l) op (x j) (y j) B' → KX n i l σ0 υ R.2 → goB (i + l) B' R.2 → υ.1 45 = τ.1 45 → wpE (bd (wrI 45 (w32 ((to : Int) + (j : Int))) (R.1 : Int)) fun _ => lt (w32 ((j : Int) + 1)) fun x9_4 => (X3_twofold_87 f) (op : Int) (to : Int) (w : Int) (a : Int) (b : Int) x9_4) υ Q E := by
      rintro R υ hR a1 a2 a4
      rw [wpE_bd, wN (by omega), RV_45 (by omega) (by omega), tn, wpE_lt, wN1 (by omega)]
      subst hR
      exact ih _ ⟨a1.w hn (Or.inl rfl), k2.trans a2, by dsimp only; rw [stA_eq, a4]; exact k3.up hj⟩
    rw [X3_twofold_87, wpE_ifn (by omega), wpE_bd, wN (a := a) (by omega), RI_45 (by omega) (by omega), tn, k3.1 _ (by omega), ha.2 j hj, wpE_bd, wN (a := b) (by omega), RI_45 (by omega) (by omega), tn, k3.1 _ (by omega), hb.2 j hj, wpE_bdE, F_X3_bitwise]
    by_cases c10 : op = 10
    · have e : bwG (i + l) op (x j) (y j) B' = orB (i + l) (x j) (y j) B' := if_pos c10
      rw [wpE_ifp (by omega)]
      refine kOr hn hi k1 hxj hyj (by rw [← e]; exact hE') (fun υ a1 a2 a3 a4 a5 => ?_)
      rw [wpE_lE, wp_rt]
      exact fin _ υ e.symm a1 a2 a4
    · by_cases c11 : op = 11
      · have e : bwG (i + l) op (x j) (y j) B' = xorB (i + l) (x j) (y j) B' := (if_neg c10).trans (if_pos c11)
        rw [wpE_ifn (by omega), wpE_ifp (by omega)]
        refine kXor hn hi k1 hxj hyj (by rw [← e]; exact hE') (fun υ a1 a2 a3 a4 a5 => ?_)
        rw [wpE_lE, wp_rt]
        exact fin _ υ e.symm a1 a2 a4
      · have e : bwG (i + l) op (x j) (y j) B' = andB (i + l) (x j) (y j) B' := (if_neg c10).trans (if_neg c11)
        rw [wpE_ifn (by omega), wpE_ifn (by omega)]
        refine kAnd hn hi k1 hxj hyj (by rw [← e]; exact hE') (fun υ a1 a2 a3 a4 a5 => ?_)
        rw [wpE_lE, wp_rt]
        exact fin _ υ e.symm a1 a2 a4
  · rintro f τ ⟨k1, k2, k3⟩
    show wpE (X3_twofold_87 (f + 1) (op : Int) (to : Int) (w : Int) (a : Int) (b : Int) (w : Int)) τ Q E
    rw [X3_twofold_87, wpE_ifp (by omega), wpE_lE, wp_rt]
    exact hQ τ k1 k3
theorem mxX (hn : isN n) (hi : i ≤ 64 ∧ l ≤ 200) (h : KX n i l σ0 σ B) {a b c to w : Nat} {x : Nat} {y z o : Nat → Nat} (hw : w ≤ 32) (hx : ltB (i + l) B x) (hy : ltA (i + l) B w y) (hz : ltA (i + l) B w z) (ha : a < to ∧ σ.1 45 a = (x : Int)) (hb : b + w ≤ to ∧ ∀ j, j < w → σ.1 45 (b + j) = (y j : Int)) (hc : c + w ≤ to ∧ ∀ j, j < w → σ.1 45 (c + j) = (z j : Int)) (hto : to + w ≤ 776000) (hE : ∀ τ, flB (mpB (fun j B => muxB (i + l) x (y j) (z j) B) w o B).2 → FKX n σ0 τ → E (1, 0, 0) τ) (hQ : ∀ τ, KX n i l σ0 τ (mpB (fun j B => muxB (i + l) x (y j) (z j) B) w o B).2 → CE (σ.1 45) (τ.1 45) to w w (mpB (fun j B => muxB (i + l) x (y j) (z j) B) w o B).1 → Q () τ) : wpE (X3_twofold_233 FU (to : Int) (w : Int) (a : Int) (b : Int) (c : Int) 0) σ Q E := by
  have hF := FU_ge
  refine lpX (f := fun j o B => (ups o j (muxB (i + l) x (y j) (z j) B).1, (muxB (i + l) x (y j) (z j) B).2)) (x0 := o) (B0 := B) (w := w) (L := fun f j _ => X3_twofold_233 f (to : Int) (w : Int) (a : Int) (b : Int) (c : Int) (j : Int)) (I := fun j o B' τ => KX n i l σ0 τ B' ∧ goB (i + l) B B' ∧ CE (σ.1 45) (τ.1 45) to w j o) (FR := FKX n σ0) (fun j s B' hf => fl_mux hf) hE ?_ ?_ (show w < FU by omega) ⟨h, goB.refl h.2.1, CE.init⟩
  · rintro f j o' B' τ hj ⟨k1, k2, k3⟩ hE' ih
    show wpE (X3_twofold_233 (f + 1) (to : Int) (w : Int) (a : Int) (b : Int) (c : Int) (j : Int)) τ Q E
    rw [X3_twofold_233, wpE_ifn (by omega), wpE_bd, RI_45 (by omega) (by omega), tn, k3.1 _ (by omega), ha.2, wpE_bd, wN (a := b) (by omega), RI_45 (by omega) (by omega), tn, k3.1 _ (by omega), hb.2 j hj, wpE_bd, wN (a := c) (by omega), RI_45 (by omega) (by omega), tn, k3.1 _ (by omega), hc.2 j hj]
    refine kMux hn hi k1 (k2.lt hx) (k2.lt (hy j hj)) (k2.lt (hz j hj)) hE' (fun υ a1 a2 a3 a4 a5 => ?_)
    rw [wpE_bd, wN (by omega), RV_45 (by omega) (by omega), tn, wpE_lt, wN1 (by omega)]
    exact ih _ ⟨a1.w hn (Or.inl rfl), k2.trans a2, by dsimp only; rw [stA_eq, a4]; exact k3.up hj⟩
  · rintro f τ ⟨k1, k2, k3⟩
    show wpE (X3_twofold_233 (f + 1) (to : Int) (w : Int) (a : Int) (b : Int) (c : Int) (w : Int)) τ Q E
    rw [X3_twofold_233, wpE_ifp (by omega), wpE_lE, wp_rt]
    exact hQ τ k1 k3
end
