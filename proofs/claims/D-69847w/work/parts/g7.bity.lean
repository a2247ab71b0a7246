set_option maxRecDepth 100000
set_option maxHeartbeats 400000
/-! ===== bits: more loops of the component ===== -/
noncomputable def cpS (lv op : Nat) (x y : Nat → Nat) (j s : Nat) (B : NB) : Nat × NB := let t := xorB lv (x j) (y j) B; if op = 15 then muxB lv t.1 (y j) s t.2 else andB lv s (ng t.1) t.2
noncomputable def isS1 (lv k : Nat) (x : Nat → Nat) (j s : Nat) (B : NB) : Nat × NB := let t := xorB lv (x j) (if k.testBit j = true then 1 else 0) B; andB lv s (ng t.1) t.2
section
variable {lv op j s k : Nat} {x y : Nat → Nat} {B : NB}
theorem cpS_y (e : op = 15) : cpS lv op x y j s B = muxB lv (xorB lv (x j) (y j) B).1 (y j) s (xorB lv (x j) (y j) B).2 := if_pos e
theorem cpS_n (e : ¬ op = 15) : cpS lv op x y j s B = andB lv s (ng (xorB lv (x j) (y j) B).1) (xorB lv (x j) (y j) B).2 := if_neg e
theorem fl_cpS' (h : flB B) : flB (cpS lv op x y j s B).2 := fl_cpS h
theorem ltB_lt {x : Nat} (hB : wfB lv B) (hl : lv ≤ 264) (h : ltB lv B x) : x < 2147483648 := by have := ltB_b hB hl h; omega
theorem shL_1 {w : Nat} {p : Nat → Nat} (e : op = 20) (h : j < 2 ^ s) : shL op w s p j = 0 := by unfold shL; rw [if_pos e, if_pos h]
theorem shL_2 {w : Nat} {p : Nat → Nat} (e : op = 20) (h : ¬ j < 2 ^ s) : shL op w s p j = p (j - 2 ^ s) := by unfold shL; rw [if_pos e, if_neg h]
theorem shL_3 {w : Nat} {p : Nat → Nat} (e : ¬ op = 20) (h : j + 2 ^ s < w) : shL op w s p j = p (j + 2 ^ s) := by unfold shL; rw [if_neg e, if_pos h]
theorem shL_4 {w : Nat} {p : Nat → Nat} (e : ¬ op = 20) (h : ¬ j + 2 ^ s < w) : shL op w s p j = 0 := by unfold shL; rw [if_neg e, if_neg h]
theorem shL_lt {w : Nat} {p : Nat → Nat} (hp : ltA lv B w p) (hj : j < w) : ltB lv B (shL op w s p j) := by
  by_cases e : op = 20
  · by_cases h : j < 2 ^ s
    · rw [shL_1 e h]; exact ltB0
    · rw [shL_2 e h]; exact hp _ (Nat.lt_of_le_of_lt (Nat.sub_le _ _) hj)
  · by_cases h : j + 2 ^ s < w
    · rw [shL_3 e h]; exact hp _ h
    · rw [shL_4 e h]; exact ltB0
theorem ltBb {c : Bool} : ltB lv B (if c = true then 1 else 0) := by
  split
  · exact ltB1
  · exact ltB0
end
section
variable {n i l : Nat} {σ0 σ : St} {B : NB} {E : XV → St → Prop}
theorem sh1X (hn : isN n) (hi : i ≤ 64 ∧ l ≤ 200) (h : KX n i l σ0 σ B) {op b wb to w s : Nat} {y o : Nat → Nat} {c0 : Nat → Int} (hw : w ≤ 32) (hs : s < 32) (hop : op = 20 ∨ op = 21) (ho : ltA (i + l) B w o) (hy : ltB (i + l) B (y s)) (hb : b + s < to ∧ c0 (b + s) = (y s : Int)) (hc : CE c0 (σ.1 45) to w w o) (h47 : ∀ j, j < w → σ.1 47 j = (o j : Int)) (hto : to + w ≤ 776000) {Q : Unit → St → Prop} (hE : ∀ τ, flB (mpB (fun j B => muxB (i + l) (y s) (shL op w s o j) (o j) B) w o B).2 → FKX n σ0 τ → E (1, 0, 0) τ) {rec : Int → Int → Int → Int → Int → Int → St → Option ((Unit ⊕ XV) × St)} (hQ : ∀ τ, KX n i l σ0 τ (mpB (fun j B => muxB (i + l) (y s) (shL op w s o j) (o j) B) w o B).2 → CE c0 (τ.1 45) to w w (mpB (fun j B => muxB (i + l) (y s) (shL op w s o j) (o j) B) w o B).1 → wpE (X3_shift_169 rec (op : Int) (b : Int) (wb : Int) (to : Int) (w : Int) (s : Int)) τ Q E) : wpE (X3_shift_64 rec FU (op : Int) (b : Int) (wb : Int) (to : Int) (w : Int) (s : Int) 0) σ Q E := by
  have hF := FU_ge
  have hp := Nat.two_pow_pos s
  have hp2 : 2 ^ s ≤ 2147483648 := p2le (k := 31) (by omega)
  refine lpX (f := fun j o' B => (ups o' j (muxB (i + l) (y s) (shL op w s o j) (o j) B).1, (muxB (i + l) (y s) (shL op w s o j) (o j) B).2)) (x0 := o) (B0 := B) (w := w) (L := fun m j _ => X3_shift_64 rec m (op : Int) (b : Int) (wb : Int) (to : Int) (w : Int) (s : Int) (j : Int)) (I := fun j o' B' τ => KX n i l σ0 τ B' ∧ goB (i + l) B B' ∧ CE c0 (τ.1 45) to w w o' ∧ τ.1 47 = σ.1 47) (FR := FKX n σ0) (fun j _ B' hf => fl_mux hf) hE ?_ ?_ (show w < FU by omega) ⟨h, goB.refl h.2.1, hc, rfl⟩
  · rintro m j o' B' τ hj ⟨k1, k2, k4, k5⟩ hE' ih
    show wpE (X3_shift_64 rec (m + 1) (op : Int) (b : Int) (wb : Int) (to : Int) (w : Int) (s : Int) (j : Int)) τ Q E
    have go : wpE (X3_shift_126 rec (X3_shift_64 rec m) (op : Int) (b : Int) (wb : Int) (to : Int) (w : Int) (s : Int) (j : Int) (shL op w s o j : Int)) τ Q E := by
      rw [X3_shift_126, wpE_lt, wpE_bd, wN (by omega), RI_45 (by omega) (by omega), tn, k4.1 (b + s) (by omega), hb.2, wpE_bd, RI_47 (by omega) (by omega), tn, k5, h47 j hj]
      refine kMux hn hi k1 (k2.lt hy) (k2.lt (shL_lt ho hj)) (k2.lt (ho j hj)) hE' (fun υ a1 a2 a3 a4 a5 => ?_)
      rw [wpE_bd, wN (by omega), RV_45 (by omega) (by omega), tn, wpE_lt, wN1 (by omega)]
      exact ih _ ⟨a1.w hn (Or.inl rfl), k2.trans a2, by dsimp only; rw [stA_eq, a4]; exact k4.set hj, by dsimp only; rw [stA_ne (by decide), a5]; exact k5⟩
    have z : (0 : Int64).toInt = 0 := rfl
    have ew : (i2l (w : Int)).toInt = (w : Int) := i2l_t (by omega) (by omega)
    rcases hop with e | e
    · have es := sh_sub (j := j) (s := s) (by omega) hs
      rw [X3_shift_64, wpE_ifn (by omega), wpE_ifp (by omega), X3_shift_96, wpE_lt]
      by_cases c : j < 2 ^ s
      · rw [shL_1 e c] at go
        rw [wpE_ifp (by rw [lcm_neg, es, z]; omega)]
        exact go
      · rw [shL_2 e c] at go
        have e2 : l2i ((i2l (j : Int)) - (lshl 1 (s : Int))) = ((j - 2 ^ s : Nat) : Int) := by rw [l2i_t (by rw [es]; omega) (by rw [es]; omega), es]; omega
        have e3 : lcm ((i2l (j : Int)) - (lshl 1 (s : Int))) (i2l (w : Int)) < 0 := by rw [lcm_neg, es, ew]; omega
        rw [wpE_ifn (by rw [lcm_neg, es, z]; omega), wpE_ifn (by omega), wpE_bd, e2, RI_47 (by omega) (by omega), tn, k5, h47 _ (by omega)]
        exact go
    · have es := sh_add (j := j) (s := s) (by omega) hs
      rw [X3_shift_64, wpE_ifn (by omega), wpE_ifn (by omega), X3_shift_96, wpE_lt, wpE_ifn (by rw [lcm_neg, es, z]; omega)]
      by_cases c : j + 2 ^ s < w
      · rw [shL_3 (by omega) c] at go
        have e2 : l2i ((i2l (j : Int)) + (lshl 1 (s : Int))) = ((j + 2 ^ s : Nat) : Int) := by rw [l2i_t (by rw [es]; omega) (by rw [es]; omega), es]; omega
        have e3 : lcm ((i2l (j : Int)) + (lshl 1 (s : Int))) (i2l (w : Int)) < 0 := by rw [lcm_neg, es, ew]; omega
        rw [wpE_ifn (by omega), wpE_bd, e2, RI_47 (by omega) (by omega), tn, k5, h47 _ (by omega)]
        exact go
      · rw [shL_4 (by omega) c] at go
        have e3 : ¬ lcm ((i2l (j : Int)) + (lshl 1 (s : Int))) (i2l (w : Int)) < 0 := by rw [lcm_neg, es, ew]; omega
        rw [wpE_ifp (by omega)]
        exact go
  · rintro m τ ⟨k1, -, k4, -⟩
    show wpE (X3_shift_64 rec (m + 1) (op : Int) (b : Int) (wb : Int) (to : Int) (w : Int) (s : Int) (w : Int)) τ Q E
    rw [X3_shift_64, wpE_ifp (by omega)]
    exact hQ τ k1 k4
theorem shX (hn : isN n) (hi : i ≤ 64 ∧ l ≤ 200) (h : KX n i l σ0 σ B) {op a b wb to w : Nat} {x y : Nat → Nat} (hw : w ≤ 32) (hwb : wb ≤ 32) (hop : op = 20 ∨ op = 21) (hx : ltA (i + l) B w x) (hy : ltA (i + l) B wb y) (ha : a + w ≤ to ∧ ∀ j, j < w → σ.1 45 (a + j) = (x j : Int)) (hb : b + wb ≤ to ∧ ∀ j, j < wb → σ.1 45 (b + j) = (y j : Int)) (hto : to + w ≤ 776000) (hE : ∀ τ, flB (sfB (i + l) op w wb x y B).2 → FKX n σ0 τ → E (1, 0, 0) τ) {Q : Unit → St → Prop} (hQ : ∀ τ, KX n i l σ0 τ (sfB (i + l) op w wb x y B).2 → CE (σ.1 45) (τ.1 45) to w w (sfB (i + l) op w wb x y B).1 → Q () τ) : wpE (F_X3_shift (op : Int) (a : Int) (b : Int) (wb : Int) (to : Int) (w : Int)) σ Q E := by
  have hF := FU_ge
  rw [F_X3_shift, wpE_lt]
  refine lpNE (w := w) (L := fun m j => X3_shift_3 m (op : Int) (a : Int) (b : Int) (wb : Int) (to : Int) (w : Int) (j : Int)) (I := fun j τ => KX n i l σ0 τ B ∧ CE (σ.1 45) (τ.1 45) to w j x) ?_ ?_ (show w < FU by omega) ⟨h, CE.init⟩
  · rintro m j τ hj ⟨k1, k2⟩ ih
    show wpE (X3_shift_3 (m + 1) (op : Int) (a : Int) (b : Int) (wb : Int) (to : Int) (w : Int) (j : Int)) τ Q E
    rw [X3_shift_3, wpE_ifn (by omega), wpE_bd, wN (by omega), RI_45 (by omega) (by omega), tn, k2.1 _ (by omega), ha.2 j hj, wpE_bd, wN (by omega), RV_45 (by omega) (by omega), tn, wpE_lt, wN1 (by omega)]
    refine ih _ ⟨k1.w hn (Or.inl rfl), ?_⟩
    dsimp only
    rw [stA_eq]
    exact (k2.up hj (v := x j)).o (fun k hk => by unfold ups; split <;> simp_all)
  · rintro m τ ⟨k1, k2⟩
    show wpE (X3_shift_3 (m + 1) (op : Int) (a : Int) (b : Int) (wb : Int) (to : Int) (w : Int) (w : Int)) τ Q E
    rw [X3_shift_3, wpE_ifp (by omega), X3_shift_35, wpE_lt]
    refine lpX (f := fun s o B => mpB (fun j B => muxB (i + l) (y s) (shL op w s o j) (o j) B) w o B) (x0 := x) (B0 := B) (w := wb) (L := fun m j _ => X3_shift_38 m (op : Int) (b : Int) (wb : Int) (to : Int) (w : Int) (j : Int)) (I := fun j o B' τ' => KX n i l σ0 τ' B' ∧ goB (i + l) B B' ∧ ltA (i + l) B' w o ∧ CE (σ.1 45) (τ'.1 45) to w w o) (FR := FKX n σ0) (fun j s B' hf => fl_mp (fun _ _ h => fl_mux h) hf) hE ?_ ?_ (show wb < FU by omega) ⟨k1, goB.refl h.2.1, hx, k2⟩
    · rintro m s o B' τ' hs ⟨j1, j2, j3, j4⟩ hE' ih
      show wpE (X3_shift_38 (m + 1) (op : Int) (b : Int) (wb : Int) (to : Int) (w : Int) (s : Int)) τ' Q E
      have mg := mpB_go (w := w) (o := o) (g := fun j B => muxB (i + l) (y s) (shL op w s o j) (o j) B) j2.1 (fun j B2 hj h2 => okB.go (muxB_ok h2.1 (h2.lt (j2.lt (hy s hs))) (h2.lt (shL_lt j3 hj)) (h2.lt (j3 j hj))))
      rw [X3_shift_38, wpE_ifn (by omega), wpE_bd, c_cpI (t := 1) (m := 776000) (k := 32) (by decide +kernel) (by decide +kernel) (by decide) (by omega) (by omega) (by omega) (by omega) (by omega), wpE_lt]
      refine sh1X hn hi (j1.w hn (Or.inr rfl)) hw (by omega) hop j3 (j2.lt (hy s hs)) ⟨by omega, hb.2 s hs⟩ ?_ (fun j hj => ?_) hto hE' (fun υ a1 a2 => ?_)
      · dsimp only
        rw [stA_ne (by decide)]; exact j4
      · dsimp only
        rw [stA_eq, tn, tn0, tn]
        have := cpy_on (g := τ'.1 45) (sp := to) (h := τ'.1 47) (dp := 0) (n := w) hj
        rw [Nat.zero_add] at this
        rw [this]; exact j4.2 j hj
      · rw [X3_shift_169, wpE_lt, wN1 (by omega)]
        exact ih _ ⟨a1, j2.trans mg.1, mg.2, a2⟩
    · rintro m τ' ⟨j1, j2, j3, j4⟩
      show wpE (X3_shift_38 (m + 1) (op : Int) (b : Int) (wb : Int) (to : Int) (w : Int) (wb : Int)) τ' Q E
      rw [X3_shift_38, wpE_ifp (by omega), wpE_lE, wp_rt]
      exact hQ τ' j1 j4
theorem cpX (hn : isN n) (hi : i ≤ 64 ∧ l ≤ 200) (h : KX n i l σ0 σ B) {op a b w : Nat} {x y : Nat → Nat} (hw : w ≤ 32) (hx : ltA (i + l) B w x) (hy : ltA (i + l) B w y) (ha : a + w ≤ 776000 ∧ ∀ j, j < w → σ.1 45 (a + j) = (x j : Int)) (hb : b + w ≤ 776000 ∧ ∀ j, j < w → σ.1 45 (b + j) = (y j : Int)) (hE : ∀ τ, flB (cpB (i + l) op w x y B).2 → FKX n σ0 τ → E (1, 0, 0) τ) {Q : Int → St → Prop} (hQ : ∀ τ, KX n i l σ0 τ (cpB (i + l) op w x y B).2 → τ.1 45 = σ.1 45 → Q ((cpB (i + l) op w x y B).1 : Int) τ) : wpE (F_X3_compared (op : Int) (a : Int) (b : Int) (w : Int)) σ Q E := by
  have hF := FU_ge
  have main : ∀ s0 : Nat, s0 = (if op = 15 then 0 else 1) → wpE (X3_compared_11 (op : Int) (a : Int) (b : Int) (w : Int) (s0 : Int)) σ Q E := by
    rintro s0 hs0
    have hs1 : ltB (i + l) B s0 := by unfold ltB; rw [hs0]; split <;> omega
    rw [X3_compared_11, wpE_lt, wpE_lt]
    refine lpX (f := cpS (i + l) op x y) (x0 := s0) (B0 := B) (w := w) (L := fun m j s => X3_compared_16 m (op : Int) (a : Int) (b : Int) (w : Int) (s : Int) (j : Int)) (I := fun j s B' τ => KX n i l σ0 τ B' ∧ goB (i + l) B B' ∧ ltB (i + l) B' s ∧ τ.1 45 = σ.1 45) (FR := FKX n σ0) (fun j s B' hf => fl_cpS' hf) (fun τ q => hE τ (by rw [hs0] at q; exact q)) ?_ ?_ (show w < FU by omega) ⟨h, goB.refl h.2.1, hs1, rfl⟩
    · rintro m j s B' τ hj ⟨k1, k2, k3, k4⟩ hE' ih
      show wpE (X3_compared_16 (m + 1) (op : Int) (a : Int) (b : Int) (w : Int) (s : Int) (j : Int)) τ Q E
      rw [X3_compared_16, wpE_ifn (by omega), wpE_bd, wN (by omega), RI_45 (by omega) (by omega), tn, k4, ha.2 j hj, wpE_bd, wN (by omega), RI_45 (by omega) (by omega), tn, k4, hb.2 j hj]
      by_cases e : op = 15
      · rw [cpS_y e] at hE' ih
        refine kXor hn hi k1 (k2.lt (hx j hj)) (k2.lt (hy j hj)) (fun υ q => hE' υ (fl_mux q)) (fun υ a1 a2 a3 a4 a5 => ?_)
        rw [wpE_lt, wpE_ifp (by omega), wpE_bd, RI_45 (by omega) (by omega), tn, a4, k4, hb.2 j hj]
        refine kMux hn hi a1 a3 (a2.lt (k2.lt (hy j hj))) (a2.lt k3) hE' (fun υ2 b1 b2 b3 b4 b5 => ?_)
        rw [X3_compared_92, wpE_lt, wpE_lt, wN1 (by omega)]
        exact ih _ ⟨b1, (k2.trans a2).trans b2, b3, by rw [b4, a4]; exact k4⟩
      · rw [cpS_n e] at hE' ih
        refine kXor hn hi k1 (k2.lt (hx j hj)) (k2.lt (hy j hj)) (fun υ q => hE' υ (fl_and q)) (fun υ a1 a2 a3 a4 a5 => ?_)
        rw [wpE_lt, wpE_ifn (by omega), ixor1 (ltB_lt a1.2.1 (by omega) a3)]
        refine kAnd hn hi a1 (a2.lt k3) (ltB_ng a3) hE' (fun υ2 b1 b2 b3 b4 b5 => ?_)
        rw [X3_compared_92, wpE_lt, wpE_lt, wN1 (by omega)]
        exact ih _ ⟨b1, (k2.trans a2).trans b2, b3, by rw [b4, a4]; exact k4⟩
    · rintro m τ ⟨k1, k2, k3, k4⟩
      have key : ∀ (R : Nat × NB), R = lpB (cpS (i + l) op x y) w 0 s0 B → wpE (X3_compared_16 (m + 1) (op : Int) (a : Int) (b : Int) (w : Int) (R.1 : Int) (w : Int)) τ Q E := by
        rintro R hR
        have hR2 : cpB (i + l) op w x y B = (if op = 14 then ng R.1 else R.1, R.2) := by rw [hR, hs0]; rfl
        rw [← hR] at k1 k3
        rw [hR2] at hQ
        rw [X3_compared_16, wpE_ifp (by omega), X3_compared_100]
        by_cases e : op = 14
        · rw [wpE_ifp (by omega), wpE_lE, wp_rt, ixor1 (ltB_lt k1.2.1 (by omega) k3)]
          have := hQ τ k1 k4
          rw [if_pos e] at this
          exact this
        · rw [wpE_ifn (by omega), wpE_lE, wp_rt]
          have := hQ τ k1 k4
          rw [if_neg e] at this
          exact this
      exact key _ rfl
  rw [F_X3_compared]
  by_cases e : op = 15
  · rw [wpE_ifp (by omega)]; exact main 0 (by rw [if_pos e])
  · rw [wpE_ifn (by omega)]; exact main 1 (by rw [if_neg e])
/-- whether an address is a number -/
theorem isAX (hn : isN n) (hi : i ≤ 64 ∧ l ≤ 200) (h : KX n i l σ0 σ B) {a w k : Nat} {x : Nat → Nat} (hw : w ≤ 32) (hk : k < 64) (hx : ltA (i + l) B w x) (ha : a + w ≤ 776000 ∧ ∀ j, j < w → σ.1 45 (a + j) = (x j : Int)) (hE : ∀ τ, flB (isB (i + l) w k x B).2 → FKX n σ0 τ → E (1, 0, 0) τ) {Q : Int → St → Prop} (hQ : ∀ τ, KX n i l σ0 τ (isB (i + l) w k x B).2 → τ.1 45 = σ.1 45 → Q ((isB (i + l) w k x B).1 : Int) τ) : wpE (F_X3_isAddress (a : Int) (w : Int) (k : Int)) σ Q E := by
  have hF := FU_ge
  have main : k < 2 ^ w → wpE (X3_isAddress_14 (a : Int) (w : Int) (k : Int)) σ Q E := by
    intro hkw
    have hd : isB (i + l) w k x B = lpB (isS1 (i + l) k x) w 0 1 B := if_pos hkw
    rw [hd] at hE hQ
    rw [X3_isAddress_14, wpE_lt, wpE_lt]
    refine lpX (f := isS1 (i + l) k x) (x0 := 1) (B0 := B) (w := w) (L := fun m j s => X3_isAddress_20 m (a : Int) (w : Int) (k : Int) (s : Int) (j : Int)) (I := fun j s B' τ => KX n i l σ0 τ B' ∧ goB (i + l) B B' ∧ ltB (i + l) B' s ∧ τ.1 45 = σ.1 45) (FR := FKX n σ0) (fun j s B' hf => fl_and (fl_xor hf)) hE ?_ ?_ (show w < FU by omega) ⟨h, goB.refl h.2.1, ltB1, rfl⟩
    · rintro m j s B' τ hj ⟨k1, k2, k3, k4⟩ hE' ih
      show wpE (X3_isAddress_20 (m + 1) (a : Int) (w : Int) (k : Int) (s : Int) (j : Int)) τ Q E
      have go : wpE (X3_isAddress_62 (X3_isAddress_20 m) (a : Int) (w : Int) (k : Int) (j : Int) (s : Int) (x j : Int) ((if k.testBit j = true then 1 else 0 : Nat) : Int)) τ Q E := by
        rw [X3_isAddress_62]
        refine kXor hn hi k1 (k2.lt (hx j hj)) ltBb (fun υ q => hE' υ (fl_and q)) (fun υ a1 a2 a3 a4 a5 => ?_)
        rw [ixor1 (ltB_lt a1.2.1 (by omega) a3)]
        refine kAnd hn hi a1 (a2.lt k3) (ltB_ng a3) hE' (fun υ2 b1 b2 b3 b4 b5 => ?_)
        rw [wpE_lt, wpE_lt, wN1 (by omega)]
        exact ih _ ⟨b1, (k2.trans a2).trans b2, b3, by rw [b4, a4]; exact k4⟩
      rw [X3_isAddress_20, wpE_ifn (by omega), wpE_bd, wN (by omega), RI_45 (by omega) (by omega), tn, k4, ha.2 j hj]
      by_cases c : 31 ≤ j
      · have : k.testBit j = false := Nat.testBit_lt_two_pow (Nat.lt_of_lt_of_le (show k < 2 ^ 6 from hk) (Nat.pow_le_pow_right (by decide) (by omega)))
        rw [this] at go
        rw [wpE_ifp (by omega)]
        exact go
      · rw [wpE_ifn (by omega), bit_n (by omega) (by omega)]
        exact go
    · rintro m τ ⟨k1, k2, k3, k4⟩
      show wpE (X3_isAddress_20 (m + 1) (a : Int) (w : Int) (k : Int) _ (w : Int)) τ Q E
      rw [X3_isAddress_20, wpE_ifp (by omega), wpE_lE, wp_rt]
      exact hQ τ k1 k4
  rw [F_X3_isAddress]
  by_cases c : 31 ≤ w
  · rw [wpE_ifp (by omega)]
    exact main (Nat.lt_of_lt_of_le (show k < 2 ^ 6 from hk) (Nat.pow_le_pow_right (by decide) (by omega)))
  · rw [wpE_ifn (by omega)]
    have e := shr_le0 (d := (k : Int)) (k := w) (by omega) (by omega) (by omega)
    by_cases c2 : k < 2 ^ w
    · rw [wpE_ifp (by rw [e]; omega)]; exact main c2
    · rw [wpE_ifn (by rw [e]; omega), wpE_lE, wp_rt]
      have hd : isB (i + l) w k x B = (0, B) := if_neg c2
      rw [hd] at hQ
      exact hQ σ h rfl
end
