set_option maxRecDepth 100000
set_option maxHeartbeats 400000
/-! ===== bits: the component makes a node ===== -/
theorem wM {a b : Nat} (h : a * b < 2147483648) : w32 ((a : Int) * (b : Int)) = ((a * b : Nat) : Int) := by
  rw [← Int.natCast_mul, w32_i (by omega) (by omega)]
section
variable {Ms : Nat → ModV} {top : Nat} {s : LYS} {σ0 σ : St} {o n i : Nat} {B : NB} {E : XV → St → Prop} {Q : Unit → St → Prop}
/-- nodes of two parts or three -/
theorem DP.two (hd : DP Ms top s) (hi : i < lsI s) {m : Nat} (hm : m < mdN (moI Ms s i)) (h9 : 9 ≤ gO (gI' Ms s i) m) : ∃ a b : Nat, gA (gI' Ms s i) m = (a : Int) ∧ gB (gI' Ms s i) m = (b : Int) ∧ (gF (gI' Ms s i) m ≤ a ∧ a < m) ∧ (gF (gI' Ms s i) m ≤ b ∧ b < m) ∧ (gO (gI' Ms s i) m = 9 → gW (gI' Ms s i) m = gW (gI' Ms s i) a + gW (gI' Ms s i) b) ∧ (10 ≤ gO (gI' Ms s i) m → gO (gI' Ms s i) m ≤ 18 → gW (gI' Ms s i) a = gW (gI' Ms s i) b) ∧ (13 ≤ gO (gI' Ms s i) m → gO (gI' Ms s i) m ≤ 15 → gW (gI' Ms s i) m = 1) ∧ (10 ≤ gO (gI' Ms s i) m → gO (gI' Ms s i) m ≠ 19 → (gO (gI' Ms s i) m ≤ 12 ∨ 16 ≤ gO (gI' Ms s i) m) → gW (gI' Ms s i) m = gW (gI' Ms s i) a) ∧ (gO (gI' Ms s i) m = 19 → gC (gI' Ms s i) m = ((m - 1 : Nat) : Int) ∧ gW (gI' Ms s i) a = 1 ∧ gW (gI' Ms s i) b = gW (gI' Ms s i) m ∧ gW (gI' Ms s i) (m - 1) = gW (gI' Ms s i) m ∧ gF (gI' Ms s i) m ≤ m - 1 ∧ 0 < m) := by
  obtain ⟨⟨z1, z2, z3, zf⟩, w0, w1, w2, w3, w9, w19⟩ := hd.nod hi hm
  have fl : ∀ k, k < mdN (moI Ms s i) → gF (gI' Ms s i) k ≤ k := fun k hk => (hd.nod hi hk).1.2.2.2
  by_cases c19 : gO (gI' Ms s i) m = 19
  · obtain ⟨a, b, q1, q2, q3, q4, q5, q6, q7, q8, q9, q10⟩ := w19 c19
    clear w0 w1 w2 w3 w9 w19
    have f1 := fl (m - 1) (by omega)
    have f2 := fl b (by omega)
    have f3 := fl a (by omega)
    exact ⟨a, b, q6, q5, ⟨by omega, by omega⟩, ⟨by omega, by omega⟩, fun h => by omega, fun _ h => by omega, fun _ h => by omega, fun _ h => absurd c19 h, fun _ => ⟨q2, q8, q9, q10, by omega, by omega⟩⟩
  · obtain ⟨q1, q2, q3, q4, q5, q6, q7, q8, q9⟩ := w9 h9 c19
    clear w0 w1 w2 w3 w9 w19
    have f1 := fl (m - 1) (by omega)
    have f2 := fl (gF (gI' Ms s i) (m - 1) - 1) (by omega)
    exact ⟨_, _, q4, q2, ⟨by omega, by omega⟩, ⟨by omega, by omega⟩, q6, q7, q8, fun h _ h' => q9 h h', fun h => absurd h c19⟩
theorem wdMX (hd : DP Ms top s) (hD : isD o) (hn : isN n) (hlim : limOK Ms s) (hS : SBX Ms top s o σ) (hK : KX n (inbS Ms s (lsG s)) (keptS Ms s (lsG s)) σ σ B) {g a aw to : Nat} {x : Nat → Nat} (hg : g < lsG s) (h4 : kdS Ms s g = 4) (haw : aw ≤ 32) (hx : ltA (lvD Ms s) B aw x) (ha : a + aw ≤ to ∧ ∀ j, j < aw → σ.1 45 (a + j) = (x j : Int)) (hto : to + wdS Ms s g ≤ 776000) (hE : ∀ τ, flB (wdB (lvD Ms s) (wdS Ms s g) (wsG Ms s g) aw x (stL Ms s g) B).2 → FKX n σ τ → E (1, 0, 0) τ) (hQ : ∀ τ, KX n (inbS Ms s (lsG s)) (keptS Ms s (lsG s)) σ τ (wdB (lvD Ms s) (wdS Ms s g) (wsG Ms s g) aw x (stL Ms s g) B).2 → CE (σ.1 45) (τ.1 45) to (wdS Ms s g) (wdS Ms s g) (wdB (lvD Ms s) (wdS Ms s g) (wsG Ms s g) aw x (stL Ms s g) B).1 → Q () τ) : wpE (F_X3_word (g : Int) (a : Int) (aw : Int) (to : Int) (wdS Ms s g : Int)) σ Q E := by
  have hF := FU_ge
  have hl : inbS Ms s (lsG s) ≤ 64 ∧ keptS Ms s (lsG s) ≤ 200 := ⟨hlim.2.2.1, hlim.1.2⟩
  obtain ⟨s1, s2, s3, s4, ⟨s5, s6⟩, ⟨s7, s8⟩, -⟩ := hd.sig hg
  have hst : ∀ {B' : NB} k j, k < wsG Ms s g → j < wdS Ms s g → wdS Ms s g * k + j < 2048 ∧ ltB (lvD Ms s) B' (stL Ms s g (wdS Ms s g * k + j)) := fun {B'} k j hk hj => by
    have h1 : wdS Ms s g * (k + 1) ≤ wdS Ms s g * wsG Ms s g := Nat.mul_le_mul_left _ hk
    have h2 : wdS Ms s g * wsG Ms s g ≤ 32 * 64 := Nat.mul_le_mul s6 s8
    rw [Nat.mul_succ] at h1
    exact ⟨by omega, stL_lt hg (Or.inr h4) (by unfold szG; omega)⟩
  generalize hw : wdS Ms s g = w at *
  rw [F_X3_word, wpE_lt]
  refine lpNE (w := w) (L := fun f j => X3_word_3 f (g : Int) (a : Int) (aw : Int) (to : Int) (w : Int) (j : Int)) (I := fun j τ => KX n (inbS Ms s (lsG s)) (keptS Ms s (lsG s)) σ τ B ∧ CE (σ.1 45) (τ.1 45) to w j (fun _ => 0)) ?_ ?_ (show w < FU by omega) ⟨hK, CE.init⟩
  · rintro f j τ hj ⟨k1, k2⟩ ih
    show wpE (X3_word_3 (f + 1) (g : Int) (a : Int) (aw : Int) (to : Int) (w : Int) (j : Int)) τ Q E
    rw [X3_word_3, wpE_ifn (by omega), wpE_bd, wN (by omega), RV_45 (by omega) (by omega), tn, wpE_lt, wN1 (by omega)]
    exact ih _ ⟨k1.w hn (Or.inl rfl), by dsimp only; rw [stA_eq]; exact k2.up' (o := fun _ => 0) hj⟩
  · rintro f τ ⟨k1, k2⟩
    show wpE (X3_word_3 (f + 1) (g : Int) (a : Int) (aw : Int) (to : Int) (w : Int) (w : Int)) τ Q E
    rw [X3_word_3, wpE_ifp (by omega), X3_word_27, wpE_lt]
    refine lpX (f := fun k o B => let e := isB (lvD Ms s) aw k x B; mpB (fun j B => muxB (lvD Ms s) e.1 (stL Ms s g (w * k + j)) (o j) B) w o e.2) (x0 := fun _ => 0) (B0 := B) (w := wsG Ms s g) (L := fun f j _ => X3_word_30 f (g : Int) (a : Int) (aw : Int) (to : Int) (w : Int) (j : Int)) (I := fun j o B' τ' => KX n (inbS Ms s (lsG s)) (keptS Ms s (lsG s)) σ τ' B' ∧ goB (lvD Ms s) B B' ∧ ltA (lvD Ms s) B' w o ∧ CE (σ.1 45) (τ'.1 45) to w w o) (FR := FKX n σ) (fun j s B' hf => fl_mp (fun _ _ h => fl_mux h) (fl_is hf)) hE ?_ ?_ (show wsG Ms s g < FU by omega) ⟨k1, goB.refl hK.2.1, fun _ _ => ltB0, k2⟩
    · rintro f k o' B' τ' hk ⟨j1, j2, j3, j4⟩ hE' ih
      show wpE (X3_word_30 (f + 1) (g : Int) (a : Int) (aw : Int) (to : Int) (w : Int) (k : Int)) τ' Q E
      have hS1 := hS.frG hd hD hn (FKX.agr hn j1.2.2)
      have ig := isB_go (k := k) j2.1 (j2.la hx)
      have mg := mpB_go (w := w) (o := o') (g := fun j B => muxB (lvD Ms s) (isB (lvD Ms s) aw k x B').1 (stL Ms s g (w * k + j)) (o' j) B) ig.1.1 (fun j B2 hj h2 => okB.go (muxB_ok h2.1 (h2.lt ig.2) (hst k j hk hj).2 (h2.lt (ig.1.lt (j3 j hj)))))
      rw [X3_word_30, wpE_bd, wp_gQ, hS1.2.2.2.1, wpE_nn, wpE_ck, and_t (ly_D hD), wpE_bd, x_words hd hD hS1.1 hg, wpE_ifn (by omega), wpE_bdE]
      refine isAX hn hl j1 haw (by omega) (j2.la hx) ⟨by omega, fun j hj => by rw [j4.1 _ (by omega)]; exact ha.2 j hj⟩ (fun υ q => hE' υ (fl_mp (fun _ _ h => fl_mux h) q)) (fun υ a1 a2 => ?_)
      rw [wpE_lt, wpE_lt]
      refine lpX (f := fun j o B => (ups o j (muxB (lvD Ms s) (isB (lvD Ms s) aw k x B').1 (stL Ms s g (w * k + j)) (o' j) B).1, (muxB (lvD Ms s) (isB (lvD Ms s) aw k x B').1 (stL Ms s g (w * k + j)) (o' j) B).2)) (x0 := o') (B0 := (isB (lvD Ms s) aw k x B').2) (w := w) (L := fun f' j _ => X3_word_56 (X3_word_30 f) f' (g : Int) (a : Int) (aw : Int) (to : Int) (w : Int) (k : Int) ((isB (lvD Ms s) aw k x B').1 : Int) (j : Int)) (I := fun j o B2 υ => KX n (inbS Ms s (lsG s)) (keptS Ms s (lsG s)) σ υ B2 ∧ goB (lvD Ms s) (isB (lvD Ms s) aw k x B').2 B2 ∧ CE (σ.1 45) (υ.1 45) to w w o ∧ ∀ q, j ≤ q → q < w → o q = o' q) (FR := FKX n σ) (fun j s B' hf => fl_mux hf) hE' ?_ ?_ (show w < FU by omega) ⟨a1, goB.refl ig.1.1, j4.e a2, fun _ _ _ => rfl⟩
      · rintro f' j o2 B2 υ2 hj ⟨b1, b2, b3, b4⟩ hE2 ih2
        show wpE (X3_word_56 (X3_word_30 f) (f' + 1) (g : Int) (a : Int) (aw : Int) (to : Int) (w : Int) (k : Int) ((isB (lvD Ms s) aw k x B').1 : Int) (j : Int)) υ2 Q E
        have hS2 := hS.frG hd hD hn (FKX.agr hn b1.2.2)
        obtain ⟨t1, t2⟩ := hst (B' := B2) k j hk hj
        rw [X3_word_56, wpE_ifn (by omega), wpE_bd, wM (by omega), wN (a := w * k) (by omega), x_stl hd hD hn hlim hS2 b1.1 hg (by omega), wpE_bd, wN (a := to) (by omega), RI_45 (by omega) (by omega), tn, b3.2 j hj, b4 j (Nat.le_refl j) hj]
        refine kMux hn hl b1 (b2.lt ig.2) t2 (b2.lt (ig.1.lt (j3 j hj))) hE2 (fun υ3 d1 d2 d3 d4 d5 => ?_)
        rw [wpE_bd, RV_45 (by omega) (by omega), tn, wpE_lt, wN1 (by omega)]
        exact ih2 _ ⟨d1.w hn (Or.inl rfl), b2.trans d2, by dsimp only; rw [stA_eq, d4]; exact b3.set hj, fun q h1 h2 => by dsimp only; rw [ups_ne (by omega)]; exact b4 q (by omega) h2⟩
      · rintro f' υ2 ⟨b1, b2, b3, -⟩
        show wpE (X3_word_56 (X3_word_30 f) (f' + 1) (g : Int) (a : Int) (aw : Int) (to : Int) (w : Int) (k : Int) ((isB (lvD Ms s) aw k x B').1 : Int) (w : Int)) υ2 Q E
        rw [X3_word_56, wpE_ifp (by omega), X3_word_111, wpE_lt, wN1 (by omega)]
        exact ih _ ⟨b1, (j2.trans ig.1).trans mg.1, mg.2, b3⟩
    · rintro f τ' ⟨j1, j2, j3, j4⟩
      show wpE (X3_word_30 (f + 1) (g : Int) (a : Int) (aw : Int) (to : Int) (w : Int) (wsG Ms s g : Int)) τ' Q E
      have hS1 := hS.frG hd hD hn (FKX.agr hn j1.2.2)
      rw [X3_word_30, wpE_bd, wp_gQ, hS1.2.2.2.1, wpE_nn, wpE_ck, and_t (ly_D hD), wpE_bd, x_words hd hD hS1.1 hg, wpE_ifp (by omega), wpE_lE, wp_rt]
      exact hQ τ' j1 j4
end
