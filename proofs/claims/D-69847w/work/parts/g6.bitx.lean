set_option maxRecDepth 100000
set_option maxHeartbeats 400000
/-! ===== bits: the component's loops over bits ===== -/
theorem ixor0 {x : Nat} (hx : x < 2147483648) : ixor (x : Int) 0 = (x : Int) := by
  have := ixor_n (y := 0) hx (by decide)
  rw [Nat.xor_zero] at this
  exact this
theorem pow_i (j : Nat) : (2 : Int) ^ j = ((2 ^ j : Nat) : Int) := (Int.natCast_pow 2 j).symm
/-- a bit of a number that fits an int's bits -/
theorem bit_sg {x j : Nat} (hx : x < 4294967296) (hj : j < 32) : iand (ishr (sg x) (j : Int)) 1 = ((if x.testBit j = true then 1 else 0 : Nat) : Int) := by
  have e : sg x / ((2 ^ j : Nat) : Int) % 2 = ((x / 2 ^ j % 2 : Nat) : Int) := by
    have hp := Nat.two_pow_pos j
    have hq : 4294967296 = 2 ^ j * (2 * 2 ^ (31 - j)) := by
      rw [← Nat.mul_assoc, Nat.mul_comm (2 ^ j) 2, ← Nat.pow_succ', ← Nat.pow_add, show j + 1 + (31 - j) = 32 by omega]
    rw [sg_val hx]
    generalize 2 ^ j = p at *
    generalize 2 ^ (31 - j) = q at *
    by_cases c : x < 2147483648
    · rw [if_pos c]; omega
    · rw [if_neg c]
      have e2 : (x : Int) - 4294967296 = (x : Int) + (p : Int) * (-(2 * (q : Int))) := by
        have : (4294967296 : Int) = (p : Int) * (2 * (q : Int)) := by
          have h2 : ((4294967296 : Nat) : Int) = ((p * (2 * q) : Nat) : Int) := by rw [← hq]
          rw [Int.natCast_mul, Int.natCast_mul] at h2
          exact h2
        rw [Int.mul_neg, ← this]; omega
      rw [e2, Int.add_mul_ediv_left _ _ (by omega)]
      omega
  rw [ishr_div (sg_R x) hj, iand1, pow_i, e, Nat.testBit_eq_decide_div_mod_eq]
  by_cases c : x / 2 ^ j % 2 = 1
  · rw [c, if_pos (by decide)]
  · rw [if_neg (by rw [decide_eq_false c]; decide)]
    omega
theorem bit_n {x j : Nat} (hx : x < 2147483648) (hj : j < 32) : iand (ishr (x : Int) (j : Int)) 1 = ((if x.testBit j = true then 1 else 0 : Nat) : Int) := by
  have := bit_sg (x := x) (by omega) hj
  rw [sg_val (by omega), if_pos hx] at this
  exact this
theorem lsh1 (s : Fin 32) : (lshl 1 ((s : Nat) : Int)).toInt = ((2 ^ (s : Nat) : Nat) : Int) := by revert s; decide +kernel
theorem sh_sub {j s : Nat} (hj : j < 32) (hs : s < 32) : ((i2l (j : Int)) - (lshl 1 (s : Int))).toInt = (j : Int) - ((2 ^ s : Nat) : Int) := by
  have h1 : (i2l (j : Int)).toInt = (j : Int) := i2l_t (by omega) (by omega)
  have h2 := lsh1 ⟨s, hs⟩
  dsimp only at h2
  have h3 : 2 ^ s ≤ 2147483648 := p2le (k := 31) (by omega)
  have h0 := Nat.two_pow_pos s
  rw [Int64.toInt_sub, h1, h2]
  exact Int.bmod_eq_of_le (by omega) (by omega)
theorem sh_add {j s : Nat} (hj : j < 32) (hs : s < 32) : ((i2l (j : Int)) + (lshl 1 (s : Int))).toInt = (j : Int) + ((2 ^ s : Nat) : Int) := by
  have h1 : (i2l (j : Int)).toInt = (j : Int) := i2l_t (by omega) (by omega)
  have h2 := lsh1 ⟨s, hs⟩
  dsimp only at h2
  have h3 : 2 ^ s ≤ 2147483648 := p2le (k := 31) (by omega)
  have h0 := Nat.two_pow_pos s
  rw [Int64.toInt_add, h1, h2]
  exact Int.bmod_eq_of_le (by omega) (by omega)
/-- turns without gates -/
theorem lpN {ρ : Type} {L : Nat → Nat → St → Option (ρ × St)} {w : Nat} {I : Nat → St → Prop} {Q : ρ → St → Prop} (step : ∀ m j σ, j < w → I j σ → (∀ τ, I (j + 1) τ → wp (L m (j + 1)) τ Q) → wp (L (m + 1) j) σ Q) (fin : ∀ m σ, I w σ → wp (L (m + 1) w) σ Q) {m : Nat} (hm : w < m) {σ : St} (h0 : I 0 σ) : wp (L m 0) σ Q := by
  have key : ∀ k j m σ, j + k = w → k < m → I j σ → wp (L m j) σ Q := by
    intro k
    induction k with
    | zero =>
      intro j m σ hj hm hI
      obtain ⟨m', rfl⟩ : ∃ m', m = m' + 1 := ⟨m - 1, by omega⟩
      have ej : j = w := by omega
      subst ej
      exact fin m' σ hI
    | succ k ih =>
      intro j m σ hj hm hI
      obtain ⟨m', rfl⟩ : ∃ m', m = m' + 1 := ⟨m - 1, by omega⟩
      exact step m' j σ (by omega) hI (fun τ hI' => ih (j + 1) m' τ (by omega) (by omega) hI')
  exact key w 0 m σ (by omega) hm h0
theorem lpNE {ρ : Type} {L : Nat → Nat → St → Option ((ρ ⊕ XV) × St)} {w : Nat} {I : Nat → St → Prop} {Q : ρ → St → Prop} {E : XV → St → Prop} (step : ∀ m j σ, j < w → I j σ → (∀ τ, I (j + 1) τ → wpE (L m (j + 1)) τ Q E) → wpE (L (m + 1) j) σ Q E) (fin : ∀ m σ, I w σ → wpE (L (m + 1) w) σ Q E) {m : Nat} (hm : w < m) {σ : St} (h0 : I 0 σ) : wpE (L m 0) σ Q E := lpN (Q := fun r τ => Sum.elim (fun a => Q a τ) (fun x => E x τ) r) step fin hm h0
section
variable {n i l : Nat} {σ0 σ : St} {B : NB} {E : XV → St → Prop}
theorem sumX (hn : isN n) (hi : i ≤ 64 ∧ l ≤ 200) (h : KX n i l σ0 σ B) {a : Int} {b to w t : Nat} (ht : t ≤ 1) {x y o : Nat → Nat} (hw : w ≤ 32) (hx : ltA (i + l) B w x) (hy : ltA (i + l) B w y) (ha : (a < 0 ∧ ∀ j, j < w → x j = 0) ∨ ∃ a' : Nat, a = (a' : Int) ∧ a' + w ≤ to ∧ ∀ j, j < w → σ.1 45 (a' + j) = (x j : Int)) (hb : b + w ≤ to) (hby : ∀ j, j < w → ixor (σ.1 45 (b + j)) (t : Int) = (y j : Int)) (hto : to + w ≤ 776000) (hE : ∀ τ, flB (smB (i + l) w x y t o B).2 → FKX n σ0 τ → E (1, 0, 0) τ) {Q : Unit → St → Prop} (hQ : ∀ τ, KX n i l σ0 τ (smB (i + l) w x y t o B).2 → CE (σ.1 45) (τ.1 45) to w w (smB (i + l) w x y t o B).1 → Q () τ) : wpE (F_X3_sum a (b : Int) (t : Int) (to : Int) (w : Int)) σ Q E := by
  have hF := FU_ge
  have ht1 : ltB (i + l) B t := by unfold ltB; omega
  rw [F_X3_sum, wpE_lt, wpE_lt]
  refine lpX (f := smS (i + l) w x y) (x0 := (o, t)) (B0 := B) (w := w) (L := fun m j s => X3_sum_6 m a (b : Int) (t : Int) (to : Int) (w : Int) (s.2 : Int) (j : Int)) (I := fun j s B' τ => KX n i l σ0 τ B' ∧ goB (i + l) B B' ∧ ltB (i + l) B' s.2 ∧ CE (σ.1 45) (τ.1 45) to w j s.1) (FR := FKX n σ0) (fun j s B' hf => fl_smS hf) hE ?_ ?_ (show w < FU by omega) ⟨h, goB.refl h.2.1, ht1, CE.init⟩
  · rintro m j s B' τ hj ⟨k1, k2, k3, k4⟩ hE' ih
    show wpE (X3_sum_6 (m + 1) a (b : Int) (t : Int) (to : Int) (w : Int) (s.2 : Int) (j : Int)) τ Q E
    have go : wpE (X3_sum_30 (X3_sum_6 m) a (b : Int) (t : Int) (to : Int) (w : Int) (s.2 : Int) (j : Int) (x j : Int)) τ Q E := by
      have hyj := k2.lt (hy j hj)
      have hxj := k2.lt (hx j hj)
      rw [X3_sum_30, wpE_lt, wpE_bd, wN (by omega), RI_45 (by omega) (by omega), tn, k4.1 (b + j) (by omega), wpE_lt, hby j hj]
      by_cases e : j + 1 = w
      · rw [smS_e e] at hE' ih
        dsimp only at hE' ih
        refine kXor hn hi k1 hxj hyj (fun υ q => hE' υ (fl_xor q)) (fun υ a1 a2 a3 a4 a5 => ?_)
        rw [wpE_lt]
        refine kXor hn hi a1 a3 (a2.lt k3) hE' (fun υ2 b1 b2 b3 b4 b5 => ?_)
        rw [wpE_bd, wN (by omega), RV_45 (by omega) (by omega), tn, wpE_ifp (by rw [w32_i (by omega) (by omega)]; omega), X3_sum_126, wpE_lt, wN1 (by omega)]
        exact ih _ ⟨b1.w hn (Or.inl rfl), (k2.trans a2).trans b2, (a2.trans b2).lt k3, by dsimp only; rw [stA_eq, b4, a4]; exact k4.up hj⟩
      · rw [smS_n e] at hE' ih
        dsimp only at hE' ih
        refine kXor hn hi k1 hxj hyj (fun υ q => hE' υ (fl_or (fl_and (fl_and (fl_xor q))))) (fun υ a1 a2 a3 a4 a5 => ?_)
        rw [wpE_lt]
        refine kXor hn hi a1 a3 (a2.lt k3) (fun υ q => hE' υ (fl_or (fl_and (fl_and q)))) (fun υ2 b1 b2 b3 b4 b5 => ?_)
        rw [wpE_bd, wN (by omega), RV_45 (by omega) (by omega), tn, wpE_ifn (by rw [w32_i (by omega) (by omega)]; omega)]
        refine kAnd hn hi (b1.w hn (Or.inl rfl)) ((a2.trans b2).lt hxj) ((a2.trans b2).lt hyj) (fun υ3 q => hE' υ3 (fl_or (fl_and q))) (fun υ3 c1 c2 c3 c4 c5 => ?_)
        rw [wpE_lt]
        refine kAnd hn hi c1 ((b2.trans c2).lt a3) (((a2.trans b2).trans c2).lt k3) (fun υ4 q => hE' υ4 (fl_or q)) (fun υ4 d1 d2 d3 d4 d5 => ?_)
        refine kOr hn hi d1 (d2.lt c3) d3 hE' (fun υ5 e1 e2 e3 e4 e5 => ?_)
        rw [wpE_lt, X3_sum_126, wpE_lt, wN1 (by omega)]
        exact ih _ ⟨e1, ((((k2.trans a2).trans b2).trans c2).trans d2).trans e2, e3, by rw [e4, d4, c4]; dsimp only; rw [stA_eq, b4, a4]; exact k4.up hj⟩
    rcases ha with ⟨a0, x0⟩ | ⟨a', rfl, a1, a2⟩
    · rw [X3_sum_6, wpE_ifn (by omega), wpE_ifn (by omega)]
      rw [x0 j hj] at go
      exact go
    · rw [X3_sum_6, wpE_ifn (by omega), wpE_ifp (by omega), wpE_bd, wN (by omega), RI_45 (by omega) (by omega), tn, k4.1 _ (by omega), a2 j hj]
      exact go
  · rintro m τ ⟨k1, k2, k3, k4⟩
    show wpE (X3_sum_6 (m + 1) a (b : Int) (t : Int) (to : Int) (w : Int) _ (w : Int)) τ Q E
    rw [X3_sum_6, wpE_ifp (by omega), wpE_lE, wp_rt]
    exact hQ τ k1 k4
/-- a partial product is added in its place -/
theorem sum2X (hn : isN n) (hi : i ≤ 64 ∧ l ≤ 200) (h : KX n i l σ0 σ B) {a b to w ii : Nat} {y o : Nat → Nat} {c0 : Nat → Int} (hw : w ≤ 32) (ho : ltA (i + l) B w o) (hy : ltA (i + l) B w y) (hc : CE c0 (σ.1 45) to w w o) (h47 : ∀ j, j < w → σ.1 47 j = (y j : Int)) (hto : to + w ≤ 776000) {Q : Unit → St → Prop} (hE : ∀ τ, flB (smB (i + l) w o y 0 o B).2 → FKX n σ0 τ → E (1, 0, 0) τ) {rec : Int → Int → Int → Int → Int → St → Option ((Unit ⊕ XV) × St)} (hQ : ∀ τ, KX n i l σ0 τ (smB (i + l) w o y 0 o B).2 → CE c0 (τ.1 45) to w w (smB (i + l) w o y 0 o B).1 → wpE (X3_product_234 rec (a : Int) (b : Int) (to : Int) (w : Int) (ii : Int)) τ Q E) : wpE (X3_product_114 rec (a : Int) (b : Int) (to : Int) (w : Int) (ii : Int)) σ Q E := by
  have hF := FU_ge
  rw [X3_product_114, wpE_lt, wpE_lt]
  refine lpX (f := smS (i + l) w o y) (x0 := (o, 0)) (B0 := B) (w := w) (L := fun m j s => X3_product_120 rec m (a : Int) (b : Int) (to : Int) (w : Int) (ii : Int) (s.2 : Int) (j : Int)) (I := fun j s B' τ => KX n i l σ0 τ B' ∧ goB (i + l) B B' ∧ ltB (i + l) B' s.2 ∧ CE c0 (τ.1 45) to w w s.1 ∧ (∀ k, j ≤ k → k < w → s.1 k = o k) ∧ τ.1 47 = σ.1 47) (FR := FKX n σ0) (fun j s B' hf => fl_smS hf) hE ?_ ?_ (show w < FU by omega) ⟨h, goB.refl h.2.1, ltB0, hc, fun _ _ _ => rfl, rfl⟩
  · rintro m j s B' τ hj ⟨k1, k2, k3, k4, k5, k6⟩ hE' ih
    show wpE (X3_product_120 rec (m + 1) (a : Int) (b : Int) (to : Int) (w : Int) (ii : Int) (s.2 : Int) (j : Int)) τ Q E
    have hyj := k2.lt (hy j hj)
    have hxj := k2.lt (ho j hj)
    have keep : ∀ v k, j + 1 ≤ k → k < w → ups s.1 j v k = o k := fun v k h1 h2 => by rw [ups_ne (by omega)]; exact k5 k (by omega) h2
    rw [X3_product_120, wpE_ifn (by omega), wpE_bd, wN (by omega), RI_45 (by omega) (by omega), tn, k4.2 j hj, k5 j (Nat.le_refl j) hj, wpE_lt, wpE_bd, RI_47 (by omega) (by omega), tn, k6, h47 j hj]
    by_cases e : j + 1 = w
    · rw [smS_e e] at hE' ih
      dsimp only at hE' ih
      refine kXor hn hi k1 hxj hyj (fun υ q => hE' υ (fl_xor q)) (fun υ a1 a2 a3 a4 a5 => ?_)
      rw [wpE_lt]
      refine kXor hn hi a1 a3 (a2.lt k3) hE' (fun υ2 b1 b2 b3 b4 b5 => ?_)
      rw [wpE_bd, RV_45 (by omega) (by omega), tn, wpE_ifp (by rw [w32_i (by omega) (by omega)]; omega), X3_product_228, wpE_lt, wN1 (by omega)]
      exact ih _ ⟨b1.w hn (Or.inl rfl), (k2.trans a2).trans b2, (a2.trans b2).lt k3, by dsimp only; rw [stA_eq, b4, a4]; exact k4.set hj, keep _, by dsimp only; rw [stA_ne (by decide), b5, a5]; exact k6⟩
    · rw [smS_n e] at hE' ih
      dsimp only at hE' ih
      refine kXor hn hi k1 hxj hyj (fun υ q => hE' υ (fl_or (fl_and (fl_and (fl_xor q))))) (fun υ a1 a2 a3 a4 a5 => ?_)
      rw [wpE_lt]
      refine kXor hn hi a1 a3 (a2.lt k3) (fun υ q => hE' υ (fl_or (fl_and (fl_and q)))) (fun υ2 b1 b2 b3 b4 b5 => ?_)
      have e47 : (stA υ2.1 45 (ups (υ2.1 45) (to + j) ((xorB (i + l) (xorB (i + l) (o j) (y j) B').1 s.2 (xorB (i + l) (o j) (y j) B').2).1 : Int))) 47 j = (y j : Int) := by rw [stA_ne (by decide), b5, a5, k6]; exact h47 j hj
      rw [wpE_bd, RV_45 (by omega) (by omega), tn, wpE_ifn (by rw [w32_i (by omega) (by omega)]; omega), wpE_bd, RI_47 (by omega) (by omega), tn]
      dsimp only
      rw [e47]
      refine kAnd hn hi (b1.w hn (Or.inl rfl)) ((a2.trans b2).lt hxj) ((a2.trans b2).lt hyj) (fun υ3 q => hE' υ3 (fl_or (fl_and q))) (fun υ3 c1 c2 c3 c4 c5 => ?_)
      rw [wpE_lt]
      refine kAnd hn hi c1 ((b2.trans c2).lt a3) (((a2.trans b2).trans c2).lt k3) (fun υ4 q => hE' υ4 (fl_or q)) (fun υ4 d1 d2 d3 d4 d5 => ?_)
      refine kOr hn hi d1 (d2.lt c3) d3 hE' (fun υ5 e1 e2 e3 e4 e5 => ?_)
      rw [wpE_lt, X3_product_228, wpE_lt, wN1 (by omega)]
      exact ih _ ⟨e1, ((((k2.trans a2).trans b2).trans c2).trans d2).trans e2, e3, by rw [e4, d4, c4]; dsimp only; rw [stA_eq, b4, a4]; exact k4.set hj, keep _, by rw [e5, d5, c5]; dsimp only; rw [stA_ne (by decide), b5, a5]; exact k6⟩
  · rintro m τ ⟨k1, k2, k3, k4, -⟩
    show wpE (X3_product_120 rec (m + 1) (a : Int) (b : Int) (to : Int) (w : Int) (ii : Int) _ (w : Int)) τ Q E
    rw [X3_product_120, wpE_ifp (by omega)]
    exact hQ τ k1 k4
/-- a partial product -/
theorem ptX (hn : isN n) (hi : i ≤ 64 ∧ l ≤ 200) (h : KX n i l σ0 σ B) {a b to w ii : Nat} {x y : Nat → Nat} (hw : w ≤ 32) (hii : ii < w) (hx : ltA (i + l) B w x) (hy : ltA (i + l) B w y) (ha : a + w ≤ 776000 ∧ ∀ j, j < w → σ.1 45 (a + j) = (x j : Int)) (hb : b + w ≤ 776000 ∧ ∀ j, j < w → σ.1 45 (b + j) = (y j : Int)) {Q : Unit → St → Prop} (hE : ∀ τ, flB (ptB (i + l) w ii x y B).2 → FKX n σ0 τ → E (1, 0, 0) τ) {rec : Int → Int → Int → Int → Int → St → Option ((Unit ⊕ XV) × St)} (hQ : ∀ τ, KX n i l σ0 τ (ptB (i + l) w ii x y B).2 → τ.1 45 = σ.1 45 → (∀ j, j < w → τ.1 47 j = ((ptB (i + l) w ii x y B).1 j : Int)) → wpE (X3_product_114 rec (a : Int) (b : Int) (to : Int) (w : Int) (ii : Int)) τ Q E) : wpE (X3_product_39 rec FU (a : Int) (b : Int) (to : Int) (w : Int) (ii : Int) 0) σ Q E := by
  have hF := FU_ge
  refine lpNE (w := w) (L := fun m j => X3_product_39 rec m (a : Int) (b : Int) (to : Int) (w : Int) (ii : Int) (j : Int)) (I := fun j τ => KX n i l σ0 τ B ∧ τ.1 45 = σ.1 45 ∧ ∀ q, q < j → τ.1 47 q = 0) ?_ ?_ (show w < FU by omega) ⟨h, rfl, fun q hq => absurd hq (Nat.not_lt_zero q)⟩
  · rintro m j τ hj ⟨k1, k2, k3⟩ ih
    show wpE (X3_product_39 rec (m + 1) (a : Int) (b : Int) (to : Int) (w : Int) (ii : Int) (j : Int)) τ Q E
    rw [X3_product_39, wpE_ifn (by omega), wpE_bd, RV_47 (by omega) (by omega), tn, wpE_lt, wN1 (by omega)]
    refine ih _ ⟨k1.w hn (Or.inr rfl), ?_, fun q hq => ?_⟩
    · dsimp only
      rw [stA_ne (by decide)]; exact k2
    · dsimp only
      rw [stA_eq]
      by_cases e : q = j
      · subst e; rw [ups_eq]
      · rw [ups_ne e]; exact k3 q (by omega)
  · rintro m τ ⟨k1, k2, k3⟩
    show wpE (X3_product_39 rec (m + 1) (a : Int) (b : Int) (to : Int) (w : Int) (ii : Int) (w : Int)) τ Q E
    rw [X3_product_39, wpE_ifp (by omega), X3_product_60, wpE_lt]
    refine lpX (f := fun k p B => (ups p (k + ii) (andB (i + l) (y ii) (x k) B).1, (andB (i + l) (y ii) (x k) B).2)) (x0 := fun _ => 0) (B0 := B) (w := w - ii) (L := fun m j _ => X3_product_63 rec m (a : Int) (b : Int) (to : Int) (w : Int) (ii : Int) (j : Int)) (I := fun j p B' τ' => KX n i l σ0 τ' B' ∧ goB (i + l) B B' ∧ τ'.1 45 = σ.1 45 ∧ ∀ q, q < w → τ'.1 47 q = (p q : Int)) (FR := FKX n σ0) (fun j s B' hf => fl_and hf) hE ?_ ?_ (show w - ii < FU by omega) ⟨k1, goB.refl h.2.1, k2, k3⟩
    · rintro m j p B' τ' hj ⟨j1, j2, j3, j4⟩ hE' ih
      show wpE (X3_product_63 rec (m + 1) (a : Int) (b : Int) (to : Int) (w : Int) (ii : Int) (j : Int)) τ' Q E
      rw [X3_product_63, wpE_ifn (by rw [wN (by omega)]; omega), wpE_bd, wN (a := b) (by omega), RI_45 (by omega) (by omega), tn, j3, hb.2 ii hii, wpE_bd, wN (a := a) (by omega), RI_45 (by omega) (by omega), tn, j3, ha.2 j (by omega)]
      refine kAnd hn hi j1 (j2.lt (hy ii hii)) (j2.lt (hx j (by omega))) hE' (fun υ a1 a2 a3 a4 a5 => ?_)
      rw [wpE_bd, wN (by omega), RV_47 (by omega) (by omega), tn, wpE_lt, wN1 (by omega)]
      refine ih _ ⟨a1.w hn (Or.inr rfl), j2.trans a2, ?_, fun q hq => ?_⟩
      · dsimp only
        rw [stA_ne (by decide), a4]; exact j3
      · dsimp only
        rw [stA_eq]
        by_cases e : q = j + ii
        · subst e; rw [ups_eq, ups_eq]
        · rw [ups_ne e, ups_ne e, a5]; exact j4 q hq
    · rintro m τ' ⟨j1, j2, j3, j4⟩
      show wpE (X3_product_63 rec (m + 1) (a : Int) (b : Int) (to : Int) (w : Int) (ii : Int) ((w - ii : Nat) : Int)) τ' Q E
      rw [X3_product_63, wpE_ifp (by rw [wN (by omega)]; omega)]
      exact hQ τ' j1 j3 j4
theorem mlX (hn : isN n) (hi : i ≤ 64 ∧ l ≤ 200) (h : KX n i l σ0 σ B) {a b to w : Nat} {x y : Nat → Nat} (hw : w ≤ 32) (hx : ltA (i + l) B w x) (hy : ltA (i + l) B w y) (ha : a + w ≤ to ∧ ∀ j, j < w → σ.1 45 (a + j) = (x j : Int)) (hb : b + w ≤ to ∧ ∀ j, j < w → σ.1 45 (b + j) = (y j : Int)) (hto : to + w ≤ 776000) (hE : ∀ τ, flB (mlB (i + l) w x y B).2 → FKX n σ0 τ → E (1, 0, 0) τ) {Q : Unit → St → Prop} (hQ : ∀ τ, KX n i l σ0 τ (mlB (i + l) w x y B).2 → CE (σ.1 45) (τ.1 45) to w w (mlB (i + l) w x y B).1 → Q () τ) : wpE (F_X3_product (a : Int) (b : Int) (to : Int) (w : Int)) σ Q E := by
  have hF := FU_ge
  rw [F_X3_product, wpE_lt]
  refine lpNE (w := w) (L := fun m j => X3_product_3 m (a : Int) (b : Int) (to : Int) (w : Int) (j : Int)) (I := fun j τ => KX n i l σ0 τ B ∧ CE (σ.1 45) (τ.1 45) to w j (fun _ => 0)) ?_ ?_ (show w < FU by omega) ⟨h, CE.init⟩
  · rintro m j τ hj ⟨k1, k2⟩ ih
    show wpE (X3_product_3 (m + 1) (a : Int) (b : Int) (to : Int) (w : Int) (j : Int)) τ Q E
    rw [X3_product_3, wpE_ifn (by omega), wpE_bd, wN (by omega), RV_45 (by omega) (by omega), tn, wpE_lt, wN1 (by omega)]
    refine ih _ ⟨k1.w hn (Or.inl rfl), ?_⟩
    dsimp only
    rw [stA_eq]
    exact (k2.up hj (v := 0)).o (fun k hk => by unfold ups; split <;> rfl)
  · rintro m τ ⟨k1, k2⟩
    show wpE (X3_product_3 (m + 1) (a : Int) (b : Int) (to : Int) (w : Int) (w : Int)) τ Q E
    rw [X3_product_3, wpE_ifp (by omega), X3_product_26, wpE_lt]
    refine lpX (f := fun ii o B => let p := ptB (i + l) w ii x y B; smB (i + l) w o p.1 0 o p.2) (x0 := fun _ => 0) (B0 := B) (w := w) (L := fun m j _ => X3_product_29 m (a : Int) (b : Int) (to : Int) (w : Int) (j : Int)) (I := fun j o B' τ' => KX n i l σ0 τ' B' ∧ goB (i + l) B B' ∧ ltA (i + l) B' w o ∧ CE (σ.1 45) (τ'.1 45) to w w o) (FR := FKX n σ0) (fun j s B' hf => fl_sm (fl_pt hf)) hE ?_ ?_ (show w < FU by omega) ⟨k1, goB.refl h.2.1, fun _ _ => ltB0, k2⟩
    · rintro m j o B' τ' hj ⟨j1, j2, j3, j4⟩ hE' ih
      show wpE (X3_product_29 (m + 1) (a : Int) (b : Int) (to : Int) (w : Int) (j : Int)) τ' Q E
      have pg := ptB_go (w := w) (i := j) j2.1 (by omega) (j2.la hx) (j2.lt (hy j hj))
      have sg := smB_go (w := w) (o := o) pg.1.1 (pg.1.la j3) pg.2 (k := 0) ltB0
      rw [X3_product_29, wpE_ifn (by omega), wpE_lt]
      refine ptX hn hi j1 hw hj (j2.la hx) (j2.la hy) ⟨by omega, fun q hq => by rw [j4.1 _ (by omega)]; exact ha.2 q hq⟩ ⟨by omega, fun q hq => by rw [j4.1 _ (by omega)]; exact hb.2 q hq⟩ (fun υ q => hE' υ (fl_sm q)) (fun υ a1 a2 a3 => ?_)
      refine sum2X hn hi a1 hw (pg.1.la j3) pg.2 (j4.e a2) a3 hto hE' (fun υ2 b1 b2 => ?_)
      rw [X3_product_234, wpE_lt, wN1 (by omega)]
      exact ih _ ⟨b1, (j2.trans pg.1).trans sg.1, sg.2, b2⟩
    · rintro m τ' ⟨j1, j2, j3, j4⟩
      show wpE (X3_product_29 (m + 1) (a : Int) (b : Int) (to : Int) (w : Int) (w : Int)) τ' Q E
      rw [X3_product_29, wpE_ifp (by omega), wpE_lE, wp_rt]
      exact hQ τ' j1 j4
end
