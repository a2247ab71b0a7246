set_option maxRecDepth 100000
set_option maxHeartbeats 400000
/-! ===== bits: the twin joins a node's parts ===== -/
/-- what the twin's making of a signal leaves alone -/
def tG (a k : Nat) : Prop := ¬ ((a = 2075 ∧ (k = 103 ∨ k = 105 ∨ k = 112 ∨ (81 ≤ k ∧ k ≤ 83))) ∨ (a = 2144 ∧ k = 4) ∨ ((a = 2146 ∨ a = 2147) ∧ 16000 ≤ k) ∨ (2151 ≤ a ∧ a ≤ 2154) ∨ (2156 ≤ a ∧ a ≤ 2158))
def SBM (Ms : Nat → ModV) (top : Nat) (s : LYS) (S : Nat) (τ : St) : Prop := DM τ S Ms top s ∧ τ.1 2075 109 = (S : Int) ∧ ∀ g, g < lsG s → τ.1 2155 g = (bitsS Ms s g : Int)
section
variable {Ms : Nat → ModV} {top : Nat} {s : LYS} {σ τ : St} {S i p : Nat} {B : NB} {α : Type} {Q : Unit → St → Prop}
theorem SBM.fr (h : SBM Ms top s S σ) (hd : DP Ms top s) (e : agr tG σ τ) : SBM Ms top s S τ := by
  obtain ⟨h1, h2, h3⟩ := h
  refine ⟨h1.fr hd (agr.sub e (fun a k q => ?_)), ?_, fun g hg => ?_⟩
  · unfold dT at q
    unfold tG
    omega
  · rw [(e 2075 109 (by unfold tG; omega)).1]; exact h2
  · rw [(e 2155 g (by unfold tG; omega)).1]; exact h3 g hg
theorem FKT.agr (h : FKT σ τ) : agr tG σ τ := by
  intro a k q
  unfold tG at q
  obtain ⟨h1, h2, h3, h4, h5⟩ := h
  refine ⟨?_, by rw [h5], by rw [h5]⟩
  by_cases c1 : a = 2075
  · subst c1; exact h2 k (by omega) (by omega)
  by_cases c2 : a = 2144
  · subst c2; exact h3 k (by omega)
  by_cases c3 : a = 2146
  · subst c3; exact (h4 k (by omega)).1
  by_cases c4 : a = 2147
  · subst c4; exact (h4 k (by omega)).2
  rw [h1 a c1 c2 c3 c4 (by omega) (by omega) (by omega)]
theorem row_m (hM : DM σ S Ms top s) (hd : DP Ms top s) (hi : i < lsI s) {m : Nat} (hm : m < mdN (moI Ms s i)) : ndR (gO (gI' Ms s i) m) (gA (gI' Ms s i) m) (gB (gI' Ms s i) m) (gC (gI' Ms s i) m) (σ.1 2088 (300 * (12 * S + lsM s i) + m)) (σ.1 2089 (300 * (12 * S + lsM s i) + m)) (σ.1 2090 (300 * (12 * S + lsM s i) + m)) (σ.1 2091 (300 * (12 * S + lsM s i) + m)) (σ.2.1 2093 (300 * (12 * S + lsM s i) + m)) ∧ σ.1 2092 (300 * (12 * S + lsM s i) + m) = (gW (gI' Ms s i) m : Int) := (hM.2 _ (hd.inst hi).1).2.2.1 m hm
/-- a word of a mem -/
theorem wdT (hd : DP Ms top s) (hlim : limOK Ms s) (hS5 : S < 5) (hS : SBM Ms top s S σ) (hK : KT (inbS Ms s (lsG s)) (keptS Ms s (lsG s)) σ σ B p) {g a aw : Nat} {x : Nat → Nat} (hg : g < lsG s) (h4 : kdS Ms s g = 4) (hlit : ∀ k, k < szG Ms s g → σ.1 2154 (bitsS Ms s g + k) = (stL Ms s g k : Int)) (haw : aw ≤ 32) (hx : ltA (lvD Ms s) B aw x) (ha : a + aw ≤ p ∧ ∀ j, j < aw → σ.1 2153 (a + j) = (x j : Int)) (hp : p + 32 ≤ 200000) {f : Unit → St → Option (α × St)} {Q : α → St → Prop} (hQ : ∀ τ, KT (inbS Ms s (lsG s)) (keptS Ms s (lsG s)) σ τ (wdB (lvD Ms s) (wdS Ms s g) (wsG Ms s g) aw x (stL Ms s g) B).2 (p + wdS Ms s g) → PL (σ.1 2153) (τ.1 2153) p (wdS Ms s g) (wdB (lvD Ms s) (wdS Ms s g) (wsG Ms s g) aw x (stL Ms s g) B).1 → wp (f ()) τ Q) : wp (bd (F_X15_wordBits (g : Int) (a : Int) (aw : Int)) f) σ Q := by
  have hF := FU_ge
  have h200 := hd.2.1.2
  have hl : inbS Ms s (lsG s) ≤ 64 ∧ keptS Ms s (lsG s) ≤ 200 := ⟨hlim.2.2.1, hlim.1.2⟩
  obtain ⟨s1, s2, s3, s4, ⟨s5, s6⟩, ⟨s7, s8⟩, -⟩ := hd.sig hg
  obtain ⟨-, ⟨g1, g2, g3⟩, -⟩ := hS.1.1.2.2.2 g hg
  have hbt : bitsS Ms s g + szG Ms s g ≤ 2000 := by
    have h1 : bitsS Ms s (g + 1) ≤ bitsS Ms s (lsG s) := smF_mono (by omega)
    have h2 : bitsS Ms s (g + 1) = bitsS Ms s g + szG Ms s g := rfl
    have := hlim.1.1
    omega
  have hst : ∀ {B' : NB} k j, k < wsG Ms s g → j < wdS Ms s g → wdS Ms s g * k + j < szG Ms s g ∧ ltB (lvD Ms s) B' (stL Ms s g (wdS Ms s g * k + j)) := fun {B'} k j hk hj => by
    have h1 : wdS Ms s g * (k + 1) ≤ wdS Ms s g * wsG Ms s g := Nat.mul_le_mul_left _ hk
    rw [Nat.mul_succ] at h1
    have h2 : wdS Ms s g * k + j < szG Ms s g := by unfold szG; omega
    exact ⟨h2, stL_lt hg (Or.inr h4) h2⟩
  have e200 : ∀ _ : Unit, w32 (w32 (200 * (S : Int)) + (g : Int)) = ((200 * S + g : Nat) : Int) := fun _ => by rw [w32_i (x := 200 * (S : Int)) (by omega) (by omega), w32_i (by omega) (by omega)]; omega
  generalize hw : wdS Ms s g = w at *
  rw [wp_bd, F_X15_wordBits, wp_bd, wp_gI, hS.2.1, wp_lt, e200 (), wp_bd, RI_2123 (by omega) (by omega), tn, g2, wp_lt, wp_bd, wp_gI, hK.2.2.2, wp_lt, wp_lt]
  clear e200
  refine zeroT (L := fun m x7 => X15_wordBits_30 m (g : Int) (a : Int) (aw : Int) ((200 * S + g : Nat) : Int) (w : Int) (p : Int) x7) (C := X15_wordBits_48 (g : Int) (a : Int) (aw : Int) ((200 * S + g : Nat) : Int) (w : Int) (p : Int)) s6 hK (by omega) (fun m x => by rw [X15_wordBits_30]) (fun τ k1 k2 => ?_)
  rw [X15_wordBits_48, wp_lt]
  refine lpT (f := fun k o B => let e := isB (lvD Ms s) aw k x B; mpB (fun j B => muxB (lvD Ms s) e.1 (stL Ms s g (w * k + j)) (o j) B) w o e.2) (x0 := fun _ => 0) (B0 := B) (w := wsG Ms s g) (L := fun m j _ => X15_wordBits_51 m (g : Int) (a : Int) (aw : Int) ((200 * S + g : Nat) : Int) (w : Int) (p : Int) (j : Int)) (I := fun j o B' τ' => KT (inbS Ms s (lsG s)) (keptS Ms s (lsG s)) σ τ' B' (p + w) ∧ goB (lvD Ms s) B B' ∧ ltA (lvD Ms s) B' w o ∧ PL (σ.1 2153) (τ'.1 2153) p w o) ?_ ?_ (show wsG Ms s g < FU by omega) ⟨k1, goB.refl hK.2.1, fun _ _ => ltB0, k2⟩
  · rintro m k o' B' τ' hk ⟨j1, j2, j3, j4⟩ ih
    show wp (X15_wordBits_51 (m + 1) (g : Int) (a : Int) (aw : Int) ((200 * S + g : Nat) : Int) (w : Int) (p : Int) (k : Int)) τ' _
    have r24 : τ'.1 2124 = σ.1 2124 := j1.2.2.1.1 2124 (by decide) (by decide) (by decide) (by decide) (by decide) (by decide) (by decide)
    have ig := isB_go (k := k) j2.1 (j2.la hx)
    have mg := mpB_go (w := w) (o := o') (g := fun j B => muxB (lvD Ms s) (isB (lvD Ms s) aw k x B').1 (stL Ms s g (w * k + j)) (o' j) B) ig.1.1 (fun j B2 hj h2 => okB.go (muxB_ok h2.1 (h2.lt ig.2) (hst k j hk hj).2 (h2.lt (ig.1.lt (j3 j hj)))))
    rw [X15_wordBits_51, wp_bd, RI_2124 (by omega) (by omega), tn, r24, g3, wp_ifn (by omega)]
    refine isT hl j1 haw (by omega) (j2.la hx) ⟨by omega, fun j hj => by rw [j4.1 _ (by omega)]; exact ha.2 j hj⟩ (fun υ a1 a2 => ?_)
    rw [wp_lt, wp_lt]
    refine lpT (f := fun j o B => (ups o j (muxB (lvD Ms s) (isB (lvD Ms s) aw k x B').1 (stL Ms s g (w * k + j)) (o' j) B).1, (muxB (lvD Ms s) (isB (lvD Ms s) aw k x B').1 (stL Ms s g (w * k + j)) (o' j) B).2)) (x0 := o') (B0 := (isB (lvD Ms s) aw k x B').2) (w := w) (L := fun f' j _ => X15_wordBits_76 (X15_wordBits_51 m) f' (g : Int) (a : Int) (aw : Int) ((200 * S + g : Nat) : Int) (w : Int) (p : Int) (k : Int) ((isB (lvD Ms s) aw k x B').1 : Int) (j : Int)) (I := fun j o B2 υ => KT (inbS Ms s (lsG s)) (keptS Ms s (lsG s)) σ υ B2 (p + w) ∧ goB (lvD Ms s) (isB (lvD Ms s) aw k x B').2 B2 ∧ PL (σ.1 2153) (υ.1 2153) p w o ∧ ∀ q, j ≤ q → q < w → o q = o' q) ?_ ?_ (show w < FU by omega) ⟨a1, goB.refl ig.1.1, j4.e a2, fun _ _ _ => rfl⟩
    · rintro f' j o2 B2 υ2 hj ⟨b1, b2, b3, b4⟩ ih2
      show wp (X15_wordBits_76 (X15_wordBits_51 m) (f' + 1) (g : Int) (a : Int) (aw : Int) ((200 * S + g : Nat) : Int) (w : Int) (p : Int) (k : Int) ((isB (lvD Ms s) aw k x B').1 : Int) (j : Int)) υ2 _
      obtain ⟨t1, t2⟩ := hst (B' := B2) k j hk hj
      have r55 : υ2.1 2155 = σ.1 2155 := b1.2.2.1.1 2155 (by decide) (by decide) (by decide) (by decide) (by decide) (by decide) (by decide)
      have r54 : υ2.1 2154 = σ.1 2154 := b1.2.2.1.1 2154 (by decide) (by decide) (by decide) (by decide) (by decide) (by decide) (by decide)
      rw [X15_wordBits_76, wp_ifn (by omega), wp_bd, RI_2155 (by omega) (by omega), tn, r55, hS.2.2 g hg, wp_bd, wM (by omega), wN (a := bitsS Ms s g) (by omega), wN (by omega), RI_2154 (by omega) (by omega), tn, r54, Nat.add_assoc, hlit _ t1, wp_bd, wN (a := p) (by omega), RI_2153 (by omega) (by omega), tn, b3.2 j hj, b4 j (Nat.le_refl j) hj]
      refine tMux hl b1 (b2.lt ig.2) t2 (b2.lt (ig.1.lt (j3 j hj))) (fun υ3 d1 d2 d3 d4 => ?_)
      rw [wp_bd, RV_2153 (by omega) (by omega), tn, wp_lt, wN1 (by omega)]
      exact ih2 _ ⟨d1.w, b2.trans d2, by dsimp only; rw [stA_eq, d4]; exact b3.set hj, fun q h1 h2 => by dsimp only; rw [ups_ne (by omega)]; exact b4 q (by omega) h2⟩
    · rintro f' υ2 ⟨b1, b2, b3, -⟩
      show wp (X15_wordBits_76 (X15_wordBits_51 m) (f' + 1) (g : Int) (a : Int) (aw : Int) ((200 * S + g : Nat) : Int) (w : Int) (p : Int) (k : Int) ((isB (lvD Ms s) aw k x B').1 : Int) (w : Int)) υ2 _
      rw [X15_wordBits_76, wp_ifp (by omega), X15_wordBits_135, wp_lt, wN1 (by omega)]
      exact ih _ ⟨b1, (j2.trans ig.1).trans mg.1, mg.2, b3⟩
  · rintro m τ' ⟨j1, j2, j3, j4⟩
    show wp (X15_wordBits_51 (m + 1) (g : Int) (a : Int) (aw : Int) ((200 * S + g : Nat) : Int) (w : Int) (p : Int) (wsG Ms s g : Int)) τ' _
    have r24 : τ'.1 2124 = σ.1 2124 := j1.2.2.1.1 2124 (by decide) (by decide) (by decide) (by decide) (by decide) (by decide) (by decide)
    rw [X15_wordBits_51, wp_bd, RI_2124 (by omega) (by omega), tn, r24, g3, wp_ifp (by omega), wp_rt]
    exact hQ τ' j1 j4
theorem hs0 {k : Int} (h : k = 64 ∨ k = 53 ∨ k = 66 ∨ k = 19 ∨ k = 20 ∨ k = 21) {Q : Int → St → Prop} : wp (F_X15_hasSecond k) σ Q = Q 0 σ := by
  have z19 : (19 : Int64).toInt = 19 := rfl
  have z21 : (21 : Int64).toInt = 21 := rfl
  rw [F_X15_hasSecond]
  rcases h with h | h | h | h | h | h <;> subst h
  · rw [wp_ifp rfl, c_rtZ (by decide) (by decide)]
  · rw [wp_ifn (by decide), wp_ifp rfl, c_rtZ (by decide) (by decide)]
  · rw [wp_ifn (by decide), wp_ifn (by decide), wp_ifp rfl, c_rtZ (by decide) (by decide)]
  · rw [wp_ifn (by decide), wp_ifn (by decide), wp_ifn (by decide), wp_bd, wp_in15, i2l_t (by decide) (by decide), z19, z21, wp_ifn (by decide), c_rtZ (by decide) (by decide)]
  · rw [wp_ifn (by decide), wp_ifn (by decide), wp_ifn (by decide), wp_bd, wp_in15, i2l_t (by decide) (by decide), z19, z21, wp_ifn (by decide), c_rtZ (by decide) (by decide)]
  · rw [wp_ifn (by decide), wp_ifn (by decide), wp_ifn (by decide), wp_bd, wp_in15, i2l_t (by decide) (by decide), z19, z21, wp_ifn (by decide), c_rtZ (by decide) (by decide)]
theorem hs1 {k : Int} (h1 : 22 ≤ k) (h2 : k ≤ 1000) (h3 : k ≠ 64 ∧ k ≠ 53 ∧ k ≠ 66) {Q : Int → St → Prop} : wp (F_X15_hasSecond k) σ Q = Q 1 σ := by
  have z19 : (19 : Int64).toInt = 19 := rfl
  have z21 : (21 : Int64).toInt = 21 := rfl
  rw [F_X15_hasSecond, wp_ifn h3.1, wp_ifn h3.2.1, wp_ifn h3.2.2, wp_bd, wp_in15, i2l_t (by omega) (by omega), z19, z21, wp_ifp (if_neg (by omega)), c_rtZ (by decide) (by decide)]
theorem e300 {S m k : Nat} (hS : S < 5) (hm : m < 12) (hk : k < 240) : w32 (((300 * (12 * S + m) : Nat) : Int) + (k : Int)) = ((300 * (12 * S + m) + k : Nat) : Int) := wN (by omega)
theorem e40 {S i t : Nat} (hS : S < 5) (hi : i < 101) (ht : t < 40) : w32 (w32 (40 * w32 (w32 (101 * (S : Int)) + (i : Int))) + (t : Int)) = ((4040 * S + (40 * i + t) : Nat) : Int) := by
  rw [w32_i (x := 101 * (S : Int)) (by omega) (by omega), w32_i (x := 101 * (S : Int) + (i : Int)) (by omega) (by omega), w32_i (x := 40 * (101 * (S : Int) + (i : Int))) (by omega) (by omega), w32_i (by omega) (by omega)]
  omega
/-- a word is joined -/
theorem joinW (hd : DP Ms top s) (hlim : limOK Ms s) (hS5 : S < 5) (hS : SBM Ms top s S σ) (hK : KT (inbS Ms s (lsG s)) (keptS Ms s (lsG s)) σ σ B p) (hi : i < lsI s) {m : Nat} (hm : m < mdN (moI Ms s i)) (h2 : gO (gI' Ms s i) m = 2) {to : Nat} {x : Nat → Nat} (hx : ltA (lvD Ms s) B (gW (gI' Ms s i) (m - 1)) x) (hto : p = to + gW (gI' Ms s i) (m - 1)) (ha : ∀ j, j < gW (gI' Ms s i) (m - 1) → σ.1 2153 (to + j) = (x j : Int)) (hp : p + 100 ≤ 200000) (hlit : ∀ g, g < lsG s → stG Ms s g → ∀ k, k < szG Ms s g → σ.1 2154 (bitsS Ms s g + k) = (stL Ms s g k : Int)) {R : (Nat → Nat) × NB} (hR : R = wdB (lvD Ms s) (gW (gI' Ms s i) m) (wsG Ms s (lsL s (40 * i + (gA (gI' Ms s i) m).toNat))) (gW (gI' Ms s i) (m - 1)) x (stL Ms s (lsL s (40 * i + (gA (gI' Ms s i) m).toNat))) B) (hQ : ∀ τ, KT (inbS Ms s (lsG s)) (keptS Ms s (lsG s)) σ τ R.2 (to + gW (gI' Ms s i) m) → PL (σ.1 2153) (τ.1 2153) to (gW (gI' Ms s i) m) R.1 → Q () τ) : wp (F_X15_join (i : Int) ((300 * (12 * S + lsM s i) : Nat) : Int) (m : Int)) σ Q := by
  have h12 := hd.1.1
  have h101 := hd.2.1.1.2
  have h40 := hd.1.2.1 (lsM s i)
  obtain ⟨hM, ok⟩ := hd.inst hi
  have n240 : mdN (moI Ms s i) ≤ 240 := ok.1.2.1
  obtain ⟨t, t1, t2, t3, t4, t5, t6, t7, t8, t9⟩ := hd.rm hi hm h2
  obtain ⟨hnd, r92⟩ := row_m hS.1 hd hi hm
  obtain ⟨-, p92⟩ := row_m hS.1 hd hi (show m - 1 < mdN (moI Ms s i) by omega)
  have fm := (hd.nod hi (show m - 1 < mdN (moI Ms s i) by omega)).1
  obtain ⟨k0, kA, kB⟩ := nd_2 hnd h2
  rw [t1] at kA
  rw [t8] at kB
  rw [t1, tn] at hR
  subst hR
  have pl : σ.1 2121 (4040 * S + (40 * i + t)) = (lsL s (40 * i + t) : Int) := hS.1.1.2.2.1 _ ⟨i, t, hi, t2, rfl⟩
  have t2' : t < 40 := by
    have : t < mdT (Ms (lsM s i)) := t2
    omega
  have s6 := (hd.sig t4).2.2.2.2.1
  rw [F_X15_join, wp_lt, e300 hS5 (by omega) (by omega), wp_bd, RI_2092 (by omega) (by omega), tn, r92, wp_lt, wp_bd, RI_2088 (by omega) (by omega), tn, k0, wp_ifp rfl, wp_bd, wp_gI, hK.2.2.2, wp_lt, wp_bd, RI_2090 (by omega) (by omega), tn, kB, wp_bd, e300 hS5 (by omega) (by omega), RI_2092 (by omega) (by omega), tn, p92, wp_lt, w32_i (x := (p : Int) - (gW (gI' Ms s i) (m - 1) : Int)) (by omega) (by omega), show (p : Int) - (gW (gI' Ms s i) (m - 1) : Int) = (to : Int) by omega, wp_bd, wp_gI, hS.2.1, wp_bd, RI_2089 (by omega) (by omega), tn, kA, wp_bd, e40 hS5 (by omega) t2', RI_2121 (by omega) (by omega), tn, pl, w32_i (by omega) (by omega), show (p : Int) - (to : Int) = (gW (gI' Ms s i) (m - 1) : Int) by omega]
  rw [← t6] at hQ
  refine wdT hd hlim hS5 hS hK t4 t5 (hlit _ t4 (Or.inr t5)) fm.2.2.1 hx ⟨by omega, ha⟩ (by omega) (fun τ k1 k2 => ?_)
  refine tDown k1 k2 (by omega) (by omega) (fun τ2 d1 d2 => ?_)
  rw [wp_rt]
  exact hQ τ2 d1 d2
/-- a node of one part is joined -/
theorem joinU (hd : DP Ms top s) (hlim : limOK Ms s) (hS5 : S < 5) (hS : SBM Ms top s S σ) (hK : KT (inbS Ms s (lsG s)) (keptS Ms s (lsG s)) σ σ B p) (hi : i < lsI s) {m : Nat} (hm : m < mdN (moI Ms s i)) (h3 : 3 ≤ gO (gI' Ms s i) m) (h8 : gO (gI' Ms s i) m ≤ 8) {to : Nat} {x b c : Nat → Nat} {wb : Nat} (hx : ltA (lvD Ms s) B (gW (gI' Ms s i) (m - 1)) x) (hto : p = to + gW (gI' Ms s i) (m - 1)) (ha : ∀ j, j < gW (gI' Ms s i) (m - 1) → σ.1 2153 (to + j) = (x j : Int)) (hp : p + 100 ≤ 200000) {R : (Nat → Nat) × NB} (hR : R = opB (lvD Ms s) (gO (gI' Ms s i) m) (gW (gI' Ms s i) m) (gW (gI' Ms s i) (m - 1)) wb (gC (gI' Ms s i) m).toNat x b c B) (hQ : ∀ τ, KT (inbS Ms s (lsG s)) (keptS Ms s (lsG s)) σ τ R.2 (to + gW (gI' Ms s i) m) → PL (σ.1 2153) (τ.1 2153) to (gW (gI' Ms s i) m) R.1 → Q () τ) : wp (F_X15_join (i : Int) ((300 * (12 * S + lsM s i) : Nat) : Int) (m : Int)) σ Q := by
  have h12 := hd.1.1
  have h101 := hd.2.1.1.2
  have hl : inbS Ms s (lsG s) ≤ 64 ∧ keptS Ms s (lsG s) ≤ 200 := ⟨hlim.2.2.1, hlim.1.2⟩
  have hlv : lvD Ms s ≤ 264 := by unfold lvD; omega
  obtain ⟨hM, ok⟩ := hd.inst hi
  have n240 : mdN (moI Ms s i) ≤ 240 := ok.1.2.1
  obtain ⟨⟨z1, z2, z3, zf⟩, -, -, -, w3, -, -⟩ := hd.nod hi hm
  obtain ⟨q1, q2, q3, q4, q5, q6'⟩ := w3 h3 h8
  have q6 : ∀ _ : Unit, gO (gI' Ms s i) m = 8 → ∃ lo : Nat, gC (gI' Ms s i) m = (lo : Int) ∧ lo + gW (gI' Ms s i) m ≤ gW (gI' Ms s i) (m - 1) := fun _ => q6'
  clear q6' w3
  obtain ⟨hnd, r92⟩ := row_m hS.1 hd hi hm
  obtain ⟨-, p92⟩ := row_m hS.1 hd hi (show m - 1 < mdN (moI Ms s i) by omega)
  have hwi := (hd.nod hi (show m - 1 < mdN (moI Ms s i) by omega)).1.2.2.1
  obtain ⟨kA, kk⟩ := nd_un hnd h3 h8
  rw [q2] at kA
  have n1 : ∀ {x : Nat}, ltB (lvD Ms s) B x → ixor (x : Int) 1 = (ng x : Int) := fun hx => ixor1 (ltB_lt hK.2.1 hlv hx)
  obtain ⟨K, hKK⟩ : ∃ K, K = σ.1 2088 (300 * (12 * S + lsM s i) + m) := ⟨_, rfl⟩
  rw [← hKK] at kk
  have kN : K = 64 ∨ K = 53 ∨ K = 66 ∨ K = 19 ∨ K = 20 ∨ K = 21 := by
    rcases kk with h | h | h | h | h | h
    · exact Or.inr (Or.inr (Or.inr (Or.inl h.1)))
    · exact Or.inr (Or.inr (Or.inr (Or.inr (Or.inl h.1))))
    · exact Or.inr (Or.inr (Or.inr (Or.inr (Or.inr h.1))))
    · exact Or.inr (Or.inl h.1)
    · exact Or.inl h.1
    · exact Or.inr (Or.inr (Or.inl h.1))
  have n63 : K ≠ 63 ∧ K ≠ 40 := by rcases kN with h | h | h | h | h | h <;> rw [h] <;> decide
  rw [F_X15_join, wp_lt, e300 hS5 (by omega) (by omega), wp_bd, RI_2092 (by omega) (by omega), tn, r92, wp_lt, wp_bd, RI_2088 (by omega) (by omega), tn, ← hKK, wp_ifn n63.1, wp_bd, RI_2089 (by omega) (by omega), tn, kA, wp_bd, e300 hS5 (by omega) (by omega), RI_2092 (by omega) (by omega), tn, p92, wp_lt, wp_bd, wp_gI, hK.2.2.2, wp_lt, wp_bd, RI_2088 (by omega) (by omega), tn, ← hKK, wp_ifn n63.2, X15_join_152, wp_lt, wp_bd, RI_2088 (by omega) (by omega), tn, ← hKK, wp_bd, hs0 kN, wp_ifp rfl, X15_join_189, wp_lt, wp_lt, w32_i (by omega) (by omega), show (p : Int) - (gW (gI' Ms s i) (m - 1) : Int) = (to : Int) by omega, wp_bd, RI_2088 (by omega) (by omega), tn, ← hKK]
  unfold opB at hR
  by_cases c8 : gO (gI' Ms s i) m = 8
  · obtain ⟨lo, l1, l2⟩ := q6 () c8
    have kB : σ.1 2090 (300 * (12 * S + lsM s i) + m) = (lo : Int) ∧ K = 64 := by
      rcases kk with h | h | h | h | h | h
      · exact absurd (h.2.symm.trans c8) (by decide)
      · exact absurd (h.2.symm.trans c8) (by decide)
      · exact absurd (h.2.symm.trans c8) (by decide)
      · exact absurd (h.2.symm.trans c8) (by decide)
      · exact ⟨h.2.2.trans l1, h.1⟩
      · exact absurd (h.2.symm.trans c8) (by decide)
    rw [if_neg (by omega), if_neg (by omega), if_neg (by omega), if_neg (by omega), if_neg (by omega), if_pos c8, l1, tn] at hR
    subst hR
    have hF := FU_ge
    rw [wp_ifp kB.2, wp_lt]
    refine lpN (w := gW (gI' Ms s i) m) (L := fun f j => X15_join_213 f ((300 * (12 * S + lsM s i) + m : Nat) : Int) (gW (gI' Ms s i) m : Int) (to : Int) (j : Int)) (I := fun j τ => KT (inbS Ms s (lsG s)) (keptS Ms s (lsG s)) σ τ B p ∧ (∀ k, k < to → τ.1 2153 k = σ.1 2153 k) ∧ (∀ k, k < j → τ.1 2153 (to + k) = (x (lo + k) : Int)) ∧ (∀ k, j ≤ k → τ.1 2153 (to + k) = σ.1 2153 (to + k)) ∧ τ.1 2090 = σ.1 2090) ?_ ?_ (show gW (gI' Ms s i) m < FU by omega) ⟨hK, fun _ _ => rfl, fun k hk => absurd hk (Nat.not_lt_zero k), fun _ _ => rfl, rfl⟩
    · rintro f j τ hj ⟨k1, k2, k3, k4, k5⟩ ih
      show wp (X15_join_213 (f + 1) ((300 * (12 * S + lsM s i) + m : Nat) : Int) (gW (gI' Ms s i) m : Int) (to : Int) (j : Int)) τ Q
      rw [X15_join_213, wp_ifn (by omega), wp_bd, RI_2090 (by omega) (by omega), tn, k5, kB.1, wp_bd, wN (a := to) (by omega), wN (by omega), RI_2153 (by omega) (by omega), tn, Nat.add_assoc, k4 _ (by omega), ha _ (by omega), wp_bd, wN (by omega), RV_2153 (by omega) (by omega), tn, wp_lt, wN1 (by omega)]
      refine ih _ ⟨k1.w, fun k hk => ?_, fun k hk => ?_, fun k hk => ?_, ?_⟩
      · dsimp only; rw [stA_eq, ups_ne (by omega)]; exact k2 k hk
      · dsimp only; rw [stA_eq]
        by_cases e : k = j
        · subst e; rw [ups_eq]
        · rw [ups_ne (by omega)]; exact k3 k (by omega)
      · dsimp only; rw [stA_eq, ups_ne (by omega)]; exact k4 k (by omega)
      · dsimp only; rw [stA_ne (by decide)]; exact k5
    · rintro f τ ⟨k1, k2, k3, k4, k5⟩
      show wp (X15_join_213 (f + 1) ((300 * (12 * S + lsM s i) + m : Nat) : Int) (gW (gI' Ms s i) m : Int) (to : Int) (gW (gI' Ms s i) m : Int)) τ Q
      rw [X15_join_213, wp_ifp (by omega), X15_join_254, wp_bd, wp_pI, wN (by omega), wp_rt]
      refine hQ _ (k1.pt (q := to + gW (gI' Ms s i) m) rfl) ⟨fun k hk => ?_, fun k hk => ?_⟩
      · dsimp only; rw [stA_ne (by decide)]; exact k2 k hk
      · dsimp only; rw [stA_ne (by decide)]; exact k3 k hk
  have k64 : K ≠ 64 := by
    rcases kk with h | h | h | h | h | h
    · rw [h.1]; decide
    · rw [h.1]; decide
    · rw [h.1]; decide
    · rw [h.1]; decide
    · exact absurd h.2.1 c8
    · rw [h.1]; decide
  rw [wp_ifn k64, wp_bd, RI_2088 (by omega) (by omega), tn, ← hKK, wp_bd, hs0 kN, wp_ifp rfl, wp_bd, RI_2088 (by omega) (by omega), tn, ← hKK, wp_bd]
  -- what is pushed comes down
  have down : ∀ τ, KT (inbS Ms s (lsG s)) (keptS Ms s (lsG s)) σ τ R.2 (p + gW (gI' Ms s i) m) → PL (σ.1 2153) (τ.1 2153) p (gW (gI' Ms s i) m) R.1 → wp (bd (F_X15_settle (p : Int) (to : Int)) fun _ => rt ()) τ Q := fun τ k1 k2 => tDown k1 k2 (by omega) (by omega) (fun τ2 d1 d2 => by rw [wp_rt]; exact hQ τ2 d1 d2)
  clear hQ
  rw [F_X15_oneBits]
  by_cases c3 : gO (gI' Ms s i) m = 3
  · have q4' := q4 (by omega)
    have eK : K = 53 := by
      rcases kk with h | h | h | h | h | h
      · exact absurd (h.2.symm.trans c3) (by decide)
      · exact absurd (h.2.symm.trans c3) (by decide)
      · exact absurd (h.2.symm.trans c3) (by decide)
      · exact h.1
      · exact absurd (h.2.1.symm.trans c3) (by decide)
      · exact absurd (h.2.symm.trans c3) (by decide)
    rw [if_pos c3] at hR
    subst hR
    rw [wp_ifp eK, wp_lt, ← q4']
    exact notT hl hK z3 (by rw [q4']; exact hx) ⟨by omega, by rw [q4']; exact ha⟩ (by omega) down
  rw [if_neg c3] at hR
  by_cases c4 : gO (gI' Ms s i) m = 4
  · have q4' := q4 (by omega)
    have eK : K = 66 := by
      rcases kk with h | h | h | h | h | h
      · exact absurd (h.2.symm.trans c4) (by decide)
      · exact absurd (h.2.symm.trans c4) (by decide)
      · exact absurd (h.2.symm.trans c4) (by decide)
      · exact absurd (h.2.symm.trans c4) (by decide)
      · exact absurd (h.2.1.symm.trans c4) (by decide)
      · exact h.1
    rw [if_pos c4] at hR
    subst hR
    rw [eK, wp_ifn (by decide), wp_ifp rfl, wp_bd, wp_gI, hK.2.2.2, wp_lt, wp_lt, ← q4']
    refine zeroT (L := fun m' x5 => X15_oneBits_52 m' (to : Int) (gW (gI' Ms s i) m : Int) (p : Int) x5) (C := X15_oneBits_69 (to : Int) (gW (gI' Ms s i) m : Int) (p : Int)) z3 hK (by omega) (fun m' x => by rw [X15_oneBits_52]) (fun τ k1 k2 => ?_)
    rw [X15_oneBits_69, wp_bd, wp_gI, k1.2.2.2, wp_lt]
    refine sumT (t := 1) (x := fun _ => 0) (y := fun j => ng (x j)) (o := fun _ => 0) hl k1 (by decide) z3 (fun _ _ => ltB0) (fun j hj => ltB_ng (hx j (by omega))) ⟨by omega, k2.2⟩ ⟨by omega, fun j hj => by rw [k2.1 _ (by omega), ha j (by omega)]; exact n1 (hx j (by omega))⟩ (by omega) (fun τ2 d1 d2 => ?_)
    refine tDown d1 d2 (by omega) (by omega) (fun τ3 f1 f2 => ?_)
    rw [wp_rt]
    exact down τ3 f1 ⟨fun k hk => (f2.1 k hk).trans (k2.1 k hk), f2.2⟩
  rw [if_neg c4] at hR
  have w1 := q5 (by omega) (by omega)
  rw [w1] at down
  by_cases c5 : gO (gI' Ms s i) m = 5
  · rw [if_pos c5] at hR
    have eK : K = 19 := by
      rcases kk with h | h | h | h | h | h
      · exact h.1
      · exact absurd (h.2.symm.trans c5) (by decide)
      · exact absurd (h.2.symm.trans c5) (by decide)
      · exact absurd (h.2.symm.trans c5) (by decide)
      · exact absurd (h.2.1.symm.trans c5) (by decide)
      · exact absurd (h.2.symm.trans c5) (by decide)
    have hf : fdG (lvD Ms s) (gO (gI' Ms s i) m) = fun p v B' => andB (lvD Ms s) p v B' := by funext p v B'; exact if_pos c5
    have hR' : R = (fun _ => (rdB1 (fdG (lvD Ms s) (gO (gI' Ms s i) m)) (gW (gI' Ms s i) (m - 1)) 1 x B).1, (rdB1 (fdG (lvD Ms s) (gO (gI' Ms s i) m)) (gW (gI' Ms s i) (m - 1)) 1 x B).2) := by rw [hR, hf]
    subst hR'
    rw [eK, wp_ifn (by decide), wp_ifn (by decide), wp_ifp rfl]
    exact rdFT (op := (gO (gI' Ms s i) m)) (K := 19) (s0 := 1) hl hK (Or.inl ⟨c5, rfl⟩) (by decide) hwi hx ⟨by omega, ha⟩ (by omega) down
  rw [if_neg c5] at hR
  by_cases c6 : gO (gI' Ms s i) m = 6
  · rw [if_pos c6] at hR
    have eK : K = 20 := by
      rcases kk with h | h | h | h | h | h
      · exact absurd (h.2.symm.trans c6) (by decide)
      · exact h.1
      · exact absurd (h.2.symm.trans c6) (by decide)
      · exact absurd (h.2.symm.trans c6) (by decide)
      · exact absurd (h.2.1.symm.trans c6) (by decide)
      · exact absurd (h.2.symm.trans c6) (by decide)
    have hf : fdG (lvD Ms s) (gO (gI' Ms s i) m) = fun p v B' => orB (lvD Ms s) p v B' := by funext p v B'; exact (if_neg c5).trans (if_pos c6)
    have hR' : R = (fun _ => (rdB1 (fdG (lvD Ms s) (gO (gI' Ms s i) m)) (gW (gI' Ms s i) (m - 1)) 0 x B).1, (rdB1 (fdG (lvD Ms s) (gO (gI' Ms s i) m)) (gW (gI' Ms s i) (m - 1)) 0 x B).2) := by rw [hR, hf]
    subst hR'
    rw [eK, wp_ifn (by decide), wp_ifn (by decide), wp_ifn (by decide)]
    exact rdFT (op := (gO (gI' Ms s i) m)) (K := 20) (s0 := 0) hl hK (Or.inr (Or.inl ⟨c6, rfl⟩)) (by decide) hwi hx ⟨by omega, ha⟩ (by omega) down
  rw [if_neg c6] at hR
  have c7 : gO (gI' Ms s i) m = 7 := by omega
  rw [if_pos c7] at hR
  have eK : K = 21 := by
    rcases kk with h | h | h | h | h | h
    · exact absurd (h.2.symm.trans c7) (by decide)
    · exact absurd (h.2.symm.trans c7) (by decide)
    · exact h.1
    · exact absurd (h.2.symm.trans c7) (by decide)
    · exact absurd (h.2.1.symm.trans c7) (by decide)
    · exact absurd (h.2.symm.trans c7) (by decide)
  have hf : fdG (lvD Ms s) (gO (gI' Ms s i) m) = fun p v B' => xorB (lvD Ms s) p v B' := by funext p v B'; exact (if_neg c5).trans (if_neg c6)
  have hR' : R = (fun _ => (rdB1 (fdG (lvD Ms s) (gO (gI' Ms s i) m)) (gW (gI' Ms s i) (m - 1)) 0 x B).1, (rdB1 (fdG (lvD Ms s) (gO (gI' Ms s i) m)) (gW (gI' Ms s i) (m - 1)) 0 x B).2) := by rw [hR, hf]
  subst hR'
  rw [eK, wp_ifn (by decide), wp_ifn (by decide), wp_ifn (by decide)]
  exact rdFT (op := (gO (gI' Ms s i) m)) (K := 21) (s0 := 0) hl hK (Or.inr (Or.inr ⟨c7, rfl⟩)) (by decide) hwi hx ⟨by omega, ha⟩ (by omega) down
/-- a node of two parts is joined -/
theorem joinB (hd : DP Ms top s) (hlim : limOK Ms s) (hS5 : S < 5) (hS : SBM Ms top s S σ) (hK : KT (inbS Ms s (lsG s)) (keptS Ms s (lsG s)) σ σ B p) (hi : i < lsI s) {m : Nat} (hm : m < mdN (moI Ms s i)) (h9 : 9 ≤ gO (gI' Ms s i) m) (h19 : gO (gI' Ms s i) m ≠ 19) {a b to : Nat} {x y z : Nat → Nat} {lo : Nat} (da : gA (gI' Ms s i) m = (a : Int)) (db : gB (gI' Ms s i) m = (b : Int)) (hx : ltA (lvD Ms s) B (gW (gI' Ms s i) a) x) (hy : ltA (lvD Ms s) B (gW (gI' Ms s i) b) y) (hto : p = to + gW (gI' Ms s i) a + gW (gI' Ms s i) b) (ha : ∀ j, j < gW (gI' Ms s i) a → σ.1 2153 (to + j) = (x j : Int)) (hb : ∀ j, j < gW (gI' Ms s i) b → σ.1 2153 (to + gW (gI' Ms s i) a + j) = (y j : Int)) (hp : p + 100 ≤ 200000) {R : (Nat → Nat) × NB} (hR : R = opB (lvD Ms s) (gO (gI' Ms s i) m) (gW (gI' Ms s i) m) (gW (gI' Ms s i) a) (gW (gI' Ms s i) b) lo x y z B) (hQ : ∀ τ, KT (inbS Ms s (lsG s)) (keptS Ms s (lsG s)) σ τ R.2 (to + gW (gI' Ms s i) m) → PL (σ.1 2153) (τ.1 2153) to (gW (gI' Ms s i) m) R.1 → Q () τ) : wp (F_X15_join (i : Int) ((300 * (12 * S + lsM s i) : Nat) : Int) (m : Int)) σ Q := by
  have h12 := hd.1.1
  have h101 := hd.2.1.1.2
  have hl : inbS Ms s (lsG s) ≤ 64 ∧ keptS Ms s (lsG s) ≤ 200 := ⟨hlim.2.2.1, hlim.1.2⟩
  have hlv : lvD Ms s ≤ 264 := by unfold lvD; omega
  obtain ⟨hM, ok⟩ := hd.inst hi
  have n240 : mdN (moI Ms s i) ≤ 240 := ok.1.2.1
  obtain ⟨⟨z1, z2, z3, zf⟩, -⟩ := hd.nod hi hm
  obtain ⟨a', b', d1, d2, ⟨d3, d4⟩, ⟨d5, d6⟩, d7, d8, d9, d10, d11⟩ := hd.two hi hm h9
  have ea : a' = a := by omega
  have eb : b' = b := by omega
  subst ea
  subst eb
  obtain ⟨hnd, r92⟩ := row_m hS.1 hd hi hm
  obtain ⟨-, a92⟩ := row_m hS.1 hd hi (show a' < mdN (moI Ms s i) by omega)
  obtain ⟨-, b92⟩ := row_m hS.1 hd hi (show b' < mdN (moI Ms s i) by omega)
  have wa := (hd.nod hi (show a' < mdN (moI Ms s i) by omega)).1.2.2.1
  have wb := (hd.nod hi (show b' < mdN (moI Ms s i) by omega)).1.2.2.1
  obtain ⟨kA, kB, kk⟩ := nd_bi hnd h9 h19
  rw [d1] at kA
  rw [d2] at kB
  have n1 : ∀ {x : Nat}, ltB (lvD Ms s) B x → ixor (x : Int) 1 = (ng x : Int) := fun hx => ixor1 (ltB_lt hK.2.1 hlv hx)
  have n0 : ∀ {x : Nat}, ltB (lvD Ms s) B x → ixor (x : Int) 0 = (x : Int) := fun hx => ixor0 (ltB_lt hK.2.1 hlv hx)
  obtain ⟨K, hKK⟩ : ∃ K, K = σ.1 2088 (300 * (12 * S + lsM s i) + m) := ⟨_, rfl⟩
  rw [← hKK] at kk
  have kN : K = 65 ∨ K = 51 ∨ K = 52 ∨ K = 50 ∨ K = 44 ∨ K = 45 ∨ K = 46 ∨ K = 47 ∨ K = 48 ∨ K = 49 ∨ K = 54 ∨ K = 55 := by
    rcases kk with h | h | h | h | h | h | h | h | h | h | h | h <;> rw [h.2] <;> decide
  have n63 : K ≠ 63 ∧ K ≠ 40 ∧ K ≠ 64 ∧ K ≠ 53 ∧ K ≠ 66 ∧ 22 ≤ K ∧ K ≤ 1000 := by rcases kN with h | h | h | h | h | h | h | h | h | h | h | h <;> rw [h] <;> decide
  obtain ⟨n1', n2', n3', n4', n5', n6', n7'⟩ := n63
  rw [F_X15_join, wp_lt, e300 hS5 (by omega) (by omega), wp_bd, RI_2092 (by omega) (by omega), tn, r92, wp_lt, wp_bd, RI_2088 (by omega) (by omega), tn, ← hKK, wp_ifn n1', wp_bd, RI_2089 (by omega) (by omega), tn, kA, wp_bd, e300 hS5 (by omega) (by omega), RI_2092 (by omega) (by omega), tn, a92, wp_lt, wp_bd, wp_gI, hK.2.2.2, wp_lt, wp_bd, RI_2088 (by omega) (by omega), tn, ← hKK, wp_ifn n2', X15_join_152, wp_lt, wp_bd, RI_2088 (by omega) (by omega), tn, ← hKK, wp_bd, hs1 n6' n7' ⟨n3', n4', n5'⟩, wp_ifn (by decide), wp_bd, RI_2090 (by omega) (by omega), tn, kB, wp_bd, e300 hS5 (by omega) (by omega), RI_2092 (by omega) (by omega), tn, b92, w32_i (x := (p : Int) - (gW (gI' Ms s i) b' : Int)) (by omega) (by omega), show (p : Int) - (gW (gI' Ms s i) b' : Int) = ((to + gW (gI' Ms s i) a' : Nat) : Int) by omega, X15_join_189, wp_lt, wp_lt, w32_i (x := ((to + gW (gI' Ms s i) a' : Nat) : Int) - (gW (gI' Ms s i) a' : Int)) (by omega) (by omega), show ((to + gW (gI' Ms s i) a' : Nat) : Int) - (gW (gI' Ms s i) a' : Int) = (to : Int) by omega, wp_bd, RI_2088 (by omega) (by omega), tn, ← hKK, wp_ifn n3', wp_bd, RI_2088 (by omega) (by omega), tn, ← hKK, wp_bd, hs1 n6' n7' ⟨n3', n4', n5'⟩, wp_ifn (by decide), wp_bd, RI_2088 (by omega) (by omega), tn, ← hKK, wp_bd]
  have down : ∀ τ, KT (inbS Ms s (lsG s)) (keptS Ms s (lsG s)) σ τ R.2 (p + gW (gI' Ms s i) m) → PL (σ.1 2153) (τ.1 2153) p (gW (gI' Ms s i) m) R.1 → wp (bd (F_X15_settle (p : Int) (to : Int)) fun _ => rt ()) τ Q := fun τ k1 k2 => tDown k1 k2 (by omega) (by omega) (fun τ2 d1 d2 => by rw [wp_rt]; exact hQ τ2 d1 d2)
  clear hQ n1' n2' n3' n4' n5' n6' n7' hKK
  unfold opB at hR
  rw [if_neg (by omega), if_neg (by omega), if_neg (by omega), if_neg (by omega), if_neg (by omega), if_neg (by omega)] at hR
  rw [F_X15_twoBits]
  rcases kk with ⟨eo, e⟩ | ⟨eo, e⟩ | ⟨eo, e⟩ | ⟨eo, e⟩ | ⟨eo, e⟩ | ⟨eo, e⟩ | ⟨eo, e⟩ | ⟨eo, e⟩ | ⟨eo, e⟩ | ⟨eo, e⟩ | ⟨eo, e⟩ | ⟨eo, e⟩ <;> subst e
  · have dw := d7 eo
    rw [if_pos eo] at hR
    subst hR
    rw [wp_ifn (by decide), wp_ifn (by decide), wp_ifn (by decide), wp_ifn (by decide), wp_ifn (by decide), wp_ifn (by decide), wp_ifn (by decide), wp_ifn (by decide), wp_ifn (by decide), wp_ifn (by decide), wp_ifn (by decide), wp_ifp rfl, wp_lt]
    exact jnT hK dw z3 (by omega) ⟨by omega, ha⟩ ⟨by omega, hb⟩ (by omega) down
  · have w1 := d10 (by omega) (by omega) (by omega)
    have w2 := d8 (by omega) (by omega)
    rw [if_neg (by omega), if_pos eo] at hR
    have hf : (fun j B' => bwG (lvD Ms s) (gO (gI' Ms s i) m) (x j) (y j) B') = fun j B' => orB (lvD Ms s) (x j) (y j) B' := by funext j B'; exact if_pos eo
    have hR' : R = mpB (fun j B' => bwG (lvD Ms s) (gO (gI' Ms s i) m) (x j) (y j) B') (gW (gI' Ms s i) m) (fun _ => 0) B := by rw [hR, hf]
    subst hR'
    rw [wp_ifn (by decide), wp_ifn (by decide), wp_ifn (by decide), wp_ifn (by decide), wp_ifn (by decide), wp_ifn (by decide), wp_ifn (by decide), wp_ifp rfl, wp_lt]
    exact bwT (K := 51) hl hK (Or.inl ⟨eo, rfl⟩) z3 (by rw [w1]; exact hx) (by rw [w1, w2]; exact hy) ⟨by omega, by rw [w1]; exact ha⟩ ⟨by omega, fun j hj => hb j (by omega)⟩ (by omega) down
  · have w1 := d10 (by omega) (by omega) (by omega)
    have w2 := d8 (by omega) (by omega)
    rw [if_neg (by omega), if_neg (by omega), if_pos eo] at hR
    have hf : (fun j B' => bwG (lvD Ms s) (gO (gI' Ms s i) m) (x j) (y j) B') = fun j B' => xorB (lvD Ms s) (x j) (y j) B' := by funext j B'; exact (if_neg (by omega)).trans (if_pos eo)
    have hR' : R = mpB (fun j B' => bwG (lvD Ms s) (gO (gI' Ms s i) m) (x j) (y j) B') (gW (gI' Ms s i) m) (fun _ => 0) B := by rw [hR, hf]
    subst hR'
    rw [wp_ifn (by decide), wp_ifn (by decide), wp_ifn (by decide), wp_ifn (by decide), wp_ifn (by decide), wp_ifn (by decide), wp_ifn (by decide), wp_ifn (by decide), wp_ifp rfl, wp_lt]
    exact bwT (K := 52) hl hK (Or.inr (Or.inl ⟨eo, rfl⟩)) z3 (by rw [w1]; exact hx) (by rw [w1, w2]; exact hy) ⟨by omega, by rw [w1]; exact ha⟩ ⟨by omega, fun j hj => hb j (by omega)⟩ (by omega) down
  · have w1 := d10 (by omega) (by omega) (by omega)
    have w2 := d8 (by omega) (by omega)
    rw [if_neg (by omega), if_neg (by omega), if_neg (by omega), if_pos eo] at hR
    have hf : (fun j B' => bwG (lvD Ms s) (gO (gI' Ms s i) m) (x j) (y j) B') = fun j B' => andB (lvD Ms s) (x j) (y j) B' := by funext j B'; exact (if_neg (by omega)).trans (if_neg (by omega))
    have hR' : R = mpB (fun j B' => bwG (lvD Ms s) (gO (gI' Ms s i) m) (x j) (y j) B') (gW (gI' Ms s i) m) (fun _ => 0) B := by rw [hR, hf]
    subst hR'
    rw [wp_ifn (by decide), wp_ifn (by decide), wp_ifn (by decide), wp_ifn (by decide), wp_ifn (by decide), wp_ifn (by decide), wp_ifp rfl, wp_lt]
    exact bwT (K := 50) hl hK (Or.inr (Or.inr ⟨eo, rfl⟩)) z3 (by rw [w1]; exact hx) (by rw [w1, w2]; exact hy) ⟨by omega, by rw [w1]; exact ha⟩ ⟨by omega, fun j hj => hb j (by omega)⟩ (by omega) down
  · have w1 := d9 (by omega) (by omega)
    have w2 := d8 (by omega) (by omega)
    rw [if_neg (by omega), if_neg (by omega), if_neg (by omega), if_neg (by omega), if_pos (by omega)] at hR
    have hc : cpB (lvD Ms s) (gO (gI' Ms s i) m) (gW (gI' Ms s i) a') x y B = ((lpB (cpS (lvD Ms s) (gO (gI' Ms s i) m) x y) (gW (gI' Ms s i) a') 0 1 B).1, (lpB (cpS (lvD Ms s) (gO (gI' Ms s i) m) x y) (gW (gI' Ms s i) a') 0 1 B).2) := by unfold cpB; dsimp only; rw [if_neg (show ¬ gO (gI' Ms s i) m = 15 by omega), if_neg (show ¬ gO (gI' Ms s i) m = 14 by omega)]; rfl
    rw [hc] at hR
    subst hR
    rw [w1] at down
    rw [wp_ifp rfl]
    refine smeT (op := (gO (gI' Ms s i) m)) hl hK (by omega) wa hx (by rw [w2]; exact hy) ⟨by omega, ha⟩ ⟨by omega, fun j hj => hb j (by omega)⟩ (fun τ k1 k2 k3 => ?_)
    refine tPush k1 (by omega) (fun τ2 f1 f2 => ?_)
    rw [wp_rt]
    refine down τ2 f1 ?_
    rw [f2, k3]
    exact (PL.init (p := p) (o := fun _ => (lpB (cpS (lvD Ms s) (gO (gI' Ms s i) m) x y) (gW (gI' Ms s i) a') 0 1 B).1)).up' (j := 0)
  · have w1 := d9 (by omega) (by omega)
    have w2 := d8 (by omega) (by omega)
    rw [if_neg (by omega), if_neg (by omega), if_neg (by omega), if_neg (by omega), if_pos (by omega)] at hR
    have hc : cpB (lvD Ms s) (gO (gI' Ms s i) m) (gW (gI' Ms s i) a') x y B = (ng ((lpB (cpS (lvD Ms s) (gO (gI' Ms s i) m) x y) (gW (gI' Ms s i) a') 0 1 B).1), (lpB (cpS (lvD Ms s) (gO (gI' Ms s i) m) x y) (gW (gI' Ms s i) a') 0 1 B).2) := by unfold cpB; dsimp only; rw [if_neg (show ¬ gO (gI' Ms s i) m = 15 by omega), if_pos eo]; rfl
    rw [hc] at hR
    subst hR
    rw [w1] at down
    rw [wp_ifn (by decide), wp_ifp rfl]
    refine smeT (op := (gO (gI' Ms s i) m)) hl hK (by omega) wa hx (by rw [w2]; exact hy) ⟨by omega, ha⟩ ⟨by omega, fun j hj => hb j (by omega)⟩ (fun τ k1 k2 k3 => ?_)
    rw [ixor1 (ltB_lt k1.2.1 hlv k2)]
    refine tPush k1 (by omega) (fun τ2 f1 f2 => ?_)
    rw [wp_rt]
    refine down τ2 f1 ?_
    rw [f2, k3]
    exact (PL.init (p := p) (o := fun _ => ng ((lpB (cpS (lvD Ms s) (gO (gI' Ms s i) m) x y) (gW (gI' Ms s i) a') 0 1 B).1))).up' (j := 0)
  · have w1 := d9 (by omega) (by omega)
    have w2 := d8 (by omega) (by omega)
    rw [if_neg (by omega), if_neg (by omega), if_neg (by omega), if_neg (by omega), if_pos (by omega)] at hR
    have hc : cpB (lvD Ms s) (gO (gI' Ms s i) m) (gW (gI' Ms s i) a') x y B = ((lpB (cpS (lvD Ms s) (gO (gI' Ms s i) m) x y) (gW (gI' Ms s i) a') 0 0 B).1, (lpB (cpS (lvD Ms s) (gO (gI' Ms s i) m) x y) (gW (gI' Ms s i) a') 0 0 B).2) := by unfold cpB; dsimp only; rw [if_pos eo, if_neg (show ¬ gO (gI' Ms s i) m = 14 by omega)]; rfl
    rw [hc] at hR
    subst hR
    rw [w1] at down
    rw [wp_ifn (by decide), wp_ifn (by decide), wp_ifp rfl, wp_lt, wp_lt]
    exact ltT2 (op := (gO (gI' Ms s i) m)) hl hK eo wa hx (by rw [w2]; exact hy) ⟨by omega, ha⟩ ⟨by omega, fun j hj => hb j (by omega)⟩ (by omega) down
  · have w1 := d10 (by omega) (by omega) (by omega)
    have w2 := d8 (by omega) (by omega)
    rw [if_neg (by omega), if_neg (by omega), if_neg (by omega), if_neg (by omega), if_neg (by omega), if_pos eo] at hR
    subst hR
    rw [wp_ifn (by decide), wp_ifn (by decide), wp_ifn (by decide), wp_ifp rfl]
    exact sumT (t := 0) (o := fun _ => 0) hl hK (by decide) z3 (by rw [w1]; exact hx) (by rw [w1, w2]; exact hy) ⟨by omega, by rw [w1]; exact ha⟩ ⟨by omega, fun j hj => by rw [hb j (by omega)]; exact n0 (hy j (by omega))⟩ (by omega) (fun τ k1 k2 => by rw [wp_rt]; exact down τ k1 k2)
  · have w1 := d10 (by omega) (by omega) (by omega)
    have w2 := d8 (by omega) (by omega)
    rw [if_neg (by omega), if_neg (by omega), if_neg (by omega), if_neg (by omega), if_neg (by omega), if_neg (by omega), if_pos eo] at hR
    subst hR
    rw [wp_ifn (by decide), wp_ifn (by decide), wp_ifn (by decide), wp_ifn (by decide), wp_ifp rfl]
    exact sumT (t := 1) (y := fun j => ng (y j)) (o := fun _ => 0) hl hK (by decide) z3 (by rw [w1]; exact hx) (fun j hj => ltB_ng (hy j (by omega))) ⟨by omega, by rw [w1]; exact ha⟩ ⟨by omega, fun j hj => by rw [hb j (by omega)]; exact n1 (hy j (by omega))⟩ (by omega) (fun τ k1 k2 => by rw [wp_rt]; exact down τ k1 k2)
  · have w1 := d10 (by omega) (by omega) (by omega)
    have w2 := d8 (by omega) (by omega)
    rw [if_neg (by omega), if_neg (by omega), if_neg (by omega), if_neg (by omega), if_neg (by omega), if_neg (by omega), if_neg (by omega), if_pos eo] at hR
    subst hR
    rw [wp_ifn (by decide), wp_ifn (by decide), wp_ifn (by decide), wp_ifn (by decide), wp_ifn (by decide), wp_ifp rfl]
    exact mlT hl hK z3 (by rw [w1]; exact hx) (by rw [w1, w2]; exact hy) ⟨by omega, by rw [w1]; exact ha⟩ ⟨by omega, fun j hj => hb j (by omega)⟩ (by omega) (fun τ k1 k2 => by rw [wp_rt]; exact down τ k1 k2)
  · have w1 := d10 (by omega) (by omega) (by omega)
    rw [if_neg (by omega), if_neg (by omega), if_neg (by omega), if_neg (by omega), if_neg (by omega), if_neg (by omega), if_neg (by omega), if_neg (by omega), if_neg (by omega)] at hR
    subst hR
    have go := shT (op := (gO (gI' Ms s i) m)) (a := to) (b := to + gW (gI' Ms s i) a') (α := Unit) (g := fun _ => rt ()) (Q := fun _ τ => wp (bd (F_X15_settle (p : Int) (to : Int)) fun _ => rt ()) τ Q) hl hK z3 wb (by omega) (by rw [w1]; exact hx) hy ⟨by omega, by rw [w1]; exact ha⟩ ⟨by omega, hb⟩ (by omega) (fun τ k1 k2 => by rw [wp_rt]; exact down τ k1 k2)
    rw [wp_ifn (by decide), wp_ifn (by decide), wp_ifn (by decide), wp_ifn (by decide), wp_ifn (by decide), wp_ifn (by decide), wp_ifn (by decide), wp_ifn (by decide), wp_ifn (by decide), wp_ifp rfl, wp_ifp rfl, w32_i (by omega) (by omega), show (p : Int) - ((to + gW (gI' Ms s i) a' : Nat) : Int) = (gW (gI' Ms s i) b' : Int) by omega, X15_twoBits_437, ← w1]
    rw [if_pos eo, ← w1] at go
    exact go
  · have w1 := d10 (by omega) (by omega) (by omega)
    rw [if_neg (by omega), if_neg (by omega), if_neg (by omega), if_neg (by omega), if_neg (by omega), if_neg (by omega), if_neg (by omega), if_neg (by omega), if_neg (by omega)] at hR
    subst hR
    have go := shT (op := (gO (gI' Ms s i) m)) (a := to) (b := to + gW (gI' Ms s i) a') (α := Unit) (g := fun _ => rt ()) (Q := fun _ τ => wp (bd (F_X15_settle (p : Int) (to : Int)) fun _ => rt ()) τ Q) hl hK z3 wb (by omega) (by rw [w1]; exact hx) hy ⟨by omega, by rw [w1]; exact ha⟩ ⟨by omega, hb⟩ (by omega) (fun τ k1 k2 => by rw [wp_rt]; exact down τ k1 k2)
    rw [wp_ifn (by decide), wp_ifn (by decide), wp_ifn (by decide), wp_ifn (by decide), wp_ifn (by decide), wp_ifn (by decide), wp_ifn (by decide), wp_ifn (by decide), wp_ifn (by decide), wp_ifn (by decide), wp_ifp rfl, wp_ifn (by decide), w32_i (by omega) (by omega), show (p : Int) - ((to + gW (gI' Ms s i) a' : Nat) : Int) = (gW (gI' Ms s i) b' : Int) by omega, X15_twoBits_437, ← w1]
    rw [if_neg (by omega), ← w1] at go
    exact go
/-- a node of three parts is joined -/
theorem joinQ (hd : DP Ms top s) (hlim : limOK Ms s) (hS5 : S < 5) (hS : SBM Ms top s S σ) (hK : KT (inbS Ms s (lsG s)) (keptS Ms s (lsG s)) σ σ B p) (hi : i < lsI s) {m : Nat} (hm : m < mdN (moI Ms s i)) (h19 : gO (gI' Ms s i) m = 19) {a b to : Nat} {x y z : Nat → Nat} {lo : Nat} (da : gA (gI' Ms s i) m = (a : Int)) (db : gB (gI' Ms s i) m = (b : Int)) (hx : ltA (lvD Ms s) B 1 x) (hy : ltA (lvD Ms s) B (gW (gI' Ms s i) m) y) (hz : ltA (lvD Ms s) B (gW (gI' Ms s i) m) z) (hto : p = to + 1 + gW (gI' Ms s i) m + gW (gI' Ms s i) m) (ha : σ.1 2153 to = (x 0 : Int)) (hb : ∀ j, j < gW (gI' Ms s i) m → σ.1 2153 (to + 1 + j) = (y j : Int)) (hc : ∀ j, j < gW (gI' Ms s i) m → σ.1 2153 (to + 1 + gW (gI' Ms s i) m + j) = (z j : Int)) (hp : p + 100 ≤ 200000) {R : (Nat → Nat) × NB} (hR : R = opB (lvD Ms s) (gO (gI' Ms s i) m) (gW (gI' Ms s i) m) (gW (gI' Ms s i) a) (gW (gI' Ms s i) b) lo x y z B) (hQ : ∀ τ, KT (inbS Ms s (lsG s)) (keptS Ms s (lsG s)) σ τ R.2 (to + gW (gI' Ms s i) m) → PL (σ.1 2153) (τ.1 2153) to (gW (gI' Ms s i) m) R.1 → Q () τ) : wp (F_X15_join (i : Int) ((300 * (12 * S + lsM s i) : Nat) : Int) (m : Int)) σ Q := by
  have h12 := hd.1.1
  have h101 := hd.2.1.1.2
  have hl : inbS Ms s (lsG s) ≤ 64 ∧ keptS Ms s (lsG s) ≤ 200 := ⟨hlim.2.2.1, hlim.1.2⟩
  obtain ⟨hM, ok⟩ := hd.inst hi
  have n240 : mdN (moI Ms s i) ≤ 240 := ok.1.2.1
  obtain ⟨⟨z1, z2, z3, zf⟩, -⟩ := hd.nod hi hm
  obtain ⟨a', b', d1, d2, ⟨d3, d4⟩, ⟨d5, d6⟩, d7, d8, d9, d10, d11⟩ := hd.two hi hm (by omega)
  have ea : a' = a := by omega
  have eb : b' = b := by omega
  subst ea
  subst eb
  obtain ⟨f1, f2, f3, f4, f5, f6⟩ := d11 h19
  obtain ⟨hnd, r92⟩ := row_m hS.1 hd hi hm
  obtain ⟨-, a92⟩ := row_m hS.1 hd hi (show a' < mdN (moI Ms s i) by omega)
  obtain ⟨-, b92⟩ := row_m hS.1 hd hi (show b' < mdN (moI Ms s i) by omega)
  obtain ⟨-, c92⟩ := row_m hS.1 hd hi (show m - 1 < mdN (moI Ms s i) by omega)
  rw [f2] at a92
  rw [f3] at b92
  rw [f4] at c92
  obtain ⟨k0, kA, kB, kC⟩ := nd_q hnd h19
  rw [d1] at kA
  rw [d2] at kB
  rw [f1] at kC
  unfold opB at hR
  rw [if_neg (by omega), if_neg (by omega), if_neg (by omega), if_neg (by omega), if_neg (by omega), if_neg (by omega), if_neg (by omega), if_neg (by omega), if_neg (by omega), if_neg (by omega), if_neg (by omega), if_neg (by omega), if_neg (by omega), if_neg (by omega), if_pos h19] at hR
  subst hR
  rw [F_X15_join, wp_lt, e300 hS5 (by omega) (by omega), wp_bd, RI_2092 (by omega) (by omega), tn, r92, wp_lt, wp_bd, RI_2088 (by omega) (by omega), tn, k0, wp_ifn (by decide), wp_bd, RI_2089 (by omega) (by omega), tn, kA, wp_bd, e300 hS5 (by omega) (by omega), RI_2092 (by omega) (by omega), tn, a92, wp_lt, wp_bd, wp_gI, hK.2.2.2, wp_lt, wp_bd, RI_2088 (by omega) (by omega), tn, k0, wp_ifp rfl, wp_bd, RI_2091 (by omega) (by omega), tn, kC, wp_bd, e300 hS5 (by omega) (by omega), RI_2092 (by omega) (by omega), tn, c92, w32_i (x := (p : Int) - (gW (gI' Ms s i) m : Int)) (by omega) (by omega), show (p : Int) - (gW (gI' Ms s i) m : Int) = ((to + 1 + gW (gI' Ms s i) m : Nat) : Int) by omega, X15_join_152, wp_lt, wp_bd, RI_2088 (by omega) (by omega), tn, k0, wp_bd, hs1 (by decide) (by decide) (by decide), wp_ifn (by decide), wp_bd, RI_2090 (by omega) (by omega), tn, kB, wp_bd, e300 hS5 (by omega) (by omega), RI_2092 (by omega) (by omega), tn, b92, w32_i (x := ((to + 1 + gW (gI' Ms s i) m : Nat) : Int) - (gW (gI' Ms s i) m : Int)) (by omega) (by omega), show ((to + 1 + gW (gI' Ms s i) m : Nat) : Int) - (gW (gI' Ms s i) m : Int) = ((to + 1 : Nat) : Int) by omega, X15_join_189, wp_lt, wp_lt, w32_i (x := ((to + 1 : Nat) : Int) - ((1 : Nat) : Int)) (by omega) (by omega), show ((to + 1 : Nat) : Int) - ((1 : Nat) : Int) = (to : Int) by omega, wp_bd, RI_2088 (by omega) (by omega), tn, k0, wp_ifn (by decide), wp_bd, RI_2088 (by omega) (by omega), tn, k0, wp_bd, hs1 (by decide) (by decide) (by decide), wp_ifn (by decide), wp_bd, RI_2088 (by omega) (by omega), tn, k0, wp_bd, F_X15_twoBits, wp_ifn (by decide), wp_ifn (by decide), wp_ifn (by decide), wp_ifn (by decide), wp_ifn (by decide), wp_ifn (by decide), wp_ifn (by decide), wp_ifn (by decide), wp_ifn (by decide), wp_ifn (by decide), wp_ifn (by decide), wp_ifn (by decide), wp_lt]
  exact mxT2 hl hK z3 (hx 0 (by decide)) hy hz ⟨by omega, ha⟩ ⟨by omega, hb⟩ ⟨by omega, hc⟩ (by omega) (fun τ k1 k2 => tDown k1 k2 (by omega) (by omega) (fun τ2 g1 g2 => by rw [wp_rt]; exact hQ τ2 g1 g2))
end
