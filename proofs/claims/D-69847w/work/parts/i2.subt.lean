set_option maxRecDepth 100000
set_option maxHeartbeats 400000
/-! ===== bits: the twin's works ===== -/
/-- what works and pile change -/
def wG (a k : Nat) : Prop := ¬ ((a = 2075 ∧ (k = 112 ∨ (81 ≤ k ∧ k ≤ 83))) ∨ a = 2153 ∨ a = 2157 ∨ a = 2158)
def lowT (p q : Nat) (σ τ : St) : Prop := (∀ k, k < p → τ.1 2153 k = σ.1 2153 k) ∧ ∀ k, k < q → τ.1 2157 k = σ.1 2157 k ∧ τ.1 2158 k = σ.1 2158 k
theorem lowT.refl {p q : Nat} {σ : St} : lowT p q σ σ := ⟨fun _ _ => rfl, fun _ _ => ⟨rfl, rfl⟩⟩
theorem lowT.trans {p q : Nat} {σ τ υ : St} (h : lowT p q σ τ) (h' : lowT p q τ υ) : lowT p q σ υ := ⟨fun k hk => (h'.1 k hk).trans (h.1 k hk), fun k hk => ⟨(h'.2 k hk).1.trans (h.2 k hk).1, (h'.2 k hk).2.trans (h.2 k hk).2⟩⟩
theorem lowT.mono {p q p' q' : Nat} {σ τ : St} (h : lowT p q σ τ) (hp : p' ≤ p) (hq : q' ≤ q) : lowT p' q' σ τ := ⟨fun k hk => h.1 k (by omega), fun k hk => h.2 k (by omega)⟩
theorem bitL {v : Int64} {x j : Nat} (hx : v.toInt = (x : Int)) (hj : j < 64) : l2i ((lshr v (j : Int)) &&& 1) = ((if x.testBit j = true then 1 else 0 : Nat) : Int) := by
  have h1 := t_shr hj hx
  have h2 : ((lshr v (j : Int)) &&& 1).toInt = ((x / 2 ^ j % 2 : Nat) : Int) := by
    have := t_msk (x := lshr v (j : Int)) (w := 1) (by decide)
    rw [tvN h1, show (2 : Nat) ^ 1 = 2 from rfl] at this
    exact this
  rw [l2i_t (by rw [h2]; omega) (by rw [h2]; omega), h2, Nat.testBit_eq_decide_div_mod_eq]
  by_cases c : x / 2 ^ j % 2 = 1
  · rw [c, if_pos (by decide)]
  · rw [if_neg (by rw [decide_eq_false c]; decide)]
    omega
section
variable {σ τ : St} {q b m : Nat} {α : Type} {Q : α → St → Prop}
theorem tWork {bb : Int} (hbb : bb = (b : Int)) (h : σ.1 2075 112 = (q : Int)) (hq : q < 50000) (hb : b ≤ 1) {f : Unit → St → Option (α × St)} (hQ : ∀ τ, agr wG σ τ → τ.1 2075 112 = ((q + 1 : Nat) : Int) → τ.1 2157 q = (m : Int) → τ.1 2158 q = (b : Int) → τ.1 2153 = σ.1 2153 → (∀ k, k < q → τ.1 2157 k = σ.1 2157 k ∧ τ.1 2158 k = σ.1 2158 k) → wp (f ()) τ Q) : wp (bd (F_X15_work (m : Int) bb) f) σ Q := by
  subst hbb
  have h1 : (stA σ.1 2157 (ups (σ.1 2157) q (m : Int))) 2075 112 = (q : Int) := by rw [stA_ne (by decide)]; exact h
  have h2 : (stA (stA σ.1 2157 (ups (σ.1 2157) q (m : Int))) 2158 (ups ((stA σ.1 2157 (ups (σ.1 2157) q (m : Int))) 2158) q (b : Int))) 2075 112 = (q : Int) := by rw [stA_ne (by decide)]; exact h1
  rw [wp_bd, F_X15_work, wp_bd, wp_gI, h, wp_bd, RV_2157 (by omega) (by omega), tn, wp_bd, wp_gI]
  dsimp only
  rw [h1, wp_bd, RV_2158 (by omega) (by omega) (by omega) (by omega), tn, wp_bd, wp_gI]
  dsimp only
  rw [h2, wp_bd, wp_pI, wN1 (by omega), wp_rt]
  refine hQ _ (fun a k hk => ?_) ?_ ?_ ?_ ?_ (fun k hk => ?_)
  · unfold wG at hk
    refine ⟨?_, rfl, rfl⟩
    dsimp only
    by_cases c : a = 2075
    · subst c
      rw [stA_eq, ups_ne (by omega), stA_ne (by decide), stA_ne (by decide)]
    · rw [stA_ne c, stA_ne (by omega), stA_ne (by omega)]
  · dsimp only
    rw [stA_eq, ups_eq]
  · dsimp only
    rw [stA_ne (by decide), stA_ne (by decide), stA_eq, ups_eq]
  · dsimp only
    rw [stA_ne (by decide), stA_eq, ups_eq]
  · dsimp only
    rw [stA_ne (by decide), stA_ne (by decide), stA_ne (by decide)]
  · dsimp only
    rw [stA_ne (by decide), stA_ne (by decide), stA_eq, stA_ne (by decide), stA_eq, stA_ne (by decide), ups_ne (by omega), ups_ne (by omega)]
    exact ⟨rfl, rfl⟩
/-- the last work is taken -/
theorem popT {vis : Int → Int → Int → St → Option (Unit × St)} {f : Nat} {i b4 : Int} {q0 : Nat} (hq0 : q0 ≤ q) (hq : q < 50000) (h : σ.1 2075 112 = ((q + 1 : Nat) : Int)) (h7 : σ.1 2157 q = (m : Int)) (h8 : σ.1 2158 q = (b : Int)) {Q : Unit → St → Prop} (hQ : ∀ τ, agr wG σ τ → τ.1 2075 112 = (q : Int) → τ.1 2153 = σ.1 2153 → τ.1 2157 = σ.1 2157 → τ.1 2158 = σ.1 2158 → wp (if b = 0 then bd (vis i b4 (m : Int)) (fun _ => X15_bitsOf_26 vis f i (q0 : Int) b4) else bd (F_X15_join i b4 (m : Int)) (fun _ => X15_bitsOf_26 vis f i (q0 : Int) b4)) τ Q) : wp (X15_bitsOf_26 vis (f + 1) i (q0 : Int) b4) σ Q := by
  obtain ⟨τ, hτ⟩ : ∃ τ : St, τ = (stA σ.1 2075 (ups (σ.1 2075) 112 (q : Int)), σ.2) := ⟨_, rfl⟩
  have t1 : τ.1 2075 112 = (q : Int) := by rw [hτ]; dsimp only; rw [stA_eq, ups_eq]
  have t2 : ∀ a, a ≠ 2075 → τ.1 a = σ.1 a := fun a ha => by rw [hτ]; exact stA_ne ha
  have go := hQ τ (fun a k hk => by
    unfold wG at hk
    rw [hτ]
    refine ⟨?_, rfl, rfl⟩
    dsimp only
    by_cases c : a = 2075
    · subst c
      rw [stA_eq, ups_ne (by omega)]
    · rw [stA_ne c]) t1 (t2 2153 (by decide)) (t2 2157 (by decide)) (t2 2158 (by decide))
  rw [X15_bitsOf_26, wp_bd, wp_gI, h, wp_ifn (by omega), wp_bd, wp_gI, h, wp_bd, wp_pI, w32_i (by omega) (by omega), show ((q + 1 : Nat) : Int) - 1 = (q : Int) by omega, ← hτ, wp_bd, wp_gI, t1, wp_bd, RI_2158 (by omega) (by omega), tn, t2 2158 (by decide), h8]
  by_cases c : b = 0
  · rw [if_pos c] at go
    rw [wp_ifp (by omega), wp_bd, wp_gI, t1, wp_bd, RI_2157 (by omega) (by omega), tn, t2 2157 (by decide), h7]
    exact go
  · rw [if_neg c] at go
    rw [wp_ifn (by omega), wp_bd, wp_gI, t1, wp_bd, RI_2157 (by omega) (by omega), tn, t2 2157 (by decide), h7]
    exact go
end
section
variable (Ms : Nat → ModV) (top : Nat) (s : LYS)
/-- the signals' rows in the twin -/
def DBM (A : Nat → Prop) (st : BST) (σ : St) : Prop := ∀ g, g < lsG s → (stG Ms s g → σ.1 2156 g = 1 ∧ ∀ k, k < szG Ms s g → σ.1 2154 (bitsS Ms s g + k) = (stL Ms s g k : Int)) ∧ (¬ stG Ms s g → σ.1 2156 g = (if st.2.1 g = true then 1 else 0) ∧ (st.2.1 g = true → ¬ A g → ∀ j, j < wdS Ms s g → σ.1 2154 (bitsS Ms s g + j) = (st.2.2 g j : Int)))
def BTr (S : Nat) (A : Nat → Prop) (st : BST) (p : Nat) (σ : St) : Prop := SBM Ms top s S σ ∧ mkT σ (inbS Ms s (lsG s)) (keptS Ms s (lsG s)) st.1 ∧ wfS Ms s st ∧ DBM Ms s A st σ ∧ σ.1 2075 105 = (p : Int) ∧ ∀ g, g < lsG s → tiG Ms s g → st.2.1 g = true
/-- what is asked of an expression's reads -/
def rdU (r : Nat → Nat) (K : Nat) (A : Nat → Prop) (i u : Nat) : Prop := ∀ h, rdE Ms s i u h → h < lsG s → ¬ stG Ms s h → r h < K ∧ ∀ a, A a → r h < r a
/-- how the twin makes a signal -/
def MKT (S : Nat) (r : Nat → Nat) (K : Nat) (fnd : Int → St → Option (Unit × St)) (mk : Nat → BST → BST) : Prop := (∀ (h : Nat) (σ : St) (Q : Unit → St → Prop), h < 200 → σ.1 2156 h = 1 → Q () σ → wp (fnd (h : Int)) σ Q) ∧ ∀ h : Nat, h < lsG s → ¬ stG Ms s h → r h < K → ∀ (A : Nat → Prop) (st : BST) (p q : Nat) (σ : St), (∀ a, A a → r h < r a) → BTr Ms top s S A st p σ → σ.1 2075 112 = (q : Int) → roomG Ms s r p q (r h + 1) → ∀ (Q : Unit → St → Prop), (∀ τ, BTr Ms top s S A (mk h st) p τ → agr tG σ τ → lowT p q σ τ → τ.1 2075 112 = (q : Int) → Q () τ) → wp (fnd (h : Int)) σ Q
end
section
variable {Ms : Nat → ModV} {top : Nat} {s : LYS} {r : Nat → Nat} {K S : Nat} {σ σ' τ : St} {st st' : BST} {A : Nat → Prop} {mk : Nat → BST → BST} {i u p q p' : Nat}
theorem rdU.of {u' : Nat} (h : rdU Ms s r K A i u) (h1 : gF (gI' Ms s i) u ≤ gF (gI' Ms s i) u') (h2 : u' ≤ u) : rdU Ms s r K A i u' := fun x hx => h x (by
  obtain ⟨n, n1, n2, n3⟩ := hx
  exact ⟨n, by omega, by omega, n3⟩)
theorem rdK.toU (h : rdK Ms s r K A i u) : rdU Ms s r K A i u := fun x hx hl hs => ⟨(h x hx hl hs).1, (h x hx hl hs).2.1⟩
theorem BTr.kt (h : BTr Ms top s S A st p σ) : KT (inbS Ms s (lsG s)) (keptS Ms s (lsG s)) σ σ st.1 p := ⟨h.2.1, h.2.2.1.1, FKT.refl, h.2.2.2.2.1⟩
theorem KT.wk {ii l p' : Nat} {B : NB} (k : KT ii l σ σ' B p') : (∀ a, 2154 ≤ a → a ≤ 2163 → σ'.1 a = σ.1 a) ∧ σ'.1 2075 112 = σ.1 2075 112 := by
  obtain ⟨-, -, h, -⟩ := k
  exact ⟨fun a h1 h2 => h.1 a (by omega) (by omega) (by omega) (by omega) (by omega) (by omega) (by omega), h.2.1 112 (by decide) (by decide)⟩
theorem KT.low {ii l p' : Nat} {B : NB} (k : KT ii l σ σ' B p') (hp : ∀ k, k < p → σ'.1 2153 k = σ.1 2153 k) : lowT p q σ σ' := ⟨hp, fun x _ => by rw [k.wk.1 2157 (by decide) (by decide), k.wk.1 2158 (by decide) (by decide)]; exact ⟨rfl, rfl⟩⟩
theorem BTr.fr (h : BTr Ms top s S A st p σ) (hd : DP Ms top s) {B : NB} (k : KT (inbS Ms s (lsG s)) (keptS Ms s (lsG s)) σ σ' B p') (g : goB (lvD Ms s) st.1 B) : BTr Ms top s S A (B, st.2.1, st.2.2) p' σ' ∧ agr tG σ σ' := by
  obtain ⟨h1, h2, h3, h4, h5, h6⟩ := h
  have ha := FKT.agr k.2.2.1
  refine ⟨⟨h1.fr hd ha, k.1, (h3.net g).2, fun x hx => ?_, k.2.2.2, h6⟩, ha⟩
  rw [k.wk.1 2154 (by decide) (by decide), k.wk.1 2156 (by decide) (by decide)]
  exact h4 x hx
theorem wG_row (e : agr wG σ τ) : ∀ a, a ≠ 2075 → a ≠ 2153 → a ≠ 2157 → a ≠ 2158 → τ.1 a = σ.1 a := fun a q1 q2 q3 q4 => e.row (fun k => by unfold wG; omega)
theorem wG_tG : agr wG σ τ → agr tG σ τ := fun h => agr.sub h (fun a k hk => by unfold tG at hk; unfold wG; omega)
theorem BTr.wg (h : BTr Ms top s S A st p σ) (hd : DP Ms top s) (e : agr wG σ τ) : BTr Ms top s S A st p τ := by
  obtain ⟨h1, h2, h3, h4, h5, h6⟩ := h
  have rw' := wG_row e
  refine ⟨h1.fr hd (wG_tG e), h2.fr (fun a q1 q2 => rw' a (by omega) (by omega) (by omega) (by omega)) (e 2075 103 (by unfold wG; omega)).1, h3, fun x hx => ?_, by rw [(e 2075 105 (by unfold wG; omega)).1]; exact h5, h6⟩
  rw [rw' 2154 (by decide) (by decide) (by decide) (by decide), rw' 2156 (by decide) (by decide) (by decide) (by decide)]
  exact h4 x hx
theorem e200S {g : Nat} (hS5 : S < 5) (hg : g < 200) : w32 (w32 (200 * (S : Int)) + (g : Int)) = ((200 * S + g : Nat) : Int) := by rw [w32_i (x := 200 * (S : Int)) (by omega) (by omega), w32_i (by omega) (by omega)]; omega
theorem bits_in (hlim : limOK Ms s) {g : Nat} (hg : g < lsG s) : bitsS Ms s g + szG Ms s g ≤ 2000 := by
  have h1 : bitsS Ms s (g + 1) ≤ bitsS Ms s (lsG s) := smF_mono (by omega)
  have h2 : bitsS Ms s (g + 1) = bitsS Ms s g + szG Ms s g := rfl
  have := hlim.1.1
  omega
theorem wd_sz (hd : DP Ms top s) {g : Nat} (hg : g < lsG s) : wdS Ms s g ≤ szG Ms s g := by
  obtain ⟨-, -, -, -, -, ⟨s3, s4⟩, -⟩ := hd.sig hg
  unfold szG
  exact Nat.le_mul_of_pos_right _ s3
/-- the bits of a signal come on the pile -/
theorem sigT (hd : DP Ms top s) (hlim : limOK Ms s) (hS5 : S < 5) {fnd : Int → St → Option (Unit × St)} (hmk : MKT Ms top s S r K fnd mk) (hp : PMK Ms s r K mk) (hB : BTr Ms top s S A st p σ) (h112 : σ.1 2075 112 = (q : Int)) {h : Nat} (hh : h < lsG s) (hrd : ¬ stG Ms s h → r h < K ∧ ∀ a, A a → r h < r a) (hroom : ¬ stG Ms s h → roomG Ms s r p q (r h + 1)) (hp2 : p + 32 ≤ 200000) (hst' : st' = @ite _ (stG Ms s h) (Classical.propDecidable _) st (mk h st)) {α : Type} {f : Unit → St → Option (α × St)} {Q : α → St → Prop} (hQ : ∀ τ, BTr Ms top s S A st' (p + wdS Ms s h) τ → agr tG σ τ → lowT p q σ τ → τ.1 2075 112 = (q : Int) → (∀ j, j < wdS Ms s h → τ.1 2153 (p + j) = (bitS Ms s st' h j : Int)) → wp (f ()) τ Q) : wp (bd (F_X15_signalBits fnd (h : Int)) f) σ Q := by
  have hF := FU_ge
  have h200 := hd.2.1.2
  obtain ⟨-, -, -, -, ⟨s5, s6⟩, -⟩ := hd.sig hh
  have hbt := bits_in hlim hh
  have hws := wd_sz hd hh
  have fin : ∀ τ, BTr Ms top s S A st' p τ → agr tG σ τ → lowT p q σ τ → τ.1 2075 112 = (q : Int) → (¬ stG Ms s h → st'.2.1 h = true ∧ ¬ A h) → wp (bd (gI 2075 109) fun v1 => lt (w32 ((w32 (200 * v1)) + (h : Int))) fun x2_2 => lt 0 fun x3_3 => X15_signalBits_18 fnd FU (h : Int) x2_2 x3_3) τ (fun a υ => wp (f a) υ Q) := by
    intro τ b1 b2 b3 b4 b5
    obtain ⟨-, ⟨-, g2, -⟩, -⟩ := b1.1.1.1.2.2.2 h hh
    have lit : ∀ j, j < wdS Ms s h → τ.1 2154 (bitsS Ms s h + j) = (bitS Ms s st' h j : Int) := fun j hj => by
      obtain ⟨d1, d2⟩ := b1.2.2.2.1 h hh
      unfold bitS
      by_cases c : stG Ms s h
      · rw [if_pos c]; exact (d1 c).2 j (by omega)
      · rw [if_neg c]; exact (d2 c).2 (b5 c).1 (b5 c).2 j hj
    rw [wp_bd, wp_gI, b1.1.2.1, wp_lt, e200S hS5 (by omega), wp_lt]
    refine lpN (w := wdS Ms s h) (L := fun m j => X15_signalBits_18 fnd m (h : Int) ((200 * S + h : Nat) : Int) (j : Int)) (I := fun j υ => KT (inbS Ms s (lsG s)) (keptS Ms s (lsG s)) τ υ st'.1 (p + j) ∧ PL (τ.1 2153) (υ.1 2153) p j (bitS Ms s st' h)) ?_ ?_ (show wdS Ms s h < FU by omega) ⟨b1.kt, PL.init⟩
    · rintro m j υ hj ⟨k1, k2⟩ ih
      show wp (X15_signalBits_18 fnd (m + 1) (h : Int) ((200 * S + h : Nat) : Int) (j : Int)) υ _
      have r23 : υ.1 2123 = τ.1 2123 := k1.2.2.1.1 2123 (by decide) (by decide) (by decide) (by decide) (by decide) (by decide) (by decide)
      have r54 := k1.wk.1 2154 (by decide) (by decide)
      have r55 := k1.wk.1 2155 (by decide) (by decide)
      rw [X15_signalBits_18, wp_bd, RI_2123 (by omega) (by omega), tn, r23, g2, wp_ifn (by omega), wp_bd, RI_2155 (by omega) (by omega), tn, r55, b1.1.2.2 h hh, wp_bd, wN (by omega), RI_2154 (by omega) (by omega), tn, r54, lit j hj]
      refine tPush k1 (by omega) (fun υ2 a1 a2 => ?_)
      rw [wp_lt, wN1 (by omega)]
      exact ih _ ⟨a1, by rw [a2]; exact k2.up'⟩
    · rintro m υ ⟨k1, k2⟩
      show wp (X15_signalBits_18 fnd (m + 1) (h : Int) ((200 * S + h : Nat) : Int) (wdS Ms s h : Int)) υ _
      have r23 : υ.1 2123 = τ.1 2123 := k1.2.2.1.1 2123 (by decide) (by decide) (by decide) (by decide) (by decide) (by decide) (by decide)
      obtain ⟨d1, d2⟩ := b1.fr hd k1 (goB.refl b1.2.2.1.1)
      rw [X15_signalBits_18, wp_bd, RI_2123 (by omega) (by omega), tn, r23, g2, wp_ifp (by omega), wp_rt]
      exact hQ υ d1 (b2.trans d2) (b3.trans (k1.low k2.1)) (by rw [k1.wk.2]; exact b4) k2.2
  rw [wp_bd, F_X15_signalBits, wp_bd]
  by_cases c : stG Ms s h
  · rw [if_pos c] at hst'
    subst hst'
    exact hmk.1 h σ _ (by omega) ((hB.2.2.2.1 h hh).1 c).1 (fin σ hB agr.refl lowT.refl h112 (fun z => absurd c z))
  · rw [if_neg c] at hst'
    subst hst'
    obtain ⟨c1, c2⟩ := hrd c
    refine hmk.2 h hh c c1 A st p q σ c2 hB h112 (hroom c) _ (fun τ a1 a2 a3 a4 => fin τ a1 a2 a3 a4 (fun _ => ⟨hp.2.2.2 h st c1, fun z => ?_⟩))
    have := c2 h z
    omega
/-! nodes of a stretch -/
theorem rgB_add : ∀ a b n (x : (Nat → Nat → Nat) × BST), rgB Ms s mk i (a + b) n x = rgB Ms s mk i b (n + a) (rgB Ms s mk i a n x)
  | 0, b, n, x => by rw [Nat.zero_add]; rfl
  | a + 1, b, n, x => by
    have e : a + 1 + b = (a + b) + 1 := by omega
    rw [e]
    show rgB Ms s mk i (a + b) (n + 1) (ndB Ms s mk i n x) = _
    rw [rgB_add a b (n + 1), show n + 1 + a = n + (a + 1) by omega]
    rfl
theorem ndB_lo {m n : Nat} {x : (Nat → Nat → Nat) × BST} (h : m ≠ n) : (ndB Ms s mk i n x).1 m = x.1 m := by
  by_cases c0 : gO (gI' Ms s i) n = 0
  · rw [ndB_0 c0]; exact ups_ne h
  by_cases c1 : gO (gI' Ms s i) n = 1
  · by_cases cs : stG Ms s (sgOf s i (gA (gI' Ms s i) n).toNat (gB (gI' Ms s i) n))
    · rw [ndB_1s c1 cs]; exact ups_ne h
    · rw [ndB_1n c1 cs]; exact ups_ne h
  by_cases c2 : gO (gI' Ms s i) n = 2
  · rw [ndB_2 c2]; exact ups_ne h
  · rw [ndB_3 (by omega)]; exact ups_ne h
theorem rgB_lo {m : Nat} : ∀ k n (x : (Nat → Nat → Nat) × BST), m < n → (rgB Ms s mk i k n x).1 m = x.1 m
  | 0, _, _, _ => rfl
  | k + 1, n, x, h => by
    show (rgB Ms s mk i k (n + 1) (ndB Ms s mk i n x)).1 m = _
    rw [rgB_lo k (n + 1) _ (by omega), ndB_lo (by omega)]
theorem rgB_pre {x : (Nat → Nat → Nat) × BST} (hl : gF (gI' Ms s i) u ≤ u) : rgB Ms s mk i (cnE Ms s i u) (gF (gI' Ms s i) u) x = ndB Ms s mk i u (rgB Ms s mk i (u - gF (gI' Ms s i) u) (gF (gI' Ms s i) u) x) := by
  have e : cnE Ms s i u = (u - gF (gI' Ms s i) u) + 1 := by unfold cnE; omega
  rw [e, rgB_add, show gF (gI' Ms s i) u + (u - gF (gI' Ms s i) u) = u by omega]
  rfl
theorem pre_leaf {x : (Nat → Nat → Nat) × BST} (hf : gF (gI' Ms s i) u = u) : rgB Ms s mk i (u - gF (gI' Ms s i) u) (gF (gI' Ms s i) u) x = x := by
  rw [show u - gF (gI' Ms s i) u = 0 by omega]
  rfl
theorem pre_one {x : (Nat → Nat → Nat) × BST} (h0 : 0 < u) (hf : gF (gI' Ms s i) u = gF (gI' Ms s i) (u - 1)) (hl : gF (gI' Ms s i) (u - 1) ≤ u - 1) : rgB Ms s mk i (u - gF (gI' Ms s i) u) (gF (gI' Ms s i) u) x = rgB Ms s mk i (cnE Ms s i (u - 1)) (gF (gI' Ms s i) (u - 1)) x := by
  rw [show u - gF (gI' Ms s i) u = cnE Ms s i (u - 1) by unfold cnE; omega, hf]
theorem pre_two {x : (Nat → Nat → Nat) × BST} {a : Nat} (h0 : 0 < u) (ha : a + 1 = gF (gI' Ms s i) (u - 1)) (hf : gF (gI' Ms s i) u = gF (gI' Ms s i) a) (hl : gF (gI' Ms s i) (u - 1) ≤ u - 1) (hl2 : gF (gI' Ms s i) a ≤ a) : rgB Ms s mk i (u - gF (gI' Ms s i) u) (gF (gI' Ms s i) u) x = rgB Ms s mk i (cnE Ms s i (u - 1)) (gF (gI' Ms s i) (u - 1)) (rgB Ms s mk i (cnE Ms s i a) (gF (gI' Ms s i) a) x) := by
  rw [show u - gF (gI' Ms s i) u = cnE Ms s i a + cnE Ms s i (u - 1) by unfold cnE; omega, hf, rgB_add, show gF (gI' Ms s i) a + cnE Ms s i a = gF (gI' Ms s i) (u - 1) by unfold cnE; omega]
theorem pre_three {x : (Nat → Nat → Nat) × BST} {a b : Nat} (h0 : 0 < u) (hb : b + 1 = gF (gI' Ms s i) (u - 1)) (ha : a + 1 = gF (gI' Ms s i) b) (hf : gF (gI' Ms s i) u = gF (gI' Ms s i) a) (hl : gF (gI' Ms s i) (u - 1) ≤ u - 1) (hl2 : gF (gI' Ms s i) a ≤ a) (hl3 : gF (gI' Ms s i) b ≤ b) : rgB Ms s mk i (u - gF (gI' Ms s i) u) (gF (gI' Ms s i) u) x = rgB Ms s mk i (cnE Ms s i (u - 1)) (gF (gI' Ms s i) (u - 1)) (rgB Ms s mk i (cnE Ms s i b) (gF (gI' Ms s i) b) (rgB Ms s mk i (cnE Ms s i a) (gF (gI' Ms s i) a) x)) := by
  rw [show u - gF (gI' Ms s i) u = cnE Ms s i a + (cnE Ms s i b + cnE Ms s i (u - 1)) by unfold cnE; omega, hf, rgB_add, show gF (gI' Ms s i) a + cnE Ms s i a = gF (gI' Ms s i) b by unfold cnE; omega, rgB_add, show gF (gI' Ms s i) b + cnE Ms s i b = gF (gI' Ms s i) (u - 1) by unfold cnE; omega]
/-- what stands behind the parts of a node -/
theorem pre_ok (hd : DP Ms top s) (hmk : ∀ h st, h < lsG s → wfS Ms s st → goS Ms s st (mk h st)) (hi : i < lsI s) (hu : u < mdN (moI Ms s i)) {x : (Nat → Nat → Nat) × BST} (h : wfS Ms s x.2) : goS Ms s x.2 (rgB Ms s mk i (u - gF (gI' Ms s i) u) (gF (gI' Ms s i) u) x).2 ∧ vOK Ms s i (gF (gI' Ms s i) u) u (rgB Ms s mk i (u - gF (gI' Ms s i) u) (gF (gI' Ms s i) u) x) := by
  have fu := (hd.nod hi hu).1.2.2.2
  have := rgB_go hd hmk (a := gF (gI' Ms s i) u) hi (u - gF (gI' Ms s i) u) (gF (gI' Ms s i) u) x (fun m h1 h2 => ⟨by omega, hd.nest hi u hu m h1 (by omega)⟩) ⟨h, fun m h1 h2 => by omega⟩
  rw [show gF (gI' Ms s i) u + (u - gF (gI' Ms s i) u) = u by omega] at this
  exact this
/-- what a stretch keeps -/
theorem rgB_gow (hd : DP Ms top s) (hmk : ∀ h st, h < lsG s → wfS Ms s st → goS Ms s st (mk h st)) (hi : i < lsI s) (hu : u < mdN (moI Ms s i)) {x : (Nat → Nat → Nat) × BST} (h : wfS Ms s x.2) : goS Ms s x.2 (rgB Ms s mk i (cnE Ms s i u) (gF (gI' Ms s i) u) x).2 ∧ ltA (lvD Ms s) (rgB Ms s mk i (cnE Ms s i u) (gF (gI' Ms s i) u) x).2.1 (gW (gI' Ms s i) u) ((rgB Ms s mk i (cnE Ms s i u) (gF (gI' Ms s i) u) x).1 u) := by
  have fu := (hd.nod hi hu).1.2.2.2
  obtain ⟨q1, q2, q3⟩ := rgB_go hd hmk (a := gF (gI' Ms s i) u) hi (cnE Ms s i u) (gF (gI' Ms s i) u) x (fun m h1 h2 => by
    unfold cnE at h2
    exact ⟨by omega, hd.nest hi u hu m h1 (by omega)⟩) ⟨h, fun m h1 h2 => by omega⟩
  exact ⟨q1, q3 u fu (by unfold cnE; omega)⟩
end
