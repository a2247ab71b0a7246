set_option maxRecDepth 100000
set_option maxHeartbeats 400000
/-! ===== bits: the twin's mems: words ===== -/
section
variable {Ms : Nat → ModV} {top : Nat} {s : LYS} {r : Nat → Nat} {R S : Nat} {σ0 σ τ υ : St} {st : BST} {g p : Nat} {A : Nat → Prop}
/-- all connections upon a word -/
theorem memET (hlim : limOK Ms s) {w k pt x7 : Nat} {rec : Int → Int → Int → Int → Int → Int → Int → Int → St → Option (Int × St)} {gi x2 x3 x8 : Int} (hw : w ≤ 32) (hk : k < 64) (h7 : x7 ≤ 60) (hpt : p + w ≤ 200000) {Q : Int → St → Prop} : ∀ (Es : List MCE) (x11 f : Nat) (x : (Nat → Nat) × NB) (σ : St), ENT w p σ x11 Es → KT (inbS Ms s (lsG s)) (keptS Ms s (lsG s)) σ0 σ x.2 pt → (∀ j, j < w → σ.1 2153 (p + j) = (x.1 j : Int)) → ltA (lvD Ms s) x.2 w x.1 → (∀ e, e ∈ Es → ltE (lvD Ms s) w x.2 e) → x11 + Es.length = x7 → Es.length < f → (∀ τ, KT (inbS Ms s (lsG s)) (keptS Ms s (lsG s)) σ0 τ (mwP (lvD Ms s) w k Es x).2 pt → CE (σ.1 2153) (τ.1 2153) p w w (mwP (lvD Ms s) w k Es x).1 → wp (X15_memNext_374 rec gi x2 x3 (w : Int) (x7 : Int) x8 (p : Int) (k : Int)) τ Q) → wp (X15_memNext_271 rec f gi x2 x3 (w : Int) (x7 : Int) x8 (p : Int) (k : Int) (x11 : Int)) σ Q
  | [], x11, f, x, σ, hen, hK, hv, hvl, hEs, h11, hf, hQ => by
    have hf' : 0 < f := hf
    obtain ⟨f', rfl⟩ : ∃ f', f = f' + 1 := ⟨f - 1, by omega⟩
    have h11' : x11 + 0 = x7 := h11
    rw [X15_memNext_271, wp_ifp (by omega)]
    exact hQ σ hK ⟨fun _ _ => rfl, hv⟩
  | e :: Es, x11, f, x, σ, hen, hK, hv, hvl, hEs, h11, hf, hQ => by
    have hF := FU_ge
    have hl : inbS Ms s (lsG s) ≤ 64 ∧ keptS Ms s (lsG s) ≤ 200 := ⟨hlim.2.2.1, hlim.1.2⟩
    have hf2 : Es.length + 1 < f := hf
    have h11' : x11 + (Es.length + 1) = x7 := h11
    obtain ⟨f', rfl⟩ : ∃ f', f = f' + 1 := ⟨f - 1, by omega⟩
    obtain ⟨⟨a1, pa, pv, a2, a3, a4, a5, a6, a7, a8⟩, a9⟩ := hen
    obtain ⟨l1, l2, l3, l4⟩ := hEs e List.mem_cons_self
    have ig := isB_go (k := k) hK.2.1 l2
    have ag := andB_go ig.1.1 (ig.1.lt l1) ig.2
    have g2 := ig.1.trans ag.1
    have m1 := mw1_go (k := k) hK.2.1 l1 l2 l3 hvl
    have r0 : ∀ {υ : St} {B : NB} {q : Nat}, KT (inbS Ms s (lsG s)) (keptS Ms s (lsG s)) σ0 υ B q → ∀ a, 2160 ≤ a → a ≤ 2163 → υ.1 a = σ.1 a := fun {υ B q} h a h1 h2 => by rw [h.wk.1 a (by omega) h2, hK.wk.1 a (by omega) h2]
    rw [X15_memNext_271, wp_ifn (by omega), wp_bd, RI_2160 (by omega) (by omega), tn, a1, wp_bd, RI_2161 (by omega) (by omega), tn, a2, wp_bd, RI_2162 (by omega) (by omega), tn, a3]
    refine isT hl hK l4 hk l2 ⟨by omega, a7⟩ (fun τ1 b1 b2 => ?_)
    refine tAnd hl b1 (ig.1.lt l1) ig.2 (fun τ2 c1 c2 c3 c4 => ?_)
    have e2 : τ2.1 2153 = σ.1 2153 := c4.trans b2
    rw [wp_lt, wp_lt]
    refine lpT (f := fun j o' B => (ups o' j (muxB (lvD Ms s) (andB (lvD Ms s) e.1 (isB (lvD Ms s) e.2.2.2 k e.2.1 x.2).1 (isB (lvD Ms s) e.2.2.2 k e.2.1 x.2).2).1 (e.2.2.1 j) (x.1 j) B).1, (muxB (lvD Ms s) (andB (lvD Ms s) e.1 (isB (lvD Ms s) e.2.2.2 k e.2.1 x.2).1 (isB (lvD Ms s) e.2.2.2 k e.2.1 x.2).2).1 (e.2.2.1 j) (x.1 j) B).2)) (x0 := x.1) (B0 := (andB (lvD Ms s) e.1 (isB (lvD Ms s) e.2.2.2 k e.2.1 x.2).1 (isB (lvD Ms s) e.2.2.2 k e.2.1 x.2).2).2) (w := w) (L := fun m j _ => X15_memNext_314 rec (X15_memNext_271 rec f') m gi x2 x3 (w : Int) (x7 : Int) x8 (p : Int) (k : Int) (x11 : Int) ((andB (lvD Ms s) e.1 (isB (lvD Ms s) e.2.2.2 k e.2.1 x.2).1 (isB (lvD Ms s) e.2.2.2 k e.2.1 x.2).2).1 : Int) (j : Int)) (I := fun j o' B υ => KT (inbS Ms s (lsG s)) (keptS Ms s (lsG s)) σ0 υ B pt ∧ goB (lvD Ms s) (andB (lvD Ms s) e.1 (isB (lvD Ms s) e.2.2.2 k e.2.1 x.2).1 (isB (lvD Ms s) e.2.2.2 k e.2.1 x.2).2).2 B ∧ CE (σ.1 2153) (υ.1 2153) p w w o' ∧ ∀ y, j ≤ y → y < w → o' y = x.1 y) ?_ ?_ (show w < FU by omega) ⟨c1, goB.refl ag.1.1, ⟨fun _ _ => by rw [e2], fun j hj => by rw [e2]; exact hv j hj⟩, fun _ _ _ => rfl⟩
    · rintro m j o' B υ hj ⟨k1, k2, k3, k5⟩ ih
      show wp (X15_memNext_314 rec (X15_memNext_271 rec f') (m + 1) gi x2 x3 (w : Int) (x7 : Int) x8 (p : Int) (k : Int) (x11 : Int) ((andB (lvD Ms s) e.1 (isB (lvD Ms s) e.2.2.2 k e.2.1 x.2).1 (isB (lvD Ms s) e.2.2.2 k e.2.1 x.2).2).1 : Int) (j : Int)) υ Q
      rw [X15_memNext_314, wp_ifn (by omega), wp_bd, RI_2163 (by omega) (by omega), tn, r0 k1 2163 (by omega) (by omega), a4, wp_bd, wN (a := pv) (by omega), RI_2153 (by omega) (by omega), tn, k3.1 _ (by omega), a8 j hj, wp_bd, wN (a := p) (by omega), RI_2153 (by omega) (by omega), tn, k3.2 j hj, k5 j (Nat.le_refl j) hj]
      refine tMux hl k1 (k2.lt ag.2) (k2.lt (g2.lt (l3 j hj))) (k2.lt (g2.lt (hvl j hj))) (fun υ2 v1 v2 v3 v4 => ?_)
      rw [wp_bd, RV_2153 (by omega) (by omega), tn, wp_lt, wN1 (by omega)]
      exact ih _ ⟨v1.w, k2.trans v2, by dsimp only; rw [stA_eq, v4]; exact k3.set hj, fun y h1 h2 => by dsimp only; rw [ups_ne (by omega)]; exact k5 y (by omega) h2⟩
    · rintro m υ ⟨k1, k2, k3, -⟩
      show wp (X15_memNext_314 rec (X15_memNext_271 rec f') (m + 1) gi x2 x3 (w : Int) (x7 : Int) x8 (p : Int) (k : Int) (x11 : Int) ((andB (lvD Ms s) e.1 (isB (lvD Ms s) e.2.2.2 k e.2.1 x.2).1 (isB (lvD Ms s) e.2.2.2 k e.2.1 x.2).2).1 : Int) (w : Int)) υ Q
      rw [X15_memNext_314, wp_ifp (by omega), X15_memNext_368, wp_lt, wN1 (by omega)]
      exact memET hlim hw hk h7 hpt Es (x11 + 1) f' (mw1 (lvD Ms s) w k e x) υ (a9.fr _ _ (r0 k1) (fun y hy => k3.1 y (Or.inl hy))) k1 k3.2 m1.2 (fun e' he' => (hEs e' (List.mem_cons_of_mem _ he')).go m1.1) (by omega) (by omega) (fun τ d1 d2 => hQ τ d1 (k3.thn d2))
/-- the words of a mem -/
theorem mem2T (hd : DP Ms top s) (hlim : limOK Ms s) (hS5 : S < 5) (hg : g < lsG s) (h4 : kdS Ms s g = 4) {Es : List MCE} (hB : BTr Ms top s S (fun _ => False) st p σ) (h112 : σ.1 2075 112 = 0) (hen : ENT (wdS Ms s g) p σ 0 Es) (hEs : ∀ e, e ∈ Es → ltE (lvD Ms s) (wdS Ms s g) st.1 e) (h7 : Es.length ≤ 60) (hpp : p ≤ 64 * 60) {Q : Int → St → Prop} (hQ : ∀ τ, BTr Ms top s S (fun _ => False) ((wsB Ms s g Es (wsG Ms s g) (fun _ => 0, st.1)).2, st.2.1, st.2.2) 0 τ → agr tU σ τ → τ.1 2075 112 = 0 → (τ.1 2145 = σ.1 2145 ∧ τ.1 2148 = σ.1 2148 ∧ τ.1 2150 = σ.1 2150) → (∀ k, k < keptS Ms s g → τ.1 2149 (800 + k) = σ.1 2149 (800 + k)) → (∀ j, j < szG Ms s g → τ.1 2149 (800 + (keptS Ms s g + j)) = ((wsB Ms s g Es (wsG Ms s g) (fun _ => 0, st.1)).1 j : Int)) → Q ((keptS Ms s g + szG Ms s g : Nat) : Int) τ) : wp (X15_memNext_191 (g : Int) (keptS Ms s g : Int) ((200 * S + g : Nat) : Int) (wdS Ms s g : Int) (Es.length : Int) 0) σ Q := by
  have hF := FU_ge
  have h200 := hd.2.1.2
  have hs : stG Ms s g := Or.inr h4
  obtain ⟨-, -, -, -, ⟨s5, s6⟩, ⟨s7, s8⟩, -⟩ := hd.sig hg
  obtain ⟨kk1, kk2⟩ := kept_in hlim hg hs
  have hbt := bits_in hlim hg
  have hsz : wdS Ms s g * wsG Ms s g = szG Ms s g := rfl
  have wgo := fun k (hk : k ≤ wsG Ms s g) => wsB_go (L := Es) (x := (fun _ => 0, st.1)) hd hg h4 hB.2.2.1.1 hEs k hk
  have key : ∀ k2 k f τ, k + k2 = wsG Ms s g → k2 < f → BTr Ms top s S (fun _ => False) ((wsB Ms s g Es k (fun _ => 0, st.1)).2, st.2.1, st.2.2) (p + wdS Ms s g) τ → agr tU σ τ → τ.1 2075 112 = 0 → (∀ a, 2160 ≤ a → a ≤ 2163 → τ.1 a = σ.1 a) → (∀ k, k < p → τ.1 2153 k = σ.1 2153 k) → (τ.1 2145 = σ.1 2145 ∧ τ.1 2148 = σ.1 2148 ∧ τ.1 2150 = σ.1 2150) → (∀ k, k < keptS Ms s g → τ.1 2149 (800 + k) = σ.1 2149 (800 + k)) → (∀ a, a < wdS Ms s g * k → τ.1 2149 (800 + (keptS Ms s g + a)) = ((wsB Ms s g Es k (fun _ => 0, st.1)).1 a : Int)) → wp (X15_memNext_211 f (g : Int) (keptS Ms s g : Int) ((200 * S + g : Nat) : Int) (wdS Ms s g : Int) (Es.length : Int) 0 (p : Int) (k : Int)) τ Q := by
    intro k2
    induction k2 with
    | zero =>
      intro k f τ hk hf b1' b2 b3 b4 b5 b6 b7 b8
      obtain ⟨f', rfl⟩ : ∃ f', f = f' + 1 := ⟨f - 1, by omega⟩
      have ek : k = wsG Ms s g := by omega
      subst ek
      obtain ⟨-, ⟨-, -, g3⟩, -⟩ := b1'.1.1.1.2.2.2 g hg
      have kt := b1'.kt.pt (q := 0) (v := 0) rfl
      obtain ⟨x1, x2⟩ := b1'.fr hd kt (goB.refl b1'.2.2.1.1)
      have pr : ∀ a, a ≠ 2075 → (stA τ.1 2075 (ups (τ.1 2075) 105 0)) a = τ.1 a := fun a ha => stA_ne ha
      rw [X15_memNext_211, wp_bd, RI_2124 (by omega) (by omega), tn, g3, wp_ifp (by omega), X15_memNext_425, wp_bd, wp_pI, wp_bd, RI_2124 (by omega) (by omega), tn]
      dsimp only
      rw [pr 2124 (by decide), g3, wp_rt, wM (by omega), hsz, wN (by omega)]
      refine hQ _ x1 (b2.trans (tG_U x2)) (by rw [kt.wk.2]; exact b3) ⟨?_, ?_, ?_⟩ (fun k hk => ?_) (fun j hj => ?_)
      · dsimp only; rw [pr 2145 (by decide)]; exact b6.1
      · dsimp only; rw [pr 2148 (by decide)]; exact b6.2.1
      · dsimp only; rw [pr 2150 (by decide)]; exact b6.2.2
      · dsimp only; rw [pr 2149 (by decide)]; exact b7 k hk
      · dsimp only; rw [pr 2149 (by decide)]; exact b8 j (by omega)
    | succ k2 ih =>
      intro k f τ hk hf b1' b2 b3 b4 b5 b6 b7 b8
      obtain ⟨f', rfl⟩ : ∃ f', f = f' + 1 := ⟨f - 1, by omega⟩
      obtain ⟨w1, w2⟩ := wgo k (by omega)
      obtain ⟨-, ⟨-, -, g3⟩, -⟩ := b1'.1.1.1.2.2.2 g hg
      have lit := ((b1'.2.2.2.1 g hg).1 hs).2
      have hmul : wdS Ms s g * (k + 1) ≤ wdS Ms s g * wsG Ms s g := Nat.mul_le_mul_left _ (by omega)
      have hmul2 : wdS Ms s g * (k + 1) = wdS Ms s g * k + wdS Ms s g := Nat.mul_succ _ _
      rw [X15_memNext_211, wp_bd, RI_2124 (by omega) (by omega), tn, g3, wp_ifn (by omega), wp_lt]
      refine lpN (w := wdS Ms s g) (L := fun m j => X15_memNext_225 (X15_memNext_211 f') m (g : Int) (keptS Ms s g : Int) ((200 * S + g : Nat) : Int) (wdS Ms s g : Int) (Es.length : Int) 0 (p : Int) (k : Int) (j : Int)) (I := fun j υ => KT (inbS Ms s (lsG s)) (keptS Ms s (lsG s)) τ υ (wsB Ms s g Es k (fun _ => 0, st.1)).2 (p + wdS Ms s g) ∧ CE (τ.1 2153) (υ.1 2153) p (wdS Ms s g) j (fun j => stL Ms s g (wdS Ms s g * k + j))) ?_ ?_ (show wdS Ms s g < FU by omega) ⟨b1'.kt, CE.init⟩
      · rintro m j υ hj ⟨c1, c2⟩ ih2
        show wp (X15_memNext_225 (X15_memNext_211 f') (m + 1) (g : Int) (keptS Ms s g : Int) ((200 * S + g : Nat) : Int) (wdS Ms s g : Int) (Es.length : Int) 0 (p : Int) (k : Int) (j : Int)) υ Q
        rw [X15_memNext_225, wp_ifn (by omega), wp_bd, RI_2155 (by omega) (by omega), tn, c1.wk.1 2155 (by omega) (by omega), b1'.1.2.2 g hg, wp_bd, wM (by omega), wN (a := bitsS Ms s g) (by omega), wN (a := bitsS Ms s g + wdS Ms s g * k) (by omega), RI_2154 (by omega) (by omega), tn, c1.wk.1 2154 (by omega) (by omega), Nat.add_assoc, lit _ (by omega), wp_bd, wN (a := p) (by omega), RV_2153 (by omega) (by omega), tn, wp_lt, wN1 (by omega)]
        exact ih2 _ ⟨c1.w, by dsimp only; rw [stA_eq]; exact c2.up' (o := fun j => stL Ms s g (wdS Ms s g * k + j)) hj⟩
      · rintro m υ ⟨c1, c2⟩
        show wp (X15_memNext_225 (X15_memNext_211 f') (m + 1) (g : Int) (keptS Ms s g : Int) ((200 * S + g : Nat) : Int) (wdS Ms s g : Int) (Es.length : Int) 0 (p : Int) (k : Int) (wdS Ms s g : Int)) υ Q
        rw [X15_memNext_225, wp_ifp (by omega), X15_memNext_268, wp_lt]
        refine memET (σ0 := τ) (pt := p + wdS Ms s g) hlim s6 (show k < 64 by omega) h7 (by omega) Es 0 FU (fun j => stL Ms s g (wdS Ms s g * k + j), (wsB Ms s g Es k (fun _ => 0, st.1)).2) υ (hen.fr _ _ (fun a h1 h2 => by rw [c1.wk.1 a (by omega) h2]; exact b4 a h1 h2) (fun y hy => by rw [c2.1 y (Or.inl hy)]; exact b5 y hy)) c1 c2.2 (fun j hj => (stW_lt hd hg h4 (by omega) hj).2) (fun e he => (hEs e he).go w1) (by omega) (by omega) (fun υ2 d1 d2 => ?_)
        obtain ⟨w3, -⟩ := wgo (k + 1) (by omega)
        have mg := mwP_go (k := k) Es (fun j => stL Ms s g (wdS Ms s g * k + j), (wsB Ms s g Es k (fun _ => 0, st.1)).2) w1.1 (fun e he => (hEs e he).go w1) (fun j hj => (stW_lt hd hg h4 (by omega) hj).2)
        obtain ⟨hB2, t2⟩ := b1'.fr hd d1 mg.1
        have o : ∀ a, a = 2145 ∨ a = 2148 ∨ a = 2149 ∨ a = 2150 → υ2.1 a = τ.1 a := fun a ha => t2.row (fun k => by unfold tG; omega)
        rw [X15_memNext_374, wp_lt]
        refine lpN (w := wdS Ms s g) (L := fun m j => X15_memNext_377 (X15_memNext_211 f') m (g : Int) (keptS Ms s g : Int) ((200 * S + g : Nat) : Int) (wdS Ms s g : Int) (Es.length : Int) 0 (p : Int) (k : Int) (j : Int)) (I := fun j υ => (∀ a, a ≠ 2149 → υ.1 a = υ2.1 a) ∧ υ.2 = υ2.2 ∧ CE (υ2.1 2149) (υ.1 2149) (800 + keptS Ms s g + wdS Ms s g * k) (wdS Ms s g) j (mwP (lvD Ms s) (wdS Ms s g) k Es (fun j => stL Ms s g (wdS Ms s g * k + j), (wsB Ms s g Es k (fun _ => 0, st.1)).2)).1) ?_ ?_ (show wdS Ms s g < FU by omega) ⟨fun _ _ => rfl, rfl, CE.init⟩
        · rintro m j υ3 hj ⟨f1, f2, f3⟩ ih3
          show wp (X15_memNext_377 (X15_memNext_211 f') (m + 1) (g : Int) (keptS Ms s g : Int) ((200 * S + g : Nat) : Int) (wdS Ms s g : Int) (Es.length : Int) 0 (p : Int) (k : Int) (j : Int)) υ3 Q
          have e8 : ∀ _ : Unit, w32 (w32 (w32 (800 + (keptS Ms s g : Int)) + ((wdS Ms s g * k : Nat) : Int)) + (j : Int)) = ((800 + keptS Ms s g + wdS Ms s g * k + j : Nat) : Int) := fun _ => by rw [w32_i (x := 800 + (keptS Ms s g : Int)) (by omega) (by omega), w32_i (x := 800 + (keptS Ms s g : Int) + ((wdS Ms s g * k : Nat) : Int)) (by omega) (by omega), w32_i (by omega) (by omega)]; omega
          rw [X15_memNext_377, wp_ifn (by omega), wp_bd, wN (a := p) (by omega), RI_2153 (by omega) (by omega), tn, f1 2153 (by decide), d2.2 j hj, wp_bd, wM (by omega), e8 (), RV_2149 (by omega) (by omega), tn, wp_lt, wN1 (by omega)]
          exact ih3 _ ⟨fun a ha => by dsimp only; rw [stA_ne ha]; exact f1 a ha, f2, by dsimp only; rw [stA_eq]; exact f3.up' hj⟩
        · rintro m υ3 ⟨f1, f2, f3⟩
          show wp (X15_memNext_377 (X15_memNext_211 f') (m + 1) (g : Int) (keptS Ms s g : Int) ((200 * S + g : Nat) : Int) (wdS Ms s g : Int) (Es.length : Int) 0 (p : Int) (k : Int) (wdS Ms s g : Int)) υ3 Q
          have hO : agr tO υ2 υ3 := fun a x q => by
            unfold tO at q
            refine ⟨?_, by rw [f2], by rw [f2]⟩
            by_cases e49 : a = 2149
            · subst e49; exact f3.1 x (by omega)
            · rw [f1 a e49]
          rw [X15_memNext_377, wp_ifp (by omega), X15_memNext_419, wp_lt, wN1 (by omega)]
          refine ih (k + 1) f' υ3 (by omega) (by omega) (hB2.oth hd hS5 hO) ((b2.trans (tG_U t2)).trans (tO_U hO)) ?_ (fun a h1 h2 => ?_) (fun y hy => ?_) ⟨?_, ?_, ?_⟩ (fun y hy => ?_) (fun a ha => ?_)
          · rw [f1 2075 (by decide), d1.wk.2]; exact b3
          · rw [f1 a (by omega), d1.wk.1 a (by omega) h2]; exact b4 a h1 h2
          · rw [f1 2153 (by decide), d2.1 y (Or.inl hy), c2.1 y (Or.inl hy)]; exact b5 y hy
          · rw [f1 2145 (by decide), o 2145 (by omega)]; exact b6.1
          · rw [f1 2148 (by decide), o 2148 (by omega)]; exact b6.2.1
          · rw [f1 2150 (by decide), o 2150 (by omega)]; exact b6.2.2
          · rw [f3.1 _ (Or.inl (by omega)), o 2149 (by omega)]; exact b7 y hy
          · show _ = (((if wdS Ms s g * k ≤ a then (mwP (lvD Ms s) (wdS Ms s g) k Es (fun j => stL Ms s g (wdS Ms s g * k + j), (wsB Ms s g Es k (fun _ => 0, st.1)).2)).1 (a - wdS Ms s g * k) else (wsB Ms s g Es k (fun _ => 0, st.1)).1 a) : Nat) : Int)
            by_cases c : wdS Ms s g * k ≤ a
            · rw [if_pos c, ← f3.2 (a - wdS Ms s g * k) (by omega), show 800 + keptS Ms s g + wdS Ms s g * k + (a - wdS Ms s g * k) = 800 + (keptS Ms s g + a) by omega]
            · rw [if_neg c, f3.1 _ (Or.inl (by omega)), o 2149 (by omega)]; exact b8 a (by omega)
  have kt := hB.kt.pt (q := p + wdS Ms s g) (v := ((p + wdS Ms s g : Nat) : Int)) rfl
  obtain ⟨x1, x2⟩ := hB.fr hd kt (goB.refl hB.2.2.1.1)
  have pr : ∀ a, a ≠ 2075 → (stA σ.1 2075 (ups (σ.1 2075) 105 ((p + wdS Ms s g : Nat) : Int))) a = σ.1 a := fun a ha => stA_ne ha
  rw [X15_memNext_191, wp_bd, wp_gI, hB.2.2.2.2.1, wp_lt, wp_bd, wp_gI, hB.2.2.2.2.1, wp_bd, wp_pI, wN (by omega), wp_lt]
  refine key (wsG Ms s g) 0 FU _ (by omega) (by omega) x1 (tG_U x2) (by rw [kt.wk.2]; exact h112) (fun a h1 h2 => pr a (by omega)) (fun y _ => ?_) ⟨pr 2145 (by decide), pr 2148 (by decide), pr 2150 (by decide)⟩ (fun y _ => ?_) (fun a ha => absurd ha (by rw [Nat.mul_zero]; exact Nat.not_lt_zero a))
  · dsimp only; rw [pr 2153 (by decide)]
  · dsimp only; rw [pr 2149 (by decide)]
end
