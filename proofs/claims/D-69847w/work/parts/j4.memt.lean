set_option maxRecDepth 100000
set_option maxHeartbeats 400000
/-! ===== bits: the twin's mems ===== -/
/-- the entries stand in the twin -/
def ENT (w p : Nat) (σ : St) : Nat → List MCE → Prop
  | _, [] => True
  | k, e :: E => (σ.1 2160 k = (e.1 : Int) ∧ ∃ pa pv : Nat, σ.1 2161 k = (pa : Int) ∧ σ.1 2162 k = (e.2.2.2 : Int) ∧ σ.1 2163 k = (pv : Int) ∧ pa + e.2.2.2 ≤ p ∧ pv + w ≤ p ∧ (∀ j, j < e.2.2.2 → σ.1 2153 (pa + j) = (e.2.1 j : Int)) ∧ ∀ j, j < w → σ.1 2153 (pv + j) = (e.2.2.1 j : Int)) ∧ ENT w p σ (k + 1) E
/-- rows of entries below x -/
def rowE (x : Nat) (σ τ : St) : Prop := ∀ k, k < x → τ.1 2160 k = σ.1 2160 k ∧ τ.1 2161 k = σ.1 2161 k ∧ τ.1 2162 k = σ.1 2162 k ∧ τ.1 2163 k = σ.1 2163 k
section
variable {Ms : Nat → ModV} {top : Nat} {s : LYS} {r : Nat → Nat} {R S : Nat} {σ τ υ : St} {st : BST} {g p : Nat} {A : Nat → Prop}
theorem ENT.fr {w : Nat} : ∀ (E : List MCE) (k : Nat), ENT w p σ k E → (∀ a, 2160 ≤ a → a ≤ 2163 → τ.1 a = σ.1 a) → (∀ k, k < p → τ.1 2153 k = σ.1 2153 k) → ENT w p τ k E
  | [], _, _, _, _ => trivial
  | e :: E, k, h, h1, h2 => by
    obtain ⟨⟨a1, pa, pv, a2, a3, a4, a5, a6, a7, a8⟩, a9⟩ := h
    exact ⟨⟨by rw [h1 2160 (by omega) (by omega)]; exact a1, pa, pv, by rw [h1 2161 (by omega) (by omega)]; exact a2, by rw [h1 2162 (by omega) (by omega)]; exact a3, by rw [h1 2163 (by omega) (by omega)]; exact a4, a5, a6, fun j hj => by rw [h2 _ (by omega)]; exact a7 j hj, fun j hj => by rw [h2 _ (by omega)]; exact a8 j hj⟩, ENT.fr E (k + 1) a9 h1 h2⟩
theorem ENT.up {w p' : Nat} (hp : p ≤ p') : ∀ (E : List MCE) (k : Nat), ENT w p σ k E → ENT w p' σ k E
  | [], _, _ => trivial
  | e :: E, k, ⟨⟨a1, pa, pv, a2, a3, a4, a5, a6, a7, a8⟩, a9⟩ => ⟨⟨a1, pa, pv, a2, a3, a4, by omega, by omega, a7, a8⟩, ENT.up hp E (k + 1) a9⟩
theorem conK_pre (hd : DP Ms top s) (hM : DM σ S Ms top s) (hg : g < lsG s) (hnt : ¬ tiG Ms s g) : ∀ k j, j + k = mdQ (moI Ms s (coI Ms s g)) → ∃ L, conL Ms s g = conK Ms s g j ++ L := by
  intro k
  induction k with
  | zero => intro j hj; exact ⟨[], by rw [show j = mdQ (moI Ms s (coI Ms s g)) by omega, hd.conK_all hg, List.append_nil]⟩
  | succ k ih =>
    intro j hj
    obtain ⟨L, hL⟩ := ih (j + 1) (by omega)
    rcases hd.stK hM hg hnt (show j < mdQ (moI Ms s (coI Ms s g)) by omega) with ⟨c, -, -, -, e⟩ | ⟨-, e⟩
    · exact ⟨c :: L, by rw [hL, e, List.append_assoc]; rfl⟩
    · exact ⟨L, by rw [hL, e]⟩
theorem R_bo (a b : Int) : R_X15_bitsOf a b = (G_X15_bitsOf 1300).1 a b := rfl
theorem R_wt (a b : Int) : R_X15_whenBit a b = (G_X15_bitsOf 1300).2.2.2.2.2 a b := rfl
theorem lowT_tU {p q : Nat} (h : lowT p q σ τ) : ∀ k, k < p → τ.1 2153 k = σ.1 2153 k := h.1
/-- conditions, addresses, values -/
theorem mem1T (hd : DP Ms top s) (hch : chOK Ms s) (hlim : limOK Ms s) (hS5 : S < 5) (hr : ∀ x t, x < lsG s → t < lsG s → hgG Ms s x t → r t < r x) (hR : ∀ g, r g < R) (hR2 : 6 * R ≤ 1290) (hg : g < lsG s) (h4 : kdS Ms s g = 4) {x2 x3 x8 : Int} (hx3 : x3 = ((200 * S + g : Nat) : Int)) {Q : Int → St → Prop} : ∀ (k2 j f : Nat) (L : List Nat) (x7 : Nat) (st : BST) (p : Nat) (σ : St), j + k2 = mdQ (moI Ms s (coI Ms s g)) → k2 < f → conL Ms s g = conK Ms s g j ++ L → BTr Ms top s S (fun _ => False) st p σ → σ.1 2075 112 = 0 → x7 + L.length ≤ 60 → p ≤ 64 * x7 → (∀ τ p', BTr Ms top s S (fun _ => False) (mcP Ms s (mkB Ms s R) g L st).2 p' τ → agr tU σ τ → τ.1 2075 112 = 0 → rowE x7 σ τ → (∀ k, k < p → τ.1 2153 k = σ.1 2153 k) → (τ.1 2145 = σ.1 2145 ∧ τ.1 2148 = σ.1 2148 ∧ τ.1 2149 = σ.1 2149 ∧ τ.1 2150 = σ.1 2150) → ENT (wdS Ms s g) p' τ x7 (mcP Ms s (mkB Ms s R) g L st).1 → p ≤ p' → p' ≤ 64 * (x7 + L.length) → wp (X15_memNext_191 (g : Int) x2 x3 (wdS Ms s g : Int) ((x7 + L.length : Nat) : Int) x8) τ Q) → wp (X15_memNext_55 f (g : Int) x2 x3 (coI Ms s g : Int) (wdS Ms s g : Int) ((200 * (12 * S + lsM s (coI Ms s g)) : Nat) : Int) (x7 : Int) x8 (j : Int)) σ Q := by
  have hF := FU_ge
  have h12 := hd.1.1
  have h200 := hd.2.1.2
  have hnt : ¬ tiG Ms s g := fun h => ti_ns h (Or.inr h4)
  obtain ⟨z1, -⟩ := hd.co hg hnt
  obtain ⟨hm, ok⟩ := hd.inst z1
  have q120 : mdQ (moI Ms s (coI Ms s g)) ≤ 120 := ok.1.2.2.2.2.2
  have hp := PMK_of (r := r) (R := R) hd hch
  have hmk : ∀ k, 6 * R + 1 ≤ k → MKT Ms top s S r R (G_X15_bitsOf k).2.2.1 (mkB Ms s R) := fun k hk => makeT hd hch hlim hS5 hr R k hk
  have hf : FDT Ms top s S r R (G_X15_bitsOf 1300).1 (mkB Ms s R) := FDT_G (k := 1297) hd hlim hS5 (hmk 1297 (by omega)) hp
  have hw : WHT Ms top s S r R (G_X15_bitsOf 1300).2.2.2.2.2 (mkB Ms s R) := WHT_G (k := 1296) hd hlim hS5 (hmk 1296 (by omega)) hp
  obtain ⟨-, -, -, -, ⟨s5, s6⟩, -⟩ := hd.sig hg
  have eT : coT Ms s g = lsth s g := if_neg (by omega)
  intro k2
  induction k2 with
  | zero =>
    intro j f L x7 st p σ hj hfu hL hB h112 h60 hpp hQ
    obtain ⟨f', rfl⟩ : ∃ f', f = f' + 1 := ⟨f - 1, by omega⟩
    have eL : L = [] := by
      rw [show j = mdQ (moI Ms s (coI Ms s g)) by omega, hd.conK_all hg] at hL
      have := congrArg List.length hL
      rw [List.length_append] at this
      exact List.length_eq_zero_iff.mp (by omega)
    subst eL
    rw [X15_memNext_55, wp_bd, wp_gI, hB.1.2.1, wp_bd, m_store hd hB.1.1 hS5 z1, wp_bd, RI_2080 (by omega) (by omega), tn, (hB.1.1.2 _ hm).1.2.2]
    rw [wp_ifp (show (mdQ (Ms (lsM s (coI Ms s g))) : Int) ≤ (j : Int) by have : mdQ (Ms (lsM s (coI Ms s g))) = mdQ (moI Ms s (coI Ms s g)) := rfl; omega)]
    exact hQ σ p hB agr.refl h112 (fun _ _ => ⟨rfl, rfl, rfl, rfl⟩) (fun _ _ => rfl) ⟨rfl, rfl, rfl, rfl⟩ trivial (Nat.le_refl _) hpp
  | succ k2 ih =>
    intro j f L x7 st p σ hj hfu hL hB h112 h60 hpp hQ
    obtain ⟨f', rfl⟩ : ∃ f', f = f' + 1 := ⟨f - 1, by omega⟩
    have hjl : j < mdQ (moI Ms s (coI Ms s g)) := by omega
    obtain ⟨-, -, -, g6⟩ := hB.1.1.1.2.2.2 g hg
    subst hx3
    rw [X15_memNext_55, wp_bd, wp_gI, hB.1.2.1, wp_bd, m_store hd hB.1.1 hS5 z1, wp_bd, RI_2080 (by omega) (by omega), tn, (hB.1.1.2 _ hm).1.2.2]
    rw [wp_ifn (show ¬ (mdQ (Ms (lsM s (coI Ms s g))) : Int) ≤ (j : Int) by have : mdQ (Ms (lsM s (coI Ms s g))) = mdQ (moI Ms s (coI Ms s g)) := rfl; omega), wp_bd, e200M hS5 (by omega) (by omega), RI_2094 (by omega) (by omega), tn, wp_bd, RI_2126 (by omega) (by omega), tn, g6, ← eT]
    rcases hd.stK hB.1.1 hg hnt hjl with ⟨c, c1, c2, ⟨c3, c4⟩, c5⟩ | ⟨c3, c5⟩
    · obtain ⟨L', hL'⟩ := conK_pre hd hB.1.1 hg hnt k2 (j + 1) (by omega)
      have eL : L = c :: L' := by
        rw [hL, c5, List.append_assoc] at hL'
        exact List.append_cancel_left hL'
      subst eL
      have h60' : x7 + (L'.length + 1) ≤ 60 := h60
      obtain ⟨y1, y2, y3, y4, -⟩ := hd.conL_mem hg c1
      obtain ⟨d1, d2, d3⟩ := hd.ad hg h4 c1
      obtain ⟨-, -, m96, m97, mcr⟩ := (hB.1.1.2 _ hm).2.2.2.1 c y3
      have m96' : σ.1 2096 (200 * (12 * S + lsM s (coI Ms s g)) + mdSt (moI Ms s (coI Ms s g)) c) = (adN Ms s g c : Int) := m96.trans d2
      have m97' : σ.1 2097 (200 * (12 * S + lsM s (coI Ms s g)) + mdSt (moI Ms s (coI Ms s g)) c) = (mdVl (moI Ms s (coI Ms s g)) c : Int) := m97
      have mcr' : crS σ (200 * (12 * S + lsM s (coI Ms s g))) (mdSt (moI Ms s (coI Ms s g)) c) (mdCh (moI Ms s (coI Ms s g)) c) := mcr
      rw [c2] at m96' m97' mcr'
      have hroot := hd.root y2 y3
      have cL : (mdCh (moI Ms s (coI Ms s g)) c).length ≤ 20 := (ok.2.2.2.2.1 c y3).2.1
      obtain ⟨gr1, gr2⟩ := rdG_top hd hch hr hR hg c c1
      have gwA := (hd.nod y2 d1).1.2.2.1
      have hgA : rdU Ms s r R (fun _ => False) (coI Ms s g) (adN Ms s g c) := fun h hrd hh hsh => ⟨hR h, fun a ha => ha.elim⟩
      obtain ⟨wv, hwv⟩ : ∃ wv, wv = whB Ms s (mkB Ms s R) (coI Ms s g) (mdCh (moI Ms s (coI Ms s g)) c) st := ⟨_, rfl⟩
      obtain ⟨av, hav⟩ : ∃ av, av = rngB Ms s (mkB Ms s R) (coI Ms s g) (adN Ms s g c) wv.2 := ⟨_, rfl⟩
      obtain ⟨vv, hvv⟩ : ∃ vv, vv = rngB Ms s (mkB Ms s R) (coI Ms s g) (mdVl (moI Ms s (coI Ms s g)) c) av.2 := ⟨_, rfl⟩
      rw [mcP_c hwv hav hvv] at hQ
      dsimp only at hQ
      rw [c3, wp_ifp rfl, wp_bd, R_wt]
      refine hw (coI Ms s g) j (mdCh (moI Ms s (coI Ms s g)) c) y2 (by omega) cL (hch _ _ y2 y3) (fun _ => False) st p 0 σ hB mcr' (fun z hz => ⟨(gr2 z hz).toU, roomE_top hd hch hlim hr y2 (hch _ _ y2 y3 z hz).1 ⟨c, y3, Or.inr (Or.inr ⟨z, hz, rfl⟩)⟩ (by omega)⟩) (by omega) h112 _ (fun τ1 a1 a2 a3 a4 a5 => ?_)
      rw [← hwv] at a1 a5 ⊢
      -- the condition's entry
      obtain ⟨τ2, hτ2⟩ : ∃ τ2 : St, τ2 = (stA (stA τ1.1 2160 (ups (τ1.1 2160) x7 (wv.1 : Int))) 2161 (ups (τ1.1 2161) x7 (p : Int)), τ1.2) := ⟨_, rfl⟩
      have w1 : ∀ a, a ≠ 2160 → a ≠ 2161 → τ2.1 a = τ1.1 a := fun a q1 q2 => by rw [hτ2]; dsimp only; rw [stA_ne q2, stA_ne q1]
      have w2 : τ2.1 2160 = ups (τ1.1 2160) x7 (wv.1 : Int) := by rw [hτ2]; dsimp only; rw [stA_ne (by decide), stA_eq]
      have w3 : τ2.1 2161 = ups (τ1.1 2161) x7 (p : Int) := by rw [hτ2]; dsimp only; rw [stA_eq]
      have w4 : agr tO τ1 τ2 := fun a k q => by
        unfold tO at q
        exact ⟨by rw [w1 a (by omega) (by omega)], by rw [hτ2], by rw [hτ2]⟩
      have hB2 := a1.oth hd hS5 w4
      have e105 : (stA τ1.1 2160 (ups (τ1.1 2160) x7 (wv.1 : Int))) 2075 105 = (p : Int) := by rw [stA_ne (by decide)]; exact a1.2.2.2.2.1
      have e61 : (stA τ1.1 2160 (ups (τ1.1 2160) x7 (wv.1 : Int))) 2161 = τ1.1 2161 := stA_ne (by decide)
      have r96 : τ2.1 2096 = σ.1 2096 := by rw [w1 2096 (by decide) (by decide)]; exact a2.row (fun k => by unfold tG; omega)
      have q112 : τ2.1 2075 112 = 0 := by rw [w1 2075 (by decide) (by decide)]; exact a4
      rw [wp_bd, RV_2160 (by omega) (by omega), tn, wp_bd, wp_gI]
      dsimp only
      rw [e105, wp_bd, RV_2161 (by omega) (by omega), tn]
      dsimp only
      rw [e61, ← hτ2, wp_bd, RI_2096 (by omega) (by omega), tn, r96, m96', wp_bd, R_bo]
      refine hf (coI Ms s g) (adN Ms s g c) y2 d1 (fun _ => False) wv.2 p 0 τ2 hB2 hgA (roomE_top hd hch hlim hr y2 d1 d3 (by omega)) q112 _ (fun τ3 b1' b2 b3 b4 b5 b6 => ?_)
      rw [← hav] at b1' b5 b6
      have f61 : τ3.1 2161 = τ2.1 2161 := b2.row (fun k => by unfold tG; omega)
      obtain ⟨τ4, hτ4⟩ : ∃ τ4 : St, τ4 = (stA (stA τ3.1 2162 (ups (τ3.1 2162) x7 (gW (gI' Ms s (coI Ms s g)) (adN Ms s g c) : Int))) 2163 (ups (τ3.1 2163) x7 ((p + gW (gI' Ms s (coI Ms s g)) (adN Ms s g c) : Nat) : Int)), τ3.2) := ⟨_, rfl⟩
      have v1 : ∀ a, a ≠ 2162 → a ≠ 2163 → τ4.1 a = τ3.1 a := fun a q1 q2 => by rw [hτ4]; dsimp only; rw [stA_ne q2, stA_ne q1]
      have v2 : τ4.1 2162 = ups (τ3.1 2162) x7 (gW (gI' Ms s (coI Ms s g)) (adN Ms s g c) : Int) := by rw [hτ4]; dsimp only; rw [stA_ne (by decide), stA_eq]
      have v3 : τ4.1 2163 = ups (τ3.1 2163) x7 ((p + gW (gI' Ms s (coI Ms s g)) (adN Ms s g c) : Nat) : Int) := by rw [hτ4]; dsimp only; rw [stA_eq]
      have v4 : agr tO τ3 τ4 := fun a k q => by
        unfold tO at q
        exact ⟨by rw [v1 a (by omega) (by omega)], by rw [hτ4], by rw [hτ4]⟩
      have hB4 := b1'.oth hd hS5 v4
      have e105' : (stA τ3.1 2162 (ups (τ3.1 2162) x7 (gW (gI' Ms s (coI Ms s g)) (adN Ms s g c) : Int))) 2075 105 = ((p + gW (gI' Ms s (coI Ms s g)) (adN Ms s g c) : Nat) : Int) := by rw [stA_ne (by decide)]; exact b1'.2.2.2.2.1
      have e63 : (stA τ3.1 2162 (ups (τ3.1 2162) x7 (gW (gI' Ms s (coI Ms s g)) (adN Ms s g c) : Int))) 2163 = τ3.1 2163 := stA_ne (by decide)
      have r97 : τ4.1 2097 = σ.1 2097 := by rw [v1 2097 (by decide) (by decide), b2.row (a := 2097) (fun k => by unfold tG; omega), w1 2097 (by decide) (by decide)]; exact a2.row (fun k => by unfold tG; omega)
      have s112 : τ4.1 2075 112 = 0 := by rw [v1 2075 (by decide) (by decide)]; exact b4
      rw [wp_bd, wp_gI, b1'.2.2.2.2.1, wp_bd, RI_2161 (by omega) (by omega), tn, f61, w3, ups_eq, w32_i (x := ((p + gW (gI' Ms s (coI Ms s g)) (adN Ms s g c) : Nat) : Int) - (p : Int)) (by omega) (by omega), show ((p + gW (gI' Ms s (coI Ms s g)) (adN Ms s g c) : Nat) : Int) - (p : Int) = (gW (gI' Ms s (coI Ms s g)) (adN Ms s g c) : Int) by omega, wp_bd, RV_2162 (by omega) (by omega), tn, wp_bd, wp_gI]
      dsimp only
      rw [e105', wp_bd, RV_2163 (by omega) (by omega), tn]
      dsimp only
      rw [e63, ← hτ4, wp_bd, RI_2097 (by omega) (by omega), tn, r97, m97', wp_bd, R_bo]
      refine hf (coI Ms s g) (mdVl (moI Ms s (coI Ms s g)) c) y2 hroot (fun _ => False) av.2 _ 0 τ4 hB4 gr1.toU (roomE_top hd hch hlim hr y2 hroot ⟨c, y3, Or.inl rfl⟩ (by omega)) s112 _ (fun τ5 e1 e2 e3 e4 e5 e6 => ?_)
      rw [← hvv] at e1 e5 e6
      rw [(hd.cw hg c1).1] at e1 e5 e6
      rw [wp_lt, X15_memNext_185, wp_lt, wN1 (by omega), wN1 (by omega)]
      have tA : agr tU σ τ5 := (((tG_U a2).trans (tO_U w4)).trans ((tG_U b2).trans (tO_U v4))).trans (tG_U e2)
      have pl : ∀ k, k < p → τ5.1 2153 k = σ.1 2153 k := fun k hk => by rw [e3.1 k (by omega), v1 2153 (by decide) (by decide), b3.1 k hk, w1 2153 (by decide) (by decide), a3.1 k hk]
      have g60 : ∀ a, 2160 ≤ a → a ≤ 2163 → τ5.1 a = τ4.1 a := fun a h1 h2 => e2.row (fun k => by unfold tG; omega)
      have h60a : ∀ a, 2160 ≤ a → a ≤ 2163 → τ3.1 a = τ2.1 a := fun a h1 h2 => b2.row (fun k => by unfold tG; omega)
      have i60 : ∀ a, 2160 ≤ a → a ≤ 2163 → τ1.1 a = σ.1 a := fun a h1 h2 => a2.row (fun k => by unfold tG; omega)
      have n60 : τ5.1 2160 = ups (σ.1 2160) x7 (wv.1 : Int) := by rw [g60 2160 (by omega) (by omega), v1 2160 (by decide) (by decide), h60a 2160 (by omega) (by omega), w2, i60 2160 (by omega) (by omega)]
      have n61 : τ5.1 2161 = ups (σ.1 2161) x7 (p : Int) := by rw [g60 2161 (by omega) (by omega), v1 2161 (by decide) (by decide), h60a 2161 (by omega) (by omega), w3, i60 2161 (by omega) (by omega)]
      have n62 : τ5.1 2162 = ups (σ.1 2162) x7 (gW (gI' Ms s (coI Ms s g)) (adN Ms s g c) : Int) := by rw [g60 2162 (by omega) (by omega), v2, h60a 2162 (by omega) (by omega), w1 2162 (by decide) (by decide), i60 2162 (by omega) (by omega)]
      have n63 : τ5.1 2163 = ups (σ.1 2163) x7 ((p + gW (gI' Ms s (coI Ms s g)) (adN Ms s g c) : Nat) : Int) := by rw [g60 2163 (by omega) (by omega), v3, h60a 2163 (by omega) (by omega), w1 2163 (by decide) (by decide), i60 2163 (by omega) (by omega)]
      have kp : ∀ a, a = 2145 ∨ a = 2148 ∨ a = 2149 ∨ a = 2150 → τ5.1 a = σ.1 a := fun a ha => by
        have x1 : τ5.1 a = τ4.1 a := e2.row (fun k => by unfold tG; omega)
        have x2 : τ3.1 a = τ2.1 a := b2.row (fun k => by unfold tG; omega)
        have x3 : τ1.1 a = σ.1 a := a2.row (fun k => by unfold tG; omega)
        rw [x1, v1 a (by omega) (by omega), x2, w1 a (by omega) (by omega), x3]
      refine ih (j + 1) f' L' (x7 + 1) vv.2 _ τ5 (by omega) (by omega) hL' e1 e4 (by omega) (by omega) (fun τ p' f1 f2 f3 f4 f5 f6 f7 f8 f9 => ?_)
      have hfin := hQ τ p' f1 (tA.trans f2) f3 (fun k hk => ?_) (fun k hk => by rw [f5 k (by omega)]; exact pl k hk) ⟨by rw [f6.1]; exact kp _ (by omega), by rw [f6.2.1]; exact kp _ (by omega), by rw [f6.2.2.1]; exact kp _ (by omega), by rw [f6.2.2.2]; exact kp _ (by omega)⟩ ⟨⟨?_, p, p + gW (gI' Ms s (coI Ms s g)) (adN Ms s g c), ?_, ?_, ?_, by dsimp only; omega, by omega, fun k hk => ?_, fun k hk => ?_⟩, f7⟩ (by omega) (by show p' ≤ 64 * (x7 + (L'.length + 1)); omega)
      · rw [show x7 + 1 + L'.length = x7 + (L'.length + 1) by omega]
        exact hfin
      · obtain ⟨x1, x2, x3, x4⟩ := f4 k (by omega)
        rw [x1, x2, x3, x4, n60, n61, n62, n63, ups_ne (by omega), ups_ne (by omega), ups_ne (by omega), ups_ne (by omega)]
        exact ⟨rfl, rfl, rfl, rfl⟩
      · rw [(f4 x7 (by omega)).1, n60, ups_eq]
      · rw [(f4 x7 (by omega)).2.1, n61, ups_eq]
      · rw [(f4 x7 (by omega)).2.2.1, n62, ups_eq]
      · rw [(f4 x7 (by omega)).2.2.2, n63, ups_eq]
      · have hk' : k < gW (gI' Ms s (coI Ms s g)) (adN Ms s g c) := hk
        rw [f5 _ (by omega), e3.1 _ (by omega), v1 2153 (by decide) (by decide)]
        exact b6 k hk'
      · rw [f5 _ (by omega)]
        exact e6 k hk
    · rw [← c5] at hL
      have hne : ¬ σ.1 2094 (200 * (12 * S + lsM s (coI Ms s g)) + j) = (coT Ms s g : Int) := fun h => c3 ⟨h, hd.stK4 hB.1.1 hg h4 hjl h⟩
      rw [wp_ifn hne, X15_memNext_185, wp_lt, wN1 (by omega)]
      exact ih (j + 1) f' L x7 st p σ (by omega) (by omega) hL hB h112 h60 hpp hQ
end
