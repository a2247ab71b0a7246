set_option maxRecDepth 100000
set_option maxHeartbeats 400000
/-! ===== bits: the twin makes a signal ===== -/
section
variable {Ms : Nat → ModV} {top : Nat} {s : LYS} {r : Nat → Nat} {K K' R S : Nat} {A : Nat → Prop} {mk : Nat → BST → BST} {σ τ : St}
theorem find1 {cn : Int → Int → Int → Int → Int → St → Option (Unit × St)} {h : Nat} {Q : Unit → St → Prop} (hh : h < 200) (h1 : σ.1 2156 h = 1) (hQ : Q () σ) : wp (F_X15_find cn (h : Int)) σ Q := by
  rw [F_X15_find, wp_bd, RI_2156 (by omega) (by omega), tn, h1, wp_ifn (by decide), wp_rt]
  exact hQ
theorem MKT.mono {fnd : Int → St → Option (Unit × St)} (h : MKT Ms top s S r K fnd mk) (hk : K' ≤ K) : MKT Ms top s S r K' fnd mk := ⟨h.1, fun x hx hs hr => h.2 x hx hs (by omega)⟩
theorem bits_ne {g k a b : Nat} (h : g ≠ k) (ha : a < szG Ms s g) (hb : b < szG Ms s k) : bitsS Ms s g + a ≠ bitsS Ms s k + b := by
  have e : ∀ x, bitsS Ms s (x + 1) = bitsS Ms s x + szG Ms s x := fun _ => rfl
  rcases Nat.lt_or_ge g k with c | c
  · have h1 : bitsS Ms s (g + 1) ≤ bitsS Ms s k := smF_mono c
    have := e g
    omega
  · have h1 : bitsS Ms s (k + 1) ≤ bitsS Ms s g := smF_mono (by omega)
    have := e k
    omega
theorem cF_wG (e : agr cF σ τ) : agr wG σ τ := agr.sub e (fun a k hk => by unfold wG at hk; unfold cF; omega)
theorem findST (hd : DP Ms top s) (hch : chOK Ms s) (hlim : limOK Ms s) (hS5 : S < 5) (hr : ∀ x t, x < lsG s → t < lsG s → hgG Ms s x t → r t < r x) {bo : Int → Int → St → Option (Unit × St)} {wh : Int → Int → St → Option (Int × St)} (hf : ∀ K, K ≤ R → FDT Ms top s S r K bo (mkB Ms s R)) (hw : ∀ K, K ≤ R → WHT Ms top s S r K wh (mkB Ms s R)) : MKT Ms top s S r (R + 1) (fun a1 => F_X15_find (fun c1 c2 c3 c4 c5 => F_X15_connectBits bo wh c1 c2 c3 c4 c5) a1) (mkB Ms s (R + 1)) := by
  refine ⟨fun h σ Q hh h1 hQ => find1 hh h1 hQ, ?_⟩
  intro h hh hs hrk A st p q σ hA hB h112 hroom Q hQ
  have hF := FU_ge
  have h200 := hd.2.1.2
  obtain ⟨-, -, -, -, ⟨s5, s6⟩, -⟩ := hd.sig hh
  have hbt := bits_in hlim hh
  have hws := wd_sz hd hh
  have hro := hroom.1
  obtain ⟨db1, db2⟩ := (hB.2.2.2.1 h hh).2 hs
  show wp (F_X15_find (fun c1 c2 c3 c4 c5 => F_X15_connectBits bo wh c1 c2 c3 c4 c5) (h : Int)) σ Q
  by_cases c : st.2.1 h = true
  · rw [mkB_y c] at hQ
    rw [if_pos c] at db1
    exact find1 (by omega) db1 (hQ σ hB agr.refl lowT.refl h112)
  · rw [if_neg c] at db1
    have hnt : ¬ tiG Ms s h := fun z => c (hB.2.2.2.2.2 h hh z)
    have hpm := (PMK_of (r := r) (R := R) hd hch).mono (show r h ≤ R by omega)
    have hgo := mkB_go hd hch (R + 1) h st hh hB.2.2.1
    have hkp := kp_mk (Ms := Ms) (s := s) (R + 1) h st
    rw [mkB_n c] at hQ hgo hkp
    obtain ⟨σ1, hσ1⟩ : ∃ σ1 : St, σ1 = (stA σ.1 2156 (ups (σ.1 2156) h 1), σ.2) := ⟨_, rfl⟩
    have x1 : ∀ a, a ≠ 2156 → σ1.1 a = σ.1 a := fun a ha => by rw [hσ1]; exact stA_ne ha
    have x2 : σ1.1 2156 = ups (σ.1 2156) h 1 := by rw [hσ1]; dsimp only; rw [stA_eq]
    have x3 : agr tG σ σ1 := fun a k hk => by
      unfold tG at hk
      refine ⟨by rw [x1 a (by omega)], by rw [hσ1], by rw [hσ1]⟩
    have hB1 : BTr Ms top s S (fun a => A a ∨ a = h) (st.1, ups st.2.1 h true, st.2.2) p σ1 := by
      obtain ⟨g1, g2, g3, g4, g5, g6⟩ := hB
      refine ⟨g1.fr hd x3, g2.fr (fun a y1 y2 => x1 a (by omega)) (by rw [x1 2075 (by decide)]), g3, fun x hx => ?_, by rw [x1 2075 (by decide)]; exact g5, fun x hx hxt => ?_⟩
      · obtain ⟨m1, m2⟩ := g4 x hx
        rw [x1 2154 (by decide), x2]
        refine ⟨fun z => ?_, fun z => ?_⟩
        · have e : x ≠ h := fun e => hs (by rw [← e]; exact z)
          rw [ups_ne e]; exact m1 z
        · by_cases e : x = h
          · subst e
            rw [ups_eq]
            refine ⟨?_, fun _ h2 => absurd (Or.inr rfl) h2⟩
            show (1 : Int) = if ups st.2.1 x true x = true then 1 else 0
            rw [ups_eq]; rfl
          · rw [ups_ne e]
            obtain ⟨m3, m4⟩ := m2 z
            refine ⟨?_, fun h1 h2 j hj => ?_⟩
            · show _ = if ups st.2.1 h true x = true then _ else _
              rw [ups_ne e]; exact m3
            · have h1' : ups st.2.1 h true x = true := h1
              rw [ups_ne e] at h1'
              exact m4 h1' (fun y => h2 (Or.inl y)) j hj
      · show ups st.2.1 h true x = true
        by_cases e : x = h
        · subst e; rw [ups_eq]
        · rw [ups_ne e]; exact g6 x hx hxt
    obtain ⟨-, ⟨-, g2, -⟩, -⟩ := hB1.1.1.1.2.2.2 h hh
    rw [F_X15_find, wp_bd, RI_2156 (by omega) (by omega), tn, db1, wp_ifp rfl, wp_bd, RV_2156 (by omega) (by omega) (by decide) (by decide), tn, ← hσ1, wp_bd, wp_gI, hB1.1.2.1, wp_lt, e200S hS5 (by omega), wp_bd, RI_2123 (by omega) (by omega), tn, g2, wp_lt, wp_bd, wp_gI, hB1.1.2.1, wp_bd]
    refine m_conn hd hB1.1.1 hS5 hh hnt (fun σ2 y1 y2 y3 y4 => ?_)
    have y1' := cF_wG y1
    have hB2 := hB1.wg hd y1'
    have y5 : ∀ a, a ≠ 2075 → σ2.1 a = σ1.1 a := fun a ha => y1.row (fun k => by unfold cF; omega)
    have y6 : σ2.1 2075 112 = (q : Int) := by rw [(y1 2075 112 (by unfold cF; omega)).1, x1 2075 (by decide)]; exact h112
    rw [wp_bd, wp_gI, y2, wp_lt, wp_bd, wp_gI, y3, wp_lt, wp_bd, wp_gI, y4, wp_lt, wp_bd, wp_gI, hB2.2.2.2.2.1, wp_lt, wp_lt]
    refine zeroT (L := fun m x8 => X15_find_71 (fun c1 c2 c3 c4 c5 => F_X15_connectBits bo wh c1 c2 c3 c4 c5) m (h : Int) (wdS Ms s h : Int) (coI Ms s h : Int) (coT Ms s h : Int) (coP Ms s h) (p : Int) x8) (C := X15_find_88 (fun c1 c2 c3 c4 c5 => F_X15_connectBits bo wh c1 c2 c3 c4 c5) (h : Int) (wdS Ms s h : Int) (coI Ms s h : Int) (coT Ms s h : Int) (coP Ms s h) (p : Int)) s6 hB2.kt (by omega) (fun m x => by rw [X15_find_71]) (fun τ1 k1 k2 => ?_)
    obtain ⟨hB3, t3⟩ := hB2.fr hd k1 (goB.refl hB2.2.2.1.1)
    have hrg := rdG_of hd hch hr hh hs (A := fun a => A a ∨ a = h) (fun a ha => by
      rcases ha with y | y
      · have := hA a y; omega
      · subst y; exact Nat.le_refl _)
    rw [X15_find_88, wp_bd]
    refine connT (st := (st.1, ups st.2.1 h true, st.2.2)) (x0 := fun _ => 0) hd hch hlim hS5 hpm (hf (r h) (by omega)) (hw (r h) (by omega)) hh hnt hB3 (by rw [k1.wk.2]; exact y6) (by omega) k2.2 (fun _ _ => ltB0) (fun cc u hc hu => ⟨?_, roomG.own hd hch hr hh hs hc hu hroom⟩) (fun τ2 d1 d2 d3 d4 d5 d6 => ?_)
    · obtain ⟨w1, w2⟩ := hrg cc hc
      rcases hu with e | ⟨z, z1, e⟩
      · subst e; exact w1.toU
      · subst e; exact (w2 z z1).toU
    · generalize hy : csB Ms s (mkB Ms s R) h (conL Ms s h) (fun _ => 0, st.1, ups st.2.1 h true, st.2.2) = y at *
      have lowA : lowT p q σ τ2 := by
        refine lowT.trans (τ := σ2) ⟨fun k _ => by rw [y5 2153 (by decide), x1 2153 (by decide)], fun k _ => by rw [y5 2157 (by decide), y5 2158 (by decide), x1 2157 (by decide), x1 2158 (by decide)]; exact ⟨rfl, rfl⟩⟩ (lowT.trans (k1.low k2.1) d3)
      have tA : agr tG σ τ2 := ((x3.trans (wG_tG y1')).trans t3).trans d2
      rw [wp_lt]
      refine lpN (w := wdS Ms s h) (L := fun m k => X15_find_104 (fun c1 c2 c3 c4 c5 => F_X15_connectBits bo wh c1 c2 c3 c4 c5) m (h : Int) (wdS Ms s h : Int) (p : Int) (k : Int)) (I := fun k υ => (∀ a, a ≠ 2154 → υ.1 a = τ2.1 a) ∧ υ.2 = τ2.2 ∧ CE (τ2.1 2154) (υ.1 2154) (bitsS Ms s h) (wdS Ms s h) k y.1) ?_ ?_ (show wdS Ms s h < FU by omega) ⟨fun _ _ => rfl, rfl, CE.init⟩
      · rintro m k υ hk ⟨v1, v2, v3⟩ ih2
        show wp (X15_find_104 (fun c1 c2 c3 c4 c5 => F_X15_connectBits bo wh c1 c2 c3 c4 c5) (m + 1) (h : Int) (wdS Ms s h : Int) (p : Int) (k : Int)) υ Q
        rw [X15_find_104, wp_ifn (by omega), wp_bd, RI_2155 (by omega) (by omega), tn, v1 2155 (by decide), d1.1.2.2 h hh, wp_bd, wN (a := p) (by omega), RI_2153 (by omega) (by omega), tn, v1 2153 (by decide), d6 k hk, wp_bd, wN (a := bitsS Ms s h) (by omega), RV_2154 (by omega) (by omega), tn, wp_lt, wN1 (by omega)]
        exact ih2 _ ⟨fun a ha => by dsimp only; rw [stA_ne ha]; exact v1 a ha, v2, by dsimp only; rw [stA_eq]; exact v3.up' hk⟩
      · rintro m υ ⟨v1, v2, v3⟩
        show wp (X15_find_104 (fun c1 c2 c3 c4 c5 => F_X15_connectBits bo wh c1 c2 c3 c4 c5) (m + 1) (h : Int) (wdS Ms s h : Int) (p : Int) (wdS Ms s h : Int)) υ Q
        rw [X15_find_104, wp_ifp (by omega), X15_find_140, wp_bd, wp_pI, wp_rt]
        obtain ⟨υ1, hυ1⟩ : ∃ υ1 : St, υ1 = (stA υ.1 2075 (ups (υ.1 2075) 105 (p : Int)), υ.2) := ⟨_, rfl⟩
        rw [← hυ1]
        have n1 : ∀ a, a ≠ 2075 → a ≠ 2154 → υ1.1 a = τ2.1 a := fun a h1 h2 => by rw [hυ1]; dsimp only; rw [stA_ne h1]; exact v1 a h2
        have n2 : ∀ k, k ≠ 105 → υ1.1 2075 k = τ2.1 2075 k := fun k hk => by rw [hυ1]; dsimp only; rw [stA_eq, ups_ne hk, v1 2075 (by decide)]
        have n3 : υ1.1 2154 = υ.1 2154 := by rw [hυ1]; dsimp only; rw [stA_ne (by decide)]
        have n4 : agr tG τ2 υ1 := fun a k hk => by
          unfold tG at hk
          have e2 : υ1.2 = τ2.2 := by rw [hυ1]; exact v2
          refine ⟨?_, by rw [e2], by rw [e2]⟩
          by_cases ca : a = 2075
          · subst ca; exact n2 k (by omega)
          · rw [n1 a ca (by omega)]
        refine hQ υ1 ?_ (tA.trans n4) (lowA.trans ⟨fun k _ => by rw [n1 2153 (by decide) (by decide)], fun k _ => by rw [n1 2157 (by decide) (by decide), n1 2158 (by decide) (by decide)]; exact ⟨rfl, rfl⟩⟩) (by rw [n2 112 (by decide)]; exact d4)
        obtain ⟨g1, g2, g3, g4, g5, g6⟩ := d1
        refine ⟨g1.fr hd n4, g2.fr (fun a q1 q2 => n1 a (by omega) (by omega)) (n2 103 (by decide)), hgo.2, fun x hx => ?_, ?_, fun x hx hxt => (hkp x (hB.2.2.2.2.2 x hx hxt)).1⟩
        · obtain ⟨m1, m2⟩ := g4 x hx
          rw [n1 2156 (by decide) (by decide), n3]
          refine ⟨fun z => ⟨(m1 z).1, fun k hk => ?_⟩, fun z => ⟨(m2 z).1, fun h1 h2 j hj => ?_⟩⟩
          · have e : x ≠ h := fun e => hs (by rw [← e]; exact z)
            rw [v3.1 _ (by
              rcases Nat.lt_or_ge (bitsS Ms s x + k) (bitsS Ms s h) with w | w
              · exact Or.inl w
              · refine Or.inr ?_
                rcases Nat.lt_or_ge (bitsS Ms s x + k) (bitsS Ms s h + wdS Ms s h) with w2 | w2
                · exfalso
                  exact bits_ne (Ms := Ms) (s := s) (a := k) (b := bitsS Ms s x + k - bitsS Ms s h) e hk (by omega) (by omega)
                · exact w2)]
            exact (m1 z).2 k hk
          · show _ = ((ups (α := Nat → Nat) y.2.2.2 h y.1 x j : Nat) : Int)
            by_cases e : x = h
            · subst e
              rw [ups_eq]
              exact v3.2 j hj
            · have hj' : j < szG Ms s x := Nat.lt_of_lt_of_le hj (wd_sz hd hx)
              rw [ups_ne e, v3.1 _ (by
                rcases Nat.lt_or_ge (bitsS Ms s x + j) (bitsS Ms s h) with w | w
                · exact Or.inl w
                · refine Or.inr ?_
                  rcases Nat.lt_or_ge (bitsS Ms s x + j) (bitsS Ms s h + wdS Ms s h) with w2 | w2
                  · exfalso
                    exact bits_ne (Ms := Ms) (s := s) (a := j) (b := bitsS Ms s x + j - bitsS Ms s h) e hj' (by omega) (by omega)
                  · exact w2)]
              exact (m2 z).2 h1 (fun y => by rcases y with y | y; exact h2 y; exact e y) j hj
        · rw [hυ1]
          dsimp only
          rw [stA_eq, ups_eq]
theorem G_T_bo (k : Nat) : (G_X15_bitsOf (k + 1)).1 = fun a1 a2 => F_X15_bitsOf (G_X15_bitsOf k).2.2.2.2.1 a1 a2 := by rw [G_X15_bitsOf]
theorem G_T_cn (k : Nat) : (G_X15_bitsOf (k + 1)).2.1 = fun a1 a2 a3 a4 a5 => F_X15_connectBits (G_X15_bitsOf k).1 (G_X15_bitsOf k).2.2.2.2.2 a1 a2 a3 a4 a5 := by rw [G_X15_bitsOf]
theorem G_T_fi (k : Nat) : (G_X15_bitsOf (k + 1)).2.2.1 = fun a1 => F_X15_find (G_X15_bitsOf k).2.1 a1 := by rw [G_X15_bitsOf]
theorem G_T_sb (k : Nat) : (G_X15_bitsOf (k + 1)).2.2.2.1 = fun a1 => F_X15_signalBits (G_X15_bitsOf k).2.2.1 a1 := by rw [G_X15_bitsOf]
theorem G_T_vi (k : Nat) : (G_X15_bitsOf (k + 1)).2.2.2.2.1 = fun a1 a2 a3 => F_X15_visit (G_X15_bitsOf k).2.2.2.1 a1 a2 a3 := by rw [G_X15_bitsOf]
theorem G_T_wh (k : Nat) : (G_X15_bitsOf (k + 1)).2.2.2.2.2 = fun a1 a2 => F_X15_whenBit (G_X15_bitsOf k).1 a1 a2 := by rw [G_X15_bitsOf]
theorem FDT_G (hd : DP Ms top s) (hlim : limOK Ms s) (hS5 : S < 5) {k : Nat} (hmk : MKT Ms top s S r K (G_X15_bitsOf k).2.2.1 mk) (hp : PMK Ms s r K mk) : FDT Ms top s S r K (G_X15_bitsOf (k + 3)).1 mk := by
  rw [G_T_bo, G_T_vi, G_T_sb]
  exact bitsOfT hd hlim hS5 hmk hp
theorem WHT_G (hd : DP Ms top s) (hlim : limOK Ms s) (hS5 : S < 5) {k : Nat} (hmk : MKT Ms top s S r K (G_X15_bitsOf k).2.2.1 mk) (hp : PMK Ms s r K mk) : WHT Ms top s S r K (G_X15_bitsOf (k + 4)).2.2.2.2.2 mk := by
  rw [G_T_wh]
  exact whenBT hd hlim hS5 hp (FDT_G hd hlim hS5 hmk hp)
theorem makeT (hd : DP Ms top s) (hch : chOK Ms s) (hlim : limOK Ms s) (hS5 : S < 5) (hr : ∀ x t, x < lsG s → t < lsG s → hgG Ms s x t → r t < r x) : ∀ R k, 6 * R + 1 ≤ k → MKT Ms top s S r R (G_X15_bitsOf k).2.2.1 (mkB Ms s R)
  | 0, k, hk => by
    obtain ⟨k', rfl⟩ : ∃ k', k = k' + 1 := ⟨k - 1, by omega⟩
    rw [G_T_fi]
    exact ⟨fun h σ Q hh h1 hQ => find1 hh h1 hQ, fun _ _ _ h => absurd h (Nat.not_lt_zero _)⟩
  | R + 1, k, hk => by
    obtain ⟨k', rfl⟩ : ∃ k', k = k' + 6 := ⟨k - 6, by omega⟩
    have h0 := makeT hd hch hlim hS5 hr R k' (by omega)
    have h1 := makeT hd hch hlim hS5 hr R (k' + 1) (by omega)
    have hp := PMK_of (r := r) (R := R) hd hch
    rw [show k' + 6 = (k' + 5) + 1 from rfl, G_T_fi, show k' + 5 = (k' + 4) + 1 from rfl, G_T_cn]
    exact findST hd hch hlim hS5 hr (fun K hK => FDT_G (k := k' + 1) hd hlim hS5 (h1.mono hK) (hp.mono hK)) (fun K hK => WHT_G (k := k') hd hlim hS5 (h0.mono hK) (hp.mono hK))
end
