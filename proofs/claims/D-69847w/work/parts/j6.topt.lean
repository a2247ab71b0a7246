set_option maxRecDepth 100000
set_option maxHeartbeats 400000
/-! ===== bits: the twin makes the net ===== -/
section
variable {Ms : Nat → ModV} {top : Nat} {s : LYS} {r : Nat → Nat} {R S : Nat} {σ τ υ : St} {st : BST} {g p : Nat}
theorem mcP_len {mk : Nat → BST → BST} : ∀ (L : List Nat) (st : BST), (mcP Ms s mk g L st).1.length = L.length
  | [], _ => rfl
  | c :: L, st => by
    rw [mcP_c rfl rfl rfl]
    show (mcP Ms s mk g L _).1.length + 1 = L.length + 1
    rw [mcP_len L]
theorem memT (hd : DP Ms top s) (hch : chOK Ms s) (hlim : limOK Ms s) (hS5 : S < 5) (hr : ∀ x t, x < lsG s → t < lsG s → hgG Ms s x t → r t < r x) (hR : ∀ g, r g < R) (hR2 : 6 * R ≤ 1290) (hg : g < lsG s) (h4 : kdS Ms s g = 4) (hB : BTr Ms top s S (fun _ => False) st 0 σ) (h112 : σ.1 2075 112 = 0) {m : List MCE × BST} (hm : m = mcP Ms s (mkB Ms s R) g (conL Ms s g) st) {w : (Nat → Nat) × NB} (hw : w = wsB Ms s g m.1 (wsG Ms s g) (fun _ => 0, m.2.1)) {Q : Int → St → Prop} (hQ : ∀ τ, BTr Ms top s S (fun _ => False) (w.2, m.2.2.1, m.2.2.2) 0 τ → agr tU σ τ → τ.1 2075 112 = 0 → (τ.1 2145 = σ.1 2145 ∧ τ.1 2148 = σ.1 2148 ∧ τ.1 2150 = σ.1 2150) → (∀ k, k < keptS Ms s g → τ.1 2149 (800 + k) = σ.1 2149 (800 + k)) → (∀ j, j < szG Ms s g → τ.1 2149 (800 + (keptS Ms s g + j)) = (w.1 j : Int)) → Q ((keptS Ms s g + szG Ms s g : Nat) : Int) τ) : wp (F_X15_memNext (g : Int) (keptS Ms s g : Int)) σ Q := by
  have hF := FU_ge
  have h200 := hd.2.1.2
  have h12 := hd.1.1
  have hnt : ¬ tiG Ms s g := fun h => ti_ns h (Or.inr h4)
  have eI : coI Ms s g = lsi s g := if_neg (by omega)
  obtain ⟨z1, -⟩ := hd.co hg hnt
  obtain ⟨hM, ok⟩ := hd.inst z1
  have q120 : mdQ (moI Ms s (coI Ms s g)) ≤ 120 := ok.1.2.2.2.2.2
  have hcl : (conL Ms s g).length ≤ 60 := by
    rw [hd.conL_eq hg hnt]
    have := List.length_filter_le (isC Ms s g) (List.range (mdC (moI Ms s (coI Ms s g))))
    rw [List.length_range] at this
    have c60 : mdC (moI Ms s (coI Ms s g)) ≤ 60 := ok.1.2.2.1
    omega
  have hp := PMK_of (r := r) (R := R) hd hch
  have hmg := mcP_go hd hch hp.1 hg h4 (conL Ms s g) st (fun _ h => h) hB.2.2.1
  rw [← hm] at hmg
  obtain ⟨-, ⟨-, g2, -⟩, g5, -⟩ := hB.1.1.1.2.2.2 g hg
  rw [← eI] at g5
  have hlen : m.1.length = (conL Ms s g).length := by rw [hm]; exact mcP_len _ _
  rw [F_X15_memNext, wp_bd, wp_gI, hB.1.2.1, wp_lt, e200S hS5 (by omega), wp_bd, RI_2125 (by omega) (by omega), tn, g5, wp_lt, wp_bd, RI_2123 (by omega) (by omega), tn, g2, wp_lt, wp_bd, wp_gI, hB.1.2.1, wp_bd, m_store hd hB.1.1 hS5 z1, wp_lt, w32_i (x := 200 * ((12 * S + lsM s (coI Ms s g) : Nat) : Int)) (by omega) (by omega), show 200 * ((12 * S + lsM s (coI Ms s g) : Nat) : Int) = ((200 * (12 * S + lsM s (coI Ms s g)) : Nat) : Int) by omega, wp_lt, wp_bd, wp_gI, hB.2.2.2.2.1, wp_lt, wp_lt]
  refine mem1T hd hch hlim hS5 hr hR hR2 hg h4 rfl (mdQ (moI Ms s (coI Ms s g))) 0 FU (conL Ms s g) 0 st 0 σ (by omega) (by omega) (by rw [conK_0]; rfl) hB h112 (by omega) (by omega) (fun τ p' a1 a2 a3 a4 a5 a6 a7 a8 a9 => ?_)
  rw [← hm] at a1 a7
  rw [Nat.zero_add, ← hlen]
  refine mem2T hd hlim hS5 hg h4 a1 a3 a7 hmg.2 (by omega) (by omega) (fun τ2 b1' b2 b3 b4 b5 b6 => ?_)
  rw [← hw] at b1' b6
  refine hQ τ2 b1' (a2.trans b2) b3 ⟨?_, ?_, ?_⟩ (fun k hk => ?_) b6
  · rw [b4.1, a6.1]
  · rw [b4.2.1, a6.2.1]
  · rw [b4.2.2, a6.2.2.2]
  · rw [b5 k hk, a6.2.2.1]
def OUT_ (Ms : Nat → ModV) (s : LYS) (g : Nat) (ou : Nat → Nat) (τ : St) : Prop := τ.1 2145 4 = (oubS Ms s g : Int) ∧ ∀ a, a < oubS Ms s g → τ.1 2148 (256 + a) = (ou a : Int)
def LAT_ (Ms : Nat → ModV) (s : LYS) (g : Nat) (la : Nat → Nat) (τ : St) : Prop := ∀ a, a < keptS Ms s g → τ.1 2149 (800 + a) = (la a : Int) ∧ τ.1 2150 (800 + a) = (beB Ms s g a : Int)
theorem top2T (hd : DP Ms top s) (hch : chOK Ms s) (hlim : limOK Ms s) (hS5 : S < 5) (hr : ∀ x t, x < lsG s → t < lsG s → hgG Ms s x t → r t < r x) (hR : ∀ g, r g < R) (hR2 : 6 * R ≤ 1290) {x : BST × (Nat → Nat)} {ou : Nat → Nat} (hB : BTr Ms top s S (fun _ => False) x.1 0 σ) (h112 : σ.1 2075 112 = 0) (hO : OUT_ Ms s (lsG s) ou σ) {Q : Int → St → Prop} (hQ : ∀ τ, BTr Ms top s S (fun _ => False) (nxB Ms s (mkB Ms s R) (lsG s) x).1 0 τ → agr tU σ τ → OUT_ Ms s (lsG s) ou τ → LAT_ Ms s (lsG s) (nxB Ms s (mkB Ms s R) (lsG s) x).2 τ → wp (X15_bits_771 (S : Int)) τ Q) : wp (X15_bits_510 (S : Int)) σ Q := by
  have hF := FU_ge
  have h200 := hd.2.1.2
  have key : ∀ k2 g f τ, g + k2 = lsG s → k2 < f → BTr Ms top s S (fun _ => False) (nxB Ms s (mkB Ms s R) g x).1 0 τ → agr tU σ τ → τ.1 2075 112 = 0 → OUT_ Ms s (lsG s) ou τ → LAT_ Ms s g (nxB Ms s (mkB Ms s R) g x).2 τ → wp (X15_bits_516 f (S : Int) (keptS Ms s g : Int) (g : Int)) τ Q := by
    intro k2
    induction k2 with
    | zero =>
      intro g f τ hg hf b1' b2 b3 b4 b5
      obtain ⟨f', rfl⟩ : ∃ f', f = f' + 1 := ⟨f - 1, by omega⟩
      have eg : g = lsG s := by omega
      subst eg
      rw [X15_bits_516, wp_bd, RI_2115 (by omega) (by omega), tn, b1'.1.1.1.1.1, wp_ifp (by omega)]
      exact hQ τ b1' b2 b4 b5
    | succ k2 ih =>
      intro g f τ hg hf b1' b2 b3 b4 b5
      obtain ⟨f', rfl⟩ : ∃ f', f = f' + 1 := ⟨f - 1, by omega⟩
      have hgl : g < lsG s := by omega
      obtain ⟨-, ⟨g1, g2, g3⟩, g5, g6⟩ := b1'.1.1.1.2.2.2 g hgl
      have ou' : ∀ {τ τ' : St}, OUT_ Ms s (lsG s) ou τ → (τ'.1 2145 = τ.1 2145 ∧ τ'.1 2148 = τ.1 2148) → OUT_ Ms s (lsG s) ou τ' := fun {τ τ'} h e => ⟨by rw [e.1]; exact h.1, fun a ha => by rw [e.2]; exact h.2 a ha⟩
      have go : ∀ (q : Nat) τ', q = keptS Ms s (g + 1) → BTr Ms top s S (fun _ => False) (nxB Ms s (mkB Ms s R) (g + 1) x).1 0 τ' → agr tU σ τ' → τ'.1 2075 112 = 0 → OUT_ Ms s (lsG s) ou τ' → LAT_ Ms s (g + 1) (nxB Ms s (mkB Ms s R) (g + 1) x).2 τ' → wp (X15_bits_765 (X15_bits_516 f') (S : Int) (q : Int) (g : Int)) τ' Q := by
        intro q τ' hq c1 c2 c3 c4 c5
        subst hq
        rw [X15_bits_765, wp_lt, wN1 (by omega)]
        exact ih (g + 1) f' τ' (by omega) (by omega) c1 c2 c3 c4 c5
      rw [X15_bits_516, wp_bd, RI_2115 (by omega) (by omega), tn, b1'.1.1.1.1.1, wp_ifn (by omega), wp_lt, e200S hS5 (by omega), wp_bd, RI_2122 (by omega) (by omega), tn, g1]
      by_cases c3 : kdS Ms s g = 3
      · have hs : stG Ms s g := Or.inl c3
        have e := nxB_3 (mk := mkB Ms s R) (x := x) c3
        rw [e] at go
        rw [wp_ifp (by omega), wp_bd, RI_2123 (by omega) (by omega), tn, g2, wp_lt, wp_lt]
        refine regT hd hch hlim hS5 hr hR hR2 hgl c3 b1' b3 (fun τ' d1 d2 d3 d4 d5 d6 => ?_)
        have ek : keptS Ms s (g + 1) = keptS Ms s g + wdS Ms s g := by rw [kept_y hs, szG_1 hd hgl (by omega)]
        refine go _ τ' ek.symm d1 (b2.trans d2) d3 (ou' b4 d4) (fun a ha => ?_)
        rw [ek] at ha
        show _ = ((if keptS Ms s g ≤ a then _ else _ : Nat) : Int) ∧ _ = ((if kdS Ms s g = 3 then _ else _ : Nat) : Int)
        rw [if_pos c3]
        by_cases ca : keptS Ms s g ≤ a
        · obtain ⟨j, rfl⟩ : ∃ j, a = keptS Ms s g + j := ⟨a - keptS Ms s g, by omega⟩
          rw [if_pos ca, if_pos ca, Nat.add_sub_cancel_left]
          exact d6 j (by omega)
        · rw [if_neg ca, if_neg ca, (d5 a (by omega)).1, (d5 a (by omega)).2]
          exact b5 a (by omega)
      · rw [wp_ifn (by omega), wp_bd, RI_2122 (by omega) (by omega), tn, g1]
        by_cases c4 : kdS Ms s g = 4
        · have hs : stG Ms s g := Or.inr c4
          obtain ⟨kk1, kk2⟩ := kept_in hlim hgl hs
          obtain ⟨m, hm⟩ : ∃ m, m = mcP Ms s (mkB Ms s R) g (conL Ms s g) (nxB Ms s (mkB Ms s R) g x).1 := ⟨_, rfl⟩
          obtain ⟨w, hw⟩ : ∃ w, w = wsB Ms s g m.1 (wsG Ms s g) (fun _ => 0, m.2.1) := ⟨_, rfl⟩
          have e := nxB_4 (mk := mkB Ms s R) (x := x) c4 hm hw
          rw [e] at go
          rw [wp_ifp (by omega), wp_lt, wp_bd]
          refine memT hd hch hlim hS5 hr hR hR2 hgl c4 b1' b3 hm hw (fun τ' d1 d2 d3 d4 d5 d6 => ?_)
          rw [wp_lt, wp_lt]
          -- begins: zeros
          have key2 : ∀ k j m' υ, j + k = szG Ms s g → k < m' → (∀ a, a ≠ 2150 → υ.1 a = τ'.1 a) → υ.2 = τ'.2 → CE (τ'.1 2150) (υ.1 2150) (800 + keptS Ms s g) (szG Ms s g) j (fun _ => 0) → wp (X15_bits_740 (X15_bits_516 f') m' (S : Int) ((keptS Ms s g + szG Ms s g : Nat) : Int) (g : Int) ((keptS Ms s g + j : Nat) : Int)) υ Q := by
            intro k
            induction k with
            | zero =>
              intro j m' υ hj hm' f1 f2 f3
              obtain ⟨m2, rfl⟩ : ∃ m2, m' = m2 + 1 := ⟨m' - 1, by omega⟩
              have ej : j = szG Ms s g := by omega
              subst ej
              have hOO : agr tO τ' υ := fun a q h => by
                unfold tO at h
                refine ⟨?_, by rw [f2], by rw [f2]⟩
                by_cases e50 : a = 2150
                · subst e50; exact f3.1 q (by omega)
                · rw [f1 a e50]
              rw [X15_bits_740, wp_ifp (by omega)]
              refine go _ υ (kept_y hs).symm (d1.oth hd hS5 hOO) ((b2.trans d2).trans (tO_U hOO)) (by rw [f1 2075 (by decide)]; exact d3) (ou' b4 ⟨by rw [f1 2145 (by decide)]; exact d4.1, by rw [f1 2148 (by decide)]; exact d4.2.1⟩) (fun a ha => ?_)
              rw [kept_y hs] at ha
              show _ = ((if keptS Ms s g ≤ a then _ else _ : Nat) : Int) ∧ _ = ((if kdS Ms s g = 3 then _ else if kdS Ms s g = 4 then _ else _ : Nat) : Int)
              rw [if_neg c3, if_pos c4, f1 2149 (by decide)]
              by_cases ca : keptS Ms s g ≤ a
              · obtain ⟨j, rfl⟩ : ∃ j, a = keptS Ms s g + j := ⟨a - keptS Ms s g, by omega⟩
                rw [if_pos ca, if_pos ca, Nat.add_sub_cancel_left]
                refine ⟨d6 j (by omega), ?_⟩
                rw [← Nat.add_assoc]
                exact f3.2 j (by omega)
              · rw [if_neg ca, if_neg ca, d5 a (by omega), f3.1 _ (Or.inl (by omega)), d4.2.2]
                exact b5 a (by omega)
            | succ k ih2 =>
              intro j m' υ hj hm' f1 f2 f3
              obtain ⟨m2, rfl⟩ : ∃ m2, m' = m2 + 1 := ⟨m' - 1, by omega⟩
              have e8 : ∀ _ : Unit, w32 (800 + ((keptS Ms s g + j : Nat) : Int)) = ((800 + keptS Ms s g + j : Nat) : Int) := fun _ => by rw [w32_i (by omega) (by omega)]; omega
              rw [X15_bits_740, wp_ifn (by omega), wp_bd, e8 (), RV_2150 (by omega) (by omega), tn, wp_lt, wN1 (by omega)]
              refine ih2 (j + 1) m2 _ (by omega) (by omega) (fun a ha => by dsimp only; rw [stA_ne ha]; exact f1 a ha) f2 ?_
              dsimp only; rw [stA_eq]; exact f3.up' (o := fun _ => 0) (by omega)
          have := key2 (szG Ms s g) 0 FU τ' (by omega) (by omega) (fun _ _ => rfl) rfl CE.init
          rw [Nat.add_zero] at this
          exact this
        · have hs : ¬ stG Ms s g := fun h => h.elim c3 c4
          rw [nxB_o hs] at go
          rw [wp_ifn (by omega)]
          refine go _ τ (kept_n hs).symm b1' b2 b3 b4 (fun a ha => ?_)
          rw [kept_n hs] at ha
          have : beB Ms s (g + 1) a = beB Ms s g a := (if_neg c3).trans (if_neg c4)
          rw [this]
          exact b5 a ha
  have h0 : keptS Ms s 0 = 0 := rfl
  have := key (lsG s) 0 FU σ (by omega) (by omega) hB agr.refl h112 hO (fun a ha => absurd ha (by rw [h0]; exact Nat.not_lt_zero a))
  rw [h0] at this
  rw [X15_bits_510, wp_lt, wp_lt]
  exact this
/-- the twin makes the net -/
theorem makeNT (hd : DP Ms top s) (hch : chOK Ms s) (hlim : limOK Ms s) (hS5 : S < 5) (hr : ∀ x t, x < lsG s → t < lsG s → hgG Ms s x t → r t < r x) (hR : ∀ g, r g < R) (hR2 : 6 * R ≤ 1290) (hM : DM σ S Ms top s) (h109 : σ.1 2075 109 = (S : Int)) {x : BST × (Nat → Nat)} (hx : x = nxB Ms s (mkB Ms s R) (lsG s) ((otP Ms s (mkB Ms s R) (lsG s) (bst0 Ms s)).1, fun _ => 0)) {Q : Int → St → Prop} (hQ : ∀ τ, BTr Ms top s S (fun _ => False) x.1 0 τ → agr tU σ τ → OUT_ Ms s (lsG s) (otP Ms s (mkB Ms s R) (lsG s) (bst0 Ms s)).2 τ → LAT_ Ms s (lsG s) x.2 τ → wp (X15_bits_771 (S : Int)) τ Q) : wp (X15_bits_30 FU (S : Int) 0 0 0 0) σ Q := by
  have hF := FU_ge
  have h200 := hd.2.1.2
  have hp := PMK_of (r := r) (R := R) hd hch
  have hmk : MKT Ms top s S r R (G_X15_bitsOf 1300).2.2.1 (mkB Ms s R) := makeT hd hch hlim hS5 hr R 1300 (by omega)
  have key : ∀ k2 g f τ, g + k2 = lsG s → k2 < f → BTr Ms top s S (fun _ => False) (otP Ms s (mkB Ms s R) g (bst0 Ms s)).1 0 τ → agr tU σ τ → τ.1 2075 112 = 0 → OUT_ Ms s g (otP Ms s (mkB Ms s R) g (bst0 Ms s)).2 τ → wp (X15_bits_395 f (S : Int) (g : Int)) τ Q := by
    intro k2
    induction k2 with
    | zero =>
      intro g f τ hg hf b1' b2 b3 b4
      obtain ⟨f', rfl⟩ : ∃ f', f = f' + 1 := ⟨f - 1, by omega⟩
      have eg : g = lsG s := by omega
      subst eg
      rw [X15_bits_395, wp_bd, RI_2115 (by omega) (by omega), tn, b1'.1.1.1.1.1, wp_ifp (by omega)]
      refine top2T (x := ((otP Ms s (mkB Ms s R) (lsG s) (bst0 Ms s)).1, fun _ => 0)) hd hch hlim hS5 hr hR hR2 b1' b3 b4 (fun τ' c1 c2 c3 c4 => ?_)
      rw [← hx] at c1 c4
      exact hQ τ' c1 (b2.trans c2) c3 c4
    | succ k2 ih =>
      intro g f τ hg hf b1' b2 b3 b4
      obtain ⟨f', rfl⟩ : ∃ f', f = f' + 1 := ⟨f - 1, by omega⟩
      have hgl : g < lsG s := by omega
      obtain ⟨-, -, -, -, ⟨s5, s6⟩, -⟩ := hd.sig hgl
      obtain ⟨-, ⟨g1, g2, g3⟩, g5, g6⟩ := b1'.1.1.1.2.2.2 g hgl
      have hbt := bits_in hlim hgl
      have hws := wd_sz hd hgl
      have no : ¬ toG Ms s g → wp (X15_bits_504 (X15_bits_395 f') (S : Int) (g : Int)) τ Q := fun c => by
        rw [X15_bits_504, wp_lt, wN1 (by omega)]
        refine ih (g + 1) f' τ (by omega) (by omega) ?_ b2 b3 ?_
        · rw [otP_n c]; exact b1'
        · rw [otP_n c]
          unfold OUT_
          rw [oub_n c]
          exact b4
      rw [X15_bits_395, wp_bd, RI_2115 (by omega) (by omega), tn, b1'.1.1.1.1.1, wp_ifn (by omega), wp_lt, e200S hS5 (by omega), wp_bd, RI_2122 (by omega) (by omega), tn, g1]
      by_cases ck : kdS Ms s g = 1
      · rw [wp_ifp (by omega), wp_bd, RI_2125 (by omega) (by omega), tn, g5]
        by_cases ci : lsi s g = 0
        · have c : toG Ms s g := ⟨ci, ck⟩
          have e := otP_y (mk := mkB Ms s R) (st := bst0 Ms s) c
          have hns := to_ns c
          have hob : oubS Ms s (g + 1) = oubS Ms s g + wdS Ms s g := oub_y hd hgl c
          have hou : oubS Ms s (g + 1) ≤ oubS Ms s (lsG s) := smF_mono (by omega)
          have h64 : oubS Ms s (lsG s) ≤ 64 := hlim.2.2.2.2
          rw [wp_ifp (by omega), wp_bd, show R_X15_find (g : Int) = (G_X15_bitsOf 1300).2.2.1 (g : Int) from rfl]
          refine hmk.2 g hgl hns (hR g) (fun _ => False) _ 0 0 τ (fun _ h => h.elim) b1' b3 (roomG_top hd hlim) _ (fun τ1 d1 d2 d3 d4 => ?_)
          have hmade := hp.2.2.2 g (otP Ms s (mkB Ms s R) g (bst0 Ms s)).1 (hR g)
          have ob1 : OUT_ Ms s g (otP Ms s (mkB Ms s R) g (bst0 Ms s)).2 τ1 := ⟨by rw [d2.row (a := 2145) (fun k => by unfold tG; omega)]; exact b4.1, fun a ha => by rw [d2.row (a := 2148) (fun k => by unfold tG; omega)]; exact b4.2 a ha⟩
          generalize hst : mkB Ms s R g (otP Ms s (mkB Ms s R) g (bst0 Ms s)).1 = st' at *
          have lit : ∀ j, j < wdS Ms s g → τ1.1 2154 (bitsS Ms s g + j) = (bitS Ms s st' g j : Int) := fun j hj => by
            unfold bitS
            rw [if_neg hns]
            exact ((d1.2.2.2.1 g hgl).2 hns).2 hmade (fun h => h) j hj
          obtain ⟨-, ⟨-, m2, -⟩, -⟩ := d1.1.1.1.2.2.2 g hgl
          rw [wp_lt]
          refine lpN (w := wdS Ms s g) (L := fun m j => X15_bits_446 (X15_bits_395 f') m (S : Int) (g : Int) ((200 * S + g : Nat) : Int) (j : Int)) (I := fun j υ => (∀ a, a ≠ 2145 → a ≠ 2148 → υ.1 a = τ1.1 a) ∧ υ.2 = τ1.2 ∧ (∀ k, k ≠ 4 → υ.1 2145 k = τ1.1 2145 k) ∧ υ.1 2145 4 = ((oubS Ms s g + j : Nat) : Int) ∧ CE (τ1.1 2148) (υ.1 2148) (256 + oubS Ms s g) (wdS Ms s g) j (bitS Ms s st' g)) ?_ ?_ (show wdS Ms s g < FU by omega) ⟨fun _ _ _ => rfl, rfl, fun _ _ => rfl, ob1.1, CE.init⟩
          · rintro m j υ hj ⟨c1, c2, c3, c4, c5⟩ ih2
            show wp (X15_bits_446 (X15_bits_395 f') (m + 1) (S : Int) (g : Int) ((200 * S + g : Nat) : Int) (j : Int)) υ Q
            have e8 : ∀ _ : Unit, w32 (256 + ((oubS Ms s g + j : Nat) : Int)) = ((256 + oubS Ms s g + j : Nat) : Int) := fun _ => by rw [w32_i (by omega) (by omega)]; omega
            have e45 : ∀ v : Int, (stA υ.1 2148 (ups (υ.1 2148) (256 + oubS Ms s g + j) v)) 2145 = υ.1 2145 := fun v => stA_ne (by decide)
            rw [X15_bits_446, wp_bd, RI_2123 (by omega) (by omega), tn, c1 2123 (by decide) (by decide), m2, wp_ifn (by omega), wp_bd, RI_2145 (by omega) (by omega), show (4 : Int).toNat = 4 from rfl, c4, wp_bd, RI_2155 (by omega) (by omega), tn, c1 2155 (by decide) (by decide), d1.1.2.2 g hgl, wp_bd, wN (a := bitsS Ms s g) (by omega), RI_2154 (by omega) (by omega), tn, c1 2154 (by decide) (by decide), lit j hj, wp_bd, e8 (), RV_2148 (by omega) (by omega), tn, wp_bd, RI_2145 (by omega) (by omega), show (4 : Int).toNat = 4 from rfl]
            dsimp only
            rw [e45, c4, wp_bd, wN1 (by omega), RV_2145 (by omega) (by omega), show (4 : Int).toNat = 4 from rfl, wp_lt, wN1 (by omega)]
            refine ih2 _ ⟨fun a h1 h2 => ?_, c2, fun k hk => ?_, ?_, ?_⟩
            · dsimp only; rw [stA_ne h1, stA_ne h2]; exact c1 a h1 h2
            · dsimp only; rw [stA_eq, ups_ne hk, e45]; exact c3 k hk
            · dsimp only; rw [stA_eq, ups_eq]; omega
            · dsimp only; rw [stA_ne (by decide), stA_eq]; exact c5.up' hj
          · rintro m υ ⟨c1, c2, c3, c4, c5⟩
            show wp (X15_bits_446 (X15_bits_395 f') (m + 1) (S : Int) (g : Int) ((200 * S + g : Nat) : Int) (wdS Ms s g : Int)) υ Q
            have hO : agr tO τ1 υ := fun a q h => by
              unfold tO at h
              refine ⟨?_, by rw [c2], by rw [c2]⟩
              by_cases e45 : a = 2145
              · subst e45; exact c3 q (by omega)
              · by_cases e48 : a = 2148
                · subst e48; exact c5.1 q (by omega)
                · rw [c1 a e45 e48]
            rw [X15_bits_446, wp_bd, RI_2123 (by omega) (by omega), tn, c1 2123 (by decide) (by decide), m2, wp_ifp (by omega), X15_bits_504, wp_lt, wN1 (by omega)]
            refine ih (g + 1) f' υ (by omega) (by omega) ?_ ((b2.trans (tG_U d2)).trans (tO_U hO)) (by rw [c1 2075 (by decide) (by decide)]; exact d4) ?_
            · rw [e]; exact d1.oth hd hS5 hO
            · rw [e]
              refine ⟨by rw [hob]; exact c4, fun a ha => ?_⟩
              show _ = ((if oubS Ms s g ≤ a then _ else _ : Nat) : Int)
              by_cases ca : oubS Ms s g ≤ a
              · obtain ⟨j, rfl⟩ : ∃ j, a = oubS Ms s g + j := ⟨a - oubS Ms s g, by omega⟩
                rw [if_pos ca, Nat.add_sub_cancel_left, ← Nat.add_assoc]
                exact c5.2 j (by omega)
              · rw [if_neg ca, c5.1 _ (Or.inl (by omega))]
                exact ob1.2 a (by omega)
        · rw [wp_ifn (by omega)]
          exact no (fun h => ci h.1)
      · rw [wp_ifn (by omega)]
        exact no (fun h => ck h.2)
  refine begT hd hlim hS5 hM h109 (fun τ a1 a2 a3 a4 => ?_)
  have h0 : oubS Ms s 0 = 0 := rfl
  exact key (lsG s) 0 FU τ (by omega) (by omega) a1 a2 a3 ⟨by rw [h0]; exact a4, fun a ha => absurd ha (by rw [h0]; exact Nat.not_lt_zero a)⟩
end
