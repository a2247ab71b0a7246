set_option maxRecDepth 100000
set_option maxHeartbeats 400000
/-! ===== bits: the component makes the net ===== -/
section
variable {Ms : Nat → ModV} {top : Nat} {s : LYS} {r : Nat → Nat} {R : Nat} {σ τ υ : St} {st : BST} {o n g : Nat}
theorem conL_pw (hd : DP Ms top s) (hg : g < lsG s) : (conL Ms s g).Pairwise (· < ·) := by
  by_cases ct : tiG Ms s g
  · rw [conL_ti ct]; exact List.Pairwise.nil
  · rw [hd.conL_eq hg ct]
    exact List.Pairwise.filter _ List.pairwise_lt_range
theorem memX (hd : DP Ms top s) (hch : chOK Ms s) (hD : isD o) (hn : isN n) (hlim : limOK Ms s) (hr : ∀ x t, x < lsG s → t < lsG s → hgG Ms s x t → r t < r x) (hR : ∀ g, r g < R) (hR2 : 6 * R ≤ 1290) (hg : g < lsG s) (h4 : kdS Ms s g = 4) (hB : BXr Ms top s o n (fun _ => False) st σ) {m : List MCE × BST} (hm : m = mcP Ms s (mkB Ms s R) g (conL Ms s g) st) {w : (Nat → Nat) × NB} (hw : w = wsB Ms s g m.1 (wsG Ms s g) (fun _ => 0, m.2.1)) {Q : Unit → St → Prop} {E : XV → St → Prop} (hQ : ∀ τ, BXr Ms top s o n (fun _ => False) (w.2, m.2.2.1, m.2.2.2) τ → agr (bTn n) σ τ → (τ.1 n 3 = σ.1 n 3 ∧ τ.1 (n + 3) = σ.1 (n + 3)) → (∀ k, k < keptS Ms s g → τ.1 (n + 4) k = σ.1 (n + 4) k ∧ τ.1 (n + 5) k = σ.1 (n + 5) k) → (∀ j, j < szG Ms s g → τ.1 (n + 4) (keptS Ms s g + j) = (w.1 j : Int) ∧ τ.1 (n + 5) (keptS Ms s g + j) = 0) → Q () τ) (hE : ∀ τ, flB w.2 → agr (bTn n) σ τ → E (1, 0, 0) τ) : wpE (F_X3_nextMem (g : Int) n) σ Q E := by
  have hF := FU_ge
  have hN := isN_le hn
  have h200 := hd.2.1.2
  have ti : ¬ tiG Ms s g := fun h => ti_ns h (Or.inr h4)
  have hcl : (conL Ms s g).length ≤ 60 := by
    rw [hd.conL_eq hg ti]
    have := List.length_filter_le (isC Ms s g) (List.range (mdC (moI Ms s (coI Ms s g))))
    rw [List.length_range] at this
    have c60 : mdC (moI Ms s (coI Ms s g)) ≤ 60 := (hd.inst (hd.co hg ti).1).2.1.2.2.1
    omega
  have hp := PMK_of (r := r) (R := R) hd hch
  have hmg := mcP_go hd hch hp.1 hg h4 (conL Ms s g) st (fun _ h => h) hB.2.2.1
  rw [← hm] at hmg
  have bMT : ∀ {σ τ : St}, agr (bM n) σ τ → agr (bTn n) σ τ := fun {σ τ} h => agr.sub h (fun a k q => by unfold bTn at q; unfold bM bG; omega)
  rw [F_X3_nextMem, wpE_bd, wp_gQ, hB.1.2.2.2.1, wpE_nn, wpE_ck, and_t (ly_D hD), wpE_bd, x_width hd hD hB.1.1 hg, wpE_lt, wpE_lt, wpE_bd, wp_gQ, hB.1.2.2.2.1, wpE_nn, wpE_ck, and_t (ly_D hD), wpE_bd, DI_12 hD (by omega) (by omega), tn, wpE_lt]
  refine mem1X hd hch hD hn hlim hr hR hR2 hg h4 (conL Ms s g) 0 _ FU st σ (fun _ h => h) (conL_pw hd hg) (hB.1.2.1 g hg) (by omega) (by omega) hB (fun τ a1 a2 a3 a4 a5 => ?_) (fun τ a1 a2 => hE τ ?_ (bMT a2))
  · rw [← hm] at a1 a5
    refine mem2X hd hD hn hlim hg h4 a1 a5 hmg.2 (fun τ2 b1 b2 b3 b4 b5 => ?_) (fun τ2 b1 b2 => hE τ2 (by rw [hw]; exact b1) ((bMT a2).trans b2))
    rw [← hw] at b1 b5
    refine hQ τ2 b1 ((bMT a2).trans b2) ⟨?_, ?_⟩ (fun k hk => ⟨?_, ?_⟩) b5
    · rw [b3.1]; exact (a2 n 3 (by unfold bM bG; omega)).1
    · rw [b3.2]; exact a2.row (fun k => by unfold bM bG; omega)
    · rw [(b4 k hk).1]; exact (a2 (n + 4) k (by unfold bM bG; omega)).1
    · rw [(b4 k hk).2]; exact (a2 (n + 5) k (by unfold bM bG; omega)).1
  · rw [← hm] at a1
    have := fl_ws (Ms := Ms) (s := s) (g := g) (L := m.1) (x := (fun _ => 0, m.2.1)) 0 (wsG Ms s g) a1
    rw [Nat.zero_add, ← hw] at this
    exact this
/-- the outs so far; the latches so far -/
def OUX (Ms : Nat → ModV) (s : LYS) (n g : Nat) (ou : Nat → Nat) (τ : St) : Prop := τ.1 n 3 = (oubS Ms s g : Int) ∧ ∀ a, a < oubS Ms s g → τ.1 (n + 3) a = (ou a : Int)
def LAX (Ms : Nat → ModV) (s : LYS) (n g : Nat) (la : Nat → Nat) (τ : St) : Prop := ∀ a, a < keptS Ms s g → τ.1 (n + 4) a = (la a : Int) ∧ τ.1 (n + 5) a = (beB Ms s g a : Int)
/-- the second round -/
theorem top2X (hd : DP Ms top s) (hch : chOK Ms s) (hD : isD o) (hn : isN n) (hlim : limOK Ms s) (hr : ∀ x t, x < lsG s → t < lsG s → hgG Ms s x t → r t < r x) (hR : ∀ g, r g < R) (hR2 : 6 * R ≤ 1290) {x : BST × (Nat → Nat)} {ou : Nat → Nat} (hB : BXr Ms top s o n (fun _ => False) x.1 σ) (hO : OUX Ms s n (lsG s) ou σ) {Q : Unit → St → Prop} {E : XV → St → Prop} (hQ : ∀ τ, BXr Ms top s o n (fun _ => False) (nxB Ms s (mkB Ms s R) (lsG s) x).1 τ → agr (bTn n) σ τ → OUX Ms s n (lsG s) ou τ → LAX Ms s n (lsG s) (nxB Ms s (mkB Ms s R) (lsG s) x).2 τ → Q () τ) (hE : ∀ τ, flB (nxB Ms s (mkB Ms s R) (lsG s) x).1.1 → agr (bTn n) σ τ → E (1, 0, 0) τ) : wpE (X3_make_80 o n) σ Q E := by
  have hF := FU_ge
  have hN := isN_le hn
  have h200 := hd.2.1.2
  have hp := PMK_of (r := r) (R := R) hd hch
  have flN : ∀ g k, g + k = lsG s → flB (nxB Ms s (mkB Ms s R) g x).1.1 → flB (nxB Ms s (mkB Ms s R) (lsG s) x).1.1 := fun g k e h => by
    have := nxB_ind (P := flSt) (fun _ _ _ h h' => h' ∘ h) (fun _ => id) (fun _ _ h => h) hp.2.2.1 (Ms := Ms) (s := s) (x := x) g k h
    rw [e] at this
    exact this
  have key : ∀ k2 g f τ, g + k2 = lsG s → k2 < f → BXr Ms top s o n (fun _ => False) (nxB Ms s (mkB Ms s R) g x).1 τ → agr (bTn n) σ τ → OUX Ms s n (lsG s) ou τ → LAX Ms s n g (nxB Ms s (mkB Ms s R) g x).2 τ → wpE (X3_make_82 f o n (g : Int)) τ Q E := by
    intro k2
    induction k2 with
    | zero =>
      intro g f τ hg hf b1 b2 b3 b4
      obtain ⟨f', rfl⟩ : ∃ f', f = f' + 1 := ⟨f - 1, by omega⟩
      have eg : g = lsG s := by omega
      subst eg
      rw [X3_make_82, wpE_bd, wp_gI, b1.1.1.1.1.2, wpE_ifp (by omega), wpE_lE, wp_rt]
      exact hQ τ b1 b2 b3 b4
    | succ k2 ih =>
      intro g f τ hg hf b1 b2 b3 b4
      obtain ⟨f', rfl⟩ : ∃ f', f = f' + 1 := ⟨f - 1, by omega⟩
      have hgl : g < lsG s := by omega
      have go : ∀ τ', BXr Ms top s o n (fun _ => False) (nxB Ms s (mkB Ms s R) (g + 1) x).1 τ' → agr (bTn n) σ τ' → OUX Ms s n (lsG s) ou τ' → LAX Ms s n (g + 1) (nxB Ms s (mkB Ms s R) (g + 1) x).2 τ' → wpE (X3_make_120 (X3_make_82 f') o n (g : Int)) τ' Q E := by
        intro τ' c1 c2 c3 c4
        rw [X3_make_120, wpE_lt, wN1 (by omega)]
        exact ih (g + 1) f' τ' (by omega) (by omega) c1 c2 c3 c4
      have ou' : ∀ {τ τ' : St}, OUX Ms s n (lsG s) ou τ → (τ'.1 n 3 = τ.1 n 3 ∧ τ'.1 (n + 3) = τ.1 (n + 3)) → OUX Ms s n (lsG s) ou τ' := fun {τ τ'} h e => ⟨by rw [e.1]; exact h.1, fun a ha => by rw [e.2]; exact h.2 a ha⟩
      rw [X3_make_82, wpE_bd, wp_gI, b1.1.1.1.1.2, wpE_ifn (by omega), wpE_bd, x_kind hd hD b1.1.1 hgl]
      by_cases c3 : kdS Ms s g = 3
      · have hs : stG Ms s g := Or.inl c3
        have e := nxB_3 (mk := mkB Ms s R) (x := x) c3
        have flS := flN (g + 1) k2 (by omega)
        rw [e] at go flS
        rw [wpE_ifp (by omega), wpE_bdE]
        refine regX hd hch hD hn hlim hr hR hR2 hgl c3 b1 (fun τ' d1 d2 d3 d4 d5 => ?_) (fun τ' d1 d2 => hE τ' (flS d1) (b2.trans d2))
        rw [X3_make_105, wpE_bd, x_kind hd hD d1.1.1 hgl, wpE_ifn (by omega)]
        refine go τ' d1 (b2.trans d2) (ou' b3 d3) (fun a ha => ?_)
        rw [kept_y hs, szG_1 hd hgl (by omega)] at ha
        show _ = ((if keptS Ms s g ≤ a then _ else _ : Nat) : Int) ∧ _ = ((if kdS Ms s g = 3 then _ else _ : Nat) : Int)
        rw [if_pos c3]
        by_cases ca : keptS Ms s g ≤ a
        · obtain ⟨j, rfl⟩ : ∃ j, a = keptS Ms s g + j := ⟨a - keptS Ms s g, by omega⟩
          rw [if_pos ca, if_pos ca, Nat.add_sub_cancel_left]
          exact d5 j (by omega)
        · rw [if_neg ca, if_neg ca, (d4 a (by omega)).1, (d4 a (by omega)).2]
          exact b4 a (by omega)
      · rw [wpE_ifn (by omega), X3_make_105, wpE_bd, x_kind hd hD b1.1.1 hgl]
        by_cases c4 : kdS Ms s g = 4
        · have hs : stG Ms s g := Or.inr c4
          obtain ⟨m, hm⟩ : ∃ m, m = mcP Ms s (mkB Ms s R) g (conL Ms s g) (nxB Ms s (mkB Ms s R) g x).1 := ⟨_, rfl⟩
          obtain ⟨w, hw⟩ : ∃ w, w = wsB Ms s g m.1 (wsG Ms s g) (fun _ => 0, m.2.1) := ⟨_, rfl⟩
          have e := nxB_4 (mk := mkB Ms s R) (x := x) c4 hm hw
          have flS := flN (g + 1) k2 (by omega)
          rw [e] at go flS
          rw [wpE_ifp (by omega), wpE_bdE]
          refine memX hd hch hD hn hlim hr hR hR2 hgl c4 b1 hm hw (fun τ' d1 d2 d3 d4 d5 => ?_) (fun τ' d1 d2 => hE τ' (flS d1) (b2.trans d2))
          refine go τ' d1 (b2.trans d2) (ou' b3 d3) (fun a ha => ?_)
          rw [kept_y hs] at ha
          show _ = ((if keptS Ms s g ≤ a then _ else _ : Nat) : Int) ∧ _ = ((if kdS Ms s g = 3 then _ else if kdS Ms s g = 4 then _ else _ : Nat) : Int)
          rw [if_neg c3, if_pos c4]
          by_cases ca : keptS Ms s g ≤ a
          · obtain ⟨j, rfl⟩ : ∃ j, a = keptS Ms s g + j := ⟨a - keptS Ms s g, by omega⟩
            rw [if_pos ca, if_pos ca, Nat.add_sub_cancel_left]
            exact d5 j (by omega)
          · rw [if_neg ca, if_neg ca, (d4 a (by omega)).1, (d4 a (by omega)).2]
            exact b4 a (by omega)
        · have hs : ¬ stG Ms s g := fun h => h.elim c3 c4
          rw [nxB_o hs] at go
          rw [wpE_ifn (by omega)]
          refine go τ b1 b2 b3 (fun a ha => ?_)
          rw [kept_n hs] at ha
          have : beB Ms s (g + 1) a = beB Ms s g a := (if_neg c3).trans (if_neg c4)
          rw [this]
          exact b4 a ha
  rw [X3_make_80, wpE_lt]
  exact key (lsG s) 0 FU σ (by omega) (by omega) hB agr.refl hO (fun a ha => absurd ha (Nat.not_lt_zero a))
theorem makeNX (hd : DP Ms top s) (hch : chOK Ms s) (hD : isD o) (hn : isN n) (hlim : limOK Ms s) (hr : ∀ x t, x < lsG s → t < lsG s → hgG Ms s x t → r t < r x) (hR : ∀ g, r g < R) (hR2 : 6 * R ≤ 1290) (hX : DX σ o Ms top s) (hC : CH σ o Ms s) (hL : DL σ o Ms s) {x : BST × (Nat → Nat)} (hx : x = nxB Ms s (mkB Ms s R) (lsG s) ((otP Ms s (mkB Ms s R) (lsG s) (bst0 Ms s)).1, fun _ => 0)) {Q : Unit → St → Prop} {E : XV → St → Prop} (hQ : ∀ τ, BXr Ms top s o n (fun _ => False) x.1 τ → agr (bTn n) σ τ → OUX Ms s n (lsG s) (otP Ms s (mkB Ms s R) (lsG s) (bst0 Ms s)).2 τ → LAX Ms s n (lsG s) x.2 τ → Q () τ) (hE : ∀ τ, flB x.1.1 → agr (bTn n) σ τ → E (1, 0, 0) τ) : wpE (F_X3_make o n) σ Q E := by
  have hF := FU_ge
  have hN := isN_le hn
  have h200 := hd.2.1.2
  have hp := PMK_of (r := r) (R := R) hd hch
  have hmk : MKX Ms top s o n r R (G_X3_connect 1300).2.2.1 (mkB Ms s R) := makeX hd hch hD hn hlim hr R 1300 (by omega)
  have flN : ∀ g k, g + k = lsG s → flB (otP Ms s (mkB Ms s R) g (bst0 Ms s)).1.1 → flB x.1.1 := fun g k e h => by
    have h1 := otP_ind (P := flSt) (fun _ _ _ h h' => h' ∘ h) (fun _ => id) hp.2.2.1 (Ms := Ms) (s := s) (st := bst0 Ms s) g k h
    rw [e] at h1
    have h2 := nxB_ind (P := flSt) (fun _ _ _ h h' => h' ∘ h) (fun _ => id) (fun _ _ h => h) hp.2.2.1 (Ms := Ms) (s := s) (x := ((otP Ms s (mkB Ms s R) (lsG s) (bst0 Ms s)).1, fun _ => 0)) 0 (lsG s) h1
    rw [Nat.zero_add, ← hx] at h2
    exact h2
  have key : ∀ k2 g f τ, g + k2 = lsG s → k2 < f → BXr Ms top s o n (fun _ => False) (otP Ms s (mkB Ms s R) g (bst0 Ms s)).1 τ → agr (bTn n) σ τ → OUX Ms s n g (otP Ms s (mkB Ms s R) g (bst0 Ms s)).2 τ → wpE (X3_make_8 f o n (g : Int)) τ Q E := by
    intro k2
    induction k2 with
    | zero =>
      intro g f τ hg hf b1 b2 b3
      obtain ⟨f', rfl⟩ : ∃ f', f = f' + 1 := ⟨f - 1, by omega⟩
      have eg : g = lsG s := by omega
      subst eg
      rw [X3_make_8, wpE_bd, wp_gI, b1.1.1.1.1.2, wpE_ifp (by omega)]
      refine top2X (x := ((otP Ms s (mkB Ms s R) (lsG s) (bst0 Ms s)).1, fun _ => 0)) hd hch hD hn hlim hr hR hR2 b1 b3 (fun τ' c1 c2 c3 c4 => ?_) (fun τ' c1 c2 => hE τ' (by rw [hx]; exact c1) (b2.trans c2))
      rw [← hx] at c1 c4
      exact hQ τ' c1 (b2.trans c2) c3 c4
    | succ k2 ih =>
      intro g f τ hg hf b1 b2 b3
      obtain ⟨f', rfl⟩ : ∃ f', f = f' + 1 := ⟨f - 1, by omega⟩
      have hgl : g < lsG s := by omega
      obtain ⟨-, -, -, -, ⟨s5, s6⟩, -⟩ := hd.sig hgl
      rw [X3_make_8, wpE_bd, wp_gI, b1.1.1.1.1.2, wpE_ifn (by omega), wpE_bd, x_topOut hd hD b1.1.1 hgl]
      by_cases c : toG Ms s g
      · have e := otP_y (mk := mkB Ms s R) (st := bst0 Ms s) c
        have flS := flN (g + 1) k2 (by omega)
        have hns := to_ns c
        have hob : oubS Ms s (g + 1) = oubS Ms s g + wdS Ms s g := oub_y hd hgl c
        have hou : oubS Ms s (g + 1) ≤ oubS Ms s (lsG s) := smF_mono (by omega)
        have h64 : oubS Ms s (lsG s) ≤ 64 := hlim.2.2.2.2
        rw [e] at flS
        rw [b01_y c, wpE_ifn (by decide), wpE_bdE]
        refine hmk g hgl hns (hR g) (fun _ => False) _ τ (fun _ h => h.elim) b1 _ _ (fun τ1 d1 d2 d3 d4 => ?_) (fun τ1 d1 d2 => hE τ1 (flS d1) (b2.trans (bG_T d2 hn)))
        have hmade := hp.2.2.2 g (otP Ms s (mkB Ms s R) g (bst0 Ms s)).1 (hR g)
        have ob1 : OUX Ms s n g (otP Ms s (mkB Ms s R) g (bst0 Ms s)).2 τ1 := ⟨by rw [(d2 n 3 (by unfold bG; omega)).1]; exact b3.1, fun a ha => by rw [d2.row (a := n + 3) (fun k => by unfold bG; omega)]; exact b3.2 a ha⟩
        generalize hst : mkB Ms s R g (otP Ms s (mkB Ms s R) g (bst0 Ms s)).1 = st' at *
        rw [wpE_lt]
        refine lpNE (w := wdS Ms s g) (L := fun f j => X3_make_35 (X3_make_8 f') f o n (g : Int) (j : Int)) (I := fun j υ => agr (bO n) τ1 υ ∧ υ.1 n 3 = ((oubS Ms s g + j : Nat) : Int) ∧ CE (τ1.1 (n + 3)) (υ.1 (n + 3)) (oubS Ms s g) (wdS Ms s g) j (bitS Ms s st' g)) ?_ ?_ (show wdS Ms s g < FU by omega) ⟨agr.refl, ob1.1, CE.init⟩
        · rintro f j υ hj ⟨c1, c2, c3⟩ ih2
          show wpE (X3_make_35 (X3_make_8 f') (f + 1) o n (g : Int) (j : Int)) υ Q E
          have hB1 := d1.oth hd hD hn c1
          obtain ⟨υ1, hυ1⟩ : ∃ υ1 : St, υ1 = (stA υ.1 n (ups (υ.1 n) 3 ((oubS Ms s g + j + 1 : Nat) : Int)), υ.2) := ⟨_, rfl⟩
          have q1 : ∀ a, a ≠ n → υ1.1 a = υ.1 a := fun a ha => by rw [hυ1]; exact stA_ne ha
          have q2 : υ1.1 n = ups (υ.1 n) 3 ((oubS Ms s g + j + 1 : Nat) : Int) := by rw [hυ1]; dsimp only; rw [stA_eq]
          have q3 : agr (bO n) υ υ1 := fun a k hk => by
            unfold bO at hk
            refine ⟨?_, by rw [hυ1], by rw [hυ1]⟩
            by_cases ea : a = n
            · subst ea; rw [q2, ups_ne (by omega)]
            · rw [q1 a ea]
          have hB2 := hB1.oth hd hD hn q3
          rw [X3_make_35, wpE_bd, x_width hd hD hB1.1.1 hgl, wpE_ifn (by omega), wpE_bd, wp_gI, c2, wpE_bd, wp_pI, wN1 (j := oubS Ms s g + j) (by omega), ← hυ1, wpE_bd, x_bit hd hD hn hlim hB2 hgl hj (fun _ => ⟨hmade, fun h => h⟩), wpE_bd, NV_3 hn (by omega) (by omega), tn, wpE_lt, wN1 (by omega)]
          refine ih2 _ ⟨((c1.trans q3).w (fun k hk => ?_)), ?_, ?_⟩
          · exfalso; unfold bO at hk; omega
          · dsimp only; rw [stA_ne (by omega), q2, ups_eq]; omega
          · dsimp only; rw [stA_eq, q1 (n + 3) (by omega)]; exact c3.up' hj
        · rintro f υ ⟨c1, c2, c3⟩
          show wpE (X3_make_35 (X3_make_8 f') (f + 1) o n (g : Int) (wdS Ms s g : Int)) υ Q E
          have hB1 := d1.oth hd hD hn c1
          rw [X3_make_35, wpE_bd, x_width hd hD hB1.1.1 hgl, wpE_ifp (by omega), X3_make_74, wpE_lt, wN1 (by omega)]
          refine ih (g + 1) f' υ (by omega) (by omega) ?_ ((b2.trans (bG_T d2 hn)).trans (bO_T c1)) ?_
          · rw [e]; exact hB1
          · rw [e]
            refine ⟨by rw [hob]; exact c2, fun a ha => ?_⟩
            show _ = ((if oubS Ms s g ≤ a then _ else _ : Nat) : Int)
            by_cases ca : oubS Ms s g ≤ a
            · obtain ⟨j, rfl⟩ : ∃ j, a = oubS Ms s g + j := ⟨a - oubS Ms s g, by omega⟩
              rw [if_pos ca, Nat.add_sub_cancel_left]
              exact c3.2 j (by omega)
            · rw [if_neg ca, c3.1 a (Or.inl (by omega))]
              exact ob1.2 a (by omega)
      · rw [b01_n c, wpE_ifp rfl, X3_make_74, wpE_lt, wN1 (by omega)]
        refine ih (g + 1) f' τ (by omega) (by omega) ?_ b2 ?_
        · rw [otP_n c]; exact b1
        · rw [otP_n c]
          unfold OUX
          rw [oub_n c]
          exact b3
  rw [F_X3_make, wpE_bd]
  refine beginBX hd hD hn hlim hX hC hL (fun τ a1 a2 a3 => ?_)
  rw [wpE_lt]
  have h0 : oubS Ms s 0 = 0 := rfl
  have := key (lsG s) 0 FU τ (by omega) (by omega) a2 a1 ⟨by rw [a3, h0]; rfl, fun a ha => absurd ha (by rw [h0]; exact Nat.not_lt_zero a)⟩
  exact this
end
