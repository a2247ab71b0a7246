set_option maxRecDepth 100000
set_option maxHeartbeats 400000
/-! ===== bits: the component's mems: conditions, addresses, values ===== -/
def inRg (Ms : Nat → ModV) (s : LYS) (i u n : Nat) : Prop := gF (gI' Ms s i) u ≤ n ∧ n ≤ u
/-- nodes that connections of a mem are made of -/
def mTL (Ms : Nat → ModV) (s : LYS) (r : Nat → Nat) (R g : Nat) (L : List Nat) (i n : Nat) : Prop := TsR Ms s r R i n ∨ (i = coI Ms s g ∧ ∃ c, c ∈ L ∧ (inRg Ms s i (adN Ms s g c) n ∨ inRg Ms s i (mdVl (moI Ms s (coI Ms s g)) c) n ∨ ∃ q, q ∈ mdCh (moI Ms s (coI Ms s g)) c ∧ inRg Ms s i q.1 n))
/-- the entries stand in the component -/
def ENX (Ms : Nat → ModV) (s : LYS) (g : Nat) (σ : St) : Nat → List MCE → List Nat → Prop
  | _, [], [] => True
  | k, e :: E, c :: L => (σ.1 46 k = (e.1 : Int) ∧ e.2.2.2 = gW (gI' Ms s (coI Ms s g)) (adN Ms s g c) ∧ (∀ j, j < e.2.2.2 → σ.1 45 (bNd Ms s (coI Ms s g) (adN Ms s g c) + j) = (e.2.1 j : Int)) ∧ ∀ j, j < wdS Ms s g → σ.1 45 (bNd Ms s (coI Ms s g) (mdVl (moI Ms s (coI Ms s g)) c) + j) = (e.2.2.1 j : Int)) ∧ ENX Ms s g σ (k + 1) E L
  | _, _, _ => False
def bM (n a k : Nat) : Prop := bG n a k ∧ a ≠ 46
section
variable {Ms : Nat → ModV} {top : Nat} {s : LYS} {r : Nat → Nat} {R : Nat} {σ τ υ : St} {st : BST} {o n g : Nat}
theorem ENX.fr : ∀ (E : List MCE) (L : List Nat) (k : Nat), ENX Ms s g σ k E L → τ.1 45 = σ.1 45 → τ.1 46 = σ.1 46 → ENX Ms s g τ k E L
  | [], [], _, _, _, _ => trivial
  | [], _ :: _, _, h, _, _ => h.elim
  | _ :: _, [], _, h, _, _ => h.elim
  | e :: E, c :: L, k, h, h1, h2 => by
    obtain ⟨⟨a1, a2, a3, a4⟩, a5⟩ := h
    exact ⟨⟨by rw [h2]; exact a1, a2, by rw [h1]; exact a3, by rw [h1]; exact a4⟩, ENX.fr E L (k + 1) a5 h1 h2⟩
/-- connections of a mem lie apart -/
theorem apC (hd : DP Ms top s) {i c u : Nat} (hi : i < lsI s) (hc : c < mdC (moI Ms s i)) (hu : u = mdVl (moI Ms s i) c ∨ (u : Int) = mdAd (moI Ms s i) c) (hul : u < mdN (moI Ms s i)) : (∀ c', c' < mdC (moI Ms s i) → c' ≠ c → ¬ inRg Ms s i (mdVl (moI Ms s i) c') u) ∧ (∀ c' q, c' < mdC (moI Ms s i) → q ∈ mdCh (moI Ms s i) c' → ¬ inRg Ms s i q.1 u) ∧ (∀ c' a, c' < mdC (moI Ms s i) → c < c' → mdAd (moI Ms s i) c' = ((a : Nat) : Int) → ¬ inRg Ms s i a u) ∧ ((u : Int) = mdAd (moI Ms s i) c → ¬ inRg Ms s i (mdVl (moI Ms s i) c) u) := by
  obtain ⟨-, ok⟩ := hd.inst hi
  obtain ⟨-, dj, ⟨sp1, sp2, sp3⟩⟩ := ok.2.2.2.2.2.1
  have e0 : mdG (moI Ms s i) = gI' Ms s i := rfl
  rw [e0] at sp1 sp2 dj
  have hroot : rootM (moI Ms s i) u := by
    rcases hu with e | e
    · exact ⟨c, hc, Or.inl e⟩
    · exact ⟨c, hc, Or.inr (Or.inl e)⟩
  have hfu := (hd.nod hi hul).1.2.2.2
  have hvl := hd.root hi hc
  have hfv := (hd.nod hi hvl).1.2.2.2
  have ule : u ≤ mdVl (moI Ms s i) c := by
    rcases hu with e | e
    · omega
    · have := sp1 c hc u e.symm; omega
  refine ⟨fun c' hc' hne h => ?_, fun c' q hc' hq h => ?_, fun c' a hc' hlt ha h => ?_, fun e h => ?_⟩
  · obtain ⟨h1, h2⟩ := h
    rcases Nat.lt_or_ge c c' with w | w
    · have := (sp2 c c' w hc').1
      omega
    · have w' : c' < c := by omega
      obtain ⟨t1, t2⟩ := sp2 c' c w' hc
      rcases hu with e | e
      · subst e; omega
      · have := t2 u e.symm; omega
  · obtain ⟨h1, h2⟩ := h
    have hne : q.1 ≠ u := by
      rcases hu with e | e
      · rw [e]; exact (sp3 c c' q hc hc' hq).1
      · intro h; exact (sp3 c c' q hc hc' hq).2 (by rw [h]; exact e)
    rcases dj q.1 u ⟨c', hc', Or.inr (Or.inr ⟨q, hq, rfl⟩)⟩ hroot with w | w | w
    · exact hne w
    · omega
    · omega
  · obtain ⟨h1, h2⟩ := h
    have := (sp2 c c' hlt hc').2 a ha
    omega
  · obtain ⟨h1, h2⟩ := h
    have := sp1 c hc u e.symm
    omega
theorem apT (hd : DP Ms top s) {c u K : Nat} (hg : g < lsG s) (h4 : kdS Ms s g = 4) (hc : c ∈ conL Ms s g) (hu : u = mdVl (moI Ms s (coI Ms s g)) c ∨ u = adN Ms s g c) : ¬ TsR Ms s r K (coI Ms s g) u := by
  obtain ⟨y1, y2, y3, y4, y5⟩ := hd.conL_mem hg hc
  obtain ⟨d1, d2, -⟩ := hd.ad hg h4 hc
  have hul : u < mdN (moI Ms s (coI Ms s g)) := by
    rcases hu with e | e
    · rw [e]; exact hd.root y2 y3
    · rw [e]; exact d1
  obtain ⟨p1, p2, -, -⟩ := apC hd y2 y3 (u := u) (by
    rcases hu with e | e
    · exact Or.inl e
    · exact Or.inr (by rw [e]; exact d2.symm)) hul
  rintro ⟨g', c', g1, g2, g3, g4, g5, g6⟩
  obtain ⟨z1, z2, z3, z4, z5⟩ := hd.conL_mem g1 g4
  rw [g5] at z3 z5
  have hne : c' ≠ c := by
    intro e
    subst e
    rw [z5] at y5
    exact g2 (Or.inr (by rw [y5]; exact h4))
  rcases g6 with h | ⟨q, q1, q2⟩
  · exact p1 c' z3 hne h
  · exact p2 c' q z3 q1 q2
/-- a node of a connection is none of those behind it -/
theorem apL (hd : DP Ms top s) {c u : Nat} {L : List Nat} (hg : g < lsG s) (h4 : kdS Ms s g = 4) (hc : c ∈ conL Ms s g) (hL : ∀ c', c' ∈ L → c' ∈ conL Ms s g ∧ c < c') (hu : u = mdVl (moI Ms s (coI Ms s g)) c ∨ u = adN Ms s g c) : ¬ mTL Ms s r R g L (coI Ms s g) u := by
  obtain ⟨y1, y2, y3, y4, y5⟩ := hd.conL_mem hg hc
  obtain ⟨d1, d2, -⟩ := hd.ad hg h4 hc
  have hul : u < mdN (moI Ms s (coI Ms s g)) := by
    rcases hu with e | e
    · rw [e]; exact hd.root y2 y3
    · rw [e]; exact d1
  obtain ⟨p1, p2, p3, -⟩ := apC hd y2 y3 (u := u) (by
    rcases hu with e | e
    · exact Or.inl e
    · exact Or.inr (by rw [e]; exact d2.symm)) hul
  rintro (h | ⟨-, c', c1, h⟩)
  · exact apT hd hg h4 hc hu h
  · obtain ⟨w1, w2⟩ := hL c' c1
    obtain ⟨z1, z2, z3, -⟩ := hd.conL_mem hg w1
    obtain ⟨x1, x2, -⟩ := hd.ad hg h4 w1
    rcases h with h | h | ⟨q, q1, h⟩
    · exact p3 c' _ z3 w2 x2 h
    · exact p1 c' z3 (by omega) h
    · exact p2 c' q z3 q1 h
theorem mcP_c {mk : Nat → BST → BST} {c : Nat} {L : List Nat} {wv : Nat × BST} {av vv : (Nat → Nat) × BST} (hw : wv = whB Ms s mk (coI Ms s g) (mdCh (moI Ms s (coI Ms s g)) c) st) (ha : av = rngB Ms s mk (coI Ms s g) (adN Ms s g c) wv.2) (hv : vv = rngB Ms s mk (coI Ms s g) (mdVl (moI Ms s (coI Ms s g)) c) av.2) : mcP Ms s mk g (c :: L) st = ((wv.1, av.1, vv.1, gW (gI' Ms s (coI Ms s g)) (adN Ms s g c)) :: (mcP Ms s mk g L vv.2).1, (mcP Ms s mk g L vv.2).2) := by
  subst hv ha hw
  rfl
theorem bM_bG {n : Nat} (h : agr (bG n) σ τ) : agr (bM n) σ τ := agr.sub h (fun _ _ q => q.1)
theorem R_wh (a : Int) (b : Nat) (c : Int) : R_X3_whens a b c = (G_X3_connect 1300).2.2.2.2.2 a b c := rfl
theorem mem1X (hd : DP Ms top s) (hch : chOK Ms s) (hD : isD o) (hn : isN n) (hlim : limOK Ms s) (hr : ∀ x t, x < lsG s → t < lsG s → hgG Ms s x t → r t < r x) (hR : ∀ g, r g < R) (hR2 : 6 * R ≤ 1290) (hg : g < lsG s) (h4 : kdS Ms s g = 4) {Q : Unit → St → Prop} {E : XV → St → Prop} : ∀ (L : List Nat) (k : Nat) (l : Int) (f : Nat) (st : BST) (σ : St), (∀ c, c ∈ L → c ∈ conL Ms s g) → L.Pairwise (· < ·) → chn (σ.1 (o + 10)) (σ.1 (o + 9)) (σ.1 (o + 11)) (coI Ms s g) 6100 l L → L.length < f → k + L.length ≤ 60 → BXr Ms top s o n (fun _ => False) st σ → (∀ τ, BXr Ms top s o n (fun _ => False) (mcP Ms s (mkB Ms s R) g L st).2 τ → agr (bM n) σ τ → FN Ms s (mTL Ms s r R g L) σ τ → (∀ j, j < k → τ.1 46 j = σ.1 46 j) → ENX Ms s g τ k (mcP Ms s (mkB Ms s R) g L st).1 L → wpE (X3_nextMem_161 (g : Int) n (wdS Ms s g : Int)) τ Q E) → (∀ τ, flB (mcP Ms s (mkB Ms s R) g L st).2.1 → agr (bM n) σ τ → E (1, 0, 0) τ) → wpE (X3_nextMem_23 f (g : Int) n (wdS Ms s g : Int) (k : Int) l) σ Q E := by
  have hF := FU_ge
  have hN := isN_le hn
  have h200 := hd.2.1.2
  have h12 := hd.1.1
  have h101 := hd.2.1.1.2
  have hm : ∀ k, 6 * R ≤ k → MKX Ms top s o n r R (G_X3_connect k).2.2.1 (mkB Ms s R) := fun k hk => makeX hd hch hD hn hlim hr R k hk
  have hp := PMK_of (r := r) (R := R) hd hch
  have hf : FDX Ms top s o n r R (G_X3_connect 1300).2.1 (mkB Ms s R) := FDX_G (k := 1297) hd hD hn hlim (hm 1297 (by omega)) hp
  have hw : WHX Ms top s o n r R (G_X3_connect 1300).2.2.2.2.2 (mkB Ms s R) := WHX_G (k := 1296) hd hD hn hlim (hm 1296 (by omega)) hp
  intro L
  induction L with
  | nil =>
    intro k l f st σ hL hpw hcn hfu hk hB hQ hE
    obtain ⟨f', rfl⟩ : ∃ f', f = f' + 1 := ⟨f - 1, by simp at hfu; omega⟩
    have e : l = -1 := hcn
    rw [X3_nextMem_23, wpE_ifp (by omega)]
    exact hQ σ hB agr.refl FN.refl (fun _ _ => rfl) trivial
  | cons c L ih =>
    intro k l f st σ hL hpw hcn hfu hk hB hQ hE
    have hf2 : L.length + 1 < f := hfu
    have hk2 : k + (L.length + 1) ≤ 60 := hk
    obtain ⟨f', rfl⟩ : ∃ f', f = f' + 1 := ⟨f - 1, by omega⟩
    obtain ⟨q, q1, q2, q3, q4, q5⟩ := hcn
    subst q1
    have hmem := hL c List.mem_cons_self
    obtain ⟨z1, z2, z3, z4, -⟩ := hd.conL_mem hg hmem
    obtain ⟨d1, d2, d3⟩ := hd.ad hg h4 hmem
    obtain ⟨hM, ok⟩ := hd.inst z2
    have c60 : mdC (moI Ms s (coI Ms s g)) ≤ 60 := ok.1.2.2.1
    have hMd := isMd_D hD (show lsM s (coI Ms s g) < 12 by omega)
    have hpw' := List.pairwise_cons.mp hpw
    obtain ⟨⟨m14, m15, m16, m18, m19, m17⟩, mch⟩ := (hB.1.1.2.2.1 _ hM).2.2.2 c z3
    have m16' : σ.1 (o + 27 + 25 * lsM s (coI Ms s g) + 16) c = (adN Ms s g c : Int) := m16.trans d2
    have m17' : σ.1 (o + 27 + 25 * lsM s (coI Ms s g) + 17) c = (gF (gI' Ms s (coI Ms s g)) (adN Ms s g c) : Int) := m17 (by have : mdAd (Ms (lsM s (coI Ms s g))) c = (adN Ms s g c : Int) := d2; omega)
    have m18' : σ.1 (o + 27 + 25 * lsM s (coI Ms s g) + 18) c = (mdVl (moI Ms s (coI Ms s g)) c : Int) := m18
    have m19' : σ.1 (o + 27 + 25 * lsM s (coI Ms s g) + 19) c = (gF (gI' Ms s (coI Ms s g)) (mdVl (moI Ms s (coI Ms s g)) c) : Int) := m19
    have mch' : crO Ms s σ o (coI Ms s g) (σ.1 (o + 27 + 25 * lsM s (coI Ms s g) + 20) c) (mdCh (moI Ms s (coI Ms s g)) c) := mch
    have moff : ∀ {σ2 σ3 : St}, agr (bM n) σ2 σ3 → ∀ j, 14 ≤ j → j ≤ 20 → σ3.1 (o + 27 + 25 * lsM s (coI Ms s g) + j) = σ2.1 (o + 27 + 25 * lsM s (coI Ms s g) + j) := fun {σ2 σ3} hA j h1 h2 => by
      rw [show o + 27 + 25 * lsM s (coI Ms s g) + j = o + (27 + 25 * lsM s (coI Ms s g) + j) by omega]
      exact hA.row (fun k => ⟨bG_D hD hn (by omega), by have := isD_le hD; omega⟩)
    have hgr := rdG_top hd hch hr hR hg c hmem
    have hgA : rdK Ms s r R (fun _ => False) (coI Ms s g) (adN Ms s g c) := fun h hrd hh hsh => ⟨hR h, fun a ha => ha.elim, fun q h1 h2 => sepR hd hch hr z2 d3 hh hsh hrd h1 h2⟩
    have flA := fun (X : BST) (h : flB X.1) => mcP_ind (P := flSt) (fun _ _ _ h h' => h' ∘ h) (fun _ => id) (fun _ _ h => h) hp.2.2.1 (Ms := Ms) (s := s) (g := g) L X h
    have flR := fun (X : BST) (u : Nat) (h : flB X.1) => rngB_ind (P := flSt) (fun _ _ _ h h' => h' ∘ h) (fun _ => id) (fun _ _ h => h) hp.2.2.1 (Ms := Ms) (s := s) (i := coI Ms s g) (u := u) (st := X) h
    obtain ⟨wv, hwv'⟩ : ∃ wv, wv = whB Ms s (mkB Ms s R) (coI Ms s g) (mdCh (moI Ms s (coI Ms s g)) c) st := ⟨_, rfl⟩
    obtain ⟨av, hav'⟩ : ∃ av, av = rngB Ms s (mkB Ms s R) (coI Ms s g) (adN Ms s g c) wv.2 := ⟨_, rfl⟩
    obtain ⟨vv, hvv'⟩ : ∃ vv, vv = rngB Ms s (mkB Ms s R) (coI Ms s g) (mdVl (moI Ms s (coI Ms s g)) c) av.2 := ⟨_, rfl⟩
    rw [mcP_c hwv' hav' hvv'] at hQ hE
    dsimp only at hQ hE
    have hwv := hwv'.symm
    have hav := hav'.symm
    have hvv := hvv'.symm
    rw [X3_nextMem_23, wpE_ifn (by omega), wpE_bd, wp_gQ, hB.1.2.2.2.1, wpE_nn, wpE_ck, and_t (ly_D hD), wpE_bd, DI_9 hD (by omega) (by omega), tn, q3, wpE_lt, wpE_bd, wp_gQ, hB.1.2.2.2.1, wpE_nn, wpE_ck, and_t (ly_D hD), wpE_bd, wp_gQ, hB.1.2.2.2.1, wpE_nn, wpE_ck, and_t (ly_D hD), wpE_bd, DI_2 hD (by omega) (by omega), tn, (hB.1.1.1.2.1 _ z2).1, wpE_bd, DI_1 hD (by omega) (by omega), tn, hB.1.1.2.1 _ (by omega), wpE_bd, wp_gQ, hB.1.2.2.2.1, wpE_nn, wpE_ck, and_t (ly_D hD), wpE_bd, DI_10 hD (by omega) (by omega), tn, q4, wpE_lt, wpE_lt, wpE_nn, wpE_ck, and_t (ly_Md hMd), wpE_bd, MI_20 hMd (by omega) (by omega), tn, wpE_bdE, R_wh]
    refine hw (coI Ms s g) _ (mdCh (moI Ms s (coI Ms s g)) c) z2 (ok.2.2.2.2.1 c z3).2.1 (fun _ => False) st σ hB mch' hgr.2 _ _ (fun τ1 a1 a2 a3 a4 a5 => ?_) (fun τ1 a1 a2 => hE τ1 (flA _ (by rw [← hvv]; exact flR _ _ (by rw [← hav]; exact flR _ _ (by rw [← hwv]; exact a1)))) (bM_bG a2))
    rw [hwv] at a1 a5 ⊢
    obtain ⟨τ2, hτ2⟩ : ∃ τ2 : St, τ2 = (stA τ1.1 46 (ups (τ1.1 46) k (wv.1 : Int)), τ1.2) := ⟨_, rfl⟩
    have y1 : ∀ a, a ≠ 46 → τ2.1 a = τ1.1 a := fun a ha => by rw [hτ2]; exact stA_ne ha
    have y2 : τ2.1 46 = ups (τ1.1 46) k (wv.1 : Int) := by rw [hτ2]; dsimp only; rw [stA_eq]
    have y3 : agr (bO n) τ1 τ2 := fun a x hx => by
      unfold bO at hx
      exact ⟨by rw [y1 a (by omega)], by rw [hτ2], by rw [hτ2]⟩
    have y4 : agr (bM n) τ1 τ2 := fun a x hx => ⟨by rw [y1 a hx.2], by rw [hτ2], by rw [hτ2]⟩
    have hB2 := a1.oth hd hD hn y3
    have t02 : agr (bM n) σ τ2 := (bM_bG a2).trans y4
    rw [wpE_bd, RV_46 (by omega) (by omega), tn, ← hτ2, wpE_bd, MI_17 hMd (by omega) (by omega), tn, moff t02 17 (by omega) (by omega), m17', wpE_bd, MI_16 hMd (by omega) (by omega), tn, moff t02 16 (by omega) (by omega), m16', wpE_bdE]
    refine hf (coI Ms s g) (adN Ms s g c) z2 d1 (fun _ => False) wv.2 τ2 hB2 hgA _ _ (fun τ3 b1 b2 b3 b4 b5 b6 => ?_) (fun τ3 b1 b2 => hE τ3 (flA _ (by rw [← hvv]; exact flR _ _ (by rw [← hav]; exact b1))) (t02.trans (bM_bG b2)))
    rw [hav] at b1 b5 b6
    have t03 : agr (bM n) σ τ3 := t02.trans (bM_bG b2)
    rw [wpE_bd, MI_19 hMd (by omega) (by omega), tn, moff t03 19 (by omega) (by omega), m19', wpE_bd, MI_18 hMd (by omega) (by omega), tn, moff t03 18 (by omega) (by omega), m18', wpE_bdE]
    refine hf (coI Ms s g) (mdVl (moI Ms s (coI Ms s g)) c) z2 (hd.root z2 z3) (fun _ => False) av.2 τ3 b1 hgr.1 _ _ (fun τ4 e1 e2 e3 e4 e5 e6 => ?_) (fun τ4 e1 e2 => hE τ4 (flA _ (by rw [← hvv]; exact e1)) (t03.trans (bM_bG e2)))
    rw [hvv] at e1 e5 e6
    rw [(hd.cw hg hmem).1] at e5 e6
    have t04 : agr (bM n) σ τ4 := t03.trans (bM_bG e2)
    have ro : ∀ j, 9 ≤ j → j ≤ 12 → τ4.1 (o + j) = σ.1 (o + j) := fun j h1 h2 => t04.row (fun k => ⟨bG_D hD hn (by omega), by have := isD_le hD; omega⟩)
    have c46 : τ4.1 46 = τ2.1 46 := by
      rw [e2.row (a := 46) (fun k => by unfold bG; omega), b2.row (a := 46) (fun k => by unfold bG; omega)]
    have c46' : τ1.1 46 = σ.1 46 := a2.row (fun k => by unfold bG; omega)
    rw [wpE_bd, wp_gQ, e1.1.2.2.2.1, wpE_nn, wpE_ck, and_t (ly_D hD), wpE_bd, DI_11 hD (by omega) (by omega), tn, ro 11 (by omega) (by omega), wpE_lt, wN1 (by omega)]
    refine ih (k + 1) (σ.1 (o + 11) q) f' vv.2 τ4 (fun c' hc' => hL c' (List.mem_cons_of_mem _ hc')) hpw'.2 (by rw [ro 10 (by omega) (by omega), ro 9 (by omega) (by omega), ro 11 (by omega) (by omega)]; exact q5) (by omega) (by omega) e1 (fun τ f1 f2 f3 f4 f5 => ?_) (fun τ f1 f2 => hE τ f1 (t04.trans f2))
    have apA := apL (R := R) (r := r) (L := L) hd hg h4 hmem (fun c' hc' => ⟨hL c' (List.mem_cons_of_mem _ hc'), hpw'.1 c' hc'⟩) (u := adN Ms s g c) (Or.inr rfl)
    have apV := apL (R := R) (r := r) (L := L) hd hg h4 hmem (fun c' hc' => ⟨hL c' (List.mem_cons_of_mem _ hc'), hpw'.1 c' hc'⟩) (u := mdVl (moI Ms s (coI Ms s g)) c) (Or.inl rfl)
    refine hQ τ f1 (t04.trans f2) ?_ (fun j hj => ?_) ⟨⟨?_, rfl, fun j hj => ?_, fun j hj => ?_⟩, f5⟩
    · refine ((((a3.mono (fun i' n' h => ?_)).trans (FN.of (y1 45 (by decide)))).trans (b3.mono (fun i' n' h => ?_))).trans (e3.mono (fun i' n' h => ?_))).trans (f3.mono (fun i' n' h => ?_))
      · rcases h with ⟨h1, q, h2, h3⟩ | h
        · subst h1; exact Or.inr ⟨rfl, c, List.mem_cons_self, Or.inr (Or.inr ⟨q, h2, h3⟩)⟩
        · exact Or.inl h
      · rcases h with ⟨h1, h2⟩ | h
        · subst h1; exact Or.inr ⟨rfl, c, List.mem_cons_self, Or.inl h2⟩
        · exact Or.inl h
      · rcases h with ⟨h1, h2⟩ | h
        · subst h1; exact Or.inr ⟨rfl, c, List.mem_cons_self, Or.inr (Or.inl h2)⟩
        · exact Or.inl h
      · rcases h with h | ⟨h1, c', h2, h3⟩
        · exact Or.inl h
        · exact Or.inr ⟨h1, c', List.mem_cons_of_mem _ h2, h3⟩
    · rw [f4 j (by omega), c46, y2, ups_ne (by omega), c46']
    · rw [f4 k (by omega), c46, y2, ups_eq]
    · rw [f3 _ _ z2 d1 apA j hj, e3 _ _ z2 d1 (fun h => by
        rcases h with ⟨-, h⟩ | h
        · exact (apC hd z2 z3 (u := adN Ms s g c) (Or.inr d2.symm) d1).2.2.2 d2.symm h
        · exact apT hd hg h4 hmem (Or.inr rfl) h) j hj]
      exact b6 j hj
    · rw [f3 _ _ z2 (hd.root z2 z3) apV j (by rw [(hd.cw hg hmem).1]; exact hj)]
      exact e6 j hj
end
