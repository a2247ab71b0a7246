set_option maxRecDepth 100000
set_option maxHeartbeats 400000
/-! ===== bits: the component's nodes, with what they read ===== -/
section
variable (Ms : Nat → ModV) (s : LYS)
/-- nodes that signals of a rank below k are made of -/
def TsR (r : Nat → Nat) (k i n : Nat) : Prop := ∃ g c, g < lsG s ∧ ¬ stG Ms s g ∧ r g < k ∧ c ∈ conL Ms s g ∧ coI Ms s g = i ∧ ((gF (gI' Ms s i) (mdVl (moI Ms s i) c) ≤ n ∧ n ≤ mdVl (moI Ms s i) c) ∨ ∃ q, q ∈ mdCh (moI Ms s i) c ∧ gF (gI' Ms s i) q.1 ≤ n ∧ n ≤ q.1)
/-- nodes outside keep their bits -/
def FN (T : Nat → Nat → Prop) (σ σ' : St) : Prop := ∀ i n, i < lsI s → n < mdN (moI Ms s i) → ¬ T i n → ∀ j, j < gW (gI' Ms s i) n → σ'.1 45 (bNd Ms s i n + j) = σ.1 45 (bNd Ms s i n + j)
/-- signals that are made keep theirs -/
def K42 (st : BST) (σ σ' : St) : Prop := ∀ g, g < lsG s → ¬ stG Ms s g → st.2.1 g = true → ∀ j, j < wdS Ms s g → σ'.1 42 (lfS Ms s g + j) = σ.1 42 (lfS Ms s g + j)
end
section
variable {Ms : Nat → ModV} {top : Nat} {s : LYS} {r : Nat → Nat} {K : Nat} {σ σ' σ'' : St} {st st' : BST} {o n : Nat} {A : Nat → Prop} {T T' : Nat → Nat → Prop}
theorem TsR.mono {k k' i n : Nat} (h : TsR Ms s r k i n) (hk : k ≤ k') : TsR Ms s r k' i n := by
  obtain ⟨g, c, h1, h2, h3, h4⟩ := h
  exact ⟨g, c, h1, h2, by omega, h4⟩
theorem FN.refl : FN Ms s T σ σ := fun _ _ _ _ _ _ _ => rfl
theorem FN.trans (h : FN Ms s T σ σ') (h' : FN Ms s T σ' σ'') : FN Ms s T σ σ'' := fun i n hi hn hT j hj => (h' i n hi hn hT j hj).trans (h i n hi hn hT j hj)
theorem FN.mono (h : FN Ms s T σ σ') (hs : ∀ i n, T i n → T' i n) : FN Ms s T' σ σ' := fun i n hi hn hT j hj => h i n hi hn (fun q => hT (hs i n q)) j hj
theorem FN.of (e : σ'.1 45 = σ.1 45) : FN Ms s T σ σ' := fun _ _ _ _ _ _ _ => by rw [e]
theorem K42.refl : K42 Ms s st σ σ := fun _ _ _ _ _ _ => rfl
theorem K42.trans (h : K42 Ms s st σ σ') (hk : kpBs st st') (h' : K42 Ms s st' σ' σ'') : K42 Ms s st σ σ'' := fun g hg hs hm j hj => (h' g hg hs (hk g hm).1 j hj).trans (h g hg hs hm j hj)
theorem K42.of (e : σ'.1 42 = σ.1 42) : K42 Ms s st σ σ' := fun _ _ _ _ _ _ => by rw [e]
/-- an expression that reads a signal is no part of signals of its rank -/
theorem sepR (hd : DP Ms top s) (hch : chOK Ms s) (hr : ∀ x t, x < lsG s → t < lsG s → hgG Ms s x t → r t < r x) {i u : Nat} (hi : i < lsI s) (hu : rootM (moI Ms s i) u) {h : Nat} (hh : h < lsG s) (hs : ¬ stG Ms s h) (hrd : rdE Ms s i u h) {m : Nat} (hm1 : gF (gI' Ms s i) u ≤ m) (hm2 : m ≤ u) : ¬ TsR Ms s r (r h + 1) i m := by
  rintro ⟨g, c, g1, g2, g3, g4, rfl, hor⟩
  obtain ⟨c1, c2, c3, -⟩ := hd.conL_mem g1 g4
  obtain ⟨-, ok⟩ := hd.inst c2
  have dj := ok.2.2.2.2.2.1.2.1
  have one : ∀ u', rootM (moI Ms s (coI Ms s g)) u' → gF (gI' Ms s (coI Ms s g)) u' ≤ m → m ≤ u' → u = u' := by
    intro u' hu' h1 h2
    rcases dj u u' hu hu' with e | e | e
    · exact e
    · have e' : u < gF (gI' Ms s (coI Ms s g)) u' := e
      omega
    · have e' : u' < gF (gI' Ms s (coI Ms s g)) u := e
      omega
  have fin : hgP Ms s g h → False := fun hp => by
    have := hr g h g1 hh ⟨g1, hh, hp⟩
    omega
  rcases hor with ⟨h1, h2⟩ | ⟨q, q1, h1, h2⟩
  · have e := one _ ⟨c, c3, Or.inl rfl⟩ h1 h2
    exact fin ⟨g2, hs, c, g4, Or.inl (by rw [← e]; exact hrd)⟩
  · have e := one _ ⟨c, c3, Or.inr (Or.inr ⟨q, q1, rfl⟩)⟩ h1 h2
    exact fin ⟨g2, hs, c, g4, Or.inr ⟨q, q1, by rw [← e]; exact hrd⟩⟩
/-- what is asked of the reads -/
def rdK (Ms : Nat → ModV) (s : LYS) (r : Nat → Nat) (K : Nat) (A : Nat → Prop) (i u : Nat) : Prop := ∀ h, rdE Ms s i u h → h < lsG s → ¬ stG Ms s h → r h < K ∧ (∀ a, A a → r h < r a) ∧ ∀ q, gF (gI' Ms s i) u ≤ q → q ≤ u → ¬ TsR Ms s r (r h + 1) i q
theorem BXr.frx (h : BXr Ms top s o n A st σ) (hd : DP Ms top s) (hD : isD o) (hn : isN n) {B : NB} (k : KX n (inbS Ms s (lsG s)) (keptS Ms s (lsG s)) σ σ' B) (g : goB (lvD Ms s) st.1 B) : BXr Ms top s o n A (B, st.2.1, st.2.2) σ' ∧ agr (bG n) σ σ' ∧ K42 Ms s st σ σ' := by
  obtain ⟨h1, h2, h3, h4⟩ := h
  have hN := isN_le hn
  have ha := FKX.agr hn k.2.2
  have e41 : σ'.1 41 = σ.1 41 := k.2.2.1 41 (by decide) (by omega) (by omega) (by omega) (by decide) (by decide)
  have e42 : σ'.1 42 = σ.1 42 := k.2.2.1 42 (by decide) (by omega) (by omega) (by omega) (by decide) (by decide)
  refine ⟨⟨h1.frG hd hD hn ha, k.1, (h3.net g).2, fun x hx hs => ?_⟩, ha, K42.of e42⟩
  rw [e41, e42]
  exact h4 x hx hs
theorem FN.ce (hd : DP Ms top s) {i m : Nat} (hm : m < mdN (moI Ms s i)) {f : Nat → Nat} (hc : CE (σ.1 45) (σ'.1 45) (bNd Ms s i m) (gW (gI' Ms s i) m) (gW (gI' Ms s i) m) f) : FN Ms s (fun i' n' => i' = i ∧ n' = m) σ σ' := fun i' n' hi' hn' hT j hj => hc.1 _ (by
  rcases Nat.lt_or_ge (bNd Ms s i' n' + j) (bNd Ms s i m) with c | c
  · exact Or.inl c
  · refine Or.inr ?_
    rcases Nat.lt_or_ge (bNd Ms s i' n' + j) (bNd Ms s i m + gW (gI' Ms s i) m) with c2 | c2
    · exfalso
      exact bN_ne (Ms := Ms) (s := s) (a := j) (b := bNd Ms s i' n' + j - bNd Ms s i m) hn' hm hT hj (by omega) (by omega)
    · exact c2)
theorem EVX.fr {B B' : NB} {i a m : Nat} {e : Nat → Nat → Nat} (h : EVX Ms s B σ i a m e) (hi : i < lsI s) (hm : m ≤ mdN (moI Ms s i)) (g : goB (lvD Ms s) B B') (hf : FN Ms s T σ σ') (hT : ∀ q, a ≤ q → q < m → ¬ T i q) : EVX Ms s B' σ' i a m e := fun q h1 h2 => ⟨g.la (h q h1 h2).1, fun j hj => by rw [hf i q hi (by omega) (hT q h1 h2) j hj]; exact (h q h1 h2).2 j hj⟩
theorem EVX.up {B : NB} {i a m : Nat} {e : Nat → Nat → Nat} (h : EVX Ms s B σ i a m e) {f : Nat → Nat} (h1 : ltA (lvD Ms s) B (gW (gI' Ms s i) m) f) (h2 : ∀ j, j < gW (gI' Ms s i) m → σ.1 45 (bNd Ms s i m + j) = (f j : Int)) : EVX Ms s B σ i a (m + 1) (ups e m f) := fun q q1 q2 => by
  by_cases c : q = m
  · subst c; rw [ups_eq]; exact ⟨h1, h2⟩
  · rw [ups_ne c]; exact h q q1 (by omega)
theorem EVX.sub {B : NB} {i a a' m : Nat} {e : Nat → Nat → Nat} (h : EVX Ms s B σ i a m e) (ha : a ≤ a') : EVX Ms s B σ i a' m e := fun q q1 q2 => h q (by omega) q2
/-- how a signal is made -/
def MKX (Ms : Nat → ModV) (top : Nat) (s : LYS) (o n : Nat) (r : Nat → Nat) (K : Nat) (mkp : Int → St → Option ((Unit ⊕ XV) × St)) (mk : Nat → BST → BST) : Prop := ∀ h, h < lsG s → ¬ stG Ms s h → r h < K → ∀ (A : Nat → Prop) st σ, (∀ a, A a → r h < r a) → BXr Ms top s o n A st σ → ∀ (Q : Unit → St → Prop) (E : XV → St → Prop), (∀ τ, BXr Ms top s o n A (mk h st) τ → agr (bG n) σ τ → FN Ms s (TsR Ms s r (r h + 1)) σ τ → K42 Ms s st σ τ → Q () τ) → (∀ τ, flB (mk h st).1 → agr (bG n) σ τ → E (1, 0, 0) τ) → wpE (mkp (h : Int)) σ Q E
/-- what the pure making keeps -/
def PMK (Ms : Nat → ModV) (s : LYS) (r : Nat → Nat) (K : Nat) (mk : Nat → BST → BST) : Prop := (∀ h st, h < lsG s → wfS Ms s st → goS Ms s st (mk h st)) ∧ (∀ h st, kpBs st (mk h st)) ∧ (∀ h st, flSt st (mk h st)) ∧ ∀ h st, r h < K → (mk h st).2.1 h = true
theorem PMK_of (hd : DP Ms top s) (hch : chOK Ms s) {R : Nat} : PMK Ms s r R (mkB Ms s R) := ⟨fun h st => mkB_go hd hch R h st, kp_mk R, fl_mk R, fun h st hr => by
  obtain ⟨R', rfl⟩ : ∃ R', R = R' + 1 := ⟨R - 1, by omega⟩
  exact mkB_made⟩
variable {mk : Nat → BST → BST} {mkp : Int → St → Option ((Unit ⊕ XV) × St)} {i m a : Nat} {e : Nat → Nat → Nat} {E : XV → St → Prop} {Q : Unit → St → Prop}
/-- a constant -/
theorem nodeCX (hd : DP Ms top s) (hD : isD o) (hn : isN n) (hS : SBX Ms top s o σ) {B : NB} (hK : KX n (inbS Ms s (lsG s)) (keptS Ms s (lsG s)) σ σ B) (hi : i < lsI s) (hm : m < mdN (moI Ms s i)) (h0 : gO (gI' Ms s i) m = 0) {rd : Int → Int → Int → St → Option ((Unit ⊕ XV) × St)} (hQ : ∀ τ, KX n (inbS Ms s (lsG s)) (keptS Ms s (lsG s)) σ τ B → CE (σ.1 45) (τ.1 45) (bNd Ms s i m) (gW (gI' Ms s i) m) (gW (gI' Ms s i) m) (fun j => if (gA (gI' Ms s i) m % 4294967296).toNat.testBit j = true then 1 else 0) → Q () τ) : wpE (F_X3_node rd (i : Int) (o + 27 + 25 * lsM s i) (m : Int)) σ Q E := by
  have hF := FU_ge
  have h12 := hd.1.1
  obtain ⟨hM, ok⟩ := hd.inst hi
  have hMd := isMd_D hD (show lsM s i < 12 by omega)
  have hoM : 100 ≤ o + 27 + 25 * lsM s i := by have := isD_le hD; omega
  have n240 : mdN (moI Ms s i) ≤ 240 := ok.1.2.1
  obtain ⟨⟨z1, z2, z3, zf⟩, w0, -⟩ := hd.nod hi hm
  obtain ⟨-, x, x1, x2⟩ := w0 h0
  have hp := p32 z3
  obtain ⟨r9, r10, r11, r12, r13⟩ := row_x hS.1 hd hi hm
  have ht := bN_top hd hi hm
  rw [x2, sg_un (by omega)] at hQ
  rw [F_X3_node, wpE_bd, x_first hd hD hS hi hm, wpE_lt, wpE_bd, MI_13 hMd (by omega) (by omega), tn, r13, wpE_lt, wpE_bd, MI_9 hMd (by omega) (by omega), tn, r9, wpE_lt, wpE_ifp (by omega), wpE_lt]
  refine lpNE (w := gW (gI' Ms s i) m) (L := fun f j => X3_node_32 rd f (o + 27 + 25 * lsM s i) (m : Int) (bNd Ms s i m : Int) (gW (gI' Ms s i) m : Int) (j : Int)) (I := fun j τ => KX n (inbS Ms s (lsG s)) (keptS Ms s (lsG s)) σ τ B ∧ CE (σ.1 45) (τ.1 45) (bNd Ms s i m) (gW (gI' Ms s i) m) j (fun j => if x.testBit j = true then 1 else 0) ∧ τ.1 (o + 27 + 25 * lsM s i + 10) m = sg x) ?_ ?_ (show gW (gI' Ms s i) m < FU by omega) ⟨hK, CE.init, by rw [r10]; exact x2⟩
  · rintro f j τ hj ⟨k1, k2, k3⟩ ih
    show wpE (X3_node_32 rd (f + 1) (o + 27 + 25 * lsM s i) (m : Int) (bNd Ms s i m : Int) (gW (gI' Ms s i) m : Int) (j : Int)) τ Q E
    rw [X3_node_32, wpE_ifn (by omega), wpE_bd, MI_10 hMd (by omega) (by omega), tn, k3, bit_sg (by omega) (by omega), wpE_bd, wN (by omega), RV_45 (by omega) (by omega), tn, wpE_lt, wN1 (by omega)]
    exact ih _ ⟨k1.w hn (Or.inl rfl), by dsimp only; rw [stA_eq]; exact k2.up' (o := fun j => if x.testBit j = true then 1 else 0) hj, by dsimp only; rw [stA_ne (by omega)]; exact k3⟩
  · rintro f τ ⟨k1, k2, -⟩
    show wpE (X3_node_32 rd (f + 1) (o + 27 + 25 * lsM s i) (m : Int) (bNd Ms s i m : Int) (gW (gI' Ms s i) m : Int) (gW (gI' Ms s i) m : Int)) τ Q E
    rw [X3_node_32, wpE_ifp (by omega), wpE_lE, wp_rt]
    exact hQ τ k1 k2
/-- the bits of a signal are copied -/
theorem cpyX (hd : DP Ms top s) (hD : isD o) (hn : isN n) (hlim : limOK Ms s) (hB : BXr Ms top s o n A st σ) {h to : Nat} (hh : h < lsG s) (hm : ¬ stG Ms s h → st.2.1 h = true ∧ ¬ A h) (hto : to + wdS Ms s h ≤ 776000) (hQ : ∀ τ, KX n (inbS Ms s (lsG s)) (keptS Ms s (lsG s)) σ τ st.1 → CE (σ.1 45) (τ.1 45) to (wdS Ms s h) (wdS Ms s h) (bitS Ms s st h) → Q () τ) : wpE (X3_read_16 mkp (h : Int) (to : Int) (wdS Ms s h : Int)) σ Q E := by
  have hF := FU_ge
  have w32' := (hd.sig hh).2.2.2.2.1.2
  have hg := goB.refl hB.2.2.1.1
  rw [X3_read_16, wpE_lt]
  refine lpNE (w := wdS Ms s h) (L := fun f j => X3_read_19 mkp f (h : Int) (to : Int) (wdS Ms s h : Int) (j : Int)) (I := fun j τ => KX n (inbS Ms s (lsG s)) (keptS Ms s (lsG s)) σ τ st.1 ∧ CE (σ.1 45) (τ.1 45) to (wdS Ms s h) j (bitS Ms s st h)) ?_ ?_ (show wdS Ms s h < FU by omega) ⟨⟨hB.2.1, hB.2.2.1.1, FKX.refl⟩, CE.init⟩
  · rintro f j τ hj ⟨k1, k2⟩ ih
    show wpE (X3_read_19 mkp (f + 1) (h : Int) (to : Int) (wdS Ms s h : Int) (j : Int)) τ Q E
    obtain ⟨b1, -⟩ := hB.frx hd hD hn k1 hg
    rw [X3_read_19, wpE_ifn (by omega), wpE_bd, x_bit hd hD hn hlim b1 hh hj hm, wpE_bd, wN (by omega), RV_45 (by omega) (by omega), tn, wpE_lt, wN1 (by omega)]
    exact ih _ ⟨k1.w hn (Or.inl rfl), by dsimp only; rw [stA_eq]; exact k2.up' (o := bitS Ms s st h) hj⟩
  · rintro f τ ⟨k1, k2⟩
    show wpE (X3_read_19 mkp (f + 1) (h : Int) (to : Int) (wdS Ms s h : Int) (wdS Ms s h : Int)) τ Q E
    rw [X3_read_19, wpE_ifp (by omega), wpE_lE, wp_rt]
    exact hQ τ k1 k2
/-- any node -/
theorem nodeBX (hd : DP Ms top s) (hD : isD o) (hn : isN n) (hlim : limOK Ms s) (hmk : MKX Ms top s o n r K mkp mk) (hp : PMK Ms s r K mk) (hB : BXr Ms top s o n A st σ) (hi : i < lsI s) (hm : m < mdN (moI Ms s i)) (ha : a ≤ gF (gI' Ms s i) m) (henv : EVX Ms s st.1 σ i a m e) (hrd : ∀ h, rdA Ms s i m h → h < lsG s → ¬ stG Ms s h → r h < K ∧ (∀ a, A a → r h < r a) ∧ ∀ q, a ≤ q → q ≤ m → ¬ TsR Ms s r (r h + 1) i q) (hE : ∀ τ, flB (ndB Ms s mk i m (e, st)).2.1 → agr (bG n) σ τ → E (1, 0, 0) τ) (hQ : ∀ τ, BXr Ms top s o n A (ndB Ms s mk i m (e, st)).2 τ → agr (bG n) σ τ → FN Ms s (fun i' n' => (i' = i ∧ n' = m) ∨ TsR Ms s r K i' n') σ τ → K42 Ms s st σ τ → goS Ms s st (ndB Ms s mk i m (e, st)).2 → EVX Ms s (ndB Ms s mk i m (e, st)).2.1 τ i a (m + 1) (ndB Ms s mk i m (e, st)).1 → Q () τ) : wpE (F_X3_node (fun b1 b2 b3 => F_X3_read mkp b1 b2 b3) (i : Int) (o + 27 + 25 * lsM s i) (m : Int)) σ Q E := by
  have h12 := hd.1.1
  obtain ⟨hM, ok⟩ := hd.inst hi
  have hMd := isMd_D hD (show lsM s i < 12 by omega)
  have n240 : mdN (moI Ms s i) ≤ 240 := ok.1.2.1
  have hK : KX n (inbS Ms s (lsG s)) (keptS Ms s (lsG s)) σ σ st.1 := ⟨hB.2.1, hB.2.2.1.1, FKX.refl⟩
  have hEk : (∀ τ, FKX n σ τ → agr (bG n) σ τ) := fun τ h => FKX.agr hn h
  have hok := ndB_go hd (mk := mk) hp.1 hi hm (a := a) ha (x := (e, st)) ⟨hB.2.2.1, fun q h1 h2 => (henv q h1 h2).1⟩
  -- a node that leaves the signals alone
  have key : ∀ (R : (Nat → Nat) × NB), ndB Ms s mk i m (e, st) = (ups e m R.1, R.2, st.2.1, st.2.2) → ∀ τ, KX n (inbS Ms s (lsG s)) (keptS Ms s (lsG s)) σ τ R.2 → CE (σ.1 45) (τ.1 45) (bNd Ms s i m) (gW (gI' Ms s i) m) (gW (gI' Ms s i) m) R.1 → Q () τ := by
    intro R hR τ k1 k2
    rw [hR] at hQ hok
    obtain ⟨g1, g2⟩ := hok
    obtain ⟨b1, b2, b3⟩ := hB.frx hd hD hn k1 g1.1
    have f1 := FN.ce hd hm k2
    have hlt := g2.2 m (by have := (hd.nod hi hm).1.2.2.2; omega) (Nat.lt_succ_self m)
    dsimp only at hlt
    rw [ups_eq] at hlt
    exact hQ τ b1 b2 (f1.mono (fun _ _ q => Or.inl q)) b3 g1 (EVX.up (henv.fr hi (by omega) g1.1 f1 (fun q h1 h2 => by omega)) hlt k2.2)
  by_cases c0 : gO (gI' Ms s i) m = 0
  · exact nodeCX hd hD hn hB.1 hK hi hm c0 (fun τ k1 k2 => key (_, st.1) (ndB_0 c0) τ k1 k2)
  by_cases c1 : gO (gI' Ms s i) m = 1
  · obtain ⟨t, t1, t2, t3, t4, t5, t6⟩ := hd.rd hi hm c1
    obtain ⟨r9, r10, r11, r12, r13⟩ := row_x hB.1.1 hd hi hm
    have ht := bN_top hd hi hm
    have rs := hrd (sgOf s i t (gB (gI' Ms s i) m)) ⟨c1, by rw [t1, tn]⟩ t4
    have e1s := ndB_1s (mk := mk) (x := (e, st)) c1
    have e1n := ndB_1n (mk := mk) (x := (e, st)) c1
    rw [t1, tn] at e1s e1n
    generalize hh : sgOf s i t (gB (gI' Ms s i) m) = h at *
    have fin : ∀ (st' : BST) (σ' : St), ndB Ms s mk i m (e, st) = (ups e m (bitS Ms s st' h), st') → BXr Ms top s o n A st' σ' → agr (bG n) σ σ' → FN Ms s (TsR Ms s r K) σ σ' → (∀ q, a ≤ q → q < m → ∀ j, j < gW (gI' Ms s i) q → σ'.1 45 (bNd Ms s i q + j) = σ.1 45 (bNd Ms s i q + j)) → K42 Ms s st σ σ' → kpBs st st' → (¬ stG Ms s h → st'.2.1 h = true ∧ ¬ A h) → wpE (X3_read_16 mkp (h : Int) (bNd Ms s i m : Int) (gW (gI' Ms s i) m : Int)) σ' (fun _ τ => Q () τ) E := by
      intro st' σ' hR b1 b2 b3 b4 b5 b6 b7
      rw [hR] at hQ hok
      obtain ⟨g1, g2⟩ := hok
      rw [← t6]
      refine cpyX hd hD hn hlim b1 t4 b7 (by rw [t6]; exact ht) (fun τ k1 k2 => ?_)
      rw [t6] at k2
      obtain ⟨d1, d2, d3⟩ := b1.frx hd hD hn k1 (goB.refl b1.2.2.1.1)
      have f1 := FN.ce hd hm k2
      have hlt := g2.2 m (by have := (hd.nod hi hm).1.2.2.2; omega) (Nat.lt_succ_self m)
      dsimp only at hlt
      rw [ups_eq] at hlt
      refine hQ τ d1 (b2.trans d2) ((b3.mono (fun _ _ q => Or.inr q)).trans (f1.mono (fun _ _ q => Or.inl q))) (b5.trans b6 d3) g1 (EVX.up (fun q h1 h2 => ⟨g1.1.la (henv q h1 h2).1, fun j hj => ?_⟩) hlt k2.2)
      rw [f1 i q hi (by omega) (by omega) j hj, b4 q h1 h2 j hj]
      exact (henv q h1 h2).2 j hj
    rw [F_X3_node, wpE_bd, x_first hd hD hB.1 hi hm, wpE_lt, wpE_bd, MI_13 hMd (by omega) (by omega), tn, r13, wpE_lt, wpE_bd, MI_9 hMd (by omega) (by omega), tn, r9, wpE_lt, wpE_ifn (by omega), wpE_ifp (by omega), wpE_bd, wp_gQ, hB.1.2.2.2.1, wpE_bd, MI_10 hMd (by omega) (by omega), tn, r10, t1, wpE_bd, MI_11 hMd (by omega) (by omega), tn, r11, wpE_nn, wpE_ck, and_t (ly_D hD), wpE_bd, x_sgOf hd hD hB.1.1 hi t2 (by
      rcases t3 with ⟨q1, -⟩ | ⟨p, q1, q2, q3⟩
      · exact Or.inl q1
      · exact Or.inr ⟨p, q1, q2, q3⟩), hh, wpE_end, F_X3_read, wpE_bd, wp_gQ, hB.1.2.2.2.1, wpE_nn, wpE_ck, and_t (ly_D hD), wpE_bd, x_state hd hD hB.1.1 t4]
    by_cases cs : stG Ms s h
    · rw [b01_y cs, wpE_ifn (by decide)]
      exact fin st σ (e1s cs) hB agr.refl FN.refl (fun _ _ _ _ _ => rfl) K42.refl kpBs.refl (fun q => absurd cs q)
    · obtain ⟨s1, s2, s3⟩ := rs cs
      rw [b01_n cs, wpE_ifp rfl, wpE_bdE]
      refine hmk h t4 cs s1 A st σ s2 hB _ _ (fun τ d1 d2 d3 d4 => ?_) (fun τ d1 d2 => hE τ (by rw [e1n cs]; exact d1) d2)
      exact fin (mk h st) τ (e1n cs) d1 d2 (d3.mono (fun _ _ q => q.mono (by omega))) (fun q h1 h2 j hj => d3 i q hi (by omega) (s3 q h1 (by omega)) j hj) d4 (hp.2.1 h st) (fun _ => ⟨hp.2.2.2 h st s1, fun q => by have := s2 h q; omega⟩)
  by_cases c2 : gO (gI' Ms s i) m = 2
  · have hR := ndB_2 (mk := mk) (x := (e, st)) c2
    exact nodeWX hd hD hn hlim hB.1 hK hi hm c2 (henv.sub ha) rfl (fun τ q1 q2 => hE τ (by rw [hR]; exact q1) (hEk τ q2)) (fun τ k1 k2 => key _ hR τ k1 k2)
  · have hR := ndB_3 (mk := mk) (x := (e, st)) (show 3 ≤ gO (gI' Ms s i) m by omega)
    exact nodeOX hd hD hn hlim hB.1 hK hi hm (by omega) (henv.sub ha) rfl (fun τ q1 q2 => hE τ (by rw [hR]; exact q1) (hEk τ q2)) (fun τ k1 k2 => key _ hR τ k1 k2)
end
