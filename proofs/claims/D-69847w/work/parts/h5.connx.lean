set_option maxRecDepth 100000
set_option maxHeartbeats 400000
/-! ===== bits: the component's connections and signals ===== -/
def FR3 (n rc : Nat) (σ τ : St) : Prop := (∀ a, a ≠ 39 → a ≠ n → a ≠ n + 1 → a ≠ n + 2 → a ≠ 47 → a ≠ rc → τ.1 a = σ.1 a) ∧ (∀ k, k ≠ 2 → τ.1 n k = σ.1 n k) ∧ τ.2 = σ.2
def KR (n i l rc : Nat) (σ0 σ : St) (B : NB) : Prop := mkX σ 38 n i l B ∧ wfB (i + l) B ∧ FR3 n rc σ0 σ
section
variable {n i l rc : Nat} {σ0 σ τ υ : St} {B : NB} {a b s : Nat} {ρ : Type} {Q : ρ → St → Prop} {E : XV → St → Prop}
theorem FR3.refl : FR3 n rc σ σ := ⟨fun _ _ _ _ _ _ _ => rfl, fun _ _ => rfl, rfl⟩
theorem FR3.trans (h1 : FR3 n rc σ τ) (h2 : FR3 n rc τ υ) : FR3 n rc σ υ := ⟨fun a q1 q2 q3 q4 q5 q6 => (h2.1 a q1 q2 q3 q4 q5 q6).trans (h1.1 a q1 q2 q3 q4 q5 q6), fun k hk => (h2.2.1 k hk).trans (h1.2.1 k hk), h2.2.2.trans h1.2.2⟩
theorem FR3.of (h : FrM 38 n σ τ) : FR3 n rc σ τ := ⟨fun a q1 q2 q3 q4 _ _ => h.1 a q1 q2 q3 q4, h.2.1, h.2.2⟩
theorem FR3.ofK (h : FKX n σ τ) (e : τ.1 45 = σ.1 45) : FR3 n rc σ τ := ⟨fun a q1 q2 q3 q4 q5 _ => by
  by_cases c : a = 45
  · rw [c]; exact e
  · exact h.1 a q1 q2 q3 q4 c q5, h.2.1, h.2.2⟩
/-- a row: of signals, or of what comes next -/
def isRc (n rc : Nat) : Prop := rc = 42 ∨ rc = n + 4
theorem mkX.wr (hn : isN n) (h : mkX σ 38 n i l B) (hc : isRc n rc) {g : Nat → Int} : mkX (stA σ.1 rc g, σ.2) 38 n i l B := by
  have hn' := isN_le hn
  unfold isRc at hc
  obtain ⟨h1, ⟨h2, h3, h4⟩, h5, h6, T, h7, h8⟩ := h
  refine ⟨h1, ⟨?_, ?_, ?_⟩, fun k hk => ?_, h6, T, fun j hj => ?_, h8⟩
  · show stA σ.1 rc g n 0 = _
    rw [stA_ne (by omega)]; exact h2
  · show stA σ.1 rc g n 1 = _
    rw [stA_ne (by omega)]; exact h3
  · show stA σ.1 rc g n 2 = _
    rw [stA_ne (by omega)]; exact h4
  · show stA σ.1 rc g (n + 1) k = _ ∧ stA σ.1 rc g (n + 2) k = _
    rw [stA_ne (by omega), stA_ne (by omega)]; exact h5 k hk
  · show stA σ.1 rc g (38 + 1) j = _
    rw [stA_ne (by omega)]; exact h7 j hj
theorem KR.w (hn : isN n) (h : KR n i l rc σ0 σ B) (hc : isRc n rc) {g : Nat → Int} : KR n i l rc σ0 (stA σ.1 rc g, σ.2) B := by
  have hn' := isN_le hn
  refine ⟨h.1.wr hn hc, h.2.1, h.2.2.trans ⟨fun a _ _ _ _ _ q => stA_ne q, fun k _ => ?_, rfl⟩⟩
  show stA σ.1 rc g n k = _
  unfold isRc at hc
  rw [stA_ne (by omega)]
theorem KR.gate (hn : isN n) (hc : isRc n rc) (h : KR n i l rc σ0 σ B) {R : Nat × NB} {m : St → Option ((Int ⊕ XV) × St)} {g : Int → St → Option ((ρ ⊕ XV) × St)} (hm : rAnd 38 n i l σ R m) (hg : goB (i + l) B R.2) (hE : ∀ τ, flB R.2 → FR3 n rc σ0 τ → E (1, 0, 0) τ) (hQ : ∀ τ, KR n i l rc σ0 τ R.2 → τ.1 rc = σ.1 rc → wpE (g (R.1 : Int)) τ Q E) : wpE (bdE m g) σ Q E := by
  obtain ⟨h1, h2, h3⟩ := h
  have hn' := isN_le hn
  unfold isRc at hc
  rcases hm with ⟨τ, e, q1, q2⟩ | ⟨τ, e, q1, q2⟩
  · rw [wpE_bdE, wpE_inl e]
    exact hQ τ ⟨q1, hg.1, h3.trans (FR3.of q2)⟩ (q2.1 rc (by omega) (by omega) (by omega) (by omega))
  · rw [wpE_bdE, wpE_inr e]
    exact hE τ q1 (h3.trans (FR3.of q2))
theorem rMux (hn : isN n) (hc : isRc n rc) (hi : i ≤ 64 ∧ l ≤ 200) (h : KR n i l rc σ0 σ B) (hs : ltB (i + l) B s) (ha : ltB (i + l) B a) (hb : ltB (i + l) B b) {g : Int → St → Option ((ρ ⊕ XV) × St)} (hE : ∀ τ, flB (muxB (i + l) s a b B).2 → FR3 n rc σ0 τ → E (1, 0, 0) τ) (hQ : ∀ τ, KR n i l rc σ0 τ (muxB (i + l) s a b B).2 → goB (i + l) B (muxB (i + l) s a b B).2 → ltB (i + l) (muxB (i + l) s a b B).2 (muxB (i + l) s a b B).1 → τ.1 rc = σ.1 rc → wpE (g ((muxB (i + l) s a b B).1 : Int)) τ Q E) : wpE (bdE (F_X4_mux 38 (s : Int) (a : Int) (b : Int)) g) σ Q E := by
  have hk := okB.go (muxB_ok h.2.1 hs ha hb)
  exact h.gate hn hc (muxX (Or.inl rfl) hn hi h.1 h.2.1 hs ha hb) hk.1 hE (fun τ a1 a2 => hQ τ a1 hk.1 hk.2 a2)
theorem rAndK (hn : isN n) (hc : isRc n rc) (hi : i ≤ 64 ∧ l ≤ 200) (h : KR n i l rc σ0 σ B) (ha : ltB (i + l) B a) (hb : ltB (i + l) B b) {g : Int → St → Option ((ρ ⊕ XV) × St)} (hE : ∀ τ, flB (andB (i + l) a b B).2 → FR3 n rc σ0 τ → E (1, 0, 0) τ) (hQ : ∀ τ, KR n i l rc σ0 τ (andB (i + l) a b B).2 → goB (i + l) B (andB (i + l) a b B).2 → ltB (i + l) (andB (i + l) a b B).2 (andB (i + l) a b B).1 → τ.1 rc = σ.1 rc → wpE (g ((andB (i + l) a b B).1 : Int)) τ Q E) : wpE (bdE (F_X4_and 38 (a : Int) (b : Int)) g) σ Q E := by
  have hk := andB_go h.2.1 ha hb
  exact h.gate hn hc (andX (Or.inl rfl) hn hi h.1 h.2.1 ha hb) hk.1 hE (fun τ a1 a2 => hQ τ a1 hk.1 hk.2 a2)
end
section
variable {Ms : Nat → ModV} {top : Nat} {s : LYS} {r : Nat → Nat} {K : Nat} {σ σ' σ'' : St} {st st' : BST} {o n rc at' g : Nat} {A : Nat → Prop} {mk : Nat → BST → BST}
/-- the row that connections are put upon -/
def rcOK (Ms : Nat → ModV) (s : LYS) (n : Nat) (A : Nat → Prop) (g rc at' : Nat) (st : BST) : Prop := (rc = 42 ∧ at' = lfS Ms s g ∧ ¬ stG Ms s g ∧ st.2.1 g = true ∧ A g) ∨ (rc = n + 4 ∧ at' + wdS Ms s g ≤ 200)
def bR (n rc a k : Nat) : Prop := bG n a k ∧ a ≠ rc
/-- but for a stretch of the row -/
def bS (n rc at' w a k : Nat) : Prop := bG n a k ∧ (a = rc → rc = n + 4 ∧ (k < at' ∨ at' + w ≤ k))
def K42x (Ms : Nat → ModV) (s : LYS) (rc g : Nat) (st : BST) (σ σ' : St) : Prop := ∀ h, h < lsG s → ¬ stG Ms s h → (rc = 42 → h ≠ g) → st.2.1 h = true → ∀ j, j < wdS Ms s h → σ'.1 42 (lfS Ms s h + j) = σ.1 42 (lfS Ms s h + j)
theorem K42x.of (h : K42 Ms s st σ σ') : K42x Ms s rc g st σ σ' := fun x h1 h2 _ h4 => h x h1 h2 h4
theorem K42x.trans (h : K42x Ms s rc g st σ σ') (hk : kpBs st st') (h' : K42x Ms s rc g st' σ' σ'') : K42x Ms s rc g st σ σ'' := fun x hx hs hg hm j hj => (h' x hx hs hg (hk x hm).1 j hj).trans (h x hx hs hg hm j hj)
theorem rcOK.kp (h : rcOK Ms s n A g rc at' st) (hk : kpBs st st') : rcOK Ms s n A g rc at' st' := by
  rcases h with ⟨h1, h2, h3, h4, h5⟩ | h
  · exact Or.inl ⟨h1, h2, h3, (hk g h4).1, h5⟩
  · exact Or.inr h
theorem rcOK.is (h : rcOK Ms s n A g rc at' st) : isRc n rc := by
  rcases h with h | h
  · exact Or.inl h.1
  · exact Or.inr h.1
theorem rcOK.len (h : rcOK Ms s n A g rc at' st) (hd : DP Ms top s) (hlim : limOK Ms s) (hn : isN n) (hg : g < lsG s) : ∃ N, ia rc = N ∧ at' + wdS Ms s g ≤ N ∧ N ≤ 2000 := by
  rcases h with ⟨h1, h2, h3, h4, h5⟩ | ⟨h1, h2⟩
  · exact ⟨2000, by rw [h1]; exact L42, by rw [h2]; exact lfS_top hd hlim hg h3, Nat.le_refl _⟩
  · exact ⟨200, by rw [h1]; exact (LN hn).2.2.2.2.2.2.1, h2, by decide⟩
/-- inner steps keep the row -/
theorem rcOK.row (h : rcOK Ms s n A g rc at' st) (hn : isN n) (hg : g < lsG s) (e : agr (bG n) σ σ') (k : K42 Ms s st σ σ') : ∀ j, j < wdS Ms s g → σ'.1 rc (at' + j) = σ.1 rc (at' + j) := fun j hj => by
  have hN := isN_le hn
  rcases h with ⟨h1, h2, h3, h4, h5⟩ | ⟨h1, h2⟩
  · rw [h1, h2]; exact k g hg h3 h4 j hj
  · rw [h1]; exact (e (n + 4) (at' + j) (by unfold bG; omega)).1
theorem BXr.kr (h : BXr Ms top s o n A st σ) (hd : DP Ms top s) (hD : isD o) (hn : isN n) (hg : g < lsG s) (hc : rcOK Ms s n A g rc at' st) {B : NB} (k : KR n (inbS Ms s (lsG s)) (keptS Ms s (lsG s)) rc σ σ' B) (go : goB (lvD Ms s) st.1 B) {f : Nat → Nat} {w' : Nat} (ce : CE (σ.1 rc) (σ'.1 rc) at' (wdS Ms s g) w' f) : BXr Ms top s o n A (B, st.2.1, st.2.2) σ' ∧ agr (bS n rc at' (wdS Ms s g)) σ σ' ∧ K42x Ms s rc g st σ σ' ∧ (σ'.1 45 = σ.1 45) := by
  have hN := isN_le hn
  have his := hc.is
  unfold isRc at his
  obtain ⟨h1, h2, h3, h4⟩ := h
  obtain ⟨k1, k2, k3, k4, k5⟩ := k
  have ha : agr (bS n rc at' (wdS Ms s g)) σ σ' := by
    intro a x q
    obtain ⟨q1, q2⟩ := q
    unfold bG at q1
    refine ⟨?_, by rw [k5], by rw [k5]⟩
    by_cases er : a = rc
    · rw [er]; exact ce.1 x (q2 er).2
    by_cases e : a = n
    · subst e; exact k4 x (by omega)
    · rw [k3 a (by omega) e (by omega) (by omega) (by omega) er]
  have c42 : ∀ x, x < lsG s → ¬ stG Ms s x → (rc = 42 → x ≠ g) → ∀ j, j < wdS Ms s x → σ'.1 42 (lfS Ms s x + j) = σ.1 42 (lfS Ms s x + j) := by
    intro x hx hs hxg j hj
    rcases hc with ⟨c1, c2, c3, c4, c5⟩ | ⟨c1, c2⟩
    · rw [c1, c2] at ce
      refine ce.1 _ ?_
      rcases Nat.lt_or_ge (lfS Ms s x + j) (lfS Ms s g) with c | c
      · exact Or.inl c
      · refine Or.inr ?_
        rcases Nat.lt_or_ge (lfS Ms s x + j) (lfS Ms s g + wdS Ms s g) with d | d
        · exfalso
          exact lfS_ne (Ms := Ms) (s := s) (a := j) (b := lfS Ms s x + j - lfS Ms s g) (hxg c1) hs c3 hj (by omega) (by omega)
        · exact d
    · rw [k3 42 (by decide) (by omega) (by omega) (by omega) (by decide) (by omega)]
  have e41 : σ'.1 41 = σ.1 41 := k3 41 (by decide) (by omega) (by omega) (by omega) (by decide) (by omega)
  have e45 : σ'.1 45 = σ.1 45 := k3 45 (by decide) (by omega) (by omega) (by omega) (by decide) (by omega)
  refine ⟨⟨h1.fr hd hD hn (agr.sub ha (fun a x q => ⟨q.1, ?_⟩)), k1, (h3.net go).2, fun x hx hs => ?_⟩, ha, fun x hx hs hxg _ j hj => c42 x hx hs hxg j hj, e45⟩
  · intro e
    exfalso
    have q1 := q.1
    unfold bG at q1
    have := q.2
    omega
  · obtain ⟨d1, d2⟩ := h4 x hx hs
    refine ⟨by rw [e41]; exact d1, fun m1 m2 j hj => ?_⟩
    rw [c42 x hx hs (fun e => ?_) j hj]
    · exact d2 m1 m2 j hj
    · intro exg
      rcases hc with ⟨c1, c2, c3, c4, c5⟩ | ⟨c1, c2⟩
      · exact m2 (by rw [exg]; exact c5)
      · omega
theorem csB_app {mk : Nat → BST → BST} : ∀ (P L : List Nat) (x : (Nat → Nat) × BST), csB Ms s mk g (P ++ L) x = csB Ms s mk g L (csB Ms s mk g P x)
  | [], _, _ => rfl
  | _ :: P, L, _ => csB_app P L _
/-- what connections of g are made of -/
def ownR (Ms : Nat → ModV) (s : LYS) (g i n : Nat) : Prop := i = coI Ms s g ∧ ∃ c, c ∈ conL Ms s g ∧ ((gF (gI' Ms s i) (mdVl (moI Ms s i) c) ≤ n ∧ n ≤ mdVl (moI Ms s i) c) ∨ ∃ q, q ∈ mdCh (moI Ms s i) c ∧ gF (gI' Ms s i) q.1 ≤ n ∧ n ≤ q.1)
def rdGs (Ms : Nat → ModV) (s : LYS) (r : Nat → Nat) (K : Nat) (A : Nat → Prop) (g : Nat) : Prop := ∀ c, c ∈ conL Ms s g → rdK Ms s r K A (coI Ms s g) (mdVl (moI Ms s (coI Ms s g)) c) ∧ ∀ q, q ∈ mdCh (moI Ms s (coI Ms s g)) c → rdK Ms s r K A (coI Ms s g) q.1
theorem agr_bS {w : Nat} (h : agr (bG n) σ σ') : agr (bS n rc at' w) σ σ' := agr.sub h (fun _ _ q => q.1)
theorem bS_bR {w : Nat} (h : agr (bS n rc at' w) σ σ') : agr (bR n rc) σ σ' := agr.sub h (fun _ _ q => ⟨q.1, fun e => absurd e q.2⟩)
theorem agr_bR (h : agr (bG n) σ σ') : agr (bR n rc) σ σ' := agr.sub h (fun _ _ q => q.1)
theorem cnB_e {mk : Nat → BST → BST} {c : Nat} {x : (Nat → Nat) × BST} (e : mdCh (moI Ms s (coI Ms s g)) c = []) : cnB Ms s mk g c x = ((rngB Ms s mk (coI Ms s g) (mdVl (moI Ms s (coI Ms s g)) c) (whB Ms s mk (coI Ms s g) (mdCh (moI Ms s (coI Ms s g)) c) x.2).2).1, (rngB Ms s mk (coI Ms s g) (mdVl (moI Ms s (coI Ms s g)) c) (whB Ms s mk (coI Ms s g) (mdCh (moI Ms s (coI Ms s g)) c) x.2).2).2) := if_pos e
theorem cnB_n {mk : Nat → BST → BST} {c : Nat} {x : (Nat → Nat) × BST} (e : ¬ mdCh (moI Ms s (coI Ms s g)) c = []) {w : Nat × BST} (hw : w = whB Ms s mk (coI Ms s g) (mdCh (moI Ms s (coI Ms s g)) c) x.2) {p : (Nat → Nat) × BST} (hp : p = rngB Ms s mk (coI Ms s g) (mdVl (moI Ms s (coI Ms s g)) c) w.2) : cnB Ms s mk g c x = ((mpB (fun j B => muxB (lvD Ms s) w.1 (p.1 j) (x.1 j) B) (wdS Ms s g) x.1 p.2.1).1, (mpB (fun j B => muxB (lvD Ms s) w.1 (p.1 j) (x.1 j) B) (wdS Ms s g) x.1 p.2.1).2, p.2.2) := by
  subst hw
  subst hp
  exact if_neg e
theorem connBX (hd : DP Ms top s) (hch : chOK Ms s) (hD : isD o) (hn : isN n) (hlim : limOK Ms s) (hp : PMK Ms s r K mk) {fd : Int → Nat → Int → Int → St → Option ((Unit ⊕ XV) × St)} {wh : Int → Nat → Int → St → Option ((Int ⊕ XV) × St)} (hf : FDX Ms top s o n r K fd mk) (hw : WHX Ms top s o n r K wh mk) (hg : g < lsG s) (hB : BXr Ms top s o n A st σ) (hc : rcOK Ms s n A g rc at' st) {x0 : Nat → Nat} (hx0 : ∀ j, j < wdS Ms s g → σ.1 rc (at' + j) = (x0 j : Int)) (hlt0 : ltA (lvD Ms s) st.1 (wdS Ms s g) x0) (hrd : rdGs Ms s r K A g) {Q : Unit → St → Prop} {E : XV → St → Prop} (hQ : ∀ τ, BXr Ms top s o n A (csB Ms s mk g (conL Ms s g) (x0, st)).2 τ → agr (bS n rc at' (wdS Ms s g)) σ τ → FN Ms s (fun i' n' => ownR Ms s g i' n' ∨ TsR Ms s r K i' n') σ τ → K42x Ms s rc g st σ τ → ltA (lvD Ms s) (csB Ms s mk g (conL Ms s g) (x0, st)).2.1 (wdS Ms s g) (csB Ms s mk g (conL Ms s g) (x0, st)).1 → (∀ j, j < wdS Ms s g → τ.1 rc (at' + j) = ((csB Ms s mk g (conL Ms s g) (x0, st)).1 j : Int)) → Q () τ) (hE : ∀ τ, flB (csB Ms s mk g (conL Ms s g) (x0, st)).2.1 → agr (bR n rc) σ τ → E (1, 0, 0) τ) : wpE (F_X3_connect fd wh (g : Int) rc (at' : Int)) σ Q E := by
  have hF := FU_ge
  have h12 := hd.1.1
  have h101 := hd.2.1.1.2
  have h200 := hd.2.1.2
  have hN := isN_le hn
  have hl : inbS Ms s (lsG s) ≤ 64 ∧ keptS Ms s (lsG s) ≤ 200 := ⟨hlim.2.2.1, hlim.1.2⟩
  have hrc := hc.is
  obtain ⟨N, hN1, hN2, hN3⟩ := hc.len hd hlim hn hg
  have w32' := (hd.sig hg).2.2.2.2.1
  have fT : ∀ {a b : BST}, (∀ L x, x.2 = a → (csB Ms s mk g L x).2 = b → flSt a b) := fun {a b} L x e1 e2 => by
    rw [← e1, ← e2]
    exact csB_ind (P := flSt) (fun _ _ _ h h' => h' ∘ h) (fun _ => id) (fun _ _ h => h) hp.2.2.1 L x
  have key : ∀ (L P : List Nat) (l : Int) (f : Nat) σ1, conL Ms s g = P ++ L → L.length < f → chn (σ.1 (o + 10)) (σ.1 (o + 9)) (σ.1 (o + 11)) (coI Ms s g) 6100 l L → BXr Ms top s o n A (csB Ms s mk g P (x0, st)).2 σ1 → agr (bS n rc at' (wdS Ms s g)) σ σ1 → FN Ms s (fun i' n' => ownR Ms s g i' n' ∨ TsR Ms s r K i' n') σ σ1 → K42x Ms s rc g st σ σ1 → kpBs st (csB Ms s mk g P (x0, st)).2 → ltA (lvD Ms s) (csB Ms s mk g P (x0, st)).2.1 (wdS Ms s g) (csB Ms s mk g P (x0, st)).1 → (∀ j, j < wdS Ms s g → σ1.1 rc (at' + j) = ((csB Ms s mk g P (x0, st)).1 j : Int)) → wpE (X3_connect_21 fd wh f rc (at' : Int) (wdS Ms s g : Int) l) σ1 Q E := by
    intro L
    induction L with
    | nil =>
      intro P l f σ1 hL hfu hcn b1 b2 b3 b4 b5 b6 b7
      obtain ⟨f', rfl⟩ : ∃ f', f = f' + 1 := ⟨f - 1, by simp at hfu; omega⟩
      have e : l = -1 := hcn
      rw [List.append_nil] at hL
      rw [← hL] at b1 b6 b7
      rw [X3_connect_21, wpE_ifp (by omega), wpE_lE, wp_rt]
      exact hQ σ1 b1 b2 b3 b4 b6 b7
    | cons c L ih =>
      intro P l f σ1 hL hfu hcn b1 b2 b3 b4 b5 b6 b7
      have hf2 : L.length + 1 < f := hfu
      obtain ⟨f', rfl⟩ : ∃ f', f = f' + 1 := ⟨f - 1, by omega⟩
      obtain ⟨q, q1, q2, q3, q4, q5⟩ := hcn
      subst q1
      have hmem : c ∈ conL Ms s g := by rw [hL]; exact List.mem_append.mpr (Or.inr List.mem_cons_self)
      obtain ⟨z1, z2, z3, z4, -⟩ := hd.conL_mem hg hmem
      obtain ⟨hm, ok⟩ := hd.inst z2
      have c60 : mdC (moI Ms s (coI Ms s g)) ≤ 60 := ok.1.2.2.1
      have hMd := isMd_D hD (show lsM s (coI Ms s g) < 12 by omega)
      have rowo : ∀ {σ2 : St}, agr (bR n rc) σ σ2 → ∀ j, 9 ≤ j → j ≤ 12 → σ2.1 (o + j) = σ.1 (o + j) := fun {σ2} hA2 j h1 h2 => hA2.row (fun k => ⟨bG_D hD hn (by omega), by
        rcases hrc with e | e
        · have := isD_le hD; omega
        · have := dn_off hD hn (show j ≤ 326 by omega) (show 4 ≤ 5 by decide); omega⟩)
      have r9 : σ1.1 (o + 9) q = (coI Ms s g : Int) := by rw [rowo (bS_bR b2) 9 (by omega) (by omega)]; exact q3
      have r10 : σ1.1 (o + 10) q = (c : Int) := by rw [rowo (bS_bR b2) 10 (by omega) (by omega)]; exact q4
      have hxP : csB Ms s mk g (P ++ [c]) (x0, st) = cnB Ms s mk g c (csB Ms s mk g P (x0, st)) := by rw [csB_app]; rfl
      have hfin : conL Ms s g = (P ++ [c]) ++ L := by rw [hL, List.append_assoc]; rfl
      have hflF : flB (cnB Ms s mk g c (csB Ms s mk g P (x0, st))).2.1 → flB (csB Ms s mk g (conL Ms s g) (x0, st)).2.1 := fun h => by
        rw [hfin, csB_app, hxP]
        exact fT L _ rfl rfl h
      generalize hx : csB Ms s mk g P (x0, st) = x at *
      obtain ⟨⟨m14, m15, m16, m18, m19, m17⟩, mch⟩ := (b1.1.1.2.2.1 _ hm).2.2.2 c z3
      have m18' : σ1.1 (o + 27 + 25 * lsM s (coI Ms s g) + 18) c = (mdVl (moI Ms s (coI Ms s g)) c : Int) := m18
      have m19' : σ1.1 (o + 27 + 25 * lsM s (coI Ms s g) + 19) c = (gF (gI' Ms s (coI Ms s g)) (mdVl (moI Ms s (coI Ms s g)) c) : Int) := m19
      have mch' : crO Ms s σ1 o (coI Ms s g) (σ1.1 (o + 27 + 25 * lsM s (coI Ms s g) + 20) c) (mdCh (moI Ms s (coI Ms s g)) c) := mch
      have hkW := whB_ind (P := kpBs) (fun _ _ _ => kpBs.trans) (fun _ => kpBs.refl) (fun _ _ _ => kpBs.net) hp.2.1 (Ms := Ms) (s := s) (i := coI Ms s g) (mdCh (moI Ms s (coI Ms s g)) c) x.2
      have hgW := whB_go hd hp.1 z2 (mdCh (moI Ms s (coI Ms s g)) c) x.2 (fun q hq => hch _ _ z2 z3 q hq) b1.wf
      generalize hwv : whB Ms s mk (coI Ms s g) (mdCh (moI Ms s (coI Ms s g)) c) x.2 = wv at *
      have hkR := rngB_ind (P := kpBs) (fun _ _ _ => kpBs.trans) (fun _ => kpBs.refl) (fun _ _ _ => kpBs.net) hp.2.1 (Ms := Ms) (s := s) (i := coI Ms s g) (u := mdVl (moI Ms s (coI Ms s g)) c) (st := wv.2)
      have hfR := rngB_ind (P := flSt) (fun _ _ _ h h' => h' ∘ h) (fun _ => id) (fun _ _ h => h) hp.2.2.1 (Ms := Ms) (s := s) (i := coI Ms s g) (u := mdVl (moI Ms s (coI Ms s g)) c) (st := wv.2)
      have hgR := rngB_go hd hp.1 z2 (hd.root z2 z3) hgW.1.2
      have ew := (hd.cw hg hmem).1
      generalize hpv : rngB Ms s mk (coI Ms s g) (mdVl (moI Ms s (coI Ms s g)) c) wv.2 = pv at *
      have hflc : flB pv.2.1 → flB (cnB Ms s mk g c x).2.1 := fun h => by
        by_cases e : mdCh (moI Ms s (coI Ms s g)) c = []
        · rw [cnB_e e, hwv, hpv]; exact h
        · rw [cnB_n e hwv.symm hpv.symm]
          exact fl_mp (fun _ _ h => fl_mux h) h
      rw [X3_connect_21, wpE_ifn (by omega), wpE_bd, wp_gQ, b1.1.2.2.2.1, wpE_nn, wpE_ck, and_t (ly_D hD), wpE_bd, DI_9 hD (by omega) (by omega), tn, r9, wpE_lt, wpE_bd, wp_gQ, b1.1.2.2.2.1, wpE_nn, wpE_ck, and_t (ly_D hD), wpE_bd, wp_gQ, b1.1.2.2.2.1, wpE_nn, wpE_ck, and_t (ly_D hD), wpE_bd, DI_2 hD (by omega) (by omega), tn, (b1.1.1.1.2.1 _ z2).1, wpE_bd, DI_1 hD (by omega) (by omega), tn, b1.1.1.2.1 _ (by omega), wpE_bd, wp_gQ, b1.1.2.2.2.1, wpE_nn, wpE_ck, and_t (ly_D hD), wpE_bd, DI_10 hD (by omega) (by omega), tn, r10, wpE_lt, wpE_nn, wpE_ck, and_t (ly_Md hMd), wpE_bd, MI_20 hMd (by omega) (by omega), tn, wpE_bdE]
      refine hw (coI Ms s g) _ (mdCh (moI Ms s (coI Ms s g)) c) z2 (ok.2.2.2.2.1 c z3).2.1 A x.2 σ1 b1 mch' (hrd c hmem).2 _ _ (fun τ2 d1 d2 d3 d4 d5 => ?_) (fun τ2 d1 d2 => hE τ2 (hflF (hflc (by rw [hwv] at d1; exact hfR d1))) ((bS_bR b2).trans (agr_bR d2)))
      rw [hwv] at d1 d5 ⊢
      have moff : ∀ {σ2 σ3 : St}, agr (bG n) σ2 σ3 → ∀ j, 14 ≤ j → j ≤ 20 → σ3.1 (o + 27 + 25 * lsM s (coI Ms s g) + j) = σ2.1 (o + 27 + 25 * lsM s (coI Ms s g) + j) := fun {σ2 σ3} hA j h1 h2 => by
        rw [show o + 27 + 25 * lsM s (coI Ms s g) + j = o + (27 + 25 * lsM s (coI Ms s g) + j) by omega]
        exact hA.row (fun k => bG_D hD hn (by omega))
      rw [wpE_lt, wpE_bd, MI_19 hMd (by omega) (by omega), tn, moff d2 19 (by omega) (by omega), m19', wpE_bd, MI_18 hMd (by omega) (by omega), tn, moff d2 18 (by omega) (by omega), m18', wpE_bdE]
      refine hf (coI Ms s g) (mdVl (moI Ms s (coI Ms s g)) c) z2 (hd.root z2 z3) A wv.2 τ2 d1 (hrd c hmem).1 _ _ (fun τ3 e1 e2 e3 e4 e5 e6 => ?_) (fun τ3 e1 e2 => hE τ3 (hflF (hflc (by rw [hpv] at e1; exact e1))) ((bS_bR b2).trans ((agr_bR d2).trans (agr_bR e2))))
      rw [hpv] at e1 e5 e6
      rw [ew] at e5 e6
      have d23 := d2.trans e2
      have hkx : kpBs x.2 pv.2 := hkW.trans hkR
      have hcx : rcOK Ms s n A g rc at' x.2 := hc.kp b5
      have row3 : ∀ j, j < wdS Ms s g → τ3.1 rc (at' + j) = (x.1 j : Int) := fun j hj => by
        rw [(hcx.kp hkW).row hn hg e2 e4 j hj, hcx.row hn hg d2 d4 j hj]; exact b7 j hj
      have hT : FN Ms s (fun i' n' => ownR Ms s g i' n' ∨ TsR Ms s r K i' n') σ1 τ3 := by
        refine (d3.mono (fun i' n' hh => ?_)).trans (e3.mono (fun i' n' hh => ?_))
        · rcases hh with ⟨rfl, q', h1, h2⟩ | hh
          · exact Or.inl ⟨rfl, c, hmem, Or.inr ⟨q', h1, h2⟩⟩
          · exact Or.inr hh
        · rcases hh with ⟨rfl, h1⟩ | hh
          · exact Or.inl ⟨rfl, c, hmem, Or.inl h1⟩
          · exact Or.inr hh
      have hbt := bN_top hd z2 (hd.root z2 z3)
      rw [ew] at hbt
      rw [wpE_bd, MI_18 hMd (by omega) (by omega), tn, moff d23 18 (by omega) (by omega), m18', wpE_bd, x_first hd hD e1.1 z2 (hd.root z2 z3), wpE_lt, wpE_lt]
      -- behind the bits of one connection
      have nxt : ∀ (y : (Nat → Nat) × BST) τ4, cnB Ms s mk g c x = y → BXr Ms top s o n A y.2 τ4 → agr (bS n rc at' (wdS Ms s g)) τ3 τ4 → K42x Ms s rc g pv.2 τ3 τ4 → τ4.1 45 = τ3.1 45 → kpBs pv.2 y.2 → ltA (lvD Ms s) y.2.1 (wdS Ms s g) y.1 → (∀ j, j < wdS Ms s g → τ4.1 rc (at' + j) = (y.1 j : Int)) → wpE (X3_connect_199 fd wh (X3_connect_21 fd wh f') rc (at' : Int) (wdS Ms s g : Int) (q : Int)) τ4 Q E := by
        intro y τ4 hy g1 g2 g3 g4 g5 g6 g7
        have b24 : agr (bS n rc at' (wdS Ms s g)) σ τ4 := b2.trans ((agr_bS d23).trans g2)
        rw [X3_connect_199, wpE_bd, wp_gQ, g1.1.2.2.2.1, wpE_nn, wpE_ck, and_t (ly_D hD), wpE_bd, DI_11 hD (by omega) (by omega), tn, rowo (bS_bR b24) 11 (by omega) (by omega), wpE_lt]
        have := ih (P ++ [c]) (σ.1 (o + 11) q) f' τ4 hfin (by omega) q5
        rw [hxP, hy] at this
        exact this g1 b24 (b3.trans (hT.trans (FN.of g4))) (b4.trans b5 ((K42x.of d4).trans hkW ((K42x.of e4).trans hkR g3))) (b5.trans (hkx.trans g5)) g6 g7
      have m20 : τ3.1 (o + 27 + 25 * lsM s (coI Ms s g) + 20) = σ1.1 (o + 27 + 25 * lsM s (coI Ms s g) + 20) := moff d23 20 (by omega) (by omega)
      have mne : o + 27 + 25 * lsM s (coI Ms s g) + 20 ≠ rc := by
        rcases hrc with e | e
        · have := isD_le hD; omega
        · have := dn_off hD hn (show 27 + 25 * lsM s (coI Ms s g) + 20 ≤ 326 by omega) (show 4 ≤ 5 by decide); omega
      have hne45 : (45 : Nat) ≠ rc := by rcases hrc with e | e <;> omega
      have hK0 : KR n (inbS Ms s (lsG s)) (keptS Ms s (lsG s)) rc τ3 τ3 pv.2.1 := ⟨e1.2.1, e1.wf.1, FR3.refl⟩
      have hcp : rcOK Ms s n A g rc at' pv.2 := hcx.kp hkx
      by_cases ch : mdCh (moI Ms s (coI Ms s g)) c = []
      · have r20 : σ1.1 (o + 27 + 25 * lsM s (coI Ms s g) + 20) c = -1 := by rw [ch] at mch'; exact mch'
        have hy := cnB_e (mk := mk) (x := x) ch
        rw [hwv, hpv] at hy
        refine lpNE (w := wdS Ms s g) (L := fun f2 j => X3_connect_131 fd wh (X3_connect_21 fd wh f') f2 rc (at' : Int) (wdS Ms s g : Int) (q : Int) (o + 27 + 25 * lsM s (coI Ms s g)) (c : Int) (wv.1 : Int) (bNd Ms s (coI Ms s g) (mdVl (moI Ms s (coI Ms s g)) c) : Int) (j : Int)) (I := fun j τ => KR n (inbS Ms s (lsG s)) (keptS Ms s (lsG s)) rc τ3 τ pv.2.1 ∧ CE (τ3.1 rc) (τ.1 rc) at' (wdS Ms s g) j pv.1 ∧ τ.1 45 = τ3.1 45 ∧ τ.1 (o + 27 + 25 * lsM s (coI Ms s g) + 20) c = -1) ?_ ?_ (show wdS Ms s g < FU by omega) ⟨hK0, CE.init, rfl, by rw [m20]; exact r20⟩
        · rintro f2 j τ hj ⟨k1, k2, k3, k4⟩ ih2
          show wpE (X3_connect_131 fd wh (X3_connect_21 fd wh f') (f2 + 1) rc (at' : Int) (wdS Ms s g : Int) (q : Int) (o + 27 + 25 * lsM s (coI Ms s g)) (c : Int) (wv.1 : Int) (bNd Ms s (coI Ms s g) (mdVl (moI Ms s (coI Ms s g)) c) : Int) (j : Int)) τ Q E
          rw [X3_connect_131, wpE_ifn (by omega), wpE_bd, MI_20 hMd (by omega) (by omega), tn, k4, wpE_ifn (by decide), wpE_bd, wN (by omega), RI_45 (by omega) (by omega), tn, k3, e6 j hj, X3_connect_192, wpE_bd, wN (by omega), c_wrI hN1 (by omega) (by omega), tn, wpE_lt, wN1 (by omega)]
          exact ih2 _ ⟨k1.w hn hrc, by dsimp only; rw [stA_eq]; exact k2.up' hj, by dsimp only; rw [stA_ne hne45]; exact k3, by dsimp only; rw [stA_ne mne]; exact k4⟩
        · rintro f2 τ ⟨k1, k2, k3, -⟩
          show wpE (X3_connect_131 fd wh (X3_connect_21 fd wh f') (f2 + 1) rc (at' : Int) (wdS Ms s g : Int) (q : Int) (o + 27 + 25 * lsM s (coI Ms s g)) (c : Int) (wv.1 : Int) (bNd Ms s (coI Ms s g) (mdVl (moI Ms s (coI Ms s g)) c) : Int) (wdS Ms s g : Int)) τ Q E
          obtain ⟨x1, x2, x3, x4⟩ := e1.kr hd hD hn hg hcp k1 (goB.refl e1.wf.1) k2
          rw [X3_connect_131, wpE_ifp (by omega)]
          exact nxt _ τ hy x1 x2 x3 x4 kpBs.refl e5 k2.2
      · obtain ⟨q', L', hqL⟩ := List.exists_cons_of_ne_nil ch
        have r20 : 0 ≤ σ1.1 (o + 27 + 25 * lsM s (coI Ms s g) + 20) c := by rw [hqL] at mch'; exact mch'.1.1
        have hy := cnB_n (mk := mk) (x := x) ch hwv.symm hpv.symm
        have wvl : ltB (lvD Ms s) pv.2.1 wv.1 := hgR.1.1.lt hgW.2
        have xl : ltA (lvD Ms s) pv.2.1 (wdS Ms s g) x.1 := (hgW.1.1.trans hgR.1.1).la b6
        have mg := mpB_go (w := wdS Ms s g) (o := x.1) (g := fun j B => muxB (lvD Ms s) wv.1 (pv.1 j) (x.1 j) B) e1.wf.1 (fun j B2 hj h2 => okB.go (muxB_ok h2.1 (h2.lt wvl) (h2.lt (e5 j hj)) (h2.lt (xl j hj))))
        refine lpX (f := fun j o' B => (ups o' j (muxB (lvD Ms s) wv.1 (pv.1 j) (x.1 j) B).1, (muxB (lvD Ms s) wv.1 (pv.1 j) (x.1 j) B).2)) (x0 := x.1) (B0 := pv.2.1) (w := wdS Ms s g) (L := fun f2 j _ => X3_connect_131 fd wh (X3_connect_21 fd wh f') f2 rc (at' : Int) (wdS Ms s g : Int) (q : Int) (o + 27 + 25 * lsM s (coI Ms s g)) (c : Int) (wv.1 : Int) (bNd Ms s (coI Ms s g) (mdVl (moI Ms s (coI Ms s g)) c) : Int) (j : Int)) (I := fun j o' B' τ => KR n (inbS Ms s (lsG s)) (keptS Ms s (lsG s)) rc τ3 τ B' ∧ goB (lvD Ms s) pv.2.1 B' ∧ CE (τ3.1 rc) (τ.1 rc) at' (wdS Ms s g) (wdS Ms s g) o' ∧ (∀ p, j ≤ p → p < wdS Ms s g → o' p = x.1 p)) (FR := FR3 n rc τ3) (fun j s B' hf => fl_mux hf) (fun τ h1 h2 => ?_) ?_ ?_ (show wdS Ms s g < FU by omega) ⟨hK0, goB.refl e1.wf.1, ⟨fun _ _ => rfl, row3⟩, fun _ _ _ => rfl⟩
        · refine hE τ (hflF (by rw [hy]; exact h1)) ((bS_bR b2).trans ((agr_bR d23).trans ?_))
          intro a' x' hq'
          obtain ⟨hq1, hq2⟩ := hq'
          unfold bG at hq1
          refine ⟨?_, by rw [h2.2.2], by rw [h2.2.2]⟩
          by_cases en : a' = n
          · subst en; exact h2.2.1 x' (by omega)
          · rw [h2.1 a' (by omega) en (by omega) (by omega) (by omega) hq2]
        · rintro f2 j o' B' τ hj ⟨k1, k2, k3, k4⟩ hE' ih2
          show wpE (X3_connect_131 fd wh (X3_connect_21 fd wh f') (f2 + 1) rc (at' : Int) (wdS Ms s g : Int) (q : Int) (o + 27 + 25 * lsM s (coI Ms s g)) (c : Int) (wv.1 : Int) (bNd Ms s (coI Ms s g) (mdVl (moI Ms s (coI Ms s g)) c) : Int) (j : Int)) τ Q E
          have f20 : τ.1 (o + 27 + 25 * lsM s (coI Ms s g) + 20) c = σ1.1 (o + 27 + 25 * lsM s (coI Ms s g) + 20) c := by
            rw [← m20]
            have hoff := fun k (hk : k ≤ 5) => dn_off hD hn (show 27 + 25 * lsM s (coI Ms s g) + 20 ≤ 326 by omega) hk
            have h0 := hoff 0 (by decide)
            have h1 := hoff 1 (by decide)
            have h2 := hoff 2 (by decide)
            have h3 := isD_le hD
            rw [k1.2.2.1 _ (by omega) (by omega) (by omega) (by omega) (by omega) mne]
          have f45 : τ.1 45 = τ3.1 45 := k1.2.2.1 45 (by decide) (by omega) (by omega) (by omega) (by decide) hne45
          rw [X3_connect_131, wpE_ifn (by omega), wpE_bd, MI_20 hMd (by omega) (by omega), tn, f20, wpE_ifp r20, wpE_bd, wN (by omega), RI_45 (by omega) (by omega), tn, f45, e6 j hj, wpE_bd, wN (by omega), c_rdI hN1 (by omega) (by omega), tn, k3.2 j hj, k4 j (Nat.le_refl j) hj]
          refine rMux hn hrc hl k1 (k2.lt wvl) (k2.lt (e5 j hj)) (k2.lt (xl j hj)) hE' (fun υ a1 a2 a3 a4 => ?_)
          rw [X3_connect_192, wpE_bd, c_wrI hN1 (by omega) (by omega), tn, wpE_lt, wN1 (by omega)]
          exact ih2 _ ⟨a1.w hn hrc, k2.trans a2, by dsimp only; rw [stA_eq, a4]; exact k3.set hj, fun p h1 h2 => by dsimp only; rw [ups_ne (by omega)]; exact k4 p (by omega) h2⟩
        · rintro f2 τ ⟨k1, k2, k3, -⟩
          show wpE (X3_connect_131 fd wh (X3_connect_21 fd wh f') (f2 + 1) rc (at' : Int) (wdS Ms s g : Int) (q : Int) (o + 27 + 25 * lsM s (coI Ms s g)) (c : Int) (wv.1 : Int) (bNd Ms s (coI Ms s g) (mdVl (moI Ms s (coI Ms s g)) c) : Int) (wdS Ms s g : Int)) τ Q E
          obtain ⟨x1, x2, x3, x4⟩ := e1.kr hd hD hn hg hcp k1 mg.1 k3
          rw [X3_connect_131, wpE_ifp (by omega)]
          exact nxt _ τ hy x1 x2 x3 x4 kpBs.net mg.2 k3.2
  rw [F_X3_connect, wpE_bd, wp_gQ, hB.1.2.2.2.1, wpE_nn, wpE_ck, and_t (ly_D hD), wpE_bd, x_width hd hD hB.1.1 hg, wpE_lt, wpE_bd, wp_gQ, hB.1.2.2.2.1, wpE_nn, wpE_ck, and_t (ly_D hD), wpE_bd, DI_12 hD (by omega) (by omega), tn, wpE_lt]
  refine key (conL Ms s g) [] _ FU σ rfl ?_ (hB.1.2.1 g hg) hB agr.refl FN.refl (fun _ _ _ _ _ _ _ => rfl) kpBs.refl hlt0 hx0
  by_cases ct : tiG Ms s g
  · rw [conL_ti ct]; show 0 < FU; omega
  · rw [hd.conL_eq hg ct]
    have := List.length_filter_le (isC Ms s g) (List.range (mdC (moI Ms s (coI Ms s g))))
    rw [List.length_range] at this
    have c60 : mdC (moI Ms s (coI Ms s g)) ≤ 60 := (hd.inst (hd.co hg ct).1).2.1.2.2.1
    omega
end
