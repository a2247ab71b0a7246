set_option maxRecDepth 100000
set_option maxHeartbeats 400000
/-! ===== bits: what the making of a net keeps, up to signals (pure) ===== -/
section
variable {Ms : Nat → ModV} {top : Nat} {s : LYS} {mk : Nat → BST → BST}
theorem rgB_go (hd : DP Ms top s) (hmk : ∀ h st, h < lsG s → wfS Ms s st → goS Ms s st (mk h st)) {i a : Nat} (hi : i < lsI s) : ∀ k n x, (∀ m, n ≤ m → m < n + k → m < mdN (moI Ms s i) ∧ a ≤ gF (gI' Ms s i) m) → vOK Ms s i a n x → goS Ms s x.2 (rgB Ms s mk i k n x).2 ∧ vOK Ms s i a (n + k) (rgB Ms s mk i k n x) := by
  intro k
  induction k with
  | zero => intro n x _ h; exact ⟨goS.refl h.1, h⟩
  | succ k ih =>
    intro n x hm h
    obtain ⟨m1, m2⟩ := hm n (Nat.le_refl _) (by omega)
    obtain ⟨q1, q2⟩ := ndB_go hd hmk hi m1 m2 h
    obtain ⟨q3, q4⟩ := ih (n + 1) _ (fun m h1 h2 => hm m (by omega) (by omega)) q2
    refine ⟨q1.trans q3, ?_⟩
    have e : n + 1 + k = n + (k + 1) := by omega
    rw [e] at q4
    exact q4
theorem rngB_go (hd : DP Ms top s) (hmk : ∀ h st, h < lsG s → wfS Ms s st → goS Ms s st (mk h st)) {i u : Nat} (hi : i < lsI s) (hu : u < mdN (moI Ms s i)) {st : BST} (h : wfS Ms s st) : goS Ms s st (rngB Ms s mk i u st).2 ∧ ltA (lvD Ms s) (rngB Ms s mk i u st).2.1 (gW (gI' Ms s i) u) (rngB Ms s mk i u st).1 := by
  have fu := (hd.nod hi hu).1.2.2.2
  obtain ⟨q1, q2, q3⟩ := rgB_go hd hmk (a := gF (gI' Ms s i) u) hi (u + 1 - gF (gI' Ms s i) u) (gF (gI' Ms s i) u) (fun _ _ => 0, st) (fun m h1 h2 => ⟨by omega, hd.nest hi u hu m h1 (by omega)⟩) ⟨h, fun m h1 h2 => by omega⟩
  exact ⟨q1, q3 u fu (by omega)⟩
theorem whB_go (hd : DP Ms top s) (hmk : ∀ h st, h < lsG s → wfS Ms s st → goS Ms s st (mk h st)) {i : Nat} (hi : i < lsI s) : ∀ (L : List (Nat × Bool)) (st : BST), (∀ q, q ∈ L → q.1 < mdN (moI Ms s i) ∧ gW (gI' Ms s i) q.1 = 1) → wfS Ms s st → goS Ms s st (whB Ms s mk i L st).2 ∧ ltB (lvD Ms s) (whB Ms s mk i L st).2.1 (whB Ms s mk i L st).1
  | [], st, _, h => ⟨goS.refl h, ltB1⟩
  | q :: L, st, hL, h => by
    obtain ⟨a1, a2⟩ := whB_go hd hmk hi L st (fun z hz => hL z (List.mem_cons_of_mem _ hz)) h
    obtain ⟨w1, w2⟩ := hL q List.mem_cons_self
    obtain ⟨b1, b2⟩ := rngB_go hd hmk hi w1 a1.2
    have b3 := b2 0 (by omega)
    have b4 : ltB (lvD Ms s) (rngB Ms s mk i q.1 (whB Ms s mk i L st).2).2.1 (if q.2 = true then ng ((rngB Ms s mk i q.1 (whB Ms s mk i L st).2).1 0) else (rngB Ms s mk i q.1 (whB Ms s mk i L st).2).1 0) := by
      split
      · exact ltB_ng b3
      · exact b3
    have c1 := andB_go b1.2.1 (b1.1.lt a2) b4
    exact ⟨(a1.trans b1).trans (b1.2.net c1.1), c1.2⟩
theorem cnB_go (hd : DP Ms top s) (hch : chOK Ms s) (hmk : ∀ h st, h < lsG s → wfS Ms s st → goS Ms s st (mk h st)) {g c : Nat} (hg : g < lsG s) (hc : c ∈ conL Ms s g) {x : (Nat → Nat) × BST} (h : wfS Ms s x.2) (ha : ltA (lvD Ms s) x.2.1 (wdS Ms s g) x.1) : goS Ms s x.2 (cnB Ms s mk g c x).2 ∧ ltA (lvD Ms s) (cnB Ms s mk g c x).2.1 (wdS Ms s g) (cnB Ms s mk g c x).1 := by
  obtain ⟨y1, y2, y3, -⟩ := hd.conL_mem hg hc
  obtain ⟨a1, a2⟩ := whB_go hd hmk y2 (mdCh (moI Ms s (coI Ms s g)) c) x.2 (fun q hq => hch _ _ y2 y3 q hq) h
  obtain ⟨b1, b2⟩ := rngB_go hd hmk y2 (hd.root y2 y3) a1.2
  have ew := (hd.cw hg hc).1
  rw [ew] at b2
  unfold cnB
  dsimp only
  by_cases e : mdCh (moI Ms s (coI Ms s g)) c = []
  · rw [if_pos e]; exact ⟨a1.trans b1, b2⟩
  · rw [if_neg e]
    have m1 := mpB_go (w := wdS Ms s g) (o := x.1) (g := fun j B => muxB (lvD Ms s) (whB Ms s mk (coI Ms s g) (mdCh (moI Ms s (coI Ms s g)) c) x.2).1 ((rngB Ms s mk (coI Ms s g) (mdVl (moI Ms s (coI Ms s g)) c) (whB Ms s mk (coI Ms s g) (mdCh (moI Ms s (coI Ms s g)) c) x.2).2).1 j) (x.1 j) B) b1.2.1 (fun j B2 hj h2 => okB.go (muxB_ok h2.1 (h2.lt (b1.1.lt a2)) (h2.lt (b2 j hj)) (h2.lt ((a1.trans b1).1.lt (ha j hj)))))
    exact ⟨(a1.trans b1).trans (b1.2.net m1.1), m1.2⟩
theorem csB_go (hd : DP Ms top s) (hch : chOK Ms s) (hmk : ∀ h st, h < lsG s → wfS Ms s st → goS Ms s st (mk h st)) {g : Nat} (hg : g < lsG s) : ∀ (L : List Nat) (x : (Nat → Nat) × BST), (∀ c, c ∈ L → c ∈ conL Ms s g) → wfS Ms s x.2 → ltA (lvD Ms s) x.2.1 (wdS Ms s g) x.1 → goS Ms s x.2 (csB Ms s mk g L x).2 ∧ ltA (lvD Ms s) (csB Ms s mk g L x).2.1 (wdS Ms s g) (csB Ms s mk g L x).1
  | [], x, _, h, ha => ⟨goS.refl h, ha⟩
  | c :: L, x, hL, h, ha => by
    obtain ⟨a1, a2⟩ := cnB_go hd hch hmk hg (hL c List.mem_cons_self) h ha
    obtain ⟨b1, b2⟩ := csB_go hd hch hmk hg L _ (fun z hz => hL z (List.mem_cons_of_mem _ hz)) a1.2 a2
    exact ⟨a1.trans b1, b2⟩
theorem mkB_go (hd : DP Ms top s) (hch : chOK Ms s) : ∀ R g st, g < lsG s → wfS Ms s st → goS Ms s st (mkB Ms s R g st)
  | 0, g, st, _, h => goS.refl h
  | R + 1, g, st, hg, h => by
    have ih : ∀ h st, h < lsG s → wfS Ms s st → goS Ms s st (mkB Ms s R h st) := fun k st => mkB_go hd hch R k st
    show goS Ms s st (if st.2.1 g = true then st else _)
    by_cases c : st.2.1 g = true
    · rw [if_pos c]; exact goS.refl h
    · rw [if_neg c]
      have h' : wfS Ms s (st.1, ups st.2.1 g true, st.2.2) := h
      obtain ⟨a1, a2⟩ := csB_go hd hch ih hg (conL Ms s g) (fun _ => 0, st.1, ups st.2.1 g true, st.2.2) (fun c hc => hc) h' (fun j _ => ltB0)
      refine ⟨a1.1, a1.2.1, fun k j hk hs hj => ?_⟩
      show ltB _ _ ((ups (α := Nat → Nat) _ g _ k) j)
      by_cases e : k = g
      · subst e; rw [ups_eq]; exact a2 j hj
      · rw [ups_ne e]; exact a1.2.2 k j hk hs hj
end
