set_option maxRecDepth 100000
set_option maxHeartbeats 400000
/-! ===== bits: what the making of nodes keeps (pure) ===== -/
section
variable {lv w wa wb : Nat} {B : NB} {x y c o st : Nat → Nat}
theorem smB_go (hw : wfB lv B) (hx : ltA lv B w x) (hy : ltA lv B w y) {k : Nat} (hk : ltB lv B k) : goB lv B (smB lv w x y k o B).2 ∧ ltA lv (smB lv w x y k o B).2 w (smB lv w x y k o B).1 := by
  have := lpB_go (lv := lv) (f := smS lv w x y) (P := fun j s B => (∀ i, i < j → ltB lv B (s.1 i)) ∧ ltB lv B s.2) (n := w) (B0 := B) (fun j s B' hj h0 hP => by
    obtain ⟨hP1, hP2⟩ := hP
    have x1 := h0.lt (hx j hj)
    have y1 := h0.lt (hy j hj)
    have t1 := okB.go (xorB_ok h0.1 x1 y1)
    have r1 := okB.go (xorB_ok t1.1.1 t1.2 (t1.1.lt hP2))
    have g1 := t1.1.trans r1.1
    unfold smS
    by_cases e : j + 1 = w
    · simp only [e, if_true]
      refine ⟨g1, fun i hi => ?_, g1.lt hP2⟩
      show ltB lv _ (ups s.1 j _ i)
      by_cases e2 : i = j
      · subst e2; rw [ups_eq]; exact r1.2
      · rw [ups_ne e2]; exact g1.lt (hP1 i (by omega))
    · simp only [e, if_false]
      have a1 := andB_go r1.1.1 (g1.lt x1) (g1.lt y1)
      have g2 := g1.trans a1.1
      have b1 := andB_go a1.1.1 ((r1.1.trans a1.1).lt t1.2) (g2.lt hP2)
      have g3 := g2.trans b1.1
      have d1 := okB.go (orB_ok b1.1.1 (b1.1.lt a1.2) b1.2)
      have g4 := g3.trans d1.1
      refine ⟨g4, fun i hi => ?_, d1.2⟩
      show ltB lv _ (ups s.1 j _ i)
      by_cases e2 : i = j
      · subst e2; rw [ups_eq]; exact ((a1.1.trans b1.1).trans d1.1).lt r1.2
      · rw [ups_ne e2]; exact g4.lt (hP1 i (by omega))) w 0 (o, k) B (by omega) (goB.refl hw) ⟨fun i hi => absurd hi (Nat.not_lt_zero i), hk⟩
  exact ⟨this.1, this.2.1⟩
theorem rdB1_go {g : Nat → Nat → NB → Nat × NB} {k : Nat} (hw : wfB lv B) (hx : ltA lv B w x) (hk : ltB lv B k) (hg : ∀ s v B', goB lv B B' → ltB lv B' s → ltB lv B' v → goB lv B' (g s v B').2 ∧ ltB lv (g s v B').2 (g s v B').1) : goB lv B (rdB1 g w k x B).2 ∧ ltB lv (rdB1 g w k x B).2 (rdB1 g w k x B).1 :=
  lpB_go (lv := lv) (f := fun j s B => g s (x j) B) (P := fun _ s B => ltB lv B s) (n := w) (B0 := B) (fun j s B' hj h0 hP => hg s (x j) B' h0 hP (h0.lt (hx j hj))) w 0 k B (by omega) (goB.refl hw) hk
theorem cpB_go {op : Nat} (hw : wfB lv B) (hx : ltA lv B w x) (hy : ltA lv B w y) : goB lv B (cpB lv op w x y B).2 ∧ ltB lv (cpB lv op w x y B).2 (cpB lv op w x y B).1 := by
  have := lpB_go (lv := lv) (f := fun j s B => let t := xorB lv (x j) (y j) B; if op = 15 then muxB lv t.1 (y j) s t.2 else andB lv s (ng t.1) t.2) (P := fun _ s B => ltB lv B s) (n := w) (B0 := B) (fun j s B' hj h0 hP => by
    have t1 := okB.go (xorB_ok h0.1 (h0.lt (hx j hj)) (h0.lt (hy j hj)))
    dsimp only
    by_cases e : op = 15
    · rw [if_pos e]
      have m1 := okB.go (muxB_ok t1.1.1 t1.2 (t1.1.lt (h0.lt (hy j hj))) (t1.1.lt hP))
      exact ⟨t1.1.trans m1.1, m1.2⟩
    · rw [if_neg e]
      have m1 := andB_go t1.1.1 (t1.1.lt hP) (ltB_ng t1.2)
      exact ⟨t1.1.trans m1.1, m1.2⟩) w 0 (if op = 15 then 0 else 1) B (by omega) (goB.refl hw) (by
    by_cases e : op = 15
    · rw [if_pos e]; exact ltB0
    · rw [if_neg e]; exact ltB1)
  refine ⟨this.1, ?_⟩
  unfold cpB
  dsimp only
  by_cases e : op = 14
  · rw [if_pos e]; exact ltB_ng this.2
  · rw [if_neg e]; exact this.2
theorem ptB_go {i : Nat} (hw : wfB lv B) (hi : i ≤ w) (hx : ltA lv B w x) (hy : ltB lv B (y i)) : goB lv B (ptB lv w i x y B).2 ∧ ltA lv (ptB lv w i x y B).2 w (ptB lv w i x y B).1 := by
  have := lpB_go (lv := lv) (f := fun k p B => (ups p (k + i) (andB lv (y i) (x k) B).1, (andB lv (y i) (x k) B).2)) (P := fun _ p B => ∀ q, ltB lv B (p q)) (n := w - i) (B0 := B) (fun j p B' hj h0 hP => by
    have a1 := andB_go h0.1 (h0.lt hy) (h0.lt (hx j (by omega)))
    refine ⟨a1.1, fun q => ?_⟩
    show ltB lv _ (ups p (j + i) _ q)
    by_cases e : q = j + i
    · subst e; rw [ups_eq]; exact a1.2
    · rw [ups_ne e]; exact a1.1.lt (hP q)) (w - i) 0 (fun _ => 0) B (by omega) (goB.refl hw) (fun q => ltB0)
  exact ⟨this.1, fun j _ => this.2 j⟩
theorem mlB_go (hw : wfB lv B) (hx : ltA lv B w x) (hy : ltA lv B w y) : goB lv B (mlB lv w x y B).2 ∧ ltA lv (mlB lv w x y B).2 w (mlB lv w x y B).1 :=
  lpB_go (lv := lv) (f := fun i o B => let p := ptB lv w i x y B; smB lv w o p.1 0 o p.2) (P := fun _ o B => ltA lv B w o) (n := w) (B0 := B) (fun j o B' hj h0 hP => by
    have p1 := ptB_go (x := x) (y := y) (i := j) h0.1 (by omega) (h0.la hx) (h0.lt (hy j hj))
    have s1 := smB_go (x := o) (y := (ptB lv w j x y B').1) (o := o) (k := 0) p1.1.1 (p1.1.la hP) p1.2 ltB0
    exact ⟨p1.1.trans s1.1, s1.2⟩) w 0 (fun _ => 0) B (by omega) (goB.refl hw) (fun j _ => ltB0)
theorem sfB_go {op : Nat} (hw : wfB lv B) (hx : ltA lv B w x) (hy : ltA lv B wb y) : goB lv B (sfB lv op w wb x y B).2 ∧ ltA lv (sfB lv op w wb x y B).2 w (sfB lv op w wb x y B).1 :=
  lpB_go (lv := lv) (f := fun s o B => mpB (fun j B => muxB lv (y s) (shL op w s o j) (o j) B) w o B) (P := fun _ o B => ltA lv B w o) (n := wb) (B0 := B) (fun s o B' hs h0 hP => mpB_go (w := w) h0.1 (fun j B2 (hj : j < w) h2 => okB.go (muxB_ok h2.1 (h2.lt (h0.lt (hy s hs))) (h2.lt (by
      unfold shL
      by_cases e : op = 20
      · rw [if_pos e]
        by_cases e2 : j < 2 ^ s
        · rw [if_pos e2]; exact ltB0
        · rw [if_neg e2]; exact hP _ (Nat.lt_of_le_of_lt (Nat.sub_le _ _) hj)
      · rw [if_neg e]
        by_cases e2 : j + 2 ^ s < w
        · rw [if_pos e2]; exact hP _ e2
        · rw [if_neg e2]; exact ltB0)) (h2.lt (hP j hj))))) wb 0 x B (by omega) (goB.refl hw) hx
theorem isB_go {k : Nat} (hw : wfB lv B) (hx : ltA lv B w x) : goB lv B (isB lv w k x B).2 ∧ ltB lv (isB lv w k x B).2 (isB lv w k x B).1 := by
  unfold isB
  by_cases c : k < 2 ^ w
  · rw [if_pos c]
    exact lpB_go (lv := lv) (f := fun j s B => let t := xorB lv (x j) (if k.testBit j = true then 1 else 0) B; andB lv s (ng t.1) t.2) (P := fun _ s B => ltB lv B s) (n := w) (B0 := B) (fun j s B' hj h0 hP => by
      have b1 : ltB lv B' (if k.testBit j = true then 1 else 0) := by
        by_cases e : k.testBit j = true
        · rw [if_pos e]; exact ltB1
        · rw [if_neg e]; exact ltB0
      have t1 := okB.go (xorB_ok h0.1 (h0.lt (hx j hj)) b1)
      have m1 := andB_go t1.1.1 (t1.1.lt hP) (ltB_ng t1.2)
      exact ⟨t1.1.trans m1.1, m1.2⟩) w 0 1 B (by omega) (goB.refl hw) ltB1
  · rw [if_neg c]; exact ⟨goB.refl hw, ltB0⟩
theorem wdB_go {n : Nat} (hw : wfB lv B) (hx : ltA lv B wa x) (hst : ∀ k j, k < n → j < w → ltB lv B (st (w * k + j))) : goB lv B (wdB lv w n wa x st B).2 ∧ ltA lv (wdB lv w n wa x st B).2 w (wdB lv w n wa x st B).1 :=
  lpB_go (lv := lv) (f := fun k o B => let e := isB lv wa k x B; mpB (fun j B => muxB lv e.1 (st (w * k + j)) (o j) B) w o e.2) (P := fun _ o B => ltA lv B w o) (n := n) (B0 := B) (fun k o B' hk h0 hP => by
    have e1 := isB_go (k := k) h0.1 (h0.la hx)
    have m1 := mpB_go (w := w) (o := o) (g := fun j B => muxB lv (isB lv wa k x B').1 (st (w * k + j)) (o j) B) e1.1.1 (fun j B2 hj h2 => okB.go (muxB_ok h2.1 (h2.lt e1.2) (h2.lt (e1.1.lt (h0.lt (hst k j hk hj)))) (h2.lt (e1.1.lt (hP j hj)))))
    exact ⟨e1.1.trans m1.1, m1.2⟩) n 0 (fun _ => 0) B (by omega) (goB.refl hw) (fun j _ => ltB0)
theorem opB_go {op lo : Nat} {a b : Nat → Nat} (hw : wfB lv B) (ha : ltA lv B wa a) (hb : ltA lv B wb b) (hc : op = 19 → ltA lv B w c) (h3 : 3 ≤ op) (e1 : op = 3 ∨ op = 4 ∨ (10 ≤ op ∧ op ≤ 12) ∨ (16 ≤ op ∧ op ≤ 18) ∨ 20 ≤ op → wa = w) (e2 : (10 ≤ op ∧ op ≤ 12) ∨ (16 ≤ op ∧ op ≤ 18) → wb = w) (e3 : 13 ≤ op ∧ op ≤ 15 → wb = wa) (e8 : op = 8 → lo + w ≤ wa) (e9 : op = 9 → w = wa + wb) (e19 : op = 19 → 1 ≤ wa ∧ wb = w) : goB lv B (opB lv op w wa wb lo a b c B).2 ∧ ltA lv (opB lv op w wa wb lo a b c B).2 w (opB lv op w wa wb lo a b c B).1 := by
  unfold opB
  by_cases c3 : op = 3
  · rw [if_pos c3]
    have := e1 (Or.inl c3)
    subst this
    exact ⟨goB.refl hw, fun j hj => ltB_ng (ha j hj)⟩
  rw [if_neg c3]
  by_cases c4 : op = 4
  · rw [if_pos c4]
    have := e1 (Or.inr (Or.inl c4))
    subst this
    exact smB_go hw (fun j _ => ltB0) (fun j hj => ltB_ng (ha j hj)) ltB1
  rw [if_neg c4]
  by_cases c5 : op = 5
  · rw [if_pos c5]
    have := rdB1_go (g := fun s v B => andB lv s v B) (k := 1) hw ha ltB1 (fun s v B' h0 hs hv => andB_go h0.1 hs hv)
    exact ⟨this.1, fun j _ => this.2⟩
  rw [if_neg c5]
  by_cases c6 : op = 6
  · rw [if_pos c6]
    have := rdB1_go (g := fun s v B => orB lv s v B) (k := 0) hw ha ltB0 (fun s v B' h0 hs hv => okB.go (orB_ok h0.1 hs hv))
    exact ⟨this.1, fun j _ => this.2⟩
  rw [if_neg c6]
  by_cases c7 : op = 7
  · rw [if_pos c7]
    have := rdB1_go (g := fun s v B => xorB lv s v B) (k := 0) hw ha ltB0 (fun s v B' h0 hs hv => okB.go (xorB_ok h0.1 hs hv))
    exact ⟨this.1, fun j _ => this.2⟩
  rw [if_neg c7]
  by_cases c8 : op = 8
  · rw [if_pos c8]
    have := e8 c8
    exact ⟨goB.refl hw, fun j hj => ha _ (by omega)⟩
  rw [if_neg c8]
  by_cases c9 : op = 9
  · rw [if_pos c9]
    have := e9 c9
    refine ⟨goB.refl hw, fun j hj => ?_⟩
    dsimp only
    by_cases e : w - wa ≤ j
    · rw [if_pos e]; exact ha _ (by omega)
    · rw [if_neg e]; exact hb _ (by omega)
  rw [if_neg c9]
  by_cases c10 : op = 10
  · rw [if_pos c10]
    have h1 := e1 (by omega)
    have h2 := e2 (by omega)
    subst h1
    exact mpB_go hw (fun j B' hj h0 => okB.go (orB_ok h0.1 (h0.lt (ha j hj)) (h0.lt (hb j (by omega)))))
  rw [if_neg c10]
  by_cases c11 : op = 11
  · rw [if_pos c11]
    have h1 := e1 (by omega)
    have h2 := e2 (by omega)
    subst h1
    exact mpB_go hw (fun j B' hj h0 => okB.go (xorB_ok h0.1 (h0.lt (ha j hj)) (h0.lt (hb j (by omega)))))
  rw [if_neg c11]
  by_cases c12 : op = 12
  · rw [if_pos c12]
    have h1 := e1 (by omega)
    have h2 := e2 (by omega)
    subst h1
    exact mpB_go hw (fun j B' hj h0 => andB_go h0.1 (h0.lt (ha j hj)) (h0.lt (hb j (by omega))))
  rw [if_neg c12]
  by_cases c13 : op = 13 ∨ op = 14 ∨ op = 15
  · rw [if_pos c13]
    have h3 := e3 (by omega)
    have := cpB_go (op := op) hw ha (fun j hj => hb j (by omega))
    exact ⟨this.1, fun j _ => this.2⟩
  rw [if_neg c13]
  by_cases c16 : op = 16
  · rw [if_pos c16]
    have h1 := e1 (by omega)
    have h2 := e2 (by omega)
    subst h1
    exact smB_go hw ha (fun j hj => hb j (by omega)) ltB0
  rw [if_neg c16]
  by_cases c17 : op = 17
  · rw [if_pos c17]
    have h1 := e1 (by omega)
    have h2 := e2 (by omega)
    subst h1
    exact smB_go hw ha (fun j hj => ltB_ng (hb j (by omega))) ltB1
  rw [if_neg c17]
  by_cases c18 : op = 18
  · rw [if_pos c18]
    have h1 := e1 (by omega)
    have h2 := e2 (by omega)
    subst h1
    exact mlB_go hw ha (fun j hj => hb j (by omega))
  rw [if_neg c18]
  by_cases c19 : op = 19
  · rw [if_pos c19]
    obtain ⟨h1, h2⟩ := e19 c19
    have hc' := hc c19
    exact mpB_go hw (fun j B' hj h0 => okB.go (muxB_ok h0.1 (h0.lt (ha 0 (by omega))) (h0.lt (hb j (by omega))) (h0.lt (hc' j hj))))
  rw [if_neg c19]
  by_cases c20 : 20 ≤ op
  · have h1 := e1 (by omega)
    subst h1
    exact sfB_go hw ha hb
  · have z : op ≤ 2 := by omega
    omega
end
