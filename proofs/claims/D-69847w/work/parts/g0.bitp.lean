set_option maxRecDepth 100000
set_option maxHeartbeats 400000
/-! ===== bits: what a node makes of literals (pure) ===== -/
/-- k turns, from j -/
def lpB {α : Type} (f : Nat → α → NB → α × NB) : Nat → Nat → α → NB → α × NB
  | 0, _, x, B => (x, B)
  | k + 1, j, x, B => lpB f k (j + 1) (f j x B).1 (f j x B).2
theorem lpB_up {α : Type} {f : Nat → α → NB → α × NB} {k j : Nat} {x : α} {B : NB} : lpB f (k + 1) j x B = lpB f k (j + 1) (f j x B).1 (f j x B).2 := rfl
/-- a literal a bit -/
def mpB (g : Nat → NB → Nat × NB) (w : Nat) (o : Nat → Nat) (B : NB) : (Nat → Nat) × NB := lpB (fun j o B => (ups o j (g j B).1, (g j B).2)) w 0 o B
/-- x + y + carry c, w bits -/
noncomputable def smS (lv w : Nat) (x y : Nat → Nat) (j : Nat) (s : (Nat → Nat) × Nat) (B : NB) : ((Nat → Nat) × Nat) × NB :=
  let t := xorB lv (x j) (y j) B
  let r := xorB lv t.1 s.2 t.2
  if j + 1 = w then ((ups s.1 j r.1, s.2), r.2)
  else
    let a := andB lv (x j) (y j) r.2
    let b := andB lv t.1 s.2 a.2
    let d := orB lv a.1 b.1 b.2
    ((ups s.1 j r.1, d.1), d.2)
noncomputable def smB (lv w : Nat) (x y : Nat → Nat) (c : Nat) (o : Nat → Nat) (B : NB) : (Nat → Nat) × NB := ((lpB (smS lv w x y) w 0 (o, c) B).1.1, (lpB (smS lv w x y) w 0 (o, c) B).2)
/-- all bits, from a start -/
noncomputable def rdB1 (g : Nat → Nat → NB → Nat × NB) (w c : Nat) (x : Nat → Nat) (B : NB) : Nat × NB := lpB (fun j s B => g s (x j) B) w 0 c B
/-- compared -/
noncomputable def cpB (lv op w : Nat) (x y : Nat → Nat) (B : NB) : Nat × NB :=
  let r := lpB (fun j s B => let t := xorB lv (x j) (y j) B; if op = 15 then muxB lv t.1 (y j) s t.2 else andB lv s (ng t.1) t.2) w 0 (if op = 15 then 0 else 1) B
  (if op = 14 then ng r.1 else r.1, r.2)
/-- a partial product -/
noncomputable def ptB (lv w i : Nat) (x y : Nat → Nat) (B : NB) : (Nat → Nat) × NB := lpB (fun k p B => (ups p (k + i) (andB lv (y i) (x k) B).1, (andB lv (y i) (x k) B).2)) (w - i) 0 (fun _ => 0) B
noncomputable def mlB (lv w : Nat) (x y : Nat → Nat) (B : NB) : (Nat → Nat) × NB := lpB (fun i o B => let p := ptB lv w i x y B; smB lv w o p.1 0 o p.2) w 0 (fun _ => 0) B
/-- shifted by one bit of the second -/
def shL (op w s : Nat) (p : Nat → Nat) (j : Nat) : Nat := if op = 20 then (if j < 2 ^ s then 0 else p (j - 2 ^ s)) else if j + 2 ^ s < w then p (j + 2 ^ s) else 0
noncomputable def sfB (lv op w wb : Nat) (x y : Nat → Nat) (B : NB) : (Nat → Nat) × NB := lpB (fun s o B => mpB (fun j B => muxB lv (y s) (shL op w s o j) (o j) B) w o B) wb 0 x B
/-- whether an address is a number -/
noncomputable def isB (lv w k : Nat) (x : Nat → Nat) (B : NB) : Nat × NB := if k < 2 ^ w then lpB (fun j s B => let t := xorB lv (x j) (if k.testBit j = true then 1 else 0) B; andB lv s (ng t.1) t.2) w 0 1 B else (0, B)
/-- a word of a mem: state literals st -/
noncomputable def wdB (lv w n wa : Nat) (x st : Nat → Nat) (B : NB) : (Nat → Nat) × NB := lpB (fun k o B => let e := isB lv wa k x B; mpB (fun j B => muxB lv e.1 (st (w * k + j)) (o j) B) w o e.2) n 0 (fun _ => 0) B
/-- what a node makes of literals -/
noncomputable def opB (lv op w wa wb lo : Nat) (a b c : Nat → Nat) (B : NB) : (Nat → Nat) × NB :=
  if op = 3 then (fun j => ng (a j), B)
  else if op = 4 then smB lv w (fun _ => 0) (fun j => ng (a j)) 1 (fun _ => 0) B
  else if op = 5 then (fun _ => (rdB1 (fun s v B => andB lv s v B) wa 1 a B).1, (rdB1 (fun s v B => andB lv s v B) wa 1 a B).2)
  else if op = 6 then (fun _ => (rdB1 (fun s v B => orB lv s v B) wa 0 a B).1, (rdB1 (fun s v B => orB lv s v B) wa 0 a B).2)
  else if op = 7 then (fun _ => (rdB1 (fun s v B => xorB lv s v B) wa 0 a B).1, (rdB1 (fun s v B => xorB lv s v B) wa 0 a B).2)
  else if op = 8 then (fun j => a (lo + j), B)
  else if op = 9 then (fun j => if w - wa ≤ j then a (j - (w - wa)) else b j, B)
  else if op = 10 then mpB (fun j B => orB lv (a j) (b j) B) w (fun _ => 0) B
  else if op = 11 then mpB (fun j B => xorB lv (a j) (b j) B) w (fun _ => 0) B
  else if op = 12 then mpB (fun j B => andB lv (a j) (b j) B) w (fun _ => 0) B
  else if op = 13 ∨ op = 14 ∨ op = 15 then (fun _ => (cpB lv op wa a b B).1, (cpB lv op wa a b B).2)
  else if op = 16 then smB lv w a b 0 (fun _ => 0) B
  else if op = 17 then smB lv w a (fun j => ng (b j)) 1 (fun _ => 0) B
  else if op = 18 then mlB lv w a b B
  else if op = 19 then mpB (fun j B => muxB lv (a 0) (b j) (c j) B) w (fun _ => 0) B
  else sfB lv op w wb a b B
/-- what a part of the making keeps -/
def goB (lv : Nat) (B B' : NB) : Prop := wfB lv B' ∧ B.1 ≤ B'.1 ∧ (B.2.2.2 = true → B'.2.2.2 = true)
def ltA (lv : Nat) (B : NB) (w : Nat) (o : Nat → Nat) : Prop := ∀ j, j < w → ltB lv B (o j)
section
variable {lv w : Nat} {B B' B'' : NB}
theorem goB.refl (h : wfB lv B) : goB lv B B := ⟨h, Nat.le_refl _, id⟩
theorem goB.trans (h : goB lv B B') (h' : goB lv B' B'') : goB lv B B'' := ⟨h'.1, Nat.le_trans h.2.1 h'.2.1, fun q => h'.2.2 (h.2.2 q)⟩
theorem goB.lt (h : goB lv B B') {x : Nat} (hx : ltB lv B x) : ltB lv B' x := ltB_mono hx h.2.1
theorem goB.la (h : goB lv B B') {o : Nat → Nat} (ho : ltA lv B w o) : ltA lv B' w o := fun j hj => h.lt (ho j hj)
theorem okB.go {R : Nat × NB} (h : okB lv B R) : goB lv B R.2 ∧ ltB lv R.2 R.1 := ⟨⟨h.1, h.2.2.1, h.2.2.2⟩, h.2.1⟩
theorem andB_go {a b : Nat} (hw : wfB lv B) (ha : ltB lv B a) (hb : ltB lv B b) : goB lv B (andB lv a b B).2 ∧ ltB lv (andB lv a b B).2 (andB lv a b B).1 := by
  obtain ⟨h1, h2, h3, h4⟩ := andB_ok hw ha hb
  exact ⟨⟨h1, h3, h4⟩, h2⟩
theorem ltB0 : ltB lv B 0 := by unfold ltB; omega
theorem ltB1 : ltB lv B 1 := by unfold ltB; omega
/-- turns keep what one turn keeps -/
theorem lpB_go {α : Type} {f : Nat → α → NB → α × NB} {P : Nat → α → NB → Prop} {n : Nat} {B0 : NB} (step : ∀ j x B, j < n → goB lv B0 B → P j x B → goB lv B (f j x B).2 ∧ P (j + 1) (f j x B).1 (f j x B).2) : ∀ k j x B, j + k = n → goB lv B0 B → P j x B → goB lv B (lpB f k j x B).2 ∧ P n (lpB f k j x B).1 (lpB f k j x B).2 := by
  intro k
  induction k with
  | zero =>
    intro j x B hj h0 hP
    have : j = n := by omega
    subst this
    exact ⟨goB.refl h0.1, hP⟩
  | succ k ih =>
    intro j x B hj h0 hP
    obtain ⟨q1, q2⟩ := step j x B (by omega) h0 hP
    obtain ⟨q3, q4⟩ := ih (j + 1) _ _ (by omega) (h0.trans q1) q2
    rw [lpB_up]
    exact ⟨q1.trans q3, q4⟩
theorem mpB_go {g : Nat → NB → Nat × NB} {o : Nat → Nat} (hw : wfB lv B) (hg : ∀ j B', j < w → goB lv B B' → goB lv B' (g j B').2 ∧ ltB lv (g j B').2 (g j B').1) : goB lv B (mpB g w o B).2 ∧ ltA lv (mpB g w o B).2 w (mpB g w o B).1 := by
  have := lpB_go (lv := lv) (f := fun j o B => (ups o j (g j B).1, (g j B).2)) (P := fun j o B => ∀ i, i < j → ltB lv B (o i)) (n := w) (B0 := B) (fun j o B' hj h0 hP => by
    obtain ⟨q1, q2⟩ := hg j B' hj h0
    refine ⟨q1, fun i hi => ?_⟩
    show ltB lv _ (ups o j _ i)
    by_cases e : i = j
    · subst e; rw [ups_eq]; exact q2
    · rw [ups_ne e]; exact q1.lt (hP i (by omega))) w 0 o B (by omega) (goB.refl hw) (fun i hi => absurd hi (Nat.not_lt_zero i))
  exact this
end
