set_option maxRecDepth 100000
set_option maxHeartbeats 400000
/-! ===== designs: modules side by side (pure) ===== -/
/-- insts, signals; of insts: module, the one around, the thing there, depth; places of things (by 40 * inst + thing); of signals: inst, thing -/
abbrev LYS : Type := (Nat × Nat) × ((Nat → Nat) × (Nat → Int) × (Nat → Int) × (Nat → Nat)) × (Nat → Nat) × ((Nat → Nat) × (Nat → Nat))
def lsI (s : LYS) : Nat := s.1.1
def lsG (s : LYS) : Nat := s.1.2
def lsM (s : LYS) : Nat → Nat := s.2.1.1
def lsP (s : LYS) : Nat → Int := s.2.1.2.1
def lsT (s : LYS) : Nat → Int := s.2.1.2.2.1
def lsD (s : LYS) : Nat → Nat := s.2.1.2.2.2
def lsL (s : LYS) : Nat → Nat := s.2.2.1
def lsi (s : LYS) : Nat → Nat := s.2.2.2.1
def lsth (s : LYS) : Nat → Nat := s.2.2.2.2
def lsNew (s : LYS) (m : Nat) (p t : Int) (d : Nat) : LYS := ((lsI s + 1, lsG s), (ups (lsM s) (lsI s) m, ups (lsP s) (lsI s) p, ups (lsT s) (lsI s) t, ups (lsD s) (lsI s) d), lsL s, (lsi s, lsth s))
def lsPut (s : LYS) (k v : Nat) : LYS := ((lsI s, lsG s), (lsM s, lsP s, lsT s, lsD s), ups (lsL s) k v, (lsi s, lsth s))
def lsSig (s : LYS) (i t : Nat) : LYS := ((lsI s, lsG s + 1), (lsM s, lsP s, lsT s, lsD s), ups (lsL s) (40 * i + t) (lsG s), (ups (lsi s) (lsG s) i, ups (lsth s) (lsG s) t))
/-- the things of an inst, from one on -/
def layT (rec : LYS → Nat → Int → Int → Nat → Option LYS) (M : ModV) (i d : Nat) : Nat → Nat → LYS → Option LYS
  | 0, _, s => some s
  | k + 1, t, s => if mdkd M t = 5 then (match rec (lsPut s (40 * i + t) (lsI s)) (mdpt M t) (i : Int) (t : Int) (d + 1) with | none => none | some s' => layT rec M i d k (t + 1) s') else if lsG s = 200 then none else layT rec M i d k (t + 1) (lsSig s i t)
def layF (Ms : Nat → ModV) : Nat → LYS → Nat → Int → Int → Nat → Option LYS
  | 0, _, _, _, _, _ => none
  | f + 1, s, m, p, t, d => if 100 < lsI s then none else layT (layF Ms f) (Ms m) (lsI s) d (mdT (Ms m)) 0 (lsNew s m p t d)
def ls0 : LYS := ((0, 0), (fun _ => 0, fun _ => 0, fun _ => 0, fun _ => 0), fun _ => 0, (fun _ => 0, fun _ => 0))
/-- a thing has its place -/
def plOK (Ms : Nat → ModV) (s : LYS) (x y : Nat) : Prop := (mdkd (Ms (lsM s x)) y = 5 → x < lsL s (40 * x + y) ∧ lsL s (40 * x + y) < lsI s ∧ lsP s (lsL s (40 * x + y)) = (x : Int) ∧ lsT s (lsL s (40 * x + y)) = (y : Int) ∧ lsM s (lsL s (40 * x + y)) = mdpt (Ms (lsM s x)) y ∧ lsD s (lsL s (40 * x + y)) = lsD s x + 1) ∧ (mdkd (Ms (lsM s x)) y ≠ 5 → lsL s (40 * x + y) < lsG s ∧ lsi s (lsL s (40 * x + y)) = x ∧ lsth s (lsL s (40 * x + y)) = y)
def sgOK (Ms : Nat → ModV) (s : LYS) (g : Nat) : Prop := lsi s g < lsI s ∧ lsth s g < mdT (Ms (lsM s (lsi s g))) ∧ mdkd (Ms (lsM s (lsi s g))) (lsth s g) ≠ 5 ∧ lsL s (40 * lsi s g + lsth s g) = g
def inOK (Ms : Nat → ModV) (s : LYS) (lo i t j : Nat) : Prop := ∃ x y, lo ≤ x ∧ x < j ∧ y < mdT (Ms (lsM s x)) ∧ mdkd (Ms (lsM s x)) y = 5 ∧ lsP s j = (x : Int) ∧ lsT s j = (y : Int) ∧ lsL s (40 * x + y) = j ∧ lsM s j = mdpt (Ms (lsM s x)) y ∧ (x = i → y < t)
/-- what stood before stands -/
def lsE (s s' : LYS) : Prop := (lsI s ≤ lsI s' ∧ lsG s ≤ lsG s') ∧ (∀ x, x < lsI s → lsM s' x = lsM s x ∧ lsP s' x = lsP s x ∧ lsT s' x = lsT s x ∧ lsD s' x = lsD s x) ∧ (∀ k, k < 40 * lsI s → lsL s' k = lsL s k) ∧ ∀ g, g < lsG s → lsi s' g = lsi s g ∧ lsth s' g = lsth s g
theorem lsE.refl {s : LYS} : lsE s s := ⟨⟨Nat.le_refl _, Nat.le_refl _⟩, fun _ _ => ⟨rfl, rfl, rfl, rfl⟩, fun _ _ => rfl, fun _ _ => ⟨rfl, rfl⟩⟩
theorem lsE.trans {s s' s'' : LYS} (h : lsE s s') (h' : lsE s' s'') : lsE s s'' := by
  obtain ⟨⟨a1, a2⟩, a3, a4, a5⟩ := h
  obtain ⟨⟨b1, b2⟩, b3, b4, b5⟩ := h'
  refine ⟨⟨by omega, by omega⟩, fun x hx => ?_, fun k hk => ?_, fun g hg => ?_⟩
  · obtain ⟨c1, c2, c3, c4⟩ := a3 x hx
    obtain ⟨d1, d2, d3, d4⟩ := b3 x (by omega)
    exact ⟨d1.trans c1, d2.trans c2, d3.trans c3, d4.trans c4⟩
  · exact (b4 k (by omega)).trans (a4 k hk)
  · exact ⟨(b5 g (by omega)).1.trans (a5 g hg).1, (b5 g (by omega)).2.trans (a5 g hg).2⟩
section
variable {K : Nat} {Ms : Nat → ModV} {s s' : LYS}
/-- later additions keep a place; the inst at x may not be the one at work unless its cell is kept too -/
theorem plOK.ext {x y : Nat} (h : plOK Ms s x y) (hx : x < lsI s) (hM : lsM s' x = lsM s x) (hI : lsI s ≤ lsI s') (hG : lsG s ≤ lsG s') (hL : lsL s' (40 * x + y) = lsL s (40 * x + y)) (hi : ∀ j, j < lsI s → lsM s' j = lsM s j ∧ lsP s' j = lsP s j ∧ lsT s' j = lsT s j ∧ lsD s' j = lsD s j) (hg : ∀ g, g < lsG s → lsi s' g = lsi s g ∧ lsth s' g = lsth s g) : plOK Ms s' x y := by
  obtain ⟨h1, h2⟩ := h
  unfold plOK
  rw [hM, hL]
  refine ⟨fun e => ?_, fun e => ?_⟩
  · obtain ⟨a1, a2, a3, a4, a5, a6⟩ := h1 e
    obtain ⟨b1, b2, b3, b4⟩ := hi _ a2
    rw [b1, b2, b3, b4, (hi x hx).2.2.2]
    exact ⟨a1, by omega, a3, a4, a5, a6⟩
  · obtain ⟨a1, a2, a3⟩ := h2 e
    rw [(hg _ a1).1, (hg _ a1).2]
    exact ⟨by omega, a2, a3⟩
theorem sgOK.ext {g : Nat} (h : sgOK Ms s g) (hM : ∀ j, j < lsI s → lsM s' j = lsM s j) (hI : lsI s ≤ lsI s') (hg : lsi s' g = lsi s g ∧ lsth s' g = lsth s g) (hL : lsL s' (40 * lsi s g + lsth s g) = lsL s (40 * lsi s g + lsth s g)) : sgOK Ms s' g := by
  obtain ⟨a1, a2, a3, a4⟩ := h
  unfold sgOK
  rw [hg.1, hg.2, hM _ a1, hL]
  exact ⟨by omega, a2, a3, a4⟩
theorem inOK.ext {lo i t t' j : Nat} (h : inOK Ms s lo i t j) (hj : j < lsI s) (ht : t ≤ t') (hi : ∀ j, j < lsI s → lsM s' j = lsM s j ∧ lsP s' j = lsP s j ∧ lsT s' j = lsT s j) (hL : ∀ x y, x < lsI s → y < mdT (Ms (lsM s x)) → (x = i → y < t) → lsL s' (40 * x + y) = lsL s (40 * x + y)) : inOK Ms s' lo i t' j := by
  obtain ⟨x, y, a1, a2, a3, a4, a5, a6, a7, a8, a9⟩ := h
  obtain ⟨b1, b2, b3⟩ := hi j hj
  have bx := (hi x (by omega)).1
  refine ⟨x, y, a1, a2, by rw [bx]; exact a3, by rw [bx]; exact a4, by rw [b2]; exact a5, by rw [b3]; exact a6, by rw [hL x y (by omega) a3 a9]; exact a7, by rw [b1, bx]; exact a8, fun e => by have := a9 e; omega⟩
/-- while the things of inst i are placed -/
def lsW (Ms : Nat → ModV) (s0 : LYS) (m : Nat) (p t0 : Int) (d : Nat) (t : Nat) (s : LYS) : Prop := lsE s0 s ∧ lsI s0 < lsI s ∧ (lsI s ≤ 101 ∧ lsG s ≤ 200) ∧ (lsM s (lsI s0) = m ∧ lsP s (lsI s0) = p ∧ lsT s (lsI s0) = t0 ∧ lsD s (lsI s0) = d) ∧ ((∀ y, y < t → plOK Ms s (lsI s0) y) ∧ ∀ x, lsI s0 < x → x < lsI s → lsM s x ≤ m ∧ ∀ y, y < mdT (Ms (lsM s x)) → plOK Ms s x y) ∧ (∀ g, lsG s0 ≤ g → g < lsG s → lsI s0 ≤ lsi s g ∧ sgOK Ms s g ∧ (lsi s g = lsI s0 → lsth s g < t)) ∧ ∀ j, lsI s0 < j → j < lsI s → inOK Ms s (lsI s0) (lsI s0) t j
/-- behind a call: all new insts and signals are in order -/
def lsN (Ms : Nat → ModV) (s : LYS) (m : Nat) (p t : Int) (d : Nat) (s' : LYS) : Prop := lsW Ms s m p t d (mdT (Ms m)) s'
theorem layT_ok {rec : LYS → Nat → Int → Int → Nat → Option LYS} {s0 : LYS} {m d : Nat} {p t0 : Int} (h40 : ∀ m, mdT (Ms m) ≤ 40) (hpt : ∀ t, t < mdT (Ms m) → mdkd (Ms m) t = 5 → mdpt (Ms m) t < m) (hrec : ∀ s m' p' t' d' s', m' < m → lsI s ≤ 101 → lsG s ≤ 200 → rec s m' p' t' d' = some s' → lsN Ms s m' p' t' d' s') : ∀ k t s s', t + k = mdT (Ms m) → lsW Ms s0 m p t0 d t s → layT rec (Ms m) (lsI s0) d k t s = some s' → lsW Ms s0 m p t0 d (mdT (Ms m)) s' := by
  intro k
  induction k with
  | zero =>
    intro t s s' hk hw he
    have e : s = s' := Option.some.inj he
    subst e
    have : t = mdT (Ms m) := by omega
    subst this
    exact hw
  | succ k ih =>
    intro t s s' hk hw he
    obtain ⟨w1, w2, ⟨w3, w3'⟩, ⟨w4, w5, w6, w7⟩, ⟨w8, w9⟩, w10, w11⟩ := id hw
    have hm40 := h40 m
    rw [layT] at he
    by_cases c : mdkd (Ms m) t = 5
    · rw [if_pos c] at he
      cases hr : rec (lsPut s (40 * lsI s0 + t) (lsI s)) (mdpt (Ms m) t) (lsI s0 : Int) (t : Int) (d + 1) with
      | none => rw [hr] at he; cases he
      | some s1 =>
        rw [hr] at he
        dsimp only at he
        have hn := hrec _ _ _ _ _ _ (hpt t (by omega) c) (show lsI (lsPut s (40 * lsI s0 + t) (lsI s)) ≤ 101 from w3) (show lsG (lsPut s (40 * lsI s0 + t) (lsI s)) ≤ 200 from w3') hr
        obtain ⟨n1, n2, n3, ⟨n4, n5, n6, n7⟩, ⟨n8, n8'⟩, n9, n10⟩ := hn
        obtain ⟨⟨e1, e2⟩, e3, e4, e5⟩ := n1
        have eI : lsI (lsPut s (40 * lsI s0 + t) (lsI s)) = lsI s := rfl
        have eG : lsG (lsPut s (40 * lsI s0 + t) (lsI s)) = lsG s := rfl
        rw [eI] at e1 n2 n4 n5 n6 n7 n8 n8' n9 n10 e3 e4
        rw [eG] at e2 n9 e5
        have hp := hpt t (by omega) c
        have f3 : ∀ x, x < lsI s → lsM s1 x = lsM s x ∧ lsP s1 x = lsP s x ∧ lsT s1 x = lsT s x ∧ lsD s1 x = lsD s x := e3
        have f5 : ∀ g, g < lsG s → lsi s1 g = lsi s g ∧ lsth s1 g = lsth s g := e5
        have f4 : ∀ k, k < 40 * lsI s → k ≠ 40 * lsI s0 + t → lsL s1 k = lsL s k := fun k hk' hne => by
          rw [e4 k hk']
          show ups (lsL s) (40 * lsI s0 + t) (lsI s) k = _
          rw [ups_ne hne]
        have f4' : lsL s1 (40 * lsI s0 + t) = lsI s := by
          rw [e4 _ (by omega)]
          show ups (lsL s) (40 * lsI s0 + t) (lsI s) _ = _
          rw [ups_eq]
        obtain ⟨⟨g1, g2⟩, g3, g4, g5⟩ := w1
        refine ih (t + 1) s1 s' (by omega) ⟨⟨⟨by omega, by omega⟩, fun x hx => ?_, fun k' hk' => ?_, fun g hg => ?_⟩, by omega, n3, ?_, ⟨fun y hy => ?_, fun x h1 h2 => ?_⟩, fun g h1 h2 => ?_, fun j h1 h2 => ?_⟩ he
        · obtain ⟨a1, a2, a3, a4⟩ := f3 x (by omega)
          obtain ⟨b1, b2, b3, b4⟩ := g3 x hx
          exact ⟨a1.trans b1, a2.trans b2, a3.trans b3, a4.trans b4⟩
        · rw [f4 k' (by omega) (by omega)]; exact g4 k' hk'
        · exact ⟨(f5 g (by omega)).1.trans (g5 g hg).1, (f5 g (by omega)).2.trans (g5 g hg).2⟩
        · obtain ⟨a1, a2, a3, a4⟩ := f3 (lsI s0) w2
          exact ⟨a1.trans w4, a2.trans w5, a3.trans w6, a4.trans w7⟩
        · by_cases e : y = t
          · subst e
            unfold plOK
            rw [(f3 (lsI s0) w2).1, w4, f4', n4, n5, n6, n7, (f3 (lsI s0) w2).2.2.2, w7]
            exact ⟨fun _ => ⟨w2, n2, rfl, rfl, rfl, rfl⟩, fun h => absurd c h⟩
          · exact (w8 y (by omega)).ext w2 (f3 _ w2).1 e1 e2 (f4 _ (by omega) (by omega)) f3 f5
        · by_cases hx : x < lsI s
          · obtain ⟨a1, a2⟩ := w9 x h1 hx
            have e := (f3 x hx).1
            refine ⟨by rw [e]; exact a1, fun y hy => ?_⟩
            rw [e] at hy
            have := h40 (lsM s x)
            exact (a2 y hy).ext hx e e1 e2 (f4 _ (by omega) (by omega)) f3 f5
          · by_cases hx2 : x = lsI s
            · subst hx2
              rw [n4]
              exact ⟨Nat.le_of_lt hp, n8⟩
            · obtain ⟨a1, a2⟩ := n8' x (by omega) h2
              exact ⟨by omega, a2⟩
        · by_cases hg : g < lsG s
          · obtain ⟨a1, a2, a3⟩ := w10 g h1 hg
            obtain ⟨b1, b2⟩ := f5 g hg
            have h4 := h40 (lsM s (lsi s g))
            obtain ⟨c1, c2, c3, c4⟩ := id a2
            refine ⟨by rw [b1]; exact a1, a2.ext (fun j hj => (f3 j hj).1) e1 ⟨b1, b2⟩ (f4 _ (by omega) ?_), fun e => ?_⟩
            · intro e
              by_cases ei : lsi s g = lsI s0
              · have := a3 ei; omega
              · omega
            · rw [b1] at e
              rw [b2]
              have := a3 e; omega
          · obtain ⟨a1, a2, a3⟩ := n9 g (by omega) h2
            exact ⟨by omega, a2, fun e => by omega⟩
        · by_cases hj : j < lsI s
          · exact (w11 j h1 hj).ext hj (Nat.le_succ t) (fun j hj => ⟨(f3 j hj).1, (f3 j hj).2.1, (f3 j hj).2.2.1⟩) (fun x y hx hy hxy => f4 _ (by have := h40 (lsM s x); omega) (fun e => by
              have := h40 (lsM s x)
              by_cases ei : x = lsI s0
              · have := hxy ei; omega
              · omega))
          · by_cases hj2 : j = lsI s
            · subst hj2
              have ex := (f3 (lsI s0) w2).1
              refine ⟨lsI s0, t, Nat.le_refl _, w2, ?_, ?_, n5, n6, f4', ?_, fun _ => Nat.lt_succ_self t⟩
              · rw [ex, w4]; omega
              · rw [ex, w4]; exact c
              · rw [n4, ex, w4]
            · obtain ⟨x, y, a1, a2⟩ := n10 j (by omega) h2
              obtain ⟨a2, a3, a4, a5, a6, a7, a8, a9⟩ := a2
              exact ⟨x, y, by omega, a2, a3, a4, a5, a6, a7, a8, fun e => by omega⟩
    · rw [if_neg c] at he
      by_cases c2 : lsG s = 200
      · rw [if_pos c2] at he; cases he
      · rw [if_neg c2] at he
        obtain ⟨⟨g1, g2⟩, g3, g4, g5⟩ := w1
        have f4 : ∀ k, k ≠ 40 * lsI s0 + t → lsL (lsSig s (lsI s0) t) k = lsL s k := fun k hne => ups_ne hne
        have f4' : lsL (lsSig s (lsI s0) t) (40 * lsI s0 + t) = lsG s := ups_eq
        have f5 : ∀ g, g < lsG s → lsi (lsSig s (lsI s0) t) g = lsi s g ∧ lsth (lsSig s (lsI s0) t) g = lsth s g := fun g hg => ⟨ups_ne (by omega), ups_ne (by omega)⟩
        have f5' : lsi (lsSig s (lsI s0) t) (lsG s) = lsI s0 ∧ lsth (lsSig s (lsI s0) t) (lsG s) = t := ⟨ups_eq, ups_eq⟩
        have f3 : ∀ x, x < lsI s → lsM (lsSig s (lsI s0) t) x = lsM s x ∧ lsP (lsSig s (lsI s0) t) x = lsP s x ∧ lsT (lsSig s (lsI s0) t) x = lsT s x ∧ lsD (lsSig s (lsI s0) t) x = lsD s x := fun x _ => ⟨rfl, rfl, rfl, rfl⟩
        have eG : lsG (lsSig s (lsI s0) t) = lsG s + 1 := rfl
        refine ih (t + 1) (lsSig s (lsI s0) t) s' (by omega) ⟨⟨⟨g1, by rw [eG]; omega⟩, g3, fun k' hk' => ?_, fun g hg => ?_⟩, w2, ⟨w3, by rw [eG]; omega⟩, ⟨w4, w5, w6, w7⟩, ⟨fun y hy => ?_, fun x h1 h2 => ?_⟩, fun g h1 h2 => ?_, fun j h1 h2 => ?_⟩ he
        · rw [f4 k' (by omega)]; exact g4 k' hk'
        · exact ⟨(f5 g (by omega)).1.trans (g5 g hg).1, (f5 g (by omega)).2.trans (g5 g hg).2⟩
        · by_cases e : y = t
          · subst e
            unfold plOK
            rw [f4', f5'.1, f5'.2, (f3 _ w2).1, w4, eG]
            exact ⟨fun h => absurd h c, fun _ => ⟨by omega, rfl, rfl⟩⟩
          · exact (w8 y (by omega)).ext w2 rfl (Nat.le_refl _) (by rw [eG]; omega) (f4 _ (by omega)) f3 f5
        · obtain ⟨a1, a2⟩ := w9 x h1 h2
          refine ⟨a1, fun y hy => ?_⟩
          have := h40 (lsM s x)
          have hy' : y < mdT (Ms (lsM s x)) := hy
          exact (a2 y hy).ext h2 rfl (Nat.le_refl _) (by rw [eG]; omega) (f4 _ (by omega)) f3 f5
        · by_cases hg : g < lsG s
          · obtain ⟨a1, a2, a3⟩ := w10 g h1 hg
            obtain ⟨b1, b2⟩ := f5 g hg
            have h4 := h40 (lsM s (lsi s g))
            obtain ⟨c1, c2', c3, c4⟩ := id a2
            refine ⟨by rw [b1]; exact a1, a2.ext (fun j hj => (f3 j hj).1) (Nat.le_refl _) ⟨b1, b2⟩ (f4 _ ?_), fun e => ?_⟩
            · intro e
              by_cases ei : lsi s g = lsI s0
              · have := a3 ei; omega
              · omega
            · rw [b1] at e
              rw [b2]
              have := a3 e; omega
          · have eg : g = lsG s := by rw [eG] at h2; omega
            subst eg
            unfold sgOK
            rw [f5'.1, f5'.2]
            refine ⟨Nat.le_refl _, ⟨w2, ?_, ?_, f4'⟩, fun _ => Nat.lt_succ_self t⟩
            · show t < mdT (Ms (lsM s (lsI s0))); rw [w4]; omega
            · show mdkd (Ms (lsM s (lsI s0))) t ≠ 5; rw [w4]; exact c
        · exact (w11 j h1 h2).ext h2 (Nat.le_succ t) (fun j _ => ⟨rfl, rfl, rfl⟩) (fun x y hx hy hxy => f4 _ (fun e => by
              have := h40 (lsM s x)
              by_cases ei : x = lsI s0
              · have := hxy ei; omega
              · omega))
theorem layF_ok (h40 : ∀ m, mdT (Ms m) ≤ 40) (hpt : ∀ m t, m < K → t < mdT (Ms m) → mdkd (Ms m) t = 5 → mdpt (Ms m) t < m) : ∀ f s m p t d s', m < K → lsI s ≤ 101 → lsG s ≤ 200 → layF Ms f s m p t d = some s' → lsN Ms s m p t d s' := by
  intro f
  induction f with
  | zero => intro s m p t d s' _ _ _ h; cases h
  | succ f ih =>
    intro s m p t d s' hm hI hG he
    rw [layF] at he
    by_cases c : 100 < lsI s
    · rw [if_pos c] at he; cases he
    · rw [if_neg c] at he
      refine layT_ok (rec := layF Ms f) h40 (fun y hy h => hpt m y hm hy h) (fun s m' p' t' d' s' h1 h2 h3 h4 => ih s m' p' t' d' s' (by omega) h2 h3 h4) (mdT (Ms m)) 0 (lsNew s m p t d) s' (by omega) ⟨⟨⟨Nat.le_succ _, Nat.le_refl _⟩, fun x hx => ?_, fun _ _ => rfl, fun _ _ => ⟨rfl, rfl⟩⟩, Nat.lt_succ_self _, ⟨by show lsI s + 1 ≤ 101; omega, hG⟩, ⟨ups_eq, ups_eq, ups_eq, ups_eq⟩, ⟨fun y hy => absurd hy (Nat.not_lt_zero y), fun x h1 h2 => ?_⟩, fun g h1 h2 => ?_, fun j h1 h2 => ?_⟩ he
      · exact ⟨ups_ne (by omega), ups_ne (by omega), ups_ne (by omega), ups_ne (by omega)⟩
      · have : x < lsI s + 1 := h2
        omega
      · have : g < lsG s := h2
        omega
      · have : j < lsI s + 1 := h2
        omega
/-- with enough fuel, more makes no difference -/
theorem layF_fuel (hpt : ∀ m t, m < K → t < mdT (Ms m) → mdkd (Ms m) t = 5 → mdpt (Ms m) t < m) : ∀ m, m < K → ∀ f f' s p t d, m < f → m < f' → layF Ms f s m p t d = layF Ms f' s m p t d := by
  intro m
  induction m using Nat.strongRecOn with
  | ind m ih =>
    intro hm f f' s p t d hf hf'
    obtain ⟨g, rfl⟩ : ∃ g, f = g + 1 := ⟨f - 1, by omega⟩
    obtain ⟨g', rfl⟩ : ∃ g, f' = g + 1 := ⟨f' - 1, by omega⟩
    rw [layF, layF]
    by_cases c : 100 < lsI s
    · rw [if_pos c, if_pos c]
    · rw [if_neg c, if_neg c]
      have key : ∀ k t s i d, t + k = mdT (Ms m) → layT (layF Ms g) (Ms m) i d k t s = layT (layF Ms g') (Ms m) i d k t s := by
        intro k
        induction k with
        | zero => intro t s i d _; rfl
        | succ k ihk =>
          intro t s i d hk
          rw [layT, layT]
          by_cases c5 : mdkd (Ms m) t = 5
          · have hp := hpt m t hm (by omega) c5
            rw [if_pos c5, if_pos c5, ih _ hp (by omega) g g' _ _ _ _ (by omega) (by omega)]
            cases layF Ms g' (lsPut s (40 * i + t) (lsI s)) (mdpt (Ms m) t) (i : Int) (t : Int) (d + 1) with
            | none => rfl
            | some s1 => exact ihk (t + 1) s1 i d (by omega)
          · rw [if_neg c5, if_neg c5]
            by_cases c2 : lsG s = 200
            · rw [if_pos c2, if_pos c2]
            · rw [if_neg c2, if_neg c2]
              exact ihk (t + 1) _ i d (by omega)
      exact key (mdT (Ms m)) 0 _ _ _ (by omega)
end
