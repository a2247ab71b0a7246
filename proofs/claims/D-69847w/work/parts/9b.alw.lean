set_option maxRecDepth 100000
set_option maxHeartbeats 400000
/-! ===== read: what is always driven (pure) ===== -/
/-- rows of statements: thing, port, around, in the else of it, has an else -/
abbrev RW : Type := (Nat → Int) × (Nat → Int) × (Nat → Int) × (Nat → Int) × (Nat → Int)
def rTh (R : RW) : Nat → Int := R.1
def rPo (R : RW) : Nat → Int := R.2.1
def rAr (R : RW) : Nat → Int := R.2.2.1
def rEl (R : RW) : Nat → Int := R.2.2.2.1
def rHe (R : RW) : Nat → Int := R.2.2.2.2
/-- of n statements, those in a context always drive a place; to a depth -/
def ALd (R : RW) (n : Nat) (x y : Int) : Nat → Int → Int → Prop
  | 0, _, _ => False
  | d + 1, a, e => ∃ k, k < n ∧ (rAr R k = a ∧ rEl R k = e) ∧ (0 ≤ rTh R k ∧ rTh R k = x ∧ rPo R k = y ∨ rTh R k < 0 ∧ rHe R k ≠ 0 ∧ ALd R n x y d (k : Int) 0 ∧ ALd R n x y d (k : Int) 1)
def AL (R : RW) (n : Nat) (x y a e : Int) : Prop := ∃ d, ALd R n x y d a e
/-- what one statement gives -/
def gives (R : RW) (n : Nat) (x y : Int) (k : Nat) : Prop := 0 ≤ rTh R k ∧ rTh R k = x ∧ rPo R k = y ∨ rTh R k < 0 ∧ rHe R k ≠ 0 ∧ AL R n x y (k : Int) 0 ∧ AL R n x y (k : Int) 1
section
variable {R R' : RW} {n n' : Nat} {x y : Int}
theorem ALd_succ : ∀ d a e, ALd R n x y d a e → ALd R n x y (d + 1) a e
  | 0, _, _, h => h.elim
  | d + 1, a, e, ⟨k, h1, h2, h3⟩ => ⟨k, h1, h2, h3.imp id (fun ⟨w1, w2, w3, w4⟩ => ⟨w1, w2, ALd_succ d _ _ w3, ALd_succ d _ _ w4⟩)⟩
theorem ALd_le {d d' : Nat} (h : d ≤ d') {a e : Int} (q : ALd R n x y d a e) : ALd R n x y d' a e := by
  induction h with
  | refl => exact q
  | step _ ih => exact ALd_succ _ _ _ ih
theorem AL_iff {a e : Int} : AL R n x y a e ↔ ∃ k, k < n ∧ (rAr R k = a ∧ rEl R k = e) ∧ gives R n x y k := by
  constructor
  · rintro ⟨d, h⟩
    cases d with
    | zero => exact h.elim
    | succ d =>
      obtain ⟨k, h1, h2, h3⟩ := h
      exact ⟨k, h1, h2, h3.imp id (fun ⟨w1, w2, w3, w4⟩ => ⟨w1, w2, ⟨d, w3⟩, ⟨d, w4⟩⟩)⟩
  · rintro ⟨k, h1, h2, h3 | ⟨w1, w2, ⟨d, w3⟩, ⟨d', w4⟩⟩⟩
    · exact ⟨1, k, h1, h2, Or.inl h3⟩
    · exact ⟨max d d' + 1, k, h1, h2, Or.inr ⟨w1, w2, ALd_le (Nat.le_max_left _ _) w3, ALd_le (Nat.le_max_right _ _) w4⟩⟩
/-- rows that agree below n -/
def rwA (R R' : RW) (n : Nat) : Prop := ∀ k, k < n → (rTh R' k = rTh R k ∧ rPo R' k = rPo R k) ∧ (rAr R' k = rAr R k ∧ rEl R' k = rEl R k) ∧ rHe R' k = rHe R k
/-- later statements do not reach contexts in between -/
theorem ALd_ext {a0 : Int} (hnn : n ≤ n') (hA : rwA R R' n) (hord : ∀ k, k < n → rAr R k < (k : Int)) (hnew : ∀ k, n ≤ k → k < n' → rAr R' k ≤ a0 ∨ (n : Int) ≤ rAr R' k) : ∀ d a e, a0 < a → a < (n : Int) → (ALd R' n' x y d a e ↔ ALd R n x y d a e) := by
  intro d
  induction d with
  | zero => intro a e _ _; exact Iff.rfl
  | succ d ih =>
    intro a e h1 h2
    constructor
    · rintro ⟨k, k1, ⟨k2, k3⟩, k4⟩
      have kn : k < n := by
        rcases Nat.lt_or_ge k n with c | c
        · exact c
        · rcases hnew k c k1 with w | w <;> omega
      obtain ⟨⟨e1, e2⟩, ⟨e3, e4⟩, e5⟩ := hA k kn
      have ho := hord k kn
      rw [e3] at k2
      rw [e4] at k3
      rw [e1, e2, e5] at k4
      exact ⟨k, kn, ⟨k2, k3⟩, k4.imp id (fun ⟨w1, w2, w3, w4⟩ => ⟨w1, w2, (ih _ _ (by omega) (by omega)).mp w3, (ih _ _ (by omega) (by omega)).mp w4⟩)⟩
    · rintro ⟨k, kn, ⟨k2, k3⟩, k4⟩
      obtain ⟨⟨e1, e2⟩, ⟨e3, e4⟩, e5⟩ := hA k kn
      have ho := hord k kn
      refine ⟨k, by omega, ⟨by rw [e3]; exact k2, by rw [e4]; exact k3⟩, ?_⟩
      rw [e1, e2, e5]
      exact k4.imp id (fun ⟨w1, w2, w3, w4⟩ => ⟨w1, w2, (ih _ _ (by omega) (by omega)).mpr w3, (ih _ _ (by omega) (by omega)).mpr w4⟩)
theorem AL_ext {a0 : Int} (hnn : n ≤ n') (hA : rwA R R' n) (hord : ∀ k, k < n → rAr R k < (k : Int)) (hnew : ∀ k, n ≤ k → k < n' → rAr R' k ≤ a0 ∨ (n : Int) ≤ rAr R' k) {a e : Int} (h1 : a0 < a) (h2 : a < (n : Int)) : AL R' n' x y a e ↔ AL R n x y a e :=
  ⟨fun ⟨d, h⟩ => ⟨d, (ALd_ext hnn hA hord hnew d a e h1 h2).mp h⟩, fun ⟨d, h⟩ => ⟨d, (ALd_ext hnn hA hord hnew d a e h1 h2).mpr h⟩⟩
/-- one more statement in a context, with what lies inside it -/
theorem AL_one {a e : Int} (hn : n < n') (hA : rwA R R' n) (hord : ∀ k, k < n → rAr R k < (k : Int)) (ha : a < (n : Int)) (h0 : rAr R' n = a ∧ rEl R' n = e) (hnew : ∀ k, n < k → k < n' → (n : Int) ≤ rAr R' k) : AL R' n' x y a e ↔ (AL R n x y a e ∨ gives R' n' x y n) := by
  have hnw : ∀ k, n ≤ k → k < n' → rAr R' k ≤ a ∨ (n : Int) ≤ rAr R' k := fun k h1 h2 => by
    by_cases c : k = n
    · subst c; exact Or.inl (by omega)
    · exact Or.inr (hnew k (by omega) h2)
  have ext : ∀ k, k < n → (rAr R k = a) → (gives R' n' x y k ↔ gives R n x y k) := fun k kn kr => by
    obtain ⟨⟨e1, e2⟩, ⟨e3, e4⟩, e5⟩ := hA k kn
    have ho := hord k kn
    unfold gives
    rw [e1, e2, e5, AL_ext (Nat.le_of_lt hn) hA hord hnw (show a < (k : Int) by omega) (by omega), AL_ext (Nat.le_of_lt hn) hA hord hnw (show a < (k : Int) by omega) (by omega)]
  rw [AL_iff, AL_iff]
  constructor
  · rintro ⟨k, k1, ⟨k2, k3⟩, k4⟩
    rcases Nat.lt_trichotomy k n with c | c | c
    · obtain ⟨⟨e1, e2⟩, ⟨e3, e4⟩, e5⟩ := hA k c
      rw [e3] at k2
      rw [e4] at k3
      exact Or.inl ⟨k, c, ⟨k2, k3⟩, (ext k c k2).mp k4⟩
    · subst c; exact Or.inr k4
    · have := hnew k c k1; omega
  · rintro (⟨k, c, ⟨k2, k3⟩, k4⟩ | h)
    · obtain ⟨⟨e1, e2⟩, ⟨e3, e4⟩, e5⟩ := hA k c
      exact ⟨k, by omega, ⟨by rw [e3]; exact k2, by rw [e4]; exact k3⟩, (ext k c k2).mpr k4⟩
    · exact ⟨n, hn, h0, h⟩
/-- a context with no statement -/
theorem AL_none {a e : Int} (h : ∀ k, k < n → ¬ (rAr R k = a ∧ rEl R k = e)) : ¬ AL R n x y a e := by
  rw [AL_iff]
  rintro ⟨k, k1, k2, _⟩
  exact h k k1 k2
end
/-! the whens around -/
/-- in the component: rows: the node, its first node, turned, around; a when below nW; nodes below N -/
def crX (ex fi el ar : Nat → Int) (G : NG) (N nW : Nat) : Int → List (Nat × Bool) → Prop
  | w, [] => w = -1
  | w, q :: L => (0 ≤ w ∧ w < (nW : Int)) ∧ (q.1 < N ∧ gW G q.1 = 1 ∧ ex w.toNat = (q.1 : Int) ∧ fi w.toNat = (gF G q.1 : Int) ∧ el w.toNat = (if q.2 = true then 1 else 0)) ∧ crX ex fi el ar G N nW (ar w.toNat) L
/-- in the twin: rows: the node, around, turned; statements below n -/
def crT (ex ar el : Nat → Int) : Nat → Int → Int → List (Nat × Bool) → Prop
  | _, a, e, [] => a = -1 ∧ e = 0
  | n, a, e, q :: L => (0 ≤ a ∧ a < (n : Int)) ∧ (ex a.toNat = (q.1 : Int) ∧ e = (if q.2 = true then 1 else 0)) ∧ crT ex ar el a.toNat (ar a.toNat) (el a.toNat) L
theorem crX.mono {ex fi el ar ex' fi' el' ar' : Nat → Int} {G G' : NG} {N N' nW nW' : Nat} (hN : N ≤ N') (hW : nW ≤ nW') (hG : ∀ i, i < N → gAt G G' i) (hr : ∀ k, k < nW → ex' k = ex k ∧ fi' k = fi k ∧ el' k = el k ∧ ar' k = ar k) : ∀ L w, crX ex fi el ar G N nW w L → crX ex' fi' el' ar' G' N' nW' w L
  | [], _, h => h
  | q :: L, w, ⟨h1, ⟨h2, h3, h4, h5, h6⟩, h7⟩ => by
    obtain ⟨r1, r2, r3, r4⟩ := hr w.toNat (by omega)
    refine ⟨by omega, ⟨by omega, by rw [(hG _ h2).1.2.2]; exact h3, by rw [r1]; exact h4, by rw [r2, (hG _ h2).1.2.1]; exact h5, by rw [r3]; exact h6⟩, ?_⟩
    rw [r4]
    exact crX.mono hN hW hG hr L _ h7
theorem crT.mono {ex ar el ex' ar' el' : Nat → Int} : ∀ L n n' a e, n ≤ n' → (∀ k, k < n → ex' k = ex k ∧ ar' k = ar k ∧ el' k = el k) → crT ex ar el n a e L → crT ex' ar' el' n' a e L
  | [], _, _, _, _, _, _, h => h
  | q :: L, n, n', a, e, hn, hr, ⟨h1, ⟨h2, h3⟩, h4⟩ => by
    obtain ⟨r1, r2, r3⟩ := hr a.toNat (by omega)
    refine ⟨by omega, ⟨by rw [r1]; exact h2, h3⟩, ?_⟩
    rw [r2, r3]
    exact crT.mono L _ _ _ _ (Nat.le_refl _) (fun k hk => hr k (by omega)) h4
theorem crT.lt {ex ar el : Nat → Int} {L : List (Nat × Bool)} {n : Nat} {a e : Int} (h : crT ex ar el n a e L) : -1 ≤ a ∧ a < (n : Int) ∧ (e = 0 ∨ e = 1) := by
  cases L with
  | nil => exact ⟨by have := h.1; omega, by have := h.1; omega, Or.inl h.2⟩
  | cons q L =>
    obtain ⟨h1, ⟨h2, h3⟩, h4⟩ := h
    refine ⟨by omega, h1.2, ?_⟩
    rw [h3]
    split
    · exact Or.inr rfl
    · exact Or.inl rfl
