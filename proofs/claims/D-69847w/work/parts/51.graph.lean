set_option maxRecDepth 100000
/-! ===== what hangs on what: paths, pure ===== -/
theorem cntB_lt {p q : Nat → Bool} : ∀ n, (∀ y, y < n → p y = true → q y = true) → (∃ y, y < n ∧ q y = true ∧ p y = false) → cntB p n < cntB q n
  | 0, _, ⟨y, h, _⟩ => absurd h (Nat.not_lt_zero y)
  | n + 1, hs, hy => by
    unfold cntB
    by_cases e : ∃ y, y < n ∧ q y = true ∧ p y = false
    · have := cntB_lt n (fun y h => hs y (by omega)) e
      have h2 := hs n (by omega)
      by_cases e2 : p n = true
      · rw [if_pos e2, if_pos (h2 e2)]; omega
      · rw [if_neg e2]; split <;> omega
    · obtain ⟨y, h1, h2, h3⟩ := hy
      have hyn : y = n := by
        rcases Nat.lt_or_ge y n with w | w
        · exact absurd ⟨y, w, h2, h3⟩ e
        · omega
      subst hyn
      rw [if_pos h2, h3, if_neg (by decide)]
      have : cntB p y ≤ cntB q y := by
        have : ∀ k, k ≤ y → cntB p k ≤ cntB q k := by
          intro k
          induction k with
          | zero => intro _; exact Nat.le_refl _
          | succ k ih =>
            intro hk
            have h4 := ih (by omega)
            have h5 := hs k (by omega)
            unfold cntB
            by_cases e3 : p k = true
            · rw [if_pos e3, if_pos (h5 e3)]; omega
            · rw [if_neg e3]; split <;> omega
        exact this y (Nat.le_refl _)
      omega
/-- a path of l steps from s to t, by numbers below n -/
def ph (H : Nat → Nat → Prop) (n : Nat) : Nat → Nat → Nat → Prop
  | 0, s, t => s = t
  | l + 1, s, t => ∃ u, u < n ∧ H s u ∧ ph H n l u t
section
variable {H : Nat → Nat → Prop} {n g : Nat}
theorem ph_app : ∀ l k s u t, ph H n l s u → ph H n k u t → ph H n (l + k) s t
  | 0, k, s, u, t, h1, h2 => by
    have : s = u := h1
    subst this
    rw [Nat.zero_add]; exact h2
  | l + 1, k, s, u, t, h1, h2 => by
    obtain ⟨v, a1, a2, a3⟩ := h1
    rw [show l + 1 + k = (l + k) + 1 by omega]
    exact ⟨v, a1, a2, ph_app l k v u t a3 h2⟩
/-- how far s is from g; n when it does not come there -/
noncomputable def dst (H : Nat → Nat → Prop) (n g s : Nat) : Nat := lst (fun l => ph H n l s g) n
theorem dst_le {s l : Nat} (h : ph H n l s g) : dst H n g s ≤ l := by
  obtain ⟨a1, a2, a3⟩ := lst_spec (fun l => ph H n l s g) n
  rcases Nat.lt_or_ge l (dst H n g s) with w | w
  · exact absurd h (a2 l w)
  · exact w
theorem dst_ph {s : Nat} (h : dst H n g s < n) : ph H n (dst H n g s) s g := (lst_spec (fun l => ph H n l s g) n).2.2 h
/-- a shortest path of l steps meets l + 1 numbers -/
theorem short_lt (hg : g < n) : ∀ l s, s < n → ph H n l s g → (∀ k, k < l → ¬ ph H n k s g) → l < n := by
  -- D y: the least length from y, by classical choice
  have hD : ∀ y, (∃ l, ph H n l y g) → ∃ l, ph H n l y g ∧ ∀ k, k < l → ¬ ph H n k y g := by
    intro y ⟨l, hl⟩
    have := lst_lt (p := fun l => ph H n l y g) (n := l + 1) ⟨l, by omega, hl⟩
    exact ⟨_, this.2, (lst_spec (fun l => ph H n l y g) (l + 1)).2.1⟩
  let P : Nat → Nat → Bool := fun j y => @decide (∃ l, l ≤ j ∧ ph H n l y g) (Classical.propDecidable _)
  have hP : ∀ j y, P j y = true ↔ ∃ l, l ≤ j ∧ ph H n l y g := fun j y => by
    show (@decide _ (Classical.propDecidable _) = true) ↔ _
    exact @decide_eq_true_iff _ (Classical.propDecidable _)
  have key : ∀ j l s, s < n → ph H n l s g → (∀ k, k < l → ¬ ph H n k s g) → j ≤ l → j < cntB (P j) n := by
    intro j
    induction j with
    | zero =>
      intro l s hs h1 h2 _
      have : cntB (fun _ => false) n < cntB (P 0) n := cntB_lt n (fun y _ h => by cases h) ⟨g, hg, (hP 0 g).mpr ⟨0, Nat.le_refl _, rfl⟩, rfl⟩
      omega
    | succ j ih =>
      intro l s hs h1 h2 hj
      have h3 := ih l s hs h1 h2 (by omega)
      -- some number on the path is just j + 1 away
      have : ∃ y, y < n ∧ ph H n (j + 1) y g ∧ ∀ k, k < j + 1 → ¬ ph H n k y g := by
        have walk : ∀ d s', s' < n → ph H n (j + 1 + d) s' g → (∀ k, k < j + 1 + d → ¬ ph H n k s' g) → ∃ y, y < n ∧ ph H n (j + 1) y g ∧ ∀ k, k < j + 1 → ¬ ph H n k y g := by
          intro d
          induction d with
          | zero => intro s' hs' a1 a2; exact ⟨s', hs', a1, a2⟩
          | succ d ih2 =>
            intro s' hs' a1 a2
            obtain ⟨u, b1, b2, b3⟩ := (show ph H n ((j + 1 + d) + 1) s' g from a1)
            refine ih2 u b1 b3 (fun k hk q => ?_)
            exact a2 (k + 1) (by omega) ⟨u, b1, b2, q⟩
        refine walk (l - (j + 1)) s hs ?_ ?_
        · rw [show j + 1 + (l - (j + 1)) = l by omega]; exact h1
        · rw [show j + 1 + (l - (j + 1)) = l by omega]; exact h2
      obtain ⟨y, hy, c1, c2⟩ := this
      have : cntB (P j) n < cntB (P (j + 1)) n := by
        refine cntB_lt n (fun z _ hz => ?_) ⟨y, hy, (hP _ y).mpr ⟨j + 1, Nat.le_refl _, c1⟩, ?_⟩
        · obtain ⟨l', e1, e2⟩ := (hP j z).mp hz
          exact (hP _ z).mpr ⟨l', by omega, e2⟩
        · cases e : P j y
          · rfl
          · obtain ⟨l', e1, e2⟩ := (hP j y).mp e
            exact absurd e2 (c2 l' (by omega))
      omega
  intro l s hs h1 h2
  have := key l l s hs h1 h2 (Nat.le_refl _)
  have := cntB_le (P l) n
  omega
theorem dst_lt (hg : g < n) {s l : Nat} (hs : s < n) (h : ph H n l s g) : dst H n g s < n := by
  have h1 := lst_lt (p := fun l => ph H n l s g) (n := l + 1) ⟨l, by omega, h⟩
  have h2 := (lst_spec (fun l => ph H n l s g) (l + 1)).2.1
  have h3 := short_lt hg _ s hs h1.2 h2
  have := dst_le (H := H) (n := n) (g := g) h1.2
  omega
theorem dst_step {s t : Nat} (hs : s < n) (hg : g < n) (ht : t < n) (h : H s t) (hd : dst H n g t < n) : dst H n g s ≤ dst H n g t + 1 := dst_le (l := dst H n g t + 1) ⟨t, ht, h, dst_ph hd⟩
theorem dst_g : 0 < n → dst H n g g = 0 := fun _ => Nat.le_zero.mp (dst_le (show ph H n 0 g g from rfl))
theorem dst_0 {s : Nat} (hn : 0 < n) (h : dst H n g s = 0) : s = g := by
  have := dst_ph (H := H) (n := n) (g := g) (s := s) (by omega)
  rw [h] at this
  exact this
/-- the next number on the way -/
theorem dst_next {s : Nat} (hd : dst H n g s < n) (h0 : 0 < dst H n g s) : ∃ t, t < n ∧ H s t ∧ dst H n g t + 1 = dst H n g s := by
  have h := dst_ph hd
  obtain ⟨d, e⟩ : ∃ d, dst H n g s = d + 1 := ⟨dst H n g s - 1, by omega⟩
  rw [e] at h
  obtain ⟨u, b1, b2, b3⟩ := h
  refine ⟨u, b1, b2, ?_⟩
  have h1 := dst_le b3
  have h2 : dst H n g s ≤ dst H n g u + 1 := dst_le (l := dst H n g u + 1) ⟨u, b1, b2, dst_ph (by omega)⟩
  omega
/-- s is on a ring -/
def onR (H : Nat → Nat → Prop) (n s : Nat) : Prop := ∃ l, ph H n (l + 1) s s
/-- without rings: a rank that falls -/
theorem rank_ex (hno : ∀ s, s < n → ¬ onR H n s) : ∃ r : Nat → Nat, (∀ s, r s ≤ n) ∧ ∀ s t, s < n → t < n → H s t → r t < r s := by
  let P : Nat → Nat → Bool := fun s y => @decide (∃ l, ph H n (l + 1) s y) (Classical.propDecidable _)
  have hP : ∀ s y, P s y = true ↔ ∃ l, ph H n (l + 1) s y := fun s y => @decide_eq_true_iff _ (Classical.propDecidable _)
  refine ⟨fun s => cntB (P s) n, fun s => cntB_le _ n, fun s t hs ht h => cntB_lt n (fun y _ hy => ?_) ⟨t, ht, (hP s t).mpr ⟨0, t, ht, h, rfl⟩, ?_⟩⟩
  · obtain ⟨l, hl⟩ := (hP t y).mp hy
    exact (hP s y).mpr ⟨l + 1, t, ht, h, hl⟩
  · cases e : P t t
    · rfl
    · exact absurd ((hP t t).mp e) (hno t ht)
end
