set_option maxRecDepth 100000
set_option maxHeartbeats 400000
/-! ===== designs: rings; pure ===== -/
/-- what is reached by way of numbers below k -/
def wsh (H : Nat → Nat → Prop) : Nat → Nat → Nat → Prop
  | 0, s, t => H s t
  | k + 1, s, t => wsh H k s t ∨ (wsh H k s k ∧ wsh H k k t)
/-- a path by way of numbers below k -/
def pkk (H : Nat → Nat → Prop) (k : Nat) : Nat → Nat → Nat → Prop
  | 0, s, t => H s t
  | l + 1, s, t => ∃ u, u < k ∧ H s u ∧ pkk H k l u t
section
variable {H : Nat → Nat → Prop} {n g : Nat}
theorem pkk_split {k : Nat} : ∀ l s t, pkk H (k + 1) l s t → (∃ l', pkk H k l' s t) ∨ ((∃ l1, pkk H k l1 s k) ∧ ∃ l2, pkk H k l2 k t)
  | 0, s, t, h => Or.inl ⟨0, h⟩
  | l + 1, s, t, ⟨u, h1, h2, h3⟩ => by
    rcases pkk_split l u t h3 with ⟨l', h⟩ | ⟨⟨l1, a1⟩, l2, a2⟩
    · by_cases e : u = k
      · subst e; exact Or.inr ⟨⟨0, h2⟩, l', h⟩
      · exact Or.inl ⟨l' + 1, u, by omega, h2, h⟩
    · by_cases e : u = k
      · subst e; exact Or.inr ⟨⟨0, h2⟩, l2, a2⟩
      · exact Or.inr ⟨⟨l1 + 1, u, by omega, h2, a1⟩, l2, a2⟩
theorem pkk_wsh : ∀ k l s t, pkk H k l s t → wsh H k s t
  | 0, 0, _, _, h => h
  | 0, _ + 1, _, _, ⟨_, h, _⟩ => absurd h (Nat.not_lt_zero _)
  | k + 1, l, s, t, h => by
    rcases pkk_split l s t h with ⟨l', h⟩ | ⟨⟨l1, a1⟩, l2, a2⟩
    · exact Or.inl (pkk_wsh k l' s t h)
    · exact Or.inr ⟨pkk_wsh k l1 s k a1, pkk_wsh k l2 k t a2⟩
theorem ph_pkk : ∀ l s t, ph H n (l + 1) s t → pkk H n l s t
  | 0, s, t, ⟨u, _, h2, h3⟩ => by
    have e : u = t := h3
    subst e; exact h2
  | l + 1, s, t, ⟨u, h1, h2, h3⟩ => ⟨u, h1, h2, ph_pkk l u t h3⟩
theorem wsh_ph : ∀ k s t, k ≤ n → t < n → wsh H k s t → ∃ l, ph H n (l + 1) s t
  | 0, s, t, _, ht, h => ⟨0, t, ht, h, rfl⟩
  | k + 1, s, t, hk, ht, h => by
    rcases h with h | ⟨h1, h2⟩
    · exact wsh_ph k s t (by omega) ht h
    · obtain ⟨l1, a1⟩ := wsh_ph k s k (by omega) (by omega) h1
      obtain ⟨l2, a2⟩ := wsh_ph k k t (by omega) ht h2
      exact ⟨l1 + 1 + l2, ph_app (l1 + 1) (l2 + 1) s k t a1 a2⟩
theorem wsh_on {s : Nat} (hs : s < n) : wsh H n s s ↔ onR H n s := ⟨fun h => wsh_ph n s s (Nat.le_refl n) hs h, fun ⟨l, h⟩ => pkk_wsh n l s s (ph_pkk l s s h)⟩
theorem wsh_no : ∀ k s t, (∀ t, ¬ H s t) → ¬ wsh H k s t
  | 0, s, t, h, q => h t q
  | k + 1, s, t, h, q => by
    rcases q with q | ⟨q, _⟩
    · exact wsh_no k s t h q
    · exact wsh_no k s k h q
theorem wsh_k {k t : Nat} : wsh H (k + 1) k t ↔ wsh H k k t := ⟨fun h => by rcases h with h | ⟨_, h⟩ <;> exact h, Or.inl⟩
/-- far H n g s: how far from s to g; 201 without -/
noncomputable def farD (H : Nat → Nat → Prop) (n g s : Nat) : Nat := if dst H n g s < n then dst H n g s else 201
/-- the least way round from g -/
noncomputable def rBest (H : Nat → Nat → Prop) (n g : Nat) : Nat := lst (fun d => ∃ h, h < n ∧ H g h ∧ dst H n g h = d) n
/-- the ring from g -/
noncomputable def rng (H : Nat → Nat → Prop) (n g : Nat) : Nat → Nat
  | 0 => g
  | j + 1 => lst (fun y => H (rng H n g j) y ∧ dst H n g y + j = rBest H n g) n
theorem rBest_ok (hg : g < n) (h : onR H n g) : rBest H n g < n ∧ (∃ y, y < n ∧ H g y ∧ dst H n g y = rBest H n g) ∧ ∀ y, y < n → H g y → rBest H n g ≤ dst H n g y := by
  obtain ⟨l, u, h1, h2, h3⟩ := h
  have hu := dst_lt hg h1 h3
  have h4 := lst_lt (p := fun d => ∃ h, h < n ∧ H g h ∧ dst H n g h = d) (n := n) ⟨_, hu, u, h1, h2, rfl⟩
  refine ⟨h4.1, h4.2, fun y hy hH => ?_⟩
  rcases Nat.lt_or_ge (dst H n g y) (rBest H n g) with w | w
  · exact absurd ⟨y, hy, hH, rfl⟩ ((lst_spec (fun d => ∃ h, h < n ∧ H g h ∧ dst H n g h = d) n).2.1 _ w)
  · exact w
theorem rng_ok (hg : g < n) (h : onR H n g) : ∀ j, j ≤ rBest H n g → rng H n g (j + 1) < n ∧ H (rng H n g j) (rng H n g (j + 1)) ∧ dst H n g (rng H n g (j + 1)) + j = rBest H n g ∧ ∀ y, y < rng H n g (j + 1) → ¬ (H (rng H n g j) y ∧ dst H n g y + j = rBest H n g) := by
  obtain ⟨b1, ⟨y0, b2, b3, b4⟩, b5⟩ := rBest_ok hg h
  intro j
  induction j with
  | zero =>
    intro _
    have h1 := lst_lt (p := fun y => H (rng H n g 0) y ∧ dst H n g y + 0 = rBest H n g) (n := n) ⟨y0, b2, b3, b4⟩
    exact ⟨h1.1, h1.2.1, h1.2.2, (lst_spec _ n).2.1⟩
  | succ j ih =>
    intro hj
    obtain ⟨i1, i2, i3, -⟩ := ih (by omega)
    obtain ⟨t, t1, t2, t3⟩ := dst_next (H := H) (n := n) (g := g) (s := rng H n g (j + 1)) (by omega) (by omega)
    have h1 := lst_lt (p := fun y => H (rng H n g (j + 1)) y ∧ dst H n g y + (j + 1) = rBest H n g) (n := n) ⟨t, t1, t2, by omega⟩
    exact ⟨h1.1, h1.2.1, h1.2.2, (lst_spec _ n).2.1⟩
theorem rng_lt (hg : g < n) (h : onR H n g) {j : Nat} (hj : j ≤ rBest H n g + 1) : rng H n g j < n := by
  cases j with
  | zero => exact hg
  | succ j => exact (rng_ok hg h j (by omega)).1
/-- it comes back to g just behind the last one -/
theorem rng_back (hg : g < n) (h : onR H n g) {j : Nat} (hj : j ≤ rBest H n g) : rng H n g (j + 1) = g ↔ j = rBest H n g := by
  obtain ⟨h1, h2, h3, -⟩ := rng_ok hg h j hj
  constructor
  · intro e
    rw [e, dst_g (by omega)] at h3
    omega
  · intro e
    exact dst_0 (by omega) (show dst H n g (rng H n g (j + 1)) = 0 by omega)
/-- the first signal on a ring -/
noncomputable def frst (H : Nat → Nat → Prop) (n : Nat) : Nat := lst (fun g => onR H n g) n
/-- among those that hang from the one at hand, the next is the nearest -/
theorem rng_min (hg : g < n) (h : onR H n g) {j : Nat} (hj : j ≤ rBest H n g) {y : Nat} (hy : y < n) (hH : H (rng H n g j) y) : dst H n g (rng H n g (j + 1)) ≤ dst H n g y := by
  obtain ⟨h1, h2, h3, -⟩ := rng_ok hg h j hj
  cases j with
  | zero =>
    have := (rBest_ok hg h).2.2 y hy hH
    omega
  | succ j =>
    obtain ⟨i1, i2, i3, -⟩ := rng_ok hg h j (by omega)
    rcases Nat.lt_or_ge (dst H n g y) n with w | w
    · have := dst_step (g := g) i1 hg hy hH w
      omega
    · have := (rBest_ok hg h).1
      omega
end
