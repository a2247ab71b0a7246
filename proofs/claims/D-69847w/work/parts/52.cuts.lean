set_option maxRecDepth 100000
/-! ===== cuts, pure: rows of numbers that rise ===== -/
/-- the union of two rows that rise -/
def mrg : List Nat → List Nat → List Nat
  | [], ys => ys
  | x :: xs, ys => mrgA x xs ys (fun zs => mrg xs zs)
where
  mrgA (x : Nat) (xs : List Nat) : List Nat → (List Nat → List Nat) → List Nat
  | [], _ => x :: xs
  | y :: ys, r => if x < y then x :: r (y :: ys) else if y < x then y :: mrgA x xs ys r else x :: r ys
theorem mrg_nil (ys : List Nat) : mrg [] ys = ys := rfl
theorem mrg_cn (x : Nat) (xs : List Nat) : mrg (x :: xs) [] = x :: xs := rfl
theorem mrg_cc (x : Nat) (xs : List Nat) (y : Nat) (ys : List Nat) : mrg (x :: xs) (y :: ys) = if x < y then x :: mrg xs (y :: ys) else if y < x then y :: mrg (x :: xs) ys else x :: mrg xs ys := rfl
theorem mrg_n (xs : List Nat) : mrg xs [] = xs := by cases xs <;> rfl
theorem mrg_l {z : Nat} : ∀ xs ys, z ∈ xs → z ∈ mrg xs ys := by
  intro xs
  induction xs with
  | nil => intro ys h; cases h
  | cons x xs ih =>
    intro ys
    induction ys with
    | nil => intro h; exact h
    | cons y ys ih2 =>
      intro h
      rw [mrg_cc]
      split
      · rcases List.mem_cons.mp h with w | w
        · exact List.mem_cons.mpr (Or.inl w)
        · exact List.mem_cons.mpr (Or.inr (ih _ w))
      · split
        · exact List.mem_cons.mpr (Or.inr (ih2 h))
        · rcases List.mem_cons.mp h with w | w
          · exact List.mem_cons.mpr (Or.inl w)
          · exact List.mem_cons.mpr (Or.inr (ih _ w))
theorem mrg_r {z : Nat} : ∀ xs ys, z ∈ ys → z ∈ mrg xs ys := by
  intro xs
  induction xs with
  | nil => intro ys h; exact h
  | cons x xs ih =>
    intro ys
    induction ys with
    | nil => intro h; cases h
    | cons y ys ih2 =>
      intro h
      rw [mrg_cc]
      split
      · exact List.mem_cons.mpr (Or.inr (ih _ h))
      · split
        · rcases List.mem_cons.mp h with w | w
          · exact List.mem_cons.mpr (Or.inl w)
          · exact List.mem_cons.mpr (Or.inr (ih2 w))
        · rcases List.mem_cons.mp h with w | w
          · exact List.mem_cons.mpr (Or.inl (by omega))
          · exact List.mem_cons.mpr (Or.inr (ih _ w))
theorem mrg_m {z : Nat} : ∀ xs ys, z ∈ mrg xs ys → z ∈ xs ∨ z ∈ ys := by
  intro xs
  induction xs with
  | nil => intro ys h; exact Or.inr h
  | cons x xs ih =>
    intro ys
    induction ys with
    | nil => intro h; exact Or.inl h
    | cons y ys ih2 =>
      intro h
      rw [mrg_cc] at h
      split at h
      · rcases List.mem_cons.mp h with w | w
        · exact Or.inl (List.mem_cons.mpr (Or.inl w))
        · rcases ih _ w with q | q
          · exact Or.inl (List.mem_cons.mpr (Or.inr q))
          · exact Or.inr q
      · split at h
        · rcases List.mem_cons.mp h with w | w
          · exact Or.inr (List.mem_cons.mpr (Or.inl w))
          · rcases ih2 w with q | q
            · exact Or.inl q
            · exact Or.inr (List.mem_cons.mpr (Or.inr q))
        · rcases List.mem_cons.mp h with w | w
          · exact Or.inl (List.mem_cons.mpr (Or.inl w))
          · rcases ih _ w with q | q
            · exact Or.inl (List.mem_cons.mpr (Or.inr q))
            · exact Or.inr (List.mem_cons.mpr (Or.inr q))
/-- two rows without doubles that have the same members are of one length -/
theorem nd_le {α : Type} : ∀ (l1 l2 : List α), l1.Nodup → (∀ x, x ∈ l1 → x ∈ l2) → l1.length ≤ l2.length
  | [], _, _, _ => Nat.zero_le _
  | x :: t, l2, hn, hs => by
    obtain ⟨s, u, e⟩ := List.append_of_mem (hs x (List.mem_cons.mpr (Or.inl rfl)))
    have hn2 := List.nodup_cons.mp hn
    have := nd_le t (s ++ u) hn2.2 (fun y hy => by
      have hy2 := hs y (List.mem_cons.mpr (Or.inr hy))
      rw [e] at hy2
      rcases List.mem_append.mp hy2 with w | w
      · exact List.mem_append.mpr (Or.inl w)
      · rcases List.mem_cons.mp w with q | q
        · exact absurd (q ▸ hy) hn2.1
        · exact List.mem_append.mpr (Or.inr q))
    rw [e]
    simp only [List.length_append, List.length_cons] at this ⊢
    omega
theorem nd_len {α : Type} {l1 l2 : List α} (h1 : l1.Nodup) (h2 : l2.Nodup) (h : ∀ x, x ∈ l1 ↔ x ∈ l2) : l1.length = l2.length := Nat.le_antisymm (nd_le l1 l2 h1 (fun x => (h x).mp)) (nd_le l2 l1 h2 (fun x => (h x).mpr))
/-- of a row of rows those that contain no other one -/
def mnm (U : List Nat → Prop) (c : List Nat) : Prop := U c ∧ ∀ d, U d → d.Sublist c → d = c
/-- every one contains a least one -/
theorem mnm_ex {U : List Nat → Prop} : ∀ n c, c.length ≤ n → U c → ∃ d, mnm U d ∧ d.Sublist c := by
  intro n
  induction n with
  | zero =>
    intro c hc hu
    refine ⟨c, ⟨hu, fun d _ hs => ?_⟩, List.Sublist.refl c⟩
    exact hs.eq_of_length_le (by omega)
  | succ n ih =>
    intro c hc hu
    by_cases e : ∃ d, U d ∧ d.Sublist c ∧ d ≠ c
    · obtain ⟨d, h1, h2, h3⟩ := e
      have hl : d.length < c.length := by
        rcases Nat.lt_or_ge d.length c.length with w | w
        · exact w
        · exact absurd (h2.eq_of_length_le w) h3
      obtain ⟨f, h4, h5⟩ := ih d (by omega) h1
      exact ⟨f, h4, h5.trans h2⟩
    · refine ⟨c, ⟨hu, fun d h1 h2 => ?_⟩, List.Sublist.refl c⟩
      apply Classical.byContradiction
      intro h3
      exact e ⟨d, h1, h2, h3⟩
