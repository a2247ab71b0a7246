set_option maxRecDepth 100000
set_option maxHeartbeats 400000
/-! ===== designs: a copied design ===== -/
section
variable {Ms : Nat → ModV} {top : Nat} {s : LYS} {τ τ' : St} {S : Nat}
theorem PG.int (h : PG S bw τ τ') {a w j i i4 : Nat} (hw : bw a = w) (hl : ¬ lgA a) (hj : j < w) (hi : i = w * S + j) (hi4 : i4 = w * 4 + j) : τ'.1 a i = τ.1 a i4 := by
  subst hw hi hi4
  exact (h.2.1 a j hj).1 hl
theorem PG.lng (h : PG S bw τ τ') {a w j i i4 : Nat} (hw : bw a = w) (hl : lgA a) (hj : j < w) (hi : i = w * S + j) (hi4 : i4 = w * 4 + j) : τ'.2.1 a i = τ.2.1 a i4 := by
  subst hw hi hi4
  exact (h.2.1 a j hj).2 hl
theorem DM.copy (hd : DP Ms top s) (hM : DM τ 4 Ms top s) (h : PG S bw τ τ') : DM τ' S Ms top s := by
  have h200 := hd.2.1.2
  have h101 := hd.2.1.1.2
  have h12 := hd.1.1
  obtain ⟨⟨⟨l1, l2⟩, l3, l4, l5⟩, hm⟩ := hM
  have n : ∀ {a : Nat}, a ≠ 2085 → a ≠ 2093 → ¬ lgA a := fun h1 h2 h => by rcases h with h | h; exact h1 h; exact h2 h
  refine ⟨⟨⟨?_, ?_⟩, fun i hi => ?_, fun k hk => ?_, fun g hg => ?_⟩, fun m hmt => ?_⟩
  · rw [h.int (w := 1) (j := 0) (i4 := 4) rfl (n (by decide) (by decide)) (by omega) (by omega) (by omega)]; exact l1
  · rw [h.int (w := 1) (j := 0) (i4 := 4) rfl (n (by decide) (by decide)) (by omega) (by omega) (by omega)]; exact l2
  · obtain ⟨a1, a2, a3, a4⟩ := l3 i hi
    rw [h.int (w := 101) (j := i) (i4 := 101 * 4 + i) rfl (n (by decide) (by decide)) (by omega) (by omega) (by omega), h.int (a := 2118) (w := 101) (j := i) (i4 := 101 * 4 + i) rfl (n (by decide) (by decide)) (by omega) (by omega) (by omega), h.int (a := 2119) (w := 101) (j := i) (i4 := 101 * 4 + i) rfl (n (by decide) (by decide)) (by omega) (by omega) (by omega), h.int (a := 2120) (w := 101) (j := i) (i4 := 101 * 4 + i) rfl (n (by decide) (by decide)) (by omega) (by omega) (by omega)]
    exact ⟨a1, a2, a3, a4⟩
  · have hk' := hk
    obtain ⟨x, y, z1, z2, z3⟩ := hk'
    have := hd.1.2.1 (lsM s x)
    rw [h.int (w := 4040) (j := k) (i4 := 4040 * 4 + k) rfl (n (by decide) (by decide)) (by omega) (by omega) (by omega)]
    exact l4 k hk
  · obtain ⟨a1, ⟨a2, a3, a4⟩, a5, a6⟩ := l5 g hg
    rw [h.int (a := 2122) (w := 200) (j := g) (i4 := 200 * 4 + g) rfl (n (by decide) (by decide)) (by omega) (by omega) (by omega), h.int (a := 2123) (w := 200) (j := g) (i4 := 200 * 4 + g) rfl (n (by decide) (by decide)) (by omega) (by omega) (by omega), h.int (a := 2124) (w := 200) (j := g) (i4 := 200 * 4 + g) rfl (n (by decide) (by decide)) (by omega) (by omega) (by omega), h.int (a := 2125) (w := 200) (j := g) (i4 := 200 * 4 + g) rfl (n (by decide) (by decide)) (by omega) (by omega) (by omega), h.int (a := 2126) (w := 200) (j := g) (i4 := 200 * 4 + g) rfl (n (by decide) (by decide)) (by omega) (by omega) (by omega)]
    exact ⟨a1, ⟨a2, a3, a4⟩, a5, a6⟩
  · have ok := hd.1.2.2 m hmt
    obtain ⟨hT, hN, hCn, hW, -, hQ⟩ := ok.1
    obtain ⟨⟨b1, b2, b3⟩, b4, b5, b6, b7⟩ := hm m hmt
    refine ⟨⟨?_, ?_, ?_⟩, fun i hi => ?_, fun i hi => ?_, fun c hc => ?_, fun k hk => ?_⟩
    · rw [h.int (w := 12) (j := m) (i4 := 12 * 4 + m) rfl (n (by decide) (by decide)) (by omega) (by omega) (by omega)]; exact b1
    · rw [h.int (w := 12) (j := m) (i4 := 12 * 4 + m) rfl (n (by decide) (by decide)) (by omega) (by omega) (by omega)]; exact b2
    · rw [h.int (w := 12) (j := m) (i4 := 12 * 4 + m) rfl (n (by decide) (by decide)) (by omega) (by omega) (by omega)]; exact b3
    · obtain ⟨⟨c1, c2, c3, c4⟩, c5, c6⟩ := b4 i hi
      refine ⟨⟨?_, fun h5 => ?_, ?_, ?_⟩, fun h5 => ?_, fun j hj => ?_⟩
      · rw [h.int (w := 480) (j := 40 * m + i) (i4 := 40 * (12 * 4 + m) + i) rfl (n (by decide) (by decide)) (by omega) (by omega) (by omega)]; exact c1
      · rw [h.int (w := 480) (j := 40 * m + i) (i4 := 40 * (12 * 4 + m) + i) rfl (n (by decide) (by decide)) (by omega) (by omega) (by omega)]; exact c2 h5
      · rw [h.int (w := 480) (j := 40 * m + i) (i4 := 40 * (12 * 4 + m) + i) rfl (n (by decide) (by decide)) (by omega) (by omega) (by omega)]; exact c3
      · rw [h.lng (w := 480) (j := 40 * m + i) (i4 := 40 * (12 * 4 + m) + i) rfl (Or.inl rfl) (by omega) (by omega) (by omega)]; exact c4
      · rw [h.int (w := 480) (j := 40 * m + i) (i4 := 40 * (12 * 4 + m) + i) rfl (n (by decide) (by decide)) (by omega) (by omega) (by omega)]; exact c5 h5
      · rw [h.int (w := 4800) (j := 400 * m + (10 * i + j)) (i4 := 10 * (40 * (12 * 4 + m) + i) + j) rfl (n (by decide) (by decide)) (by omega) (by omega) (by omega)]; exact c6 j hj
    · obtain ⟨c1, c2⟩ := b5 i hi
      rw [h.int (a := 2088) (w := 3600) (j := 300 * m + i) (i4 := 300 * (12 * 4 + m) + i) rfl (n (by decide) (by decide)) (by omega) (by omega) (by omega), h.int (a := 2089) (w := 3600) (j := 300 * m + i) (i4 := 300 * (12 * 4 + m) + i) rfl (n (by decide) (by decide)) (by omega) (by omega) (by omega), h.int (a := 2090) (w := 3600) (j := 300 * m + i) (i4 := 300 * (12 * 4 + m) + i) rfl (n (by decide) (by decide)) (by omega) (by omega) (by omega), h.int (a := 2091) (w := 3600) (j := 300 * m + i) (i4 := 300 * (12 * 4 + m) + i) rfl (n (by decide) (by decide)) (by omega) (by omega) (by omega), h.int (a := 2092) (w := 3600) (j := 300 * m + i) (i4 := 300 * (12 * 4 + m) + i) rfl (n (by decide) (by decide)) (by omega) (by omega) (by omega), h.lng (a := 2093) (w := 3600) (j := 300 * m + i) (i4 := 300 * (12 * 4 + m) + i) rfl (Or.inr rfl) (by omega) (by omega) (by omega)]
      exact ⟨c1, c2⟩
    · have hs := (ok.2.2.2.2.1 c hc).2.2
      have e : ∀ a, 2094 ≤ a → a ≤ 2099 → ∀ k, k < 200 → τ'.1 a (200 * (12 * S + m) + k) = τ.1 a (200 * (12 * 4 + m) + k) := fun a a1 a2 k hk => h.int (w := 2400) (j := 200 * m + k) (by unfold bw; rw [if_neg (by omega), if_neg (by omega), if_neg (by omega), if_neg (by omega), if_pos (by omega)]) (n (by omega) (by omega)) (by omega) (by omega) (by omega)
      obtain ⟨a1, a2, a3, a4, a5⟩ := b6 c hc
      rw [e 2094 (by omega) (by omega) _ (by omega), e 2095 (by omega) (by omega) _ (by omega), e 2096 (by omega) (by omega) _ (by omega), e 2097 (by omega) (by omega) _ (by omega), e 2098 (by omega) (by omega) _ (by omega), e 2099 (by omega) (by omega) _ (by omega)]
      exact ⟨a1, a2, a3, a4, crT.mono _ _ _ _ _ (Nat.le_refl _) (fun k hk => ⟨e 2097 (by omega) (by omega) k (by omega), e 2098 (by omega) (by omega) k (by omega), e 2099 (by omega) (by omega) k (by omega)⟩) a5⟩
    · rw [h.int (a := 2094) (w := 2400) (j := 200 * m + k) (i4 := 200 * (12 * 4 + m) + k) rfl (n (by decide) (by decide)) (by omega) (by omega) (by omega)]
      exact b7 k hk
/-- a property of all cells of a row -/
theorem PG.all (h : PG S bw τ τ') {a : Nat} (hl : ¬ lgA a) {P : Int → Prop} (hP : ∀ i, P (τ.1 a i)) : ∀ i, P (τ'.1 a i) := by
  intro i
  by_cases c : bw a * S ≤ i ∧ i < bw a * S + bw a
  · obtain ⟨j, rfl⟩ : ∃ j, i = bw a * S + j := ⟨i - bw a * S, by omega⟩
    rw [(h.2.1 a j (by omega)).1 hl]; exact hP _
  · rw [(h.2.2.1 a i c).1]; exact hP i
end
