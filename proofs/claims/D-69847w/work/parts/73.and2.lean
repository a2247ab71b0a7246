set_option maxRecDepth 100000
set_option maxHeartbeats 400000
/-! ===== the twin's ANDs: chains ===== -/
def chOk (hd ch : Nat → Int) (n : Nat) (hs : Nat → Nat) : Prop := (∀ h, h < 16384 → (hd h = -1 ∧ ∀ k, k < n → hs k ≠ h) ∨ ∃ k : Nat, k < n ∧ hd h = (k : Int) ∧ hs k = h ∧ ∀ k', k < k' → k' < n → hs k' ≠ h) ∧ ∀ k, k < n → (ch k = -1 ∧ ∀ k', k' < k → hs k' ≠ hs k) ∨ ∃ k1 : Nat, k1 < k ∧ ch k = (k1 : Int) ∧ hs k1 = hs k ∧ ∀ k', k1 < k' → k' < k → hs k' ≠ hs k
def mkT (σ : St) (i l : Nat) (B : NB) : Prop := (σ.1 2142 4 = (i : Int) ∧ σ.1 2143 4 = (l : Int) ∧ σ.1 2144 4 = (B.1 : Int)) ∧ (∀ k, k < B.1 → σ.1 2146 (16000 + k) = (B.2.1 k : Int) ∧ σ.1 2147 (16000 + k) = (B.2.2.1 k : Int)) ∧ σ.1 2075 103 = (if B.2.2.2 = true then 1 else 0) ∧ chOk (σ.1 2151) (σ.1 2152) B.1 (fun k => hcT (B.2.1 k) (B.2.2.1 k))
def FrT_o (σ τ : St) : Prop := (∀ a, a ≠ 2075 → a ≠ 2144 → a ≠ 2146 → a ≠ 2147 → a ≠ 2151 → a ≠ 2152 → τ.1 a = σ.1 a) ∧ (∀ k, k ≠ 103 → τ.1 2075 k = σ.1 2075 k) ∧ (∀ k, k ≠ 4 → τ.1 2144 k = σ.1 2144 k) ∧ (∀ k, k < 16000 → τ.1 2146 k = σ.1 2146 k ∧ τ.1 2147 k = σ.1 2147 k) ∧ τ.2 = σ.2
theorem FrT_o.refl {σ : St} : FrT_o σ σ := ⟨fun _ _ _ _ _ _ _ => rfl, fun _ _ => rfl, fun _ _ => rfl, fun _ _ => ⟨rfl, rfl⟩, rfl⟩
theorem FrT_o.trans {σ τ υ : St} (h1 : FrT_o σ τ) (h2 : FrT_o τ υ) : FrT_o σ υ := ⟨fun a q1 q2 q3 q4 q5 q6 => (h2.1 a q1 q2 q3 q4 q5 q6).trans (h1.1 a q1 q2 q3 q4 q5 q6), fun k hk => (h2.2.1 k hk).trans (h1.2.1 k hk), fun k hk => (h2.2.2.1 k hk).trans (h1.2.2.1 k hk), fun k hk => ⟨(h2.2.2.2.1 k hk).1.trans (h1.2.2.2.1 k hk).1, (h2.2.2.2.1 k hk).2.trans (h1.2.2.2.1 k hk).2⟩, h2.2.2.2.2.trans h1.2.2.2.2⟩
section
variable {a b x y : Nat} {σ : St} {Q : Int → St → Prop}
theorem an2_0 (hx : x = min a b) (hy : y = max a b) (hb : y < 8530) (c : x = 0 ∨ ng x = y) (h : Q 0 σ) : wp (F_X15_and (a : Int) (b : Int)) σ Q := by
  have e3 : ixor (x : Int) 1 = (ng x : Int) := ixor1 (by omega)
  have go : wp (X15_and_21 (x : Int) (y : Int)) σ Q := by
    by_cases c0 : x = 0
    · simp (disch := omega) only [X15_and_21, ↓wp_bd, ↓wp_rt, ↓wp_lt, wp_ifp, wp_ifn, stA_eq, stA_ne, stA_stA, ups_eq, ups_ne, w32_i, RI_2151, tn, tnA, tnS, tnM, tn0, tn1, Int.reduceToNat, if_pos, if_neg, if_true, if_false]
      exact h
    · simp (disch := omega) only [X15_and_21, ↓wp_bd, ↓wp_rt, ↓wp_lt, wp_ifp, wp_ifn, stA_eq, stA_ne, stA_stA, ups_eq, ups_ne, w32_i, RI_2151, tn, tnA, tnS, tnM, tn0, tn1, Int.reduceToNat, if_pos, if_neg, if_true, if_false, e3]
      exact h
  by_cases hab : b ≤ a
  · have e1 : (b : Int) = (x : Int) := by omega
    have e2 : (a : Int) = (y : Int) := by omega
    rw [← e1, ← e2] at go
    simp (disch := omega) only [F_X15_and, X15_and_10, ↓wp_bd, ↓wp_rt, ↓wp_lt, wp_ifp, wp_ifn, stA_eq, stA_ne, stA_stA, ups_eq, ups_ne, tn, tnA, tnS, tnM, tn0, tn1, Int.reduceToNat, if_pos, if_neg, if_true, if_false]
    exact go
  · have e1 : (a : Int) = (x : Int) := by omega
    have e2 : (b : Int) = (y : Int) := by omega
    rw [← e1, ← e2] at go
    simp (disch := omega) only [F_X15_and, X15_and_10, ↓wp_bd, ↓wp_rt, ↓wp_lt, wp_ifp, wp_ifn, stA_eq, stA_ne, stA_stA, ups_eq, ups_ne, tn, tnA, tnS, tnM, tn0, tn1, Int.reduceToNat, if_pos, if_neg, if_true, if_false]
    exact go
theorem an2_y (hx : x = min a b) (hy : y = max a b) (hb : y < 8530) (c : ¬ (x = 0 ∨ ng x = y)) (c2 : x = 1 ∨ x = y) (h : Q (y : Int) σ) : wp (F_X15_and (a : Int) (b : Int)) σ Q := by
  have e3 : ixor (x : Int) 1 = (ng x : Int) := ixor1 (by omega)
  have go : wp (X15_and_21 (x : Int) (y : Int)) σ Q := by
    by_cases c0 : x = 1
    · simp (disch := omega) only [X15_and_21, ↓wp_bd, ↓wp_rt, ↓wp_lt, wp_ifp, wp_ifn, stA_eq, stA_ne, stA_stA, ups_eq, ups_ne, w32_i, RI_2151, tn, tnA, tnS, tnM, tn0, tn1, Int.reduceToNat, if_pos, if_neg, if_true, if_false, e3]
      exact h
    · simp (disch := omega) only [X15_and_21, ↓wp_bd, ↓wp_rt, ↓wp_lt, wp_ifp, wp_ifn, stA_eq, stA_ne, stA_stA, ups_eq, ups_ne, w32_i, RI_2151, tn, tnA, tnS, tnM, tn0, tn1, Int.reduceToNat, if_pos, if_neg, if_true, if_false, e3]
      exact h
  by_cases hab : b ≤ a
  · have e1 : (b : Int) = (x : Int) := by omega
    have e2 : (a : Int) = (y : Int) := by omega
    rw [← e1, ← e2] at go
    simp (disch := omega) only [F_X15_and, X15_and_10, ↓wp_bd, ↓wp_rt, ↓wp_lt, wp_ifp, wp_ifn, stA_eq, stA_ne, stA_stA, ups_eq, ups_ne, tn, tnA, tnS, tnM, tn0, tn1, Int.reduceToNat, if_pos, if_neg, if_true, if_false]
    exact go
  · have e1 : (a : Int) = (x : Int) := by omega
    have e2 : (b : Int) = (y : Int) := by omega
    rw [← e1, ← e2] at go
    simp (disch := omega) only [F_X15_and, X15_and_10, ↓wp_bd, ↓wp_rt, ↓wp_lt, wp_ifp, wp_ifn, stA_eq, stA_ne, stA_stA, ups_eq, ups_ne, tn, tnA, tnS, tnM, tn0, tn1, Int.reduceToNat, if_pos, if_neg, if_true, if_false]
    exact go
theorem an2_s (hx : x = min a b) (hy : y = max a b) (hb : y < 8530) (c : ¬ (x = 0 ∨ ng x = y)) (c2 : ¬ (x = 1 ∨ x = y)) (h : wp (X15_and_80 FU (x : Int) (y : Int) (hcT x y : Int) (σ.1 2151 (hcT x y))) σ Q) : wp (F_X15_and (a : Int) (b : Int)) σ Q := by
  have e3 : ixor (x : Int) 1 = (ng x : Int) := ixor1 (by omega)
  have e4 := hcT_i x y
  have hh := hcT_lt x y
  have go : wp (X15_and_21 (x : Int) (y : Int)) σ Q := by
    simp (disch := omega) only [X15_and_21, ↓wp_bd, ↓wp_rt, ↓wp_lt, wp_ifp, wp_ifn, stA_eq, stA_ne, stA_stA, ups_eq, ups_ne, w32_i, RI_2151, tn, tnA, tnS, tnM, tn0, tn1, Int.reduceToNat, if_pos, if_neg, if_true, if_false, e3, e4]
    exact h
  by_cases hab : b ≤ a
  · have e1 : (b : Int) = (x : Int) := by omega
    have e2 : (a : Int) = (y : Int) := by omega
    rw [← e1, ← e2] at go
    simp (disch := omega) only [F_X15_and, X15_and_10, ↓wp_bd, ↓wp_rt, ↓wp_lt, wp_ifp, wp_ifn, stA_eq, stA_ne, stA_stA, ups_eq, ups_ne, tn, tnA, tnS, tnM, tn0, tn1, Int.reduceToNat, if_pos, if_neg, if_true, if_false]
    exact go
  · have e1 : (a : Int) = (x : Int) := by omega
    have e2 : (b : Int) = (y : Int) := by omega
    rw [← e1, ← e2] at go
    simp (disch := omega) only [F_X15_and, X15_and_10, ↓wp_bd, ↓wp_rt, ↓wp_lt, wp_ifp, wp_ifn, stA_eq, stA_ne, stA_stA, ups_eq, ups_ne, tn, tnA, tnS, tnM, tn0, tn1, Int.reduceToNat, if_pos, if_neg, if_true, if_false]
    exact go
end
/-- the search along a chain: it comes to the AND that there is, or to the end -/
theorem an2_80 {n x y h : Nat} {lo hi : Nat → Nat} {σ : St} (hn : n ≤ 4000) (k5 : ∀ k, k < n → σ.1 2146 (16000 + k) = (lo k : Int) ∧ σ.1 2147 (16000 + k) = (hi k : Int)) (hc : chOk (σ.1 2151) (σ.1 2152) n (fun k => hcT (lo k) (hi k))) (hh : h = hcT x y) {Q : Int → St → Prop} (f1 : (∀ k, k < n → ¬ (lo k = x ∧ hi k = y)) → wp (X15_and_149 (x : Int) (y : Int) (h : Int)) σ Q) (f2 : ∀ k, k < n → lo k = x → hi k = y → wp (X15_and_116 (k : Int)) σ Q) : wp (X15_and_80 FU (x : Int) (y : Int) (h : Int) (σ.1 2151 h)) σ Q := by
  have hf := FU_ge
  have hlt : h < 16384 := by rw [hh]; exact hcT_lt x y
  have all : ∀ m z, ((z = -1 ∧ m = 0 ∧ ∀ k, k < n → ¬ (lo k = x ∧ hi k = y)) ∨ ∃ k : Nat, k < n ∧ z = (k : Int) ∧ m = k + 1 ∧ hcT (lo k) (hi k) = h ∧ ∀ k', k < k' → k' < n → ¬ (lo k' = x ∧ hi k' = y)) → wp (X15_and_80 FU (x : Int) (y : Int) (h : Int) z) σ Q := by
    intro m z hz
    refine loopM (L := fun f (z : Int) => X15_and_80 f (x : Int) (y : Int) (h : Int) z) (fun m z τ => τ = σ ∧ ((z = -1 ∧ m = 0 ∧ ∀ k, k < n → ¬ (lo k = x ∧ hi k = y)) ∨ ∃ k : Nat, k < n ∧ z = (k : Int) ∧ m = k + 1 ∧ hcT (lo k) (hi k) = h ∧ ∀ k', k < k' → k' < n → ¬ (lo k' = x ∧ hi k' = y))) ?_ FU m z σ (by rcases hz with ⟨_, q, _⟩ | ⟨k, _, _, q, _⟩ <;> omega) ⟨rfl, hz⟩
    rintro f m z τ ⟨rfl, ⟨rfl, hm, hno⟩ | ⟨k, hk, rfl, hm, hs, hgt⟩⟩ ih
    · simp (disch := omega) only [X15_and_80, ↓wp_bd, ↓wp_rt, ↓wp_lt, wp_ifp, wp_ifn, stA_eq, stA_ne, stA_stA, ups_eq, ups_ne, w32_i, RI_2146, RI_2147, tn, tnA, tnS, tnM, tn0, tn1, Int.reduceToNat, if_pos, if_neg, if_true, if_false]
      exact f1 hno
    · obtain ⟨g1, g2⟩ := k5 k hk
      by_cases e1 : lo k = x
      · by_cases e2 : hi k = y
        · simp (disch := omega) only [X15_and_80, ↓wp_bd, ↓wp_rt, ↓wp_lt, wp_ifp, wp_ifn, stA_eq, stA_ne, stA_stA, ups_eq, ups_ne, w32_i, RI_2146, RI_2147, tn, tnA, tnS, tnM, tn0, tn1, Int.reduceToNat, if_pos, if_neg, if_true, if_false, g1, g2]
          exact f2 k hk e1 e2
        · have go : ∀ z, z = τ.1 2152 k → wp (X15_and_80 f (x : Int) (y : Int) (h : Int) z) τ Q := by
            rintro z rfl
            rcases hc.2 k hk with ⟨q1, q2⟩ | ⟨k1, q1, q2, q3, q4⟩
            · refine ih 0 _ _ (by omega) ⟨rfl, Or.inl ⟨q1, rfl, fun k' hk' q => ?_⟩⟩
              rcases Nat.lt_trichotomy k' k with w | w | w
              · exact q2 k' w (by dsimp only; rw [q.1, q.2, ← hh, hs])
              · subst w; exact e2 q.2
              · exact hgt k' w hk' q
            · refine ih (k1 + 1) _ _ (by omega) ⟨rfl, Or.inr ⟨k1, by omega, q2, rfl, q3.trans hs, fun k' h1 h2 q => ?_⟩⟩
              rcases Nat.lt_trichotomy k' k with w | w | w
              · exact q4 k' h1 w (by dsimp only; rw [q.1, q.2, ← hh, hs])
              · subst w; exact e2 q.2
              · exact hgt k' w h2 q
          simp (disch := omega) only [X15_and_80, X15_and_137, ↓wp_bd, ↓wp_rt, ↓wp_lt, wp_ifp, wp_ifn, stA_eq, stA_ne, stA_stA, ups_eq, ups_ne, w32_i, RI_2146, RI_2147, RI_2152, tn, tnA, tnS, tnM, tn0, tn1, Int.reduceToNat, if_pos, if_neg, if_true, if_false, g1, g2]
          exact go _ rfl
      · have go : ∀ z, z = τ.1 2152 k → wp (X15_and_80 f (x : Int) (y : Int) (h : Int) z) τ Q := by
          rintro z rfl
          rcases hc.2 k hk with ⟨q1, q2⟩ | ⟨k1, q1, q2, q3, q4⟩
          · refine ih 0 _ _ (by omega) ⟨rfl, Or.inl ⟨q1, rfl, fun k' hk' q => ?_⟩⟩
            rcases Nat.lt_trichotomy k' k with w | w | w
            · exact q2 k' w (by dsimp only; rw [q.1, q.2, ← hh, hs])
            · subst w; exact e1 q.1
            · exact hgt k' w hk' q
          · refine ih (k1 + 1) _ _ (by omega) ⟨rfl, Or.inr ⟨k1, by omega, q2, rfl, q3.trans hs, fun k' h1 h2 q => ?_⟩⟩
            rcases Nat.lt_trichotomy k' k with w | w | w
            · exact q4 k' h1 w (by dsimp only; rw [q.1, q.2, ← hh, hs])
            · subst w; exact e1 q.1
            · exact hgt k' w h2 q
        simp (disch := omega) only [X15_and_80, X15_and_137, ↓wp_bd, ↓wp_rt, ↓wp_lt, wp_ifp, wp_ifn, stA_eq, stA_ne, stA_stA, ups_eq, ups_ne, w32_i, RI_2146, RI_2147, RI_2152, tn, tnA, tnS, tnM, tn0, tn1, Int.reduceToNat, if_pos, if_neg, if_true, if_false, g1, g2]
        exact go _ rfl
  rcases hc.1 h hlt with ⟨q1, q2⟩ | ⟨k, q1, q2, q3, q4⟩
  · exact all 0 _ (Or.inl ⟨q1, rfl, fun k hk q => q2 k hk (by dsimp only; rw [q.1, q.2, ← hh])⟩)
  · exact all (k + 1) _ (Or.inr ⟨k, q1, q2, rfl, q3, fun k' h1 h2 q => q4 k' h1 h2 (by dsimp only; rw [q.1, q.2, ← hh])⟩)
