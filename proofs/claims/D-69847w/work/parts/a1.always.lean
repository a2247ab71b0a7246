set_option maxRecDepth 100000
set_option maxHeartbeats 400000
/-! ===== read: the twin's question whether a sink is always driven ===== -/
section
variable {τ : St} {nS : Nat} {x y : Int}
noncomputable def alB (R : RW) (n : Nat) (x y a e : Int) : Int := @ite _ (AL R n x y a e) (Classical.propDecidable _) 1 0
theorem alB_y {R : RW} {n : Nat} {a e : Int} (h : AL R n x y a e) : alB R n x y a e = 1 := @if_pos _ (Classical.propDecidable _) h _ _ _
theorem alB_n {R : RW} {n : Nat} {a e : Int} (h : ¬ AL R n x y a e) : alB R n x y a e = 0 := @if_neg _ (Classical.propDecidable _) h _ _ _
theorem always15 (h46 : τ.1 2075 46 = (nS : Int)) (hn : nS ≤ 2000) (hord : ∀ k, k < nS → τ.1 2111 k < (k : Int)) (hz : ∀ k, k < nS → τ.1 2107 k = -1 ∨ 0 ≤ τ.1 2107 k) : ∀ (d f : Nat) (a e : Int), (nS : Int) - a ≤ d → d + 1 ≤ f → ∀ Q : Int → St → Prop, Q (alB (rwT τ) nS x y a e) τ → wp ((G_X15_always f) a e x y) τ Q := by
  intro d
  induction d with
  | zero =>
    intro f a e hd hf Q hQ
    obtain ⟨f', rfl⟩ : ∃ f', f = f' + 1 := ⟨f - 1, by omega⟩
    show wp (F_X15_always (G_X15_always f') a e x y) τ Q
    have hF := FU_ge
    have hno : ∀ k, k < nS → ¬ (τ.1 2111 k = a) := fun k hk h => by have := hord k hk; omega
    have hA : ¬ AL (rwT τ) nS x y a e := AL_none (fun k hk h => hno k hk h.1)
    rw [alB_n hA] at hQ
    rw [F_X15_always, wp_lt]
    refine loopM (L := fun f2 (z : Int) => X15_always_3 (G_X15_always f') f2 a e x y z) (fun m z υ => ∃ k : Nat, z = (k : Int) ∧ k ≤ nS ∧ m = nS - k ∧ υ = τ) ?_ FU nS 0 τ (by omega) ⟨0, rfl, Nat.zero_le _, rfl, rfl⟩
    rintro f2 m z υ ⟨k, rfl, hk, rfl, rfl⟩ ih
    show wp (X15_always_3 (G_X15_always f') (f2 + 1) a e x y (k : Int)) _ Q
    rw [X15_always_3, bgI h46]
    by_cases c : k < nS
    · rw [wp_ifn (by omega), wp_bd, RI_2111 (by omega) (by omega), tn, wp_ifn (hno k c), X15_always_110, wp_lt, w32_i (by omega) (by omega)]
      exact ih (nS - (k + 1)) _ _ (by omega) ⟨k + 1, by omega, by omega, rfl, rfl⟩
    · rw [wp_ifp (by omega), c_rtZ (by decide) (by decide)]; exact hQ
  | succ d ihd =>
    intro f a e hd hf Q hQ
    obtain ⟨f', rfl⟩ : ∃ f', f = f' + 1 := ⟨f - 1, by omega⟩
    show wp (F_X15_always (G_X15_always f') a e x y) τ Q
    have hF := FU_ge
    rw [F_X15_always, wp_lt]
    refine loopM (L := fun f2 (z : Int) => X15_always_3 (G_X15_always f') f2 a e x y z) (fun m z υ => ∃ k : Nat, z = (k : Int) ∧ k ≤ nS ∧ m = nS - k ∧ υ = τ ∧ ∀ k', k' < k → ¬ ((τ.1 2111 k' = a ∧ τ.1 2112 k' = e) ∧ gives (rwT τ) nS x y k')) ?_ FU nS 0 τ (by omega) ⟨0, rfl, Nat.zero_le _, rfl, rfl, fun k hk => absurd hk (Nat.not_lt_zero k)⟩
    rintro f2 m z υ ⟨k, rfl, hk, rfl, rfl, hno⟩ ih
    show wp (X15_always_3 (G_X15_always f') (f2 + 1) a e x y (k : Int)) _ Q
    rw [X15_always_3, bgI h46]
    by_cases c : k < nS
    · have nx : ¬ ((υ.1 2111 k = a ∧ υ.1 2112 k = e) ∧ gives (rwT υ) nS x y k) → wp (X15_always_110 (G_X15_always f') (X15_always_3 (G_X15_always f') f2) a e x y (k : Int)) υ Q := by
        intro hne
        rw [X15_always_110, wp_lt, w32_i (by omega) (by omega)]
        refine ih (nS - (k + 1)) _ _ (by omega) ⟨k + 1, by omega, by omega, rfl, rfl, fun k' hk' => ?_⟩
        by_cases e : k' = k
        · subst e; exact hne
        · exact hno k' (by omega)
      have yes : (υ.1 2111 k = a ∧ υ.1 2112 k = e) → gives (rwT υ) nS x y k → wp (rtZ 1) υ Q := by
        intro h1 h2
        have hA : AL (rwT υ) nS x y a e := AL_iff.mpr ⟨k, c, h1, h2⟩
        rw [alB_y hA] at hQ
        rw [c_rtZ (by decide) (by decide)]; exact hQ
      rw [wp_ifn (by omega), wp_bd, RI_2111 (by omega) (by omega), tn]
      by_cases c1 : υ.1 2111 k = a
      · have hka := hord k c
        rw [wp_ifp c1, wp_bd, RI_2112 (by omega) (by omega), tn]
        by_cases c2 : υ.1 2112 k = e
        · rw [wp_ifp c2, wp_bd, RI_2107 (by omega) (by omega), tn]
          by_cases c3 : υ.1 2107 k < 0
          · rw [wp_ifp c3, wp_bd, RI_2113 (by omega) (by omega), tn]
            by_cases c4 : υ.1 2113 k = 0
            · rw [wp_ifp c4]
              refine nx (fun h => ?_)
              rcases h.2 with ⟨w, _⟩ | ⟨_, w, _⟩
              · have : (0 : Int) ≤ υ.1 2107 k := w
                omega
              · exact w c4
            · rw [wp_ifn c4, wp_bd]
              refine ihd f' (k : Int) 0 (by omega) (by omega) _ ?_
              by_cases a0 : AL (rwT υ) nS x y (k : Int) 0
              · rw [alB_y a0, wp_ifn (by decide), wp_bd]
                refine ihd f' (k : Int) 1 (by omega) (by omega) _ ?_
                by_cases a1 : AL (rwT υ) nS x y (k : Int) 1
                · rw [alB_y a1, wp_ifn (by decide)]
                  exact yes ⟨c1, c2⟩ (Or.inr ⟨c3, c4, a0, a1⟩)
                · rw [alB_n a1, wp_ifp rfl]
                  refine nx (fun h => ?_)
                  rcases h.2 with ⟨w, _⟩ | ⟨_, _, _, w⟩
                  · have : (0 : Int) ≤ υ.1 2107 k := w
                    omega
                  · exact a1 w
              · rw [alB_n a0, wp_ifp rfl]
                refine nx (fun h => ?_)
                rcases h.2 with ⟨w, _⟩ | ⟨_, _, w, _⟩
                · have : (0 : Int) ≤ υ.1 2107 k := w
                  omega
                · exact a0 w
          · rw [wp_ifn c3, wp_bd, RI_2107 (by omega) (by omega), tn]
            have nw : ¬ (υ.1 2107 k = x ∧ υ.1 2108 k = y) → wp (X15_always_110 (G_X15_always f') (X15_always_3 (G_X15_always f') f2) a e x y (k : Int)) υ Q := by
              intro hne
              refine nx (fun h => ?_)
              rcases h.2 with ⟨_, w1, w2⟩ | ⟨w, _⟩
              · exact hne ⟨w1, w2⟩
              · exact c3 w
            by_cases c4 : υ.1 2107 k = x
            · rw [wp_ifp c4, wp_bd, RI_2108 (by omega) (by omega), tn]
              by_cases c5 : υ.1 2108 k = y
              · rw [wp_ifp c5]
                exact yes ⟨c1, c2⟩ (Or.inl ⟨by show (0 : Int) ≤ υ.1 2107 k; omega, c4, c5⟩)
              · rw [wp_ifn c5]
                exact nw (fun h => c5 h.2)
            · rw [wp_ifn c4]
              exact nw (fun h => c4 h.1)
        · rw [wp_ifn c2]
          exact nx (fun h => c2 h.1.2)
      · rw [wp_ifn c1]
        exact nx (fun h => c1 h.1.1)
    · obtain rfl : k = nS := by omega
      rw [alB_n (fun h => by
        obtain ⟨k', h1, h2, h3⟩ := AL_iff.mp h
        exact hno k' h1 ⟨h2, h3⟩)] at hQ
      rw [wp_ifp (by omega), c_rtZ (by decide) (by decide)]; exact hQ
end
