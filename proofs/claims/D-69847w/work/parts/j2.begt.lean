set_option maxRecDepth 100000
set_option maxHeartbeats 400000
/-! ===== bits: the twin begins ===== -/
/-- what the twin's making of a net leaves alone -/
def tU (a k : Nat) : Prop := ¬ ((a = 2075 ∧ (k = 103 ∨ k = 105 ∨ k = 109 ∨ k = 112 ∨ (81 ≤ k ∧ k ≤ 83))) ∨ ((2142 ≤ a ∧ a ≤ 2145) ∧ k = 4) ∨ ((a = 2146 ∨ a = 2147) ∧ 16000 ≤ k) ∨ (a = 2148 ∧ 256 ≤ k) ∨ ((a = 2149 ∨ a = 2150) ∧ 800 ≤ k) ∨ (2151 ≤ a ∧ a ≤ 2163))
section
variable {Ms : Nat → ModV} {top : Nat} {s : LYS} {σ τ υ : St} {S g : Nat}
theorem tG_U (h : agr tG σ τ) : agr tU σ τ := agr.sub h (fun a k q => by unfold tU at q; unfold tG; omega)
theorem tU_D (hS5 : S < 5) : ∀ a k, dT S a k → tU a k := fun a k q => by unfold dT at q; unfold tU; omega
theorem dm_tU (h : DM σ S Ms top s) (hd : DP Ms top s) (hS5 : S < 5) (e : agr tU σ τ) : DM τ S Ms top s := h.fr hd (agr.sub e (fun a k q => tU_D hS5 a k q))
theorem FrW_U (h : FrW σ τ) (h2 : τ.2 = σ.2) : agr tU σ τ := by
  intro a k q
  unfold tU at q
  obtain ⟨a1, a2, a3, a4, a5, a6⟩ := h
  refine ⟨?_, by rw [h2], by rw [h2]⟩
  by_cases c1 : a = 2075
  · subst c1; exact a2 k (by omega)
  by_cases c2 : a < 2142 ∨ 2152 < a
  · rw [a1 a c1 c2]
  by_cases c3 : a ≤ 2145
  · have h3 := a3 k (by omega)
    have : a = 2142 ∨ a = 2143 ∨ a = 2144 ∨ a = 2145 := by omega
    rcases this with e | e | e | e <;> subst e
    · exact h3.1
    · exact h3.2.1
    · exact h3.2.2.1
    · exact h3.2.2.2
  by_cases c4 : a ≤ 2147
  · have h4 := a4 k (by omega)
    have : a = 2146 ∨ a = 2147 := by omega
    rcases this with e | e <;> subst e
    · exact h4.1
    · exact h4.2
  by_cases c5 : a = 2148
  · subst c5; exact a5 k (by omega)
  · have h6 := a6 k (by omega)
    have : a = 2149 ∨ a = 2150 := by omega
    rcases this with e | e <;> subst e
    · exact h6.1
    · exact h6.2
/-- where all signals' bits stand -/
theorem beg30 (hd : DP Ms top s) (hlim : limOK Ms s) (hS5 : S < 5) (hM : DM σ S Ms top s) {Q : Int → St → Prop} (hQ : ∀ τ, (∀ a, a ≠ 2155 → a ≠ 2156 → τ.1 a = σ.1 a) → τ.2 = σ.2 → (∀ g, g < lsG s → τ.1 2155 g = (bitsS Ms s g : Int)) → wp (X15_bits_158 (S : Int) (inbS Ms s (lsG s) : Int) (keptS Ms s (lsG s) : Int)) τ Q) : wp (X15_bits_30 FU (S : Int) 0 0 0 0) σ Q := by
  have hF := FU_ge
  have h200 := hd.2.1.2
  have key : ∀ k2 g f τ, g + k2 = lsG s → k2 < f → (∀ a, a ≠ 2155 → a ≠ 2156 → τ.1 a = σ.1 a) → τ.2 = σ.2 → (∀ x, x < g → τ.1 2155 x = (bitsS Ms s x : Int)) → wp (X15_bits_30 f (S : Int) (inbS Ms s g : Int) (keptS Ms s g : Int) (bitsS Ms s g : Int) (g : Int)) τ Q := by
    intro k2
    induction k2 with
    | zero =>
      intro g f τ hg hf b1' b2 b3
      obtain ⟨f', rfl⟩ : ∃ f', f = f' + 1 := ⟨f - 1, by omega⟩
      have eg : g = lsG s := by omega
      subst eg
      rw [X15_bits_30, wp_bd, RI_2115 (by omega) (by omega), tn, b1' 2115 (by decide) (by decide), hM.1.1.1, wp_ifp (by omega)]
      exact hQ τ b1' b2 b3
    | succ k2 ih =>
      intro g f τ hg hf b1' b2 b3
      obtain ⟨f', rfl⟩ : ∃ f', f = f' + 1 := ⟨f - 1, by omega⟩
      have hgl : g < lsG s := by omega
      obtain ⟨-, ⟨g1, g2, g3⟩, g5, g6⟩ := hM.1.2.2.2 g hgl
      obtain ⟨-, -, -, -, ⟨s5, s6⟩, ⟨s7, s8⟩, -⟩ := hd.sig hgl
      have hbt := bits_in hlim hgl
      have hsl := sums_le (Ms := Ms) (s := s) (g := g + 1)
      have hsl0 := sums_le (Ms := Ms) (s := s) (g := g)
      have eb : bitsS Ms s (g + 1) = bitsS Ms s g + szG Ms s g := rfl
      have ei : inbS Ms s (g + 1) = inbS Ms s g + b1 (tiG Ms s g) (szG Ms s g) := rfl
      have ek : keptS Ms s (g + 1) = keptS Ms s g + b1 (stG Ms s g) (szG Ms s g) := rfl
      have go126 : ∀ v : Nat, v = b1 (stG Ms s g) (szG Ms s g) → wp (X15_bits_126 (X15_bits_30 f') (S : Int) (inbS Ms s (g + 1) : Int) (bitsS Ms s g : Int) (g : Int) (szG Ms s g : Int) (keptS Ms s g : Int) (v : Int)) τ Q := by
        intro v hv
        rw [X15_bits_126, wp_lt, wN (by omega), wp_bd, RV_2155 (by omega) (by omega), tn, wp_lt, wN (by omega), wp_bd, RV_2156 (by omega) (by omega) (by decide) (by decide), tn, wp_lt, wN1 (by omega), hv, ← ek, ← eb]
        refine ih (g + 1) f' _ (by omega) (by omega) (fun a h1 h2 => ?_) b2 (fun x hx => ?_)
        · dsimp only; rw [stA_ne h2, stA_ne h1]; exact b1' a h1 h2
        · dsimp only
          rw [stA_ne (by decide), stA_eq]
          by_cases e : x = g
          · subst e; rw [ups_eq]
          · rw [ups_ne e]; exact b3 x (by omega)
      have go95 : ∀ v : Nat, v = b1 (tiG Ms s g) (szG Ms s g) → wp (X15_bits_95 (X15_bits_30 f') (S : Int) (keptS Ms s g : Int) (bitsS Ms s g : Int) (g : Int) ((200 * S + g : Nat) : Int) (szG Ms s g : Int) (inbS Ms s g : Int) (v : Int)) τ Q := by
        intro v hv
        rw [X15_bits_95, wp_lt, wN (by omega), hv, ← ei, wp_bd, RI_2122 (by omega) (by omega), tn, b1' 2122 (by decide) (by decide), g1]
        by_cases c3 : kdS Ms s g = 3
        · rw [wp_ifp (by omega)]
          exact go126 _ (b1_y (show stG Ms s g from Or.inl c3)).symm
        · rw [wp_ifn (by omega), wp_bd, RI_2122 (by omega) (by omega), tn, b1' 2122 (by decide) (by decide), g1]
          by_cases c4 : kdS Ms s g = 4
          · rw [wp_ifp (by omega)]
            exact go126 _ (b1_y (show stG Ms s g from Or.inr c4)).symm
          · rw [wp_ifn (by omega)]
            exact go126 0 (b1_n (fun h : stG Ms s g => h.elim c3 c4)).symm
      rw [X15_bits_30, wp_bd, RI_2115 (by omega) (by omega), tn, b1' 2115 (by decide) (by decide), hM.1.1.1, wp_ifn (by omega), wp_lt, e200S hS5 (by omega), wp_bd, RI_2123 (by omega) (by omega), tn, b1' 2123 (by decide) (by decide), g2, wp_bd, RI_2124 (by omega) (by omega), tn, b1' 2124 (by decide) (by decide), g3, wp_lt, wM (by have : szG Ms s g = wdS Ms s g * wsG Ms s g := rfl; omega), show wdS Ms s g * wsG Ms s g = szG Ms s g from rfl, wp_bd, RI_2122 (by omega) (by omega), tn, b1' 2122 (by decide) (by decide), g1]
      by_cases c0 : kdS Ms s g = 0
      · rw [wp_ifp (by omega), wp_bd, RI_2125 (by omega) (by omega), tn, b1' 2125 (by decide) (by decide), g5]
        by_cases ci : lsi s g = 0
        · rw [wp_ifp (by omega)]
          exact go95 _ (b1_y (show tiG Ms s g from ⟨ci, c0⟩)).symm
        · rw [wp_ifn (by omega)]
          exact go95 0 (b1_n (fun h : tiG Ms s g => ci h.1)).symm
      · rw [wp_ifn (by omega)]
        exact go95 0 (b1_n (fun h : tiG Ms s g => c0 h.2)).symm
  have := key (lsG s) 0 FU σ (by omega) (by omega) (fun _ _ _ => rfl) rfl (fun x hx => absurd hx (Nat.not_lt_zero x))
  exact this
/-- the literals that stand from the start -/
theorem beg180 (hd : DP Ms top s) (hlim : limOK Ms s) (hS5 : S < 5) (hM : DM σ S Ms top s) (h55 : ∀ g, g < lsG s → σ.1 2155 g = (bitsS Ms s g : Int)) {Q : Int → St → Prop} (hQ : ∀ τ, (∀ a, a ≠ 2154 → a ≠ 2156 → τ.1 a = σ.1 a) → τ.2 = σ.2 → DBM Ms s (fun _ => False) (bst0 Ms s) τ → wp (X15_bits_387 (S : Int)) τ Q) : wp (X15_bits_180 FU (S : Int) 1 ((inbS Ms s (lsG s) + 1 : Nat) : Int) 0) σ Q := by
  have hF := FU_ge
  have h200 := hd.2.1.2
  have hin : inbS Ms s (lsG s) ≤ 64 := hlim.2.2.1
  have hke : keptS Ms s (lsG s) ≤ 200 := hlim.1.2
  have key : ∀ k2 g f τ, g + k2 = lsG s → k2 < f → (∀ a, a ≠ 2154 → a ≠ 2156 → τ.1 a = σ.1 a) → τ.2 = σ.2 → (∀ x, x < g → (stG Ms s x → τ.1 2156 x = 1 ∧ ∀ k, k < szG Ms s x → τ.1 2154 (bitsS Ms s x + k) = (stL Ms s x k : Int)) ∧ (tiG Ms s x → τ.1 2156 x = 1 ∧ ∀ k, k < szG Ms s x → τ.1 2154 (bitsS Ms s x + k) = ((2 * (inbS Ms s x + k + 1) : Nat) : Int)) ∧ (¬ stG Ms s x → ¬ tiG Ms s x → τ.1 2156 x = 0)) → wp (X15_bits_180 f (S : Int) ((inbS Ms s g + 1 : Nat) : Int) ((inbS Ms s (lsG s) + 1 + keptS Ms s g : Nat) : Int) (g : Int)) τ Q := by
    intro k2
    induction k2 with
    | zero =>
      intro g f τ hg hf b1' b2 b3
      obtain ⟨f', rfl⟩ : ∃ f', f = f' + 1 := ⟨f - 1, by omega⟩
      have eg : g = lsG s := by omega
      subst eg
      rw [X15_bits_180, wp_bd, RI_2115 (by omega) (by omega), tn, b1' 2115 (by decide) (by decide), hM.1.1.1, wp_ifp (by omega)]
      refine hQ τ b1' b2 (fun x hx => ⟨fun hs => (b3 x hx).1 hs, fun hs => ?_⟩)
      by_cases ct : tiG Ms s x
      · obtain ⟨t1, t2⟩ := (b3 x hx).2.1 ct
        have e : @decide (tiG Ms s x) (Classical.propDecidable _) = true := @decide_eq_true _ (Classical.propDecidable _) ct
        refine ⟨?_, fun _ _ j hj => ?_⟩
        · rw [t1]
          show (1 : Int) = if @decide (tiG Ms s x) (Classical.propDecidable _) = true then 1 else 0
          rw [if_pos e]
        · have hws := wd_sz hd hx
          rw [t2 j (by omega)]
          show _ = ((@ite _ (tiG Ms s x) (Classical.propDecidable _) (2 * (inbS Ms s x + j + 1)) 0 : Nat) : Int)
          rw [if_pos ct]
      · have e : @decide (tiG Ms s x) (Classical.propDecidable _) = false := @decide_eq_false _ (Classical.propDecidable _) ct
        refine ⟨?_, fun h _ j hj => ?_⟩
        · rw [(b3 x hx).2.2 hs ct]
          show (0 : Int) = if @decide (tiG Ms s x) (Classical.propDecidable _) = true then 1 else 0
          rw [e]
          rfl
        · exact absurd (@of_decide_eq_true _ (Classical.propDecidable _) h) ct
    | succ k2 ih =>
      intro g f τ hg hf b1' b2 b3
      obtain ⟨f', rfl⟩ : ∃ f', f = f' + 1 := ⟨f - 1, by omega⟩
      have hgl : g < lsG s := by omega
      obtain ⟨-, ⟨g1, g2, g3⟩, g5, g6⟩ := hM.1.2.2.2 g hgl
      obtain ⟨-, -, -, -, ⟨s5, s6⟩, ⟨s7, s8⟩, -⟩ := hd.sig hgl
      have hbt := bits_in hlim hgl
      have ei : inbS Ms s (g + 1) = inbS Ms s g + b1 (tiG Ms s g) (szG Ms s g) := rfl
      have ek : keptS Ms s (g + 1) = keptS Ms s g + b1 (stG Ms s g) (szG Ms s g) := rfl
      have hi1 : inbS Ms s (g + 1) ≤ inbS Ms s (lsG s) := smF_mono (by omega)
      have hk1 : keptS Ms s (g + 1) ≤ keptS Ms s (lsG s) := smF_mono (by omega)
      have apart : ∀ x k, x < g → k < szG Ms s x → bitsS Ms s x + k < bitsS Ms s g := fun x k hx hk => by
        have h1 : bitsS Ms s (x + 1) ≤ bitsS Ms s g := smF_mono hx
        have h2 : bitsS Ms s (x + 1) = bitsS Ms s x + szG Ms s x := rfl
        omega
      -- behind a signal's literals
      have go359 : ∀ (d : Int) τ', (d = 1 ∨ d = 0) → (d = 1 ↔ stG Ms s g ∨ tiG Ms s g) → (∀ a, a ≠ 2154 → a ≠ 2156 → τ'.1 a = σ.1 a) → τ'.2 = σ.2 → τ'.1 2156 = τ.1 2156 → (∀ k, k < bitsS Ms s g → τ'.1 2154 k = τ.1 2154 k) → (stG Ms s g → ∀ k, k < szG Ms s g → τ'.1 2154 (bitsS Ms s g + k) = (stL Ms s g k : Int)) → (tiG Ms s g → ∀ k, k < szG Ms s g → τ'.1 2154 (bitsS Ms s g + k) = ((2 * (inbS Ms s g + k + 1) : Nat) : Int)) → wp (X15_bits_380 (X15_bits_180 f') (S : Int) ((inbS Ms s (g + 1) + 1 : Nat) : Int) ((inbS Ms s (lsG s) + 1 + keptS Ms s (g + 1) : Nat) : Int) (g : Int) (g : Int) d) τ' Q := by
        intro d τ' hd1 hd2 c1 c2 c3 c4 c5 c6
        rw [X15_bits_380, wp_bd, RV_2156 (by omega) (by omega) (by omega) (by omega), tn, wp_lt, wN1 (by omega)]
        refine ih (g + 1) f' _ (by omega) (by omega) (fun a h1 h2 => ?_) c2 (fun x hx => ?_)
        · dsimp only; rw [stA_ne h2]; exact c1 a h1 h2
        · dsimp only
          rw [stA_eq, stA_ne (by decide)]
          by_cases e : x = g
          · subst e
            rw [ups_eq]
            refine ⟨fun h => ⟨hd2.mpr (Or.inl h), c5 h⟩, fun h => ⟨hd2.mpr (Or.inr h), c6 h⟩, fun h1 h2 => ?_⟩
            rcases hd1 with w | w
            · exact ((hd2.mp w).elim h1 h2).elim
            · exact w
          · rw [ups_ne e, c3]
            obtain ⟨v1, v2, v3⟩ := b3 x (by omega)
            refine ⟨fun h => ⟨(v1 h).1, fun k hk => ?_⟩, fun h => ⟨(v2 h).1, fun k hk => ?_⟩, v3⟩
            · rw [c4 _ (apart x k (by omega) hk)]; exact (v1 h).2 k hk
            · rw [c4 _ (apart x k (by omega) hk)]; exact (v2 h).2 k hk
      -- a signal with literals
      have lits : ∀ (st : Bool) (d10 d11 : Int), (st = true → d10 = 1 ∧ d11 = 0 ∧ stG Ms s g ∧ ¬ tiG Ms s g) → (st = false → d10 = 0 ∧ d11 = 1 ∧ ¬ stG Ms s g ∧ tiG Ms s g) → wp (X15_bits_272 (X15_bits_180 f') (S : Int) ((inbS Ms s g + 1 : Nat) : Int) ((inbS Ms s (lsG s) + 1 + keptS Ms s g : Nat) : Int) (g : Int) (szG Ms s g : Int) d10 d11) τ Q := by
        intro st d10 d11 h1 h2
        cases st with
        | true =>
          obtain ⟨rfl, rfl, hs, hnt⟩ := h1 rfl
          rw [b1_n hnt] at ei
          rw [b1_y hs] at ek
          rw [X15_bits_272, wp_lt, wp_lt]
          refine lpN (w := szG Ms s g) (L := fun m j => X15_bits_277 (X15_bits_180 f') m (S : Int) ((inbS Ms s g + 1 : Nat) : Int) ((inbS Ms s (lsG s) + 1 + keptS Ms s g + j : Nat) : Int) (g : Int) (szG Ms s g : Int) 1 0 (j : Int)) (I := fun j υ => (∀ a, a ≠ 2154 → υ.1 a = τ.1 a) ∧ υ.2 = τ.2 ∧ CE (τ.1 2154) (υ.1 2154) (bitsS Ms s g) (szG Ms s g) j (stL Ms s g)) ?_ ?_ (show szG Ms s g < FU by omega) ⟨fun _ _ => rfl, rfl, CE.init⟩
          · rintro m j υ hj ⟨c1, c2, c3⟩ ih2
            show wp (X15_bits_277 (X15_bits_180 f') (m + 1) (S : Int) ((inbS Ms s g + 1 : Nat) : Int) ((inbS Ms s (lsG s) + 1 + keptS Ms s g + j : Nat) : Int) (g : Int) (szG Ms s g : Int) 1 0 (j : Int)) υ Q
            have e2 : w32 (2 * ((inbS Ms s (lsG s) + 1 + keptS Ms s g + j : Nat) : Int)) = (stL Ms s g j : Int) := by
              rw [w32_i (by omega) (by omega)]; unfold stL; omega
            rw [X15_bits_277, wp_ifn (by omega), wp_ifn (by decide), X15_bits_294, wp_bd, RI_2155 (by omega) (by omega), tn, c1 2155 (by decide), b1' 2155 (by decide) (by decide), h55 g hgl, wp_ifn (by decide), X15_bits_321, wN (a := bitsS Ms s g) (by omega), wp_bd, RV_2154 (by omega) (by omega), tn, e2]
            clear e2
            rw [wp_ifn (by decide), X15_bits_335, wp_lt, wN1 (by omega), wp_ifn (by decide), X15_bits_350, wp_lt, Int.add_zero, w32_i (x := ((inbS Ms s g + 1 : Nat) : Int)) (by omega) (by omega), wp_lt, wN1 (by omega)]
            exact ih2 _ ⟨fun a ha => by dsimp only; rw [stA_ne ha]; exact c1 a ha, c2, by dsimp only; rw [stA_eq]; exact c3.up' hj⟩
          · rintro m υ ⟨c1, c2, c3⟩
            show wp (X15_bits_277 (X15_bits_180 f') (m + 1) (S : Int) ((inbS Ms s g + 1 : Nat) : Int) ((inbS Ms s (lsG s) + 1 + keptS Ms s g + szG Ms s g : Nat) : Int) (g : Int) (szG Ms s g : Int) 1 0 (szG Ms s g : Int)) υ Q
            rw [X15_bits_277, wp_ifp (by omega), X15_bits_359, wp_ifn (by decide)]
            have := go359 1 υ (Or.inl rfl) ⟨fun _ => Or.inl hs, fun _ => rfl⟩ (fun a q1 q2 => by rw [c1 a q1]; exact b1' a q1 q2) (c2.trans b2) (c1 2156 (by decide)) (fun k hk => c3.1 k (Or.inl hk)) (fun _ => c3.2) (fun h => absurd h hnt)
            rw [ei, ek, Nat.add_zero] at this
            rw [show inbS Ms s (lsG s) + 1 + keptS Ms s g + szG Ms s g = inbS Ms s (lsG s) + 1 + (keptS Ms s g + szG Ms s g) by omega]
            exact this
        | false =>
          obtain ⟨rfl, rfl, hns, ht⟩ := h2 rfl
          rw [b1_y ht] at ei
          rw [b1_n hns] at ek
          rw [X15_bits_272, wp_lt, wp_lt]
          refine lpN (w := szG Ms s g) (L := fun m j => X15_bits_277 (X15_bits_180 f') m (S : Int) ((inbS Ms s g + 1 + j : Nat) : Int) ((inbS Ms s (lsG s) + 1 + keptS Ms s g : Nat) : Int) (g : Int) (szG Ms s g : Int) 0 1 (j : Int)) (I := fun j υ => (∀ a, a ≠ 2154 → υ.1 a = τ.1 a) ∧ υ.2 = τ.2 ∧ CE (τ.1 2154) (υ.1 2154) (bitsS Ms s g) (szG Ms s g) j (fun j => 2 * (inbS Ms s g + j + 1))) ?_ ?_ (show szG Ms s g < FU by omega) ⟨fun _ _ => rfl, rfl, CE.init⟩
          · rintro m j υ hj ⟨c1, c2, c3⟩ ih2
            show wp (X15_bits_277 (X15_bits_180 f') (m + 1) (S : Int) ((inbS Ms s g + 1 + j : Nat) : Int) ((inbS Ms s (lsG s) + 1 + keptS Ms s g : Nat) : Int) (g : Int) (szG Ms s g : Int) 0 1 (j : Int)) υ Q
            have e2 : w32 (2 * ((inbS Ms s g + 1 + j : Nat) : Int)) = ((2 * (inbS Ms s g + j + 1) : Nat) : Int) := by
              rw [w32_i (by omega) (by omega)]; omega
            rw [X15_bits_277, wp_ifn (by omega), wp_ifp rfl, wp_ifn (by decide), X15_bits_294, wp_bd, RI_2155 (by omega) (by omega), tn, c1 2155 (by decide), b1' 2155 (by decide) (by decide), h55 g hgl, wp_ifp rfl, X15_bits_321, wN (a := bitsS Ms s g) (by omega), wp_bd, RV_2154 (by omega) (by omega), tn, e2]
            clear e2
            rw [wp_ifp rfl, X15_bits_335, wp_lt, Int.add_zero, w32_i (x := ((inbS Ms s (lsG s) + 1 + keptS Ms s g : Nat) : Int)) (by omega) (by omega), wp_ifp rfl, X15_bits_350, wp_lt, wN1 (by omega), wp_lt, wN1 (by omega)]
            exact ih2 _ ⟨fun a ha => by dsimp only; rw [stA_ne ha]; exact c1 a ha, c2, by dsimp only; rw [stA_eq]; exact c3.up' (o := fun j => 2 * (inbS Ms s g + j + 1)) hj⟩
          · rintro m υ ⟨c1, c2, c3⟩
            show wp (X15_bits_277 (X15_bits_180 f') (m + 1) (S : Int) ((inbS Ms s g + 1 + szG Ms s g : Nat) : Int) ((inbS Ms s (lsG s) + 1 + keptS Ms s g : Nat) : Int) (g : Int) (szG Ms s g : Int) 0 1 (szG Ms s g : Int)) υ Q
            rw [X15_bits_277, wp_ifp (by omega), X15_bits_359, wp_ifp rfl, wp_ifn (by decide)]
            have := go359 1 υ (Or.inl rfl) ⟨fun _ => Or.inr ht, fun _ => rfl⟩ (fun a q1 q2 => by rw [c1 a q1]; exact b1' a q1 q2) (c2.trans b2) (c1 2156 (by decide)) (fun k hk => c3.1 k (Or.inl hk)) (fun h => absurd h hns) (fun _ => c3.2)
            rw [ei, ek, Nat.add_zero] at this
            rw [show inbS Ms s g + 1 + szG Ms s g = inbS Ms s g + szG Ms s g + 1 by omega]
            exact this
      rw [X15_bits_180, wp_bd, RI_2115 (by omega) (by omega), tn, b1' 2115 (by decide) (by decide), hM.1.1.1, wp_ifn (by omega), wp_lt, e200S hS5 (by omega), wp_bd, RI_2123 (by omega) (by omega), tn, b1' 2123 (by decide) (by decide), g2, wp_bd, RI_2124 (by omega) (by omega), tn, b1' 2124 (by decide) (by decide), g3, wp_lt, wM (by have : szG Ms s g = wdS Ms s g * wsG Ms s g := rfl; omega), show wdS Ms s g * wsG Ms s g = szG Ms s g from rfl, wp_bd, RI_2122 (by omega) (by omega), tn, b1' 2122 (by decide) (by decide), g1]
      have go245 : ∀ d : Int, (d = 1 ∧ stG Ms s g) ∨ (d = 0 ∧ ¬ stG Ms s g) → wp (X15_bits_245 (X15_bits_180 f') (S : Int) ((inbS Ms s g + 1 : Nat) : Int) ((inbS Ms s (lsG s) + 1 + keptS Ms s g : Nat) : Int) (g : Int) ((200 * S + g : Nat) : Int) (szG Ms s g : Int) d) τ Q := by
        intro d hdd
        rw [X15_bits_245, wp_lt, wp_bd, RI_2122 (by omega) (by omega), tn, b1' 2122 (by decide) (by decide), g1]
        rcases hdd with ⟨rfl, hs⟩ | ⟨rfl, hns⟩
        · have hnt : ¬ tiG Ms s g := fun h => ti_ns h hs
          have k0 : kdS Ms s g ≠ 0 := by unfold stG at hs; omega
          rw [wp_ifn (by omega)]
          exact lits true 1 0 (fun _ => ⟨rfl, rfl, hs, hnt⟩) (fun h => absurd h (by decide))
        · by_cases ct : tiG Ms s g
          · rw [wp_ifp (by have := ct.2; omega), wp_bd, RI_2125 (by omega) (by omega), tn, b1' 2125 (by decide) (by decide), g5, wp_ifp (by have := ct.1; omega)]
            exact lits false 0 1 (fun h => absurd h (by decide)) (fun _ => ⟨rfl, rfl, hns, ct⟩)
          · have fin : wp (X15_bits_272 (X15_bits_180 f') (S : Int) ((inbS Ms s g + 1 : Nat) : Int) ((inbS Ms s (lsG s) + 1 + keptS Ms s g : Nat) : Int) (g : Int) (szG Ms s g : Int) 0 0) τ Q := by
              obtain ⟨FU', hFU⟩ : ∃ FU', FU = FU' + 1 := ⟨FU - 1, by omega⟩
              have e1 := szG_le hd hgl
              rw [b1_n ct] at ei
              rw [b1_n hns] at ek
              have := go359 0 τ (Or.inr rfl) ⟨fun h => absurd h (by decide), fun h => (h.elim hns ct).elim⟩ b1' b2 rfl (fun _ _ => rfl) (fun h => absurd h hns) (fun h => absurd h ct)
              rw [ei, ek, Nat.add_zero, Nat.add_zero] at this
              rw [X15_bits_272, wp_lt, wp_lt, hFU, X15_bits_277, wp_ifn (by omega), wp_ifp rfl, wp_ifp rfl, X15_bits_359, wp_ifp rfl, wp_ifp rfl]
              exact this
            by_cases k0 : kdS Ms s g = 0
            · rw [wp_ifp (by omega), wp_bd, RI_2125 (by omega) (by omega), tn, b1' 2125 (by decide) (by decide), g5, wp_ifn (by
                intro h
                exact ct ⟨by omega, k0⟩)]
              exact fin
            · rw [wp_ifn (by omega)]
              exact fin
      by_cases c3 : kdS Ms s g = 3
      · rw [wp_ifp (by omega)]
        exact go245 1 (Or.inl ⟨rfl, Or.inl c3⟩)
      · rw [wp_ifn (by omega), wp_bd, RI_2122 (by omega) (by omega), tn, b1' 2122 (by decide) (by decide), g1]
        by_cases c4 : kdS Ms s g = 4
        · rw [wp_ifp (by omega)]
          exact go245 1 (Or.inl ⟨rfl, Or.inr c4⟩)
        · rw [wp_ifn (by omega)]
          exact go245 0 (Or.inr ⟨rfl, fun h => h.elim c3 c4⟩)
  have h0 : inbS Ms s 0 = 0 := rfl
  have h1 : keptS Ms s 0 = 0 := rfl
  have := key (lsG s) 0 FU σ (by omega) (by omega) (fun _ _ _ => rfl) rfl (fun x hx => absurd hx (Nat.not_lt_zero x))
  rw [h0, h1] at this
  exact this
/-- the twin is ready to make -/
theorem begT (hd : DP Ms top s) (hlim : limOK Ms s) (hS5 : S < 5) (hM : DM σ S Ms top s) (h109 : σ.1 2075 109 = (S : Int)) {Q : Int → St → Prop} (hQ : ∀ τ, BTr Ms top s S (fun _ => False) (bst0 Ms s) 0 τ → agr tU σ τ → τ.1 2075 112 = 0 → τ.1 2145 4 = 0 → wp (X15_bits_395 FU (S : Int) 0) τ Q) : wp (X15_bits_30 FU (S : Int) 0 0 0 0) σ Q := by
  refine beg30 hd hlim hS5 hM (fun τ1 a1 a2 a3 => ?_)
  have t1 : agr tU σ τ1 := fun a k q => by
    unfold tU at q
    exact ⟨by rw [a1 a (by omega) (by omega)], by rw [a2], by rw [a2]⟩
  have hin : inbS Ms s (lsG s) ≤ 64 := hlim.2.2.1
  obtain ⟨τ2, e2, n1, n2, n3, n4⟩ := new15 (σ := τ1) (i := inbS Ms s (lsG s)) (l := keptS Ms s (lsG s))
  have t2 := FrW_U n2 n3
  rw [X15_bits_158, wp_bd, wp_some e2, wp_bd, wp_pI, wp_lt, wp_lt, wN1 (by omega), wp_lt]
  obtain ⟨τ3, hτ3⟩ : ∃ τ3 : St, τ3 = (stA τ2.1 2075 (ups (τ2.1 2075) 112 0), τ2.2) := ⟨_, rfl⟩
  rw [← hτ3]
  have c1 : ∀ a, a ≠ 2075 → τ3.1 a = τ2.1 a := fun a ha => by rw [hτ3]; exact stA_ne ha
  have c2 : ∀ k, k ≠ 112 → τ3.1 2075 k = τ2.1 2075 k := fun k hk => by rw [hτ3]; dsimp only; rw [stA_eq, ups_ne hk]
  have c3 : τ3.1 2075 112 = 0 := by rw [hτ3]; dsimp only; rw [stA_eq, ups_eq]
  have c4 : τ3.2 = τ2.2 := by rw [hτ3]
  have t3 : agr tU τ2 τ3 := fun a k q => by
    unfold tU at q
    refine ⟨?_, by rw [c4], by rw [c4]⟩
    by_cases e : a = 2075
    · subst e; exact c2 k (by omega)
    · rw [c1 a e]
  have hM3 := dm_tU hM hd hS5 ((t1.trans t2).trans t3)
  have e55 : ∀ g, g < lsG s → τ3.1 2155 g = (bitsS Ms s g : Int) := fun g hg => by rw [c1 2155 (by decide), n2.1 2155 (by decide) (Or.inr (by decide))]; exact a3 g hg
  refine beg180 hd hlim hS5 hM3 e55 (fun τ4 b1' b2 b3 => ?_)
  rw [X15_bits_387, wp_bd, wp_pI, wp_lt]
  obtain ⟨τ5, hτ5⟩ : ∃ τ5 : St, τ5 = (stA τ4.1 2075 (ups (τ4.1 2075) 105 0), τ4.2) := ⟨_, rfl⟩
  rw [← hτ5]
  have d1 : ∀ a, a ≠ 2075 → τ5.1 a = τ4.1 a := fun a ha => by rw [hτ5]; exact stA_ne ha
  have d2 : ∀ k, k ≠ 105 → τ5.1 2075 k = τ4.1 2075 k := fun k hk => by rw [hτ5]; dsimp only; rw [stA_eq, ups_ne hk]
  have d3 : τ5.1 2075 105 = 0 := by rw [hτ5]; dsimp only; rw [stA_eq, ups_eq]
  have t4 : agr tU τ3 τ5 := fun a k q => by
    unfold tU at q
    have d4 : τ5.2 = τ3.2 := by rw [hτ5]; exact b2
    refine ⟨?_, by rw [d4], by rw [d4]⟩
    by_cases e : a = 2075
    · subst e; rw [d2 k (by omega), b1' 2075 (by decide) (by decide)]
    · rw [d1 a e, b1' a (by omega) (by omega)]
  have r : ∀ a, a ≠ 2075 → a ≠ 2154 → a ≠ 2156 → τ5.1 a = τ2.1 a := fun a q1 q2 q3 => by rw [d1 a q1, b1' a q2 q3, c1 a q1]
  refine hQ τ5 ⟨⟨dm_tU hM3 hd hS5 t4, ?_, fun g hg => ?_⟩, n1.fr (fun a q1 q2 => r a (by omega) (by omega) (by omega)) ?_, wfS0 hd, fun x hx => ?_, by rw [d3]; rfl, fun g hg ht => @decide_eq_true _ (Classical.propDecidable _) ht⟩ (((t1.trans t2).trans t3).trans t4) ?_ ?_
  · rw [d2 109 (by decide), b1' 2075 (by decide) (by decide), c2 109 (by decide), n2.2.1 109 (by decide), a1 2075 (by decide) (by decide)]; exact h109
  · rw [d1 2155 (by decide), b1' 2155 (by decide) (by decide)]; exact e55 g hg
  · rw [d2 103 (by decide), b1' 2075 (by decide) (by decide), c2 103 (by decide)]
  · rw [d1 2154 (by decide), d1 2156 (by decide)]; exact b3 x hx
  · rw [d2 112 (by decide), b1' 2075 (by decide) (by decide)]; exact c3
  · rw [r 2145 (by decide) (by decide) (by decide)]; exact n4
end
