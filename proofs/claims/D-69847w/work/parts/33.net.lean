set_option maxRecDepth 100000
/-! ===== nets: the value that a component's net and a slot of the twin have ===== -/
abbrev NetV : Type := (Nat × Nat × Nat × Nat) × (Nat → Nat) × (Nat → Nat) × (Nat → Nat) × (Nat → Nat) × (Nat → Nat)
def v_i (N : NetV) : Nat := N.1.1
def v_l (N : NetV) : Nat := N.1.2.1
def v_a (N : NetV) : Nat := N.1.2.2.1
def v_o (N : NetV) : Nat := N.1.2.2.2
def v_lo (N : NetV) : Nat → Nat := N.2.1
def v_hi (N : NetV) : Nat → Nat := N.2.2.1
def v_ou (N : NetV) : Nat → Nat := N.2.2.2.1
def v_ne (N : NetV) : Nat → Nat := N.2.2.2.2.1
def v_be (N : NetV) : Nat → Nat := N.2.2.2.2.2
def netW (N : NetV) : Prop := (v_i N ≤ 64 ∧ v_l N ≤ 200 ∧ v_a N ≤ 4000 ∧ v_o N ≤ 64) ∧ (∀ k, k < v_a N → v_lo N k ≤ v_hi N k ∧ v_hi N k < 2 * ((v_i N + v_l N) + 1 + k)) ∧ (∀ k, k < v_o N → v_ou N k < 2 * ((v_i N + v_l N) + 1 + v_a N)) ∧ (∀ k, k < v_l N → v_ne N k < 2 * ((v_i N + v_l N) + 1 + v_a N) ∧ v_be N k ≤ 1)
def netX (σ : St) (o : Nat) (N : NetV) : Prop := (σ.1 o 0 = (v_i N : Int) ∧ σ.1 o 1 = (v_l N : Int) ∧ σ.1 o 2 = (v_a N : Int) ∧ σ.1 o 3 = (v_o N : Int)) ∧ (∀ k, k < v_a N → σ.1 (o + 1) k = (v_lo N k : Int) ∧ σ.1 (o + 2) k = (v_hi N k : Int)) ∧ (∀ k, k < v_o N → σ.1 (o + 3) k = (v_ou N k : Int)) ∧ (∀ k, k < v_l N → σ.1 (o + 4) k = (v_ne N k : Int) ∧ σ.1 (o + 5) k = (v_be N k : Int))
def netM (σ : St) (s : Nat) (N : NetV) : Prop := (σ.1 2142 s = (v_i N : Int) ∧ σ.1 2143 s = (v_l N : Int) ∧ σ.1 2144 s = (v_a N : Int) ∧ σ.1 2145 s = (v_o N : Int)) ∧ (∀ k, k < v_a N → σ.1 2146 (4000 * s + k) = (v_lo N k : Int) ∧ σ.1 2147 (4000 * s + k) = (v_hi N k : Int)) ∧ (∀ k, k < v_o N → σ.1 2148 (64 * s + k) = (v_ou N k : Int)) ∧ (∀ k, k < v_l N → σ.1 2149 (200 * s + k) = (v_ne N k : Int) ∧ σ.1 2150 (200 * s + k) = (v_be N k : Int))
/-! ===== levels ===== -/
def dpK (N : NetV) : Nat → Nat → Nat
  | 0 => fun _ => 0
  | k + 1 => ups (dpK N k) (v_i N + v_l N + 1 + k) (1 + max (dpK N k (v_lo N k / 2)) (dpK N k (v_hi N k / 2)))
theorem dpK_succ (N : NetV) (k : Nat) : dpK N (k + 1) = ups (dpK N k) (v_i N + v_l N + 1 + k) (1 + max (dpK N k (v_lo N k / 2)) (dpK N k (v_hi N k / 2))) := rfl
theorem dpK_le (N : NetV) : ∀ k i, dpK N k i ≤ k
  | 0, _ => Nat.le_refl 0
  | k + 1, i => by
    have h1 := dpK_le N k (v_lo N k / 2)
    have h2 := dpK_le N k (v_hi N k / 2)
    have h3 := dpK_le N k i
    unfold dpK ups
    split <;> omega
/-- an out, or behind the outs a next -/
def rootV (N : NetV) (k : Nat) : Nat := if k < v_o N then v_ou N k else v_ne N (k - v_o N)
def lvlK (N : NetV) : Nat → Nat
  | 0 => 0
  | k + 1 => max (lvlK N k) (dpK N (v_a N) (rootV N k / 2))
theorem lvlK_succ (N : NetV) (k : Nat) : lvlK N (k + 1) = max (lvlK N k) (dpK N (v_a N) (rootV N k / 2)) := rfl
theorem lvlK_le (N : NetV) : ∀ k, lvlK N k ≤ v_a N
  | 0 => Nat.zero_le _
  | k + 1 => by
    have h1 := lvlK_le N k
    have h2 := dpK_le N (v_a N) (rootV N k / 2)
    unfold lvlK; omega
theorem rootV_lt {N : NetV} (hw : netW N) {k : Nat} (hk : k < v_o N + v_l N) : rootV N k < 2 * (v_i N + v_l N + 1 + v_a N) := by
  unfold rootV
  split
  · exact hw.2.2.1 k (by assumption)
  · exact (hw.2.2.2 _ (by omega)).1
theorem isN_le {o : Nat} (h : isN o) : 737 ≤ o ∧ o ≤ 2069 := by rcases h with h | h | h | h | h <;> omega
theorem wp_root {o : Nat} (ho : isN o) {N : NetV} {σ : St} (hN : netX σ o N) (hw : netW N) {k : Nat} (hk : k < v_o N + v_l N) {Q : Int → St → Prop} : wp (F_X14_root o (k : Int)) σ Q = Q (rootV N k : Int) σ := by
  have hb := hw.1
  have hL := LN ho
  simp only [F_X14_root, wp_bd, wp_gI, wp_ite, wp_rdI, wp_rt, hN.1.2.2.2, hL]
  unfold rootV
  by_cases h : k < v_o N
  · rw [if_neg (by omega), if_pos h, tn, hN.2.2.1 k h]
    exact propext ⟨fun q => q.2, fun q => ⟨by omega, q⟩⟩
  · rw [if_pos (by omega), if_neg h, w32_i (by omega) (by omega), show ((k : Int) - (v_o N : Int)).toNat = k - v_o N by omega, (hN.2.2.2 _ (by omega)).1]
    exact propext ⟨fun q => q.2, fun q => ⟨by omega, q⟩⟩
theorem wp_level {o : Nat} (ho : isN o) {N : NetV} {σ0 : St} (hN : netX σ0 o N) (hw : netW N) {Q : Int → St → Prop} (k : ∀ g, Q (lvlK N (v_o N + v_l N) : Nat) (stA σ0.1 109 g, σ0.2)) : wp (F_X0_level o) σ0 Q := by
  have hb := hw.1
  have hf := FU_ge
  have ho2 := isN_le ho
  have hL := LN ho
  simp only [F_X0_level, wp_lt]
  refine loopM (L := fun f (x : Int) => X0_level_2 f o x) (fun m x σ => ∃ (j : Nat) (g : Nat → Int), x = (j : Int) ∧ m + j = v_i N + v_l N + 1 ∧ σ = (stA σ0.1 109 g, σ0.2) ∧ ∀ i, i < j → g i = 0) ?_ FU (v_i N + v_l N + 1) 0 σ0 (by omega) ⟨0, σ0.1 109, rfl, rfl, by rw [stA_self], fun i h => absurd h (Nat.not_lt_zero i)⟩
  rintro f m x σ ⟨j, g, rfl, hm, rfl, hg⟩ ih
  simp (disch := omega) only [X0_level_2, F_X14_leaves, wp_bd, wp_rt, wp_lt, wp_gI, wp_ite, wp_wrI, stA_ne, stA_eq, stA_stA, hN.1.1, hN.1.2.1, w32_i, LX, tn]
  by_cases h : v_i N + v_l N < j
  · rw [if_pos (by omega)]
    clear ih
    simp only [X0_level_23, wp_lt]
    refine loopM (L := fun f (x : Int) => X0_level_25 f o x) (fun m x σ => ∃ (j : Nat) (g : Nat → Int), x = (j : Int) ∧ m + j = v_a N ∧ σ = (stA σ0.1 109 g, σ0.2) ∧ ∀ i, i < v_i N + v_l N + 1 + j → g i = (dpK N j i : Int)) ?_ FU (v_a N) 0 _ (by omega) ⟨0, g, rfl, rfl, rfl, fun i h => hg i (by omega)⟩
    clear hg hm h g j f m
    rintro f m x σ ⟨j, g, rfl, hm, rfl, hg⟩ ih
    by_cases h : j < v_a N
    · have h1 := hN.2.1 j h
      have h2 := hw.2.1 j h
      have h3 := dpK_le N j (v_lo N j / 2)
      have h4 := dpK_le N j (v_hi N j / 2)
      simp (disch := omega) only [X0_level_25, F_X14_leaves, wp_bd, wp_rt, wp_lt, wp_gI, wp_ite, wp_rdI, wp_wrI, stA_ne, stA_eq, stA_stA, hN.1.1, hN.1.2.1, hN.1.2.2.1, w32_i, LX, hL, tn, wp_max, h1, ishr1]
      rw [if_neg (by omega)]
      have e1 : ((v_lo N j : Int) / 2).toNat = v_lo N j / 2 := by omega
      have e2 : ((v_hi N j : Int) / 2).toNat = v_hi N j / 2 := by omega
      have e3 : ((v_i N : Int) + (v_l N : Int) + 1 + (j : Int)).toNat = v_i N + v_l N + 1 + j := by omega
      rw [e1, e2, e3, hg _ (by omega), hg _ (by omega), w32_i (by omega) (by omega)]
      refine ⟨by omega, by omega, by omega, by omega, by omega, ih (m - 1) _ _ (by omega) ⟨j + 1, _, rfl, by omega, rfl, fun i hi => ?_⟩⟩
      rw [dpK_succ]
      by_cases e : i = v_i N + v_l N + 1 + j
      · subst e; rw [ups_eq, ups_eq]; omega
      · rw [ups_ne e, ups_ne e]; exact hg i (by omega)
    · have hj : j = v_a N := by omega
      subst hj
      clear ih
      simp (disch := omega) only [X0_level_25, wp_bd, wp_gI, wp_ite, stA_ne, hN.1.2.2.1]
      rw [if_pos (Int.le_refl _)]
      simp only [X0_level_83, wp_lt]
      have hN2 : netX (stA σ0.1 109 g, σ0.2) o N := by unfold netX; simp (disch := omega) only [stA_ne]; exact hN
      refine loopM (L := fun f (x : Int × Int) => X0_level_87 f o x.1 x.2) (fun m x σ => ∃ j : Nat, x = ((lvlK N j : Int), (j : Int)) ∧ m + j = v_o N + v_l N ∧ σ = (stA σ0.1 109 g, σ0.2)) ?_ FU (v_o N + v_l N) (0, 0) _ (by omega) ⟨0, rfl, by omega, rfl⟩
      rintro f m x σ ⟨j, rfl, hm, rfl⟩ ih
      have hl := lvlK_le N j
      by_cases h : j < v_o N + v_l N
      · have h1 := rootV_lt hw h
        have h2 := dpK_le N (v_a N) (rootV N j / 2)
        have e1 : ((rootV N j : Int) / 2).toNat = rootV N j / 2 := by omega
        simp (disch := omega) only [X0_level_87, F_X14_roots, wp_bd, wp_rt, wp_lt, wp_gI, wp_ite, wp_rdI, stA_ne, stA_eq, hN.1.2.1, hN.1.2.2.2, w32_i, LX, tn, wp_max, wp_root ho hN2 hw h, ishr1, e1, hg]
        rw [if_neg (by omega)]
        refine ⟨by omega, ih (m - 1) (_, _) _ (by omega) ⟨j + 1, ?_, by omega, rfl⟩⟩
        rw [lvlK_succ]
        exact Prod.ext (by show max _ _ = _; omega) (by show (j : Int) + 1 = _; omega)
      · have hj : j = v_o N + v_l N := by omega
        subst hj
        simp (disch := omega) only [X0_level_87, F_X14_roots, wp_bd, wp_rt, wp_gI, wp_ite, stA_ne, hN.1.2.1, hN.1.2.2.2, w32_i]
        rw [if_pos (by omega)]
        exact k g
  · rw [if_neg (by omega)]
    refine ⟨by omega, ih (m - 1) _ _ (by omega) ⟨j + 1, _, rfl, by omega, rfl, fun i hi => ?_⟩⟩
    by_cases e : i = j
    · subst e; exact ups_eq
    · rw [ups_ne e]; exact hg i (by omega)
