set_option maxRecDepth 100000
/-! ===== values, sixty-four at a time ===== -/
theorem wp_eq {α : Type} {m : St → Option (α × St)} {σ : St} {a : α} {s : St} (h : wp m σ (fun x τ => x = a ∧ τ = s)) : m σ = some (a, s) := by
  obtain ⟨x, τ, h1, h2, h3⟩ := h
  rw [h1, h2, h3]
theorem wp_eq1 {m : St → Option (Unit × St)} {σ s : St} (h : wp m σ (fun _ τ => τ = s)) : m σ = some ((), s) := by
  obtain ⟨x, τ, h1, h2⟩ := h
  rw [h1, h2]
/-- the values behind k ANDs; the variable st has the value as (none has the number 0) -/
def rnK (N : NetV) (st : Nat) (as : Int64) : Nat → (Nat → Int64) → Nat → Int64
  | 0, v => v
  | k + 1, v => ups (rnK N st as k v) (v_i N + v_l N + 1 + k) (if v_i N + v_l N + 1 + k = st then as else ofV (rnK N st as k v) (v_lo N k) &&& ofV (rnK N st as k v) (v_hi N k))
theorem rnK_succ (N : NetV) (st : Nat) (as : Int64) (k : Nat) (v : Nat → Int64) : rnK N st as (k + 1) v = ups (rnK N st as k v) (v_i N + v_l N + 1 + k) (if v_i N + v_l N + 1 + k = st then as else ofV (rnK N st as k v) (v_lo N k) &&& ofV (rnK N st as k v) (v_hi N k)) := rfl
theorem wp_of7 {w : Nat} (hl : la (w + 1) = 4265) {b : Nat} (hb : b < 8530) {σ : St} {Q : Int64 → St → Prop} : wp (F_X7_of w (b : Int)) σ Q = Q (ofV (σ.2.1 (w + 1)) b) σ := by
  simp (disch := omega) only [F_X7_of, wp_bd, wp_rt, wp_lt, wp_ite, wp_rdL, stA_eq, stA_ne, tn, hl, ishr1, iand1]
  rw [show ((b : Int) / 2).toNat = b / 2 by omega, ofV_x]
  exact propext ⟨fun q => q.2, fun q => ⟨by omega, q⟩⟩
theorem run7 {w o : Nat} (hl : la (w + 1) = 4265) (ho : isN o) {N : NetV} {σ : St} (hN : netX σ o N) (hw : netW N) : F_X7_run w o σ = some ((), σ.1, stA σ.2.1 (w + 1) (rnK N 0 0 (v_a N) (ups (σ.2.1 (w + 1)) 0 0)), σ.2.2) := by
  apply wp_eq1
  have hb := hw.1
  have hf := FU_ge
  have hL := LN ho
  simp (disch := omega) only [F_X7_run, F_X14_leaves, wp_bd, wp_rt, wp_lt, wp_ite, wp_wrL, wp_gI, stA_eq, stA_ne, stA_stA, w32_i, tn, hl, hN.1.1, hN.1.2.1]
  refine ⟨by omega, ?_⟩
  refine loopM (L := fun f (x : Int) => X7_run_16 w f o _ x) (fun m x τ => ∃ j : Nat, x = (j : Int) ∧ m + j = v_a N ∧ τ = (σ.1, stA σ.2.1 (w + 1) (rnK N 0 0 j (ups (σ.2.1 (w + 1)) 0 0)), σ.2.2)) ?_ FU (v_a N) 0 _ (by omega) ⟨0, rfl, by omega, rfl⟩
  rintro f m x τ ⟨j, rfl, hm, rfl⟩ ih
  by_cases h : j < v_a N
  · have h1 := hN.2.1 j h
    have h2 := hw.2.1 j h
    simp (disch := omega) only [X7_run_16, wp_bd, wp_rt, wp_lt, wp_ite, wp_rdI, wp_wrL, wp_gI, stA_eq, stA_ne, stA_stA, w32_i, tn, hL, hl, hN.1.2.2.1, h1, wp_of7 hl (show v_lo N j < 8530 by omega), wp_of7 hl (show v_hi N j < 8530 by omega)]
    rw [if_neg (by omega), show ((v_i N : Int) + (v_l N : Int) + 1 + (j : Int)).toNat = v_i N + v_l N + 1 + j by omega]
    refine ⟨by omega, by omega, by omega, ih (m - 1) _ _ (by omega) ⟨j + 1, rfl, by omega, ?_⟩⟩
    rw [rnK_succ, if_neg (by omega)]
  · have hj : j = v_a N := by omega
    subst hj
    simp (disch := omega) only [X7_run_16, wp_bd, wp_rt, wp_lt, wp_ite, wp_rdI, wp_wrL, wp_gI, stA_eq, stA_ne, stA_stA, w32_i, tn, hN.1.2.2.1]
    rw [if_pos (Int.le_refl _)]
    first | rfl | trivial
theorem run7s {w o : Nat} (hl : la (w + 1) = 4265) (ho : isN o) {N : NetV} {σ : St} (hN : netX σ o N) (hw : netW N) {st : Nat} (h0 : 0 < st) (hst : st < v_i N + v_l N + 1 + v_a N) {as : Int64} : F_X7_run_2 w o (st : Int) as σ = some ((), σ.1, stA σ.2.1 (w + 1) (rnK N st as (v_a N) (if st < v_i N + v_l N + 1 then ups (ups (σ.2.1 (w + 1)) 0 0) st as else ups (σ.2.1 (w + 1)) 0 0)), σ.2.2) := by
  have hb := hw.1
  have hf := FU_ge
  have hL := LN ho
  have loop : ∀ v : Nat → Int64, wp (X7_run_2_28 w o (st : Int) as ((v_i N : Int) + (v_l N : Int) + 1)) (σ.1, stA σ.2.1 (w + 1) v, σ.2.2) (fun _ τ => τ = (σ.1, stA σ.2.1 (w + 1) (rnK N st as (v_a N) v), σ.2.2)) := by
    intro v
    simp only [X7_run_2_28, wp_lt]
    refine loopM (L := fun f (x : Int) => X7_run_2_31 w f o _ _ _ x) (fun m x τ => ∃ j : Nat, x = (j : Int) ∧ m + j = v_a N ∧ τ = (σ.1, stA σ.2.1 (w + 1) (rnK N st as j v), σ.2.2)) ?_ FU (v_a N) 0 _ (by omega) ⟨0, rfl, by omega, rfl⟩
    rintro f m x τ ⟨j, rfl, hm, rfl⟩ ih
    by_cases h : j < v_a N
    · have h1 := hN.2.1 j h
      have h2 := hw.2.1 j h
      have e3 : ((v_i N : Int) + (v_l N : Int) + 1 + (j : Int)).toNat = v_i N + v_l N + 1 + j := by omega
      simp (disch := omega) only [X7_run_2_31, X7_run_2_85, wp_bd, wp_rt, wp_lt, wp_ite, wp_rdI, wp_wrL, wp_gI, stA_eq, stA_ne, stA_stA, w32_i, tn, hL, hl, hN.1.2.2.1, h1, wp_of7 hl (show v_lo N j < 8530 by omega), wp_of7 hl (show v_hi N j < 8530 by omega), e3]
      rw [if_neg (by omega)]
      by_cases e : v_i N + v_l N + 1 + j = st
      · rw [if_pos (by omega)]
        exact ⟨by omega, ih (m - 1) _ _ (by omega) ⟨j + 1, rfl, by omega, by rw [rnK_succ, if_pos e]⟩⟩
      · rw [if_neg (by omega)]
        exact ⟨by omega, by omega, by omega, ih (m - 1) _ _ (by omega) ⟨j + 1, rfl, by omega, by rw [rnK_succ, if_neg e]⟩⟩
    · have hj : j = v_a N := by omega
      subst hj
      simp (disch := omega) only [X7_run_2_31, wp_bd, wp_rt, wp_lt, wp_ite, wp_rdI, wp_gI, stA_eq, stA_ne, w32_i, tn, hN.1.2.2.1]
      rw [if_pos (Int.le_refl _)]
      first | rfl | trivial
  apply wp_eq1
  simp (disch := omega) only [F_X7_run_2, F_X14_leaves, wp_bd, wp_rt, wp_lt, wp_ite, wp_wrL, wp_gI, stA_eq, stA_ne, stA_stA, w32_i, tn, hl, hN.1.1, hN.1.2.1]
  refine ⟨by omega, ?_⟩
  by_cases e : st < v_i N + v_l N + 1
  · rw [if_neg (by omega), if_pos e]
    exact ⟨by omega, loop _⟩
  · rw [if_pos (by omega), if_neg e]
    exact loop _
/-! the twin -/
theorem wp_of15 {a : Nat} (hl : la a = 4300) {b : Nat} (hb : b < 8530) {σ : St} {Q : Int64 → St → Prop} : wp (F_X15_of a (b : Int)) σ Q = Q (ofV (σ.2.1 a) b) σ := by
  simp (disch := omega) only [F_X15_of, wp_bd, wp_rt, wp_lt, wp_ite, wp_rdL, stA_eq, stA_ne, tn, hl, ishr1, iand1]
  rw [show ((b : Int) / 2).toNat = b / 2 by omega]
  unfold ofV
  rcases Nat.mod_two_eq_zero_or_one b with h | h
  · rw [if_neg (by omega), if_neg (by omega)]
    exact propext ⟨fun q => q.2, fun q => ⟨by omega, q⟩⟩
  · rw [if_pos (by omega), if_pos h]
    exact propext ⟨fun q => q.2, fun q => ⟨by omega, q⟩⟩
theorem ands15 {a s : Nat} (hl : la a = 4300) (hs : s < 5) {N : NetV} {σ : St} (hN : netM σ s N) (hw : netW N) {st : Int} {t : Nat} (ht : st = -1 ∧ t = 0 ∨ st = (t : Int)) {as : Int64} : F_X15_ands (s : Int) a st as σ = some ((), σ.1, stA σ.2.1 a (rnK N t as (v_a N) (σ.2.1 a)), σ.2.2) := by
  have hb := hw.1
  have hf := FU_ge
  apply wp_eq1
  simp (disch := omega) only [F_X15_ands, F_X15_vars, wp_bd, wp_rt, wp_lt, wp_ite, wp_rdI, stA_eq, stA_ne, w32_i, L2142, L2143, tn, hN.1.1, hN.1.2.1]
  refine ⟨by omega, by omega, ?_⟩
  refine loopM (L := fun f (x : Int) => X15_ands_10 f (s : Int) a st as _ x) (fun m x τ => ∃ j : Nat, x = (j : Int) ∧ m + j = v_a N ∧ τ = (σ.1, stA σ.2.1 a (rnK N t as j (σ.2.1 a)), σ.2.2)) ?_ FU (v_a N) 0 _ (by omega) ⟨0, rfl, by omega, by rw [show rnK N t as 0 (σ.2.1 a) = σ.2.1 a from rfl, stA_self]⟩
  rintro f m x τ ⟨j, rfl, hm, rfl⟩ ih
  by_cases h : j < v_a N
  · have h1 := hN.2.1 j h
    have h2 := hw.2.1 j h
    have e0 : ((4000 : Int) * (s : Int) + (j : Int)).toNat = 4000 * s + j := by omega
    have e3 : ((v_i N : Int) + (v_l N : Int) + 1 + (j : Int)).toNat = v_i N + v_l N + 1 + j := by omega
    simp (disch := omega) only [X15_ands_10, X15_ands_76, wp_bd, wp_rt, wp_lt, wp_ite, wp_rdI, wp_wrL, stA_eq, stA_ne, stA_stA, w32_i, L2144, L2146, L2147, tn, hl, hN.1.2.2.1, h1, e0, e3, wp_of15 hl (show v_lo N j < 8530 by omega), wp_of15 hl (show v_hi N j < 8530 by omega)]
    rw [if_neg (by omega)]
    refine ⟨by omega, ?_⟩
    by_cases e : v_i N + v_l N + 1 + j = t
    · rw [if_pos (by omega)]
      exact ⟨by omega, ih (m - 1) _ _ (by omega) ⟨j + 1, rfl, by omega, by rw [rnK_succ, if_pos e]⟩⟩
    · rw [if_neg (by omega)]
      exact ⟨by omega, by omega, by omega, ih (m - 1) _ _ (by omega) ⟨j + 1, rfl, by omega, by rw [rnK_succ, if_neg e]⟩⟩
  · have hj : j = v_a N := by omega
    subst hj
    simp (disch := omega) only [X15_ands_10, wp_bd, wp_rt, wp_lt, wp_ite, wp_rdI, stA_eq, stA_ne, w32_i, L2144, L2146, L2147, tn, hN.1.2.2.1]
    rw [if_pos (Int.le_refl _)]
    exact ⟨by omega, by first | rfl | trivial⟩
