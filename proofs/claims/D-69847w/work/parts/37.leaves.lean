set_option maxRecDepth 100000
theorem ishr_s {x y : Int} (h1 : -2147483648 ≤ x) (h2 : x ≤ 2147483647) (h3 : 0 ≤ y) (h4 : y < 32) : ishr x y = x / 2 ^ y.toNat := by
  obtain ⟨k, rfl⟩ := Int.eq_ofNat_of_zero_le h3
  exact ishr_div ⟨h1, h2⟩ (by omega)
/-- what leaf j has in word w -/
def lfV (w j : Nat) : Int64 := if j < 6 then pat6.getD j 0 else if w / 2 ^ (j - 6) % 2 = 1 then -1 else 0
def lvK (w j : Nat) (v : Nat → Int64) : Nat → Int64 := fun i => if 1 ≤ i ∧ i ≤ j then lfV w (i - 1) else v i
theorem lvK_0 (w : Nat) (v : Nat → Int64) : lvK w 0 v = v := by
  funext i; unfold lvK; rw [if_neg (by omega)]
theorem lvK_succ (w j : Nat) (v : Nat → Int64) : ups (lvK w j v) (j + 1) (lfV w j) = lvK w (j + 1) v := by
  funext i
  unfold ups lvK
  by_cases e : i = j + 1
  · subst e; rw [if_pos rfl, if_pos (by omega)]; rfl
  · rw [if_neg e]
    by_cases h : 1 ≤ i ∧ i ≤ j
    · rw [if_pos h, if_pos (by omega)]
    · rw [if_neg h, if_neg (by omega)]
theorem bit_cast (w k : Nat) : ((w : Int) / 2 ^ k) % 2 = ((w / 2 ^ k % 2 : Nat) : Int) := by
  rw [Int.natCast_emod, Int.natCast_ediv, Int.natCast_pow]; rfl
theorem neg_bit {b : Nat} (h : b < 2) : (-(i2l (b : Int))) = if b = 1 then -1 else 0 := by
  rcases b with _ | _ | b
  · rfl
  · rfl
  · omega
theorem leaves7 {w o : Nat} (hl : la (w + 1) = 4265) (ho : isN o) {N : NetV} {σ : St} (hN : netX σ o N) (h14 : v_i N + v_l N ≤ 14) {x : Nat} (hx : x < 256) : F_X7_leaves w o (x : Int) σ = some ((), σ.1, stA σ.2.1 (w + 1) (lvK x (v_i N + v_l N) (σ.2.1 (w + 1))), σ.2.2) := by
  have hf := FU_ge
  have hL := LN ho
  apply wp_eq1
  simp only [F_X7_leaves, wp_lt]
  refine loopM (L := fun f (y : Int) => X7_leaves_2 w f o (x : Int) y) (fun m y τ => ∃ j : Nat, y = (j : Int) ∧ m + j = v_i N + v_l N ∧ τ = (σ.1, stA σ.2.1 (w + 1) (lvK x j (σ.2.1 (w + 1))), σ.2.2)) ?_ FU (v_i N + v_l N) 0 _ (by omega) ⟨0, rfl, by omega, by rw [lvK_0, stA_self]⟩
  rintro f m y τ ⟨j, rfl, hm, rfl⟩ ih
  by_cases h : j < v_i N + v_l N
  · have e1 : ((j : Int) + 1).toNat = j + 1 := by omega
    have e2 : ((j : Int) - 6).toNat = j - 6 := by omega
    have key : ∀ v, v = lfV x j → wp (X7_leaves_2 w f o (x : Int) ((j : Int) + 1)) (σ.1, stA σ.2.1 (w + 1) (ups (lvK x j (σ.2.1 (w + 1))) (j + 1) v), σ.2.2) (fun _ τ => τ = (σ.1, stA σ.2.1 (w + 1) (lvK x (v_i N + v_l N) (σ.2.1 (w + 1))), σ.2.2)) := by
      intro v hv
      subst hv
      exact ih (m - 1) _ _ (by omega) ⟨j + 1, rfl, by omega, by rw [lvK_succ]⟩
    by_cases h6 : j < 6
    · simp (disch := omega) only [X7_leaves_2, X7_leaves_41, F_X14_leaves, wp_bd, wp_rt, wp_lt, wp_ite, wp_wrL, wp_gI, wp_rdP6, stA_eq, stA_ne, stA_stA, w32_i, tn, hl, hN.1.1, hN.1.2.1, e1]
      rw [if_neg (by omega), if_neg (by omega)]
      exact ⟨by omega, by omega, key _ (by unfold lfV; rw [if_pos h6])⟩
    · simp (disch := omega) only [X7_leaves_2, X7_leaves_41, F_X14_leaves, wp_bd, wp_rt, wp_lt, wp_ite, wp_wrL, wp_gI, wp_rdP6, stA_eq, stA_ne, stA_stA, w32_i, tn, hl, hN.1.1, hN.1.2.1, e1, e2, ishr_s, iand1, bit_cast]
      rw [if_neg (by omega), if_pos (by omega)]
      refine ⟨by omega, key _ ?_⟩
      rw [neg_bit (Nat.mod_lt _ (by decide))]
      unfold lfV
      rw [if_neg h6]
  · have hj : j = v_i N + v_l N := by omega
    simp (disch := omega) only [X7_leaves_2, F_X14_leaves, wp_bd, wp_rt, wp_lt, wp_ite, wp_gI, wp_rdP6, stA_eq, stA_ne, stA_stA, w32_i, tn, hN.1.1, hN.1.2.1]
    rw [if_pos (by omega), hj]
theorem pat15 {j w : Nat} (hj : j < 14) (hw : w < 256) {σ : St} {Q : Int64 → St → Prop} : wp (F_X15_pattern (j : Int) (w : Int)) σ Q = Q (lfV w j) σ := by
  have e2 : ((j : Int) - 6).toNat = j - 6 := by omega
  simp (disch := omega) only [F_X15_pattern, wp_bd, wp_rt, wp_lt, wp_ite, stA_eq, stA_ne, stA_stA, w32_i, tn]
  by_cases h : j < 6
  · rcases j with _ | _ | _ | _ | _ | _ | j
    · rfl
    · rfl
    · rfl
    · rfl
    · rfl
    · rfl
    · omega
  · rw [if_neg (by omega), if_neg (by omega), if_neg (by omega), if_neg (by omega), if_neg (by omega), if_neg (by omega)]
    simp (disch := omega) only [ishr_s, iand1, w32_i, e2, bit_cast]
    unfold lfV
    rw [if_neg h]
    by_cases h1 : w / 2 ^ (j - 6) % 2 = 1
    · rw [if_pos h1, if_pos (by omega)]
    · rw [if_neg h1, if_neg (by omega)]
/-- the leaves of a word, one of them perhaps stuck -/
def lsK (w : Nat) (st : Nat) (as : Int64) (j : Nat) (v : Nat → Int64) : Nat → Int64 := fun i => if 1 ≤ i ∧ i ≤ j then (if i = st then as else lfV w (i - 1)) else v i
theorem lsK_0 (w st : Nat) (as : Int64) (v : Nat → Int64) : lsK w st as 0 v = v := by
  funext i; unfold lsK; rw [if_neg (by omega)]
theorem lsK_succ (w st : Nat) (as : Int64) (j : Nat) (v : Nat → Int64) : ups (lsK w st as j v) (j + 1) (if j + 1 = st then as else lfV w j) = lsK w st as (j + 1) v := by
  funext i
  unfold ups lsK
  by_cases e : i = j + 1
  · subst e
    rw [if_pos rfl, if_pos (show 1 ≤ j + 1 ∧ j + 1 ≤ j + 1 by omega)]
    rfl
  · rw [if_neg e]
    by_cases h : 1 ≤ i ∧ i ≤ j
    · rw [if_pos h, if_pos (show 1 ≤ i ∧ i ≤ j + 1 by omega)]
    · rw [if_neg h, if_neg (show ¬ (1 ≤ i ∧ i ≤ j + 1) by omega)]
theorem run15 {a s : Nat} (hl : la a = 4300) (hs : s < 5) {N : NetV} {σ : St} (hN : netM σ s N) (hw : netW N) (h14 : v_i N + v_l N ≤ 14) {x : Nat} (hx : x < 256) {st : Int} {t : Nat} (ht : st = -1 ∧ t = 0 ∨ st = (t : Int)) {as : Int64} : F_X15_run (s : Int) a (x : Int) st as σ = some ((), σ.1, stA σ.2.1 a (rnK N t as (v_a N) (lsK x t as (v_i N + v_l N) (ups (σ.2.1 a) 0 0))), σ.2.2) := by
  have hb := hw.1
  have hf := FU_ge
  apply wp_eq1
  simp (disch := omega) only [F_X15_run, F_X15_vars, wp_bd, wp_rt, wp_lt, wp_ite, wp_rdI, wp_wrL, stA_eq, stA_ne, stA_stA, w32_i, L2142, L2143, tn, hl, hN.1.1, hN.1.2.1]
  refine ⟨by omega, by omega, by omega, ?_⟩
  refine loopM (L := fun f (y : Int) => X15_run_14 f (s : Int) a (x : Int) st as _ y) (fun m y τ => ∃ j : Nat, y = (j : Int) + 1 ∧ m + j = v_i N + v_l N ∧ τ = (σ.1, stA σ.2.1 a (lsK x t as j (ups (σ.2.1 a) 0 0)), σ.2.2)) ?_ FU (v_i N + v_l N) 1 _ (by omega) ⟨0, rfl, by omega, by rw [lsK_0]; rfl⟩
  rintro f m y τ ⟨j, rfl, hm, rfl⟩ ih
  by_cases h : j < v_i N + v_l N
  · have e1 : ((j : Int) + 1).toNat = j + 1 := by omega
    have e2 : (j : Int) + 1 - 1 = (j : Int) := by omega
    have key : ∀ v, v = (if j + 1 = t then as else lfV x j) → wp (X15_run_14 f (s : Int) a (x : Int) st as ((v_i N : Int) + (v_l N : Int) + 1) ((j : Int) + 1 + 1)) (σ.1, stA σ.2.1 a (ups (lsK x t as j (ups (σ.2.1 a) 0 0)) (j + 1) v), σ.2.2) (fun _ τ => τ = (σ.1, stA σ.2.1 a (rnK N t as (v_a N) (lsK x t as (v_i N + v_l N) (ups (σ.2.1 a) 0 0))), σ.2.2)) := by
      intro v hv
      subst hv
      exact ih (m - 1) _ _ (by omega) ⟨j + 1, rfl, by omega, by rw [lsK_succ]⟩
    simp (disch := omega) only [X15_run_14, X15_run_44, wp_bd, wp_rt, wp_lt, wp_ite, wp_wrL, stA_eq, stA_ne, stA_stA, w32_i, tn, hl, e1, e2, pat15 (show j < 14 by omega) hx]
    rw [if_neg (by omega)]
    by_cases e : j + 1 = t
    · rw [if_pos (by omega)]
      exact ⟨by omega, key _ (by rw [if_pos e])⟩
    · rw [if_neg (by omega)]
      exact ⟨by omega, key _ (by rw [if_neg e])⟩
  · have hj : j = v_i N + v_l N := by omega
    subst hj
    have hN2 : netM (σ.1, stA σ.2.1 a (lsK x t as (v_i N + v_l N) (ups (σ.2.1 a) 0 0)), σ.2.2) s N := hN
    simp (disch := omega) only [X15_run_14, X15_run_51, wp_bd, wp_rt, wp_lt, wp_ite, stA_eq, stA_ne, stA_stA, w32_i, tn, wp_some (ands15 hl hs hN2 hw ht)]
    rw [if_pos (by omega)]
    first | trivial | (rw [stA_stA])
