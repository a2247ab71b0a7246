set_option maxRecDepth 100000
set_option maxHeartbeats 400000
/-! ===== read: rows of connections, whens, statements ===== -/
section
variable {σ τ : St}
theorem conX {nC : Nat} {a1 a2 a3 a4 a5 a6 a7 : Int} (h : σ.1 5 22 = (nC : Int)) (hl : nC < 1400) {Q : Unit → St → Prop} (go : ∀ σ', (∀ x, (x < 19 ∨ 25 < x) → x ≠ 5 → σ'.1 x = σ.1 x) → (∀ i, i ≠ 22 → σ'.1 5 i = σ.1 5 i) → σ'.2 = σ.2 → σ'.1 5 22 = ((nC + 1 : Nat) : Int) → (σ'.1 19 = ups (σ.1 19) nC a1 ∧ σ'.1 20 = ups (σ.1 20) nC a2 ∧ σ'.1 21 = ups (σ.1 21) nC a4 ∧ σ'.1 22 = ups (σ.1 22) nC a3 ∧ σ'.1 23 = ups (σ.1 23) nC a6 ∧ σ'.1 24 = ups (σ.1 24) nC a5 ∧ σ'.1 25 = ups (σ.1 25) nC a7) → Q () σ') : wp (F_X2_addConnection 5 a1 a2 a3 a4 a5 a6 a7) σ Q := by
  rw [F_X2_addConnection, wp_bd, wp_gI, h, wp_bd, show (5 + 14 : Nat) = 19 from rfl, RV_19 (by omega) (by omega), tn, wp_bd, wp_gI]
  dsimp only
  repeat rw [stA_ne (b := 5) (by decide)]
  rw [h, wp_bd, show (5 + 15 : Nat) = 20 from rfl, RV_20 (by omega) (by omega), tn, wp_bd, wp_gI]
  dsimp only
  repeat rw [stA_ne (b := 5) (by decide)]
  rw [h, wp_bd, show (5 + 16 : Nat) = 21 from rfl, RV_21 (by omega) (by omega), tn, wp_bd, wp_gI]
  dsimp only
  repeat rw [stA_ne (b := 5) (by decide)]
  rw [h, wp_bd, show (5 + 17 : Nat) = 22 from rfl, RV_22 (by omega) (by omega), tn, wp_bd, wp_gI]
  dsimp only
  repeat rw [stA_ne (b := 5) (by decide)]
  rw [h, wp_bd, show (5 + 18 : Nat) = 23 from rfl, RV_23 (by omega) (by omega), tn, wp_bd, wp_gI]
  dsimp only
  repeat rw [stA_ne (b := 5) (by decide)]
  rw [h, wp_bd, show (5 + 19 : Nat) = 24 from rfl, RV_24 (by omega) (by omega), tn, wp_bd, wp_gI]
  dsimp only
  repeat rw [stA_ne (b := 5) (by decide)]
  rw [h, wp_bd, show (5 + 20 : Nat) = 25 from rfl, RV_25 (by omega) (by omega), tn, wp_bd, wp_gI]
  dsimp only
  repeat rw [stA_ne (b := 5) (by decide)]
  rw [h, wp_bd, wp_pI, wp_rt, w32_i (by omega) (by omega)]
  dsimp only
  refine go _ (fun x h1 h2 => ?_) (fun i hi => ?_) rfl ?_ ⟨?_, ?_, ?_, ?_, ?_, ?_, ?_⟩
  · dsimp only
    rw [stA_ne h2, stA_ne (by omega), stA_ne (by omega), stA_ne (by omega), stA_ne (by omega), stA_ne (by omega), stA_ne (by omega), stA_ne (by omega)]
  · dsimp only
    rw [stA_eq, ups_ne hi]
    repeat rw [stA_ne (b := 5) (by decide)]
  · dsimp only
    rw [stA_eq, ups_eq]; rfl
  all_goals
    dsimp only
    repeat rw [stA_ne (by decide)]
    rw [stA_eq]
    repeat rw [stA_ne (by decide)]
theorem whenX {nW : Nat} {a1 a2 a3 a4 : Int} (h : σ.1 5 27 = (nW : Int)) (hl : nW < 1400) (h3 : 0 ≤ a3 ∧ a3 ≤ 1) {Q : Int → St → Prop} (go : ∀ σ', (∀ x, (x < 26 ∨ 29 < x) → x ≠ 5 → σ'.1 x = σ.1 x) → (∀ i, i ≠ 27 → σ'.1 5 i = σ.1 5 i) → σ'.2 = σ.2 → σ'.1 5 27 = ((nW + 1 : Nat) : Int) → (σ'.1 26 = ups (σ.1 26) nW a2 ∧ σ'.1 27 = ups (σ.1 27) nW a1 ∧ σ'.1 28 = ups (σ.1 28) nW a3 ∧ σ'.1 29 = ups (σ.1 29) nW a4) → Q (nW : Int) σ') : wp (F_X2_addWhen 5 a1 a2 a3 a4) σ Q := by
  rw [F_X2_addWhen, wp_bd, wp_gI, h, wp_bd, show (5 + 21 : Nat) = 26 from rfl, RV_26 (by omega) (by omega), tn, wp_bd, wp_gI]
  dsimp only
  repeat rw [stA_ne (b := 5) (by decide)]
  rw [h, wp_bd, show (5 + 22 : Nat) = 27 from rfl, RV_27 (by omega) (by omega), tn, wp_bd, wp_gI]
  dsimp only
  repeat rw [stA_ne (b := 5) (by decide)]
  rw [h, wp_bd, show (5 + 23 : Nat) = 28 from rfl, RV_28 (by omega) (by omega) h3.1 h3.2, tn, wp_bd, wp_gI]
  dsimp only
  repeat rw [stA_ne (b := 5) (by decide)]
  rw [h, wp_bd, show (5 + 24 : Nat) = 29 from rfl, RV_29 (by omega) (by omega), tn, wp_bd, wp_gI]
  dsimp only
  repeat rw [stA_ne (b := 5) (by decide)]
  rw [h, wp_bd, wp_pI, wp_rt, w32_i (by omega) (by omega)]
  dsimp only
  refine go _ (fun x h1 h2 => ?_) (fun i hi => ?_) rfl ?_ ⟨?_, ?_, ?_, ?_⟩
  · dsimp only
    rw [stA_ne h2, stA_ne (by omega), stA_ne (by omega), stA_ne (by omega), stA_ne (by omega)]
  · dsimp only
    rw [stA_eq, ups_ne hi]
    repeat rw [stA_ne (b := 5) (by decide)]
  · dsimp only
    rw [stA_eq, ups_eq]; rfl
  all_goals
    dsimp only
    repeat rw [stA_ne (by decide)]
    rw [stA_eq]
    repeat rw [stA_ne (by decide)]
theorem st15 {nS : Nat} {a e : Int} (h : τ.1 2075 46 = (nS : Int)) (hl : nS < 2100) (he : 0 ≤ e ∧ e ≤ 1) {Q : Int → St → Prop} (go : ∀ τ', (∀ x, ¬ (2107 ≤ x ∧ x ≤ 2109) → ¬ (2111 ≤ x ∧ x ≤ 2113) → x ≠ 2075 → τ'.1 x = τ.1 x) → (∀ i, i ≠ 46 → τ'.1 2075 i = τ.1 2075 i) → τ'.2 = τ.2 → τ'.1 2075 46 = ((nS + 1 : Nat) : Int) → (τ'.1 2107 = ups (τ.1 2107) nS (-1) ∧ τ'.1 2108 = ups (τ.1 2108) nS (-1) ∧ τ'.1 2109 = ups (τ.1 2109) nS (-1) ∧ τ'.1 2111 = ups (τ.1 2111) nS a ∧ τ'.1 2112 = ups (τ.1 2112) nS e ∧ τ'.1 2113 = ups (τ.1 2113) nS 0) → Q (nS : Int) τ') : wp (F_X15_statement a e) τ Q := by
  rw [F_X15_statement, wp_bd, wp_gI, h, wp_lt, wp_bd, wp_gI, h, wp_bd, wp_pI, w32_i (by omega) (by omega), wp_bd, RV_2111 (by omega) (by omega), tn, wp_bd, RV_2112 (by omega) (by omega) he.1 he.2, tn, wp_bd, RV_2113 (by omega) (by omega) (by decide) (by decide), tn, wp_bd, RV_2107 (by omega) (by omega), tn, wp_bd, RV_2108 (by omega) (by omega), tn, wp_bd, RV_2109 (by omega) (by omega), tn, wp_rt]
  dsimp only
  refine go _ (fun x h1 h2 h3 => ?_) (fun i hi => ?_) rfl ?_ ⟨?_, ?_, ?_, ?_, ?_, ?_⟩
  · dsimp only
    rw [stA_ne (by omega), stA_ne (by omega), stA_ne (by omega), stA_ne (by omega), stA_ne (by omega), stA_ne (by omega), stA_ne h3]
  · dsimp only
    repeat rw [stA_ne (b := 2075) (by decide)]
    rw [stA_eq, ups_ne hi]
  · dsimp only
    repeat rw [stA_ne (b := 2075) (by decide)]
    rw [stA_eq, ups_eq]; rfl
  all_goals
    dsimp only
    repeat rw [stA_ne (by decide)]
    rw [stA_eq]
    repeat rw [stA_ne (by decide)]
end
