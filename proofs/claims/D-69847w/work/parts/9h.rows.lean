set_option maxRecDepth 100000
set_option maxHeartbeats 400000
/-! ===== read: rows of what is driven ===== -/
section
variable {σ : St}
theorem clearR {r : Nat} (hr : r ≤ 41) {Q : Unit → St → Prop} (go : ∀ σ', (∀ x, x ≠ 30 → σ'.1 x = σ.1 x) → σ'.2 = σ.2 → (∀ z, z < 1600 → σ'.1 30 (1600 * r + z) = 0) → (∀ k, (k < 1600 * r ∨ 1600 * r + 1600 ≤ k) → σ'.1 30 k = σ.1 30 k) → Q () σ') : wp (F_X1_clearRow (r : Int)) σ Q := by
  have hf := FU_ge
  rw [F_X1_clearRow, wp_lt]
  refine loopM (L := fun f (x : Int) => X1_clearRow_2 f (r : Int) x) (fun m x τ => ∃ a : Nat, x = (a : Int) ∧ a ≤ 1600 ∧ m = 1600 - a ∧ (∀ y, y ≠ 30 → τ.1 y = σ.1 y) ∧ τ.2 = σ.2 ∧ (∀ z, z < a → τ.1 30 (1600 * r + z) = 0) ∧ ∀ k, (k < 1600 * r ∨ 1600 * r + 1600 ≤ k) → τ.1 30 k = σ.1 30 k) ?_ FU 1600 0 σ (by omega) ⟨0, rfl, by omega, rfl, fun _ _ => rfl, rfl, fun z hz => absurd hz (Nat.not_lt_zero z), fun _ _ => rfl⟩
  rintro f m x τ ⟨a, rfl, ha, rfl, h1, h2, h3, h4⟩ ih
  show wp (X1_clearRow_2 (f + 1) (r : Int) (a : Int)) _ _
  rw [X1_clearRow_2]
  by_cases c : a < 1600
  · rw [wp_ifn (by omega), wp_bd, w32_i (x := 1600 * (r : Int)) (by omega) (by omega), w32_i (by omega) (by omega), RV_30 (by omega) (by omega) (by decide) (by decide), wp_lt, w32_i (by omega) (by omega), show (1600 * (r : Int) + (a : Int)).toNat = 1600 * r + a by omega]
    refine ih (1600 - (a + 1)) _ _ (by omega) ⟨a + 1, by omega, by omega, rfl, fun y hy => ?_, h2, fun z hz => ?_, fun k hk => ?_⟩
    · dsimp only; rw [stA_ne hy]; exact h1 y hy
    · dsimp only
      rw [stA_eq]
      by_cases e : z = a
      · subst e; rw [ups_eq]
      · rw [ups_ne (by omega)]; exact h3 z (by omega)
    · dsimp only
      rw [stA_eq, ups_ne (by omega)]
      exact h4 k hk
  · rw [wp_ifp (by omega), wp_rt]
    exact go τ h1 h2 (fun z hz => h3 z (by omega)) h4
/-- both rows of a when come into the row around it -/
theorem rowsW {rb : Int → St → Option ((Unit ⊕ XV) × St)} {rb2 : Int → Int → St → Option ((Unit ⊕ XV) × St)} {r S : Nat} {w : Int} (hr : r ≤ 19) (hS : σ.1 2 15 = (S : Int) ∧ S ≤ 1600) (b0 : ∀ z, z < 1600 → σ.1 30 (1600 * r + z) = 0 ∨ σ.1 30 (1600 * r + z) = 1) (b1 : ∀ z, z < 1600 → σ.1 30 (1600 * (r + 1) + z) = 0 ∨ σ.1 30 (1600 * (r + 1) + z) = 1) (b2 : ∀ z, z < 1600 → σ.1 30 (1600 * (r + 21) + z) = 0 ∨ σ.1 30 (1600 * (r + 21) + z) = 1) {Q : Unit → St → Prop} {E : XV → St → Prop} (go : ∀ σ', (∀ x, x ≠ 30 → x ≠ 2 → σ'.1 x = σ.1 x) → σ'.1 2 = ups (σ.1 2) 16 w → σ'.2 = σ.2 → (∀ z, z < 1600 → σ'.1 30 (1600 * r + z) = if z < S ∧ σ.1 30 (1600 * (r + 1) + z) = 1 ∧ σ.1 30 (1600 * (r + 21) + z) = 1 then 1 else σ.1 30 (1600 * r + z)) → (∀ k, (k < 1600 * r ∨ 1600 * r + 1600 ≤ k) → σ'.1 30 k = σ.1 30 k) → Q () σ') : wpE (X1_when_130 rb rb2 FU (r : Int) w ((r + 1 : Nat) : Int) ((r + 21 : Nat) : Int) 0) σ Q E := by
  have hf := FU_ge
  have o00 : ior 0 0 = 0 := by decide
  have o10 : ior 1 0 = 1 := by decide
  have o01 : ior 0 1 = 1 := by decide
  have o11 : ior 1 1 = 1 := by decide
  refine loopE (L := fun f (x : Int) => X1_when_130 rb rb2 f (r : Int) w ((r + 1 : Nat) : Int) ((r + 21 : Nat) : Int) x) (fun m x τ => ∃ a : Nat, x = (a : Int) ∧ a ≤ S ∧ m = 1600 - a ∧ (∀ y, y ≠ 30 → τ.1 y = σ.1 y) ∧ τ.2 = σ.2 ∧ (∀ z, z < 1600 → τ.1 30 (1600 * r + z) = if z < a ∧ σ.1 30 (1600 * (r + 1) + z) = 1 ∧ σ.1 30 (1600 * (r + 21) + z) = 1 then 1 else σ.1 30 (1600 * r + z)) ∧ ∀ k, (k < 1600 * r ∨ 1600 * r + 1600 ≤ k) → τ.1 30 k = σ.1 30 k) ?_ FU 1600 0 σ (by omega) ⟨0, rfl, by omega, rfl, fun _ _ => rfl, rfl, fun z hz => by rw [if_neg (by omega)], fun _ _ => rfl⟩
  rintro f m x τ ⟨a, rfl, ha, rfl, h1, h2, h3, h4⟩ ih
  show wpE (X1_when_130 rb rb2 (f + 1) (r : Int) w ((r + 1 : Nat) : Int) ((r + 21 : Nat) : Int) (a : Int)) _ _ _
  rw [X1_when_130, wpE_bd, wp_gI, h1 2 (by decide), hS.1]
  by_cases c : a < S
  · have i0 : (1600 * (r : Int) + (a : Int)).toNat = 1600 * r + a := by omega
    have i1 : (1600 * ((r + 1 : Nat) : Int) + (a : Int)).toNat = 1600 * (r + 1) + a := by omega
    have i2 : (1600 * ((r + 21 : Nat) : Int) + (a : Int)).toNat = 1600 * (r + 21) + a := by omega
    have e0 : τ.1 30 (1600 * r + a) = σ.1 30 (1600 * r + a) := by rw [h3 a (by omega), if_neg (by omega)]
    have e1 : τ.1 30 (1600 * (r + 1) + a) = σ.1 30 (1600 * (r + 1) + a) := h4 _ (by omega)
    have e2 : τ.1 30 (1600 * (r + 21) + a) = σ.1 30 (1600 * (r + 21) + a) := h4 _ (by omega)
    have key : ∀ v : Int, (0 ≤ v ∧ v ≤ 1) → v = (if σ.1 30 (1600 * (r + 1) + a) = 1 ∧ σ.1 30 (1600 * (r + 21) + a) = 1 then 1 else σ.1 30 (1600 * r + a)) → ∀ v2 s2, ior v2 s2 = v → wpE (X1_when_192 rb rb2 (X1_when_130 rb rb2 f) (r : Int) w ((r + 1 : Nat) : Int) ((r + 21 : Nat) : Int) (a : Int) (1600 * (r : Int) + (a : Int)) v2 s2) τ Q E := by
      rintro v hv1 hv v2 s2 rfl
      rw [X1_when_192, wpE_bd, RV_30 (by omega) (by omega) hv1.1 hv1.2, wpE_lt, w32_i (by omega) (by omega), i0]
      refine ih (1600 - (a + 1)) _ _ (by omega) ⟨a + 1, by omega, by omega, rfl, fun y hy => ?_, h2, fun z hz => ?_, fun k hk => ?_⟩
      · dsimp only; rw [stA_ne hy]; exact h1 y hy
      · dsimp only
        rw [stA_eq]
        by_cases e : z = a
        · subst e
          rw [ups_eq, hv]
          by_cases c3 : σ.1 30 (1600 * (r + 1) + z) = 1 ∧ σ.1 30 (1600 * (r + 21) + z) = 1
          · rw [if_pos c3, if_pos ⟨by omega, c3⟩]
          · rw [if_neg c3, if_neg (fun q => c3 q.2)]
        · rw [ups_ne (by omega), h3 z hz]
          by_cases c3 : z < a ∧ σ.1 30 (1600 * (r + 1) + z) = 1 ∧ σ.1 30 (1600 * (r + 21) + z) = 1
          · rw [if_pos c3, if_pos ⟨by omega, c3.2⟩]
          · rw [if_neg c3, if_neg (fun q => c3 ⟨by omega, q.2⟩)]
      · dsimp only
        rw [stA_eq, ups_ne (by omega)]
        exact h4 k hk
    rw [wpE_ifn (by omega), wpE_bd, w32_i (x := 1600 * (r : Int)) (by omega) (by omega), w32_i (x := 1600 * (r : Int) + (a : Int)) (by omega) (by omega), RI_30 (by omega) (by omega), i0, e0, wpE_bd, w32_i (x := 1600 * ((r + 1 : Nat) : Int)) (by omega) (by omega), w32_i (x := 1600 * ((r + 1 : Nat) : Int) + (a : Int)) (by omega) (by omega), RI_30 (by omega) (by omega), i1, e1]
    have q0 := b0 a (by omega)
    have q1 := b1 a (by omega)
    have q2 := b2 a (by omega)
    rcases q1 with q1 | q1
    · rw [wpE_ifp q1]
      rcases q0 with q0 | q0
      · exact key 0 (by decide) (by rw [if_neg (by omega), q0]) _ _ (by rw [q0]; exact o00)
      · exact key 1 (by decide) (by rw [if_neg (by omega), q0]) _ _ (by rw [q0]; exact o10)
    · rw [wpE_ifn (by omega), wpE_bd, w32_i (x := 1600 * ((r + 21 : Nat) : Int)) (by omega) (by omega), w32_i (x := 1600 * ((r + 21 : Nat) : Int) + (a : Int)) (by omega) (by omega), RI_30 (by omega) (by omega), i2, e2]
      rcases q2 with q2 | q2
      · rw [wpE_ifp q2]
        rcases q0 with q0 | q0
        · exact key 0 (by decide) (by rw [if_neg (by omega), q0]) _ _ (by rw [q0]; exact o00)
        · exact key 1 (by decide) (by rw [if_neg (by omega), q0]) _ _ (by rw [q0]; exact o10)
      · rw [wpE_ifn (by omega)]
        rcases q0 with q0 | q0
        · exact key 1 (by decide) (by rw [if_pos ⟨q1, q2⟩]) _ _ (by rw [q0]; exact o01)
        · exact key 1 (by decide) (by rw [if_pos ⟨q1, q2⟩]) _ _ (by rw [q0]; exact o11)
  · have eS : a = S := by omega
    subst eS
    rw [wpE_ifp (by omega), X1_when_200, wpE_bd, wp_pI, wpE_lE, wp_rt]
    refine go _ (fun x hx hx2 => ?_) ?_ h2 (fun z hz => ?_) (fun k hk => ?_)
    · dsimp only; rw [stA_ne hx2]; exact h1 x hx
    · dsimp only; rw [stA_eq, h1 2 (by decide)]
    · dsimp only; rw [stA_ne (by decide)]; exact h3 z hz
    · dsimp only; rw [stA_ne (by decide)]; exact h4 k hk
end
