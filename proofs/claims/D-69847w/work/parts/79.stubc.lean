set_option maxRecDepth 100000
/-! ===== stubs ===== -/
section
variable {t o : Nat} {N : NetV}
theorem lvs14 {σ : St} (hX : netX σ o N) (hw : netW N) {Q : Int → St → Prop} : wp (F_X14_leaves o) σ Q = Q ((v_i N + v_l N : Nat) : Int) σ := by
  have hbd := hw.1
  rw [F_X14_leaves, wp_bd, wp_gI, wp_bd, wp_gI, wp_rt, hX.1.1, hX.1.2.1, w32_i (by omega) (by omega), lvc]
end
