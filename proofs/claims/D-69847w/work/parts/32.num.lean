set_option maxRecDepth 100000
/-! ===== numbers ===== -/
theorem oi_toInt {x : Int} (h : inR x) : (Int32.ofInt x).toBitVec.toInt = x := ti32_id h
theorem sh_amt : ∀ k : Fin 32, ((Int32.ofInt (k : Nat) &&& 31).toBitVec.smod 32#32).toNat = (k : Nat) := by decide +kernel
theorem ishr_div {x : Int} {k : Nat} (h : inR x) (hk : k < 32) : ishr x (k : Int) = x / 2 ^ k := by
  unfold ishr
  show ((Int32.ofInt x >>> (Int32.ofInt (k : Int) &&& 31)).toBitVec).toInt = _
  rw [Int32.toBitVec_shiftRight]
  unfold BitVec.sshiftRight'
  rw [BitVec.toInt_sshiftRight, oi_toInt h]
  rw [show ((Int32.ofInt (k : Int) &&& 31).toBitVec.smod 32).toNat = k from sh_amt ⟨k, hk⟩]
  rw [Int.shiftRight_eq_div_pow]
  norm_cast
theorem ishr1 {x : Int} (h1 : -2147483648 ≤ x) (h2 : x ≤ 2147483647) : ishr x 1 = x / 2 := ishr_div (k := 1) ⟨h1, h2⟩ (by decide)
theorem idiv_pos {x y : Int} (h1 : 0 ≤ x) (h2 : x ≤ 2147483647) (h3 : 0 < y) (h4 : y ≤ 2147483647) : idiv x y = x / y := by
  unfold idiv
  rw [Int32.toInt_div_of_ne_left, ti32_id ⟨by omega, h2⟩, ti32_id ⟨by omega, h4⟩, Int.tdiv_eq_ediv_of_nonneg h1]
  intro h
  have : (Int32.ofInt x).toInt = Int32.minValue.toInt := by rw [h]
  rw [ti32_id ⟨by omega, h2⟩] at this
  have e : Int32.minValue.toInt = -2147483648 := rfl
  omega
theorem irem_pos {x y : Int} (h1 : 0 ≤ x) (h2 : x ≤ 2147483647) (h3 : 0 < y) (h4 : y ≤ 2147483647) : irem x y = x % y := by
  have e : irem x y = w32 (x - w32 (idiv x y * y)) := by
    unfold irem idiv
    rw [← ti32, Int32.ofInt_sub, oi_w32, Int32.ofInt_mul, oi_ti]
  rw [e, idiv_pos h1 h2 h3 h4]
  have h5 : 0 ≤ x / y := Int.ediv_nonneg h1 (by omega)
  have h6 : x / y * y ≤ x := Int.ediv_mul_le x (by omega)
  have h7 : 0 ≤ x / y * y := Int.mul_nonneg h5 (by omega)
  have h8 := Int.emod_def x y
  have h9 : y * (x / y) = x / y * y := Int.mul_comm _ _
  have e2 : w32 (x / y * y) = x / y * y := w32_i (by omega) (by omega)
  rw [e2, w32_i (by omega) (by omega)]
  omega
theorem wp_max {σ : St} {x y : Int} {Q : Int → St → Prop} : wp (F_J7_max x y) σ Q = Q (max x y) σ := by
  simp only [F_J7_max, wp_ite, wp_rt]
  split <;> (congr 1; omega)
theorem wp_min {σ : St} {x y : Int} {Q : Int → St → Prop} : wp (F_J7_min x y) σ Q = Q (min x y) σ := by
  simp only [F_J7_min, wp_ite, wp_rt]
  split <;> (congr 1; omega)
