set_option maxRecDepth 100000
/-! ===== longs ===== -/
theorem i2l_t {x : Int} (h1 : -2147483648 ≤ x) (h2 : x ≤ 2147483647) : (i2l x).toInt = x := by
  unfold i2l
  rw [Int32.toInt_toInt64, ti32_id ⟨h1, h2⟩]
theorem lcm_val {x y : Int64} : lcm x y = if y.toInt < x.toInt then 1 else if x.toInt = y.toInt then 0 else -1 := by
  unfold lcm lg_cmp
  by_cases h : y.toInt < x.toInt
  · rw [if_pos h, if_pos (Int64.lt_iff_toInt_lt.mpr h)]; rfl
  · rw [if_neg h, if_neg (fun q => h (Int64.lt_iff_toInt_lt.mp q))]
    by_cases h2 : x.toInt = y.toInt
    · rw [if_pos h2, if_pos (Int64.toInt_inj.mp h2)]; rfl
    · rw [if_neg h2, if_neg (fun q => h2 (by rw [q]))]; rfl
theorem lcm_neg {x y : Int64} : (lcm x y < 0) = (x.toInt < y.toInt) := by
  rw [lcm_val]
  apply propext
  by_cases h : y.toInt < x.toInt
  · rw [if_pos h]; omega
  · rw [if_neg h]
    by_cases h2 : x.toInt = y.toInt
    · rw [if_pos h2]; omega
    · rw [if_neg h2]; omega
theorem lcm_pos {x y : Int64} : (0 < lcm x y) = (y.toInt < x.toInt) := by
  rw [lcm_val]
  apply propext
  by_cases h : y.toInt < x.toInt
  · rw [if_pos h]; omega
  · rw [if_neg h]
    by_cases h2 : x.toInt = y.toInt
    · rw [if_pos h2]; omega
    · rw [if_neg h2]; omega
theorem lcm_eq {x y : Int64} : (lcm x y = 0) = (x = y) := by
  rw [lcm_val, ← Int64.toInt_inj]
  apply propext
  by_cases h : y.toInt < x.toInt
  · rw [if_pos h]; omega
  · rw [if_neg h]
    by_cases h2 : x.toInt = y.toInt
    · rw [if_pos h2]; omega
    · rw [if_neg h2]; omega
theorem wp_isIn {x y z : Int64} {σ : St} {Q : Int → St → Prop} : wp (F_X0_isIn x y z) σ Q = Q (if y.toInt ≤ x.toInt ∧ x.toInt ≤ z.toInt then 1 else 0) σ := by
  simp only [F_X0_isIn, wp_ite, wp_rtZ, lcm_neg, lcm_pos]
  by_cases h1 : x.toInt < y.toInt
  · rw [if_pos h1, if_neg (by omega)]
    exact propext ⟨fun q => q.2, fun q => ⟨by decide, q⟩⟩
  · rw [if_neg h1]
    by_cases h2 : z.toInt < x.toInt
    · rw [if_pos h2, if_neg (by omega)]
      exact propext ⟨fun q => q.2, fun q => ⟨by decide, q⟩⟩
    · rw [if_neg h2, if_pos (by omega)]
      exact propext ⟨fun q => q.2, fun q => ⟨by decide, q⟩⟩
theorem wp_in15 {x y z : Int64} {σ : St} {Q : Int → St → Prop} : wp (F_X15_in x y z) σ Q = Q (if y.toInt ≤ x.toInt ∧ x.toInt ≤ z.toInt then 1 else 0) σ := wp_isIn
