set_option maxRecDepth 100000
set_option maxHeartbeats 400000
/-! ===== designs: a slot ===== -/
section
variable {c : Nat} {σ : St} {a b : Int}
theorem dz_at (hI : I_des c σ) (ha : inR a) : (∃ (ob : Nat → Nat) (S : Nat), dcO ob σ ∧ (∀ S, S < 4 → σ.1 33 S = σ.1 2114 S ∧ (σ.1 33 S = 0 ∨ σ.1 33 S = 1 ∧ dcS c S (ob S) σ)) ∧ a = (S : Int) ∧ S < 4 ∧ σ.1 33 S = 1 ∧ dcS c S (ob S) σ ∧ (∀ {Q : Option Nat → St → Prop}, Q (some (ob S)) σ → wp (F_X0_designAt a) σ Q) ∧ ∀ τ : St, τ.1 2114 = σ.1 2114 → ∀ {Q : Int → St → Prop}, Q 0 τ → wp (F_X15_noDesign a) τ Q) ∨ ((∀ {Q : Option Nat → St → Prop}, Q none σ → wp (F_X0_designAt a) σ Q) ∧ ∀ τ : St, τ.1 2114 = σ.1 2114 → ∀ {Q : Int → St → Prop}, Q 1 τ → wp (F_X15_noDesign a) τ Q) := by
  obtain ⟨ob, hO, hs⟩ := hI
  obtain ⟨ha1, ha2⟩ := ha
  have t3 : (3 : Int64).toInt = 3 := by decide
  have ai : (i2l a).toInt = a := i2l_t (by omega) (by omega)
  by_cases hr : 0 ≤ a ∧ a ≤ 3
  · obtain ⟨S, rfl⟩ := Int.eq_ofNat_of_zero_le hr.1
    have hS : S < 4 := by omega
    obtain ⟨z1, z2⟩ := hs S hS
    rcases z2 with z2 | ⟨z2, z3⟩
    · refine Or.inr ⟨fun {Q} h => ?_, fun τ e {Q} h => ?_⟩
      · rw [F_X0_designAt, wp_bd, isIn_yy (by rw [ai, t0, t3]; omega), wp_ifn (by decide), wp_bd, RI_33 (by omega) (by omega), tn, z2, wp_ifp rfl, wp_rt]; exact h
      · rw [F_X15_noDesign, wp_bd, in15_yy (by rw [ai, t0, t3]; omega), wp_ifn (by decide), wp_bd, RI_2114 (by omega) (by omega), tn, e, ← z1, z2, wp_ifp rfl, wp_rtZ]
        exact ⟨by decide, h⟩
    · refine Or.inl ⟨ob, S, hO, hs, rfl, hS, z2, z3, fun {Q} h => ?_, fun τ e {Q} h => ?_⟩
      · rw [F_X0_designAt, wp_bd, isIn_yy (by rw [ai, t0, t3]; omega), wp_ifn (by decide), wp_bd, RI_33 (by omega) (by omega), tn, z2, wp_ifn (by decide), wp_bd, RI_32 (by omega) (by omega), tn, (hO.1 S (by omega)).1, wp_rt]; exact h
      · rw [F_X15_noDesign, wp_bd, in15_yy (by rw [ai, t0, t3]; omega), wp_ifn (by decide), wp_bd, RI_2114 (by omega) (by omega), tn, e, ← z1, z2, wp_ifn (by decide), wp_rtZ]
        exact ⟨by decide, h⟩
  · refine Or.inr ⟨fun {Q} h => ?_, fun τ e {Q} h => ?_⟩
    · rw [F_X0_designAt, wp_bd, isIn_nn (by rw [ai, t0, t3]; exact hr), wp_ifp rfl, wp_rt]; exact h
    · rw [F_X15_noDesign, wp_bd, in15_nn (by rw [ai, t0, t3]; exact hr), wp_ifp rfl, wp_rtZ]
      exact ⟨by decide, h⟩
theorem dz_of (hI : I_des c σ) (ha : inR a) (hb : inR b) : (∃ (ob : Nat → Nat) (S g : Nat) (Ms : Nat → ModV) (top : Nat) (s : LYS) (v : VST), dcO ob σ ∧ (∀ S, S < 4 → σ.1 33 S = σ.1 2114 S ∧ (σ.1 33 S = 0 ∨ σ.1 33 S = 1 ∧ dcS c S (ob S) σ)) ∧ (a = (S : Int) ∧ b = (g : Int)) ∧ (S < 4 ∧ g < lsG s) ∧ σ.1 33 S = 1 ∧ (DCP Ms top s v ∧ v.2.2.2 ≤ c ∧ DCX Ms top s v (ob S) σ ∧ DCM Ms top s v S σ) ∧ (∀ {Q : Option Nat → St → Prop}, Q (some (ob S)) σ → wp (F_X0_designOf a b) σ Q) ∧ ∀ τ : St, τ.1 2114 = σ.1 2114 → τ.1 2115 = σ.1 2115 → ∀ {Q : Int → St → Prop}, Q 0 τ → wp (F_X15_noSignal a b) τ Q) ∨ ((∀ {Q : Option Nat → St → Prop}, Q none σ → wp (F_X0_designOf a b) σ Q) ∧ ∀ τ : St, τ.1 2114 = σ.1 2114 → τ.1 2115 = σ.1 2115 → ∀ {Q : Int → St → Prop}, Q 1 τ → wp (F_X15_noSignal a b) τ Q) := by
  obtain ⟨hb1, hb2⟩ := hb
  have bi : (i2l b).toInt = b := i2l_t (by omega) (by omega)
  rcases dz_at hI ha with ⟨ob, S, hO, hs, rfl, hS, h1, hd, hX, hT⟩ | ⟨hX, hT⟩
  · obtain ⟨Ms, top, s, v, hp, hv, hx, hm⟩ := hd
    have h200 := hp.1.2.1.2
    have hD := (hO.1 S (by omega)).2.1
    have eg : (i2l (w32 ((lsG s : Int) - 1))).toInt = (lsG s : Int) - 1 := by rw [w32_i (by omega) (by omega), i2l_t (by omega) (by omega)]
    by_cases hr : 0 ≤ b ∧ b ≤ (lsG s : Int) - 1
    · obtain ⟨g, rfl⟩ := Int.eq_ofNat_of_zero_le hr.1
      refine Or.inl ⟨ob, S, g, Ms, top, s, v, hO, hs, ⟨rfl, rfl⟩, ⟨hS, by omega⟩, h1, ⟨hp, hv, hx, hm⟩, fun {Q} h => ?_, fun τ e e' {Q} h => ?_⟩
      · rw [F_X0_designOf, wp_bd]
        refine hX ?_
        rw [wp_on1, wp_ck, and_t (ly_D hD), wp_bd, bgI0 hx.1.1.1.2, wp_bd, isIn_yy (by rw [bi, t0, eg]; exact hr), wp_ifn (by decide), wp_rt]; exact h
      · rw [F_X15_noSignal, wp_bd]
        refine hT τ e ?_
        rw [wp_ifp rfl, wp_bd, RI_2115 (by omega) (by omega), tn, e', hm.1.1.1.1, wp_bd, in15_yy (by rw [bi, t0, eg]; exact hr), wp_ifn (by decide), wp_rtZ]
        exact ⟨by decide, h⟩
    · refine Or.inr ⟨fun {Q} h => ?_, fun τ e e' {Q} h => ?_⟩
      · rw [F_X0_designOf, wp_bd]
        refine hX ?_
        rw [wp_on1, wp_ck, and_t (ly_D hD), wp_bd, bgI0 hx.1.1.1.2, wp_bd, isIn_nn (by rw [bi, t0, eg]; exact hr), wp_ifp rfl, wp_rt]; exact h
      · rw [F_X15_noSignal, wp_bd]
        refine hT τ e ?_
        rw [wp_ifp rfl, wp_bd, RI_2115 (by omega) (by omega), tn, e', hm.1.1.1.1, wp_bd, in15_nn (by rw [bi, t0, eg]; exact hr), wp_ifp rfl, wp_rtZ]
        exact ⟨by decide, h⟩
  · refine Or.inr ⟨fun {Q} h => ?_, fun τ e e' {Q} h => ?_⟩
    · rw [F_X0_designOf, wp_bd]
      refine hX ?_
      rw [wp_on0, wp_rt]; exact h
    · rw [F_X15_noSignal, wp_bd]
      refine hT τ e ?_
      rw [wp_ifn (by decide), wp_rtZ]
      exact ⟨by decide, h⟩


end
/-! the call signal -/
theorem op_signal {a b d : Int} (ha : inR a) (hb : inR b) {c : Nat} {σ : St} (hI : I_des c σ) : both2 (F_X0_signal a b d) (F_X15_signal a b d) σ (fun τ => agr Vis σ τ) := by
  have hz : agr Vis σ (stA σ.1 2075 (ups (σ.1 2075) 0 0), σ.2) := agr_code
  have e14 : (stA σ.1 2075 (ups (σ.1 2075) 0 0)) 2114 = σ.1 2114 := stA_ne (by decide)
  have e15 : (stA σ.1 2075 (ups (σ.1 2075) 0 0)) 2115 = σ.1 2115 := stA_ne (by decide)
  unfold both2
  rw [F_X0_signal, wp_bd]
  rcases dz_of hI ha hb with ⟨ob, S, g, Ms, top, s, v, hO, hs, ⟨rfl, rfl⟩, ⟨hS, hg⟩, h1, ⟨hp, hv, hx, hm⟩, hX, hT⟩ | ⟨hX, hT⟩
  · refine hX ?_
    have hd := hp.1
    have h200 := hd.2.1.2
    have h101 := hd.2.1.1.2
    have hD := (hO.1 S (by omega)).2.1
    have hgS := hd.sig hg
    obtain ⟨l1, ⟨m22, m23, m24⟩, m25, m26⟩ := hm.1.1.2.2.2 g hg
    have m20 := (hm.1.1.2.1 _ l1).2.2.2
    have e200' : ∀ _ : Unit, w32 (w32 (200 * (S : Int)) + (g : Int)) = ((200 * S + g : Nat) : Int) := fun _ => by rw [w32_i (x := 200 * (S : Int)) (by omega) (by omega), w32_i (by omega) (by omega)]; omega
    have tw : ∀ {Q : Int → St → Prop}, (d = 0 → Q (kdS Ms s g : Int) (stA σ.1 2075 (ups (σ.1 2075) 0 0), σ.2)) → (d = 1 → Q (wdS Ms s g : Int) (stA σ.1 2075 (ups (σ.1 2075) 0 0), σ.2)) → (d = 2 → Q (wsG Ms s g : Int) (stA σ.1 2075 (ups (σ.1 2075) 0 0), σ.2)) → (d = 3 → Q (lsD s (lsi s g) : Int) (stA σ.1 2075 (ups (σ.1 2075) 0 0), σ.2)) → (d ≠ 0 → d ≠ 1 → d ≠ 2 → d ≠ 3 → Q (-2) (stA σ.1 2075 (ups (σ.1 2075) 0 0), σ.2)) → wp (F_X15_signal (S : Int) (g : Int) d) σ Q := by
      intro Q q0 q1 q2 q3 q4
      rw [F_X15_signal, wp_bd, wp_pI, wp_bd]
      refine hT (stA σ.1 2075 (ups (σ.1 2075) 0 0), σ.2) e14 e15 ?_
      rw [wp_ifp rfl, wp_lt, e200' ()]
      by_cases c0 : d = 0
      · rw [wp_ifp c0, wp_bd, RI_2122 (by omega) (by omega), tn, wp_rt]
        dsimp only
        rw [stA_ne (by decide), m22]; exact q0 c0
      · rw [wp_ifn c0]
        by_cases c1 : d = 1
        · rw [wp_ifp c1, wp_bd, RI_2123 (by omega) (by omega), tn, wp_rt]
          dsimp only
          rw [stA_ne (by decide), m23]; exact q1 c1
        · rw [wp_ifn c1]
          by_cases c2 : d = 2
          · rw [wp_ifp c2, wp_bd, RI_2124 (by omega) (by omega), tn, wp_rt]
            dsimp only
            rw [stA_ne (by decide), m24]; exact q2 c2
          · rw [wp_ifn c2]
            by_cases c3 : d = 3
            · have e101 : ∀ _ : Unit, w32 (w32 (101 * (S : Int)) + (lsi s g : Int)) = ((101 * S + lsi s g : Nat) : Int) := fun _ => by rw [w32_i (x := 101 * (S : Int)) (by omega) (by omega), w32_i (by omega) (by omega)]; omega
              rw [wp_ifp c3, wp_bd, RI_2125 (by omega) (by omega), tn]
              dsimp only
              rw [stA_ne (by decide), m25, wp_bd, e101 ()]
              rw [RI_2120 (by omega) (by omega), tn, wp_rt]
              dsimp only
              rw [stA_ne (by decide), m20]; exact q3 c3
            · rw [wp_ifn c3, wp_rt]; exact q4 c0 c1 c2 c3
    rw [wp_on1]
    by_cases c0 : d = 0
    · rw [wp_ifp c0, wp_ck, and_t (ly_D hD), wp_bd, x_kind hd hD hx.1 hg, wp_rt]
      exact tw (fun _ => ⟨rfl, hz⟩) (by omega) (by omega) (by omega) (by omega)
    · rw [wp_ifn c0]
      by_cases c1 : d = 1
      · rw [wp_ifp c1, wp_ck, and_t (ly_D hD), wp_bd, x_width hd hD hx.1 hg, wp_rt]
        exact tw (by omega) (fun _ => ⟨rfl, hz⟩) (by omega) (by omega) (by omega)
      · rw [wp_ifn c1]
        by_cases c2 : d = 2
        · rw [wp_ifp c2, wp_ck, and_t (ly_D hD), wp_bd, x_words hd hD hx.1 hg, wp_rt]
          exact tw (by omega) (by omega) (fun _ => ⟨rfl, hz⟩) (by omega) (by omega)
        · rw [wp_ifn c2]
          by_cases c3 : d = 3
          · rw [wp_ifp c3, wp_ck, and_t (ly_D hD), wp_bd, DI_7 hD (by omega) (by omega), tn, (hx.1.1.2.2.2 g hg).1, wp_bd, DI_5 hD (by omega) (by omega), tn, (hx.1.1.2.1 _ l1).2.2.2, wp_rt]
            exact tw (by omega) (by omega) (by omega) (fun _ => ⟨rfl, hz⟩) (by omega)
          · rw [wp_ifn c3, wp_rt]
            exact tw (by omega) (by omega) (by omega) (by omega) (fun _ _ _ _ => ⟨rfl, hz⟩)
  · refine hX ?_
    rw [wp_on0, wp_rt, F_X15_signal, wp_bd, wp_pI, wp_bd]
    refine hT (stA σ.1 2075 (ups (σ.1 2075) 0 0), σ.2) e14 e15 ?_
    rw [wp_ifn (by decide), wp_rt]
    exact ⟨rfl, hz⟩
