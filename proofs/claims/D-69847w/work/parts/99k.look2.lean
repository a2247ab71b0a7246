set_option maxRecDepth 100000
set_option maxHeartbeats 400000
/-! ===== read: the twin's token ===== -/
theorem so_hi : ∀ c : Fin 256, 128 ≤ (c : Nat) → ∀ e l g : Bool, soB ((c : Nat) : Int) e l g = 0 := by decide +kernel
theorem sg_km : ∀ K, K ∈ sgs → (km K < 43 ∨ (46 ≤ km K ∧ km K < 54)) ∧ km K ≠ 0 ∧ 38 ≤ K := by decide
theorem pk_r (c d : Int) : pkK c d = -1 ∨ (15 ≤ pkK c d ∧ pkK c d ≤ 19) := by unfold pkK; omega
section
variable {τ : St} {T : Nat → Int} {n : Nat} {g : Nat → Int} {h : Nat → Int64} {q : Nat}
theorem tk_sign (hq : q < n) (hT : -128 ≤ T q ∧ T q ≤ 127) (hT1 : ∀ k, k < n → -128 ≤ T k ∧ T k ≤ 127) (c1 : ¬ isLt (T q) = true) (c2 : ¬ isDd (T q) = true) : soB (T q % 256) (decide (usg T n (q + 1) = 61)) (decide (usg T n (q + 1) = 60)) (decide (usg T n (q + 1) = 62)) = if tkK T n q = -1 then 0 else km (tkK T n q) := by
  have cn : ¬ q = n := by omega
  have eK : tkK T n q = if 0 ≤ pkK (T q) (tsg T n (q + 1)) then pkK (T q) (tsg T n (q + 1)) else if T q ∈ sgs then T q else -1 := by unfold tkK; rw [if_neg cn, if_neg c1, if_neg c2]
  have ed : ∀ v : Int, 0 ≤ v → v ≤ 127 → decide (usg T n (q + 1) = v) = decide (tsg T n (q + 1) = v) := by
    intro v h1 h2
    refine decide_eq_decide.mpr ?_
    unfold usg tsg
    by_cases c : q + 1 < n
    · have := hT1 (q + 1) c
      rw [if_pos c, if_pos c]; omega
    · rw [if_neg c, if_neg c]
  rw [ed 61 (by decide) (by decide), ed 60 (by decide) (by decide), ed 62 (by decide) (by decide)]
  rw [pk_B] at eK
  by_cases c0 : 0 ≤ T q
  · obtain ⟨v, hv⟩ := Int.eq_ofNat_of_zero_le c0
    rw [show T q % 256 = T q by omega]
    have := so_km ⟨v, by omega⟩ (decide (tsg T n (q + 1) = 61)) (decide (tsg T n (q + 1) = 60)) (decide (tsg T n (q + 1) = 62))
    dsimp only at this
    have ev : ((v : Nat) : Int) = T q := hv.symm
    rw [ev] at this
    unfold kB at this
    rw [← eK] at this
    exact this
  · have hp : ¬ 0 ≤ pkB (T q) (decide (tsg T n (q + 1) = 61)) (decide (tsg T n (q + 1) = 60)) (decide (tsg T n (q + 1) = 62)) := by
      unfold pkB
      rw [if_neg (by omega), if_neg (by omega), if_neg (by omega), if_neg (by omega), if_neg (by omega)]
      decide
    have hs : T q ∉ sgs := fun w => by have := (sg_km _ w).2.2; omega
    rw [if_neg hp, if_neg hs] at eK
    rw [if_pos eK]
    have := so_hi ⟨(T q % 256).toNat, by omega⟩ (by dsimp only; omega) (decide (tsg T n (q + 1) = 61)) (decide (tsg T n (q + 1) = 60)) (decide (tsg T n (q + 1) = 62))
    dsimp only at this
    rw [show (((T q % 256).toNat : Nat) : Int) = T q % 256 by omega] at this
    exact this
theorem look86 (hT : TXt T n τ) (h2 : g 2 = (n : Int)) (h28 : g 28 = 0) (h30 : g 30 = (q : Int)) (hq : q ≤ n) {Q : Int → St → Prop} (yes : ∀ g' h', fd g g' → (∀ k, k ≠ 35 → h' k = h k) → g' 31 = 1 → g' 33 = (q : Int) → g' 30 = ((q + tkL T n q : Nat) : Int) → g' 32 = km (tkK T n q) → (0 < tkK T n q → tkK T n q ≤ 14 → g' 34 = (tkL T n q : Int)) → (tkK T n q = 2 → h' 35 = nmV T q (tkL T n q)) → tkK T n q ≠ -1 → Q (km (tkK T n q)) (dX τ g' h')) (no : ∀ g', (∀ k, (k < 28 ∨ 34 < k) → g' k = g k) → g' 28 = 1 → g' 29 = (q : Int) → tkK T n q = -1 → Q (-1) (dX τ g' h)) : wp X15_look_86 (dX τ g h) Q := by
  have hn := hT.1
  rw [X15_look_86, wp_bd, dz (by decide) (by decide), wp_bd, dge (x := (q : Int)) (by rw [ups_ne (by decide)]; exact h30), wp_bd, dp, wp_bd]
  have hF : fd g (ups (ups g 31 1) 33 (q : Int)) := (fd.refl.u (by decide)).u (by decide)
  have k2 : (ups (ups g 31 1) 33 (q : Int)) 2 = (n : Int) := by rw [ups_ne (by decide), ups_ne (by decide)]; exact h2
  have k28 : (ups (ups g 31 1) 33 (q : Int)) 28 = 0 := by rw [ups_ne (by decide), ups_ne (by decide)]; exact h28
  have k30 : (ups (ups g 31 1) 33 (q : Int)) 30 = (q : Int) := by rw [ups_ne (by decide), ups_ne (by decide)]; exact h30
  have k31 : (ups (ups g 31 1) 33 (q : Int)) 31 = 1 := by rw [ups_ne (by decide), ups_eq]
  have k33 : (ups (ups g 31 1) 33 (q : Int)) 33 = (q : Int) := ups_eq
  generalize ups (ups g 31 1) 33 (q : Int) = g1 at hF k2 k28 k30 k31 k33 ⊢
  rw [dge k30, wp_bd, usgX hT k2, wp_lt]
  by_cases cn : q = n
  · subst cn
    have eu : usg T q q = -1 := by unfold usg; rw [if_neg (Nat.lt_irrefl q)]
    have eK : tkK T q q = 0 := by unfold tkK; rw [if_pos rfl]
    have eL : tkL T q q = 0 := by unfold tkL; rw [if_pos rfl]
    rw [eu, wp_ifn (by decide), wp_bd, dp, X15_look_393, wp_bd, dge (x := 0) ups_eq, wp_rt]
    rw [eK, eL] at yes
    refine yes _ h (hF.u (by decide)) (fun _ _ => rfl) ?_ ?_ ?_ ?_ (fun w => absurd w (by decide)) (fun w => absurd w (by decide)) (by decide)
    · rw [ups_ne (by decide)]; exact k31
    · rw [ups_ne (by decide)]; exact k33
    · rw [ups_ne (by decide)]; exact k30
    · rw [ups_eq]; rfl
  · have hqn : q < n := by omega
    have hTq := hT.2.1 q hqn
    have eu : usg T n q = T q % 256 := by unfold usg; rw [if_pos hqn]
    rw [eu, wp_ifp (by omega), wp_bd, lt15 (by omega), lt_u hTq]
    have k134 : (isLt (T q) = true ∨ isDd (T q) = true) → wp (X15_look_134 FU (T q % 256)) (dX τ g1 h) Q := fun w => look134 hT k2 k28 k30 k31 k33 hqn w (fun g' h' z1 z2 z3 z4 z5 z6 z7 z8 z9 => yes g' h' (hF.tr z1) z2 z3 z4 z5 z6 (fun _ _ => z7) z8 z9) (fun g' z1 z2 z3 z4 => no g' (fun k hk => (z1 k hk).trans (hF k (by omega))) z2 z3 z4)
    by_cases c1 : isLt (T q) = true
    · rw [if_pos c1, wp_ifn (by decide)]; exact k134 (Or.inl c1)
    · rw [if_neg c1, wp_ifp rfl, wp_bd, dg15 (by omega), dd_u hTq]
      by_cases c2 : isDd (T q) = true
      · rw [if_pos c2, wp_ifn (by decide)]; exact k134 (Or.inr c2)
      · have hso := tk_sign hqn hTq hT.2.1 c1 c2
        have eL : tkL T n q = if 0 ≤ pkK (T q) (tsg T n (q + 1)) then 2 else 1 := by unfold tkL; rw [if_neg cn, if_neg c1, if_neg c2]
        have eK : tkK T n q = if 0 ≤ pkK (T q) (tsg T n (q + 1)) then pkK (T q) (tsg T n (q + 1)) else if T q ∈ sgs then T q else -1 := by unfold tkK; rw [if_neg cn, if_neg c1, if_neg c2]
        rw [if_neg c2, wp_ifp rfl, wp_bd, dge k30, wp_bd, w32_i (by omega) (by omega), show (q : Int) + 1 = ((q + 1 : Nat) : Int) by omega, usgX hT k2, wp_bd, soX, hso, wp_bd, dp, wp_bd, dge ups_eq]
        by_cases c3 : tkK T n q = -1
        · rw [if_pos c3, wp_ifp rfl, wp_bd, dge (x := (q : Int)) (by rw [ups_ne (by decide)]; exact k33), wp_bd, F_X15_fail, wp_bd, dge (x := 0) (by rw [ups_ne (by decide)]; exact k28), wp_ifp rfl, wp_bd, dp, wp_bd, dp, wp_rt, wp_rt]
          refine no _ (fun k hk => ?_) ?_ ?_ c3
          · rw [ups_ne (by omega), ups_ne (by omega), ups_ne (by omega)]; exact hF k (by omega)
          · rw [ups_ne (by decide), ups_eq]
          · rw [ups_eq]
        · rw [if_neg c3]
          have fin : ∀ x : Int, x = (tkL T n q : Int) → wp (X15_look_389 (q : Int) x) (dX τ (ups g1 32 (km (tkK T n q))) h) Q := by
            intro x hx
            rw [X15_look_389, wp_bd, dp, X15_look_393, wp_bd, dge (x := km (tkK T n q)) (by rw [ups_ne (by decide), ups_eq]), wp_rt]
            have hL2 : tkL T n q ≤ 2 := by rw [eL]; split <;> omega
            rw [w32_i (by omega) (by omega)]
            have pr := pk_r (T q) (tsg T n (q + 1))
            have hbig : 14 < tkK T n q := by
              rw [eK]
              split
              · omega
              · split
                · rename_i w; have := (sg_km _ w).2.2; omega
                · rename_i w1 w2; rw [eK, if_neg w1, if_neg w2] at c3; exact absurd rfl c3
            refine yes _ h ((hF.u (k := 32) (by decide)).u (k := 30) (by decide)) (fun _ _ => rfl) ?_ ?_ ?_ ?_ (fun _ w => absurd w (by omega)) (fun w => absurd w (by omega)) c3
            · rw [ups_ne (by decide), ups_ne (by decide)]; exact k31
            · rw [ups_ne (by decide), ups_ne (by decide)]; exact k33
            · rw [ups_eq]; omega
            · rw [ups_ne (by decide), ups_eq]
          have f375 : (km (tkK T n q) < 54 → tkL T n q = 1) → (¬ km (tkK T n q) < 54 → tkL T n q = 2) → wp (X15_look_375 (q : Int)) (dX τ (ups g1 32 (km (tkK T n q))) h) Q := by
            intro w1 w2
            rw [X15_look_375, wp_bd, dge ups_eq]
            by_cases c4 : km (tkK T n q) < 54
            · rw [wp_ifp c4]; exact fin 1 (by rw [w1 c4]; rfl)
            · rw [wp_ifn c4]; exact fin 2 (by rw [w2 c4]; rfl)
          by_cases c5 : 0 ≤ pkK (T q) (tsg T n (q + 1))
          · rw [if_pos c5] at eK eL
            have pr := pk_r (T q) (tsg T n (q + 1))
            rw [← eK] at pr c5
            have hK : tkK T n q = 15 ∨ tkK T n q = 16 ∨ tkK T n q = 17 ∨ tkK T n q = 18 ∨ tkK T n q = 19 := by omega
            rw [wp_ifn (by rcases hK with w | w | w | w | w <;> rw [w] <;> decide), wp_bd, dge (x := (q : Int)) (by rw [ups_ne (by decide)]; exact k30), wp_bd, dge ups_eq]
            by_cases c6 : km (tkK T n q) ≤ 45
            · rw [wp_ifn (by rcases hK with w | w | w | w | w <;> rw [w] <;> decide), wp_bd, dge ups_eq, wp_ifp c6]
              exact fin 2 (by rw [eL]; rfl)
            · rw [wp_ifn (by rcases hK with w | w | w | w | w <;> rw [w] <;> decide), wp_bd, dge ups_eq, wp_ifn c6]
              exact f375 (fun w' => absurd w' (by rcases hK with w | w | w | w | w <;> rw [w] at c6 ⊢ <;> first | decide | exact absurd (by decide) c6)) (fun _ => eL)
          · rw [if_neg c5] at eK eL
            have hin : T q ∈ sgs := by
              apply Classical.byContradiction
              intro w; rw [if_neg w] at eK; exact c3 eK
            rw [if_pos hin] at eK
            obtain ⟨z1, z2, z3⟩ := sg_km _ hin
            rw [← eK] at z1 z2 z3
            rw [wp_ifn z2, wp_bd, dge (x := (q : Int)) (by rw [ups_ne (by decide)]; exact k30), wp_bd, dge ups_eq]
            by_cases c6 : km (tkK T n q) < 43
            · rw [wp_ifp c6]
              exact f375 (fun _ => eL) (fun w => absurd (by omega) w)
            · rw [wp_ifn c6, wp_bd, dge ups_eq, wp_ifn (by omega)]
              exact f375 (fun _ => eL) (fun w => absurd (by omega) w)
theorem look21 {p : Nat} (hT : TXt T n τ) (h2 : g 2 = (n : Int)) (h28 : g 28 = 0) (h30 : g 30 = (p : Int)) (hp : p ≤ n) {Q : Int → St → Prop} (yes : ∀ g' h', fd g g' → (∀ k, k ≠ 35 → h' k = h k) → g' 31 = 1 → g' 33 = (tkQ T n p : Int) → g' 30 = ((tkQ T n p + tkL T n (tkQ T n p) : Nat) : Int) → g' 32 = km (tkK T n (tkQ T n p)) → (0 < tkK T n (tkQ T n p) → tkK T n (tkQ T n p) ≤ 14 → g' 34 = (tkL T n (tkQ T n p) : Int)) → (tkK T n (tkQ T n p) = 2 → h' 35 = nmV T (tkQ T n p) (tkL T n (tkQ T n p))) → tkK T n (tkQ T n p) ≠ -1 → Q (km (tkK T n (tkQ T n p))) (dX τ g' h')) (no : ∀ g', (∀ k, (k < 28 ∨ 34 < k) → g' k = g k) → g' 28 = 1 → g' 29 = (tkQ T n p : Int) → tkK T n (tkQ T n p) = -1 → Q (-1) (dX τ g' h)) : wp (X15_look_21 FU) (dX τ g h) Q := by
  have hf := FU_ge
  have hn := hT.1
  refine loopM (L := fun f (_ : Unit) => X15_look_21 f) (fun m _ σ => ∃ (a : Nat) (g' : Nat → Int), p + a ≤ n ∧ m = n - (p + a) ∧ fd g g' ∧ σ = dX τ g' h ∧ g' 30 = ((p + a : Nat) : Int) ∧ ∀ i, i < a → isBl (T (p + i)) = true) ?_ FU (n - p) () _ (by omega) ⟨0, g, by omega, rfl, fd.refl, rfl, h30, fun i hi => absurd hi (Nat.not_lt_zero i)⟩
  rintro f m _ σ ⟨a, g', ha, rfl, hF, rfl, k30, hP⟩ ih
  have k2 : g' 2 = (n : Int) := (hF 2 (by omega)).trans h2
  have k28 : g' 28 = 0 := (hF 28 (by omega)).trans h28
  show wp (X15_look_21 (f + 1)) _ Q
  have fin : (p + a = n ∨ isBl (T (p + a)) = false) → wp X15_look_86 (dX τ g' h) Q := by
    intro ho
    have hq : tkQ T n p = p + a := by unfold tkQ; rw [rn_eq a p hP ha ho]
    rw [hq] at yes no
    exact look86 hT k2 k28 k30 ha (fun g2 h2 z1 => yes g2 h2 (hF.tr z1)) (fun g2 z1 => no g2 (fun k hk => (z1 k hk).trans (hF k (by omega))))
  have nx : p + a < n → isBl (T (p + a)) = true → wp (X15_look_73 (X15_look_21 f)) (dX τ g' h) Q := by
    intro c1 c2
    rw [X15_look_73, wp_bd, dge k30, wp_bd, dp, w32_i (by omega) (by omega)]
    refine ih (n - (p + (a + 1))) () _ (by omega) ⟨a + 1, _, by omega, rfl, hF.u (by decide), rfl, by rw [ups_eq]; omega, fun i hi => ?_⟩
    by_cases e : i = a
    · subst e; exact c2
    · exact hP i (by omega)
  rw [X15_look_21, wp_bd, dge k30, wp_bd, usgX hT k2]
  by_cases c : p + a < n
  · have hTa := hT.2.1 (p + a) c
    have eu : usg T n (p + a) = T (p + a) % 256 := by unfold usg; rw [if_pos c]
    rw [eu]
    by_cases b9 : T (p + a) = 9
    · rw [wp_ifp (by omega)]; exact nx c (by unfold isBl; rw [decide_eq_true (Or.inl b9)])
    rw [wp_ifn (by omega), wp_bd, dge k30, wp_bd, usgX hT k2, eu]
    by_cases b10 : T (p + a) = 10
    · rw [wp_ifp (by omega)]; exact nx c (by unfold isBl; rw [decide_eq_true (Or.inr (Or.inl b10))])
    rw [wp_ifn (by omega), wp_bd, dge k30, wp_bd, usgX hT k2, eu]
    by_cases b13 : T (p + a) = 13
    · rw [wp_ifp (by omega)]; exact nx c (by unfold isBl; rw [decide_eq_true (Or.inr (Or.inr (Or.inl b13)))])
    rw [wp_ifn (by omega), wp_bd, dge k30, wp_bd, usgX hT k2, eu]
    by_cases b32 : T (p + a) = 32
    · rw [wp_ifp (by omega)]; exact nx c (by unfold isBl; rw [decide_eq_true (Or.inr (Or.inr (Or.inr b32)))])
    rw [wp_ifn (by omega)]
    exact fin (Or.inr (by unfold isBl; exact decide_eq_false (by omega)))
  · have eu : usg T n (p + a) = -1 := by unfold usg; rw [if_neg c]
    rw [eu, wp_ifn (by decide), wp_bd, dge k30, wp_bd, usgX hT k2, eu, wp_ifn (by decide), wp_bd, dge k30, wp_bd, usgX hT k2, eu, wp_ifn (by decide), wp_bd, dge k30, wp_bd, usgX hT k2, eu, wp_ifn (by decide)]
    exact fin (Or.inl (by omega))
end
