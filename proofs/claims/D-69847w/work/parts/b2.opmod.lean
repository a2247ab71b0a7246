set_option maxRecDepth 100000
set_option maxHeartbeats 400000
/-! ===== the calls clear, module ===== -/
theorem op_clear {σ : St} (h : I_mod σ) : both2 F_X0_clear F_X15_clear σ (fun τ => I_mod τ ∧ Out P_m0 σ τ) := by
  obtain ⟨⟨k, Ms, hk, hRS, ⟨h1, h3⟩, hw⟩, hBL⟩ := h
  unfold both2
  rw [F_X0_clear, wp_bd, wp_gI, h1, wp_lt, wp_bd, wp_pI, wp_rt, F_X15_clear, wp_bd, wp_pI, wp_bd, wp_gI, wp_lt, wp_bd, wp_pI, wp_rt]
  simp (disch := decide) only [stA_ne, stA_eq, stA_stA, ups_ne, h3]
  refine ⟨trivial, ⟨⟨0, Ms, by decide, ⟨hRS.1, hRS.2.1, fun m hm => absurd hm (Nat.not_lt_zero m)⟩, ⟨?_, ?_⟩, hw⟩, fun i => ?_⟩, fun a i hv => ⟨?_, rfl, rfl⟩⟩
  · simp (disch := decide) only [stA_ne, stA_eq, ups_eq]; rfl
  · simp (disch := decide) only [stA_eq, ups_eq]; rfl
  · simp (disch := decide) only [stA_ne]; exact hBL i
  · obtain ⟨hv1, hv2⟩ := hv
    dsimp only
    by_cases e : a = 2075
    · subst e
      have i3 : i ≠ 3 := fun e => hv2 (by subst e; exact pm_75)
      have i0 : i ≠ 0 := fun e => hv1 (by subst e; omega)
      rw [stA_eq, ups_ne i3, ups_ne i0]
    · rw [stA_ne e]
      by_cases e0 : a = 0
      · subst e0
        have i1 : i ≠ 1 := fun e => hv2 (by subst e; exact pm_01)
        rw [stA_eq, ups_ne i1]
      · rw [stA_ne e0]
section
variable {τ : St} {k : Nat} {Ms : Nat → ModV}
/-- the twin counts the sinks -/
theorem mskT {m : Nat} {a2 : Int} {Q : Int → St → Prop} (hRS : RS k Ms τ τ) (hk : k ≤ 12) (hm : m < k) (hQ : wp (X15_module_162 (m : Int) a2 (mdS (Ms m) : Int)) τ Q) : wp (X15_module_28 FU (m : Int) a2 0 0) τ Q := by
  have hF := FU_ge
  obtain ⟨⟨ok, -, hM⟩, -⟩ := hRS.2.2 m hm
  have kd5 := fun i hi => (ok.2.2.1 i hi).1.2.2.2.2.2
  obtain ⟨⟨t1, -⟩, t2, -⟩ := hM
  have t40 := ok.1.1
  have skb := skP_le (kd := mdkd (Ms m)) (pt := mdpt (Ms m)) (Mk := fun x => mdkd (Ms x)) (Mt := fun x => mdT (Ms x)) hRS.2.1
  rw [ok.2.2.2.2.2.2] at hQ
  have key : ∀ d f i, mdT (Ms m) - i < d → d ≤ f → i ≤ mdT (Ms m) → wp (X15_module_28 f (m : Int) a2 (skP (mdkd (Ms m)) (mdpt (Ms m)) (fun x => mdT (Ms x)) (fun x => mdkd (Ms x)) i : Int) (i : Int)) τ Q := by
    intro d
    induction d with
    | zero => intro f i h; omega
    | succ d ih =>
      intro f i hd hf hi
      obtain ⟨f', rfl⟩ : ∃ f', f = f' + 1 := ⟨f - 1, by omega⟩
      have hsk := skb i
      rw [X15_module_28, wp_bd, w32_i (by omega) (by omega), RI_2077 (by omega) (by omega), show (48 + (m : Int)).toNat = 48 + m by omega, t1]
      by_cases c : i < mdT (Ms m)
      · obtain ⟨⟨u1, -⟩, u2, -⟩ := t2 i c
        have nxt : ∀ x3 : Int, x3 = (skP (mdkd (Ms m)) (mdpt (Ms m)) (fun x => mdT (Ms x)) (fun x => mdkd (Ms x)) (i + 1) : Int) → wp (X15_module_156 (X15_module_28 f') (m : Int) a2 x3 (i : Int)) τ Q := by
          rintro x3 rfl
          rw [X15_module_156, wp_lt, w32_i (by omega) (by omega), show (i : Int) + 1 = ((i + 1 : Nat) : Int) by omega]
          exact ih f' (i + 1) (by omega) (by omega) (by omega)
        have sk1 : skP (mdkd (Ms m)) (mdpt (Ms m)) (fun x => mdT (Ms x)) (fun x => mdkd (Ms x)) (i + 1) = skP (mdkd (Ms m)) (mdpt (Ms m)) (fun x => mdT (Ms x)) (fun x => mdkd (Ms x)) i + ((if mdkd (Ms m) i = 1 ∨ mdkd (Ms m) i = 2 then 1 else 0) + if mdkd (Ms m) i = 5 then inP (mdkd (Ms (mdpt (Ms m) i))) (mdT (Ms (mdpt (Ms m) i))) else 0) := rfl
        have h82 : ∀ s : Nat, s = (if mdkd (Ms m) i = 1 ∨ mdkd (Ms m) i = 2 then 1 else 0) → wp (X15_module_82 (X15_module_28 f') (m : Int) a2 (i : Int) ((40 * (48 + m) + i : Nat) : Int) (skP (mdkd (Ms m)) (mdpt (Ms m)) (fun x => mdT (Ms x)) (fun x => mdkd (Ms x)) i : Int) (s : Int)) τ Q := by
          intro s hs
          have s1 : s ≤ 1 := by rw [hs]; split <;> omega
          rw [X15_module_82, wp_lt, wp_lt, w32_i (by omega) (by omega)]
          by_cases c5 : mdkd (Ms m) i = 5
          · have p1 := kd5 i c c5
            obtain ⟨⟨ok', -, hM'⟩, -⟩ := hRS.2.2 (mdpt (Ms m) i) (by omega)
            obtain ⟨⟨v1, -⟩, v2, -⟩ := hM'
            have v40 := ok'.1.1
            have lp : ∀ d2 g r, mdT (Ms (mdpt (Ms m) i)) - r < d2 → d2 ≤ g → r ≤ mdT (Ms (mdpt (Ms m) i)) → wp (X15_module_87 (X15_module_28 f') g (m : Int) a2 ((skP (mdkd (Ms m)) (mdpt (Ms m)) (fun x => mdT (Ms x)) (fun x => mdkd (Ms x)) i + s + inP (mdkd (Ms (mdpt (Ms m) i))) r : Nat) : Int) (i : Int) ((40 * (48 + m) + i : Nat) : Int) (r : Int)) τ Q := by
              intro d2
              induction d2 with
              | zero => intro g r h; omega
              | succ d2 ih2 =>
                intro g r h1 h2 h3
                obtain ⟨g', rfl⟩ : ∃ g', g = g' + 1 := ⟨g - 1, by omega⟩
                have hin := inP_le (kk := mdkd (Ms (mdpt (Ms m) i))) r
                rw [X15_module_87, wp_bd, RI_2082 (by omega) (by omega), tn, u1, wp_ifp (by omega), wp_bd, RI_2086 (by omega) (by omega), tn, u2 c5, wp_bd, w32_i (x := 48 + (mdpt (Ms m) i : Int)) (by omega) (by omega), RI_2077 (by omega) (by omega), show (48 + (mdpt (Ms m) i : Int)).toNat = 48 + mdpt (Ms m) i by omega, v1]
                by_cases cr : r < mdT (Ms (mdpt (Ms m) i))
                · have inS : inP (mdkd (Ms (mdpt (Ms m) i))) (r + 1) = inP (mdkd (Ms (mdpt (Ms m) i))) r + (if mdkd (Ms (mdpt (Ms m) i)) r = 0 then 1 else 0) := rfl
                  have h148 : ∀ u : Nat, u = (if mdkd (Ms (mdpt (Ms m) i)) r = 0 then 1 else 0) → wp (X15_module_148 (X15_module_28 f') (X15_module_87 (X15_module_28 f') g') (m : Int) a2 (i : Int) ((40 * (48 + m) + i : Nat) : Int) (r : Int) ((skP (mdkd (Ms m)) (mdpt (Ms m)) (fun x => mdT (Ms x)) (fun x => mdkd (Ms x)) i + s + inP (mdkd (Ms (mdpt (Ms m) i))) r : Nat) : Int) (u : Int)) τ Q := by
                    intro u hu
                    have u1 : u ≤ 1 := by rw [hu]; split <;> omega
                    rw [X15_module_148, wp_lt, wp_lt, w32_i (by omega) (by omega), w32_i (by omega) (by omega), show (r : Int) + 1 = ((r + 1 : Nat) : Int) by omega, show ((skP (mdkd (Ms m)) (mdpt (Ms m)) (fun x => mdT (Ms x)) (fun x => mdkd (Ms x)) i + s + inP (mdkd (Ms (mdpt (Ms m) i))) r : Nat) : Int) + (u : Int) = ((skP (mdkd (Ms m)) (mdpt (Ms m)) (fun x => mdT (Ms x)) (fun x => mdkd (Ms x)) i + s + inP (mdkd (Ms (mdpt (Ms m) i))) (r + 1) : Nat) : Int) by rw [inS]; omega]
                    exact ih2 g' (r + 1) (by omega) (by omega) (by omega)
                  rw [wp_ifn (by omega), wp_bd, RI_2086 (by omega) (by omega), tn, u2 c5, wp_bd, w32_i (x := 48 + (mdpt (Ms m) i : Int)) (by omega) (by omega), w32_i (x := 40 * (48 + (mdpt (Ms m) i : Int))) (by omega) (by omega), w32_i (by omega) (by omega), RI_2082 (by omega) (by omega), show (40 * (48 + (mdpt (Ms m) i : Int)) + (r : Int)).toNat = 40 * (48 + mdpt (Ms m) i) + r by omega, (v2 r cr).1.1]
                  by_cases c0 : mdkd (Ms (mdpt (Ms m) i)) r = 0
                  · rw [wp_ifp (by omega)]; exact h148 1 (by rw [if_pos c0])
                  · rw [wp_ifn (by omega)]; exact h148 0 (by rw [if_neg c0])
                · have er : r = mdT (Ms (mdpt (Ms m) i)) := by omega
                  rw [wp_ifp (by omega)]
                  exact nxt _ (by rw [sk1, if_pos c5, ← hs, er]; omega)
            have := lp (mdT (Ms (mdpt (Ms m) i)) + 1) FU 0 (by omega) (by omega) (by omega)
            exact this
          · obtain ⟨F', hF'⟩ : ∃ F', FU = F' + 1 := ⟨FU - 1, by omega⟩
            rw [hF', X15_module_87, wp_bd, RI_2082 (by omega) (by omega), tn, u1, wp_ifn (by omega)]
            exact nxt _ (by rw [sk1, if_neg c5, ← hs]; omega)
        rw [wp_ifn (by omega), wp_lt, w32_i (x := 40 * (48 + (m : Int))) (by omega) (by omega), w32_i (by omega) (by omega), show 40 * (48 + (m : Int)) + (i : Int) = ((40 * (48 + m) + i : Nat) : Int) by omega, wp_bd, RI_2082 (by omega) (by omega), tn, u1]
        by_cases k1 : mdkd (Ms m) i = 1
        · rw [wp_ifp (by omega)]; exact h82 1 (by rw [if_pos (Or.inl k1)])
        · rw [wp_ifn (by omega), wp_bd, RI_2082 (by omega) (by omega), tn, u1]
          by_cases k2 : mdkd (Ms m) i = 2
          · rw [wp_ifp (by omega)]; exact h82 1 (by rw [if_pos (Or.inr k2)])
          · rw [wp_ifn (by omega)]; exact h82 0 (by rw [if_neg (by omega)])
      · have er : i = mdT (Ms m) := by omega
        rw [wp_ifp (by omega), er]
        exact hQ
  exact key (mdT (Ms m) + 1) FU 0 (by omega) (by omega) (by omega)
end
theorem isIn_yy {x y z : Int64} {σ : St} {Q : Int → St → Prop} (h : y.toInt ≤ x.toInt ∧ x.toInt ≤ z.toInt) : wp (F_X0_isIn x y z) σ Q = Q 1 σ := by rw [wp_isIn, if_pos h]
theorem isIn_nn {x y z : Int64} {σ : St} {Q : Int → St → Prop} (h : ¬ (y.toInt ≤ x.toInt ∧ x.toInt ≤ z.toInt)) : wp (F_X0_isIn x y z) σ Q = Q 0 σ := by rw [wp_isIn, if_neg h]
theorem op_module {a b : Int} (ha : inR a) (hb : inR b) {σ : St} (h : I_mod σ) : both2 (F_X0_module a b) (F_X15_module a b) σ (fun τ => agr Vis σ τ) := by
  obtain ⟨⟨k, Ms, hk, hRS, ⟨h1, h3⟩, hw⟩, hBL⟩ := h
  obtain ⟨ha1, ha2⟩ := ha
  have hz : agr Vis σ (stA σ.1 2075 (ups (σ.1 2075) 0 0), σ.2) := agr_code
  have z3 : ((stA σ.1 2075 (ups (σ.1 2075) 0 0), σ.2) : St).1 2075 3 = (k : Int) := by simp (disch := decide) only [stA_eq, ups_ne]; exact h3
  have ek : (i2l (w32 ((k : Int) - 1))).toInt = (k : Int) - 1 := by rw [w32_i (by omega) (by omega), i2l_t (by omega) (by omega)]
  unfold both2
  by_cases hr : 0 ≤ a ∧ a ≤ (k : Int) - 1
  · obtain ⟨m, rfl⟩ := Int.eq_ofNat_of_zero_le hr.1
    have hm : m < k := by omega
    have hRS0 : RS k Ms (stA σ.1 2075 (ups (σ.1 2075) 0 0), σ.2) (stA σ.1 2075 (ups (σ.1 2075) 0 0), σ.2) := hRS.fr hk (fun a q1 q2 => by dsimp only; rw [stA_ne (by omega)]) rfl (fun m hm a i h => by
      unfold stS at h
      exact ⟨by dsimp only; rw [stA_ne (by omega)], rfl, rfl⟩) (fun i _ _ => by dsimp only; rw [stA_ne (by decide)])
    obtain ⟨⟨ok, ⟨⟨⟨x7, x13, x14, x22, x27, x30, x29⟩, -⟩, -⟩, ⟨⟨y77, y78, y80⟩, -⟩⟩, y79, -⟩ := hRS.2.2 m hm
    have tw : ∀ r : Int, (b = 0 → r = (mdT (Ms m) : Int)) → (b = 1 → r = (mdC (Ms m) : Int)) → (b = 2 → r = (mdK (Ms m) : Int)) → (b = 3 → r = (mdS (Ms m) : Int)) → (b ≠ 0 → b ≠ 1 → b ≠ 2 → b ≠ 3 → r = -2) → wp (F_X15_module (m : Int) b) σ (fun q τ => r = q ∧ agr Vis σ τ) := by
      intro r r0 r1 r2 r3 r4
      rw [F_X15_module, wp_bd, wp_pI, wp_bd, wp_gI, z3, wp_bd, in15_yy (by rw [ek, i2l_t (by omega) (by omega), t0]; omega), wp_ifn (by decide), wp_lt, wp_lt]
      refine mskT hRS0 hk hm ?_
      rw [X15_module_162]
      by_cases c0 : b = 0
      · rw [wp_ifp c0, wp_bd, w32_i (by omega) (by omega), RI_2077 (by omega) (by omega), show (48 + (m : Int)).toNat = 48 + m by omega, wp_rt]
        simp (disch := decide) only [stA_ne]
        exact ⟨by rw [y77]; exact r0 c0, hz⟩
      · rw [wp_ifn c0]
        by_cases c1 : b = 1
        · rw [wp_ifp c1, wp_bd, w32_i (by omega) (by omega), RI_2079 (by omega) (by omega), show (48 + (m : Int)).toNat = 48 + m by omega, wp_rt]
          simp (disch := decide) only [stA_ne]
          exact ⟨by rw [y79]; exact r1 c1, hz⟩
        · rw [wp_ifn c1]
          by_cases c2 : b = 2
          · rw [wp_ifp c2, wp_bd, w32_i (by omega) (by omega), RI_2078 (by omega) (by omega), show (48 + (m : Int)).toNat = 48 + m by omega, wp_rt]
            simp (disch := decide) only [stA_ne]
            exact ⟨by rw [y78]; exact r2 c2, hz⟩
          · rw [wp_ifn c2]
            by_cases c3 : b = 3
            · rw [wp_ifp c3, wp_rt]; exact ⟨r3 c3, hz⟩
            · rw [wp_ifn c3, wp_rt]; exact ⟨r4 c0 c1 c2 c3, hz⟩
    have hMd : isMd (110 + 25 * m) := isMd_k (by omega)
    rw [F_X0_module, wp_bd, wp_gI, h1, wp_bd, isIn_yy (by rw [ek, i2l_t (by omega) (by omega), t0]; exact hr), wp_ifn (by decide)]
    by_cases c0 : b = 0
    · rw [wp_ifp c0, wp_bd, RI_1 (by omega) (by omega), tn, hRS.1 m (by omega), wp_nn, wp_ck, and_t (ly_Md hMd), wp_bd, wp_gI, wp_rt, x7]
      exact tw _ (fun _ => rfl) (by omega) (by omega) (by omega) (by omega)
    · rw [wp_ifn c0]
      by_cases c1 : b = 1
      · rw [wp_ifp c1, wp_bd, RI_1 (by omega) (by omega), tn, hRS.1 m (by omega), wp_nn, wp_ck, and_t (ly_Md hMd), wp_bd, wp_gI, wp_rt, x22]
        exact tw _ (by omega) (fun _ => rfl) (by omega) (by omega) (by omega)
      · rw [wp_ifn c1]
        by_cases c2 : b = 2
        · rw [wp_ifp c2, wp_bd, RI_1 (by omega) (by omega), tn, hRS.1 m (by omega), wp_nn, wp_ck, and_t (ly_Md hMd), wp_bd, wp_gI, wp_rt, x14]
          exact tw _ (by omega) (by omega) (fun _ => rfl) (by omega) (by omega)
        · rw [wp_ifn c2]
          by_cases c3 : b = 3
          · rw [wp_ifp c3, wp_bd, RI_1 (by omega) (by omega), tn, hRS.1 m (by omega), wp_nn, wp_ck, and_t (ly_Md hMd), wp_bd, wp_gI, wp_rt, x30]
            exact tw _ (by omega) (by omega) (by omega) (fun _ => rfl) (by omega)
          · rw [wp_ifn c3, wp_rt]
            exact tw _ (by omega) (by omega) (by omega) (by omega) (fun _ _ _ _ => rfl)
  · rw [F_X0_module, wp_bd, wp_gI, h1, wp_bd, isIn_nn (by rw [ek, i2l_t (by omega) (by omega), t0]; exact hr), wp_ifp rfl, wp_rt, F_X15_module, wp_bd, wp_pI, wp_bd, wp_gI, z3, wp_bd, in15_nn (by rw [ek, i2l_t (by omega) (by omega), t0]; exact hr), wp_ifp rfl, wp_rt]
    exact ⟨rfl, hz⟩
