set_option maxRecDepth 100000
set_option maxHeartbeats 400000
/-! ===== the call build, joined ===== -/
theorem op_build {a b : Int} (ha : inR a) (hb : inR b) {c : Nat} {σ : St} (h : I_mod σ) (hI : I_des c σ) (hn : I_net σ) (hrg : I_ring σ) (hby : BY σ) : both2 (F_X0_build a b) (F_X15_build a b) σ (fun τ => (I_mod τ ∧ I_des c τ ∧ I_net τ ∧ I_ring τ ∧ BY τ) ∧ Out P_bld σ τ) := by
  obtain ⟨hI0, hBL⟩ := h
  obtain ⟨k, Ms, hk, hRS, ⟨h1, h3⟩, hw⟩ := hI0
  have hI0 : I_m0 σ := ⟨k, Ms, hk, hRS, ⟨h1, h3⟩, hw⟩
  obtain ⟨ob, hO, hsl⟩ := hI
  obtain ⟨ha1, ha2⟩ := ha
  obtain ⟨hb1, hb2⟩ := hb
  obtain ⟨q4, hD, p4⟩ := hO.1 4 (by decide)
  have hoD : 410 ≤ ob 4 ∧ ob 4 + 326 < 2075 := by rcases hD with w | w | w | w | w <;> omega
  have ek : (i2l (w32 ((k : Int) - 1))).toInt = (k : Int) - 1 := by rw [w32_i (by omega) (by omega), i2l_t (by omega) (by omega)]
  have t3 : (3 : Int64).toInt = 3 := by decide
  have ai : (i2l a).toInt = a := i2l_t (by omega) (by omega)
  have bi : (i2l b).toInt = b := i2l_t (by omega) (by omega)
  -- an end without a design, and no ring
  have fin0 : ∀ τ, agr (bf0 (ob 4)) σ τ → I_mod τ ∧ I_des c τ ∧ I_net τ ∧ BY τ ∧ Out P_bld σ τ := fun τ e => by
    refine ⟨⟨hI0.mono (agr.sub e (fun a i h => bf0_m hD h)), fun i => ?_⟩, I_des.same hO hsl e, hn.mono (agr.sub e (fun a i h => bf0_n hD h)), fun i => ?_, bf0_out hD e⟩
    · rw [(e 2099 i (by
        rintro (h | h | h | h | h | h)
        · have := dcX_r hD h.1; omega
        · omega
        · omega
        · have := wkM_r h; omega
        · omega
        · omega)).1]; exact hBL i
    · rw [(e 2087 i (by
        rintro (h | h | h | h | h | h)
        · have := dcX_r hD h.1; omega
        · omega
        · omega
        · have := wkM_r h; omega
        · omega
        · omega)).1]; exact hby i
  have nor : ∀ τ, (τ.1 0 9 = σ.1 0 9 ∧ τ.1 36 = σ.1 36 ∧ τ.1 2075 78 = σ.1 2075 78 ∧ τ.1 2134 = σ.1 2134) → I_ring τ := fun τ ⟨e1, e2, e3, e4⟩ => by
    unfold I_ring
    rw [e1, e2, e3, e4]; exact hrg
  unfold both2
  have hz : agr (bf0 (ob 4)) σ (stA σ.1 2075 (ups (σ.1 2075) 0 0), σ.2) := agr.refl.u (fun h => h (Or.inr (Or.inr (Or.inr (Or.inr (Or.inr ⟨rfl, Or.inl rfl⟩)))))) _
  have hz4 : I_ring (stA σ.1 2075 (ups (σ.1 2075) 0 0), σ.2) := nor _ ⟨by dsimp only; rw [stA_ne (by decide)], by dsimp only; rw [stA_ne (by decide)], by dsimp only; rw [stA_eq, ups_ne (by decide)], by dsimp only; rw [stA_ne (by decide)]⟩
  have hz3 : (stA σ.1 2075 (ups (σ.1 2075) 0 0)) 2075 3 = (k : Int) := by rw [stA_eq, ups_ne (by decide)]; exact h3
  have hfz : ∀ r : Int, r = -1 → (r = -1 ∧ (I_mod (stA σ.1 2075 (ups (σ.1 2075) 0 0), σ.2) ∧ I_des c (stA σ.1 2075 (ups (σ.1 2075) 0 0), σ.2) ∧ I_net (stA σ.1 2075 (ups (σ.1 2075) 0 0), σ.2) ∧ I_ring (stA σ.1 2075 (ups (σ.1 2075) 0 0), σ.2) ∧ BY (stA σ.1 2075 (ups (σ.1 2075) 0 0), σ.2)) ∧ Out P_bld σ (stA σ.1 2075 (ups (σ.1 2075) 0 0), σ.2)) := fun r hr => by
    obtain ⟨f1, f2, f3, f4, f5⟩ := fin0 _ hz
    exact ⟨hr, ⟨f1, f2, f3, hz4, f4⟩, f5⟩
  by_cases hrb : 0 ≤ b ∧ b ≤ (k : Int) - 1
  · by_cases hra : 0 ≤ a ∧ a ≤ 3
    · obtain ⟨S, rfl⟩ := Int.eq_ofNat_of_zero_le hra.1
      obtain ⟨top, rfl⟩ := Int.eq_ofNat_of_zero_le hrb.1
      have hS : S < 4 := by omega
      have htop : top < k := by omega
      have hok : ∀ m, m < k → modOK Ms m (Ms m) := fun m hm => (hRS.2.2 m hm).1.1
      -- the twin
      have tw : ∀ (σ2 : St), agr (fun a _ => 2075 ≤ a) σ σ2 → (∀ s, layF Ms 30 ls0 top (-1) (-1) 0 = some s → limOK Ms s → chOK Ms s) → ∀ {Q : Int → St → Prop}, (∀ τ, agr (fun a i => ¬ (wkM a i ∨ (a = 2075 ∧ i = 0))) σ2 τ → layF Ms 30 ls0 top (-1) (-1) 0 = none → Q (-4) τ) → (∀ τ s, agr (fun a i => ¬ (wkM a i ∨ (a = 2075 ∧ i = 0))) σ2 τ → layF Ms 30 ls0 top (-1) (-1) 0 = some s → ¬ limOK Ms s → Q (-4) τ) → (∀ τ s g, agr (fun a i => ¬ (wkM a i ∨ a = 2134 ∨ (a = 2075 ∧ (i = 0 ∨ i = 78)))) σ2 τ → layF Ms 30 ls0 top (-1) (-1) 0 = some s → limOK Ms s → ringG Ms s g → τ.1 2075 78 = ((rBest (hgG Ms s) (lsG s) g + 1 : Nat) : Int) → (∀ j, j ≤ rBest (hgG Ms s) (lsG s) g → τ.1 2134 j = (rng (hgG Ms s) (lsG s) g j : Int)) → Q (-20) τ) → (∀ τ s, agr (fun a i => ¬ (slM S a i ∨ (a = 2075 ∧ i = 0))) σ2 τ → layF Ms 30 ls0 top (-1) (-1) 0 = some s → limOK Ms s → (∀ g, g < lsG s → ¬ onR (hgG Ms s) (lsG s) g) → DCM Ms top s (v0G Ms s) S τ → τ.1 2114 S = 1 → τ.1 2141 S = 0 → BLS τ → BY τ → Q (lsG s : Int) τ) → wp (F_X15_build (S : Int) (top : Int)) σ2 Q := by
        intro σ2 e2 hch Q kA kB kC kN
        have e3 : agr (fun a i => ¬ (a = 2075 ∧ i = 0)) σ2 (stA σ2.1 2075 (ups (σ2.1 2075) 0 0), σ2.2) := agr.refl.u (by omega) _
        have g3 : (stA σ2.1 2075 (ups (σ2.1 2075) 0 0)) 2075 3 = (k : Int) := by rw [stA_eq, ups_ne (by decide), (e2 2075 3 (Nat.le_refl _)).1]; exact h3
        rw [F_X15_build, wp_bd, wp_pI, wp_bd, in15_yy (by rw [ai, t0, t3]; omega), wp_ifn (by decide), wp_bd, wp_gI]
        dsimp only
        rw [g3, wp_bd, in15_yy (by rw [ek, bi, t0]; exact hrb), wp_ifn (by decide)]
        generalize hU : ((stA σ2.1 2075 (ups (σ2.1 2075) 0 0), σ2.2) : St) = τ0 at e3
        clear hU g3
        have m0 : ∀ m, m ≤ top → modM τ0 (48 + m) (Ms m) := fun m hm => by
          have ok := hok m (by omega)
          exact (hRS.2.2 m (by omega)).1.2.2.fr (hRS.2.1 m) ok.1.2.1 ok.1.2.2.2.2.2 (fun c hc => (ok.2.2.2.2.1 c hc).2.2) ((agr.sub e2 (fun a i h => by unfold stS at h; omega)).trans (agr.sub e3 (fun a i h => by unfold stS at h; omega)))
        have b0 : BLS τ0 := fun i => by rw [(e3 2099 i (by omega)).1, (e2 2099 i (by omega)).1]; exact hBL i
        have y0 : BY τ0 := fun i => by rw [(e3 2087 i (by omega)).1, (e2 2087 i (by omega)).1]; exact hby i
        refine buildM hk hS hRS.2.1 hok htop m0 b0 y0 hch (fun τ e => kA τ ?_) (fun τ s e => kB τ s ?_) (fun τ s g e => kC τ s g ?_) (fun τ s e => kN τ s ?_)
        · exact (agr.sub e3 (fun a i h => fun z => h (Or.inr z))).trans (agr.sub e (fun a i h => fun z => h (Or.inl z)))
        · exact (agr.sub e3 (fun a i h => fun z => h (Or.inr z))).trans (agr.sub e (fun a i h => fun z => h (Or.inl z)))
        · exact (agr.sub e3 (fun a i h => fun z => h (Or.inr (Or.inr ⟨z.1, Or.inl z.2⟩)))).trans (agr.sub e (fun a i h => fun z => h (by
            rcases z with z | z | z
            · exact Or.inl z
            · exact Or.inr (Or.inl z)
            · exact Or.inr (Or.inr ⟨z.1, Or.inr z.2⟩))))
        · exact (agr.sub e3 (fun a i h => fun z => h (Or.inr z))).trans (agr.sub e (fun a i h => fun z => h (Or.inl z)))
      -- the component
      rw [F_X0_build, wp_bd, wp_gI, h1, wp_bd, isIn_yy (by rw [ek, bi, t0]; exact hrb), wp_ifn (by decide), wp_bd, isIn_yy (by rw [ai, t0, t3]; omega), wp_ifn (by decide), wp_bd, RI_32 (by decide) (by decide), toN4, q4, wp_nn, wp_ck, and_t (ly_D hD), wp_bd]
      refine modsX (Ms := Ms) (q := 0) hD (show top < 12 by omega) (by decide +kernel) hRS.1 p4 (fun m hm => (hRS.2.2 m (by omega)).1.2.1) (fun m hm => hok m (by omega)) (fun σ1 e1 e1' hX1 => ?_)
      have e1b : agr (fun a i => ¬ (dcX (ob 4) a i ∧ a ≠ ob 4 + 1)) σ σ1 := agr.sub e1 (fun a i h => by unfold dcX at h; omega)
      have e1b : agr (bldX (ob 4)) σ σ1 := by
        intro a i h
        by_cases w : a < ob 4 + 27 ∨ ob 4 + 326 < a
        · exact e1 a i w
        · exact absurd ⟨by unfold dcX; omega, by omega⟩ h
      have hMX1 : MX σ1 (ob 4) Ms := fun m hm => by rw [e1']; exact p4 m hm
      have up : ∀ σ2, agr (bldX (ob 4)) σ1 σ2 → agr (bldX (ob 4)) σ σ2 ∧ agr (fun a _ => 2075 ≤ a) σ σ2 := fun σ2 e2 => by
        have e := e1b.trans e2
        exact ⟨e, agr.sub e (fun a i h => fun z => by have := dcX_r hD z.1; omega)⟩
      refine build25X hk hD hRS.2.1 hok htop hMX1 hX1 (fun σ2 e2 hs => ?_) (fun σ2 s e2 hs hl => ?_) (fun σ2 s g e2 hs hl hg h23 h18 hch => ?_) (fun σ2 s e2 hs hl hno hdx hch => ?_)
      · obtain ⟨f1, f2⟩ := up σ2 e2
        rw [wp_lt, wp_ifn (by decide), X0_build_80, wp_ifn (by decide), wp_rt]
        refine tw σ2 f2 (fun s hs' => by rw [hs] at hs'; cases hs') (fun τ eτ _ => ?_) (fun τ s eτ hs' => by rw [hs] at hs'; cases hs') (fun τ s g eτ hs' => by rw [hs] at hs'; cases hs') (fun τ s eτ hs' => by rw [hs] at hs'; cases hs')
        have eF : agr (bf0 (ob 4)) σ τ := (agr.sub f1 (fun a i h => fun z => h (Or.inl z))).trans (agr.sub eτ (fun a i h => fun z => h (by
          rcases z with z | z
          · exact Or.inr (Or.inr (Or.inr (Or.inl z)))
          · exact Or.inr (Or.inr (Or.inr (Or.inr (Or.inr ⟨z.1, Or.inl z.2⟩)))))))
        obtain ⟨z1, z2, z3, z4, z5⟩ := fin0 τ eF
        refine ⟨rfl, ⟨z1, z2, z3, nor τ ⟨?_, ?_, ?_, ?_⟩, z4⟩, z5⟩
        · rw [(eτ 0 9 (fun h => by rcases h with h | h; (have := wkM_r h; omega); omega)).1, (f1 0 9 (fun h => by have := dcX_r hD h.1; omega)).1]
        · rw [eτ.row (a := 36) (fun i h => by rcases h with h | h; (have := wkM_r h; omega); omega), f1.row (a := 36) (fun i h => by have := dcX_r hD h.1; omega)]
        · rw [(eτ 2075 78 (fun h => by rcases h with h | h; (have := wkM_r h; omega); omega)).1, (f1 2075 78 (fun h => by have := dcX_r hD h.1; omega)).1]
        · rw [eτ.row (a := 2134) (fun i h => by rcases h with h | h; (have := wkM_r h; omega); omega), f1.row (a := 2134) (fun i h => by have := dcX_r hD h.1; omega)]
      · obtain ⟨f1, f2⟩ := up σ2 e2
        rw [wp_lt, wp_ifn (by decide), X0_build_80, wp_ifn (by decide), wp_rt]
        have un : ∀ {s'}, layF Ms 30 ls0 top (-1) (-1) 0 = some s' → s' = s := fun h' => by rw [hs] at h'; exact (Option.some.inj h').symm
        have kk : ∀ τ, agr (fun a i => ¬ (wkM a i ∨ (a = 2075 ∧ i = 0))) σ2 τ → ((-4 : Int) = -4 ∧ (I_mod τ ∧ I_des c τ ∧ I_net τ ∧ I_ring τ ∧ BY τ) ∧ Out P_bld σ τ) := fun τ eτ => by
          have eF : agr (bf0 (ob 4)) σ τ := (agr.sub f1 (fun a i h => fun z => h (Or.inl z))).trans (agr.sub eτ (fun a i h => fun z => h (by
            rcases z with z | z
            · exact Or.inr (Or.inr (Or.inr (Or.inl z)))
            · exact Or.inr (Or.inr (Or.inr (Or.inr (Or.inr ⟨z.1, Or.inl z.2⟩)))))))
          obtain ⟨z1, z2, z3, z4, z5⟩ := fin0 τ eF
          refine ⟨rfl, ⟨z1, z2, z3, nor τ ⟨?_, ?_, ?_, ?_⟩, z4⟩, z5⟩
          · rw [(eτ 0 9 (fun h => by rcases h with h | h; (have := wkM_r h; omega); omega)).1, (f1 0 9 (fun h => by have := dcX_r hD h.1; omega)).1]
          · rw [eτ.row (a := 36) (fun i h => by rcases h with h | h; (have := wkM_r h; omega); omega), f1.row (a := 36) (fun i h => by have := dcX_r hD h.1; omega)]
          · rw [(eτ 2075 78 (fun h => by rcases h with h | h; (have := wkM_r h; omega); omega)).1, (f1 2075 78 (fun h => by have := dcX_r hD h.1; omega)).1]
          · rw [eτ.row (a := 2134) (fun i h => by rcases h with h | h; (have := wkM_r h; omega); omega), f1.row (a := 2134) (fun i h => by have := dcX_r hD h.1; omega)]
        refine tw σ2 f2 (fun s' hs' hl' => by rw [un hs'] at hl'; exact absurd hl' hl) (fun τ eτ hs' => by rw [hs] at hs'; cases hs') (fun τ s' eτ _ _ => kk τ eτ) (fun τ s' g eτ hs' hl' => by rw [un hs'] at hl'; exact absurd hl' hl) (fun τ s' eτ hs' hl' => by rw [un hs'] at hl'; exact absurd hl' hl)
      · obtain ⟨f1, f2⟩ := up σ2 e2
        have un : ∀ {s'}, layF Ms 30 ls0 top (-1) (-1) 0 = some s' → s' = s := fun h' => by rw [hs] at h'; exact (Option.some.inj h').symm
        have hd : DP Ms top s := DP_of hk hRS.2.1 hok htop hs
        have h200 := hd.2.1.2
        have rb := (rBest_ok hg.1 hg.2.1).1
        rw [wp_lt, wp_ifp rfl, wp_bd, wp_gI, h23, wp_bd, wp_pI, wp_bd, wp_gI]
        dsimp only
        rw [stA_eq, ups_eq, wp_bd, c_cpI (LY18 hD) (by decide +kernel : lay 36 = (1, 201)) (by decide) (by decide) (by decide) (by omega) (by omega) (by omega), X0_build_80, wp_ifn (by decide), wp_rt]
        dsimp only
        have e5 : agr (fun a i => ¬ (a = 36 ∨ (a = 0 ∧ i = 9))) σ2 (stA (stA σ2.1 0 (ups (σ2.1 0) 9 ((rBest (hgG Ms s) (lsG s) g + 1 : Nat) : Int))) 36 (cpy (stA σ2.1 0 (ups (σ2.1 0) 9 ((rBest (hgG Ms s) (lsG s) g + 1 : Nat) : Int)) (ob 4 + 18)) (0 : Int).toNat (stA σ2.1 0 (ups (σ2.1 0) 9 ((rBest (hgG Ms s) (lsG s) g + 1 : Nat) : Int)) 36) (0 : Int).toNat ((rBest (hgG Ms s) (lsG s) g + 1 : Nat) : Int).toNat), σ2.2) := (agr.refl.u (a := 0) (i := 9) (by omega) _).x 36 (fun k h => h (Or.inl rfl))
        have e6 : (stA (stA σ2.1 0 (ups (σ2.1 0) 9 ((rBest (hgG Ms s) (lsG s) g + 1 : Nat) : Int))) 36 (cpy (stA σ2.1 0 (ups (σ2.1 0) 9 ((rBest (hgG Ms s) (lsG s) g + 1 : Nat) : Int)) (ob 4 + 18)) (0 : Int).toNat (stA σ2.1 0 (ups (σ2.1 0) 9 ((rBest (hgG Ms s) (lsG s) g + 1 : Nat) : Int)) 36) (0 : Int).toNat ((rBest (hgG Ms s) (lsG s) g + 1 : Nat) : Int).toNat)) 0 9 = ((rBest (hgG Ms s) (lsG s) g + 1 : Nat) : Int) := by rw [stA_ne (by decide), stA_eq, ups_eq]
        have e7 : ∀ j, j ≤ rBest (hgG Ms s) (lsG s) g → (stA (stA σ2.1 0 (ups (σ2.1 0) 9 ((rBest (hgG Ms s) (lsG s) g + 1 : Nat) : Int))) 36 (cpy (stA σ2.1 0 (ups (σ2.1 0) 9 ((rBest (hgG Ms s) (lsG s) g + 1 : Nat) : Int)) (ob 4 + 18)) (0 : Int).toNat (stA σ2.1 0 (ups (σ2.1 0) 9 ((rBest (hgG Ms s) (lsG s) g + 1 : Nat) : Int)) 36) (0 : Int).toNat ((rBest (hgG Ms s) (lsG s) g + 1 : Nat) : Int).toNat)) 36 j = (rng (hgG Ms s) (lsG s) g j : Int) := fun j hj => by
          rw [stA_eq, tn]
          unfold cpy
          rw [if_pos (by constructor <;> (show _ ; simp only [Int.toNat_zero]; omega)), stA_ne (by omega)]
          have : (0 : Int).toNat + (j - (0 : Int).toNat) = j := by simp only [Int.toNat_zero]; omega
          rw [this]; exact h18 j hj
        generalize hU : ((stA (stA σ2.1 0 _) 36 _, σ2.2) : St) = σ3 at e5
        have e6' : σ3.1 0 9 = ((rBest (hgG Ms s) (lsG s) g + 1 : Nat) : Int) := by subst hU; exact e6
        have e7' : ∀ j, j ≤ rBest (hgG Ms s) (lsG s) g → σ3.1 36 j = (rng (hgG Ms s) (lsG s) g j : Int) := by subst hU; exact e7
        clear hU e6 e7
        refine tw σ3 (f2.trans (agr.sub e5 (fun a i h => by omega))) (fun s' hs' _ => by rw [un hs']; exact hch) (fun τ eτ hs' => by rw [hs] at hs'; cases hs') (fun τ s' eτ hs' hl' => by rw [un hs'] at hl'; exact absurd hl hl') (fun τ s' g' eτ hs' hl' hg' k78 k34 => ?_) (fun τ s' eτ hs' hl' hno => by rw [un hs'] at hno; exact absurd hg.2.1 (hno g hg.1))
        have es := un hs'
        subst es
        have eg := ringG_u hg' hg
        subst eg
        have eF : agr (bf0 (ob 4)) σ τ := ((agr.sub f1 (fun a i h => fun z => h (Or.inl z))).trans (agr.sub e5 (fun a i h => fun z => h (by
          rcases z with z | z
          · exact Or.inr (Or.inl z)
          · exact Or.inr (Or.inr (Or.inl z)))))).trans (agr.sub eτ (fun a i h => fun z => h (Or.inr (Or.inr (Or.inr z)))))
        obtain ⟨z1, z2, z3, z4, z5⟩ := fin0 τ eF
        refine ⟨rfl, ⟨z1, z2, z3, ⟨rBest (hgG Ms s') (lsG s') g' + 1, by omega, ⟨?_, k78⟩, fun j hj => ?_⟩, z4⟩, z5⟩
        · rw [(eτ 0 9 (fun h => by rcases h with h | h | h; (have := wkM_r h; omega); omega; omega)).1]; exact e6'
        · rw [(eτ 36 j (fun h => by rcases h with h | h | h; (have := wkM_r h; omega); omega; omega)).1, e7' j (by omega), k34 j (by omega)]
      · obtain ⟨f1, f2⟩ := up σ2 e2
        have un : ∀ {s'}, layF Ms 30 ls0 top (-1) (-1) 0 = some s' → s' = s := fun h' => by rw [hs] at h'; exact (Option.some.inj h').symm
        have hd : DP Ms top s := DP_of hk hRS.2.1 hok htop hs
        have h32 : σ2.2.2 32 = σ.2.2 32 := funext fun i => (f1 32 i (fun h => by have := dcX_r hD h.1; omega)).2.2
        rw [wp_lt, wp_ifn (by omega), X0_build_80, wp_ifp (by omega), wp_bd, RI_32 (by omega) (by omega), tn, h32, (hO.1 S (by omega)).1, wp_nn, wp_bd, RV_32 (hO.1 S (by omega)).2.1 (by decide) (by decide), wp_bd, RV_32 hD (by omega) (by omega), wp_bd, RV_33 (by omega) (by omega) (by decide) (by decide), wp_bd, RV_35 (by omega) (by omega) (by decide) (by decide), wp_rt]
        dsimp only
        rw [stA_stA, stA_eq, toN4, tn, h32]
        have e5 : agr (fun a i => ¬ (a = 32 ∨ ((a = 33 ∨ a = 35) ∧ i = S))) σ2 (stA (stA σ2.1 33 (ups (σ2.1 33) S 1)) 35 (ups (stA σ2.1 33 (ups (σ2.1 33) S 1) 35) S 0), σ2.2.1, stA σ2.2.2 32 (ups (ups (σ.2.2 32) 4 (some (ob S))) S (some (ob 4)))) := by
          intro a i h
          refine ⟨?_, rfl, ?_⟩
          · dsimp only
            by_cases c1 : a = 35
            · subst c1; rw [stA_eq, ups_ne (by omega), stA_ne (by decide)]
            · rw [stA_ne c1]
              by_cases c2 : a = 33
              · subst c2; rw [stA_eq, ups_ne (by omega)]
              · rw [stA_ne c2]
          · dsimp only
            rw [stA_ne (by omega)]
        have e6 : (stA (stA σ2.1 33 (ups (σ2.1 33) S 1)) 35 (ups (stA σ2.1 33 (ups (σ2.1 33) S 1) 35) S 0)) 33 S = 1 ∧ (stA (stA σ2.1 33 (ups (σ2.1 33) S 1)) 35 (ups (stA σ2.1 33 (ups (σ2.1 33) S 1) 35) S 0)) 35 S = 0 := by
          refine ⟨?_, ?_⟩
          · rw [stA_ne (by decide), stA_eq, ups_eq]
          · rw [stA_eq, ups_eq]
        have e7 : (stA σ2.2.2 32 (ups (ups (σ.2.2 32) 4 (some (ob S))) S (some (ob 4)))) 32 = ups (ups (σ.2.2 32) 4 (some (ob S))) S (some (ob 4)) := stA_eq
        generalize hU : ((stA (stA σ2.1 33 _) 35 _, σ2.2.1, stA σ2.2.2 32 _) : St) = σ3 at e5
        have e6' : σ3.1 33 S = 1 ∧ σ3.1 35 S = 0 ∧ σ3.2.2 32 = ups (ups (σ.2.2 32) 4 (some (ob S))) S (some (ob 4)) := by subst hU; exact ⟨e6.1, e6.2, e7⟩
        clear hU e6 e7
        refine tw σ3 (f2.trans (agr.sub e5 (fun a i h => by omega))) (fun s' hs' _ => by rw [un hs']; exact hch) (fun τ eτ hs' => by rw [hs] at hs'; cases hs') (fun τ s' eτ hs' hl' => by rw [un hs'] at hl'; exact absurd hl hl') (fun τ s' g' eτ hs' hl' hg' => by rw [un hs'] at hg'; exact absurd hg'.2.1 (hno g' hg'.1)) (fun τ s' eτ hs' hl' hno' hcm k14 k41 hbl' hby' => ?_)
        have es := un hs'
        subst es
        have nsl : ∀ {a i}, a < 2075 → ¬ (slM S a i ∨ (a = 2075 ∧ i = 0)) := fun h1 h => by
          rcases h with (h | h | h) | h
          · have := wkM_r h; omega
          · have := dcTw_r hS h; omega
          · omega
          · omega
        have eF : agr (bf1 S (ob 4)) σ τ := ((agr.sub f1 (fun a i h => fun z => h (Or.inl z))).trans (agr.sub e5 (fun a i h => fun z => h (by
          rcases z with z | z
          · exact Or.inr (Or.inl z)
          · exact Or.inr (Or.inr (Or.inl z)))))).trans (agr.sub eτ (fun a i h => fun z => h (by
          rcases z with z | z
          · exact Or.inr (Or.inr (Or.inr (Or.inl z)))
          · exact Or.inr (Or.inr (Or.inr (Or.inr z))))))
        have f33 : τ.1 33 S = 1 := by rw [(eτ 33 S (nsl (by decide))).1]; exact e6'.1
        have f35 : τ.1 35 S = 0 := by rw [(eτ 35 S (nsl (by decide))).1]; exact e6'.2.1
        have f32 : τ.2.2 32 = ups (ups (σ.2.2 32) 4 (some (ob S))) S (some (ob 4)) := by
          rw [← e6'.2.2]; exact funext fun i => (eτ 32 i (nsl (by decide))).2.2
        have hdx' : DCX Ms top s' (v0G Ms s') (ob 4) τ := hdx.fr hd.1.1 ((agr.sub e5 (fun a i h => by have := dcX_r hD h; omega)).trans (agr.sub eτ (fun a i h => nsl (by have := dcX_r hD h; omega))))
        refine ⟨rfl, ⟨⟨hI0.mono (agr.sub eF (fun a i h => bf1_m hD hS h)), hbl'⟩, I_des.swap hO hsl hS eF f32 (fun m => ?_) ⟨Ms, top, s', v0G Ms s', ⟨hd, hl, hno, v0_B hd, hch⟩, Nat.zero_le _, hdx', hcm⟩ f33 k14, net_bld hn hD hS eF f35 k41, nor τ ⟨?_, ?_, ?_, ?_⟩, hby'⟩, bf1_out hD hS eF⟩
        · rw [(eτ (ob 4 + 1) m (nsl (by omega))).2.2, (e5 (ob 4 + 1) m (by omega)).2.2, (f1 (ob 4 + 1) m (fun h => h.2 rfl)).2.2]
        · rw [(eτ 0 9 (nsl (by decide))).1, (e5 0 9 (by omega)).1, (f1 0 9 (fun h => by have := dcX_r hD h.1; omega)).1]
        · rw [eτ.row (a := 36) (fun i => nsl (by decide)), e5.row (a := 36) (fun i => by omega), f1.row (a := 36) (fun i h => by have := dcX_r hD h.1; omega)]
        · rw [(eτ 2075 78 (fun h => by
            rcases h with (h | h | h) | h
            · have := wkM_r h; omega
            · have := dcTw_r hS h; omega
            · omega
            · omega)).1, (e5 2075 78 (by omega)).1, (f1 2075 78 (fun h => by have := dcX_r hD h.1; omega)).1]
        · rw [eτ.row (a := 2134) (fun i h => by
            rcases h with (h | h | h) | h
            · have := wkM_r h; omega
            · have := dcTw_r hS h; omega
            · omega
            · omega), e5.row (a := 2134) (fun i => by omega), f1.row (a := 2134) (fun i h => by have := dcX_r hD h.1; omega)]
    · rw [F_X0_build, wp_bd, wp_gI, h1, wp_bd, isIn_yy (by rw [ek, bi, t0]; exact hrb), wp_ifn (by decide), wp_bd, isIn_nn (by rw [ai, t0, t3]; exact hra), wp_ifp rfl, wp_rt, F_X15_build, wp_bd, wp_pI, wp_bd, in15_nn (by rw [ai, t0, t3]; exact hra), wp_ifp rfl, wp_rt]
      exact hfz (-1) rfl
  · rw [F_X0_build, wp_bd, wp_gI, h1, wp_bd, isIn_nn (by rw [ek, bi, t0]; exact hrb), wp_ifp rfl, wp_rt, F_X15_build, wp_bd, wp_pI, wp_bd]
    by_cases hra : 0 ≤ a ∧ a ≤ 3
    · rw [in15_yy (by rw [ai, t0, t3]; omega), wp_ifn (by decide), wp_bd, wp_gI]
      dsimp only
      rw [hz3, wp_bd, in15_nn (by rw [ek, bi, t0]; exact hrb), wp_ifp rfl, wp_rt]
      exact hfz (-1) rfl
    · rw [in15_nn (by rw [ai, t0, t3]; exact hra), wp_ifp rfl, wp_rt]
      exact hfz (-1) rfl
