set_option maxRecDepth 100000
set_option maxHeartbeats 400000
/-! ===== read: a module, from brace to brace ===== -/
/-- what a module leaves alone -/
def nMX (a i : Nat) : Prop := ¬ ((a = 2 ∧ ((3 ≤ i ∧ i ≤ 9) ∨ i = 15 ∨ i = 16)) ∨ (5 ≤ a ∧ a ≤ 31))
def nMY (k a i : Nat) : Prop := ¬ ((a = 2075 ∧ ((30 ≤ i ∧ i ≤ 36) ∨ i = 38 ∨ i = 39 ∨ i = 46 ∨ i = 47 ∨ (55 ≤ i ∧ i ≤ 57))) ∨ (2077 ≤ a ∧ a ≤ 2080 ∧ i = 48 + k) ∨ (a = 2081 ∧ 10 * (48 + k) ≤ i ∧ i < 10 * (48 + k) + 10) ∨ (2082 ≤ a ∧ a ≤ 2086 ∧ 40 * (48 + k) ≤ i) ∨ (a = 2087 ∧ 400 * (48 + k) ≤ i) ∨ (2088 ≤ a ∧ a ≤ 2093 ∧ 300 * (48 + k) ≤ i ∧ i < 300 * (48 + k) + 300) ∨ (2094 ≤ a ∧ a ≤ 2100 ∧ 200 * (48 + k) ≤ i ∧ i < 200 * (48 + k) + 200) ∨ (2101 ≤ a ∧ a ≤ 2113))
/-- the elses of all statements are booleans -/
def BLs (τ : St) : Prop := ∀ i, τ.1 2099 i = 0 ∨ τ.1 2099 i = 1
/-- behind a module that was read -/
def MP (k : Nat) (Ms : Nat → ModV) (T : Nat → Int) (n : Nat) (σb τb : St) (p : Nat) (σ τ : St) : Prop := ∃ (M : ModV) (p' : Nat), p < p' ∧ modOK Ms k M ∧ modX σ 5 M ∧ modM τ (48 + k) M ∧ (τ.1 2079 (48 + k) = (mdC M : Int) ∧ mdL M ≤ 10) ∧ ((∀ j, j < mdL M → mdmn M j = σb.1 6 j) ∧ σb.1 5 29 = (mdL M : Int)) ∧ (TKf T n σ τ p' ∧ τ.1 2075 28 = 0 ∧ σ.1 2 9 = 0) ∧ (agr nMX σb σ ∧ agr (nMY k) τb τ ∧ τ.1 2081 = τb.1 2081) ∧ (BLs τb → BLs τ)
section
variable {k : Nat} {Ms : Nat → ModV} {c0 : Nat × Int} {σ0 τ0 : St} {T : Nat → Int} {n p : Nat} {σ τ σb τb : St} {q : Nat} {γ δ : Type}
theorem FT_166 : FTw c0 (fun _ : Unit => True) X15_readModule_166 := by
  rw [X15_readModule_166]
  exact FT_gF (fun v hv => FT_if (fun e => absurd e (by omega)) (fun _ => FT_rt trivial))
theorem FT_139 : ∀ f, 1 ≤ f → FTw c0 (fun _ : Unit => True) (X15_readModule_139 f) := by
  intro f hf
  obtain ⟨f', rfl⟩ : ∃ f', f = f' + 1 := ⟨f - 1, by omega⟩
  rw [X15_readModule_139]
  exact FT_gF (fun v hv => FT_if (c := v = 0) (fun e => absurd e (by omega)) (fun _ => FT_166))
/-- the end of a module -/
theorem mod_end (hck : c0.1 ≤ k) (h40 : ∀ m, mdT (Ms m) ≤ 40) {L : Nat} (hL : 1 ≤ L ∧ L ≤ 10 ∧ ∀ j, j < L → σb.1 6 j ≠ 0) (hL5 : σb.1 5 29 = (L : Int)) (h30 : σb.1 5 30 = 0) (hit : IT k (fun x => mdT (Ms x)) (fun x => mdkd (Ms x)) (fun x => mdwd (Ms x)) c0 σ0 τ0 T n σb τb p σ τ) (hk : TKp T n σ τ q) (hp : p ≤ q) (hK : tkK T n q = 125) : LK c0 σ0 τ0 (fun _ : Unit => True) X1_module_161 X15_readModule_166 σ τ (fun _ _ σ' τ' => MP k Ms T n σb τb p σ' τ') := by
  obtain ⟨t, kd, wd, pt, ws, bg, G, N, nC, nW, nS, H, hs, htw, hpsi, hbX, hbY⟩ := hit
  obtain ⟨hb, hx, hsr, -⟩ := id hs
  obtain ⟨hv, ⟨⟨x2, x2'⟩, -⟩, ⟨ct, x4, x5, x6⟩, ⟨-, x8, x9⟩, x10⟩ := id hx
  obtain ⟨⟨⟨c22, c27⟩, c46, c47⟩, ⟨r1, r2, ⟨s0, s13⟩, -⟩, -, -, r5⟩ := id hsr
  obtain ⟨v1, ⟨v2, v3⟩, -⟩ := id hv
  have hn4 := hb.1.1
  have hkl := hk.1
  have x5' : σ.1 5 14 = (ct : Int) := by rw [x5, show ct + 0 % 65536 = ct by omega]
  rw [X1_module_161, X15_readModule_166, F_X15_endModule]
  simp only [bd_as, bd_ite, lt_eq]
  refine LK_c ?_
  rw [wp_gI, x5']
  refine LK_t ?_
  rw [wp_gI, hb.2.2.1, if_pos rfl]
  refine LK_t ?_
  rw [wp_gI, x4]
  have bad : LK c0 σ0 τ0 (fun _ : Unit => True) X1_module_185 (bd X15_endModule_18 fun _ => bd F_X15_take fun _ => rt ()) σ τ (fun _ _ σ' τ' => MP k Ms T n σb τb p σ' τ') := by
    rw [X1_module_185, X15_endModule_18]
    simp only [bd_as, bd_rt']
    refine LK_c ?_
    rw [wp_gI, hk.k6]
    refine LK_t ?_
    rw [wp_gI, hk.t33]
    exact LK_flt (n' := 9) (by decide) hb rfl (FT_bd FT_take (fun _ _ => FT_rt trivial))
  by_cases c120 : 120 < ct
  · rw [if_pos (by omega), if_pos (by omega)]; exact bad
  · rw [if_neg (by omega), if_neg (by omega)]
    refine LK_c ?_
    rw [wp_gI, c22]
    refine LK_t ?_
    rw [wp_gI, c47]
    by_cases c60 : nC ≤ 60
    · rw [if_pos (by omega), if_pos (by omega)]
      have hF := FU_ge
      have hnS : nS ≤ 120 := by omega
      have hT40 := hv.2.2.1.1.2.2
      have hN := two_wS (fun i hi => (x10 i hi).2)
      have sk := sinks_LK (B := fun _ : Unit => True) (f' := bd F_X1_pass fun _ => lE (rt ())) (g' := bd F_X15_take fun _ => rt ()) (P := fun _ _ σ' τ' => MP k Ms T n σb τb p σ' τ') hs hnS h40 hk (FT_bd FT_take (fun _ _ => FT_rt trivial)) ?_ (t + 1) FU FU 0 (by omega) (by omega) (by omega) (by omega)
      · have e0 : skS σ (skP kd pt (fun x => mdT (Ms x)) (fun x => mdkd (Ms x)) 0) = σ := by
          unfold skS
          have e30 : σ.1 5 30 = 0 := by rw [(hbX 5 30 (by unfold nIX; omega)).1]; exact h30
          have : ups (σ.1 5) 30 ((skP kd pt (fun x => mdT (Ms x)) (fun x => mdkd (Ms x)) 0 : Nat) : Int) = σ.1 5 := by
            funext j
            by_cases e : j = 30
            · subst e; rw [ups_eq, e30]; rfl
            · rw [ups_ne e]
          rw [this, stA_self]
        rw [e0] at sk
        exact sk
      · have kS : TKp T n (skS σ (skP kd pt (fun x => mdT (Ms x)) (fun x => mdkd (Ms x)) t)) τ q := hk.cong (fun i _ _ => by rw [skS_a (by decide)]) rfl (fun _ _ _ => rfl) rfl
        have hl := tkL_r hk.1 (by rw [hK]; decide) hk.2.1
        refine LK_c (pass_l hb.sk kS (by rw [hK]; decide) (fun σ' e1 e2 e3 => LK_e ?_))
        rw [wp_bd]
        refine end171 hb.2.2.1 v3 v1 x2' (by omega) c46 (by omega) x4 c47 (fun i hi => ?_) (fun υ a1 a2 a3 a4 => ?_)
        · have q1 := (crT.lt (r5 i hi).1.1).2.2
          have q2 := s13 i hi
          omega
        · have u75 : ∀ i, υ.1 2075 i = τ.1 2075 i := fun i => (a1 2075 i ⟨by unfold nodF; omega, by unfold stmF; omega, by unfold cntF; omega⟩).1
          rw [F_X15_take, wp_bd, wp_bd, c_pZ (by decide) (by decide), wp_rt, wp_rt]
          have m1 := mk_ok (ct := ct) (L := L) hs htw hpsi x5' (by omega) c60 (by
            have e6 : σ.1 6 = σb.1 6 := hbX.row (fun i => by unfold nIX; omega)
            rw [e6]; exact hL)
          have m2 := mk_X (σ' := σ') (sk := skP kd pt (fun x => mdT (Ms x)) (fun x => mdkd (Ms x)) t) hs htw x5' (L := L) (by rw [(hbX 5 29 (by unfold nIX; omega)).1]; exact hL5) (fun a q1 q2 => by rw [e1.row (fun i => by unfold kX; omega), skS_a (by omega)]) (fun i hi => by rw [(e1 5 i (by unfold kX; omega)).1, skS_n hi]) (by rw [(e1 5 30 (by unfold kX; omega)).1, skS_30])
          have m3 := mk_M (sk := skP kd pt (fun x => mdT (Ms x)) (fun x => mdkd (Ms x)) t) (L := L) hs htw a1 a2 a3 a4
          have g75 : ∀ i, i ≠ 31 → ((stA υ.1 2075 (ups (υ.1 2075) 31 0), υ.2) : St).1 2075 i = τ.1 2075 i := fun i hi => by dsimp only; rw [stA_eq, ups_ne hi, u75 i]
          refine ⟨_, q + tkL T n q, by omega, m1, m2, m3.fr hT40 (by show N ≤ 240; omega) hnS (fun c hc => (m1.2.2.2.2.1 c hc).2.2) (agr.refl.u (by unfold stS; omega) _), ⟨?_, hL.2.1⟩, ⟨fun j hj => ?_, hL5⟩, ⟨⟨hl.2, e2, ?_, ?_⟩, ?_, ?_⟩, ⟨?_, ?_, ?_⟩, fun hB i => ?_⟩
          · simp (disch := decide) only [stA_ne]; exact a4.2.1
          · show σ.1 6 j = σb.1 6 j
            rw [hbX.row (fun i => by unfold nIX; omega)]
          · dsimp only; rw [stA_eq, ups_eq]
          · rw [g75 30 (by decide)]; exact hk.2.2.2.2.2.2.1
          · rw [g75 28 (by decide)]; exact hb.2.2.1
          · rw [(e1 2 9 (by unfold kX; omega)).1, skS_a (by decide)]; exact x8
          · refine (agr.sub hbX (fun a i h => by unfold nMX at h; unfold nIX; omega)).trans (agr.trans (τ := skS σ (skP kd pt (fun x => mdT (Ms x)) (fun x => mdkd (Ms x)) t)) (agr.refl.u (by unfold nMX; omega) _) (agr.sub e1 (fun a i h => by unfold nMX at h; unfold kX; omega)))
          · refine (agr.sub hbY (fun a i h => by unfold nMY at h; unfold nIY; omega)).trans ((agr.sub a1 (fun a i h => ?_)).trans (agr.refl.u (by unfold nMY; omega) _))
            unfold nMY at h
            exact ⟨by unfold nodF; omega, by unfold stmF; omega, by unfold cntF; omega⟩
          · simp (disch := decide) only [stA_ne]
            rw [a1.row (fun i => ⟨by unfold nodF; omega, by unfold stmF; omega, by unfold cntF; omega⟩), hbY.row (fun i => by unfold nIY; omega)]
          · simp (disch := decide) only [stA_ne]
            by_cases ci : 200 * (48 + k) ≤ i ∧ i < 200 * (48 + k) + nS
            · have := (a3 (i - 200 * (48 + k)) (by omega)).2.2.2.2.2
              rw [show 200 * (48 + k) + (i - 200 * (48 + k)) = i by omega] at this
              rw [this]
              exact (crT.lt (r5 (i - 200 * (48 + k)) (by omega)).1.1).2.2
            · rw [(a1 2099 i ⟨by unfold nodF; omega, by unfold stmF; omega, by unfold cntF; omega⟩).1, (hbY 2099 i (by unfold nIY; omega)).1]
              exact hB i
    · rw [if_neg (by omega), if_neg (by omega)]; exact bad
end
