set_option maxRecDepth 100000
set_option maxHeartbeats 400000
/-! ===== read: new things, each side alone ===== -/
section
variable {α : Type} {σ τ : St} {Q : α → St → Prop}
theorem bgI {a k : Nat} {v : Int} {g : Int → St → Option (α × St)} (h : σ.1 a k = v) : wp (bd (gI a k) g) σ Q = wp (g v) σ Q := by rw [wp_bd, wp_gI, h]
theorem bth {k i : Nat} {g : Int → St → Option (α × St)} (h : τ.1 2075 37 = (k : Int)) (hk : k < 12) (hi : i < 100) : wp (bd (F_X15_thing (i : Int)) g) τ Q = wp (g ((40 * (48 + k) + i : Nat) : Int)) τ Q := by rw [wp_bd, thing15 h hk hi]
end
section
variable {k t : Nat} {T : Nat → Int} {n : Nat} {σ τ : St} {q L K w : Nat}
theorem addT (h7 : σ.1 5 7 = (t : Int)) (ht : t < 40) (hl : q + L ≤ 4000) (h10 : L ≤ 10) {Q : Int → St → Prop} (go : ∀ σ', σ'.2 = σ.2 → (∀ x, (x < 5 ∨ 12 < x ∨ x = 6) → σ'.1 x = σ.1 x) → σ'.1 5 = ups (σ.1 5) 7 ((t + 1 : Nat) : Int) → σ'.1 7 = cpy (σ.1 4) q (σ.1 7) (10 * t) L → (σ'.1 8 = ups (σ.1 8) t (L : Int) ∧ σ'.1 9 = ups (σ.1 9) t (K : Int) ∧ σ'.1 10 = ups (σ.1 10) t (w : Int) ∧ σ'.1 11 = ups (σ.1 11) t 1 ∧ σ'.1 12 = ups (σ.1 12) t 0) → Q (t : Int) σ') : wp (F_X2_addThing 5 4 (q : Int) (L : Int) (K : Int) (w : Int)) σ Q := by
  rw [F_X2_addThing, bgI h7, wp_bd, show (5 + 2 : Nat) = 7 from rfl, c_cpI (a := 4) (b := 7) (show lay 4 = (2, 4000) from by decide +kernel) (show lay 7 = (2, 400) from by decide +kernel) (by decide) (by omega) (by rw [w32_i (by omega) (by omega)]; omega) (by omega) (by omega) (by rw [w32_i (by omega) (by omega)]; omega), w32_i (x := 10 * (t : Int)) (by omega) (by omega), tn, tn, show (10 * (t : Int)).toNat = 10 * t by omega]
  rw [bgI (v := (t : Int)) (by simp (disch := decide) only [stA_ne, h7]), wp_bd, show (5 + 3 : Nat) = 8 from rfl, RV_8 (by omega) (by omega), tn]
  rw [bgI (v := (t : Int)) (by simp (disch := decide) only [stA_ne, h7]), wp_bd, show (5 + 4 : Nat) = 9 from rfl, RV_9 (by omega) (by omega), tn]
  rw [bgI (v := (t : Int)) (by simp (disch := decide) only [stA_ne, h7]), wp_bd, show (5 + 5 : Nat) = 10 from rfl, RV_10 (by omega) (by omega), tn]
  rw [bgI (v := (t : Int)) (by simp (disch := decide) only [stA_ne, h7]), wp_bd, show (5 + 6 : Nat) = 11 from rfl, RV_11 (by omega) (by omega), tn]
  rw [bgI (v := (t : Int)) (by simp (disch := decide) only [stA_ne, h7]), wp_bd, show (5 + 7 : Nat) = 12 from rfl, RV_12 (by omega) (by omega), tn]
  rw [bgI (v := (t : Int)) (by simp (disch := decide) only [stA_ne, h7]), wp_bd, wp_pI, wp_rt, w32_i (by omega) (by omega), show (t : Int) + 1 = ((t + 1 : Nat) : Int) by omega]
  refine go _ rfl (fun x hx => ?_) ?_ ?_ ⟨?_, ?_, ?_, ?_, ?_⟩
  · dsimp only
    rw [stA_ne (by omega), stA_ne (by omega), stA_ne (by omega), stA_ne (by omega), stA_ne (by omega), stA_ne (by omega), stA_ne (by omega)]
  · simp (disch := decide) only [stA_ne, stA_eq]
  · simp (disch := decide) only [stA_ne, stA_eq]
  · simp (disch := decide) only [stA_ne, stA_eq]
  · simp (disch := decide) only [stA_ne, stA_eq]
  · simp (disch := decide) only [stA_ne, stA_eq]
  · simp (disch := decide) only [stA_ne, stA_eq]
  · simp (disch := decide) only [stA_ne, stA_eq]
/-- the twin's record of a thing under way -/
def TR (T : Nat → Int) (q L k t K w s b : Nat) (τ' : St) : Prop := τ'.1 2077 (48 + k) = ((t + 1 : Nat) : Int) ∧ τ'.1 2082 (40 * (48 + k) + t) = (K : Int) ∧ τ'.1 2083 (40 * (48 + k) + t) = (w : Int) ∧ τ'.1 2084 (40 * (48 + k) + t) = (s : Int) ∧ (τ'.2.1 2085 (40 * (48 + k) + t)).toInt = (b : Int) ∧ ∀ j, j < 10 → τ'.1 2087 (10 * (40 * (48 + k) + t) + j) = if j < L then T (q + j) else 0
theorem newT66 (h28 : τ.1 2075 28 = 0) (h37 : τ.1 2075 37 = (k : Int)) (hk : k < 12) (h77 : τ.1 2077 (48 + k) = (t : Int)) (ht : t < 40) (hT : TXt T n τ) (hl : q + L ≤ n) (h33 : τ.1 2075 33 = (q : Int)) (h34 : τ.1 2075 34 = (L : Int)) {Q : Int → St → Prop} (go : ∀ τ', agr (nTh k t) τ τ' → TR T q L k t K 0 1 0 τ' → (τ'.1 2075 31 = 0 ∧ τ'.1 2075 30 = τ.1 2075 30) → Q (t : Int) τ') : wp (X15_newThing_66 (K : Int)) τ Q := by
  rw [X15_newThing_66, bgI h28, wp_ifp (by decide), bgI h37, wp_bd, w32_i (x := 48 + (k : Int)) (by omega) (by omega), RI_2077 (by omega) (by omega), show (48 + (k : Int)).toNat = 48 + k by omega, h77, wp_lt, bth h37 hk (by omega), wp_bd, w32_i (by omega) (by omega), show 10 * ((40 * (48 + k) + t : Nat) : Int) = ((10 * (40 * (48 + k) + t) : Nat) : Int) by omega]
  refine keep15 (m := 24000) (by decide) (fun h1 h2 h3 h4 => RV_2087 h1 h2 h3 h4) (by omega) (by decide) hT hl h33 h34 (fun τ1 z1 z2 z3 z4 => ?_)
  have g37 : τ1.1 2075 37 = (k : Int) := by rw [z1 2075 (by decide)]; exact h37
  have g77 : τ1.1 2077 (48 + k) = (t : Int) := by rw [z1 2077 (by decide)]; exact h77
  rw [bth g37 hk (by omega), wp_bd, RV_2082 (by omega) (by omega), tn]
  rw [bth (k := k) (by simp (disch := decide) only [stA_ne, g37]) hk (by omega), wp_bd, RV_2084 (by omega) (by omega), tn]
  rw [bth (k := k) (by simp (disch := decide) only [stA_ne, g37]) hk (by omega), wp_bd, RV_2085 (by omega) (by omega), tn]
  rw [bth (k := k) (by simp (disch := decide) only [stA_ne, g37]) hk (by omega), wp_bd, RV_2083 (by omega) (by omega), tn]
  rw [bgI (v := (k : Int)) (by simp (disch := decide) only [stA_ne, g37]), wp_bd, w32_i (x := 48 + (k : Int)) (by omega) (by omega), RI_2077 (by omega) (by omega), show (48 + (k : Int)).toNat = 48 + k by omega, wp_bd, RV_2077 (by omega) (by omega), show (48 + (k : Int)).toNat = 48 + k by omega, wp_bd, F_X15_take, wp_bd, c_pZ (by decide) (by decide), wp_rt, wp_rt]
  have aa : agr (nTh k t) τ τ1 := fun a i h => by
    refine ⟨?_, by rw [z2], by rw [z2]⟩
    unfold nTh at h
    by_cases c87 : a = 2087
    · subst c87; exact z4 i (by omega)
    · rw [z1 a c87]
  simp (disch := decide) only [stA_ne]
  refine go _ (aa.trans ((((((agr.refl.w (a := 2082) (fun i h => ?_)).w (a := 2084) (fun i h => ?_)).v (a := 2085) (fun i h => ?_)).w (a := 2083) (fun i h => ?_)).w (a := 2077) (fun i h => ?_)).w (a := 2075) (fun i h => ?_))) ⟨?_, ?_, ?_, ?_, ?_, fun j hj => ?_⟩ ⟨?_, ?_⟩
  · unfold nTh at h; rw [ups_ne (by omega)]
  · unfold nTh at h; rw [ups_ne (by omega)]
  · unfold nTh at h; rw [ups_ne (by omega)]
  · unfold nTh at h; rw [ups_ne (by omega)]
  · unfold nTh at h; rw [ups_ne (by omega)]
  · unfold nTh at h; rw [ups_ne (by omega)]
  · simp (disch := decide) only [stA_ne, stA_eq, ups_eq, g77]
    exact w32_i (by omega) (by omega)
  · simp (disch := decide) only [stA_ne, stA_eq, ups_eq]
  · simp (disch := decide) only [stA_ne, stA_eq, ups_eq]; rfl
  · simp (disch := decide) only [stA_ne, stA_eq, ups_eq]; rfl
  · simp (disch := decide) only [stA_ne, stA_eq, ups_eq]; rfl
  · simp (disch := decide) only [stA_ne]
    exact z3 j hj
  · simp (disch := decide) only [stA_ne, stA_eq, ups_eq]
  · simp (disch := decide) only [stA_ne, stA_eq, ups_ne]
    rw [z1 2075 (by decide)]
/-- while a thing is told: what both sides have -/
def PT (T : Nat → Int) (q L k t K w s b : Nat) (σs τs σ τ : St) : Prop := agr kX σs σ ∧ agr (nTh k t) τs τ ∧ TR T q L k t K w s b τ
theorem PT.st {s b : Nat} {σs τs : St} : StT (PT T q L k t K w s b σs τs) := by
  intro σ τ σ' τ' e e' ⟨h1, h2, m1, m2, m3, m4, m5, m6⟩
  refine ⟨h1.trans e, h2.trans (agr.sub e' (fun a i h => by unfold nTh at h; unfold kY; omega)), ?_, ?_, ?_, ?_, ?_, fun j hj => ?_⟩
  · rw [(e' 2077 _ (by unfold kY; omega)).1]; exact m1
  · rw [(e' 2082 _ (by unfold kY; omega)).1]; exact m2
  · rw [(e' 2083 _ (by unfold kY; omega)).1]; exact m3
  · rw [(e' 2084 _ (by unfold kY; omega)).1]; exact m4
  · rw [(e' 2085 _ (by unfold kY; omega)).2.1]; exact m5
  · rw [(e' 2087 _ (by unfold kY; omega)).1]; exact m6 j hj
theorem PT.upw {s b w' : Nat} {σs τs : St} (h : PT T q L k t K w s b σs τs σ τ) : PT T q L k t K w' s b σs τs σ (stA τ.1 2083 (ups (τ.1 2083) (40 * (48 + k) + t) (w' : Int)), τ.2) := by
  obtain ⟨h1, h2, m1, m2, m3, m4, m5, m6⟩ := h
  refine ⟨h1, h2.trans (agr.refl.u (by unfold nTh; omega) _), ?_, ?_, ?_, ?_, m5, fun j hj => ?_⟩
  · simp (disch := decide) only [stA_ne]; exact m1
  · simp (disch := decide) only [stA_ne]; exact m2
  · simp (disch := decide) only [stA_eq, ups_eq]
  · simp (disch := decide) only [stA_ne]; exact m4
  · simp (disch := decide) only [stA_ne]; exact m6 j hj
theorem PT.upz {s s' b : Nat} {σs τs : St} (h : PT T q L k t K w s b σs τs σ τ) : PT T q L k t K w s' b σs τs σ (stA τ.1 2084 (ups (τ.1 2084) (40 * (48 + k) + t) (s' : Int)), τ.2) := by
  obtain ⟨h1, h2, m1, m2, m3, m4, m5, m6⟩ := h
  refine ⟨h1, h2.trans (agr.refl.u (by unfold nTh; omega) _), ?_, ?_, ?_, ?_, m5, fun j hj => ?_⟩
  · simp (disch := decide) only [stA_ne]; exact m1
  · simp (disch := decide) only [stA_ne]; exact m2
  · simp (disch := decide) only [stA_ne]; exact m3
  · simp (disch := decide) only [stA_eq, ups_eq]
  · simp (disch := decide) only [stA_ne]; exact m6 j hj
theorem PT.upb {s b b' : Nat} {v : Int64} (hv : v.toInt = (b' : Int)) {σs τs : St} (h : PT T q L k t K w s b σs τs σ τ) : PT T q L k t K w s b' σs τs σ (τ.1, stA τ.2.1 2085 (ups (τ.2.1 2085) (40 * (48 + k) + t) v), τ.2.2) := by
  obtain ⟨h1, h2, m1, m2, m3, m4, m5, m6⟩ := h
  refine ⟨h1, h2.trans (agr.refl.v (a := 2085) (fun i h => by unfold nTh at h; rw [ups_ne (by omega)])), m1, m2, m3, m4, ?_, m6⟩
  simp (disch := decide) only [stA_eq, ups_eq]; exact hv
end
