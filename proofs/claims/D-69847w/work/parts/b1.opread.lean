set_option maxRecDepth 100000
set_option maxHeartbeats 400000
/-! ===== the call read ===== -/
def P_m0 (a k : Nat) : Prop := (a = 0 ∧ k = 1) ∨ a = 1 ∨ a = 3 ∨ (110 ≤ a ∧ a ≤ 409) ∨ (a = 2075 ∧ k = 3) ∨ (2077 ≤ a ∧ a ≤ 2080 ∧ 48 ≤ k) ∨ (a = 2081 ∧ 480 ≤ k) ∨ (2082 ≤ a ∧ a ≤ 2086 ∧ 1920 ≤ k) ∨ (a = 2087 ∧ 19200 ≤ k) ∨ (2088 ≤ a ∧ a ≤ 2093 ∧ 14400 ≤ k) ∨ (2094 ≤ a ∧ a ≤ 2100 ∧ 9600 ≤ k)
def P_mod (a k : Nat) : Prop := P_m0 a k ∨ a = 2099
def P_rd (a k : Nat) : Prop := P_m0 a k ∨ (a = 0 ∧ k = 3) ∨ (a = 2075 ∧ k = 29)
def I_m0 (σ : St) : Prop := ∃ (k : Nat) (Ms : Nat → ModV), k ≤ 12 ∧ RS k Ms σ σ ∧ (σ.1 0 1 = (k : Int) ∧ σ.1 2075 3 = (k : Int)) ∧ ∀ i, i < 12 → σ.2.2 3 i = some (1000100 + i)
def I_mod (σ : St) : Prop := I_m0 σ ∧ BLs σ
theorem pm_o {a i : Nat} (h : 110 ≤ a ∧ a ≤ 409) : P_m0 a i := Or.inr (Or.inr (Or.inr (Or.inl h)))
theorem pm_1 {i : Nat} : P_m0 1 i := Or.inr (Or.inl rfl)
theorem pm_3 {i : Nat} : P_m0 3 i := Or.inr (Or.inr (Or.inl rfl))
theorem pm_01 : P_m0 0 1 := Or.inl ⟨rfl, rfl⟩
theorem pm_75 : P_m0 2075 3 := Or.inr (Or.inr (Or.inr (Or.inr (Or.inl ⟨rfl, rfl⟩))))
theorem pm_st {m a i : Nat} (h : stS (48 + m) a i) : P_m0 a i := by
  unfold stS at h
  unfold P_m0
  rcases h with h | h | h | h | h <;> omega
theorem pm_81 {i : Nat} (h : 480 ≤ i) : P_m0 2081 i := by
  unfold P_m0; omega
theorem vis_nRX {k a i : Nat} (h1 : Vis a i) (h2 : ¬ P_rd a i) : nRX k a i := by
  unfold nRX
  rintro (⟨e, h⟩ | ⟨h, h'⟩ | ⟨h, h'⟩)
  · subst e
    refine h1 ?_
    omega
  · exact h1 (Or.inl ⟨h, h'⟩)
  · exact h2 (Or.inl (pm_o ⟨by omega, h'⟩))
theorem vis_nRY {k a i : Nat} (h1 : Vis a i) (h2 : ¬ P_rd a i) : nRY k a i := by
  unfold nRY
  have hp : ¬ P_m0 a i := fun h => h2 (Or.inl h)
  unfold P_m0 at hp
  rintro (⟨e, h⟩ | h | h | h | h | h | h | h)
  · subst e
    by_cases c3 : i = 3
    · subst c3; exact h2 (Or.inl pm_75)
    · by_cases c29 : i = 29
      · exact h2 (Or.inr (Or.inr ⟨rfl, c29⟩))
      · refine h1 ?_
        omega
  · exact hp (by omega)
  · exact hp (by omega)
  · exact hp (by omega)
  · exact hp (by omega)
  · exact hp (by omega)
  · exact hp (by omega)
  · refine h1 ?_
    omega
theorem I_m0.mono {σ τ : St} (h : I_m0 σ) (e : agr P_m0 σ τ) : I_m0 τ := by
  obtain ⟨k, Ms, h1, h2, ⟨h3, h4⟩, h5⟩ := h
  refine ⟨k, Ms, h1, h2.fr h1 (fun a q1 q2 => funext fun i => (e a i (pm_o ⟨q1, by omega⟩)).1) (funext fun i => (e 1 i pm_1).2.2) (fun m hm => agr.sub e (fun a i h => pm_st h)) (fun i hi _ => (e 2081 i (pm_81 hi)).1), ⟨?_, ?_⟩, fun i hi => ?_⟩
  · rw [(e 0 1 pm_01).1]; exact h3
  · rw [(e 2075 3 pm_75).1]; exact h4
  · rw [(e 3 i pm_3).2.2]; exact h5 i hi
theorem I_mod.mono {σ τ : St} (h : I_mod σ) (e : agr P_mod σ τ) : I_mod τ := ⟨h.1.mono (agr.sub e (fun a k q => Or.inl q)), fun i => by rw [(e 2099 i (Or.inr rfl)).1]; exact h.2 i⟩
section
variable {had : Nat} {Ms : Nat → ModV} {T : Nat → Int} {n : Nat} {σ τ : St}
theorem read_both (hRS : RS had Ms σ τ) (hk : had ≤ 12) (h3 : τ.1 2075 3 = (had : Int)) (hTc : TXc T n σ) (hTt : TXt T n τ) (hBL : BLs τ) : RLX (rdG had σ τ) (rdB' had σ τ) (F_X1_readAll (had : Int)) F_X15_read σ τ := by
  have hF := FU_ge
  have hn := hTc.1
  rw [F_X1_readAll, F_X15_read]
  refine RL_c ?_
  rw [wp_pI]
  refine RL_c ?_
  rw [c_pZ (by decide) (by decide)]
  refine RL_c ?_
  rw [wp_pI]
  refine RL_c ?_
  rw [wp_pI]
  refine RL_t ?_
  rw [wp_pI]
  refine RL_t ?_
  rw [wp_pI]
  refine RL_t ?_
  rw [wp_pI]
  refine RL_t ?_
  rw [wp_pI]
  refine RL_t ?_
  rw [c_pZ (by decide) (by decide)]
  refine RL_t ?_
  rw [wp_gI]
  refine RL_t ?_
  rw [wp_pI]
  simp (disch := decide) only [stA_eq, stA_stA, ups_ne, h3]
  generalize hS : ((stA σ.1 2 _, σ.2) : St) = σ1
  generalize hU : ((stA τ.1 2075 _, τ.2) : St) = τ1
  have sA : ∀ a, a ≠ 2 → σ1.1 a = σ.1 a := fun a ha => by subst hS; dsimp only; rw [stA_ne ha]
  have sr : σ1.2 = σ.2 := by subst hS; rfl
  have s2 : σ1.1 2 3 = 0 ∧ σ1.1 2 4 = 0 ∧ σ1.1 2 9 = 0 ∧ σ1.1 2 11 = (had : Int) ∧ σ1.1 2 2 = σ.1 2 2 := by
    subst hS
    refine ⟨?_, ?_, ?_, ?_, ?_⟩ <;> simp (disch := decide) only [stA_eq, ups_ne, ups_eq]
  have tA : ∀ a, a ≠ 2075 → τ1.1 a = τ.1 a := fun a ha => by subst hU; dsimp only; rw [stA_ne ha]
  have tr : τ1.2 = τ.2 := by subst hU; rfl
  have t2 : τ1.1 2075 28 = 0 ∧ τ1.1 2075 29 = -1 ∧ τ1.1 2075 30 = 0 ∧ τ1.1 2075 31 = 0 ∧ τ1.1 2075 37 = (had : Int) ∧ τ1.1 2075 2 = τ.1 2075 2 ∧ τ1.1 2075 3 = τ.1 2075 3 := by
    subst hU
    refine ⟨?_, ?_, ?_, ?_, ?_, ?_, ?_⟩ <;> simp (disch := decide) only [stA_eq, ups_ne, ups_eq]
  have aX : agr (nRX had) σ σ1 := fun a i h => by
    unfold nRX at h
    refine ⟨?_, by rw [sr], by rw [sr]⟩
    by_cases e : a = 2
    · subst e
      have : i = 2 := by omega
      subst this
      exact s2.2.2.2.2
    · rw [sA a e]
  have aY : agr (nRY had) τ τ1 := fun a i h => by
    unfold nRY at h
    refine ⟨?_, by rw [tr], by rw [tr]⟩
    by_cases e : a = 2075
    · subst e
      subst hU
      simp (disch := omega) only [stA_eq, ups_ne]
    · rw [tA a e]
  clear hS hU
  have hRS1 : RS had Ms σ1 τ1 := hRS.fr hk (fun a q1 q2 => sA a (by omega)) (by rw [sr]) (fun m hm a i h => by
    unfold stS at h
    exact ⟨by rw [tA a (by omega)], by rw [tr], by rw [tr]⟩) (fun i _ hi => by rw [tA 2081 (by decide)])
  refine rloop hTc.2.1 (n + 1) FU FU (by omega) (by omega) had Ms 0 σ1 τ1 (by omega) ⟨Nat.le_refl _, hk⟩ hRS1 (Or.inl ⟨Nat.zero_le _, ⟨s2.2.1, s2.1⟩, t2.2.2.2.1, t2.2.2.1⟩) ⟨⟨hTc.1, hTc.2.1, by rw [s2.2.2.2.2]; exact hTc.2.2.1, fun k hk => by rw [sA 4 (by decide)]; exact hTc.2.2.2.1 k hk, fun i hi => by rw [sr]; exact hTc.2.2.2.2 i hi⟩, hTt.1, hTt.2.1, by rw [t2.2.2.2.2.2.1]; exact hTt.2.2.1, fun k hk => by rw [tA 2076 (by decide)]; exact hTt.2.2.2 k hk⟩ ⟨s2.2.2.2.1, s2.2.2.1, t2.2.2.2.2.1, t2.1, t2.2.1, t2.2.2.2.2.2.2⟩ aX aY (fun i => by rw [tA 2099 (by decide)]; exact hBL i)
end
theorem op_read {c : Nat} (hc : c ≤ 64) {σ : St} (h : I_mod σ) (ht : I_txt c σ) (hby : BY σ) : both2 F_X0_read F_X15_read σ (fun τ => (I_mod τ ∧ I_pl τ) ∧ Out P_rd σ τ ∧ BY τ) := by
  obtain ⟨⟨k, Ms, hk, hRS, ⟨h1, h3⟩, hw⟩, hBL⟩ := h
  obtain ⟨n, hn, ⟨n1, n2⟩, n3⟩ := ht
  have hTc : TXc (fun j => σ.1 4 j) n σ := ⟨by omega, fun j hj => (n3 j hj).2, n1, fun j _ => rfl, hw⟩
  have hTt : ∀ τ : St, (τ.1 2075 2 = σ.1 2075 2) → τ.1 2076 = σ.1 2076 → TXt (fun j => σ.1 4 j) n τ := fun τ e1 e2 => ⟨by omega, fun j hj => (n3 j hj).2, by rw [e1]; exact n2, fun j hj => by rw [e2]; exact (n3 j hj).1.symm⟩
  have run : ∀ τ : St, agr (fun a _ => 2075 ≤ a) σ τ → RLX (rdG k σ τ) (rdB' k σ τ) (F_X1_readAll (k : Int)) F_X15_read σ τ := fun τ e => read_both (hRS.fr hk (fun _ _ _ => rfl) rfl (fun m hm => agr.sub e (fun a i h => by unfold stS at h; omega)) (fun i _ hi => (e 2081 i (by omega)).1)) hk (by rw [(e 2075 3 (by omega)).1]; exact h3) hTc (hTt τ (e 2075 2 (by omega)).1 (e.row (fun i => by omega))) (fun i => by rw [(e 2099 i (by omega)).1]; exact hBL i)
  obtain ⟨r, σ1, e, hr⟩ := run σ agr.refl
  have run2 : ∀ τ : St, agr (fun a _ => 2075 ≤ a) σ τ → Sum.elim (fun _ => wp F_X15_read τ (fun q τ' => rdG k σ τ q σ1 τ')) (fun x => wp F_X15_read τ (fun q τ' => rdB' k σ τ x q σ1 τ')) r := fun τ e1 => by
    obtain ⟨r', σ1', e', hr'⟩ := run τ e1
    rw [e] at e'
    obtain ⟨rfl, rfl⟩ := Prod.mk.inj (Option.some.inj e')
    exact hr'
  unfold both2
  rw [F_X0_read, wp_bd, wp_gI, h1, wp_tryE]
  -- what both ends need
  have fin : ∀ σ2 τ : St, (∀ a, a ≠ 0 → σ2.1 a = σ1.1 a) → (∀ i, i ≠ 1 → i ≠ 3 → σ2.1 0 i = σ1.1 0 i) → σ2.2 = σ1.2 → agr (nRX k) σ σ1 → agr (nRY k) σ2 τ → (Out P_rd σ τ ∧ (∀ a, a ≠ 0 → a < 2075 → τ.1 a = σ1.1 a ∧ τ.2.2 a = σ1.2.2 a) ∧ ∀ i, τ.1 0 i = σ2.1 0 i) := by
    intro σ2 τ q1 q2 q3 aX aY
    refine ⟨fun a i hv => ?_, fun a ha ha' => ⟨?_, ?_⟩, fun i => (aY 0 i (by unfold nRY; omega)).1⟩
    · obtain ⟨hv1, hv2⟩ := hv
      obtain ⟨x1, x2, x3⟩ := aX a i (vis_nRX hv1 hv2)
      obtain ⟨y1, y2, y3⟩ := aY a i (vis_nRY hv1 hv2)
      rw [q3] at y2 y3
      refine ⟨?_, y2.trans x2, y3.trans x3⟩
      rw [y1]
      by_cases e0 : a = 0
      · subst e0
        rw [q2 i (fun e => hv2 (by subst e; exact Or.inl pm_01)) (fun e => hv2 (by subst e; exact Or.inr (Or.inl ⟨rfl, rfl⟩)))]
        exact x1
      · rw [q1 a e0]; exact x1
    · rw [aY.row (fun i => by unfold nRY; omega), q1 a ha]
    · funext i
      rw [(aY a i (by unfold nRY; omega)).2.2, q3]
  have stx : ∀ σ2 : St, (∀ a, a ≠ 0 → σ2.1 a = σ1.1 a) → σ2.2 = σ1.2 → agr (nRX k) σ σ1 → agr (fun a _ => 2075 ≤ a) σ σ2 := by
    intro σ2 q1 q3 aX a i ha
    have ha' : 2075 ≤ a := ha
    obtain ⟨x1, x2, x3⟩ := aX a i (by unfold nRX; omega)
    exact ⟨by rw [q1 a (by omega)]; exact x1, by rw [q3]; exact x2, by rw [q3]; exact x3⟩
  cases r with
  | inl u =>
    obtain ⟨q0, τ0, e0, k', Ms', hk', hRS', ⟨g11, -⟩, ⟨aX, -⟩, -⟩ := hr
    refine ⟨.inl u, σ1, e, ?_⟩
    show wp (bd (pI 0 3 ((-1))) fun _ => bd (gI 2 11) fun v2 => bd (pI 0 1 v2) fun _ => bd (gI 0 1) fun v3 => rt v3) σ1 _
    rw [wp_bd, wp_pI, wp_bd, wp_gI, wp_bd, wp_pI, wp_bd, wp_gI, wp_rt]
    simp (disch := decide) only [stA_ne, stA_eq, stA_stA, g11, ups_eq]
    generalize hS : ((stA σ1.1 0 _, σ1.2) : St) = σ2
    have q1 : ∀ a, a ≠ 0 → σ2.1 a = σ1.1 a := fun a ha => by subst hS; dsimp only; rw [stA_ne ha]
    have q2 : ∀ i, i ≠ 1 → i ≠ 3 → σ2.1 0 i = σ1.1 0 i := fun i h1 h3 => by subst hS; dsimp only; rw [stA_eq, ups_ne h1, ups_ne h3]
    have q3 : σ2.2 = σ1.2 := by subst hS; rfl
    have q4 : σ2.1 0 1 = (k' : Int) ∧ σ2.1 0 3 = -1 := by
      subst hS
      constructor <;> simp (disch := decide) only [stA_eq, ups_ne, ups_eq]
    clear hS
    have hby2 : BY σ2 := fun i => by rw [((stx σ2 q1 q3 aX) 2087 i (show 2075 ≤ 2087 by decide)).1]; exact hby i
    refine wp_mono (wp_BY (run2 σ2 (stx σ2 q1 q3 aX)) bp_F_X15_read hby2) (fun q τ h => ?_)
    obtain ⟨h, hBY⟩ := h
    obtain ⟨k2, Ms2, hk2, hRS2, ⟨w11, wq, w3, w29⟩, ⟨-, aY⟩, hB⟩ := h
    have ek : k2 = k' := by omega
    subst ek
    obtain ⟨f1, f2, f3⟩ := fin σ2 τ q1 q2 q3 aX aY
    refine ⟨wq.symm, ⟨⟨⟨k2, Ms2, hk2, hRS2.fr hk2 (fun a z1 z2 => (f2 a (by omega) (by omega)).1) (f2 1 (by decide) (by decide)).2 (fun _ _ => agr.refl) (fun _ _ _ => rfl), ⟨by rw [f3]; exact q4.1, w3⟩, fun i hi => ?_⟩, hB⟩, ?_⟩, f1, hBY⟩
    · rw [(f2 3 (by decide) (by decide)).2, (aX 3 i (by unfold nRX; omega)).2.2]; exact hw i hi
    · show τ.1 0 3 = τ.1 2075 29
      rw [f3, q4.2, w29]
  | inr x =>
    obtain ⟨q0, τ0, e0, f, p, ⟨hf, hf'⟩, hx, -, ⟨aX, -⟩, -⟩ := hr
    subst hx
    refine ⟨.inr (0, (f : Int), (p : Int)), σ1, e, rfl, ?_⟩
    show wp (catF (0, (f : Int), (p : Int))) σ1 _
    rw [catF, wp_bd, wp_pI, wp_rt]
    dsimp only
    rw [w32_i (by omega) (by omega)]
    generalize hS : ((stA σ1.1 0 _, σ1.2) : St) = σ2
    have q1 : ∀ a, a ≠ 0 → σ2.1 a = σ1.1 a := fun a ha => by subst hS; dsimp only; rw [stA_ne ha]
    have q2 : ∀ i, i ≠ 3 → σ2.1 0 i = σ1.1 0 i := fun i h3 => by subst hS; dsimp only; rw [stA_eq, ups_ne h3]
    have q3 : σ2.2 = σ1.2 := by subst hS; rfl
    have q4 : σ2.1 0 3 = (p : Int) := by
      subst hS
      simp (disch := decide) only [stA_eq, ups_ne, ups_eq]
    clear hS
    have hby2 : BY σ2 := fun i => by rw [((stx σ2 q1 q3 aX) 2087 i (show 2075 ≤ 2087 by decide)).1]; exact hby i
    refine wp_mono (wp_BY (run2 σ2 (stx σ2 q1 q3 aX)) bp_F_X15_read hby2) (fun q τ h => ?_)
    obtain ⟨h, hBY⟩ := h
    obtain ⟨f', p', -, hx', ⟨wq, w3, w29⟩, ⟨-, aY⟩, hB⟩ := h
    obtain ⟨-, hx2⟩ := Prod.mk.inj hx'
    obtain ⟨ef, ep⟩ := Prod.mk.inj hx2
    obtain ⟨f1, f2, f3⟩ := fin σ2 τ q1 (fun i _ h => q2 i h) q3 aX aY
    have s2 := stx σ2 q1 q3 aX
    refine ⟨by rw [wq, ← ef], ⟨⟨⟨k, Ms, hk, ?_, ⟨?_, ?_⟩, fun i hi => ?_⟩, hB⟩, ?_⟩, f1, hBY⟩
    · refine hRS.fr hk (fun a z1 z2 => ?_) ?_ (fun m hm => ?_) (fun i _ hi => ?_)
      · rw [(f2 a (by omega) (by omega)).1]
        exact aX.row (fun i => by unfold nRX; omega)
      · rw [(f2 1 (by decide) (by decide)).2]
        exact funext fun i => (aX 1 i (by unfold nRX; omega)).2.2
      · exact (agr.sub s2 (fun a i h => by unfold stS at h; omega)).trans (agr.sub aY (fun a i h => by unfold stS at h; unfold nRY; omega))
      · rw [(aY 2081 i (by unfold nRY; omega)).1, (s2 2081 i (by omega)).1]
    · rw [f3, q2 1 (by decide), (aX 0 1 (by unfold nRX; omega)).1]; exact h1
    · rw [w3, (s2 2075 3 (by omega)).1]; exact h3
    · rw [(f2 3 (by decide) (by decide)).2, (aX 3 i (by unfold nRX; omega)).2.2]; exact hw i hi
    · show τ.1 0 3 = τ.1 2075 29
      rw [f3, q4, w29, ep]
