set_option maxRecDepth 100000
set_option maxHeartbeats 800000
/-! ===== read: all modules ===== -/
def nRX (had a i : Nat) : Prop := ¬ ((a = 2 ∧ i ≠ 2) ∨ (5 ≤ a ∧ a ≤ 31) ∨ (110 + 25 * had ≤ a ∧ a ≤ 409))
def nRY (had a i : Nat) : Prop := ¬ ((a = 2075 ∧ (i = 0 ∨ i = 3 ∨ (28 ≤ i ∧ i ≤ 39) ∨ i = 46 ∨ i = 47 ∨ (55 ≤ i ∧ i ≤ 57))) ∨ (2077 ≤ a ∧ a ≤ 2080 ∧ 48 + had ≤ i) ∨ (a = 2081 ∧ 10 * (48 + had) ≤ i) ∨ (2082 ≤ a ∧ a ≤ 2086 ∧ 40 * (48 + had) ≤ i) ∨ (a = 2087 ∧ 400 * (48 + had) ≤ i) ∨ (2088 ≤ a ∧ a ≤ 2093 ∧ 300 * (48 + had) ≤ i) ∨ (2094 ≤ a ∧ a ≤ 2100 ∧ 200 * (48 + had) ≤ i) ∨ (2101 ≤ a ∧ a ≤ 2113))
/-- what a read that goes well leaves -/
def rdG (had : Nat) (σa τa : St) (q : Int) (σ τ : St) : Prop := ∃ (k : Nat) (Ms : Nat → ModV), k ≤ 12 ∧ RS k Ms σ τ ∧ (σ.1 2 11 = (k : Int) ∧ q = (k : Int) ∧ τ.1 2075 3 = (k : Int) ∧ τ.1 2075 29 = -1) ∧ (agr (nRX had) σa σ ∧ agr (nRY had) τa τ) ∧ BLs τ
def rdB' (had : Nat) (σa τa : St) (x : XV) (q : Int) (σ τ : St) : Prop := ∃ f p : Nat, (1 ≤ f ∧ f ≤ 9) ∧ x = (0, (f : Int), (p : Int)) ∧ (q = -10 - (f : Int) ∧ τ.1 2075 3 = τa.1 2075 3 ∧ τ.1 2075 29 = (p : Int)) ∧ (agr (nRX had) σa σ ∧ agr (nRY had) τa τ) ∧ BLs τ
def RLX {α β : Type} (GO : β → St → St → Prop) (BA : XV → β → St → St → Prop) (f : St → Option ((α ⊕ XV) × St)) (g : St → Option (β × St)) (σ τ : St) : Prop := wpE f σ (fun _ σ' => wp g τ (fun q τ' => GO q σ' τ')) (fun x σ' => wp g τ (fun q τ' => BA x q σ' τ'))
section
variable {c0 : Nat × Int} {σ0 τ0 σ τ : St} {α β γ δ : Type} {GO : δ → St → St → Prop} {BA : XV → δ → St → St → Prop}
theorem RL_bd {B : β → Prop} {f : St → Option ((α ⊕ XV) × St)} {g : St → Option (β × St)} {f' : α → St → Option ((γ ⊕ XV) × St)} {g' : β → St → Option (δ × St)} (h : LK c0 σ0 τ0 B f g σ τ (fun r q σ' τ' => RLX GO BA (f' r) (g' q) σ' τ')) (hf : ∀ x σ' q τ', flt c0 σ0 τ0 B x σ' q τ' → wp (g' q) τ' (fun r τ'' => BA x r σ' τ'')) : RLX GO BA (bdE f f') (bd g g') σ τ := by
  unfold RLX
  rw [wpE_bdE]
  refine wpE_mono h (fun r σ' w => ?_) (fun x σ' w => ?_)
  · obtain ⟨q, τ', e, k⟩ := w
    exact wpE_mono k (fun r2 σ2 z => by rw [wp_bd, wp_some e]; exact z) (fun x σ2 z => by rw [wp_bd, wp_some e]; exact z)
  · obtain ⟨q, τ', e, w2⟩ := w
    rw [wp_bd, wp_some e]
    exact hf _ _ _ _ w2
theorem RL_c {m : St → Option (α × St)} {f' : α → St → Option ((γ ⊕ XV) × St)} {g : St → Option (δ × St)} (h : wp m σ (fun r σ' => RLX GO BA (f' r) g σ' τ)) : RLX GO BA (bd m f') g σ τ := by
  unfold RLX
  rw [wpE_bd]; exact h
theorem RL_t {m : St → Option (β × St)} {f : St → Option ((γ ⊕ XV) × St)} {g' : β → St → Option (δ × St)} (h : wp m τ (fun q τ' => RLX GO BA f (g' q) σ τ')) : RLX GO BA f (bd m g') σ τ := by
  obtain ⟨q, τ', e, k⟩ := h
  exact wpE_mono k (fun r2 σ2 z => by rw [wp_bd, wp_some e]; exact z) (fun x σ2 z => by rw [wp_bd, wp_some e]; exact z)
end
section
variable {Ms Ms' : Nat → ModV} {m k : Nat} {M : ModV} {σ τ υ : St} {o : Nat}
theorem skP_cg {kd pt Mt Mt' : Nat → Nat} {Mk Mk' : Nat → Nat → Nat} : ∀ t, (∀ i, i < t → kd i = 5 → Mt' (pt i) = Mt (pt i) ∧ Mk' (pt i) = Mk (pt i)) → skP kd pt Mt' Mk' t = skP kd pt Mt Mk t
  | 0, _ => rfl
  | t + 1, h => by
    show skP kd pt Mt' Mk' t + ((if kd t = 1 ∨ kd t = 2 then 1 else 0) + if kd t = 5 then inP (Mk' (pt t)) (Mt' (pt t)) else 0) = skP kd pt Mt Mk t + ((if kd t = 1 ∨ kd t = 2 then 1 else 0) + if kd t = 5 then inP (Mk (pt t)) (Mt (pt t)) else 0)
    rw [skP_cg t (fun i hi => h i (by omega))]
    by_cases c : kd t = 5
    · obtain ⟨e1, e2⟩ := h t (by omega) c
      rw [if_pos c, if_pos c, e1, e2]
    · rw [if_neg c, if_neg c]
/-- only the modules ahead matter -/
theorem modOK.cg (h : modOK Ms m M) (e : ∀ x, x < m → Ms' x = Ms x) : modOK Ms' m M := by
  obtain ⟨h1, h2, h3, ⟨h4, h4'⟩, h5, h6, h7⟩ := h
  have ep : ∀ i, i < mdT M → mdkd M i = 5 → Ms' (mdpt M i) = Ms (mdpt M i) := fun i hi h => e _ ((h3 i hi).1.2.2.2.2.2 h)
  refine ⟨h1, h2, h3, ⟨h4, fun i hi => (h4' i hi).imp (fun i b w z => ?_) (fun _ _ z => z)⟩, fun c hc => ⟨?_, (h5 c hc).2⟩, h6, ?_⟩
  · obtain ⟨z1, z2⟩ := z
    refine ⟨z1, z2.imp id (fun ⟨p, w1, w2, w3, w4, w5⟩ => ?_)⟩
    have := ep i z1 w2
    refine ⟨p, w1, w2, ?_, ?_, ?_⟩
    · show p < mdT (Ms' (mdpt M i)); rw [this]; exact w3
    · show mdkd (Ms' (mdpt M i)) p = 1; rw [this]; exact w4
    · show w = mdwd (Ms' (mdpt M i)) p; rw [this]; exact w5
  · obtain ⟨i, z1, z2, z3, z4⟩ := (h5 c hc).1
    refine ⟨i, z1, z2, z3, z4.imp id (Or.imp id (fun ⟨p, w1, w2, w3, w4, w5, w6⟩ => ?_))⟩
    have := ep i z2 w3
    refine ⟨p, w1, w2, w3, ?_, ?_, ?_⟩
    · show p < mdT (Ms' (mdpt M i)); rw [this]; exact w4
    · show mdkd (Ms' (mdpt M i)) p = 0; rw [this]; exact w5
    · show gW (mdG M) (mdVl M c) = mdwd (Ms' (mdpt M i)) p; rw [this]; exact w6
  · rw [h7]
    exact (skP_cg _ (fun i hi h5 => by rw [ep i hi h5]; exact ⟨rfl, rfl⟩)).symm
/-- a copy holds the same -/
theorem modX.copy (h : modX σ 5 M) (hok : modOK Ms m M) (hc : CP σ o 25 υ) : modX υ o M := by
  obtain ⟨⟨⟨a1, a2, a3, a4, a5, a6, a7⟩, a8⟩, b, c, d⟩ := h
  obtain ⟨-, ⟨c7, c13, c14, c22, c27, c30, c29⟩, r⟩ := hc
  obtain ⟨-, -, h3, -⟩ := hok
  have r1 : ∀ j, j < mdL M → υ.1 (o + 1) j = σ.1 (5 + 1) j := fun j hj => r 1 (by decide) (by decide) j (by show (j : Int) < σ.1 5 29; omega)
  have r2 : ∀ j, j < 10 * mdT M → υ.1 (o + 2) j = σ.1 (5 + 2) j := fun j hj => r 2 (by decide) (by decide) j (by show (j : Int) < 10 * σ.1 5 7; omega)
  have rt : ∀ x, 3 ≤ x → x ≤ 8 → ∀ j, j < mdT M → υ.1 (o + x) j = σ.1 (5 + x) j := fun x q1 q2 j hj => r x (by omega) (by omega) j (by unfold cnR; rw [if_neg (by omega), if_neg (by omega), if_pos q2]; omega)
  have rn : ∀ x, 9 ≤ x → x ≤ 13 → ∀ j, j < mdN M → υ.1 (o + x) j = σ.1 (5 + x) j := fun x q1 q2 j hj => r x (by omega) (by omega) j (by unfold cnR; rw [if_neg (by omega), if_neg (by omega), if_neg (by omega), if_pos q2]; omega)
  have rc : ∀ x, 14 ≤ x → x ≤ 20 → ∀ j, j < mdC M → υ.1 (o + x) j = σ.1 (5 + x) j := fun x q1 q2 j hj => r x (by omega) (by omega) j (by unfold cnR; rw [if_neg (by omega), if_neg (by omega), if_neg (by omega), if_neg (by omega), if_pos q2]; omega)
  have rw' : ∀ x, 21 ≤ x → x ≤ 24 → ∀ j, j < mdW M → υ.1 (o + x) j = σ.1 (5 + x) j := fun x q1 q2 j hj => r x (by omega) (by omega) j (by unfold cnR; rw [if_neg (by omega), if_neg (by omega), if_neg (by omega), if_neg (by omega), if_neg (by omega)]; omega)
  refine ⟨⟨⟨by rw [c7]; exact a1, by rw [c13]; exact a2, by rw [c14]; exact a3, by rw [c22]; exact a4, by rw [c27]; exact a5, by rw [c30]; exact a6, by rw [c29]; exact a7⟩, fun j hj => by rw [r1 j hj]; exact a8 j hj⟩, fun i hi => ?_, fun i hi => ?_, fun q hq => ?_⟩
  · rw [rt 3 (by decide) (by decide) i hi, rt 4 (by decide) (by decide) i hi, rt 5 (by decide) (by decide) i hi, rt 6 (by decide) (by decide) i hi, rt 7 (by decide) (by decide) i hi, rt 8 (by decide) (by decide) i hi]
    obtain ⟨b1, b2, b3⟩ := b i hi
    have := (h3 i hi).2.2.1
    exact ⟨b1, b2, fun j hj => by rw [r2 _ (by omega)]; exact b3 j hj⟩
  · rw [rn 9 (by decide) (by decide) i hi, rn 10 (by decide) (by decide) i hi, rn 11 (by decide) (by decide) i hi, rn 12 (by decide) (by decide) i hi, rn 13 (by decide) (by decide) i hi]
    exact c i hi
  · rw [rc 14 (by decide) (by decide) q hq, rc 15 (by decide) (by decide) q hq, rc 16 (by decide) (by decide) q hq, rc 17 (by decide) (by decide) q hq, rc 18 (by decide) (by decide) q hq, rc 19 (by decide) (by decide) q hq, rc 20 (by decide) (by decide) q hq]
    obtain ⟨d1, d2⟩ := d q hq
    exact ⟨d1, crX.mono (Nat.le_refl _) (Nat.le_refl _) (fun _ _ => gAt.refl) (fun k hk => ⟨rw' 21 (by decide) (by decide) k hk, rw' 22 (by decide) (by decide) k hk, rw' 23 (by decide) (by decide) k hk, rw' 24 (by decide) (by decide) k hk⟩) _ _ d2⟩
end
section
variable {had k : Nat} {Ms : Nat → ModV} {T : Nat → Int} {n p : Nat} {σ τ σa τa : St} {q : Nat}
theorem end33 {f : Nat} (h : 1 ≤ τ.1 2075 28) (h9 : τ.1 2075 28 ≤ 9) : ∀ g, 1 ≤ g → ∀ Q : Int → St → Prop, Q (-10 - τ.1 2075 28) τ → wp (X15_read_33 g) τ Q := by
  intro g hg Q hQ
  obtain ⟨g', rfl⟩ : ∃ g', g = g' + 1 := ⟨g - 1, by omega⟩
  rw [X15_read_33, wp_bd, wp_gI, wp_ifn (by omega), X15_read_64, wp_bd, wp_gI, wp_ifn (by omega), wp_bd, wp_gI, wp_rt, w32_i (by omega) (by omega)]
  exact hQ
theorem FT_rm {c0 : Nat × Int} : FTw c0 (fun _ : Unit => True) F_X15_readModule := by
  rw [F_X15_readModule]
  exact FT_bd (FT_must (by decide)) (fun z hz => FT_if (fun _ => FT_rt trivial) (fun w => absurd hz w))
/-- the twin's end behind a fault -/
theorem bad33 {c0 : Nat × Int} {σ0 τ0 σ' : St} {δ : Type} {B : δ → Prop} {x : XV} {r : δ} {τ' : St} (hc : c0.2 ≤ 13) (h : flt c0 σ0 τ0 B x σ' r τ') (hhad : had ≤ c0.1) (h3 : τ0.1 2075 3 = τa.1 2075 3) (hX : agr (nRX had) σa σ0) (hY : agr (nRY had) τa τ0) (hB : BLs τ0) : ∀ g, 1 ≤ g → wp (bd (gI 2075 37) fun v3 => bd (pI 2075 37 (w32 (v3 + 1))) fun _ => X15_read_33 g) τ' (fun q τ'' => rdB' had σa τa x q σ' τ'') := by
  intro g hg
  obtain ⟨-, a1, a2, f, p, a3, a4, a5, a6, a7, a8, a9⟩ := h
  rw [wp_bd, wp_gI, wp_bd, wp_pI]
  have e28 : ∀ i, i ≠ 37 → ((stA τ'.1 2075 (ups (τ'.1 2075) 37 (w32 (τ'.1 2075 37 + 1))), τ'.2) : St).1 2075 i = τ'.1 2075 i := fun i hi => by dsimp only; rw [stA_eq, ups_ne hi]
  refine end33 (f := f) (by rw [e28 28 (by decide)]; omega) (by rw [e28 28 (by decide)]; omega) g hg _ ?_
  refine ⟨f, p, ⟨a3, a4⟩, a5, ⟨by rw [e28 28 (by decide), a6], ?_, by rw [e28 29 (by decide)]; exact a7⟩, ⟨hX.trans (agr.sub a1 (fun a i h => by unfold nRX at h; unfold nX; omega)), ?_⟩, fun i => ?_⟩
  · rw [e28 3 (by decide), (a2 2075 3 (by unfold nY; omega)).1]; exact h3
  · exact (hY.trans (agr.sub a2 (fun a i h => by unfold nRY at h; unfold nY; omega))).trans (agr.refl.u (by unfold nRY; omega) _)
  · have : ((stA τ'.1 2075 (ups (τ'.1 2075) 37 (w32 (τ'.1 2075 37 + 1))), τ'.2) : St).1 2099 = τ'.1 2099 := by dsimp only; rw [stA_ne (by decide)]
    rw [this, (a2 2099 i (by unfold nY; omega)).1]
    exact hB i
theorem look_LK {c0 : Nat × Int} {σ0 τ0 : St} (hb : BS c0 σ0 τ0 T n σ τ) (hk : TK T n σ τ p) : LK c0 σ0 τ0 (fun q : Int => q = -1) F_X1_look F_X15_look σ τ (fun r q σ' τ' => ∃ q0, p ≤ q0 ∧ agr kX σ σ' ∧ agr kY τ τ' ∧ BS c0 σ0 τ0 T n σ' τ' ∧ TKp T n σ' τ' q0 ∧ r = tkK T n q0 ∧ q = km (tkK T n q0) ∧ tkK T n q0 ∈ KS) := by
  have h := LK_look (R := fun _ _ => True) (B' := fun q : Int => q = -1) (f' := fun v => lE (rt v)) (g' := fun v => rt v) (P := fun r q σ' τ' => ∃ q0, p ≤ q0 ∧ agr kX σ σ' ∧ agr kY τ τ' ∧ BS c0 σ0 τ0 T n σ' τ' ∧ TKp T n σ' τ' q0 ∧ r = tkK T n q0 ∧ q = km (tkK T n q0) ∧ tkK T n q0 ∈ KS) hb hk (fun _ _ _ _ _ _ _ => trivial) trivial (FT_rt rfl) (fun q0 σ' τ' h1 h2 h3 h4 _ h5 h6 => LK_rt ⟨q0, h1, h2, h3, h4, h5, rfl, rfl, h6⟩)
  rw [bdE_id, bd_id] at h
  exact h
theorem rloop (hTX : ∀ k, k < n → -128 ≤ T k ∧ T k ≤ 127) : ∀ m f1 f2, m < f1 → m < f2 → ∀ k Ms p σ τ, n - p < m → (had ≤ k ∧ k ≤ 12) → RS k Ms σ τ → TK T n σ τ p → (TXc T n σ ∧ TXt T n τ) → (σ.1 2 11 = (k : Int) ∧ σ.1 2 9 = 0 ∧ τ.1 2075 37 = (k : Int) ∧ τ.1 2075 28 = 0 ∧ τ.1 2075 29 = -1 ∧ τ.1 2075 3 = τa.1 2075 3) → agr (nRX had) σa σ → agr (nRY had) τa τ → BLs τ → RLX (rdG had σa τa) (rdB' had σa τa) (X1_readAll_20 f1) (X15_read_33 f2) σ τ := by
  intro m
  induction m with
  | zero => intro f1 f2 h1 h2 k Ms p σ τ hm; omega
  | succ m ih =>
    rintro f1 f2 h1 h2 k Ms p σ τ hm ⟨hhad, hk12⟩ hRS hk ⟨hTc, hTt⟩ ⟨g11, g9, g37, g28, g29, g3⟩ hX hY hBL
    obtain ⟨f1', rfl⟩ : ∃ f, f1 = f + 1 := ⟨f1 - 1, by omega⟩
    obtain ⟨f2', rfl⟩ : ∃ f, f2 = f + 1 := ⟨f2 - 1, by omega⟩
    have hpn := hk.le
    have hb : BS (k, 13) σ τ T n σ τ := ⟨hTc, hTt, g28, agr.refl, agr.refl, by omega, by show τ.1 2075 37 < 13; omega⟩
    rw [X1_readAll_20, X15_read_33]
    refine RL_t ?_
    rw [wp_gI, g28, if_pos rfl]
    refine RL_bd (c0 := (k, 13)) (σ0 := σ) (τ0 := τ) (B := fun q : Int => q = -1) (LK_mono (look_LK hb hk) ?_) ?_
    · rintro r y σ1 τ1 ⟨q, hq, e1, e2, b1, k1, rfl, rfl, hin⟩
      have e11 : σ1.1 2 11 = (k : Int) := by rw [(e1 2 11 (by unfold kX; omega)).1]; exact g11
      have e9 : σ1.1 2 9 = 0 := by rw [(e1 2 9 (by unfold kX; omega)).1]; exact g9
      have e37 : τ1.1 2075 37 = (k : Int) := by rw [(e2 2075 37 (by unfold kY; omega)).1]; exact g37
      have hX1 : agr (nRX had) σa σ1 := hX.trans (agr.sub e1 (fun a i h => by unfold nRX at h; unfold kX; omega))
      have hY1 : agr (nRY had) τa τ1 := hY.trans (agr.sub e2 (fun a i h => by unfold nRY at h; unfold kY; omega))
      have hRS1 : RS k Ms σ1 τ1 := hRS.fr hk12 (fun a q1 q2 => e1.row (fun i => by unfold kX; omega)) (funext fun i => (e1 1 i (by unfold kX; omega)).2.2) (fun m hm => agr.sub e2 (fun a i h => by unfold stS at h; unfold kY; omega)) (fun i _ hi => (e2 2081 i (by unfold kY; omega)).1)
      have hBL1 : BLs τ1 := fun i => by rw [(e2 2099 i (by unfold kY; omega)).1]; exact hBL i
      by_cases c : tkK T n q = 0
      · rw [if_pos c, if_pos ((km_eq hin (a := 0) (b := 0) (by decide)).mpr c)]
        unfold RLX
        rw [wpE_lE, wp_rt, X15_read_64, wp_bd, wp_gI, (e2 2075 28 (by unfold kY; omega)).1, g28, wp_ifp (by decide), wp_bd, wp_gI, e37, wp_bd, wp_pI, wp_bd, wp_gI, wp_rt]
        have e75 : ∀ i, i ≠ 3 → ((stA τ1.1 2075 (ups (τ1.1 2075) 3 (k : Int)), τ1.2) : St).1 2075 i = τ1.1 2075 i := fun i hi => by dsimp only; rw [stA_eq, ups_ne hi]
        have aY : agr (fun a i => ¬ (a = 2075 ∧ i = 3)) τ1 (stA τ1.1 2075 (ups (τ1.1 2075) 3 (k : Int)), τ1.2) := agr.refl.u (by omega) _
        refine ⟨k, Ms, hk12, hRS1.fr hk12 (fun _ _ _ => rfl) rfl (fun m hm => agr.sub aY (fun a i h => by unfold stS at h; omega)) (fun i _ hi => (aY 2081 i (by omega)).1), ⟨e11, by dsimp only; rw [stA_eq, ups_eq], by dsimp only; rw [stA_eq, ups_eq], by rw [e75 29 (by decide), (e2 2075 29 (by unfold kY; omega)).1]; exact g29⟩, ⟨hX1, hY1.trans (agr.refl.u (by unfold nRY; omega) _)⟩, fun i => by rw [(aY 2099 i (by omega)).1]; exact hBL1 i⟩
      · rw [if_neg c, if_neg (fun z => c ((km_eq hin (a := 0) (b := 0) (by decide)).mp z))]
        have b1' : BS (k, 13) σ1 τ1 T n σ1 τ1 := ⟨b1.1, b1.2.1, b1.2.2.1, agr.refl, agr.refl, b1.2.2.2.2.2⟩
        refine RL_bd (c0 := (k, 13)) (σ0 := σ1) (τ0 := τ1) (B := fun _ : Unit => True) (LK_mono (module_LK hRS1 hk12 e11 e37 e9 b1' (Or.inr k1)) ?_) ?_
        · rintro _ _ σ2 τ2 ⟨hk', M, p2, z1, z2, z3, z4, ⟨z5, z5'⟩, ⟨z6, z6', z6''⟩, ⟨z7, z7'⟩, z8⟩
          have hp2 := z6.1
          have y11 : σ2.1 2 11 = (k : Int) := by rw [(z7 2 11 (by unfold nMX; omega)).1]; exact e11
          have y37 : τ2.1 2075 37 = (k : Int) := by rw [(z7' 2075 37 (by unfold nMY; omega)).1]; exact e37
          have hRS2 : RS k Ms σ2 τ2 := hRS1.fr hk12 (fun a q1 q2 => z7.row (fun i => by unfold nMX; omega)) (funext fun i => (z7 1 i (by unfold nMX; omega)).2.2) (fun m hm => agr.sub z7' (fun a i h => by unfold stS at h; unfold nMY; omega)) (fun i _ hi => (z7' 2081 i (by unfold nMY; omega)).1)
          refine RL_c ?_
          rw [wp_gI, y11]
          refine RL_c ?_
          rw [RI_1 (by omega) (by omega), tn, hRS2.1 k hk']
          have hMd : isMd (110 + 25 * k) := isMd_k hk'
          have hnn : ∀ g : Nat → St → Option ((Unit ⊕ XV) × St), nn (some (110 + 25 * k)) g = g (110 + 25 * k) := fun g => by unfold nn; rfl
          rw [hnn]
          unfold RLX
          rw [wpE_ck, and_t (ly_Md hMd)]
          show RLX (rdG had σa τa) (rdB' had σa τa) _ _ σ2 τ2
          obtain ⟨⟨⟨x1, x2, x3, x4, x5, x6, x7⟩, x8⟩, -⟩ := id z3
          obtain ⟨⟨o1, o2, o3, o4, -⟩, ⟨-, o5, -⟩, -⟩ := id z2
          refine RL_c (copyX hMd (by omega) x1 x2 x4 x5 x7 o1 o2 o3 o4 o5 (fun σ3 hc => ?_))
          have hcA := hc.1.2
          have hcR := hc.1.1
          refine RL_c ?_
          rw [wp_gI, hcA 2 (by omega), y11]
          refine RL_c ?_
          rw [wp_pI, w32_i (by omega) (by omega)]
          refine RL_t ?_
          rw [wp_gI, y37]
          refine RL_t ?_
          rw [wp_pI, w32_i (by omega) (by omega), show (k : Int) + 1 = ((k + 1 : Nat) : Int) by omega]
          have m3 := z3.copy z2 hc
          have s2 : ∀ a, a ≠ 2 → ((stA σ3.1 2 (ups (σ3.1 2) 11 ((k + 1 : Nat) : Int)), σ3.2) : St).1 a = σ3.1 a := fun a ha => by dsimp only; rw [stA_ne ha]
          have s2i : ∀ i, i ≠ 11 → ((stA σ3.1 2 (ups (σ3.1 2) 11 ((k + 1 : Nat) : Int)), σ3.2) : St).1 2 i = σ2.1 2 i := fun i hi => by dsimp only; rw [stA_eq, ups_ne hi, hcA 2 (by omega)]
          have sr : ((stA σ3.1 2 (ups (σ3.1 2) 11 ((k + 1 : Nat) : Int)), σ3.2) : St).2 = σ2.2 := hcR
          have s11 : ((stA σ3.1 2 (ups (σ3.1 2) 11 ((k + 1 : Nat) : Int)), σ3.2) : St).1 2 11 = ((k + 1 : Nat) : Int) := by dsimp only; rw [stA_eq, ups_eq]
          generalize ((stA σ3.1 2 (ups (σ3.1 2) 11 ((k + 1 : Nat) : Int)), σ3.2) : St) = σ4 at s2 s2i sr s11
          have t75 : ∀ i, i ≠ 37 → ((stA τ2.1 2075 (ups (τ2.1 2075) 37 ((k + 1 : Nat) : Int)), τ2.2) : St).1 2075 i = τ2.1 2075 i := fun i hi => by dsimp only; rw [stA_eq, ups_ne hi]
          have t37 : ((stA τ2.1 2075 (ups (τ2.1 2075) 37 ((k + 1 : Nat) : Int)), τ2.2) : St).1 2075 37 = ((k + 1 : Nat) : Int) := by dsimp only; rw [stA_eq, ups_eq]
          have tA : ∀ a, a ≠ 2075 → ((stA τ2.1 2075 (ups (τ2.1 2075) 37 ((k + 1 : Nat) : Int)), τ2.2) : St).1 a = τ2.1 a := fun a ha => by dsimp only; rw [stA_ne ha]
          have tr : ((stA τ2.1 2075 (ups (τ2.1 2075) 37 ((k + 1 : Nat) : Int)), τ2.2) : St).2 = τ2.2 := rfl
          generalize ((stA τ2.1 2075 (ups (τ2.1 2075) 37 ((k + 1 : Nat) : Int)), τ2.2) : St) = τ4 at t75 t37 tA tr
          have aT : ∀ S, agr (stS S) τ2 τ4 := fun S a i h => by
            unfold stS at h
            exact ⟨by rw [tA a (by omega)], by rw [tr], by rw [tr]⟩
          have aX : agr (nRX had) σ2 σ4 := fun a i h => by
            unfold nRX at h
            refine ⟨?_, by rw [sr], by rw [sr]⟩
            by_cases e : a = 2
            · subst e; exact s2i i (by omega)
            · rw [s2 a e, hcA a (by omega)]
          have aY : agr (nRY had) τ2 τ4 := fun a i h => by
            unfold nRY at h
            refine ⟨?_, by rw [tr], by rw [tr]⟩
            by_cases e : a = 2075
            · subst e; exact t75 i (by omega)
            · rw [tA a e]
          have hRS4 : RS (k + 1) (ups Ms k M) σ4 τ4 := by
            refine ⟨fun m hm => by rw [sr]; exact hRS2.1 m hm, fun m => ?_, fun m hm => ?_⟩
            · by_cases e : m = k
              · subst e; rw [ups_eq]; exact o1
              · rw [ups_ne e]; exact hRS2.2.1 m
            · by_cases e : m = k
              · subst e
                rw [ups_eq]
                refine ⟨⟨z2.cg (fun x hx => ups_ne (by omega)), m3.fr (fun a q1 q2 => s2 a (by omega)), z4.fr o1 o2 z2.1.2.2.2.2.2 (fun c hc => (z2.2.2.2.2.1 c hc).2.2) (aT _)⟩, by rw [tA 2079 (by decide)]; exact z5, fun j hj => by rw [tA 2081 (by decide)]; exact z5' j hj⟩
              · rw [ups_ne e]
                obtain ⟨⟨w1, w2, w3⟩, w4, w5⟩ := hRS2.2.2 m (by omega)
                exact ⟨⟨w1.cg (fun x hx => ups_ne (by omega)), w2.fr (fun a q1 q2 => by rw [s2 a (by omega), hcA a (by omega)]), w3.fr w1.1.1 w1.1.2.1 w1.1.2.2.2.2.2 (fun c hc => (w1.2.2.2.2.1 c hc).2.2) (aT _)⟩, by rw [tA 2079 (by decide)]; exact w4, fun j hj => by rw [tA 2081 (by decide)]; exact w5 j hj⟩
          have hX2 : agr (nRX had) σ1 σ2 := agr.sub z7 (fun a i h => by unfold nRX at h; unfold nMX; omega)
          have hY2 : agr (nRY had) τ1 τ2 := agr.sub z7' (fun a i h => by unfold nRY at h; unfold nMY; omega)
          have hTc2 : TXc T n σ4 := by
            obtain ⟨w1, w2, w3, w4, w5⟩ := b1.1
            refine ⟨w1, w2, ?_, fun j hj => ?_, fun i hi => ?_⟩
            · rw [s2i 2 (by decide), (z7 2 2 (by unfold nMX; omega)).1]; exact w3
            · rw [s2 4 (by decide), hcA 4 (by omega), (z7 4 j (by unfold nMX; omega)).1]; exact w4 j hj
            · rw [sr, (z7 3 i (by unfold nMX; omega)).2.2]; exact w5 i hi
          have hTt2 : TXt T n τ4 := by
            obtain ⟨w1, w2, w3, w4⟩ := b1.2.1
            refine ⟨w1, w2, ?_, fun j hj => ?_⟩
            · rw [t75 2 (by decide), (z7' 2075 2 (by unfold nMY; omega)).1]; exact w3
            · rw [tA 2076 (by decide), (z7' 2076 j (by unfold nMY; omega)).1]; exact w4 j hj
          refine ih f1' f2' (by omega) (by omega) (k + 1) (ups Ms k M) p2 σ4 τ4 (by omega) ⟨by omega, by omega⟩ hRS4 (Or.inl (z6.cong (fun i q1 q2 => s2i i (by omega)) (fun i q1 q2 => t75 i (by omega)))) ⟨hTc2, hTt2⟩ ⟨s11, by rw [s2i 9 (by decide)]; exact z6'', t37, by rw [t75 28 (by decide)]; exact z6', ?_, ?_⟩ ((hX1.trans hX2).trans aX) ((hY1.trans hY2).trans aY) (fun i => by rw [tA 2099 (by decide)]; exact z8 hBL1 i)
          · rw [t75 29 (by decide), (z7' 2075 29 (by unfold nMY; omega)).1, (e2 2075 29 (by unfold kY; omega)).1]; exact g29
          · rw [t75 3 (by decide), (z7' 2075 3 (by unfold nMY; omega)).1, (e2 2075 3 (by unfold kY; omega)).1]; exact g3
        · intro x σ2 y τ2 hfl
          exact bad33 (Int.le_refl _) hfl hhad ((e2 2075 3 (by unfold kY; omega)).1.trans g3) hX1 hY1 hBL1 f2' (by omega)
    · intro x σ2 y τ2 hfl
      obtain ⟨hy, a1, a2, f, p, a3, a4, a5, a6, a7, a8, a9⟩ := hfl
      have hy' : y = -1 := hy
      subst hy'
      rw [if_neg (by decide), wp_bd]
      refine wp_mono (FT_rm (c0 := (k, 13)) τ2 (by omega) ⟨a8, a9⟩) (fun u τ3 w => ?_)
      obtain ⟨-, w1, w2, w3, w4⟩ := w
      refine bad33 (c0 := (k, 13)) (σ0 := σ) (τ0 := τ) (B := fun _ : Unit => True) (r := ()) (Int.le_refl _) ⟨trivial, a1, a2.trans w1, f, p, a3, a4, a5, w2.trans a6, w3.trans a7, by rw [w4]; exact a8, by rw [w4]; exact a9⟩ hhad g3 hX hY hBL f2' (by omega)
end
