set_option maxRecDepth 100000
set_option maxHeartbeats 400000
/-! ===== read: both sides side by side ===== -/
/-- what the component's read leaves alone -/
def nX (c0 : Nat × Int) (a k : Nat) : Prop := ¬ ((a = 2 ∧ k ≠ 2) ∨ (5 ≤ a ∧ a ≤ 31) ∨ (110 + 25 * c0.1 ≤ a ∧ a ≤ 409))
/-- the twin's -/
def nY (c0 : Nat × Int) (a k : Nat) : Prop := ¬ ((a = 2075 ∧ ((28 ≤ k ∧ k ≤ 39) ∨ k = 46 ∨ k = 47 ∨ (55 ≤ k ∧ k ≤ 57))) ∨ (a = 2077 ∧ 48 + c0.1 ≤ k) ∨ (a = 2081 ∧ 10 * (48 + c0.1) ≤ k) ∨ (2082 ≤ a ∧ a ≤ 2086 ∧ 40 * (48 + c0.1) ≤ k) ∨ (a = 2087 ∧ 400 * (48 + c0.1) ≤ k) ∨ (2101 ≤ a ∧ a ≤ 2113))
def kX (a k : Nat) : Prop := ¬ (a = 2 ∧ 3 ≤ k ∧ k ≤ 8)
def kY (a k : Nat) : Prop := ¬ (a = 2075 ∧ 30 ≤ k ∧ k ≤ 35)
/-- what is left of the twin behind a fault -/
def FTw {β : Type} (c0 : Nat × Int) (B : β → Prop) (h : St → Option (β × St)) : Prop := ∀ τ, 1 ≤ τ.1 2075 28 → (0 ≤ τ.1 2075 37 ∧ τ.1 2075 37 < c0.2) → wp h τ (fun q τ' => B q ∧ agr (nY c0) τ τ' ∧ τ'.1 2075 28 = τ.1 2075 28 ∧ τ'.1 2075 29 = τ.1 2075 29 ∧ τ'.1 2075 37 = τ.1 2075 37)
def flt {β : Type} (c0 : Nat × Int) (σ0 τ0 : St) (B : β → Prop) (x : XV) (σ' : St) (q : β) (τ' : St) : Prop := B q ∧ agr (nX c0) σ0 σ' ∧ agr (nY c0) τ0 τ' ∧ ∃ f p : Nat, 1 ≤ f ∧ f ≤ 9 ∧ x = (0, (f : Int), (p : Int)) ∧ τ'.1 2075 28 = (f : Int) ∧ τ'.1 2075 29 = (p : Int) ∧ 0 ≤ τ'.1 2075 37 ∧ τ'.1 2075 37 < c0.2
def LK {α β : Type} (c0 : Nat × Int) (σ0 τ0 : St) (B : β → Prop) (f : St → Option ((α ⊕ XV) × St)) (g : St → Option (β × St)) (σ τ : St) (P : α → β → St → St → Prop) : Prop := wpE f σ (fun r σ' => wp g τ (fun q τ' => P r q σ' τ')) (fun x σ' => wp g τ (fun q τ' => flt c0 σ0 τ0 B x σ' q τ'))
section
variable {c0 : Nat × Int} {σ0 τ0 σ τ : St} {α β γ δ : Type}
theorem LK_mono {B : β → Prop} {f : St → Option ((α ⊕ XV) × St)} {g : St → Option (β × St)} {P P' : α → β → St → St → Prop} (h : LK c0 σ0 τ0 B f g σ τ P) (q : ∀ r s σ' τ', P r s σ' τ' → P' r s σ' τ') : LK c0 σ0 τ0 B f g σ τ P' := wpE_mono h (fun r σ' w => wp_mono w (fun s τ' z => q r s σ' τ' z)) (fun _ _ w => w)
theorem LK_bd {B : β → Prop} {B' : δ → Prop} {f : St → Option ((α ⊕ XV) × St)} {g : St → Option (β × St)} {f' : α → St → Option ((γ ⊕ XV) × St)} {g' : β → St → Option (δ × St)} {P : γ → δ → St → St → Prop} (h : LK c0 σ0 τ0 B f g σ τ (fun r q σ' τ' => LK c0 σ0 τ0 B' (f' r) (g' q) σ' τ' P)) (ft : ∀ q, B q → FTw c0 B' (g' q)) : LK c0 σ0 τ0 B' (bdE f f') (bd g g') σ τ P := by
  unfold LK
  rw [wpE_bdE]
  refine wpE_mono h (fun r σ' w => ?_) (fun x σ' w => ?_)
  · obtain ⟨q, τ', e, k⟩ := w
    exact wpE_mono k (fun r2 σ2 z => by rw [wp_bd, wp_some e]; exact z) (fun x σ2 z => by rw [wp_bd, wp_some e]; exact z)
  · obtain ⟨q, τ', e, b1, b2, b3, f1, p1, k1, k2, k3, k4, k5, k6⟩ := w
    rw [wp_bd, wp_some e]
    refine wp_mono (ft q b1 τ' (by omega) k6) (fun q2 τ2 z => ⟨z.1, b2, b3.trans z.2.1, f1, p1, k1, k2, k3, z.2.2.1.trans k4, z.2.2.2.1.trans k5, by rw [z.2.2.2.2]; exact k6⟩)
theorem LK_c {B : δ → Prop} {m : St → Option (α × St)} {f' : α → St → Option ((γ ⊕ XV) × St)} {g : St → Option (δ × St)} {P : γ → δ → St → St → Prop} (h : wp m σ (fun r σ' => LK c0 σ0 τ0 B (f' r) g σ' τ P)) : LK c0 σ0 τ0 B (bd m f') g σ τ P := by
  unfold LK
  rw [wpE_bd]; exact h
theorem LK_t {B : δ → Prop} {m : St → Option (β × St)} {f : St → Option ((γ ⊕ XV) × St)} {g' : β → St → Option (δ × St)} {P : γ → δ → St → St → Prop} (h : wp m τ (fun q τ' => LK c0 σ0 τ0 B f (g' q) σ τ' P)) : LK c0 σ0 τ0 B f (bd m g') σ τ P := by
  obtain ⟨q, τ', e, k⟩ := h
  exact wpE_mono k (fun r2 σ2 z => by rw [wp_bd, wp_some e]; exact z) (fun x σ2 z => by rw [wp_bd, wp_some e]; exact z)
theorem LK_rt {B : δ → Prop} {r : γ} {q : δ} {P : γ → δ → St → St → Prop} (h : P r q σ τ) : LK c0 σ0 τ0 B (lE (rt r)) (rt q) σ τ P := by
  unfold LK
  rw [wpE_lE, wp_rt, wp_rt]; exact h
theorem LK_e {B : δ → Prop} {r : γ} {g : St → Option (δ × St)} {P : γ → δ → St → St → Prop} (h : wp g τ (fun q τ' => P r q σ τ')) : LK c0 σ0 τ0 B (lE (rt r)) g σ τ P := by
  unfold LK
  rw [wpE_lE, wp_rt]; exact h
theorem fail_0 {n p : Int} (h0 : τ.1 2075 28 = 0) {Q : Unit → St → Prop} : wp (F_X15_fail n p) τ Q = Q () (stA τ.1 2075 (ups (ups (τ.1 2075) 28 n) 29 p), τ.2) := by
  rw [F_X15_fail, wp_bd, wp_gI, h0, wp_ifp rfl, wp_bd, wp_pI, wp_bd, wp_pI, wp_rt]
  dsimp only
  rw [stA_eq, stA_stA]
theorem fail_1 {n p : Int} (h0 : 1 ≤ τ.1 2075 28) {Q : Unit → St → Prop} : wp (F_X15_fail n p) τ Q = Q () τ := by
  rw [F_X15_fail, wp_bd, wp_gI, wp_ifn (by omega), wp_rt]
theorem LK_fault {B : δ → Prop} {n p : Nat} (hn : 1 ≤ n ∧ n ≤ 9) (hσ : agr (nX c0) σ0 σ) (hτ : agr (nY c0) τ0 τ) (h0 : τ.1 2075 28 = 0) (h37 : 0 ≤ τ.1 2075 37 ∧ τ.1 2075 37 < c0.2) {x : XV} (hx : x = (0, (n : Int), (p : Int))) {g : Unit → St → Option (δ × St)} {P : γ → δ → St → St → Prop} (ft : FTw c0 B (g ())) : LK c0 σ0 τ0 B (thw x) (bd (F_X15_fail (n : Int) (p : Int)) g) σ τ P := by
  unfold LK
  rw [wpE_thw, wp_bd, fail_0 h0]
  have h28 : ((stA τ.1 2075 (ups (ups (τ.1 2075) 28 (n : Int)) 29 (p : Int)), τ.2) : St).1 2075 28 = (n : Int) := by dsimp only; rw [stA_eq, ups_ne (by decide), ups_eq]
  have h29 : ((stA τ.1 2075 (ups (ups (τ.1 2075) 28 (n : Int)) 29 (p : Int)), τ.2) : St).1 2075 29 = (p : Int) := by dsimp only; rw [stA_eq, ups_eq]
  have h37' : ((stA τ.1 2075 (ups (ups (τ.1 2075) 28 (n : Int)) 29 (p : Int)), τ.2) : St).1 2075 37 = τ.1 2075 37 := by dsimp only; rw [stA_eq, ups_ne (by decide), ups_ne (by decide)]
  have hfr : agr (nY c0) τ0 (stA τ.1 2075 (ups (ups (τ.1 2075) 28 (n : Int)) 29 (p : Int)), τ.2) := by
    refine hτ.trans (agr.refl.w (a := 2075) (fun k q => ?_))
    unfold nY at q
    rw [ups_ne (by omega), ups_ne (by omega)]
  refine wp_mono (ft _ (by rw [h28]; omega) (by rw [h37']; exact h37)) (fun q τ' z => ⟨z.1, hσ, hfr.trans z.2.1, n, p, hn.1, hn.2, hx, z.2.2.1.trans h28, z.2.2.2.1.trans h29, by rw [z.2.2.2.2, h37']; exact h37⟩)
/-! the twin behind a fault -/
theorem FT_rt {B : δ → Prop} {q : δ} (h : B q) : FTw c0 B (rt q) := fun τ _ _ => by rw [wp_rt]; exact ⟨h, agr.refl, rfl, rfl, rfl⟩
theorem FT_bd {B : β → Prop} {B' : δ → Prop} {g : St → Option (β × St)} {g' : β → St → Option (δ × St)} (h : FTw c0 B g) (h' : ∀ q, B q → FTw c0 B' (g' q)) : FTw c0 B' (bd g g') := fun τ h1 h3 => by
  rw [wp_bd]
  refine wp_mono (h τ h1 h3) (fun q τ' z => wp_mono (h' q z.1 τ' (by rw [z.2.2.1]; exact h1) (by rw [z.2.2.2.2]; exact h3)) (fun q2 τ2 w => ⟨w.1, z.2.1.trans w.2.1, w.2.2.1.trans z.2.2.1, w.2.2.2.1.trans z.2.2.2.1, w.2.2.2.2.trans z.2.2.2.2⟩))
theorem FT_gI {B : δ → Prop} {a k : Nat} {g : Int → St → Option (δ × St)} (h : ∀ v, FTw c0 B (g v)) : FTw c0 B (bd (gI a k) g) := fun τ h1 h3 => by
  rw [wp_bd, wp_gI]; exact h _ τ h1 h3
theorem FT_g37 {B : δ → Prop} {g : Int → St → Option (δ × St)} (h : ∀ v, 0 ≤ v → v < c0.2 → FTw c0 B (g v)) : FTw c0 B (bd (gI 2075 37) g) := fun τ h1 h3 => by
  rw [wp_bd, wp_gI]; exact h _ h3.1 h3.2 τ h1 h3
theorem FT_gF {B : δ → Prop} {g : Int → St → Option (δ × St)} (h : ∀ v, 1 ≤ v → FTw c0 B (g v)) : FTw c0 B (bd (gI 2075 28) g) := fun τ h1 h3 => by
  rw [wp_bd, wp_gI]; exact h _ h1 τ h1 h3
theorem FT_pI {B : δ → Prop} {k : Nat} {v : Int} (hk : (30 ≤ k ∧ k ≤ 36) ∨ k = 38 ∨ k = 39 ∨ k = 46 ∨ k = 47 ∨ (55 ≤ k ∧ k ≤ 57)) {g : Unit → St → Option (δ × St)} (h : FTw c0 B (g ())) : FTw c0 B (bd (pI 2075 k v) g) := fun τ h1 h3 => by
  rw [wp_bd, wp_pI]
  have e28 : ((stA τ.1 2075 (ups (τ.1 2075) k v), τ.2) : St).1 2075 28 = τ.1 2075 28 := by dsimp only; rw [stA_eq, ups_ne (by omega)]
  have e29 : ((stA τ.1 2075 (ups (τ.1 2075) k v), τ.2) : St).1 2075 29 = τ.1 2075 29 := by dsimp only; rw [stA_eq, ups_ne (by omega)]
  have e37 : ((stA τ.1 2075 (ups (τ.1 2075) k v), τ.2) : St).1 2075 37 = τ.1 2075 37 := by dsimp only; rw [stA_eq, ups_ne (by omega)]
  have e3 : agr (nY c0) τ (stA τ.1 2075 (ups (τ.1 2075) k v), τ.2) := agr.refl.u (by unfold nY; omega) v
  exact wp_mono (h _ (by rw [e28]; exact h1) (by rw [e37]; exact h3)) (fun q2 τ2 w => ⟨w.1, e3.trans w.2.1, w.2.2.1.trans e28, w.2.2.2.1.trans e29, w.2.2.2.2.trans e37⟩)
theorem FT_fail {B : δ → Prop} {n p : Int} {g : Unit → St → Option (δ × St)} (h : FTw c0 B (g ())) : FTw c0 B (bd (F_X15_fail n p) g) := fun τ h1 h3 => by
  rw [wp_bd, fail_1 h1]; exact h τ h1 h3
theorem FT_if {B : δ → Prop} {c : Prop} {hd : Decidable c} {f g : St → Option (δ × St)} (h1 : c → FTw c0 B f) (h2 : ¬ c → FTw c0 B g) : FTw c0 B (if c then f else g) := by
  by_cases h : c
  · rw [if_pos h]; exact h1 h
  · rw [if_neg h]; exact h2 h
theorem FT_w {B : δ → Prop} {a : Nat} {i v : Int} {g : Unit → St → Option (δ × St)} (n : Nat) (hl : ∀ {τ : St} {Q : Unit → St → Prop}, 0 ≤ i → i < (n : Int) → wp (wrI a i v) τ Q = Q () (stA τ.1 a (ups (τ.1 a) i.toNat v), τ.2)) (h0 : 0 ≤ i ∧ i < (n : Int)) (ha : a ≠ 2075 ∧ ¬ nY c0 a i.toNat) (h : FTw c0 B (g ())) : FTw c0 B (bd (wrI a i v) g) := fun τ h1 h3 => by
  rw [wp_bd, hl h0.1 h0.2]
  have e28 : ((stA τ.1 a (ups (τ.1 a) i.toNat v), τ.2) : St).1 2075 = τ.1 2075 := by dsimp only; rw [stA_ne (fun e => ha.1 e.symm)]
  have e3 : agr (nY c0) τ (stA τ.1 a (ups (τ.1 a) i.toNat v), τ.2) := agr.refl.u ha.2 v
  exact wp_mono (h _ (by rw [e28]; exact h1) (by rw [e28]; exact h3)) (fun q2 τ2 w => ⟨w.1, e3.trans w.2.1, w.2.2.1.trans (by rw [e28]), w.2.2.2.1.trans (by rw [e28]), w.2.2.2.2.trans (by rw [e28])⟩)
theorem FT_rd {B : δ → Prop} {a : Nat} {i : Int} {g : Int → St → Option (δ × St)} (n : Nat) (hl : ∀ {τ : St} {Q : Int → St → Prop}, 0 ≤ i → i < (n : Int) → wp (rdI a i) τ Q = Q (τ.1 a i.toNat) τ) (h0 : 0 ≤ i ∧ i < (n : Int)) (h : ∀ v, FTw c0 B (g v)) : FTw c0 B (bd (rdI a i) g) := fun τ h1 h3 => by
  rw [wp_bd, hl h0.1 h0.2]; exact h _ τ h1 h3
theorem FT_look : FTw c0 (fun q : Int => q = -1) F_X15_look := fun τ h1 _ => by
  rw [F_X15_look, wp_bd, wp_gI, wp_ifn (by omega), wp_rt]; exact ⟨rfl, agr.refl, rfl, rfl, rfl⟩
theorem FT_take : FTw c0 (fun _ : Unit => True) F_X15_take := fun τ h1 _ => by
  rw [F_X15_take, wp_bd, c_pZ (by decide) (by decide), wp_rt]
  refine ⟨trivial, agr.refl.u (by unfold nY; omega) 0, ?_, ?_, ?_⟩ <;> dsimp only <;> rw [stA_eq, ups_ne (by decide)]
theorem FT_must {a : Int} (ha : 0 ≤ a) : FTw c0 (fun q : Int => q = 0) (F_X15_must a) := by
  rw [F_X15_must]
  refine FT_bd FT_look (fun q hq => ?_)
  subst hq
  refine FT_if (fun e => absurd e (by omega)) (fun _ => FT_gI (fun v => FT_fail ?_))
  intro τ h1 _
  rw [c_rtZ (by decide) (by decide)]
  exact ⟨rfl, agr.refl, rfl, rfl, rfl⟩
theorem FT_opens : FTw c0 (fun q : Int => q = 0) F_X15_opens := by
  rw [F_X15_opens]
  refine FT_gF (fun v hv => FT_if (fun e => absurd e (by omega)) (fun _ => fun τ h1 _ => ?_))
  rw [c_rtZ (by decide) (by decide)]
  exact ⟨rfl, agr.refl, rfl, rfl, rfl⟩
theorem FT_num {a b : Int64} : FTw c0 (fun _ : Int64 => True) (F_X15_numberIn a b) := by
  rw [F_X15_numberIn]
  refine FT_bd FT_look (fun q hq => ?_)
  subst hq
  exact FT_if (fun e => absurd e (by decide)) (fun _ => FT_gI (fun v => FT_fail (FT_rt trivial)))
theorem FT_node {a1 a2 a3 a4 a5 : Int} {a6 : Int64} {a8 : Int} : FTw c0 (fun q : Int => q = 0) (F_X15_node a1 a2 a3 a4 a5 a6 a8) := by
  rw [F_X15_node]
  exact FT_gF (fun v hv => FT_if (fun e => absurd e (by omega)) (fun _ => FT_rt rfl))
end
/-! ===== tokens of both sides ===== -/
def KS : List Int := [0, 1, 2, 3, 4, 5, 6, 7, 8, 9, 10, 11, 12, 13, 14, 15, 16, 17, 18, 19, 123, 125, 40, 41, 91, 93, 58, 59, 46, 44, 63, 61, 39, 60, 43, 45, 42, 38, 124, 94, 126]
def kmOk (a b : Int) : Bool := KS.all (fun K => decide (km K = b) == decide (K = a))
theorem km_eq {K : Int} (h : K ∈ KS) {a b : Int} (hab : kmOk a b = true) : km K = b ↔ K = a := by
  have := List.all_eq_true.mp hab K h
  have h2 := eq_of_beq this
  exact decide_eq_decide.mp h2
theorem km_R : ∀ K, K ∈ KS → 0 ≤ km K ∧ km K ≤ 55 := by decide
theorem KS_R : ∀ K, K ∈ KS → 0 ≤ K ∧ K ≤ 126 := by decide
section
variable {T : Nat → Int} {n q : Nat}
theorem tkK_in (h : tkK T n q ≠ -1) : tkK T n q ∈ KS := by
  have hs : ∀ x, x ∈ sgs → x ∈ KS := by decide
  have hw : ∀ i : Fin 12, (3 + ((i : Nat) : Int)) ∈ KS := by decide
  have hp : ∀ x : Int, 15 ≤ x → x ≤ 19 → x ∈ KS := by
    intro x h1 h2
    have : x = 15 ∨ x = 16 ∨ x = 17 ∨ x = 18 ∨ x = 19 := by omega
    rcases this with e | e | e | e | e <;> rw [e] <;> decide
  unfold tkK at h ⊢
  split
  · decide
  · rename_i c0
    rw [if_neg c0] at h
    split
    · rename_i c1
      rw [if_pos c1] at h
      split
      · rename_i c2; rw [if_pos c2] at h; exact absurd rfl h
      · rcases wdF_r (T := T) (q := q) (l := tkL T n q) 12 0 with w | ⟨j, w1, w2, w3⟩
        · rw [w]; decide
        · rw [w3]; exact hw ⟨j, by omega⟩
    · rename_i c1
      rw [if_neg c1] at h
      split
      · rename_i c2
        rw [if_pos c2] at h
        split
        · rename_i c3; rw [if_pos c3] at h; exact absurd rfl h
        · decide
      · rename_i c2
        rw [if_neg c2] at h
        split
        · rename_i c3
          have := pk_r (T q) (tsg T n (q + 1))
          exact hp _ (by omega) (by omega)
        · rename_i c3
          rw [if_neg c3] at h
          split
          · rename_i c4; exact hs _ c4
          · rename_i c4; rw [if_neg c4] at h; exact absurd rfl h
theorem tkL_r (hq : q ≤ n) (h0 : tkK T n q ≠ 0) (h1 : tkK T n q ≠ -1) : 1 ≤ tkL T n q ∧ q + tkL T n q ≤ n := by
  have hqn : q ≠ n := fun e => h0 (by unfold tkK; rw [if_pos e])
  have hlt : q < n := by omega
  unfold tkL
  rw [if_neg hqn]
  have one : ∀ P : Nat → Bool, P q = true → 1 ≤ rn P n q ∧ q + rn P n q ≤ n := by
    intro P hP
    refine ⟨?_, rn_le P n q hq⟩
    rcases rn_out (P := P) (n := n) q hq with w | w
    · omega
    · rcases Nat.eq_zero_or_pos (rn P n q) with z | z
      · rw [z, Nat.add_zero, hP] at w; cases w
      · exact z
  split
  · rename_i c; exact one _ (by unfold isNp; rw [c]; rfl)
  · split
    · rename_i c; exact one _ c
    · split
      · rename_i c1 c2 c3
        refine ⟨by decide, ?_⟩
        rcases Nat.lt_or_ge (q + 1) n with w | w
        · omega
        · exfalso
          have : tsg T n (q + 1) = -1 := by unfold tsg; rw [if_neg (by omega)]
          rw [this] at c3
          unfold pkK at c3
          omega
      · exact ⟨by decide, by omega⟩
end
/-- nothing read yet, at a place -/
def TKf (T : Nat → Int) (n : Nat) (σ τ : St) (p : Nat) : Prop := p ≤ n ∧ (σ.1 2 4 = 0 ∧ σ.1 2 3 = (p : Int)) ∧ τ.1 2075 31 = 0 ∧ τ.1 2075 30 = (p : Int)
/-- a token is at hand, which begins at a place -/
def TKp (T : Nat → Int) (n : Nat) (σ τ : St) (p : Nat) : Prop := p ≤ n ∧ tkK T n p ≠ -1 ∧ (σ.1 2 4 = 1 ∧ σ.1 2 5 = tkK T n p ∧ σ.1 2 6 = (p : Int) ∧ σ.1 2 7 = (tkL T n p : Int) ∧ (tkK T n p = 2 → σ.2.1 2 8 = nmV T p (tkL T n p))) ∧ τ.1 2075 31 = 1 ∧ τ.1 2075 32 = km (tkK T n p) ∧ τ.1 2075 33 = (p : Int) ∧ τ.1 2075 30 = ((p + tkL T n p : Nat) : Int) ∧ (0 < tkK T n p → tkK T n p ≤ 14 → τ.1 2075 34 = (tkL T n p : Int)) ∧ (tkK T n p = 2 → τ.2.1 2075 35 = nmV T p (tkL T n p))
def TK (T : Nat → Int) (n : Nat) (σ τ : St) (p : Nat) : Prop := TKf T n σ τ p ∨ TKp T n σ τ p
/-- what holds all the while -/
def BS (c0 : Nat × Int) (σ0 τ0 : St) (T : Nat → Int) (n : Nat) (σ τ : St) : Prop := TXc T n σ ∧ TXt T n τ ∧ τ.1 2075 28 = 0 ∧ agr (nX c0) σ0 σ ∧ agr (nY c0) τ0 τ ∧ 0 ≤ τ.1 2075 37 ∧ τ.1 2075 37 < c0.2
/-- relations that tokens leave alone -/
def StT (R : St → St → Prop) : Prop := ∀ σ τ σ' τ', agr kX σ σ' → agr kY τ τ' → R σ τ → R σ' τ'
theorem TXc.fr {T : Nat → Int} {n : Nat} {σ σ' : St} (h : TXc T n σ) (e : agr kX σ σ') : TXc T n σ' := by
  refine ⟨h.1, h.2.1, ?_, fun k hk => ?_, fun i hi => ?_⟩
  · rw [(e 2 2 (by unfold kX; omega)).1]; exact h.2.2.1
  · rw [(e 4 k (by unfold kX; omega)).1]; exact h.2.2.2.1 k hk
  · rw [(e 3 i (by unfold kX; omega)).2.2]; exact h.2.2.2.2 i hi
theorem TXt.fr {T : Nat → Int} {n : Nat} {τ τ' : St} (h : TXt T n τ) (e : agr kY τ τ') : TXt T n τ' := by
  refine ⟨h.1, h.2.1, ?_, fun k hk => ?_⟩
  · rw [(e 2075 2 (by unfold kY; omega)).1]; exact h.2.2.1
  · rw [(e 2076 k (by unfold kY; omega)).1]; exact h.2.2.2 k hk
theorem BS.fr {c0 : Nat × Int} {σ0 τ0 : St} {T : Nat → Int} {n : Nat} {σ τ σ' τ' : St} (h : BS c0 σ0 τ0 T n σ τ) (e : agr kX σ σ') (e' : agr kY τ τ') : BS c0 σ0 τ0 T n σ' τ' :=
  ⟨h.1.fr e, h.2.1.fr e', by rw [(e' 2075 28 (by unfold kY; omega)).1]; exact h.2.2.1, h.2.2.2.1.trans (agr.sub e (fun a k q => by unfold nX at q; unfold kX; omega)), h.2.2.2.2.1.trans (agr.sub e' (fun a k q => by unfold nY at q; unfold kY; omega)), by rw [(e' 2075 37 (by unfold kY; omega)).1]; exact h.2.2.2.2.2⟩
theorem agr_cX {σ : St} {g : Nat → Int} {h : Nat → Int64} (h1 : ∀ k, (k < 3 ∨ 8 < k) → g k = σ.1 2 k) (h2 : ∀ k, k ≠ 8 → h k = σ.2.1 2 k) : agr kX σ (cX σ g h) := by
  unfold cX
  refine (agr.refl.w (a := 2) (fun k q => ?_)).v (a := 2) (fun k q => ?_)
  · unfold kX at q; exact h1 k (by omega)
  · unfold kX at q; exact h2 k (by omega)
theorem agr_dX {τ : St} {g : Nat → Int} {h : Nat → Int64} (h1 : ∀ k, (k < 30 ∨ 35 < k) → g k = τ.1 2075 k) (h2 : ∀ k, k ≠ 35 → h k = τ.2.1 2075 k) : agr kY τ (dX τ g h) := by
  unfold dX
  refine (agr.refl.w (a := 2075) (fun k q => ?_)).v (a := 2075) (fun k q => ?_)
  · unfold kY at q; exact h1 k (by omega)
  · unfold kY at q; exact h2 k (by omega)
section
variable {c0 : Nat × Int} {σ0 τ0 σ τ : St} {T : Nat → Int} {n p : Nat} {γ δ : Type} {R : St → St → Prop}
theorem look_fresh (hb : BS c0 σ0 τ0 T n σ τ) (hk : TKf T n σ τ p) {P : Int → Int → St → St → Prop} (go : ∀ σ' τ', agr kX σ σ' → agr kY τ τ' → TKp T n σ' τ' (tkQ T n p) → P (tkK T n (tkQ T n p)) (km (tkK T n (tkQ T n p))) σ' τ') : LK c0 σ0 τ0 (fun q => q = -1) F_X1_look F_X15_look σ τ P := by
  obtain ⟨h1, ⟨h2, h3⟩, h4, h5⟩ := hk
  obtain ⟨b1, b2, b3, b4, b5, b6⟩ := hb
  have hq : tkQ T n p ≤ n := rn_le _ n p h1
  have tw : ∀ {Q : Int → St → Prop}, (∀ g' h', fd (τ.1 2075) g' → (∀ k, k ≠ 35 → h' k = τ.2.1 2075 k) → g' 31 = 1 → g' 33 = (tkQ T n p : Int) → g' 30 = ((tkQ T n p + tkL T n (tkQ T n p) : Nat) : Int) → g' 32 = km (tkK T n (tkQ T n p)) → (0 < tkK T n (tkQ T n p) → tkK T n (tkQ T n p) ≤ 14 → g' 34 = (tkL T n (tkQ T n p) : Int)) → (tkK T n (tkQ T n p) = 2 → h' 35 = nmV T (tkQ T n p) (tkL T n (tkQ T n p))) → tkK T n (tkQ T n p) ≠ -1 → Q (km (tkK T n (tkQ T n p))) (dX τ g' h')) → (∀ g', (∀ k, (k < 28 ∨ 34 < k) → g' k = τ.1 2075 k) → g' 28 = 1 → g' 29 = (tkQ T n p : Int) → tkK T n (tkQ T n p) = -1 → Q (-1) (dX τ g' (τ.2.1 2075))) → wp F_X15_look τ Q := by
    intro Q yes no
    rw [F_X15_look, wp_bd, wp_gI, b3, wp_ifp (by decide), wp_bd, wp_gI, h4, wp_ifp rfl]
    have := look21 (τ := τ) (g := τ.1 2075) (h := τ.2.1 2075) b2 b2.2.2.1 b3 h5 h1 yes no
    rw [dX_id] at this
    exact this
  unfold LK
  rw [F_X1_look, wpE_bd, wp_gI, h2, wpE_ifp rfl, wpE_bdE]
  have cs := scanX (σ := σ) (g := σ.1 2) (h := σ.2.1 2) b1 b1.2.2.1 h3 h1 (Q := fun _ σ' => wpE X1_look_11 σ' (fun r σ' => wp F_X15_look τ (fun q τ' => P r q σ' τ')) (fun x σ' => wp F_X15_look τ (fun q τ' => flt c0 σ0 τ0 (fun q => q = -1) x σ' q τ'))) (E := fun x σ' => wp F_X15_look τ (fun q τ' => flt c0 σ0 τ0 (fun q => q = -1) x σ' q τ')) (fun g' h' z1 z2 z3 z4 z5 z6 z7 z8 => ?_) (fun g' h' z1 z2 z3 => ?_)
  · rw [cX_id] at cs; exact cs
  · rw [X1_look_11, wpE_bd, cge z4, wpE_lE, wp_rt]
    refine tw (fun g'' h'' y1 y2 y3 y4 y5 y6 y7 y8 y9 => go _ _ (agr_cX z1 z2) (agr_dX (fun k hk => y1 k (by omega)) y2) ⟨hq, z8, ⟨?_, ?_, ?_, ?_, ?_⟩, ?_, ?_, ?_, ?_, ?_, ?_⟩) (fun g'' y1 y2 y3 y4 => absurd y4 z8)
    · show stA σ.1 2 g' 2 4 = _; rw [stA_eq]; exact z3
    · show stA σ.1 2 g' 2 5 = _; rw [stA_eq]; exact z4
    · show stA σ.1 2 g' 2 6 = _; rw [stA_eq]; exact z5
    · show stA σ.1 2 g' 2 7 = _; rw [stA_eq]; exact z6
    · show _ → stA σ.2.1 2 h' 2 8 = _; rw [stA_eq]; exact z7
    · show stA τ.1 2075 g'' 2075 31 = _; rw [stA_eq]; exact y3
    · show stA τ.1 2075 g'' 2075 32 = _; rw [stA_eq]; exact y6
    · show stA τ.1 2075 g'' 2075 33 = _; rw [stA_eq]; exact y4
    · show stA τ.1 2075 g'' 2075 30 = _; rw [stA_eq]; exact y5
    · show _ → _ → stA τ.1 2075 g'' 2075 34 = _; rw [stA_eq]; exact y7
    · show _ → stA τ.2.1 2075 h'' 2075 35 = _; rw [stA_eq]; exact y8
  · refine tw (fun g'' h'' y1 y2 y3 y4 y5 y6 y7 y8 y9 => absurd z3 y9) (fun g'' y1 y2 y3 y4 => ⟨rfl, ?_, ?_, 1, tkQ T n p, by decide, by decide, rfl, ?_, ?_⟩)
    · exact b4.trans (agr.sub (agr_cX z1 z2) (fun a k q => by unfold nX at q; unfold kX; omega))
    · refine b5.trans ?_
      unfold dX
      rw [stA_self]
      exact agr.refl.w (a := 2075) (fun k q => y1 k (by unfold nY at q; omega))
    · show stA τ.1 2075 g'' 2075 28 = _; rw [stA_eq]; exact y2
    · show stA τ.1 2075 g'' 2075 29 = _ ∧ 0 ≤ stA τ.1 2075 g'' 2075 37 ∧ stA τ.1 2075 g'' 2075 37 < c0.2; rw [stA_eq, y1 37 (by omega)]; exact ⟨y3, b6⟩
theorem LK_flt {B : δ → Prop} {n' q : Nat} (hn : 1 ≤ n' ∧ n' ≤ 9) (hb : BS c0 σ0 τ0 T n σ τ) {x : XV} (hx : x = (0, (n' : Int), (q : Int))) {g : Unit → St → Option (δ × St)} {P : γ → δ → St → St → Prop} (ft : FTw c0 B (g ())) : LK c0 σ0 τ0 B (thw x) (bd (F_X15_fail (n' : Int) (q : Int)) g) σ τ P := LK_fault hn hb.2.2.2.1 hb.2.2.2.2.1 hb.2.2.1 hb.2.2.2.2.2 hx ft
/-- a look -/
theorem LK_look {B' : δ → Prop} {f' : Int → St → Option ((γ ⊕ XV) × St)} {g' : Int → St → Option (δ × St)} {P : γ → δ → St → St → Prop} (hb : BS c0 σ0 τ0 T n σ τ) (hk : TK T n σ τ p) (hS : StT R) (hR : R σ τ) (ft : FTw c0 B' (g' (-1))) (go : ∀ q σ' τ', p ≤ q → agr kX σ σ' → agr kY τ τ' → BS c0 σ0 τ0 T n σ' τ' → R σ' τ' → TKp T n σ' τ' q → tkK T n q ∈ KS → LK c0 σ0 τ0 B' (f' (tkK T n q)) (g' (km (tkK T n q))) σ' τ' P) : LK c0 σ0 τ0 B' (bdE F_X1_look f') (bd F_X15_look g') σ τ P := by
  refine LK_bd (B := fun q : Int => q = -1) ?_ (fun q hq => by rw [hq]; exact ft)
  rcases hk with hk | hk
  · exact look_fresh hb hk (fun σ' τ' e e' h' => go _ σ' τ' (by unfold tkQ; omega) e e' (hb.fr e e') (hS _ _ _ _ e e' hR) h' (tkK_in h'.2.1))
  · have g0 := go p σ τ (Nat.le_refl p) agr.refl agr.refl hb hR hk (tkK_in hk.2.1)
    obtain ⟨h1, h2, ⟨k1, k2, k3, k4, k5⟩, t1, t2, t3, t4, t5, t6⟩ := hk
    unfold LK
    rw [F_X1_look, wpE_bd, wp_gI, k1, wpE_ifn (by decide), X1_look_11, wpE_bd, wp_gI, k2, wpE_lE, wp_rt, F_X15_look, wp_bd, wp_gI, hb.2.2.1, wp_ifp (by decide), wp_bd, wp_gI, t1, wp_ifn (by decide), wp_bd, wp_gI, t2, wp_rt]
    exact g0
/-- the token at hand is passed -/
theorem pass_l (hb : BS c0 σ0 τ0 T n σ τ) (hk : TKp T n σ τ p) (h0 : tkK T n p ≠ 0) {Q : Unit → St → Prop} (go : ∀ σ', agr kX σ σ' → (σ'.1 2 4 = 0 ∧ σ'.1 2 3 = ((p + tkL T n p : Nat) : Int)) → σ'.1 2 6 = (p : Int) → Q () σ') : wp F_X1_pass σ Q := by
  obtain ⟨h1, h2, ⟨k1, k2, k3, k4, k5⟩, _⟩ := hk
  have hl := tkL_r h1 h0 h2
  have hn := hb.1.1
  rw [F_X1_pass, wp_bd, wp_gI, k3, wp_bd, wp_gI, k4, wp_bd, wp_pI, wp_bd, c_pZ (by decide) (by decide), wp_rt, w32_i (by omega) (by omega)]
  dsimp only
  rw [stA_eq, stA_stA]
  refine go _ (agr.refl.w (a := 2) (fun k q => ?_)) ⟨?_, ?_⟩ ?_
  · unfold kX at q; rw [ups_ne (by omega), ups_ne (by omega)]
  · dsimp only; rw [stA_eq, ups_eq]
  · dsimp only; rw [stA_eq, ups_ne (by decide), ups_eq]; omega
  · dsimp only; rw [stA_eq, ups_ne (by decide), ups_ne (by decide)]; exact k3
theorem take_r (hk : TKp T n σ τ p) {Q : Unit → St → Prop} (go : ∀ τ', agr kY τ τ' → (τ'.1 2075 31 = 0 ∧ τ'.1 2075 30 = ((p + tkL T n p : Nat) : Int)) → (τ'.1 2075 33 = (p : Int) ∧ τ'.1 2075 32 = km (tkK T n p)) → Q () τ') : wp F_X15_take τ Q := by
  obtain ⟨h1, h2, _, t1, t2, t3, t4, t5, t6⟩ := hk
  rw [F_X15_take, wp_bd, c_pZ (by decide) (by decide), wp_rt]
  refine go _ (agr.refl.w (a := 2075) (fun k q => ?_)) ⟨?_, ?_⟩ ⟨?_, ?_⟩
  · unfold kY at q; rw [ups_ne (by omega)]
  · dsimp only; rw [stA_eq, ups_eq]
  · dsimp only; rw [stA_eq, ups_ne (by decide)]; exact t4
  · dsimp only; rw [stA_eq, ups_ne (by decide)]; exact t3
  · dsimp only; rw [stA_eq, ups_ne (by decide)]; exact t2
end
