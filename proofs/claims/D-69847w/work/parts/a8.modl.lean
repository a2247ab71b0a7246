set_option maxRecDepth 100000
set_option maxHeartbeats 400000
/-! ===== read: a module ===== -/
/-- the modules that were read: k of them -/
def RS (k : Nat) (Ms : Nat → ModV) (σ τ : St) : Prop := (∀ m, m < 12 → σ.2.2 1 m = some (110 + 25 * m)) ∧ (∀ m, mdT (Ms m) ≤ 40) ∧ ∀ m, m < k → (modOK Ms m (Ms m) ∧ modX σ (110 + 25 * m) (Ms m) ∧ modM τ (48 + m) (Ms m)) ∧ τ.1 2079 (48 + m) = (mdC (Ms m) : Int) ∧ ∀ j, j < 10 → τ.1 2081 (10 * (48 + m) + j) = if j < mdL (Ms m) then mdmn (Ms m) j else 0
section
variable {k : Nat} {Ms : Nat → ModV} {c0 : Nat × Int} {σ0 τ0 : St} {T : Nat → Int} {n p : Nat} {σ τ σ' τ' σb τb : St} {q : Nat} {α β γ δ : Type}
theorem LK_13 {B : β → Prop} {f : St → Option ((α ⊕ XV) × St)} {g : St → Option (β × St)} {P : α → β → St → St → Prop} (h : LK (k, 12) σ0 τ0 B f g σ τ P) : LK (k, 13) σ0 τ0 B f g σ τ P := by
  unfold LK at h ⊢
  refine wpE_mono h (fun _ _ z => z) (fun x σ' z => wp_mono z (fun q τ' w => ?_))
  obtain ⟨w1, w2, w3, f, p, w4, w5, w6, w7, w8, w9, w10⟩ := w
  have w10' : τ'.1 2075 37 < 12 := w10
  exact ⟨w1, w2, w3, f, p, w4, w5, w6, w7, w8, w9, by show τ'.1 2075 37 < 13; omega⟩
theorem BS_12 (h : BS (k, 13) σ0 τ0 T n σ τ) (h37 : τ.1 2075 37 = (k : Int)) (hk : k < 12) : BS (k, 12) σ0 τ0 T n σ τ := by
  obtain ⟨h1, h2, h3, h4, h5, h6, h7⟩ := h
  exact ⟨h1, h2, h3, h4, h5, h6, by show τ.1 2075 37 < 12; omega⟩
theorem RS.thR (h : RS k Ms σ τ) {m : Nat} (hm : m < k) : thR σ (110 + 25 * m) τ (48 + m) (mdT (Ms m)) := by
  obtain ⟨h1, h2, h3⟩ := h
  obtain ⟨⟨⟨g1, g2, g3, g4⟩, ⟨⟨⟨x1, -⟩, -⟩, x2, -⟩, ⟨y1, -⟩, y2, -⟩, -⟩ := h3 m hm
  refine ⟨⟨x1, y1, h2 m⟩, fun i hi => ?_⟩
  obtain ⟨⟨a1, a2, a3, a4, a5⟩, a6, a7⟩ := x2 i hi
  obtain ⟨⟨b1, b2, b3, b4⟩, b5, b6⟩ := y2 i hi
  obtain ⟨⟨c1, c2, -⟩, c3, c4, c5⟩ := g3 i hi
  refine ⟨⟨mdnl (Ms m) i, c3, c4, a1, fun j hj => ⟨?_, fun z => ?_⟩⟩, ⟨by rw [a2, b1], by rw [a2]; omega, by rw [a2]; omega⟩, fun z => ?_⟩
  · rw [b6 j hj]
    by_cases d : j < mdnl (Ms m) i
    · rw [if_pos d, if_pos d, a7 j d]
    · rw [if_neg d, if_neg d]
  · rw [a7 j z]; exact c5 j z
  · rw [a2] at z
    have := c2 (by omega)
    rw [a3 (by omega), b2 (by omega)]
    exact ⟨rfl, by omega, by omega⟩
theorem RS.mnr (h : RS k Ms σ τ) : MNR k σ τ := by
  intro m hm
  obtain ⟨⟨⟨g1, ⟨l1, l2, l3⟩, g3⟩, ⟨⟨x1, x2⟩, -⟩, -⟩, -, y⟩ := h.2.2 m hm
  refine ⟨mdL (Ms m), l1, l2, x1.2.2.2.2.2.2, fun j hj => ⟨?_, fun z => ?_⟩⟩
  · rw [y j hj]
    by_cases d : j < mdL (Ms m)
    · rw [if_pos d, if_pos d, x2 j d]
    · rw [if_neg d, if_neg d]
  · rw [x2 j z]; exact l3 j z
theorem RS.fr (h : RS k Ms σ τ) (hk : k ≤ 12) (e : ∀ a, 110 ≤ a → a < 110 + 25 * k → σ'.1 a = σ.1 a) (e1 : σ'.2.2 1 = σ.2.2 1) (e' : ∀ m, m < k → agr (stS (48 + m)) τ τ') (f81 : ∀ i, 480 ≤ i → i < 10 * (48 + k) → τ'.1 2081 i = τ.1 2081 i) : RS k Ms σ' τ' := by
  obtain ⟨h1, h2, h3⟩ := h
  refine ⟨fun m hm => by rw [e1]; exact h1 m hm, h2, fun m hm => ?_⟩
  obtain ⟨⟨a1, a2, a3⟩, a4, a5⟩ := h3 m hm
  have := e' m hm
  refine ⟨⟨a1, a2.fr (fun a q1 q2 => e a (by omega) (by omega)), a3.fr a1.1.1 a1.1.2.1 a1.1.2.2.2.2.2 (fun c hc => (a1.2.2.2.2.1 c hc).2.2) this⟩, by rw [(this 2079 (48 + m) (by unfold stS; omega)).1]; exact a4, fun j hj => by rw [f81 _ (by omega) (by omega)]; exact a5 j hj⟩
/-- items up to the brace -/
theorem mloop (hck : c0.1 ≤ k) (hc0 : c0.2 = 12) (hmn : MNR k σb τb) (h40 : ∀ m, mdT (Ms m) ≤ 40) {L : Nat} (hL : 1 ≤ L ∧ L ≤ 10 ∧ ∀ j, j < L → σb.1 6 j ≠ 0) (hL5 : σb.1 5 29 = (L : Int)) (h30 : σb.1 5 30 = 0) {p0 : Nat} : ∀ m f1 f2, m < f1 → m < f2 → ∀ p σ τ, n - p < m → p0 ≤ p → IT k (fun x => mdT (Ms x)) (fun x => mdkd (Ms x)) (fun x => mdwd (Ms x)) c0 σ0 τ0 T n σb τb p σ τ → TK T n σ τ p → LK c0 σ0 τ0 (fun _ : Unit => True) (X1_module_145 f1) (X15_readModule_139 f2) σ τ (fun _ _ σ' τ' => MP k Ms T n σb τb p0 σ' τ') := by
  intro m
  induction m with
  | zero => intro f1 f2 h1 h2 p σ τ hm; omega
  | succ m ih =>
    intro f1 f2 h1 h2 p σ τ hm hp0 hit hk
    obtain ⟨f1', rfl⟩ : ∃ f, f1 = f + 1 := ⟨f1 - 1, by omega⟩
    obtain ⟨f2', rfl⟩ : ∃ f, f2 = f + 1 := ⟨f2 - 1, by omega⟩
    have hpn := hk.le
    have hb : BS c0 σ0 τ0 T n σ τ := by
      obtain ⟨t, kd, wd, pt, ws, bg, G, N, nC, nW, nS, H, h1, h2⟩ := id hit
      exact h1.1
    rw [X1_module_145, X15_readModule_139]
    refine LK_t ?_
    rw [wp_gI, hb.2.2.1, if_pos rfl]
    have ftl : FTw c0 (fun _ : Unit => True) (bd F_X15_look fun v3 => bd (F_X15_item v3) fun _ => X15_readModule_139 f2') := FT_bd FT_look (fun z hz => by
      subst hz
      exact FT_bd (FT_item (by omega) (by decide) (by decide)) (fun _ _ => FT_139 f2' (by omega)))
    refine LK_look (R := fun _ _ => True) hb hk (fun _ _ _ _ _ _ _ => trivial) trivial (by rw [if_neg (by decide)]; exact ftl) (fun q σ1 τ1 hq e1 e2 b1 _ k1 hin => ?_)
    have hit1 := hit.kk hq e1 e2 b1
    by_cases c : tkK T n q = 125
    · rw [if_pos c, if_pos ((km_eq hin (a := 125) (b := 31) (by decide)).mpr c)]
      refine LK_mono (mod_end hck h40 hL hL5 h30 hit1 k1 (Nat.le_refl _) c) (fun _ _ σ' τ' h => ?_)
      obtain ⟨M, p', z1, z2⟩ := h
      exact ⟨M, p', by omega, z2⟩
    · rw [if_neg c, if_neg (fun z => c ((km_eq hin (a := 125) (b := 31) (by decide)).mp z))]
      have eA : (bd F_X15_look fun v3 => bd (F_X15_item v3) fun _ => X15_readModule_139 f2') = bd (bd F_X15_look fun v3 => F_X15_item v3) fun _ => X15_readModule_139 f2' := by rw [bd_as]
      rw [eA]
      refine LK_bd (B := fun _ : Unit => True) (LK_mono (item_LK hck hc0 hmn hit1 (Or.inr k1)) ?_) (fun _ _ => FT_139 f2' (by omega))
      rintro _ _ σ2 τ2 ⟨p2, hp2, hit2, k2⟩
      have := k2.le
      exact ih f1' f2' (by omega) (by omega) p2 σ2 τ2 (by omega) (by omega) hit2 k2
theorem clearX {Q : Unit → St → Prop} : wp (F_X2_clear 5) σ Q = Q () (stA σ.1 5 (ups (ups (ups (ups (ups (ups (σ.1 5) 7 0) 13 0) 14 0) 22 0) 27 0) 30 0), σ.2) := by
  rw [F_X2_clear, wp_bd, wp_pI, wp_bd, wp_pI, wp_bd, wp_pI, wp_bd, wp_pI, wp_bd, wp_pI, wp_bd, wp_pI, wp_rt]
  simp only [stA_eq, stA_stA]
end
