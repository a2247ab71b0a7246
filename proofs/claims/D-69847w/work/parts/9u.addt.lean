set_option maxRecDepth 100000
set_option maxHeartbeats 400000
/-! ===== read: one more thing ===== -/
/-- what a new thing changes: in the component, in the twin -/
def nTX (t a i : Nat) : Prop := ¬ ((a = 2 ∧ ((3 ≤ i ∧ i ≤ 8) ∨ i = 15)) ∨ (a = 5 ∧ i = 7) ∨ (a = 7 ∧ 10 * t ≤ i ∧ i < 10 * t + 10) ∨ (8 ≤ a ∧ a ≤ 13 ∧ i = t) ∨ (a = 31 ∧ i = t))
def nTh (k t a i : Nat) : Prop := ¬ ((a = 2075 ∧ 30 ≤ i ∧ i ≤ 35) ∨ (a = 2077 ∧ i = 48 + k) ∨ (2082 ≤ a ∧ a ≤ 2086 ∧ i = 40 * (48 + k) + t) ∨ (a = 2087 ∧ 10 * (40 * (48 + k) + t) ≤ i ∧ i < 10 * (40 * (48 + k) + t) + 10))
/-- words and begins of things, the place behind all -/
def TW (k t : Nat) (kd wd ws bg : Nat → Nat) (σ τ : St) : Prop := σ.1 2 15 ≤ ((40 * t : Nat) : Int) ∧ ∀ i, i < t → ((σ.1 11 i = (ws i : Int) ∧ τ.1 2084 (40 * (48 + k) + i) = (ws i : Int)) ∧ 1 ≤ ws i ∧ ws i ≤ 64 ∧ (kd i ≠ 4 → ws i = 1)) ∧ (σ.1 12 i = sg (bg i) ∧ (τ.2.1 2085 (40 * (48 + k) + i)).toInt = (bg i : Int)) ∧ (kd i = 3 → bg i < 2 ^ wd i) ∧ (kd i ≠ 3 → bg i = 0)
/-- the new thing stands on both sides -/
def NT (T : Nat → Int) (q L k t K w P s b : Nat) (σ σ' τ' : St) : Prop :=
  ((1 ≤ L ∧ L ≤ 10 ∧ ∀ j, j < L → pnz (T (q + j))) ∧ (σ'.1 5 7 = ((t + 1 : Nat) : Int) ∧ σ'.1 8 t = (L : Int) ∧ σ'.1 9 t = (K : Int) ∧ σ'.1 10 t = (w : Int) ∧ σ'.1 11 t = (s : Int) ∧ σ'.1 12 t = sg b ∧ ∀ j, j < L → σ'.1 7 (10 * t + j) = T (q + j)) ∧ (σ'.1 31 t = σ.1 2 15)) ∧
  (τ'.1 2077 (48 + k) = ((t + 1 : Nat) : Int) ∧ τ'.1 2082 (40 * (48 + k) + t) = (K : Int) ∧ τ'.1 2083 (40 * (48 + k) + t) = (w : Int) ∧ τ'.1 2084 (40 * (48 + k) + t) = (s : Int) ∧ (τ'.2.1 2085 (40 * (48 + k) + t)).toInt = (b : Int) ∧ ∀ j, j < 10 → τ'.1 2087 (10 * (40 * (48 + k) + t) + j) = if j < L then T (q + j) else 0) ∧
  (K ≤ 5 ∧ (K ≠ 5 → 1 ≤ w ∧ w ≤ 32) ∧ (1 ≤ s ∧ s ≤ 64 ∧ (K ≠ 4 → s = 1)) ∧ (K = 3 → b < 2 ^ w) ∧ (K ≠ 3 → b = 0))
section
variable {k t : Nat} {kd wd pt ws bg : Nat → Nat} {Mt : Nat → Nat} {Mk Mw : Nat → Nat → Nat}
variable {c0 : Nat × Int} {σ0 τ0 : St} {T : Nat → Int} {n : Nat} {G : NG} {N nC nW nS p p' : Nat} {H : SG} {σ τ σ' τ' : St} {q L K w P s b : Nat}
theorem nodW.imp {RD RD' : Nat → Int → Nat → Prop} {WD WD' : Nat → Nat → Prop} {i : Nat} (h : nodW RD WD G i) (h1 : ∀ i b w, RD i b w → RD' i b w) (h2 : ∀ i w, WD i w → WD' i w) : nodW RD' WD' G i := by
  obtain ⟨a1, a2, a3, a4, a5, a6, a7⟩ := h
  exact ⟨a1, a2, fun e => (a3 e).imp id (fun ⟨t, u, v⟩ => ⟨t, u, h1 _ _ _ v⟩), fun e => (a4 e).imp (fun ⟨t, u, v⟩ => ⟨t, u, h2 _ _ v⟩) id, a5, a6, a7⟩
theorem RDk.add {i w' : Nat} {b' : Int} (h : RDk t kd wd pt Mt Mk Mw i b' w') : RDk (t + 1) (ups kd t K) (ups wd t w) (ups pt t P) Mt Mk Mw i b' w' := by
  obtain ⟨h1, h2⟩ := h
  unfold RDk
  rw [ups_ne (by omega), ups_ne (by omega), ups_ne (by omega)]
  exact ⟨by omega, h2⟩
theorem WDk.add {i w' : Nat} (h : WDk t kd wd i w') : WDk (t + 1) (ups kd t K) (ups wd t w) i w' := by
  obtain ⟨h1, h2⟩ := h
  unfold WDk
  rw [ups_ne (by omega), ups_ne (by omega)]
  exact ⟨by omega, h2⟩
theorem CW.add {x y z : Int} {u : Nat} (h : CW t kd wd pt Mt Mk Mw N G x y z u) : CW (t + 1) (ups kd t K) (ups wd t w) (ups pt t P) Mt Mk Mw N G x y z u := by
  obtain ⟨i, h1, h2, h3, h4⟩ := h
  refine ⟨i, h1, by omega, h3, ?_⟩
  rw [ups_ne (by omega), ups_ne (by omega), ups_ne (by omega)]
  exact h4
theorem VE.add (h : VE k t kd wd pt Mt Mk Mw σ τ) (ht : t < 40) (eX : agr (nTX t) σ σ') (eY : agr (nTh k t) τ τ') (hn : NT T q L k t K w P s b σ σ' τ') (h5 : K = 5 → P < k ∧ σ'.1 13 t = (P : Int) ∧ τ'.1 2086 (40 * (48 + k) + t) = (P : Int)) : VE k (t + 1) (ups kd t K) (ups wd t w) (ups pt t P) Mt Mk Mw σ' τ' := by
  obtain ⟨a1, ⟨a2, a3⟩, ⟨a4, a5⟩, a6, a7⟩ := h
  obtain ⟨⟨⟨n1, n2, n3⟩, ⟨n4, n5, n6, n7, n8, n9, n10⟩, n11⟩, ⟨m1, m2, m3, m4, m5, m6⟩, r1, r2, r3, r4, r5⟩ := hn
  have xX : ∀ a i, (7 < a ∧ a ≤ 13 ∧ i ≠ t) → σ'.1 a i = σ.1 a i := fun a i h => (eX a i (by unfold nTX; omega)).1
  have xN : ∀ i, i < 10 * t → σ'.1 7 i = σ.1 7 i := fun i h => (eX 7 i (by unfold nTX; omega)).1
  have yX : ∀ a i, (2082 ≤ a ∧ a ≤ 2086 ∧ i ≠ 40 * (48 + k) + t) → τ'.1 a i = τ.1 a i := fun a i h => (eY a i (by unfold nTh; omega)).1
  have yN : ∀ i, i < 10 * (40 * (48 + k) + t) → τ'.1 2087 i = τ.1 2087 i := fun i h => (eY 2087 i (by unfold nTh; omega)).1
  refine ⟨a1, ⟨by rw [(eX 2 11 (by unfold nTX; omega)).1]; exact a2, by rw [(eY 2075 37 (by unfold nTh; omega)).1]; exact a3⟩, ⟨⟨n4, m1, by omega⟩, fun i hi => ?_⟩, fun i hi => ?_, fun m hm => ?_⟩
  · show (∃ L : Nat, 1 ≤ L ∧ L ≤ 10 ∧ σ'.1 8 i = (L : Int) ∧ ∀ j, j < 10 → τ'.1 2087 (10 * (40 * (48 + k) + i) + j) = (if j < L then σ'.1 7 (10 * i + j) else 0) ∧ (j < L → pnz (σ'.1 7 (10 * i + j)))) ∧ (σ'.1 9 i = τ'.1 2082 (40 * (48 + k) + i) ∧ 0 ≤ σ'.1 9 i ∧ σ'.1 9 i ≤ 5) ∧ (σ'.1 9 i ≠ 5 → σ'.1 10 i = τ'.1 2083 (40 * (48 + k) + i) ∧ 1 ≤ σ'.1 10 i ∧ σ'.1 10 i ≤ 32)
    by_cases e : i = t
    · subst e
      refine ⟨⟨L, n1, n2, n5, fun j hj => ⟨?_, fun z => ?_⟩⟩, ⟨by rw [n6, m2], by rw [n6]; omega, by rw [n6]; omega⟩, fun z => ?_⟩
      · rw [m6 j hj]
        by_cases c : j < L
        · rw [if_pos c, if_pos c, n10 j c]
        · rw [if_neg c, if_neg c]
      · rw [n10 j z]; exact n3 j z
      · rw [n6] at z
        rw [n7, m3]
        have := r2 (by omega)
        exact ⟨rfl, by omega, by omega⟩
    · have old := a5 i (by omega)
      rw [xX 8 i (by omega), xX 9 i (by omega), xX 10 i (by omega), yX 2082 _ (by omega), yX 2083 _ (by omega)]
      obtain ⟨⟨L', l1, l2, l3, l4⟩, o2⟩ := old
      refine ⟨⟨L', l1, l2, l3, fun j hj => ?_⟩, o2⟩
      rw [yN _ (by omega), xN _ (by omega)]
      exact l4 j hj
  · by_cases e : i = t
    · subst e
      rw [ups_eq, ups_eq, ups_eq]
      exact ⟨⟨n6, fun _ => n7⟩, h5⟩
    · rw [ups_ne e, ups_ne e, ups_ne e, xX 9 i (by omega), xX 10 i (by omega), xX 13 i (by omega), yX 2086 _ (by omega)]
      exact a6 i (by omega)
  · obtain ⟨q1, ⟨q2, q3⟩, q4⟩ := a7 m hm
    have mX : ∀ a i, 32 ≤ a → σ'.1 a i = σ.1 a i := fun a i h => (eX a i (by unfold nTX; omega)).1
    refine ⟨by rw [(eX 1 m (by unfold nTX; omega)).2.2]; exact q1, ⟨⟨by rw [mX _ _ (by omega)]; exact q2.1, by rw [(eY 2077 (48 + m) (by unfold nTh; omega)).1]; exact q2.2.1, q2.2.2⟩, fun i hi => ?_⟩, fun i hi => by rw [mX _ _ (by omega), mX _ _ (by omega)]; exact q4 i hi⟩
    have hm40 := q2.2.2
    obtain ⟨⟨L', l1, l2, l3, l4⟩, o2⟩ := q3 i hi
    rw [mX (110 + 25 * m + 4) i (by omega), mX (110 + 25 * m + 5) i (by omega), mX (110 + 25 * m + 3) i (by omega), yX 2082 _ (by omega), yX 2083 _ (by omega)]
    refine ⟨⟨L', l1, l2, l3, fun j hj => ?_⟩, o2⟩
    rw [yN _ (by omega), mX (110 + 25 * m + 2) _ (by omega)]
    exact l4 j hj
theorem SL.add (h : SL t kd pt Mt σ) (h15 : σ.1 2 15 ≤ ((40 * t : Nat) : Int)) (ht : t < 40) (e31 : ∀ i, i ≠ t → σ'.1 31 i = σ.1 31 i) (n31 : σ'.1 31 t = σ.1 2 15) (hK : (K ≠ 5 ∧ σ'.1 2 15 = σ.1 2 15 + 1) ∨ (K = 5 ∧ σ'.1 2 15 = σ.1 2 15 + (Mt P : Int) ∧ Mt P ≤ 40)) : SL (t + 1) (ups kd t K) (ups pt t P) Mt σ' ∧ σ'.1 2 15 ≤ ((40 * (t + 1) : Nat) : Int) := by
  obtain ⟨⟨h1, h2⟩, h3, h4⟩ := h
  have hle : σ.1 2 15 ≤ σ'.1 2 15 ∧ σ'.1 2 15 ≤ ((40 * (t + 1) : Nat) : Int) := by rcases hK with w | w <;> omega
  -- an old place lies below, the new one not
  have old : ∀ x y : Int, VT t kd pt Mt x y → σ'.1 31 x.toNat = σ.1 31 x.toNat ∧ σ.1 31 x.toNat + max 0 y < σ.1 2 15 := by
    rintro x y ⟨i, rfl, hi, hy⟩
    rw [tn, e31 i (by omega)]
    obtain ⟨a1, a2, a3⟩ := h3 i hi
    refine ⟨rfl, ?_⟩
    rcases hy with ⟨rfl, w⟩ | ⟨m, rfl, w1, w2⟩
    · have := a2 w; omega
    · have := a3 w1 m w2; omega
  have spl : ∀ x y : Int, VT (t + 1) (ups kd t K) (ups pt t P) Mt x y → VT t kd pt Mt x y ∨ (x = (t : Int) ∧ (y = -1 ∧ K ≠ 5 ∨ K = 5 ∧ 0 ≤ y)) := by
    rintro x y ⟨i, rfl, hi, hy⟩
    by_cases e : i = t
    · subst e
      rw [ups_eq, ups_eq] at hy
      rcases hy with ⟨w1, w2⟩ | ⟨m, w1, w2, w3⟩
      · exact Or.inr ⟨rfl, Or.inl ⟨w1, w2⟩⟩
      · exact Or.inr ⟨rfl, Or.inr ⟨w2, by omega⟩⟩
    · rw [ups_ne e, ups_ne e] at hy
      exact Or.inl ⟨i, rfl, by omega, hy⟩
  refine ⟨⟨⟨by omega, by omega⟩, fun i hi => ?_, fun x y x' y' hv hv' he => ?_⟩, hle.2⟩
  · by_cases e : i = t
    · subst e
      rw [ups_eq, ups_eq, n31]
      refine ⟨h1, fun w => ?_, fun w m hm => ?_⟩
      · rcases hK with ⟨_, z⟩ | ⟨z, _⟩ <;> omega
      · rcases hK with ⟨z, _⟩ | ⟨_, z, _⟩ <;> omega
    · rw [ups_ne e, ups_ne e, e31 i e]
      obtain ⟨a1, a2, a3⟩ := h3 i (by omega)
      exact ⟨a1, fun w => by have := a2 w; omega, fun w m hm => by have := a3 w m hm; omega⟩
  · rcases spl x y hv with w | ⟨w, wy⟩ <;> rcases spl x' y' hv' with w' | ⟨w', wy'⟩
    · rw [(old x y w).1, (old x' y' w').1] at he
      exact h4 x y x' y' w w' he
    · exfalso
      have a1 := old x y w
      rw [a1.1, w', tn, n31] at he
      omega
    · exfalso
      have a1 := old x' y' w'
      rw [a1.1, w, tn, n31] at he
      omega
    · rw [w, w'] at he ⊢
      exact ⟨rfl, by omega⟩
theorem SX_add (hs : SX k t kd wd pt Mt Mk Mw c0 σ0 τ0 T n 0 (-1) 0 [] G N nC nW nS p H σ τ) (htw : TW k t kd wd ws bg σ τ) (hp : p ≤ p') (ht : t < 40) (hb : BS c0 σ0 τ0 T n σ' τ') (eX : agr (nTX t) σ σ') (eY : agr (nTh k t) τ τ') (hn : NT T q L k t K w P s b σ σ' τ') (h5 : K = 5 → P < k ∧ σ'.1 13 t = (P : Int) ∧ τ'.1 2086 (40 * (48 + k) + t) = (P : Int)) (hK : (K ≠ 5 ∧ σ'.1 2 15 = σ.1 2 15 + 1) ∨ (K = 5 ∧ σ'.1 2 15 = σ.1 2 15 + (Mt P : Int) ∧ Mt P ≤ 40)) : SX k (t + 1) (ups kd t K) (ups wd t w) (ups pt t P) Mt Mk Mw c0 σ0 τ0 T n 0 (-1) 0 [] G N nC nW nS p' H σ' τ' ∧ TW k (t + 1) (ups kd t K) (ups wd t w) (ups ws t s) (ups bg t b) σ' τ' := by
  obtain ⟨hb0, hx, hsr, ⟨hcX, hcT, hcL⟩, hSL, hDV⟩ := hs
  obtain ⟨htw0, htw⟩ := htw
  have hv := hx.1.add ht eX eY hn h5
  obtain ⟨x1, ⟨⟨x2, x2'⟩, x3⟩, ⟨ct, x4, x5, x6⟩, ⟨x7, x8, x9⟩, x10⟩ := hx
  have hsL := hSL.add (K := K) (P := P) htw0 ht (fun i hi => (eX 31 i (by unfold nTX; omega)).1) hn.1.2.2 hK
  have rX : ∀ x, 14 ≤ x → x ≤ 30 → σ'.1 x = σ.1 x := fun x q1 q2 => eX.row (fun k => by unfold nTX; omega)
  have rY : ∀ x, 2101 ≤ x → x ≤ 2113 → τ'.1 x = τ.1 x := fun x q1 q2 => eY.row (fun k => by unfold nTh; omega)
  have rL : τ'.2.1 2106 = τ.2.1 2106 := funext fun i => (eY 2106 i (by unfold nTh; omega)).2.1
  have e5 : ∀ i, i ≠ 7 → σ'.1 5 i = σ.1 5 i := fun i hi => (eX 5 i (by unfold nTX; omega)).1
  have e2 : ∀ i, 9 ≤ i → i ≠ 15 → σ'.1 2 i = σ.1 2 i := fun i hi hi' => (eX 2 i (by unfold nTX; omega)).1
  have f5 : ∀ i, 36 ≤ i → τ'.1 2075 i = τ.1 2075 i := fun i hi => (eY 2075 i (by unfold nTh; omega)).1
  have hrw : rwT τ' = rwT τ := by
    unfold rwT
    rw [rY 2107 (by decide) (by decide), rY 2108 (by decide) (by decide), rY 2111 (by decide) (by decide), rY 2112 (by decide) (by decide), rY 2113 (by decide) (by decide)]
  refine ⟨⟨hb, ⟨hv, ⟨⟨by rw [e5 13 (by decide)]; exact x2, by rw [f5 38 (by decide)]; exact x2'⟩, by omega⟩, ⟨ct, by rw [f5 39 (by decide)]; exact x4, by rw [e5 14 (by decide)]; exact x5, by omega, x6.2⟩, ⟨x7, by rw [e2 9 (by decide) (by decide)]; exact x8, by rw [f5 36 (by decide)]; exact x9⟩, fun i hi => ⟨?_, (x10 i hi).2.imp (fun _ _ _ h => h.add) (fun _ _ h => h.add)⟩⟩, ?_, ⟨?_, ?_, hcL⟩, hsL.1, fun z hz => ?_⟩, hsL.2, fun i hi => ?_⟩
  · unfold ndRel
    rw [rX 14 (by decide) (by decide), rX 15 (by decide) (by decide), rX 16 (by decide) (by decide), rX 17 (by decide) (by decide), rX 18 (by decide) (by decide), rY 2105 (by decide) (by decide), rY 2101 (by decide) (by decide), rY 2102 (by decide) (by decide), rY 2103 (by decide) (by decide), rY 2104 (by decide) (by decide), rL]
    exact (x10 i hi).1
  · obtain ⟨⟨⟨r1, r2⟩, r3, r4⟩, ⟨r5, r6, rSO⟩, r7, r8, r9⟩ := hsr
    refine ⟨⟨⟨by rw [e5 22 (by decide)]; exact r1, by rw [e5 27 (by decide)]; exact r2⟩, by rw [f5 46 (by decide)]; exact r3, by rw [f5 47 (by decide)]; exact r4⟩, ⟨r5, by omega, rSO.mono (Nat.le_refl _) (fun _ _ => gAt.refl) (fun x c q1 q2 _ => by rw [rX x (by omega) (by omega)]) (fun x k q1 q2 _ => by rw [rX x (by omega) (by omega)]) (fun k _ => by rw [rY 2113 (by decide) (by decide)])⟩, fun c hc => ?_, r8, fun k' hk' => ⟨(r9 k' hk').1.mono rfl (fun x k2 q1 q2 _ => by rw [rY x (by omega) (by omega)]) (by rw [rY 2111 (by decide) (by decide)]) (by rw [rY 2112 (by decide) (by decide)]), by rw [rY 2107 (by decide) (by decide)]; exact (r9 k' hk').2⟩⟩
    have := (r7 c hc).mono (σ' := σ') (τ' := τ') (H' := H) (Nat.le_refl _) (Nat.le_refl _) (Nat.le_refl _) (fun _ _ => gAt.refl) rfl rfl (fun x q1 q2 => by rw [rX x (by omega) (by omega)]) (fun x k' q1 q2 _ => by rw [rX x (by omega) (by omega)]) (fun x q1 q2 => by rw [rY x (by omega) (by omega)])
    obtain ⟨b1, b2, ⟨u, b3, b4, b5⟩, b6⟩ := this
    exact ⟨b1, b2, ⟨u, b3, b4, b5.add⟩, b6⟩
  · rw [e2 16 (by decide) (by decide)]; exact hcX
  · exact hcT
  · obtain ⟨d1, d2⟩ := hDV z hz
    rw [rX 30 (by decide) (by decide), hrw]
    refine ⟨d1, d2.trans ⟨fun ⟨x, y, h1, h2⟩ => ⟨x, y, ?_, h2⟩, fun ⟨x, y, h1, h2⟩ => ⟨x, y, ?_, h2⟩⟩⟩
    · obtain ⟨i, rfl, hi, -⟩ := AL_VT hsr h2
      rw [tn, (eX 31 i (by unfold nTX; omega)).1]
      rwa [tn] at h1
    · obtain ⟨i, rfl, hi, -⟩ := AL_VT hsr h2
      rw [tn, (eX 31 i (by unfold nTX; omega)).1] at h1
      rwa [tn]
  · obtain ⟨⟨-, ⟨-, -, -, -, n8, n9, -⟩, -⟩, ⟨-, -, -, m4, m5, -⟩, -, -, r3, r4, r5⟩ := hn
    by_cases e : i = t
    · subst e
      rw [ups_eq, ups_eq, ups_eq, ups_eq]
      exact ⟨⟨⟨n8, m4⟩, r3⟩, ⟨n9, m5⟩, r4, r5⟩
    · rw [ups_ne e, ups_ne e, ups_ne e, ups_ne e, (eX 11 i (by unfold nTX; omega)).1, (eX 12 i (by unfold nTX; omega)).1, (eY 2084 _ (by unfold nTh; omega)).1, (eY 2085 _ (by unfold nTh; omega)).2.1]
      exact htw i (by omega)
end
