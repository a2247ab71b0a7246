set_option maxRecDepth 100000
set_option maxHeartbeats 400000
/-! ===== read: statements of both sides ===== -/
/-- the target of a connection and its value -/
def CW (t : Nat) (kd wd pt : Nat → Nat) (Mt : Nat → Nat) (Mk Mw : Nat → Nat → Nat) (N : Nat) (G : NG) (x y z : Int) (u : Nat) : Prop := ∃ i : Nat, x = (i : Int) ∧ i < t ∧ u < N ∧ (y = -1 ∧ z = -1 ∧ 1 ≤ kd i ∧ kd i ≤ 3 ∧ gW G u = wd i ∨ (∃ a : Nat, y = -1 ∧ z = (a : Int) ∧ a < N ∧ kd i = 4 ∧ gW G u = wd i) ∨ ∃ m : Nat, y = (m : Int) ∧ z = -1 ∧ kd i = 5 ∧ m < Mt (pt i) ∧ Mk (pt i) m = 0 ∧ gW G u = Mw (pt i) m)
/-- of connections, the statement; of statements, the whens around -/
abbrev SG : Type := (Nat → Nat) × (Nat → List (Nat × Bool))
def rowC (t : Nat) (kd wd pt : Nat → Nat) (Mt : Nat → Nat) (Mk Mw : Nat → Nat → Nat) (G : NG) (N nW nS : Nat) (H : SG) (σ τ : St) (c : Nat) : Prop := H.1 c < nS ∧ (τ.1 2107 (H.1 c) = σ.1 19 c ∧ τ.1 2108 (H.1 c) = σ.1 20 c ∧ τ.1 2109 (H.1 c) = σ.1 21 c ∧ τ.1 2110 (H.1 c) = σ.1 23 c) ∧ (∃ u : Nat, σ.1 23 c = (u : Int) ∧ σ.1 24 c = (gF G u : Int) ∧ CW t kd wd pt Mt Mk Mw N G (σ.1 19 c) (σ.1 20 c) (σ.1 21 c) u) ∧ (∀ a : Nat, σ.1 21 c = (a : Int) → σ.1 22 c = (gF G a : Int)) ∧ crX (σ.1 26) (σ.1 27) (σ.1 28) (σ.1 29) G N nW (σ.1 25 c) (H.2 (H.1 c))
def rowS (H : SG) (τ : St) (k : Nat) : Prop := crT (τ.1 2110) (τ.1 2111) (τ.1 2112) k (τ.1 2111 k) (τ.1 2112 k) (H.2 k) ∧ (H.2 k).length ≤ 20
/-- the nodes of connections and whens lie apart; there are no more statements than weights -/
def SO (σ τ : St) (G : NG) (N nC nW nS : Nat) : Prop := (nS ≤ wS G N ∧ ∀ k, k < nS → τ.1 2113 k = 0 ∨ τ.1 2113 k = 1) ∧ (∀ c, c < nC → (0 ≤ σ.1 22 c ∧ σ.1 22 c ≤ σ.1 24 c ∧ σ.1 24 c ≤ σ.1 23 c ∧ σ.1 23 c < (N : Int)) ∧ (0 ≤ σ.1 21 c → σ.1 22 c ≤ σ.1 21 c ∧ σ.1 21 c < σ.1 24 c)) ∧ (∀ c c', c < c' → c' < nC → σ.1 23 c < σ.1 22 c') ∧ (∀ k, k < nW → 0 ≤ σ.1 27 k ∧ σ.1 27 k ≤ σ.1 26 k ∧ σ.1 26 k < (N : Int)) ∧ (∀ c k, c < nC → k < nW → σ.1 23 c < σ.1 27 k ∨ σ.1 26 k < σ.1 22 c) ∧ ∀ k k', k < k' → k' < nW → σ.1 26 k < σ.1 27 k' ∨ σ.1 26 k' < σ.1 27 k ∨ (σ.1 26 k = σ.1 26 k' ∧ σ.1 27 k = σ.1 27 k')
theorem SO.mono {σ σ' τ τ' : St} {G G' : NG} {N N' nC nW nS : Nat} (h : SO σ τ G N nC nW nS) (hN : N ≤ N') (hG : ∀ i, i < N → gAt G G' i) (eX : ∀ x c, 21 ≤ x → x ≤ 24 → c < nC → σ'.1 x c = σ.1 x c) (eW : ∀ x k, 26 ≤ x → x ≤ 27 → k < nW → σ'.1 x k = σ.1 x k) (eT : ∀ k, k < nS → τ'.1 2113 k = τ.1 2113 k) : SO σ' τ' G' N' nC nW nS := by
  obtain ⟨⟨h1, h13⟩, h2, h3, h4, h5, h6⟩ := h
  refine ⟨⟨?_, fun k hk => by rw [eT k hk]; exact h13 k hk⟩, fun c hc => ?_, fun c c' q1 q2 => ?_, fun k hk => ?_, fun c k q1 q2 => ?_, fun k k' q1 q2 => ?_⟩
  · have := wS_mono (G := G') hN
    have := wS_cong N hG
    omega
  · rw [eX 21 c (by decide) (by decide) hc, eX 22 c (by decide) (by decide) hc, eX 23 c (by decide) (by decide) hc, eX 24 c (by decide) (by decide) hc]
    have := h2 c hc
    exact ⟨by omega, fun z => this.2 z⟩
  · rw [eX 22 c' (by decide) (by decide) q2, eX 23 c (by decide) (by decide) (by omega)]; exact h3 c c' q1 q2
  · rw [eW 26 k (by decide) (by decide) hk, eW 27 k (by decide) (by decide) hk]
    have := h4 k hk
    omega
  · rw [eX 22 c (by decide) (by decide) q1, eX 23 c (by decide) (by decide) q1, eW 26 k (by decide) (by decide) q2, eW 27 k (by decide) (by decide) q2]; exact h5 c k q1 q2
  · rw [eW 26 k (by decide) (by decide) (by omega), eW 27 k (by decide) (by decide) (by omega), eW 26 k' (by decide) (by decide) q2, eW 27 k' (by decide) (by decide) q2]; exact h6 k k' q1 q2
theorem SO.addC {σ σ' τ τ' : St} {G G' : NG} {N M nC nW nS N0 f u : Nat} {z : Int} (h : SO σ τ G N nC nW nS) (hN : N ≤ M) (hG : ∀ i, i < N → gAt G G' i) (X1 : σ'.1 21 = ups (σ.1 21) nC z ∧ σ'.1 22 = ups (σ.1 22) nC (N0 : Int) ∧ σ'.1 23 = ups (σ.1 23) nC (u : Int) ∧ σ'.1 24 = ups (σ.1 24) nC (f : Int)) (eW : ∀ x k, 26 ≤ x → x ≤ 27 → k < nW → σ'.1 x k = σ.1 x k) (eT : τ'.1 2113 = ups (τ.1 2113) nS 0) (hf : N ≤ N0 ∧ N0 ≤ f ∧ f ≤ u ∧ u < M) (hz : 0 ≤ z → (N0 : Int) ≤ z ∧ z < (f : Int)) (hS : nS + 1 ≤ wS G' M) : SO σ' τ' G' M (nC + 1) nW (nS + 1) := by
  obtain ⟨x1, x2, x3, x4⟩ := X1
  have eX : ∀ x c, 21 ≤ x → x ≤ 24 → c < nC → σ'.1 x c = σ.1 x c := by
    intro x c q1 q2 hc
    have : x = 21 ∨ x = 22 ∨ x = 23 ∨ x = 24 := by omega
    rcases this with rfl | rfl | rfl | rfl
    · rw [x1, ups_ne (by omega)]
    · rw [x2, ups_ne (by omega)]
    · rw [x3, ups_ne (by omega)]
    · rw [x4, ups_ne (by omega)]
  have h' : SO σ' τ G' M nC nW nS := h.mono hN hG eX eW (fun _ _ => rfl)
  obtain ⟨⟨-, h13⟩, h2, h3, h4, -, -⟩ := h
  obtain ⟨-, -, k3, k4, k5, k6⟩ := h'
  have n21 : σ'.1 21 nC = z := by rw [x1, ups_eq]
  have n22 : σ'.1 22 nC = (N0 : Int) := by rw [x2, ups_eq]
  have n23 : σ'.1 23 nC = (u : Int) := by rw [x3, ups_eq]
  have n24 : σ'.1 24 nC = (f : Int) := by rw [x4, ups_eq]
  refine ⟨⟨hS, fun k hk => ?_⟩, fun c hc => ?_, fun c c' q1 q2 => ?_, k4, fun c k q1 q2 => ?_, k6⟩
  · rw [eT]
    by_cases e : k = nS
    · subst e; rw [ups_eq]; exact Or.inl rfl
    · rw [ups_ne e]; exact h13 k (by omega)
  · by_cases e : c = nC
    · subst e
      rw [n21, n22, n23, n24]
      exact ⟨by omega, hz⟩
    · rw [eX 21 c (by decide) (by decide) (by omega), eX 22 c (by decide) (by decide) (by omega), eX 23 c (by decide) (by decide) (by omega), eX 24 c (by decide) (by decide) (by omega)]
      have := h2 c (by omega)
      exact ⟨by omega, fun z => this.2 z⟩
  · by_cases e : c' = nC
    · subst e
      rw [n22, eX 23 c (by decide) (by decide) (by omega)]
      have := (h2 c (by omega)).1
      omega
    · exact k3 c c' q1 (by omega)
  · by_cases e : c = nC
    · subst e
      rw [n22, eW 26 k (by decide) (by decide) q2]
      have := h4 k q2
      exact Or.inr (by omega)
    · exact k5 c k (by omega) q2
theorem SO.addW {σ σ' τ τ' : St} {G G' : NG} {N M nC nW nS nS' f u : Nat} (h : SO σ τ G N nC nW nS) (hN : N ≤ M) (hG : ∀ i, i < N → gAt G G' i) (eX : ∀ x c, 21 ≤ x → x ≤ 24 → c < nC → σ'.1 x c = σ.1 x c) (eW : ∀ x k, 26 ≤ x → x ≤ 27 → k < nW → σ'.1 x k = σ.1 x k) (n26 : σ'.1 26 nW = (u : Int)) (n27 : σ'.1 27 nW = (f : Int)) (hf : (N ≤ f ∧ f ≤ u ∧ u < M) ∨ ∃ k0, k0 < nW ∧ σ.1 26 k0 = (u : Int) ∧ σ.1 27 k0 = (f : Int)) (hS : nS' ≤ wS G' M) (h13 : ∀ k, k < nS' → τ'.1 2113 k = 0 ∨ τ'.1 2113 k = 1) : SO σ' τ' G' M nC (nW + 1) nS' := by
  have h' : SO σ' τ G' M nC nW nS := h.mono hN hG eX eW (fun _ _ => rfl)
  obtain ⟨-, h2, h3, h4, h5, h6⟩ := h
  obtain ⟨-, k2, k3, k4, k5, k6⟩ := h'
  refine ⟨⟨hS, h13⟩, k2, k3, fun k hk => ?_, fun c k q1 q2 => ?_, fun k k' q1 q2 => ?_⟩
  · by_cases e : k = nW
    · subst e
      rw [n26, n27]
      rcases hf with w | ⟨k0, w0, w1, w2⟩
      · omega
      · have := h4 k0 w0
        omega
    · exact k4 k (by omega)
  · by_cases e : k = nW
    · subst e
      rw [n26, n27, eX 22 c (by decide) (by decide) q1, eX 23 c (by decide) (by decide) q1]
      rcases hf with w | ⟨k0, w0, w1, w2⟩
      · have := (h2 c q1).1
        omega
      · have := h5 c k0 q1 w0
        rw [w1, w2] at this
        exact this
    · exact k5 c k q1 (by omega)
  · by_cases e : k' = nW
    · subst e
      rw [n26, n27, eW 26 k (by decide) (by decide) q1, eW 27 k (by decide) (by decide) q1]
      rcases hf with w | ⟨k0, w0, w1, w2⟩
      · have := h4 k q1
        omega
      · rw [← w1, ← w2]
        rcases Nat.lt_trichotomy k k0 with c | c | c
        · exact h6 k k0 c w0
        · subst c; exact Or.inr (Or.inr ⟨rfl, rfl⟩)
        · rcases h6 k0 k c q1 with z | z | z
          · exact Or.inr (Or.inl z)
          · exact Or.inl z
          · exact Or.inr (Or.inr ⟨z.1.symm, z.2.symm⟩)
    · exact k6 k k' q1 (by omega)
def SR (t : Nat) (kd wd pt : Nat → Nat) (Mt : Nat → Nat) (Mk Mw : Nat → Nat → Nat) (G : NG) (N nC nW nS p : Nat) (H : SG) (σ τ : St) : Prop := ((σ.1 5 22 = (nC : Int) ∧ σ.1 5 27 = (nW : Int)) ∧ τ.1 2075 46 = (nS : Int) ∧ τ.1 2075 47 = (nC : Int)) ∧ (nS ≤ nC + nW ∧ 3 * (nC + nW) ≤ p ∧ SO σ τ G N nC nW nS) ∧ (∀ c, c < nC → rowC t kd wd pt Mt Mk Mw G N nW nS H σ τ c) ∧ (∀ c c', c < c' → c' < nC → H.1 c < H.1 c') ∧ ∀ k, k < nS → rowS H τ k ∧ ((∃ c, c < nC ∧ H.1 c = k) ∨ τ.1 2107 k = -1)
section
variable {t : Nat} {kd wd pt : Nat → Nat} {Mt : Nat → Nat} {Mk Mw : Nat → Nat → Nat}
theorem CW.mono {N N' : Nat} {G G' : NG} {x y z : Int} {u : Nat} (h : CW t kd wd pt Mt Mk Mw N G x y z u) (hN : N ≤ N') (hG : ∀ i, i < N → gAt G G' i) : CW t kd wd pt Mt Mk Mw N' G' x y z u := by
  obtain ⟨i, h1, h2, h3, h4⟩ := h
  refine ⟨i, h1, h2, by omega, ?_⟩
  rw [(hG u h3).1.2.2]
  exact h4.imp id (Or.imp (fun ⟨a, w1, w2, w3, w4⟩ => ⟨a, w1, w2, by omega, w4⟩) id)
/-- later: more nodes, more whens, more statements -/
theorem rowC.mono {G G' : NG} {N N' nW nW' nS nS' : Nat} {H H' : SG} {σ τ σ' τ' : St} {c : Nat} (h : rowC t kd wd pt Mt Mk Mw G N nW nS H σ τ c) (hN : N ≤ N') (hW : nW ≤ nW') (hS : nS ≤ nS') (hG : ∀ i, i < N → gAt G G' i) (h1 : H'.1 c = H.1 c) (h2 : H'.2 (H.1 c) = H.2 (H.1 c)) (eX : ∀ x, 19 ≤ x → x ≤ 25 → σ'.1 x c = σ.1 x c) (eW : ∀ x k, 26 ≤ x → x ≤ 29 → k < nW → σ'.1 x k = σ.1 x k) (eT : ∀ x, 2107 ≤ x → x ≤ 2110 → τ'.1 x (H.1 c) = τ.1 x (H.1 c)) : rowC t kd wd pt Mt Mk Mw G' N' nW' nS' H' σ' τ' c := by
  obtain ⟨a1, ⟨a2, a3, a4, a5⟩, ⟨u, a6, a7, a8⟩, a9, a10⟩ := h
  have hu : u < N := by obtain ⟨i, b1, b2, b3, b4⟩ := a8; exact b3
  unfold rowC
  rw [h1, h2, eX 19 (by decide) (by decide), eX 20 (by decide) (by decide), eX 21 (by decide) (by decide), eX 22 (by decide) (by decide), eX 23 (by decide) (by decide), eX 24 (by decide) (by decide), eX 25 (by decide) (by decide), eT 2107 (by decide) (by decide), eT 2108 (by decide) (by decide), eT 2109 (by decide) (by decide), eT 2110 (by decide) (by decide)]
  refine ⟨by omega, ⟨a2, a3, a4, a5⟩, ⟨u, a6, by rw [(hG u hu).1.2.1]; exact a7, a8.mono hN hG⟩, fun a ha => ?_, crX.mono hN hW hG (fun k hk => ⟨eW 26 k (by decide) (by decide) hk, eW 27 k (by decide) (by decide) hk, eW 28 k (by decide) (by decide) hk, eW 29 k (by decide) (by decide) hk⟩) _ _ a10⟩
  have haN : a < N := by
    obtain ⟨i, b1, b2, b3, b4⟩ := a8
    rcases b4 with ⟨w1, w2, _⟩ | ⟨a', w1, w2, w3, _⟩ | ⟨m, w1, w2, _⟩ <;> omega
  rw [(hG a haN).1.2.1]
  exact a9 a ha
theorem rowS.mono {H H' : SG} {τ τ' : St} {k : Nat} (h : rowS H τ k) (h2 : H'.2 k = H.2 k) (e : ∀ x k', 2110 ≤ x → x ≤ 2112 → k' < k → τ'.1 x k' = τ.1 x k') (e1 : τ'.1 2111 k = τ.1 2111 k) (e2 : τ'.1 2112 k = τ.1 2112 k) : rowS H' τ' k := by
  unfold rowS
  rw [h2, e1, e2]
  exact ⟨crT.mono _ _ _ _ _ (Nat.le_refl k) (fun k' hk => ⟨e 2110 k' (by decide) (by decide) hk, e 2111 k' (by decide) (by decide) hk, e 2112 k' (by decide) (by decide) hk⟩) h.1, h.2⟩
/-- one more connection -/
theorem SR_addC {G G' : NG} {N M nC nW nS p p' i N0 u : Nat} {H : SG} {σ τ σ' τ' : St} {a e y z : Int} {Lc : List (Nat × Bool)} (h : SR t kd wd pt Mt Mk Mw G N nC nW nS p H σ τ) (hN : N ≤ M) (hG : ∀ i, i < N → gAt G G' i) (hp : p + 3 ≤ p') (X0 : σ'.1 5 22 = ((nC + 1 : Nat) : Int) ∧ σ'.1 5 27 = σ.1 5 27) (XW : ∀ x, 26 ≤ x → x ≤ 29 → σ'.1 x = σ.1 x) (X1 : σ'.1 19 = ups (σ.1 19) nC (i : Int) ∧ σ'.1 20 = ups (σ.1 20) nC y ∧ σ'.1 21 = ups (σ.1 21) nC z ∧ σ'.1 22 = ups (σ.1 22) nC (N0 : Int) ∧ σ'.1 23 = ups (σ.1 23) nC (u : Int) ∧ σ'.1 24 = ups (σ.1 24) nC (gF G' u : Int) ∧ σ'.1 25 = ups (σ.1 25) nC (σ.1 2 16)) (Y0 : τ'.1 2075 46 = ((nS + 1 : Nat) : Int) ∧ τ'.1 2075 47 = ((nC + 1 : Nat) : Int)) (Y1 : τ'.1 2107 = ups (τ.1 2107) nS (i : Int) ∧ τ'.1 2108 = ups (τ.1 2108) nS y ∧ τ'.1 2109 = ups (τ.1 2109) nS z ∧ τ'.1 2110 = ups (τ.1 2110) nS (u : Int) ∧ τ'.1 2111 = ups (τ.1 2111) nS a ∧ τ'.1 2112 = ups (τ.1 2112) nS e) (hu : CW t kd wd pt Mt Mk Mw M G' (i : Int) y z u) (hz : ∀ a : Nat, z = (a : Int) → N0 = gF G' a) (hcX : crX (σ.1 26) (σ.1 27) (σ.1 28) (σ.1 29) G N nW (σ.1 2 16) Lc) (hcT : crT (τ.1 2110) (τ.1 2111) (τ.1 2112) nS a e Lc) (hL : Lc.length ≤ 20) (hf : N ≤ N0 ∧ N0 ≤ gF G' u ∧ gF G' u ≤ u ∧ u < M) (hz' : 0 ≤ z → (N0 : Int) ≤ z ∧ z < (gF G' u : Int)) (hS : nS + 1 ≤ wS G' M) (e13 : τ'.1 2113 = ups (τ.1 2113) nS 0) : SR t kd wd pt Mt Mk Mw G' M (nC + 1) nW (nS + 1) p' (ups H.1 nC nS, ups H.2 nS Lc) σ' τ' := by
  obtain ⟨⟨⟨h1, h2⟩, h3, h4⟩, ⟨h5, h6, hSO⟩, h7, h8, h9⟩ := h
  obtain ⟨x19, x20, x21, x22, x23, x24, x25⟩ := X1
  obtain ⟨t07, t08, t09, t10, t11, t12⟩ := Y1
  have eT : ∀ x k, 2107 ≤ x → x ≤ 2112 → k ≠ nS → τ'.1 x k = τ.1 x k := by
    intro x k q1 q2 hk
    have : x = 2107 ∨ x = 2108 ∨ x = 2109 ∨ x = 2110 ∨ x = 2111 ∨ x = 2112 := by omega
    rcases this with rfl | rfl | rfl | rfl | rfl | rfl
    · rw [t07, ups_ne hk]
    · rw [t08, ups_ne hk]
    · rw [t09, ups_ne hk]
    · rw [t10, ups_ne hk]
    · rw [t11, ups_ne hk]
    · rw [t12, ups_ne hk]
  refine ⟨⟨⟨X0.1, X0.2.trans h2⟩, Y0⟩, ⟨by omega, by omega, hSO.addC hN hG ⟨x21, x22, x23, x24⟩ (fun x k q1 q2 _ => by rw [XW x q1 (by omega)]) e13 hf hz' hS⟩, fun c hc => ?_, fun c c' q1 q2 => ?_, fun k hk => ?_⟩
  · by_cases e : c = nC
    · subst e
      unfold rowC
      dsimp only
      rw [ups_eq, ups_eq, t07, t08, t09, t10, x19, x20, x21, x22, x23, x24, x25]
      simp only [ups_eq]
      refine ⟨by omega, by simp, ⟨u, rfl, rfl, hu⟩, fun a ha => by rw [hz a ha], ?_⟩
      rw [XW 26 (by decide) (by decide), XW 27 (by decide) (by decide), XW 28 (by decide) (by decide), XW 29 (by decide) (by decide)]
      exact crX.mono hN (Nat.le_refl _) hG (fun k hk => ⟨rfl, rfl, rfl, rfl⟩) _ _ hcX
    · have hlt := h7 c (by omega)
      have hst := hlt.1
      refine hlt.mono hN (Nat.le_refl _) (by omega) hG (by dsimp only; rw [ups_ne e]) (by dsimp only; rw [ups_ne (by omega)]) (fun x q1 q2 => ?_) (fun x k q1 q2 _ => by rw [XW x q1 q2]) (fun x q1 q2 => eT x _ q1 (by omega) (by omega))
      have : x = 19 ∨ x = 20 ∨ x = 21 ∨ x = 22 ∨ x = 23 ∨ x = 24 ∨ x = 25 := by omega
      rcases this with rfl | rfl | rfl | rfl | rfl | rfl | rfl
      · rw [x19, ups_ne e]
      · rw [x20, ups_ne e]
      · rw [x21, ups_ne e]
      · rw [x22, ups_ne e]
      · rw [x23, ups_ne e]
      · rw [x24, ups_ne e]
      · rw [x25, ups_ne e]
  · dsimp only
    rw [ups_ne (by omega)]
    by_cases e : c' = nC
    · subst e; rw [ups_eq]; exact (h7 c q1).1
    · rw [ups_ne e]; exact h8 c c' q1 (by omega)
  · by_cases e : k = nS
    · subst e
      refine ⟨⟨?_, ?_⟩, Or.inl ⟨nC, by omega, by dsimp only; rw [ups_eq]⟩⟩
      · dsimp only
        rw [ups_eq, t11, t12, ups_eq, ups_eq]
        exact crT.mono _ _ _ _ _ (Nat.le_refl _) (fun k' hk' => ⟨by rw [t10, ups_ne (by omega)], by rw [ups_ne (by omega)], by rw [ups_ne (by omega)]⟩) hcT
      · dsimp only; rw [ups_eq]; exact hL
    · obtain ⟨q1, q2⟩ := h9 k (by omega)
      refine ⟨q1.mono (by dsimp only; rw [ups_ne e]) (fun x k' w1 w2 w3 => eT x k' (by omega) w2 (by omega)) (eT 2111 k (by decide) (by decide) e) (eT 2112 k (by decide) (by decide) e), ?_⟩
      rcases q2 with ⟨c, w1, w2⟩ | w
      · exact Or.inl ⟨c, by omega, by dsimp only; rw [ups_ne (by omega)]; exact w2⟩
      · exact Or.inr (by rw [eT 2107 k (by decide) (by decide) e]; exact w)
end
