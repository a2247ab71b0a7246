set_option maxRecDepth 100000
set_option maxHeartbeats 400000
/-! ===== read: whens, what they add ===== -/
section
variable {R R' : RW} {n n' : Nat} {x y : Int}
/-- what is later and elsewhere does not matter to a context -/
theorem ALd_ctx {a0 : Int} (hnn : n ≤ n') (hA : ∀ k : Nat, k < n → a0 < (k : Int) → (rTh R' k = rTh R k ∧ rPo R' k = rPo R k) ∧ (rAr R' k = rAr R k ∧ rEl R' k = rEl R k) ∧ rHe R' k = rHe R k) (hord : ∀ k, k < n → rAr R k < (k : Int)) (hord' : ∀ k, k < n' → rAr R' k < (k : Int)) (hnew : ∀ k, n ≤ k → k < n' → rAr R' k ≤ a0 ∨ (n : Int) ≤ rAr R' k) : ∀ d a e, a0 < a → a < (n : Int) → (ALd R' n' x y d a e ↔ ALd R n x y d a e) := by
  intro d
  induction d with
  | zero => intro a e _ _; exact Iff.rfl
  | succ d ih =>
    intro a e h1 h2
    constructor
    · rintro ⟨k, k1, ⟨k2, k3⟩, k4⟩
      have ho' := hord' k k1
      have kn : k < n := by
        rcases Nat.lt_or_ge k n with c | c
        · exact c
        · rcases hnew k c k1 with w | w <;> omega
      obtain ⟨⟨e1, e2⟩, ⟨e3, e4⟩, e5⟩ := hA k kn (by omega)
      rw [e3] at k2
      rw [e4] at k3
      rw [e1, e2, e5] at k4
      exact ⟨k, kn, ⟨k2, k3⟩, k4.imp id (fun ⟨w1, w2, w3, w4⟩ => ⟨w1, w2, (ih _ _ (by omega) (by omega)).mp w3, (ih _ _ (by omega) (by omega)).mp w4⟩)⟩
    · rintro ⟨k, kn, ⟨k2, k3⟩, k4⟩
      have ho := hord k kn
      obtain ⟨⟨e1, e2⟩, ⟨e3, e4⟩, e5⟩ := hA k kn (by omega)
      refine ⟨k, by omega, ⟨by rw [e3]; exact k2, by rw [e4]; exact k3⟩, ?_⟩
      rw [e1, e2, e5]
      exact k4.imp id (fun ⟨w1, w2, w3, w4⟩ => ⟨w1, w2, (ih _ _ (by omega) (by omega)).mpr w3, (ih _ _ (by omega) (by omega)).mpr w4⟩)
theorem AL_ctx {a e : Int} (hnn : n ≤ n') (hA : ∀ k : Nat, k < n → a < (k : Int) → (rTh R' k = rTh R k ∧ rPo R' k = rPo R k) ∧ (rAr R' k = rAr R k ∧ rEl R' k = rEl R k) ∧ rHe R' k = rHe R k) (hord : ∀ k, k < n → rAr R k < (k : Int)) (hord' : ∀ k, k < n' → rAr R' k < (k : Int)) (hnew : ∀ k, n ≤ k → k < n' → ¬ (rAr R' k = a ∧ rEl R' k = e) ∧ (rAr R' k ≤ a ∨ (n : Int) ≤ rAr R' k)) : AL R' n' x y a e ↔ AL R n x y a e := by
  have ext : ∀ k, k < n → a < (k : Int) → (gives R' n' x y k ↔ gives R n x y k) := fun k kn kr => by
    obtain ⟨⟨e1, e2⟩, ⟨e3, e4⟩, e5⟩ := hA k kn kr
    have ex : ∀ e', AL R' n' x y (k : Int) e' ↔ AL R n x y (k : Int) e' := fun e' =>
      ⟨fun ⟨d, h⟩ => ⟨d, (ALd_ctx hnn hA hord hord' (fun k h1 h2 => (hnew k h1 h2).2) d _ _ kr (by omega)).mp h⟩, fun ⟨d, h⟩ => ⟨d, (ALd_ctx hnn hA hord hord' (fun k h1 h2 => (hnew k h1 h2).2) d _ _ kr (by omega)).mpr h⟩⟩
    unfold gives
    rw [e1, e2, e5, ex, ex]
  rw [AL_iff, AL_iff]
  constructor
  · rintro ⟨k, k1, ⟨k2, k3⟩, k4⟩
    have ho' := hord' k k1
    rcases Nat.lt_or_ge k n with c | c
    · obtain ⟨⟨e1, e2⟩, ⟨e3, e4⟩, e5⟩ := hA k c (by omega)
      refine ⟨k, c, ⟨by rw [← e3]; exact k2, by rw [← e4]; exact k3⟩, (ext k c (by omega)).mp k4⟩
    · exact absurd ⟨k2, k3⟩ (hnew k c k1).1
  · rintro ⟨k, c, ⟨k2, k3⟩, k4⟩
    have ho := hord k c
    obtain ⟨⟨e1, e2⟩, ⟨e3, e4⟩, e5⟩ := hA k c (by omega)
    exact ⟨k, by omega, ⟨by rw [e3]; exact k2, by rw [e4]; exact k3⟩, (ext k c (by omega)).mpr k4⟩
/-- what is driven is the target of a statement -/
theorem ALd_th : ∀ d a e, ALd R n x y d a e → ∃ k, k < n ∧ 0 ≤ rTh R k ∧ rTh R k = x ∧ rPo R k = y
  | 0, _, _, h => h.elim
  | d + 1, a, e, ⟨k, h1, h2, h3⟩ => by
    rcases h3 with w | ⟨w1, w2, w3, w4⟩
    · exact ⟨k, h1, w⟩
    · exact ALd_th d _ _ w3
end
section
variable {k t : Nat} {kd wd pt : Nat → Nat} {Mt : Nat → Nat} {Mk Mw : Nat → Nat → Nat}
theorem AL_VT {G : NG} {N nC nW nS p : Nat} {H : SG} {σ τ : St} {x y a e : Int} (h : SR t kd wd pt Mt Mk Mw G N nC nW nS p H σ τ) (hA : AL (rwT τ) nS x y a e) : VT t kd pt Mt x y := by
  obtain ⟨d, hd⟩ := hA
  obtain ⟨k, k1, k2, k3, k4⟩ := ALd_th d a e hd
  rcases (h.2.2.2.2 k k1).2 with ⟨c, c1, c2⟩ | w
  · obtain ⟨a1, ⟨a2, a3, a4, a5⟩, ⟨u, a6, a7, i, b1, b2, b3, b4⟩, a9, a10⟩ := h.2.2.1 c c1
    rw [c2] at a2 a3
    have ex : x = (i : Int) := by rw [← k3, ← b1]; exact a2
    have ey : y = σ.1 20 c := by rw [← k4]; exact a3
    refine ⟨i, ex, b2, ?_⟩
    rcases b4 with ⟨w1, w2, w3, w4, w5⟩ | ⟨a', w1, w2, w3, w4, w5⟩ | ⟨m, w1, w2, w3, w4, w5⟩
    · exact Or.inl ⟨by rw [ey]; exact w1, by omega⟩
    · exact Or.inl ⟨by rw [ey]; exact w1, by omega⟩
    · exact Or.inr ⟨m, by rw [ey]; exact w1, w3, w4⟩
  · have : rTh (rwT τ) k = -1 := w
    omega
/-- a when comes in: one more record of the component; in the twin one more statement, or none (an else) -/
theorem SR_addW {G G' : NG} {N M nC nW nS nS' p p' : Nat} {H : SG} {σ τ σ' τ' : St} {Lc : List (Nat × Bool)} (h : SR t kd wd pt Mt Mk Mw G N nC nW nS p H σ τ) (hN : N ≤ M) (hG : ∀ i, i < N → gAt G G' i) (hp : p + 3 ≤ p') (X0 : σ'.1 5 22 = σ.1 5 22 ∧ σ'.1 5 27 = ((nW + 1 : Nat) : Int)) (X1 : ∀ x, 19 ≤ x → x ≤ 25 → σ'.1 x = σ.1 x) (XW : ∀ x k, 26 ≤ x → x ≤ 29 → k < nW → σ'.1 x k = σ.1 x k) (Y0 : τ'.1 2075 46 = (nS' : Int) ∧ τ'.1 2075 47 = τ.1 2075 47) (eT : ∀ x k, 2107 ≤ x → x ≤ 2112 → k < nS → τ'.1 x k = τ.1 x k) (hnew : nS' = nS ∨ (nS' = nS + 1 ∧ τ'.1 2107 nS = -1 ∧ crT (τ'.1 2110) (τ'.1 2111) (τ'.1 2112) nS (τ'.1 2111 nS) (τ'.1 2112 nS) Lc ∧ Lc.length ≤ 20)) {f u : Nat} (n26 : σ'.1 26 nW = (u : Int)) (n27 : σ'.1 27 nW = (f : Int)) (hf : (N ≤ f ∧ f ≤ u ∧ u < M) ∨ ∃ k0, k0 < nW ∧ σ.1 26 k0 = (u : Int) ∧ σ.1 27 k0 = (f : Int)) (hS : nS' ≤ wS G' M) (h13 : ∀ k, k < nS' → τ'.1 2113 k = 0 ∨ τ'.1 2113 k = 1) : SR t kd wd pt Mt Mk Mw G' M nC (nW + 1) nS' p' (H.1, ups H.2 nS Lc) σ' τ' := by
  obtain ⟨⟨⟨h1, h2⟩, h3, h4⟩, ⟨h5, h6, hSO⟩, h7, h8, h9⟩ := h
  have hle : nS ≤ nS' ∧ nS' ≤ nS + 1 := by rcases hnew with w | ⟨w, _⟩ <;> omega
  refine ⟨⟨⟨X0.1.trans h1, X0.2⟩, Y0.1, Y0.2.trans h4⟩, ⟨by omega, by omega, hSO.addW hN hG (fun x c q1 q2 _ => by rw [X1 x (by omega) (by omega)]) (fun x k q1 q2 q3 => XW x k q1 (by omega) q3) n26 n27 hf hS h13⟩, fun c hc => ?_, h8, fun k hk => ?_⟩
  · have hlt := h7 c hc
    have hst := hlt.1
    exact hlt.mono hN (Nat.le_succ _) hle.1 hG rfl (by dsimp only; rw [ups_ne (by omega)]) (fun x q1 q2 => by rw [X1 x q1 q2]) (fun x k q1 q2 q3 => XW x k q1 q2 q3) (fun x q1 q2 => eT x _ q1 (by omega) hst)
  · by_cases c : k = nS
    · subst c
      rcases hnew with w | ⟨_, w1, w2, w3⟩
      · omega
      · refine ⟨⟨?_, ?_⟩, Or.inr w1⟩
        · dsimp only; rw [ups_eq]; exact w2
        · dsimp only; rw [ups_eq]; exact w3
    · obtain ⟨q1, q2⟩ := h9 k (by omega)
      refine ⟨q1.mono (by dsimp only; rw [ups_ne c]) (fun x k' w1 w2 w3 => eT x k' (by omega) w2 (by omega)) (eT 2111 k (by decide) (by decide) (by omega)) (eT 2112 k (by decide) (by decide) (by omega)), ?_⟩
      rw [eT 2107 k (by decide) (by decide) (by omega)]
      exact q2
end
