set_option maxRecDepth 100000
set_option maxHeartbeats 400000
/-! ===== read: the value of a module that was read ===== -/
/-- how many expressions stand side by side -/
def bal (G : NG) : Nat → Int
  | 0 => 0
  | i + 1 => bal G i + (if gO G i ≤ 1 then 1 else if gO G i ≤ 8 then 0 else if gO G i = 19 then -2 else -1)
theorem bal_up {G : NG} {i : Nat} : bal G (i + 1) = bal G i + (if gO G i ≤ 1 then 1 else if gO G i ≤ 8 then 0 else if gO G i = 19 then -2 else -1) := rfl
section
variable {RD : Nat → Int → Nat → Prop} {WD : Nat → Nat → Prop} {G : NG} {M : Nat}
theorem bal_F (h : ∀ i, i < M → nodW RD WD G i) : ∀ i, i < M → bal G (i + 1) = bal G (gF G i) + 1 := by
  intro x
  induction x using Nat.strongRecOn with
  | ind x ih =>
    intro hx
    obtain ⟨⟨o1, w1, w2, f1⟩, h2, h3, h4, h5, h6, h7⟩ := h x hx
    rw [bal_up]
    by_cases c0 : gO G x ≤ 1
    · have : gF G x = x := by
        rcases (show gO G x = 0 ∨ gO G x = 1 by omega) with e | e
        · exact (h2 e).1
        · exact (h3 e).1
      rw [if_pos c0, this]
    · rw [if_neg c0]
      by_cases c8 : gO G x ≤ 8
      · have : 0 < x ∧ gF G x = gF G (x - 1) := by
          by_cases c2 : gO G x = 2
          · obtain ⟨_, q1, _, q2⟩ := h4 c2; exact ⟨q1, q2⟩
          · obtain ⟨q1, _, q2, _⟩ := h5 (by omega) c8; exact ⟨q1, q2⟩
        have i1 := ih (x - 1) (by omega) (by omega)
        rw [show x - 1 + 1 = x by omega] at i1
        rw [if_pos c8, this.2, i1]
        omega
      · rw [if_neg c8]
        have fb := (h (x - 1) (by omega)).1.2.2.2
        by_cases c19 : gO G x = 19
        · obtain ⟨a, b, q1, _, q3, q4, _, _, q7, _⟩ := h7 c19
          have fb2 := (h b (by omega)).1.2.2.2
          have i1 := ih (x - 1) (by omega) (by omega)
          rw [show x - 1 + 1 = x by omega, ← q3] at i1
          have i2 := ih b (by omega) (by omega)
          rw [← q4] at i2
          have i3 := ih a (by omega) (by omega)
          rw [if_pos c19, q7]
          omega
        · obtain ⟨q1, _, q3, _, q5, _⟩ := h6 (by omega) c19
          have i1 := ih (x - 1) (by omega) (by omega)
          rw [show x - 1 + 1 = x by omega] at i1
          have i2 := ih (gF G (x - 1) - 1) (by omega) (by omega)
          rw [show gF G (x - 1) - 1 + 1 = gF G (x - 1) by omega] at i2
          rw [if_neg c19, q5]
          omega
theorem bal_0 (h : ∀ i, i < M → nodW RD WD G i) : ∀ N, N ≤ M → 0 ≤ bal G N := by
  intro N
  induction N using Nat.strongRecOn with
  | ind N ih =>
    intro hN
    rcases Nat.eq_zero_or_pos N with e | e
    · subst e; exact Int.le_refl _
    · have h1 := bal_F h (N - 1) (by omega)
      rw [show N - 1 + 1 = N by omega] at h1
      have h2 := (h (N - 1) (by omega)).1.2.2.2
      have h3 := ih (gF G (N - 1)) (by omega) (by omega)
      omega
theorem two_wS (h : ∀ i, i < M → nodW RD WD G i) : M ≤ 2 * wS G M := by
  have key : ∀ N, N ≤ M → (N : Int) + bal G N ≤ 2 * (wS G N : Int) := by
    intro N
    induction N with
    | zero => intro _; exact Int.le_refl _
    | succ N ih =>
      intro hN
      have i1 := ih (by omega)
      have w : wS G (N + 1) = wS G N + wt G N := rfl
      have w9 : gO G N ≠ 9 → wt G N = 1 := fun e => by
        unfold wt
        rw [if_neg (fun z => e z.1)]
      rw [bal_up, w]
      by_cases c0 : gO G N ≤ 1
      · rw [if_pos c0, w9 (by omega)]; omega
      · rw [if_neg c0]
        by_cases c8 : gO G N ≤ 8
        · rw [if_pos c8, w9 (by omega)]; omega
        · rw [if_neg c8]
          by_cases c19 : gO G N = 19
          · rw [if_pos c19, w9 (by omega)]; omega
          · rw [if_neg c19]; omega
  have h1 := key M (Nat.le_refl _)
  have h2 := bal_0 h M (Nat.le_refl _)
  omega
end
def mkM (σ : St) (t N nC nW ct sk L nS : Nat) (kd wd ws bg pt : Nat → Nat) (G : NG) (H : SG) : ModV := ((t, N, nC, nW, ct, sk, L, nS), (kd, wd, ws, bg, pt, fun i => (σ.1 8 i).toNat), (fun i j => σ.1 7 (10 * i + j), fun j => σ.1 6 j), G, (fun c => (σ.1 19 c).toNat, fun c => (σ.1 23 c).toNat, H.1, σ.1 20, σ.1 21, fun c => H.2 (H.1 c)))
theorem crX_row {ex fi el ar : Nat → Int} {G : NG} {N nW : Nat} : ∀ L w, crX ex fi el ar G N nW w L → ∀ q, q ∈ L → ∃ k, k < nW ∧ ex k = (q.1 : Int) ∧ fi k = (gF G q.1 : Int) ∧ q.1 < N ∧ gW G q.1 = 1
  | [], _, _, q, h => by cases h
  | r :: L, w, ⟨h1, ⟨h2, h3, h4, h5, h6⟩, h7⟩, q, h => by
    rcases List.mem_cons.mp h with e | e
    · subst e; exact ⟨w.toNat, by omega, h4, h5, h2, h3⟩
    · exact crX_row L _ h7 q e
section
variable {k t nS : Nat} {kd wd pt ws bg : Nat → Nat} {Ms : Nat → ModV}
variable {c0 : Nat × Int} {σ0 τ0 : St} {T : Nat → Int} {n : Nat} {G : NG} {N nC nW p ct L : Nat} {H : SG} {σ τ σ' τ' : St} {q : Nat}
theorem mk_ok (hs : SX k t kd wd pt (fun x => mdT (Ms x)) (fun x => mdkd (Ms x)) (fun x => mdwd (Ms x)) c0 σ0 τ0 T n 0 (-1) 0 [] G N nC nW nS p H σ τ) (htw : TW k t kd wd ws bg σ τ) (hpsi : nW + 2 * nC ≤ 2 * nS) (hct : σ.1 5 14 = (ct : Int)) (h120 : ct ≤ 120) (h60 : nC ≤ 60) (hL : 1 ≤ L ∧ L ≤ 10 ∧ ∀ j, j < L → σ.1 6 j ≠ 0) : modOK Ms k (mkM σ t N nC nW ct (skP kd pt (fun x => mdT (Ms x)) (fun x => mdkd (Ms x)) t) L nS kd wd ws bg pt G H) := by
  obtain ⟨hb, hx, hsr, -, -, -⟩ := hs
  obtain ⟨hv, -, ⟨ct', x4, x5, x6⟩, -, x10⟩ := hx
  obtain ⟨v1, v2, ⟨⟨v3, v3', v3''⟩, v4⟩, v5, v6⟩ := hv
  obtain ⟨-, ⟨r1, r2, ⟨s0, -⟩, s2, s3, s4, s5, s6⟩, r3, r4, r5⟩ := hsr
  have hW : ∀ i, i < N → nodW (RDk t kd wd pt (fun x => mdT (Ms x)) (fun x => mdkd (Ms x)) (fun x => mdwd (Ms x))) (WDk t kd wd) G i := fun i hi => (x10 i hi).2
  have e0 : (0 : Nat) % 65536 = 0 := rfl
  have hcw : wS G N ≤ ct := by omega
  have h2 := two_wS hW
  have hroot : ∀ u, rootM (mkM σ t N nC nW ct (skP kd pt (fun x => mdT (Ms x)) (fun x => mdkd (Ms x)) t) L nS kd wd ws bg pt G H) u → (∃ c, c < nC ∧ ((σ.1 23 c = (u : Int) ∧ σ.1 24 c = (gF G u : Int)) ∨ (σ.1 21 c = (u : Int) ∧ σ.1 22 c = (gF G u : Int)))) ∨ ∃ w, w < nW ∧ σ.1 26 w = (u : Int) ∧ σ.1 27 w = (gF G u : Int) := by
    rintro u ⟨c, hc, h⟩
    obtain ⟨a1, a2, ⟨u', a3, a4, a5⟩, a6, a7⟩ := r3 c hc
    rcases h with e | e | ⟨q, hq, e⟩
    · have : u = u' := by
        have e' : u = (σ.1 23 c).toNat := e
        rw [a3] at e'; omega
      subst this
      exact Or.inl ⟨c, hc, Or.inl ⟨a3, a4⟩⟩
    · have e' : (u : Int) = σ.1 21 c := e
      exact Or.inl ⟨c, hc, Or.inr ⟨e'.symm, a6 u e'.symm⟩⟩
    · obtain ⟨w, w1, w2, w3, -, -⟩ := crX_row _ _ a7 q hq
      subst e
      exact Or.inr ⟨w, w1, w2, w3⟩
  have hsep : sepM (mkM σ t N nC nW ct (skP kd pt (fun x => mdT (Ms x)) (fun x => mdkd (Ms x)) t) L nS kd wd ws bg pt G H) := by
    have row : ∀ c, c < nC → σ.1 24 c = (gF G (σ.1 23 c).toNat : Int) ∧ ∀ a : Nat, σ.1 21 c = (a : Int) → σ.1 22 c = (gF G a : Int) := fun c hc => by
      obtain ⟨-, -, ⟨u', b1, b2, -⟩, b3, -⟩ := r3 c hc
      exact ⟨by rw [b1, tn]; exact b2, b3⟩
    refine ⟨fun c hc a ha => ?_, fun c c' hcc hc' => ⟨?_, fun a ha => ?_⟩, fun c c' q hc hc' hq => ?_⟩
    · have ha' : σ.1 21 c = (a : Int) := ha
      have q1 := s2 c hc
      have q2 := (row c hc).1
      show a < gF G (σ.1 23 c).toNat
      omega
    · have hc1 : c' < nC := hc'
      have q1 := s2 c (by omega)
      have q2 := s2 c' hc'
      have q3 := s3 c c' hcc hc'
      have q4 := (row c' hc').1
      show (σ.1 23 c).toNat < gF G (σ.1 23 c').toNat
      omega
    · have ha' : σ.1 21 c' = (a : Int) := ha
      have hc1 : c' < nC := hc'
      have q1 := s2 c (by omega)
      have q3 := s3 c c' hcc hc'
      have q4 := (row c' hc').2 a ha'
      show (σ.1 23 c).toNat < gF G a
      omega
    · obtain ⟨-, -, -, -, a7⟩ := r3 c' hc'
      obtain ⟨w, w1, w2, w3, -, -⟩ := crX_row _ _ a7 q hq
      have q1 := s2 c hc
      have q2 := s4 w w1
      have q3 := s5 c w hc w1
      refine ⟨fun e => ?_, fun e => ?_⟩
      · have e' : q.1 = (σ.1 23 c).toNat := e
        omega
      · have e' : (q.1 : Int) = σ.1 21 c := e
        omega
  refine ⟨⟨v3'', ?_, h60, ?_, h120, ?_⟩, hL, fun i hi => ⟨?_, ?_⟩, ⟨hcw, hW⟩, fun c hc => ⟨?_, ?_, (r3 c hc).1⟩, ⟨r4, fun u u' h h' => ?_, hsep⟩, rfl⟩
  · show N ≤ 240; omega
  · show nW ≤ 240; omega
  · show nS ≤ 120; omega
  · obtain ⟨⟨-, y1⟩, -, y2, y3⟩ := htw.2 i hi
    obtain ⟨⟨z1, z2⟩, z3⟩ := v5 i hi
    have w2' : σ.1 9 i = τ.1 2082 (40 * (48 + k) + i) ∧ 0 ≤ σ.1 9 i ∧ σ.1 9 i ≤ 5 := (v4 i hi).2.1
    have w3' : σ.1 9 i ≠ 5 → σ.1 10 i = τ.1 2083 (40 * (48 + k) + i) ∧ 1 ≤ σ.1 10 i ∧ σ.1 10 i ≤ 32 := (v4 i hi).2.2
    refine ⟨by show kd i ≤ 5; omega, fun h => ?_, y1, y2, y3, fun h => (z3 h).1⟩
    have h' : kd i ≠ 5 := h
    have e1 := z2 h'
    have e2 := w3' (by omega)
    show 1 ≤ wd i ∧ wd i ≤ 32
    omega
  · obtain ⟨⟨L', l1, l2, l3, l4⟩, -⟩ := v4 i hi
    have l3' : σ.1 8 i = (L' : Int) := l3
    have e : mdnl (mkM σ t N nC nW ct (skP kd pt (fun x => mdT (Ms x)) (fun x => mdkd (Ms x)) t) L nS kd wd ws bg pt G H) i = L' := by
      show (σ.1 8 i).toNat = L'
      rw [l3', tn]
    rw [e]
    exact ⟨l1, l2, fun j hj => (l4 j (by omega)).2 hj⟩
  · obtain ⟨a1, a2, ⟨u', a3, a4, a5⟩, a6, a7⟩ := r3 c hc
    have e1 : mdVl (mkM σ t N nC nW ct (skP kd pt (fun x => mdT (Ms x)) (fun x => mdkd (Ms x)) t) L nS kd wd ws bg pt G H) c = u' := by
      show (σ.1 23 c).toNat = u'
      rw [a3, tn]
    have e2 : ((mdTg (mkM σ t N nC nW ct (skP kd pt (fun x => mdT (Ms x)) (fun x => mdkd (Ms x)) t) L nS kd wd ws bg pt G H) c : Nat) : Int) = σ.1 19 c := by
      show (((σ.1 19 c).toNat : Nat) : Int) = σ.1 19 c
      obtain ⟨i, z1, -⟩ := a5
      rw [z1, tn]
    rw [e1, e2]
    exact a5
  · exact (r5 _ (r3 c hc).1).1.2
  · have key : ∀ u u' : Nat, (∃ c, c < nC ∧ ((σ.1 23 c = (u : Int) ∧ σ.1 24 c = (gF G u : Int)) ∨ (σ.1 21 c = (u : Int) ∧ σ.1 22 c = (gF G u : Int)))) → (∃ w, w < nW ∧ σ.1 26 w = (u' : Int) ∧ σ.1 27 w = (gF G u' : Int)) → u < gF G u' ∨ u' < gF G u := by
      rintro u u' ⟨c, hc, h⟩ ⟨w, hw, w1, w2⟩
      have q1 := s2 c hc
      have q2 := s5 c w hc hw
      rw [w1, w2] at q2
      rcases h with ⟨h1, h2⟩ | ⟨h1, h2⟩
      · omega
      · have := q1.2 (by omega); omega
    rcases hroot u h with hc | hw <;> rcases hroot u' h' with hc' | hw'
    · obtain ⟨c, hc, z⟩ := hc
      obtain ⟨c', hc', z'⟩ := hc'
      have q1 := s2 c hc
      have q1' := s2 c' hc'
      show u = u' ∨ u < gF G u' ∨ u' < gF G u
      rcases Nat.lt_trichotomy c c' with w | w | w
      · have q2 := s3 c c' w hc'
        rcases z with ⟨h1, h2⟩ | ⟨h1, h2⟩ <;> rcases z' with ⟨h1', h2'⟩ | ⟨h1', h2'⟩
        · omega
        · omega
        · have := q1.2 (by omega); omega
        · have := q1.2 (by omega); omega
      · subst w
        rcases z with ⟨h1, h2⟩ | ⟨h1, h2⟩ <;> rcases z' with ⟨h1', h2'⟩ | ⟨h1', h2'⟩
        · exact Or.inl (by omega)
        · have := q1.2 (by omega); omega
        · have := q1.2 (by omega); omega
        · exact Or.inl (by omega)
      · have q2 := s3 c' c w hc
        rcases z with ⟨h1, h2⟩ | ⟨h1, h2⟩ <;> rcases z' with ⟨h1', h2'⟩ | ⟨h1', h2'⟩
        · omega
        · have := q1'.2 (by omega); omega
        · omega
        · have := q1'.2 (by omega); omega
    · rcases key u u' hc hw' with z | z
      · exact Or.inr (Or.inl z)
      · exact Or.inr (Or.inr z)
    · rcases key u' u hc' hw with z | z
      · exact Or.inr (Or.inr z)
      · exact Or.inr (Or.inl z)
    · obtain ⟨w, hw, w1, w2⟩ := hw
      obtain ⟨w', hw', w1', w2'⟩ := hw'
      show u = u' ∨ u < gF G u' ∨ u' < gF G u
      rcases Nat.lt_trichotomy w w' with z | z | z
      · have := s6 w w' z hw'
        rw [w1, w2, w1', w2'] at this
        omega
      · subst z; exact Or.inl (by omega)
      · have := s6 w' w z hw
        rw [w1, w2, w1', w2'] at this
        omega
theorem mk_X (hs : SX k t kd wd pt (fun x => mdT (Ms x)) (fun x => mdkd (Ms x)) (fun x => mdwd (Ms x)) c0 σ0 τ0 T n 0 (-1) 0 [] G N nC nW nS p H σ τ) (htw : TW k t kd wd ws bg σ τ) (hct : σ.1 5 14 = (ct : Int)) (hL : σ.1 5 29 = (L : Int)) {sk : Nat} (e : ∀ a, 6 ≤ a → a ≤ 29 → σ'.1 a = σ.1 a) (e5 : ∀ i, i ≠ 30 → σ'.1 5 i = σ.1 5 i) (e30 : σ'.1 5 30 = (sk : Int)) : modX σ' 5 (mkM σ t N nC nW ct sk L nS kd wd ws bg pt G H) := by
  obtain ⟨hb, hx, hsr, -, -, -⟩ := hs
  obtain ⟨hv, ⟨⟨y1, -⟩, -⟩, -, -, x10⟩ := hx
  obtain ⟨v1, v2, ⟨⟨v3, v3', v3''⟩, v4⟩, v5, v6⟩ := hv
  obtain ⟨⟨⟨c22, c27⟩, -, -⟩, -, r3, -, -⟩ := hsr
  unfold modX
  show ((σ'.1 5 7 = (t : Int) ∧ σ'.1 5 13 = (N : Int) ∧ σ'.1 5 14 = (ct : Int) ∧ σ'.1 5 22 = (nC : Int) ∧ σ'.1 5 27 = (nW : Int) ∧ σ'.1 5 30 = (sk : Int) ∧ σ'.1 5 29 = (L : Int)) ∧ ∀ j, j < L → σ'.1 6 j = σ.1 6 j) ∧ (∀ i, i < t → (σ'.1 8 i = ((σ.1 8 i).toNat : Int) ∧ σ'.1 9 i = (kd i : Int) ∧ (kd i ≠ 5 → σ'.1 10 i = (wd i : Int)) ∧ σ'.1 11 i = (ws i : Int) ∧ σ'.1 12 i = sg (bg i)) ∧ (kd i = 5 → σ'.1 13 i = (pt i : Int)) ∧ ∀ j, j < (σ.1 8 i).toNat → σ'.1 7 (10 * i + j) = σ.1 7 (10 * i + j)) ∧ (∀ i, i < N → σ'.1 14 i = (gO G i : Int) ∧ σ'.1 15 i = gA G i ∧ σ'.1 16 i = gB G i ∧ σ'.1 17 i = gC G i ∧ σ'.1 18 i = (gW G i : Int)) ∧ ∀ c, c < nC → (σ'.1 19 c = ((σ.1 19 c).toNat : Int) ∧ σ'.1 20 c = σ.1 20 c ∧ σ'.1 21 c = σ.1 21 c ∧ σ'.1 23 c = ((σ.1 23 c).toNat : Int) ∧ σ'.1 24 c = (gF G (σ.1 23 c).toNat : Int) ∧ (0 ≤ σ.1 21 c → σ'.1 22 c = (gF G (σ.1 21 c).toNat : Int))) ∧ crX (σ'.1 26) (σ'.1 27) (σ'.1 28) (σ'.1 29) G N nW (σ'.1 25 c) (H.2 (H.1 c))
  rw [e 6 (by decide) (by decide), e 7 (by decide) (by decide), e 8 (by decide) (by decide), e 9 (by decide) (by decide), e 10 (by decide) (by decide), e 11 (by decide) (by decide), e 12 (by decide) (by decide), e 13 (by decide) (by decide), e 14 (by decide) (by decide), e 15 (by decide) (by decide), e 16 (by decide) (by decide), e 17 (by decide) (by decide), e 18 (by decide) (by decide), e 19 (by decide) (by decide), e 20 (by decide) (by decide), e 21 (by decide) (by decide), e 22 (by decide) (by decide), e 23 (by decide) (by decide), e 24 (by decide) (by decide), e 25 (by decide) (by decide), e 26 (by decide) (by decide), e 27 (by decide) (by decide), e 28 (by decide) (by decide), e 29 (by decide) (by decide), e5 7 (by decide), e5 13 (by decide), e5 14 (by decide), e5 22 (by decide), e5 27 (by decide), e5 29 (by decide)]
  refine ⟨⟨⟨v3, y1, hct, c22, c27, e30, hL⟩, fun j hj => rfl⟩, fun i hi => ⟨⟨?_, (v5 i hi).1.1, (v5 i hi).1.2, (htw.2 i hi).1.1.1, (htw.2 i hi).2.1.1⟩, fun h => ((v5 i hi).2 h).2.1, fun j hj => rfl⟩, fun i hi => (x10 i hi).1.1, fun c hc => ?_⟩
  · obtain ⟨⟨L', l1, l2, l3, l4⟩, -⟩ := v4 i hi
    have l3' : σ.1 8 i = (L' : Int) := l3
    rw [l3', tn]
  · obtain ⟨a1, a2, ⟨u', a3, a4, a5⟩, a6, a7⟩ := r3 c hc
    obtain ⟨i, z1, -⟩ := a5
    refine ⟨⟨by rw [z1, tn], rfl, rfl, by rw [a3, tn], by rw [a3, tn]; exact a4, fun h => ?_⟩, a7⟩
    obtain ⟨a, ha⟩ := Int.eq_ofNat_of_zero_le h
    rw [ha, tn]
    exact a6 a ha
theorem mk_M (hs : SX k t kd wd pt (fun x => mdT (Ms x)) (fun x => mdkd (Ms x)) (fun x => mdwd (Ms x)) c0 σ0 τ0 T n 0 (-1) 0 [] G N nC nW nS p H σ τ) (htw : TW k t kd wd ws bg σ τ) {sk : Nat} (hf : agr (kpF k nS) τ τ') (hn : ∀ i, i < N → (τ'.1 2088 (300 * (48 + k) + i) = τ.1 2101 i ∧ τ'.1 2089 (300 * (48 + k) + i) = τ.1 2102 i ∧ τ'.1 2090 (300 * (48 + k) + i) = τ.1 2103 i ∧ τ'.1 2091 (300 * (48 + k) + i) = τ.1 2104 i ∧ τ'.1 2092 (300 * (48 + k) + i) = τ.1 2105 i) ∧ τ'.2.1 2093 (300 * (48 + k) + i) = τ.2.1 2106 i) (hst : ∀ i, i < nS → τ'.1 2094 (200 * (48 + k) + i) = τ.1 2107 i ∧ τ'.1 2095 (200 * (48 + k) + i) = τ.1 2108 i ∧ τ'.1 2096 (200 * (48 + k) + i) = τ.1 2109 i ∧ τ'.1 2097 (200 * (48 + k) + i) = τ.1 2110 i ∧ τ'.1 2098 (200 * (48 + k) + i) = τ.1 2111 i ∧ τ'.1 2099 (200 * (48 + k) + i) = τ.1 2112 i) (hc : τ'.1 2078 (48 + k) = (ct : Int) ∧ τ'.1 2079 (48 + k) = (nC : Int) ∧ τ'.1 2080 (48 + k) = (nS : Int)) : modM τ' (48 + k) (mkM σ t N nC nW ct sk L nS kd wd ws bg pt G H) := by
  obtain ⟨hb, hx, hsr, -, -, -⟩ := hs
  obtain ⟨hv, -, -, -, x10⟩ := hx
  obtain ⟨v1, v2, ⟨⟨v3, v3', v3''⟩, v4⟩, v5, v6⟩ := hv
  obtain ⟨-, -, r3, -, r5⟩ := hsr
  have f : ∀ a, (a = 2077 ∨ (2082 ≤ a ∧ a ≤ 2087)) → τ'.1 a = τ.1 a ∧ τ'.2.1 a = τ.2.1 a := fun a ha => ⟨funext fun i => (hf a i ⟨by unfold nodF; omega, by unfold stmF; omega, by unfold cntF; omega⟩).1, funext fun i => (hf a i ⟨by unfold nodF; omega, by unfold stmF; omega, by unfold cntF; omega⟩).2.1⟩
  unfold modM
  show (τ'.1 2077 (48 + k) = (t : Int) ∧ τ'.1 2078 (48 + k) = (ct : Int) ∧ τ'.1 2080 (48 + k) = (nS : Int)) ∧ (∀ i, i < t → (τ'.1 2082 (40 * (48 + k) + i) = (kd i : Int) ∧ (kd i ≠ 5 → τ'.1 2083 (40 * (48 + k) + i) = (wd i : Int)) ∧ τ'.1 2084 (40 * (48 + k) + i) = (ws i : Int) ∧ (τ'.2.1 2085 (40 * (48 + k) + i)).toInt = (bg i : Int)) ∧ (kd i = 5 → τ'.1 2086 (40 * (48 + k) + i) = (pt i : Int)) ∧ ∀ j, j < 10 → τ'.1 2087 (10 * (40 * (48 + k) + i) + j) = if j < (σ.1 8 i).toNat then σ.1 7 (10 * i + j) else 0) ∧ (∀ i, i < N → ndR (gO G i) (gA G i) (gB G i) (gC G i) (τ'.1 2088 (300 * (48 + k) + i)) (τ'.1 2089 (300 * (48 + k) + i)) (τ'.1 2090 (300 * (48 + k) + i)) (τ'.1 2091 (300 * (48 + k) + i)) (τ'.2.1 2093 (300 * (48 + k) + i)) ∧ τ'.1 2092 (300 * (48 + k) + i) = (gW G i : Int)) ∧ (∀ c, c < nC → τ'.1 2094 (200 * (48 + k) + H.1 c) = ((σ.1 19 c).toNat : Int) ∧ τ'.1 2095 (200 * (48 + k) + H.1 c) = σ.1 20 c ∧ τ'.1 2096 (200 * (48 + k) + H.1 c) = σ.1 21 c ∧ τ'.1 2097 (200 * (48 + k) + H.1 c) = ((σ.1 23 c).toNat : Int) ∧ crT (fun j => τ'.1 2097 (200 * (48 + k) + j)) (fun j => τ'.1 2098 (200 * (48 + k) + j)) (fun j => τ'.1 2099 (200 * (48 + k) + j)) (H.1 c) (τ'.1 2098 (200 * (48 + k) + H.1 c)) (τ'.1 2099 (200 * (48 + k) + H.1 c)) (H.2 (H.1 c))) ∧ ∀ j, j < nS → (∃ c, c < nC ∧ H.1 c = j) ∨ τ'.1 2094 (200 * (48 + k) + j) = -1
  refine ⟨⟨by rw [(f 2077 (by decide)).1]; exact v3', hc.1, hc.2.2⟩, fun i hi => ⟨⟨?_, fun h => ?_, ?_, ?_⟩, fun h => ?_, fun j hj => ?_⟩, fun i hi => ?_, fun c hc' => ?_, fun j hj => ?_⟩
  · have w2 : σ.1 9 i = τ.1 2082 (40 * (48 + k) + i) ∧ 0 ≤ σ.1 9 i ∧ σ.1 9 i ≤ 5 := (v4 i hi).2.1
    rw [(f 2082 (by decide)).1, ← w2.1]; exact (v5 i hi).1.1
  · have w3 : σ.1 9 i ≠ 5 → σ.1 10 i = τ.1 2083 (40 * (48 + k) + i) ∧ 1 ≤ σ.1 10 i ∧ σ.1 10 i ≤ 32 := (v4 i hi).2.2
    have w1 := (v5 i hi).1.1
    rw [(f 2083 (by decide)).1, ← (w3 (by omega)).1]; exact (v5 i hi).1.2 h
  · rw [(f 2084 (by decide)).1]; exact (htw.2 i hi).1.1.2
  · rw [(f 2085 (by decide)).2]; exact (htw.2 i hi).2.1.2
  · rw [(f 2086 (by decide)).1]; exact ((v5 i hi).2 h).2.2
  · obtain ⟨⟨L', l1, l2, l3, l4⟩, -⟩ := v4 i hi
    have l3' : σ.1 8 i = (L' : Int) := l3
    rw [(f 2087 (by decide)).1, l3', tn]
    exact (l4 j hj).1
  · obtain ⟨⟨n1, n2, n3, n4, n5⟩, n6⟩ := hn i hi
    rw [n1, n2, n3, n4, n5, n6]
    exact ⟨(x10 i hi).1.2.2, (x10 i hi).1.2.1⟩
  · obtain ⟨a1, ⟨a2, a2', a2'', a2'''⟩, ⟨u', a3, a4, a5⟩, a6, a7⟩ := r3 c hc'
    obtain ⟨i, z1, -⟩ := a5
    obtain ⟨s1, s2, s3, s4, s5, s6⟩ := hst _ a1
    rw [s1, s2, s3, s4, s5, s6, a2, a2', a2'', a2''']
    refine ⟨by rw [z1, tn], rfl, rfl, by rw [a3, tn], crT.mono _ _ _ _ _ (Nat.le_refl _) (fun j hj => ?_) (r5 _ a1).1.1⟩
    obtain ⟨-, -, -, t4, t5, t6⟩ := hst j (by omega)
    exact ⟨t4, t5, t6⟩
  · rcases (r5 j hj).2 with w | w
    · exact Or.inl w
    · rw [(hst j hj).1]; exact Or.inr w
end
