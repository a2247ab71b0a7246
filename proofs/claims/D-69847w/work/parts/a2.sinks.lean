set_option maxRecDepth 100000
set_option maxHeartbeats 400000
/-! ===== read: the end of a module: its sinks ===== -/
/-- what the twin's last loop reads -/
def EM (k t nS : Nat) (kd pt : Nat → Nat) (Mt : Nat → Nat) (Mk : Nat → Nat → Nat) (τ : St) : Prop := (k < 12 ∧ τ.1 2075 37 = (k : Int) ∧ τ.1 2077 (48 + k) = (t : Int) ∧ t ≤ 40) ∧ (∀ i, i < t → τ.1 2082 (40 * (48 + k) + i) = (kd i : Int) ∧ (kd i = 5 → pt i < k ∧ τ.1 2086 (40 * (48 + k) + i) = (pt i : Int))) ∧ (∀ m, m < k → τ.1 2077 (48 + m) = (Mt m : Int) ∧ Mt m ≤ 40 ∧ ∀ p, p < Mt m → τ.1 2082 (40 * (48 + m) + p) = (Mk m p : Int)) ∧ (τ.1 2075 46 = (nS : Int) ∧ nS ≤ 120 ∧ (∀ j, j < nS → τ.1 2111 j < (j : Int)) ∧ ∀ j, j < nS → τ.1 2107 j = -1 ∨ 0 ≤ τ.1 2107 j)
section
variable {k t nS : Nat} {kd wd pt ws bg : Nat → Nat} {Mt : Nat → Nat} {Mk Mw : Nat → Nat → Nat}
variable {c0 : Nat × Int} {σ0 τ0 : St} {T : Nat → Int} {n : Nat} {G : NG} {N nC nW p : Nat} {H : SG} {σ τ σ' τ' : St} {q : Nat} {γ δ : Type}
theorem EM.fr (h : EM k t nS kd pt Mt Mk τ) (e : ∀ a, a ≠ 2075 → τ'.1 a = τ.1 a) (e1 : ∀ i, 30 ≤ i → τ'.1 2075 i = τ.1 2075 i) : EM k t nS kd pt Mt Mk τ' := by
  unfold EM
  rw [e1 37 (by decide), e1 46 (by decide), e 2077 (by decide), e 2082 (by decide), e 2086 (by decide), e 2107 (by decide), e 2111 (by decide)]
  exact h
theorem EM.alw (h : EM k t nS kd pt Mt Mk τ) {x y : Int} {Q : Int → St → Prop} (hQ : Q (alB (rwT τ) nS x y (-1) 0) τ) : wp (R_X15_always (-1) 0 x y) τ Q := by
  obtain ⟨-, -, -, h1, h2, h3, h4⟩ := h
  unfold R_X15_always
  exact always15 h1 (by omega) h3 h4 (nS + 1) 210 (-1) 0 (by omega) (by omega) Q hQ
/-- behind a fault the loop changes nothing -/
theorem emF (h28 : 1 ≤ τ.1 2075 28) (h : EM k t nS kd pt Mt Mk τ) : ∀ m f i, t - i < m → m ≤ f → ∀ Q : Unit → St → Prop, Q () τ → wp (X15_endModule_31 f (i : Int)) τ Q := by
  obtain ⟨⟨h1, h2, h3, h4⟩, h5, h6, h7⟩ := id h
  intro m
  induction m with
  | zero => intro f i hm; omega
  | succ m ih =>
    intro f i hm hf Q hQ
    have hF := FU_ge
    obtain ⟨f', rfl⟩ : ∃ f', f = f' + 1 := ⟨f - 1, by omega⟩
    rw [X15_endModule_31, bgI h2, wp_bd, w32_i (by omega) (by omega), RI_2077 (by omega) (by omega), show (48 + (k : Int)).toNat = 48 + k by omega, h3]
    by_cases c : i < t
    · have nxt : wp (X15_endModule_165 (X15_endModule_31 f') (i : Int)) τ Q := by
        rw [X15_endModule_165, wp_lt, w32_i (by omega) (by omega), show (i : Int) + 1 = ((i + 1 : Nat) : Int) by omega]
        exact ih f' (i + 1) (by omega) (by omega) Q hQ
      have h89 : wp (X15_endModule_89 (X15_endModule_31 f') (i : Int) (kd i : Int)) τ Q := by
        rw [X15_endModule_89, bth h2 h1 (by omega), wp_bd, RI_2086 (by omega) (by omega), tn, wp_lt, wp_lt]
        by_cases c5 : kd i = 5
        · obtain ⟨p1, p2⟩ := (h5 i c).2 c5
          obtain ⟨m1, m2, m3⟩ := h6 (pt i) p1
          rw [p2, w32_i (by omega) (by omega)]
          refine loopM (L := fun f2 (z : Int) => X15_endModule_106 (X15_endModule_31 f') f2 (i : Int) (kd i : Int) (48 + (pt i : Int)) z) (fun m z υ => ∃ r : Nat, z = (r : Int) ∧ r ≤ Mt (pt i) ∧ m = Mt (pt i) - r ∧ υ = τ) ?_ FU (Mt (pt i)) 0 τ (by omega) ⟨0, rfl, Nat.zero_le _, rfl, rfl⟩
          rintro f2 m z υ ⟨r, rfl, hr, rfl, rfl⟩ ih2
          show wp (X15_endModule_106 (X15_endModule_31 f') (f2 + 1) (i : Int) (kd i : Int) (48 + (pt i : Int)) (r : Int)) _ Q
          rw [X15_endModule_106, wp_ifp (by omega), wp_bd, RI_2077 (by omega) (by omega), show (48 + (pt i : Int)).toNat = 48 + pt i by omega, m1]
          by_cases cr : r < Mt (pt i)
          · have n159 : wp (X15_endModule_159 (X15_endModule_31 f') (X15_endModule_106 (X15_endModule_31 f') f2) (i : Int) (kd i : Int) (48 + (pt i : Int)) (r : Int)) υ Q := by
              rw [X15_endModule_159, wp_lt, w32_i (by omega) (by omega)]
              exact ih2 (Mt (pt i) - (r + 1)) _ _ (by omega) ⟨r + 1, by omega, by omega, rfl, rfl⟩
            rw [wp_ifn (by omega), wp_bd, w32_i (x := 40 * (48 + (pt i : Int))) (by omega) (by omega), w32_i (by omega) (by omega), RI_2082 (by omega) (by omega)]
            by_cases c0 : υ.1 2082 (40 * (48 + (pt i : Int)) + (r : Int)).toNat = 0
            · rw [wp_ifp c0, wp_bd]
              refine h.alw ?_
              by_cases ca : alB (rwT υ) nS (i : Int) (r : Int) (-1) 0 = 0
              · rw [wp_ifp ca, wp_bd, wp_gI, wp_bd, fail_1 h28]; exact n159
              · rw [wp_ifn ca]; exact n159
            · rw [wp_ifn c0]; exact n159
          · rw [wp_ifp (by omega)]; exact nxt
        · obtain ⟨f2, hf2⟩ : ∃ f2, FU = f2 + 1 := ⟨FU - 1, by omega⟩
          rw [hf2, X15_endModule_106, wp_ifn (by omega)]
          exact nxt
      have h68 : wp (X15_endModule_68 (X15_endModule_31 f') (i : Int) (kd i : Int)) τ Q := by
        rw [X15_endModule_68, wp_bd]
        refine h.alw ?_
        by_cases ca : alB (rwT τ) nS (i : Int) (-1) (-1) 0 = 0
        · rw [wp_ifp ca, wp_bd, wp_gI, wp_bd, fail_1 h28]; exact h89
        · rw [wp_ifn ca]; exact h89
      rw [wp_ifn (by omega), bth h2 h1 (by omega), wp_bd, RI_2082 (by omega) (by omega), tn, (h5 i c).1, wp_lt]
      by_cases k1 : kd i = 1
      · rw [wp_ifp (by omega)]; exact h68
      · rw [wp_ifn (by omega)]
        by_cases k2 : kd i = 2
        · rw [wp_ifp (by omega)]; exact h68
        · rw [wp_ifn (by omega)]; exact h89
    · rw [wp_ifp (by omega), X15_endModule_171, wp_bd, wp_gI, wp_ifn (by omega), wp_rt]; exact hQ
theorem LK_fltS {B : δ → Prop} {n' q : Nat} (hn : 1 ≤ n' ∧ n' ≤ 9) (hb : BS c0 σ0 τ0 T n σ τ) {x : XV} (hx : x = (0, (n' : Int), (q : Int))) {g : Unit → St → Option (δ × St)} {P : γ → δ → St → St → Prop} (hw : ∀ τf : St, (∀ a, a ≠ 2075 → τf.1 a = τ.1 a) → (∀ i, 30 ≤ i → τf.1 2075 i = τ.1 2075 i) → τf.1 2075 28 = (n' : Int) → wp (g ()) τf (fun r τ' => B r ∧ agr (nY c0) τf τ' ∧ τ'.1 2075 28 = τf.1 2075 28 ∧ τ'.1 2075 29 = τf.1 2075 29 ∧ τ'.1 2075 37 = τf.1 2075 37)) : LK c0 σ0 τ0 B (thw x) (bd (F_X15_fail (n' : Int) (q : Int)) g) σ τ P := by
  unfold LK
  rw [wpE_thw, wp_bd, fail_0 hb.2.2.1]
  have h28 : ((stA τ.1 2075 (ups (ups (τ.1 2075) 28 (n' : Int)) 29 (q : Int)), τ.2) : St).1 2075 28 = (n' : Int) := by dsimp only; rw [stA_eq, ups_ne (by decide), ups_eq]
  have h29 : ((stA τ.1 2075 (ups (ups (τ.1 2075) 28 (n' : Int)) 29 (q : Int)), τ.2) : St).1 2075 29 = (q : Int) := by dsimp only; rw [stA_eq, ups_eq]
  have h30 : ∀ i, 30 ≤ i → ((stA τ.1 2075 (ups (ups (τ.1 2075) 28 (n' : Int)) 29 (q : Int)), τ.2) : St).1 2075 i = τ.1 2075 i := fun i hi => by dsimp only; rw [stA_eq, ups_ne (by omega), ups_ne (by omega)]
  have hfr : agr (nY c0) τ0 (stA τ.1 2075 (ups (ups (τ.1 2075) 28 (n' : Int)) 29 (q : Int)), τ.2) := by
    refine hb.2.2.2.2.1.trans (agr.refl.w (a := 2075) (fun k q => ?_))
    unfold nY at q
    rw [ups_ne (by omega), ups_ne (by omega)]
  refine wp_mono (hw _ (fun a ha => by dsimp only; rw [stA_ne ha]) h30 h28) (fun r τ' z => ⟨z.1, hb.2.2.2.1, hfr.trans z.2.1, n', q, hn.1, hn.2, hx, z.2.2.1.trans h28, z.2.2.2.1.trans h29, by rw [z.2.2.2.2, h30 37 (by decide)]; exact hb.2.2.2.2.2⟩)
theorem BS.cg (h : BS c0 σ0 τ0 T n σ τ) (e2 : σ'.1 2 = σ.1 2) (e4 : σ'.1 4 = σ.1 4) (e3 : σ'.2 = σ.2) (eN : agr (nX c0) σ σ') : BS c0 σ0 τ0 T n σ' τ := by
  obtain ⟨⟨a1, a2, a3, a4, a5⟩, h2, b3, b4, b5⟩ := h
  exact ⟨⟨a1, a2, by rw [e2]; exact a3, fun k hk => by rw [e4]; exact a4 k hk, fun i hi => by rw [e3]; exact a5 i hi⟩, h2, b3, b4.trans eN, b5⟩
/-- a place is driven in the component just where the twin says so -/
theorem driven_iff (hs : SX k t kd wd pt Mt Mk Mw c0 σ0 τ0 T n 0 (-1) 0 [] G N nC nW nS p H σ τ) {x y : Int} (hv : VT t kd pt Mt x y) : (0 ≤ σ.1 31 x.toNat + max 0 y ∧ σ.1 31 x.toNat + max 0 y < 1600) ∧ (σ.1 30 (σ.1 31 x.toNat + max 0 y).toNat = 0 ∨ σ.1 30 (σ.1 31 x.toNat + max 0 y).toNat = 1) ∧ (σ.1 30 (σ.1 31 x.toNat + max 0 y).toNat = 1 ↔ AL (rwT τ) nS x y (-1) 0) := by
  obtain ⟨hb, hx, hsr, -, ⟨⟨s0, s1⟩, s2, s3⟩, hDV⟩ := hs
  have hr : 0 ≤ σ.1 31 x.toNat + max 0 y ∧ σ.1 31 x.toNat + max 0 y < 1600 := by
    obtain ⟨i, rfl, hi, hy⟩ := hv
    obtain ⟨a1, a2, a3⟩ := s2 i hi
    rw [tn]
    rcases hy with ⟨rfl, w⟩ | ⟨m, rfl, w1, w2⟩
    · have := a2 w; omega
    · have := a3 w1 m w2; omega
  obtain ⟨d1, d2⟩ := hDV (σ.1 31 x.toNat + max 0 y).toNat (by omega)
  rw [show 1600 * 0 + (σ.1 31 x.toNat + max 0 y).toNat = (σ.1 31 x.toNat + max 0 y).toNat by omega] at d1 d2
  refine ⟨hr, d1, d2.trans ⟨fun ⟨x', y', h1, h2⟩ => ?_, fun h => ⟨x, y, by omega, h⟩⟩⟩
  obtain ⟨rfl, rfl⟩ := s3 x' y' x y (AL_VT hsr h2) hv (by omega)
  exact h2
end
