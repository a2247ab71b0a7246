set_option maxRecDepth 100000
set_option maxHeartbeats 400000
/-! ===== read: connections ===== -/
def rwT (τ : St) : RW := (τ.1 2107, τ.1 2108, τ.1 2111, τ.1 2112, τ.1 2113)
/-- the row of what is driven so far in a context -/
def DV (σ τ : St) (r nS : Nat) (a e : Int) : Prop := ∀ z : Nat, z < 1600 → (σ.1 30 (1600 * r + z) = 0 ∨ σ.1 30 (1600 * r + z) = 1) ∧ (σ.1 30 (1600 * r + z) = 1 ↔ ∃ x y : Int, σ.1 31 x.toNat + max 0 y = (z : Int) ∧ AL (rwT τ) nS x y a e)
/-- a place that can be driven: a thing, or a port of one -/
def VT (t : Nat) (kd pt Mt : Nat → Nat) (x y : Int) : Prop := ∃ i : Nat, x = (i : Int) ∧ i < t ∧ (y = -1 ∧ kd i ≠ 5 ∨ ∃ m : Nat, y = (m : Int) ∧ kd i = 5 ∧ m < Mt (pt i))
/-- the places of things, all apart -/
def SL (t : Nat) (kd pt Mt : Nat → Nat) (σ : St) : Prop := (0 ≤ σ.1 2 15 ∧ σ.1 2 15 ≤ 1600) ∧ (∀ i, i < t → 0 ≤ σ.1 31 i ∧ (kd i ≠ 5 → σ.1 31 i < σ.1 2 15) ∧ (kd i = 5 → ∀ m : Nat, m < Mt (pt i) → σ.1 31 i + (m : Int) < σ.1 2 15)) ∧ ∀ x y x' y' : Int, VT t kd pt Mt x y → VT t kd pt Mt x' y' → σ.1 31 x.toNat + max 0 y = σ.1 31 x'.toNat + max 0 y' → x = x' ∧ y = y'
theorem SL.fr {t : Nat} {kd pt Mt : Nat → Nat} {σ σ' : St} (h : SL t kd pt Mt σ) (e1 : σ'.1 2 15 = σ.1 2 15) (e2 : σ'.1 31 = σ.1 31) : SL t kd pt Mt σ' := by
  unfold SL
  rw [e1, e2]
  exact h
/-- between statements, in a context -/
def SX (k t : Nat) (kd wd pt : Nat → Nat) (Mt : Nat → Nat) (Mk Mw : Nat → Nat → Nat) (c0 : Nat × Int) (σ0 τ0 : St) (T : Nat → Int) (n op : Nat) (a e : Int) (Lc : List (Nat × Bool)) (G : NG) (N nC nW nS p : Nat) (H : SG) (σ τ : St) : Prop :=
  BS c0 σ0 τ0 T n σ τ ∧ EX0 (VE k t kd wd pt Mt Mk Mw) (RDk t kd wd pt Mt Mk Mw) (WDk t kd wd) G N 0 op p σ τ ∧ SR t kd wd pt Mt Mk Mw G N nC nW nS p H σ τ ∧ (crX (σ.1 26) (σ.1 27) (σ.1 28) (σ.1 29) G N nW (σ.1 2 16) Lc ∧ crT (τ.1 2110) (τ.1 2111) (τ.1 2112) nS a e Lc ∧ Lc.length = op) ∧ SL t kd pt Mt σ ∧ DV σ τ op nS a e
/-- what statements of a context have done -/
def STP (op : Nat) (a e : Int) (G : NG) (N nC nW nS : Nat) (σ τ : St) (G' : NG) (N' nC' nW' nS' : Nat) (σ' τ' : St) : Prop := (N ≤ N' ∧ nC ≤ nC' ∧ nW ≤ nW' ∧ nS ≤ nS' ∧ nW' + 2 * nC' + 2 * nS ≤ nW + 2 * nC + 2 * nS') ∧ (∀ i, i < N → gAt G G' i) ∧ (agr nSX σ σ' ∧ agr nSY τ τ') ∧ σ'.1 2 16 = σ.1 2 16 ∧ (∀ x k, 26 ≤ x → x ≤ 29 → k < nW → σ'.1 x k = σ.1 x k) ∧ (∀ x k, 2107 ≤ x → x ≤ 2113 → k < nS → τ'.1 x k = τ.1 x k) ∧ (∀ k, nS ≤ k → k < nS' → (τ'.1 2111 k = a ∧ τ'.1 2112 k = e) ∨ (nS : Int) ≤ τ'.1 2111 k) ∧ ∀ j z, (j < op ∨ (21 ≤ j ∧ j ≤ 20 + op)) → z < 1600 → σ'.1 30 (1600 * j + z) = σ.1 30 (1600 * j + z)
theorem lt_eq {α β : Type} {x : α} {f : α → β} : lt x f = f x := by
  have h : f x = f x := rfl
  exact h
theorem con15_eq {a e : Int} : F_X15_connection a e = bd (F_X15_statement a e) fun v1 => bd (gI 2075 47) fun v3 => bd (pI 2075 47 (w32 (v3 + 1))) fun _ => bd (R_X15_reference 1) (tailC v1) := by
  rw [F_X15_connection]
  unfold tailC
  simp only [lt_eq]
section
variable {k t : Nat} {kd wd pt : Nat → Nat} {Mt : Nat → Nat} {Mk Mw : Nat → Nat → Nat}
variable {c0 : Nat × Int} {σ0 τ0 : St} {T : Nat → Int} {n op : Nat} {a e : Int} {Lc : List (Nat × Bool)}
theorem rw_ord {nC nW nS p N : Nat} {G : NG} {H : SG} {σ τ : St} (h : SR t kd wd pt Mt Mk Mw G N nC nW nS p H σ τ) : ∀ k, k < nS → rAr (rwT τ) k < (k : Int) := fun k hk => (crT.lt ((h.2.2.2.2 k hk).1.1)).2.1
/-- a connection, put together -/
theorem con_fin {σ τ σ3 τ3 σ' τ' : St} {G G3 G' : NG} {N N3 M nC nW nS p p3 p' q i w N0 : Nat} {H : SG} {y z : Int} (hs : SX k t kd wd pt Mt Mk Mw c0 σ0 τ0 T n op a e Lc G N nC nW nS p H σ τ) (hNN : N ≤ N3) (hGG : ∀ i, i < N → gAt G G3 i) (fX : agr nEX σ σ3) (fY : agr nSY τ τ3) (g46 : τ3.1 2075 46 = ((nS + 1 : Nat) : Int)) (g47 : τ3.1 2075 47 = ((nC + 1 : Nat) : Int)) (hq : p ≤ q) (hop : op ≤ 20)
  (T3 : τ3.1 2107 = ups (τ.1 2107) nS (-1) ∧ τ3.1 2108 = ups (τ.1 2108) nS (-1) ∧ τ3.1 2109 = ups (τ.1 2109) nS (-1) ∧ τ3.1 2110 = τ.1 2110 ∧ τ3.1 2111 = ups (τ.1 2111) nS a ∧ τ3.1 2112 = ups (τ.1 2112) nS e ∧ τ3.1 2113 = ups (τ.1 2113) nS 0)
  (hi : i < t) (hC : ∀ G' M', N3 < M' → (∀ i, i < N3 → gAt G3 G' i) → gW G' (M' - 1) = w → CW t kd wd pt Mt Mk Mw M' G' (i : Int) y z (M' - 1)) (hz : ∀ a : Nat, z = (a : Int) → a < N3 ∧ N0 = gF G3 a) (hN0 : N ≤ N0 ∧ N0 ≤ N3) (hsl : 0 ≤ σ.1 31 i ∧ σ.1 31 i + max 0 y < 1600) (hP : CPost c0 σ0 τ0 (VE k t kd wd pt Mt Mk Mw) (RDk t kd wd pt Mt Mk Mw) (WDk t kd wd) T n op G3 N3 0 nC nS op i w N0 q y z σ3 τ3 p' G' M σ' τ') : ∃ G' N' nC' nW' nS' p' H', p < p' ∧ STP op a e G N nC nW nS σ τ G' N' nC' nW' nS' σ' τ' ∧ SX k t kd wd pt Mt Mk Mw c0 σ0 τ0 T n op a e Lc G' N' nC' nW' nS' p' H' σ' τ' ∧ TK T n σ' τ' p' := by
  obtain ⟨hb, hx, hsr, ⟨hcX, hcT, hcL⟩, hSL, hDV⟩ := hs
  obtain ⟨⟨p1, p2, p3, p4, p5⟩, ⟨p6, p7⟩, p8, p9, p10, ⟨x1, x2, x3, x4, x5, x6, x7, x8, x9, x10, x11, x12⟩, ⟨t1, t2, t3, t4, t5, t6, t7⟩⟩ := hP
  obtain ⟨u1, u2, u3, u4, u5, u6, u7⟩ := T3
  have rF : ∀ a, 19 ≤ a → a ≤ 31 → σ3.1 a = σ.1 a := fun a h1 h2 => fX.row (fun k => by unfold nEX; omega)
  have gG : ∀ i, i < N → gAt G G' i := fun i hi => (hGG i hi).trans (p5 i (by omega))
  have e216 : σ'.1 2 16 = σ.1 2 16 := x3.trans (fX 2 16 (by unfold nEX; omega)).1
  have e31 : σ'.1 31 = σ.1 31 := (p6.row (fun k => by unfold nSX; omega)).trans (rF 31 (by omega) (by omega))
  have eW : ∀ x, 26 ≤ x → x ≤ 29 → σ'.1 x = σ.1 x := fun x h1 h2 => (x4 x h1 h2).trans (rF x (by omega) (by omega))
  have r07 : τ'.1 2107 = ups (τ.1 2107) nS (i : Int) := by rw [t1, u1, ups_ups]
  have r08 : τ'.1 2108 = ups (τ.1 2108) nS y := by rw [t2, u2, ups_ups]
  have r09 : τ'.1 2109 = ups (τ.1 2109) nS z := by rw [t3, u3, ups_ups]
  have r10 : τ'.1 2110 = ups (τ.1 2110) nS ((M - 1 : Nat) : Int) := by rw [t4, u4]
  have r11 : τ'.1 2111 = ups (τ.1 2111) nS a := by rw [t5 2111 (by decide) (by decide), u5]
  have r12 : τ'.1 2112 = ups (τ.1 2112) nS e := by rw [t5 2112 (by decide) (by decide), u6]
  have r13 : τ'.1 2113 = ups (τ.1 2113) nS 0 := by rw [t5 2113 (by decide) (by decide), u7]
  have eT : ∀ x k, 2107 ≤ x → x ≤ 2113 → k < nS → τ'.1 x k = τ.1 x k := by
    intro x k q1 q2 hk
    have : x = 2107 ∨ x = 2108 ∨ x = 2109 ∨ x = 2110 ∨ x = 2111 ∨ x = 2112 ∨ x = 2113 := by omega
    rcases this with rfl | rfl | rfl | rfl | rfl | rfl | rfl
    · rw [r07, ups_ne (by omega)]
    · rw [r08, ups_ne (by omega)]
    · rw [r09, ups_ne (by omega)]
    · rw [r10, ups_ne (by omega)]
    · rw [r11, ups_ne (by omega)]
    · rw [r12, ups_ne (by omega)]
    · rw [r13, ups_ne (by omega)]
  have hsr' := SR_addC (G' := G') (M := M) (p' := p') (i := i) (N0 := N0) (u := M - 1) (y := y) (z := z) hsr (by omega) gG (by omega) ⟨x1, x2.trans (fX 5 27 (by unfold nEX; omega)).1⟩ eW ⟨by rw [x5, rF 19 (by omega) (by omega)], by rw [x6, rF 20 (by omega) (by omega)], by rw [x7, rF 21 (by omega) (by omega)], by rw [x8, rF 22 (by omega) (by omega)], by rw [x9, rF 23 (by omega) (by omega)], by rw [x10, rF 24 (by omega) (by omega), p3], by rw [x11, rF 25 (by omega) (by omega), (fX 2 16 (by unfold nEX; omega)).1]⟩ ⟨t6.trans g46, t7.trans g47⟩ ⟨r07, r08, r09, r10, r11, r12⟩ (hC G' M p2 p5 p4) (fun a ha => by rw [(hz a ha).2, (p5 a (hz a ha).1).1.2.1]) hcX hcT (by omega) ⟨hN0.1, by rw [p3]; exact hN0.2, by rw [p3]; omega, by omega⟩ (fun z0 => by
    obtain ⟨a', rfl⟩ := Int.eq_ofNat_of_zero_le z0
    obtain ⟨z1, z2⟩ := hz a' rfl
    have z3 := (p9.2.2.2.2 a' (by omega)).2.1.2.2.2
    rw [(p5 a' z1).1.2.1, ← z2] at z3
    rw [p3]
    omega) (by
    have w1 := wS_exp (fun i hi => (p9.2.2.2.2 i hi).2) p2 p3
    have w2 := wS_cong N gG
    have w3 := wS_mono (G := G') hNN
    have w4 := hsr.2.1.2.2.1.1
    omega) r13
  have ha := crT.lt hcT
  have hA : rwA (rwT τ) (rwT τ') nS := fun k hk => ⟨⟨eT 2107 k (by decide) (by decide) hk, eT 2108 k (by decide) (by decide) hk⟩, ⟨eT 2111 k (by decide) (by decide) hk, eT 2112 k (by decide) (by decide) hk⟩, eT 2113 k (by decide) (by decide) hk⟩
  have hgv : ∀ x' y' : Int, gives (rwT τ') (nS + 1) x' y' nS ↔ (x' = (i : Int) ∧ y' = y) := by
    intro x' y'
    unfold gives
    show 0 ≤ τ'.1 2107 nS ∧ τ'.1 2107 nS = x' ∧ τ'.1 2108 nS = y' ∨ τ'.1 2107 nS < 0 ∧ _ ↔ _
    rw [r07, r08, ups_eq, ups_eq]
    constructor
    · rintro (⟨_, h1, h2⟩ | ⟨h1, _⟩)
      · exact ⟨h1.symm, h2.symm⟩
      · omega
    · rintro ⟨h1, h2⟩
      exact Or.inl ⟨by omega, h1.symm, h2.symm⟩
  have hAL : ∀ x' y' : Int, AL (rwT τ') (nS + 1) x' y' a e ↔ (AL (rwT τ) nS x' y' a e ∨ (x' = (i : Int) ∧ y' = y)) := fun x' y' => by
    rw [AL_one (Nat.lt_succ_self nS) hA (rw_ord hsr) ha.2.1 ⟨by show τ'.1 2111 nS = a; rw [r11, ups_eq], by show τ'.1 2112 nS = e; rw [r12, ups_eq]⟩ (fun k h1 h2 => by omega), hgv]
  have e30 : σ'.1 30 = ups (σ.1 30) (1600 * (op : Int) + σ.1 31 i + max 0 y).toNat 1 := by rw [x12, rF 30 (by omega) (by omega), rF 31 (by omega) (by omega)]
  refine ⟨G', M, nC + 1, nW, nS + 1, p', _, by omega, ⟨⟨by omega, by omega, by omega, by omega, by omega⟩, gG, ⟨(agr_nSX fX).trans p6, fY.trans p7⟩, e216, fun x k q1 q2 _ => by rw [eW x q1 q2], eT, fun k q1 q2 => ?_, fun j z' hj hz' => ?_⟩, ⟨p8, p9, hsr', ⟨?_, ?_, hcL⟩, hSL.fr ((p6 2 15 (by unfold nSX; omega)).1.trans (fX 2 15 (by unfold nEX; omega)).1) e31, fun z' hz' => ?_⟩, Or.inl p10⟩
  · have : k = nS := by omega
    subst this
    exact Or.inl ⟨by rw [r11, ups_eq], by rw [r12, ups_eq]⟩
  · rw [e30, ups_ne (by omega)]
  · rw [e216, eW 26 (by decide) (by decide), eW 27 (by decide) (by decide), eW 28 (by decide) (by decide), eW 29 (by decide) (by decide)]
    exact crX.mono (by omega) (Nat.le_refl _) gG (fun k hk => ⟨rfl, rfl, rfl, rfl⟩) _ _ hcX
  · exact crT.mono _ _ _ _ _ (by omega) (fun k' hk' => ⟨eT 2110 k' (by decide) (by decide) hk', eT 2111 k' (by decide) (by decide) hk', eT 2112 k' (by decide) (by decide) hk'⟩) hcT
  · obtain ⟨d1, d2⟩ := hDV z' hz'
    rw [e30, e31]
    by_cases c : 1600 * op + z' = (1600 * (op : Int) + σ.1 31 i + max 0 y).toNat
    · rw [c, ups_eq]
      refine ⟨Or.inr rfl, fun _ => ⟨(i : Int), y, ?_, (hAL _ _).mpr (Or.inr ⟨rfl, rfl⟩)⟩, fun _ => rfl⟩
      rw [show ((i : Int)).toNat = i by omega]
      omega
    · rw [ups_ne c]
      refine ⟨d1, fun h => ?_, fun ⟨x', y', h1, h2⟩ => ?_⟩
      · obtain ⟨x', y', h1, h2⟩ := d2.mp h
        exact ⟨x', y', h1, (hAL _ _).mpr (Or.inl h2)⟩
      · rcases (hAL _ _).mp h2 with h3 | ⟨rfl, rfl⟩
        · exact d2.mpr ⟨x', y', h1, h3⟩
        · rw [show ((i : Int)).toNat = i by omega] at h1
          exact absurd (by omega) c
end
