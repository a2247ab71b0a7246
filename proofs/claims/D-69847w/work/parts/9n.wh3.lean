set_option maxRecDepth 100000
set_option maxHeartbeats 400000
/-! ===== read: whens, the end ===== -/
section
variable {k t : Nat} {kd wd pt : Nat → Nat} {Mt : Nat → Nat} {Mk Mw : Nat → Nat → Nat}
variable {c0 : Nat × Int} {σ0 τ0 : St} {T : Nat → Int} {n op : Nat} {a e : Int} {Lc : List (Nat × Bool)} {γ δ : Type}
/-- a when, put together -/
theorem wfin {G G' : NG} {N N' nC nC' nW nW' nS nS' p p' : Nat} {H H' : SG} {σ τ σ' τ' : St} (hs : SX k t kd wd pt Mt Mk Mw c0 σ0 τ0 T n op a e Lc G N nC nW nS p H σ τ) (hp : p < p') (h : STP op a e G N nC nW nS σ τ G' N' nC' nW' nS' σ' τ') (hb : BS c0 σ0 τ0 T n σ' τ') (hx : EX0 (VE k t kd wd pt Mt Mk Mw) (RDk t kd wd pt Mt Mk Mw) (WDk t kd wd) G' N' 0 op p' σ' τ') (hsr : SR t kd wd pt Mt Mk Mw G' N' nC' nW' nS' p' H' σ' τ') (hSL : SL t kd pt Mt σ') (hk : TK T n σ' τ' p') (hn : nS < nS') (h0 : τ'.1 2111 nS = a ∧ τ'.1 2112 nS = e) (hnew : ∀ k, nS < k → k < nS' → (nS : Int) ≤ τ'.1 2111 k) (hD : ∀ z : Nat, z < 1600 → (σ'.1 30 (1600 * op + z) = 0 ∨ σ'.1 30 (1600 * op + z) = 1) ∧ (σ'.1 30 (1600 * op + z) = 1 ↔ (σ.1 30 (1600 * op + z) = 1 ∨ ∃ x y : Int, σ'.1 31 x.toNat + max 0 y = (z : Int) ∧ gives (rwT τ') nS' x y nS))) : SPost k t kd wd pt Mt Mk Mw c0 σ0 τ0 T n op a e Lc G N nC nW nS p σ τ σ' τ' := by
  obtain ⟨hb0, hx0, hsr0, ⟨hcX, hcT, hcL⟩, hSL0, hDV⟩ := hs
  obtain ⟨⟨a1, a1', a1'', a1''', -⟩, a2, ⟨a3, a3'⟩, a4, a5, a6, a7, a8⟩ := id h
  have e31 : σ'.1 31 = σ.1 31 := a3.row (fun k => by unfold nSX; omega)
  have hA : rwA (rwT τ) (rwT τ') nS := fun k hk => ⟨⟨a6 2107 k (by decide) (by decide) hk, a6 2108 k (by decide) (by decide) hk⟩, ⟨a6 2111 k (by decide) (by decide) hk, a6 2112 k (by decide) (by decide) hk⟩, a6 2113 k (by decide) (by decide) hk⟩
  refine ⟨G', N', nC', nW', nS', p', H', hp, h, ⟨hb, hx, hsr, ⟨?_, ?_, hcL⟩, hSL, fun z hz => ?_⟩, hk⟩
  · rw [a4]
    exact crX.mono a1 a1'' a2 (fun k' hk' => ⟨a5 26 k' (by decide) (by decide) hk', a5 27 k' (by decide) (by decide) hk', a5 28 k' (by decide) (by decide) hk', a5 29 k' (by decide) (by decide) hk'⟩) _ _ hcX
  · exact crT.mono _ _ _ _ _ a1''' (fun k' hk' => ⟨a6 2110 k' (by decide) (by decide) hk', a6 2111 k' (by decide) (by decide) hk', a6 2112 k' (by decide) (by decide) hk'⟩) hcT
  · obtain ⟨d1, d2⟩ := hD z hz
    obtain ⟨-, d3⟩ := hDV z hz
    refine ⟨d1, ?_⟩
    rw [d2, d3, e31]
    have one : ∀ x y : Int, AL (rwT τ') nS' x y a e ↔ (AL (rwT τ) nS x y a e ∨ gives (rwT τ') nS' x y nS) := fun x y => AL_one hn hA (rw_ord hsr0) (crT.lt hcT).2.1 h0 hnew
    constructor
    · rintro (⟨x, y, h1, h2⟩ | ⟨x, y, h1, h2⟩)
      · exact ⟨x, y, h1, (one x y).mpr (Or.inl h2)⟩
      · exact ⟨x, y, h1, (one x y).mpr (Or.inr h2)⟩
    · rintro ⟨x, y, h1, h2⟩
      rcases (one x y).mp h2 with h3 | h3
      · exact Or.inl ⟨x, y, h1, h3⟩
      · exact Or.inr ⟨x, y, h1, h3⟩
/-- what a when without an else has done -/
theorem WB.stp {G G' : NG} {N N' nC nC' nW nW' nS nS' u : Nat} {σ τ σ' τ' σ2 : St} (h : WB op a e G N nC nW nS σ τ u G' N' nC' nW' nS' σ' τ') (e16 : σ2.1 2 16 = σ.1 2 16) (eX : agr nSX σ' σ2) (e2 : ∀ x, x ≠ 2 → σ2.1 x = σ'.1 x) : STP op a e G N nC nW nS σ τ G' N' nC' nW' nS' σ2 τ' := by
  obtain ⟨⟨h1, h1', h1'', h1''', hx0⟩, h2, ⟨h3, h3'⟩, h4, h5, ⟨n07, n10, n11, n12, n13⟩, h7, h8, h9⟩ := h
  refine ⟨⟨h1, h1', by omega, by omega, by omega⟩, h2, ⟨h3.trans eX, h3'⟩, e16, fun x k q1 q2 q3 => by rw [e2 x (by omega)]; exact h4 x k q1 q2 q3, h5, fun k q1 q2 => ?_, fun j z hj hz => by rw [e2 30 (by decide)]; exact h9 j z (by omega) hz⟩
  by_cases c : k = nS
  · subst c; exact Or.inl ⟨n11, n12⟩
  · rcases h8 k (by omega) q2 with ⟨w, _⟩ | w
    · exact Or.inr (by omega)
    · exact Or.inr (by omega)
/-- behind the first block, without an else -/
theorem whenN {rb : Int → St → Option ((Unit ⊕ XV) × St)} {rb2 : Int → Int → St → Option ((Unit ⊕ XV) × St)} {G G' : NG} {N N' nC nC' nW nW' nS nS' p p' u : Nat} {H H' : SG} {σ τ σ' τ' : St} (hs : SX k t kd wd pt Mt Mk Mw c0 σ0 τ0 T n op a e Lc G N nC nW nS p H σ τ) (hp : p < p') (h : WB op a e G N nC nW nS σ τ u G' N' nC' nW' nS' σ' τ') (hb : BS c0 σ0 τ0 T n σ' τ') (hx : EX0 (VE k t kd wd pt Mt Mk Mw) (RDk t kd wd pt Mt Mk Mw) (WDk t kd wd) G' N' 0 op p' σ' τ') (hsr : SR t kd wd pt Mt Mk Mw G' N' nC' nW' nS' p' H' σ' τ') (hSL : SL t kd pt Mt σ') (hk : TK T n σ' τ' p') : LK c0 σ0 τ0 (fun _ : Unit => True) (X1_when_200 rb rb2 (σ.1 2 16)) (rt ()) σ' τ' (fun _ _ σ2 τ2 => SPost k t kd wd pt Mt Mk Mw c0 σ0 τ0 T n op a e Lc G N nC nW nS p σ τ σ2 τ2) := by
  rw [X1_when_200]
  refine LK_c ?_
  rw [wp_pI]
  have e2 : ∀ x, x ≠ 2 → ((stA σ'.1 2 (ups (σ'.1 2) 16 (σ.1 2 16)), σ'.2) : St).1 x = σ'.1 x := fun x q => by dsimp only; rw [stA_ne q]
  have e2i : ∀ i, i ≠ 16 → ((stA σ'.1 2 (ups (σ'.1 2) 16 (σ.1 2 16)), σ'.2) : St).1 2 i = σ'.1 2 i := fun i q => by dsimp only; rw [stA_eq, ups_ne q]
  have e16 : ((stA σ'.1 2 (ups (σ'.1 2) 16 (σ.1 2 16)), σ'.2) : St).1 2 16 = σ.1 2 16 := by dsimp only; rw [stA_eq, ups_eq]
  have eX : agr nSX σ' (stA σ'.1 2 (ups (σ'.1 2) 16 (σ.1 2 16)), σ'.2) := agr.refl.u (by unfold nSX; omega) _
  have er : ((stA σ'.1 2 (ups (σ'.1 2) 16 (σ.1 2 16)), σ'.2) : St).2 = σ'.2 := rfl
  generalize ((stA σ'.1 2 (ups (σ'.1 2) 16 (σ.1 2 16)), σ'.2) : St) = σ2 at e2 e2i e16 eX er
  have hdv := hs.2.2.2.2.2
  have w9 := h.2.2.2.2.2.2.2.2
  obtain ⟨n07, n10, n11, n12, n13⟩ := h.2.2.2.2.2.1
  have h8 := h.2.2.2.2.2.2.2.1
  have h1 := h.1
  refine LK_rt (wfin (H' := H') hs hp (h.stp e16 eX e2) (hb.frS eX agr.refl hb.2.2.1) (hx.cong (hx.1.stS eX agr.refl) (fun i _ => by rw [e2 5 (by decide)]) (e2i 9 (by decide)) (fun x q1 q2 => e2 x (by omega)) (fun _ _ _ => rfl) (fun _ _ _ => rfl) rfl) ?_ (hSL.fr (e2i 15 (by decide)) (e2 31 (by decide))) (hk.cong (fun i q1 q2 => e2i i (by omega)) er (fun _ _ _ => rfl) rfl) (by omega) ⟨n11, n12⟩ (fun k' q1 q2 => ?_) (fun z hz => ?_))
  · obtain ⟨⟨⟨r1, r2⟩, r3, r4⟩, ⟨r5, r6, rSO⟩, r7, r8, r9⟩ := hsr
    exact ⟨⟨⟨by rw [e2 5 (by decide)]; exact r1, by rw [e2 5 (by decide)]; exact r2⟩, r3, r4⟩, ⟨r5, r6, rSO.mono (Nat.le_refl _) (fun _ _ => gAt.refl) (fun x c q1 q2 _ => by rw [e2 x (by omega)]) (fun x k q1 q2 _ => by rw [e2 x (by omega)]) (fun _ _ => rfl)⟩, fun c hc => (r7 c hc).mono (Nat.le_refl _) (Nat.le_refl _) (Nat.le_refl _) (fun _ _ => gAt.refl) rfl rfl (fun x q1 q2 => by rw [e2 x (by omega)]) (fun x k' q1 q2 _ => by rw [e2 x (by omega)]) (fun _ _ _ => rfl), r8, r9⟩
  · rcases h8 k' q1 q2 with ⟨w, _⟩ | w <;> omega
  · have e30 : σ2.1 30 (1600 * op + z) = σ.1 30 (1600 * op + z) := by rw [e2 30 (by decide)]; exact w9 op z (by omega) hz
    rw [e30]
    refine ⟨(hdv z hz).1, fun w => Or.inl w, fun w => ?_⟩
    rcases w with w | ⟨x, y, q1, q2⟩
    · exact w
    · exfalso
      unfold gives at q2
      rcases q2 with ⟨q3, _⟩ | ⟨_, q4, _⟩
      · have : rTh (rwT τ') nS = -1 := n07
        omega
      · exact q4 n13
end
