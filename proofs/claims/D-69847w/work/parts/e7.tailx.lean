set_option maxRecDepth 100000
set_option maxHeartbeats 400000
/-! ===== designs: the component's build, behind the rings ===== -/
theorem ctP_all {p : Nat → Prop} : ∀ {n : Nat}, (∀ h, h < n → p h) → ctP p n = n
  | 0, _ => rfl
  | n + 1, h => by
    have ih : ctP p n = n := ctP_all (fun x hx => h x (by omega))
    rw [ctP_up, ih, b1_y (h n (Nat.lt_succ_self n))]
/-- the state at the start -/
def v0G (Ms : Nat → ModV) (s : LYS) : VST := (fun _ => 0, bgS Ms s, fun _ _ => 0, 0)
def tX (o a i : Nat) : Prop := ¬ (a = o + 16 ∨ a = o + 17 ∨ a = o + 20 ∨ (o + 22 ≤ a ∧ a ≤ o + 25) ∨ (a = o ∧ (i = 20 ∨ i = 33 ∨ i = 34)))
section
variable {Ms : Nat → ModV} {top : Nat} {s : LYS} {σ σ' : St} {o : Nat}
theorem v0_B (hd : DP Ms top s) : VB Ms s (v0G Ms s) := by
  intro g hg
  obtain ⟨-, -, -, -, -, -, -, h3, h0, -⟩ := hd.sig hg
  refine ⟨Nat.two_pow_pos _, ?_, fun j => Nat.two_pow_pos _⟩
  show bgS Ms s g < _
  by_cases c : kdS Ms s g = 3
  · exact h3 c
  · rw [h0 c]; exact Nat.two_pow_pos _
theorem buildTX (hd : DP Ms top s) (hD : isD o) (hlim : limOK Ms s) (hno : ∀ g, g < lsG s → ¬ onR (hgG Ms s) (lsG s) g) (hX : DX σ o Ms top s) (hC : CH σ o Ms s) (hL : DL σ o Ms s) (hH : HX (σ.2.1 (o + 14)) (hgG Ms s)) {Q : Int → St → Prop} (hQ : ∀ σ', agr (tX o) σ σ' → DCX Ms top s (v0G Ms s) o σ' → Q (lsG s : Int) σ') : wp (bd (pI o 20 0) fun _ => lt 0 fun x3_2 => X13_build_88 o FU x3_2) σ Q := by
  have hF := FU_ge
  have h200 := hd.2.1.2
  have h12 := hd.1.1
  obtain ⟨r, hr1, hr2⟩ := rank_ex hno
  have keep : ∀ σ2, agr (tX o) σ σ2 → DX σ2 o Ms top s ∧ CH σ2 o Ms s ∧ DL σ2 o Ms s ∧ HX (σ2.2.1 (o + 14)) (hgG Ms s) := fun σ2 h2 => by
    have rw' : ∀ a, o + 9 ≤ a → a ≤ o + 21 → a ≠ o + 16 → a ≠ o + 17 → a ≠ o + 20 → σ2.1 a = σ.1 a := fun a h1 h3 h4 h5 h6 => h2.row (fun i => by unfold tX; omega)
    refine ⟨hX.fr h12 (agr.sub h2 (fun a i h => by unfold dP at h; unfold tX; omega)), hC.fr (fun a h1 h3 => rw' a (by omega) (by omega) (by omega) (by omega) (by omega)), ?_, ?_⟩
    · unfold DL
      rw [rw' (o + 19) (by omega) (by omega) (by omega) (by omega) (by omega), rw' (o + 21) (by omega) (by omega) (by omega) (by omega) (by omega), (h2 o 25 (by unfold tX; omega)).1, (h2 o 31 (by unfold tX; omega)).1]; exact hL
    · have : σ2.2.1 (o + 14) = σ.2.1 (o + 14) := funext fun i => (h2 (o + 14) i (by unfold tX; omega)).2.1
      rw [this]; exact hH
  -- the values
  have vals : ∀ d g f σ2, g + d = lsG s → d < f → agr (tX o) σ σ2 → OX Ms s o σ2 → (∀ x, x < g → σ2.1 (o + 20) x = 0) → wp (X13_build_141 o f (g : Int)) σ2 Q := by
    intro d
    induction d with
    | zero =>
      intro g f σ2 hg hf hA hO h0
      obtain ⟨f', rfl⟩ : ∃ f', f = f' + 1 := ⟨f - 1, by omega⟩
      obtain ⟨hX2, hC2, hL2, -⟩ := keep σ2 hA
      rw [X13_build_141, wp_bd, bgI0 hX2.1.1.2, wp_ifp (by omega), X13_build_162, wp_bd]
      refine restX hd hD hlim hX2 hL2 (iv := fun _ => 0) (fun x hx _ => by rw [h0 x (by omega)]; rfl) (fun σ3 hA3 hV3 h34 => ?_)
      have hA4 : agr (tX o) σ σ3 := hA.trans (agr.sub hA3 (fun a i h => by unfold tX at h; unfold sF; omega))
      obtain ⟨hX3, hC3, hL3, -⟩ := keep σ3 hA4
      rw [wp_bd, bgI0 hX3.1.1.2, wp_rt]
      obtain ⟨q, q1, q2, q3⟩ := hO
      refine hQ σ3 hA4 ⟨hX3, hC3, hL3, ⟨q, q1, ?_, fun k hk => ?_⟩, hV3, Or.inl h34⟩
      · rw [(hA3 o 20 (by unfold sF; omega)).1]; exact q2
      · rw [(hA3 (o + 16) k (by unfold sF; omega)).1]; exact q3 k hk
    | succ d ih =>
      intro g f σ2 hg hf hA hO h0
      obtain ⟨f', rfl⟩ : ∃ f', f = f' + 1 := ⟨f - 1, by omega⟩
      obtain ⟨hX2, hC2, hL2, -⟩ := keep σ2 hA
      rw [X13_build_141, wp_bd, bgI0 hX2.1.1.2, wp_ifn (by omega), wp_bd, DV_20 hD (by omega) (by omega), tn, wp_lt, w32_i (by omega) (by omega), show (g : Int) + 1 = ((g + 1 : Nat) : Int) by omega]
      obtain ⟨q, q1, q2, q3⟩ := hO
      refine ih (g + 1) f' _ (by omega) (by omega) (hA.x (o + 20) (fun k h => by unfold tX at h; omega)) ⟨q, q1, ?_, fun k hk => ?_⟩ (fun x hx => ?_)
      · dsimp only; rw [stA_ne (by omega)]; exact q2
      · dsimp only; rw [stA_ne (by omega)]; exact q3 k hk
      · dsimp only
        rw [stA_eq]
        by_cases e : x = g
        · subst e; rw [ups_eq]
        · rw [ups_ne e]; exact h0 x (by omega)
  -- the order
  have ord : ∀ d g f σ2 (P : Nat → Prop) (q : Nat → Nat) (c : Nat), g + d = lsG s → d < f → agr (tX o) σ σ2 → PX σ2 o (lsG s) P q c → PI (hgG Ms s) (lsG s) P q c 0 → (∀ y, y < lsG s → P y → ∃ k, k < c ∧ q k = y) → (∀ x, x < g → P x) → wp (X13_build_111 o f (g : Int)) σ2 Q := by
    intro d
    induction d with
    | zero =>
      intro g f σ2 P q c hg hf hA hPX hPI hin hall
      obtain ⟨f', rfl⟩ : ∃ f', f = f' + 1 := ⟨f - 1, by omega⟩
      obtain ⟨hX2, -⟩ := keep σ2 hA
      rw [X13_build_111, wp_bd, bgI0 hX2.1.1.2, wp_ifp (by omega), X13_build_139, wp_lt]
      have hc : c = lsG s := by
        have := hPI.1
        rw [ctP_all (fun h hh => hall h (by omega))] at this
        omega
      subst hc
      refine vals (lsG s) 0 FU σ2 (by omega) (by omega) hA ⟨q, ⟨Nat.le_refl _, fun k hk => (hPI.2.1 k hk).1, fun x hx => hin x hx (hall x (by omega)), hPI.2.2⟩, hPX.2.2, hPX.2.1⟩ (fun x h => absurd h (Nat.not_lt_zero x))
    | succ d ih =>
      intro g f σ2 P q c hg hf hA hPX hPI hin hall
      obtain ⟨f', rfl⟩ : ∃ f', f = f' + 1 := ⟨f - 1, by omega⟩
      obtain ⟨hX2, -, -, hH2⟩ := keep σ2 hA
      have hgl : g < lsG s := by omega
      have nxt : ∀ σ3 (P' : Nat → Prop) (q' : Nat → Nat) (c' : Nat), agr (tX o) σ σ3 → PX σ3 o (lsG s) P' q' c' → PI (hgG Ms s) (lsG s) P' q' c' 0 → (∀ y, y < lsG s → P' y → ∃ k, k < c' ∧ q' k = y) → (∀ x, x < g + 1 → P' x) → wp (X13_build_133 o (X13_build_111 o f') (g : Int)) σ3 Q := by
        intro σ3 P' q' c' b1 b2 b3 b4 b5
        rw [X13_build_133, wp_lt, w32_i (by omega) (by omega), show (g : Int) + 1 = ((g + 1 : Nat) : Int) by omega]
        exact ih (g + 1) f' σ3 P' q' c' (by omega) (by omega) b1 b2 b3 b4 b5
      rw [X13_build_111, wp_bd, bgI0 hX2.1.1.2, wp_ifn (by omega), wp_bd, DI_17 hD (by omega) (by omega), tn]
      by_cases hP : P g
      · rw [(hPX.1 g hgl).1 hP, wp_ifn (by decide)]
        refine nxt σ2 P q c hA hPX hPI hin (fun x hx => ?_)
        by_cases e : x = g
        · subst e; exact hP
        · exact hall x (by omega)
      · rw [(hPX.1 g hgl).2 hP, wp_ifp rfl, wp_bd]
        unfold R_X13_put
        refine wp_mono (putX hd hD hX2 hH2 (r := r) (fun x t hx ht h => hr2 x t hx ht h) 201 g 210 σ2 P q c 0 (by have := hr1 g; omega) (by decide) hgl agr.refl hPX hPI hP (fun y hy hPy => Or.inl (hin y hy hPy))) (fun _ σ3 h3 => ?_)
        obtain ⟨hA3, P', q', c', p1, p2, p3, p4, p5, p6, k, k1, k2⟩ := h3
        refine nxt σ3 P' q' c' (hA.trans (agr.sub hA3 (fun a i h => by unfold tX at h; unfold pF; omega))) p1 p2 (fun y hy hPy => ?_) (fun x hx => ?_)
        · rcases p6 y hy hPy with h | h
          · obtain ⟨k, hk1, hk2⟩ := hin y hy h
            exact ⟨k, by omega, by rw [p5 k hk1]; exact hk2⟩
          · exact h
        · by_cases e : x = g
          · subst e
            have := (p2.2.1 k k1).2
            rw [k2] at this
            exact this
          · exact p3 x (hall x (by omega))
  -- the marks
  have clr : ∀ d g f σ2, g + d = lsG s → d < f → agr (tX o) σ σ2 → (∀ x, x < g → σ2.1 (o + 17) x = 0) → σ2.1 o 20 = 0 → wp (X13_build_88 o f (g : Int)) σ2 Q := by
    intro d
    induction d with
    | zero =>
      intro g f σ2 hg hf hA h0 h20
      obtain ⟨f', rfl⟩ : ∃ f', f = f' + 1 := ⟨f - 1, by omega⟩
      obtain ⟨hX2, -⟩ := keep σ2 hA
      rw [X13_build_88, wp_bd, bgI0 hX2.1.1.2, wp_ifp (by omega), X13_build_109, wp_lt]
      refine ord (lsG s) 0 FU σ2 (fun _ => False) (fun _ => 0) 0 (by omega) (by omega) hA ⟨fun x hx => ⟨fun h => h.elim, fun _ => h0 x (by omega)⟩, fun k hk => absurd hk (Nat.not_lt_zero k), h20⟩ ⟨?_, fun k hk => absurd hk (Nat.not_lt_zero k), fun k h hk => absurd hk (Nat.not_lt_zero k)⟩ (fun y _ h => h.elim) (fun x hx => absurd hx (Nat.not_lt_zero x))
      exact (ctP_0.mpr (fun h _ z => z)).symm
    | succ d ih =>
      intro g f σ2 hg hf hA h0 h20
      obtain ⟨f', rfl⟩ : ∃ f', f = f' + 1 := ⟨f - 1, by omega⟩
      obtain ⟨hX2, -⟩ := keep σ2 hA
      rw [X13_build_88, wp_bd, bgI0 hX2.1.1.2, wp_ifn (by omega), wp_bd, DV_17 hD (by omega) (by omega) (by decide) (by decide), tn, wp_lt, w32_i (by omega) (by omega), show (g : Int) + 1 = ((g + 1 : Nat) : Int) by omega]
      refine ih (g + 1) f' _ (by omega) (by omega) (hA.x (o + 17) (fun k h => by unfold tX at h; omega)) (fun x hx => ?_) (by dsimp only; rw [stA_ne (by omega)]; exact h20)
      dsimp only
      rw [stA_eq]
      by_cases e : x = g
      · subst e; rw [ups_eq]
      · rw [ups_ne e]; exact h0 x (by omega)
  rw [wp_bd, wp_pI, wp_lt]
  exact clr (lsG s) 0 FU _ (by omega) (by omega) (agr.refl.u (by unfold tX; omega) _) (fun x h => absurd h (Nat.not_lt_zero x)) (by dsimp only; rw [stA_eq, ups_eq])
end
