set_option maxRecDepth 100000
set_option maxHeartbeats 400000
/-! ===== designs: the component's build ===== -/
/-- what its build leaves alone -/
def bldX (o a i : Nat) : Prop := ¬ (dcX o a i ∧ a ≠ o + 1)
/-- an end with a ring -/
def ringG (Ms : Nat → ModV) (s : LYS) (g : Nat) : Prop := g < lsG s ∧ onR (hgG Ms s) (lsG s) g ∧ ∀ x, x < g → ¬ onR (hgG Ms s) (lsG s) x
section
variable {Ms : Nat → ModV} {top K : Nat} {σ σ' : St} {o : Nat}
theorem ringG_u {s : LYS} {g h : Nat} (h1 : ringG Ms s g) (h2 : ringG Ms s h) : g = h := by
  rcases Nat.lt_trichotomy g h with w | w | w
  · exact absurd h1.2.1 (h2.2.2 g w)
  · exact w
  · exact absurd h2.2.1 (h1.2.2 h w)
theorem build25X (hK : K ≤ 12) (hD : isD o) (h40 : ∀ m, mdT (Ms m) ≤ 40) (hok : ∀ m, m < K → modOK Ms m (Ms m)) (htop : top < K) (hM : MX σ o Ms) (hX : ∀ m, m ≤ top → modX σ (o + 27 + 25 * m) (Ms m)) {Q : Int → St → Prop}
    (hA : ∀ σ', agr (bldX o) σ σ' → layF Ms 30 ls0 top (-1) (-1) 0 = none → Q (-4) σ')
    (hB : ∀ σ' s, agr (bldX o) σ σ' → layF Ms 30 ls0 top (-1) (-1) 0 = some s → ¬ limOK Ms s → Q (-4) σ')
    (hC : ∀ σ' s g, agr (bldX o) σ σ' → layF Ms 30 ls0 top (-1) (-1) 0 = some s → limOK Ms s → ringG Ms s g → σ'.1 o 23 = ((rBest (hgG Ms s) (lsG s) g + 1 : Nat) : Int) → (∀ j, j ≤ rBest (hgG Ms s) (lsG s) g → σ'.1 (o + 18) j = (rng (hgG Ms s) (lsG s) g j : Int)) → chOK Ms s → Q (-20) σ')
    (hN : ∀ σ' s, agr (bldX o) σ σ' → layF Ms 30 ls0 top (-1) (-1) 0 = some s → limOK Ms s → (∀ g, g < lsG s → ¬ onR (hgG Ms s) (lsG s) g) → DCX Ms top s (v0G Ms s) o σ' → chOK Ms s → Q (lsG s : Int) σ') : wp (X13_build_25 o (top : Int)) σ Q := by
  have hz : ∀ {σ1 σ2 : St} {P : Nat → Nat → Prop}, agr P σ1 σ2 → (∀ a i, ¬ (dcX o a i ∧ a ≠ o + 1) → P a i) → agr (bldX o) σ1 σ2 := fun h1 h2 => agr.sub h1 (fun a i h => h2 a i h)
  rw [X13_build_25, wp_bd, wp_pI, wp_bd, wp_pI, wp_bd, wp_pI]
  have hA1 : agr (fun a i => ¬ (a = o ∧ (i = 1 ∨ i = 7 ∨ i = 10))) σ (stA (stA (stA σ.1 o (ups (σ.1 o) 1 (top : Int))) o (ups (stA σ.1 o (ups (σ.1 o) 1 (top : Int)) o) 7 0)) o (ups (stA (stA σ.1 o (ups (σ.1 o) 1 (top : Int))) o (ups (stA σ.1 o (ups (σ.1 o) 1 (top : Int)) o) 7 0) o) 10 0), σ.2) := ((agr.refl.u (by omega) _).u (by omega) _).u (by omega) _
  have h17 : ∀ i : Nat, (stA (stA (stA σ.1 o (ups (σ.1 o) 1 (top : Int))) o (ups (stA σ.1 o (ups (σ.1 o) 1 (top : Int)) o) 7 0)) o (ups (stA (stA σ.1 o (ups (σ.1 o) 1 (top : Int))) o (ups (stA σ.1 o (ups (σ.1 o) 1 (top : Int)) o) 7 0) o) 10 0)) o i = if i = 1 then (top : Int) else if i = 7 ∨ i = 10 then 0 else σ.1 o i := fun i => by
    rw [stA_eq, stA_eq, stA_eq]
    by_cases c1 : i = 1
    · subst c1; rw [ups_ne (by decide), ups_ne (by decide), ups_eq, if_pos rfl]
    · rw [if_neg c1]
      by_cases c7 : i = 7
      · subst c7; rw [ups_ne (by decide), ups_eq, if_pos (Or.inl rfl)]
      · by_cases c10 : i = 10
        · subst c10; rw [ups_eq, if_pos (Or.inr rfl)]
        · rw [ups_ne c10, ups_ne c7, ups_ne c1, if_neg (by omega)]
  generalize hS : ((stA (stA (stA σ.1 o _) o _) o _, σ.2) : St) = σ1 at hA1
  have e1 : σ1.1 o 1 = (top : Int) ∧ σ1.1 o 7 = 0 ∧ σ1.1 o 10 = 0 := by
    subst hS
    exact ⟨(h17 1).trans (if_pos rfl), (h17 7).trans (by rw [if_neg (by decide), if_pos (Or.inl rfl)]), (h17 10).trans (by rw [if_neg (by decide), if_pos (Or.inr rfl)])⟩
  clear hS h17
  have hA1' : agr (bldX o) σ σ1 := hz hA1 (fun a i h => by unfold dcX at h; omega)
  have hX1 : ∀ m, m ≤ top → modX σ1 (o + 27 + 25 * m) (Ms m) := fun m hm => (hX m hm).fr (fun a q1 q2 => hA1.row (fun i => by omega))
  have hM1 : MX σ1 o Ms := fun m hm => by rw [(hA1 (o + 1) m (by omega)).2.2]; exact hM m hm
  have hpt : ∀ m t, m < K → t < mdT (Ms m) → mdkd (Ms m) t = 5 → mdpt (Ms m) t < m := fun m t hm ht h5 => ((hok m hm).2.2.1 t ht).1.2.2.2.2.2 h5
  have pl := placeX (Ms := Ms) hK hD h40 hpt 30 ls0 top (-1) (-1) 0 σ1 (fun _ => False) htop (by omega) ⟨Nat.zero_le _, Nat.zero_le _⟩ (by omega) ⟨⟨e1.2.1, e1.2.2⟩, fun i hi => absurd hi (Nat.not_lt_zero i), fun k h => h.elim, fun g hg => absurd hg (Nat.not_lt_zero g)⟩ hM1 hX1
  rw [wp_tryE]
  unfold R_X13_place
  refine wpE_mono pl (fun _ σ2 h2 => ?_) (fun x σ2 h2 => ?_)
  · obtain ⟨s, hs, hL, hA2⟩ := h2
    have hd : DP Ms top s := DP_of hK h40 hok htop hs
    have hA2' : agr (bldX o) σ σ2 := hA1'.trans (hz hA2 (fun a i h => by unfold dF; unfold dcX at h; omega))
    have hX2 : DX σ2 o Ms top s := by
      refine ⟨hL.sub (fun k hk => Or.inr ?_), fun m hm => by rw [(hA2 (o + 1) m (by unfold dF; omega)).2.2]; exact hM1 m hm, fun m hm => (hX1 m hm).fr (fun a q1 q2 => hA2.row (fun i => by unfold dF; omega)), by rw [(hA2 o 1 (by unfold dF; omega)).1]; exact e1.1⟩
      obtain ⟨x, y, z1, z2, z3⟩ := hk
      exact ⟨x, y, Nat.zero_le _, z1, z2, z3⟩
    rw [wp_tryE]
    refine wpE_mono (limX hd hD hX2) (fun _ σ3 h3 => ?_) (fun x σ3 h3 => ?_)
    · obtain ⟨hlim, hDL, hA3⟩ := h3
      have hA3' : agr (bldX o) σ σ3 := hA2'.trans (hz hA3 (fun a i h => by unfold lF; unfold dcX at h; omega))
      have hX3 : DX σ3 o Ms top s := hX2.fr hd.1.1 (agr.sub hA3 (fun a i h => by unfold dP at h; unfold lF; omega))
      rw [wp_bd]
      refine wp_mono (linkX hd hD hX3) (fun _ σ4 h4 => ?_)
      obtain ⟨hCH, hA4⟩ := h4
      have hA4' : agr (bldX o) σ σ4 := hA3'.trans (hz hA4 (fun a i h => by unfold kF; unfold dcX at h; omega))
      have hX4 : DX σ4 o Ms top s := hX3.fr hd.1.1 (agr.sub hA4 (fun a i h => by unfold dP at h; unfold kF; omega))
      have hL4 : DL σ4 o Ms s := by
        unfold DL
        rw [hA4.row (a := o + 19) (fun i => by unfold kF; omega), hA4.row (a := o + 21) (fun i => by unfold kF; omega), (hA4 o 25 (by unfold kF; omega)).1, (hA4 o 31 (by unfold kF; omega)).1]; exact hDL
      rw [wp_bd]
      refine wp_mono (findHX hd hD hX4 hCH) (fun _ σ5 h5 => ?_)
      obtain ⟨hA5, hH5⟩ := h5
      have hA5' : agr (bldX o) σ σ5 := hA4'.trans (hz hA5 (fun a i h => by unfold hF; unfold dcX at h; omega))
      have hX5 : DX σ5 o Ms top s := hX4.fr hd.1.1 (agr.sub hA5 (fun a i h => by unfold dP at h; unfold hF; omega))
      have hC5 : CH σ5 o Ms s := hCH.fr (fun a q1 q2 => hA5.row (fun i => by unfold hF; omega))
      have hL5 : DL σ5 o Ms s := by
        unfold DL
        rw [hA5.row (a := o + 19) (fun i => by unfold hF; omega), hA5.row (a := o + 21) (fun i => by unfold hF; omega), hA5.row (a := o) (fun i => by unfold hF; omega)]; exact hL4
      have hH5' : HX (σ5.2.1 (o + 14)) (hgG Ms s) := hH5.cong (fun g h _ _ => ⟨fun z => ⟨z.1, hd.hg_lt hX5 z.1 z.2, z.2⟩, fun z => ⟨z.1, z.2.2⟩⟩)
      rw [wp_bd]
      refine wp_mono (reachX hd hD hX5 hH5' (fun g h z1 z2 => by have := z2.1; omega)) (fun _ σ6 h6 => ?_)
      obtain ⟨hA6, hR6⟩ := h6
      have hA6' : agr (bldX o) σ σ6 := hA5'.trans (hz hA6 (fun a i h => by unfold rF; unfold dcX at h; omega))
      have hX6 : DX σ6 o Ms top s := hX5.fr hd.1.1 (agr.sub hA6 (fun a i h => by unfold dP at h; unfold rF; omega))
      have hC6 : CH σ6 o Ms s := hC5.fr (fun a q1 q2 => hA6.row (fun i => by unfold rF; omega))
      have hL6 : DL σ6 o Ms s := by
        unfold DL
        rw [hA6.row (a := o + 19) (fun i => by unfold rF; omega), hA6.row (a := o + 21) (fun i => by unfold rF; omega), hA6.row (a := o) (fun i => by unfold rF; omega)]; exact hL5
      have hH6 : HX (σ6.2.1 (o + 14)) (hgG Ms s) := by
        have : σ6.2.1 (o + 14) = σ5.2.1 (o + 14) := funext fun i => (hA6 (o + 14) i (by unfold rF; omega)).2.1
        rw [this]; exact hH5'
      rw [wp_bd]
      refine ringX hd hD hX6 hH6 hR6 (fun σ7 hA7 hno => ?_) (fun σ7 g hA7 hg hon hmin h23 h18 => ?_)
      · have hA7' : agr (bldX o) σ σ7 := hA6'.trans (hz hA7 (fun a i h => by unfold gF'; unfold dcX at h; omega))
        have hX7 : DX σ7 o Ms top s := hX6.fr hd.1.1 (agr.sub hA7 (fun a i h => by unfold dP at h; unfold gF'; omega))
        have hC7 : CH σ7 o Ms s := hC6.fr (fun a q1 q2 => hA7.row (fun i => by unfold gF'; omega))
        have hL7 : DL σ7 o Ms s := by
          unfold DL
          rw [hA7.row (a := o + 19) (fun i => by unfold gF'; omega), hA7.row (a := o + 21) (fun i => by unfold gF'; omega), (hA7 o 25 (by unfold gF'; omega)).1, (hA7 o 31 (by unfold gF'; omega)).1]; exact hL6
        have hH7 : HX (σ7.2.1 (o + 14)) (hgG Ms s) := by
          have : σ7.2.1 (o + 14) = σ6.2.1 (o + 14) := funext fun i => (hA7 (o + 14) i (by unfold gF'; omega)).2.1
          rw [this]; exact hH6
        rw [wp_ifp rfl]
        exact buildTX hd hD hlim hno hX7 hC7 hL7 hH7 (fun σ8 hA8 hD8 => hN σ8 s (hA7'.trans (hz hA8 (fun a i h => by unfold tX; unfold dcX at h; omega))) hs hlim hno hD8 (chOK_of hd hX7))
      · rw [wp_ifn (by decide), wp_rt]
        exact hC σ7 s g (hA6'.trans (hz hA7 (fun a i h => by unfold gF'; unfold dcX at h; omega))) hs hlim ⟨hg, hon, hmin⟩ h23 h18 (chOK_of hd hX6)
    · obtain ⟨rfl, hn, hA3⟩ := h3
      refine ⟨rfl, ?_⟩
      rw [wp_rt]
      exact hB σ3 s (hA2'.trans (hz hA3 (fun a i h => by unfold lF; unfold dcX at h; omega))) hs hn
  · obtain ⟨rfl, hn, hA2⟩ := h2
    refine ⟨rfl, ?_⟩
    rw [wp_rt]
    exact hA σ2 (hA1'.trans (hz hA2 (fun a i h => by unfold dF; unfold dcX at h; omega))) hn
end
