set_option maxRecDepth 100000
set_option maxHeartbeats 400000
/-! ===== designs: the component's step, restart ===== -/
/-- what a step leaves alone -/
def sF (o a i : Nat) : Prop := ¬ (a = o + 20 ∨ (o + 22 ≤ a ∧ a ≤ o + 25) ∨ (a = o ∧ (i = 33 ∨ i = 34)))
theorem LY22 {d : Nat} (h : isD d) : lay (d + 22) = (1, 400) := (LD h).2.2.2.2.2.2.2.2.2.2.2.2.2.2.2.2.2.2.2.2.2.2.2.2.2.2.2.2.2.2.2.2.2.2.2.2.2.2.2.2.2.2.2.2.1
theorem LY23 {d : Nat} (h : isD d) : lay (d + 23) = (1, 400) := (LD h).2.2.2.2.2.2.2.2.2.2.2.2.2.2.2.2.2.2.2.2.2.2.2.2.2.2.2.2.2.2.2.2.2.2.2.2.2.2.2.2.2.2.2.2.2.2.1
section
variable {Ms : Nat → ModV} {top : Nat} {s : LYS} {v : VST} {σ σ' : St} {o : Nat}
theorem wrd_in (hd : DP Ms top s) (hlim : limOK Ms s) {g : Nat} (hg : g < lsG s) (h4 : kdS Ms s g = 4) : wrdS Ms s g + wsG Ms s g ≤ wrdS Ms s (lsG s) ∧ wrdS Ms s (lsG s) ≤ 200 := by
  have h1 : wrdS Ms s (g + 1) ≤ wrdS Ms s (lsG s) := smF_mono (by omega)
  have h2 : wrdS Ms s (g + 1) = wrdS Ms s g + b1 (kdS Ms s g = 4) (wsG Ms s g) := rfl
  rw [b1_y h4] at h2
  have hw2 := wrd_le hd (Nat.le_refl (lsG s))
  have hw3 := hlim.1.2
  omega
/-- words of other mems lie apart -/
theorem wrd_ap {g x : Nat} (hgx : g < x) (h4 : kdS Ms s g = 4) : wrdS Ms s g + wsG Ms s g ≤ wrdS Ms s x := by
  have h1 : wrdS Ms s (g + 1) ≤ wrdS Ms s x := smF_mono (by omega)
  have h2 : wrdS Ms s (g + 1) = wrdS Ms s g + b1 (kdS Ms s g = 4) (wsG Ms s g) := rfl
  rw [b1_y h4] at h2
  omega
theorem stepX (hd : DP Ms top s) (hch : chOK Ms s) (hD : isD o) (hlim : limOK Ms s) (hno : ∀ g, g < lsG s → ¬ onR (hgG Ms s) (lsG s) g) (hB : VB Ms s v) (hX : DX σ o Ms top s) (hL : DL σ o Ms s) (hC : CH σ o Ms s) (hO : OX Ms s o σ) (hv : VX Ms s v o σ) (hf : FX Ms s v o σ) (hst : v.2.2.2 ≤ 1000000) {Q : Unit → St → Prop} (hQ : ∀ σ', agr (sF o) σ σ' → VX Ms s (stp Ms s v) o σ' → σ'.1 o 34 = 0 → Q () σ') : wp (F_X13_step o) σ Q := by
  have hF := FU_ge
  have h200 := hd.2.1.2
  have hV := Vs_lt (v := v) hd hB
  have hWb : ∀ g j, g < lsG s → v.2.2.1 g j < 2 ^ wdS Ms s g := fun g j hg => (hB g hg).2.2 j
  have wn := wrd_le hd (Nat.le_refl (lsG s))
  have hw3 := hlim.1.2
  rw [F_X13_step, wp_bd]
  refine findAX hd hch hD hlim hno hB hX hL hC hO hv hf (fun σ1 hA1 _ hall => ?_)
  have hA1' : agr (sF o) σ σ1 := agr.sub hA1 (fun a i h => by unfold sF at h; unfold aF; omega)
  have h31 : σ1.1 o 31 = (wrdS Ms s (lsG s) : Int) := by rw [(hA1 o 31 (by unfold aF; omega)).1]; exact hL.2.2
  have hX1 := hX.fr hd.1.1 (agr.sub hA1' (fun a i h => by unfold dP at h; unfold sF; omega))
  have h22 : WRX Ms s σ1 o v.2.2.1 := fun g j hg hk hj => by rw [(hA1 (o + 22) _ (by unfold aF; omega)).1]; exact hv.2.1 g j hg hk hj
  have h33 : σ1.1 o 33 = (v.2.2.2 : Int) := by rw [(hA1 o 33 (by unfold aF; omega)).1]; exact hv.2.2
  rw [wp_bd, bgI0 h31, wp_bd, c_cpI (t := 1) (m := 400) (k := 400) (LY22 hD) (LY23 hD) (by decide) (by decide) (by decide) (by omega) (by omega) (by omega), wp_lt]
  have hA2 : agr (sF o) σ (stA σ1.1 (o + 23) (cpy (σ1.1 (o + 22)) (0 : Int).toNat (σ1.1 (o + 23)) (0 : Int).toNat (wrdS Ms s (lsG s) : Int).toNat), σ1.2) := hA1'.x (o + 23) (fun k h => by unfold sF at h; omega)
  have b23 : ∀ k, k < wrdS Ms s (lsG s) → ((stA σ1.1 (o + 23) (cpy (σ1.1 (o + 22)) (0 : Int).toNat (σ1.1 (o + 23)) (0 : Int).toNat (wrdS Ms s (lsG s) : Int).toNat), σ1.2) : St).1 (o + 23) k = σ1.1 (o + 22) k := fun k hk => by
    dsimp only
    rw [stA_eq]
    unfold cpy
    rw [tn, if_pos (by rw [tn0]; omega), tn0, Nat.zero_add, Nat.sub_zero]
  have bo : ∀ a, a ≠ o + 23 → ((stA σ1.1 (o + 23) (cpy (σ1.1 (o + 22)) (0 : Int).toNat (σ1.1 (o + 23)) (0 : Int).toNat (wrdS Ms s (lsG s) : Int).toNat), σ1.2) : St).1 a = σ1.1 a := fun a ha => by dsimp only; rw [stA_ne ha]
  have br : ((stA σ1.1 (o + 23) (cpy (σ1.1 (o + 22)) (0 : Int).toNat (σ1.1 (o + 23)) (0 : Int).toNat (wrdS Ms s (lsG s) : Int).toNat), σ1.2) : St).2 = σ1.2 := rfl
  generalize ((stA σ1.1 (o + 23) (cpy (σ1.1 (o + 22)) (0 : Int).toNat (σ1.1 (o + 23)) (0 : Int).toNat (wrdS Ms s (lsG s) : Int).toNat), σ1.2) : St) = σ2 at hA2 b23 bo br
  -- what stands while next values are found
  have hin : ∀ σ3, agr (fun a _ => a ≠ o + 23 ∧ a ≠ o + 24 ∧ a ≠ o + 25) σ2 σ3 → EX Ms top s (Vs Ms s v) v.2.2.1 o σ3 ∧ CH σ3 o Ms s ∧ (∀ g, g < lsG s → kdS Ms s g ≠ 4 → σ3.1 (o + 20) g = sg (Vs Ms s v g)) ∧ agr (sF o) σ σ3 := fun σ3 h3 => by
    have hA3 : agr (sF o) σ σ3 := hA2.trans (agr.sub h3 (fun a i h => by unfold sF at h; omega))
    have e3 : ∀ a k, a ≠ o + 23 → a ≠ o + 24 → a ≠ o + 25 → σ3.1 a k = σ1.1 a k := fun a k q1 q2 q3 => by rw [(h3 a k ⟨q1, q2, q3⟩).1, bo a q1]
    refine ⟨⟨hX.fr hd.1.1 (agr.sub hA3 (fun a i h => by unfold dP at h; unfold sF; omega)), ⟨fun g hg => ?_, ?_, ?_⟩, fun g j hg hk hj => ?_⟩, hC.fr (fun a q1 q2 => hA3.row (fun i => by unfold sF; omega)), fun g hg h4 => ?_, hA3⟩
    · rw [(hA3 (o + 19) g (by unfold sF; omega)).1, (hA3 (o + 21) g (by unfold sF; omega)).1]; exact hL.1 g hg
    · rw [(hA3 o 25 (by unfold sF; omega)).1]; exact hL.2.1
    · rw [(hA3 o 31 (by unfold sF; omega)).1]; exact hL.2.2
    · rw [e3 _ _ (by omega) (by omega) (by omega)]; exact h22 g j hg hk hj
    · rw [e3 _ _ (by omega) (by omega) (by omega)]; exact hall g hg h4
  -- the ends
  have last : ∀ σ3, agr (fun a _ => a ≠ o + 23 ∧ a ≠ o + 24 ∧ a ≠ o + 25) σ2 σ3 → (∀ x, x < lsG s → kdS Ms s x = 3 → σ3.1 (o + 24) x = sg ((stp Ms s v).2.1 x)) → (∀ x j, x < lsG s → kdS Ms s x = 4 → j < wsG Ms s x → σ3.1 (o + 23) (wrdS Ms s x + j) = sg ((stp Ms s v).2.2.1 x j)) → wp (X13_step_77 o) σ3 Q := by
    intro σ3 h3 hr hm
    obtain ⟨hE3, hC3, hall3, hA3⟩ := hin σ3 h3
    have h31' : σ3.1 o 31 = (wrdS Ms s (lsG s) : Int) := hE3.2.1.2.2
    have h33' : σ3.1 o 33 = (v.2.2.2 : Int) := by rw [(h3 o 33 (by omega)).1, bo o (by omega)]; exact h33
    rw [X13_step_77, wp_bd, bgI0 h31', wp_bd, c_cpI (t := 1) (m := 400) (k := 400) (LY23 hD) (LY22 hD) (by decide) (by decide) (by decide) (by omega) (by omega) (by omega), wp_lt]
    have key : ∀ d g f σ4, g + d = lsG s → d < f → agr (sF o) σ σ4 → (∀ x j, x < lsG s → kdS Ms s x = 4 → j < wsG Ms s x → σ4.1 (o + 22) (wrdS Ms s x + j) = sg ((stp Ms s v).2.2.1 x j)) → σ4.1 (o + 24) = σ3.1 (o + 24) → σ4.1 o 33 = (v.2.2.2 : Int) → (∀ x, x < lsG s → (tiG Ms s x → σ4.1 (o + 20) x = sg (v.1 x)) ∧ (kdS Ms s x = 3 → x < g → σ4.1 (o + 20) x = sg ((stp Ms s v).2.1 x))) → wp (X13_step_96 o f (g : Int)) σ4 Q := by
      intro d
      induction d with
      | zero =>
        intro g f σ4 hg hf hA4 hm4 h24 h33 hv4
        obtain ⟨f', rfl⟩ : ∃ f', f = f' + 1 := ⟨f - 1, by omega⟩
        have hX4 := hX.fr hd.1.1 (agr.sub hA4 (fun a i h => by unfold dP at h; unfold sF; omega))
        rw [X13_step_96, wp_bd, wp_gI, hX4.1.1.2, wp_ifp (by omega), X13_step_131, wp_bd, bgI0 h33, wp_bd, wp_pI, wp_bd, c_pZ (by decide) (by decide), wp_rt]
        refine hQ _ ((hA4.u (by unfold sF; omega) _).u (by unfold sF; omega) _) ⟨fun x hx => ?_, fun x j hx h4 hj => ?_, ?_⟩ (by dsimp only; rw [stA_eq, ups_eq])
        · dsimp only
          rw [stA_ne (by omega), stA_ne (by omega)]
          exact ⟨(hv4 x hx).1, fun h3 => (hv4 x hx).2 h3 (by omega)⟩
        · dsimp only
          rw [stA_ne (by omega), stA_ne (by omega)]
          exact hm4 x j hx h4 hj
        · dsimp only
          rw [stA_eq, ups_ne (by decide), stA_eq, ups_eq, w32_i (by omega) (by omega)]
          show (v.2.2.2 : Int) + 1 = ((v.2.2.2 + 1 : Nat) : Int)
          omega
      | succ d ih =>
        intro g f σ4 hg hf hA4 hm4 h24 h33 hv4
        obtain ⟨f', rfl⟩ : ∃ f', f = f' + 1 := ⟨f - 1, by omega⟩
        have hX4 := hX.fr hd.1.1 (agr.sub hA4 (fun a i h => by unfold dP at h; unfold sF; omega))
        have hgl : g < lsG s := by omega
        rw [X13_step_96, wp_bd, wp_gI, hX4.1.1.2, wp_ifn (by omega), wp_bd, x_kind hd hD hX4 hgl]
        by_cases c3 : kdS Ms s g = 3
        · rw [wp_ifp (by omega), wp_bd, DI_24 hD (by omega) (by omega), tn, h24, hr g hgl c3, wp_bd, DV_20 hD (by omega) (by omega), tn, X13_step_125, wp_lt, w32_i (by omega) (by omega), show (g : Int) + 1 = ((g + 1 : Nat) : Int) by omega]
          refine ih (g + 1) f' _ (by omega) (by omega) (hA4.x (o + 20) (fun k h => by unfold sF at h; omega)) (fun x j hx h4 hj => by dsimp only; rw [stA_ne (by omega)]; exact hm4 x j hx h4 hj) (by dsimp only; rw [stA_ne (by omega)]; exact h24) (by dsimp only; rw [stA_ne (by omega)]; exact h33) (fun x hx => ?_)
          dsimp only
          rw [stA_eq]
          by_cases e : x = g
          · subst e
            rw [ups_eq]
            exact ⟨fun ht => by have := ht.2; omega, fun _ _ => rfl⟩
          · rw [ups_ne e]
            exact ⟨(hv4 x hx).1, fun h3 hlt => (hv4 x hx).2 h3 (by omega)⟩
        · rw [wp_ifn (by omega), X13_step_125, wp_lt, w32_i (by omega) (by omega), show (g : Int) + 1 = ((g + 1 : Nat) : Int) by omega]
          refine ih (g + 1) f' σ4 (by omega) (by omega) hA4 hm4 h24 h33 (fun x hx => ⟨(hv4 x hx).1, fun h3 hlt => (hv4 x hx).2 h3 ?_⟩)
          by_cases e : x = g
          · subst e; exact absurd h3 c3
          · omega
    refine key (lsG s) 0 FU _ (by omega) (by omega) (hA3.x (o + 22) (fun k h => by unfold sF at h; omega)) (fun x j hx h4 hj => ?_) (by dsimp only; rw [stA_ne (by omega)]) (by dsimp only; rw [stA_ne (by omega)]; exact h33') (fun x hx => ?_)
    · obtain ⟨w1, w2⟩ := wrd_in hd hlim hx h4
      dsimp only
      rw [stA_eq]
      unfold cpy
      rw [tn, if_pos (by rw [tn0]; omega), tn0, Nat.zero_add, Nat.sub_zero]
      exact hm x j hx h4 hj
    · dsimp only
      rw [stA_ne (by omega)]
      refine ⟨fun ht => ?_, fun _ h => absurd h (Nat.not_lt_zero x)⟩
      rw [hall3 x hx (by have := ht.2; omega), Vs_n (fun z => z.2 ht)]
      unfold Vb
      rw [if_pos ht]
  -- next values
  have key : ∀ d g f σ3, g + d = lsG s → d < f → agr (fun a _ => a ≠ o + 23 ∧ a ≠ o + 24 ∧ a ≠ o + 25) σ2 σ3 → (∀ x, x < g → kdS Ms s x = 3 → σ3.1 (o + 24) x = sg ((stp Ms s v).2.1 x)) → (∀ x j, x < lsG s → kdS Ms s x = 4 → j < wsG Ms s x → σ3.1 (o + 23) (wrdS Ms s x + j) = sg (if x < g then (stp Ms s v).2.2.1 x j else v.2.2.1 x j)) → wp (X13_step_23 o f (g : Int)) σ3 Q := by
    intro d
    induction d with
    | zero =>
      intro g f σ3 hg hf h3 hr hm
      obtain ⟨f', rfl⟩ : ∃ f', f = f' + 1 := ⟨f - 1, by omega⟩
      obtain ⟨hE3, -⟩ := hin σ3 h3
      rw [X13_step_23, wp_bd, wp_gI, hE3.1.1.1.2, wp_ifp (by omega)]
      exact last σ3 h3 (fun x hx h => hr x (by omega) h) (fun x j hx h4 hj => by have := hm x j hx h4 hj; rw [if_pos (by omega)] at this; exact this)
    | succ d ih =>
      intro g f σ3 hg hf h3 hr hm
      obtain ⟨f', rfl⟩ : ∃ f', f = f' + 1 := ⟨f - 1, by omega⟩
      obtain ⟨hE3, hC3, hall3, hA3⟩ := hin σ3 h3
      have hgl : g < lsG s := by omega
      rw [X13_step_23, wp_bd, wp_gI, hE3.1.1.1.2, wp_ifn (by omega), wp_bd, x_kind hd hD hE3.1 hgl]
      by_cases c3 : kdS Ms s g = 3
      · have nt : ¬ tiG Ms s g := fun z => by have := z.2; omega
        have vg : Vs Ms s v g = v.2.1 g := by
          rw [Vs_n (fun z => z.1 (Or.inl c3))]
          unfold Vb
          rw [if_neg nt, if_pos c3]
        rw [wp_ifp (by omega), wp_bd, DI_20 hD (by omega) (by omega), tn, hall3 g hgl (by omega), vg, wp_bd]
        refine connX hd hD hlim hV hWb hgl hC3 hE3 (fun h hh hrd => hall3 h hh (hd.rdC4 hch hgl hrd).2) (fun σ4 hA4 => ?_)
        rw [← stp_r c3 hgl, wp_bd, DV_24 hD (by omega) (by omega), tn]
        have h4' : agr (fun a _ => a ≠ o + 23 ∧ a ≠ o + 24 ∧ a ≠ o + 25) σ2 (stA σ4.1 (o + 24) (ups (σ4.1 (o + 24)) g (sg ((stp Ms s v).2.1 g))), σ4.2) := (h3.trans (agr.sub hA4 (fun a i h => h.2.2))).x (o + 24) (fun k h => h.2.1 rfl)
        have e24 : σ4.1 (o + 24) = σ3.1 (o + 24) := hA4.row (fun i => by unfold eF; omega)
        have e23 : σ4.1 (o + 23) = σ3.1 (o + 23) := hA4.row (fun i => by unfold eF; omega)
        have r24 : ∀ x, x < g + 1 → kdS Ms s x = 3 → ((stA σ4.1 (o + 24) (ups (σ4.1 (o + 24)) g (sg ((stp Ms s v).2.1 g))), σ4.2) : St).1 (o + 24) x = sg ((stp Ms s v).2.1 x) := fun x hx h => by
          dsimp only
          rw [stA_eq]
          by_cases e : x = g
          · subst e; rw [ups_eq]
          · rw [ups_ne e, e24]; exact hr x (by omega) h
        have r23 : ((stA σ4.1 (o + 24) (ups (σ4.1 (o + 24)) g (sg ((stp Ms s v).2.1 g))), σ4.2) : St).1 (o + 23) = σ3.1 (o + 23) := by dsimp only; rw [stA_ne (by omega), e23]
        generalize ((stA σ4.1 (o + 24) (ups (σ4.1 (o + 24)) g (sg ((stp Ms s v).2.1 g))), σ4.2) : St) = σ5 at h4' r24 r23
        obtain ⟨hE5, -⟩ := hin σ5 h4'
        rw [X13_step_57, wp_bd, x_kind hd hD hE5.1 hgl, wp_ifn (by omega), X13_step_71, wp_lt, w32_i (by omega) (by omega), show (g : Int) + 1 = ((g + 1 : Nat) : Int) by omega]
        refine ih (g + 1) f' σ5 (by omega) (by omega) h4' r24 (fun x j hx h4 hj => ?_)
        rw [r23, hm x j hx h4 hj]
        by_cases c : x < g
        · rw [if_pos c, if_pos (by omega)]
        · rw [if_neg c]
          by_cases e : x = g
          · subst e; omega
          · rw [if_neg (by omega)]
      · rw [wp_ifn (by omega), X13_step_57, wp_bd, x_kind hd hD hE3.1 hgl]
        have r24 : ∀ σ4 : St, σ4.1 (o + 24) = σ3.1 (o + 24) → ∀ x, x < g + 1 → kdS Ms s x = 3 → σ4.1 (o + 24) x = sg ((stp Ms s v).2.1 x) := fun σ4 e x hx h => by
          rw [e]
          by_cases e : x = g
          · subst e; exact absurd h c3
          · exact hr x (by omega) h
        by_cases c4 : kdS Ms s g = 4
        · rw [wp_ifp (by omega), wp_bd]
          refine nextWX hd hD hlim hV hWb hgl c4 hC3 hE3 hall3 (f0 := v.2.2.1 g) (fun j hj => by have := hm g j hgl c4 hj; rw [if_neg (Nat.lt_irrefl g)] at this; exact this) (fun σ4 hA4 hw ho => ?_)
          rw [X13_step_71, wp_lt, w32_i (by omega) (by omega), show (g : Int) + 1 = ((g + 1 : Nat) : Int) by omega]
          refine ih (g + 1) f' σ4 (by omega) (by omega) (h3.trans (agr.sub hA4 (fun a i h => ⟨h.2.2, h.1⟩))) (r24 σ4 (hA4.row (fun i => by unfold wF; omega))) (fun x j hx h4 hj => ?_)
          by_cases e : x = g
          · subst e
            rw [if_pos (Nat.lt_succ_self x), hw j hj, stp_m h4 hx]
          · rw [ho _ ?_, hm x j hx h4 hj]
            · by_cases c : x < g
              · rw [if_pos c, if_pos (by omega)]
              · rw [if_neg c, if_neg (by omega)]
            · rcases Nat.lt_or_ge x g with w | w
              · have := wrd_ap (Ms := Ms) (s := s) w h4
                omega
              · have := wrd_ap (Ms := Ms) (s := s) (g := g) (x := x) (by omega) c4
                omega
        · rw [wp_ifn (by omega), X13_step_71, wp_lt, w32_i (by omega) (by omega), show (g : Int) + 1 = ((g + 1 : Nat) : Int) by omega]
          refine ih (g + 1) f' σ3 (by omega) (by omega) h3 (r24 σ3 rfl) (fun x j hx h4 hj => ?_)
          rw [hm x j hx h4 hj]
          by_cases c : x < g
          · rw [if_pos c, if_pos (by omega)]
          · rw [if_neg c]
            by_cases e : x = g
            · subst e; exact absurd h4 c4
            · rw [if_neg (by omega)]
  refine key (lsG s) 0 FU σ2 (by omega) (by omega) agr.refl (fun x h => absurd h (Nat.not_lt_zero x)) (fun x j hx h4 hj => ?_)
  obtain ⟨w1, w2⟩ := wrd_in hd hlim hx h4
  rw [if_neg (Nat.not_lt_zero x), b23 _ (by omega)]
  exact h22 x j hx h4 hj
/-- restart -/
theorem restX (hd : DP Ms top s) (hD : isD o) (hlim : limOK Ms s) (hX : DX σ o Ms top s) (hL : DL σ o Ms s) {iv : Nat → Nat} (hv : ∀ g, g < lsG s → tiG Ms s g → σ.1 (o + 20) g = sg (iv g)) {Q : Int → St → Prop} (hQ : ∀ σ', agr (sF o) σ σ' → VX Ms s (iv, bgS Ms s, fun _ _ => 0, 0) o σ' → σ'.1 o 34 = 0 → Q (σ.1 o 33) σ') : wp (F_X13_restart o) σ Q := by
  have hF := FU_ge
  have h200 := hd.2.1.2
  have h12 := hd.1.1
  have wn := wrd_le hd (Nat.le_refl (lsG s))
  have hw3 := hlim.1.2
  rw [F_X13_restart, wp_bd, wp_gI, wp_lt, wp_bd, wp_pI, wp_bd, c_pZ (by decide) (by decide), wp_lt]
  have words : ∀ d k f σ1, k + d = wrdS Ms s (lsG s) → d < f → agr (sF o) σ σ1 → (∀ x, x < k → σ1.1 (o + 22) x = 0) → (∀ g, g < lsG s → (tiG Ms s g → σ1.1 (o + 20) g = sg (iv g)) ∧ (kdS Ms s g = 3 → σ1.1 (o + 20) g = sg (bgS Ms s g))) → σ1.1 o 33 = 0 → σ1.1 o 34 = 0 → wp (X13_restart_63 o f (σ.1 o 33) (k : Int)) σ1 Q := by
    intro d
    induction d with
    | zero =>
      intro k f σ1 hk hf hA h0 hvv h33 h34
      obtain ⟨f', rfl⟩ : ∃ f', f = f' + 1 := ⟨f - 1, by omega⟩
      have h31 : σ1.1 o 31 = (wrdS Ms s (lsG s) : Int) := by rw [(hA o 31 (by unfold sF; omega)).1]; exact hL.2.2
      rw [X13_restart_63, wp_bd, bgI0 h31, wp_ifp (by omega), wp_rt]
      refine hQ σ1 hA ⟨hvv, fun g j hg h4 hj => ?_, h33⟩ h34
      obtain ⟨w1, w2⟩ := wrd_in hd hlim hg h4
      rw [h0 _ (by omega)]; rfl
    | succ d ih =>
      intro k f σ1 hk hf hA h0 hvv h33 h34
      obtain ⟨f', rfl⟩ : ∃ f', f = f' + 1 := ⟨f - 1, by omega⟩
      have h31 : σ1.1 o 31 = (wrdS Ms s (lsG s) : Int) := by rw [(hA o 31 (by unfold sF; omega)).1]; exact hL.2.2
      rw [X13_restart_63, wp_bd, bgI0 h31, wp_ifn (by omega), wp_bd, DV_22 hD (by omega) (by omega), tn, wp_lt, w32_i (by omega) (by omega), show (k : Int) + 1 = ((k + 1 : Nat) : Int) by omega]
      refine ih (k + 1) f' _ (by omega) (by omega) (hA.x (o + 22) (fun k h => by unfold sF at h; omega)) (fun x hx => ?_) (fun g hg => by dsimp only; rw [stA_ne (by omega)]; exact hvv g hg) (by dsimp only; rw [stA_ne (by omega)]; exact h33) (by dsimp only; rw [stA_ne (by omega)]; exact h34)
      dsimp only
      rw [stA_eq]
      by_cases e : x = k
      · subst e; rw [ups_eq]
      · rw [ups_ne e]; exact h0 x (by omega)
  have regs : ∀ d g f σ1, g + d = lsG s → d < f → agr (sF o) σ σ1 → (∀ x, x < lsG s → (tiG Ms s x → σ1.1 (o + 20) x = sg (iv x)) ∧ (kdS Ms s x = 3 → x < g → σ1.1 (o + 20) x = sg (bgS Ms s x))) → σ1.1 o 33 = 0 → σ1.1 o 34 = 0 → wp (X13_restart_17 o f (σ.1 o 33) (g : Int)) σ1 Q := by
    intro d
    induction d with
    | zero =>
      intro g f σ1 hg hf hA hvv h33 h34
      obtain ⟨f', rfl⟩ : ∃ f', f = f' + 1 := ⟨f - 1, by omega⟩
      have hX1 := hX.fr hd.1.1 (agr.sub hA (fun a i h => by unfold dP at h; unfold sF; omega))
      rw [X13_restart_17, wp_bd, wp_gI, hX1.1.1.2, wp_ifp (by omega), X13_restart_61, wp_lt]
      exact words (wrdS Ms s (lsG s)) 0 FU σ1 (by omega) (by omega) hA (fun x h => absurd h (Nat.not_lt_zero x)) (fun x hx => ⟨(hvv x hx).1, fun h => (hvv x hx).2 h (by omega)⟩) h33 h34
    | succ d ih =>
      intro g f σ1 hg hf hA hvv h33 h34
      obtain ⟨f', rfl⟩ : ∃ f', f = f' + 1 := ⟨f - 1, by omega⟩
      have hX1 := hX.fr hd.1.1 (agr.sub hA (fun a i h => by unfold dP at h; unfold sF; omega))
      have hgl : g < lsG s := by omega
      obtain ⟨a1, a2, a3, a4, -⟩ := hd.sig hgl
      have h40 := hd.1.2.1 (lsM s (lsi s g))
      have hMd := isMd_D hD (show lsM s (lsi s g) < 12 by omega)
      rw [X13_restart_17, wp_bd, wp_gI, hX1.1.1.2, wp_ifn (by omega), wp_bd, x_kind hd hD hX1 hgl]
      by_cases c3 : kdS Ms s g = 3
      · have m7 : σ1.1 (o + 27 + 25 * lsM s (lsi s g) + 7) (lsth s g) = sg (bgS Ms s g) := ((hX1.2.2.1 _ a2).2.1 _ a3).1.2.2.2.2
        rw [wp_ifp (by omega), wp_bd, x_module hd hD hX1 hgl, wp_nn, wp_ck, and_t (ly_Md hMd), wp_bd, DI_8 hD (by omega) (by omega), tn, (hX1.1.2.2.2 g hgl).2, wp_bd, MI_7 hMd (by omega) (by omega), tn, m7, wp_bd, DV_20 hD (by omega) (by omega), tn, X13_restart_55, wp_lt, w32_i (by omega) (by omega), show (g : Int) + 1 = ((g + 1 : Nat) : Int) by omega]
        refine ih (g + 1) f' _ (by omega) (by omega) (hA.x (o + 20) (fun k h => by unfold sF at h; omega)) (fun x hx => ?_) (by dsimp only; rw [stA_ne (by omega)]; exact h33) (by dsimp only; rw [stA_ne (by omega)]; exact h34)
        dsimp only
        rw [stA_eq]
        by_cases e : x = g
        · subst e
          rw [ups_eq]
          exact ⟨fun ht => by have := ht.2; omega, fun _ _ => rfl⟩
        · rw [ups_ne e]
          exact ⟨(hvv x hx).1, fun h hlt => (hvv x hx).2 h (by omega)⟩
      · rw [wp_ifn (by omega), X13_restart_55, wp_lt, w32_i (by omega) (by omega), show (g : Int) + 1 = ((g + 1 : Nat) : Int) by omega]
        refine ih (g + 1) f' σ1 (by omega) (by omega) hA (fun x hx => ⟨(hvv x hx).1, fun h hlt => (hvv x hx).2 h ?_⟩) h33 h34
        by_cases e : x = g
        · subst e; exact absurd h c3
        · omega
  refine regs (lsG s) 0 FU _ (by omega) (by omega) ((agr.refl.u (by unfold sF; omega) _).u (by unfold sF; omega) _) (fun x hx => ?_) (by dsimp only; rw [stA_eq, ups_ne (by decide), stA_eq, ups_eq]) (by dsimp only; rw [stA_eq, ups_eq])
  dsimp only
  rw [stA_ne (by omega), stA_ne (by omega)]
  exact ⟨hv x hx, fun _ h => absurd h (Nat.not_lt_zero x)⟩
end
