set_option maxRecDepth 100000
set_option maxHeartbeats 400000
/-! ===== designs: all values, in both ===== -/
section
variable {Ms : Nat → ModV} {top : Nat} {s : LYS} {v : VST} {σ σ' τ τ' : St} {o S : Nat}
/-- the component holds a state -/
def VX (Ms : Nat → ModV) (s : LYS) (v : VST) (o : Nat) (σ : St) : Prop := (∀ g, g < lsG s → (tiG Ms s g → σ.1 (o + 20) g = sg (v.1 g)) ∧ (kdS Ms s g = 3 → σ.1 (o + 20) g = sg (v.2.1 g))) ∧ WRX Ms s σ o v.2.2.1 ∧ σ.1 o 33 = (v.2.2.2 : Int)
/-- what it has found stands -/
def FX (Ms : Nat → ModV) (s : LYS) (v : VST) (o : Nat) (σ : St) : Prop := σ.1 o 34 = 0 ∨ (σ.1 o 34 = 1 ∧ ∀ g, g < lsG s → nrm Ms s g → σ.1 (o + 20) g = sg (Vs Ms s v g))
/-- the order in the component -/
def OX (Ms : Nat → ModV) (s : LYS) (o : Nat) (σ : St) : Prop := ∃ q, OO (hgG Ms s) (lsG s) q (lsG s) ∧ σ.1 o 20 = (lsG s : Int) ∧ ∀ k, k < lsG s → σ.1 (o + 16) k = (q k : Int)
def aF (o a i : Nat) : Prop := ¬ (a = o + 25 ∨ a = o + 20 ∨ (a = o ∧ i = 34))
theorem VX.all (h : VX Ms s v o σ) {g : Nat} (hg : g < lsG s) (hn : ¬ nrm Ms s g) (h4 : kdS Ms s g ≠ 4) : σ.1 (o + 20) g = sg (Vs Ms s v g) := by
  rw [Vs_n hn]
  unfold Vb
  by_cases c : tiG Ms s g
  · rw [if_pos c]; exact (h.1 g hg).1 c
  · have c3 : kdS Ms s g = 3 := by
      by_cases z : stG Ms s g
      · rcases z with z | z
        · exact z
        · exact absurd z h4
      · exact absurd ⟨z, c⟩ hn
    rw [if_neg c, if_pos c3]; exact (h.1 g hg).2 c3
/-- a signal that is read has no kind of mem -/
theorem DP.rdC4 (hd : DP Ms top s) (hch : chOK Ms s) {g h : Nat} (hg : g < lsG s) (hr : rdC Ms s g h) : h < lsG s ∧ kdS Ms s h ≠ 4 := by
  obtain ⟨c, hc, hr⟩ := hr
  obtain ⟨z1, z2, z3, -⟩ := hd.conL_mem hg hc
  have one : ∀ u, u < mdN (moI Ms s (coI Ms s g)) → rdE Ms s (coI Ms s g) u h → h < lsG s ∧ kdS Ms s h ≠ 4 := by
    rintro u hu ⟨n, n1, n2, n4, n5⟩
    obtain ⟨t, t1, t2, t3, t4, t5, -⟩ := hd.rd z2 (show n < mdN _ by omega) n4
    rw [t1, tn] at n5
    rw [← n5]; exact ⟨t4, t5⟩
  rcases hr with h | ⟨q, hq, h⟩
  · exact one _ (hd.root z2 z3) h
  · exact one _ (hch _ _ z2 z3 q hq).1 h
theorem findAX (hd : DP Ms top s) (hch : chOK Ms s) (hD : isD o) (hlim : limOK Ms s) (hno : ∀ g, g < lsG s → ¬ onR (hgG Ms s) (lsG s) g) (hB : VB Ms s v) (hX : DX σ o Ms top s) (hL : DL σ o Ms s) (hC : CH σ o Ms s) (hO : OX Ms s o σ) (hv : VX Ms s v o σ) (hf : FX Ms s v o σ) {Q : Unit → St → Prop} (hQ : ∀ σ', agr (aF o) σ σ' → σ'.1 o 34 = 1 → (∀ g, g < lsG s → kdS Ms s g ≠ 4 → σ'.1 (o + 20) g = sg (Vs Ms s v g)) → Q () σ') : wp (F_X13_findAll o) σ Q := by
  have hF := FU_ge
  have h200 := hd.2.1.2
  have hV := Vs_lt (v := v) hd hB
  have hWb : ∀ g j, g < lsG s → v.2.2.1 g j < 2 ^ wdS Ms s g := fun g j hg => (hB g hg).2.2 j
  obtain ⟨q, ⟨o1, o2, o3, o4⟩, o5, o6⟩ := hO
  rw [F_X13_findAll, wp_bd, wp_gI]
  rcases hf with h34 | ⟨h34, hfd⟩
  · rw [h34, wp_ifp rfl, wp_lt]
    have key : ∀ d k f σ1, k + d = lsG s → d < f → agr (aF o) σ σ1 → (∀ g, g < lsG s → ¬ nrm Ms s g → σ1.1 (o + 20) g = σ.1 (o + 20) g) → (∀ k', k' < k → nrm Ms s (q k') → σ1.1 (o + 20) (q k') = sg (Vs Ms s v (q k'))) → wp (X13_findAll_10 o f (k : Int)) σ1 Q := by
      intro d
      induction d with
      | zero =>
        intro k f σ1 hk hf hA hn hdn
        obtain ⟨f', rfl⟩ : ∃ f', f = f' + 1 := ⟨f - 1, by omega⟩
        have h20 : σ1.1 o 20 = (lsG s : Int) := by rw [(hA o 20 (by unfold aF; omega)).1]; exact o5
        rw [X13_findAll_10, wp_bd, bgI0 h20, wp_ifp (by omega), X13_findAll_59, wp_bd, c_pZ (by decide) (by decide), wp_rt]
        refine hQ _ (hA.u (by unfold aF; omega) _) (by dsimp only; rw [stA_eq, ups_eq]) (fun g hg h4 => ?_)
        dsimp only
        rw [stA_ne (by omega)]
        by_cases c : nrm Ms s g
        · obtain ⟨k', k1, k2⟩ := o3 g hg
          have := hdn k' (by omega) (by rw [k2]; exact c)
          rw [k2] at this
          exact this
        · rw [hn g hg c]; exact hv.all hg c h4
      | succ d ih =>
        intro k f σ1 hk hf hA hn hdn
        obtain ⟨f', rfl⟩ : ∃ f', f = f' + 1 := ⟨f - 1, by omega⟩
        have h20 : σ1.1 o 20 = (lsG s : Int) := by rw [(hA o 20 (by unfold aF; omega)).1]; exact o5
        have h16 : σ1.1 (o + 16) k = (q k : Int) := by rw [(hA (o + 16) k (by unfold aF; omega)).1]; exact o6 k (by omega)
        have hql := o2 k (by omega)
        have hX1 := hX.fr hd.1.1 (agr.sub hA (fun a i h => by unfold dP at h; unfold aF; omega))
        have nxt : ∀ σ2, agr (aF o) σ σ2 → (∀ g, g < lsG s → ¬ nrm Ms s g → σ2.1 (o + 20) g = σ.1 (o + 20) g) → (∀ k', k' < k + 1 → nrm Ms s (q k') → σ2.1 (o + 20) (q k') = sg (Vs Ms s v (q k'))) → wp (X13_findAll_53 o (X13_findAll_10 o f') (k : Int)) σ2 Q := by
          intro σ2 a1 a2 a3
          rw [X13_findAll_53, wp_lt, w32_i (by omega) (by omega), show (k : Int) + 1 = ((k + 1 : Nat) : Int) by omega]
          exact ih (k + 1) f' σ2 (by omega) (by omega) a1 a2 a3
        have skip : ¬ nrm Ms s (q k) → wp (X13_findAll_53 o (X13_findAll_10 o f') (k : Int)) σ1 Q := fun h => nxt σ1 hA hn (fun k' hk' hnk => by
          by_cases e : k' = k
          · subst e; exact absurd hnk h
          · exact hdn k' (by omega) hnk)
        rw [X13_findAll_10, wp_bd, bgI0 h20, wp_ifn (by omega), wp_bd, DI_16 hD (by omega) (by omega), tn, h16, wp_lt, wp_bd, x_state hd hD hX1 hql]
        by_cases cs : stG Ms s (q k)
        · rw [b01_y cs, wp_ifn (by decide)]; exact skip (fun h => h.1 cs)
        · rw [b01_n cs, wp_ifp rfl, wp_bd, x_topIn hd hD hX1 hql]
          by_cases ct : tiG Ms s (q k)
          · rw [b01_y ct, wp_ifn (by decide)]; exact skip (fun h => h.2 ct)
          · have cn : nrm Ms s (q k) := ⟨cs, ct⟩
            have hL1 : DL σ1 o Ms s := ⟨fun g hg => by rw [(hA (o + 19) g (by unfold aF; omega)).1, (hA (o + 21) g (by unfold aF; omega)).1]; exact hL.1 g hg, by rw [(hA o 25 (by unfold aF; omega)).1]; exact hL.2.1, by rw [(hA o 31 (by unfold aF; omega)).1]; exact hL.2.2⟩
            have hE1 : EX Ms top s (Vs Ms s v) v.2.2.1 o σ1 := ⟨hX1, hL1, fun g j hg hk hj => by rw [(hA (o + 22) _ (by unfold aF; omega)).1]; exact hv.2.1 g j hg hk hj⟩
            have hC1 : CH σ1 o Ms s := hC.fr (fun a q1 q2 => hA.row (fun i => by unfold aF; omega))
            rw [b01_n ct, wp_ifp rfl, wp_bd]
            refine connX hd hD hlim hV hWb hql hC1 hE1 (x := 0) (fun h hh hr => ?_) (fun σ2 hA2 => ?_)
            · by_cases ch : nrm Ms s h
              · obtain ⟨k', k1, k2⟩ := o4 k h (by omega) hh ⟨hql, hh, cs, ch.1, hr⟩
                have := hdn k' k1 (by rw [k2]; exact ch)
                rw [k2] at this
                exact this
              · rw [hn h hh ch]
                exact hv.all hh ch (hd.rdC4 hch hql hr).2
            · rw [← Vs_eq hd hch hno hql cn, wp_bd, DV_20 hD (by omega) (by omega), tn]
              have hA3 := hA.trans (agr.sub hA2 (fun a i h => by unfold aF at h; unfold eF; omega))
              have e20 : σ2.1 (o + 20) = σ1.1 (o + 20) := hA2.row (fun i => by unfold eF; omega)
              refine nxt _ (hA3.w (fun k hk => absurd (Or.inr (Or.inl rfl)) hk)) (fun g hg hng => ?_) (fun k' hk' hnk => ?_)
              · dsimp only
                rw [stA_eq, ups_ne (fun e => hng (by rw [e]; exact cn)), e20]
                exact hn g hg hng
              · dsimp only
                rw [stA_eq]
                by_cases e : q k' = q k
                · rw [e, ups_eq]
                · rw [ups_ne e, e20]
                  refine hdn k' ?_ hnk
                  by_cases e2 : k' = k
                  · exact absurd (by rw [e2]) e
                  · omega
    exact key (lsG s) 0 FU σ (by omega) (by omega) agr.refl (fun _ _ _ => rfl) (fun k' h => absurd h (Nat.not_lt_zero k'))
  · rw [h34, wp_ifn (by decide), wp_rt]
    refine hQ σ agr.refl h34 (fun g hg h4 => ?_)
    by_cases c : nrm Ms s g
    · exact hfd g hg c
    · exact hv.all hg c h4
/-- the twin holds a state -/
def VM (Ms : Nat → ModV) (s : LYS) (v : VST) (S : Nat) (τ : St) : Prop := (∀ g, g < lsG s → τ.1 2127 (200 * S + g) = (stwS Ms s g : Int) ∧ (tiG Ms s g → (τ.2.1 2128 (200 * S + g)).toInt = (v.1 g : Int)) ∧ (kdS Ms s g = 3 → (τ.2.1 2130 (200 * S + stwS Ms s g)).toInt = (v.2.1 g : Int)) ∧ (kdS Ms s g = 4 → ∀ j, j < wsG Ms s g → (τ.2.1 2130 (200 * S + (stwS Ms s g + j))).toInt = (v.2.2.1 g j : Int))) ∧ τ.1 2132 S = (stwS Ms s (lsG s) : Int) ∧ τ.1 2133 S = (v.2.2.2 : Int)
def OM (Ms : Nat → ModV) (s : LYS) (S : Nat) (τ : St) : Prop := ∃ q, OO (hgG Ms s) (lsG s) q (lsG s) ∧ ∀ k, k < lsG s → τ.1 2129 (200 * S + k) = (q k : Int)
def aFM (a i : Nat) : Prop := ¬ (a = 2140 ∨ (a = 2075 ∧ 81 ≤ i ∧ i ≤ 83))
theorem dT_aFM {S a i : Nat} (h : dT S a i) : aFM a i := by
  unfold dT at h
  unfold aFM
  omega
theorem findAM (hd : DP Ms top s) (hch : chOK Ms s) (hS : S < 5) (hlim : limOK Ms s) (hno : ∀ g, g < lsG s → ¬ onR (hgG Ms s) (lsG s) g) (hB : VB Ms s v) (hM : DM τ S Ms top s) (hBL : BLS τ) (hO : OM Ms s S τ) (hv : VM Ms s v S τ) {Q : Unit → St → Prop} (hQ : ∀ τ', agr aFM τ τ' → (∀ g, g < lsG s → kdS Ms s g ≠ 4 → (τ'.2.1 2140 g).toInt = (Vs Ms s v g : Int)) → Q () τ') : wp (F_X15_findAll (S : Int)) τ Q := by
  have hF := FU_ge
  have h200 := hd.2.1.2
  have hV := Vs_lt (v := v) hd hB
  have hWb : ∀ g j, g < lsG s → v.2.2.1 g j < 2 ^ wdS Ms s g := fun g j hg => (hB g hg).2.2 j
  obtain ⟨q, ⟨o1, o2, o3, o4⟩, o6⟩ := hO
  have e200' : ∀ g : Nat, g < 200 → w32 (w32 (200 * (S : Int)) + (g : Int)) = ((200 * S + g : Nat) : Int) := fun g hg => by rw [w32_i (x := 200 * (S : Int)) (by omega) (by omega), w32_i (by omega) (by omega)]; omega
  have hM' : ∀ τ1, agr aFM τ τ1 → DM τ1 S Ms top s := fun τ1 hA => hM.fr hd (agr.sub hA (fun a i h => dT_aFM h))
  have key : ∀ d k f τ1, k + d = lsG s → d < f → agr aFM τ τ1 → (∀ g, g < lsG s → kdS Ms s g = 3 → (τ1.2.1 2140 g).toInt = (v.2.1 g : Int)) → (∀ k', k' < k → ¬ stG Ms s (q k') → (τ1.2.1 2140 (q k')).toInt = (Vs Ms s v (q k') : Int)) → wp (X15_findAll_65 f (S : Int) (k : Int)) τ1 Q := by
    intro d
    induction d with
    | zero =>
      intro k f τ1 hk hf hA hn hdn
      obtain ⟨f', rfl⟩ : ∃ f', f = f' + 1 := ⟨f - 1, by omega⟩
      rw [X15_findAll_65, wp_bd, RI_2115 (by omega) (by omega), tn, (hM' τ1 hA).1.1.1, wp_ifp (by omega), wp_rt]
      refine hQ τ1 hA (fun g hg h4 => ?_)
      by_cases cs : stG Ms s g
      · have c3 : kdS Ms s g = 3 := by
          rcases cs with z | z
          · exact z
          · exact absurd z h4
        have nt : ¬ tiG Ms s g := fun z => by have := z.2; omega
        rw [hn g hg c3, Vs_n (fun z => z.1 cs)]
        unfold Vb
        rw [if_neg nt, if_pos c3]
      · obtain ⟨k', k1, k2⟩ := o3 g hg
        have := hdn k' (by omega) (by rw [k2]; exact cs)
        rw [k2] at this
        exact this
    | succ d ih =>
      intro k f τ1 hk hf hA hn hdn
      obtain ⟨f', rfl⟩ : ∃ f', f = f' + 1 := ⟨f - 1, by omega⟩
      have hM1 := hM' τ1 hA
      have hql := o2 k (by omega)
      obtain ⟨a1, a2, a3, a4, -⟩ := hd.sig hql
      have h29 : τ1.1 2129 (200 * S + k) = (q k : Int) := by rw [(hA 2129 _ (by unfold aFM; omega)).1]; exact o6 k (by omega)
      have hk2 := (hM1.1.2.2.2 (q k) hql).2.1.1
      have nxt : ∀ τ2, agr aFM τ τ2 → (∀ g, g < lsG s → kdS Ms s g = 3 → (τ2.2.1 2140 g).toInt = (v.2.1 g : Int)) → (∀ k', k' < k + 1 → ¬ stG Ms s (q k') → (τ2.2.1 2140 (q k')).toInt = (Vs Ms s v (q k') : Int)) → wp (X15_findAll_188 (X15_findAll_65 f') (S : Int) (k : Int)) τ2 Q := by
        intro τ2 b1 b2 b3
        rw [X15_findAll_188, wp_lt, w32_i (by omega) (by omega), show (k : Int) + 1 = ((k + 1 : Nat) : Int) by omega]
        exact ih (k + 1) f' τ2 (by omega) (by omega) b1 b2 b3
      have skip : stG Ms s (q k) → wp (X15_findAll_188 (X15_findAll_65 f') (S : Int) (k : Int)) τ1 Q := fun h => nxt τ1 hA hn (fun k' hk' hnk => by
        by_cases e : k' = k
        · subst e; exact absurd h hnk
        · exact hdn k' (by omega) hnk)
      -- a value is put
      have put : ∀ τ2 (r : Int64), agr aFM τ τ2 → τ2.2.1 2140 = τ1.2.1 2140 → ¬ stG Ms s (q k) → r.toInt = (Vs Ms s v (q k) : Int) → wp (bd (wrL 2140 (q k : Int) r) fun _ => X15_findAll_188 (X15_findAll_65 f') (S : Int) (k : Int)) τ2 Q := by
        intro τ2 r hA2 h40 hs hr
        rw [wp_bd, RV_2140 (by omega) (by omega), tn]
        refine nxt _ (hA2.v (fun k hk => absurd (Or.inl rfl) hk)) (fun g hg h3 => ?_) (fun k' hk' hnk => ?_)
        · dsimp only
          rw [stA_eq, ups_ne (fun e => hs (Or.inl (by rw [← e]; exact h3))), h40]
          exact hn g hg h3
        · dsimp only
          rw [stA_eq]
          by_cases e : q k' = q k
          · rw [e, ups_eq]; exact hr
          · rw [ups_ne e, h40]
            refine hdn k' ?_ hnk
            by_cases e2 : k' = k
            · exact absurd (by rw [e2]) e
            · omega
      rw [X15_findAll_65, wp_bd, RI_2115 (by omega) (by omega), tn, hM1.1.1.1, wp_ifn (by omega), wp_bd, e200' k (by omega), RI_2129 (by omega) (by omega), tn, h29, wp_lt, wp_lt, e200' (q k) (by omega), wp_bd, RI_2122 (by omega) (by omega), tn, hk2]
      by_cases c4 : kdS Ms s (q k) = 4
      · rw [wp_ifp (by omega)]; exact skip (Or.inr c4)
      · rw [wp_ifn (by omega), wp_bd, RI_2122 (by omega) (by omega), tn, hk2]
        by_cases c3 : kdS Ms s (q k) = 3
        · rw [wp_ifp (by omega)]; exact skip (Or.inl c3)
        · have cs : ¬ stG Ms s (q k) := by unfold stG; omega
          rw [wp_ifn (by omega), wp_bd, RI_2122 (by omega) (by omega), tn, hk2]
          have go : ¬ tiG Ms s (q k) → wp (X15_findAll_158 (X15_findAll_65 f') (S : Int) (k : Int) (q k : Int)) τ1 Q := by
            intro ct
            rw [X15_findAll_158, wp_bd]
            refine m_conn hd hM1 hS hql ct (fun τ2 hA2 t1 t2 t3 => ?_)
            have hA2' : agr aFM τ τ2 := hA.trans (agr.sub hA2 (fun a i h => by unfold aFM at h; unfold cF; omega))
            have e40 : τ2.2.1 2140 = τ1.2.1 2140 := funext fun i => (hA2 2140 i (by unfold cF; omega)).2.1
            have hE2 : EMv Ms top s v.2.2.1 S τ2 := by
              refine ⟨hM' τ2 hA2', fun g hg => ?_, fun g j hg h4 hj => ?_⟩
              · rw [(hA2' 2127 _ (by unfold aFM; omega)).1]; exact (hv.1 g hg).1
              · rw [(hA2' 2130 _ (by unfold aFM; omega)).2.1]; exact (hv.1 g hg).2.2.2 h4 j hj
            have hBL2 : BLS τ2 := fun k => by rw [(hA2' 2099 k (by unfold aFM; omega)).1]; exact hBL k
            rw [wp_bd, bgI0 t1, wp_bd, bgI0 t2, wp_bd, bgI0 t3, wp_bd]
            refine lastM hd hch hlim hS hV hWb hE2 hBL2 hql ct (fun h hh hr => ?_) (x := 0) (v := 0) rfl (fun r hr => ?_)
            · rw [e40]
              by_cases chs : stG Ms s h
              · have h3 : kdS Ms s h = 3 := by
                  rcases chs with z | z
                  · exact z
                  · exact absurd z (hd.rdC4 hch hql hr).2
                have nt : ¬ tiG Ms s h := fun z => by have := z.2; omega
                rw [hn h hh h3, Vs_n (fun z => z.1 chs)]
                unfold Vb
                rw [if_neg nt, if_pos h3]
              · obtain ⟨k', k1, k2⟩ := o4 k h (by omega) hh ⟨hql, hh, cs, chs, hr⟩
                have := hdn k' k1 (by rw [k2]; exact chs)
                rw [k2] at this
                exact this
            · rw [← Vs_eq hd hch hno hql ⟨cs, ct⟩] at hr
              exact put τ2 r hA2' e40 cs hr
          by_cases c0 : kdS Ms s (q k) = 0
          · rw [wp_ifp (by omega), wp_bd, RI_2125 (by omega) (by omega), tn, (hM1.1.2.2.2 (q k) hql).2.2.1]
            by_cases i0 : lsi s (q k) = 0
            · have ct : tiG Ms s (q k) := ⟨i0, c0⟩
              rw [wp_ifp (by omega), wp_bd, RI_2128 (by omega) (by omega), tn]
              refine put τ1 _ hA rfl cs ?_
              rw [(hA 2128 _ (by unfold aFM; omega)).2.1, (hv.1 (q k) hql).2.1 ct, Vs_n (fun z => z.2 ct)]
              unfold Vb
              rw [if_pos ct]
            · rw [wp_ifn (by omega)]; exact go (fun z => i0 z.1)
          · rw [wp_ifn (by omega)]; exact go (fun z => c0 z.2)
  have first : ∀ d g f τ1, g + d = lsG s → d < f → agr aFM τ τ1 → (∀ x, x < g → kdS Ms s x = 3 → (τ1.2.1 2140 x).toInt = (v.2.1 x : Int)) → wp (X15_findAll_2 f (S : Int) (g : Int)) τ1 Q := by
    intro d
    induction d with
    | zero =>
      intro g f τ1 hg hf hA hn
      obtain ⟨f', rfl⟩ : ∃ f', f = f' + 1 := ⟨f - 1, by omega⟩
      rw [X15_findAll_2, wp_bd, RI_2115 (by omega) (by omega), tn, (hM' τ1 hA).1.1.1, wp_ifp (by omega), X15_findAll_63, wp_lt]
      exact key (lsG s) 0 FU τ1 (by omega) (by omega) hA (fun x hx => hn x (by omega)) (fun k' h => absurd h (Nat.not_lt_zero k'))
    | succ d ih =>
      intro g f τ1 hg hf hA hn
      obtain ⟨f', rfl⟩ : ∃ f', f = f' + 1 := ⟨f - 1, by omega⟩
      have hM1 := hM' τ1 hA
      have hgl : g < lsG s := by omega
      have put : ∀ r : Int64, (kdS Ms s g = 3 → r.toInt = (v.2.1 g : Int)) → wp (X15_findAll_56 (X15_findAll_2 f') (S : Int) (g : Int) (g : Int) r) τ1 Q := by
        intro r hr
        rw [X15_findAll_56, wp_bd, RV_2140 (by omega) (by omega), tn, wp_lt, w32_i (by omega) (by omega), show (g : Int) + 1 = ((g + 1 : Nat) : Int) by omega]
        refine ih (g + 1) f' _ (by omega) (by omega) (hA.v (fun k hk => absurd (Or.inl rfl) hk)) (fun x hx h3 => ?_)
        dsimp only
        rw [stA_eq]
        by_cases e : x = g
        · subst e; rw [ups_eq]; exact hr h3
        · rw [ups_ne e]; exact hn x (by omega) h3
      rw [X15_findAll_2, wp_bd, RI_2115 (by omega) (by omega), tn, hM1.1.1.1, wp_ifn (by omega), wp_lt, e200' g (by omega), wp_bd, RI_2122 (by omega) (by omega), tn, (hM1.1.2.2.2 g hgl).2.1.1]
      by_cases c3 : kdS Ms s g = 3
      · obtain ⟨g1, g2⟩ := stw_in hd hlim hgl (Or.inl c3)
        have h27 : τ1.1 2127 (200 * S + g) = (stwS Ms s g : Int) := by rw [(hA 2127 _ (by unfold aFM; omega)).1]; exact (hv.1 g hgl).1
        have hws := (hd.sig hgl).2.2.2.2.2.1.1
        rw [wp_ifp (by omega), wp_bd, RI_2127 (by omega) (by omega), tn, h27, wp_bd, e200' (stwS Ms s g) (by omega), RI_2130 (by omega) (by omega), tn]
        refine put _ (fun _ => ?_)
        rw [(hA 2130 _ (by unfold aFM; omega)).2.1]
        exact (hv.1 g hgl).2.2.1 c3
      · rw [wp_ifn (by omega)]
        exact put 0 (fun h => absurd h c3)
  rw [F_X15_findAll, wp_lt]
  exact first (lsG s) 0 FU τ (by omega) (by omega) agr.refl (fun x hx => absurd hx (Nat.not_lt_zero x))
end
