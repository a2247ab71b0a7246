set_option maxRecDepth 100000
set_option maxHeartbeats 400000
/-! ===== designs: the twin's build ===== -/
/-- its workspace -/
def wkM (a i : Nat) : Prop := ((a = 2115 ∨ a = 2116) ∧ i = 4) ∨ (2117 ≤ a ∧ a ≤ 2120 ∧ 404 ≤ i) ∨ (a = 2121 ∧ 16160 ≤ i) ∨ (2122 ≤ a ∧ a ≤ 2126 ∧ 800 ≤ i) ∨ (a = 2129 ∧ 800 ≤ i) ∨ (2135 ≤ a ∧ a ≤ 2137) ∨ (a = 2075 ∧ 81 ≤ i ∧ i ≤ 83)
/-- its own cells of a slot, that a design has -/
def slM (S a i : Nat) : Prop := wkM a i ∨ dcTw S a i ∨ ((a = 2114 ∨ a = 2141) ∧ i = S)
section
variable {Ms : Nat → ModV} {top K S : Nat} {τ τ' : St}
theorem dT4_wk {a i : Nat} (h : dT S a i) (hS : S < 4) : ¬ wkM a i := by
  unfold dT at h
  unfold wkM
  rcases h with h | h | h | h | h | h | h | h | h <;> omega
theorem PG.slM (h : PG S bw τ τ') {a i : Nat} (hc : ¬ dcTw S a i) : τ'.1 a i = τ.1 a i ∧ τ'.2.1 a i = τ.2.1 a i ∧ τ'.2.2 a i = τ.2.2 a i := by
  obtain ⟨-, -, h3, h4⟩ := h
  have : ¬ (bw a * S ≤ i ∧ i < bw a * S + bw a) := fun hh => hc (by
    clear h3 h4 hc
    unfold bw at hh
    show dT S a i ∨ _
    unfold dT
    by_cases c0 : a = 2077 ∨ a = 2078 ∨ a = 2080
    · rw [if_pos c0] at hh; exact Or.inl (Or.inr (Or.inr (Or.inr (Or.inr (Or.inl (by omega))))))
    · rw [if_neg c0] at hh
      by_cases c1 : 2082 ≤ a ∧ a ≤ 2086
      · rw [if_pos c1] at hh; exact Or.inl (Or.inr (Or.inr (Or.inr (Or.inr (Or.inr (Or.inl (by omega)))))))
      · rw [if_neg c1] at hh
        by_cases c2 : a = 2087
        · rw [if_pos c2] at hh; exact Or.inl (Or.inr (Or.inr (Or.inr (Or.inr (Or.inr (Or.inr (Or.inl (by omega))))))))
        · rw [if_neg c2] at hh
          by_cases c3 : 2088 ≤ a ∧ a ≤ 2093
          · rw [if_pos c3] at hh; exact Or.inl (Or.inr (Or.inr (Or.inr (Or.inr (Or.inr (Or.inr (Or.inr (Or.inl (by omega)))))))))
          · rw [if_neg c3] at hh
            by_cases c4 : 2094 ≤ a ∧ a ≤ 2099
            · rw [if_pos c4] at hh; exact Or.inl (Or.inr (Or.inr (Or.inr (Or.inr (Or.inr (Or.inr (Or.inr (Or.inr ((by omega))))))))))
            · rw [if_neg c4] at hh
              by_cases c5 : a = 2115 ∨ a = 2116
              · rw [if_pos c5] at hh; exact Or.inl (Or.inl (by omega))
              · rw [if_neg c5] at hh
                by_cases c6 : 2117 ≤ a ∧ a ≤ 2120
                · rw [if_pos c6] at hh; exact Or.inl (Or.inr (Or.inl (by omega)))
                · rw [if_neg c6] at hh
                  by_cases c7 : a = 2121
                  · rw [if_pos c7] at hh; exact Or.inl (Or.inr (Or.inr (Or.inl (by omega))))
                  · rw [if_neg c7] at hh
                    by_cases c9 : (2122 ≤ a ∧ a ≤ 2126) ∨ a = 2129
                    · rw [if_pos c9] at hh
                      rcases c9 with c9 | c9
                      · exact Or.inl (Or.inr (Or.inr (Or.inr (Or.inl (by omega)))))
                      · exact Or.inr (Or.inl (by omega))
                    · rw [if_neg c9] at hh; omega)
  exact ⟨(h3 a i this).1, (h3 a i this).2, by rw [h4]⟩
theorem buildM (hK : K ≤ 12) (hS : S < 4) (h40 : ∀ m, mdT (Ms m) ≤ 40) (hok : ∀ m, m < K → modOK Ms m (Ms m)) (htop : top < K) (hM : ∀ m, m ≤ top → modM τ (48 + m) (Ms m)) (hBL : BLS τ) (hBY : BY τ) (hch : ∀ s, layF Ms 30 ls0 top (-1) (-1) 0 = some s → limOK Ms s → chOK Ms s) {Q : Int → St → Prop}
    (hA : ∀ τ', agr (fun a i => ¬ wkM a i) τ τ' → layF Ms 30 ls0 top (-1) (-1) 0 = none → Q (-4) τ')
    (hB : ∀ τ' s, agr (fun a i => ¬ wkM a i) τ τ' → layF Ms 30 ls0 top (-1) (-1) 0 = some s → ¬ limOK Ms s → Q (-4) τ')
    (hC : ∀ τ' s g, agr (fun a i => ¬ (wkM a i ∨ a = 2134 ∨ (a = 2075 ∧ i = 78))) τ τ' → layF Ms 30 ls0 top (-1) (-1) 0 = some s → limOK Ms s → ringG Ms s g → τ'.1 2075 78 = ((rBest (hgG Ms s) (lsG s) g + 1 : Nat) : Int) → (∀ j, j ≤ rBest (hgG Ms s) (lsG s) g → τ'.1 2134 j = (rng (hgG Ms s) (lsG s) g j : Int)) → Q (-20) τ')
    (hN : ∀ τ' s, agr (fun a i => ¬ slM S a i) τ τ' → layF Ms 30 ls0 top (-1) (-1) 0 = some s → limOK Ms s → (∀ g, g < lsG s → ¬ onR (hgG Ms s) (lsG s) g) → DCM Ms top s (v0G Ms s) S τ' → τ'.1 2114 S = 1 → τ'.1 2141 S = 0 → BLS τ' → BY τ' → Q (lsG s : Int) τ') : wp (lt 4 fun x3_4 => bd (wrI 2115 x3_4 0) fun _ => bd (wrI 2116 x3_4 0) fun _ => bd (R_X15_lay (top : Int) ((-1)) ((-1)) 0) fun v5 => if v5 = 0 then (rt ((-4))) else bd (F_X15_fits) fun v6 => if v6 = 0 then (rt ((-4))) else bd (F_X15_findHangs) fun _ => bd (F_X15_hasRing) fun v7 => if v7 = 0 then (bd (F_X15_findOrder) fun _ => bd (F_X15_copyDesign (S : Int)) fun _ => bd (wrB 2114 (S : Int) 1) fun _ => bd (wrB 2141 (S : Int) 0) fun _ => lt 0 fun x4_8 => lt 0 fun x5_9 => X15_build_115 FU (S : Int) x4_8 x5_9) else rt ((-20))) τ Q := by
  rw [wp_lt, wp_bd, RV_2115 (by omega) (by omega), wp_bd, RV_2116 (by omega) (by omega), toN4]
  have hA1 : agr (fun a i => ¬ wkM a i) τ (stA (stA τ.1 2115 (ups (τ.1 2115) 4 0)) 2116 (ups (stA τ.1 2115 (ups (τ.1 2115) 4 0) 2116) 4 0), τ.2) := (agr.refl.u (by unfold wkM; omega) _).u (by unfold wkM; omega) _
  have e1 : (stA (stA τ.1 2115 (ups (τ.1 2115) 4 0)) 2116 (ups (stA τ.1 2115 (ups (τ.1 2115) 4 0) 2116) 4 0)) 2115 4 = 0 ∧ (stA (stA τ.1 2115 (ups (τ.1 2115) 4 0)) 2116 (ups (stA τ.1 2115 (ups (τ.1 2115) 4 0) 2116) 4 0)) 2116 4 = 0 := by
    refine ⟨?_, ?_⟩
    · rw [stA_ne (by decide), stA_eq, ups_eq]
    · rw [stA_eq, ups_eq]
  generalize hU : ((stA (stA τ.1 2115 _) 2116 _, τ.2) : St) = τ1 at hA1
  have e1' : τ1.1 2115 4 = 0 ∧ τ1.1 2116 4 = 0 := by subst hU; exact e1
  clear hU e1
  have mfr : ∀ τ2, agr (fun a i => ¬ wkM a i) τ τ2 → ∀ m, m ≤ top → modM τ2 (48 + m) (Ms m) := fun τ2 h2 m hm => by
    have ok := hok m (by omega)
    exact (hM m hm).fr (h40 m) ok.1.2.1 ok.1.2.2.2.2.2 (fun c hc => (ok.2.2.2.2.1 c hc).2.2) (agr.sub h2 (fun a i h => by unfold stS at h; unfold wkM; omega))
  have hpt : ∀ m t, m < K → t < mdT (Ms m) → mdkd (Ms m) t = 5 → mdpt (Ms m) t < m := fun m t hm ht h5 => ((hok m hm).2.2.1 t ht).1.2.2.2.2.2 h5
  have ly := layM (Ms := Ms) hK h40 (fun m hm => ⟨(hok m hm).1.2.1, (hok m hm).1.2.2.2.2.2, fun c hc => ((hok m hm).2.2.2.2.1 c hc).2.2⟩) hpt 30 ls0 top (-1) (-1) 0 τ1 (fun _ => False) htop (by omega) ⟨Nat.zero_le _, Nat.zero_le _⟩ (by omega) ⟨e1', fun i hi => absurd hi (Nat.not_lt_zero i), fun k h => h.elim, fun g hg => absurd hg (Nat.not_lt_zero g)⟩ (mfr τ1 hA1)
  rw [wp_bd]
  unfold R_X15_lay
  refine wp_mono ly (fun r τ2 h2 => ?_)
  obtain ⟨hA2, h2⟩ := h2
  have hA2' : agr (fun a i => ¬ wkM a i) τ τ2 := hA1.trans (agr.sub hA2 (fun a i h => by unfold wkM at h; unfold dFM; omega))
  rcases h2 with ⟨rfl, s, hs, hL⟩ | ⟨rfl, hn⟩
  · have hd : DP Ms top s := DP_of hK h40 hok htop hs
    have hM2 : DM τ2 4 Ms top s := by
      refine ⟨hL.sub (fun k hk => Or.inr ?_), fun m hm => ?_⟩
      · obtain ⟨x, y, z1, z2, z3⟩ := hk
        exact ⟨x, y, Nat.zero_le _, z1, z2, z3⟩
      · exact mfr τ2 hA2' m hm
    rw [wp_ifn (by decide), wp_bd]
    refine lim15 hd hM2 (fun hlim => ?_) (fun hn => ?_)
    · rw [wp_ifn (by decide), wp_bd]
      have hch' := hch s hs hlim
      refine wp_mono (findHM hd hM2 (fun i c hi hc q hq => (hch' i c hi hc q hq).1)) (fun _ τ3 h3 => ?_)
      obtain ⟨hA3, hH3⟩ := h3
      have hA3' : agr (fun a i => ¬ wkM a i) τ τ3 := hA2'.trans (agr.sub hA3 (fun a i h => by unfold wkM at h; unfold hFC; omega))
      have hM3 : DM τ3 4 Ms top s := hM2.fr hd (agr.sub hA3 (fun a i h => dT_hFC h))
      have hH3' : HM (τ3.1 2135) (hgG Ms s) := hH3
      rw [wp_bd]
      refine ringM hd.2.1.2 hM3.1.1.1 hH3' (fun τ4 hA4 hno => ?_) (fun τ4 g hA4 hg hon hmin h78 h34 => ?_)
      · have hA4' : agr (fun a i => ¬ wkM a i) τ τ4 := hA3'.trans (agr.sub hA4 (fun a i h => by unfold wkM at h; unfold qF; omega))
        have hM4 : DM τ4 4 Ms top s := hM3.fr hd (agr.sub hA4 (fun a i h => by unfold dT at h; unfold qF; omega))
        have hH4 : HM (τ4.1 2135) (hgG Ms s) := by
          rw [hA4.row (a := 2135) (fun i => by unfold qF; omega)]; exact hH3'
        obtain ⟨r, hr1, hr2⟩ := rank_ex hno
        rw [wp_ifp rfl, wp_bd]
        refine wp_mono (orderM hd.2.1.2 hM4.1.1.1 hH4 (r := r) (fun x t hx ht h => hr2 x t hx ht h)) (fun _ τ5 h5 => ?_)
        obtain ⟨hA5, q, hOO, hq⟩ := h5
        have hA5' : agr (fun a i => ¬ wkM a i) τ τ5 := hA4'.trans (agr.sub hA5 (fun a i h => by unfold wkM at h; unfold oFM; omega))
        have hM5 : DM τ5 4 Ms top s := hM4.fr hd (agr.sub hA5 (fun a i h => by unfold dT at h; unfold oFM; omega))
        have hBL5 : BLS τ5 := fun k => by rw [(hA5' 2099 k (by unfold wkM; omega)).1]; exact hBL k
        have hBY5 : BY τ5 := fun k => by rw [(hA5' 2087 k (by unfold wkM; omega)).1]; exact hBY k
        rw [wp_bd]
        refine copyDM hS hBY5 (fun i => by rw [L2099.2]; rcases hBL5 i with h | h <;> omega) (fun τ6 hP6 => ?_)
        have hM6 : DM τ6 S Ms top s := hM5.copy hd hP6
        have hBL6 : BLS τ6 := hP6.all (a := 2099) (fun h => by rcases h with h | h <;> cases h) (P := fun x => x = 0 ∨ x = 1) hBL5
        have hBY6 : BY τ6 := hP6.all (a := 2087) (fun h => by rcases h with h | h <;> cases h) (P := fun x => inB 2087 x = true) hBY5
        have hA6 : agr (fun a i => ¬ slM S a i) τ τ6 := (agr.sub hA5' (fun a i h => fun z => h (Or.inl z))).trans (fun a i h => hP6.slM (fun z => h (Or.inr (Or.inl z))))
        have hO6 : ∀ k, k < lsG s → τ6.1 2129 (200 * S + k) = (q k : Int) := fun k hk => by
          rw [hP6.int (w := 200) (j := k) (i4 := 800 + k) rfl (fun h => by rcases h with h | h <;> cases h) (by have := hd.2.1.2; omega) rfl rfl]
          exact hq k hk
        rw [wp_bd, RV_2114 (by omega) (by omega) (by decide) (by decide), tn, wp_bd, RV_2141 (by omega) (by omega) (by decide) (by decide), tn, wp_lt, wp_lt]
        have hA7 : agr (fun a i => ¬ ((a = 2114 ∨ a = 2141) ∧ i = S)) τ6 (stA (stA τ6.1 2114 (ups (τ6.1 2114) S 1)) 2141 (ups (stA τ6.1 2114 (ups (τ6.1 2114) S 1) 2141) S 0), τ6.2) := (agr.refl.u (by omega) _).u (by omega) _
        have e7 : (stA (stA τ6.1 2114 (ups (τ6.1 2114) S 1)) 2141 (ups (stA τ6.1 2114 (ups (τ6.1 2114) S 1) 2141) S 0)) 2114 S = 1 ∧ (stA (stA τ6.1 2114 (ups (τ6.1 2114) S 1)) 2141 (ups (stA τ6.1 2114 (ups (τ6.1 2114) S 1) 2141) S 0)) 2141 S = 0 := by
          refine ⟨?_, ?_⟩
          · rw [stA_ne (by decide), stA_eq, ups_eq]
          · rw [stA_eq, ups_eq]
        generalize hU : ((stA (stA τ6.1 2114 _) 2141 _, τ6.2) : St) = τ7 at hA7
        have e7' : τ7.1 2114 S = 1 ∧ τ7.1 2141 S = 0 := by subst hU; exact e7
        clear hU e7
        have hM7 : DM τ7 S Ms top s := hM6.fr hd (agr.sub hA7 (fun a i h => by unfold dT at h; omega))
        refine build5M hd hlim (by omega) hM7 (fun τ8 hA8 hV8 => ?_)
        have hM8 : DM τ8 S Ms top s := hM7.fr hd (agr.sub hA8 (fun a i h => dT_uFM h))
        refine hN τ8 s ((hA6.trans (agr.sub hA7 (fun a i h => fun z => h (Or.inr (Or.inr z))))).trans (agr.sub hA8 (fun a i h => ?_))) hs hlim hno ⟨hM8, ⟨q, hOO, fun k hk => ?_⟩, hV8⟩ ?_ ?_ (fun k => ?_) (fun k => ?_)
        · unfold slM dcTw at h
          unfold uFM
          omega
        · rw [(hA8 2129 _ (by unfold uFM; omega)).1, (hA7 2129 _ (by omega)).1]; exact hO6 k hk
        · rw [(hA8 2114 _ (by unfold uFM; omega)).1]; exact e7'.1
        · rw [(hA8 2141 _ (by unfold uFM; omega)).1]; exact e7'.2
        · rw [(hA8 2099 _ (by unfold uFM; omega)).1, (hA7 2099 _ (by omega)).1]; exact hBL6 k
        · rw [(hA8 2087 _ (by unfold uFM; omega)).1, (hA7 2087 _ (by omega)).1]; exact hBY6 k
      · rw [wp_ifn (by decide), wp_rt]
        exact hC τ4 s g ((agr.sub hA3' (fun a i h => fun z => h (Or.inl z))).trans (agr.sub hA4 (fun a i h => by unfold wkM at h; unfold gM; omega))) hs hlim ⟨hg, hon, hmin⟩ h78 h34
    · rw [wp_ifp rfl, wp_rt]
      exact hB τ2 s hA2' hs hn
  · rw [wp_ifp rfl, wp_rt]
    exact hA τ2 hA2' hn
end
