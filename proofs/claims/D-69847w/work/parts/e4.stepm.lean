set_option maxRecDepth 100000
set_option maxHeartbeats 400000
/-! ===== designs: the twin's step, begin ===== -/
def sFM (S a i : Nat) : Prop := ¬ (a = 2140 ∨ a = 2131 ∨ (a = 2075 ∧ 81 ≤ i ∧ i ≤ 83) ∨ (a = 2130 ∧ 200 * S ≤ i ∧ i < 200 * S + 200) ∨ (a = 2133 ∧ i = S))
section
variable {Ms : Nat → ModV} {top : Nat} {s : LYS} {v : VST} {V : Nat → Nat} {W : Nat → Nat → Nat} {τ τ' : St} {S g : Nat}
theorem dT_sFM {a i : Nat} (h : dT S a i) : sFM S a i := by
  unfold dT at h
  unfold sFM
  omega
theorem agr.y {P : Nat → Nat → Prop} {σ τ : St} (h : agr P σ τ) (a : Nat) (ha : ∀ k, ¬ P a k) {g : Nat → Int64} : agr P σ (τ.1, stA τ.2.1 a g, τ.2.2) := h.v (fun k hk => absurd hk (ha k))
theorem stw_ap {x y : Nat} (hxy : x < y) (hs : stG Ms s x) : stwS Ms s x + wsG Ms s x ≤ stwS Ms s y := by
  have h1 : stwS Ms s (x + 1) ≤ stwS Ms s y := smF_mono (by omega)
  have h2 : stwS Ms s (x + 1) = stwS Ms s x + b1 (stG Ms s x) (wsG Ms s x) := rfl
  rw [b1_y hs] at h2
  omega
/-- a connection to a mem has no port -/
theorem DP.stK4 (hd : DP Ms top s) (hM : DM τ S Ms top s) (hg : g < lsG s) (h4 : kdS Ms s g = 4) {k : Nat} (hk : k < mdQ (moI Ms s (coI Ms s g))) (h : τ.1 2094 (200 * (12 * S + lsM s (coI Ms s g)) + k) = (coT Ms s g : Int)) : τ.1 2095 (200 * (12 * S + lsM s (coI Ms s g)) + k) = coP Ms s g := by
  have hnt : ¬ tiG Ms s g := fun z => by have := z.2; omega
  obtain ⟨q1, q2, q3, q4⟩ := hd.co hg hnt
  obtain ⟨hm, ok⟩ := hd.inst q1
  obtain ⟨-, -, -, m4, m5⟩ := hM.2 _ hm
  have eI : coI Ms s g = lsi s g := by unfold coI; rw [if_neg (by omega)]
  have eT : coT Ms s g = lsth s g := by unfold coT; rw [if_neg (by omega)]
  have eP : coP Ms s g = -1 := by unfold coP; rw [if_neg (by omega)]
  have hkd : mdkd (moI Ms s (coI Ms s g)) (coT Ms s g) = 4 := by rw [eI, eT]; exact h4
  rcases m5 k hk with ⟨c, hc, e⟩ | e
  · obtain ⟨n1, n2, -⟩ := m4 c hc
    have n1' : τ.1 2094 (200 * (12 * S + lsM s (coI Ms s g)) + mdSt (moI Ms s (coI Ms s g)) c) = (mdTg (moI Ms s (coI Ms s g)) c : Int) := n1
    have n2' : τ.1 2095 (200 * (12 * S + lsM s (coI Ms s g)) + mdSt (moI Ms s (coI Ms s g)) c) = mdPo (moI Ms s (coI Ms s g)) c := n2
    have e' : mdSt (moI Ms s (coI Ms s g)) c = k := e
    rw [e'] at n1' n2'
    have hc' : c < mdC (moI Ms s (coI Ms s g)) := hc
    obtain ⟨h1, h2, -⟩ := hd.con q1 hc'
    have et : mdTg (moI Ms s (coI Ms s g)) c = coT Ms s g := by omega
    rw [et] at h2
    rw [n2', eP]
    rcases h2 with ⟨z, -⟩ | ⟨m, z, z2, -⟩
    · exact z
    · omega
  · omega
/-- what stands while the next state is made -/
theorem stepM (hd : DP Ms top s) (hch : chOK Ms s) (hS : S < 4) (hlim : limOK Ms s) (hno : ∀ g, g < lsG s → ¬ onR (hgG Ms s) (lsG s) g) (hB : VB Ms s v) (hM : DM τ S Ms top s) (hBL : BLS τ) (hO : OM Ms s S τ) (hv : VM Ms s v S τ) (hst : v.2.2.2 ≤ 1000000) {Q : Unit → St → Prop} (hQ : ∀ τ', agr (sFM S) τ τ' → VM Ms s (stp Ms s v) S τ' → Q () τ') : wp (F_X15_oneStep (S : Int)) τ Q := by
  have hF := FU_ge
  have h200 := hd.2.1.2
  have h101 := hd.2.1.1.2
  have h12 := hd.1.1
  have hV := Vs_lt (v := v) hd hB
  have hWb : ∀ g j, g < lsG s → v.2.2.1 g j < 2 ^ wdS Ms s g := fun g j hg => (hB g hg).2.2 j
  have sn : stwS Ms s (lsG s) ≤ 200 := by
    have := stw_le hd (Nat.le_refl (lsG s))
    have := hlim.1.2
    omega
  have e200' : ∀ g : Nat, g < 200 → w32 (w32 (200 * (S : Int)) + (g : Int)) = ((200 * S + g : Nat) : Int) := fun g hg => by rw [w32_i (x := 200 * (S : Int)) (by omega) (by omega), w32_i (by omega) (by omega)]; omega
  rw [F_X15_oneStep, wp_bd]
  refine findAM hd hch (by omega) hlim hno hB hM hBL hO hv (fun τ1 hA1 hall => ?_)
  have hA1' : agr (sFM S) τ τ1 := agr.sub hA1 (fun a i h => by unfold sFM at h; unfold aFM; omega)
  -- what stands until the state changes
  have hin : ∀ τ2, agr (fun a i => aFM a i ∧ a ≠ 2131) τ τ2 → τ2.2.1 2140 = τ1.2.1 2140 → DM τ2 S Ms top s ∧ EMv Ms top s v.2.2.1 S τ2 ∧ BLS τ2 ∧ (∀ h, h < lsG s → kdS Ms s h ≠ 4 → (τ2.2.1 2140 h).toInt = (Vs Ms s v h : Int)) ∧ τ2.1 2132 S = (stwS Ms s (lsG s) : Int) := fun τ2 h2 h40 => by
    have hM2 : DM τ2 S Ms top s := hM.fr hd (agr.sub h2 (fun a i h => ⟨dT_aFM h, by unfold dT at h; omega⟩))
    refine ⟨hM2, ⟨hM2, fun g hg => ?_, fun g j hg h4 hj => ?_⟩, fun k => ?_, fun h hh h4 => by rw [h40]; exact hall h hh h4, ?_⟩
    · rw [(h2 2127 _ ⟨by unfold aFM; omega, by decide⟩).1]; exact (hv.1 g hg).1
    · rw [(h2 2130 _ ⟨by unfold aFM; omega, by decide⟩).2.1]; exact (hv.1 g hg).2.2.2 h4 j hj
    · rw [(h2 2099 k ⟨by unfold aFM; omega, by decide⟩).1]; exact hBL k
    · rw [(h2 2132 S ⟨by unfold aFM; omega, by decide⟩).1]; exact hv.2.1
  rw [wp_lt]
  -- the end
  have fin : ∀ d k f τ2, k + d = stwS Ms s (lsG s) → d < f → agr (sFM S) τ τ2 → (∀ x, x < lsG s → kdS Ms s x = 3 → (τ2.2.1 2131 (stwS Ms s x)).toInt = ((stp Ms s v).2.1 x : Int)) → (∀ x j, x < lsG s → kdS Ms s x = 4 → j < wsG Ms s x → (τ2.2.1 2131 (stwS Ms s x + j)).toInt = ((stp Ms s v).2.2.1 x j : Int)) → (∀ x, x < k → τ2.2.1 2130 (200 * S + x) = τ2.2.1 2131 x) → τ2.1 2133 S = (v.2.2.2 : Int) → wp (X15_oneStep_267 f (S : Int) (k : Int)) τ2 Q := by
    intro d
    induction d with
    | zero =>
      intro k f τ2 hk hf hA hr hm hc h33
      obtain ⟨f', rfl⟩ : ∃ f', f = f' + 1 := ⟨f - 1, by omega⟩
      have h32 : τ2.1 2132 S = (stwS Ms s (lsG s) : Int) := by rw [(hA 2132 S (by unfold sFM; omega)).1]; exact hv.2.1
      rw [X15_oneStep_267, wp_bd, RI_2132 (by omega) (by omega), tn, h32, wp_ifp (by omega), X15_oneStep_301, wp_bd, RI_2133 (by omega) (by omega), tn, h33, wp_bd, RV_2133 (by omega) (by omega), tn, wp_rt, w32_i (by omega) (by omega)]
      refine hQ _ (hA.u (by unfold sFM; omega) _) ⟨fun x hx => ?_, ?_, ?_⟩
      · dsimp only
        rw [stA_ne (by decide)]
        have h27 : τ2.1 2127 (200 * S + x) = (stwS Ms s x : Int) := by rw [(hA 2127 _ (by unfold sFM; omega)).1]; exact (hv.1 x hx).1
        refine ⟨h27, fun ht => ?_, fun h3 => ?_, fun h4 j hj => ?_⟩
        · rw [(hA 2128 _ (by unfold sFM; omega)).2.1]; exact (hv.1 x hx).2.1 ht
        · obtain ⟨g1, g2⟩ := stw_in hd hlim hx (Or.inl h3)
          have := (hd.sig hx).2.2.2.2.2.1.1
          rw [hc _ (by omega)]; exact hr x hx h3
        · obtain ⟨g1, g2⟩ := stw_in hd hlim hx (Or.inr h4)
          rw [hc _ (by omega)]; exact hm x j hx h4 hj
      · dsimp only
        rw [stA_ne (by decide)]; exact h32
      · dsimp only
        rw [stA_eq, ups_eq]
        show (v.2.2.2 : Int) + 1 = ((v.2.2.2 + 1 : Nat) : Int)
        omega
    | succ d ih =>
      intro k f τ2 hk hf hA hr hm hc h33
      obtain ⟨f', rfl⟩ : ∃ f', f = f' + 1 := ⟨f - 1, by omega⟩
      have h32 : τ2.1 2132 S = (stwS Ms s (lsG s) : Int) := by rw [(hA 2132 S (by unfold sFM; omega)).1]; exact hv.2.1
      rw [X15_oneStep_267, wp_bd, RI_2132 (by omega) (by omega), tn, h32, wp_ifn (by omega), wp_bd, RI_2131 (by omega) (by omega), tn, wp_bd, e200' k (by omega), RV_2130 (by omega) (by omega), tn, wp_lt, w32_i (by omega) (by omega), show (k : Int) + 1 = ((k + 1 : Nat) : Int) by omega]
      refine ih (k + 1) f' _ (by omega) (by omega) (hA.v (fun j hj => ?_)) (fun x hx h3 => by dsimp only; rw [stA_ne (by decide)]; exact hr x hx h3) (fun x j hx h4 hj => by dsimp only; rw [stA_ne (by decide)]; exact hm x j hx h4 hj) (fun x hx => ?_) h33
      · unfold sFM at hj
        rw [ups_ne (by omega)]
        exact (hA 2130 j (by unfold sFM; omega)).2.1
      · dsimp only
        rw [stA_eq, stA_ne (by decide)]
        by_cases e : x = k
        · subst e; rw [ups_eq]
        · rw [ups_ne (by omega)]; exact hc x (by omega)
  -- the signals
  have sig : ∀ d g f τ2, g + d = lsG s → d < f → agr (fun a i => aFM a i ∧ a ≠ 2131) τ τ2 → τ2.2.1 2140 = τ1.2.1 2140 → (∀ x, x < lsG s → kdS Ms s x = 3 → (τ2.2.1 2131 (stwS Ms s x)).toInt = ((if x < g then (stp Ms s v).2.1 x else v.2.1 x : Nat) : Int)) → (∀ x j, x < lsG s → kdS Ms s x = 4 → j < wsG Ms s x → (τ2.2.1 2131 (stwS Ms s x + j)).toInt = ((if x < g then (stp Ms s v).2.2.1 x j else v.2.2.1 x j : Nat) : Int)) → wp (X15_oneStep_43 f (S : Int) (g : Int)) τ2 Q := by
    intro d
    induction d with
    | zero =>
      intro g f τ2 hg hf hA h40 hr hm
      obtain ⟨f', rfl⟩ : ∃ f', f = f' + 1 := ⟨f - 1, by omega⟩
      obtain ⟨hM2, -⟩ := hin τ2 hA h40
      rw [X15_oneStep_43, wp_bd, RI_2115 (by omega) (by omega), tn, hM2.1.1.1, wp_ifp (by omega), X15_oneStep_265, wp_lt]
      refine fin (stwS Ms s (lsG s)) 0 FU τ2 (by omega) (by omega) (agr.sub hA (fun a i h => ⟨by unfold sFM at h; unfold aFM; omega, by unfold sFM at h; omega⟩)) (fun x hx h3 => ?_) (fun x j hx h4 hj => ?_) (fun x h => absurd h (Nat.not_lt_zero x)) (by rw [(hA 2133 S ⟨by unfold aFM; omega, by decide⟩).1]; exact hv.2.2)
      · have := hr x hx h3
        rw [if_pos (by omega)] at this
        exact this
      · have := hm x j hx h4 hj
        rw [if_pos (by omega)] at this
        exact this
    | succ d ih =>
      intro g f τ2 hg hf hA h40 hr hm
      obtain ⟨f', rfl⟩ : ∃ f', f = f' + 1 := ⟨f - 1, by omega⟩
      obtain ⟨hM2, hE2, hBL2, hall2, -⟩ := hin τ2 hA h40
      have hgl : g < lsG s := by omega
      obtain ⟨a1, a2, a3, a4, -, ⟨ws1, ws2⟩, -⟩ := hd.sig hgl
      obtain ⟨hm0, ok⟩ := hd.inst a1
      obtain ⟨-, ⟨m22, -, m24⟩, m25, m26⟩ := hM2.1.2.2.2 g hgl
      have nxt : ∀ τ3, agr (fun a i => aFM a i ∧ a ≠ 2131) τ τ3 → τ3.2.1 2140 = τ1.2.1 2140 → (∀ x, x < lsG s → kdS Ms s x = 3 → (τ3.2.1 2131 (stwS Ms s x)).toInt = ((if x < g + 1 then (stp Ms s v).2.1 x else v.2.1 x : Nat) : Int)) → (∀ x j, x < lsG s → kdS Ms s x = 4 → j < wsG Ms s x → (τ3.2.1 2131 (stwS Ms s x + j)).toInt = ((if x < g + 1 then (stp Ms s v).2.2.1 x j else v.2.2.1 x j : Nat) : Int)) → wp (X15_oneStep_259 (X15_oneStep_43 f') (S : Int) (g : Int)) τ3 Q := by
        intro τ3 b1 b2 b3 b4
        rw [X15_oneStep_259, wp_lt, w32_i (by omega) (by omega), show (g : Int) + 1 = ((g + 1 : Nat) : Int) by omega]
        exact ih (g + 1) f' τ3 (by omega) (by omega) b1 b2 b3 b4
      obtain ⟨F', hF'⟩ : ∃ F', FU = F' + 1 := ⟨FU - 1, by omega⟩
      have q120 : mdQ (moI Ms s (lsi s g)) ≤ 120 := ok.1.2.2.2.2.2
      have w200 : w32 (200 * ((12 * S + lsM s (lsi s g) : Nat) : Int)) = ((200 * (12 * S + lsM s (lsi s g)) : Nat) : Int) → ∀ _ : Unit, w32 (200 * ((12 * S + lsM s (lsi s g) : Nat) : Int)) = ((200 * (12 * S + lsM s (lsi s g)) : Nat) : Int) := fun h _ => h
      have w200' : ∀ _ : Unit, w32 (200 * ((12 * S + lsM s (lsi s g) : Nat) : Int)) = ((200 * (12 * S + lsM s (lsi s g)) : Nat) : Int) := fun _ => by rw [w32_i (by omega) (by omega)]; omega
      clear w200
      rw [X15_oneStep_43, wp_bd, RI_2115 (by omega) (by omega), tn, hM2.1.1.1, wp_ifn (by omega), wp_lt, e200' g (by omega), wp_bd, RI_2125 (by omega) (by omega), tn, m25, wp_lt, wp_bd, RI_2122 (by omega) (by omega), tn, m22]
      by_cases c3 : kdS Ms s g = 3
      · have nt : ¬ tiG Ms s g := fun z => by have := z.2; omega
        have eI : coI Ms s g = lsi s g := by unfold coI; rw [if_neg (by omega)]
        have eT : coT Ms s g = lsth s g := by unfold coT; rw [if_neg (by omega)]
        have eP : coP Ms s g = -1 := by unfold coP; rw [if_neg (by omega)]
        obtain ⟨g1, g2⟩ := stw_in hd hlim hgl (Or.inl c3)
        have h27 := hE2.2.1 g hgl
        have h31 := hr g hgl c3
        rw [if_neg (Nat.lt_irrefl g)] at h31
        rw [wp_ifp (by omega), wp_bd, RI_2127 (by omega) (by omega), tn, h27, wp_bd, RI_2126 (by omega) (by omega), tn, m26, wp_bd, RI_2127 (by omega) (by omega), tn, h27, wp_bd, RI_2131 (by omega) (by omega), tn, wp_bd, ← eI, ← eT, ← eP]
        refine lastM hd hch hlim (by omega) hV hWb hE2 hBL2 hgl nt (fun h hh hrd => hall2 h hh (hd.rdC4 hch hgl hrd).2) h31 (fun r hrr => ?_)
        rw [← stp_r c3 hgl] at hrr
        rw [eI, wp_bd, RV_2131 (by omega) (by omega), tn]
        have hA3 : agr (fun a i => aFM a i ∧ a ≠ 2131) τ (τ2.1, stA τ2.2.1 2131 (ups (τ2.2.1 2131) (stwS Ms s g) r), τ2.2.2) := hA.y 2131 (fun k h => h.2 rfl)
        have h40' : ((τ2.1, stA τ2.2.1 2131 (ups (τ2.2.1 2131) (stwS Ms s g) r), τ2.2.2) : St).2.1 2140 = τ1.2.1 2140 := by dsimp only; rw [stA_ne (by decide)]; exact h40
        have hr3 : ∀ x, x < lsG s → kdS Ms s x = 3 → (((τ2.1, stA τ2.2.1 2131 (ups (τ2.2.1 2131) (stwS Ms s g) r), τ2.2.2) : St).2.1 2131 (stwS Ms s x)).toInt = ((if x < g + 1 then (stp Ms s v).2.1 x else v.2.1 x : Nat) : Int) := fun x hx h3 => by
          dsimp only
          rw [stA_eq]
          by_cases e : x = g
          · subst e; rw [ups_eq, if_pos (Nat.lt_succ_self x)]; exact hrr
          · have wx := (hd.sig hx).2.2.2.2.2.1.1
            have ne : stwS Ms s x ≠ stwS Ms s g := by
              rcases Nat.lt_or_ge x g with w | w
              · have := stw_ap (Ms := Ms) (s := s) w (Or.inl h3); omega
              · have := stw_ap (Ms := Ms) (s := s) (show g < x by omega) (Or.inl c3); omega
            rw [ups_ne ne, hr x hx h3]
            by_cases c : x < g
            · rw [if_pos c, if_pos (by omega)]
            · rw [if_neg c, if_neg (by omega)]
        have hm3 : ∀ x j, x < lsG s → kdS Ms s x = 4 → j < wsG Ms s x → (((τ2.1, stA τ2.2.1 2131 (ups (τ2.2.1 2131) (stwS Ms s g) r), τ2.2.2) : St).2.1 2131 (stwS Ms s x + j)).toInt = ((if x < g + 1 then (stp Ms s v).2.2.1 x j else v.2.2.1 x j : Nat) : Int) := fun x j hx h4 hj => by
          dsimp only
          rw [stA_eq]
          have e : x ≠ g := fun e => by subst e; omega
          have ne : stwS Ms s x + j ≠ stwS Ms s g := by
            rcases Nat.lt_or_ge x g with w | w
            · have := stw_ap (Ms := Ms) (s := s) w (Or.inr h4); omega
            · have := stw_ap (Ms := Ms) (s := s) (show g < x by omega) (Or.inl c3); omega
          rw [ups_ne ne, hm x j hx h4 hj]
          by_cases c : x < g
          · rw [if_pos c, if_pos (by omega)]
          · rw [if_neg c, if_neg (by omega)]
        generalize ((τ2.1, stA τ2.2.1 2131 (ups (τ2.2.1 2131) (stwS Ms s g) r), τ2.2.2) : St) = τ3 at hA3 h40' hr3 hm3
        obtain ⟨hM3, -⟩ := hin τ3 hA3 h40'
        rw [X15_oneStep_115, wp_bd, m_store hd hM3 (by omega) a1, wp_lt, w200' (), wp_lt, hF', X15_oneStep_131, wp_bd, RI_2122 (by omega) (by omega), tn, (hM3.1.2.2.2 g hgl).2.1.1, wp_ifn (by omega)]
        exact nxt τ3 hA3 h40' hr3 hm3
      · rw [wp_ifn (by omega), X15_oneStep_115, wp_bd, m_store hd hM2 (by omega) a1, wp_lt, w200' (), wp_lt]
        have up3 : ∀ τ3 : St, (∀ x, x < lsG s → kdS Ms s x = 3 → (τ3.2.1 2131 (stwS Ms s x)).toInt = ((if x < g then (stp Ms s v).2.1 x else v.2.1 x : Nat) : Int)) → ∀ x, x < lsG s → kdS Ms s x = 3 → (τ3.2.1 2131 (stwS Ms s x)).toInt = ((if x < g + 1 then (stp Ms s v).2.1 x else v.2.1 x : Nat) : Int) := fun τ3 h x hx h3 => by
          rw [h x hx h3]
          by_cases c : x < g
          · rw [if_pos c, if_pos (by omega)]
          · rw [if_neg c]
            by_cases e : x = g
            · subst e; exact absurd h3 c3
            · rw [if_neg (by omega)]
        by_cases c4 : kdS Ms s g = 4
        · have nt : ¬ tiG Ms s g := fun z => by have := z.2; omega
          have eI : coI Ms s g = lsi s g := by unfold coI; rw [if_neg (by omega)]
          have eT : coT Ms s g = lsth s g := by unfold coT; rw [if_neg (by omega)]
          obtain ⟨g1, g2⟩ := stw_in hd hlim hgl (Or.inr c4)
          rw [← eI] at q120 w200' ok hm0 ⊢
          have stm : ∀ k2 j f2 τ3, j + k2 = mdQ (moI Ms s (coI Ms s g)) → k2 < f2 → agr (fun a i => aFM a i ∧ a ≠ 2131) τ τ3 → τ3.2.1 2140 = τ1.2.1 2140 → (∀ x, x < lsG s → kdS Ms s x = 3 → (τ3.2.1 2131 (stwS Ms s x)).toInt = ((if x < g then (stp Ms s v).2.1 x else v.2.1 x : Nat) : Int)) → (∀ x j, x < lsG s → x ≠ g → kdS Ms s x = 4 → j < wsG Ms s x → (τ3.2.1 2131 (stwS Ms s x + j)).toInt = ((if x < g then (stp Ms s v).2.2.1 x j else v.2.2.1 x j : Nat) : Int)) → (∀ y, y < wsG Ms s g → (τ3.2.1 2131 (stwS Ms s g + y)).toInt = (cnW Ms s (Vs Ms s v) v.2.2.1 g (v.2.2.1 g) (conK Ms s g j) y : Int)) → wp (X15_oneStep_131 (X15_oneStep_43 f') f2 (S : Int) (g : Int) ((200 * S + g : Nat) : Int) (coI Ms s g : Int) ((200 * (12 * S + lsM s (coI Ms s g)) : Nat) : Int) (j : Int)) τ3 Q := by
            intro k2
            induction k2 with
            | zero =>
              intro j f2 τ3 hj hf2 hA3 h40' hr3 hm3 hg3
              obtain ⟨f2', rfl⟩ : ∃ f2', f2 = f2' + 1 := ⟨f2 - 1, by omega⟩
              obtain ⟨hM3, -⟩ := hin τ3 hA3 h40'
              rw [X15_oneStep_131, wp_bd, RI_2122 (by omega) (by omega), tn, (hM3.1.2.2.2 g hgl).2.1.1, wp_ifp (by omega), wp_bd, m_store hd hM3 (by omega) (by rw [eI]; exact a1), wp_bd, RI_2080 (by omega) (by omega), tn, (hM3.2 _ hm0).1.2.2]
              rw [wp_ifp (show (mdQ (Ms (lsM s (coI Ms s g))) : Int) ≤ (j : Int) by have : mdQ (Ms (lsM s (coI Ms s g))) = mdQ (moI Ms s (coI Ms s g)) := rfl; omega)]
              refine nxt τ3 hA3 h40' (up3 τ3 hr3) (fun x y hx h4 hy => ?_)
              by_cases e : x = g
              · subst e
                rw [if_pos (Nat.lt_succ_self x), stp_m h4 hx, hg3 y hy, show j = mdQ (moI Ms s (coI Ms s x)) by omega, hd.conK_all hx]
              · rw [hm3 x y hx e h4 hy]
                by_cases c : x < g
                · rw [if_pos c, if_pos (by omega)]
                · rw [if_neg c, if_neg (by omega)]
            | succ k2 ih2 =>
              intro j f2 τ3 hj hf2 hA3 h40' hr3 hm3 hg3
              obtain ⟨f2', rfl⟩ : ∃ f2', f2 = f2' + 1 := ⟨f2 - 1, by omega⟩
              obtain ⟨hM3, hE3, hBL3, hall3, -⟩ := hin τ3 hA3 h40'
              have hjl : j < mdQ (moI Ms s (coI Ms s g)) := by omega
              have eJ : ∀ _ : Unit, w32 (((200 * (12 * S + lsM s (coI Ms s g)) : Nat) : Int) + (j : Int)) = ((200 * (12 * S + lsM s (coI Ms s g)) + j : Nat) : Int) := fun _ => by rw [w32_i (by omega) (by omega)]; omega
              have go : ∀ τ4, agr (fun a i => aFM a i ∧ a ≠ 2131) τ τ4 → τ4.2.1 2140 = τ1.2.1 2140 → (∀ x, x < lsG s → kdS Ms s x = 3 → (τ4.2.1 2131 (stwS Ms s x)).toInt = ((if x < g then (stp Ms s v).2.1 x else v.2.1 x : Nat) : Int)) → (∀ x j, x < lsG s → x ≠ g → kdS Ms s x = 4 → j < wsG Ms s x → (τ4.2.1 2131 (stwS Ms s x + j)).toInt = ((if x < g then (stp Ms s v).2.2.1 x j else v.2.2.1 x j : Nat) : Int)) → (∀ y, y < wsG Ms s g → (τ4.2.1 2131 (stwS Ms s g + y)).toInt = (cnW Ms s (Vs Ms s v) v.2.2.1 g (v.2.2.1 g) (conK Ms s g (j + 1)) y : Int)) → wp (X15_oneStep_253 (X15_oneStep_43 f') (X15_oneStep_131 (X15_oneStep_43 f') f2') (S : Int) (g : Int) ((200 * S + g : Nat) : Int) (coI Ms s g : Int) ((200 * (12 * S + lsM s (coI Ms s g)) : Nat) : Int) (j : Int)) τ4 Q := by
                intro τ4 b1 b2 b3 b4 b5
                rw [X15_oneStep_253, wp_lt, w32_i (by omega) (by omega), show (j : Int) + 1 = ((j + 1 : Nat) : Int) by omega]
                exact ih2 (j + 1) f2' τ4 (by omega) (by omega) b1 b2 b3 b4 b5
              rw [X15_oneStep_131, wp_bd, RI_2122 (by omega) (by omega), tn, (hM3.1.2.2.2 g hgl).2.1.1, wp_ifp (by omega), wp_bd, m_store hd hM3 (by omega) (by rw [eI]; exact a1), wp_bd, RI_2080 (by omega) (by omega), tn, (hM3.2 _ hm0).1.2.2]
              rw [wp_ifn (show ¬ (mdQ (Ms (lsM s (coI Ms s g))) : Int) ≤ (j : Int) by have : mdQ (Ms (lsM s (coI Ms s g))) = mdQ (moI Ms s (coI Ms s g)) := rfl; omega), wp_bd, eJ (), RI_2094 (by omega) (by omega), tn, wp_bd, RI_2126 (by omega) (by omega), tn, (hM3.1.2.2.2 g hgl).2.2.2, ← eT]
              rcases hd.stK hM3 hgl nt hjl with ⟨c, c1, c2, ⟨c3', c4'⟩, c5⟩ | ⟨c3', c5⟩
              · obtain ⟨y1, y2, y3, y4, -⟩ := hd.conL_mem hgl c1
                obtain ⟨-, -, m96, m97, -⟩ := (hM3.2 _ hm0).2.2.2.1 c y3
                obtain ⟨a, ha1, ha2⟩ := hd.adr hgl c4 c1
                have m97' : τ3.1 2097 (200 * (12 * S + lsM s (coI Ms s g)) + mdSt (moI Ms s (coI Ms s g)) c) = (mdVl (moI Ms s (coI Ms s g)) c : Int) := m97
                have m96' : τ3.1 2096 (200 * (12 * S + lsM s (coI Ms s g)) + mdSt (moI Ms s (coI Ms s g)) c) = (a : Int) := by rw [← ha1]; exact m96
                rw [c2] at m97' m96'
                have hroot := hd.root y2 y3
                have n240 : mdN (moI Ms s (coI Ms s g)) ≤ 240 := ok.1.2.1
                have lt4 : ∀ u, u < mdN (moI Ms s (coI Ms s g)) → VRM s τ3 (Vs Ms s v) (fun h => rdE Ms s (coI Ms s g) u h) := by
                  rintro u hu h hh ⟨n, n1, n2, n4, n5⟩
                  obtain ⟨t, t1, t2, t3, t4, t5, -⟩ := hd.rd y2 (show n < mdN _ by omega) n4
                  rw [t1, tn] at n5
                  exact hall3 h hh (by rw [← n5]; exact t5)
                have eA : (mdAd (moI Ms s (coI Ms s g)) c).toNat = a := by rw [ha1, tn]
                rw [wp_ifp c3', wp_bd, ← c2]
                refine activeM hd hch hlim (by omega) hV hWb hE3 hBL3 hgl c1 (fun q hq => lt4 q.1 (hch _ _ y2 y3 q hq).1) (fun hl => ?_) (fun hl => ?_)
                · rw [c2, wp_ifn (by decide), wp_bd, RI_2096 (by omega) (by omega), tn, m96', wp_bd]
                  refine valM hd hlim (by omega) hV hWb y2 hE3 a 310 ha2 (by omega) (lt4 a ha2) (fun ra hra => ?_)
                  have hi2 : (i2l (wsG Ms s g : Int)).toInt = (wsG Ms s g : Int) := i2l_t (by omega) (by omega)
                  have hlt := t_lt hra hi2
                  rw [wp_lt, wp_bd, RI_2124 (by omega) (by omega), tn, (hM3.1.2.2.2 g hgl).2.1.2.2]
                  by_cases ca : nv Ms s (Vs Ms s v) v.2.2.1 (coI Ms s g) a < wsG Ms s g
                  · have hl2 : l2i ra = (nv Ms s (Vs Ms s v) v.2.2.1 (coI Ms s g) a : Int) := by rw [l2i_t (by omega) (by omega), hra]
                    have hneg : ¬ 0 ≤ lcm ra (i2l (wsG Ms s g : Int)) := by
                      have : lcm ra (i2l (wsG Ms s g : Int)) < 0 := by rw [hlt]; exact ca
                      omega
                    rw [wp_ifn hneg, wp_bd, RI_2127 (by omega) (by omega), tn, hE3.2.1 g hgl, wp_bd, RI_2097 (by omega) (by omega), tn, m97', wp_bd]
                    refine valM hd hlim (by omega) hV hWb y2 hE3 _ 310 hroot (by omega) (lt4 _ hroot) (fun rv hrv => ?_)
                    rw [hl2, wp_bd, w32_i (by omega) (by omega), RV_2131 (by omega) (by omega), show ((stwS Ms s g : Int) + (nv Ms s (Vs Ms s v) v.2.2.1 (coI Ms s g) a : Int)).toNat = stwS Ms s g + nv Ms s (Vs Ms s v) v.2.2.1 (coI Ms s g) a by omega]
                    refine go _ (hA3.y 2131 (fun k h => h.2 rfl)) (by dsimp only; rw [stA_ne (by decide)]; exact h40') (fun x hx h3 => ?_) (fun x y hx hne h4 hy => ?_) (fun y hy => ?_)
                    · dsimp only
                      have wx := (hd.sig hx).2.2.2.2.2.1.1
                      have ne : stwS Ms s x ≠ stwS Ms s g + nv Ms s (Vs Ms s v) v.2.2.1 (coI Ms s g) a := by
                        rcases Nat.lt_or_ge x g with w | w
                        · have := stw_ap (Ms := Ms) (s := s) w (Or.inl h3); omega
                        · have := stw_ap (Ms := Ms) (s := s) (show g < x by rcases Nat.lt_or_ge g x with z | z; exact z; exact absurd (show x = g by omega) (fun e => by subst e; omega)) (Or.inr c4); omega
                      rw [stA_eq, ups_ne ne]; exact hr3 x hx h3
                    · dsimp only
                      have ne : stwS Ms s x + y ≠ stwS Ms s g + nv Ms s (Vs Ms s v) v.2.2.1 (coI Ms s g) a := by
                        rcases Nat.lt_or_ge x g with w | w
                        · have := stw_ap (Ms := Ms) (s := s) w (Or.inr h4); omega
                        · have := stw_ap (Ms := Ms) (s := s) (show g < x by omega) (Or.inr c4); omega
                      rw [stA_eq, ups_ne ne]; exact hm3 x y hx hne h4 hy
                    · dsimp only
                      rw [stA_eq, c5, cnW_app, cnW_y hl, eA, if_pos ca]
                      show _ = ((ups (cnW Ms s (Vs Ms s v) v.2.2.1 g (v.2.2.1 g) (conK Ms s g j)) (nv Ms s (Vs Ms s v) v.2.2.1 (coI Ms s g) a) (nv Ms s (Vs Ms s v) v.2.2.1 (coI Ms s g) (mdVl (moI Ms s (coI Ms s g)) c)) y : Nat) : Int)
                      by_cases e : y = nv Ms s (Vs Ms s v) v.2.2.1 (coI Ms s g) a
                      · subst e; rw [ups_eq, ups_eq]; exact hrv
                      · rw [ups_ne (by omega), ups_ne e]; exact hg3 y hy
                  · have hnn : 0 ≤ lcm ra (i2l (wsG Ms s g : Int)) := by
                      have : ¬ lcm ra (i2l (wsG Ms s g : Int)) < 0 := by rw [hlt]; exact ca
                      omega
                    rw [wp_ifp hnn]
                    refine go τ3 hA3 h40' hr3 hm3 (fun y hy => ?_)
                    rw [c5, cnW_app, cnW_y hl, eA, if_neg ca]
                    exact hg3 y hy
                · rw [c2, wp_ifp rfl]
                  refine go τ3 hA3 h40' hr3 hm3 (fun y hy => ?_)
                  rw [c5, cnW_app, cnW_n hl]
                  exact hg3 y hy
              · have d1 : ¬ τ3.1 2094 (200 * (12 * S + lsM s (coI Ms s g)) + j) = (coT Ms s g : Int) := fun h => c3' ⟨h, hd.stK4 hM3 hgl c4 hjl h⟩
                rw [wp_ifn d1]
                refine go τ3 hA3 h40' hr3 hm3 (fun y hy => ?_)
                rw [c5]
                exact hg3 y hy
          refine stm (mdQ (moI Ms s (coI Ms s g))) 0 FU τ2 (by omega) (by omega) hA h40 hr (fun x j hx _ h4 hj => hm x j hx h4 hj) (fun y hy => ?_)
          have := hm g y hgl c4 hy
          rw [if_neg (Nat.lt_irrefl g)] at this
          rw [conK_0]
          exact this
        · rw [hF', X15_oneStep_131, wp_bd, RI_2122 (by omega) (by omega), tn, m22, wp_ifn (by omega)]
          refine nxt τ2 hA h40 (up3 τ2 hr) (fun x j hx h4 hj => ?_)
          rw [hm x j hx h4 hj]
          by_cases c : x < g
          · rw [if_pos c, if_pos (by omega)]
          · rw [if_neg c]
            by_cases e : x = g
            · subst e; exact absurd h4 c4
            · rw [if_neg (by omega)]
  -- the copy
  have cpy1 : ∀ d k f τ2, k + d = stwS Ms s (lsG s) → d < f → agr (fun a i => aFM a i ∧ a ≠ 2131) τ τ2 → τ2.2.1 2140 = τ1.2.1 2140 → (∀ x, x < k → τ2.2.1 2131 x = τ.2.1 2130 (200 * S + x)) → wp (X15_oneStep_7 f (S : Int) (k : Int)) τ2 Q := by
    intro d
    induction d with
    | zero =>
      intro k f τ2 hk hf hA h40 hc
      obtain ⟨f', rfl⟩ : ∃ f', f = f' + 1 := ⟨f - 1, by omega⟩
      obtain ⟨-, -, -, -, h32⟩ := hin τ2 hA h40
      rw [X15_oneStep_7, wp_bd, RI_2132 (by omega) (by omega), tn, h32, wp_ifp (by omega), X15_oneStep_41, wp_lt]
      refine sig (lsG s) 0 FU τ2 (by omega) (by omega) hA h40 (fun x hx h3 => ?_) (fun x j hx h4 hj => ?_)
      · obtain ⟨g1, g2⟩ := stw_in hd hlim hx (Or.inl h3)
        have := (hd.sig hx).2.2.2.2.2.1.1
        rw [if_neg (Nat.not_lt_zero x), hc _ (by omega)]
        exact (hv.1 x hx).2.2.1 h3
      · obtain ⟨g1, g2⟩ := stw_in hd hlim hx (Or.inr h4)
        rw [if_neg (Nat.not_lt_zero x), hc _ (by omega)]
        exact (hv.1 x hx).2.2.2 h4 j hj
    | succ d ih =>
      intro k f τ2 hk hf hA h40 hc
      obtain ⟨f', rfl⟩ : ∃ f', f = f' + 1 := ⟨f - 1, by omega⟩
      obtain ⟨-, -, -, -, h32⟩ := hin τ2 hA h40
      rw [X15_oneStep_7, wp_bd, RI_2132 (by omega) (by omega), tn, h32, wp_ifn (by omega), wp_bd, e200' k (by omega), RI_2130 (by omega) (by omega), tn, wp_bd, RV_2131 (by omega) (by omega), tn, wp_lt, w32_i (by omega) (by omega), show (k : Int) + 1 = ((k + 1 : Nat) : Int) by omega]
      refine ih (k + 1) f' _ (by omega) (by omega) (hA.y 2131 (fun k h => h.2 rfl)) (by dsimp only; rw [stA_ne (by decide)]; exact h40) (fun x hx => ?_)
      dsimp only
      rw [stA_eq]
      by_cases e : x = k
      · subst e
        rw [ups_eq, (hA 2130 _ ⟨by unfold aFM; omega, by decide⟩).2.1]
      · rw [ups_ne e]; exact hc x (by omega)
  exact cpy1 (stwS Ms s (lsG s)) 0 FU τ1 (by omega) (by omega) (agr.sub hA1 (fun a i h => h.1)) rfl (fun x h => absurd h (Nat.not_lt_zero x))
end
