set_option maxRecDepth 100000
set_option maxHeartbeats 400000
/-! ===== designs: rings; the component ===== -/
theorem LD14 {d : Nat} (h : isD d) : la (d + 14) = 800 := (LD h).2.2.2.2.2.2.2.2.2.2.2.2.2.2.2.2.2.2.2.2.2.2.2.2.2.2.1
theorem LY14 {d : Nat} (h : isD d) : lay (d + 14) = (4, 800) := (LD h).2.2.2.2.2.2.2.2.2.2.2.2.2.2.2.2.2.2.2.2.2.2.2.2.2.2.2.1
theorem LD15 {d : Nat} (h : isD d) : la (d + 15) = 800 := (LD h).2.2.2.2.2.2.2.2.2.2.2.2.2.2.2.2.2.2.2.2.2.2.2.2.2.2.2.2.1
theorem LY15 {d : Nat} (h : isD d) : lay (d + 15) = (4, 800) := (LD h).2.2.2.2.2.2.2.2.2.2.2.2.2.2.2.2.2.2.2.2.2.2.2.2.2.2.2.2.2.1
section
variable {Ms : Nat → ModV} {top : Nat} {s : LYS} {σ σ' τ τ' : St} {o S : Nat}
/-- what hangs on what, by numbers of signals -/
def hgG (Ms : Nat → ModV) (s : LYS) (g h : Nat) : Prop := g < lsG s ∧ h < lsG s ∧ hgP Ms s g h
theorem DP.hg_lt (hd : DP Ms top s) {σ : St} {o : Nat} (hX : DX σ o Ms top s) {g h : Nat} (hg : g < lsG s) (hh : hgP Ms s g h) : h < lsG s := by
  obtain ⟨-, -, c, hc, hr⟩ := hh
  obtain ⟨z1, z2, z3, z4, -⟩ := hd.conL_mem hg hc
  have one : ∀ u, u < mdN (moI Ms s (coI Ms s g)) → rdE Ms s (coI Ms s g) u h → h < lsG s := by
    rintro u hu ⟨n, n1, n2, n4, n5⟩
    obtain ⟨t, t1, t2, t3, t4, -⟩ := hd.rd z2 (show n < mdN _ by omega) n4
    rw [t1, tn] at n5
    rw [← n5]; exact t4
  rcases hr with h | ⟨q, hq, h⟩
  · exact one _ (hd.root z2 z3) h
  · exact one _ (hd.chN hX z2 z3 q hq).1 h
/-- what reach leaves alone -/
def rF (o a : Nat) (_ : Nat) : Prop := a ≠ o + 15
theorem reachX (hd : DP Ms top s) (hD : isD o) (hX : DX σ o Ms top s) {H : Nat → Nat → Prop} (hH : HX (σ.2.1 (o + 14)) H) (hH0 : ∀ g h, lsG s ≤ g → ¬ H g h) : wp (F_X13_reach o) σ (fun _ σ' => agr (rF o) σ σ' ∧ HX (σ'.2.1 (o + 15)) (wsh H (lsG s))) := by
  have hFU := FU_ge
  have h200 := hd.2.1.2
  have key : ∀ k m f σ1, m + k = lsG s → k < f → agr (rF o) σ σ1 → HX (σ1.2.1 (o + 15)) (wsh H m) → wp (X13_reach_18 o f (m : Int)) σ1 (fun _ σ' => agr (rF o) σ σ' ∧ HX (σ'.2.1 (o + 15)) (wsh H (lsG s))) := by
    intro k
    induction k with
    | zero =>
      intro m f σ1 hm hf hA h1
      obtain ⟨f', rfl⟩ : ∃ f', f = f' + 1 := ⟨f - 1, by omega⟩
      have hX1 := hX.fr hd.1.1 (agr.sub hA (fun a i h => by unfold dP at h; unfold rF; omega))
      rw [X13_reach_18, wp_bd, wp_gI, hX1.1.1.2, wp_ifp (by omega), wp_rt]
      rw [show m = lsG s by omega] at h1
      exact ⟨hA, h1⟩
    | succ k ih =>
      intro m f σ1 hm hf hA h1
      obtain ⟨f', rfl⟩ : ∃ f', f = f' + 1 := ⟨f - 1, by omega⟩
      have hX1 := hX.fr hd.1.1 (agr.sub hA (fun a i h => by unfold dP at h; unfold rF; omega))
      rw [X13_reach_18, wp_bd, wp_gI, hX1.1.1.2, wp_ifn (by omega), wp_lt]
      have row : ∀ k2 x f2 σ2, x + k2 = lsG s → k2 < f2 → agr (rF o) σ σ2 → HX (σ2.2.1 (o + 15)) (fun a b => if a < x then wsh H (m + 1) a b else wsh H m a b) → wp (X13_reach_28 o (X13_reach_18 o f') f2 (m : Int) (x : Int)) σ2 (fun _ σ' => agr (rF o) σ σ' ∧ HX (σ'.2.1 (o + 15)) (wsh H (lsG s))) := by
        intro k2
        induction k2 with
        | zero =>
          intro x f2 σ2 hx hf2 hA2 h2
          obtain ⟨f2', rfl⟩ : ∃ f2', f2 = f2' + 1 := ⟨f2 - 1, by omega⟩
          have hX2 := hX.fr hd.1.1 (agr.sub hA2 (fun a i h => by unfold dP at h; unfold rF; omega))
          rw [X13_reach_28, wp_bd, wp_gI, hX2.1.1.2, wp_ifp (by omega), X13_reach_90, wp_lt, w32_i (by omega) (by omega), show (m : Int) + 1 = ((m + 1 : Nat) : Int) by omega]
          refine ih (m + 1) f' σ2 (by omega) (by omega) hA2 (h2.cong (fun a b _ _ => ?_))
          by_cases c : a < x
          · rw [if_pos c]
          · rw [if_neg c]
            exact ⟨fun q => absurd q (wsh_no m a b (fun t => hH0 a t (by omega))), fun q => absurd q (wsh_no (m + 1) a b (fun t => hH0 a t (by omega)))⟩
        | succ k2 ih2 =>
          intro x f2 σ2 hx hf2 hA2 h2
          obtain ⟨f2', rfl⟩ : ∃ f2', f2 = f2' + 1 := ⟨f2 - 1, by omega⟩
          have hX2 := hX.fr hd.1.1 (agr.sub hA2 (fun a i h => by unfold dP at h; unfold rF; omega))
          have nxt : ∀ σ3, agr (rF o) σ σ3 → HX (σ3.2.1 (o + 15)) (fun a b => if a < x + 1 then wsh H (m + 1) a b else wsh H m a b) → wp (X13_reach_84 o (X13_reach_18 o f') (X13_reach_28 o (X13_reach_18 o f') f2') (m : Int) (x : Int)) σ3 (fun _ σ' => agr (rF o) σ σ' ∧ HX (σ'.2.1 (o + 15)) (wsh H (lsG s))) := by
            intro σ3 hA3 h3
            rw [X13_reach_84, wp_lt, w32_i (by omega) (by omega), show (x : Int) + 1 = ((x + 1 : Nat) : Int) by omega]
            exact ih2 (x + 1) f2' σ3 (by omega) (by omega) hA3 h3
          have hbit : hb (σ2.2.1 (o + 15)) x m = true ↔ wsh H m x m := by
            have h9 := h2 x m (by omega) (by omega)
            dsimp only at h9
            rw [if_neg (Nat.lt_irrefl x)] at h9
            exact h9
          rw [X13_reach_28, wp_bd, wp_gI, hX2.1.1.2, wp_ifn (by omega), wp_bd, has_v (LD15 hD) (by omega) (by omega)]
          by_cases cb : wsh H m x m
          · rw [if_pos (hbit.mpr cb), wp_ifn (by decide), wp_lt]
            -- four words
            have words : ∀ k3 w f3 σ3, w + k3 = 4 → k3 < f3 → agr (rF o) σ σ3 → (∀ i, i < 800 → σ3.2.1 (o + 15) i = if 4 * x ≤ i ∧ i < 4 * x + w then σ2.2.1 (o + 15) i ||| σ2.2.1 (o + 15) (4 * m + (i - 4 * x)) else σ2.2.1 (o + 15) i) → wp (X13_reach_50 o (X13_reach_18 o f') (X13_reach_28 o (X13_reach_18 o f') f2') f3 (m : Int) (x : Int) (w : Int)) σ3 (fun _ σ' => agr (rF o) σ σ' ∧ HX (σ'.2.1 (o + 15)) (wsh H (lsG s))) := by
              intro k3
              induction k3 with
              | zero =>
                intro w f3 σ3 hw hf3 hA3 h3
                obtain ⟨f3', rfl⟩ : ∃ f3', f3 = f3' + 1 := ⟨f3 - 1, by omega⟩
                rw [X13_reach_50, wp_ifp (by omega)]
                refine nxt σ3 hA3 (fun a b ha hbb => ?_)
                dsimp only
                have e := h3 (4 * a + b / 64) (by omega)
                unfold hb
                rw [e]
                by_cases c : a = x
                · subst c
                  rw [if_pos (by omega), if_pos (by omega), show 4 * m + (4 * a + b / 64 - 4 * a) = 4 * m + b / 64 by omega, Int64.toBitVec_or, BitVec.getLsbD_or, Bool.or_eq_true]
                  have e1 := h2 a b ha hbb
                  have e2 := h2 m b (by omega) hbb
                  unfold hb at e1 e2
                  dsimp only at e1 e2
                  rw [e1, e2, if_neg (Nat.lt_irrefl a)]
                  constructor
                  · rintro (q | q)
                    · exact Or.inl q
                    · refine Or.inr ⟨cb, ?_⟩
                      by_cases c2 : m < a
                      · rw [if_pos c2] at q; exact wsh_k.mp q
                      · rw [if_neg c2] at q; exact q
                  · rintro (q | ⟨q1, q2⟩)
                    · exact Or.inl q
                    · refine Or.inr ?_
                      by_cases c2 : m < a
                      · rw [if_pos c2]; exact wsh_k.mpr q2
                      · rw [if_neg c2]; exact q2
                · rw [if_neg (by omega)]
                  have e1 := h2 a b ha hbb
                  unfold hb at e1
                  dsimp only at e1
                  rw [e1]
                  by_cases c2 : a < x
                  · rw [if_pos c2, if_pos (by omega)]
                  · rw [if_neg c2, if_neg (by omega)]
              | succ k3 ih3 =>
                intro w f3 σ3 hw hf3 hA3 h3
                obtain ⟨f3', rfl⟩ : ∃ f3', f3 = f3' + 1 := ⟨f3 - 1, by omega⟩
                have e1 : ∀ _ : Unit, w32 (w32 (4 * (x : Int)) + (w : Int)) = ((4 * x + w : Nat) : Int) := fun _ => by rw [w32_i (x := 4 * (x : Int)) (by omega) (by omega), w32_i (by omega) (by omega)]; omega
                have e2 : ∀ _ : Unit, w32 (w32 (4 * (m : Int)) + (w : Int)) = ((4 * m + w : Nat) : Int) := fun _ => by rw [w32_i (x := 4 * (m : Int)) (by omega) (by omega), w32_i (by omega) (by omega)]; omega
                rw [X13_reach_50, wp_ifn (by omega), wp_bd, e1 (), DI_15 hD (by omega) (by omega), tn, wp_bd, e2 (), DI_15 hD (by omega) (by omega), tn, wp_bd, DV_15 hD (by omega) (by omega), tn, wp_lt, w32_i (by omega) (by omega), show (w : Int) + 1 = ((w + 1 : Nat) : Int) by omega]
                refine ih3 (w + 1) f3' _ (by omega) (by omega) (hA3.v' (fun {i} h => h rfl) _) (fun i hi => ?_)
                dsimp only
                rw [stA_eq]
                by_cases c : i = 4 * x + w
                · subst c
                  rw [ups_eq, if_pos (by omega), h3 _ (by omega), if_neg (by omega), show 4 * m + (4 * x + w - 4 * x) = 4 * m + w by omega]
                  congr 1
                  rw [h3 (4 * m + w) (by omega)]
                  by_cases c2 : m = x
                  · subst c2
                    rw [if_neg (by omega)]
                  · rw [if_neg (by omega)]
                · rw [ups_ne c, h3 i hi]
                  by_cases c2 : 4 * x ≤ i ∧ i < 4 * x + w
                  · rw [if_pos c2, if_pos (by omega)]
                  · rw [if_neg c2, if_neg (by omega)]
            refine words 4 0 FU σ2 (by omega) (by omega) hA2 (fun i hi => by rw [if_neg (by omega)])
          · rw [if_neg (fun h => cb (hbit.mp h)), wp_ifp rfl]
            refine nxt σ2 hA2 (h2.cong (fun a b _ _ => ?_))
            by_cases c : a < x
            · rw [if_pos c, if_pos (by omega)]
            · rw [if_neg c]
              by_cases c2 : a = x
              · subst c2
                rw [if_pos (Nat.lt_succ_self a)]
                exact ⟨Or.inl, fun q => by rcases q with q | q; exact q; exact absurd q.1 cb⟩
              · rw [if_neg (by omega)]
      refine row (lsG s) 0 FU σ1 (by omega) (by omega) hA (h1.cong (fun a b _ _ => by rw [if_neg (Nat.not_lt_zero a)]))
  rw [F_X13_reach, wp_bd, c_cpL (m := 800) (k := 800) (LY14 hD) (LY15 hD) (by decide) (by decide) (by decide) (by decide) (by decide), wp_lt]
  refine key (lsG s) 0 FU _ (by omega) (by omega) (agr.refl.v' (fun {i} h => h rfl) _) (fun a b ha hbb => ?_)
  dsimp only
  rw [stA_eq]
  have e : hb (cpy (σ.2.1 (o + 14)) (0 : Int).toNat (σ.2.1 (o + 15)) (0 : Int).toNat (800 : Int).toNat) a b = hb (σ.2.1 (o + 14)) a b := by
    unfold hb cpy
    rw [show (0 : Int).toNat = 0 from rfl, show (800 : Int).toNat = 800 from rfl, if_pos (by omega), show 0 + (4 * a + b / 64 - 0) = 4 * a + b / 64 by omega]
  rw [e]
  exact hH a b ha hbb
/-- what measuring leaves alone -/
def mF (o a : Nat) (_ : Nat) : Prop := a ≠ o + 26
/-- distances, while they are found -/
def mdI (H : Nat → Nat → Prop) (n g : Nat) (d : Nat → Nat) : Prop := d g = 0 ∧ ∀ x, x < n → d x = 201 ∨ (d x ≤ 200 ∧ ph H n (d x) x g)
theorem mdI_end {H : Nat → Nat → Prop} {n g : Nat} {d : Nat → Nat} (h : mdI H n g d) (hn : n ≤ 200) (hg : g < n) (hfix : ∀ x t, x < n → t < n → H x t → d x ≤ d t + 1) : ∀ x, x < n → d x = farD H n g x := by
  have low : ∀ l x, x < n → ph H n l x g → d x ≤ l := by
    intro l
    induction l with
    | zero =>
      intro x _ hp
      have e : x = g := hp
      subst e
      rw [h.1]
      exact Nat.zero_le 0
    | succ l ih =>
      rintro x hx ⟨u, h1, h2, h3⟩
      have := ih u h1 h3
      have := hfix x u hx h1 h2
      omega
  intro x hx
  unfold farD
  by_cases c : dst H n g x < n
  · rw [if_pos c]
    have h1 := low _ x hx (dst_ph c)
    rcases h.2 x hx with e | ⟨e1, e2⟩
    · omega
    · have := dst_le e2
      omega
  · rw [if_neg c]
    rcases h.2 x hx with e | ⟨e1, e2⟩
    · exact e
    · exact absurd (dst_lt hg hx e2) c
theorem smF_up {d : Nat → Nat} {n x v : Nat} (hx : x < n) (hv : v < d x) : smF (ups d x v) n < smF d n := by
  induction n with
  | zero => exact absurd hx (Nat.not_lt_zero x)
  | succ n ih =>
    show smF (ups d x v) n + ups d x v n < smF d n + d n
    by_cases e : x = n
    · subst e
      rw [ups_eq]
      have : smF (ups d x v) x = smF d x := smF_cong (fun i hi => ups_ne (by omega))
      omega
    · rw [ups_ne (fun z => e z.symm)]
      have := ih (by omega)
      omega
theorem measX (hd : DP Ms top s) (hD : isD o) (hX : DX σ o Ms top s) {H : Nat → Nat → Prop} (hH : HX (σ.2.1 (o + 14)) H) {g : Nat} (hg : g < lsG s) : wp (F_X13_measure o (g : Int)) σ (fun _ σ' => agr (mF o) σ σ' ∧ ∀ x, x < lsG s → σ'.1 (o + 26) x = (farD H (lsG s) g x : Int)) := by
  have hFU := FU_ge
  have h200 := hd.2.1.2
  have hbit : ∀ σ1, agr (mF o) σ σ1 → ∀ x t, x < lsG s → t < lsG s → (hb (σ1.2.1 (o + 14)) x t = true ↔ H x t) := fun σ1 hA x t hx ht => by
    have e : σ1.2.1 (o + 14) = σ.2.1 (o + 14) := funext fun i => (hA (o + 14) i (by unfold mF; omega)).2.1
    rw [e]
    exact hH x t (by omega) (by omega)
  -- rounds
  have key : ∀ S0 f σ1 (d : Nat → Nat), S0 + 2 ≤ f → agr (mF o) σ σ1 → (∀ x, x < lsG s → σ1.1 (o + 26) x = (d x : Int)) → mdI H (lsG s) g d → smF d (lsG s) ≤ S0 → wp (X13_measure_36 o f 1) σ1 (fun _ σ' => agr (mF o) σ σ' ∧ ∀ x, x < lsG s → σ'.1 (o + 26) x = (farD H (lsG s) g x : Int)) := by
    intro S0
    induction S0 using Nat.strongRecOn with
    | ind S0 ihS =>
      intro f σ1 d hf hA hr hI hS
      obtain ⟨f', rfl⟩ : ∃ f', f = f' + 1 := ⟨f - 1, by omega⟩
      rw [X13_measure_36, wp_ifn (by decide), wp_lt, wp_lt]
      -- behind a round
      have fin : ∀ σ2 (d2 : Nat → Nat) (more : Nat), agr (mF o) σ σ2 → (∀ x, x < lsG s → σ2.1 (o + 26) x = (d2 x : Int)) → mdI H (lsG s) g d2 → ((more = 0 ∧ ∀ x t, x < lsG s → t < lsG s → H x t → d2 x ≤ d2 t + 1) ∨ (more = 1 ∧ smF d2 (lsG s) < S0)) → wp (X13_measure_36 o f' (more : Int)) σ2 (fun _ σ' => agr (mF o) σ σ' ∧ ∀ x, x < lsG s → σ'.1 (o + 26) x = (farD H (lsG s) g x : Int)) := by
        intro σ2 d2 more hA2 hr2 hI2 hc
        rcases hc with ⟨e, hfix⟩ | ⟨e, hlt⟩
        · subst e
          obtain ⟨f'', rfl⟩ : ∃ f'', f' = f'' + 1 := ⟨f' - 1, by omega⟩
          rw [X13_measure_36, wp_ifp (by omega), wp_rt]
          exact ⟨hA2, fun x hx => by rw [hr2 x hx, mdI_end hI2 h200 hg hfix x hx]⟩
        · subst e
          exact ihS _ hlt f' σ2 d2 (by omega) hA2 hr2 hI2 (Nat.le_refl _)
      have row : ∀ k x f2 σ2 (d2 : Nat → Nat) (more : Nat), x + k = lsG s → k < f2 → agr (mF o) σ σ2 → (∀ x, x < lsG s → σ2.1 (o + 26) x = (d2 x : Int)) → mdI H (lsG s) g d2 → ((more = 0 ∧ smF d2 (lsG s) ≤ S0 ∧ ∀ x' t', x' < x → x' < lsG s → t' < lsG s → H x' t' → d2 x' ≤ d2 t' + 1) ∨ (more = 1 ∧ smF d2 (lsG s) < S0)) → wp (X13_measure_44 o (X13_measure_36 o f') f2 (more : Int) (x : Int)) σ2 (fun _ σ' => agr (mF o) σ σ' ∧ ∀ x, x < lsG s → σ'.1 (o + 26) x = (farD H (lsG s) g x : Int)) := by
        intro k
        induction k with
        | zero =>
          intro x f2 σ2 d2 more hx hf2 hA2 hr2 hI2 hc
          obtain ⟨f2', rfl⟩ : ∃ f2', f2 = f2' + 1 := ⟨f2 - 1, by omega⟩
          have hX2 := hX.fr hd.1.1 (agr.sub hA2 (fun a i h => by unfold dP at h; unfold mF; omega))
          rw [X13_measure_44, wp_bd, wp_gI, hX2.1.1.2, wp_ifp (by omega)]
          refine fin σ2 d2 more hA2 hr2 hI2 ?_
          rcases hc with ⟨c1, c2, c3⟩ | h
          · exact Or.inl ⟨c1, fun x' t' q1 q2 q3 => c3 x' t' (by omega) q1 q2 q3⟩
          · exact Or.inr h
        | succ k ih =>
          intro x f2 σ2 d2 more hx hf2 hA2 hr2 hI2 hc
          obtain ⟨f2', rfl⟩ : ∃ f2', f2 = f2' + 1 := ⟨f2 - 1, by omega⟩
          have hX2 := hX.fr hd.1.1 (agr.sub hA2 (fun a i h => by unfold dP at h; unfold mF; omega))
          rw [X13_measure_44, wp_bd, wp_gI, hX2.1.1.2, wp_ifn (by omega), wp_lt]
          have inner : ∀ k3 t f3 σ3 (d3 : Nat → Nat) (more : Nat), t + k3 = lsG s → k3 < f3 → agr (mF o) σ σ3 → (∀ x, x < lsG s → σ3.1 (o + 26) x = (d3 x : Int)) → mdI H (lsG s) g d3 → ((more = 0 ∧ smF d3 (lsG s) ≤ S0 ∧ ∀ x' t', (x' < x ∨ (x' = x ∧ t' < t)) → x' < lsG s → t' < lsG s → H x' t' → d3 x' ≤ d3 t' + 1) ∨ (more = 1 ∧ smF d3 (lsG s) < S0)) → wp (X13_measure_55 o (X13_measure_36 o f') (X13_measure_44 o (X13_measure_36 o f') f2') f3 (more : Int) (x : Int) (t : Int)) σ3 (fun _ σ' => agr (mF o) σ σ' ∧ ∀ x, x < lsG s → σ'.1 (o + 26) x = (farD H (lsG s) g x : Int)) := by
            intro k3
            induction k3 with
            | zero =>
              intro t f3 σ3 d3 more ht hf3 hA3 hr3 hI3 hc3
              obtain ⟨f3', rfl⟩ : ∃ f3', f3 = f3' + 1 := ⟨f3 - 1, by omega⟩
              have hX3 := hX.fr hd.1.1 (agr.sub hA3 (fun a i h => by unfold dP at h; unfold mF; omega))
              rw [X13_measure_55, wp_bd, wp_gI, hX3.1.1.2, wp_ifp (by omega), X13_measure_121, wp_lt, w32_i (by omega) (by omega), show (x : Int) + 1 = ((x + 1 : Nat) : Int) by omega]
              refine ih (x + 1) f2' σ3 d3 more (by omega) (by omega) hA3 hr3 hI3 ?_
              rcases hc3 with ⟨c1, c2, c3⟩ | h
              · exact Or.inl ⟨c1, c2, fun x' t' q0 q1 q2 q3 => c3 x' t' (by omega) q1 q2 q3⟩
              · exact Or.inr h
            | succ k3 ih3 =>
              intro t f3 σ3 d3 more ht hf3 hA3 hr3 hI3 hc3
              obtain ⟨f3', rfl⟩ : ∃ f3', f3 = f3' + 1 := ⟨f3 - 1, by omega⟩
              have hX3 := hX.fr hd.1.1 (agr.sub hA3 (fun a i h => by unfold dP at h; unfold mF; omega))
              have hxl : x < lsG s := by omega
              have htl : t < lsG s := by omega
              have nxt : ∀ σ4 (d4 : Nat → Nat) (more : Nat), agr (mF o) σ σ4 → (∀ x, x < lsG s → σ4.1 (o + 26) x = (d4 x : Int)) → mdI H (lsG s) g d4 → ((more = 0 ∧ smF d4 (lsG s) ≤ S0 ∧ ∀ x' t', (x' < x ∨ (x' = x ∧ t' < t + 1)) → x' < lsG s → t' < lsG s → H x' t' → d4 x' ≤ d4 t' + 1) ∨ (more = 1 ∧ smF d4 (lsG s) < S0)) → wp (X13_measure_115 o (X13_measure_36 o f') (X13_measure_44 o (X13_measure_36 o f') f2') (X13_measure_55 o (X13_measure_36 o f') (X13_measure_44 o (X13_measure_36 o f') f2') f3') (more : Int) (x : Int) (t : Int)) σ4 (fun _ σ' => agr (mF o) σ σ' ∧ ∀ x, x < lsG s → σ'.1 (o + 26) x = (farD H (lsG s) g x : Int)) := by
                intro σ4 d4 more hA4 hr4 hI4 hc4
                rw [X13_measure_115, wp_lt, w32_i (by omega) (by omega), show (t : Int) + 1 = ((t + 1 : Nat) : Int) by omega]
                exact ih3 (t + 1) f3' σ4 d4 more (by omega) (by omega) hA4 hr4 hI4 hc4
              have hbx := hbit σ3 hA3 x t hxl htl
              have b1x : d3 x ≤ 201 := by rcases hI3.2 x hxl with e | ⟨e, -⟩ <;> omega
              have b1t : d3 t ≤ 201 := by rcases hI3.2 t htl with e | ⟨e, -⟩ <;> omega
              have stay : ¬ (H x t ∧ d3 t + 1 < d3 x) → wp (X13_measure_115 o (X13_measure_36 o f') (X13_measure_44 o (X13_measure_36 o f') f2') (X13_measure_55 o (X13_measure_36 o f') (X13_measure_44 o (X13_measure_36 o f') f2') f3') (more : Int) (x : Int) (t : Int)) σ3 (fun _ σ' => agr (mF o) σ σ' ∧ ∀ x, x < lsG s → σ'.1 (o + 26) x = (farD H (lsG s) g x : Int)) := fun hno => nxt σ3 d3 more hA3 hr3 hI3 (by
                rcases hc3 with ⟨c1, c2, c3⟩ | h
                · refine Or.inl ⟨c1, c2, fun x' t' q0 q1 q2 q3 => ?_⟩
                  by_cases e : x' = x ∧ t' = t
                  · obtain ⟨e1, e2⟩ := e
                    subst e1; subst e2
                    rcases Nat.lt_or_ge (d3 t' + 1) (d3 x') with w | w
                    · exact absurd ⟨q3, w⟩ hno
                    · exact w
                  · exact c3 x' t' (by omega) q1 q2 q3
                · exact Or.inr h)
              rw [X13_measure_55, wp_bd, wp_gI, hX3.1.1.2, wp_ifn (by omega), wp_bd, has_v (LD14 hD) (by omega) (by omega)]
              by_cases cb : H x t
              · rw [if_pos (hbx.mpr cb), wp_ifn (by decide), wp_bd, DI_26 hD (by omega) (by omega), tn, hr3 t htl, wp_bd, DI_26 hD (by omega) (by omega), tn, hr3 x hxl, w32_i (by omega) (by omega)]
                by_cases cl : d3 t + 1 < d3 x
                · rw [wp_ifp (by omega), wp_bd, DI_26 hD (by omega) (by omega), tn, hr3 t htl, wp_bd, DV_26 hD (by omega) (by omega), tn, wp_lt, w32_i (by omega) (by omega), show (d3 t : Int) + 1 = ((d3 t + 1 : Nat) : Int) by omega]
                  have hxg : x ≠ g := fun e => by rw [e, hI3.1] at cl; omega
                  refine nxt _ (ups d3 x (d3 t + 1)) 1 (hA3.w (fun k hk => absurd rfl hk)) (fun y hy => ?_) ⟨by rw [ups_ne (Ne.symm hxg)]; exact hI3.1, fun y hy => ?_⟩ (Or.inr ⟨rfl, ?_⟩)
                  · dsimp only
                    rw [stA_eq]
                    by_cases e : y = x
                    · subst e; rw [ups_eq, ups_eq]
                    · rw [ups_ne e, ups_ne e]; exact hr3 y hy
                  · by_cases e : y = x
                    · subst e
                      rw [ups_eq]
                      rcases hI3.2 t htl with e | ⟨e1, e2⟩
                      · omega
                      · exact Or.inr ⟨by omega, t, htl, cb, e2⟩
                    · rw [ups_ne e]; exact hI3.2 y hy
                  · have := smF_up (d := d3) hxl cl
                    rcases hc3 with ⟨_, c2, _⟩ | ⟨_, c2⟩ <;> omega
                · rw [wp_ifn (by omega)]
                  exact stay (fun h => cl h.2)
              · rw [if_neg (fun h => cb (hbx.mp h)), wp_ifp rfl]
                exact stay (fun h => cb h.1)
          refine inner (lsG s) 0 FU σ2 d2 more (by omega) (by omega) hA2 hr2 hI2 ?_
          rcases hc with ⟨c1, c2, c3⟩ | h
          · exact Or.inl ⟨c1, c2, fun x' t' q0 q1 q2 q3 => c3 x' t' (by omega) q1 q2 q3⟩
          · exact Or.inr h
      exact row (lsG s) 0 FU σ1 d 0 (by omega) (by omega) hA hr hI (Or.inl ⟨rfl, hS, fun x' t' q0 => by omega⟩)
  -- the first distances
  have first : ∀ k x f σ1, x + k = lsG s → k < f → agr (mF o) σ σ1 → (∀ y, y < x → σ1.1 (o + 26) y = ((if y = g then 0 else 201 : Nat) : Int)) → wp (X13_measure_2 o f (g : Int) (x : Int)) σ1 (fun _ σ' => agr (mF o) σ σ' ∧ ∀ x, x < lsG s → σ'.1 (o + 26) x = (farD H (lsG s) g x : Int)) := by
    intro k
    induction k with
    | zero =>
      intro x f σ1 hx hf hA hr
      obtain ⟨f', rfl⟩ : ∃ f', f = f' + 1 := ⟨f - 1, by omega⟩
      have hX1 := hX.fr hd.1.1 (agr.sub hA (fun a i h => by unfold dP at h; unfold mF; omega))
      rw [X13_measure_2, wp_bd, wp_gI, hX1.1.1.2, wp_ifp (by omega), X13_measure_34, wp_lt]
      have hsum : smF (fun y => if y = g then 0 else 201) (lsG s) ≤ 201 * lsG s := by
        have : smF (fun y => if y = g then 0 else 201) (lsG s) ≤ smF (fun _ => 201) (lsG s) := smF_le (fun i _ => by split <;> omega)
        have h2 : ∀ m, smF (fun _ => 201) m = 201 * m := by
          intro m
          induction m with
          | zero => rfl
          | succ m ih => show smF (fun _ => 201) m + 201 = _; omega
        rw [h2] at this
        exact this
      refine key (201 * lsG s) FU σ1 (fun y => if y = g then 0 else 201) (by omega) hA (fun y hy => hr y (by omega)) ⟨if_pos rfl, fun y hy => ?_⟩ hsum
      by_cases e : y = g
      · subst e
        refine Or.inr ⟨?_, ?_⟩
        · show (if y = y then 0 else 201) ≤ 200; rw [if_pos rfl]; omega
        · show ph H (lsG s) (if y = y then 0 else 201) y y; rw [if_pos rfl]; rfl
      · exact Or.inl (if_neg e)
    | succ k ih =>
      intro x f σ1 hx hf hA hr
      obtain ⟨f', rfl⟩ : ∃ f', f = f' + 1 := ⟨f - 1, by omega⟩
      have hX1 := hX.fr hd.1.1 (agr.sub hA (fun a i h => by unfold dP at h; unfold mF; omega))
      rw [X13_measure_2, wp_bd, wp_gI, hX1.1.1.2, wp_ifn (by omega)]
      have put : ∀ v : Nat, v = (if x = g then 0 else 201) → wp (X13_measure_27 o (X13_measure_2 o f') (g : Int) (x : Int) (o + 26) (x : Int) (v : Int)) σ1 (fun _ σ' => agr (mF o) σ σ' ∧ ∀ x, x < lsG s → σ'.1 (o + 26) x = (farD H (lsG s) g x : Int)) := by
        intro v hv
        rw [X13_measure_27, wp_bd, DV_26 hD (by omega) (by omega), tn, wp_lt, w32_i (by omega) (by omega), show (x : Int) + 1 = ((x + 1 : Nat) : Int) by omega]
        refine ih (x + 1) f' _ (by omega) (by omega) (hA.w (fun k hk => absurd rfl hk)) (fun y hy => ?_)
        dsimp only
        rw [stA_eq]
        by_cases e : y = x
        · subst e; rw [ups_eq, hv]
        · rw [ups_ne e]; exact hr y (by omega)
      by_cases e : x = g
      · rw [wp_ifp (by omega)]; exact put 0 (by rw [if_pos e])
      · rw [wp_ifn (by omega)]; exact put 201 (by rw [if_neg e])
  rw [F_X13_measure, wp_lt]
  exact first (lsG s) 0 FU σ (by omega) (by omega) agr.refl (fun y hy => absurd hy (Nat.not_lt_zero y))
/-- the next one in a ring: the nearest, the least of these -/
theorem nextX (hd : DP Ms top s) (hD : isD o) (hX : DX σ o Ms top s) {H : Nat → Nat → Prop} (hH : HX (σ.2.1 (o + 14)) H) {d : Nat → Nat} (hr : ∀ x, x < lsG s → σ.1 (o + 26) x = (d x : Int)) {x y : Nat} (hx : x < lsG s) (hy : y < lsG s) (h1 : H x y) (h2 : ∀ z, z < lsG s → H x z → d y ≤ d z) (h3 : ∀ z, z < y → H x z → d y < d z) {Q : Int → St → Prop} (hQ : Q (y : Int) σ) : wp (F_X13_nextInRing o (x : Int)) σ Q := by
  have hFU := FU_ge
  have h200 := hd.2.1.2
  have key : ∀ k t f (b : Int), t + k = lsG s → k < f → ((b = -1 ∧ ∀ z, z < t → ¬ H x z) ∨ (∃ z : Nat, b = (z : Int) ∧ z < t ∧ H x z ∧ ((z < y ∧ t ≤ y) ∨ z = y))) → (y < t → b = (y : Int)) → wp (X13_nextInRing_4 o f (x : Int) b (t : Int)) σ Q := by
    intro k
    induction k with
    | zero =>
      intro t f b ht hf hb hyb
      obtain ⟨f', rfl⟩ : ∃ f', f = f' + 1 := ⟨f - 1, by omega⟩
      rw [X13_nextInRing_4, wp_bd, wp_gI, hX.1.1.2, wp_ifp (by omega), wp_rt, hyb (by omega)]
      exact hQ
    | succ k ih =>
      intro t f b ht hf hb hyb
      obtain ⟨f', rfl⟩ : ∃ f', f = f' + 1 := ⟨f - 1, by omega⟩
      have htl : t < lsG s := by omega
      have hbx := hH x t (by omega) (by omega)
      have nxt : ∀ b : Int, ((b = -1 ∧ ∀ z, z < t + 1 → ¬ H x z) ∨ (∃ z : Nat, b = (z : Int) ∧ z < t + 1 ∧ H x z ∧ ((z < y ∧ t + 1 ≤ y) ∨ z = y))) → (y < t + 1 → b = (y : Int)) → wp (X13_nextInRing_45 o (X13_nextInRing_4 o f') (x : Int) b (t : Int)) σ Q := by
        intro b q1 q2
        rw [X13_nextInRing_45, wp_lt, w32_i (by omega) (by omega), show (t : Int) + 1 = ((t + 1 : Nat) : Int) by omega]
        exact ih (t + 1) f' b (by omega) (by omega) q1 q2
      have take : (∀ z : Nat, b = (z : Int) → t ≤ y) → (y < t → False) → H x t → wp (X13_nextInRing_43 o (X13_nextInRing_4 o f') (x : Int) (t : Int)) σ Q := by
        intro _ hyt0 hHt
        have hyt : ¬ y < t := hyt0
        rw [X13_nextInRing_43, wp_lt]
        refine nxt (t : Int) (Or.inr ⟨t, rfl, Nat.lt_succ_self t, hHt, ?_⟩) (fun q => ?_)
        · by_cases e : t = y
          · exact Or.inr e
          · exact Or.inl ⟨by omega, by omega⟩
        · have : t = y := by omega
          omega
      rw [X13_nextInRing_4, wp_bd, wp_gI, hX.1.1.2, wp_ifn (by omega), wp_bd, has_v (LD14 hD) (by omega) (by omega)]
      by_cases cb : H x t
      · rw [if_pos (hbx.mpr cb), wp_ifn (by decide)]
        rcases hb with ⟨e, hn⟩ | ⟨z, e, z1, z2, z3⟩
        · have hyt : y < t → False := fun q => hn y q h1
          rw [wp_ifp (by omega)]
          exact take (fun z _ => by omega) hyt cb
        · subst e
          rw [wp_ifn (by omega), wp_bd, DI_26 hD (by omega) (by omega), tn, hr t htl, wp_bd, DI_26 hD (by omega) (by omega), tn, hr z (by omega)]
          by_cases cy : y < t
          · have ez : z = y := by omega
            subst ez
            have := h2 t htl cb
            rw [wp_ifp (by omega)]
            exact nxt (z : Int) (Or.inr ⟨z, rfl, by omega, h1, Or.inr rfl⟩) (fun _ => rfl)
          · have zy : z < y := by omega
            by_cases c : d z ≤ d t
            · have ty : t ≠ y := fun e => by
                subst e
                have := h3 z zy z2
                omega
              rw [wp_ifp (by omega)]
              exact nxt (z : Int) (Or.inr ⟨z, rfl, by omega, z2, Or.inl ⟨zy, by omega⟩⟩) (fun q => by omega)
            · rw [wp_ifn (by omega)]
              exact take (fun _ _ => by omega) cy cb
      · rw [if_neg (fun h => cb (hbx.mp h)), wp_ifp rfl]
        have ty : t ≠ y := fun e => cb (by rw [e]; exact h1)
        refine nxt b ?_ (fun q => hyb (by omega))
        rcases hb with ⟨e, hn⟩ | ⟨z, e, z1, z2, z3⟩
        · refine Or.inl ⟨e, fun z hz => ?_⟩
          by_cases e : z = t
          · subst e; exact cb
          · exact hn z (by omega)
        · exact Or.inr ⟨z, e, by omega, z2, by omega⟩
  rw [F_X13_nextInRing, wp_lt, wp_lt]
  exact key (lsG s) 0 FU (-1) (by omega) (by omega) (Or.inl ⟨rfl, fun z hz => absurd hz (Nat.not_lt_zero z)⟩) (fun q => absurd q (Nat.not_lt_zero y))
/-- what the search for a ring leaves alone -/
def gF' (o a i : Nat) : Prop := ¬ ((a = o ∧ i = 23) ∨ a = o + 18 ∨ a = o + 26)
theorem ringX (hd : DP Ms top s) (hD : isD o) (hX : DX σ o Ms top s) {H : Nat → Nat → Prop} (hH : HX (σ.2.1 (o + 14)) H) (hR : HX (σ.2.1 (o + 15)) (wsh H (lsG s))) {Q : Int → St → Prop} (hno : ∀ σ', agr (gF' o) σ σ' → (∀ g, g < lsG s → ¬ onR H (lsG s) g) → Q 0 σ') (hyes : ∀ σ' g, agr (gF' o) σ σ' → g < lsG s → onR H (lsG s) g → (∀ x, x < g → ¬ onR H (lsG s) x) → σ'.1 o 23 = ((rBest H (lsG s) g + 1 : Nat) : Int) → (∀ j, j ≤ rBest H (lsG s) g → σ'.1 (o + 18) j = (rng H (lsG s) g j : Int)) → Q 1 σ') : wp (F_X13_hasRing o) σ Q := by
  have hFU := FU_ge
  have h200 := hd.2.1.2
  have key : ∀ k g f σ1, g + k = lsG s → k < f → agr (gF' o) σ σ1 → σ1.1 o 23 = 0 → (∀ x, x < g → ¬ onR H (lsG s) x) → wp (X13_hasRing_7 o f (g : Int)) σ1 Q := by
    intro k
    induction k with
    | zero =>
      intro g f σ1 hg hf hA h23 hn
      obtain ⟨f', rfl⟩ : ∃ f', f = f' + 1 := ⟨f - 1, by omega⟩
      have hX1 := hX.fr hd.1.1 (agr.sub hA (fun a i h => by unfold dP at h; unfold gF'; omega))
      rw [X13_hasRing_7, wp_bd, wp_gI, hX1.1.1.2, wp_ifp (by omega), X13_hasRing_33, wp_bd, wp_gI, hX1.1.1.2, wp_ifp (by omega), c_rtZ (by decide) (by decide)]
      exact hno σ1 hA (fun x hx => hn x (by omega))
    | succ k ih =>
      intro g f σ1 hg hf hA h23 hn
      obtain ⟨f', rfl⟩ : ∃ f', f = f' + 1 := ⟨f - 1, by omega⟩
      have hX1 := hX.fr hd.1.1 (agr.sub hA (fun a i h => by unfold dP at h; unfold gF'; omega))
      have hgl : g < lsG s := by omega
      have hR1 : HX (σ1.2.1 (o + 15)) (wsh H (lsG s)) := by
        rw [show σ1.2.1 (o + 15) = σ.2.1 (o + 15) from funext fun i => (hA (o + 15) i (by unfold gF'; omega)).2.1]; exact hR
      have hH1 : HX (σ1.2.1 (o + 14)) H := by
        rw [show σ1.2.1 (o + 14) = σ.2.1 (o + 14) from funext fun i => (hA (o + 14) i (by unfold gF'; omega)).2.1]; exact hH
      have hbx := hR1 g g (by omega) (by omega)
      rw [X13_hasRing_7, wp_bd, wp_gI, hX1.1.1.2, wp_ifn (by omega), wp_bd, has_v (LD15 hD) (by omega) (by omega)]
      by_cases cb : onR H (lsG s) g
      · rw [if_pos (hbx.mpr ((wsh_on hgl).mpr cb)), wp_ifn (by decide), X13_hasRing_33, wp_bd, wp_gI, hX1.1.1.2, wp_ifn (by omega), wp_bd]
        refine wp_mono (measX hd hD hX1 hH1 hgl) ?_
        rintro _ σ2 ⟨hA2, hr2⟩
        have hA2' : agr (gF' o) σ σ2 := hA.trans (agr.sub hA2 (fun a i h => by unfold gF' at h; unfold mF; omega))
        obtain ⟨bl, -⟩ := rBest_ok hgl cb
        rw [wp_lt]
        have walk : ∀ k2 j f2 σ3, j + k2 = rBest H (lsG s) g → k2 < f2 → agr (gF' o) σ σ3 → (∀ x, x < lsG s → σ3.1 (o + 26) x = (farD H (lsG s) g x : Int)) → σ3.1 o 23 = (j : Int) → (∀ i, i < j → σ3.1 (o + 18) i = (rng H (lsG s) g i : Int)) → wp (X13_hasRing_50 o f2 (g : Int) (rng H (lsG s) g j : Int)) σ3 Q := by
          intro k2
          induction k2 with
          | zero =>
            intro j f2 σ3 hj hf2 hA3 hr3 q23 hrow
            obtain ⟨f2', rfl⟩ : ∃ f2', f2 = f2' + 1 := ⟨f2 - 1, by omega⟩
            obtain ⟨r1, r2, r3, r4⟩ := rng_ok hgl cb j (by omega)
            have rl := rng_lt hgl cb (show j ≤ rBest H (lsG s) g + 1 by omega)
            rw [X13_hasRing_50, wp_bd, bgI0 q23, wp_bd, wp_pI, wp_bd, DV_18 hD (by omega) (by omega), tn, wp_bd]
            generalize hS : ((stA _ _ _, _) : St) = σ4
            have hA4 : agr (gF' o) σ σ4 := by
              subst hS
              exact (hA3.u (by unfold gF'; omega) _).u (by unfold gF'; omega) _
            have v23 : σ4.1 o 23 = ((j + 1 : Nat) : Int) := by
              subst hS
              simp (disch := omega) only [stA_ne, stA_eq, ups_eq]
              rw [w32_i (by omega) (by omega)]; omega
            have v18 : σ4.1 (o + 18) = ups (σ3.1 (o + 18)) j (rng H (lsG s) g j : Int) := by
              subst hS
              simp (disch := omega) only [stA_ne, stA_eq]
            have v26 : σ4.1 (o + 26) = σ3.1 (o + 26) := by
              subst hS
              simp (disch := omega) only [stA_ne]
            clear hS
            have hX4 := hX.fr hd.1.1 (agr.sub hA4 (fun a i h => by unfold dP at h; unfold gF'; omega))
            have hH4 : HX (σ4.2.1 (o + 14)) H := by
              rw [show σ4.2.1 (o + 14) = σ.2.1 (o + 14) from funext fun i => (hA4 (o + 14) i (by unfold gF'; omega)).2.1]; exact hH
            refine nextX hd hD hX4 hH4 (fun x hx => by rw [v26]; exact hr3 x hx) rl r1 r2 (fun z hz hHz => ?_) (fun z hz hHz => ?_) ?_
            · have := rng_min hgl cb (show j ≤ rBest H (lsG s) g by omega) hz hHz
              unfold farD
              split <;> split <;> omega
            · have h1 := rng_min hgl cb (show j ≤ rBest H (lsG s) g by omega) (show z < lsG s by omega) hHz
              have h2 : dst H (lsG s) g z ≠ dst H (lsG s) g (rng H (lsG s) g (j + 1)) := fun e => r4 z hz ⟨hHz, by omega⟩
              unfold farD
              split <;> split <;> omega
            · rw [wp_lt, (rng_back hgl cb (show j ≤ rBest H (lsG s) g by omega)).mpr (by omega), wp_ifp rfl, c_rtZ (by decide) (by decide)]
              refine hyes σ4 g hA4 hgl cb hn (by rw [v23, show j = rBest H (lsG s) g by omega]) (fun i hi => ?_)
              rw [v18]
              by_cases e : i = j
              · subst e; rw [ups_eq]
              · rw [ups_ne e]; exact hrow i (by omega)
          | succ k2 ih2 =>
            intro j f2 σ3 hj hf2 hA3 hr3 q23 hrow
            obtain ⟨f2', rfl⟩ : ∃ f2', f2 = f2' + 1 := ⟨f2 - 1, by omega⟩
            obtain ⟨r1, r2, r3, r4⟩ := rng_ok hgl cb j (by omega)
            have rl := rng_lt hgl cb (show j ≤ rBest H (lsG s) g + 1 by omega)
            rw [X13_hasRing_50, wp_bd, bgI0 q23, wp_bd, wp_pI, wp_bd, DV_18 hD (by omega) (by omega), tn, wp_bd]
            generalize hS : ((stA _ _ _, _) : St) = σ4
            have hA4 : agr (gF' o) σ σ4 := by
              subst hS
              exact (hA3.u (by unfold gF'; omega) _).u (by unfold gF'; omega) _
            have v23 : σ4.1 o 23 = ((j + 1 : Nat) : Int) := by
              subst hS
              simp (disch := omega) only [stA_ne, stA_eq, ups_eq]
              rw [w32_i (by omega) (by omega)]; omega
            have v18 : σ4.1 (o + 18) = ups (σ3.1 (o + 18)) j (rng H (lsG s) g j : Int) := by
              subst hS
              simp (disch := omega) only [stA_ne, stA_eq]
            have v26 : σ4.1 (o + 26) = σ3.1 (o + 26) := by
              subst hS
              simp (disch := omega) only [stA_ne]
            clear hS
            have hX4 := hX.fr hd.1.1 (agr.sub hA4 (fun a i h => by unfold dP at h; unfold gF'; omega))
            have hH4 : HX (σ4.2.1 (o + 14)) H := by
              rw [show σ4.2.1 (o + 14) = σ.2.1 (o + 14) from funext fun i => (hA4 (o + 14) i (by unfold gF'; omega)).2.1]; exact hH
            have hne : rng H (lsG s) g (j + 1) ≠ g := fun e => by
              have := (rng_back hgl cb (show j ≤ rBest H (lsG s) g by omega)).mp e
              omega
            refine nextX hd hD hX4 hH4 (fun x hx => by rw [v26]; exact hr3 x hx) rl r1 r2 (fun z hz hHz => ?_) (fun z hz hHz => ?_) ?_
            · have := rng_min hgl cb (show j ≤ rBest H (lsG s) g by omega) hz hHz
              unfold farD
              split <;> split <;> omega
            · have h1 := rng_min hgl cb (show j ≤ rBest H (lsG s) g by omega) (show z < lsG s by omega) hHz
              have h2 : dst H (lsG s) g z ≠ dst H (lsG s) g (rng H (lsG s) g (j + 1)) := fun e => r4 z hz ⟨hHz, by omega⟩
              unfold farD
              split <;> split <;> omega
            · rw [wp_lt, wp_ifn (by omega)]
              refine ih2 (j + 1) f2' σ4 (by omega) (by omega) hA4 (fun x hx => by rw [v26]; exact hr3 x hx) v23 (fun i hi => ?_)
              rw [v18]
              by_cases e : i = j
              · subst e; rw [ups_eq]
              · rw [ups_ne e]; exact hrow i (by omega)
        exact walk (rBest H (lsG s) g) 0 FU σ2 (by omega) (by omega) hA2' hr2 (by rw [(hA2 o 23 (by unfold mF; omega)).1]; exact h23) (fun i hi => absurd hi (Nat.not_lt_zero i))
      · rw [if_neg (fun h => cb ((wsh_on hgl).mp (hbx.mp h))), wp_ifp rfl, wp_lt, w32_i (by omega) (by omega), show (g : Int) + 1 = ((g + 1 : Nat) : Int) by omega]
        refine ih (g + 1) f' σ1 (by omega) (by omega) hA h23 (fun x hx => ?_)
        by_cases e : x = g
        · subst e; exact cb
        · exact hn x (by omega)
  rw [F_X13_hasRing, wp_bd, wp_pI, wp_lt]
  exact key (lsG s) 0 FU _ (by omega) (by omega) (agr.refl.u (by unfold gF'; omega) _) (by dsimp only; rw [stA_eq, ups_eq]) (fun x hx => absurd hx (Nat.not_lt_zero x))
end
