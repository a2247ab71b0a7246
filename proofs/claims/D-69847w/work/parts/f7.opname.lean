set_option maxRecDepth 100000
set_option maxHeartbeats 400000
/-! ===== the call name ===== -/
section
variable {Ms : Nat → ModV} {top : Nat} {s : LYS} {σ0 σ τ0 τ : St} {l : List Int} {x : Int} {o S : Nat}
theorem wrM.dm (hd : DP Ms top s) (hM : DM τ0 S Ms top s) (h : wrM τ0 l τ) : DM τ S Ms top s := hM.fr hd (agr.sub h.2.2 (fun a i hh => by unfold dT at hh; unfold nmY; omega))
theorem nameWM (hd : DP Ms top s) (hS : S < 5) (hM : DM τ0 S Ms top s) {i t : Nat} (hi : i < lsI s) (ht : t < mdT (moI Ms s i)) (h : wrM τ0 l τ) (hl : l.length ≤ 1000) {Q : Unit → St → Prop} (hQ : ∀ τ', wrM τ0 (l ++ nmL (moI Ms s i) t) τ' → Q () τ') : wp (F_X15_nameOut (S : Int) (i : Int) (t : Int)) τ Q := by
  have hF := FU_ge
  have h12 := hd.1.1
  obtain ⟨n10, -, np⟩ := nmL_len hd hi ht
  have hm := (hd.inst hi).1
  have h40 := hd.1.2.1 (lsM s i)
  have ht' : t < mdT (Ms (lsM s i)) := ht
  have e87 : ∀ {l τ1}, wrM τ0 l τ1 → ∀ j, j < 10 → τ1.1 2087 (10 * (40 * (12 * S + lsM s i) + t) + j) = if j < mdnl (moI Ms s i) t then mdtn (moI Ms s i) t j else 0 := fun h1 j hj => (((h1.dm hd hM).2 _ hm).2.1 t ht').2.2 j hj
  have key : ∀ d j f τ1, j + d = mdnl (moI Ms s i) t → d < f → wrM τ0 (l ++ nmA (moI Ms s i) t j) τ1 → wp (X15_nameOut_16 f ((10 * (40 * (12 * S + lsM s i) + t) : Nat) : Int) (j : Int)) τ1 Q := by
    intro d
    induction d with
    | zero =>
      intro j f τ1 hj hf h1
      obtain ⟨f', rfl⟩ : ∃ f', f = f' + 1 := ⟨f - 1, by omega⟩
      have ej : j = mdnl (moI Ms s i) t := by omega
      rw [X15_nameOut_16]
      by_cases c : 10 ≤ j
      · rw [wp_ifp (by omega), wp_rt]
        subst ej
        exact hQ τ1 h1
      · have e := e87 h1 j (by omega)
        rw [if_neg (by omega)] at e
        rw [wp_ifn (by omega), wp_bd, w32_i (by omega) (by omega), show ((10 * (40 * (12 * S + lsM s i) + t) : Nat) : Int) + (j : Int) = ((10 * (40 * (12 * S + lsM s i) + t) + j : Nat) : Int) by omega, RI_2087 (by omega) (by omega), tn, e, wp_ifp rfl, wp_rt]
        subst ej
        exact hQ τ1 h1
    | succ d ih =>
      intro j f τ1 hj hf h1
      obtain ⟨f', rfl⟩ : ∃ f', f = f' + 1 := ⟨f - 1, by omega⟩
      have hp := np j (by omega)
      have e := e87 h1 j (by omega)
      rw [if_pos (by omega)] at e
      rw [X15_nameOut_16, wp_ifn (by omega), wp_bd, w32_i (by omega) (by omega), show ((10 * (40 * (12 * S + lsM s i) + t) : Nat) : Int) + (j : Int) = ((10 * (40 * (12 * S + lsM s i) + t) + j : Nat) : Int) by omega, RI_2087 (by omega) (by omega), tn, e, wp_ifn hp.ne, wp_bd, RI_2087 (by omega) (by omega), tn, e, wp_bd]
      refine putWM h1 (by rw [List.length_append, nmA_len]; omega) (by have := hp.1; omega) hp.2 (fun τ2 h2 => ?_)
      rw [wp_lt, w32_i (by omega) (by omega), show (j : Int) + 1 = ((j + 1 : Nat) : Int) by omega]
      exact ih (j + 1) f' τ2 (by omega) (by omega) (by rw [nmA_up, ← List.append_assoc]; exact h2)
  have e40 : ∀ _ : Unit, w32 (10 * w32 (w32 (40 * ((12 * S + lsM s i : Nat) : Int)) + (t : Int))) = ((10 * (40 * (12 * S + lsM s i) + t) : Nat) : Int) := fun _ => by rw [w32_i (x := 40 * ((12 * S + lsM s i : Nat) : Int)) (by omega) (by omega), w32_i (x := 40 * ((12 * S + lsM s i : Nat) : Int) + (t : Int)) (by omega) (by omega), w32_i (by omega) (by omega)]; omega
  rw [F_X15_nameOut, wp_bd, F_X15_things, wp_bd, m_store hd (h.dm hd hM) hS hi, wp_rt, wp_lt, wp_lt, e40 ()]
  exact key (mdnl (moI Ms s i) t) 0 FU τ (by omega) (by omega) (by
    have : l ++ nmA (moI Ms s i) t 0 = l := List.append_nil l
    rw [this]; exact h)
/-- what lies around, gathered -/
theorem ancM (hd : DP Ms top s) (hS : S < 4) (hM : DM τ0 S Ms top s) {x3 : Int} {Q : Int → St → Prop} : ∀ k i (pre : List Nat) f τ, i < lsI s → top - lsM s i < k → k < f → pre.length + (top - lsM s i) ≤ 12 → agr (fun a _ => a ≠ 2139) τ0 τ → (∀ m, m < pre.length → τ.1 2139 m = (pre.getD m 0 : Int)) → (∀ τ', agr (fun a _ => a ≠ 2139) τ0 τ' → (∀ m, m < (pre ++ anc s k i).length → τ'.1 2139 m = ((pre ++ anc s k i).getD m 0 : Int)) → wp (X15_name_74 (S : Int) x3 ((pre ++ anc s k i).length : Int)) τ' Q) → wp (X15_name_40 f (S : Int) x3 (pre.length : Int) (i : Int)) τ Q := by
  have h101 := hd.2.1.1.2
  intro k
  induction k with
  | zero => intro i pre f τ _ h; omega
  | succ k ih =>
    intro i pre f τ hi hk hf hl hA hp hQ
    obtain ⟨f', rfl⟩ : ∃ f', f = f' + 1 := ⟨f - 1, by omega⟩
    have ea : anc s (k + 1) i = if i = 0 then [] else i :: anc s k (lsP s i).toNat := rfl
    rw [X15_name_40]
    by_cases c : i = 0
    · rw [wp_ifp (by omega)]
      rw [if_pos c] at ea
      have := hQ τ hA
      rw [ea, List.append_nil] at this
      exact this hp
    · obtain ⟨x, y, q1, q2, q3, q4, q5, q6, q7⟩ := hd.par hi (by omega)
      rw [if_neg c, q1, tn] at ea
      have e18 : τ.1 2118 (101 * S + i) = (x : Int) := by
        rw [(hA 2118 _ (show (2118 : Nat) ≠ 2139 by decide)).1, (hM.1.2.1 i hi).2.1]; exact q1
      have e101 : ∀ _ : Unit, w32 (w32 (101 * (S : Int)) + (i : Int)) = ((101 * S + i : Nat) : Int) := fun _ => by rw [w32_i (x := 101 * (S : Int)) (by omega) (by omega), w32_i (by omega) (by omega)]; omega
      rw [wp_ifn (by omega), wp_bd, RV_2139 (by omega) (by omega), tn, wp_lt, wp_bd, e101 (), RI_2118 (by omega) (by omega), tn]
      dsimp only
      rw [stA_ne (by decide), e18, wp_lt, w32_i (by omega) (by omega), show (pre.length : Int) + 1 = ((pre ++ [i]).length : Int) by rw [List.length_append]; rfl]
      refine ih x (pre ++ [i]) f' _ q4 (by omega) (by omega) (by rw [List.length_append]; show pre.length + 1 + _ ≤ 12; omega) (hA.x 2139 (fun k h => h rfl)) (fun m hm => ?_) (fun τ' hA' hp' => ?_)
      · dsimp only
        rw [List.length_append] at hm
        have hm' : m < pre.length + 1 := hm
        rw [stA_eq]
        by_cases e : m = pre.length
        · subst e
          rw [ups_eq, List.getD_eq_getElem?_getD, List.getElem?_append_right (Nat.le_refl _), Nat.sub_self]; rfl
        · rw [ups_ne e, List.getD_eq_getElem?_getD, List.getElem?_append_left (by omega), ← List.getD_eq_getElem?_getD]; exact hp m (by omega)
      · have e : pre ++ [i] ++ anc s k x = pre ++ anc s (k + 1) i := by rw [ea, List.append_assoc]; rfl
        rw [e] at hp' ⊢
        exact hQ τ' hA' hp'
/-- and told, from outside -/
theorem pathWM (hd : DP Ms top s) (hS : S < 4) (hM : DM τ0 S Ms top s) {x3 : Int} {A : List Nat} (hAm : ∀ j, j ∈ A → 0 < j ∧ j < lsI s) (hA12 : A.length ≤ 12) (h39 : ∀ m, m < A.length → τ0.1 2139 m = (A.getD m 0 : Int)) {Q : Int → St → Prop} (hQ : ∀ τ', wrM τ0 (A.reverse.flatMap (sgL Ms s)) τ' → wp (X15_name_136 (S : Int) x3) τ' Q) : ∀ m f τ, m ≤ A.length → m < f → wrM τ0 ((A.drop m).reverse.flatMap (sgL Ms s)) τ → wp (X15_name_80 f (S : Int) x3 ((m : Int) - 1)) τ Q := by
  have h101 := hd.2.1.1.2
  intro m
  induction m with
  | zero =>
    intro f τ hm hf h
    obtain ⟨f', rfl⟩ : ∃ f', f = f' + 1 := ⟨f - 1, by omega⟩
    rw [X15_name_80, wp_ifp (by omega)]
    rw [List.drop_zero] at h
    exact hQ τ h
  | succ m ih =>
    intro f τ hm hf h
    obtain ⟨f', rfl⟩ : ∃ f', f = f' + 1 := ⟨f - 1, by omega⟩
    have hml : m < A.length := by omega
    have eg : A.getD m 0 = A[m] := by rw [List.getD_eq_getElem?_getD, List.getElem?_eq_getElem hml]; rfl
    have ed : A.drop m = A[m] :: A.drop (m + 1) := List.drop_eq_getElem_cons hml
    obtain ⟨j0, jl⟩ := hAm A[m] (List.getElem_mem hml)
    generalize hj : A[m] = j at eg ed j0 jl
    obtain ⟨x, y, q1, q2, q3, q4, q5, q6, q7⟩ := hd.par jl j0
    have w39 : ∀ {l τ1}, wrM τ0 l τ1 → τ1.1 2139 m = (j : Int) := fun h1 => by rw [(h1.2.2 2139 m (by unfold nmY; omega)).1, h39 m hml, eg]
    have hMt := h.dm hd hM
    have e101 : ∀ _ : Unit, w32 (w32 (101 * (S : Int)) + (j : Int)) = ((101 * S + j : Nat) : Int) := fun _ => by rw [w32_i (x := 101 * (S : Int)) (by omega) (by omega), w32_i (by omega) (by omega)]; omega
    have len : ((A.drop (m + 1)).reverse.flatMap (sgL Ms s)).length ≤ 132 := by
      have h1 := seg_len hd (A.drop (m + 1)).reverse (fun z hz => hAm z (List.mem_of_mem_drop (List.mem_reverse.mp hz)))
      rw [List.length_reverse, List.length_drop] at h1
      omega
    rw [show ((m + 1 : Nat) : Int) - 1 = (m : Int) by omega, X15_name_80, wp_ifn (by omega), wp_bd, RI_2139 (by omega) (by omega), tn, w39 h, wp_bd, e101 (), RI_2118 (by omega) (by omega), tn, (hMt.1.2.1 j jl).2.1, q1, wp_bd, RI_2139 (by omega) (by omega), tn, w39 h, wp_bd, e101 (), RI_2119 (by omega) (by omega), tn, (hMt.1.2.1 j jl).2.2.1, q2, wp_bd]
    refine nameWM hd (by omega) hM q4 q5 h (by omega) (fun τ2 h2 => ?_)
    rw [wp_bd]
    refine putWM h2 (by rw [List.length_append]; have := (nmL_len hd q4 q5).2.1; omega) (by decide) (by decide) (fun τ3 h3 => ?_)
    rw [wp_lt, w32_i (by omega) (by omega), show (m : Int) + -1 = (m : Int) - 1 by omega]
    refine ih f' τ3 (by omega) (by omega) ?_
    rw [ed, List.reverse_cons, List.flatMap_append]
    have : sgL Ms s j = nmL (moI Ms s x) y ++ [46] := by
      unfold sgL
      rw [q1, q2, tn, tn]
    simp only [List.flatMap_cons, List.flatMap_nil, List.append_nil, this, ← List.append_assoc]
    exact h3
end
/-- what name changes (P_wr of 80) -/
def P_nm (a k : Nat) : Prop := (a = 0 ∧ k = 13) ∨ a = 50 ∨ (a = 2075 ∧ k = 87) ∨ a = 2138
theorem I_wr.vis {σ τ : St} (h : I_wr σ) (e : agr Vis σ τ) : I_wr τ := by
  obtain ⟨n, h1, ⟨h2, h3⟩, h4⟩ := h
  refine ⟨n, h1, ⟨?_, ?_⟩, fun k hk => ?_⟩
  · rw [(e 0 13 (by unfold Vis; omega)).1]; exact h2
  · rw [(e 2075 87 (by unfold Vis; omega)).1]; exact h3
  · rw [(e 50 k (by unfold Vis; omega)).1, (e 2138 k (by unfold Vis; omega)).1]; exact h4 k hk
theorem op_name {a b : Int} (ha : inR a) (hb : inR b) {c : Nat} {σ : St} (hw : I_wr σ) (hI : I_des c σ) : both2 (F_X0_name a b) (F_X15_name a b) σ (fun τ => I_wr τ ∧ Out P_nm σ τ) := by
  have hF := FU_ge
  unfold both2
  rw [F_X0_name, wp_bd]
  rcases dz_of hI ha hb with ⟨ob, S, g, Ms, top, s, v, hO, hs, ⟨rfl, rfl⟩, ⟨hS, hg⟩, h1, ⟨hp, hv, hx, hm⟩, hX, hT⟩ | ⟨hX, hT⟩
  · refine hX ?_
    have hd := hp.1
    have h12 := hd.1.1
    have h200 := hd.2.1.2
    have h101 := hd.2.1.1.2
    have hD := (hO.1 S (by omega)).2.1
    have hoD : 410 ≤ ob S ∧ ob S + 326 < 2075 := by rcases hD with w | w | w | w | w <;> omega
    obtain ⟨l1, l2, l3, -⟩ := hd.sig hg
    have hMd := isMd_D hD (show lsM s (lsi s g) < 12 by omega)
    have pl := pth_len hd l1
    have nl := (nmL_len hd l1 l3).2.1
    have hX0 : DX (stA σ.1 0 (ups (σ.1 0) 13 0), σ.2) (ob S) Ms top s := hx.1.fr h12 (agr.refl.u (a := 0) (i := 13) (by unfold dP; omega) _)
    have hz0 : agr (fun a i => ¬ (a = 0 ∧ i = 13)) σ (stA σ.1 0 (ups (σ.1 0) 13 0), σ.2) := agr.refl.u (by omega) _
    have z13 : (stA σ.1 0 (ups (σ.1 0) 13 0)) 0 13 = 0 := by rw [stA_eq, ups_eq]
    rw [wp_on1, wp_bd, wp_pI, wp_ck, and_t (ly_D hD), wp_bd, DI_7 hD (by omega) (by omega), tn]
    generalize hU : ((stA σ.1 0 (ups (σ.1 0) 13 0), σ.2) : St) = σ0 at hX0 hz0
    have z13' : σ0.1 0 13 = 0 := by subst hU; exact z13
    clear hU z13
    have w0 : wrX σ0 [] σ0 := ⟨⟨z13', fun k h => absurd h (Nat.not_lt_zero k)⟩, fun x h => (by cases h), agr.refl⟩
    rw [(hX0.1.2.2.2 g hg).1, wp_bd]
    refine pathWX hd hD hX0 30 (lsi s g) σ0 l1 (by omega) w0 (fun σ1 w1 => ?_)
    have hX1 : DX σ1 (ob S) Ms top s := hX0.fr h12 (agr.sub w1.2.2 (fun a i h => by unfold dP at h; unfold nmF; omega))
    rw [wp_bd, x_module hd hD hX1 hg, wp_bd, DI_8 hD (by omega) (by omega), tn, (hX1.1.2.2.2 g hg).2, wp_nn, wp_ck, and_t (ly_Md hMd), wp_bd]
    refine thingWX hd hD hX0 l1 l3 w1 (by omega) (fun σ2 w2 => ?_)
    rw [wp_bd, wp_gI, wp_rt, w2.1.1]
    -- the twin
    have hA2 : agr (fun a i => ¬ (a = 50 ∨ (a = 0 ∧ i = 13))) σ σ2 := (agr.sub hz0 (fun a i h => by omega)).trans w2.2.2
    have hA2t : ∀ a, 2075 ≤ a → σ2.1 a = σ.1 a := fun a h => hA2.row (fun i => by omega)
    obtain ⟨σz, hσz, ez1, ez2, -, hz⟩ := z_st σ2
    have hz8 : agr (fun a i => ¬ (a = 2075 ∧ i = 88)) σz (stA σz.1 2075 (ups (σz.1 2075) 88 0), σz.2) := agr.refl.u (by omega) _
    have z88 : (stA σz.1 2075 (ups (σz.1 2075) 88 0)) 2075 88 = 0 := by rw [stA_eq, ups_eq]
    have e200' : ∀ k : Nat, k < 200 → w32 (w32 (200 * (S : Int)) + (k : Int)) = ((200 * S + k : Nat) : Int) := fun k hk => by rw [w32_i (x := 200 * (S : Int)) (by omega) (by omega), w32_i (by omega) (by omega)]; omega
    rw [F_X15_name, wp_bd, wp_pI, hσz, wp_bd]
    refine hT σz (by rw [ez1 _ (by decide), hA2t _ (by decide)]) (by rw [ez1 _ (by decide), hA2t _ (by decide)]) ?_
    rw [wp_ifp rfl, wp_lt, e200' g (by omega), wp_bd, wp_pI, wp_lt, wp_bd, RI_2125 (by omega) (by omega), tn]
    generalize hU : ((stA σz.1 2075 (ups (σz.1 2075) 88 0), σz.2) : St) = τ0 at hz8
    have z88' : τ0.1 2075 88 = 0 := by subst hU; exact z88
    clear hU z88
    have hA3 : agr (fun a i => ¬ (a = 50 ∨ (a = 0 ∧ i = 13) ∨ (a = 2075 ∧ (i = 0 ∨ i = 88)))) σ τ0 := ((agr.sub hA2 (fun a i h => by omega)).trans (agr.sub hz (fun a i h => by omega))).trans (agr.sub hz8 (fun a i h => by omega))
    have hM0 : DM τ0 S Ms top s := hm.1.fr hd (agr.sub hA3 (fun a i h => by unfold dT at h; omega))
    have a12 := anc_len hd 30 (lsi s g) l1
    rw [(hM0.1.2.2.2 g hg).2.2.1, wp_lt]
    refine ancM hd hS hM0 30 (lsi s g) [] FU τ0 l1 (by omega) (by omega) (by show 0 + _ ≤ 12; omega) agr.refl (fun m h => absurd h (Nat.not_lt_zero m)) (fun τ1 hA1 h39 => ?_)
    rw [List.nil_append] at h39 ⊢
    have hM1 : DM τ1 S Ms top s := hM0.fr hd (agr.sub hA1 (fun a i h => by unfold dT at h; omega))
    have w3 : wrM τ1 [] τ1 := ⟨⟨by rw [(hA1 2075 88 (show (2075 : Nat) ≠ 2139 by decide)).1]; exact z88', fun k h => absurd h (Nat.not_lt_zero k)⟩, fun x h => (by cases h), agr.refl⟩
    rw [X15_name_74, wp_lt, w32_i (by omega) (by omega)]
    refine pathWM hd hS hM1 (anc_mem hd 30 (lsi s g) l1) (by omega) h39 (fun τ2 w4 => ?_) (anc s 30 (lsi s g)).length FU τ1 (Nat.le_refl _) (by omega) (by rw [List.drop_length]; exact w3)
    have hM2 := w4.dm hd hM1
    have w4' : wrM τ1 (pth Ms s (lsi s g)) τ2 := w4
    rw [X15_name_136, wp_bd, RI_2125 (by omega) (by omega), tn, (hM2.1.2.2.2 g hg).2.2.1, wp_bd, RI_2126 (by omega) (by omega), tn, (hM2.1.2.2.2 g hg).2.2.2, wp_bd]
    refine nameWM hd (by omega) hM1 l1 l3 w4' (by omega) (fun τ3 w5 => ?_)
    rw [wp_bd, wp_gI, w5.1.1, wp_bd, wp_pI, wp_bd, wp_gI]
    dsimp only
    rw [stA_eq, ups_eq, wp_rt]
    have hA6 : agr (fun a i => ¬ (a = 2075 ∧ i = 87)) τ3 (stA τ3.1 2075 (ups (τ3.1 2075) 87 ((pth Ms s (lsi s g) ++ nmL (moI Ms s (lsi s g)) (lsth s g)).length : Int)), τ3.2) := agr.refl.u (by omega) _
    have z87 : (stA τ3.1 2075 (ups (τ3.1 2075) 87 ((pth Ms s (lsi s g) ++ nmL (moI Ms s (lsi s g)) (lsth s g)).length : Int))) 2075 87 = ((pth Ms s (lsi s g) ++ nmL (moI Ms s (lsi s g)) (lsth s g)).length : Int) := by rw [stA_eq, ups_eq]
    generalize hU : ((stA τ3.1 2075 (ups (τ3.1 2075) 87 ((pth Ms s (lsi s g) ++ nmL (moI Ms s (lsi s g)) (lsth s g)).length : Int)), τ3.2) : St) = τ at hA6
    have z87' : τ.1 2075 87 = ((pth Ms s (lsi s g) ++ nmL (moI Ms s (lsi s g)) (lsth s g)).length : Int) := by subst hU; exact z87
    clear hU z87
    have up : agr (fun a i => ¬ (a = 2138 ∨ a = 2139 ∨ (a = 2075 ∧ (i = 0 ∨ i = 87 ∨ i = 88)))) σ2 τ := ((((agr.sub hz (fun a i h => by omega)).trans (agr.sub hz8 (fun a i h => by omega))).trans (agr.sub hA1 (fun a i h => by omega))).trans (agr.sub w5.2.2 (fun a i h => by unfold nmY; omega))).trans (agr.sub hA6 (fun a i h => by omega))
    have len : (pth Ms s (lsi s g) ++ nmL (moI Ms s (lsi s g)) (lsth s g)).length ≤ 1000 := by rw [List.length_append]; omega
    refine ⟨rfl, ⟨(pth Ms s (lsi s g) ++ nmL (moI Ms s (lsi s g)) (lsth s g)).length, by omega, ⟨?_, z87'⟩, fun k hk => ?_⟩, ?_⟩
    · rw [(up 0 13 (by omega)).1]; exact w2.1.1
    · rw [(up 50 k (by omega)).1, w2.1.2 k hk, (hA6 2138 k (by omega)).1, w5.1.2 k hk]
      refine ⟨rfl, ?_⟩
      have hmem : (pth Ms s (lsi s g) ++ nmL (moI Ms s (lsi s g)) (lsth s g)).getD k 0 ∈ (pth Ms s (lsi s g) ++ nmL (moI Ms s (lsi s g)) (lsth s g)) := by
        rw [List.getD_eq_getElem?_getD, List.getElem?_eq_getElem hk]
        exact List.getElem_mem hk
      exact w2.2.1 _ hmem
    · refine (agr.sub hA2 (fun a i h => ?_)).trans (agr.sub up (fun a i h => ?_))
      · obtain ⟨h1, h2⟩ := h
        unfold P_nm at h2
        omega
      · obtain ⟨h1, h2⟩ := h
        unfold Vis at h1
        unfold P_nm at h2
        omega
  · refine hX ?_
    obtain ⟨σz, hσz, ez1, ez2, hz, -⟩ := z_st σ
    rw [wp_on0, wp_rt, F_X15_name, wp_bd, wp_pI, hσz, wp_bd]
    refine hT σz (ez1 _ (by decide)) (ez1 _ (by decide)) ?_
    rw [wp_ifn (by decide), wp_rt]
    exact ⟨rfl, hw.vis hz, Out.of hz⟩
