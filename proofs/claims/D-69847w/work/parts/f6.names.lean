set_option maxRecDepth 100000
set_option maxHeartbeats 400000
/-! ===== names of signals ===== -/
theorem i2b_p {x : Int} (h : 0 ≤ x) (h2 : x ≤ 127) : i2b x = x := by
  obtain ⟨n, rfl⟩ := Int.eq_ofNat_of_zero_le h
  exact i2b_id ⟨n, by omega⟩
theorem gD1 {l : List Int} {x : Int} {k : Nat} (h : k < l.length) : (l ++ [x]).getD k 0 = l.getD k 0 := by
  rw [List.getD_eq_getElem?_getD, List.getD_eq_getElem?_getD, List.getElem?_append_left h]
theorem gD2 {l : List Int} {x : Int} : (l ++ [x]).getD l.length 0 = x := by
  rw [List.getD_eq_getElem?_getD, List.getElem?_append_right (Nat.le_refl _), Nat.sub_self]; rfl
/-- a part of a name, a name, a part of a path -/
def nmA (M : ModV) (t j : Nat) : List Int := (List.range j).map (mdtn M t)
def nmL (M : ModV) (t : Nat) : List Int := nmA M t (mdnl M t)
def sgL (Ms : Nat → ModV) (s : LYS) (j : Nat) : List Int := nmL (moI Ms s (lsP s j).toNat) (lsT s j).toNat ++ [46]
/-- what lies around an instance, but for the top -/
def anc (s : LYS) : Nat → Nat → List Nat
  | 0, _ => []
  | k + 1, i => if i = 0 then [] else i :: anc s k (lsP s i).toNat
def pth (Ms : Nat → ModV) (s : LYS) (i : Nat) : List Int := (anc s 30 i).reverse.flatMap (sgL Ms s)
theorem nmA_up {M : ModV} {t j : Nat} : nmA M t (j + 1) = nmA M t j ++ [mdtn M t j] := by
  unfold nmA
  rw [List.range_succ, List.map_append]; rfl
theorem nmA_len {M : ModV} {t j : Nat} : (nmA M t j).length = j := by
  unfold nmA
  rw [List.length_map, List.length_range]
section
variable {Ms : Nat → ModV} {top : Nat} {s : LYS}
theorem DP.par (hd : DP Ms top s) {i : Nat} (hi : i < lsI s) (h0 : 0 < i) : ∃ x y : Nat, lsP s i = (x : Int) ∧ lsT s i = (y : Int) ∧ x < i ∧ x < lsI s ∧ y < mdT (moI Ms s x) ∧ lsM s i < lsM s x ∧ lsM s x ≤ top := by
  obtain ⟨x, y, -, q1, q2, q3, q4, q5, -, q7, -⟩ := hd.2.2.2.2.1 i h0 hi
  obtain ⟨hm, ok⟩ := hd.inst (show x < lsI s by omega)
  refine ⟨x, y, q4, q5, q1, by omega, q2, ?_, hm⟩
  rw [q7]
  exact (ok.2.2.1 y q2).1.2.2.2.2.2 q3
theorem anc_fuel (hd : DP Ms top s) : ∀ k k' i, i < lsI s → top - lsM s i < k → top - lsM s i < k' → anc s k i = anc s k' i := by
  intro k
  induction k with
  | zero => intro k' i _ h; omega
  | succ k ih =>
    intro k' i hi h1 h2
    obtain ⟨k'', rfl⟩ : ∃ k'', k' = k'' + 1 := ⟨k' - 1, by omega⟩
    show (if i = 0 then [] else i :: anc s k (lsP s i).toNat) = (if i = 0 then [] else i :: anc s k'' (lsP s i).toNat)
    by_cases c : i = 0
    · rw [if_pos c, if_pos c]
    · obtain ⟨x, y, q1, q2, q3, q4, q5, q6, q7⟩ := hd.par hi (by omega)
      rw [if_neg c, if_neg c, q1, tn, ih k'' x q4 (by omega) (by omega)]
theorem anc_len (hd : DP Ms top s) : ∀ k i, i < lsI s → (anc s k i).length ≤ top - lsM s i := by
  intro k
  induction k with
  | zero => intro i _; exact Nat.zero_le _
  | succ k ih =>
    intro i hi
    show (if i = 0 then [] else i :: anc s k (lsP s i).toNat).length ≤ _
    by_cases c : i = 0
    · rw [if_pos c]; exact Nat.zero_le _
    · obtain ⟨x, y, q1, q2, q3, q4, q5, q6, q7⟩ := hd.par hi (by omega)
      rw [if_neg c, q1, tn, List.length_cons]
      have := ih x q4
      omega
theorem anc_mem (hd : DP Ms top s) : ∀ k i, i < lsI s → ∀ j, j ∈ anc s k i → 0 < j ∧ j < lsI s := by
  intro k
  induction k with
  | zero => intro i _ j h; cases h
  | succ k ih =>
    intro i hi j h
    have h' : j ∈ (if i = 0 then [] else i :: anc s k (lsP s i).toNat) := h
    by_cases c : i = 0
    · rw [if_pos c] at h'; cases h'
    · obtain ⟨x, y, q1, q2, q3, q4, q5, q6, q7⟩ := hd.par hi (by omega)
      rw [if_neg c, q1, tn] at h'
      rcases List.mem_cons.mp h' with e | e
      · subst e; exact ⟨by omega, hi⟩
      · exact ih x q4 j e
theorem pth_0 : pth Ms s 0 = [] := rfl
theorem pth_up (hd : DP Ms top s) {i x : Nat} (hi : i < lsI s) (h0 : 0 < i) (hx : lsP s i = (x : Int)) : pth Ms s i = pth Ms s x ++ sgL Ms s i := by
  obtain ⟨x', y, q1, q2, q3, q4, q5, q6, q7⟩ := hd.par hi h0
  have ex : x' = x := by rw [hx] at q1; omega
  subst ex
  unfold pth
  have e : anc s 30 i = i :: anc s 29 x' := by
    show (if i = 0 then [] else i :: anc s 29 (lsP s i).toNat) = _
    rw [if_neg (by omega), q1, tn]
  have h12 := hd.1.1
  rw [e, anc_fuel hd 29 30 x' q4 (by omega) (by omega), List.reverse_cons, List.flatMap_append]
  simp only [List.flatMap_cons, List.flatMap_nil, List.append_nil]
theorem nmL_len (hd : DP Ms top s) {i t : Nat} (hi : i < lsI s) (ht : t < mdT (moI Ms s i)) : mdnl (moI Ms s i) t ≤ 10 ∧ (nmL (moI Ms s i) t).length ≤ 10 ∧ ∀ j, j < mdnl (moI Ms s i) t → pnz (mdtn (moI Ms s i) t j) := by
  have h := ((hd.inst hi).2.2.2.1 t ht).2
  refine ⟨h.2.1, ?_, h.2.2⟩
  unfold nmL
  rw [nmA_len]; exact h.2.1
theorem sgL_len (hd : DP Ms top s) {i : Nat} (hi : i < lsI s) (h0 : 0 < i) : (sgL Ms s i).length ≤ 11 := by
  obtain ⟨x, y, q1, q2, q3, q4, q5, q6, q7⟩ := hd.par hi h0
  unfold sgL
  rw [q1, q2, tn, tn, List.length_append]
  have := (nmL_len hd q4 q5).2.1
  show _ + 1 ≤ 11
  omega
theorem seg_len (hd : DP Ms top s) : ∀ L : List Nat, (∀ j, j ∈ L → 0 < j ∧ j < lsI s) → (L.flatMap (sgL Ms s)).length ≤ 11 * L.length
  | [], _ => Nat.le_refl _
  | j :: L, h => by
    have h1 := seg_len hd L (fun x hx => h x (List.mem_cons_of_mem _ hx))
    have h2 := sgL_len hd (h j List.mem_cons_self).2 (h j List.mem_cons_self).1
    rw [List.flatMap_cons, List.length_append, List.length_cons]
    omega
theorem pth_len (hd : DP Ms top s) {i : Nat} (hi : i < lsI s) : (pth Ms s i).length ≤ 11 * (top - lsM s i) := by
  unfold pth
  have h1 := seg_len hd (anc s 30 i).reverse (fun j hj => anc_mem hd 30 i hi j (List.mem_reverse.mp hj))
  have h2 := anc_len hd 30 i hi
  rw [List.length_reverse] at h1
  omega
end
/-! the component writes -/
def nmF (a i : Nat) : Prop := ¬ (a = 50 ∨ (a = 0 ∧ i = 13))
/-- signs that are written: the component, the twin -/
def sgn (l : List Int) : Prop := ∀ x, x ∈ l → 0 ≤ x ∧ x ≤ 127
def wrX (σ0 : St) (l : List Int) (σ : St) : Prop := (σ.1 0 13 = (l.length : Int) ∧ ∀ k, k < l.length → σ.1 50 k = l.getD k 0) ∧ sgn l ∧ agr nmF σ0 σ
def nmY (a i : Nat) : Prop := ¬ (a = 2138 ∨ (a = 2075 ∧ i = 88))
def wrM (τ0 : St) (l : List Int) (τ : St) : Prop := (τ.1 2075 88 = (l.length : Int) ∧ ∀ k, k < l.length → τ.1 2138 k = l.getD k 0) ∧ sgn l ∧ agr nmY τ0 τ
section
variable {Ms : Nat → ModV} {top : Nat} {s : LYS} {σ0 σ τ0 τ : St} {l : List Int} {x : Int} {o S : Nat}
theorem sgn_up (h : sgn l) (h1 : 0 ≤ x) (h2 : x ≤ 127) : sgn (l ++ [x]) := fun y hy => by
  rcases List.mem_append.mp hy with h' | h'
  · exact h y h'
  · rcases List.mem_singleton.mp h' with rfl
    exact ⟨h1, h2⟩
theorem putWX (h : wrX σ0 l σ) (hl : l.length < 60000) (h1 : 0 ≤ x) (h2 : x ≤ 127) {Q : Unit → St → Prop} (hQ : ∀ σ', wrX σ0 (l ++ [x]) σ' → Q () σ') : wp (F_X0_put x) σ Q := by
  obtain ⟨⟨a1, a2⟩, a3, a4⟩ := h
  rw [F_X0_put, wp_bd, wp_gI, a1, wp_bd, wp_pI, wp_bd, i2b_p h1 h2, RV_50 (by omega) (by omega) (by omega) h2, wp_rt, tn, w32_i (by omega) (by omega)]
  refine hQ _ ⟨⟨?_, fun k hk => ?_⟩, sgn_up a3 h1 h2, ?_⟩
  · dsimp only
    rw [stA_ne (by decide), stA_eq, ups_eq, List.length_append]; rfl
  · dsimp only
    rw [List.length_append] at hk
    have hk' : k < l.length + 1 := hk
    rw [stA_eq, stA_ne (by decide)]
    by_cases e : k = l.length
    · subst e; rw [ups_eq, gD2]
    · rw [ups_ne e, gD1 (by omega)]; exact a2 k (by omega)
  · exact (a4.u (a := 0) (i := 13) (by unfold nmF; omega) _).x 50 (fun k h => h (Or.inl rfl))
theorem putWM (h : wrM τ0 l τ) (hl : l.length < 60000) (h1 : 0 ≤ x) (h2 : x ≤ 127) {Q : Unit → St → Prop} (hQ : ∀ τ', wrM τ0 (l ++ [x]) τ' → Q () τ') : wp (F_X15_put x) τ Q := by
  obtain ⟨⟨a1, a2⟩, a3, a4⟩ := h
  rw [F_X15_put, wp_bd, wp_gI, a1, wp_ifn (by omega), wp_bd, wp_gI, a1, wp_bd, i2b_p h1 h2, RV_2138 (by omega) (by omega) (by omega) h2, tn, X15_put_21, wp_bd, wp_gI, wp_bd, wp_pI, wp_rt]
  dsimp only
  rw [stA_ne (show (2075 : Nat) ≠ 2138 by decide), a1, w32_i (by omega) (by omega)]
  refine hQ _ ⟨⟨?_, fun k hk => ?_⟩, sgn_up a3 h1 h2, ?_⟩
  · dsimp only
    rw [stA_eq, ups_eq, List.length_append]; rfl
  · dsimp only
    rw [List.length_append] at hk
    have hk' : k < l.length + 1 := hk
    rw [stA_ne (by decide), stA_eq]
    by_cases e : k = l.length
    · subst e; rw [ups_eq, gD2]
    · rw [ups_ne e, gD1 (by omega)]; exact a2 k (by omega)
  · intro a i hh
    have q := a4 a i hh
    refine ⟨?_, q.2⟩
    dsimp only
    unfold nmY at hh
    by_cases e : a = 2075
    · subst e; rw [stA_eq, ups_ne (by omega)]; exact q.1
    · rw [stA_ne e, stA_ne (by omega)]; exact q.1
/-- the name of a thing -/
theorem thingWX (hd : DP Ms top s) (hD : isD o) (hX : DX σ0 o Ms top s) {i t : Nat} (hi : i < lsI s) (ht : t < mdT (moI Ms s i)) (h : wrX σ0 l σ) (hl : l.length ≤ 1000) {Q : Unit → St → Prop} (hQ : ∀ σ', wrX σ0 (l ++ nmL (moI Ms s i) t) σ' → Q () σ') : wp (F_X0_putThing (o + 27 + 25 * lsM s i) (t : Int)) σ Q := by
  have hF := FU_ge
  have h12 := hd.1.1
  obtain ⟨n10, -, np⟩ := nmL_len hd hi ht
  have hm := (hd.inst hi).1
  have h40 := hd.1.2.1 (lsM s i)
  have ht' : t < mdT (Ms (lsM s i)) := ht
  have hMd := isMd_D hD (show lsM s i < 12 by omega)
  have hoD : 410 ≤ o := by rcases hD with w | w | w | w | w <;> omega
  have key : ∀ d j f σ1, j + d = mdnl (moI Ms s i) t → d < f → wrX σ0 (l ++ nmA (moI Ms s i) t j) σ1 → wp (X0_putThing_2 f (o + 27 + 25 * lsM s i) (t : Int) (j : Int)) σ1 Q := by
    intro d
    induction d with
    | zero =>
      intro j f σ1 hj hf h1
      obtain ⟨f', rfl⟩ : ∃ f', f = f' + 1 := ⟨f - 1, by omega⟩
      have hX1 := hX.fr h12 (agr.sub h1.2.2 (fun a i h => by unfold dP at h; unfold nmF; omega))
      have e : σ1.1 (o + 27 + 25 * lsM s i + 3) t = (mdnl (moI Ms s i) t : Int) := ((hX1.2.2.1 _ hm).2.1 t ht').1.1
      rw [X0_putThing_2, wp_bd, MI_3 hMd (by omega) (by omega), tn, e, wp_ifp (by omega), wp_rt]
      have ej : j = mdnl (moI Ms s i) t := by omega
      subst ej
      exact hQ σ1 h1
    | succ d ih =>
      intro j f σ1 hj hf h1
      obtain ⟨f', rfl⟩ : ∃ f', f = f' + 1 := ⟨f - 1, by omega⟩
      have hX1 := hX.fr h12 (agr.sub h1.2.2 (fun a i h => by unfold dP at h; unfold nmF; omega))
      have e : σ1.1 (o + 27 + 25 * lsM s i + 3) t = (mdnl (moI Ms s i) t : Int) := ((hX1.2.2.1 _ hm).2.1 t ht').1.1
      have e2 : σ1.1 (o + 27 + 25 * lsM s i + 2) (10 * t + j) = mdtn (moI Ms s i) t j := ((hX1.2.2.1 _ hm).2.1 t ht').2.2 j (by show j < mdnl (moI Ms s i) t; omega)
      have hp := np j (by omega)
      have e10 : ∀ _ : Unit, w32 (w32 (10 * (t : Int)) + (j : Int)) = ((10 * t + j : Nat) : Int) := fun _ => by rw [w32_i (x := 10 * (t : Int)) (by omega) (by omega), w32_i (by omega) (by omega)]; omega
      rw [X0_putThing_2, wp_bd, MI_3 hMd (by omega) (by omega), tn, e, wp_ifn (by omega), wp_bd, e10 (), MI_2 hMd (by omega) (by omega), tn, e2, wp_bd]
      refine putWX h1 (by rw [List.length_append, nmA_len]; omega) (by have := hp.1; omega) hp.2 (fun σ2 h2 => ?_)
      rw [wp_lt, w32_i (by omega) (by omega), show (j : Int) + 1 = ((j + 1 : Nat) : Int) by omega]
      exact ih (j + 1) f' σ2 (by omega) (by omega) (by rw [nmA_up, ← List.append_assoc]; exact h2)
  rw [F_X0_putThing, wp_lt]
  exact key (mdnl (moI Ms s i) t) 0 FU σ (by omega) (by omega) (by
    have : l ++ nmA (moI Ms s i) t 0 = l := List.append_nil l
    rw [this]; exact h)
/-- the path to an instance -/
theorem pathWX (hd : DP Ms top s) (hD : isD o) (hX : DX σ0 o Ms top s) : ∀ f i σ, i < lsI s → top - lsM s i < f → wrX σ0 [] σ → ∀ {Q : Unit → St → Prop}, (∀ σ', wrX σ0 (pth Ms s i) σ' → Q () σ') → wp (G_X0_putInsts f o (i : Int)) σ Q := by
  have h12 := hd.1.1
  have h101 := hd.2.1.1.2
  have hoD : 410 ≤ o := by rcases hD with w | w | w | w | w <;> omega
  intro f
  induction f with
  | zero => intro i σ _ h; omega
  | succ f ih =>
    intro i σ hi hf h Q hQ
    have keepX : ∀ {l σ1}, wrX σ0 l σ1 → DX σ1 o Ms top s := fun h1 => hX.fr h12 (agr.sub h1.2.2 (fun a i h => by unfold dP at h; unfold nmF; omega))
    have e3 : ∀ {l σ1}, wrX σ0 l σ1 → σ1.1 (o + 3) i = lsP s i := fun h1 => ((keepX h1).1.2.1 i hi).2.1
    show wp (F_X0_putInsts (G_X0_putInsts f) o (i : Int)) σ Q
    rw [F_X0_putInsts, wp_bd, DI_3 hD (by omega) (by omega), tn, e3 h]
    by_cases c : i = 0
    · subst c
      rw [hd.2.2.2.2.2.2.1, wp_ifn (by decide), wp_rt]
      exact hQ σ h
    · obtain ⟨x, y, q1, q2, q3, q4, q5, q6, q7⟩ := hd.par hi (by omega)
      have hMd := isMd_D hD (show lsM s x < 12 by omega)
      rw [q1, wp_ifp (by omega), wp_bd, DI_3 hD (by omega) (by omega), tn, e3 h, q1, wp_bd]
      refine ih x σ q4 (by omega) h (fun σ1 h1 => ?_)
      have hX1 := keepX h1
      have pl := pth_len hd q4
      rw [wp_bd, DI_3 hD (by omega) (by omega), tn, e3 h1, q1, wp_bd, DI_2 hD (by omega) (by omega), tn, (hX1.1.2.1 x q4).1, wp_bd, DI_1 hD (by omega) (by omega), tn, hX1.2.1 _ (by omega), wp_bd, DI_4 hD (by omega) (by omega), tn, (hX1.1.2.1 i hi).2.2.1, q2, wp_nn, wp_ck, and_t (ly_Md hMd), wp_bd]
      refine thingWX hd hD hX q4 q5 h1 (by omega) (fun σ2 h2 => ?_)
      rw [wp_bd]
      refine putWX h2 (by rw [List.length_append]; have := (nmL_len hd q4 q5).2.1; omega) (by decide) (by decide) (fun σ3 h3 => ?_)
      rw [wp_rt]
      refine hQ σ3 ?_
      rw [pth_up hd hi (by omega) q1]
      unfold sgL
      rw [q1, q2, tn, tn, ← List.append_assoc]; exact h3
end
