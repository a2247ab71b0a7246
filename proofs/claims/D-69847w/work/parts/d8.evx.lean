set_option maxRecDepth 100000
set_option maxHeartbeats 400000
/-! ===== designs: the component finds values ===== -/
def eF (o a : Nat) (_ : Nat) : Prop := a ≠ o + 25
section
variable {Ms : Nat → ModV} {top : Nat} {s : LYS} {V : Nat → Nat} {W : Nat → Nat → Nat} {σ σ' : St} {o i : Nat}
/-- parts of an expression lie within it -/
theorem DP.nest (hd : DP Ms top s) (hi : i < lsI s) : ∀ u, u < mdN (moI Ms s i) → ∀ n, gF (gI' Ms s i) u ≤ n → n ≤ u → gF (gI' Ms s i) u ≤ gF (gI' Ms s i) n := by
  intro u
  induction u using Nat.strongRecOn with
  | ind u ih =>
    intro hu n h1 h2
    by_cases e : n = u
    · subst e; exact Nat.le_refl _
    · obtain ⟨⟨z1, z2, z3, zf⟩, w0, w1, w2, w3, w9, w19⟩ := hd.nod hi hu
      have fl : ∀ m, m < mdN (moI Ms s i) → gF (gI' Ms s i) m ≤ m := fun m hm => (hd.nod hi hm).1.2.2.2
      by_cases c0 : gO (gI' Ms s i) u = 0
      · have := (w0 c0).1
        clear w0 w1 w2 w3 w9 w19
        omega
      by_cases c1 : gO (gI' Ms s i) u = 1
      · have := (w1 c1).1
        clear w0 w1 w2 w3 w9 w19
        omega
      by_cases c2 : gO (gI' Ms s i) u = 2
      · obtain ⟨-, q1, q2, q3⟩ := w2 c2
        clear w0 w1 w2 w3 w9 w19
        have := ih (u - 1) (by omega) (by omega) n (by omega) (by omega)
        omega
      by_cases c8 : gO (gI' Ms s i) u ≤ 8
      · have c3 : 3 ≤ gO (gI' Ms s i) u := by
          clear w0 w1 w2 w3 w9 w19
          omega
        obtain ⟨q1, q2, q3, -⟩ := w3 c3 c8
        clear w0 w1 w2 w3 w9 w19
        have := ih (u - 1) (by omega) (by omega) n (by omega) (by omega)
        omega
      by_cases c19 : gO (gI' Ms s i) u = 19
      · obtain ⟨a, b, q1, q2, q3, q4, q5, q6, q7, -⟩ := w19 c19
        clear w0 w1 w2 w3 w9 w19
        have f1 := fl (u - 1) (by omega)
        have f2 := fl b (by omega)
        have f3 := fl a (by omega)
        by_cases d1 : n ≤ a
        · have := ih a (by omega) (by omega) n (by omega) d1
          omega
        · by_cases d2 : n ≤ b
          · have := ih b (by omega) (by omega) n (by omega) d2
            omega
          · have := ih (u - 1) (by omega) (by omega) n (by omega) (by omega)
            omega
      · have c9 : 9 ≤ gO (gI' Ms s i) u := by
          clear w0 w1 w2 w3 w9 w19
          omega
        obtain ⟨q1, q2, q3, q4, q5, -⟩ := w9 c9 c19
        clear w0 w1 w2 w3 w9 w19
        have f1 := fl (u - 1) (by omega)
        have f2 := fl (gF (gI' Ms s i) (u - 1) - 1) (by omega)
        by_cases d1 : n ≤ gF (gI' Ms s i) (u - 1) - 1
        · have := ih (gF (gI' Ms s i) (u - 1) - 1) (by omega) (by omega) n (by omega) d1
          omega
        · have := ih (u - 1) (by omega) (by omega) n (by omega) (by omega)
          omega
/-- what the component needs to find values -/
def EX (Ms : Nat → ModV) (top : Nat) (s : LYS) (V : Nat → Nat) (W : Nat → Nat → Nat) (o : Nat) (σ : St) : Prop := DX σ o Ms top s ∧ DL σ o Ms s ∧ WRX Ms s σ o W
theorem EX.fr (h : EX Ms top s V W o σ) (hd : DP Ms top s) (e : agr (eF o) σ σ') : EX Ms top s V W o σ' := by
  obtain ⟨h1, ⟨h2, h3, h4⟩, h5⟩ := h
  refine ⟨h1.fr hd.1.1 (agr.sub e (fun a i h => by unfold dP at h; unfold eF; omega)), ⟨fun g hg => ?_, ?_, ?_⟩, fun g j hg hk hj => ?_⟩
  · rw [(e (o + 19) g (by unfold eF; omega)).1, (e (o + 21) g (by unfold eF; omega)).1]; exact h2 g hg
  · rw [(e o 25 (by unfold eF; omega)).1]; exact h3
  · rw [(e o 31 (by unfold eF; omega)).1]; exact h4
  · rw [(e (o + 22) _ (by unfold eF; omega)).1]; exact h5 g j hg hk hj
theorem findEX (hd : DP Ms top s) (hD : isD o) (hlim : limOK Ms s) (hV : ∀ g, g < lsG s → V g < 2 ^ wdS Ms s g) (hWb : ∀ g j, g < lsG s → W g j < 2 ^ wdS Ms s g) (hi : i < lsI s) {u : Nat} (hu : u < mdN (moI Ms s i)) (hE : EX Ms top s V W o σ) (hVR : VRX Ms s σ o V (fun h => rdE Ms s i u h)) {Q : Int → St → Prop} (hQ : ∀ σ', agr (eF o) σ σ' → Q (sg (nv Ms s V W i u)) σ') : wp (F_X13_find o (i : Int) (o + 27 + 25 * lsM s i) (gF (gI' Ms s i) u : Int) (u : Int)) σ Q := by
  have hF := FU_ge
  have h12 := hd.1.1
  obtain ⟨hm, ok⟩ := hd.inst hi
  have hMd := isMd_D hD (show lsM s i < 12 by omega)
  have n240 : mdN (moI Ms s i) ≤ 240 := ok.1.2.1
  have hfu := (hd.nod hi hu).1.2.2.2
  have key : ∀ k n f σ1, n + k = u + 1 → gF (gI' Ms s i) u ≤ n → k < f → agr (eF o) σ σ1 → (∀ m, gF (gI' Ms s i) u ≤ m → m < n → σ1.1 (o + 25) m = sg (nv Ms s V W i m)) → wp (X13_find_3 o f (i : Int) (o + 27 + 25 * lsM s i) (u : Int) (n : Int)) σ1 Q := by
    intro k
    induction k with
    | zero =>
      intro n f σ1 hn hfn hf hA henv
      obtain ⟨f', rfl⟩ : ∃ f', f = f' + 1 := ⟨f - 1, by omega⟩
      rw [X13_find_3, wp_ifp (by omega), X13_find_42, wp_bd, DI_25 hD (by omega) (by omega), tn, henv u hfu (by omega), wp_rt]
      exact hQ σ1 hA
    | succ k ih =>
      intro n f σ1 hn hfn hf hA henv
      obtain ⟨f', rfl⟩ : ∃ f', f = f' + 1 := ⟨f - 1, by omega⟩
      have hnl : n < mdN (moI Ms s i) := by omega
      have hE1 := hE.fr hd hA
      have hnest := hd.nest hi u hu n hfn (by omega)
      have hw := (hd.nod hi hnl).1.2.2.1
      rw [X13_find_3, wp_ifn (by omega), wp_bd]
      refine resX hd hD hE1.1 hE1.2.1 hlim hi hnl hV hWb (fun h hh hr => ?_) hE1.2.2 (fun m h1 h2 => henv m (by omega) h2) (fun r hr => ?_)
      · rw [(hA (o + 20) h (by unfold eF; omega)).1]
        exact hVR h hh ⟨n, hfn, by omega, hr⟩
      · have r13 : σ1.1 (o + 27 + 25 * lsM s i + 13) n = (gW (gI' Ms s i) n : Int) := ((hE1.1.2.2.1 _ hm).2.2.1 n hnl).2.2.2.2
        rw [wp_bd, MI_13 hMd (by omega) (by omega), tn, r13, wp_bd, mask_v hw, hr, wp_bd, DV_25 hD (by omega) (by omega), tn, wp_lt, w32_i (by omega) (by omega), show (n : Int) + 1 = ((n + 1 : Nat) : Int) by omega]
        refine ih (n + 1) f' _ (by omega) (by omega) (by omega) (hA.w (fun k hk => absurd rfl hk)) (fun m h1 h2 => ?_)
        dsimp only
        rw [stA_eq]
        by_cases e : m = n
        · subst e; rw [ups_eq]
        · rw [ups_ne e]; exact henv m h1 (by omega)
  rw [F_X13_find, wp_lt]
  exact key (u + 1 - gF (gI' Ms s i) u) (gF (gI' Ms s i) u) FU σ (by omega) (Nat.le_refl _) (by omega) agr.refl (fun m h1 h2 => by omega)
theorem holdsX (hd : DP Ms top s) (hD : isD o) (hlim : limOK Ms s) (hV : ∀ g, g < lsG s → V g < 2 ^ wdS Ms s g) (hWb : ∀ g j, g < lsG s → W g j < 2 ^ wdS Ms s g) (hi : i < lsI s) (hE : EX Ms top s V W o σ) {Q : Int → St → Prop} : ∀ (L : List (Nat × Bool)) (w : Int) (f : Nat) σ1, L.length < f → crX (σ.1 (o + 27 + 25 * lsM s i + 21)) (σ.1 (o + 27 + 25 * lsM s i + 22)) (σ.1 (o + 27 + 25 * lsM s i + 23)) (σ.1 (o + 27 + 25 * lsM s i + 24)) (gI' Ms s i) (mdN (moI Ms s i)) (mdW (moI Ms s i)) w L → agr (eF o) σ σ1 → (∀ q, q ∈ L → VRX Ms s σ o V (fun h => rdE Ms s i q.1 h)) → (∀ σ', agr (eF o) σ σ' → (hlD Ms s V W i L → Q 1 σ') ∧ (¬ hlD Ms s V W i L → Q 0 σ')) → wp (X13_holds_6 o f (i : Int) (o + 27 + 25 * lsM s i) 1 w) σ1 Q
  | [], w, f, σ1, hf, hc, hA, hR, hQ => by
    obtain ⟨f', rfl⟩ : ∃ f', f = f' + 1 := ⟨f - 1, by simp at hf; omega⟩
    have e : w = -1 := hc
    rw [X13_holds_6, wp_ifp (by omega), c_rtZ (by decide) (by decide)]
    exact (hQ σ1 hA).1 (fun q hq => by cases hq)
  | q :: L, w, f, σ1, hf, hc, hA, hR, hQ => by
    have hf' : L.length + 1 < f := hf
    obtain ⟨f', rfl⟩ : ∃ f', f = f' + 1 := ⟨f - 1, by omega⟩
    have h12 := hd.1.1
    obtain ⟨hm, ok⟩ := hd.inst hi
    have hMd := isMd_D hD (show lsM s i < 12 by omega)
    have w240 : mdW (moI Ms s i) ≤ 240 := ok.1.2.2.2.1
    obtain ⟨⟨c1, c2⟩, ⟨c3, c4, c5, c6, c7⟩, c8⟩ := hc
    obtain ⟨k, rfl⟩ := Int.eq_ofNat_of_zero_le c1
    rw [tn] at c5 c6 c7 c8
    have hE1 := hE.fr hd hA
    have r21 : σ1.1 (o + 27 + 25 * lsM s i + 21) k = (q.1 : Int) := by rw [(hA _ k (by unfold eF; omega)).1]; exact c5
    have r22 : σ1.1 (o + 27 + 25 * lsM s i + 22) k = (gF (gI' Ms s i) q.1 : Int) := by rw [(hA _ k (by unfold eF; omega)).1]; exact c6
    rw [X13_holds_6, wp_ifn (by omega), wp_ifn (by decide), wp_bd, MI_22 hMd (by omega) (by omega), tn, r22, wp_bd, MI_21 hMd (by omega) (by omega), tn, r21, wp_bd]
    refine findEX hd hD hlim hV hWb hi c3 hE1 (fun h hh hr => by rw [(hA (o + 20) h (by unfold eF; omega)).1]; exact hR q List.mem_cons_self h hh hr) (fun σ2 hA2 => ?_)
    have hA2' := hA.trans hA2
    have r23 : σ2.1 (o + 27 + 25 * lsM s i + 23) k = (if q.2 = true then 1 else 0) := by rw [(hA2' _ k (by unfold eF; omega)).1]; exact c7
    have r24 : σ2.1 (o + 27 + 25 * lsM s i + 24) k = σ.1 (o + 27 + 25 * lsM s i + 24) k := (hA2' _ k (by unfold eF; omega)).1
    have hlt := nv_lt (V := V) (W := W) hd hi hV hWb q.1 c3
    have c4' : gW (gI' Ms s i) q.1 = 1 := c4
    rw [c4'] at hlt
    -- behind one when
    have good : nv Ms s V W i q.1 = (if q.2 = true then 0 else 1) → wp (X13_holds_59 o (X13_holds_6 o f') (i : Int) (o + 27 + 25 * lsM s i) (k : Int) 1) σ2 Q := by
      intro h
      rw [X13_holds_59, wp_lt, wp_bd, MI_24 hMd (by omega) (by omega), tn, r24, wp_lt]
      refine holdsX hd hD hlim hV hWb hi hE L _ f' σ2 (by omega) c8 hA2' (fun q' hq' => hR q' (List.mem_cons_of_mem _ hq')) (fun σ' hA' => ⟨fun hl => (hQ σ' hA').1 (fun q' hq' => ?_), fun hl => (hQ σ' hA').2 (fun z => hl (fun q' hq' => z q' (List.mem_cons_of_mem _ hq')))⟩)
      rcases List.mem_cons.mp hq' with e | e
      · subst e; exact h
      · exact hl q' e
    have bad : nv Ms s V W i q.1 ≠ (if q.2 = true then 0 else 1) → wp (X13_holds_59 o (X13_holds_6 o f') (i : Int) (o + 27 + 25 * lsM s i) (k : Int) 0) σ2 Q := by
      intro h
      obtain ⟨f'', hf''⟩ : ∃ f'', f' = f'' + 1 := ⟨f' - 1, by omega⟩
      have no : ¬ hlD Ms s V W i (q :: L) := fun z => h (z q List.mem_cons_self)
      rw [X13_holds_59, wp_lt, wp_bd, MI_24 hMd (by omega) (by omega), tn, wp_lt, hf'', X13_holds_6]
      by_cases c : σ2.1 (o + 27 + 25 * lsM s i + 24) k < 0
      · rw [wp_ifp c, c_rtZ (by decide) (by decide)]; exact (hQ σ2 hA2').2 no
      · rw [wp_ifn c, wp_ifp rfl, c_rtZ (by decide) (by decide)]; exact (hQ σ2 hA2').2 no
    rw [wp_bd, MI_23 hMd (by omega) (by omega), tn, r23]
    cases hq2 : q.2 with
    | true =>
      rw [hq2, if_pos rfl] at good bad
      rw [if_pos rfl, wp_ifn (by decide), X13_holds_51]
      by_cases c : nv Ms s V W i q.1 = 0
      · rw [wp_ifp (by rw [c]; rfl)]; exact good c
      · rw [wp_ifn (fun h => c ((sg_inj (by omega) (by decide)).mp (h.trans sg_0.symm)))]; exact bad c
    | false =>
      rw [hq2, if_neg (by decide)] at good bad
      rw [wp_ifp (by decide), X13_holds_51]
      by_cases c : nv Ms s V W i q.1 = 1
      · rw [wp_ifp (by rw [c]; rfl)]; exact good c
      · rw [wp_ifn (fun h => c ((sg_inj (by omega) (by decide)).mp (h.trans sg_1.symm)))]; exact bad c
/-- what a signal's connections read -/
def rdC (Ms : Nat → ModV) (s : LYS) (g h : Nat) : Prop := ∃ c, c ∈ conL Ms s g ∧ (rdE Ms s (coI Ms s g) (mdVl (moI Ms s (coI Ms s g)) c) h ∨ ∃ q, q ∈ mdCh (moI Ms s (coI Ms s g)) c ∧ rdE Ms s (coI Ms s g) q.1 h)
/-- the component's values of a signal's connections -/
theorem connX (hd : DP Ms top s) (hD : isD o) (hlim : limOK Ms s) (hV : ∀ g, g < lsG s → V g < 2 ^ wdS Ms s g) (hWb : ∀ g j, g < lsG s → W g j < 2 ^ wdS Ms s g) {g : Nat} (hg : g < lsG s) (hC : CH σ o Ms s) (hE : EX Ms top s V W o σ) (hVR : VRX Ms s σ o V (rdC Ms s g)) {x : Nat} {Q : Int → St → Prop} (hQ : ∀ σ', agr (eF o) σ σ' → Q (sg (cnV Ms s V W g x (conL Ms s g))) σ') : wp (F_X13_connected o (g : Int) (sg x)) σ Q := by
  have hF := FU_ge
  have h12 := hd.1.1
  have h101 := hd.2.1.1.2
  have h200 := hd.2.1.2
  have key : ∀ (L P : List Nat) (l : Int) (f : Nat) σ1, conL Ms s g = P ++ L → L.length < f → chn (σ.1 (o + 10)) (σ.1 (o + 9)) (σ.1 (o + 11)) (coI Ms s g) 6100 l L → agr (eF o) σ σ1 → wp (X13_connected_10 o f (sg (cnV Ms s V W g x P)) l) σ1 Q := by
    intro L
    induction L with
    | nil =>
      intro P l f σ1 hL hf hc hA
      obtain ⟨f', rfl⟩ : ∃ f', f = f' + 1 := ⟨f - 1, by simp at hf; omega⟩
      have e : l = -1 := hc
      rw [List.append_nil] at hL
      rw [X13_connected_10, wp_ifp (by omega), wp_rt, ← hL]
      exact hQ σ1 hA
    | cons c L ih =>
      intro P l f σ1 hL hf hc hA
      have hf2 : L.length + 1 < f := hf
      obtain ⟨f', rfl⟩ : ∃ f', f = f' + 1 := ⟨f - 1, by omega⟩
      obtain ⟨q, q1, q2, q3, q4, q5⟩ := hc
      subst q1
      have hE1 := hE.fr hd hA
      have hmem : c ∈ conL Ms s g := by rw [hL]; exact List.mem_append.mpr (Or.inr List.mem_cons_self)
      obtain ⟨z1, z2, z3, z4, -⟩ := hd.conL_mem hg hmem
      obtain ⟨hm, ok⟩ := hd.inst z2
      have c60 : mdC (moI Ms s (coI Ms s g)) ≤ 60 := ok.1.2.2.1
      have hMd := isMd_D hD (show lsM s (coI Ms s g) < 12 by omega)
      have r9 : σ1.1 (o + 9) q = (coI Ms s g : Int) := by rw [(hA _ q (by unfold eF; omega)).1]; exact q3
      have r10 : σ1.1 (o + 10) q = (c : Int) := by rw [(hA _ q (by unfold eF; omega)).1]; exact q4
      obtain ⟨-, mch⟩ := (hE1.1.2.2.1 _ hm).2.2.2 c z3
      have nxt : ∀ σ2 y, agr (eF o) σ σ2 → y = cnV Ms s V W g x (P ++ [c]) → wp (X13_connected_91 o (X13_connected_10 o f') (sg y) (q : Int)) σ2 Q := by
        rintro σ2 y hA2 rfl
        rw [X13_connected_91, wp_bd, DI_11 hD (by omega) (by omega), tn, (hA2 _ q (by unfold eF; omega)).1, wp_lt]
        exact ih (P ++ [c]) _ f' σ2 (by rw [hL, List.append_assoc]; rfl) (by omega) q5 hA2
      rw [X13_connected_10, wp_ifn (by omega), wp_bd, DI_9 hD (by omega) (by omega), tn, r9, wp_lt, wp_bd, DI_2 hD (by omega) (by omega), tn, (hE1.1.1.2.1 _ z2).1, wp_bd, DI_1 hD (by omega) (by omega), tn, hE1.1.2.1 _ (by omega), wp_bd, DI_10 hD (by omega) (by omega), tn, r10, wp_lt, wp_nn, wp_ck, and_t (ly_Md hMd), wp_bd, MI_20 hMd (by omega) (by omega), tn, wp_bd, F_X13_holds, wp_lt, wp_lt]
      have vr : ∀ σ2, agr (eF o) σ σ2 → ∀ (P : Nat → Prop), (∀ h, P h → rdC Ms s g h) → VRX Ms s σ2 o V P := fun σ2 hA2 P hP h hh hp => by
        rw [(hA2 (o + 20) h (by unfold eF; omega)).1]
        exact hVR h hh (hP h hp)
      refine holdsX hd hD hlim hV hWb z2 hE1 (mdCh (moI Ms s (coI Ms s g)) c) _ FU σ1 (by have := (ok.2.2.2.2.1 c z3).2.1; omega) mch agr.refl (fun q' hq' => vr σ1 hA _ (fun h hr => ⟨c, hmem, Or.inr ⟨q', hq', hr⟩⟩)) (fun σ2 hA2 => ⟨fun hl => ?_, fun hl => ?_⟩)
      · have hA2' := hA.trans hA2
        have hE2 := hE.fr hd hA2'
        obtain ⟨⟨-, -, -, m18, m19, -⟩, -⟩ := (hE2.1.2.2.1 _ hm).2.2.2 c z3
        have m18' : σ2.1 (o + 27 + 25 * lsM s (coI Ms s g) + 18) c = (mdVl (moI Ms s (coI Ms s g)) c : Int) := m18
        have m19' : σ2.1 (o + 27 + 25 * lsM s (coI Ms s g) + 19) c = (gF (gI' Ms s (coI Ms s g)) (mdVl (moI Ms s (coI Ms s g)) c) : Int) := m19
        rw [wp_ifn (by decide), wp_bd, MI_19 hMd (by omega) (by omega), tn, m19', wp_bd, MI_18 hMd (by omega) (by omega), tn, m18', wp_bd]
        refine findEX hd hD hlim hV hWb z2 (hd.root z2 z3) hE2 (vr σ2 hA2' _ (fun h hr => ⟨c, hmem, Or.inl hr⟩)) (fun σ3 hA3 => ?_)
        rw [wp_lt]
        refine nxt σ3 _ (hA2'.trans hA3) ?_
        rw [cnV_app, cnV_y hl]
        rfl
      · rw [wp_ifp rfl]
        refine nxt σ2 _ (hA.trans hA2) ?_
        rw [cnV_app, cnV_n hl]
        rfl
  rw [F_X13_connected, wp_lt, wp_bd, DI_12 hD (by omega) (by omega), tn, wp_lt]
  refine key (conL Ms s g) [] _ FU σ rfl ?_ (hC g hg) agr.refl
  by_cases ct : tiG Ms s g
  · rw [conL_ti ct]; show 0 < FU; omega
  · rw [hd.conL_eq hg ct]
    have := List.length_filter_le (isC Ms s g) (List.range (mdC (moI Ms s (coI Ms s g))))
    rw [List.length_range] at this
    have c60 : mdC (moI Ms s (coI Ms s g)) ≤ 60 := (hd.inst (hd.co hg ct).1).2.1.2.2.1
    omega
end
