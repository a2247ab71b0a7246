set_option maxRecDepth 100000
set_option maxHeartbeats 400000
/-! ===== designs: the twin finds the values of connections ===== -/
section
variable {Ms : Nat → ModV} {top : Nat} {s : LYS} {V : Nat → Nat} {W : Nat → Nat → Nat} {τ τ' : St} {S i : Nat}
/-- the whens around, in the twin -/
theorem actM (hd : DP Ms top s) (hlim : limOK Ms s) (hS : S < 5) (hV : ∀ g, g < lsG s → V g < 2 ^ wdS Ms s g) (hWb : ∀ g j, g < lsG s → W g j < 2 ^ wdS Ms s g) (hi : i < lsI s) (hE : EMv Ms top s W S τ) {Q : Int → St → Prop} (hBL : ∀ k, k < 120 → τ.1 2099 (200 * (12 * S + lsM s i) + k) = 0 ∨ τ.1 2099 (200 * (12 * S + lsM s i) + k) = 1) : ∀ (L : List (Nat × Bool)) (n : Nat) (w e : Int) (f : Nat), n ≤ 120 → L.length < f → (∀ q, q ∈ L → q.1 < mdN (moI Ms s i) ∧ gW (gI' Ms s i) q.1 = 1) → crT (fun k => τ.1 2097 (200 * (12 * S + lsM s i) + k)) (fun k => τ.1 2098 (200 * (12 * S + lsM s i) + k)) (fun k => τ.1 2099 (200 * (12 * S + lsM s i) + k)) n w e L → (∀ q, q ∈ L → VRM s τ V (fun h => rdE Ms s i q.1 h)) → (hlD Ms s V W i L → Q 1 τ) → (¬ hlD Ms s V W i L → Q 0 τ) → wp (X15_isActive_34 f (S : Int) (i : Int) ((200 * (12 * S + lsM s i) : Nat) : Int) e w) τ Q
  | [], n, w, e, f, hn, hf, hN, hc, hR, hy, hno => by
    obtain ⟨f', rfl⟩ : ∃ f', f = f' + 1 := ⟨f - 1, by simp at hf; omega⟩
    have e1 : w = -1 := hc.1
    rw [X15_isActive_34, wp_ifp (by omega), c_rtZ (by decide) (by decide)]
    exact hy (fun q hq => by cases hq)
  | q :: L, n, w, e, f, hn, hf, hN, hc, hR, hy, hno => by
    have hf' : L.length + 1 < f := hf
    obtain ⟨f', rfl⟩ : ∃ f', f = f' + 1 := ⟨f - 1, by omega⟩
    have h12 := hd.1.1
    obtain ⟨hm, ok⟩ := hd.inst hi
    obtain ⟨⟨c1, c2⟩, ⟨c3, c4⟩, c5⟩ := hc
    obtain ⟨k, rfl⟩ := Int.eq_ofNat_of_zero_le c1
    rw [tn] at c3 c5
    dsimp only at c3
    have eK : ∀ _ : Unit, w32 (((200 * (12 * S + lsM s i) : Nat) : Int) + (k : Int)) = ((200 * (12 * S + lsM s i) + k : Nat) : Int) := fun _ => by rw [w32_i (by omega) (by omega)]; omega
    obtain ⟨hq1, hq2⟩ := hN q List.mem_cons_self
    have n240 : mdN (moI Ms s i) ≤ 240 := ok.1.2.1
    rw [X15_isActive_34, wp_ifn (by omega), wp_bd, eK (), RI_2097 (by omega) (by omega), tn, c3, wp_bd]
    refine valM hd hlim hS hV hWb hi hE q.1 310 hq1 (by omega) (hR q List.mem_cons_self) (fun r hr => ?_)
    have h1 := t_eq hr (y := 1) (b := 1) rfl
    have hlt := nv_lt (V := V) (W := W) hd hi hV hWb q.1 hq1
    rw [hq2] at hlt
    have hbl := hBL k (by omega)
    have good : nv Ms s V W i q.1 = (if q.2 = true then 0 else 1) → ∀ x : Int, x ≠ e → wp (X15_isActive_65 (X15_isActive_34 f') (S : Int) (i : Int) ((200 * (12 * S + lsM s i) : Nat) : Int) e (k : Int) x) τ Q := by
      intro h x hx
      rw [X15_isActive_65, wp_ifn hx, wp_bd, eK (), RI_2099 (by omega) (by omega), tn, wp_lt, wp_bd, RI_2098 (by omega) (by omega), tn, wp_lt]
      refine actM hd hlim hS hV hWb hi hE hBL L k _ _ f' (by omega) (by omega) (fun q' hq' => hN q' (List.mem_cons_of_mem _ hq')) c5 (fun q' hq' => hR q' (List.mem_cons_of_mem _ hq')) (fun hl => hy (fun q' hq' => ?_)) (fun hl => hno (fun z => hl (fun q' hq' => z q' (List.mem_cons_of_mem _ hq'))))
      rcases List.mem_cons.mp hq' with e | e
      · subst e; exact h
      · exact hl q' e
    have bad : nv Ms s V W i q.1 ≠ (if q.2 = true then 0 else 1) → ∀ x : Int, x = e → wp (X15_isActive_65 (X15_isActive_34 f') (S : Int) (i : Int) ((200 * (12 * S + lsM s i) : Nat) : Int) e (k : Int) x) τ Q := by
      intro h x hx
      rw [X15_isActive_65, wp_ifp hx, c_rtZ (by decide) (by decide)]
      exact hno (fun z => h (z q List.mem_cons_self))
    cases hb : q.2 with
    | true =>
      rw [hb, if_pos rfl] at good bad
      have e1 : e = 1 := by rw [c4, hb]; rfl
      by_cases c : nv Ms s V W i q.1 = 1
      · rw [wp_ifp (by rw [h1]; exact c)]; exact bad (by omega) 1 e1.symm
      · rw [wp_ifn (by rw [h1]; exact c)]; exact good (by omega) 0 (by omega)
    | false =>
      rw [hb, if_neg (by decide)] at good bad
      have e1 : e = 0 := by rw [c4, hb]; rfl
      by_cases c : nv Ms s V W i q.1 = 1
      · rw [wp_ifp (by rw [h1]; exact c)]; exact good c 1 (by omega)
      · rw [wp_ifn (by rw [h1]; exact c)]; exact bad c 0 e1.symm
/-- elses are booleans -/
def BLS (τ : St) : Prop := ∀ k, τ.1 2099 k = 0 ∨ τ.1 2099 k = 1
/-- a connection's whens -/
theorem activeM (hd : DP Ms top s) (hch : chOK Ms s) (hlim : limOK Ms s) (hS : S < 5) (hV : ∀ g, g < lsG s → V g < 2 ^ wdS Ms s g) (hWb : ∀ g j, g < lsG s → W g j < 2 ^ wdS Ms s g) (hE : EMv Ms top s W S τ) (hBL : BLS τ) {g c : Nat} (hg : g < lsG s) (hc : c ∈ conL Ms s g) (hR : ∀ q, q ∈ mdCh (moI Ms s (coI Ms s g)) c → VRM s τ V (fun h => rdE Ms s (coI Ms s g) q.1 h)) {Q : Int → St → Prop} (hy : hlD Ms s V W (coI Ms s g) (mdCh (moI Ms s (coI Ms s g)) c) → Q 1 τ) (hno : ¬ hlD Ms s V W (coI Ms s g) (mdCh (moI Ms s (coI Ms s g)) c) → Q 0 τ) : wp (F_X15_isActive (S : Int) (coI Ms s g : Int) (mdSt (moI Ms s (coI Ms s g)) c : Int)) τ Q := by
  have hF := FU_ge
  have h12 := hd.1.1
  obtain ⟨z1, z2, z3, z4, -⟩ := hd.conL_mem hg hc
  obtain ⟨hm, ok⟩ := hd.inst z2
  obtain ⟨o1, o2, o3⟩ := ok.2.2.2.2.1 c z3
  have q120 : mdQ (moI Ms s (coI Ms s g)) ≤ 120 := ok.1.2.2.2.2.2
  have o3' : mdSt (moI Ms s (coI Ms s g)) c < mdQ (moI Ms s (coI Ms s g)) := o3
  obtain ⟨-, -, -, -, mcr⟩ := (hE.1.2 _ hm).2.2.2.1 c z3
  have eK : ∀ _ : Unit, w32 (((200 * (12 * S + lsM s (coI Ms s g)) : Nat) : Int) + (mdSt (moI Ms s (coI Ms s g)) c : Int)) = ((200 * (12 * S + lsM s (coI Ms s g)) + mdSt (moI Ms s (coI Ms s g)) c : Nat) : Int) := fun _ => by rw [w32_i (by omega) (by omega)]; omega
  rw [F_X15_isActive, wp_bd, m_store hd hE.1 hS z2, wp_lt, w32_i (x := 200 * ((12 * S + lsM s (coI Ms s g) : Nat) : Int)) (by omega) (by omega), show 200 * ((12 * S + lsM s (coI Ms s g) : Nat) : Int) = ((200 * (12 * S + lsM s (coI Ms s g)) : Nat) : Int) by omega, wp_bd, eK (), RI_2099 (by omega) (by omega), tn, wp_lt, wp_bd, RI_2098 (by omega) (by omega), tn, wp_lt]
  exact actM hd hlim hS hV hWb z2 hE (fun k _ => hBL _) (mdCh (moI Ms s (coI Ms s g)) c) (mdSt (moI Ms s (coI Ms s g)) c) _ _ FU (by omega) (by omega) (hch _ _ z2 z3) mcr hR hy hno
/-- the value that connections make -/
theorem lastM (hd : DP Ms top s) (hch : chOK Ms s) (hlim : limOK Ms s) (hS : S < 5) (hV : ∀ g, g < lsG s → V g < 2 ^ wdS Ms s g) (hWb : ∀ g j, g < lsG s → W g j < 2 ^ wdS Ms s g) (hE : EMv Ms top s W S τ) (hBL : BLS τ) {g : Nat} (hg : g < lsG s) (hnt : ¬ tiG Ms s g) (hVR : VRM s τ V (rdC Ms s g)) {x : Nat} {v : Int64} (hv : v.toInt = (x : Int)) {Q : Int64 → St → Prop} (hQ : ∀ r, r.toInt = (cnV Ms s V W g x (conL Ms s g) : Int) → Q r τ) : wp (F_X15_lastOf (S : Int) (coI Ms s g : Int) (coT Ms s g : Int) (coP Ms s g) v) τ Q := by
  have hF := FU_ge
  have h12 := hd.1.1
  obtain ⟨z1, z2, -⟩ := hd.co hg hnt
  obtain ⟨hm, ok⟩ := hd.inst z1
  have q120 : mdQ (moI Ms s (coI Ms s g)) ≤ 120 := ok.1.2.2.2.2.2
  have n240 : mdN (moI Ms s (coI Ms s g)) ≤ 240 := ok.1.2.1
  have key : ∀ k2 j f (r : Int64), j + k2 = mdQ (moI Ms s (coI Ms s g)) → k2 < f → r.toInt = (cnV Ms s V W g x (conK Ms s g j) : Int) → wp (X15_lastOf_19 f (S : Int) (coI Ms s g : Int) (coT Ms s g : Int) (coP Ms s g) ((200 * (12 * S + lsM s (coI Ms s g)) : Nat) : Int) r (j : Int)) τ Q := by
    intro k2
    induction k2 with
    | zero =>
      intro j f r hj hf hr
      obtain ⟨f', rfl⟩ : ∃ f', f = f' + 1 := ⟨f - 1, by omega⟩
      rw [X15_lastOf_19, wp_bd, m_store hd hE.1 hS z1, wp_bd, RI_2080 (by omega) (by omega), tn, (hE.1.2 _ hm).1.2.2]
      rw [wp_ifp (show (mdQ (Ms (lsM s (coI Ms s g))) : Int) ≤ (j : Int) by have : mdQ (Ms (lsM s (coI Ms s g))) = mdQ (moI Ms s (coI Ms s g)) := rfl; omega), wp_rt]
      rw [show j = mdQ (moI Ms s (coI Ms s g)) by omega, hd.conK_all hg] at hr
      exact hQ r hr
    | succ k2 ih =>
      intro j f r hj hf hr
      obtain ⟨f', rfl⟩ : ∃ f', f = f' + 1 := ⟨f - 1, by omega⟩
      have hjl : j < mdQ (moI Ms s (coI Ms s g)) := by omega
      have eJ : ∀ _ : Unit, w32 (((200 * (12 * S + lsM s (coI Ms s g)) : Nat) : Int) + (j : Int)) = ((200 * (12 * S + lsM s (coI Ms s g)) + j : Nat) : Int) := fun _ => by rw [w32_i (by omega) (by omega)]; omega
      have nxt : ∀ r' : Int64, r'.toInt = (cnV Ms s V W g x (conK Ms s g (j + 1)) : Int) → wp (X15_lastOf_93 (X15_lastOf_19 f') (S : Int) (coI Ms s g : Int) (coT Ms s g : Int) (coP Ms s g) ((200 * (12 * S + lsM s (coI Ms s g)) : Nat) : Int) r' (j : Int)) τ Q := by
        intro r' hr'
        rw [X15_lastOf_93, wp_lt, w32_i (by omega) (by omega), show (j : Int) + 1 = ((j + 1 : Nat) : Int) by omega]
        exact ih (j + 1) f' r' (by omega) (by omega) hr'
      rw [X15_lastOf_19, wp_bd, m_store hd hE.1 hS z1, wp_bd, RI_2080 (by omega) (by omega), tn, (hE.1.2 _ hm).1.2.2]
      rw [wp_ifn (show ¬ (mdQ (Ms (lsM s (coI Ms s g))) : Int) ≤ (j : Int) by have : mdQ (Ms (lsM s (coI Ms s g))) = mdQ (moI Ms s (coI Ms s g)) := rfl; omega), wp_bd, eJ (), RI_2094 (by omega) (by omega), tn]
      rcases hd.stK hE.1 hg hnt hjl with ⟨c, c1, c2, ⟨c3, c4⟩, c5⟩ | ⟨c3, c5⟩
      · obtain ⟨y1, y2, y3, y4, -⟩ := hd.conL_mem hg c1
        obtain ⟨-, -, -, m97, -⟩ := (hE.1.2 _ hm).2.2.2.1 c y3
        have m97' : τ.1 2097 (200 * (12 * S + lsM s (coI Ms s g)) + mdSt (moI Ms s (coI Ms s g)) c) = (mdVl (moI Ms s (coI Ms s g)) c : Int) := m97
        rw [c2] at m97'
        have hroot := hd.root y2 y3
        rw [c3, wp_ifp rfl, wp_bd, RI_2095 (by omega) (by omega), tn, c4, wp_ifp rfl, wp_bd, ← c2]
        refine activeM hd hch hlim hS hV hWb hE hBL hg c1 (fun q hq h hh hr => hVR h hh ⟨c, c1, Or.inr ⟨q, hq, hr⟩⟩) (fun hl => ?_) (fun hl => ?_)
        · rw [c2, wp_ifn (by decide), wp_bd, RI_2097 (by omega) (by omega), tn, m97', wp_bd]
          refine valM hd hlim hS hV hWb y2 hE _ 310 hroot (by omega) (fun h hh hr => hVR h hh ⟨c, c1, Or.inl hr⟩) (fun r' hr' => ?_)
          rw [wp_lt]
          refine nxt r' ?_
          rw [c5, cnV_app, cnV_y hl]
          exact hr'
        · rw [c2, wp_ifp rfl]
          refine nxt r ?_
          rw [c5, cnV_app, cnV_n hl]
          exact hr
      · rw [← c5] at hr
        by_cases d1 : τ.1 2094 (200 * (12 * S + lsM s (coI Ms s g)) + j) = (coT Ms s g : Int)
        · rw [wp_ifp d1, wp_bd, RI_2095 (by omega) (by omega), tn, wp_ifn (fun h => c3 ⟨d1, h⟩)]
          exact nxt r hr
        · rw [wp_ifn d1]
          exact nxt r hr
  rw [F_X15_lastOf, wp_bd, m_store hd hE.1 hS z1, wp_lt, w32_i (x := 200 * ((12 * S + lsM s (coI Ms s g) : Nat) : Int)) (by omega) (by omega), show 200 * ((12 * S + lsM s (coI Ms s g) : Nat) : Int) = ((200 * (12 * S + lsM s (coI Ms s g)) : Nat) : Int) by omega, wp_lt, wp_lt]
  exact key (mdQ (moI Ms s (coI Ms s g))) 0 FU v (by omega) (by omega) (by rw [conK_0]; exact hv)
end
