set_option maxRecDepth 100000
set_option maxHeartbeats 400000
/-! ===== designs: what hangs on what; the twin's whole ===== -/
def hFC (a i : Nat) : Prop := ¬ (a = 2135 ∨ (a = 2075 ∧ 81 ≤ i ∧ i ≤ 83))
section
variable {Ms : Nat → ModV} {top : Nat} {s : LYS} {σ σ' τ τ' : St} {o S : Nat}
theorem dT_hFC {S a i : Nat} (h : dT S a i) : hFC a i := by
  unfold dT at h
  unfold hFC
  omega
/-- what an expression of either kind of a list of connections reads -/
def hgT (Ms : Nat → ModV) (s : LYS) (g h : Nat) (L : List Nat) : Prop := ∃ c, c ∈ L ∧ (rdT Ms s (coI Ms s g) (mdVl (moI Ms s (coI Ms s g)) c) h ∨ ∃ q, q ∈ mdCh (moI Ms s (coI Ms s g)) c ∧ rdT Ms s (coI Ms s g) q.1 h)
/-- the whens around -/
theorem hangWM (hd : DP Ms top s) (hM : DM τ 4 Ms top s) {g i : Nat} (hg : g < lsG s) (hi : i < lsI s) {r1 : Int → Int → St → Option (Unit × St)} {r2 : Int → Int → Int → Int → Int → Int → Int → St → Option (Unit × St)} {x6 x7 x8 : Int} {Q : Unit → St → Prop} : ∀ (L : List (Nat × Bool)) (n : Nat) (w e : Int) (f : Nat) τ1 (H : Nat → Nat → Prop), n ≤ 200 → L.length < f → (∀ q, q ∈ L → q.1 < mdN (moI Ms s i)) → crT (fun k => τ.1 2097 (200 * (12 * 4 + lsM s i) + k)) (fun k => τ.1 2098 (200 * (12 * 4 + lsM s i) + k)) (fun k => τ.1 2099 (200 * (12 * 4 + lsM s i) + k)) n w e L → agr hFC τ τ1 → HM (τ1.1 2135) H → (∀ τ2, agr hFC τ τ2 → HM (τ2.1 2135) (fun a b => H a b ∨ (a = g ∧ ∃ q, q ∈ L ∧ rdT Ms s i q.1 b)) → wp (X15_findHangs_238 r1 r2 4 (g : Int) ((200 * (12 * 4 + lsM s i) : Nat) : Int) (i : Int) x6 x7 x8) τ2 Q) → wp (X15_findHangs_201 r1 r2 f 4 (g : Int) ((200 * (12 * 4 + lsM s i) : Nat) : Int) (i : Int) x6 x7 x8 w) τ1 Q
  | [], n, w, e, f, τ1, H, hn, hf, hN, hc, hA, hH, hQ => by
    obtain ⟨f', rfl⟩ : ∃ f', f = f' + 1 := ⟨f - 1, by simp at hf; omega⟩
    have e : w = -1 := hc.1
    rw [X15_findHangs_201, wp_ifp (by omega)]
    refine hQ τ1 hA (hH.cong (fun a b _ _ => ⟨Or.inl, fun h => ?_⟩))
    rcases h with h | ⟨-, q, hq, -⟩
    · exact h
    · cases hq
  | q :: L, n, w, e, f, τ1, H, hn, hf, hN, hc, hA, hH, hQ => by
    have hf' : L.length + 1 < f := hf
    obtain ⟨f', rfl⟩ : ∃ f', f = f' + 1 := ⟨f - 1, by omega⟩
    have h12 := hd.1.1
    obtain ⟨hm, ok⟩ := hd.inst hi
    obtain ⟨⟨c1, c2⟩, ⟨c3, -⟩, c5⟩ := hc
    obtain ⟨k, rfl⟩ := Int.eq_ofNat_of_zero_le c1
    rw [tn] at c3 c5
    have e1 : ∀ _ : Unit, w32 (((200 * (12 * 4 + lsM s i) : Nat) : Int) + (k : Int)) = ((200 * (12 * 4 + lsM s i) + k : Nat) : Int) := fun _ => by rw [w32_i (by omega) (by omega)]; omega
    have r97 : τ1.1 2097 (200 * (12 * 4 + lsM s i) + k) = (q.1 : Int) := by rw [(hA 2097 _ (by unfold hFC; omega)).1]; exact c3
    have hM1 := hM.fr hd (agr.sub hA (fun a i h => dT_hFC h))
    rw [X15_findHangs_201, wp_ifn (by omega), wp_bd, e1 (), RI_2097 (by omega) (by omega), tn, r97, wp_bd]
    refine wp_mono (readsM hd hM1 hg hi q.1 310 τ1 H (hN q List.mem_cons_self) (by have := hN q List.mem_cons_self; have := ok.1.2.1; omega) agr.refl hH) ?_
    rintro _ τ2 ⟨hA2, hH2⟩
    have hA2' : agr hFC τ τ2 := hA.trans (agr.sub hA2 (fun a i h => by unfold hFC at h; unfold hFM; omega))
    rw [wp_bd, RI_2098 (by omega) (by omega), tn, (hA2' 2098 _ (by unfold hFC; omega)).1, wp_lt]
    refine hangWM hd hM hg hi L k _ _ f' τ2 _ (by omega) (by omega) (fun q hq => hN q (List.mem_cons_of_mem _ hq)) c5 hA2' hH2 (fun τ3 hA3 hH3 => hQ τ3 hA3 (hH3.cong (fun a b _ _ => ?_)))
    constructor
    · rintro ((h | ⟨h1, h2⟩) | ⟨h1, q', h3, h4⟩)
      · exact Or.inl h
      · exact Or.inr ⟨h1, q, List.mem_cons_self, h2⟩
      · exact Or.inr ⟨h1, q', List.mem_cons_of_mem _ h3, h4⟩
    · rintro (h | ⟨h1, q', h3, h4⟩)
      · exact Or.inl (Or.inl h)
      · rcases List.mem_cons.mp h3 with e | e
        · subst e; exact Or.inl (Or.inr ⟨h1, h4⟩)
        · exact Or.inr ⟨h1, q', e, h4⟩
/-- the nodes of a connection's whens -/
theorem DP.chN (hd : DP Ms top s) {i c : Nat} {σ : St} {o : Nat} (hX : DX σ o Ms top s) (hi : i < lsI s) (hc : c < mdC (moI Ms s i)) : ∀ q, q ∈ mdCh (moI Ms s i) c → q.1 < mdN (moI Ms s i) ∧ gW (gI' Ms s i) q.1 = 1 := by
  obtain ⟨hm, ok⟩ := hd.inst hi
  have h := ((hX.2.2.1 _ hm).2.2.2 c hc).2
  intro q hq
  obtain ⟨k, -, -, -, h1, h2⟩ := crX_row _ _ h q hq
  exact ⟨h1, h2⟩
theorem findHM (hd : DP Ms top s) (hM : DM τ 4 Ms top s) (hN : ∀ i c, i < lsI s → c < mdC (moI Ms s i) → ∀ q, q ∈ mdCh (moI Ms s i) c → q.1 < mdN (moI Ms s i)) : wp F_X15_findHangs τ (fun _ τ' => agr hFC τ τ' ∧ HM (τ'.1 2135) (fun g h => g < lsG s ∧ h < lsG s ∧ hgP Ms s g h)) := by
  have hFU := FU_ge
  have h200 := hd.2.1.2
  have h101 := hd.2.1.1.2
  have h12 := hd.1.1
  -- columns of states go
  have rdlt : ∀ g h, g < lsG s → hgT Ms s g h (conL Ms s g) → h < lsG s := by
    rintro g h hg ⟨c, hc, hr⟩
    obtain ⟨z1, z2, z3, z4, -⟩ := hd.conL_mem hg hc
    have one : ∀ u, u < mdN (moI Ms s (coI Ms s g)) → rdT Ms s (coI Ms s g) u h → h < lsG s := by
      rintro u hu ⟨n, n1, n2, n3⟩
      rcases n3 with ⟨n4, n5⟩ | ⟨n4, n5⟩
      · obtain ⟨t, t1, t2, t3, t4, -⟩ := hd.rd z2 (show n < mdN _ by omega) n4
        rw [t1, tn] at n5
        rw [← n5]; exact t4
      · obtain ⟨t, t1, t2, t3, t4, -⟩ := hd.rm z2 (show n < mdN _ by omega) n4
        rw [t1, tn] at n5
        rw [← n5]; exact t4
    rcases hr with h | ⟨q, hq, h⟩
    · exact one _ (hd.root z2 z3) h
    · exact one _ (hN _ _ z2 z3 q hq) h
  have tst : ∀ g h, g < lsG s → ¬ stG Ms s h → (hgT Ms s g h (conL Ms s g) ↔ hgL Ms s g h (conL Ms s g)) := by
    intro g h hg hs
    have one : ∀ i u, i < lsI s → u < mdN (moI Ms s i) → (rdT Ms s i u h ↔ rdE Ms s i u h) := by
      intro i u hi hu
      constructor
      · rintro ⟨n, n1, n2, n3⟩
        rcases n3 with n3 | ⟨n4, n5⟩
        · exact ⟨n, n1, n2, n3⟩
        · obtain ⟨t, t1, t2, t3, t4, t5, -⟩ := hd.rm hi (show n < mdN _ by omega) n4
          rw [t1, tn] at n5
          rw [n5] at t5
          exact absurd (Or.inr t5) hs
      · rintro ⟨n, n1, n2, n3⟩
        exact ⟨n, n1, n2, Or.inl n3⟩
    constructor
    · rintro ⟨c, hc, hr⟩
      obtain ⟨z1, z2, z3, z4, -⟩ := hd.conL_mem hg hc
      refine ⟨hs, c, hc, ?_⟩
      rcases hr with h | ⟨q, hq, h⟩
      · exact Or.inl ((one _ _ z2 (hd.root z2 z3)).mp h)
      · exact Or.inr ⟨q, hq, (one _ _ z2 (hN _ _ z2 z3 q hq)).mp h⟩
    · rintro ⟨-, c, hc, hr⟩
      obtain ⟨z1, z2, z3, z4, -⟩ := hd.conL_mem hg hc
      refine ⟨c, hc, ?_⟩
      rcases hr with h | ⟨q, hq, h⟩
      · exact Or.inl ((one _ _ z2 (hd.root z2 z3)).mpr h)
      · exact Or.inr ⟨q, hq, (one _ _ z2 (hN _ _ z2 z3 q hq)).mpr h⟩
  have clear : ∀ k g f τ1, g + k = lsG s → k < f → agr hFC τ τ1 → HM (τ1.1 2135) (fun a b => (a < lsG s ∧ ¬ stG Ms s a ∧ hgT Ms s a b (conL Ms s a)) ∧ ¬ (b < g ∧ stG Ms s b)) → wp (X15_findHangs_252 f 4 (g : Int)) τ1 (fun _ τ' => agr hFC τ τ' ∧ HM (τ'.1 2135) (fun g h => g < lsG s ∧ h < lsG s ∧ hgP Ms s g h)) := by
    intro k
    induction k with
    | zero =>
      intro g f τ1 hg hf hA hH
      obtain ⟨f', rfl⟩ : ∃ f', f = f' + 1 := ⟨f - 1, by omega⟩
      have hM1 := hM.fr hd (agr.sub hA (fun a i h => dT_hFC h))
      rw [X15_findHangs_252, wp_bd, RI_2115 (by decide) (by decide), toN4, hM1.1.1.1, wp_ifp (by omega), wp_rt]
      refine ⟨hA, hH.cong (fun a b _ _ => ?_)⟩
      constructor
      · rintro ⟨⟨q1, q2, q3⟩, q4⟩
        have hb := rdlt a b q1 q3
        have hs : ¬ stG Ms s b := fun z => q4 ⟨by omega, z⟩
        exact ⟨q1, hb, q2, hs, ((tst a b q1 hs).mp q3).2⟩
      · rintro ⟨q1, q2, q3, q4, q5⟩
        exact ⟨⟨q1, q3, (tst a b q1 q4).mpr ⟨q4, q5⟩⟩, fun z => q4 z.2⟩
    | succ k ih =>
      intro g f τ1 hg hf hA hH
      obtain ⟨f', rfl⟩ : ∃ f', f = f' + 1 := ⟨f - 1, by omega⟩
      have hM1 := hM.fr hd (agr.sub hA (fun a i h => dT_hFC h))
      have hgl : g < lsG s := by omega
      have e1 : ∀ _ : Unit, w32 (w32 (200 * 4) + (g : Int)) = ((200 * 4 + g : Nat) : Int) := fun _ => by rw [w32_i (x := 200 * 4) (by decide) (by decide), w32_i (by omega) (by omega)]; omega
      have nxt : ∀ τ2, agr hFC τ τ2 → HM (τ2.1 2135) (fun a b => (a < lsG s ∧ ¬ stG Ms s a ∧ hgT Ms s a b (conL Ms s a)) ∧ ¬ (b < g + 1 ∧ stG Ms s b)) → wp (X15_findHangs_319 (X15_findHangs_252 f') 4 (g : Int)) τ2 (fun _ τ' => agr hFC τ τ' ∧ HM (τ'.1 2135) (fun g h => g < lsG s ∧ h < lsG s ∧ hgP Ms s g h)) := by
        intro τ2 hA2 hH2
        rw [X15_findHangs_319, wp_lt, w32_i (by omega) (by omega), show (g : Int) + 1 = ((g + 1 : Nat) : Int) by omega]
        exact ih (g + 1) f' τ2 (by omega) (by omega) hA2 hH2
      rw [X15_findHangs_252, wp_bd, RI_2115 (by decide) (by decide), toN4, hM1.1.1.1, wp_ifn (by omega), wp_bd, e1 (), RI_2122 (by omega) (by omega), tn, (hM1.1.2.2.2 g hgl).2.1.1, wp_lt, wp_lt]
      by_cases cs : stG Ms s g
      · have row : ∀ k2 h f2 τ2, h + k2 = lsG s → k2 < f2 → agr hFC τ τ2 → HM (τ2.1 2135) (fun a b => (a < lsG s ∧ ¬ stG Ms s a ∧ hgT Ms s a b (conL Ms s a)) ∧ ¬ (b < g ∧ stG Ms s b) ∧ ¬ (b = g ∧ a < h)) → wp (X15_findHangs_278 (X15_findHangs_252 f') f2 4 (g : Int) (kdS Ms s g : Int) (h : Int)) τ2 (fun _ τ' => agr hFC τ τ' ∧ HM (τ'.1 2135) (fun g h => g < lsG s ∧ h < lsG s ∧ hgP Ms s g h)) := by
          intro k2
          induction k2 with
          | zero =>
            intro h f2 τ2 hh hf2 hA2 hH2
            obtain ⟨f2', rfl⟩ : ∃ f2', f2 = f2' + 1 := ⟨f2 - 1, by omega⟩
            have hM2 := hM.fr hd (agr.sub hA2 (fun a i h => dT_hFC h))
            have go : wp (X15_findHangs_288 (X15_findHangs_252 f') (X15_findHangs_278 (X15_findHangs_252 f') f2') 4 (g : Int) (kdS Ms s g : Int) (h : Int)) τ2 (fun _ τ' => agr hFC τ τ' ∧ HM (τ'.1 2135) (fun g h => g < lsG s ∧ h < lsG s ∧ hgP Ms s g h)) := by
              rw [X15_findHangs_288, wp_bd, RI_2115 (by decide) (by decide), toN4, hM2.1.1.1, wp_ifp (by omega)]
              refine nxt τ2 hA2 (hH2.cong (fun a b _ _ => ?_))
              constructor
              · rintro ⟨q1, q2, q3⟩
                refine ⟨q1, fun z => ?_⟩
                by_cases e : b = g
                · exact q3 ⟨e, by have := q1.1; omega⟩
                · exact q2 ⟨by omega, z.2⟩
              · rintro ⟨q1, q2⟩
                refine ⟨q1, fun z => q2 ⟨by omega, z.2⟩, fun z => q2 ⟨by omega, ?_⟩⟩
                rw [z.1]; exact cs
            rw [X15_findHangs_278]
            rcases cs with c | c
            · rw [wp_ifp (by omega)]; exact go
            · rw [wp_ifn (by omega), wp_ifp (by omega)]; exact go
          | succ k2 ih2 =>
            intro h f2 τ2 hh hf2 hA2 hH2
            obtain ⟨f2', rfl⟩ : ∃ f2', f2 = f2' + 1 := ⟨f2 - 1, by omega⟩
            have hM2 := hM.fr hd (agr.sub hA2 (fun a i h => dT_hFC h))
            have e2 : ∀ _ : Unit, w32 (w32 (200 * (h : Int)) + (g : Int)) = ((200 * h + g : Nat) : Int) := fun _ => by rw [w32_i (x := 200 * (h : Int)) (by omega) (by omega), w32_i (by omega) (by omega)]; omega
            have go : wp (X15_findHangs_288 (X15_findHangs_252 f') (X15_findHangs_278 (X15_findHangs_252 f') f2') 4 (g : Int) (kdS Ms s g : Int) (h : Int)) τ2 (fun _ τ' => agr hFC τ τ' ∧ HM (τ'.1 2135) (fun g h => g < lsG s ∧ h < lsG s ∧ hgP Ms s g h)) := by
              rw [X15_findHangs_288, wp_bd, RI_2115 (by decide) (by decide), toN4, hM2.1.1.1, wp_ifn (by omega), wp_bd, e2 (), RV_2135 (by omega) (by omega) (by decide) (by decide), tn, wp_lt, w32_i (by omega) (by omega), show (h : Int) + 1 = ((h + 1 : Nat) : Int) by omega]
              refine ih2 (h + 1) f2' _ (by omega) (by omega) (hA2.w (fun k hk => absurd (Or.inl rfl) hk)) (fun a b ha hbb => ?_)
              dsimp only
              rw [stA_eq]
              by_cases e : 200 * a + b = 200 * h + g
              · have : a = h ∧ b = g := by omega
                rw [e, ups_eq]
                exact ⟨fun q => absurd ⟨this.2, by omega⟩ q.2.2, fun _ => rfl⟩
              · rw [ups_ne e]
                have := hH2 a b ha hbb
                refine ⟨fun q => this.1 ⟨q.1, q.2.1, fun z => q.2.2 ⟨z.1, by omega⟩⟩, fun q => this.2 (fun z => q ⟨z.1, z.2.1, fun y => ?_⟩)⟩
                by_cases ea : a = h
                · exact e (by rw [ea, y.1])
                · exact z.2.2 ⟨y.1, by omega⟩
            rw [X15_findHangs_278]
            rcases cs with c | c
            · rw [wp_ifp (by omega)]; exact go
            · rw [wp_ifn (by omega), wp_ifp (by omega)]; exact go
        refine row (lsG s) 0 FU τ1 (by omega) (by omega) hA (hH.cong (fun a b _ _ => ⟨fun q => ⟨q.1, q.2, fun z => by omega⟩, fun q => ⟨q.1, q.2.1⟩⟩))
      · obtain ⟨F', hF'⟩ : ∃ F', FU = F' + 1 := ⟨FU - 1, by omega⟩
        have cs' : ¬ (kdS Ms s g = 3 ∨ kdS Ms s g = 4) := cs
        rw [hF', X15_findHangs_278, wp_ifn (by omega), wp_ifn (by omega)]
        refine nxt τ1 hA (hH.cong (fun a b _ _ => ⟨fun q => ⟨q.1, fun z => ?_⟩, fun q => ⟨q.1, fun z => q.2 ⟨by omega, z.2⟩⟩⟩))
        by_cases e : b = g
        · subst e; exact cs z.2
        · exact q.2 ⟨by omega, z.2⟩
  -- the signals
  have key : ∀ k g f τ1, g + k = lsG s → k < f → agr hFC τ τ1 → HM (τ1.1 2135) (fun a b => a < g ∧ ¬ stG Ms s a ∧ hgT Ms s a b (conL Ms s a)) → wp (X15_findHangs_25 f 4 (g : Int)) τ1 (fun _ τ' => agr hFC τ τ' ∧ HM (τ'.1 2135) (fun g h => g < lsG s ∧ h < lsG s ∧ hgP Ms s g h)) := by
    intro k
    induction k with
    | zero =>
      intro g f τ1 hg hf hA hH
      obtain ⟨f', rfl⟩ : ∃ f', f = f' + 1 := ⟨f - 1, by omega⟩
      have hM1 := hM.fr hd (agr.sub hA (fun a i h => dT_hFC h))
      rw [X15_findHangs_25, wp_bd, RI_2115 (by decide) (by decide), toN4, hM1.1.1.1, wp_ifp (by omega), X15_findHangs_250, wp_lt]
      refine clear (lsG s) 0 FU τ1 (by omega) (by omega) hA (hH.cong (fun a b _ _ => ⟨fun q => ⟨⟨by omega, q.2⟩, fun z => by omega⟩, fun q => ⟨by omega, q.1.2⟩⟩))
    | succ k ih =>
      intro g f τ1 hg hf hA hH
      obtain ⟨f', rfl⟩ : ∃ f', f = f' + 1 := ⟨f - 1, by omega⟩
      have hM1 := hM.fr hd (agr.sub hA (fun a i h => dT_hFC h))
      have hgl : g < lsG s := by omega
      obtain ⟨a1, a2, a3, a4, -⟩ := hd.sig hgl
      have e1 : ∀ _ : Unit, w32 (w32 (200 * 4) + (g : Int)) = ((200 * 4 + g : Nat) : Int) := fun _ => by rw [w32_i (x := 200 * 4) (by decide) (by decide), w32_i (by omega) (by omega)]; omega
      have nxt : ∀ τ2, agr hFC τ τ2 → HM (τ2.1 2135) (fun a b => a < g + 1 ∧ ¬ stG Ms s a ∧ hgT Ms s a b (conL Ms s a)) → wp (X15_findHangs_244 (X15_findHangs_25 f') 4 (g : Int)) τ2 (fun _ τ' => agr hFC τ τ' ∧ HM (τ'.1 2135) (fun g h => g < lsG s ∧ h < lsG s ∧ hgP Ms s g h)) := by
        intro τ2 hA2 hH2
        rw [X15_findHangs_244, wp_lt, w32_i (by omega) (by omega), show (g : Int) + 1 = ((g + 1 : Nat) : Int) by omega]
        exact ih (g + 1) f' τ2 (by omega) (by omega) hA2 hH2
      have skip : (stG Ms s g ∨ tiG Ms s g) → HM (τ1.1 2135) (fun a b => a < g + 1 ∧ ¬ stG Ms s a ∧ hgT Ms s a b (conL Ms s a)) := by
        intro hno
        refine hH.cong (fun a b _ _ => ⟨fun q => ⟨by omega, q.2⟩, fun q => ⟨?_, q.2⟩⟩)
        by_cases e : a = g
        · subst e
          rcases hno with h | h
          · exact absurd h q.2.1
          · obtain ⟨c, hc, -⟩ := q.2.2
            rw [conL_ti h] at hc; cases hc
        · omega
      rw [X15_findHangs_25, wp_bd, RI_2115 (by decide) (by decide), toN4, hM1.1.1.1, wp_ifn (by omega), wp_bd, e1 (), RI_2122 (by omega) (by omega), tn, (hM1.1.2.2.2 g hgl).2.1.1, wp_lt]
      by_cases k3 : kdS Ms s g = 3
      · rw [wp_ifp (by omega)]; exact nxt τ1 hA (skip (Or.inl (Or.inl k3)))
      · rw [wp_ifn (by omega)]
        by_cases k4 : kdS Ms s g = 4
        · rw [wp_ifp (by omega)]; exact nxt τ1 hA (skip (Or.inl (Or.inr k4)))
        · have hns : ¬ stG Ms s g := by unfold stG; omega
          have go : ¬ tiG Ms s g → wp (X15_findHangs_80 (X15_findHangs_25 f') 4 (g : Int)) τ1 (fun _ τ' => agr hFC τ τ' ∧ HM (τ'.1 2135) (fun g h => g < lsG s ∧ h < lsG s ∧ hgP Ms s g h)) := by
            intro hnt
            obtain ⟨z1, z2, -⟩ := hd.co hgl hnt
            obtain ⟨hm, ok⟩ := hd.inst z1
            have q120 : mdQ (moI Ms s (coI Ms s g)) ≤ 120 := ok.1.2.2.2.2.2
            rw [X15_findHangs_80, wp_bd, show (4 : Int) = ((4 : Nat) : Int) from rfl]
            refine m_conn hd hM1 (by decide) hgl hnt (fun τ2 hA2 t1 t2 t3 => ?_)
            have hA2' : agr hFC τ τ2 := hA.trans (agr.sub hA2 (fun a i h => by unfold hFC at h; unfold cF; omega))
            have hH2 : HM (τ2.1 2135) (fun a b => a < g ∧ ¬ stG Ms s a ∧ hgT Ms s a b (conL Ms s a)) := by rw [hA2.row (a := 2135) (fun i => by unfold cF; omega)]; exact hH
            have hM2 := hM.fr hd (agr.sub hA2' (fun a i h => dT_hFC h))
            rw [wp_bd, bgI0 t1, wp_bd, m_store hd hM2 (by decide) z1, wp_lt, wp_bd, bgI0 t1, wp_lt, wp_bd, bgI0 t2, wp_lt, wp_bd, bgI0 t3, wp_lt, wp_lt, show ((4 : Nat) : Int) = 4 from rfl, w32_i (by omega) (by omega), show 200 * (((12 * 4 + lsM s (coI Ms s g) : Nat)) : Int) = ((200 * (12 * 4 + lsM s (coI Ms s g)) : Nat) : Int) by omega]
            have stm : ∀ k2 j f2 τ3, j + k2 = mdQ (moI Ms s (coI Ms s g)) → k2 < f2 → agr hFC τ τ3 → HM (τ3.1 2135) (fun a b => (a < g ∧ ¬ stG Ms s a ∧ hgT Ms s a b (conL Ms s a)) ∨ (a = g ∧ hgT Ms s g b (conK Ms s g j))) → wp (X15_findHangs_122 (X15_findHangs_25 f') f2 4 (g : Int) ((200 * (12 * 4 + lsM s (coI Ms s g)) : Nat) : Int) (coI Ms s g : Int) (coT Ms s g : Int) (coP Ms s g) (j : Int)) τ3 (fun _ τ' => agr hFC τ τ' ∧ HM (τ'.1 2135) (fun g h => g < lsG s ∧ h < lsG s ∧ hgP Ms s g h)) := by
              intro k2
              induction k2 with
              | zero =>
                intro j f2 τ3 hj hf2 hA3 hH3
                obtain ⟨f2', rfl⟩ : ∃ f2', f2 = f2' + 1 := ⟨f2 - 1, by omega⟩
                have hM3 := hM.fr hd (agr.sub hA3 (fun a i h => dT_hFC h))
                rw [X15_findHangs_122, wp_bd, show (4 : Int) = ((4 : Nat) : Int) from rfl, m_store hd hM3 (by decide) z1, wp_bd, RI_2080 (by omega) (by omega), tn, (hM3.2 _ hm).1.2.2]
                rw [wp_ifp (show (mdQ (Ms (lsM s (coI Ms s g))) : Int) ≤ (j : Int) by have : mdQ (Ms (lsM s (coI Ms s g))) = mdQ (moI Ms s (coI Ms s g)) := rfl; omega)]
                refine nxt τ3 hA3 (hH3.cong (fun a b _ _ => ?_))
                rw [show j = mdQ (moI Ms s (coI Ms s g)) by omega, hd.conK_all hgl]
                constructor
                · rintro (⟨q1, q2⟩ | ⟨q1, q2⟩)
                  · exact ⟨by omega, q2⟩
                  · subst q1; exact ⟨by omega, hns, q2⟩
                · rintro ⟨q1, q2, q3⟩
                  by_cases e : a = g
                  · subst e; exact Or.inr ⟨rfl, q3⟩
                  · exact Or.inl ⟨by omega, q2, q3⟩
              | succ k2 ih2 =>
                intro j f2 τ3 hj hf2 hA3 hH3
                obtain ⟨f2', rfl⟩ : ∃ f2', f2 = f2' + 1 := ⟨f2 - 1, by omega⟩
                have hM3 := hM.fr hd (agr.sub hA3 (fun a i h => dT_hFC h))
                have hjl : j < mdQ (moI Ms s (coI Ms s g)) := by omega
                have eJ : ∀ _ : Unit, w32 (((200 * (12 * 4 + lsM s (coI Ms s g)) : Nat) : Int) + (j : Int)) = ((200 * (12 * 4 + lsM s (coI Ms s g)) + j : Nat) : Int) := fun _ => by rw [w32_i (by omega) (by omega)]; omega
                have nxt2 : ∀ τ4, agr hFC τ τ4 → HM (τ4.1 2135) (fun a b => (a < g ∧ ¬ stG Ms s a ∧ hgT Ms s a b (conL Ms s a)) ∨ (a = g ∧ hgT Ms s g b (conK Ms s g (j + 1)))) → wp (X15_findHangs_238 (X15_findHangs_25 f') (X15_findHangs_122 (X15_findHangs_25 f') f2') 4 (g : Int) ((200 * (12 * 4 + lsM s (coI Ms s g)) : Nat) : Int) (coI Ms s g : Int) (coT Ms s g : Int) (coP Ms s g) (j : Int)) τ4 (fun _ τ' => agr hFC τ τ' ∧ HM (τ'.1 2135) (fun g h => g < lsG s ∧ h < lsG s ∧ hgP Ms s g h)) := by
                  intro τ4 hA4 hH4
                  rw [X15_findHangs_238, wp_lt, w32_i (by omega) (by omega), show (j : Int) + 1 = ((j + 1 : Nat) : Int) by omega]
                  exact ih2 (j + 1) f2' τ4 (by omega) (by omega) hA4 hH4
                rw [X15_findHangs_122, wp_bd, show (4 : Int) = ((4 : Nat) : Int) from rfl, m_store hd hM3 (by decide) z1, wp_bd, RI_2080 (by omega) (by omega), tn, (hM3.2 _ hm).1.2.2, show ((4 : Nat) : Int) = 4 from rfl]
                rw [wp_ifn (show ¬ (mdQ (Ms (lsM s (coI Ms s g))) : Int) ≤ (j : Int) by have : mdQ (Ms (lsM s (coI Ms s g))) = mdQ (moI Ms s (coI Ms s g)) := rfl; omega), wp_bd, eJ (), RI_2094 (by omega) (by omega), tn]
                rcases hd.stK hM3 hgl hnt hjl with ⟨c, c1, c2, ⟨c3, c4⟩, c5⟩ | ⟨c3, c5⟩
                · obtain ⟨y1, y2, y3, y4, -⟩ := hd.conL_mem hgl c1
                  obtain ⟨-, -, -, m97, mcr⟩ := (hM3.2 _ hm).2.2.2.1 c y3
                  have m97' : τ3.1 2097 (200 * (12 * 4 + lsM s (coI Ms s g)) + mdSt (moI Ms s (coI Ms s g)) c) = (mdVl (moI Ms s (coI Ms s g)) c : Int) := m97
                  have mcr' : crT (fun k => τ3.1 2097 (200 * (12 * 4 + lsM s (coI Ms s g)) + k)) (fun k => τ3.1 2098 (200 * (12 * 4 + lsM s (coI Ms s g)) + k)) (fun k => τ3.1 2099 (200 * (12 * 4 + lsM s (coI Ms s g)) + k)) (mdSt (moI Ms s (coI Ms s g)) c) (τ3.1 2098 (200 * (12 * 4 + lsM s (coI Ms s g)) + mdSt (moI Ms s (coI Ms s g)) c)) (τ3.1 2099 (200 * (12 * 4 + lsM s (coI Ms s g)) + mdSt (moI Ms s (coI Ms s g)) c)) (mdCh (moI Ms s (coI Ms s g)) c) := mcr
                  rw [c2] at m97' mcr'
                  have hroot := hd.root y2 y3
                  have n240 : mdN (moI Ms s (coI Ms s g)) ≤ 240 := ok.1.2.1
                  rw [c3, wp_ifp rfl, wp_bd, RI_2095 (by omega) (by omega), tn, c4, wp_ifp rfl, wp_bd, RI_2097 (by omega) (by omega), tn, m97', wp_bd]
                  refine wp_mono (readsM hd hM3 hgl y2 _ 310 τ3 _ hroot (by omega) agr.refl hH3) ?_
                  rintro _ τ4 ⟨hA4, hH4⟩
                  have hA4' : agr hFC τ τ4 := hA3.trans (agr.sub hA4 (fun a i h => by unfold hFC at h; unfold hFM; omega))
                  have hA34 : agr hFC τ3 τ4 := agr.sub hA4 (fun a i h => by unfold hFC at h; unfold hFM; omega)
                  rw [wp_bd, RI_2098 (by omega) (by omega), tn, (hA34 2098 _ (by unfold hFC; omega)).1, wp_lt]
                  refine hangWM hd hM3 hgl y2 (mdCh (moI Ms s (coI Ms s g)) c) j _ _ FU τ4 _ (by omega) (by have := (ok.2.2.2.2.1 c y3).2.1; omega) (hN _ _ y2 y3) mcr' hA34 hH4 (fun τ5 hA5 hH5 => nxt2 τ5 (hA3.trans hA5) (hH5.cong (fun a b _ _ => ?_)))
                  rw [c5]
                  constructor
                  · rintro (((h | ⟨h1, c', h3, h4⟩) | ⟨h1, h2⟩) | ⟨h1, h2⟩)
                    · exact Or.inl h
                    · exact Or.inr ⟨h1, c', List.mem_append.mpr (Or.inl h3), h4⟩
                    · exact Or.inr ⟨h1, c, List.mem_append.mpr (Or.inr List.mem_cons_self), Or.inl h2⟩
                    · exact Or.inr ⟨h1, c, List.mem_append.mpr (Or.inr List.mem_cons_self), Or.inr h2⟩
                  · rintro (h | ⟨h1, c', h3, h4⟩)
                    · exact Or.inl (Or.inl (Or.inl h))
                    · rcases List.mem_append.mp h3 with e | e
                      · exact Or.inl (Or.inl (Or.inr ⟨h1, c', e, h4⟩))
                      · rcases List.mem_cons.mp e with e | e
                        · subst e
                          rcases h4 with h4 | h4
                          · exact Or.inl (Or.inr ⟨h1, h4⟩)
                          · exact Or.inr ⟨h1, h4⟩
                        · cases e
                · rw [← c5] at hH3
                  by_cases d1 : τ3.1 2094 (200 * (12 * 4 + lsM s (coI Ms s g)) + j) = (coT Ms s g : Int)
                  · rw [wp_ifp d1, wp_bd, RI_2095 (by omega) (by omega), tn, wp_ifn (fun h => c3 ⟨d1, h⟩)]
                    exact nxt2 τ3 hA3 hH3
                  · rw [wp_ifn d1]
                    exact nxt2 τ3 hA3 hH3
            refine stm (mdQ (moI Ms s (coI Ms s g))) 0 FU τ2 (by omega) (by omega) hA2' (hH2.cong (fun a b _ _ => ⟨Or.inl, fun h => ?_⟩))
            rcases h with h | ⟨-, c, hc, -⟩
            · exact h
            · rw [conK_0] at hc; cases hc
          rw [wp_ifn (by omega)]
          by_cases k0 : kdS Ms s g = 0
          · rw [wp_ifp (by omega), wp_bd, RI_2125 (by omega) (by omega), tn, (hM1.1.2.2.2 g hgl).2.2.1]
            by_cases i0 : lsi s g = 0
            · rw [wp_ifp (by omega)]; exact nxt τ1 hA (skip (Or.inr ⟨i0, k0⟩))
            · rw [wp_ifn (by omega)]; exact go (fun h => i0 h.1)
          · rw [wp_ifn (by omega)]; exact go (fun h => k0 h.2)
  have zero : ∀ k j f τ1, j + k = 40000 → k < f → agr hFC τ τ1 → (∀ x, x < j → τ1.1 2135 x = 0) → wp (X15_findHangs_4 f 4 (j : Int)) τ1 (fun _ τ' => agr hFC τ τ' ∧ HM (τ'.1 2135) (fun g h => g < lsG s ∧ h < lsG s ∧ hgP Ms s g h)) := by
    intro k
    induction k with
    | zero =>
      intro j f τ1 hj hf hA h0
      obtain ⟨f', rfl⟩ : ∃ f', f = f' + 1 := ⟨f - 1, by omega⟩
      rw [X15_findHangs_4, wp_ifp (by omega), X15_findHangs_23, wp_lt]
      refine key (lsG s) 0 FU τ1 (by omega) (by omega) hA (fun g h hg hh => ⟨fun q => by omega, fun _ => h0 _ (by omega)⟩)
    | succ k ih =>
      intro j f τ1 hj hf hA h0
      obtain ⟨f', rfl⟩ : ∃ f', f = f' + 1 := ⟨f - 1, by omega⟩
      rw [X15_findHangs_4, wp_ifn (by omega), wp_bd, RV_2135 (by omega) (by omega) (by decide) (by decide), tn, wp_lt, w32_i (by omega) (by omega), show (j : Int) + 1 = ((j + 1 : Nat) : Int) by omega]
      refine ih (j + 1) f' _ (by omega) (by omega) (hA.w (fun k hk => absurd (Or.inl rfl) hk)) (fun x hx => ?_)
      dsimp only
      rw [stA_eq]
      by_cases e : x = j
      · subst e; rw [ups_eq]
      · rw [ups_ne e]; exact h0 x (by omega)
  rw [F_X15_findHangs, wp_lt, wp_lt]
  exact zero 40000 0 FU τ (by omega) (by omega) agr.refl (fun x hx => absurd hx (Nat.not_lt_zero x))
end
