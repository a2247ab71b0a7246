set_option maxRecDepth 100000
set_option maxHeartbeats 400000
/-! ===== bits: the component makes a signal ===== -/
section
variable {Ms : Nat → ModV} {top : Nat} {s : LYS} {r : Nat → Nat} {K K' R : Nat} {σ σ' : St} {st : BST} {o n : Nat} {A : Nat → Prop} {mk : Nat → BST → BST} {mkp : Int → St → Option ((Unit ⊕ XV) × St)}
theorem MKX.mono (h : MKX Ms top s o n r K mkp mk) (hk : K' ≤ K) : MKX Ms top s o n r K' mkp mk := fun x hx hs hr => h x hx hs (by omega)
theorem PMK.mono (h : PMK Ms s r K mk) (hk : K' ≤ K) : PMK Ms s r K' mk := ⟨h.1, h.2.1, h.2.2.1, fun x st hr => h.2.2.2 x st (by omega)⟩
/-- what a signal's connections read has a lesser rank -/
theorem rdG_of (hd : DP Ms top s) (hch : chOK Ms s) (hr : ∀ x t, x < lsG s → t < lsG s → hgG Ms s x t → r t < r x) {g : Nat} (hg : g < lsG s) (hs : ¬ stG Ms s g) {A : Nat → Prop} (hA : ∀ a, A a → r g ≤ r a) : rdGs Ms s r (r g) A g := by
  intro c hc
  obtain ⟨z1, z2, z3, -⟩ := hd.conL_mem hg hc
  have one : ∀ u, rootM (moI Ms s (coI Ms s g)) u → (∀ h, ¬ stG Ms s h → rdE Ms s (coI Ms s g) u h → hgP Ms s g h) → rdK Ms s r (r g) A (coI Ms s g) u := by
    intro u hu hp h hrd hh hsh
    have hlt := hr g h hg hh ⟨hg, hh, hp h hsh hrd⟩
    exact ⟨hlt, fun a ha => by have := hA a ha; omega, fun q h1 h2 => sepR hd hch hr z2 hu hh hsh hrd h1 h2⟩
  refine ⟨one _ ⟨c, z3, Or.inl rfl⟩ (fun h hsh hrd => ⟨hs, hsh, c, hc, Or.inl hrd⟩), fun q hq => one _ ⟨c, z3, Or.inr (Or.inr ⟨q, hq, rfl⟩)⟩ (fun h hsh hrd => ⟨hs, hsh, c, hc, Or.inr ⟨q, hq, hrd⟩⟩)⟩
/-- at the top everything may be read -/
theorem rdG_top (hd : DP Ms top s) (hch : chOK Ms s) (hr : ∀ x t, x < lsG s → t < lsG s → hgG Ms s x t → r t < r x) (hK : ∀ g, r g < K) {g : Nat} (hg : g < lsG s) : rdGs Ms s r K (fun _ => False) g := by
  intro c hc
  obtain ⟨z1, z2, z3, -⟩ := hd.conL_mem hg hc
  have one : ∀ u, rootM (moI Ms s (coI Ms s g)) u → rdK Ms s r K (fun _ => False) (coI Ms s g) u := fun u hu h hrd hh hsh => ⟨hK h, fun a ha => ha.elim, fun q h1 h2 => sepR hd hch hr z2 hu hh hsh hrd h1 h2⟩
  exact ⟨one _ ⟨c, z3, Or.inl rfl⟩, fun q hq => one _ ⟨c, z3, Or.inr (Or.inr ⟨q, hq, rfl⟩)⟩⟩
theorem makeSX (hd : DP Ms top s) (hch : chOK Ms s) (hD : isD o) (hn : isN n) (hlim : limOK Ms s) (hr : ∀ x t, x < lsG s → t < lsG s → hgG Ms s x t → r t < r x) {fd : Int → Nat → Int → Int → St → Option ((Unit ⊕ XV) × St)} {wh : Int → Nat → Int → St → Option ((Int ⊕ XV) × St)} (hf : ∀ K, K ≤ R → FDX Ms top s o n r K fd (mkB Ms s R)) (hw : ∀ K, K ≤ R → WHX Ms top s o n r K wh (mkB Ms s R)) : MKX Ms top s o n r (R + 1) (fun a1 => F_X3_make_2 (fun c1 c2 c3 => F_X3_connect fd wh c1 c2 c3) a1) (mkB Ms s (R + 1)) := by
  intro h hh hs hrk A st σ hA hB Q E hQ hE
  have hF := FU_ge
  have h200 := hd.2.1.2
  have hN := isN_le hn
  obtain ⟨hS, hx, hwf, hb⟩ := id hB
  have w32' := (hd.sig hh).2.2.2.2.1
  have hlt := lfS_top hd hlim hh hs
  show wpE (F_X3_make_2 (fun c1 c2 c3 => F_X3_connect fd wh c1 c2 c3) (h : Int)) σ Q E
  by_cases c : st.2.1 h = true
  · rw [mkB_y c] at hQ
    have e41 : σ.1 41 h = 1 := by rw [(hb h hh hs).1, if_pos c]
    rw [F_X3_make_2, wpE_bd, RI_41 (by omega) (by omega), tn, e41, wpE_ifn (by decide), wpE_lE, wp_rt]
    exact hQ σ hB agr.refl FN.refl K42.refl
  · have e41 : σ.1 41 h = 0 := by rw [(hb h hh hs).1, if_neg c]
    have hpm := (PMK_of (r := r) (R := R) hd hch).mono (show r h ≤ R by omega)
    have hgo := mkB_go hd hch (R + 1) h st hh hwf
    rw [mkB_n c] at hQ hE hgo
    rw [F_X3_make_2, wpE_bd, RI_41 (by omega) (by omega), tn, e41, wpE_ifp rfl, wpE_bd, RV_41 (by omega) (by omega) (by decide) (by decide), tn, wpE_lt]
    refine lpNE (w := wdS Ms s h) (L := fun f j => X3_make_2_19 (fun c1 c2 c3 => F_X3_connect fd wh c1 c2 c3) f (h : Int) (j : Int)) (I := fun j τ => mkX τ 38 n (inbS Ms s (lsG s)) (keptS Ms s (lsG s)) st.1 ∧ agr (bG n) σ τ ∧ τ.1 41 = ups (σ.1 41) h 1 ∧ CE (σ.1 42) (τ.1 42) (lfS Ms s h) (wdS Ms s h) j (fun _ => 0) ∧ τ.1 45 = σ.1 45) ?_ ?_ (show wdS Ms s h < FU by omega) ⟨hx.w hn (by omega), ?_, ?_, ?_, ?_⟩
    · rintro f j τ hj ⟨k1, k2, k3, k4, k5⟩ ih
      show wpE (X3_make_2_19 (fun c1 c2 c3 => F_X3_connect fd wh c1 c2 c3) (f + 1) (h : Int) (j : Int)) τ Q E
      have hS1 := hS.frG hd hD hn k2
      rw [X3_make_2_19, wpE_bd, wp_gQ, hS1.2.2.2.1, wpE_nn, wpE_ck, and_t (ly_D hD), wpE_bd, x_width hd hD hS1.1 hh, wpE_ifn (by omega), wpE_bd, RI_40 (by omega) (by omega), tn, hS1.2.2.2.2.1 h hh, wpE_bd, wN (by omega), RV_42 (by omega) (by omega), tn, wpE_lt, wN1 (by omega)]
      refine ih _ ⟨k1.w hn (by omega), k2.w (fun k hk => ?_), ?_, ?_, ?_⟩
      · exfalso; unfold bG at hk; omega
      · dsimp only; rw [stA_ne (by decide)]; exact k3
      · dsimp only; rw [stA_eq]; exact k4.up' (o := fun _ => 0) hj
      · dsimp only; rw [stA_ne (by decide)]; exact k5
    · rintro f τ ⟨k1, k2, k3, k4, k5⟩
      show wpE (X3_make_2_19 (fun c1 c2 c3 => F_X3_connect fd wh c1 c2 c3) (f + 1) (h : Int) (wdS Ms s h : Int)) τ Q E
      have hS1 := hS.frG hd hD hn k2
      rw [X3_make_2_19, wpE_bd, wp_gQ, hS1.2.2.2.1, wpE_nn, wpE_ck, and_t (ly_D hD), wpE_bd, x_width hd hD hS1.1 hh, wpE_ifp (by omega), X3_make_2_51, wpE_bd, RI_40 (by omega) (by omega), tn, hS1.2.2.2.2.1 h hh, wpE_end]
      have c42 : ∀ x, x < lsG s → ¬ stG Ms s x → x ≠ h → ∀ j, j < wdS Ms s x → τ.1 42 (lfS Ms s x + j) = σ.1 42 (lfS Ms s x + j) := fun x hx' hsx hxh j hj => k4.1 _ (by
        rcases Nat.lt_or_ge (lfS Ms s x + j) (lfS Ms s h) with c | c
        · exact Or.inl c
        · refine Or.inr ?_
          rcases Nat.lt_or_ge (lfS Ms s x + j) (lfS Ms s h + wdS Ms s h) with d | d
          · exfalso
            exact lfS_ne (Ms := Ms) (s := s) (a := j) (b := lfS Ms s x + j - lfS Ms s h) hxh hsx hs hj (by omega) (by omega)
          · exact d)
      have hB1 : BXr Ms top s o n (fun a => A a ∨ a = h) (st.1, ups st.2.1 h true, st.2.2) τ := by
        refine ⟨hS1, k1, hwf, fun x hx' hsx => ?_⟩
        obtain ⟨d1, d2⟩ := hb x hx' hsx
        rw [k3]
        by_cases e : x = h
        · subst e
          rw [ups_eq]
          refine ⟨?_, fun _ h2 => absurd (Or.inr rfl) h2⟩
          show (1 : Int) = if ups st.2.1 x true x = true then 1 else 0
          rw [ups_eq]; rfl
        · rw [ups_ne e]
          refine ⟨?_, fun m1 m2 j hj => ?_⟩
          · show _ = if ups st.2.1 h true x = true then _ else _
            rw [ups_ne e]; exact d1
          · have m1' : ups st.2.1 h true x = true := m1
            rw [ups_ne e] at m1'
            rw [c42 x hx' hsx e j hj]
            exact d2 m1' (fun q => m2 (Or.inl q)) j hj
      refine connBX (rc := 42) (at' := lfS Ms s h) hd hch hD hn hlim hpm (hf (r h) (by omega)) (hw (r h) (by omega)) hh hB1 (Or.inl ⟨rfl, rfl, hs, ups_eq, Or.inr rfl⟩) (x0 := fun _ => 0) k4.2 (fun _ _ => ltB0) (rdG_of hd hch hr hh hs (fun a ha => ?_)) (fun τ2 d1 d2 d3 d4 d5 d6 => ?_) (fun τ2 d1 d2 => hE τ2 d1 (k2.trans (agr.sub d2 (fun a k q => ⟨q, by unfold bG at q; omega⟩))))
      · rcases ha with q | q
        · have := hA a q; omega
        · subst q; exact Nat.le_refl _
      · generalize hy : csB Ms s (mkB Ms s R) h (conL Ms s h) (fun _ => 0, st.1, ups st.2.1 h true, st.2.2) = y at *
        have hky : kpBs (st.1, ups st.2.1 h true, st.2.2) y.2 := by
          rw [← hy]
          exact csB_ind (P := kpBs) (fun _ _ _ => kpBs.trans) (fun _ => kpBs.refl) (fun _ _ _ => kpBs.net) hpm.2.1 (Ms := Ms) (s := s) (g := h) (conL Ms s h) (fun _ => 0, st.1, ups st.2.1 h true, st.2.2)
        obtain ⟨p1, p2, p3, p4⟩ := d1
        refine hQ τ2 ⟨p1, p2, hgo.2, fun x hx' hsx => ?_⟩ (k2.trans (agr.sub d2 (fun a k q => ⟨q, fun e => by exfalso; unfold bG at q; omega⟩))) ?_ (fun x hx' hsx hmx j hj => ?_)
        · obtain ⟨q1, q2⟩ := p4 x hx' hsx
          refine ⟨q1, fun m1 m2 j hj => ?_⟩
          show _ = ((ups (α := Nat → Nat) y.2.2.2 h y.1 x j : Nat) : Int)
          by_cases e : x = h
          · subst e
            rw [ups_eq]
            exact d6 j hj
          · rw [ups_ne e]
            exact q2 m1 (fun q => by rcases q with q | q; exact m2 q; exact e q) j hj
        · refine (FN.of k5).trans (d3.mono (fun i' n' q => ?_))
          rcases q with ⟨rfl, c', h1, h2⟩ | q
          · exact ⟨h, c', hh, hs, Nat.lt_succ_self _, h1, rfl, h2⟩
          · exact q.mono (by omega)
        · have e : x ≠ h := fun e => c (by rw [← e]; exact hmx)
          rw [d4 x hx' hsx (fun _ => e) (by show ups st.2.1 h true x = true; rw [ups_ne e]; exact hmx) j hj]
          exact c42 x hx' hsx e j hj
    · refine agr.refl.w (fun k hk => ?_)
      exfalso; unfold bG at hk; omega
    · dsimp only; rw [stA_eq]
    · dsimp only; rw [stA_ne (by decide)]; exact CE.init
    · dsimp only; rw [stA_ne (by decide)]
theorem G_X3_mk (k : Nat) : (G_X3_connect (k + 1)).2.2.1 = fun a1 => F_X3_make_2 (G_X3_connect k).1 a1 := by rw [G_X3_connect]
theorem G_X3_cn (k : Nat) : (G_X3_connect (k + 1)).1 = fun a1 a2 a3 => F_X3_connect (G_X3_connect k).2.1 (G_X3_connect k).2.2.2.2.2 a1 a2 a3 := by rw [G_X3_connect]
theorem G_X3_fd (k : Nat) : (G_X3_connect (k + 1)).2.1 = fun a1 a2 a3 a4 => F_X3_find (G_X3_connect k).2.2.2.1 a1 a2 a3 a4 := by rw [G_X3_connect]
theorem G_X3_nd (k : Nat) : (G_X3_connect (k + 1)).2.2.2.1 = fun a1 a2 a3 => F_X3_node (G_X3_connect k).2.2.2.2.1 a1 a2 a3 := by rw [G_X3_connect]
theorem G_X3_rd (k : Nat) : (G_X3_connect (k + 1)).2.2.2.2.1 = fun a1 a2 a3 => F_X3_read (G_X3_connect k).2.2.1 a1 a2 a3 := by rw [G_X3_connect]
theorem G_X3_wh (k : Nat) : (G_X3_connect (k + 1)).2.2.2.2.2 = fun a1 a2 a3 => F_X3_whens (G_X3_connect k).2.1 a1 a2 a3 := by rw [G_X3_connect]
/-- expressions and whens, by how signals are made -/
theorem FDX_G (hd : DP Ms top s) (hD : isD o) (hn : isN n) (hlim : limOK Ms s) {k : Nat} (hmk : MKX Ms top s o n r K (G_X3_connect k).2.2.1 mk) (hp : PMK Ms s r K mk) : FDX Ms top s o n r K (G_X3_connect (k + 3)).2.1 mk := by
  rw [G_X3_fd, G_X3_nd, G_X3_rd]
  exact findBX hd hD hn hlim hmk hp
theorem WHX_G (hd : DP Ms top s) (hD : isD o) (hn : isN n) (hlim : limOK Ms s) {k : Nat} (hmk : MKX Ms top s o n r K (G_X3_connect k).2.2.1 mk) (hp : PMK Ms s r K mk) : WHX Ms top s o n r K (G_X3_connect (k + 4)).2.2.2.2.2 mk := by
  rw [G_X3_wh]
  exact whensBX hd hD hn hlim hp (FDX_G hd hD hn hlim hmk hp)
theorem makeX (hd : DP Ms top s) (hch : chOK Ms s) (hD : isD o) (hn : isN n) (hlim : limOK Ms s) (hr : ∀ x t, x < lsG s → t < lsG s → hgG Ms s x t → r t < r x) : ∀ R k, 6 * R ≤ k → MKX Ms top s o n r R (G_X3_connect k).2.2.1 (mkB Ms s R)
  | 0, _, _ => fun _ _ _ h => absurd h (Nat.not_lt_zero _)
  | R + 1, k, hk => by
    obtain ⟨k', rfl⟩ : ∃ k', k = k' + 6 := ⟨k - 6, by omega⟩
    have h0 := makeX hd hch hD hn hlim hr R k' (by omega)
    have h1 := makeX hd hch hD hn hlim hr R (k' + 1) (by omega)
    have hp := PMK_of (r := r) (R := R) hd hch
    rw [show k' + 6 = (k' + 5) + 1 from rfl, G_X3_mk, show k' + 5 = (k' + 4) + 1 from rfl, G_X3_cn]
    exact makeSX hd hch hD hn hlim hr (fun K hK => FDX_G (k := k' + 1) hd hD hn hlim (h1.mono hK) (hp.mono hK)) (fun K hK => WHX_G (k := k') hd hD hn hlim (h0.mono hK) (hp.mono hK))
end
