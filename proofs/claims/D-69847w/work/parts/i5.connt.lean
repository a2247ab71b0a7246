set_option maxRecDepth 100000
set_option maxHeartbeats 400000
/-! ===== bits: the twin's connections ===== -/
section
variable {Ms : Nat → ModV} {top : Nat} {s : LYS} {r : Nat → Nat} {K S : Nat} {A : Nat → Prop} {mk : Nat → BST → BST} {σ τ : St} {g at' q : Nat} {st : BST}
/-- what a connection is made of -/
def ofC (Ms : Nat → ModV) (s : LYS) (g c u : Nat) : Prop := u = mdVl (moI Ms s (coI Ms s g)) c ∨ ∃ x, x ∈ mdCh (moI Ms s (coI Ms s g)) c ∧ u = x.1
theorem connT (hd : DP Ms top s) (hch : chOK Ms s) (hlim : limOK Ms s) (hS5 : S < 5) (hp : PMK Ms s r K mk) {bo : Int → Int → St → Option (Unit × St)} {wh : Int → Int → St → Option (Int × St)} (hf : FDT Ms top s S r K bo mk) (hw : WHT Ms top s S r K wh mk) (hg : g < lsG s) (hnt : ¬ tiG Ms s g) (hB : BTr Ms top s S A st (at' + wdS Ms s g) σ) (h112 : σ.1 2075 112 = (q : Int)) (hat : at' + 100 ≤ 200000) {x0 : Nat → Nat} (hx0 : ∀ j, j < wdS Ms s g → σ.1 2153 (at' + j) = (x0 j : Int)) (hlt0 : ltA (lvD Ms s) st.1 (wdS Ms s g) x0) (hrd : ∀ c u, c ∈ conL Ms s g → ofC Ms s g c u → rdU Ms s r K A (coI Ms s g) u ∧ roomE Ms s r (at' + wdS Ms s g) q (coI Ms s g) u) {Q : Unit → St → Prop} (hQ : ∀ τ, BTr Ms top s S A (csB Ms s mk g (conL Ms s g) (x0, st)).2 (at' + wdS Ms s g) τ → agr tG σ τ → lowT at' q σ τ → τ.1 2075 112 = (q : Int) → ltA (lvD Ms s) (csB Ms s mk g (conL Ms s g) (x0, st)).2.1 (wdS Ms s g) (csB Ms s mk g (conL Ms s g) (x0, st)).1 → (∀ j, j < wdS Ms s g → τ.1 2153 (at' + j) = ((csB Ms s mk g (conL Ms s g) (x0, st)).1 j : Int)) → Q () τ) : wp (F_X15_connectBits bo wh (coI Ms s g : Int) (coT Ms s g : Int) (coP Ms s g) (at' : Int) (wdS Ms s g : Int)) σ Q := by
  have hF := FU_ge
  have h12 := hd.1.1
  have hl : inbS Ms s (lsG s) ≤ 64 ∧ keptS Ms s (lsG s) ≤ 200 := ⟨hlim.2.2.1, hlim.1.2⟩
  obtain ⟨z1, z2, -⟩ := hd.co hg hnt
  obtain ⟨hm, ok⟩ := hd.inst z1
  obtain ⟨-, -, -, -, ⟨s5, s6⟩, -⟩ := hd.sig hg
  have q120 : mdQ (moI Ms s (coI Ms s g)) ≤ 120 := ok.1.2.2.2.2.2
  have key : ∀ k2 j f x τ, j + k2 = mdQ (moI Ms s (coI Ms s g)) → k2 < f → x = csB Ms s mk g (conK Ms s g j) (x0, st) → BTr Ms top s S A x.2 (at' + wdS Ms s g) τ → agr tG σ τ → lowT at' q σ τ → τ.1 2075 112 = (q : Int) → ltA (lvD Ms s) x.2.1 (wdS Ms s g) x.1 → (∀ j, j < wdS Ms s g → τ.1 2153 (at' + j) = (x.1 j : Int)) → wp (X15_connectBits_18 bo wh f (coI Ms s g : Int) (coT Ms s g : Int) (coP Ms s g) (at' : Int) (wdS Ms s g : Int) ((200 * (12 * S + lsM s (coI Ms s g)) : Nat) : Int) (j : Int)) τ Q := by
    intro k2
    induction k2 with
    | zero =>
      intro j f x τ hj hf' hx b1 b2 b3 b4 b5 b6
      obtain ⟨f', rfl⟩ : ∃ f', f = f' + 1 := ⟨f - 1, by omega⟩
      rw [show j = mdQ (moI Ms s (coI Ms s g)) by omega, hd.conK_all hg] at hx
      rw [X15_connectBits_18, wp_bd, wp_gI, b1.1.2.1, wp_bd, m_store hd b1.1.1 hS5 z1, wp_bd, RI_2080 (by omega) (by omega), tn, (b1.1.1.2 _ hm).1.2.2]
      rw [wp_ifp (show (mdQ (Ms (lsM s (coI Ms s g))) : Int) ≤ (j : Int) by have : mdQ (Ms (lsM s (coI Ms s g))) = mdQ (moI Ms s (coI Ms s g)) := rfl; omega), wp_rt]
      subst hx
      exact hQ τ b1 b2 b3 b4 b5 b6
    | succ k2 ih =>
      intro j f x τ hj hf' hx b1 b2 b3 b4 b5 b6
      obtain ⟨f', rfl⟩ : ∃ f', f = f' + 1 := ⟨f - 1, by omega⟩
      have hjl : j < mdQ (moI Ms s (coI Ms s g)) := by omega
      rw [X15_connectBits_18, wp_bd, wp_gI, b1.1.2.1, wp_bd, m_store hd b1.1.1 hS5 z1, wp_bd, RI_2080 (by omega) (by omega), tn, (b1.1.1.2 _ hm).1.2.2]
      rw [wp_ifn (show ¬ (mdQ (Ms (lsM s (coI Ms s g))) : Int) ≤ (j : Int) by have : mdQ (Ms (lsM s (coI Ms s g))) = mdQ (moI Ms s (coI Ms s g)) := rfl; omega), wp_bd, e200M hS5 (by omega) (by omega), RI_2094 (by omega) (by omega), tn]
      rcases hd.stK b1.1.1 hg hnt hjl with ⟨c, c1, c2, ⟨c3, c4⟩, c5⟩ | ⟨c3, c5⟩
      · obtain ⟨y1, y2, y3, y4, -⟩ := hd.conL_mem hg c1
        obtain ⟨-, -, -, m97, mcr⟩ := (b1.1.1.2 _ hm).2.2.2.1 c y3
        have m97' : τ.1 2097 (200 * (12 * S + lsM s (coI Ms s g)) + mdSt (moI Ms s (coI Ms s g)) c) = (mdVl (moI Ms s (coI Ms s g)) c : Int) := m97
        have mcr' : crS τ (200 * (12 * S + lsM s (coI Ms s g))) (mdSt (moI Ms s (coI Ms s g)) c) (mdCh (moI Ms s (coI Ms s g)) c) := mcr
        rw [c2] at m97' mcr'
        have hroot := hd.root y2 y3
        have cL : (mdCh (moI Ms s (coI Ms s g)) c).length ≤ 20 := (ok.2.2.2.2.1 c y3).2.1
        have cgo := cnB_go hd hch hp.1 hg c1 (x := x) b1.2.2.1 b5
        have hxn : cnB Ms s mk g c x = csB Ms s mk g (conK Ms s g (j + 1)) (x0, st) := by rw [c5, csB_app, ← hx]; rfl
        rw [c3, wp_ifp rfl, wp_bd, RI_2095 (by omega) (by omega), tn, c4, wp_ifp rfl, wp_bd, wp_gI, b1.2.2.2.2.1, wp_lt, wp_bd]
        refine hw (coI Ms s g) j (mdCh (moI Ms s (coI Ms s g)) c) y2 (by omega) cL (hch _ _ y2 y3) A x.2 _ q τ b1 mcr' (fun z hz => hrd c z.1 c1 (Or.inr ⟨z, hz, rfl⟩)) (by omega) b4 _ (fun τ1 d1 d2 d3 d4 d5 => ?_)
        have mcr1 := mcr'.tg d2
        generalize hwv : whB Ms s mk (coI Ms s g) (mdCh (moI Ms s (coI Ms s g)) c) x.2 = w at *
        have hgW := whB_go hd hp.1 y2 (mdCh (moI Ms s (coI Ms s g)) c) x.2 (fun z hz => hch _ _ y2 y3 z hz) b1.2.2.1
        rw [hwv] at hgW
        rw [wp_lt, wp_bd, RI_2097 (by omega) (by omega), tn, d2.row (a := 2097) (fun k => by unfold tG; omega), m97', wp_bd]
        obtain ⟨u1, u2⟩ := hrd c _ c1 (Or.inl rfl)
        refine hf (coI Ms s g) (mdVl (moI Ms s (coI Ms s g)) c) y2 hroot A w.2 _ q τ1 d1 u1 u2 d4 _ (fun τ2 e1 e2 e3 e4 e5 e6 => ?_)
        have mcr2 := mcr1.tg e2
        have hgR := (rngB_go hd hp.1 y2 hroot d1.2.2.1).1
        generalize hpv : rngB Ms s mk (coI Ms s g) (mdVl (moI Ms s (coI Ms s g)) c) w.2 = pv at *
        rw [(hd.cw hg c1).1] at e1 e5 e6
        have r1 : ∀ k, k < wdS Ms s g → τ2.1 2153 (at' + k) = (x.1 k : Int) := fun k hk => by rw [e3.1 _ (by omega), d3.1 _ (by omega)]; exact b6 k hk
        have l2 : lowT at' q σ τ2 := (b3.trans (d3.mono (by omega) (Nat.le_refl _))).trans (e3.mono (by omega) (Nat.le_refl _))
        have t2 := (b2.trans d2).trans e2
        -- behind the bits of a connection
        have nxt : ∀ (B : NB) (o : Nat → Nat) τ3, cnB Ms s mk g c x = (o, B, pv.2.2) ∨ (∃ o', cnB Ms s mk g c x = (o', B, pv.2.2) ∧ ∀ k, k < wdS Ms s g → o k = o' k) → goB (lvD Ms s) pv.2.1 B → KT (inbS Ms s (lsG s)) (keptS Ms s (lsG s)) τ2 τ3 B (at' + wdS Ms s g + wdS Ms s g) → CE (τ2.1 2153) (τ3.1 2153) at' (wdS Ms s g) (wdS Ms s g) o → wp (X15_connectBits_176 bo wh (X15_connectBits_18 bo wh f') (coI Ms s g : Int) (coT Ms s g : Int) (coP Ms s g) (at' : Int) (wdS Ms s g : Int) ((200 * (12 * S + lsM s (coI Ms s g)) : Nat) : Int) (j : Int) ((at' + wdS Ms s g : Nat) : Int)) τ3 Q := by
          intro B o τ3 ho hB' k1 k2
          obtain ⟨o', ho', heq⟩ : ∃ o', cnB Ms s mk g c x = (o', B, pv.2.2) ∧ ∀ k, k < wdS Ms s g → o k = o' k := by
            rcases ho with h | h
            · exact ⟨o, h, fun _ _ => rfl⟩
            · exact h
          rw [ho'] at hxn cgo
          have k1' := k1.pt (q := at' + wdS Ms s g) (v := ((at' + wdS Ms s g : Nat) : Int)) rfl
          obtain ⟨m1, m2⟩ := e1.fr hd k1' hB'
          rw [X15_connectBits_176, wp_bd, wp_pI, X15_connectBits_182, wp_lt, wN1 (by omega)]
          refine ih (j + 1) f' (o', B, pv.2.2) _ (by omega) (by omega) hxn m1 (t2.trans m2) (l2.trans (k1'.low (fun k hk => ?_))) (by rw [k1'.wk.2]; exact e4) cgo.2 (fun k hk => ?_)
          · dsimp only
            rw [stA_ne (by decide)]; exact k2.1 k (Or.inl hk)
          · dsimp only
            rw [stA_ne (by decide), k2.2 k hk, heq k hk]
        rw [wp_lt]
        by_cases ce : mdCh (moI Ms s (coI Ms s g)) c = []
        · have hcn := cnB_e (mk := mk) (x := x) ce
          rw [hwv, hpv] at hcn
          have a98 : τ2.1 2098 (200 * (12 * S + lsM s (coI Ms s g)) + j) = -1 := by rw [ce] at mcr2; exact mcr2.nil
          refine lpN (w := wdS Ms s g) (L := fun m k => X15_connectBits_101 bo wh (X15_connectBits_18 bo wh f') m (coI Ms s g : Int) (coT Ms s g : Int) (coP Ms s g) (at' : Int) (wdS Ms s g : Int) ((200 * (12 * S + lsM s (coI Ms s g)) : Nat) : Int) (j : Int) ((at' + wdS Ms s g : Nat) : Int) (w.1 : Int) (k : Int)) (I := fun k υ => KT (inbS Ms s (lsG s)) (keptS Ms s (lsG s)) τ2 υ pv.2.1 (at' + wdS Ms s g + wdS Ms s g) ∧ ∃ o, CE (τ2.1 2153) (υ.1 2153) at' (wdS Ms s g) (wdS Ms s g) o ∧ ∀ y, y < k → o y = pv.1 y) ?_ ?_ (show wdS Ms s g < FU by omega) ⟨e1.kt, x.1, ⟨fun _ _ => rfl, r1⟩, fun y hy => absurd hy (Nat.not_lt_zero y)⟩
          · rintro m k υ hk ⟨k1, o, k2, k3⟩ ih2
            show wp (X15_connectBits_101 bo wh (X15_connectBits_18 bo wh f') (m + 1) (coI Ms s g : Int) (coT Ms s g : Int) (coP Ms s g) (at' : Int) (wdS Ms s g : Int) ((200 * (12 * S + lsM s (coI Ms s g)) : Nat) : Int) (j : Int) ((at' + wdS Ms s g : Nat) : Int) (w.1 : Int) (k : Int)) υ Q
            have r98 : υ.1 2098 = τ2.1 2098 := k1.2.2.1.1 2098 (by decide) (by decide) (by decide) (by decide) (by decide) (by decide) (by decide)
            rw [X15_connectBits_101, wp_ifn (by omega), wp_bd, e200M hS5 (by omega) (by omega), RI_2098 (by omega) (by omega), tn, r98, a98, wp_ifn (by decide), wp_bd, wN (a := at' + wdS Ms s g) (by omega), RI_2153 (by omega) (by omega), tn, k2.1 _ (by omega), e6 k hk, X15_connectBits_169, wp_bd, wN (a := at') (by omega), RV_2153 (by omega) (by omega), tn, wp_lt, wN1 (by omega)]
            refine ih2 _ ⟨k1.w, ups o k (pv.1 k), by dsimp only; rw [stA_eq]; exact k2.set hk, fun y hy => ?_⟩
            by_cases e : y = k
            · subst e; rw [ups_eq]
            · rw [ups_ne e]; exact k3 y (by omega)
          · rintro m υ ⟨k1, o, k2, k3⟩
            show wp (X15_connectBits_101 bo wh (X15_connectBits_18 bo wh f') (m + 1) (coI Ms s g : Int) (coT Ms s g : Int) (coP Ms s g) (at' : Int) (wdS Ms s g : Int) ((200 * (12 * S + lsM s (coI Ms s g)) : Nat) : Int) (j : Int) ((at' + wdS Ms s g : Nat) : Int) (w.1 : Int) (wdS Ms s g : Int)) υ Q
            rw [X15_connectBits_101, wp_ifp (by omega)]
            exact nxt pv.2.1 o υ (Or.inr ⟨pv.1, hcn, k3⟩) (goB.refl e1.2.2.1.1) k1 k2
        · have hcn := cnB_n (x := x) ce hwv.symm hpv.symm
          have a98 : 0 ≤ τ2.1 2098 (200 * (12 * S + lsM s (coI Ms s g)) + j) := by
            cases hq : mdCh (moI Ms s (coI Ms s g)) c with
            | nil => exact absurd hq ce
            | cons z L =>
              rw [hq] at mcr2
              obtain ⟨y', -, h2, -⟩ := mcr2.cons
              omega
          have mg := mpB_go (w := wdS Ms s g) (o := x.1) (g := fun j B => muxB (lvD Ms s) w.1 (pv.1 j) (x.1 j) B) e1.2.2.1.1 (fun j B2 hj h2 => okB.go (muxB_ok h2.1 (h2.lt (hgR.1.lt d5)) (h2.lt (e5 j hj)) (h2.lt (hgR.1.lt (hgW.1.1.lt (b5 j hj))))))
          refine lpT (f := fun k o B => (ups o k (muxB (lvD Ms s) w.1 (pv.1 k) (x.1 k) B).1, (muxB (lvD Ms s) w.1 (pv.1 k) (x.1 k) B).2)) (x0 := x.1) (B0 := pv.2.1) (w := wdS Ms s g) (L := fun m k _ => X15_connectBits_101 bo wh (X15_connectBits_18 bo wh f') m (coI Ms s g : Int) (coT Ms s g : Int) (coP Ms s g) (at' : Int) (wdS Ms s g : Int) ((200 * (12 * S + lsM s (coI Ms s g)) : Nat) : Int) (j : Int) ((at' + wdS Ms s g : Nat) : Int) (w.1 : Int) (k : Int)) (I := fun k o B υ => KT (inbS Ms s (lsG s)) (keptS Ms s (lsG s)) τ2 υ B (at' + wdS Ms s g + wdS Ms s g) ∧ goB (lvD Ms s) pv.2.1 B ∧ CE (τ2.1 2153) (υ.1 2153) at' (wdS Ms s g) (wdS Ms s g) o ∧ ∀ y, k ≤ y → y < wdS Ms s g → o y = x.1 y) ?_ ?_ (show wdS Ms s g < FU by omega) ⟨e1.kt, goB.refl e1.2.2.1.1, ⟨fun _ _ => rfl, r1⟩, fun _ _ _ => rfl⟩
          · rintro m k o B υ hk ⟨k1, k2, k3, k4⟩ ih2
            show wp (X15_connectBits_101 bo wh (X15_connectBits_18 bo wh f') (m + 1) (coI Ms s g : Int) (coT Ms s g : Int) (coP Ms s g) (at' : Int) (wdS Ms s g : Int) ((200 * (12 * S + lsM s (coI Ms s g)) : Nat) : Int) (j : Int) ((at' + wdS Ms s g : Nat) : Int) (w.1 : Int) (k : Int)) υ Q
            have r98 : υ.1 2098 = τ2.1 2098 := k1.2.2.1.1 2098 (by decide) (by decide) (by decide) (by decide) (by decide) (by decide) (by decide)
            rw [X15_connectBits_101, wp_ifn (by omega), wp_bd, e200M hS5 (by omega) (by omega), RI_2098 (by omega) (by omega), tn, r98, wp_ifp a98, wp_bd, wN (a := at' + wdS Ms s g) (by omega), RI_2153 (by omega) (by omega), tn, k3.1 _ (by omega), e6 k hk, wp_bd, wN (a := at') (by omega), RI_2153 (by omega) (by omega), tn, k3.2 k hk, k4 k (Nat.le_refl k) hk]
            refine tMux hl k1 (k2.lt (hgR.1.lt d5)) (k2.lt (e5 k hk)) (k2.lt (hgR.1.lt (hgW.1.1.lt (b5 k hk)))) (fun υ2 v1 v2 v3 v4 => ?_)
            rw [X15_connectBits_169, wp_bd, RV_2153 (by omega) (by omega), tn, wp_lt, wN1 (by omega)]
            exact ih2 _ ⟨v1.w, k2.trans v2, by dsimp only; rw [stA_eq, v4]; exact k3.set hk, fun y h1 h2 => by dsimp only; rw [ups_ne (by omega)]; exact k4 y (by omega) h2⟩
          · rintro m υ ⟨k1, k2, k3, -⟩
            show wp (X15_connectBits_101 bo wh (X15_connectBits_18 bo wh f') (m + 1) (coI Ms s g : Int) (coT Ms s g : Int) (coP Ms s g) (at' : Int) (wdS Ms s g : Int) ((200 * (12 * S + lsM s (coI Ms s g)) : Nat) : Int) (j : Int) ((at' + wdS Ms s g : Nat) : Int) (w.1 : Int) (wdS Ms s g : Int)) υ Q
            rw [X15_connectBits_101, wp_ifp (by omega)]
            exact nxt _ _ υ (Or.inl hcn) mg.1 k1 k3
      · have go : wp (X15_connectBits_182 bo wh (X15_connectBits_18 bo wh f') (coI Ms s g : Int) (coT Ms s g : Int) (coP Ms s g) (at' : Int) (wdS Ms s g : Int) ((200 * (12 * S + lsM s (coI Ms s g)) : Nat) : Int) (j : Int)) τ Q := by
          rw [← c5] at hx
          rw [X15_connectBits_182, wp_lt, wN1 (by omega)]
          exact ih (j + 1) f' x τ (by omega) (by omega) hx b1 b2 b3 b4 b5 b6
        by_cases d1 : τ.1 2094 (200 * (12 * S + lsM s (coI Ms s g)) + j) = (coT Ms s g : Int)
        · rw [wp_ifp d1, wp_bd, RI_2095 (by omega) (by omega), tn, wp_ifn (fun h => c3 ⟨d1, h⟩)]
          exact go
        · rw [wp_ifn d1]
          exact go
  rw [F_X15_connectBits, wp_bd, wp_gI, hB.1.2.1, wp_bd, m_store hd hB.1.1 hS5 z1, wp_lt, w32_i (x := 200 * ((12 * S + lsM s (coI Ms s g) : Nat) : Int)) (by omega) (by omega), show 200 * ((12 * S + lsM s (coI Ms s g) : Nat) : Int) = ((200 * (12 * S + lsM s (coI Ms s g)) : Nat) : Int) by omega, wp_lt]
  exact key (mdQ (moI Ms s (coI Ms s g))) 0 FU (x0, st) σ (by omega) (by omega) (by rw [conK_0]; rfl) hB agr.refl lowT.refl h112 hlt0 hx0
end
