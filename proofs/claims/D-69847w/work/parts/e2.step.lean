set_option maxRecDepth 100000
set_option maxHeartbeats 400000
/-! ===== designs: a step, pure and in the component ===== -/
section
variable (Ms : Nat → ModV) (s : LYS)
/-- what connections make of the words of a mem -/
noncomputable def cnW (V : Nat → Nat) (W : Nat → Nat → Nat) (g : Nat) : (Nat → Nat) → List Nat → (Nat → Nat)
  | f, [] => f
  | f, c :: L => cnW V W g (@ite _ (hlD Ms s V W (coI Ms s g) (mdCh (moI Ms s (coI Ms s g)) c)) (Classical.propDecidable _) (if nv Ms s V W (coI Ms s g) (mdAd (moI Ms s (coI Ms s g)) c).toNat < wsG Ms s g then ups f (nv Ms s V W (coI Ms s g) (mdAd (moI Ms s (coI Ms s g)) c).toNat) (nv Ms s V W (coI Ms s g) (mdVl (moI Ms s (coI Ms s g)) c)) else f) f) L
/-- the state behind a step -/
noncomputable def stp (v : VST) : VST := (v.1, fun g => @ite _ (kdS Ms s g = 3 ∧ g < lsG s) (Classical.propDecidable _) (cnV Ms s (Vs Ms s v) v.2.2.1 g (v.2.1 g) (conL Ms s g)) (v.2.1 g), fun g => @ite _ (kdS Ms s g = 4 ∧ g < lsG s) (Classical.propDecidable _) (cnW Ms s (Vs Ms s v) v.2.2.1 g (v.2.2.1 g) (conL Ms s g)) (v.2.2.1 g), v.2.2.2 + 1)
end
section
variable {Ms : Nat → ModV} {top : Nat} {s : LYS} {v : VST} {V : Nat → Nat} {W : Nat → Nat → Nat} {σ σ' τ τ' : St} {o S g : Nat}
theorem cnW_y {f : Nat → Nat} {c : Nat} {L : List Nat} (h : hlD Ms s V W (coI Ms s g) (mdCh (moI Ms s (coI Ms s g)) c)) : cnW Ms s V W g f (c :: L) = cnW Ms s V W g (if nv Ms s V W (coI Ms s g) (mdAd (moI Ms s (coI Ms s g)) c).toNat < wsG Ms s g then ups f (nv Ms s V W (coI Ms s g) (mdAd (moI Ms s (coI Ms s g)) c).toNat) (nv Ms s V W (coI Ms s g) (mdVl (moI Ms s (coI Ms s g)) c)) else f) L := by
  show cnW Ms s V W g (@ite _ _ (Classical.propDecidable _) _ _) L = _
  rw [if_pos h]
theorem cnW_n {f : Nat → Nat} {c : Nat} {L : List Nat} (h : ¬ hlD Ms s V W (coI Ms s g) (mdCh (moI Ms s (coI Ms s g)) c)) : cnW Ms s V W g f (c :: L) = cnW Ms s V W g f L := by
  show cnW Ms s V W g (@ite _ _ (Classical.propDecidable _) _ _) L = _
  rw [if_neg h]
theorem cnW_app : ∀ (P L : List Nat) (f : Nat → Nat), cnW Ms s V W g f (P ++ L) = cnW Ms s V W g (cnW Ms s V W g f P) L
  | [], _, _ => rfl
  | c :: P, L, f => cnW_app P L _
theorem cnW_lt (hd : DP Ms top s) (hg : g < lsG s) (hV : ∀ g, g < lsG s → V g < 2 ^ wdS Ms s g) (hW : ∀ g j, g < lsG s → W g j < 2 ^ wdS Ms s g) : ∀ (L : List Nat) (f : Nat → Nat), (∀ c, c ∈ L → c ∈ conL Ms s g) → (∀ j, f j < 2 ^ wdS Ms s g) → ∀ j, cnW Ms s V W g f L j < 2 ^ wdS Ms s g
  | [], _, _, h => h
  | c :: L, f, hL, h => by
    have hc := hL c List.mem_cons_self
    obtain ⟨z1, z2, z3, -⟩ := hd.conL_mem hg hc
    by_cases hh : hlD Ms s V W (coI Ms s g) (mdCh (moI Ms s (coI Ms s g)) c)
    · rw [cnW_y hh]
      refine cnW_lt hd hg hV hW L _ (fun x hx => hL x (List.mem_cons_of_mem _ hx)) (fun j => ?_)
      by_cases ca : nv Ms s V W (coI Ms s g) (mdAd (moI Ms s (coI Ms s g)) c).toNat < wsG Ms s g
      · rw [if_pos ca]
        by_cases e : j = nv Ms s V W (coI Ms s g) (mdAd (moI Ms s (coI Ms s g)) c).toNat
        · rw [e, ups_eq, ← (hd.cw hg hc).1]
          exact nv_lt hd z2 hV hW _ (hd.root z2 z3)
        · rw [ups_ne e]; exact h j
      · rw [if_neg ca]; exact h j
    · rw [cnW_n hh]
      exact cnW_lt hd hg hV hW L _ (fun x hx => hL x (List.mem_cons_of_mem _ hx)) h
theorem stp_r (h3 : kdS Ms s g = 3) (hg : g < lsG s) : (stp Ms s v).2.1 g = cnV Ms s (Vs Ms s v) v.2.2.1 g (v.2.1 g) (conL Ms s g) := by
  show @ite _ _ (Classical.propDecidable _) _ _ = _
  rw [if_pos ⟨h3, hg⟩]
theorem stp_m (h4 : kdS Ms s g = 4) (hg : g < lsG s) : (stp Ms s v).2.2.1 g = cnW Ms s (Vs Ms s v) v.2.2.1 g (v.2.2.1 g) (conL Ms s g) := by
  show @ite _ _ (Classical.propDecidable _) _ _ = _
  rw [if_pos ⟨h4, hg⟩]
theorem stp_B (hd : DP Ms top s) (hB : VB Ms s v) : VB Ms s (stp Ms s v) := by
  intro g hg
  have hV := Vs_lt (v := v) hd hB
  have hWb : ∀ g j, g < lsG s → v.2.2.1 g j < 2 ^ wdS Ms s g := fun g j hg => (hB g hg).2.2 j
  obtain ⟨b1, b2, b3⟩ := hB g hg
  refine ⟨b1, ?_, ?_⟩
  · show @ite _ _ (Classical.propDecidable _) _ _ < _
    by_cases c : kdS Ms s g = 3 ∧ g < lsG s
    · rw [if_pos c]; exact cnV_lt hd hg hV hWb _ _ (fun _ h => h) b2
    · rw [if_neg c]; exact b2
  · intro j
    show (@ite _ _ (Classical.propDecidable _) _ _ : Nat → Nat) j < _
    by_cases c : kdS Ms s g = 4 ∧ g < lsG s
    · rw [if_pos c]; exact cnW_lt hd hg hV hWb _ _ (fun _ h => h) b3 j
    · rw [if_neg c]; exact b3 j
/-- addresses of connections to a mem -/
theorem DP.adr (hd : DP Ms top s) (hg : g < lsG s) (h4 : kdS Ms s g = 4) {c : Nat} (hc : c ∈ conL Ms s g) : ∃ a : Nat, mdAd (moI Ms s (coI Ms s g)) c = (a : Int) ∧ a < mdN (moI Ms s (coI Ms s g)) := by
  obtain ⟨q1, q2, q3⟩ := hd.cw hg hc
  have h0 := q2.mp h4
  exact ⟨_, (Int.toNat_of_nonneg h0).symm, q3 h0⟩
/-- what a signal's connections read, addresses too -/
def rdD (Ms : Nat → ModV) (s : LYS) (g h : Nat) : Prop := rdC Ms s g h ∨ ∃ c, c ∈ conL Ms s g ∧ rdE Ms s (coI Ms s g) (mdAd (moI Ms s (coI Ms s g)) c).toNat h
def wF (o a : Nat) (_ : Nat) : Prop := a ≠ o + 25 ∧ a ≠ o + 23
theorem nextWX (hd : DP Ms top s) (hD : isD o) (hlim : limOK Ms s) (hV : ∀ g, g < lsG s → V g < 2 ^ wdS Ms s g) (hWb : ∀ g j, g < lsG s → W g j < 2 ^ wdS Ms s g) (hg : g < lsG s) (h4 : kdS Ms s g = 4) (hC : CH σ o Ms s) (hE : EX Ms top s V W o σ) (hVR : VRX Ms s σ o V (fun h => kdS Ms s h ≠ 4)) {f0 : Nat → Nat} (hf0 : ∀ j, j < wsG Ms s g → σ.1 (o + 23) (wrdS Ms s g + j) = sg (f0 j)) {Q : Unit → St → Prop} (hQ : ∀ σ', agr (wF o) σ σ' → (∀ j, j < wsG Ms s g → σ'.1 (o + 23) (wrdS Ms s g + j) = sg (cnW Ms s V W g f0 (conL Ms s g) j)) → (∀ k, (k < wrdS Ms s g ∨ wrdS Ms s g + wsG Ms s g ≤ k) → σ'.1 (o + 23) k = σ.1 (o + 23) k) → Q () σ') : wp (F_X13_nextWordsOf o (g : Int)) σ Q := by
  have hF := FU_ge
  have h12 := hd.1.1
  have h101 := hd.2.1.1.2
  have h200 := hd.2.1.2
  have wr1 : wrdS Ms s g + wsG Ms s g ≤ 200 := by
    have h1 : wrdS Ms s (g + 1) ≤ wrdS Ms s (lsG s) := smF_mono (by omega)
    have h2 : wrdS Ms s (g + 1) = wrdS Ms s g + b1 (kdS Ms s g = 4) (wsG Ms s g) := rfl
    rw [b1_y h4] at h2
    have hw2 := wrd_le hd (Nat.le_refl (lsG s))
    have hw3 := hlim.1.2
    omega
  have frE : ∀ σ1, agr (wF o) σ σ1 → EX Ms top s V W o σ1 := fun σ1 e => by
    obtain ⟨h1, ⟨h2, h3, h5⟩, h6⟩ := hE
    refine ⟨h1.fr hd.1.1 (agr.sub e (fun a i h => by unfold dP at h; unfold wF; omega)), ⟨fun g hg => ?_, ?_, ?_⟩, fun g j hg hk hj => ?_⟩
    · rw [(e (o + 19) g (by unfold wF; omega)).1, (e (o + 21) g (by unfold wF; omega)).1]; exact h2 g hg
    · rw [(e o 25 (by unfold wF; omega)).1]; exact h3
    · rw [(e o 31 (by unfold wF; omega)).1]; exact h5
    · rw [(e (o + 22) _ (by unfold wF; omega)).1]; exact h6 g j hg hk hj
  have key : ∀ (L P : List Nat) (l : Int) (f : Nat) σ1, conL Ms s g = P ++ L → L.length < f → chn (σ.1 (o + 10)) (σ.1 (o + 9)) (σ.1 (o + 11)) (coI Ms s g) 6100 l L → agr (wF o) σ σ1 → (∀ j, j < wsG Ms s g → σ1.1 (o + 23) (wrdS Ms s g + j) = sg (cnW Ms s V W g f0 P j)) → (∀ k, (k < wrdS Ms s g ∨ wrdS Ms s g + wsG Ms s g ≤ k) → σ1.1 (o + 23) k = σ.1 (o + 23) k) → wp (X13_nextWordsOf_7 o f (g : Int) l) σ1 Q := by
    intro L
    induction L with
    | nil =>
      intro P l f σ1 hL hf hc hA hw ho
      obtain ⟨f', rfl⟩ : ∃ f', f = f' + 1 := ⟨f - 1, by simp at hf; omega⟩
      have e : l = -1 := hc
      rw [List.append_nil] at hL
      rw [X13_nextWordsOf_7, wp_ifp (by omega), wp_rt]
      rw [← hL] at hw
      exact hQ σ1 hA hw ho
    | cons c L ih =>
      intro P l f σ1 hL hf hc hA hw ho
      have hf2 : L.length + 1 < f := hf
      obtain ⟨f', rfl⟩ : ∃ f', f = f' + 1 := ⟨f - 1, by omega⟩
      obtain ⟨q, q1, q2, q3, q4, q5⟩ := hc
      subst q1
      have hE1 := frE σ1 hA
      have hmem : c ∈ conL Ms s g := by rw [hL]; exact List.mem_append.mpr (Or.inr List.mem_cons_self)
      obtain ⟨z1, z2, z3, z4, -⟩ := hd.conL_mem hg hmem
      obtain ⟨hm, ok⟩ := hd.inst z2
      have c60 : mdC (moI Ms s (coI Ms s g)) ≤ 60 := ok.1.2.2.1
      have hMd := isMd_D hD (show lsM s (coI Ms s g) < 12 by omega)
      have r9 : σ1.1 (o + 9) q = (coI Ms s g : Int) := by rw [(hA _ q (by unfold wF; omega)).1]; exact q3
      have r10 : σ1.1 (o + 10) q = (c : Int) := by rw [(hA _ q (by unfold wF; omega)).1]; exact q4
      obtain ⟨-, mch⟩ := (hE1.1.2.2.1 _ hm).2.2.2 c z3
      obtain ⟨a, ha1, ha2⟩ := hd.adr hg h4 hmem
      have e25 : ∀ {σ2 σ3 : St}, agr (eF o) σ2 σ3 → agr (wF o) σ2 σ3 := fun h => agr.sub h (fun a i h => h.1)
      have nxt : ∀ σ2, agr (wF o) σ σ2 → (∀ j, j < wsG Ms s g → σ2.1 (o + 23) (wrdS Ms s g + j) = sg (cnW Ms s V W g f0 (P ++ [c]) j)) → (∀ k, (k < wrdS Ms s g ∨ wrdS Ms s g + wsG Ms s g ≤ k) → σ2.1 (o + 23) k = σ.1 (o + 23) k) → wp (X13_nextWordsOf_141 o (X13_nextWordsOf_7 o f') (g : Int) (q : Int)) σ2 Q := by
        intro σ2 hA2 hw2 ho2
        rw [X13_nextWordsOf_141, wp_bd, DI_11 hD (by omega) (by omega), tn, (hA2 _ q (by unfold wF; omega)).1, wp_lt]
        exact ih (P ++ [c]) _ f' σ2 (by rw [hL, List.append_assoc]; rfl) (by omega) q5 hA2 hw2 ho2
      rw [X13_nextWordsOf_7, wp_ifn (by omega), wp_bd, DI_9 hD (by omega) (by omega), tn, r9, wp_lt, wp_bd, DI_2 hD (by omega) (by omega), tn, (hE1.1.1.2.1 _ z2).1, wp_bd, DI_1 hD (by omega) (by omega), tn, hE1.1.2.1 _ (by omega), wp_bd, DI_10 hD (by omega) (by omega), tn, r10, wp_lt, wp_nn, wp_ck, and_t (ly_Md hMd), wp_bd, MI_20 hMd (by omega) (by omega), tn, wp_bd, F_X13_holds, wp_lt, wp_lt]
      have lt4 : ∀ u, u < mdN (moI Ms s (coI Ms s g)) → ∀ h, rdE Ms s (coI Ms s g) u h → kdS Ms s h ≠ 4 := by
        rintro u hu h ⟨n, n1, n2, n4, n5⟩
        obtain ⟨t, t1, t2, t3, t4, t5, -⟩ := hd.rd z2 (show n < mdN _ by omega) n4
        rw [t1, tn] at n5
        rw [← n5]; exact t5
      have vr : ∀ σ2, agr (wF o) σ σ2 → ∀ u, u < mdN (moI Ms s (coI Ms s g)) → VRX Ms s σ2 o V (fun h => rdE Ms s (coI Ms s g) u h) := fun σ2 hA2 u hu h hh hp => by
        rw [(hA2 (o + 20) h (by unfold wF; omega)).1]
        exact hVR h hh (lt4 u hu h hp)
      refine holdsX hd hD hlim hV hWb z2 hE1 (mdCh (moI Ms s (coI Ms s g)) c) _ FU σ1 (by have := (ok.2.2.2.2.1 c z3).2.1; omega) mch agr.refl (fun q' hq' => vr σ1 hA _ (hd.chN hE1.1 z2 z3 q' hq').1) (fun σ2 hA2 => ⟨fun hl => ?_, fun hl => ?_⟩)
      · have hA2' := hA.trans (e25 hA2)
        have hE2 := frE σ2 hA2'
        obtain ⟨⟨-, -, m16, -, -, m17⟩, -⟩ := (hE2.1.2.2.1 _ hm).2.2.2 c z3
        have m16' : σ2.1 (o + 27 + 25 * lsM s (coI Ms s g) + 16) c = (a : Int) := by rw [← ha1]; exact m16
        have m17' : σ2.1 (o + 27 + 25 * lsM s (coI Ms s g) + 17) c = (gF (gI' Ms s (coI Ms s g)) a : Int) := by
          have := m17 (by have e : mdAd (Ms (lsM s (coI Ms s g))) c = (a : Int) := ha1; omega)
          have e : mdAd (Ms (lsM s (coI Ms s g))) c = (a : Int) := ha1
          rw [e, tn] at this
          exact this
        rw [wp_ifn (by decide), wp_bd, MI_17 hMd (by omega) (by omega), tn, m17', wp_bd, MI_16 hMd (by omega) (by omega), tn, m16', wp_bd]
        refine findEX hd hD hlim hV hWb z2 ha2 hE2 (vr σ2 hA2' _ ha2) (fun σ3 hA3 => ?_)
        have hA3' := hA2'.trans (e25 hA3)
        have hE3 := frE σ3 hA3'
        obtain ⟨⟨-, -, -, m18, m19, -⟩, -⟩ := (hE3.1.2.2.1 _ hm).2.2.2 c z3
        have m18' : σ3.1 (o + 27 + 25 * lsM s (coI Ms s g) + 18) c = (mdVl (moI Ms s (coI Ms s g)) c : Int) := m18
        have m19' : σ3.1 (o + 27 + 25 * lsM s (coI Ms s g) + 19) c = (gF (gI' Ms s (coI Ms s g)) (mdVl (moI Ms s (coI Ms s g)) c) : Int) := m19
        rw [wp_lt, wp_bd, MI_19 hMd (by omega) (by omega), tn, m19', wp_bd, MI_18 hMd (by omega) (by omega), tn, m18', wp_bd]
        refine findEX hd hD hlim hV hWb z2 (hd.root z2 z3) hE3 (vr σ3 hA3' _ (hd.root z2 z3)) (fun σ4 hA4 => ?_)
        have hA4' := hA3'.trans (e25 hA4)
        have hE4 := frE σ4 hA4'
        have e23 : σ4.1 (o + 23) = σ1.1 (o + 23) := by
          rw [hA4.row (fun i => by unfold eF; omega), hA3.row (fun i => by unfold eF; omega), hA2.row (fun i => by unfold eF; omega)]
        have hal := nv_lt (V := V) (W := W) hd z2 hV hWb a ha2
        have hp32 := p32 (hd.nod z2 ha2).1.2.2.1
        have hws := (hd.sig hg).2.2.2.2.2.1.2
        have eA : (mdAd (moI Ms s (coI Ms s g)) c).toNat = a := by rw [ha1, tn]
        have stay : ¬ nv Ms s V W (coI Ms s g) a < wsG Ms s g → wp (X13_nextWordsOf_141 o (X13_nextWordsOf_7 o f') (g : Int) (q : Int)) σ4 Q := fun hna => by
          refine nxt σ4 hA4' (fun j hj => ?_) (fun k hk => by rw [e23]; exact ho k hk)
          rw [e23, cnW_app, cnW_y hl, eA, if_neg hna]
          exact hw j hj
        have ge0 : ∀ x : Nat, x < 4294967296 → (sg x < 0 ↔ 2147483648 ≤ x) ∧ (0 ≤ sg x → sg x = (x : Int)) := fun x hx => by
          rw [sg_val hx]
          by_cases c : x < 2147483648
          · rw [if_pos c]; exact ⟨by omega, fun _ => rfl⟩
          · rw [if_neg c]; exact ⟨by omega, fun h => by omega⟩
        obtain ⟨n1, n2⟩ := ge0 (nv Ms s V W (coI Ms s g) a) (by omega)
        rw [wp_lt]
        by_cases cneg : sg (nv Ms s V W (coI Ms s g) a) < 0
        · rw [wp_ifp cneg]
          exact stay (by have := n1.mp cneg; omega)
        · rw [wp_ifn cneg, wp_bd, x_words hd hD hE4.1 hg, n2 (by omega)]
          by_cases ca : nv Ms s V W (coI Ms s g) a < wsG Ms s g
          · rw [wp_ifn (by omega), wp_bd, DI_21 hD (by omega) (by omega), tn, (hE4.2.1.1 g hg).2, w32_i (by omega) (by omega), wp_bd, DV_23 hD (by omega) (by omega), show ((wrdS Ms s g : Int) + (nv Ms s V W (coI Ms s g) a : Int)).toNat = wrdS Ms s g + nv Ms s V W (coI Ms s g) a by omega]
            refine nxt _ (hA4'.w (fun k hk => absurd rfl hk.2)) (fun j hj => ?_) (fun k hk => ?_)
            · dsimp only
              rw [stA_eq, cnW_app, cnW_y hl, eA, if_pos ca]
              show _ = sg (ups (cnW Ms s V W g f0 P) (nv Ms s V W (coI Ms s g) a) (nv Ms s V W (coI Ms s g) (mdVl (moI Ms s (coI Ms s g)) c)) j)
              by_cases e : j = nv Ms s V W (coI Ms s g) a
              · subst e; rw [ups_eq, ups_eq]
              · rw [ups_ne (by omega), ups_ne e, e23]; exact hw j hj
            · dsimp only
              rw [stA_eq, ups_ne (by omega), e23]; exact ho k hk
          · rw [wp_ifp (by omega)]
            exact stay ca
      · rw [wp_ifp rfl]
        have e23 : σ2.1 (o + 23) = σ1.1 (o + 23) := hA2.row (fun i => by unfold eF; omega)
        refine nxt σ2 (hA.trans (e25 hA2)) (fun j hj => ?_) (fun k hk => by rw [e23]; exact ho k hk)
        rw [e23, cnW_app, cnW_n hl]
        exact hw j hj
  rw [F_X13_nextWordsOf, wp_bd, DI_12 hD (by omega) (by omega), tn, wp_lt]
  refine key (conL Ms s g) [] _ FU σ rfl ?_ (hC g hg) agr.refl hf0 (fun _ _ => rfl)
  by_cases ct : tiG Ms s g
  · rw [conL_ti ct]; show 0 < FU; omega
  · rw [hd.conL_eq hg ct]
    have := List.length_filter_le (isC Ms s g) (List.range (mdC (moI Ms s (coI Ms s g))))
    rw [List.length_range] at this
    have c60 : mdC (moI Ms s (coI Ms s g)) ≤ 60 := (hd.inst (hd.co hg ct).1).2.1.2.2.1
    omega
end
