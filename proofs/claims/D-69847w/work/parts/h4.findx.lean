set_option maxRecDepth 100000
set_option maxHeartbeats 400000
/-! ===== bits: the component's expressions and whens ===== -/
section
variable {Ms : Nat → ModV} {top : Nat} {s : LYS} {r : Nat → Nat} {K : Nat} {σ σ' : St} {st : BST} {o n : Nat} {A : Nat → Prop} {mk : Nat → BST → BST} {mkp : Int → St → Option ((Unit ⊕ XV) × St)} {i u : Nat}
/-- how an expression is made -/
def FDX (Ms : Nat → ModV) (top : Nat) (s : LYS) (o n : Nat) (r : Nat → Nat) (K : Nat) (fd : Int → Nat → Int → Int → St → Option ((Unit ⊕ XV) × St)) (mk : Nat → BST → BST) : Prop := ∀ i u, i < lsI s → u < mdN (moI Ms s i) → ∀ (A : Nat → Prop) st σ, BXr Ms top s o n A st σ → rdK Ms s r K A i u → ∀ (Q : Unit → St → Prop) (E : XV → St → Prop), (∀ τ, BXr Ms top s o n A (rngB Ms s mk i u st).2 τ → agr (bG n) σ τ → FN Ms s (fun i' n' => (i' = i ∧ gF (gI' Ms s i) u ≤ n' ∧ n' ≤ u) ∨ TsR Ms s r K i' n') σ τ → K42 Ms s st σ τ → ltA (lvD Ms s) (rngB Ms s mk i u st).2.1 (gW (gI' Ms s i) u) (rngB Ms s mk i u st).1 → (∀ j, j < gW (gI' Ms s i) u → τ.1 45 (bNd Ms s i u + j) = ((rngB Ms s mk i u st).1 j : Int)) → Q () τ) → (∀ τ, flB (rngB Ms s mk i u st).2.1 → agr (bG n) σ τ → E (1, 0, 0) τ) → wpE (fd (i : Int) (o + 27 + 25 * lsM s i) (gF (gI' Ms s i) u : Int) (u : Int)) σ Q E
theorem findBX (hd : DP Ms top s) (hD : isD o) (hn : isN n) (hlim : limOK Ms s) (hmk : MKX Ms top s o n r K mkp mk) (hp : PMK Ms s r K mk) : FDX Ms top s o n r K (fun a1 a2 a3 a4 => F_X3_find (fun c1 c2 c3 => F_X3_node (fun b1 b2 b3 => F_X3_read mkp b1 b2 b3) c1 c2 c3) a1 a2 a3 a4) mk := by
  intro i u hi hu A st σ hB hrd Q E hQ hE
  have hF := FU_ge
  obtain ⟨hM, ok⟩ := hd.inst hi
  have n240 : mdN (moI Ms s i) ≤ 240 := ok.1.2.1
  have hfu := (hd.nod hi hu).1.2.2.2
  have key : ∀ k m f (x : (Nat → Nat → Nat) × BST) σ1, m + k = u + 1 → gF (gI' Ms s i) u ≤ m → k < f → rgB Ms s mk i k m x = rgB Ms s mk i (u + 1 - gF (gI' Ms s i) u) (gF (gI' Ms s i) u) (fun _ _ => 0, st) → BXr Ms top s o n A x.2 σ1 → agr (bG n) σ σ1 → FN Ms s (fun i' n' => (i' = i ∧ gF (gI' Ms s i) u ≤ n' ∧ n' ≤ u) ∨ TsR Ms s r K i' n') σ σ1 → K42 Ms s st σ σ1 → kpBs st x.2 → EVX Ms s x.2.1 σ1 i (gF (gI' Ms s i) u) m x.1 → wpE (X3_find_3 (fun c1 c2 c3 => F_X3_node (fun b1 b2 b3 => F_X3_read mkp b1 b2 b3) c1 c2 c3) f (i : Int) (o + 27 + 25 * lsM s i) (u : Int) (m : Int)) σ1 Q E := by
    intro k
    induction k with
    | zero =>
      intro m f x σ1 hm hfm hf hx b1 b2 b3 b4 b5 b6
      obtain ⟨f', rfl⟩ : ∃ f', f = f' + 1 := ⟨f - 1, by omega⟩
      have e0 : rgB Ms s mk i 0 m x = x := rfl
      rw [e0] at hx
      have er : rngB Ms s mk i u st = (x.1 u, x.2) := by unfold rngB; rw [← hx]
      obtain ⟨l1, l2⟩ := b6 u hfu (by omega)
      rw [er] at hQ
      rw [X3_find_3, wpE_ifp (by omega), wpE_lE, wp_rt]
      exact hQ σ1 b1 b2 b3 b4 l1 l2
    | succ k ih =>
      intro m f x σ1 hm hfm hf hx b1 b2 b3 b4 b5 b6
      obtain ⟨f', rfl⟩ : ∃ f', f = f' + 1 := ⟨f - 1, by omega⟩
      have hml : m < mdN (moI Ms s i) := by omega
      have hup : rgB Ms s mk i (k + 1) m x = rgB Ms s mk i k (m + 1) (ndB Ms s mk i m x) := rfl
      rw [hup] at hx
      rw [X3_find_3, wpE_ifn (by omega), wpE_bdE]
      have hnest := hd.nest hi u hu m hfm (by omega)
      refine nodeBX (a := gF (gI' Ms s i) u) (e := x.1) hd hD hn hlim hmk hp b1 hi hml hnest b6 (fun h hr hh hs => ?_) (fun τ d1 d2 => ?_) (fun τ d1 d2 d3 d4 d5 d6 => ?_)
      · obtain ⟨s1, s2, s3⟩ := hrd h ⟨m, hfm, by omega, hr⟩ hh hs
        exact ⟨s1, s2, fun q h1 h2 => s3 q h1 (by omega)⟩
      · refine hE τ ?_ (b2.trans d2)
        have := rgB_ind (P := flSt) (fun _ _ _ h h' => h' ∘ h) (fun _ => id) (fun _ _ h => h) hp.2.2.1 (Ms := Ms) (s := s) (i := i) k (m + 1) (ndB Ms s mk i m x) d1
        rw [hx] at this
        exact this
      · rw [wpE_lt, wN1 (by omega)]
        refine ih (m + 1) f' _ τ (by omega) (by omega) (by omega) hx d1 (b2.trans d2) (b3.trans (d3.mono (fun i' n' q => ?_))) (b4.trans b5 d4) (b5.trans (ndB_ind (fun _ => kpBs.refl) (fun _ _ _ => kpBs.net) hp.2.1)) d6
        rcases q with ⟨rfl, rfl⟩ | q
        · exact Or.inl ⟨rfl, hfm, by omega⟩
        · exact Or.inr q
  show wpE (F_X3_find _ (i : Int) (o + 27 + 25 * lsM s i) (gF (gI' Ms s i) u : Int) (u : Int)) σ Q E
  rw [F_X3_find, wpE_lt]
  exact key (u + 1 - gF (gI' Ms s i) u) (gF (gI' Ms s i) u) FU (fun _ _ => 0, st) σ (by omega) (Nat.le_refl _) (by omega) rfl hB agr.refl FN.refl K42.refl kpBs.refl (fun q h1 h2 => by omega)
/-- the rows of a module's whens -/
def crO (Ms : Nat → ModV) (s : LYS) (σ : St) (o i : Nat) (w : Int) (L : List (Nat × Bool)) : Prop := crX (σ.1 (o + 27 + 25 * lsM s i + 21)) (σ.1 (o + 27 + 25 * lsM s i + 22)) (σ.1 (o + 27 + 25 * lsM s i + 23)) (σ.1 (o + 27 + 25 * lsM s i + 24)) (gI' Ms s i) (mdN (moI Ms s i)) (mdW (moI Ms s i)) w L
theorem crO.fr {w : Int} {L : List (Nat × Bool)} (h : crO Ms s σ o i w L) (hd : DP Ms top s) (hD : isD o) (hn : isN n) (hi : i < lsI s) (e : agr (bG n) σ σ') : crO Ms s σ' o i w L := by
  have hM := (hd.inst hi).1
  have h12 := hd.1.1
  have f : ∀ j, 21 ≤ j → j ≤ 24 → σ'.1 (o + 27 + 25 * lsM s i + j) = σ.1 (o + 27 + 25 * lsM s i + j) := fun j h1 h2 => by
    rw [show o + 27 + 25 * lsM s i + j = o + (27 + 25 * lsM s i + j) by omega]
    exact e.row (fun k => bG_D hD hn (by omega))
  unfold crO at h ⊢
  rw [f 21 (by omega) (by omega), f 22 (by omega) (by omega), f 23 (by omega) (by omega), f 24 (by omega) (by omega)]
  exact h
/-- how whens are made -/
def WHX (Ms : Nat → ModV) (top : Nat) (s : LYS) (o n : Nat) (r : Nat → Nat) (K : Nat) (wh : Int → Nat → Int → St → Option ((Int ⊕ XV) × St)) (mk : Nat → BST → BST) : Prop := ∀ i (w : Int) L, i < lsI s → L.length ≤ 20 → ∀ (A : Nat → Prop) st σ, BXr Ms top s o n A st σ → crO Ms s σ o i w L → (∀ q, q ∈ L → rdK Ms s r K A i q.1) → ∀ (Q : Int → St → Prop) (E : XV → St → Prop), (∀ τ, BXr Ms top s o n A (whB Ms s mk i L st).2 τ → agr (bG n) σ τ → FN Ms s (fun i' n' => (i' = i ∧ ∃ q, q ∈ L ∧ gF (gI' Ms s i) q.1 ≤ n' ∧ n' ≤ q.1) ∨ TsR Ms s r K i' n') σ τ → K42 Ms s st σ τ → ltB (lvD Ms s) (whB Ms s mk i L st).2.1 (whB Ms s mk i L st).1 → Q ((whB Ms s mk i L st).1 : Int) τ) → (∀ τ, flB (whB Ms s mk i L st).2.1 → agr (bG n) σ τ → E (1, 0, 0) τ) → wpE (wh (i : Int) (o + 27 + 25 * lsM s i) w) σ Q E
theorem BXr.wf (h : BXr Ms top s o n A st σ) : wfS Ms s st := h.2.2.1
theorem whensBX (hd : DP Ms top s) (hD : isD o) (hn : isN n) (hlim : limOK Ms s) (hp : PMK Ms s r K mk) {fd : Int → Nat → Int → Int → St → Option ((Unit ⊕ XV) × St)} (hf : FDX Ms top s o n r K fd mk) : WHX Ms top s o n r K (fun a1 a2 a3 => F_X3_whens fd a1 a2 a3) mk := by
  intro i w L hi hL A st σ hB hc hrd Q E hQ hE
  have hF := FU_ge
  have h12 := hd.1.1
  have hl : inbS Ms s (lsG s) ≤ 64 ∧ keptS Ms s (lsG s) ≤ 200 := ⟨hlim.2.2.1, hlim.1.2⟩
  have hlv : lvD Ms s ≤ 264 := by unfold lvD; omega
  obtain ⟨hM, ok⟩ := hd.inst hi
  have hMd := isMd_D hD (show lsM s i < 12 by omega)
  have n240 : mdN (moI Ms s i) ≤ 240 := ok.1.2.1
  have w240' : mdW (moI Ms s i) ≤ 240 := ok.1.2.2.2.1
  have fm : ∀ x k, flB (whB Ms s mk i (L.drop (k + x)) st).2.1 → flB (whB Ms s mk i (L.drop k) st).2.1 := by
    intro x
    induction x with
    | zero => exact fun k h => h
    | succ x ih =>
      intro k h
      refine ih k ?_
      by_cases c : k + x < L.length
      · rw [List.drop_eq_getElem_cons c]
        exact fl_and (rngB_ind (P := flSt) (fun _ _ _ h h' => h' ∘ h) (fun _ => id) (fun _ _ h => h) hp.2.2.1 (Ms := Ms) (s := s) (st := (whB Ms s mk i (L.drop (k + x + 1)) st).2) h)
      · rw [List.drop_eq_nil_of_le (by omega)] at h ⊢
        exact h
  -- going up from the innermost
  have up : ∀ (τ : St), crO Ms s τ o i w L → ∀ k, k ≤ L.length → ∀ d y f rec (x5 : Int) Q', d + y = k → k < f + d → (∀ w', crO Ms s τ o i w' (L.drop k) → wpE (X3_whens_68 fd rec (i : Int) (o + 27 + 25 * lsM s i) w x5 (k : Int) w') τ Q' E) → ∀ w', crO Ms s τ o i w' (L.drop d) → k < L.length → wpE (X3_whens_46 fd rec f (i : Int) (o + 27 + 25 * lsM s i) w x5 (k : Int) w' (d : Int)) τ Q' E := by
    intro τ hcτ k hk d y
    induction y generalizing d with
    | zero =>
      intro f rec x5 Q' hdk hf' go w' hw' hkl
      obtain ⟨f', rfl⟩ : ∃ f', f = f' + 1 := ⟨f - 1, by omega⟩
      have e : d = k := by omega
      subst e
      rw [X3_whens_46, wpE_ifp (by omega)]
      exact go w' hw'
    | succ y ih =>
      intro f rec x5 Q' hdk hf' go w' hw' hkl
      obtain ⟨f', rfl⟩ : ∃ f', f = f' + 1 := ⟨f - 1, by omega⟩
      rw [List.drop_eq_getElem_cons (show d < L.length by omega)] at hw'
      obtain ⟨⟨c1, c2⟩, -, c8⟩ := hw'
      obtain ⟨q, rfl⟩ := Int.eq_ofNat_of_zero_le c1
      rw [tn] at c8
      rw [X3_whens_46, wpE_ifn (by omega), wpE_bd, MI_24 hMd (by omega) (by omega), tn, wpE_lt, wpE_lt, wN1 (by omega)]
      exact ih (d + 1) f' rec x5 Q' (by omega) (by omega) go _ c8 hkl
  -- from outside in
  have main : ∀ k, k ≤ L.length → ∀ f τ, k < f → BXr Ms top s o n A (whB Ms s mk i (L.drop k) st).2 τ → agr (bG n) σ τ → FN Ms s (fun i' n' => (i' = i ∧ ∃ q, q ∈ L ∧ gF (gI' Ms s i) q.1 ≤ n' ∧ n' ≤ q.1) ∨ TsR Ms s r K i' n') σ τ → K42 Ms s st σ τ → ltB (lvD Ms s) (whB Ms s mk i (L.drop k) st).2.1 (whB Ms s mk i (L.drop k) st).1 → kpBs st (whB Ms s mk i (L.drop k) st).2 → wpE (X3_whens_35 fd f (i : Int) (o + 27 + 25 * lsM s i) w ((whB Ms s mk i (L.drop k) st).1 : Int) ((k : Int) - 1)) τ Q E := by
    intro k
    induction k with
    | zero =>
      intro hk f τ hf' b1 b2 b3 b4 b5 b6
      obtain ⟨f', rfl⟩ : ∃ f', f = f' + 1 := ⟨f - 1, by omega⟩
      rw [List.drop_zero] at b1 b5 ⊢
      rw [X3_whens_35, wpE_ifp (by omega), wpE_lE, wp_rt]
      exact hQ τ b1 b2 b3 b4 b5
    | succ k ih =>
      intro hk f τ hf' b1 b2 b3 b4 b5 b6
      obtain ⟨f', rfl⟩ : ∃ f', f = f' + 1 := ⟨f - 1, by omega⟩
      have hcτ := hc.fr hd hD hn hi b2
      have edrop := List.drop_eq_getElem_cons (show k < L.length by omega)
      have eW : whB Ms s mk i (L.drop k) st = (let x := whB Ms s mk i (L.drop (k + 1)) st; let p := rngB Ms s mk i (L[k]'(by omega)).1 x.2; let y := andB (lvD Ms s) x.1 (if (L[k]'(by omega)).2 = true then ng (p.1 0) else p.1 0) p.2.1; (y.1, y.2, p.2.2)) := by rw [edrop]; rfl
      have hfk := fm k 0
      rw [Nat.zero_add, List.drop_zero] at hfk
      rw [X3_whens_35, wpE_ifn (by omega), wpE_lt, wpE_lt, show (((k + 1 : Nat) : Int) - 1) = (k : Int) by omega]
      refine up τ hcτ k (by omega) 0 k FU _ _ Q (by omega) (by omega) (fun w' hw' => ?_) w (by rw [List.drop_zero]; exact hcτ) (by omega)
      generalize hq : L[k]'(by omega) = q at *
      have hqL : q ∈ L := by rw [← hq]; exact List.getElem_mem _
      rw [edrop] at hw'
      obtain ⟨⟨c1, c2⟩, ⟨c3, c4, c5, c6, c7⟩, -⟩ := hw'
      obtain ⟨z, rfl⟩ := Int.eq_ofNat_of_zero_le c1
      rw [tn] at c5 c6 c7
      rw [X3_whens_68, wpE_bd, MI_22 hMd (by omega) (by omega), tn, c6, wpE_bd, MI_21 hMd (by omega) (by omega), tn, c5, wpE_bdE]
      have hr1 := rngB_ind (P := kpBs) (fun _ _ _ => kpBs.trans) (fun _ => kpBs.refl) (fun _ _ _ => kpBs.net) hp.2.1 (Ms := Ms) (s := s) (i := i) (u := q.1) (st := (whB Ms s mk i (L.drop (k + 1)) st).2)
      have hgo := rngB_go hd hp.1 hi c3 b1.wf
      refine hf i q.1 hi c3 A _ τ b1 (hrd q hqL) _ _ (fun τ2 d1 d2 d3 d4 d5 d6 => ?_) (fun τ2 d1 d2 => hE τ2 (hfk (by rw [eW]; exact fl_and d1)) (b2.trans d2))
      have c4' : gW (gI' Ms s i) q.1 = 1 := c4
      have d60 := d6 0 (by omega)
      rw [Nat.add_zero] at d60
      have d50 := d5 0 (by omega)
      have ht := bN_top hd hi c3
      have g : ∀ j, 21 ≤ j → j ≤ 24 → τ2.1 (o + 27 + 25 * lsM s i + j) = τ.1 (o + 27 + 25 * lsM s i + j) := fun j h1 h2 => by
        rw [show o + 27 + 25 * lsM s i + j = o + (27 + 25 * lsM s i + j) by omega]
        exact d2.row (fun k => bG_D hD hn (by omega))
      have bitL : ltB (lvD Ms s) (rngB Ms s mk i q.1 (whB Ms s mk i (L.drop (k + 1)) st).2).2.1 (if q.2 = true then ng ((rngB Ms s mk i q.1 (whB Ms s mk i (L.drop (k + 1)) st).2).1 0) else (rngB Ms s mk i q.1 (whB Ms s mk i (L.drop (k + 1)) st).2).1 0) := by
        split
        · exact ltB_ng d50
        · exact d50
      have bitE : ixor ((rngB Ms s mk i q.1 (whB Ms s mk i (L.drop (k + 1)) st).2).1 0 : Int) (if q.2 = true then 1 else 0) = ((if q.2 = true then ng ((rngB Ms s mk i q.1 (whB Ms s mk i (L.drop (k + 1)) st).2).1 0) else (rngB Ms s mk i q.1 (whB Ms s mk i (L.drop (k + 1)) st).2).1 0 : Nat) : Int) := by
        have hb := ltB_lt d1.wf.1 hlv d50
        split
        · exact ixor1 hb
        · exact ixor0 hb
      have fin : wpE (X3_whens_126 fd (X3_whens_35 fd f') (i : Int) (o + 27 + 25 * lsM s i) w (k : Int) ((whB Ms s mk i (L.drop (k + 1)) st).1 : Int) ((rngB Ms s mk i q.1 (whB Ms s mk i (L.drop (k + 1)) st).2).1 0 : Int) (if q.2 = true then 1 else 0)) τ2 Q E := by
        rw [X3_whens_126, bitE]
        refine kAnd hn hl ⟨d1.2.1, d1.wf.1, FKX.refl⟩ (hgo.1.1.lt b5) bitL (fun τ3 e1 e2 => hE τ3 (hfk (by rw [eW]; exact e1)) (b2.trans (d2.trans (FKX.agr hn e2)))) (fun τ3 e1 e2 e3 e4 e5 => ?_)
        obtain ⟨x1, x2, x3⟩ := d1.frx hd hD hn e1 e2
        rw [wpE_lt, wpE_lt, w32_i (by omega) (by omega), show (k : Int) + -1 = (k : Int) - 1 by omega]
        have := ih (by omega) f' τ3 (by omega)
        rw [eW] at this
        refine this x1 (b2.trans (d2.trans x2)) (b3.trans ((d3.mono (fun i' n' hh => ?_)).trans (FN.of e4))) (b4.trans b6 (d4.trans hr1 x3)) e3 (b6.trans (hr1.trans kpBs.net))
        rcases hh with ⟨rfl, h2, h3⟩ | hh
        · exact Or.inl ⟨rfl, q, hqL, h2, h3⟩
        · exact Or.inr hh
      have c7' : τ2.1 (o + 27 + 25 * lsM s i + 23) z = (if q.2 = true then 1 else 0) := by rw [g 23 (by omega) (by omega)]; exact c7
      rw [wpE_bd, MI_21 hMd (by omega) (by omega), tn, g 21 (by omega) (by omega), c5, wpE_bd, x_first hd hD d1.1 hi c3, wpE_bd, RI_45 (by omega) (by omega), tn, d60, wpE_bd, MI_23 hMd (by omega) (by omega), tn, c7']
      cases hq2 : q.2 with
      | true =>
        rw [hq2] at fin
        rw [if_pos rfl, wpE_ifn (by decide)]
        rw [if_pos rfl] at fin
        exact fin
      | false =>
        rw [hq2] at fin
        have e0 : (if (false = true) then (1 : Int) else 0) = 0 := rfl
        rw [e0] at fin
        rw [e0, wpE_ifp rfl]
        exact fin
  -- counting
  have cnt : ∀ y d f w', d + y = L.length → y < f → crO Ms s σ o i w' (L.drop d) → wpE (X3_whens_6 fd f (i : Int) (o + 27 + 25 * lsM s i) w (d : Int) w') σ Q E := by
    intro y
    induction y with
    | zero =>
      intro d f w' hdy hf' hw'
      obtain ⟨f', rfl⟩ : ∃ f', f = f' + 1 := ⟨f - 1, by omega⟩
      rw [List.drop_eq_nil_of_le (by omega)] at hw'
      have e : w' = -1 := hw'
      have ed : d = L.length := by omega
      have em := main L.length (Nat.le_refl _) FU σ (by omega)
      rw [List.drop_eq_nil_of_le (Nat.le_refl _)] at em
      rw [X3_whens_6, wpE_ifp (by omega), X3_whens_26, wpE_lt, wpE_lt, w32_i (by omega) (by omega), ed]
      exact em hB agr.refl FN.refl K42.refl ltB1 kpBs.refl
    | succ y ih =>
      intro d f w' hdy hf' hw'
      obtain ⟨f', rfl⟩ : ∃ f', f = f' + 1 := ⟨f - 1, by omega⟩
      rw [List.drop_eq_getElem_cons (show d < L.length by omega)] at hw'
      obtain ⟨⟨c1, c2⟩, -, c8⟩ := hw'
      obtain ⟨q, rfl⟩ := Int.eq_ofNat_of_zero_le c1
      rw [tn] at c8
      rw [X3_whens_6, wpE_ifn (by omega), wpE_lt, wN1 (by omega), wpE_bd, MI_24 hMd (by omega) (by omega), tn, wpE_lt]
      exact ih (d + 1) f' _ (by omega) (by omega) c8
  show wpE (F_X3_whens fd (i : Int) (o + 27 + 25 * lsM s i) w) σ Q E
  rw [F_X3_whens, wpE_lt, wpE_lt]
  exact cnt L.length 0 FU w (by omega) (by omega) (by rw [List.drop_zero]; exact hc)
end
