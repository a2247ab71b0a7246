set_option maxRecDepth 100000
set_option maxHeartbeats 400000
/-! ===== designs: what hangs on what; the component ===== -/
def gI' (Ms : Nat → ModV) (s : LYS) (i : Nat) : NG := mdG (moI Ms s i)
/-- node n of inst i reads signal h -/
def rdA (Ms : Nat → ModV) (s : LYS) (i n h : Nat) : Prop := gO (gI' Ms s i) n = 1 ∧ sgOf s i (gA (gI' Ms s i) n).toNat (gB (gI' Ms s i) n) = h
/-- an expression reads h -/
def rdE (Ms : Nat → ModV) (s : LYS) (i u h : Nat) : Prop := ∃ n, gF (gI' Ms s i) u ≤ n ∧ n ≤ u ∧ rdA Ms s i n h
/-- g hangs on h -/
def hgP (Ms : Nat → ModV) (s : LYS) (g h : Nat) : Prop := ¬ stG Ms s g ∧ ¬ stG Ms s h ∧ ∃ c, c ∈ conL Ms s g ∧ (rdE Ms s (coI Ms s g) (mdVl (moI Ms s (coI Ms s g)) c) h ∨ ∃ q, q ∈ mdCh (moI Ms s (coI Ms s g)) c ∧ rdE Ms s (coI Ms s g) q.1 h)
/-- one bit of four longs a signal -/
def hb (r : Nat → Int64) (g h : Nat) : Bool := (r (4 * g + h / 64)).toBitVec.getLsbD (h % 64)
theorem hs_bit : ∀ i b : Fin 64, (lshl 1 ((i : Nat) : Int)).toBitVec.getLsbD (b : Nat) = decide ((b : Nat) = (i : Nat)) := by decide +kernel
theorem hb_set {r : Nat → Int64} {g h g' h' : Nat} (hh : h < 256) (hh' : h' < 256) : hb (ups r (4 * g + h / 64) (r (4 * g + h / 64) ||| lshl 1 ((h % 64 : Nat) : Int))) g' h' = (hb r g' h' || decide (g' = g ∧ h' = h)) := by
  unfold hb
  by_cases e : 4 * g' + h' / 64 = 4 * g + h / 64
  · rw [e, ups_eq, Int64.toBitVec_or, BitVec.getLsbD_or, hs_bit ⟨h % 64, by omega⟩ ⟨h' % 64, by omega⟩]
    congr 1
    show decide (h' % 64 = h % 64) = decide (g' = g ∧ h' = h)
    rw [decide_eq_decide]
    constructor
    · intro q; omega
    · intro q; omega
  · rw [ups_ne e, decide_eq_false (show ¬ (g' = g ∧ h' = h) by rintro ⟨q1, q2⟩; subst q1; subst q2; exact e rfl), Bool.or_false]
theorem agr.v' {P : Nat → Nat → Prop} {σ τ : St} (h : agr P σ τ) {a : Nat} (ha : ∀ {i : Nat}, ¬ P a i) (g : Nat → Int64) : agr P σ (τ.1, stA τ.2.1 a g, τ.2.2) := h.v (fun k hk => absurd hk ha)
section
variable {Ms : Nat → ModV} {top : Nat} {s : LYS} {σ σ' τ τ' : St} {o S : Nat}
theorem e64 {g h : Nat} (hg : g < 200) (hh : h < 200) : w32 (w32 (4 * (g : Int)) + idiv (h : Int) 64) = ((4 * g + h / 64 : Nat) : Int) := by
  rw [idiv64 (by omega) (by omega), w32_i (x := 4 * (g : Int)) (by omega) (by omega), w32_i (by omega) (by omega)]
  omega
theorem m64 {h : Nat} (hh : h < 200) : irem (h : Int) 64 = ((h % 64 : Nat) : Int) := by
  rw [irem64 (by omega) (by omega)]
  omega
/-- has -/
theorem has_v {a g h : Nat} (hl : la a = 800) (hg : g < 200) (hh : h < 200) {Q : Int → St → Prop} : wp (F_X13_has a (g : Int) (h : Int)) σ Q = Q (if hb (σ.2.1 a) g h = true then 1 else 0) σ := by
  rw [F_X13_has, wp_bd, e64 hg hh, c_rdL (n := 800) hl (by omega) (by omega), tn, m64 hh]
  have hm : h % 64 < 64 := Nat.mod_lt _ (by decide)
  unfold hb
  by_cases c : (σ.2.1 a (4 * g + h / 64)).toBitVec.getLsbD (h % 64) = true
  · rw [wp_ifp (by rw [lbit hm, if_pos c]; decide), c_rtZ (by decide) (by decide), if_pos c]
  · rw [wp_ifn (by rw [lbit hm, if_neg c]; decide), c_rtZ (by decide) (by decide), if_neg c]
/-- a node that reads -/
theorem DP.nod (hd : DP Ms top s) {i n : Nat} (hi : i < lsI s) (hn : n < mdN (moI Ms s i)) : nodW (RDk (mdT (moI Ms s i)) (mdkd (moI Ms s i)) (mdwd (moI Ms s i)) (mdpt (moI Ms s i)) (fun x => mdT (Ms x)) (fun x => mdkd (Ms x)) (fun x => mdwd (Ms x))) (WDk (mdT (moI Ms s i)) (mdkd (moI Ms s i)) (mdwd (moI Ms s i))) (gI' Ms s i) n := (hd.inst hi).2.2.2.2.1.2 n hn
theorem DP.rd (hd : DP Ms top s) {i n : Nat} (hi : i < lsI s) (hn : n < mdN (moI Ms s i)) (h1 : gO (gI' Ms s i) n = 1) : ∃ t : Nat, gA (gI' Ms s i) n = (t : Int) ∧ t < mdT (moI Ms s i) ∧ (gB (gI' Ms s i) n = -1 ∧ mdkd (moI Ms s i) t ≠ 5 ∨ ∃ p : Nat, gB (gI' Ms s i) n = (p : Int) ∧ mdkd (moI Ms s i) t = 5 ∧ p < mdT (Ms (mdpt (moI Ms s i) t))) ∧ sgOf s i t (gB (gI' Ms s i) n) < lsG s ∧ kdS Ms s (sgOf s i t (gB (gI' Ms s i) n)) ≠ 4 ∧ wdS Ms s (sgOf s i t (gB (gI' Ms s i) n)) = gW (gI' Ms s i) n := by
  obtain ⟨-, t, e1, e2, e3⟩ := (hd.nod hi hn).2.2.1 h1
  refine ⟨t, e1, e2, ?_⟩
  rcases e3 with ⟨q1, q2, q3⟩ | ⟨p, q1, q2, q3, q4, q5⟩
  · obtain ⟨b1, b2, b3, b4⟩ := hd.thing hi e2 (by omega)
    rw [q1, sgOf_n]
    refine ⟨Or.inl ⟨rfl, by omega⟩, b1, by omega, ?_⟩
    unfold wdS
    rw [b2, b3]
    exact q3.symm
  · obtain ⟨b1, b2, b3, b4, b5⟩ := hd.part hi e2 q2
    have q4' : mdkd (moI Ms s (lsL s (40 * i + t))) p = 1 := by
      show mdkd (Ms (lsM s (lsL s (40 * i + t)))) p = 1
      rw [b5]; exact q4
    obtain ⟨d1, d2, d3, d4⟩ := hd.thing (i := lsL s (40 * i + t)) (t := p) b2 (by
      show p < mdT (Ms (lsM s (lsL s (40 * i + t))))
      rw [b5]; exact q3) (by omega)
    rw [q1, sgOf_p]
    refine ⟨Or.inr ⟨p, rfl, q2, q3⟩, d1, by omega, ?_⟩
    unfold wdS
    rw [d2, d3, b5]
    exact q5.symm
theorem DP.rm (hd : DP Ms top s) {i n : Nat} (hi : i < lsI s) (hn : n < mdN (moI Ms s i)) (h1 : gO (gI' Ms s i) n = 2) : ∃ t : Nat, gA (gI' Ms s i) n = (t : Int) ∧ t < mdT (moI Ms s i) ∧ mdkd (moI Ms s i) t = 4 ∧ lsL s (40 * i + t) < lsG s ∧ kdS Ms s (lsL s (40 * i + t)) = 4 ∧ wdS Ms s (lsL s (40 * i + t)) = gW (gI' Ms s i) n ∧ 0 < n ∧ gB (gI' Ms s i) n = ((n - 1 : Nat) : Int) ∧ gF (gI' Ms s i) n = gF (gI' Ms s i) (n - 1) := by
  obtain ⟨⟨t, e1, e2, e3, e4⟩, e5, e6, e7⟩ := (hd.nod hi hn).2.2.2.1 h1
  obtain ⟨b1, b2, b3, b4⟩ := hd.thing hi e2 (by omega)
  refine ⟨t, e1, e2, e3, b1, by omega, ?_, e5, e6, e7⟩
  unfold wdS
  rw [b2, b3]
  exact e4.symm
/-- the bits say what H says -/
def HX (r : Nat → Int64) (H : Nat → Nat → Prop) : Prop := ∀ g h, g < 200 → h < 200 → (hb r g h = true ↔ H g h)
theorem HX.cong {r : Nat → Int64} {H H' : Nat → Nat → Prop} (h : HX r H) (e : ∀ g h, g < 200 → h < 200 → (H g h ↔ H' g h)) : HX r H' := fun g k hg hk => (h g k hg hk).trans (e g k hg hk)
def hF (o a : Nat) (_ : Nat) : Prop := a ≠ o + 14
/-- the roots of expressions -/
theorem DP.root (hd : DP Ms top s) {i c : Nat} (hi : i < lsI s) (hc : c < mdC (moI Ms s i)) : mdVl (moI Ms s i) c < mdN (moI Ms s i) := by
  obtain ⟨t, e1, e2, e3, h⟩ := ((hd.inst hi).2.2.2.2.2.1 c hc).1
  exact e3
theorem hangOnX (hd : DP Ms top s) (hD : isD o) (hX : DX σ o Ms top s) {g i u : Nat} (hg : g < lsG s) (hi : i < lsI s) (hu : u < mdN (moI Ms s i)) {H : Nat → Nat → Prop} (hH : HX (σ.2.1 (o + 14)) H) : wp (F_X13_hangOn o (g : Int) (i : Int) (o + 27 + 25 * lsM s i) (gF (gI' Ms s i) u : Int) (u : Int)) σ (fun _ σ' => agr (hF o) σ σ' ∧ HX (σ'.2.1 (o + 14)) (fun a b => H a b ∨ (a = g ∧ ¬ stG Ms s b ∧ rdE Ms s i u b))) := by
  have hFU := FU_ge
  have h200 := hd.2.1.2
  have h101 := hd.2.1.1.2
  have h12 := hd.1.1
  obtain ⟨hm, ok⟩ := hd.inst hi
  have hMd := isMd_D hD (show lsM s i < 12 by omega)
  have n240 : mdN (moI Ms s i) ≤ 240 := ok.1.2.1
  have hfu := (hd.nod hi hu).1.2.2.2
  have key : ∀ k n f σ1, n + k = u + 1 → gF (gI' Ms s i) u ≤ n → k < f → agr (hF o) σ σ1 → HX (σ1.2.1 (o + 14)) (fun a b => H a b ∨ (a = g ∧ ¬ stG Ms s b ∧ ∃ n', gF (gI' Ms s i) u ≤ n' ∧ n' < n ∧ rdA Ms s i n' b)) → wp (X13_hangOn_4 o f (g : Int) (i : Int) (o + 27 + 25 * lsM s i) (u : Int) (n : Int)) σ1 (fun _ σ' => agr (hF o) σ σ' ∧ HX (σ'.2.1 (o + 14)) (fun a b => H a b ∨ (a = g ∧ ¬ stG Ms s b ∧ rdE Ms s i u b))) := by
    intro k
    induction k with
    | zero =>
      intro n f σ1 hn hfn hf hA hb1
      obtain ⟨f', rfl⟩ : ∃ f', f = f' + 1 := ⟨f - 1, by omega⟩
      rw [X13_hangOn_4, wp_ifp (by omega), wp_rt]
      refine ⟨hA, hb1.cong (fun a b _ _ => ?_)⟩
      constructor
      · rintro (h | ⟨h1, h2, n', h3, h4, h5⟩)
        · exact Or.inl h
        · exact Or.inr ⟨h1, h2, n', h3, by omega, h5⟩
      · rintro (h | ⟨h1, h2, n', h3, h4, h5⟩)
        · exact Or.inl h
        · exact Or.inr ⟨h1, h2, n', h3, by omega, h5⟩
    | succ k ih =>
      intro n f σ1 hn hfn hf hA hb1
      obtain ⟨f', rfl⟩ : ∃ f', f = f' + 1 := ⟨f - 1, by omega⟩
      have hX1 := hX.fr hd.1.1 (agr.sub hA (fun a i h => by unfold dP at h; unfold hF; omega))
      have hnl : n < mdN (moI Ms s i) := by omega
      obtain ⟨m9, m10, m11, -⟩ := (hX1.2.2.1 _ hm).2.2.1 n hnl
      have m9' : σ1.1 (o + 27 + 25 * lsM s i + 9) n = (gO (gI' Ms s i) n : Int) := m9
      have m10' : σ1.1 (o + 27 + 25 * lsM s i + 10) n = gA (gI' Ms s i) n := m10
      have m11' : σ1.1 (o + 27 + 25 * lsM s i + 11) n = gB (gI' Ms s i) n := m11
      have nxt : ∀ σ2, agr (hF o) σ σ2 → HX (σ2.2.1 (o + 14)) (fun a b => H a b ∨ (a = g ∧ ¬ stG Ms s b ∧ ∃ n', gF (gI' Ms s i) u ≤ n' ∧ n' < n + 1 ∧ rdA Ms s i n' b)) → wp (X13_hangOn_79 o (X13_hangOn_4 o f') (g : Int) (i : Int) (o + 27 + 25 * lsM s i) (u : Int) (n : Int)) σ2 (fun _ σ' => agr (hF o) σ σ' ∧ HX (σ'.2.1 (o + 14)) (fun a b => H a b ∨ (a = g ∧ ¬ stG Ms s b ∧ rdE Ms s i u b))) := by
        intro σ2 hA2 hb2
        rw [X13_hangOn_79, wp_lt, w32_i (by omega) (by omega), show (n : Int) + 1 = ((n + 1 : Nat) : Int) by omega]
        exact ih (n + 1) f' σ2 (by omega) (by omega) (by omega) hA2 hb2
      have skip : (∀ b, ¬ stG Ms s b → ¬ rdA Ms s i n b) → HX (σ1.2.1 (o + 14)) (fun a b => H a b ∨ (a = g ∧ ¬ stG Ms s b ∧ ∃ n', gF (gI' Ms s i) u ≤ n' ∧ n' < n + 1 ∧ rdA Ms s i n' b)) := fun hno => hb1.cong (fun a b _ _ => by
        constructor
        · rintro (h | ⟨h1, h2, n', h3, h4, h5⟩)
          · exact Or.inl h
          · exact Or.inr ⟨h1, h2, n', h3, by omega, h5⟩
        · rintro (h | ⟨h1, h2, n', h3, h4, h5⟩)
          · exact Or.inl h
          · by_cases e : n' = n
            · subst e; exact absurd h5 (hno b h2)
            · exact Or.inr ⟨h1, h2, n', h3, by omega, h5⟩)
      rw [X13_hangOn_4, wp_ifn (by omega), wp_bd, MI_9 hMd (by omega) (by omega), tn, m9']
      by_cases c1 : gO (gI' Ms s i) n = 1
      · obtain ⟨t, t1, t2, t3, t4, t5, -⟩ := hd.rd hi hnl c1
        have t200 := h200
        rw [wp_ifp (by omega), wp_bd, MI_10 hMd (by omega) (by omega), tn, m10', t1, wp_bd, MI_11 hMd (by omega) (by omega), tn, m11', wp_bd, x_sgOf hd hD hX1 hi t2 (by
          rcases t3 with h | ⟨p, h1, h2, h3⟩
          · exact Or.inl h.1
          · exact Or.inr ⟨p, h1, h2, h3⟩), wp_lt, wp_bd, x_state hd hD hX1 t4]
        have hR : ∀ b, rdA Ms s i n b ↔ sgOf s i t (gB (gI' Ms s i) n) = b := fun b => by
          unfold rdA
          rw [t1, tn]
          exact ⟨fun h => h.2, fun h => ⟨c1, h⟩⟩
        generalize sgOf s i t (gB (gI' Ms s i) n) = h at t4 hR
        by_cases cs : stG Ms s h
        · rw [b01_y cs, wp_ifn (by decide)]
          exact nxt σ1 hA (skip (fun b hb hr => hb (by rw [← (hR b).mp hr]; exact cs)))
        · rw [b01_n cs, wp_ifp rfl, wp_bd, e64 (by omega) (by omega), DI_14 hD (by omega) (by omega), tn, wp_bd, DV_14 hD (by omega) (by omega), tn, m64 (by omega)]
          refine nxt _ (hA.v' (fun {i} h => h rfl) _) (fun a b ha hbb => ?_)
          dsimp only
          rw [stA_eq, hb_set (by omega) (by omega), Bool.or_eq_true, hb1 a b ha hbb, decide_eq_true_eq]
          constructor
          · rintro ((q | ⟨q1, q2, n', q3, q4, q5⟩) | ⟨q1, q2⟩)
            · exact Or.inl q
            · exact Or.inr ⟨q1, q2, n', q3, by omega, q5⟩
            · subst q1; subst q2
              exact Or.inr ⟨rfl, cs, n, hfn, by omega, (hR _).mpr rfl⟩
          · rintro (q | ⟨q1, q2, n', q3, q4, q5⟩)
            · exact Or.inl (Or.inl q)
            · by_cases e : n' = n
              · subst e
                exact Or.inr ⟨q1, ((hR b).mp q5).symm⟩
              · exact Or.inl (Or.inr ⟨q1, q2, n', q3, by omega, q5⟩)
      · rw [wp_ifn (by omega)]
        exact nxt σ1 hA (skip (fun b _ hr => c1 hr.1))
  rw [F_X13_hangOn, wp_lt]
  refine key (u + 1 - gF (gI' Ms s i) u) (gF (gI' Ms s i) u) FU σ (by omega) (Nat.le_refl _) (by omega) agr.refl (hH.cong (fun a b _ _ => ⟨Or.inl, fun h => ?_⟩))
  rcases h with h | ⟨-, -, n', h3, h4, -⟩
  · exact h
  · omega
theorem hangWX (hd : DP Ms top s) (hD : isD o) (hX : DX σ o Ms top s) {g i : Nat} (hg : g < lsG s) (hi : i < lsI s) : ∀ (L : List (Nat × Bool)) (w : Int) (f : Nat) σ1 (H : Nat → Nat → Prop), L.length < f → crX (σ.1 (o + 27 + 25 * lsM s i + 21)) (σ.1 (o + 27 + 25 * lsM s i + 22)) (σ.1 (o + 27 + 25 * lsM s i + 23)) (σ.1 (o + 27 + 25 * lsM s i + 24)) (gI' Ms s i) (mdN (moI Ms s i)) (mdW (moI Ms s i)) w L → agr (hF o) σ σ1 → HX (σ1.2.1 (o + 14)) H → wp (X13_hangOnWhens_4 o f (g : Int) (i : Int) (o + 27 + 25 * lsM s i) w) σ1 (fun _ σ' => agr (hF o) σ σ' ∧ HX (σ'.2.1 (o + 14)) (fun a b => H a b ∨ (a = g ∧ ¬ stG Ms s b ∧ ∃ q, q ∈ L ∧ rdE Ms s i q.1 b)))
  | [], w, f, σ1, H, hf, hc, hA, hH => by
    obtain ⟨f', rfl⟩ : ∃ f', f = f' + 1 := ⟨f - 1, by simp at hf; omega⟩
    have e : w = -1 := hc
    rw [X13_hangOnWhens_4, wp_ifp (by omega), wp_rt]
    refine ⟨hA, hH.cong (fun a b _ _ => ⟨Or.inl, fun h => ?_⟩)⟩
    rcases h with h | ⟨-, -, q, hq, -⟩
    · exact h
    · cases hq
  | q :: L, w, f, σ1, H, hf, hc, hA, hH => by
    have hf' : L.length + 1 < f := hf
    obtain ⟨f', rfl⟩ : ∃ f', f = f' + 1 := ⟨f - 1, by omega⟩
    have h12 := hd.1.1
    obtain ⟨hm, ok⟩ := hd.inst hi
    have hMd := isMd_D hD (show lsM s i < 12 by omega)
    have w240 : mdW (moI Ms s i) ≤ 240 := ok.1.2.2.2.1
    obtain ⟨⟨c1, c2⟩, ⟨c3, c4, c5, c6, c7⟩, c8⟩ := hc
    obtain ⟨k, rfl⟩ := Int.eq_ofNat_of_zero_le c1
    rw [tn] at c5 c6 c7 c8
    have hX1 := hX.fr hd.1.1 (agr.sub hA (fun a i h => by unfold dP at h; unfold hF; omega))
    have r21 : σ1.1 (o + 27 + 25 * lsM s i + 21) k = (q.1 : Int) := by rw [(hA _ k (by unfold hF; omega)).1]; exact c5
    have r22 : σ1.1 (o + 27 + 25 * lsM s i + 22) k = (gF (gI' Ms s i) q.1 : Int) := by rw [(hA _ k (by unfold hF; omega)).1]; exact c6
    rw [X13_hangOnWhens_4, wp_ifn (by omega), wp_bd, MI_22 hMd (by omega) (by omega), tn, r22, wp_bd, MI_21 hMd (by omega) (by omega), tn, r21, wp_bd]
    refine wp_mono (hangOnX hd hD hX1 hg hi c3 hH) ?_
    rintro _ σ2 ⟨hA2, hH2⟩
    have hA2' := hA.trans hA2
    have r24 : σ2.1 (o + 27 + 25 * lsM s i + 24) k = σ.1 (o + 27 + 25 * lsM s i + 24) k := (hA2' _ k (by unfold hF; omega)).1
    rw [wp_bd, MI_24 hMd (by omega) (by omega), tn, r24, wp_lt]
    refine wp_mono (hangWX hd hD hX hg hi L _ f' σ2 _ (by omega) c8 hA2' hH2) ?_
    rintro _ σ3 ⟨hA3, hH3⟩
    refine ⟨hA3, hH3.cong (fun a b _ _ => ?_)⟩
    constructor
    · rintro ((h | ⟨h1, h2, h3⟩) | ⟨h1, h2, q', h3, h4⟩)
      · exact Or.inl h
      · exact Or.inr ⟨h1, h2, q, List.mem_cons_self, h3⟩
      · exact Or.inr ⟨h1, h2, q', List.mem_cons_of_mem _ h3, h4⟩
    · rintro (h | ⟨h1, h2, q', h3, h4⟩)
      · exact Or.inl (Or.inl h)
      · rcases List.mem_cons.mp h3 with e | e
        · subst e; exact Or.inl (Or.inr ⟨h1, h2, h4⟩)
        · exact Or.inr ⟨h1, h2, q', e, h4⟩
/-- what g's connections of a list read -/
def hgL (Ms : Nat → ModV) (s : LYS) (g h : Nat) (L : List Nat) : Prop := ¬ stG Ms s h ∧ ∃ c, c ∈ L ∧ (rdE Ms s (coI Ms s g) (mdVl (moI Ms s (coI Ms s g)) c) h ∨ ∃ q, q ∈ mdCh (moI Ms s (coI Ms s g)) c ∧ rdE Ms s (coI Ms s g) q.1 h)
theorem findHX (hd : DP Ms top s) (hD : isD o) (hX : DX σ o Ms top s) (hC : CH σ o Ms s) : wp (F_X13_findHangs o) σ (fun _ σ' => agr (hF o) σ σ' ∧ HX (σ'.2.1 (o + 14)) (fun g h => g < lsG s ∧ hgP Ms s g h)) := by
  have hFU := FU_ge
  have h200 := hd.2.1.2
  have h101 := hd.2.1.1.2
  have h12 := hd.1.1
  -- the signals
  have key : ∀ k g f σ1, g + k = lsG s → k < f → agr (hF o) σ σ1 → HX (σ1.2.1 (o + 14)) (fun a b => a < g ∧ hgP Ms s a b) → wp (X13_findHangs_24 o f (g : Int)) σ1 (fun _ σ' => agr (hF o) σ σ' ∧ HX (σ'.2.1 (o + 14)) (fun g h => g < lsG s ∧ hgP Ms s g h)) := by
    intro k
    induction k with
    | zero =>
      intro g f σ1 hg hf hA hH
      obtain ⟨f', rfl⟩ : ∃ f', f = f' + 1 := ⟨f - 1, by omega⟩
      have hX1 := hX.fr hd.1.1 (agr.sub hA (fun a i h => by unfold dP at h; unfold hF; omega))
      rw [X13_findHangs_24, wp_bd, wp_gI, hX1.1.1.2, wp_ifp (by omega), wp_rt]
      rw [show g = lsG s by omega] at hH
      exact ⟨hA, hH⟩
    | succ k ih =>
      intro g f σ1 hg hf hA hH
      obtain ⟨f', rfl⟩ : ∃ f', f = f' + 1 := ⟨f - 1, by omega⟩
      have hX1 := hX.fr hd.1.1 (agr.sub hA (fun a i h => by unfold dP at h; unfold hF; omega))
      have hgl : g < lsG s := by omega
      have nxt : ∀ σ2, agr (hF o) σ σ2 → HX (σ2.2.1 (o + 14)) (fun a b => a < g + 1 ∧ hgP Ms s a b) → wp (X13_findHangs_134 o (X13_findHangs_24 o f') (g : Int)) σ2 (fun _ σ' => agr (hF o) σ σ' ∧ HX (σ'.2.1 (o + 14)) (fun g h => g < lsG s ∧ hgP Ms s g h)) := by
        intro σ2 hA2 hH2
        rw [X13_findHangs_134, wp_lt, w32_i (by omega) (by omega), show (g : Int) + 1 = ((g + 1 : Nat) : Int) by omega]
        exact ih (g + 1) f' σ2 (by omega) (by omega) hA2 hH2
      rw [X13_findHangs_24, wp_bd, wp_gI, hX1.1.1.2, wp_ifn (by omega), wp_bd, x_state hd hD hX1 hgl]
      by_cases cs : stG Ms s g
      · rw [b01_y cs, wp_ifn (by decide)]
        refine nxt σ1 hA (hH.cong (fun a b _ _ => ⟨fun h => ⟨by omega, h.2⟩, fun h => ⟨?_, h.2⟩⟩))
        by_cases e : a = g
        · subst e; exact absurd cs h.2.1
        · omega
      · have hC1 : CH σ1 o Ms s := hC.fr (fun a q1 q2 => hA.row (fun i => by unfold hF; omega))
        rw [b01_n cs, wp_ifp rfl, wp_bd, DI_12 hD (by omega) (by omega), tn, wp_lt]
        -- the chain
        have chain : ∀ (L P : List Nat) (l : Int) (f : Nat) σ2, conL Ms s g = P ++ L → L.length < f → chn (σ1.1 (o + 10)) (σ1.1 (o + 9)) (σ1.1 (o + 11)) (coI Ms s g) 6100 l L → agr (hF o) σ σ2 → HX (σ2.2.1 (o + 14)) (fun a b => (a < g ∧ hgP Ms s a b) ∨ (a = g ∧ hgL Ms s g b P)) → wp (X13_findHangs_50 o (X13_findHangs_24 o f') f (g : Int) l) σ2 (fun _ σ' => agr (hF o) σ σ' ∧ HX (σ'.2.1 (o + 14)) (fun g h => g < lsG s ∧ hgP Ms s g h)) := by
          intro L
          induction L with
          | nil =>
            intro P l f σ2 hL hf hc hA2 hH2
            obtain ⟨f'', rfl⟩ : ∃ f'', f = f'' + 1 := ⟨f - 1, by simp at hf; omega⟩
            have e : l = -1 := hc
            rw [X13_findHangs_50, wp_ifp (by omega)]
            rw [List.append_nil] at hL
            refine nxt σ2 hA2 (hH2.cong (fun a b _ _ => ?_))
            constructor
            · rintro (⟨q1, q2⟩ | ⟨q1, q2, q3⟩)
              · exact ⟨by omega, q2⟩
              · subst q1
                rw [← hL] at q3
                exact ⟨by omega, cs, q2, q3⟩
            · rintro ⟨q1, q2⟩
              by_cases e : a = g
              · subst e
                rw [← hL]
                exact Or.inr ⟨rfl, q2.2.1, q2.2.2⟩
              · exact Or.inl ⟨by omega, q2⟩
          | cons c L ihL =>
            intro P l f σ2 hL hf hc hA2 hH2
            have hf2 : L.length + 1 < f := hf
            obtain ⟨f'', rfl⟩ : ∃ f'', f = f'' + 1 := ⟨f - 1, by omega⟩
            obtain ⟨q, q1, q2, q3, q4, q5⟩ := hc
            subst q1
            have hX2 := hX.fr hd.1.1 (agr.sub hA2 (fun a i h => by unfold dP at h; unfold hF; omega))
            have hmem : c ∈ conL Ms s g := by rw [hL]; exact List.mem_append.mpr (Or.inr List.mem_cons_self)
            obtain ⟨z1, z2, z3, z4, -⟩ := hd.conL_mem hgl hmem
            obtain ⟨hm, ok⟩ := hd.inst z2
            have c60 : mdC (moI Ms s (coI Ms s g)) ≤ 60 := ok.1.2.2.1
            have hMd := isMd_D hD (show lsM s (coI Ms s g) < 12 by omega)
            have e12 : ∀ σ3, agr (hF o) σ σ3 → ∀ a i, a ≠ o + 14 → σ3.1 a i = σ1.1 a i := fun σ3 h a i ha => ((h a i ha).1).trans ((hA a i ha).1).symm
            have r9 : σ2.1 (o + 9) q = (coI Ms s g : Int) := by rw [e12 σ2 hA2 _ _ (by omega)]; exact q3
            have r10 : σ2.1 (o + 10) q = (c : Int) := by rw [e12 σ2 hA2 _ _ (by omega)]; exact q4
            have r20 : (σ2.1 (o + 27 + 25 * lsM s (coI Ms s g) + 20)) c = σ2.1 (o + 27 + 25 * lsM s (coI Ms s g) + 20) c := rfl
            obtain ⟨⟨-, -, -, m18, m19, -⟩, mch⟩ := (hX2.2.2.1 _ hm).2.2.2 c z3
            rw [X13_findHangs_50, wp_ifn (by omega), wp_bd, DI_9 hD (by omega) (by omega), tn, r9, wp_bd, DI_2 hD (by omega) (by omega), tn, (hX2.1.2.1 _ z2).1, wp_bd, DI_1 hD (by omega) (by omega), tn, hX2.2.1 _ (by omega), wp_bd, DI_10 hD (by omega) (by omega), tn, r10, wp_lt, wp_bd, DI_9 hD (by omega) (by omega), tn, r9, wp_nn, wp_ck, and_t (ly_Md hMd), wp_bd, MI_20 hMd (by omega) (by omega), tn, wp_bd, F_X13_hangOnWhens, wp_lt]
            refine wp_mono (hangWX hd hD hX2 hgl z2 (mdCh (moI Ms s (coI Ms s g)) c) _ FU σ2 _ (by have := ((ok.2.2.2.2.1 c z3).2.1); omega) mch agr.refl hH2) ?_
            rintro _ σ3 ⟨hA3, hH3⟩
            have hA3' := hA2.trans hA3
            have hX3 := hX.fr hd.1.1 (agr.sub hA3' (fun a i h => by unfold dP at h; unfold hF; omega))
            obtain ⟨⟨-, -, -, m18, m19, -⟩, -⟩ := (hX3.2.2.1 _ hm).2.2.2 c z3
            have m18' : σ3.1 (o + 27 + 25 * lsM s (coI Ms s g) + 18) c = (mdVl (moI Ms s (coI Ms s g)) c : Int) := m18
            have m19' : σ3.1 (o + 27 + 25 * lsM s (coI Ms s g) + 19) c = (gF (gI' Ms s (coI Ms s g)) (mdVl (moI Ms s (coI Ms s g)) c) : Int) := m19
            have r9' : σ3.1 (o + 9) q = (coI Ms s g : Int) := by rw [e12 σ3 hA3' _ _ (by omega)]; exact q3
            rw [wp_bd, DI_9 hD (by omega) (by omega), tn, r9', wp_bd, MI_19 hMd (by omega) (by omega), tn, m19', wp_bd, MI_18 hMd (by omega) (by omega), tn, m18', wp_bd]
            refine wp_mono (hangOnX hd hD hX3 hgl z2 (hd.root z2 z3) hH3) ?_
            rintro _ σ4 ⟨hA4, hH4⟩
            have hA4' := hA3'.trans hA4
            rw [wp_bd, DI_11 hD (by omega) (by omega), tn, e12 σ4 hA4' _ _ (by omega), wp_lt]
            refine ihL (P ++ [c]) _ f'' σ4 (by rw [hL, List.append_assoc]; rfl) (by omega) q5 hA4' (hH4.cong (fun a b _ _ => ?_))
            constructor
            · rintro ((( h | ⟨h1, h2, c', h3, h4⟩) | ⟨h1, h2, h3⟩) | ⟨h1, h2, h3⟩)
              · exact Or.inl h
              · exact Or.inr ⟨h1, h2, c', List.mem_append.mpr (Or.inl h3), h4⟩
              · exact Or.inr ⟨h1, h2, c, List.mem_append.mpr (Or.inr List.mem_cons_self), Or.inr h3⟩
              · exact Or.inr ⟨h1, h2, c, List.mem_append.mpr (Or.inr List.mem_cons_self), Or.inl h3⟩
            · rintro (h | ⟨h1, h2, c', h3, h4⟩)
              · exact Or.inl (Or.inl (Or.inl h))
              · rcases List.mem_append.mp h3 with e | e
                · exact Or.inl (Or.inl (Or.inr ⟨h1, h2, c', e, h4⟩))
                · rcases List.mem_cons.mp e with e | e
                  · subst e
                    rcases h4 with h4 | h4
                    · exact Or.inr ⟨h1, h2, h4⟩
                    · exact Or.inl (Or.inr ⟨h1, h2, h4⟩)
                  · cases e
        refine chain (conL Ms s g) [] _ FU σ1 rfl ?_ (hC1 g hgl) hA (hH.cong (fun a b _ _ => ⟨Or.inl, fun h => ?_⟩))
        · by_cases ct : tiG Ms s g
          · rw [conL_ti ct]; show 0 < FU; omega
          · rw [hd.conL_eq hgl ct]
            have := List.length_filter_le (isC Ms s g) (List.range (mdC (moI Ms s (coI Ms s g))))
            rw [List.length_range] at this
            have c60 : mdC (moI Ms s (coI Ms s g)) ≤ 60 := (hd.inst (hd.co hgl ct).1).2.1.2.2.1
            omega
        · rcases h with h | ⟨-, -, c, hc, -⟩
          · exact h
          · cases hc
  -- no bits
  have zero : ∀ k j f σ1, j + k = 800 → k < f → agr (hF o) σ σ1 → (∀ x, x < j → σ1.2.1 (o + 14) x = 0) → wp (X13_findHangs_2 o f (j : Int)) σ1 (fun _ σ' => agr (hF o) σ σ' ∧ HX (σ'.2.1 (o + 14)) (fun g h => g < lsG s ∧ hgP Ms s g h)) := by
    intro k
    induction k with
    | zero =>
      intro j f σ1 hj hf hA h0
      obtain ⟨f', rfl⟩ : ∃ f', f = f' + 1 := ⟨f - 1, by omega⟩
      rw [X13_findHangs_2, wp_ifp (by omega), X13_findHangs_22, wp_lt]
      refine key (lsG s) 0 FU σ1 (by omega) (by omega) hA (fun g h hg hh => ?_)
      unfold hb
      rw [h0 _ (by omega), show (0 : Int64).toBitVec = 0#64 from rfl, BitVec.getLsbD_zero]
      exact ⟨(fun h => absurd h (by decide)), fun h => absurd h.1 (Nat.not_lt_zero _)⟩
    | succ k ih =>
      intro j f σ1 hj hf hA h0
      obtain ⟨f', rfl⟩ : ∃ f', f = f' + 1 := ⟨f - 1, by omega⟩
      rw [X13_findHangs_2, wp_ifn (by omega), wp_bd, DV_14 hD (by omega) (by omega), tn, wp_lt, w32_i (by omega) (by omega), show (j : Int) + 1 = ((j + 1 : Nat) : Int) by omega]
      refine ih (j + 1) f' _ (by omega) (by omega) (hA.v' (fun {i} h => h rfl) _) (fun x hx => ?_)
      dsimp only
      rw [stA_eq]
      by_cases e : x = j
      · subst e; rw [ups_eq]
      · rw [ups_ne e]; exact h0 x (by omega)
  rw [F_X13_findHangs, wp_lt]
  exact zero 800 0 FU σ (by omega) (by omega) agr.refl (fun x hx => absurd hx (Nat.not_lt_zero x))
end
