set_option maxRecDepth 100000
set_option maxHeartbeats 400000
/-! ===== bits: the component makes a node that puts others together ===== -/
section
variable {Ms : Nat → ModV} {top : Nat} {s : LYS} {σ : St} {o n i : Nat} {B : NB} {E : XV → St → Prop} {Q : Unit → St → Prop}
/-- the nodes of an expression so far -/
def EVX (Ms : Nat → ModV) (s : LYS) (B : NB) (σ : St) (i a m : Nat) (e : Nat → Nat → Nat) : Prop := ∀ q, a ≤ q → q < m → ltA (lvD Ms s) B (gW (gI' Ms s i) q) (e q) ∧ ∀ j, j < gW (gI' Ms s i) q → σ.1 45 (bNd Ms s i q + j) = (e q j : Int)
theorem row_x (hX : DX σ o Ms top s) (hd : DP Ms top s) (hi : i < lsI s) {m : Nat} (hm : m < mdN (moI Ms s i)) : σ.1 (o + 27 + 25 * lsM s i + 9) m = (gO (gI' Ms s i) m : Int) ∧ σ.1 (o + 27 + 25 * lsM s i + 10) m = gA (gI' Ms s i) m ∧ σ.1 (o + 27 + 25 * lsM s i + 11) m = gB (gI' Ms s i) m ∧ σ.1 (o + 27 + 25 * lsM s i + 12) m = gC (gI' Ms s i) m ∧ σ.1 (o + 27 + 25 * lsM s i + 13) m = (gW (gI' Ms s i) m : Int) := (hX.2.2.1 _ (hd.inst hi).1).2.2.1 m hm
theorem nodeWX (hd : DP Ms top s) (hD : isD o) (hn : isN n) (hlim : limOK Ms s) (hS : SBX Ms top s o σ) (hK : KX n (inbS Ms s (lsG s)) (keptS Ms s (lsG s)) σ σ B) (hi : i < lsI s) {m : Nat} (hm : m < mdN (moI Ms s i)) (h2 : gO (gI' Ms s i) m = 2) {e : Nat → Nat → Nat} (henv : EVX Ms s B σ i (gF (gI' Ms s i) m) m e) {rd : Int → Int → Int → St → Option ((Unit ⊕ XV) × St)} {R : (Nat → Nat) × NB} (hR : R = wdB (lvD Ms s) (gW (gI' Ms s i) m) (wsG Ms s (lsL s (40 * i + (gA (gI' Ms s i) m).toNat))) (gW (gI' Ms s i) (gB (gI' Ms s i) m).toNat) (e (gB (gI' Ms s i) m).toNat) (stL Ms s (lsL s (40 * i + (gA (gI' Ms s i) m).toNat))) B) (hE : ∀ τ, flB R.2 → FKX n σ τ → E (1, 0, 0) τ) (hQ : ∀ τ, KX n (inbS Ms s (lsG s)) (keptS Ms s (lsG s)) σ τ R.2 → CE (σ.1 45) (τ.1 45) (bNd Ms s i m) (gW (gI' Ms s i) m) (gW (gI' Ms s i) m) R.1 → Q () τ) : wpE (F_X3_node rd (i : Int) (o + 27 + 25 * lsM s i) (m : Int)) σ Q E := by
  have h12 := hd.1.1
  obtain ⟨hM, ok⟩ := hd.inst hi
  have hMd := isMd_D hD (show lsM s i < 12 by omega)
  have n240 : mdN (moI Ms s i) ≤ 240 := ok.1.2.1
  obtain ⟨t, t1, t2, t3, t4, t5, t6, t7, t8, t9⟩ := hd.rm hi hm h2
  have fm := (hd.nod hi (show m - 1 < mdN (moI Ms s i) by omega)).1
  obtain ⟨r9, r10, r11, r12, r13⟩ := row_x hS.1 hd hi hm
  obtain ⟨p9, p10, p11, p12, p13⟩ := row_x hS.1 hd hi (show m - 1 < mdN (moI Ms s i) by omega)
  obtain ⟨e1, e2⟩ := henv (m - 1) (by omega) (by omega)
  have hb := bN_up (Ms := Ms) (s := s) (i := i) (show m - 1 < m by omega)
  have ht := bN_top hd hi hm
  have so : sgOf s i t (-1) = lsL s (40 * i + t) := sgOf_n
  rw [t1, t8, tn, tn] at hR
  subst hR
  rw [F_X3_node, wpE_bd, x_first hd hD hS hi hm, wpE_lt, wpE_bd, MI_13 hMd (by omega) (by omega), tn, r13, wpE_lt, wpE_bd, MI_9 hMd (by omega) (by omega), tn, r9, wpE_lt, wpE_ifn (by omega), wpE_ifn (by omega), wpE_ifp (by omega), wpE_bd, wp_gQ, hS.2.2.2.1, wpE_bd, MI_10 hMd (by omega) (by omega), tn, r10, t1, wpE_nn, wpE_ck, and_t (ly_D hD), wpE_bd, x_sgOf hd hD hS.1 hi t2 (Or.inl rfl), so, wpE_bd, MI_11 hMd (by omega) (by omega), tn, r11, t8, wpE_bd, x_first hd hD hS hi (show m - 1 < mdN (moI Ms s i) by omega), wpE_bd, MI_11 hMd (by omega) (by omega), tn, r11, t8, wpE_bd, MI_13 hMd (by omega) (by omega), tn, p13, wpE_end, ← t6]
  rw [← t6] at ht hE hQ
  exact wdMX hd hD hn hlim hS hK t4 t5 fm.2.2.1 e1 ⟨hb, e2⟩ ht hE hQ
theorem nodeOX (hd : DP Ms top s) (hD : isD o) (hn : isN n) (hlim : limOK Ms s) (hS : SBX Ms top s o σ) (hK : KX n (inbS Ms s (lsG s)) (keptS Ms s (lsG s)) σ σ B) (hi : i < lsI s) {m : Nat} (hm : m < mdN (moI Ms s i)) (h3 : 3 ≤ gO (gI' Ms s i) m) {e : Nat → Nat → Nat} (henv : EVX Ms s B σ i (gF (gI' Ms s i) m) m e) {rd : Int → Int → Int → St → Option ((Unit ⊕ XV) × St)} {R : (Nat → Nat) × NB} (hR : R = opB (lvD Ms s) (gO (gI' Ms s i) m) (gW (gI' Ms s i) m) (gW (gI' Ms s i) (gA (gI' Ms s i) m).toNat) (gW (gI' Ms s i) (gB (gI' Ms s i) m).toNat) (gC (gI' Ms s i) m).toNat (e (gA (gI' Ms s i) m).toNat) (e (gB (gI' Ms s i) m).toNat) (e (gC (gI' Ms s i) m).toNat) B) (hE : ∀ τ, flB R.2 → FKX n σ τ → E (1, 0, 0) τ) (hQ : ∀ τ, KX n (inbS Ms s (lsG s)) (keptS Ms s (lsG s)) σ τ R.2 → CE (σ.1 45) (τ.1 45) (bNd Ms s i m) (gW (gI' Ms s i) m) (gW (gI' Ms s i) m) R.1 → Q () τ) : wpE (F_X3_node rd (i : Int) (o + 27 + 25 * lsM s i) (m : Int)) σ Q E := by
  have h12 := hd.1.1
  have hl : inbS Ms s (lsG s) ≤ 64 ∧ keptS Ms s (lsG s) ≤ 200 := ⟨hlim.2.2.1, hlim.1.2⟩
  have hlv : lvD Ms s ≤ 264 := by unfold lvD; omega
  obtain ⟨hM, ok⟩ := hd.inst hi
  have hMd := isMd_D hD (show lsM s i < 12 by omega)
  have hoM : 100 ≤ o + 27 + 25 * lsM s i := by have := isD_le hD; omega
  have n240 : mdN (moI Ms s i) ≤ 240 := ok.1.2.1
  obtain ⟨⟨z1, z2, z3, zf⟩, -, -, -, w3, -, -⟩ := hd.nod hi hm
  obtain ⟨r9, r10, r11, r12, r13⟩ := row_x hS.1 hd hi hm
  have ht := bN_top hd hi hm
  have lo : ∀ q, q < m → bNd Ms s i q + gW (gI' Ms s i) q ≤ bNd Ms s i m := fun q hq => bN_up hq
  have wi : ∀ q, q < m → gW (gI' Ms s i) q ≤ 32 := fun q hq => (hd.nod hi (show q < mdN (moI Ms s i) by omega)).1.2.2.1
  have rw13 : ∀ q, q < m → σ.1 (o + 27 + 25 * lsM s i + 13) q = (gW (gI' Ms s i) q : Int) := fun q hq => (row_x hS.1 hd hi (show q < mdN (moI Ms s i) by omega)).2.2.2.2
  have fst : ∀ {q : Nat} {Q : Int → St → Prop}, q < mdN (moI Ms s i) → wp (F_X3_firstOf (i : Int) (q : Int)) σ Q = Q (bNd Ms s i q : Int) σ := fun {q Q} hq => x_first hd hD hS hi hq
  have n1 : ∀ {x : Nat}, ltB (lvD Ms s) B x → ixor (x : Int) 1 = (ng x : Int) := fun hx => ixor1 (ltB_lt hK.2.1 hlv hx)
  have n0 : ∀ {x : Nat}, ltB (lvD Ms s) B x → ixor (x : Int) 0 = (x : Int) := fun hx => ixor0 (ltB_lt hK.2.1 hlv hx)
  rw [F_X3_node, wpE_bd, fst hm, wpE_lt, wpE_bd, MI_13 hMd (by omega) (by omega), tn, r13, wpE_lt, wpE_bd, MI_9 hMd (by omega) (by omega), tn, r9, wpE_lt, wpE_ifn (by omega), wpE_ifn (by omega), wpE_ifn (by omega)]
  by_cases c8 : gO (gI' Ms s i) m ≤ 8
  · obtain ⟨q1, q2, q3, q4, q5, q6⟩ := w3 h3 c8
    have fm1 := (hd.nod hi (show m - 1 < mdN (moI Ms s i) by omega)).1.2.2.2
    obtain ⟨e1, e2⟩ := henv (m - 1) (by omega) (by omega)
    have hb := lo (m - 1) (by omega)
    have hwi := wi (m - 1) (by omega)
    rw [q2, tn] at hR
    rw [wpE_ifn (by omega), wpE_bd, MI_10 hMd (by omega) (by omega), tn, r10, q2, wpE_bd, fst (show m - 1 < _ by omega), wpE_ifn (by omega), X3_node_205, wpE_end, F_X3_single, wpE_bd, MI_10 hMd (by omega) (by omega), tn, r10, q2, wpE_bd, MI_13 hMd (by omega) (by omega), tn, rw13 (m - 1) (by omega), wpE_lt]
    unfold opB at hR
    by_cases c3 : gO (gI' Ms s i) m = 3
    · have q4' := q4 (by omega)
      rw [if_pos c3] at hR
      subst hR
      rw [wpE_ifp (by omega), wpE_lt]
      exact notX hn hl hK z3 (by rw [q4']; exact e1) ⟨by rw [q4']; exact hb, by rw [q4']; exact e2⟩ ht hQ
    rw [if_neg c3] at hR
    by_cases c4 : gO (gI' Ms s i) m = 4
    · have q4' := q4 (by omega)
      rw [if_pos c4] at hR
      subst hR
      rw [wpE_ifn (by omega), wpE_ifp (by omega), wpE_end]
      exact sumX (t := 1) hn hl hK (by decide) z3 (fun j _ => ltB0) (fun j hj => ltB_ng (e1 j (by omega))) (Or.inl ⟨by decide, fun _ _ => rfl⟩) (by rw [q4']; exact hb) (fun j hj => by rw [e2 j (by omega)]; exact n1 (e1 j (by omega))) ht hE hQ
    rw [if_neg c4] at hR
    by_cases c88 : gO (gI' Ms s i) m = 8
    · obtain ⟨lo8, l1, l2⟩ := q6 c88
      rw [if_neg (by omega), if_neg (by omega), if_neg (by omega), if_pos c88, l1, tn] at hR
      subst hR
      rw [wpE_ifn (by omega), wpE_ifn (by omega), wpE_ifp (by omega), wpE_lt]
      exact slX hn hK hMd hoM (by omega) (by rw [r12]; exact l1) z3 l2 ⟨hb, e2⟩ ht hQ
    have w1 := q5 (by omega) (by omega)
    rw [w1] at hQ ht
    rw [wpE_ifn (by omega), wpE_ifn (by omega), wpE_ifn (by omega), wpE_ifn (by omega)]
    by_cases c5 : gO (gI' Ms s i) m = 5
    · rw [if_pos c5] at hR
      have hf : fdG (lvD Ms s) (gO (gI' Ms s i) m) = fun p v B' => andB (lvD Ms s) p v B' := by funext p v B'; exact if_pos c5
      have hR' : R = (fun _ => (rdB1 (fdG (lvD Ms s) (gO (gI' Ms s i) m)) (gW (gI' Ms s i) (m - 1)) 1 (e (m - 1)) B).1, (rdB1 (fdG (lvD Ms s) (gO (gI' Ms s i) m)) (gW (gI' Ms s i) (m - 1)) 1 (e (m - 1)) B).2) := by rw [hR, hf]
      subst hR'
      rw [wpE_ifp (by omega)]
      exact rdX (s0 := 1) hn hl hK (by decide) hwi e1 ⟨by omega, e2⟩ ht hE hQ
    rw [if_neg c5] at hR
    by_cases c6 : gO (gI' Ms s i) m = 6
    · rw [if_pos c6] at hR
      have hf : fdG (lvD Ms s) (gO (gI' Ms s i) m) = fun p v B' => orB (lvD Ms s) p v B' := by funext p v B'; exact (if_neg c5).trans (if_pos c6)
      have hR' : R = (fun _ => (rdB1 (fdG (lvD Ms s) (gO (gI' Ms s i) m)) (gW (gI' Ms s i) (m - 1)) 0 (e (m - 1)) B).1, (rdB1 (fdG (lvD Ms s) (gO (gI' Ms s i) m)) (gW (gI' Ms s i) (m - 1)) 0 (e (m - 1)) B).2) := by rw [hR, hf]
      subst hR'
      rw [wpE_ifn (by omega)]
      exact rdX (s0 := 0) hn hl hK (by decide) hwi e1 ⟨by omega, e2⟩ ht hE hQ
    rw [if_neg c6] at hR
    have c7 : gO (gI' Ms s i) m = 7 := by omega
    rw [if_pos c7] at hR
    have hf : fdG (lvD Ms s) (gO (gI' Ms s i) m) = fun p v B' => xorB (lvD Ms s) p v B' := by funext p v B'; exact (if_neg c5).trans (if_neg c6)
    have hR' : R = (fun _ => (rdB1 (fdG (lvD Ms s) (gO (gI' Ms s i) m)) (gW (gI' Ms s i) (m - 1)) 0 (e (m - 1)) B).1, (rdB1 (fdG (lvD Ms s) (gO (gI' Ms s i) m)) (gW (gI' Ms s i) (m - 1)) 0 (e (m - 1)) B).2) := by rw [hR, hf]
    subst hR'
    rw [wpE_ifn (by omega)]
    exact rdX (s0 := 0) hn hl hK (by decide) hwi e1 ⟨by omega, e2⟩ ht hE hQ
  · obtain ⟨a, b, d1, d2, ⟨d3, d4⟩, ⟨d5, d6⟩, d7, d8, d9, d10, d11⟩ := hd.two hi hm (by omega)
    obtain ⟨ea1, ea2⟩ := henv a d3 d4
    obtain ⟨eb1, eb2⟩ := henv b d5 d6
    have la := lo a d4
    have lb := lo b d6
    rw [d1, d2, tn, tn] at hR
    unfold opB at hR
    rw [if_neg (by omega), if_neg (by omega), if_neg (by omega), if_neg (by omega), if_neg (by omega), if_neg (by omega)] at hR
    by_cases c9 : gO (gI' Ms s i) m = 9
    · have dw := d7 c9
      rw [if_pos c9] at hR
      subst hR
      rw [wpE_ifn (by omega), wpE_bd, MI_10 hMd (by omega) (by omega), tn, r10, d1, wpE_bd, fst (show a < _ by omega), wpE_ifp (by omega), wpE_bd, MI_11 hMd (by omega) (by omega), tn, r11, d2, wpE_bd, fst (show b < _ by omega), X3_node_205, wpE_end, F_X3_single, wpE_bd, MI_10 hMd (by omega) (by omega), tn, r10, d1, wpE_bd, MI_13 hMd (by omega) (by omega), tn, rw13 a d4, wpE_lt, wpE_ifn (by omega), wpE_ifn (by omega), wpE_ifn (by omega), wpE_ifp (by omega), wpE_lt, wpE_lt, w32_i (by omega) (by omega), show (gW (gI' Ms s i) m : Int) - (gW (gI' Ms s i) a : Int) = (gW (gI' Ms s i) b : Int) by omega]
      exact jnX hn hK dw z3 ⟨la, ea2⟩ ⟨lb, eb2⟩ ht hQ
    rw [if_neg c9] at hR
    rw [wpE_ifp (by omega), wpE_end, F_X3_twofold, wpE_bd, MI_10 hMd (by omega) (by omega), tn, r10, d1, wpE_bd, fst (show a < _ by omega), wpE_lt, wpE_bd, MI_11 hMd (by omega) (by omega), tn, r11, d2, wpE_bd, fst (show b < _ by omega), wpE_lt]
    by_cases c10 : gO (gI' Ms s i) m = 10
    · rw [if_pos c10] at hR
      have hf : (fun j B' => bwG (lvD Ms s) (gO (gI' Ms s i) m) (e a j) (e b j) B') = fun j B' => orB (lvD Ms s) (e a j) (e b j) B' := by funext j B'; exact if_pos c10
      have hR' : R = mpB (fun j B' => bwG (lvD Ms s) (gO (gI' Ms s i) m) (e a j) (e b j) B') (gW (gI' Ms s i) m) (fun _ => 0) B := by rw [hR, hf]
      subst hR'
      have w1 := d10 (by omega) (by omega) (by omega)
      have w2 := d8 (by omega) (by omega)
      rw [wpE_ifp (by omega), wpE_lt]
      exact bwX hn hl hK z3 (by rw [w1]; exact ea1) (by rw [w1, w2]; exact eb1) ⟨by omega, by rw [w1]; exact ea2⟩ ⟨by omega, by rw [w1, w2]; exact eb2⟩ ht hE hQ
    rw [if_neg c10] at hR
    by_cases c11 : gO (gI' Ms s i) m = 11
    · rw [if_pos c11] at hR
      have hf : (fun j B' => bwG (lvD Ms s) (gO (gI' Ms s i) m) (e a j) (e b j) B') = fun j B' => xorB (lvD Ms s) (e a j) (e b j) B' := by funext j B'; exact (if_neg c10).trans (if_pos c11)
      have hR' : R = mpB (fun j B' => bwG (lvD Ms s) (gO (gI' Ms s i) m) (e a j) (e b j) B') (gW (gI' Ms s i) m) (fun _ => 0) B := by rw [hR, hf]
      subst hR'
      have w1 := d10 (by omega) (by omega) (by omega)
      have w2 := d8 (by omega) (by omega)
      rw [wpE_ifn (by omega), wpE_ifp (by omega), wpE_lt]
      exact bwX hn hl hK z3 (by rw [w1]; exact ea1) (by rw [w1, w2]; exact eb1) ⟨by omega, by rw [w1]; exact ea2⟩ ⟨by omega, by rw [w1, w2]; exact eb2⟩ ht hE hQ
    rw [if_neg c11] at hR
    by_cases c12 : gO (gI' Ms s i) m = 12
    · rw [if_pos c12] at hR
      have hf : (fun j B' => bwG (lvD Ms s) (gO (gI' Ms s i) m) (e a j) (e b j) B') = fun j B' => andB (lvD Ms s) (e a j) (e b j) B' := by funext j B'; exact (if_neg c10).trans (if_neg c11)
      have hR' : R = mpB (fun j B' => bwG (lvD Ms s) (gO (gI' Ms s i) m) (e a j) (e b j) B') (gW (gI' Ms s i) m) (fun _ => 0) B := by rw [hR, hf]
      subst hR'
      have w1 := d10 (by omega) (by omega) (by omega)
      have w2 := d8 (by omega) (by omega)
      rw [wpE_ifn (by omega), wpE_ifn (by omega), wpE_ifp (by omega), wpE_lt]
      exact bwX hn hl hK z3 (by rw [w1]; exact ea1) (by rw [w1, w2]; exact eb1) ⟨by omega, by rw [w1]; exact ea2⟩ ⟨by omega, by rw [w1, w2]; exact eb2⟩ ht hE hQ
    rw [if_neg c12] at hR
    by_cases c13 : gO (gI' Ms s i) m = 13 ∨ gO (gI' Ms s i) m = 14 ∨ gO (gI' Ms s i) m = 15
    · rw [if_pos c13] at hR
      subst hR
      have w1 := d9 (by omega) (by omega)
      have w2 := d8 (by omega) (by omega)
      rw [w1] at hQ ht
      have go : wpE (bdE (F_X3_compared (gO (gI' Ms s i) m : Int) (bNd Ms s i a : Int) (bNd Ms s i b : Int) (gW (gI' Ms s i) a : Int)) fun v => bd (wrI 45 (bNd Ms s i m : Int) v) fun _ => lE (rt ())) σ Q E := by
        rw [wpE_bdE]
        refine cpX hn hl hK (wi a d4) ea1 (by rw [w2]; exact eb1) ⟨by omega, ea2⟩ ⟨by omega, by rw [w2]; exact eb2⟩ hE (fun τ k1 k2 => ?_)
        rw [wpE_bd, RV_45 (by omega) (by omega), tn, wpE_lE, wp_rt]
        refine hQ _ (KX.w hn k1 (Or.inl rfl)) ?_
        dsimp only
        rw [stA_eq, k2]
        exact (CE.init (to := bNd Ms s i m) (w := 1) (o := fun _ => (cpB (lvD Ms s) (gO (gI' Ms s i) m) (gW (gI' Ms s i) a) (e a) (e b) B).1)).up' (j := 0) (by decide)
      rw [wpE_ifn (by omega), wpE_ifn (by omega), wpE_ifn (by omega)]
      by_cases e13 : gO (gI' Ms s i) m = 13
      · rw [wpE_ifp (by omega), wpE_bd, MI_10 hMd (by omega) (by omega), tn, r10, d1, wpE_bd, MI_13 hMd (by omega) (by omega), tn, rw13 a d4]
        exact go
      · by_cases e14 : gO (gI' Ms s i) m = 14
        · rw [wpE_ifn (by omega), wpE_ifp (by omega), wpE_bd, MI_10 hMd (by omega) (by omega), tn, r10, d1, wpE_bd, MI_13 hMd (by omega) (by omega), tn, rw13 a d4]
          exact go
        · rw [wpE_ifn (by omega), wpE_ifn (by omega), wpE_ifp (by omega), wpE_bd, MI_10 hMd (by omega) (by omega), tn, r10, d1, wpE_bd, MI_13 hMd (by omega) (by omega), tn, rw13 a d4]
          exact go
    rw [if_neg c13] at hR
    by_cases c16 : gO (gI' Ms s i) m = 16
    · rw [if_pos c16] at hR
      subst hR
      have w1 := d10 (by omega) (by omega) (by omega)
      have w2 := d8 (by omega) (by omega)
      rw [wpE_ifn (by omega), wpE_ifn (by omega), wpE_ifn (by omega), wpE_ifn (by omega), wpE_ifn (by omega), wpE_ifn (by omega), wpE_ifp (by omega), wpE_end]
      exact sumX (t := 0) hn hl hK (by decide) z3 (by rw [w1]; exact ea1) (by rw [w1, w2]; exact eb1) (Or.inr ⟨_, rfl, by omega, by rw [w1]; exact ea2⟩) (by omega) (fun j hj => by rw [eb2 j (by omega)]; exact n0 (eb1 j (by omega))) ht hE hQ
    rw [if_neg c16] at hR
    by_cases c17 : gO (gI' Ms s i) m = 17
    · rw [if_pos c17] at hR
      subst hR
      have w1 := d10 (by omega) (by omega) (by omega)
      have w2 := d8 (by omega) (by omega)
      rw [wpE_ifn (by omega), wpE_ifn (by omega), wpE_ifn (by omega), wpE_ifn (by omega), wpE_ifn (by omega), wpE_ifn (by omega), wpE_ifn (by omega), wpE_ifp (by omega), wpE_end]
      exact sumX (t := 1) hn hl hK (by decide) z3 (by rw [w1]; exact ea1) (fun j hj => ltB_ng (eb1 j (by omega))) (Or.inr ⟨_, rfl, by omega, by rw [w1]; exact ea2⟩) (by omega) (fun j hj => by rw [eb2 j (by omega)]; exact n1 (eb1 j (by omega))) ht hE hQ
    rw [if_neg c17] at hR
    by_cases c18 : gO (gI' Ms s i) m = 18
    · rw [if_pos c18] at hR
      subst hR
      have w1 := d10 (by omega) (by omega) (by omega)
      have w2 := d8 (by omega) (by omega)
      rw [wpE_ifn (by omega), wpE_ifn (by omega), wpE_ifn (by omega), wpE_ifn (by omega), wpE_ifn (by omega), wpE_ifn (by omega), wpE_ifn (by omega), wpE_ifn (by omega), wpE_ifp (by omega), wpE_end]
      exact mlX hn hl hK z3 (by rw [w1]; exact ea1) (by rw [w1, w2]; exact eb1) ⟨by omega, by rw [w1]; exact ea2⟩ ⟨by omega, by rw [w1, w2]; exact eb2⟩ ht hE hQ
    rw [if_neg c18] at hR
    by_cases c19 : gO (gI' Ms s i) m = 19
    · obtain ⟨f1, f2, f3, f4, f5, f6⟩ := d11 c19
      obtain ⟨ec1, ec2⟩ := henv (m - 1) f5 (by omega)
      have lc := lo (m - 1) (by omega)
      rw [if_pos c19, f1, tn] at hR
      subst hR
      have ea0 := ea2 0 (by omega)
      rw [Nat.add_zero] at ea0
      rw [wpE_ifn (by omega), wpE_ifn (by omega), wpE_ifn (by omega), wpE_ifn (by omega), wpE_ifn (by omega), wpE_ifn (by omega), wpE_ifn (by omega), wpE_ifn (by omega), wpE_ifn (by omega), wpE_ifp (by omega), wpE_bd, MI_12 hMd (by omega) (by omega), tn, r12, f1, wpE_bd, fst (show m - 1 < _ by omega), wpE_lt, wpE_lt]
      exact mxX hn hl hK z3 (ea1 0 (by omega)) (by rw [← f3]; exact eb1) (by rw [← f4]; exact ec1) ⟨by omega, ea0⟩ ⟨by omega, by rw [← f3]; exact eb2⟩ ⟨by omega, by rw [← f4]; exact ec2⟩ ht hE hQ
    rw [if_neg c19] at hR
    subst hR
    have w1 := d10 (by omega) (by omega) (by omega)
    rw [wpE_ifn (by omega), wpE_ifn (by omega), wpE_ifn (by omega), wpE_ifn (by omega), wpE_ifn (by omega), wpE_ifn (by omega), wpE_ifn (by omega), wpE_ifn (by omega), wpE_ifn (by omega), wpE_ifn (by omega), wpE_bd, MI_11 hMd (by omega) (by omega), tn, r11, d2, wpE_bd, MI_13 hMd (by omega) (by omega), tn, rw13 b d6, wpE_end]
    exact shX hn hl hK z3 (wi b d6) (by omega) (by rw [w1]; exact ea1) eb1 ⟨by omega, by rw [w1]; exact ea2⟩ ⟨lb, eb2⟩ ht hE hQ
end
