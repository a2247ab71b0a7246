set_option maxRecDepth 100000
set_option maxHeartbeats 400000
/-! ===== ANDs that are made, each of two once ===== -/
/-- a literal turned -/
def ng (x : Nat) : Nat := if x % 2 = 0 then x + 1 else x - 1
theorem xor1 (x : Nat) : x ^^^ 1 = ng x := by
  apply Nat.eq_of_testBit_eq
  intro i
  rw [Nat.testBit_xor]
  cases i with
  | zero =>
    rw [Nat.testBit_zero, Nat.testBit_zero, Nat.testBit_zero]
    unfold ng
    rcases Nat.mod_two_eq_zero_or_one x with h | h
    · rw [if_pos h, h, show (x + 1) % 2 = 1 by omega]; rfl
    · rw [if_neg (by omega), h, show (x - 1) % 2 = 0 by omega]; rfl
  | succ i =>
    rw [Nat.testBit_succ, Nat.testBit_succ, Nat.testBit_succ, show 1 / 2 = 0 from rfl, Nat.zero_testBit, Bool.xor_false, show ng x / 2 = x / 2 by unfold ng; split <;> omega]
theorem bvN {x : Nat} (h : x < 2147483648) : (BitVec.ofInt 32 (x : Int)).toNat = x := by
  rw [BitVec.ofInt_natCast, BitVec.toNat_ofNat, Nat.mod_eq_of_lt (by omega)]
theorem ixor_n {x y : Nat} (hx : x < 2147483648) (hy : y < 2147483648) : ixor (x : Int) (y : Int) = ((x ^^^ y : Nat) : Int) := by
  unfold ixor
  show (BitVec.ofInt 32 (x : Int) ^^^ BitVec.ofInt 32 (y : Int)).toInt = _
  have h1 : (BitVec.ofInt 32 (x : Int) ^^^ BitVec.ofInt 32 (y : Int)).toNat = x ^^^ y := by rw [BitVec.toNat_xor, bvN hx, bvN hy]
  have h2 : x ^^^ y < 2 ^ 31 := Nat.xor_lt_two_pow hx hy
  rw [BitVec.toInt_eq_toNat_of_lt (by omega), h1]
theorem ixor1 {x : Nat} (hx : x < 2147483648) : ixor (x : Int) 1 = (ng x : Int) := by
  rw [← xor1]
  exact ixor_n hx (by decide)
theorem ng_lt {x n : Nat} (h : x < 2 * n) : ng x < 2 * n := by unfold ng; split <;> omega
theorem ng_ng (x : Nat) : ng (ng x) = x := by unfold ng; split <;> split <;> omega
abbrev NB : Type := Nat × (Nat → Nat) × (Nat → Nat) × Bool
/-- the AND of a and b: a literal, and what was made -/
noncomputable def andB (lv a b : Nat) (B : NB) : Nat × NB :=
  if min a b = 0 ∨ ng (min a b) = max a b then (0, B) else if min a b = 1 ∨ min a b = max a b then (max a b, B) else
  if lst (fun k => B.2.1 k = min a b ∧ B.2.2.1 k = max a b) B.1 < B.1 then (2 * (lv + 1 + lst (fun k => B.2.1 k = min a b ∧ B.2.2.1 k = max a b) B.1), B) else
  if B.1 = 4000 then (0, B.1, B.2.1, B.2.2.1, true) else (2 * (lv + 1 + B.1), B.1 + 1, ups B.2.1 B.1 (min a b), ups B.2.2.1 B.1 (max a b), B.2.2.2)
noncomputable def orB (lv a b : Nat) (B : NB) : Nat × NB := (ng (andB lv (ng a) (ng b) B).1, (andB lv (ng a) (ng b) B).2)
noncomputable def xorB (lv a b : Nat) (B : NB) : Nat × NB := orB lv (andB lv a (ng b) B).1 (andB lv (ng a) b (andB lv a (ng b) B).2).1 (andB lv (ng a) b (andB lv a (ng b) B).2).2
noncomputable def muxB (lv s a b : Nat) (B : NB) : Nat × NB := orB lv (andB lv s a B).1 (andB lv (ng s) b (andB lv s a B).2).1 (andB lv (ng s) b (andB lv s a B).2).2
/-- what is made so far is as it should be -/
def wfB (lv : Nat) (B : NB) : Prop := B.1 ≤ 4000 ∧ (∀ k, k < B.1 → 2 ≤ B.2.1 k ∧ B.2.1 k < B.2.2.1 k ∧ B.2.2.1 k < 2 * (lv + 1 + k)) ∧ ∀ k k', k < B.1 → k' < B.1 → B.2.1 k = B.2.1 k' → B.2.2.1 k = B.2.2.1 k' → k = k'
def ltB (lv : Nat) (B : NB) (x : Nat) : Prop := x < 2 * (lv + 1 + B.1)
theorem andB_ok {lv a b : Nat} {B : NB} (hw : wfB lv B) (ha : ltB lv B a) (hb : ltB lv B b) : wfB lv (andB lv a b B).2 ∧ ltB lv (andB lv a b B).2 (andB lv a b B).1 ∧ B.1 ≤ (andB lv a b B).2.1 ∧ (B.2.2.2 = true → (andB lv a b B).2.2.2.2 = true) := by
  obtain ⟨h1, h2, h3⟩ := hw
  unfold ltB at ha hb
  unfold andB
  by_cases c1 : min a b = 0 ∨ ng (min a b) = max a b
  · rw [if_pos c1]
    exact ⟨⟨h1, h2, h3⟩, by unfold ltB; omega, Nat.le_refl _, id⟩
  rw [if_neg c1]
  by_cases c2 : min a b = 1 ∨ min a b = max a b
  · rw [if_pos c2]
    exact ⟨⟨h1, h2, h3⟩, by unfold ltB; dsimp only; omega, Nat.le_refl _, id⟩
  rw [if_neg c2]
  by_cases c3 : lst (fun k => B.2.1 k = min a b ∧ B.2.2.1 k = max a b) B.1 < B.1
  · rw [if_pos c3]
    exact ⟨⟨h1, h2, h3⟩, by unfold ltB; dsimp only; omega, Nat.le_refl _, id⟩
  rw [if_neg c3]
  have hno := (lst_spec (fun k => B.2.1 k = min a b ∧ B.2.2.1 k = max a b) B.1).2.1
  have hle := (lst_spec (fun k => B.2.1 k = min a b ∧ B.2.2.1 k = max a b) B.1).1
  by_cases c4 : B.1 = 4000
  · rw [if_pos c4]
    exact ⟨⟨h1, h2, h3⟩, by unfold ltB; dsimp only; omega, Nat.le_refl _, fun _ => rfl⟩
  rw [if_neg c4]
  refine ⟨⟨by dsimp only; omega, fun k hk => ?_, fun k k' hk hk' e1 e2 => ?_⟩, by unfold ltB; dsimp only; omega, Nat.le_succ _, id⟩
  · dsimp only at hk ⊢
    by_cases e : k = B.1
    · subst e; rw [ups_eq, ups_eq]; unfold ng at c1; omega
    · rw [ups_ne e, ups_ne e]; exact h2 k (by omega)
  · dsimp only at hk hk' e1 e2
    by_cases e : k = B.1
    · by_cases e' : k' = B.1
      · omega
      · subst e
        rw [ups_eq, ups_ne e'] at e1 e2
        exact absurd ⟨e1.symm, e2.symm⟩ (hno k' (by omega))
    · by_cases e' : k' = B.1
      · subst e'
        rw [ups_eq, ups_ne e] at e1 e2
        exact absurd ⟨e1, e2⟩ (hno k (by omega))
      · rw [ups_ne e, ups_ne e'] at e1 e2
        exact h3 k k' (by omega) (by omega) e1 e2
theorem ltB_mono {lv x : Nat} {B B' : NB} (h : ltB lv B x) (hB : B.1 ≤ B'.1) : ltB lv B' x := by unfold ltB at h ⊢; omega
theorem ltB_ng {lv x : Nat} {B : NB} (h : ltB lv B x) : ltB lv B (ng x) := ng_lt h
/-- the place of two literals in the component's table -/
def hcC (x y : Nat) : Nat := (x * 7919 + y * 104729) % 16384
theorem iand14 (x : Int) : iand x 16383 = x % 16384 := iand_mask (k := 14) (by decide)
theorem hcC_lt (x y : Nat) : hcC x y < 16384 := Nat.mod_lt _ (by decide)
theorem hcC_i (x y : Nat) : iand ((x : Int) * 7919 + (y : Int) * 104729) 16383 = (hcC x y : Int) := by
  rw [iand14]
  unfold hcC
  omega
def hcT (x y : Nat) : Nat := (iand (iushr (ixor ((x : Int) * 40503) ((y : Int) * 9973)) 3) 16383).toNat
theorem hcT_i (x y : Nat) : iand (iushr (ixor ((x : Int) * 40503) ((y : Int) * 9973)) 3) 16383 = (hcT x y : Int) := by
  unfold hcT
  rw [iand14, Int.toNat_of_nonneg (Int.emod_nonneg _ (by decide))]
theorem hcT_lt (x y : Nat) : hcT x y < 16384 := by
  have h := hcT_i x y
  rw [iand14] at h
  have h2 := Int.emod_lt_of_pos (iushr (ixor ((x : Int) * 40503) ((y : Int) * 9973)) 3) (show (0 : Int) < 16384 by decide)
  omega
/-- the component's maker w makes in the net o -/
def mkX (σ : St) (w o i l : Nat) (B : NB) : Prop := σ.2.2 w 1 = some o ∧ (σ.1 o 0 = (i : Int) ∧ σ.1 o 1 = (l : Int) ∧ σ.1 o 2 = (B.1 : Int)) ∧ (∀ k, k < B.1 → σ.1 (o + 1) k = (B.2.1 k : Int) ∧ σ.1 (o + 2) k = (B.2.2.1 k : Int)) ∧ B.2.2.2 = false ∧ ∃ T : Nat → Nat, (∀ j, j < 16384 → σ.1 (w + 1) j = (T j : Int)) ∧ hsh 16384 B.1 (fun k => k < B.1) T (fun k => hcC (B.2.1 k) (B.2.2.1 k))
def FrM (w o : Nat) (σ τ : St) : Prop := (∀ a, a ≠ w + 1 → a ≠ o → a ≠ o + 1 → a ≠ o + 2 → τ.1 a = σ.1 a) ∧ (∀ k, k ≠ 2 → τ.1 o k = σ.1 o k) ∧ τ.2 = σ.2
theorem FrM.refl {w o : Nat} {σ : St} : FrM w o σ σ := ⟨fun _ _ _ _ _ => rfl, fun _ _ => rfl, rfl⟩
theorem FrM.trans {w o : Nat} {σ τ υ : St} (h1 : FrM w o σ τ) (h2 : FrM w o τ υ) : FrM w o σ υ := ⟨fun a q1 q2 q3 q4 => (h2.1 a q1 q2 q3 q4).trans (h1.1 a q1 q2 q3 q4), fun k hk => (h2.2.1 k hk).trans (h1.2.1 k hk), h2.2.2.trans h1.2.2⟩
abbrev isW (w : Nat) : Prop := w = 38 ∨ w = 59
theorem WI {w : Nat} (hh : isW w) {σ : St} {i : Int} (h1 : 0 ≤ i) (h2 : i < 16384) {Q : Int → St → Prop} : wp (rdI (w + 1) i) σ Q = Q (σ.1 (w + 1) i.toNat) σ := by
  rcases hh with rfl | rfl
  · exact RI_39 h1 h2
  · exact RI_60 h1 h2
theorem WV {w : Nat} (hh : isW w) {σ : St} {i v : Int} (h1 : 0 ≤ i) (h2 : i < 16384) {Q : Unit → St → Prop} : wp (wrI (w + 1) i v) σ Q = Q () (stA σ.1 (w + 1) (ups (σ.1 (w + 1)) i.toNat v), σ.2) := by
  rcases hh with rfl | rfl
  · exact RV_39 h1 h2
  · exact RV_60 h1 h2
theorem wpE_cases {ρ : Type} {m : St → Option ((ρ ⊕ XV) × St)} {σ : St} {Q : ρ → St → Prop} {E : XV → St → Prop} (h : wpE m σ Q E) : (∃ r τ, m σ = some (.inl r, τ) ∧ Q r τ) ∨ ∃ x τ, m σ = some (.inr x, τ) ∧ E x τ := by
  obtain ⟨r, τ, h1, h2⟩ := h
  cases r with
  | inl r => exact Or.inl ⟨r, τ, h1, h2⟩
  | inr x => exact Or.inr ⟨x, τ, h1, h2⟩
theorem wpE_inl {ρ : Type} {m : St → Option ((ρ ⊕ XV) × St)} {σ τ : St} {r : ρ} {Q : ρ → St → Prop} {E : XV → St → Prop} (e : m σ = some (.inl r, τ)) : wpE m σ Q E = Q r τ := wp_some e
theorem wpE_inr {ρ : Type} {m : St → Option ((ρ ⊕ XV) × St)} {σ τ : St} {x : XV} {Q : ρ → St → Prop} {E : XV → St → Prop} (e : m σ = some (.inr x, τ)) : wpE m σ Q E = E x τ := wp_some e
/-- what an AND gives: a literal, or that there are too many -/
def rAnd (w o i l : Nat) (σ : St) (R : Nat × NB) (m : St → Option ((Int ⊕ XV) × St)) : Prop := (∃ τ, m σ = some (.inl (R.1 : Int), τ) ∧ mkX τ w o i l R.2 ∧ FrM w o σ τ) ∨ ∃ τ, m σ = some (.inr (1, 0, 0), τ) ∧ R.2.2.2.2 = true ∧ FrM w o σ τ
/-- the three ways behind the search -/
noncomputable def andE (lv x y : Nat) (B : NB) : Nat × NB := if lst (fun k => B.2.1 k = x ∧ B.2.2.1 k = y) B.1 < B.1 then (2 * (lv + 1 + lst (fun k => B.2.1 k = x ∧ B.2.2.1 k = y) B.1), B) else if B.1 = 4000 then (0, B.1, B.2.1, B.2.2.1, true) else (2 * (lv + 1 + B.1), B.1 + 1, ups B.2.1 B.1 x, ups B.2.2.1 B.1 y, B.2.2.2)
theorem and133 {w o i l : Nat} (hw : isW w) (ho : isN o) (hi : i ≤ 64 ∧ l ≤ 200) {B : NB} {σ : St} (k1 : σ.2.2 w 1 = some o) (k2 : σ.1 o 0 = (i : Int)) (k3 : σ.1 o 1 = (l : Int)) (k4 : σ.1 o 2 = (B.1 : Int)) (k5 : ∀ k, k < B.1 → σ.1 (o + 1) k = (B.2.1 k : Int) ∧ σ.1 (o + 2) k = (B.2.2.1 k : Int)) (k6 : B.2.2.2 = false) {T : Nat → Nat} (k7 : ∀ j, j < 16384 → σ.1 (w + 1) j = (T j : Int)) (k8 : hsh 16384 B.1 (fun k => k < B.1) T (fun k => hcC (B.2.1 k) (B.2.2.1 k))) (b1 : B.1 ≤ 4000) (b3 : ∀ k k', k < B.1 → k' < B.1 → B.2.1 k = B.2.1 k' → B.2.2.1 k = B.2.2.1 k' → k = k') {x y : Nat} {J : Nat} (hJ : prb 16384 T (fun k => B.2.1 k = x ∧ B.2.2.1 k = y) (hcC x y) = J) : wpE (X4_and_133 w (x : Int) (y : Int) (((hcC x y + J) % 16384 : Nat) : Int)) σ (fun r τ => r = ((andE (i + l) x y B).1 : Int) ∧ mkX τ w o i l (andE (i + l) x y B).2 ∧ FrM w o σ τ) (fun e τ => e = (1, 0, 0) ∧ (andE (i + l) x y B).2.2.2.2 = true ∧ FrM w o σ τ) := by
  have hw2 : w = 38 ∨ w = 59 := hw
  have hn := isN_le ho
  have hmx : mkX σ w o i l B := ⟨k1, ⟨k2, k3, k4⟩, k5, k6, T, k7, k8⟩
  have hJ1 : J < 16384 := by rw [← hJ]; exact prb_lt k8 (by omega) _
  have hJ2 : T ((hcC x y + J) % 16384) = 0 ∨ (B.2.1 (T ((hcC x y + J) % 16384) - 1) = x ∧ B.2.2.1 (T ((hcC x y + J) % 16384) - 1) = y) := by
    rw [← hJ]; exact prb_at (mt := fun k => B.2.1 k = x ∧ B.2.2.1 k = y) (by rw [hJ]; exact hJ1)
  have hJ3 : ∀ d, d < J → T ((hcC x y + d) % 16384) ≠ 0 := by
    intro d hd
    rw [← hJ] at hd
    exact (prb_on (mt := fun k => B.2.1 k = x ∧ B.2.2.1 k = y) hd).1
  have hp : (hcC x y + J) % 16384 < 16384 := Nat.mod_lt _ (by decide)
  generalize hpp : (hcC x y + J) % 16384 = p at hJ2 hp ⊢
  have r1 := k7 p hp
  unfold andE
  by_cases t0 : T p = 0
  · have hno : ∀ k, k < B.1 → ¬ (B.2.1 k = x ∧ B.2.2.1 k = y) := by
      intro k hk q
      have := (prb_hit (mt := fun k => B.2.1 k = x ∧ B.2.2.1 k = y) k8 hk q (fun k' h1 h2 => b3 k' k h1 hk (h2.1.trans q.1.symm) (h2.2.trans q.2.symm))).2
      rw [q.1, q.2, hJ, hpp, t0] at this
      omega
    have hl : ¬ lst (fun k => B.2.1 k = x ∧ B.2.2.1 k = y) B.1 < B.1 := fun q => hno _ q ((lst_spec (fun k => B.2.1 k = x ∧ B.2.2.1 k = y) B.1).2.2 q)
    rw [if_neg hl]
    by_cases c4 : B.1 = 4000
    · rw [if_pos c4]
      simp (disch := omega) only [X4_and_133, ↓wp_bd, ↓wp_rt, ↓wp_lt, wp_ifp, wp_ifn, ↓wp_gI, ↓wp_gQ, ↓wp_pI, wp_nn, ↓wpE_bd, ↓wpE_lt, wpE_ifp, wpE_ifn, wpE_nn, ↓wpE_thw, ↓wpE_lE, ↓wpE_bdE, stA_eq, stA_ne, stA_stA, ups_eq, ups_ne, w32_i, tn, tnA, tnS, tnM, tn0, tn1, Int.reduceToNat, if_pos, if_neg, if_true, if_false, WI hw, r1, t0, k1, k4, c_ckE (ly_N ho)]
      exact ⟨trivial, trivial, FrM.refl⟩
    · rw [if_neg c4]
      simp (disch := omega) only [X4_and_133, X4_and_224, F_X14_leaves, ↓wp_bd, ↓wp_rt, ↓wp_lt, wp_ifp, wp_ifn, ↓wp_gI, ↓wp_gQ, ↓wp_pI, wp_nn, ↓wpE_bd, ↓wpE_lt, wpE_ifp, wpE_ifn, wpE_nn, ↓wpE_thw, ↓wpE_lE, ↓wpE_bdE, stA_eq, stA_ne, stA_stA, ups_eq, ups_ne, w32_i, tn, tnA, tnS, tnM, tn0, tn1, Int.reduceToNat, if_pos, if_neg, if_true, if_false, WI hw, WV hw, NI_1 ho, NV_1 ho, NI_2 ho, NV_2 ho, NI_3 ho, NV_3 ho, NI_4 ho, NV_4 ho, NI_5 ho, NV_5 ho, r1, t0, k1, k2, k3, k4, c_ckE (ly_N ho), c_ck (ly_N ho)]
      have hins := hsh_ins k8 (k0 := B.1) (d0 := J) (hs' := fun k => hcC (ups B.2.1 B.1 x k) (ups B.2.2.1 B.1 y k)) (fun k hk => by rw [ups_ne (by omega), ups_ne (by omega)]) hJ1 (by rw [ups_eq, ups_eq, hpp]; exact t0) (fun d hd => by rw [ups_eq, ups_eq]; exact hJ3 d hd)
      rw [ups_eq, ups_eq, hpp, show (fun k => k < B.1 ∨ k = B.1) = (fun k => k < B.1 + 1) from funext fun k => propext (by omega)] at hins
      refine ⟨by omega, ⟨k1, ⟨?_, ?_, ?_⟩, fun k hk => ?_, k6, ups T p (B.1 + 1), fun j hj => ?_, hins⟩, ⟨fun a q1 q2 q3 q4 => ?_, fun k hk => ?_, rfl⟩⟩
      · simp (disch := omega) only [stA_eq, stA_ne, ups_ne]; exact k2
      · simp (disch := omega) only [stA_eq, stA_ne, ups_ne]; exact k3
      · simp (disch := omega) only [stA_eq, stA_ne, ups_eq]; omega
      · dsimp only at hk ⊢
        by_cases e : k = B.1
        · subst e
          simp (disch := omega) only [stA_eq, stA_ne, ups_eq, and_self]
        · simp (disch := omega) only [stA_eq, stA_ne, ups_ne]
          exact k5 k (by omega)
      · by_cases e : j = p
        · subst e
          simp (disch := omega) only [stA_eq, ups_eq]
          omega
        · simp (disch := omega) only [stA_eq, ups_ne]
          exact k7 j hj
      · simp (disch := omega) only [stA_ne]
      · simp (disch := omega) only [stA_eq, stA_ne, ups_ne]
  · rcases hJ2 with q | q
    · exact absurd q t0
    · rcases k8.1 p hp with q2 | q2
      · exact absurd q2 t0
      · obtain ⟨t, ht⟩ : ∃ t, T p = t + 1 := ⟨T p - 1, by omega⟩
        rw [ht, Nat.add_sub_cancel] at q q2
        have hl : lst (fun k => B.2.1 k = x ∧ B.2.2.1 k = y) B.1 = t := lst_eq q2 q (fun j hj q3 => by
          have := b3 j t (by omega) q2 (q3.1.trans q.1.symm) (q3.2.trans q.2.symm)
          omega)
        rw [hl, if_pos q2]
        rw [ht] at r1
        simp (disch := omega) only [X4_and_133, X4_and_224, F_X14_leaves, ↓wp_bd, ↓wp_rt, ↓wp_lt, wp_ifp, wp_ifn, ↓wp_gI, ↓wp_gQ, ↓wp_pI, wp_nn, ↓wpE_bd, ↓wpE_lt, wpE_ifp, wpE_ifn, wpE_nn, ↓wpE_thw, ↓wpE_lE, ↓wpE_bdE, stA_eq, stA_ne, stA_stA, ups_eq, ups_ne, w32_i, tn, tnA, tnS, tnM, tn0, tn1, Int.reduceToNat, if_pos, if_neg, if_true, if_false, WI hw, r1, k1, k2, k3, c_ckE (ly_N ho), c_ck (ly_N ho)]
        exact ⟨by omega, hmx, FrM.refl⟩
theorem loopE {α ρ : Type} {L : Nat → α → St → Option ((ρ ⊕ XV) × St)} {Q : ρ → St → Prop} {E : XV → St → Prop} (I : Nat → α → St → Prop) (step : ∀ f m x σ, I m x σ → (∀ m' x' τ, m' < m → I m' x' τ → wpE (L f x') τ Q E) → wpE (L (f + 1) x) σ Q E) : ∀ f m x σ, m < f → I m x σ → wpE (L f x) σ Q E := loopM (Q := fun r τ => Sum.elim (fun a => Q a τ) (fun x => E x τ) r) I step
section
variable {w a b x y : Nat} {σ : St} {Q : Int → St → Prop} {E : XV → St → Prop}
theorem and_0 (hx : x = min a b) (hy : y = max a b) (hb : y < 8530) (c : x = 0 ∨ ng x = y) (h : Q 0 σ) : wpE (F_X4_and w (a : Int) (b : Int)) σ Q E := by
  have e1 : min (a : Int) (b : Int) = (x : Int) := by omega
  have e2 : max (a : Int) (b : Int) = (y : Int) := by omega
  have e3 : ixor (x : Int) 1 = (ng x : Int) := ixor1 (by omega)
  by_cases c0 : x = 0
  · simp (disch := omega) only [F_X4_and, ↓wp_bd, ↓wp_rt, ↓wp_lt, wp_ifp, wp_ifn, ↓wpE_bd, ↓wpE_lt, wpE_ifp, wpE_ifn, wpE_nn, ↓wpE_thw, ↓wpE_lE, ↓wpE_bdE, stA_eq, stA_ne, stA_stA, ups_eq, ups_ne, w32_i, tn, tnA, tnS, tnM, tn0, tn1, Int.reduceToNat, if_pos, if_neg, if_true, if_false, wp_min, wp_max, e1, e2]
    exact h
  · have c1 : ng x = y := by omega
    simp (disch := omega) only [F_X4_and, ↓wp_bd, ↓wp_rt, ↓wp_lt, wp_ifp, wp_ifn, ↓wpE_bd, ↓wpE_lt, wpE_ifp, wpE_ifn, wpE_nn, ↓wpE_thw, ↓wpE_lE, ↓wpE_bdE, stA_eq, stA_ne, stA_stA, ups_eq, ups_ne, w32_i, tn, tnA, tnS, tnM, tn0, tn1, Int.reduceToNat, if_pos, if_neg, if_true, if_false, wp_min, wp_max, e1, e2, e3]
    exact h
theorem and_y (hx : x = min a b) (hy : y = max a b) (hb : y < 8530) (c : ¬ (x = 0 ∨ ng x = y)) (c2 : x = 1 ∨ x = y) (h : Q (y : Int) σ) : wpE (F_X4_and w (a : Int) (b : Int)) σ Q E := by
  have e1 : min (a : Int) (b : Int) = (x : Int) := by omega
  have e2 : max (a : Int) (b : Int) = (y : Int) := by omega
  have e3 : ixor (x : Int) 1 = (ng x : Int) := ixor1 (by omega)
  by_cases c3 : x = 1
  · simp (disch := omega) only [F_X4_and, X4_and_38, ↓wp_bd, ↓wp_rt, ↓wp_lt, wp_ifp, wp_ifn, ↓wpE_bd, ↓wpE_lt, wpE_ifp, wpE_ifn, wpE_nn, ↓wpE_thw, ↓wpE_lE, ↓wpE_bdE, stA_eq, stA_ne, stA_stA, ups_eq, ups_ne, w32_i, tn, tnA, tnS, tnM, tn0, tn1, Int.reduceToNat, if_pos, if_neg, if_true, if_false, wp_min, wp_max, e1, e2, e3]
    exact h
  · have c4 : x = y := by omega
    simp (disch := omega) only [F_X4_and, X4_and_38, ↓wp_bd, ↓wp_rt, ↓wp_lt, wp_ifp, wp_ifn, ↓wpE_bd, ↓wpE_lt, wpE_ifp, wpE_ifn, wpE_nn, ↓wpE_thw, ↓wpE_lE, ↓wpE_bdE, stA_eq, stA_ne, stA_stA, ups_eq, ups_ne, w32_i, tn, tnA, tnS, tnM, tn0, tn1, Int.reduceToNat, if_pos, if_neg, if_true, if_false, wp_min, wp_max, e1, e2, e3]
    rw [c4]
    exact h
theorem and_s (hx : x = min a b) (hy : y = max a b) (hb : y < 8530) (c : ¬ (x = 0 ∨ ng x = y)) (c2 : ¬ (x = 1 ∨ x = y)) (h : wpE (X4_and_67 w FU (x : Int) (y : Int) (hcC x y : Int)) σ Q E) : wpE (F_X4_and w (a : Int) (b : Int)) σ Q E := by
  have e1 : min (a : Int) (b : Int) = (x : Int) := by omega
  have e2 : max (a : Int) (b : Int) = (y : Int) := by omega
  have e3 : ixor (x : Int) 1 = (ng x : Int) := ixor1 (by omega)
  have e4 := hcC_i x y
  have hxy : x ≤ y := by omega
  simp (disch := omega) only [F_X4_and, ↓wp_bd, ↓wp_rt, ↓wp_lt, wp_ifp, wp_ifn, ↓wpE_bd, ↓wpE_lt, wpE_ifp, wpE_ifn, wpE_nn, ↓wpE_thw, ↓wpE_lE, ↓wpE_bdE, stA_eq, stA_ne, stA_stA, ups_eq, ups_ne, w32_i, tn, tnA, tnS, tnM, tn0, tn1, Int.reduceToNat, if_pos, if_neg, if_true, if_false, wp_min, wp_max, e1, e2, e3, e4]
  exact h
end
theorem and67 {w o n : Nat} (hw : isW w) (ho : isN o) {lo hi T : Nat → Nat} {σ : St} (k1 : σ.2.2 w 1 = some o) (hn : n ≤ 4000) (k5 : ∀ k, k < n → σ.1 (o + 1) k = (lo k : Int) ∧ σ.1 (o + 2) k = (hi k : Int)) (k7 : ∀ j, j < 16384 → σ.1 (w + 1) j = (T j : Int)) (hT : ∀ j, j < 16384 → T j = 0 ∨ T j - 1 < n) {x y h J : Nat} (hJ2 : T ((h + J) % 16384) = 0 ∨ (lo (T ((h + J) % 16384) - 1) = x ∧ hi (T ((h + J) % 16384) - 1) = y)) (hJ3 : ∀ d, d < J → T ((h + d) % 16384) ≠ 0 ∧ ¬ (lo (T ((h + d) % 16384) - 1) = x ∧ hi (T ((h + d) % 16384) - 1) = y)) (hJ1 : J < 16384) (hh : h < 16384) {Q : Int → St → Prop} {E : XV → St → Prop} (fin : wpE (X4_and_133 w (x : Int) (y : Int) (((h + J) % 16384 : Nat) : Int)) σ Q E) : wpE (X4_and_67 w FU (x : Int) (y : Int) (h : Int)) σ Q E := by
  have hf := FU_ge
  refine loopE (L := fun f (z : Int) => X4_and_67 w f (x : Int) (y : Int) z) (fun m z τ => ∃ d, d + m = J ∧ z = (((h + d) % 16384 : Nat) : Int) ∧ τ = σ) ?_ FU J (h : Int) σ (by omega) ⟨0, by omega, by omega, rfl⟩
  rintro f m z τ ⟨d, hd, rfl, rfl⟩ ih
  have hp : (h + d) % 16384 < 16384 := Nat.mod_lt _ (by decide)
  have next : ∀ z : Int, z = (((h + d) % 16384 : Nat) : Int) → iand (z + 1) 16383 = (((h + (d + 1)) % 16384 : Nat) : Int) := by
    rintro z rfl
    rw [iand14]
    omega
  have r1 := k7 _ hp
  have hTt := hT _ hp
  by_cases hdJ : d = J
  · subst hdJ
    generalize (h + d) % 16384 = p at *
    rcases hJ2 with q | ⟨q1, q2⟩
    · simp (disch := omega) only [X4_and_67, ↓wp_bd, ↓wp_rt, ↓wp_lt, wp_ifp, wp_ifn, ↓wp_gQ, wp_nn, ↓wpE_bd, ↓wpE_lt, wpE_ifp, wpE_ifn, wpE_nn, ↓wpE_thw, ↓wpE_lE, ↓wpE_bdE, stA_eq, stA_ne, stA_stA, ups_eq, ups_ne, w32_i, tn, tnA, tnS, tnM, tn0, tn1, Int.reduceToNat, if_pos, if_neg, if_true, if_false, WI hw, r1]
      exact fin
    · by_cases t0 : T p = 0
      · simp (disch := omega) only [X4_and_67, ↓wp_bd, ↓wp_rt, ↓wp_lt, wp_ifp, wp_ifn, ↓wp_gQ, wp_nn, ↓wpE_bd, ↓wpE_lt, wpE_ifp, wpE_ifn, wpE_nn, ↓wpE_thw, ↓wpE_lE, ↓wpE_bdE, stA_eq, stA_ne, stA_stA, ups_eq, ups_ne, w32_i, tn, tnA, tnS, tnM, tn0, tn1, Int.reduceToNat, if_pos, if_neg, if_true, if_false, WI hw, r1]
        exact fin
      · obtain ⟨t, ht⟩ : ∃ t, T p = t + 1 := ⟨T p - 1, by omega⟩
        rw [ht, Nat.add_sub_cancel] at q1 q2 hTt
        have f5 := k5 t (by omega)
        rw [q1, q2] at f5
        rw [ht] at r1
        have e9 : (((t + 1 : Nat) : Int) - 1).toNat = t := by omega
        simp (disch := omega) only [X4_and_67, ↓wp_bd, ↓wp_rt, ↓wp_lt, wp_ifp, wp_ifn, ↓wp_gQ, wp_nn, ↓wpE_bd, ↓wpE_lt, wpE_ifp, wpE_ifn, wpE_nn, ↓wpE_thw, ↓wpE_lE, ↓wpE_bdE, stA_eq, stA_ne, stA_stA, ups_eq, ups_ne, w32_i, tn, tnA, tnS, tnM, tn0, tn1, Int.reduceToNat, if_pos, if_neg, if_true, if_false, WI hw, r1, k1, c_ckE (ly_N ho), NI_1 ho, NV_1 ho, NI_2 ho, NV_2 ho, NI_3 ho, NV_3 ho, NI_4 ho, NV_4 ho, NI_5 ho, NV_5 ho, Nat.add_sub_cancel, f5]
        exact fin
  · obtain ⟨t0, q⟩ := hJ3 d (by omega)
    have e8 := next _ rfl
    have go := ih (m - 1) _ _ (by omega) ⟨d + 1, by omega, rfl, rfl⟩
    generalize hpp : (h + d) % 16384 = p at *
    obtain ⟨t, ht⟩ : ∃ t, T p = t + 1 := ⟨T p - 1, by omega⟩
    rw [ht, Nat.add_sub_cancel] at q hTt
    rw [ht] at r1
    have f5 := k5 t (by omega)
    by_cases c : lo t = x
    · have c' : ¬ hi t = y := fun e => q ⟨c, e⟩
      simp (disch := omega) only [X4_and_67, X4_and_120, ↓wp_bd, ↓wp_rt, ↓wp_lt, wp_ifp, wp_ifn, ↓wp_gQ, wp_nn, ↓wpE_bd, ↓wpE_lt, wpE_ifp, wpE_ifn, wpE_nn, ↓wpE_thw, ↓wpE_lE, ↓wpE_bdE, stA_eq, stA_ne, stA_stA, ups_eq, ups_ne, w32_i, tn, tnA, tnS, tnM, tn0, tn1, Int.reduceToNat, if_pos, if_neg, if_true, if_false, WI hw, r1, k1, c_ckE (ly_N ho), NI_1 ho, NV_1 ho, NI_2 ho, NV_2 ho, NI_3 ho, NV_3 ho, NI_4 ho, NV_4 ho, NI_5 ho, NV_5 ho, Nat.add_sub_cancel, f5, e8]
      exact go
    · simp (disch := omega) only [X4_and_67, X4_and_120, ↓wp_bd, ↓wp_rt, ↓wp_lt, wp_ifp, wp_ifn, ↓wp_gQ, wp_nn, ↓wpE_bd, ↓wpE_lt, wpE_ifp, wpE_ifn, wpE_nn, ↓wpE_thw, ↓wpE_lE, ↓wpE_bdE, stA_eq, stA_ne, stA_stA, ups_eq, ups_ne, w32_i, tn, tnA, tnS, tnM, tn0, tn1, Int.reduceToNat, if_pos, if_neg, if_true, if_false, WI hw, r1, k1, c_ckE (ly_N ho), NI_1 ho, NV_1 ho, NI_2 ho, NV_2 ho, NI_3 ho, NV_3 ho, NI_4 ho, NV_4 ho, NI_5 ho, NV_5 ho, Nat.add_sub_cancel, f5, e8]
      exact go
theorem andX {w o i l : Nat} (hw : isW w) (ho : isN o) (hi : i ≤ 64 ∧ l ≤ 200) {B : NB} {σ : St} (h : mkX σ w o i l B) (hB : wfB (i + l) B) {a b : Nat} (ha : ltB (i + l) B a) (hb : ltB (i + l) B b) : rAnd w o i l σ (andB (i + l) a b B) (F_X4_and w (a : Int) (b : Int)) := by
  obtain ⟨k1, ⟨k2, k3, k4⟩, k5, k6, T, k7, k8⟩ := h
  obtain ⟨b1, b2, b3⟩ := hB
  have hf := FU_ge
  have hn := isN_le ho
  unfold ltB at ha hb
  have hmx : mkX σ w o i l B := ⟨k1, ⟨k2, k3, k4⟩, k5, k6, T, k7, k8⟩
  have e1 : min (a : Int) (b : Int) = ((min a b : Nat) : Int) := by omega
  have e2 : max (a : Int) (b : Int) = ((max a b : Nat) : Int) := by omega
  have hx : min a b ≤ max a b ∧ max a b < 8530 := by omega
  have e3 : ixor ((min a b : Nat) : Int) 1 = (ng (min a b) : Int) := ixor1 (by omega)
  have key : wpE (F_X4_and w (a : Int) (b : Int)) σ (fun r τ => r = ((andB (i + l) a b B).1 : Int) ∧ mkX τ w o i l (andB (i + l) a b B).2 ∧ FrM w o σ τ) (fun x τ => x = (1, 0, 0) ∧ (andB (i + l) a b B).2.2.2.2 = true ∧ FrM w o σ τ) := by
    unfold andB
    by_cases c1 : min a b = 0 ∨ ng (min a b) = max a b
    · rw [if_pos c1]
      exact and_0 rfl rfl (by omega) c1 ⟨rfl, hmx, FrM.refl⟩
    rw [if_neg c1]
    by_cases c2 : min a b = 1 ∨ min a b = max a b
    · rw [if_pos c2]
      exact and_y rfl rfl (by omega) c1 c2 ⟨rfl, hmx, FrM.refl⟩
    rw [if_neg c2]
    refine and_s rfl rfl (by omega) c1 c2 ?_
    refine and67 hw ho k1 b1 k5 k7 k8.1 (J := prb 16384 T (fun k => B.2.1 k = min a b ∧ B.2.2.1 k = max a b) (hcC (min a b) (max a b))) ?_ ?_ (prb_lt k8 (by omega) _) (hcC_lt _ _) (and133 hw ho hi k1 k2 k3 k4 k5 k6 k7 k8 b1 b3 rfl)
    · exact prb_at (mt := fun k => B.2.1 k = min a b ∧ B.2.2.1 k = max a b) (prb_lt k8 (by omega) _)
    · exact fun d hd => prb_on (mt := fun k => B.2.1 k = min a b ∧ B.2.2.1 k = max a b) hd
  rcases wpE_cases key with ⟨r, τ, q1, q2, q3, q4⟩ | ⟨x, τ, q1, q2, q3, q4⟩
  · exact Or.inl ⟨τ, by rw [q1, q2], q3, q4⟩
  · exact Or.inr ⟨τ, by rw [q1, q2], q3, q4⟩
