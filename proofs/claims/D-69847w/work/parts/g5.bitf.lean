set_option maxRecDepth 100000
set_option maxHeartbeats 400000
/-! ===== bits: too many ANDs stay so ===== -/
def flB (B : NB) : Prop := B.2.2.2 = true
section
variable {lv : Nat} {B : NB}
theorem fl_and {a b : Nat} (h : flB B) : flB (andB lv a b B).2 := by
  unfold andB
  split
  · exact h
  · split
    · exact h
    · split
      · exact h
      · split
        · rfl
        · exact h
theorem fl_or {a b : Nat} (h : flB B) : flB (orB lv a b B).2 := fl_and h
theorem fl_xor {a b : Nat} (h : flB B) : flB (xorB lv a b B).2 := fl_or (fl_and (fl_and h))
theorem fl_mux {s a b : Nat} (h : flB B) : flB (muxB lv s a b B).2 := fl_or (fl_and (fl_and h))
theorem fl_lp {α : Type} {f : Nat → α → NB → α × NB} (hf : ∀ j x B, flB B → flB (f j x B).2) : ∀ k j x B, flB B → flB (lpB f k j x B).2
  | 0, _, _, _, h => h
  | k + 1, j, x, B, h => fl_lp hf k (j + 1) _ _ (hf j x B h)
theorem fl_mp {g : Nat → NB → Nat × NB} {w : Nat} {o : Nat → Nat} (hg : ∀ j B, flB B → flB (g j B).2) (h : flB B) : flB (mpB g w o B).2 := fl_lp (f := fun j o B => (ups o j (g j B).1, (g j B).2)) (fun j _ B h => hg j B h) w 0 o B h
theorem smS_e {w j : Nat} {x y : Nat → Nat} {s : (Nat → Nat) × Nat} (e : j + 1 = w) : smS lv w x y j s B = ((ups s.1 j (xorB lv (xorB lv (x j) (y j) B).1 s.2 (xorB lv (x j) (y j) B).2).1, s.2), (xorB lv (xorB lv (x j) (y j) B).1 s.2 (xorB lv (x j) (y j) B).2).2) := if_pos e
theorem smS_n {w j : Nat} {x y : Nat → Nat} {s : (Nat → Nat) × Nat} (e : ¬ j + 1 = w) : smS lv w x y j s B = ((ups s.1 j (xorB lv (xorB lv (x j) (y j) B).1 s.2 (xorB lv (x j) (y j) B).2).1, (orB lv (andB lv (x j) (y j) (xorB lv (xorB lv (x j) (y j) B).1 s.2 (xorB lv (x j) (y j) B).2).2).1 (andB lv (xorB lv (x j) (y j) B).1 s.2 (andB lv (x j) (y j) (xorB lv (xorB lv (x j) (y j) B).1 s.2 (xorB lv (x j) (y j) B).2).2).2).1 (andB lv (xorB lv (x j) (y j) B).1 s.2 (andB lv (x j) (y j) (xorB lv (xorB lv (x j) (y j) B).1 s.2 (xorB lv (x j) (y j) B).2).2).2).2).1), (orB lv (andB lv (x j) (y j) (xorB lv (xorB lv (x j) (y j) B).1 s.2 (xorB lv (x j) (y j) B).2).2).1 (andB lv (xorB lv (x j) (y j) B).1 s.2 (andB lv (x j) (y j) (xorB lv (xorB lv (x j) (y j) B).1 s.2 (xorB lv (x j) (y j) B).2).2).2).1 (andB lv (xorB lv (x j) (y j) B).1 s.2 (andB lv (x j) (y j) (xorB lv (xorB lv (x j) (y j) B).1 s.2 (xorB lv (x j) (y j) B).2).2).2).2).2) := if_neg e
theorem fl_smS {w j : Nat} {x y : Nat → Nat} {s : (Nat → Nat) × Nat} (h : flB B) : flB (smS lv w x y j s B).2 := by
  by_cases e : j + 1 = w
  · rw [smS_e e]
    dsimp only
    exact fl_xor (fl_xor h)
  · rw [smS_n e]
    dsimp only
    exact fl_or (fl_and (fl_and (fl_xor (fl_xor h))))
theorem fl_sm {w c : Nat} {x y o : Nat → Nat} (h : flB B) : flB (smB lv w x y c o B).2 := fl_lp (f := smS lv w x y) (fun _ _ _ h => fl_smS h) w 0 (o, c) B h
theorem fl_rd {g : Nat → Nat → NB → Nat × NB} {w c : Nat} {x : Nat → Nat} (hg : ∀ s v B, flB B → flB (g s v B).2) (h : flB B) : flB (rdB1 g w c x B).2 := fl_lp (f := fun j s B => g s (x j) B) (fun _ _ _ h => hg _ _ _ h) w 0 c B h
theorem fl_cpS {op : Nat} {x y : Nat → Nat} {j s : Nat} (h : flB B) : flB (let t := xorB lv (x j) (y j) B; if op = 15 then muxB lv t.1 (y j) s t.2 else andB lv s (ng t.1) t.2).2 := by
  dsimp only
  by_cases e : op = 15
  · rw [if_pos e]; exact fl_mux (fl_xor h)
  · rw [if_neg e]; exact fl_and (fl_xor h)
theorem fl_cp {op w : Nat} {x y : Nat → Nat} (h : flB B) : flB (cpB lv op w x y B).2 := fl_lp (f := fun j s B => let t := xorB lv (x j) (y j) B; if op = 15 then muxB lv t.1 (y j) s t.2 else andB lv s (ng t.1) t.2) (fun _ _ _ h => fl_cpS h) w 0 (if op = 15 then 0 else 1) B h
theorem fl_pt {w i : Nat} {x y : Nat → Nat} (h : flB B) : flB (ptB lv w i x y B).2 := fl_lp (f := fun k p B => (ups p (k + i) (andB lv (y i) (x k) B).1, (andB lv (y i) (x k) B).2)) (fun _ _ _ h => fl_and h) (w - i) 0 (fun _ => 0) B h
theorem fl_ml {w : Nat} {x y : Nat → Nat} (h : flB B) : flB (mlB lv w x y B).2 := fl_lp (f := fun i o B => let p := ptB lv w i x y B; smB lv w o p.1 0 o p.2) (fun _ _ _ h => fl_sm (fl_pt h)) w 0 (fun _ => 0) B h
theorem fl_sf {op w wb : Nat} {x y : Nat → Nat} (h : flB B) : flB (sfB lv op w wb x y B).2 := fl_lp (f := fun s o B => mpB (fun j B => muxB lv (y s) (shL op w s o j) (o j) B) w o B) (fun _ _ _ h => fl_mp (fun _ _ h => fl_mux h) h) wb 0 x B h
theorem fl_is {w k : Nat} {x : Nat → Nat} (h : flB B) : flB (isB lv w k x B).2 := by
  unfold isB
  split
  · exact fl_lp (f := fun j s B => let t := xorB lv (x j) (if k.testBit j = true then 1 else 0) B; andB lv s (ng t.1) t.2) (fun _ _ _ h => fl_and (fl_xor h)) w 0 1 B h
  · exact h
theorem fl_wd {w n wa : Nat} {x st : Nat → Nat} (h : flB B) : flB (wdB lv w n wa x st B).2 := fl_lp (f := fun k o B => let e := isB lv wa k x B; mpB (fun j B => muxB lv e.1 (st (w * k + j)) (o j) B) w o e.2) (fun _ _ _ h => fl_mp (fun _ _ h => fl_mux h) (fl_is h)) n 0 (fun _ => 0) B h
theorem fl_op {op w wa wb lo : Nat} {a b c : Nat → Nat} (h : flB B) : flB (opB lv op w wa wb lo a b c B).2 := by
  unfold opB
  by_cases c0 : op = 3
  · rw [if_pos c0]; exact h
  rw [if_neg c0]
  by_cases c1 : op = 4
  · rw [if_pos c1]; exact fl_sm h
  rw [if_neg c1]
  by_cases c2 : op = 5
  · rw [if_pos c2]; exact fl_rd (fun _ _ _ h => fl_and h) h
  rw [if_neg c2]
  by_cases c3 : op = 6
  · rw [if_pos c3]; exact fl_rd (fun _ _ _ h => fl_or h) h
  rw [if_neg c3]
  by_cases c4 : op = 7
  · rw [if_pos c4]; exact fl_rd (fun _ _ _ h => fl_xor h) h
  rw [if_neg c4]
  by_cases c5 : op = 8
  · rw [if_pos c5]; exact h
  rw [if_neg c5]
  by_cases c6 : op = 9
  · rw [if_pos c6]; exact h
  rw [if_neg c6]
  by_cases c7 : op = 10
  · rw [if_pos c7]; exact fl_mp (fun _ _ h => fl_or h) h
  rw [if_neg c7]
  by_cases c8 : op = 11
  · rw [if_pos c8]; exact fl_mp (fun _ _ h => fl_xor h) h
  rw [if_neg c8]
  by_cases c9 : op = 12
  · rw [if_pos c9]; exact fl_mp (fun _ _ h => fl_and h) h
  rw [if_neg c9]
  by_cases c10 : op = 13 ∨ op = 14 ∨ op = 15
  · rw [if_pos c10]; exact fl_cp h
  rw [if_neg c10]
  by_cases c11 : op = 16
  · rw [if_pos c11]; exact fl_sm h
  rw [if_neg c11]
  by_cases c12 : op = 17
  · rw [if_pos c12]; exact fl_sm h
  rw [if_neg c12]
  by_cases c13 : op = 18
  · rw [if_pos c13]; exact fl_ml h
  rw [if_neg c13]
  by_cases c14 : op = 19
  · rw [if_pos c14]; exact fl_mp (fun _ _ h => fl_mux h) h
  rw [if_neg c14]
  exact fl_sf h
end
/-! ===== the component's gates, since a state ===== -/
/-- what the component's making of a node may touch -/
def FKX (n : Nat) (σ τ : St) : Prop := (∀ a, a ≠ 39 → a ≠ n → a ≠ n + 1 → a ≠ n + 2 → a ≠ 45 → a ≠ 47 → τ.1 a = σ.1 a) ∧ (∀ k, k ≠ 2 → τ.1 n k = σ.1 n k) ∧ τ.2 = σ.2
def KX (n i l : Nat) (σ0 σ : St) (B : NB) : Prop := mkX σ 38 n i l B ∧ wfB (i + l) B ∧ FKX n σ0 σ
section
variable {n i l : Nat} {σ0 σ τ υ : St} {B : NB} {a b s : Nat} {ρ : Type} {Q : ρ → St → Prop} {E : XV → St → Prop}
theorem FKX.refl : FKX n σ σ := ⟨fun _ _ _ _ _ _ _ => rfl, fun _ _ => rfl, rfl⟩
theorem FKX.trans (h1 : FKX n σ τ) (h2 : FKX n τ υ) : FKX n σ υ := ⟨fun a q1 q2 q3 q4 q5 q6 => (h2.1 a q1 q2 q3 q4 q5 q6).trans (h1.1 a q1 q2 q3 q4 q5 q6), fun k hk => (h2.2.1 k hk).trans (h1.2.1 k hk), h2.2.2.trans h1.2.2⟩
theorem FKX.of (h : FrM 38 n σ τ) : FKX n σ τ := ⟨fun a q1 q2 q3 q4 _ _ => h.1 a q1 q2 q3 q4, h.2.1, h.2.2⟩
theorem FKX.w (hn : isN n) {c : Nat} (hc : c = 45 ∨ c = 47) {g : Nat → Int} : FKX n σ (stA σ.1 c g, σ.2) := by
  have h := isN_le hn
  refine ⟨fun a _ _ _ _ q5 q6 => ?_, fun k _ => ?_, rfl⟩
  · exact stA_ne (by omega)
  · show stA σ.1 c g n k = _
    rw [stA_ne (by omega)]
theorem mkX.w (hn : isN n) (h : mkX σ 38 n i l B) {c : Nat} (hc : 41 ≤ c ∧ c ≤ 47) {g : Nat → Int} : mkX (stA σ.1 c g, σ.2) 38 n i l B := by
  have hn' := isN_le hn
  obtain ⟨h1, ⟨h2, h3, h4⟩, h5, h6, T, h7, h8⟩ := h
  refine ⟨h1, ⟨?_, ?_, ?_⟩, fun k hk => ?_, h6, T, fun j hj => ?_, h8⟩
  · show stA σ.1 c g n 0 = _
    rw [stA_ne (by omega)]; exact h2
  · show stA σ.1 c g n 1 = _
    rw [stA_ne (by omega)]; exact h3
  · show stA σ.1 c g n 2 = _
    rw [stA_ne (by omega)]; exact h4
  · show stA σ.1 c g (n + 1) k = _ ∧ stA σ.1 c g (n + 2) k = _
    rw [stA_ne (by omega), stA_ne (by omega)]; exact h5 k hk
  · show stA σ.1 c g (38 + 1) j = _
    rw [stA_ne (by omega)]; exact h7 j hj
theorem KX.w (hn : isN n) (h : KX n i l σ0 σ B) {c : Nat} (hc : c = 45 ∨ c = 47) {g : Nat → Int} : KX n i l σ0 (stA σ.1 c g, σ.2) B := ⟨h.1.w hn (by omega), h.2.1, h.2.2.trans (FKX.w hn hc)⟩
theorem KX.gate (h : KX n i l σ0 σ B) {R : Nat × NB} {m : St → Option ((Int ⊕ XV) × St)} {g : Int → St → Option ((ρ ⊕ XV) × St)} (hm : rAnd 38 n i l σ R m) (hg : goB (i + l) B R.2) (hE : ∀ τ, flB R.2 → FKX n σ0 τ → E (1, 0, 0) τ) (hQ : ∀ τ, KX n i l σ0 τ R.2 → τ.1 45 = σ.1 45 → τ.1 47 = σ.1 47 → wpE (g (R.1 : Int)) τ Q E) (hn : isN n) : wpE (bdE m g) σ Q E := by
  obtain ⟨h1, h2, h3⟩ := h
  have hn' := isN_le hn
  rcases hm with ⟨τ, e, q1, q2⟩ | ⟨τ, e, q1, q2⟩
  · rw [wpE_bdE, wpE_inl e]
    exact hQ τ ⟨q1, hg.1, h3.trans (FKX.of q2)⟩ (q2.1 45 (by omega) (by omega) (by omega) (by omega)) (q2.1 47 (by omega) (by omega) (by omega) (by omega))
  · rw [wpE_bdE, wpE_inr e]
    exact hE τ q1 (h3.trans (FKX.of q2))
theorem kAnd (hn : isN n) (hi : i ≤ 64 ∧ l ≤ 200) (h : KX n i l σ0 σ B) (ha : ltB (i + l) B a) (hb : ltB (i + l) B b) {g : Int → St → Option ((ρ ⊕ XV) × St)} (hE : ∀ τ, flB (andB (i + l) a b B).2 → FKX n σ0 τ → E (1, 0, 0) τ) (hQ : ∀ τ, KX n i l σ0 τ (andB (i + l) a b B).2 → goB (i + l) B (andB (i + l) a b B).2 → ltB (i + l) (andB (i + l) a b B).2 (andB (i + l) a b B).1 → τ.1 45 = σ.1 45 → τ.1 47 = σ.1 47 → wpE (g ((andB (i + l) a b B).1 : Int)) τ Q E) : wpE (bdE (F_X4_and 38 (a : Int) (b : Int)) g) σ Q E := by
  have hk := andB_go h.2.1 ha hb
  exact h.gate (andX (Or.inl rfl) hn hi h.1 h.2.1 ha hb) hk.1 hE (fun τ a1 a2 a3 => hQ τ a1 hk.1 hk.2 a2 a3) hn
theorem kOr (hn : isN n) (hi : i ≤ 64 ∧ l ≤ 200) (h : KX n i l σ0 σ B) (ha : ltB (i + l) B a) (hb : ltB (i + l) B b) {g : Int → St → Option ((ρ ⊕ XV) × St)} (hE : ∀ τ, flB (orB (i + l) a b B).2 → FKX n σ0 τ → E (1, 0, 0) τ) (hQ : ∀ τ, KX n i l σ0 τ (orB (i + l) a b B).2 → goB (i + l) B (orB (i + l) a b B).2 → ltB (i + l) (orB (i + l) a b B).2 (orB (i + l) a b B).1 → τ.1 45 = σ.1 45 → τ.1 47 = σ.1 47 → wpE (g ((orB (i + l) a b B).1 : Int)) τ Q E) : wpE (bdE (F_X4_or 38 (a : Int) (b : Int)) g) σ Q E := by
  have hk := okB.go (orB_ok h.2.1 ha hb)
  exact h.gate (orX (Or.inl rfl) hn hi h.1 h.2.1 ha hb) hk.1 hE (fun τ a1 a2 a3 => hQ τ a1 hk.1 hk.2 a2 a3) hn
theorem kXor (hn : isN n) (hi : i ≤ 64 ∧ l ≤ 200) (h : KX n i l σ0 σ B) (ha : ltB (i + l) B a) (hb : ltB (i + l) B b) {g : Int → St → Option ((ρ ⊕ XV) × St)} (hE : ∀ τ, flB (xorB (i + l) a b B).2 → FKX n σ0 τ → E (1, 0, 0) τ) (hQ : ∀ τ, KX n i l σ0 τ (xorB (i + l) a b B).2 → goB (i + l) B (xorB (i + l) a b B).2 → ltB (i + l) (xorB (i + l) a b B).2 (xorB (i + l) a b B).1 → τ.1 45 = σ.1 45 → τ.1 47 = σ.1 47 → wpE (g ((xorB (i + l) a b B).1 : Int)) τ Q E) : wpE (bdE (F_X4_xor 38 (a : Int) (b : Int)) g) σ Q E := by
  have hk := okB.go (xorB_ok h.2.1 ha hb)
  exact h.gate (xorX (Or.inl rfl) hn hi h.1 h.2.1 ha hb) hk.1 hE (fun τ a1 a2 a3 => hQ τ a1 hk.1 hk.2 a2 a3) hn
theorem kMux (hn : isN n) (hi : i ≤ 64 ∧ l ≤ 200) (h : KX n i l σ0 σ B) (hs : ltB (i + l) B s) (ha : ltB (i + l) B a) (hb : ltB (i + l) B b) {g : Int → St → Option ((ρ ⊕ XV) × St)} (hE : ∀ τ, flB (muxB (i + l) s a b B).2 → FKX n σ0 τ → E (1, 0, 0) τ) (hQ : ∀ τ, KX n i l σ0 τ (muxB (i + l) s a b B).2 → goB (i + l) B (muxB (i + l) s a b B).2 → ltB (i + l) (muxB (i + l) s a b B).2 (muxB (i + l) s a b B).1 → τ.1 45 = σ.1 45 → τ.1 47 = σ.1 47 → wpE (g ((muxB (i + l) s a b B).1 : Int)) τ Q E) : wpE (bdE (F_X4_mux 38 (s : Int) (a : Int) (b : Int)) g) σ Q E := by
  have hk := okB.go (muxB_ok h.2.1 hs ha hb)
  exact h.gate (muxX (Or.inl rfl) hn hi h.1 h.2.1 hs ha hb) hk.1 hE (fun τ a1 a2 a3 => hQ τ a1 hk.1 hk.2 a2 a3) hn
/-- turns of a loop that may throw -/
theorem lpX {α : Type} {f : Nat → α → NB → α × NB} {L : Nat → Nat → α → St → Option ((ρ ⊕ XV) × St)} {w : Nat} {x0 : α} {B0 : NB} {I : Nat → α → NB → St → Prop} {FR : St → Prop} (hfl : ∀ j x B, flB B → flB (f j x B).2) (hE : ∀ τ, flB (lpB f w 0 x0 B0).2 → FR τ → E (1, 0, 0) τ) (step : ∀ m j x B σ, j < w → I j x B σ → (∀ τ, flB (f j x B).2 → FR τ → E (1, 0, 0) τ) → (∀ τ, I (j + 1) (f j x B).1 (f j x B).2 τ → wpE (L m (j + 1) (f j x B).1) τ Q E) → wpE (L (m + 1) j x) σ Q E) (fin : ∀ m σ, I w (lpB f w 0 x0 B0).1 (lpB f w 0 x0 B0).2 σ → wpE (L (m + 1) w (lpB f w 0 x0 B0).1) σ Q E) {m : Nat} (hm : w < m) (h0 : I 0 x0 B0 σ) : wpE (L m 0 x0) σ Q E := by
  have key : ∀ k j x B m σ, j + k = w → k < m → lpB f k j x B = lpB f w 0 x0 B0 → I j x B σ → wpE (L m j x) σ Q E := by
    intro k
    induction k with
    | zero =>
      intro j x B m σ hj hm he hI
      obtain ⟨m', rfl⟩ : ∃ m', m = m' + 1 := ⟨m - 1, by omega⟩
      have e1 : lpB f 0 j x B = (x, B) := rfl
      rw [e1] at he
      have ej : j = w := by omega
      subst ej
      have e2 := congrArg Prod.fst he
      have e3 := congrArg Prod.snd he
      dsimp only at e2 e3
      rw [e2] at hI ⊢
      rw [e3] at hI
      exact fin m' σ hI
    | succ k ih =>
      intro j x B m σ hj hm he hI
      obtain ⟨m', rfl⟩ : ∃ m', m = m' + 1 := ⟨m - 1, by omega⟩
      rw [lpB_up] at he
      exact step m' j x B σ (by omega) hI (fun τ hf hF => hE τ (by rw [← he]; exact fl_lp hfl k (j + 1) _ _ hf) hF) (fun τ hI' => ih (j + 1) _ _ m' τ (by omega) (by omega) he hI')
  exact key w 0 x0 B0 m σ (by omega) hm rfl h0
end
/-- turns of a loop -/
theorem lpT {ρ α : Type} {f : Nat → α → NB → α × NB} {L : Nat → Nat → α → St → Option (ρ × St)} {w : Nat} {x0 : α} {B0 : NB} {I : Nat → α → NB → St → Prop} {Q : ρ → St → Prop} (step : ∀ m j x B σ, j < w → I j x B σ → (∀ τ, I (j + 1) (f j x B).1 (f j x B).2 τ → wp (L m (j + 1) (f j x B).1) τ Q) → wp (L (m + 1) j x) σ Q) (fin : ∀ m σ, I w (lpB f w 0 x0 B0).1 (lpB f w 0 x0 B0).2 σ → wp (L (m + 1) w (lpB f w 0 x0 B0).1) σ Q) {m : Nat} (hm : w < m) {σ : St} (h0 : I 0 x0 B0 σ) : wp (L m 0 x0) σ Q := by
  have key : ∀ k j x B m σ, j + k = w → k < m → lpB f k j x B = lpB f w 0 x0 B0 → I j x B σ → wp (L m j x) σ Q := by
    intro k
    induction k with
    | zero =>
      intro j x B m σ hj hm he hI
      obtain ⟨m', rfl⟩ : ∃ m', m = m' + 1 := ⟨m - 1, by omega⟩
      have e1 : lpB f 0 j x B = (x, B) := rfl
      rw [e1] at he
      have ej : j = w := by omega
      subst ej
      have e2 := congrArg Prod.fst he
      have e3 := congrArg Prod.snd he
      dsimp only at e2 e3
      rw [e2] at hI ⊢
      rw [e3] at hI
      exact fin m' σ hI
    | succ k ih =>
      intro j x B m σ hj hm he hI
      obtain ⟨m', rfl⟩ : ∃ m', m = m' + 1 := ⟨m - 1, by omega⟩
      rw [lpB_up] at he
      exact step m' j x B σ (by omega) hI (fun τ hI' => ih (j + 1) _ _ m' τ (by omega) (by omega) he hI')
  exact key w 0 x0 B0 m σ (by omega) hm rfl h0
/-! cells of an array -/
theorem wN {a j : Nat} (h : a + j < 2147483648) : w32 ((a : Int) + (j : Int)) = ((a + j : Nat) : Int) := by rw [w32_i (by omega) (by omega)]; omega
theorem wN1 {j : Nat} (h : j + 1 < 2147483648) : w32 ((j : Int) + 1) = ((j + 1 : Nat) : Int) := by rw [w32_i (by omega) (by omega)]; omega
/-- the first j of w cells from to hold o, those outside are as they were -/
def CE (c0 c : Nat → Int) (to w j : Nat) (o : Nat → Nat) : Prop := (∀ k, k < to ∨ to + w ≤ k → c k = c0 k) ∧ ∀ k, k < j → c (to + k) = (o k : Int)
theorem CE.init {c : Nat → Int} {to w : Nat} {o : Nat → Nat} : CE c c to w 0 o := ⟨fun _ _ => rfl, fun k hk => absurd hk (Nat.not_lt_zero k)⟩
theorem CE.up {c0 c : Nat → Int} {to w j : Nat} {o : Nat → Nat} (h : CE c0 c to w j o) (hj : j < w) {v : Nat} : CE c0 (ups c (to + j) (v : Int)) to w (j + 1) (ups o j v) := by
  refine ⟨fun k hk => ?_, fun k hk => ?_⟩
  · rw [ups_ne (by omega)]; exact h.1 k hk
  · by_cases e : k = j
    · subst e; rw [ups_eq, ups_eq]
    · rw [ups_ne (by omega), ups_ne e]; exact h.2 k (by omega)
/-- a cell in its place -/
theorem CE.set {c0 c : Nat → Int} {to w j : Nat} {o : Nat → Nat} (h : CE c0 c to w w o) (hj : j < w) {v : Nat} : CE c0 (ups c (to + j) (v : Int)) to w w (ups o j v) := by
  refine ⟨fun k hk => ?_, fun k hk => ?_⟩
  · rw [ups_ne (by omega)]; exact h.1 k hk
  · by_cases e : k = j
    · subst e; rw [ups_eq, ups_eq]
    · rw [ups_ne (by omega), ups_ne e]; exact h.2 k hk
theorem CE.e {c0 c c' : Nat → Int} {to w j : Nat} {o : Nat → Nat} (h : CE c0 c to w j o) (e : c' = c) : CE c0 c' to w j o := by rw [e]; exact h
theorem CE.o {c0 c : Nat → Int} {to w j : Nat} {o o' : Nat → Nat} (h : CE c0 c to w j o) (e : ∀ k, k < j → o' k = o k) : CE c0 c to w j o' := ⟨h.1, fun k hk => by rw [e k hk]; exact h.2 k hk⟩
/-- the first j cells from p hold o, those below are as they were -/
def PL (c0 c : Nat → Int) (p j : Nat) (o : Nat → Nat) : Prop := (∀ k, k < p → c k = c0 k) ∧ ∀ k, k < j → c (p + k) = (o k : Int)
theorem PL.init {c : Nat → Int} {p : Nat} {o : Nat → Nat} : PL c c p 0 o := ⟨fun _ _ => rfl, fun k hk => absurd hk (Nat.not_lt_zero k)⟩
theorem PL.up {c0 c : Nat → Int} {p j : Nat} {o : Nat → Nat} (h : PL c0 c p j o) {v : Nat} : PL c0 (ups c (p + j) (v : Int)) p (j + 1) (ups o j v) := by
  refine ⟨fun k hk => ?_, fun k hk => ?_⟩
  · rw [ups_ne (by omega)]; exact h.1 k hk
  · by_cases e : k = j
    · subst e; rw [ups_eq, ups_eq]
    · rw [ups_ne (by omega), ups_ne e]; exact h.2 k (by omega)
theorem PL.set {c0 c : Nat → Int} {p w j : Nat} {o : Nat → Nat} (h : PL c0 c p w o) (hj : j < w) {v : Nat} : PL c0 (ups c (p + j) (v : Int)) p w (ups o j v) := by
  refine ⟨fun k hk => ?_, fun k hk => ?_⟩
  · rw [ups_ne (by omega)]; exact h.1 k hk
  · by_cases e : k = j
    · subst e; rw [ups_eq, ups_eq]
    · rw [ups_ne (by omega), ups_ne e]; exact h.2 k hk
theorem PL.e {c0 c c' : Nat → Int} {p j : Nat} {o : Nat → Nat} (h : PL c0 c p j o) (e : c' = c) : PL c0 c' p j o := by rw [e]; exact h
theorem PL.o {c0 c : Nat → Int} {p j : Nat} {o o' : Nat → Nat} (h : PL c0 c p j o) (e : ∀ k, k < j → o' k = o k) : PL c0 c p j o' := ⟨h.1, fun k hk => by rw [e k hk]; exact h.2 k hk⟩
/-! ===== the twin's gates, since a state ===== -/
def FKT (σ τ : St) : Prop := (∀ a, a ≠ 2075 → a ≠ 2144 → a ≠ 2146 → a ≠ 2147 → a ≠ 2151 → a ≠ 2152 → a ≠ 2153 → τ.1 a = σ.1 a) ∧ (∀ k, k ≠ 103 → k ≠ 105 → τ.1 2075 k = σ.1 2075 k) ∧ (∀ k, k ≠ 4 → τ.1 2144 k = σ.1 2144 k) ∧ (∀ k, k < 16000 → τ.1 2146 k = σ.1 2146 k ∧ τ.1 2147 k = σ.1 2147 k) ∧ τ.2 = σ.2
def KT (i l : Nat) (σ0 σ : St) (B : NB) (p : Nat) : Prop := mkT σ i l B ∧ wfB (i + l) B ∧ FKT σ0 σ ∧ σ.1 2075 105 = (p : Int)
section
variable {i l p q : Nat} {σ0 σ τ υ : St} {B : NB} {a b s : Nat} {α : Type} {Q : α → St → Prop}
theorem FKT.refl : FKT σ σ := ⟨fun _ _ _ _ _ _ _ _ => rfl, fun _ _ _ => rfl, fun _ _ => rfl, fun _ _ => ⟨rfl, rfl⟩, rfl⟩
theorem FKT.trans (h1 : FKT σ τ) (h2 : FKT τ υ) : FKT σ υ := ⟨fun a q1 q2 q3 q4 q5 q6 q7 => (h2.1 a q1 q2 q3 q4 q5 q6 q7).trans (h1.1 a q1 q2 q3 q4 q5 q6 q7), fun k hk hk' => (h2.2.1 k hk hk').trans (h1.2.1 k hk hk'), fun k hk => (h2.2.2.1 k hk).trans (h1.2.2.1 k hk), fun k hk => ⟨(h2.2.2.2.1 k hk).1.trans (h1.2.2.2.1 k hk).1, (h2.2.2.2.1 k hk).2.trans (h1.2.2.2.1 k hk).2⟩, h2.2.2.2.2.trans h1.2.2.2.2⟩
theorem FKT.of (h : FrT_o σ τ) : FKT σ τ := ⟨fun a q1 q2 q3 q4 q5 q6 _ => h.1 a q1 q2 q3 q4 q5 q6, fun k hk _ => h.2.1 k hk, h.2.2.1, h.2.2.2.1, h.2.2.2.2⟩
theorem mkT.fr (h : mkT σ i l B) (e : ∀ a, 2142 ≤ a → a ≤ 2152 → τ.1 a = σ.1 a) (e2 : τ.1 2075 103 = σ.1 2075 103) : mkT τ i l B := by
  unfold mkT
  rw [e 2142 (by omega) (by omega), e 2143 (by omega) (by omega), e 2144 (by omega) (by omega), e 2146 (by omega) (by omega), e 2147 (by omega) (by omega), e 2151 (by omega) (by omega), e 2152 (by omega) (by omega), e2]
  exact h
theorem FKT.w {g : Nat → Int} : FKT σ (stA σ.1 2153 g, σ.2) := by
  refine ⟨fun a _ _ _ _ _ _ q => stA_ne q, fun k _ _ => ?_, fun k _ => ?_, fun k _ => ⟨?_, ?_⟩, rfl⟩
  · show stA σ.1 2153 g 2075 k = _
    rw [stA_ne (by decide)]
  · show stA σ.1 2153 g 2144 k = _
    rw [stA_ne (by decide)]
  · show stA σ.1 2153 g 2146 k = _
    rw [stA_ne (by decide)]
  · show stA σ.1 2153 g 2147 k = _
    rw [stA_ne (by decide)]
theorem FKT.pt {v : Int} : FKT σ (stA σ.1 2075 (ups (σ.1 2075) 105 v), σ.2) := by
  refine ⟨fun a q _ _ _ _ _ _ => stA_ne q, fun k _ q => ?_, fun k _ => ?_, fun k _ => ⟨?_, ?_⟩, rfl⟩
  · show stA σ.1 2075 (ups (σ.1 2075) 105 v) 2075 k = _
    rw [stA_eq, ups_ne q]
  · show stA σ.1 2075 (ups (σ.1 2075) 105 v) 2144 k = _
    rw [stA_ne (by decide)]
  · show stA σ.1 2075 (ups (σ.1 2075) 105 v) 2146 k = _
    rw [stA_ne (by decide)]
  · show stA σ.1 2075 (ups (σ.1 2075) 105 v) 2147 k = _
    rw [stA_ne (by decide)]
theorem KT.w (h : KT i l σ0 σ B p) {g : Nat → Int} : KT i l σ0 (stA σ.1 2153 g, σ.2) B p := by
  obtain ⟨h1, h2, h3, h4⟩ := h
  refine ⟨h1.fr (fun a q1 q2 => stA_ne (by omega)) ?_, h2, h3.trans FKT.w, ?_⟩
  · show stA σ.1 2153 g 2075 103 = _
    rw [stA_ne (by decide)]
  · show stA σ.1 2153 g 2075 105 = _
    rw [stA_ne (by decide)]; exact h4
theorem KT.pt (h : KT i l σ0 σ B p) {v : Int} (hv : v = (q : Int)) : KT i l σ0 (stA σ.1 2075 (ups (σ.1 2075) 105 v), σ.2) B q := by
  obtain ⟨h1, h2, h3, h4⟩ := h
  refine ⟨h1.fr (fun a q1 q2 => stA_ne (by omega)) ?_, h2, h3.trans FKT.pt, ?_⟩
  · show stA σ.1 2075 (ups (σ.1 2075) 105 v) 2075 103 = _
    rw [stA_eq, ups_ne (by decide)]
  · show stA σ.1 2075 (ups (σ.1 2075) 105 v) 2075 105 = _
    rw [stA_eq, ups_eq, hv]
theorem KT.gate (h : KT i l σ0 σ B p) {R : Nat × NB} {m : St → Option (Int × St)} {g : Int → St → Option (α × St)} (hm : rA15 i l σ R m) (hg : goB (i + l) B R.2) (hQ : ∀ τ, KT i l σ0 τ R.2 p → τ.1 2153 = σ.1 2153 → wp (g (R.1 : Int)) τ Q) : wp (bd m g) σ Q := by
  obtain ⟨h1, h2, h3, h4⟩ := h
  obtain ⟨τ, e, q1, q2⟩ := hm
  rw [wp_bd, wp_some e]
  exact hQ τ ⟨q1, hg.1, h3.trans (FKT.of q2), by rw [q2.2.1 105 (by decide)]; exact h4⟩ (q2.1 2153 (by decide) (by decide) (by decide) (by decide) (by decide) (by decide))
theorem tAnd (hi : i ≤ 64 ∧ l ≤ 200) (h : KT i l σ0 σ B p) (ha : ltB (i + l) B a) (hb : ltB (i + l) B b) {g : Int → St → Option (α × St)} (hQ : ∀ τ, KT i l σ0 τ (andB (i + l) a b B).2 p → goB (i + l) B (andB (i + l) a b B).2 → ltB (i + l) (andB (i + l) a b B).2 (andB (i + l) a b B).1 → τ.1 2153 = σ.1 2153 → wp (g ((andB (i + l) a b B).1 : Int)) τ Q) : wp (bd (F_X15_and (a : Int) (b : Int)) g) σ Q := by
  have hk := andB_go h.2.1 ha hb
  exact h.gate (and15 hi h.1 h.2.1 ha hb) hk.1 (fun τ a1 a2 => hQ τ a1 hk.1 hk.2 a2)
theorem tOr (hi : i ≤ 64 ∧ l ≤ 200) (h : KT i l σ0 σ B p) (ha : ltB (i + l) B a) (hb : ltB (i + l) B b) {g : Int → St → Option (α × St)} (hQ : ∀ τ, KT i l σ0 τ (orB (i + l) a b B).2 p → goB (i + l) B (orB (i + l) a b B).2 → ltB (i + l) (orB (i + l) a b B).2 (orB (i + l) a b B).1 → τ.1 2153 = σ.1 2153 → wp (g ((orB (i + l) a b B).1 : Int)) τ Q) : wp (bd (F_X15_or (a : Int) (b : Int)) g) σ Q := by
  have hk := okB.go (orB_ok h.2.1 ha hb)
  exact h.gate (or15 hi h.1 h.2.1 ha hb) hk.1 (fun τ a1 a2 => hQ τ a1 hk.1 hk.2 a2)
theorem tXor (hi : i ≤ 64 ∧ l ≤ 200) (h : KT i l σ0 σ B p) (ha : ltB (i + l) B a) (hb : ltB (i + l) B b) {g : Int → St → Option (α × St)} (hQ : ∀ τ, KT i l σ0 τ (xorB (i + l) a b B).2 p → goB (i + l) B (xorB (i + l) a b B).2 → ltB (i + l) (xorB (i + l) a b B).2 (xorB (i + l) a b B).1 → τ.1 2153 = σ.1 2153 → wp (g ((xorB (i + l) a b B).1 : Int)) τ Q) : wp (bd (F_X15_xor (a : Int) (b : Int)) g) σ Q := by
  have hk := okB.go (xorB_ok h.2.1 ha hb)
  exact h.gate (xor15 hi h.1 h.2.1 ha hb) hk.1 (fun τ a1 a2 => hQ τ a1 hk.1 hk.2 a2)
theorem tMux (hi : i ≤ 64 ∧ l ≤ 200) (h : KT i l σ0 σ B p) (hs : ltB (i + l) B s) (ha : ltB (i + l) B a) (hb : ltB (i + l) B b) {g : Int → St → Option (α × St)} (hQ : ∀ τ, KT i l σ0 τ (muxB (i + l) s a b B).2 p → goB (i + l) B (muxB (i + l) s a b B).2 → ltB (i + l) (muxB (i + l) s a b B).2 (muxB (i + l) s a b B).1 → τ.1 2153 = σ.1 2153 → wp (g ((muxB (i + l) s a b B).1 : Int)) τ Q) : wp (bd (F_X15_mux (s : Int) (a : Int) (b : Int)) g) σ Q := by
  have hk := okB.go (muxB_ok h.2.1 hs ha hb)
  exact h.gate (mux15 hi h.1 h.2.1 hs ha hb) hk.1 (fun τ a1 a2 => hQ τ a1 hk.1 hk.2 a2)
theorem tPush (h : KT i l σ0 σ B p) (hp : p < 200000) {v : Int} {g : Unit → St → Option (α × St)} (hQ : ∀ τ, KT i l σ0 τ B (p + 1) → τ.1 2153 = ups (σ.1 2153) p v → wp (g ()) τ Q) : wp (bd (F_X15_push v) g) σ Q := by
  have h4 := h.2.2.2
  have h4' : (stA σ.1 2153 (ups (σ.1 2153) p v)) 2075 105 = (p : Int) := by rw [stA_ne (by decide)]; exact h4
  rw [wp_bd, F_X15_push, wp_bd, wp_gI, h4, wp_bd, RV_2153 (by omega) (by omega), tn, wp_bd, wp_gI]
  dsimp only
  rw [h4', wp_bd, wp_pI, w32_i (by omega) (by omega), wp_rt]
  refine hQ _ ((h.w (g := ups (σ.1 2153) p v)).pt (q := p + 1) (by omega)) ?_
  dsimp only
  rw [stA_ne (by decide), stA_eq]
/-- what was pushed from r on comes down -/
theorem tSettle {r w to : Nat} (h : KT i l σ0 σ B (r + w)) (ht : to ≤ r) (hr : r + w ≤ 200000) {g : Unit → St → Option (α × St)} (hQ : ∀ τ, KT i l σ0 τ B (to + w) → (∀ k, k < to → τ.1 2153 k = σ.1 2153 k) → (∀ k, k < w → τ.1 2153 (to + k) = σ.1 2153 (r + k)) → wp (g ()) τ Q) : wp (bd (F_X15_settle (r : Int) (to : Int)) g) σ Q := by
  have hF := FU_ge
  have h4 := h.2.2.2
  rw [wp_bd, F_X15_settle, wp_bd, wp_gI, h4, wp_lt, wp_lt, w32_i (by omega) (by omega), show ((r + w : Nat) : Int) - (r : Int) = (w : Int) by omega]
  refine loopI (L := fun f (y : Int) (_ : Unit) => X15_settle_10 f (r : Int) (to : Int) (w : Int) y) (fun j _ τ => KT i l σ0 τ B (r + w) ∧ (∀ k, k < to → τ.1 2153 k = σ.1 2153 k) ∧ (∀ k, k < j → τ.1 2153 (to + k) = σ.1 2153 (r + k)) ∧ ∀ k, j ≤ k → k < w → τ.1 2153 (r + k) = σ.1 2153 (r + k)) 0 w ?_ ?_ FU 0 () σ (by omega) (by omega) (by omega) ⟨h, fun _ _ => rfl, fun k hk => absurd hk (Nat.not_lt_zero k), fun _ _ _ => rfl⟩
  · rintro f j - τ - hj ⟨k1, k2, k3, k4⟩ ih
    show wp (X15_settle_10 (f + 1) (r : Int) (to : Int) (w : Int) (j : Int)) τ _
    rw [X15_settle_10, wp_ifn (by omega), wp_bd, wN (by omega), RI_2153 (by omega) (by omega), tn, wp_bd, wN (by omega), RV_2153 (by omega) (by omega), tn, wp_lt, w32_i (by omega) (by omega)]
    refine ih () _ ⟨k1.w, fun k hk => ?_, fun k hk => ?_, fun k h1 h2 => ?_⟩
    · dsimp only
      rw [stA_eq, ups_ne (by omega)]; exact k2 k hk
    · dsimp only
      rw [stA_eq]
      by_cases e : k = j
      · subst e; rw [ups_eq]; exact k4 k (Nat.le_refl k) hj
      · rw [ups_ne (by omega)]; exact k3 k (by omega)
    · dsimp only
      rw [stA_eq, ups_ne (by omega)]; exact k4 k (by omega) h2
  · rintro f - τ ⟨k1, k2, k3, k4⟩
    show wp (X15_settle_10 (f + 1) (r : Int) (to : Int) (w : Int) (w : Int)) τ _
    rw [X15_settle_10, wp_ifp (by omega), X15_settle_40, wp_bd, wp_pI, wN (by omega), wp_rt]
    refine hQ _ (k1.pt (q := to + w) rfl) (fun k hk => ?_) (fun k hk => ?_)
    · dsimp only
      rw [stA_ne (by decide)]; exact k2 k hk
    · dsimp only
      rw [stA_ne (by decide)]; exact k3 k hk
end
