set_option maxRecDepth 100000
set_option maxHeartbeats 400000
/-! ===== or, xor, mux on both sides ===== -/
theorem rAnd.bind {w o i l : Nat} {σ : St} {R1 R2 : Nat × NB} {m : St → Option ((Int ⊕ XV) × St)} {g : Int → St → Option ((Int ⊕ XV) × St)} (h1 : rAnd w o i l σ R1 m) (h2 : ∀ τ, mkX τ w o i l R1.2 → FrM w o σ τ → rAnd w o i l τ R2 (g (R1.1 : Int))) (h3 : R1.2.2.2.2 = true → R2.2.2.2.2 = true) : rAnd w o i l σ R2 (bdE m g) := by
  rcases h1 with ⟨τ, e, q1, q2⟩ | ⟨τ, e, q1, q2⟩
  · rcases h2 τ q1 q2 with ⟨υ, e2, q3, q4⟩ | ⟨υ, e2, q3, q4⟩
    · exact Or.inl ⟨υ, by unfold bdE; rw [e]; exact e2, q3, q2.trans q4⟩
    · exact Or.inr ⟨υ, by unfold bdE; rw [e]; exact e2, q3, q2.trans q4⟩
  · exact Or.inr ⟨τ, by unfold bdE; rw [e], h3 q1, q2⟩
/-- what holds of a gate's result -/
def okB (lv : Nat) (B : NB) (R : Nat × NB) : Prop := wfB lv R.2 ∧ ltB lv R.2 R.1 ∧ B.1 ≤ R.2.1 ∧ (B.2.2.2 = true → R.2.2.2.2 = true)
theorem ltB_b {lv x : Nat} {B : NB} (hw : wfB lv B) (hl : lv ≤ 264) (h : ltB lv B x) : x < 8530 := by have := hw.1; unfold ltB at h; omega
theorem orB_ok {lv a b : Nat} {B : NB} (hw : wfB lv B) (ha : ltB lv B a) (hb : ltB lv B b) : okB lv B (orB lv a b B) := by
  have h := andB_ok hw (ltB_ng ha) (ltB_ng hb)
  exact ⟨h.1, ltB_ng h.2.1, h.2.2.1, h.2.2.2⟩
theorem xorB_ok {lv a b : Nat} {B : NB} (hw : wfB lv B) (ha : ltB lv B a) (hb : ltB lv B b) : okB lv B (xorB lv a b B) := by
  have h1 := andB_ok hw ha (ltB_ng hb)
  have h2 := andB_ok h1.1 (ltB_ng (ltB_mono ha h1.2.2.1)) (ltB_mono hb h1.2.2.1)
  have h3 := orB_ok h2.1 (ltB_mono h1.2.1 h2.2.2.1) h2.2.1
  exact ⟨h3.1, h3.2.1, Nat.le_trans h1.2.2.1 (Nat.le_trans h2.2.2.1 h3.2.2.1), fun q => h3.2.2.2 (h2.2.2.2 (h1.2.2.2 q))⟩
theorem muxB_ok {lv s a b : Nat} {B : NB} (hw : wfB lv B) (hs : ltB lv B s) (ha : ltB lv B a) (hb : ltB lv B b) : okB lv B (muxB lv s a b B) := by
  have h1 := andB_ok hw hs ha
  have h2 := andB_ok h1.1 (ltB_ng (ltB_mono hs h1.2.2.1)) (ltB_mono hb h1.2.2.1)
  have h3 := orB_ok h2.1 (ltB_mono h1.2.1 h2.2.2.1) h2.2.1
  exact ⟨h3.1, h3.2.1, Nat.le_trans h1.2.2.1 (Nat.le_trans h2.2.2.1 h3.2.2.1), fun q => h3.2.2.2 (h2.2.2.2 (h1.2.2.2 q))⟩
section
variable {w o i l : Nat} {B : NB} {σ : St} {s a b : Nat}
theorem rAnd_rt {R : Nat × NB} (h : mkX σ w o i l R.2) {x : Int} (e : x = (R.1 : Int)) : rAnd w o i l σ R (lE (rt x)) := Or.inl ⟨σ, by rw [e]; rfl, h, FrM.refl⟩
theorem orX (hw : isW w) (ho : isN o) (hi : i ≤ 64 ∧ l ≤ 200) (h : mkX σ w o i l B) (hB : wfB (i + l) B) (ha : ltB (i + l) B a) (hb : ltB (i + l) B b) : rAnd w o i l σ (orB (i + l) a b B) (F_X4_or w (a : Int) (b : Int)) := by
  have hk := andB_ok hB (ltB_ng ha) (ltB_ng hb)
  unfold F_X4_or
  rw [ixor1 (by have := ltB_b hB (by omega) ha; omega), ixor1 (by have := ltB_b hB (by omega) hb; omega)]
  refine rAnd.bind (andX hw ho hi h hB (ltB_ng ha) (ltB_ng hb)) (fun τ q1 q2 => ?_) id
  exact rAnd_rt (R := orB (i + l) a b B) q1 (by rw [ixor1 (by have := ltB_b hk.1 (by omega) hk.2.1; omega)]; rfl)
theorem xorX (hw : isW w) (ho : isN o) (hi : i ≤ 64 ∧ l ≤ 200) (h : mkX σ w o i l B) (hB : wfB (i + l) B) (ha : ltB (i + l) B a) (hb : ltB (i + l) B b) : rAnd w o i l σ (xorB (i + l) a b B) (F_X4_xor w (a : Int) (b : Int)) := by
  have h1 := andB_ok hB ha (ltB_ng hb)
  have h2 := andB_ok h1.1 (ltB_ng (ltB_mono ha h1.2.2.1)) (ltB_mono hb h1.2.2.1)
  have h3 := orB_ok h2.1 (ltB_mono h1.2.1 h2.2.2.1) h2.2.1
  unfold F_X4_xor
  rw [ixor1 (by have := ltB_b hB (by omega) hb; omega)]
  refine rAnd.bind (andX hw ho hi h hB ha (ltB_ng hb)) (fun τ q1 q2 => ?_) (fun q => h3.2.2.2 (h2.2.2.2 q))
  show rAnd w o i l τ _ (bdE (F_X4_and w (ixor (a : Int) 1) (b : Int)) _)
  rw [ixor1 (by have := ltB_b hB (by omega) ha; omega)]
  refine rAnd.bind (andX hw ho hi q1 h1.1 (ltB_ng (ltB_mono ha h1.2.2.1)) (ltB_mono hb h1.2.2.1)) (fun υ q3 q4 => ?_) h3.2.2.2
  refine rAnd.bind (R1 := xorB (i + l) a b B) (orX hw ho hi q3 h2.1 (ltB_mono h1.2.1 h2.2.2.1) h2.2.1) (fun ζ q5 q6 => ?_) id
  exact rAnd_rt q5 rfl
theorem muxX (hw : isW w) (ho : isN o) (hi : i ≤ 64 ∧ l ≤ 200) (h : mkX σ w o i l B) (hB : wfB (i + l) B) (hs : ltB (i + l) B s) (ha : ltB (i + l) B a) (hb : ltB (i + l) B b) : rAnd w o i l σ (muxB (i + l) s a b B) (F_X4_mux w (s : Int) (a : Int) (b : Int)) := by
  have h1 := andB_ok hB hs ha
  have h2 := andB_ok h1.1 (ltB_ng (ltB_mono hs h1.2.2.1)) (ltB_mono hb h1.2.2.1)
  have h3 := orB_ok h2.1 (ltB_mono h1.2.1 h2.2.2.1) h2.2.1
  unfold F_X4_mux
  refine rAnd.bind (andX hw ho hi h hB hs ha) (fun τ q1 q2 => ?_) (fun q => h3.2.2.2 (h2.2.2.2 q))
  show rAnd w o i l τ _ (bdE (F_X4_and w (ixor (s : Int) 1) (b : Int)) _)
  rw [ixor1 (by have := ltB_b hB (by omega) hs; omega)]
  refine rAnd.bind (andX hw ho hi q1 h1.1 (ltB_ng (ltB_mono hs h1.2.2.1)) (ltB_mono hb h1.2.2.1)) (fun υ q3 q4 => ?_) h3.2.2.2
  refine rAnd.bind (R1 := muxB (i + l) s a b B) (orX hw ho hi q3 h2.1 (ltB_mono h1.2.1 h2.2.2.1) h2.2.1) (fun ζ q5 q6 => ?_) id
  exact rAnd_rt q5 rfl
end
