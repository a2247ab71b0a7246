set_option maxRecDepth 100000
set_option maxHeartbeats 400000
/-- what a gate of the twin gives -/
def rA15 (i l : Nat) (σ : St) (R : Nat × NB) (m : St → Option (Int × St)) : Prop := ∃ τ, m σ = some ((R.1 : Int), τ) ∧ mkT τ i l R.2 ∧ FrT_o σ τ
theorem rA15.bind {i l : Nat} {σ : St} {R1 R2 : Nat × NB} {m : St → Option (Int × St)} {g : Int → St → Option (Int × St)} (h1 : rA15 i l σ R1 m) (h2 : ∀ τ, mkT τ i l R1.2 → FrT_o σ τ → rA15 i l τ R2 (g (R1.1 : Int))) : rA15 i l σ R2 (bd m g) := by
  obtain ⟨τ, e, q1, q2⟩ := h1
  obtain ⟨υ, e2, q3, q4⟩ := h2 τ q1 q2
  exact ⟨υ, by unfold bd; rw [e]; exact e2, q3, q2.trans q4⟩
section
variable {i l : Nat} {B : NB} {σ : St} {s a b : Nat}
theorem rA15_rt {R : Nat × NB} (h : mkT σ i l R.2) {x : Int} (e : x = (R.1 : Int)) : rA15 i l σ R (rt x) := ⟨σ, by rw [e]; rfl, h, FrT_o.refl⟩
theorem or15 (hi : i ≤ 64 ∧ l ≤ 200) (h : mkT σ i l B) (hB : wfB (i + l) B) (ha : ltB (i + l) B a) (hb : ltB (i + l) B b) : rA15 i l σ (orB (i + l) a b B) (F_X15_or (a : Int) (b : Int)) := by
  have hk := andB_ok hB (ltB_ng ha) (ltB_ng hb)
  unfold F_X15_or
  rw [ixor1 (by have := ltB_b hB (by omega) ha; omega), ixor1 (by have := ltB_b hB (by omega) hb; omega)]
  refine rA15.bind (and15 hi h hB (ltB_ng ha) (ltB_ng hb)) (fun τ q1 q2 => ?_)
  exact rA15_rt (R := orB (i + l) a b B) q1 (by rw [ixor1 (by have := ltB_b hk.1 (by omega) hk.2.1; omega)]; rfl)
theorem xor15 (hi : i ≤ 64 ∧ l ≤ 200) (h : mkT σ i l B) (hB : wfB (i + l) B) (ha : ltB (i + l) B a) (hb : ltB (i + l) B b) : rA15 i l σ (xorB (i + l) a b B) (F_X15_xor (a : Int) (b : Int)) := by
  have h1 := andB_ok hB ha (ltB_ng hb)
  have h2 := andB_ok h1.1 (ltB_ng (ltB_mono ha h1.2.2.1)) (ltB_mono hb h1.2.2.1)
  unfold F_X15_xor
  rw [ixor1 (by have := ltB_b hB (by omega) hb; omega)]
  refine rA15.bind (and15 hi h hB ha (ltB_ng hb)) (fun τ q1 q2 => ?_)
  dsimp only [lt]
  rw [ixor1 (by have := ltB_b hB (by omega) ha; omega)]
  refine rA15.bind (and15 hi q1 h1.1 (ltB_ng (ltB_mono ha h1.2.2.1)) (ltB_mono hb h1.2.2.1)) (fun υ q3 q4 => ?_)
  refine rA15.bind (R1 := xorB (i + l) a b B) (or15 hi q3 h2.1 (ltB_mono h1.2.1 h2.2.2.1) h2.2.1) (fun ζ q5 q6 => ?_)
  exact rA15_rt q5 rfl
theorem mux15 (hi : i ≤ 64 ∧ l ≤ 200) (h : mkT σ i l B) (hB : wfB (i + l) B) (hs : ltB (i + l) B s) (ha : ltB (i + l) B a) (hb : ltB (i + l) B b) : rA15 i l σ (muxB (i + l) s a b B) (F_X15_mux (s : Int) (a : Int) (b : Int)) := by
  have h1 := andB_ok hB hs ha
  have h2 := andB_ok h1.1 (ltB_ng (ltB_mono hs h1.2.2.1)) (ltB_mono hb h1.2.2.1)
  unfold F_X15_mux
  refine rA15.bind (and15 hi h hB hs ha) (fun τ q1 q2 => ?_)
  dsimp only [lt]
  rw [ixor1 (by have := ltB_b hB (by omega) hs; omega)]
  refine rA15.bind (and15 hi q1 h1.1 (ltB_ng (ltB_mono hs h1.2.2.1)) (ltB_mono hb h1.2.2.1)) (fun υ q3 q4 => ?_)
  refine rA15.bind (R1 := muxB (i + l) s a b B) (or15 hi q3 h2.1 (ltB_mono h1.2.1 h2.2.2.1) h2.2.1) (fun ζ q5 q6 => ?_)
  exact rA15_rt q5 rfl
end
