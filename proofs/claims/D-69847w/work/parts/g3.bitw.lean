set_option maxRecDepth 100000
set_option maxHeartbeats 400000
/-! ===== bits: what the making of a net keeps (pure) ===== -/
section
variable {Ms : Nat → ModV} {top : Nat} {s : LYS}
def wfS (Ms : Nat → ModV) (s : LYS) (st : BST) : Prop := wfB (lvD Ms s) st.1 ∧ ∀ g j, g < lsG s → ¬ stG Ms s g → j < wdS Ms s g → ltB (lvD Ms s) st.1 (st.2.2 g j)
def goS (Ms : Nat → ModV) (s : LYS) (st st' : BST) : Prop := goB (lvD Ms s) st.1 st'.1 ∧ wfS Ms s st'
theorem goS.refl {st : BST} (h : wfS Ms s st) : goS Ms s st st := ⟨goB.refl h.1, h⟩
theorem goS.trans {st st' st'' : BST} (h : goS Ms s st st') (h' : goS Ms s st' st'') : goS Ms s st st'' := ⟨h.1.trans h'.1, h'.2⟩
theorem wfS.net {st : BST} {B : NB} (h : wfS Ms s st) (hB : goB (lvD Ms s) st.1 B) : goS Ms s st (B, st.2.1, st.2.2) := ⟨hB, hB.1, fun g j h1 h2 h3 => hB.lt (h.2 g j h1 h2 h3)⟩
theorem stL_lt {B : NB} {g k : Nat} (hg : g < lsG s) (hs : stG Ms s g) (hk : k < szG Ms s g) : ltB (lvD Ms s) B (stL Ms s g k) := by
  have h1 : keptS Ms s (g + 1) ≤ keptS Ms s (lsG s) := smF_mono (by omega)
  have h2 : keptS Ms s (g + 1) = keptS Ms s g + b1 (stG Ms s g) (szG Ms s g) := rfl
  rw [b1_y hs] at h2
  unfold ltB stL lvD
  omega
theorem bitS_lt {st : BST} (h : wfS Ms s st) {g j : Nat} (hg : g < lsG s) (hw : kdS Ms s g ≠ 4) (h1 : 1 ≤ wsG Ms s g) (hj : j < wdS Ms s g) : ltB (lvD Ms s) st.1 (bitS Ms s st g j) := by
  unfold bitS
  by_cases c : stG Ms s g
  · rw [if_pos c]
    exact stL_lt hg c (by unfold szG; exact Nat.lt_of_lt_of_le hj (Nat.le_mul_of_pos_right _ h1))
  · rw [if_neg c]; exact h.2 g j hg c hj
/-- what stands behind a range so far -/
def vOK (Ms : Nat → ModV) (s : LYS) (i a n : Nat) (x : (Nat → Nat → Nat) × BST) : Prop := wfS Ms s x.2 ∧ ∀ m, a ≤ m → m < n → ltA (lvD Ms s) x.2.1 (gW (gI' Ms s i) m) (x.1 m)
theorem vOK.up {i a n : Nat} {x : (Nat → Nat → Nat) × BST} (h : vOK Ms s i a n x) {st : BST} {f : Nat → Nat} (hg : goS Ms s x.2 st) (hf : ltA (lvD Ms s) st.1 (gW (gI' Ms s i) n) f) : vOK Ms s i a (n + 1) (ups x.1 n f, st) := by
  refine ⟨hg.2, fun m h1 h2 => ?_⟩
  show ltA _ _ _ (ups x.1 n f m)
  by_cases e : m = n
  · subst e; rw [ups_eq]; exact hf
  · rw [ups_ne e]; exact hg.1.la (h.2 m h1 (by omega))
theorem ndB_go (hd : DP Ms top s) {mk : Nat → BST → BST} (hmk : ∀ h st, h < lsG s → wfS Ms s st → goS Ms s st (mk h st)) {i a n : Nat} (hi : i < lsI s) (hn : n < mdN (moI Ms s i)) (hf : a ≤ gF (gI' Ms s i) n) {x : (Nat → Nat → Nat) × BST} (h : vOK Ms s i a n x) : goS Ms s x.2 (ndB Ms s mk i n x).2 ∧ vOK Ms s i a (n + 1) (ndB Ms s mk i n x) := by
  have w := hd.nod hi hn
  obtain ⟨⟨w1, w2, w3, w4⟩, w5, w6, w7, w8, w9, w10⟩ := w
  have key : ∀ (st : BST) (f : Nat → Nat), goS Ms s x.2 st → ltA (lvD Ms s) st.1 (gW (gI' Ms s i) n) f → goS Ms s x.2 (ups x.1 n f, st).2 ∧ vOK Ms s i a (n + 1) (ups x.1 n f, st) := fun st f h1 h2 => ⟨h1, h.up h1 h2⟩
  unfold ndB
  by_cases c0 : gO (gI' Ms s i) n = 0
  · rw [if_pos c0]
    refine key x.2 _ (goS.refl h.1) (fun j _ => ?_)
    split
    · exact ltB1
    · exact ltB0
  rw [if_neg c0]
  by_cases c1 : gO (gI' Ms s i) n = 1
  · rw [if_pos c1]
    obtain ⟨t, t1, t2, t3, t4, t5, t6⟩ := hd.rd hi hn c1
    dsimp only
    rw [t1, tn]
    have hsg := hd.sig t4
    by_cases cs : stG Ms s (sgOf s i t (gB (gI' Ms s i) n))
    · rw [if_pos cs]
      exact key x.2 _ (goS.refl h.1) (fun j hj => bitS_lt h.1 t4 t5 hsg.2.2.2.2.2.1.1 (by rw [t6]; exact hj))
    · rw [if_neg cs]
      have hg := hmk _ x.2 t4 h.1
      exact key _ _ hg (fun j hj => bitS_lt hg.2 t4 t5 hsg.2.2.2.2.2.1.1 (by rw [t6]; exact hj))
  rw [if_neg c1]
  by_cases c2 : gO (gI' Ms s i) n = 2
  · rw [if_pos c2]
    obtain ⟨t, t1, t2, t3, t4, t5, t6, t7, t8, t9⟩ := hd.rm hi hn c2
    dsimp only
    rw [t1, tn, t8, tn]
    have hp := (hd.nod hi (show n - 1 < mdN (moI Ms s i) by omega)).1.2.2.2
    have hx := h.2 (n - 1) (by omega) (by omega)
    have wd := wdB_go (w := gW (gI' Ms s i) n) (wa := gW (gI' Ms s i) (n - 1)) (n := wsG Ms s (lsL s (40 * i + t))) (x := x.1 (n - 1)) (st := stL Ms s (lsL s (40 * i + t))) h.1.1 hx (fun k j hk hj => stL_lt t4 (Or.inr t5) (by
      unfold szG
      rw [t6]
      calc gW (gI' Ms s i) n * k + j < gW (gI' Ms s i) n * k + gW (gI' Ms s i) n := by omega
        _ = gW (gI' Ms s i) n * (k + 1) := by rw [Nat.mul_succ]
        _ ≤ gW (gI' Ms s i) n * wsG Ms s (lsL s (40 * i + t)) := Nat.mul_le_mul_left _ hk))
    exact key (_, x.2.2.1, x.2.2.2) _ (h.1.net wd.1) wd.2
  rw [if_neg c2]
  dsimp only
  by_cases c19 : gO (gI' Ms s i) n = 19
  · obtain ⟨a', b', q1, q2, q3, q4, q5, q6, q7, q8, q9, q10⟩ := w10 c19
    have fn1 := (hd.nod hi (show n - 1 < mdN (moI Ms s i) by omega)).1.2.2.2
    have fb := (hd.nod hi (show b' < mdN (moI Ms s i) by omega)).1.2.2.2
    have fa := (hd.nod hi (show a' < mdN (moI Ms s i) by omega)).1.2.2.2
    rw [q6, q5, q2, tn, tn, tn]
    have op := opB_go (op := gO (gI' Ms s i) n) (lv := lvD Ms s) (w := gW (gI' Ms s i) n) (wa := gW (gI' Ms s i) a') (wb := gW (gI' Ms s i) b') (lo := n - 1) (a := x.1 a') (b := x.1 b') (c := x.1 (n - 1)) h.1.1 (h.2 a' (by omega) (by omega)) (h.2 b' (by omega) (by omega)) (fun _ => by rw [← q10]; exact h.2 (n - 1) (by omega) (by omega)) (by omega) (by omega) (by omega) (by omega) (by omega) (by omega) (fun _ => ⟨by omega, q9⟩)
    exact key (_, x.2.2.1, x.2.2.2) _ (h.1.net op.1) op.2
  by_cases c8 : gO (gI' Ms s i) n ≤ 8
  · obtain ⟨q1, q2, q3, q4, q5, q6⟩ := w8 (by omega) c8
    have fn1 := (hd.nod hi (show n - 1 < mdN (moI Ms s i) by omega)).1.2.2.2
    rw [q2, tn]
    have op := opB_go (op := gO (gI' Ms s i) n) (lv := lvD Ms s) (w := gW (gI' Ms s i) n) (wa := gW (gI' Ms s i) (n - 1)) (wb := 0) (lo := (gC (gI' Ms s i) n).toNat) (a := x.1 (n - 1)) (b := x.1 (gB (gI' Ms s i) n).toNat) (c := x.1 (gC (gI' Ms s i) n).toNat) h.1.1 (h.2 (n - 1) (by omega) (by omega)) (fun j hj => absurd hj (Nat.not_lt_zero j)) (fun z => absurd z c19) (by omega) (fun z => (q4 (by omega)).symm) (by omega) (by omega) (fun z => by
      obtain ⟨lo, l1, l2⟩ := q6 z
      rw [l1, tn]; exact l2) (by omega) (fun z => absurd z c19)
    have e : opB (lvD Ms s) (gO (gI' Ms s i) n) (gW (gI' Ms s i) n) (gW (gI' Ms s i) (n - 1)) (gW (gI' Ms s i) (gB (gI' Ms s i) n).toNat) (gC (gI' Ms s i) n).toNat (x.1 (n - 1)) (x.1 (gB (gI' Ms s i) n).toNat) (x.1 (gC (gI' Ms s i) n).toNat) x.2.1 = opB (lvD Ms s) (gO (gI' Ms s i) n) (gW (gI' Ms s i) n) (gW (gI' Ms s i) (n - 1)) 0 (gC (gI' Ms s i) n).toNat (x.1 (n - 1)) (x.1 (gB (gI' Ms s i) n).toNat) (x.1 (gC (gI' Ms s i) n).toNat) x.2.1 := by
      unfold opB
      by_cases z3 : gO (gI' Ms s i) n = 3
      · rw [if_pos z3, if_pos z3]
      rw [if_neg z3, if_neg z3]
      by_cases z4 : gO (gI' Ms s i) n = 4
      · rw [if_pos z4, if_pos z4]
      rw [if_neg z4, if_neg z4]
      by_cases z5 : gO (gI' Ms s i) n = 5
      · rw [if_pos z5, if_pos z5]
      rw [if_neg z5, if_neg z5]
      by_cases z6 : gO (gI' Ms s i) n = 6
      · rw [if_pos z6, if_pos z6]
      rw [if_neg z6, if_neg z6]
      by_cases z7 : gO (gI' Ms s i) n = 7
      · rw [if_pos z7, if_pos z7]
      rw [if_neg z7, if_neg z7]
      rw [if_pos (show gO (gI' Ms s i) n = 8 by omega), if_pos (show gO (gI' Ms s i) n = 8 by omega)]
    rw [e]
    exact key (_, x.2.2.1, x.2.2.2) _ (h.1.net op.1) op.2
  · obtain ⟨q1, q2, q3, q4, q5, q6, q7, q8, q9⟩ := w9 (by omega) c19
    have fn1 := (hd.nod hi (show n - 1 < mdN (moI Ms s i) by omega)).1.2.2.2
    have fa := (hd.nod hi (show gF (gI' Ms s i) (n - 1) - 1 < mdN (moI Ms s i) by omega)).1.2.2.2
    rw [q4, q2, tn, tn]
    have op := opB_go (op := gO (gI' Ms s i) n) (lv := lvD Ms s) (w := gW (gI' Ms s i) n) (wa := gW (gI' Ms s i) (gF (gI' Ms s i) (n - 1) - 1)) (wb := gW (gI' Ms s i) (n - 1)) (lo := (gC (gI' Ms s i) n).toNat) (a := x.1 (gF (gI' Ms s i) (n - 1) - 1)) (b := x.1 (n - 1)) (c := x.1 (gC (gI' Ms s i) n).toNat) h.1.1 (h.2 _ (by omega) (by omega)) (h.2 _ (by omega) (by omega)) (fun z => absurd z c19) (by omega) (fun z => (q9 (by omega) (by omega)).symm) (fun z => by rw [q9 (by omega) (by omega), q7 (by omega) (by omega)]) (fun z => (q7 (by omega) (by omega)).symm) (by omega) (fun z => q6 z) (fun z => absurd z c19)
    exact key (_, x.2.2.1, x.2.2.2) _ (h.1.net op.1) op.2
end
