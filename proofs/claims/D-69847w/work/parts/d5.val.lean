set_option maxRecDepth 100000
set_option maxHeartbeats 400000
/-! ===== designs: values, pure ===== -/
/-- what a node makes: V the signals, W the words of memories, e the nodes before it -/
def ndV (Ms : Nat → ModV) (s : LYS) (V : Nat → Nat) (W : Nat → Nat → Nat) (i : Nat) (e : Nat → Nat) (n : Nat) : Nat :=
  if gO (gI' Ms s i) n = 0 then (gA (gI' Ms s i) n % 4294967296).toNat
  else if gO (gI' Ms s i) n = 1 then V (sgOf s i (gA (gI' Ms s i) n).toNat (gB (gI' Ms s i) n))
  else if gO (gI' Ms s i) n = 2 then (if e (gB (gI' Ms s i) n).toNat < wsG Ms s (lsL s (40 * i + (gA (gI' Ms s i) n).toNat)) then W (lsL s (40 * i + (gA (gI' Ms s i) n).toNat)) (e (gB (gI' Ms s i) n).toNat) else 0)
  else opW (gO (gI' Ms s i) n) (gW (gI' Ms s i) n) (gW (gI' Ms s i) (gA (gI' Ms s i) n).toNat) (gW (gI' Ms s i) (gB (gI' Ms s i) n).toNat) (gC (gI' Ms s i) n).toNat (e (gA (gI' Ms s i) n).toNat) (e (gB (gI' Ms s i) n).toNat) (e (gC (gI' Ms s i) n).toNat)
def nvT (Ms : Nat → ModV) (s : LYS) (V : Nat → Nat) (W : Nat → Nat → Nat) (i : Nat) : Nat → Nat → Nat
  | 0 => fun _ => 0
  | n + 1 => ups (nvT Ms s V W i n) n (ndV Ms s V W i (nvT Ms s V W i n) n)
/-- a node's value -/
def nv (Ms : Nat → ModV) (s : LYS) (V : Nat → Nat) (W : Nat → Nat → Nat) (i n : Nat) : Nat := nvT Ms s V W i (n + 1) n
section
variable {Ms : Nat → ModV} {top : Nat} {s : LYS} {V V' : Nat → Nat} {W : Nat → Nat → Nat} {i : Nat}
theorem nvT_lt {m n : Nat} (h : n < m) : nvT Ms s V W i m n = nv Ms s V W i n := by
  induction m with
  | zero => exact absurd h (Nat.not_lt_zero n)
  | succ m ih =>
    by_cases e : n = m
    · subst e; rfl
    · show ups (nvT Ms s V W i m) m _ n = _
      rw [ups_ne e]
      exact ih (by omega)
/-- operands stand ahead of a node -/
theorem DP.opd (hd : DP Ms top s) (hi : i < lsI s) {n : Nat} (hn : n < mdN (moI Ms s i)) : (gO (gI' Ms s i) n = 2 → (gB (gI' Ms s i) n).toNat < n) ∧ (3 ≤ gO (gI' Ms s i) n → (gA (gI' Ms s i) n).toNat < n) ∧ (9 ≤ gO (gI' Ms s i) n → (gB (gI' Ms s i) n).toNat < n) ∧ (gO (gI' Ms s i) n = 19 → (gC (gI' Ms s i) n).toNat < n) := by
  obtain ⟨-, -, -, w2, w3, w9, w19⟩ := hd.nod hi hn
  have fl : ∀ m, m < mdN (moI Ms s i) → gF (gI' Ms s i) m ≤ m := fun m hm => (hd.nod hi hm).1.2.2.2
  refine ⟨fun h => ?_, fun h => ?_, fun h => ?_, fun h => ?_⟩
  · obtain ⟨-, q1, q2, -⟩ := w2 h
    rw [q2, tn]; omega
  · by_cases c8 : gO (gI' Ms s i) n ≤ 8
    · obtain ⟨q1, q2, -⟩ := w3 h c8
      rw [q2, tn]; omega
    · by_cases c19 : gO (gI' Ms s i) n = 19
      · obtain ⟨a, b, q1, -, q3, q4, -, q6, -⟩ := w19 c19
        have := fl (n - 1) (by omega)
        have := fl b (by omega)
        rw [q6, tn]; omega
      · obtain ⟨q1, -, q3, q4, -⟩ := w9 (by omega) c19
        have := fl (n - 1) (by omega)
        rw [q4, tn]; omega
  · by_cases c19 : gO (gI' Ms s i) n = 19
    · obtain ⟨a, b, q1, -, q3, q4, q5, -⟩ := w19 c19
      have := fl (n - 1) (by omega)
      rw [q5, tn]; omega
    · obtain ⟨q1, q2, -⟩ := w9 (by omega) c19
      rw [q2, tn]; omega
  · obtain ⟨a, b, q1, q2, -⟩ := w19 h
    rw [q2, tn]; omega
theorem opW_cong {op w wa wb lo a b c a' b' c' : Nat} (h1 : 3 ≤ op) (ha : a = a') (hb : 9 ≤ op → b = b') (hc : op = 19 → c = c') : opW op w wa wb lo a b c = opW op w wa wb lo a' b' c' := by
  subst ha
  by_cases c8 : 9 ≤ op
  · rw [hb c8]
    by_cases c19 : op = 19
    · rw [hc c19]
    · simp only [opW, if_neg c19]
  · have : op = 3 ∨ op = 4 ∨ op = 5 ∨ op = 6 ∨ op = 7 ∨ op = 8 := by omega
    rcases this with e | e | e | e | e | e <;> subst e <;> rfl
theorem ndV_cong (hd : DP Ms top s) (hi : i < lsI s) {e e' : Nat → Nat} {n : Nat} (hn : n < mdN (moI Ms s i)) (he : ∀ m, m < n → e m = e' m) (hV : ∀ h, rdA Ms s i n h → V h = V' h) : ndV Ms s V W i e n = ndV Ms s V' W i e' n := by
  obtain ⟨o1, o2, o3, o4⟩ := hd.opd hi hn
  unfold ndV
  by_cases c0 : gO (gI' Ms s i) n = 0
  · rw [if_pos c0, if_pos c0]
  · rw [if_neg c0, if_neg c0]
    by_cases c1 : gO (gI' Ms s i) n = 1
    · rw [if_pos c1, if_pos c1]
      exact hV _ ⟨c1, rfl⟩
    · rw [if_neg c1, if_neg c1]
      by_cases c2 : gO (gI' Ms s i) n = 2
      · rw [if_pos c2, if_pos c2, he _ (o1 c2)]
      · rw [if_neg c2, if_neg c2]
        exact opW_cong (by omega) (he _ (o2 (by omega))) (fun h => he _ (o3 h)) (fun h => he _ (o4 h))
/-- a node's value, by those of its operands -/
theorem nv_eq (hd : DP Ms top s) (hi : i < lsI s) {n : Nat} (hn : n < mdN (moI Ms s i)) : nv Ms s V W i n = ndV Ms s V W i (nv Ms s V W i) n := by
  show ups (nvT Ms s V W i n) n _ n = _
  rw [ups_eq]
  exact ndV_cong hd hi hn (fun m hm => nvT_lt hm) (fun _ _ => rfl)
/-- values hang on the signals that are read -/
theorem nv_cong (hd : DP Ms top s) (hi : i < lsI s) {u : Nat} (hu : u < mdN (moI Ms s i)) (hV : ∀ h, rdE Ms s i u h → V h = V' h) : nv Ms s V W i u = nv Ms s V' W i u := by
  have key : ∀ n, n ≤ u → gF (gI' Ms s i) u ≤ gF (gI' Ms s i) n → nv Ms s V W i n = nv Ms s V' W i n := by
    intro n
    induction n using Nat.strongRecOn with
    | ind n ih =>
      intro hnu hf
      have hn : n < mdN (moI Ms s i) := by omega
      have hfn := (hd.nod hi hn).1.2.2.2
      obtain ⟨-, -, -, w2, w3, w9, w19⟩ := hd.nod hi hn
      have fl : ∀ m, m < mdN (moI Ms s i) → gF (gI' Ms s i) m ≤ m := fun m hm => (hd.nod hi hm).1.2.2.2
      rw [nv_eq hd hi hn, nv_eq hd hi hn]
      unfold ndV
      by_cases c0 : gO (gI' Ms s i) n = 0
      · rw [if_pos c0, if_pos c0]
      · rw [if_neg c0, if_neg c0]
        by_cases c1 : gO (gI' Ms s i) n = 1
        · rw [if_pos c1, if_pos c1]
          exact hV _ ⟨n, by omega, hnu, c1, rfl⟩
        · rw [if_neg c1, if_neg c1]
          by_cases c2 : gO (gI' Ms s i) n = 2
          · obtain ⟨-, q1, q2, q3⟩ := w2 c2
            rw [if_pos c2, if_pos c2, q2, tn, ih (n - 1) (by omega) (by omega) (by omega)]
          · rw [if_neg c2, if_neg c2]
            by_cases c8 : gO (gI' Ms s i) n ≤ 8
            · obtain ⟨q1, q2, q3, -⟩ := w3 (by omega) c8
              refine opW_cong (by omega) ?_ (fun h => by omega) (fun h => by omega)
              rw [q2, tn]
              exact ih (n - 1) (by omega) (by omega) (by omega)
            · by_cases c19 : gO (gI' Ms s i) n = 19
              · obtain ⟨a, b, q1, q2, q3, q4, q5, q6, q7, -⟩ := w19 c19
                have f1 := fl (n - 1) (by omega)
                have f2 := fl b (by omega)
                have f3 := fl a (by omega)
                refine opW_cong (by omega) ?_ (fun _ => ?_) (fun _ => ?_)
                · rw [q6, tn]; exact ih a (by omega) (by omega) (by omega)
                · rw [q5, tn]; exact ih b (by omega) (by omega) (by omega)
                · rw [q2, tn]; exact ih (n - 1) (by omega) (by omega) (by omega)
              · obtain ⟨q1, q2, q3, q4, q5, -⟩ := w9 (by omega) c19
                have f1 := fl (n - 1) (by omega)
                have f2 := fl (gF (gI' Ms s i) (n - 1) - 1) (by omega)
                refine opW_cong (by omega) ?_ (fun _ => ?_) (fun h => absurd h c19)
                · rw [q4, tn]; exact ih _ (by omega) (by omega) (by omega)
                · rw [q2, tn]; exact ih (n - 1) (by omega) (by omega) (by omega)
  exact key u (Nat.le_refl u) (Nat.le_refl _)
theorem sg_un {x : Nat} (hx : x < 4294967296) : (sg x % 4294967296).toNat = x := by
  rw [sg_val hx]
  by_cases q : x < 2147483648
  · rw [if_pos q]; omega
  · rw [if_neg q]; omega
theorem prB_le {a : Nat} {k : Nat} : (if prB a k = true then 1 else 0) < 2 := by split <;> omega
theorem opW_lt {op w wa wb lo a b c : Nat} (h3 : 3 ≤ op) (h21 : op ≤ 21) (hw : 1 ≤ w) (ha : a < 2 ^ wa) (hb : 9 ≤ op → b < 2 ^ wb) (hc : op = 19 → c < 2 ^ w) (h9 : op = 9 → w = wa + wb) (h10 : 10 ≤ op → op ≤ 12 → w = wa ∧ w = wb) (h19 : op = 19 → wb = w) (h20 : 20 ≤ op → wa = w) : opW op w wa wb lo a b c < 2 ^ w := by
  have hp := Nat.two_pow_pos w
  have h2 : 2 ≤ 2 ^ w := by
    have := p2le (k := w) hw
    omega
  unfold opW
  by_cases e : op = 3
  · rw [if_pos e]; omega
  rw [if_neg e]
  by_cases e : op = 4
  · rw [if_pos e]; exact Nat.mod_lt _ hp
  rw [if_neg e]
  by_cases e : op = 5
  · rw [if_pos e]; split <;> omega
  rw [if_neg e]
  by_cases e : op = 6
  · rw [if_pos e]; split <;> omega
  rw [if_neg e]
  by_cases e : op = 7
  · rw [if_pos e]; split <;> omega
  rw [if_neg e]
  by_cases e : op = 8
  · rw [if_pos e]; exact Nat.mod_lt _ hp
  rw [if_neg e]
  by_cases e : op = 9
  · rw [if_pos e, h9 e, Nat.pow_add]
    have hb' := hb (by omega)
    have : (a + 1) * 2 ^ wb ≤ 2 ^ wa * 2 ^ wb := Nat.mul_le_mul_right _ ha
    rw [Nat.add_mul, Nat.one_mul] at this
    omega
  rw [if_neg e]
  by_cases e : op = 10
  · rw [if_pos e]
    obtain ⟨q1, q2⟩ := h10 (by omega) (by omega)
    exact Nat.or_lt_two_pow (by rw [q1]; exact ha) (by rw [q2]; exact hb (by omega))
  rw [if_neg e]
  by_cases e : op = 11
  · rw [if_pos e]
    obtain ⟨q1, q2⟩ := h10 (by omega) (by omega)
    exact Nat.xor_lt_two_pow (by rw [q1]; exact ha) (by rw [q2]; exact hb (by omega))
  rw [if_neg e]
  by_cases e : op = 12
  · rw [if_pos e]
    obtain ⟨q1, q2⟩ := h10 (by omega) (by omega)
    exact Nat.and_lt_two_pow _ (by rw [q2]; exact hb (by omega))
  rw [if_neg e]
  by_cases e : op = 13
  · rw [if_pos e]; split <;> omega
  rw [if_neg e]
  by_cases e : op = 14
  · rw [if_pos e]; split <;> omega
  rw [if_neg e]
  by_cases e : op = 15
  · rw [if_pos e]; split <;> omega
  rw [if_neg e]
  by_cases e : op = 16
  · rw [if_pos e]; exact Nat.mod_lt _ hp
  rw [if_neg e]
  by_cases e : op = 17
  · rw [if_pos e]; exact Nat.mod_lt _ hp
  rw [if_neg e]
  by_cases e : op = 18
  · rw [if_pos e]; exact Nat.mod_lt _ hp
  rw [if_neg e]
  by_cases e : op = 19
  · rw [if_pos e]
    have hb' := hb (by omega)
    rw [h19 e] at hb'
    have := hc e
    split <;> assumption
  rw [if_neg e]
  by_cases e : op = 20
  · rw [if_pos e]
    split
    · exact hp
    · exact Nat.mod_lt _ hp
  rw [if_neg e]
  split
  · exact hp
  · rw [h20 (by omega)] at ha
    exact Nat.lt_of_le_of_lt (Nat.div_le_self _ _) ha
/-- values fit their widths -/
theorem nv_lt (hd : DP Ms top s) (hi : i < lsI s) (hV : ∀ g, g < lsG s → V g < 2 ^ wdS Ms s g) (hW : ∀ g j, g < lsG s → W g j < 2 ^ wdS Ms s g) : ∀ n, n < mdN (moI Ms s i) → nv Ms s V W i n < 2 ^ gW (gI' Ms s i) n := by
  intro n
  induction n using Nat.strongRecOn with
  | ind n ih =>
    intro hn
    obtain ⟨⟨z1, z2, z3, -⟩, w0, -, w2, w3, w9, w19⟩ := hd.nod hi hn
    have fl : ∀ m, m < mdN (moI Ms s i) → gF (gI' Ms s i) m ≤ m := fun m hm => (hd.nod hi hm).1.2.2.2
    have hp := Nat.two_pow_pos (gW (gI' Ms s i) n)
    rw [nv_eq hd hi hn]
    unfold ndV
    by_cases c0 : gO (gI' Ms s i) n = 0
    · obtain ⟨-, x, x1, x2⟩ := w0 c0
      have := p32 z3
      rw [if_pos c0, x2, sg_un (by omega)]
      exact x1
    · rw [if_neg c0]
      by_cases c1 : gO (gI' Ms s i) n = 1
      · obtain ⟨t, t1, -, -, t4, -, t6⟩ := hd.rd hi hn c1
        rw [if_pos c1, t1, tn, ← t6]
        exact hV _ t4
      · rw [if_neg c1]
        by_cases c2 : gO (gI' Ms s i) n = 2
        · obtain ⟨t, t1, -, -, t4, -, t6, -⟩ := hd.rm hi hn c2
          rw [if_pos c2, t1, tn]
          split
          · rw [← t6]; exact hW _ _ t4
          · exact hp
        · rw [if_neg c2]
          by_cases c8 : gO (gI' Ms s i) n ≤ 8
          · obtain ⟨q1, q2, q3, -⟩ := w3 (by omega) c8
            rw [q2, tn]
            exact opW_lt (by omega) z1 z2 (ih (n - 1) (by omega) (by omega)) (fun h => by omega) (fun h => by omega) (fun h => by omega) (fun h => by omega) (fun h => by omega) (fun h => by omega)
          · by_cases c19 : gO (gI' Ms s i) n = 19
            · obtain ⟨a, b, q1, q2, q3, q4, q5, q6, q7, q8, q9, q10⟩ := w19 c19
              have f1 := fl (n - 1) (by omega)
              have f2 := fl b (by omega)
              rw [q2, q5, q6, tn, tn, tn]
              refine opW_lt (by omega) z1 z2 (ih a (by omega) (by omega)) (fun _ => ih b (by omega) (by omega)) (fun _ => ?_) (fun h => by omega) (fun h => by omega) (fun _ => q9) (fun h => by omega)
              rw [← q10]; exact ih (n - 1) (by omega) (by omega)
            · obtain ⟨q1, q2, q3, q4, q5, q6, q7, q8, q9⟩ := w9 (by omega) c19
              have f1 := fl (n - 1) (by omega)
              rw [q2, q4, tn, tn]
              exact opW_lt (by omega) z1 z2 (ih _ (by omega) (by omega)) (fun _ => ih (n - 1) (by omega) (by omega)) (fun h => absurd h c19) q6 (fun h h' => ⟨q9 h (Or.inl h'), (q9 h (Or.inl h')).trans (q7 h (by omega))⟩) (fun h => absurd h c19) (fun h => (q9 (by omega) (Or.inr (by omega))).symm)
end
