set_option maxRecDepth 100000
set_option maxHeartbeats 400000
/-! ===== bits: room on the twin's pile ===== -/
theorem smF_one {f : Nat → Nat} : ∀ {n i : Nat}, i < n → f i ≤ smF f n := by
  intro n i h
  have h1 : smF f (i + 1) ≤ smF f n := smF_mono h
  have h2 : smF f (i + 1) = smF f i + f i := rfl
  omega
theorem smF_two {f g h : Nat → Nat} : ∀ {n : Nat}, (∀ i, i < n → f i + g i ≤ h i) → smF f n + smF g n ≤ smF h n := by
  intro n
  induction n with
  | zero => intro _; exact Nat.le_refl _
  | succ n ih =>
    intro q
    have h1 := ih (fun i hi => q i (by omega))
    have h2 := q n (by omega)
    show smF f n + f n + (smF g n + g n) ≤ smF h n + h n
    omega
theorem smF_del {f h : Nat → Nat} {d : Nat} : ∀ {n k : Nat}, (∀ i, i < n → f i ≤ h i) → k < n → f k + d ≤ h k → smF f n + d ≤ smF h n := by
  intro n
  induction n with
  | zero => intro k _ hk; exact absurd hk (Nat.not_lt_zero k)
  | succ n ih =>
    intro k q hk hd
    show smF f n + f n + d ≤ smF h n + h n
    by_cases e : k = n
    · subst e
      have := smF_le (f := f) (h := h) (n := k) (fun i hi => q i (by omega))
      omega
    · have h1 := ih (fun i hi => q i (by omega)) (show k < n by omega) hd
      have h2 := q n (by omega)
      omega
/-- a stretch of a sum -/
theorem smF_str {f : Nat → Nat} {a u : Nat} : ∀ {n : Nat}, u < n → smF f (u + 1) ≤ smF f a + smF (fun k => b1 (a ≤ k ∧ k ≤ u) (f k)) n := by
  have key : ∀ m, m ≤ u + 1 → smF f m ≤ smF f a + smF (fun k => b1 (a ≤ k ∧ k ≤ u) (f k)) m := by
    intro m
    induction m with
    | zero => intro _; exact Nat.zero_le _
    | succ m ih =>
      intro hm
      rcases Nat.lt_or_ge m a with c | c
      · have h1 : smF f (m + 1) ≤ smF f a := smF_mono c
        omega
      · have h1 := ih (by omega)
        show smF f m + f m ≤ smF f a + (smF _ m + b1 (a ≤ m ∧ m ≤ u) (f m))
        rw [b1_y (show a ≤ m ∧ m ≤ u by omega)]
        omega
  intro n hn
  have h1 := key (u + 1) (Nat.le_refl _)
  have h2 : smF (fun k => b1 (a ≤ k ∧ k ≤ u) (f k)) (u + 1) ≤ smF (fun k => b1 (a ≤ k ∧ k ≤ u) (f k)) n := smF_mono hn
  omega
section
variable (Ms : Nat → ModV) (s : LYS)
/-- a sum over nodes -/
noncomputable def smT (T : Nat → Nat → Prop) (f : Nat → Nat → Nat) : Nat := smF (fun i => smF (fun n => b1 (T i n) (f i n)) (mdN (moI Ms s i))) (lsI s)
def wtE (i n : Nat) : Nat := wt (gI' Ms s i) n
def wrE (i u : Nat) : Nat := wS (gI' Ms s i) (u + 1) - wS (gI' Ms s i) (gF (gI' Ms s i) u)
def cnE (i u : Nat) : Nat := u + 1 - gF (gI' Ms s i) u
/-- what signals of a rank below k need -/
noncomputable def bd1 (r : Nat → Nat) (k : Nat) : Nat := 16 * smT Ms s (TsR Ms s r k) (wtE Ms s) + smF (fun g => b1 (¬ stG Ms s g ∧ r g < k) (wdS Ms s g)) (lsG s)
noncomputable def bd2 (r : Nat → Nat) (k : Nat) : Nat := smT Ms s (TsR Ms s r k) (fun _ _ => 1)
/-- room for a signal; for an expression -/
def roomG (r : Nat → Nat) (p q k : Nat) : Prop := p + bd1 Ms s r k + 240 ≤ 200000 ∧ q + bd2 Ms s r k ≤ 49000
def roomE (r : Nat → Nat) (p q i u : Nat) : Prop := (p + 16 * wrE Ms s i u + 240 ≤ 200000 ∧ q + cnE Ms s i u ≤ 49000) ∧ ∀ h, rdE Ms s i u h → h < lsG s → ¬ stG Ms s h → roomG Ms s r (p + 16 * wrE Ms s i u) (q + cnE Ms s i u) (r h + 1)
end
section
variable {Ms : Nat → ModV} {top : Nat} {s : LYS} {r : Nat → Nat} {i u p q : Nat}
theorem wS_smF {G : NG} : ∀ n, smF (wt G) n = wS G n
  | 0 => rfl
  | n + 1 => by
    show smF (wt G) n + wt G n = wS G n + wt G n
    rw [wS_smF n]
theorem smF_ones : ∀ n, smF (fun _ => 1) n = n
  | 0 => rfl
  | n + 1 => by
    show smF (fun _ => 1) n + 1 = n + 1
    rw [smF_ones n]
theorem smT_two {T T' T'' : Nat → Nat → Prop} {f : Nat → Nat → Nat} (h1 : ∀ i n, i < lsI s → n < mdN (moI Ms s i) → T i n → T'' i n) (h2 : ∀ i n, i < lsI s → n < mdN (moI Ms s i) → T' i n → T'' i n) (h3 : ∀ i n, i < lsI s → n < mdN (moI Ms s i) → T i n → ¬ T' i n) : smT Ms s T f + smT Ms s T' f ≤ smT Ms s T'' f := smF_two (fun i hi => smF_two (fun n hn => by
  by_cases c : T i n
  · rw [b1_y c, b1_n (h3 i n hi hn c), b1_y (h1 i n hi hn c)]; exact Nat.le_refl _
  · by_cases c' : T' i n
    · rw [b1_n c, b1_y c', b1_y (h2 i n hi hn c')]; omega
    · rw [b1_n c, b1_n c']; exact Nat.zero_le _))
theorem smT_rng {f : Nat → Nat → Nat} (hi : i < lsI s) {a : Nat} (hu : u < mdN (moI Ms s i)) : smF (f i) (u + 1) ≤ smF (f i) a + smT Ms s (fun i' n' => i' = i ∧ a ≤ n' ∧ n' ≤ u) f := by
  have h1 := smF_str (f := f i) (a := a) hu
  have h2 : smF (fun n => b1 (i = i ∧ a ≤ n ∧ n ≤ u) (f i n)) (mdN (moI Ms s i)) ≤ smT Ms s (fun i' n' => i' = i ∧ a ≤ n' ∧ n' ≤ u) f := smF_one (f := fun i' => smF (fun n => b1 (i' = i ∧ a ≤ n ∧ n ≤ u) (f i' n)) (mdN (moI Ms s i'))) hi
  have h3 : smF (fun k => b1 (a ≤ k ∧ k ≤ u) (f i k)) (mdN (moI Ms s i)) ≤ smF (fun n => b1 (i = i ∧ a ≤ n ∧ n ≤ u) (f i n)) (mdN (moI Ms s i)) := smF_le (fun k hk => by
    by_cases c : a ≤ k ∧ k ≤ u
    · rw [b1_y c, b1_y ⟨rfl, c⟩]; exact Nat.le_refl _
    · rw [b1_n c]; exact Nat.zero_le _)
  omega
theorem wr_rng (hi : i < lsI s) (hu : u < mdN (moI Ms s i)) : wrE Ms s i u ≤ smT Ms s (fun i' n' => i' = i ∧ gF (gI' Ms s i) u ≤ n' ∧ n' ≤ u) (wtE Ms s) := by
  have h := smT_rng (Ms := Ms) (s := s) (f := wtE Ms s) hi (a := gF (gI' Ms s i) u) hu
  have e : wtE Ms s i = wt (gI' Ms s i) := rfl
  rw [e, wS_smF, wS_smF] at h
  unfold wrE
  omega
theorem cn_rng (hi : i < lsI s) (hu : u < mdN (moI Ms s i)) : cnE Ms s i u ≤ smT Ms s (fun i' n' => i' = i ∧ gF (gI' Ms s i) u ≤ n' ∧ n' ≤ u) (fun _ _ => 1) := by
  have h := smT_rng (Ms := Ms) (s := s) (f := fun _ _ => 1) hi (a := gF (gI' Ms s i) u) hu
  rw [smF_ones, smF_ones] at h
  unfold cnE
  omega
theorem smT_le {T : Nat → Nat → Prop} {f : Nat → Nat → Nat} {c : Nat} (h : ∀ i, i < lsI s → smF (f i) (mdN (moI Ms s i)) ≤ c) : smT Ms s T f ≤ c * lsI s := smF_bd _ (fun i hi => Nat.le_trans (smF_le (fun n hn => b1_le)) (h i hi))
theorem wt_all (hd : DP Ms top s) {T : Nat → Nat → Prop} : smT Ms s T (wtE Ms s) ≤ 12120 := by
  have h := smT_le (Ms := Ms) (s := s) (T := T) (f := wtE Ms s) (c := 120) (fun i hi => by
    obtain ⟨-, ok⟩ := hd.inst hi
    have h1 : wS (gI' Ms s i) (mdN (moI Ms s i)) ≤ mdK (moI Ms s i) := ok.2.2.2.1.1
    have h2 : mdK (moI Ms s i) ≤ 120 := ok.1.2.2.2.2.1
    show smF (wt (gI' Ms s i)) _ ≤ 120
    rw [wS_smF]
    omega)
  have := hd.2.1.1.2
  omega
theorem cn_all (hd : DP Ms top s) {T : Nat → Nat → Prop} : smT Ms s T (fun _ _ => 1) ≤ 24240 := by
  have h := smT_le (Ms := Ms) (s := s) (T := T) (f := fun _ _ => 1) (c := 240) (fun i hi => by
    obtain ⟨-, ok⟩ := hd.inst hi
    have n240 : mdN (moI Ms s i) ≤ 240 := ok.1.2.1
    rw [smF_ones]
    exact n240)
  have := hd.2.1.1.2
  omega
theorem TsR.in_ {k i n : Nat} {g c : Nat} (hg : g < lsG s) (hs : ¬ stG Ms s g) (hr : r g < k) (hc : c ∈ conL Ms s g) (hu : u = mdVl (moI Ms s (coI Ms s g)) c ∨ ∃ q, q ∈ mdCh (moI Ms s (coI Ms s g)) c ∧ u = q.1) (hi : i = coI Ms s g) (h1 : gF (gI' Ms s i) u ≤ n) (h2 : n ≤ u) : TsR Ms s r k i n := by
  subst hi
  rcases hu with e | ⟨q, q1, q2⟩
  · subst e
    exact ⟨g, c, hg, hs, hr, hc, rfl, Or.inl ⟨h1, h2⟩⟩
  · subst q2
    exact ⟨g, c, hg, hs, hr, hc, rfl, Or.inr ⟨q, q1, h1, h2⟩⟩
/-- room for a signal is room for what its connections are made of -/
theorem roomG.own (hd : DP Ms top s) (hch : chOK Ms s) (hr : ∀ x t, x < lsG s → t < lsG s → hgG Ms s x t → r t < r x) {g c : Nat} (hg : g < lsG s) (hs : ¬ stG Ms s g) (hc : c ∈ conL Ms s g) (hu : u = mdVl (moI Ms s (coI Ms s g)) c ∨ ∃ q, q ∈ mdCh (moI Ms s (coI Ms s g)) c ∧ u = q.1) (h : roomG Ms s r p q (r g + 1)) : roomE Ms s r (p + wdS Ms s g) q (coI Ms s g) u := by
  obtain ⟨z1, z2, z3, -⟩ := hd.conL_mem hg hc
  have hum : u < mdN (moI Ms s (coI Ms s g)) := by
    rcases hu with e | ⟨q, q1, q2⟩
    · rw [e]; exact hd.root z2 z3
    · rw [q2]; exact (hch _ _ z2 z3 q q1).1
  have hroot : rootM (moI Ms s (coI Ms s g)) u := by
    rcases hu with e | ⟨q, q1, q2⟩
    · exact ⟨c, z3, Or.inl e⟩
    · exact ⟨c, z3, Or.inr (Or.inr ⟨q, q1, q2⟩)⟩
  have w1 := wr_rng (Ms := Ms) z2 hum
  have w2 := cn_rng (Ms := Ms) z2 hum
  have own : ∀ i n, i = coI Ms s g ∧ gF (gI' Ms s (coI Ms s g)) u ≤ n ∧ n ≤ u → TsR Ms s r (r g + 1) i n := fun i n hh => by
    obtain ⟨e, h1, h2⟩ := hh
    subst e
    exact TsR.in_ hg hs (Nat.lt_succ_self _) hc hu rfl h1 h2
  obtain ⟨h1, h2⟩ := h
  unfold bd1 at h1
  unfold bd2 at h2
  have fin : ∀ K T, (∀ i n, i < lsI s → n < mdN (moI Ms s i) → T i n → TsR Ms s r (r g + 1) i n) → (∀ i n, i < lsI s → n < mdN (moI Ms s i) → T i n → ¬ (i = coI Ms s g ∧ gF (gI' Ms s (coI Ms s g)) u ≤ n ∧ n ≤ u)) → K ≤ r g → p + wdS Ms s g + 16 * wrE Ms s (coI Ms s g) u + (16 * smT Ms s T (wtE Ms s) + smF (fun g => b1 (¬ stG Ms s g ∧ r g < K) (wdS Ms s g)) (lsG s)) + 240 ≤ 200000 ∧ q + cnE Ms s (coI Ms s g) u + smT Ms s T (fun _ _ => 1) ≤ 49000 := by
    intro K T t1 t2 hK
    have a1 := smT_two (Ms := Ms) (s := s) (T := T) (T' := fun i' n' => i' = coI Ms s g ∧ gF (gI' Ms s (coI Ms s g)) u ≤ n' ∧ n' ≤ u) (T'' := TsR Ms s r (r g + 1)) (f := wtE Ms s) t1 (fun i n _ _ hh => own i n hh) t2
    have a2 := smT_two (Ms := Ms) (s := s) (T := T) (T' := fun i' n' => i' = coI Ms s g ∧ gF (gI' Ms s (coI Ms s g)) u ≤ n' ∧ n' ≤ u) (T'' := TsR Ms s r (r g + 1)) (f := fun _ _ => 1) t1 (fun i n _ _ hh => own i n hh) t2
    have a3 := smF_del (f := fun g => b1 (¬ stG Ms s g ∧ r g < K) (wdS Ms s g)) (h := fun x => b1 (¬ stG Ms s x ∧ r x < r g + 1) (wdS Ms s x)) (d := wdS Ms s g) (n := lsG s) (k := g) (fun i hi => by
      by_cases cc : ¬ stG Ms s i ∧ r i < K
      · rw [b1_y cc, b1_y (show ¬ stG Ms s i ∧ r i < r g + 1 from ⟨cc.1, by omega⟩)]; exact Nat.le_refl _
      · rw [b1_n cc]; exact Nat.zero_le _) hg (by
      rw [b1_n (show ¬ (¬ stG Ms s g ∧ r g < K) from fun hh => by omega), b1_y (show ¬ stG Ms s g ∧ r g < r g + 1 from ⟨hs, Nat.lt_succ_self _⟩)]; omega)
    omega
  refine ⟨?_, fun h hrd hh hsh => ?_⟩
  · have := fin 0 (fun _ _ => False) (fun _ _ _ _ hh => hh.elim) (fun _ _ _ _ hh => hh.elim) (Nat.zero_le _)
    omega
  · have hp : hgP Ms s g h := by
      rcases hu with e | ⟨q, q1, q2⟩
      · exact ⟨hs, hsh, c, hc, Or.inl (by rw [← e]; exact hrd)⟩
      · exact ⟨hs, hsh, c, hc, Or.inr ⟨q, q1, by rw [← q2]; exact hrd⟩⟩
    have hlt := hr g h hg hh ⟨hg, hh, hp⟩
    exact fin (r h + 1) (TsR Ms s r (r h + 1)) (fun _ _ _ _ hh => hh.mono (by omega)) (fun i n _ _ ht hh => by
      obtain ⟨e, y1, y2⟩ := hh
      subst e
      exact sepR hd hch hr z2 hroot hh hsh hrd y1 y2 ht) hlt
/-- at the top there is room for every expression -/
theorem roomE_top (hd : DP Ms top s) (hch : chOK Ms s) (hlim : limOK Ms s) (hr : ∀ x t, x < lsG s → t < lsG s → hgG Ms s x t → r t < r x) (hi : i < lsI s) (hu : u < mdN (moI Ms s i)) (hroot : rootM (moI Ms s i) u) (hp : p ≤ 3840) : roomE Ms s r p 0 i u := by
  have w1 := wr_rng (Ms := Ms) hi hu
  have w2 := cn_rng (Ms := Ms) hi hu
  have fin : ∀ K T, (∀ i' n, i' < lsI s → n < mdN (moI Ms s i') → T i' n → ¬ (i' = i ∧ gF (gI' Ms s i) u ≤ n ∧ n ≤ u)) → p + 16 * wrE Ms s i u + (16 * smT Ms s T (wtE Ms s) + smF (fun g => b1 (¬ stG Ms s g ∧ r g < K) (wdS Ms s g)) (lsG s)) + 240 ≤ 200000 ∧ 0 + cnE Ms s i u + smT Ms s T (fun _ _ => 1) ≤ 49000 := by
    intro K T t2
    have a1 := smT_two (Ms := Ms) (s := s) (T := T) (T' := fun i' n' => i' = i ∧ gF (gI' Ms s i) u ≤ n' ∧ n' ≤ u) (T'' := fun _ _ => True) (f := wtE Ms s) (fun _ _ _ _ _ => trivial) (fun _ _ _ _ _ => trivial) t2
    have a2 := smT_two (Ms := Ms) (s := s) (T := T) (T' := fun i' n' => i' = i ∧ gF (gI' Ms s i) u ≤ n' ∧ n' ≤ u) (T'' := fun _ _ => True) (f := fun _ _ => 1) (fun _ _ _ _ _ => trivial) (fun _ _ _ _ _ => trivial) t2
    have a3 := smF_le (f := fun g => b1 (¬ stG Ms s g ∧ r g < K) (wdS Ms s g)) (h := szG Ms s) (n := lsG s) (fun g hg => by
      obtain ⟨-, -, -, -, ⟨s1, s2⟩, ⟨s3, s4⟩, -⟩ := hd.sig hg
      refine Nat.le_trans b1_le ?_
      unfold szG
      exact Nat.le_mul_of_pos_right _ s3)
    have a4 := wt_all (T := fun _ _ => True) hd
    have a5 := cn_all (T := fun _ _ => True) hd
    have a6 : smF (szG Ms s) (lsG s) ≤ 2000 := hlim.1.1
    omega
  refine ⟨?_, fun h hrd hh hsh => ?_⟩
  · have := fin 0 (fun _ _ => False) (fun _ _ _ _ hh => hh.elim)
    omega
  · exact fin (r h + 1) (TsR Ms s r (r h + 1)) (fun i' n _ _ ht hh => by
      obtain ⟨e, y1, y2⟩ := hh
      subst e
      exact sepR hd hch hr hi hroot hh hsh hrd y1 y2 ht)
theorem roomE.sub (h : roomE Ms s r p q i u) {p' q' u' : Nat} (hu : gF (gI' Ms s i) u ≤ gF (gI' Ms s i) u') (hu' : u' ≤ u) (hp : p' + 16 * wrE Ms s i u' ≤ p + 16 * wrE Ms s i u) (hq : q' + cnE Ms s i u' ≤ q + cnE Ms s i u) : roomE Ms s r p' q' i u' := by
  obtain ⟨⟨h1, h2⟩, h3⟩ := h
  refine ⟨⟨by omega, by omega⟩, fun x hx hxl hxs => ?_⟩
  obtain ⟨n, n1, n2, n3⟩ := hx
  obtain ⟨g1, g2⟩ := h3 x ⟨n, by omega, by omega, n3⟩ hxl hxs
  exact ⟨by omega, by omega⟩
theorem roomE.rd (h : roomE Ms s r p q i u) {x : Nat} (hx : rdE Ms s i u x) (hl : x < lsG s) (hs : ¬ stG Ms s x) : roomG Ms s r p q (r x + 1) := by
  obtain ⟨g1, g2⟩ := h.2 x hx hl hs
  exact ⟨by omega, by omega⟩
theorem wr_pos (hd : DP Ms top s) (hi : i < lsI s) (hu : u < mdN (moI Ms s i)) : wS (gI' Ms s i) (gF (gI' Ms s i) u) + 1 ≤ wS (gI' Ms s i) (u + 1) := by
  have hf := (hd.nod hi hu).1.2.2.2
  exact wS_exp (G := gI' Ms s i) (N := gF (gI' Ms s i) u) (M := u + 1) (fun k hk => hd.nod hi (by omega)) (by omega) (by rw [Nat.add_sub_cancel])
/-- the parts of a node of one part -/
theorem rm1E (hd : DP Ms top s) (hi : i < lsI s) (hu : u < mdN (moI Ms s i)) (h0 : 0 < u) (hf : gF (gI' Ms s i) u = gF (gI' Ms s i) (u - 1)) (h : roomE Ms s r p q i u) : roomE Ms s r p (q + 1) i (u - 1) ∧ cnE Ms s i u = cnE Ms s i (u - 1) + 1 := by
  have f1 := (hd.nod hi (show u - 1 < mdN (moI Ms s i) by omega)).1.2.2.2
  have w1 := wr_pos hd hi (show u - 1 < mdN (moI Ms s i) by omega)
  have w2 : wS (gI' Ms s i) (u - 1 + 1) ≤ wS (gI' Ms s i) (u + 1) := wS_mono (by omega)
  have c1 : cnE Ms s i u = cnE Ms s i (u - 1) + 1 := by unfold cnE; omega
  refine ⟨h.sub (by omega) (by omega) ?_ (by omega), c1⟩
  unfold wrE
  rw [hf]
  omega
/-- of two -/
theorem rm2E (hd : DP Ms top s) (hi : i < lsI s) (hu : u < mdN (moI Ms s i)) {a : Nat} (h0 : 0 < u) (ha : a + 1 = gF (gI' Ms s i) (u - 1)) (hf : gF (gI' Ms s i) u = gF (gI' Ms s i) a) (hgA : gA (gI' Ms s i) u = (a : Int)) (h : roomE Ms s r p q i u) : roomE Ms s r p (q + 2) i a ∧ roomE Ms s r (p + gW (gI' Ms s i) a) (q + 1) i (u - 1) ∧ cnE Ms s i u = cnE Ms s i a + cnE Ms s i (u - 1) + 1 ∧ 1 ≤ cnE Ms s i (u - 1) := by
  have f1 := (hd.nod hi (show u - 1 < mdN (moI Ms s i) by omega)).1.2.2.2
  have f2 := (hd.nod hi (show a < mdN (moI Ms s i) by omega)).1
  have w1 := wr_pos hd hi (show u - 1 < mdN (moI Ms s i) by omega)
  have w2 := wr_pos hd hi (show a < mdN (moI Ms s i) by omega)
  rw [← ha] at w1
  have w3 : wS (gI' Ms s i) (u + 1) = wS (gI' Ms s i) u + wt (gI' Ms s i) u := rfl
  have eu : u - 1 + 1 = u := by omega
  rw [eu] at w1
  have w4 : 2 ≤ (wS (gI' Ms s i) (a + 1) - wS (gI' Ms s i) (gF (gI' Ms s i) a)) + wt (gI' Ms s i) u := by
    by_cases c : gO (gI' Ms s i) u = 9 ∧ (gA (gI' Ms s i) u).toNat < u ∧ gO (gI' Ms s i) (gA (gI' Ms s i) u).toNat = 9
    · rw [hgA, tn] at c
      obtain ⟨-, -, -, -, -, w9, -⟩ := hd.nod hi (show a < mdN (moI Ms s i) by omega)
      obtain ⟨y1, y2, y3, y4, y5, -⟩ := w9 (by omega) (by omega)
      clear w9
      have v1 := wr_pos hd hi (show a - 1 < mdN (moI Ms s i) by omega)
      have v2 := wr_pos hd hi (show gF (gI' Ms s i) (a - 1) - 1 < mdN (moI Ms s i) by have := (hd.nod hi (show a - 1 < mdN (moI Ms s i) by omega)).1.2.2.2; omega)
      have e1 : a - 1 + 1 = a := by omega
      have e2 : gF (gI' Ms s i) (a - 1) - 1 + 1 = gF (gI' Ms s i) (a - 1) := by omega
      rw [e1] at v1
      rw [e2, ← y5] at v2
      have v3 : wS (gI' Ms s i) a ≤ wS (gI' Ms s i) (a + 1) := wS_mono (by omega)
      omega
    · have : wt (gI' Ms s i) u = 1 := if_neg c
      omega
  have c1 : cnE Ms s i u = cnE Ms s i a + cnE Ms s i (u - 1) + 1 := by unfold cnE; omega
  have c2 : 1 ≤ cnE Ms s i (u - 1) := by unfold cnE; omega
  have w5 : wS (gI' Ms s i) (a + 1) ≤ wS (gI' Ms s i) (u + 1) := wS_mono (by omega)
  refine ⟨h.sub (by omega) (by omega) ?_ (by omega), h.sub (by omega) (by omega) ?_ (by omega), c1, c2⟩
  · unfold wrE
    rw [hf]
    omega
  · unfold wrE
    rw [hf, eu, ← ha]
    omega
/-- of three -/
theorem rm3E (hd : DP Ms top s) (hi : i < lsI s) (hu : u < mdN (moI Ms s i)) {a b : Nat} (h19 : gO (gI' Ms s i) u = 19) (h0 : 0 < u) (hb : b + 1 = gF (gI' Ms s i) (u - 1)) (ha : a + 1 = gF (gI' Ms s i) b) (hf : gF (gI' Ms s i) u = gF (gI' Ms s i) a) (h : roomE Ms s r p q i u) : roomE Ms s r p (q + 3) i a ∧ roomE Ms s r (p + 1) (q + 2) i b ∧ roomE Ms s r (p + 1 + gW (gI' Ms s i) b) (q + 1) i (u - 1) ∧ cnE Ms s i u = cnE Ms s i a + cnE Ms s i b + cnE Ms s i (u - 1) + 1 ∧ 1 ≤ cnE Ms s i (u - 1) ∧ 1 ≤ cnE Ms s i b := by
  have f1 := (hd.nod hi (show u - 1 < mdN (moI Ms s i) by omega)).1.2.2.2
  have f2 := (hd.nod hi (show b < mdN (moI Ms s i) by omega)).1
  have f3 := (hd.nod hi (show a < mdN (moI Ms s i) by omega)).1
  have w1 := wr_pos hd hi (show u - 1 < mdN (moI Ms s i) by omega)
  have w2 := wr_pos hd hi (show b < mdN (moI Ms s i) by omega)
  have w3 := wr_pos hd hi (show a < mdN (moI Ms s i) by omega)
  rw [← hb] at w1
  rw [← ha] at w2
  have w4 : wS (gI' Ms s i) (u + 1) = wS (gI' Ms s i) u + wt (gI' Ms s i) u := rfl
  have w5 : wt (gI' Ms s i) u = 1 := if_neg (by omega)
  have eu : u - 1 + 1 = u := by omega
  rw [eu] at w1
  have c1 : cnE Ms s i u = cnE Ms s i a + cnE Ms s i b + cnE Ms s i (u - 1) + 1 := by unfold cnE; omega
  have c2 : 1 ≤ cnE Ms s i (u - 1) := by unfold cnE; omega
  have c3 : 1 ≤ cnE Ms s i b := by unfold cnE; omega
  refine ⟨h.sub (by omega) (by omega) ?_ (by omega), h.sub (by omega) (by omega) ?_ (by omega), h.sub (by omega) (by omega) ?_ (by omega), c1, c2, c3⟩
  · unfold wrE
    rw [hf]
    omega
  · unfold wrE
    rw [hf, ← ha]
    omega
  · unfold wrE
    rw [hf, eu, ← hb]
    omega
end
