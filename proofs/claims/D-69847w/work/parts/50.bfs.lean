set_option maxRecDepth 100000
/-! ===== runs of a machine: breadth first, pure ===== -/
def cntB (p : Nat → Bool) : Nat → Nat
  | 0 => 0
  | n + 1 => cntB p n + (if p n = true then 1 else 0)
theorem cntB_le (p : Nat → Bool) : ∀ n, cntB p n ≤ n
  | 0 => Nat.le_refl 0
  | n + 1 => by
    have := cntB_le p n
    unfold cntB
    split <;> omega
theorem cntB_congr {p q : Nat → Bool} : ∀ n, (∀ y, y < n → p y = q y) → cntB p n = cntB q n
  | 0, _ => rfl
  | n + 1, h => by
    unfold cntB
    rw [cntB_congr n (fun y hy => h y (by omega)), h n (by omega)]
theorem cntB_none {p : Nat → Bool} : ∀ n, (∀ y, y < n → p y = false) → cntB p n = 0
  | 0, _ => rfl
  | n + 1, h => by
    unfold cntB
    rw [cntB_none n (fun y hy => h y (by omega)), h n (by omega)]
    rfl
theorem cntB_up {p : Nat → Bool} {y : Nat} (hy : p y = false) : ∀ n, y < n → cntB (ups p y true) n = cntB p n + 1
  | 0, h => absurd h (Nat.not_lt_zero _)
  | n + 1, h => by
    unfold cntB
    by_cases e : y = n
    · subst e
      rw [ups_eq, hy, cntB_congr (q := p) y (fun z hz => ups_ne (by omega))]
      rfl
    · rw [cntB_up hy n (by omega), ups_ne (fun q => e q.symm)]
      omega
/-- (a, b) before (c, d) -/
def lx (a b c d : Nat) : Prop := a < c ∨ a = c ∧ b < d
/-- from x a break comes at the step behind d ones -/
def bk (m : Nat) (ld : Nat → Nat → Nat) (br : Nat → Nat → Bool) : Nat → Nat → Prop
  | 0, x => ∃ i, i < m ∧ br x i = true
  | d + 1, x => ∃ i, i < m ∧ bk m ld br d (ld x i)
/-- y comes behind just l steps -/
def pt (m : Nat) (ld : Nat → Nat → Nat) (b : Nat) : Nat → Nat → Prop
  | 0, y => y = b
  | l + 1, y => ∃ y' i, pt m ld b l y' ∧ i < m ∧ ld y' i = y
theorem pt_bk {m : Nat} {ld : Nat → Nat → Nat} {br : Nat → Nat → Bool} {b : Nat} : ∀ l d y, pt m ld b l y → bk m ld br d y → bk m ld br (l + d) b
  | 0, d, y, h, hb => by
    have : y = b := h
    subst this
    rw [Nat.zero_add]
    exact hb
  | l + 1, d, y, h, hb => by
    obtain ⟨y', i, h1, h2, h3⟩ := h
    have := pt_bk l (d + 1) y' h1 ⟨i, h2, by rw [h3]; exact hb⟩
    rw [show l + 1 + d = l + (d + 1) by omega]
    exact this
def BQ_o (b m n : Nat) (ld : Nat → Nat → Nat) (st bf inp lv : Nat → Nat) (met : Nat → Bool) (c k x : Nat) : Prop :=
  (0 < c ∧ st 0 = b ∧ lv 0 = 0) ∧ ((∀ q, q < c → st q < n) ∧ ∀ q q', q < c → q' < c → st q = st q' → q = q') ∧ ((∀ y, met y = true ↔ ∃ q, q < c ∧ st q = y) ∧ cntB met n = c) ∧ (∀ q, 0 < q → q < c → bf q < q ∧ inp q < m ∧ lx (bf q) (inp q) k x ∧ st q = ld (st (bf q)) (inp q) ∧ lv q = lv (bf q) + 1) ∧ (∀ q q', 0 < q → q < q' → q' < c → lx (bf q) (inp q) (bf q') (inp q')) ∧ (∀ k' x', x' < m → lx k' x' k x → k' < c → ∃ q, q < c ∧ st q = ld (st k') x' ∧ (q = 0 ∨ lx (bf q) (inp q) k' x' ∨ bf q = k' ∧ inp q = x'))
section
variable {b m n : Nat} {ld : Nat → Nat → Nat} {st bf inp lv : Nat → Nat} {met : Nat → Bool} {c k x : Nat}
theorem BQ_le (h : BQ_o b m n ld st bf inp lv met c k x) : c ≤ n := by
  have := cntB_le met n
  rw [h.2.2.1.2] at this
  exact this
theorem BQ_first {inp0 : Nat → Nat} (hb : b < n) (e : st 0 = b) (e2 : lv 0 = 0) (hm : ∀ y, met y = true ↔ y = b) : BQ_o b m n ld st bf inp0 lv met 1 0 0 := by
  refine ⟨⟨by omega, e, e2⟩, ⟨fun q hq => ?_, fun q q' h1 h2 _ => by omega⟩, ⟨fun y => ?_, ?_⟩, fun q h1 h2 => absurd h1 (by omega), fun q q' h1 h2 h3 => absurd h1 (by omega), fun k' x' h1 h2 h3 => ?_⟩
  · rw [show q = 0 by omega, e]; exact hb
  · rw [hm]
    constructor
    · intro h; exact ⟨0, by omega, by rw [e, h]⟩
    · rintro ⟨q, h1, h2⟩; rw [show q = 0 by omega, e] at h2; exact h2.symm
  · have e3 : met = ups (fun _ => false) b true := by
      funext y
      by_cases q : y = b
      · subst q; rw [ups_eq]; exact (hm y).mpr rfl
      · rw [ups_ne q]
        cases e4 : met y
        · rfl
        · exact absurd ((hm y).mp e4) q
    rw [e3, cntB_up rfl n hb, cntB_none n (fun _ _ => rfl)]
  · unfold lx at h2; omega
theorem BQ_old (h : BQ_o b m n ld st bf inp lv met c k x) (hx : x < m) {q0 : Nat} (hq : q0 < c) (e : st q0 = ld (st k) x) : BQ_o b m n ld st bf inp lv met c k (x + 1) := by
  obtain ⟨h1, h2, h3, h4, h5, h6⟩ := h
  refine ⟨h1, h2, h3, fun q q1 q2 => ?_, h5, fun k' x' hx' hl hk' => ?_⟩
  · obtain ⟨a1, a2, a3, a4⟩ := h4 q q1 q2
    refine ⟨a1, a2, ?_, a4⟩
    unfold lx at a3 ⊢; omega
  · by_cases e2 : lx k' x' k x
    · exact h6 k' x' hx' e2 hk'
    · have e3 : k' = k ∧ x' = x := by unfold lx at e2 hl; omega
      obtain ⟨rfl, rfl⟩ := e3
      refine ⟨q0, hq, e, ?_⟩
      by_cases e0 : q0 = 0
      · exact Or.inl e0
      · exact Or.inr (Or.inl (h4 q0 (by omega) hq).2.2.1)
theorem BQ_new (h : BQ_o b m n ld st bf inp lv met c k x) (hk : k < c) (hx : x < m) (hn : met (ld (st k) x) = false) (hlt : ld (st k) x < n) : BQ_o b m n ld (ups st c (ld (st k) x)) (ups bf c k) (ups inp c x) (ups lv c (lv k + 1)) (ups met (ld (st k) x) true) (c + 1) k (x + 1) := by
  obtain ⟨h1, h2, h3, h4, h5, h6⟩ := h
  have hst : ∀ q, q < c → ups st c (ld (st k) x) q = st q := fun q hq => ups_ne (by omega)
  refine ⟨⟨by omega, by rw [hst 0 h1.1]; exact h1.2.1, by rw [ups_ne (by omega)]; exact h1.2.2⟩, ⟨fun q hq => ?_, fun q q' q1 q2 he => ?_⟩, ⟨fun y => ?_, ?_⟩, fun q q1 q2 => ?_, fun q q' q1 q2 q3 => ?_, fun k' x' hx' hl hk' => ?_⟩
  · by_cases e : q = c
    · subst e; rw [ups_eq]; exact hlt
    · rw [ups_ne e]; exact h2.1 q (by omega)
  · have hno : ∀ q, q < c → ¬ st q = ld (st k) x := fun q hq e => by
      have := (h3.1 (ld (st k) x)).mpr ⟨q, hq, e⟩
      rw [hn] at this; cases this
    by_cases e : q = c
    · by_cases e' : q' = c
      · omega
      · subst e; rw [ups_eq, ups_ne e'] at he
        exact absurd he.symm (hno q' (by omega))
    · by_cases e' : q' = c
      · subst e'; rw [ups_eq, ups_ne e] at he
        exact absurd he (hno q (by omega))
      · rw [ups_ne e, ups_ne e'] at he
        exact h2.2 q q' (by omega) (by omega) he
  · constructor
    · intro hy
      by_cases e : y = ld (st k) x
      · exact ⟨c, by omega, by rw [ups_eq]; exact e.symm⟩
      · rw [ups_ne e] at hy
        obtain ⟨q, a1, a2⟩ := (h3.1 y).mp hy
        exact ⟨q, by omega, by rw [hst q a1]; exact a2⟩
    · rintro ⟨q, a1, a2⟩
      by_cases e : q = c
      · subst e; rw [ups_eq] at a2; rw [← a2, ups_eq]
      · rw [ups_ne e] at a2
        by_cases e2 : y = ld (st k) x
        · rw [e2, ups_eq]
        · rw [ups_ne e2]; exact (h3.1 y).mpr ⟨q, by omega, a2⟩
  · rw [cntB_up hn n hlt, h3.2]
  · by_cases e : q = c
    · subst e
      rw [ups_eq, ups_eq, ups_eq, ups_eq, ups_ne (by omega), ups_ne (by omega)]
      refine ⟨hk, hx, ?_, rfl, rfl⟩
      unfold lx; omega
    · obtain ⟨a1, a2, a3, a4, a5⟩ := h4 q q1 (by omega)
      rw [ups_ne e, ups_ne e, ups_ne e, ups_ne e, ups_ne (by omega), ups_ne (by omega)]
      refine ⟨a1, a2, ?_, a4, a5⟩
      unfold lx at a3 ⊢; omega
  · by_cases e : q' = c
    · subst e
      rw [ups_eq, ups_eq, ups_ne (by omega), ups_ne (by omega)]
      exact (h4 q q1 q2).2.2.1
    · rw [ups_ne e, ups_ne e, ups_ne (by omega), ups_ne (by omega)]
      exact h5 q q' q1 q2 (by omega)
  · by_cases e : k' = c
    · exfalso; subst e; unfold lx at hl; omega
    · rw [hst k' (by omega)]
      by_cases e2 : lx k' x' k x
      · obtain ⟨q, a1, a2, a3⟩ := h6 k' x' hx' e2 (by omega)
        refine ⟨q, by omega, by rw [hst q a1]; exact a2, ?_⟩
        rw [ups_ne (by omega), ups_ne (by omega)]
        exact a3
      · have e3 : k' = k ∧ x' = x := by unfold lx at e2 hl; omega
        obtain ⟨rfl, rfl⟩ := e3
        refine ⟨c, by omega, by rw [ups_eq], ?_⟩
        rw [ups_eq, ups_eq]
        exact Or.inr (Or.inr ⟨rfl, rfl⟩)
theorem BQ_next (h : BQ_o b m n ld st bf inp lv met c k m) : BQ_o b m n ld st bf inp lv met c (k + 1) 0 := by
  obtain ⟨h1, h2, h3, h4, h5, h6⟩ := h
  refine ⟨h1, h2, h3, fun q q1 q2 => ?_, h5, fun k' x' hx' hl hk' => ?_⟩
  · obtain ⟨a1, a2, a3, a4⟩ := h4 q q1 q2
    refine ⟨a1, a2, ?_, a4⟩
    unfold lx at a3 ⊢; omega
  · exact h6 k' x' hx' (by unfold lx at hl ⊢; omega) hk'
/-- levels rise with the places -/
theorem BQ_lv (h : BQ_o b m n ld st bf inp lv met c k x) : ∀ q' q, q ≤ q' → q' < c → lv q ≤ lv q' := by
  intro q'
  induction q' using Nat.strongRecOn with
  | _ q' ih =>
    intro q hq hc
    by_cases e : q = q'
    · subst e; exact Nat.le_refl _
    · by_cases e0 : q = 0
      · subst e0; rw [h.1.2.2]; exact Nat.zero_le _
      · have a := h.2.2.2.1 q (by omega) (by omega)
        have a' := h.2.2.2.1 q' (by omega) hc
        have l := h.2.2.2.2.1 q q' (by omega) (by omega) hc
        have hle : bf q ≤ bf q' := by unfold lx at l; omega
        have := ih (bf q') a'.1 (bf q) hle (by omega)
        rw [a.2.2.2.2, a'.2.2.2.2]
        omega
theorem BQ_pt (h : BQ_o b m n ld st bf inp lv met c k x) : ∀ q, q < c → pt m ld b (lv q) (st q) := by
  intro q
  induction q using Nat.strongRecOn with
  | _ q ih =>
    intro hc
    by_cases e0 : q = 0
    · subst e0; rw [h.1.2.2]; exact h.1.2.1
    · obtain ⟨a1, a2, a3, a4, a5⟩ := h.2.2.2.1 q (by omega) hc
      rw [a5, a4]
      exact ⟨st (bf q), inp q, ih (bf q) a1 (by omega), a2, rfl⟩
/-- all pairs before place k are done: what comes in l steps stands there, at no greater level, when all of level < j stand before k -/
theorem BQ_all (h : BQ_o b m n ld st bf inp lv met c k 0) {j : Nat} (hj : ∀ q, q < c → lv q < j → q < k) : ∀ l y, l ≤ j → pt m ld b l y → ∃ q, q < c ∧ st q = y ∧ lv q ≤ l
  | 0, y, _, hp => ⟨0, h.1.1, by rw [h.1.2.1]; exact hp.symm, by rw [h.1.2.2]; exact Nat.le_refl _⟩
  | l + 1, y, hl, hp => by
    obtain ⟨y', i, h1, h2, h3⟩ := hp
    obtain ⟨q', a1, a2, a3⟩ := BQ_all h hj l y' (by omega) h1
    have hk := hj q' a1 (by omega)
    obtain ⟨q, c1, c2, c3⟩ := h.2.2.2.2.2 q' i h2 (Or.inl hk) a1
    refine ⟨q, c1, by rw [c2, a2, h3], ?_⟩
    by_cases e0 : q = 0
    · subst e0; rw [h.1.2.2]; exact Nat.zero_le _
    · have d := h.2.2.2.1 q (by omega) c1
      have hle : bf q ≤ q' := by
        rcases c3 with c3 | c3 | c3
        · exact absurd c3 e0
        · unfold lx at c3; omega
        · omega
      have := BQ_lv h q' (bf q) hle a1
      rw [d.2.2.2.2]
      omega
variable {br : Nat → Nat → Bool} {L : Nat}
theorem BQ_greedy (h : BQ_o b m n ld st bf inp lv met c k 0) (hj : ∀ q, q < c → lv q < L → q < k) (hmin : ∀ d, d < L → ¬ bk m ld br d b) {j a : Nat} (hjL : j < L) (ha : a < c) (hlv : lv a = j) (hfirst : ∀ q, q < a → lv q = j → ¬ bk m ld br (L - j) (st q)) {i : Nat} (hi : i < m) (hb : bk m ld br (L - j - 1) (ld (st a) i)) (hleast : ∀ i', i' < i → ¬ bk m ld br (L - j - 1) (ld (st a) i')) : ∃ q, 0 < q ∧ q < c ∧ bf q = a ∧ inp q = i ∧ lv q = j + 1 ∧ st q = ld (st a) i ∧ ∀ q', q' < q → lv q' = j + 1 → ¬ bk m ld br (L - (j + 1)) (st q') := by
  have eL : L - (j + 1) = L - j - 1 := by omega
  have up : ∀ p z, z < m → bk m ld br (L - j - 1) (ld (st p) z) → bk m ld br (L - j) (st p) := by
    intro p z hz q
    rw [show L - j = (L - j - 1) + 1 by omega]
    exact ⟨z, hz, q⟩
  obtain ⟨q, c1, c2, c3⟩ := h.2.2.2.2.2 a i hi (Or.inl (hj a ha (by omega))) ha
  have hlq : j + 1 ≤ lv q := by
    rcases Nat.lt_or_ge (lv q) (j + 1) with w | w
    · exfalso
      have := pt_bk (br := br) (lv q) (L - j - 1) (st q) (BQ_pt h q c1) (by rw [c2]; exact hb)
      exact hmin _ (by omega) this
    · exact w
  have q0 : 0 < q := by
    rcases Nat.eq_zero_or_pos q with w | w
    · exfalso; subst w; rw [h.1.2.2] at hlq; omega
    · exact w
  have d := h.2.2.2.1 q q0 c1
  have hbq : bf q = a ∧ inp q = i := by
    rcases c3 with c3 | c3 | c3
    · omega
    · exfalso
      have hle : bf q ≤ a := by unfold lx at c3; omega
      have hl2 := BQ_lv h a (bf q) hle ha
      have hl3 : lv (bf q) = j := by omega
      have hbk : bk m ld br (L - j - 1) (ld (st (bf q)) (inp q)) := by rw [← d.2.2.2.1, c2]; exact hb
      rcases c3 with c3 | c3
      · exact hfirst (bf q) c3 hl3 (up _ _ d.2.1 hbk)
      · rw [c3.1] at hbk
        exact hleast _ c3.2 hbk
    · exact c3
  refine ⟨q, q0, c1, hbq.1, hbq.2, by rw [d.2.2.2.2, hbq.1, hlv], c2, fun q' hq' hl' hb' => ?_⟩
  rw [eL] at hb'
  have p0 : 0 < q' := by
    rcases Nat.eq_zero_or_pos q' with w | w
    · exfalso; subst w; rw [h.1.2.2] at hl'; omega
    · exact w
  have d' := h.2.2.2.1 q' p0 (by omega)
  have o := h.2.2.2.2.1 q' q p0 hq' c1
  rw [hbq.1, hbq.2] at o
  rw [d'.2.2.2.1] at hb'
  rcases o with o | o
  · exact hfirst (bf q') o (by omega) (up _ _ d'.2.1 hb')
  · rw [o.1] at hb'
    exact hleast _ o.2 hb'
end
/-- the least i below n with p; n if there is none -/
noncomputable def lst (p : Nat → Prop) : Nat → Nat
  | 0 => 0
  | n + 1 => if lst p n < n then lst p n else @ite _ (p n) (Classical.propDecidable _) n (n + 1)
theorem lst_spec (p : Nat → Prop) : ∀ n, lst p n ≤ n ∧ (∀ i, i < lst p n → ¬ p i) ∧ (lst p n < n → p (lst p n))
  | 0 => ⟨Nat.le_refl 0, fun i h => absurd h (Nat.not_lt_zero i), fun h => absurd h (Nat.lt_irrefl 0)⟩
  | n + 1 => by
    obtain ⟨h1, h2, h3⟩ := lst_spec p n
    unfold lst
    by_cases e : lst p n < n
    · rw [if_pos e]
      exact ⟨by omega, h2, fun _ => h3 e⟩
    · rw [if_neg e]
      have en : lst p n = n := by omega
      by_cases e2 : p n
      · rw [if_pos e2]
        exact ⟨by omega, fun i hi => h2 i (by omega), fun _ => e2⟩
      · rw [if_neg e2]
        refine ⟨by omega, fun i hi => ?_, fun q => absurd q (by omega)⟩
        by_cases e3 : i = n
        · subst e3; exact e2
        · exact h2 i (by omega)
theorem lst_eq {p : Nat → Prop} {n i : Nat} (hi : i < n) (h1 : p i) (h2 : ∀ j, j < i → ¬ p j) : lst p n = i := by
  obtain ⟨a1, a2, a3⟩ := lst_spec p n
  rcases Nat.lt_trichotomy (lst p n) i with w | w | w
  · exact absurd (a3 (by omega)) (h2 _ w)
  · exact w
  · exact absurd h1 (a2 i w)
theorem lst_lt {p : Nat → Prop} {n : Nat} (h : ∃ i, i < n ∧ p i) : lst p n < n ∧ p (lst p n) := by
  obtain ⟨i, hi, hp⟩ := h
  obtain ⟨a1, a2, a3⟩ := lst_spec p n
  have : lst p n < n := by
    rcases Nat.lt_or_ge (lst p n) n with w | w
    · exact w
    · exact absurd hp (a2 i (by omega))
  exact ⟨this, a3 this⟩
/-- the run that breaks behind L steps, the least one by its inputs -/
noncomputable def rX (m : Nat) (ld : Nat → Nat → Nat) (br : Nat → Nat → Bool) (b L : Nat) : Nat → Nat
  | 0 => b
  | j + 1 => ld (rX m ld br b L j) (lst (fun i => bk m ld br (L - j - 1) (ld (rX m ld br b L j) i)) m)
noncomputable def rI (m : Nat) (ld : Nat → Nat → Nat) (br : Nat → Nat → Bool) (b L j : Nat) : Nat := if j < L then lst (fun i => bk m ld br (L - j - 1) (ld (rX m ld br b L j) i)) m else lst (fun i => br (rX m ld br b L j) i = true) m
theorem rX_bk {m : Nat} {ld : Nat → Nat → Nat} {br : Nat → Nat → Bool} {b L : Nat} (h : bk m ld br L b) : ∀ j, j ≤ L → bk m ld br (L - j) (rX m ld br b L j)
  | 0, _ => h
  | j + 1, hj => by
    have ih := rX_bk h j (by omega)
    rw [show L - j = (L - j - 1) + 1 by omega] at ih
    exact (lst_lt ih).2
theorem rX_succ {m : Nat} {ld : Nat → Nat → Nat} {br : Nat → Nat → Bool} {b L j : Nat} (hj : j < L) : rX m ld br b L (j + 1) = ld (rX m ld br b L j) (rI m ld br b L j) := by
  unfold rI
  rw [if_pos hj]
  rfl
section
variable {b m n : Nat} {ld : Nat → Nat → Nat} {st bf inp lv : Nat → Nat} {met : Nat → Bool} {c k : Nat} {br : Nat → Nat → Bool} {L : Nat}
/-- place a has the state of the least run at its step j -/
def GP (m : Nat) (ld : Nat → Nat → Nat) (br : Nat → Nat → Bool) (b L : Nat) (st lv : Nat → Nat) (c j a : Nat) : Prop := a < c ∧ st a = rX m ld br b L j ∧ lv a = j ∧ ∀ q, q < a → lv q = j → ¬ bk m ld br (L - j) (st q)
theorem GP_0 (h : BQ_o b m n ld st bf inp lv met c k 0) : GP m ld br b L st lv c 0 0 := ⟨h.1.1, h.1.2.1, h.1.2.2, fun q hq => absurd hq (Nat.not_lt_zero q)⟩
theorem GP_s (h : BQ_o b m n ld st bf inp lv met c k 0) (hj : ∀ q, q < c → lv q < L → q < k) (hmin : ∀ d, d < L → ¬ bk m ld br d b) (hL : bk m ld br L b) {j a : Nat} (hjL : j < L) (g : GP m ld br b L st lv c j a) : ∃ q, 0 < q ∧ GP m ld br b L st lv c (j + 1) q ∧ bf q = a ∧ inp q = rI m ld br b L j := by
  obtain ⟨g1, g2, g3, g4⟩ := g
  have hb := rX_bk hL j (by omega)
  rw [show L - j = (L - j - 1) + 1 by omega] at hb
  have hl := lst_lt (p := fun i => bk m ld br (L - j - 1) (ld (rX m ld br b L j) i)) hb
  have hs := (lst_spec (fun i => bk m ld br (L - j - 1) (ld (rX m ld br b L j) i)) m).2.1
  have e : rI m ld br b L j = lst (fun i => bk m ld br (L - j - 1) (ld (rX m ld br b L j) i)) m := by unfold rI; rw [if_pos hjL]
  rw [← e] at hl hs
  obtain ⟨q, q0, q1, q2, q3, q4, q5, q6⟩ := BQ_greedy h hj hmin hjL g1 g3 g4 (i := rI m ld br b L j) hl.1 (by rw [g2]; exact hl.2) (fun i' hi' => by rw [g2]; exact hs i' hi')
  exact ⟨q, q0, ⟨q1, by rw [q5, g2, rX_succ hjL], q4, q6⟩, q2, q3⟩
theorem GP_ex (h : BQ_o b m n ld st bf inp lv met c k 0) (hj : ∀ q, q < c → lv q < L → q < k) (hmin : ∀ d, d < L → ¬ bk m ld br d b) (hL : bk m ld br L b) : ∀ j, j ≤ L → ∃ a, GP m ld br b L st lv c j a
  | 0, _ => ⟨0, GP_0 h⟩
  | j + 1, hjL => by
    obtain ⟨a, ha⟩ := GP_ex h hj hmin hL j (by omega)
    obtain ⟨q, _, h2, _⟩ := GP_s h hj hmin hL (by omega) ha
    exact ⟨q, h2⟩
theorem GP_u (h : BQ_o b m n ld st bf inp lv met c k 0) {j a a' : Nat} (g : GP m ld br b L st lv c j a) (g' : GP m ld br b L st lv c j a') : a = a' := h.2.1.2 a a' g.1 g'.1 (g.2.1.trans g'.2.1.symm)
/-- back from step j + 1 to step j -/
theorem GP_back (h : BQ_o b m n ld st bf inp lv met c k 0) (hj : ∀ q, q < c → lv q < L → q < k) (hmin : ∀ d, d < L → ¬ bk m ld br d b) (hL : bk m ld br L b) {j a : Nat} (hjL : j < L) (g : GP m ld br b L st lv c (j + 1) a) : 0 < a ∧ GP m ld br b L st lv c j (bf a) ∧ inp a = rI m ld br b L j := by
  obtain ⟨p, hp⟩ := GP_ex h hj hmin hL j (by omega)
  obtain ⟨q, q0, q1, q2, q3⟩ := GP_s h hj hmin hL hjL hp
  have := GP_u h g q1
  subst this
  exact ⟨q0, by rw [q2]; exact hp, q3⟩
/-- the first place of level L from which a break comes at once -/
theorem GP_last (h : BQ_o b m n ld st bf inp lv met c k 0) (hj : ∀ q, q < c → lv q < L → q < k) (hmin : ∀ d, d < L → ¬ bk m ld br d b) (hL : bk m ld br L b) {a : Nat} (ha : a < c) (h1 : lv a = L) (h2 : bk m ld br 0 (st a)) (h3 : ∀ q, q < a → lv q = L → ¬ bk m ld br 0 (st q)) : GP m ld br b L st lv c L a := by
  obtain ⟨p, hp⟩ := GP_ex h hj hmin hL L (Nat.le_refl _)
  have hb := rX_bk hL L (Nat.le_refl _)
  rw [Nat.sub_self] at hb
  have hp4 := hp.2.2.2
  rw [Nat.sub_self] at hp4
  have : a = p := by
    rcases Nat.lt_trichotomy a p with w | w | w
    · exact absurd h2 (hp4 a w h1)
    · exact w
    · exact absurd (by rw [hp.2.1]; exact hb) (h3 p w hp.2.2.1)
  rw [this]
  exact hp
end
