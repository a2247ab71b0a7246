set_option maxRecDepth 100000
set_option maxHeartbeats 400000
/-! ===== designs: the connections of a signal ===== -/
/-- the signal of a thing of an inst, or of a port of its part -/
def sgOf (s : LYS) (i t : Nat) (p : Int) : Nat := if 0 ≤ p then lsL s (40 * lsL s (40 * i + t) + p.toNat) else lsL s (40 * i + t)
/-- where a signal's connections are: the inst, its thing there, the port -/
def coI (Ms : Nat → ModV) (s : LYS) (g : Nat) : Nat := if kdS Ms s g = 0 then (lsP s (lsi s g)).toNat else lsi s g
def coT (Ms : Nat → ModV) (s : LYS) (g : Nat) : Nat := if kdS Ms s g = 0 then (lsT s (lsi s g)).toNat else lsth s g
def coP (Ms : Nat → ModV) (s : LYS) (g : Nat) : Int := if kdS Ms s g = 0 then (lsth s g : Int) else -1
/-- the module of an inst -/
def moI (Ms : Nat → ModV) (s : LYS) (i : Nat) : ModV := Ms (lsM s i)
def isC (Ms : Nat → ModV) (s : LYS) (g c : Nat) : Bool := decide (mdTg (moI Ms s (coI Ms s g)) c = coT Ms s g ∧ mdPo (moI Ms s (coI Ms s g)) c = coP Ms s g)
/-- a signal's connections, below a connection of an inst -/
noncomputable def conU (Ms : Nat → ModV) (s : LYS) (g i c : Nat) : List Nat := by
  classical
  exact if tiG Ms s g then [] else if coI Ms s g < i then (List.range (mdC (moI Ms s (coI Ms s g)))).filter (isC Ms s g) else if coI Ms s g = i then (List.range c).filter (isC Ms s g) else []
noncomputable def conL (Ms : Nat → ModV) (s : LYS) (g : Nat) : List Nat := conU Ms s g (lsI s) 0
theorem agr.x {P : Nat → Nat → Prop} {σ τ : St} (h : agr P σ τ) (a : Nat) (ha : ∀ k, ¬ P a k) {g : Nat → Int} : agr P σ (stA τ.1 a g, τ.2) := h.w (fun k hk => absurd hk (ha k))
section
variable {Ms : Nat → ModV} {top : Nat} {s : LYS} {σ σ' τ τ' : St} {o S : Nat}
theorem DP.inst (hd : DP Ms top s) {i : Nat} (hi : i < lsI s) : lsM s i ≤ top ∧ modOK Ms (lsM s i) (moI Ms s i) := ⟨(hd.2.2.1 i hi).1, hd.1.2.2 _ (hd.2.2.1 i hi).1⟩
/-- a thing has its place; a port of a part too -/
theorem DP.thing (hd : DP Ms top s) {i t : Nat} (hi : i < lsI s) (ht : t < mdT (moI Ms s i)) (hk : mdkd (moI Ms s i) t ≠ 5) : lsL s (40 * i + t) < lsG s ∧ lsi s (lsL s (40 * i + t)) = i ∧ lsth s (lsL s (40 * i + t)) = t ∧ kdS Ms s (lsL s (40 * i + t)) = mdkd (moI Ms s i) t := by
  obtain ⟨a1, a2, a3⟩ := ((hd.2.2.1 i hi).2 t ht).2 hk
  refine ⟨a1, a2, a3, ?_⟩
  unfold kdS moI
  rw [a2, a3]
theorem DP.part (hd : DP Ms top s) {i t : Nat} (hi : i < lsI s) (ht : t < mdT (moI Ms s i)) (hk : mdkd (moI Ms s i) t = 5) : i < lsL s (40 * i + t) ∧ lsL s (40 * i + t) < lsI s ∧ lsP s (lsL s (40 * i + t)) = (i : Int) ∧ lsT s (lsL s (40 * i + t)) = (t : Int) ∧ lsM s (lsL s (40 * i + t)) = mdpt (moI Ms s i) t := by
  obtain ⟨a1, a2, a3, a4, a5, -⟩ := ((hd.2.2.1 i hi).2 t ht).1 hk
  exact ⟨a1, a2, a3, a4, a5⟩
theorem sgOf_n {i t : Nat} : sgOf s i t (-1) = lsL s (40 * i + t) := if_neg (by decide)
theorem sgOf_p {i t p : Nat} : sgOf s i t (p : Int) = lsL s (40 * lsL s (40 * i + t) + p) := by
  unfold sgOf
  rw [if_pos (Int.natCast_nonneg p), tn]
/-- the target of a connection -/
theorem DP.con (hd : DP Ms top s) {i c : Nat} (hi : i < lsI s) (hc : c < mdC (moI Ms s i)) : mdTg (moI Ms s i) c < mdT (moI Ms s i) ∧ ((mdPo (moI Ms s i) c = -1 ∧ mdkd (moI Ms s i) (mdTg (moI Ms s i) c) ≠ 5 ∧ mdkd (moI Ms s i) (mdTg (moI Ms s i) c) ≠ 0) ∨ (∃ m : Nat, mdPo (moI Ms s i) c = (m : Int) ∧ mdkd (moI Ms s i) (mdTg (moI Ms s i) c) = 5 ∧ m < mdT (Ms (mdpt (moI Ms s i) (mdTg (moI Ms s i) c))) ∧ mdkd (Ms (mdpt (moI Ms s i) (mdTg (moI Ms s i) c))) m = 0)) ∧ sgOf s i (mdTg (moI Ms s i) c) (mdPo (moI Ms s i) c) < lsG s := by
  obtain ⟨hm, ok⟩ := hd.inst hi
  obtain ⟨t, e1, e2, e3, h⟩ := (ok.2.2.2.2.1 c hc).1
  have et : mdTg (moI Ms s i) c = t := by omega
  rw [et]
  refine ⟨e2, ?_⟩
  rcases h with ⟨q1, -, q2, q3, -⟩ | ⟨a, q1, -, -, q2, -⟩ | ⟨m, q1, -, q2, q3, q4, -⟩
  · refine ⟨Or.inl ⟨q1, by omega, by omega⟩, ?_⟩
    rw [q1, sgOf_n]
    exact (hd.thing hi e2 (by omega)).1
  · refine ⟨Or.inl ⟨q1, by omega, by omega⟩, ?_⟩
    rw [q1, sgOf_n]
    exact (hd.thing hi e2 (by omega)).1
  · refine ⟨Or.inr ⟨m, q1, q2, q3, q4⟩, ?_⟩
    obtain ⟨b1, b2, b3, b4, b5⟩ := hd.part hi e2 q2
    rw [q1, sgOf_p]
    refine (hd.thing (i := lsL s (40 * i + t)) (t := m) b2 ?_ ?_).1
    · unfold moI; rw [b5]; exact q3
    · unfold moI; rw [b5]
      have q4' : mdkd (Ms (mdpt (moI Ms s i) t)) m = 0 := q4
      omega
/-- a signal that isn't an in of the top: where its connections are -/
theorem DP.co (hd : DP Ms top s) {g : Nat} (hg : g < lsG s) (h : ¬ tiG Ms s g) : coI Ms s g < lsI s ∧ coT Ms s g < mdT (moI Ms s (coI Ms s g)) ∧ sgOf s (coI Ms s g) (coT Ms s g) (coP Ms s g) = g ∧ (kdS Ms s g = 0 → 0 < lsi s g ∧ lsP s (lsi s g) = (coI Ms s g : Int) ∧ lsT s (lsi s g) = (coT Ms s g : Int)) := by
  obtain ⟨a1, a2, a3, a4, -, -, -, -, -, a5, -⟩ := hd.sig hg
  by_cases c : kdS Ms s g = 0
  · have h0 : 0 < lsi s g := Nat.pos_of_ne_zero (fun e => h ⟨e, c⟩)
    obtain ⟨x, y, b1, b2, b3, b4, b5, b6, b7, -⟩ := hd.2.2.2.2.1 (lsi s g) h0 a1
    have eI : coI Ms s g = x := by unfold coI; rw [if_pos c, b5, tn]
    have eT : coT Ms s g = y := by unfold coT; rw [if_pos c, b6, tn]
    have eP : coP Ms s g = (lsth s g : Int) := if_pos c
    rw [eI, eT, eP, sgOf_p, b7, a5]
    exact ⟨by omega, b3, rfl, fun _ => ⟨h0, b5, b6⟩⟩
  · have eI : coI Ms s g = lsi s g := if_neg c
    have eT : coT Ms s g = lsth s g := if_neg c
    have eP : coP Ms s g = -1 := if_neg c
    rw [eI, eT, eP, sgOf_n, a5]
    exact ⟨a1, a3, rfl, fun z => absurd z c⟩
/-- a connection's target is g just if it is one of g's -/
theorem DP.tg (hd : DP Ms top s) {i c : Nat} (hi : i < lsI s) (hc : c < mdC (moI Ms s i)) {g : Nat} (hg : g < lsG s) : sgOf s i (mdTg (moI Ms s i) c) (mdPo (moI Ms s i) c) = g ↔ (¬ tiG Ms s g ∧ coI Ms s g = i ∧ isC Ms s g c = true) := by
  obtain ⟨h1, h2, h3⟩ := hd.con hi hc
  constructor
  · intro e
    rcases h2 with ⟨q1, q2, q3⟩ | ⟨m, q1, q2, q3, q4⟩
    · rw [q1, sgOf_n] at e
      obtain ⟨b1, b2, b3, b4⟩ := hd.thing hi h1 q2
      rw [e] at b1 b2 b3 b4
      have k0 : ¬ kdS Ms s g = 0 := by omega
      have eI : coI Ms s g = i := by unfold coI; rw [if_neg k0, b2]
      refine ⟨fun h => k0 h.2, eI, ?_⟩
      unfold isC coT coP
      rw [eI, if_neg k0, if_neg k0, b3, q1]
      exact decide_eq_true ⟨rfl, rfl⟩
    · obtain ⟨b1, b2, b3, b4, b5⟩ := hd.part hi h1 q2
      rw [q1, sgOf_p] at e
      have q4' : mdkd (moI Ms s (lsL s (40 * i + mdTg (moI Ms s i) c))) m = 0 := by
        show mdkd (Ms (lsM s (lsL s (40 * i + mdTg (moI Ms s i) c)))) m = 0
        rw [b5]; exact q4
      obtain ⟨d1, d2, d3, d4⟩ := hd.thing (i := lsL s (40 * i + mdTg (moI Ms s i) c)) (t := m) b2 (by
        show m < mdT (Ms (lsM s (lsL s (40 * i + mdTg (moI Ms s i) c))))
        rw [b5]; exact q3) (by omega)
      rw [e] at d1 d2 d3 d4
      have k0 : kdS Ms s g = 0 := by omega
      have eI : coI Ms s g = i := by unfold coI; rw [if_pos k0, d2, b3, tn]
      refine ⟨fun h => by have := h.1; omega, eI, ?_⟩
      unfold isC coT coP
      rw [eI, if_pos k0, if_pos k0, d2, b4, tn, d3, q1]
      exact decide_eq_true ⟨rfl, rfl⟩
  · rintro ⟨q1, q2, q3⟩
    have q4 := of_decide_eq_true q3
    rw [q2] at q4
    rw [q4.1, q4.2, ← q2]
    exact (hd.co hg q1).2.2.1
theorem conU_at {g i c : Nat} (hnt : ¬ tiG Ms s g) (hi : coI Ms s g = i) : conU Ms s g i c = (List.range c).filter (isC Ms s g) := by
  unfold conU
  rw [if_neg hnt, if_neg (by omega), if_pos hi]
/-- one more connection -/
theorem DP.conU_up (hd : DP Ms top s) {i c : Nat} (hi : i < lsI s) (hc : c < mdC (moI Ms s i)) {g : Nat} (hg : g < lsG s) : conU Ms s g i (c + 1) = if sgOf s i (mdTg (moI Ms s i) c) (mdPo (moI Ms s i) c) = g then conU Ms s g i c ++ [c] else conU Ms s g i c := by
  by_cases e : sgOf s i (mdTg (moI Ms s i) c) (mdPo (moI Ms s i) c) = g
  · obtain ⟨q1, q2, q3⟩ := (hd.tg hi hc hg).mp e
    rw [if_pos e, conU_at q1 q2, conU_at q1 q2, List.range_succ, List.filter_append, List.filter_cons, if_pos q3]
    rfl
  · rw [if_neg e]
    unfold conU
    by_cases t1 : tiG Ms s g
    · rw [if_pos t1, if_pos t1]
    · rw [if_neg t1, if_neg t1]
      by_cases c1 : coI Ms s g < i
      · rw [if_pos c1, if_pos c1]
      · rw [if_neg c1, if_neg c1]
        by_cases c2 : coI Ms s g = i
        · have nb : ¬ isC Ms s g c = true := fun z => e ((hd.tg hi hc hg).mpr ⟨t1, c2, z⟩)
          rw [if_pos c2, if_pos c2, List.range_succ, List.filter_append, List.filter_cons, if_neg nb]
          simp
        · rw [if_neg c2, if_neg c2]
theorem conU_next {g i : Nat} : conU Ms s g i (mdC (moI Ms s i)) = conU Ms s g (i + 1) 0 := by
  unfold conU
  by_cases t1 : tiG Ms s g
  · rw [if_pos t1, if_pos t1]
  · rw [if_neg t1, if_neg t1]
    by_cases c1 : coI Ms s g < i
    · rw [if_pos c1, if_pos (by omega)]
    · rw [if_neg c1]
      by_cases c2 : coI Ms s g = i
      · rw [if_pos c2, if_pos (by omega), c2]
      · rw [if_neg c2, if_neg (by omega)]
        by_cases c3 : coI Ms s g = i + 1
        · rw [if_pos c3]; rfl
        · rw [if_neg c3]
theorem conU_00 {g : Nat} : conU Ms s g 0 0 = [] := by
  unfold conU
  by_cases t1 : tiG Ms s g
  · rw [if_pos t1]
  · rw [if_neg t1, if_neg (Nat.not_lt_zero _)]
    by_cases c2 : coI Ms s g = 0
    · rw [if_pos c2]; rfl
    · rw [if_neg c2]
theorem DP.conL_eq (hd : DP Ms top s) {g : Nat} (hg : g < lsG s) (h : ¬ tiG Ms s g) : conL Ms s g = (List.range (mdC (moI Ms s (coI Ms s g)))).filter (isC Ms s g) := by
  unfold conL conU
  rw [if_neg h, if_pos (hd.co hg h).1]
theorem conL_ti {g : Nat} (h : tiG Ms s g) : conL Ms s g = [] := by
  unfold conL conU
  rw [if_pos h]
theorem DP.conL_mem (hd : DP Ms top s) {g : Nat} (hg : g < lsG s) {c : Nat} (h : c ∈ conL Ms s g) : ¬ tiG Ms s g ∧ coI Ms s g < lsI s ∧ c < mdC (moI Ms s (coI Ms s g)) ∧ isC Ms s g c = true ∧ sgOf s (coI Ms s g) (mdTg (moI Ms s (coI Ms s g)) c) (mdPo (moI Ms s (coI Ms s g)) c) = g := by
  have ht : ¬ tiG Ms s g := fun t => by rw [conL_ti t] at h; cases h
  rw [hd.conL_eq hg ht] at h
  obtain ⟨h1, h2⟩ := List.mem_filter.mp h
  have h3 := List.mem_range.mp h1
  have h4 := (hd.co hg ht).1
  exact ⟨ht, h4, h3, h2, (hd.tg h4 h3 hg).mpr ⟨ht, rfl, h2⟩⟩
/-! chains of links -/
/-- from link l on stand connections L of inst i, all below n -/
def chn (N I X : Nat → Int) (i n : Nat) : Int → List Nat → Prop
  | l, [] => l = -1
  | l, c :: L => ∃ q : Nat, l = (q : Int) ∧ q < n ∧ I q = (i : Int) ∧ N q = (c : Int) ∧ chn N I X i n (X q) L
/-- the same, the links told -/
def chq (N I X : Nat → Int) (i n : Nat) : Int → List (Nat × Nat) → Prop
  | l, [] => l = -1
  | l, p :: L => l = (p.1 : Int) ∧ p.1 < n ∧ I p.1 = (i : Int) ∧ N p.1 = (p.2 : Int) ∧ (∀ r, r ∈ L → p.1 < r.1) ∧ chq N I X i n (X p.1) L
theorem chq_chn {N I X : Nat → Int} {i n : Nat} : ∀ L l, chq N I X i n l L → chn N I X i n l (L.map Prod.snd)
  | [], _, h => h
  | p :: L, _, ⟨h1, h2, h3, h4, _, h6⟩ => ⟨p.1, h1, h2, h3, h4, chq_chn L _ h6⟩
theorem chn_cong {N I X N' I' X' : Nat → Int} {i n : Nat} (e : ∀ q, q < n → N' q = N q ∧ I' q = I q ∧ X' q = X q) : ∀ L l, chn N I X i n l L → chn N' I' X' i n l L
  | [], _, h => h
  | c :: L, _, ⟨q, h1, h2, h3, h4, h5⟩ => ⟨q, h1, h2, by rw [(e q h2).2.1]; exact h3, by rw [(e q h2).1]; exact h4, by rw [(e q h2).2.2]; exact chn_cong e L _ h5⟩
theorem chq_cong {N I X N' I' X' : Nat → Int} {i n n' : Nat} (hn : n ≤ n') : ∀ L l, (∀ p, p ∈ L → N' p.1 = N p.1 ∧ I' p.1 = I p.1 ∧ X' p.1 = X p.1) → chq N I X i n l L → chq N' I' X' i n' l L
  | [], _, _, h => h
  | p :: L, _, e, ⟨h1, h2, h3, h4, h5, h6⟩ => by
    obtain ⟨e1, e2, e3⟩ := e p (List.mem_cons_self)
    exact ⟨h1, by omega, by rw [e2]; exact h3, by rw [e1]; exact h4, h5, by rw [e3]; exact chq_cong hn L _ (fun r hr => e r (List.mem_cons_of_mem _ hr)) h6⟩
theorem chq_lt {N I X : Nat → Int} {i n : Nat} : ∀ L l, chq N I X i n l L → ∀ p, p ∈ L → p.1 < n
  | [], _, _, p, h => by cases h
  | r :: L, _, ⟨_, h2, _, _, _, h6⟩, p, h => by
    rcases List.mem_cons.mp h with e | e
    · subst e; exact h2
    · exact chq_lt L _ h6 p e
theorem chq_at {N I X : Nat → Int} {i n : Nat} : ∀ L l, chq N I X i n l L → ∀ p, p ∈ L → I p.1 = (i : Int) ∧ N p.1 = (p.2 : Int)
  | [], _, _, p, h => by cases h
  | r :: L, _, ⟨_, _, h3, h4, _, h6⟩, p, h => by
    rcases List.mem_cons.mp h with e | e
    · subst e; exact ⟨h3, h4⟩
    · exact chq_at L _ h6 p e
theorem DP.conU_mem (hd : DP Ms top s) {i c : Nat} (hi : i < lsI s) (hc : c ≤ mdC (moI Ms s i)) {g x : Nat} (hg : g < lsG s) (h : x ∈ conU Ms s g i c) : ¬ tiG Ms s g ∧ coI Ms s g < lsI s ∧ x < mdC (moI Ms s (coI Ms s g)) ∧ isC Ms s g x = true := by
  unfold conU at h
  by_cases t1 : tiG Ms s g
  · rw [if_pos t1] at h; cases h
  · rw [if_neg t1] at h
    refine ⟨t1, (hd.co hg t1).1, ?_⟩
    by_cases c1 : coI Ms s g < i
    · rw [if_pos c1] at h
      obtain ⟨h1, h2⟩ := List.mem_filter.mp h
      exact ⟨List.mem_range.mp h1, h2⟩
    · rw [if_neg c1] at h
      by_cases c2 : coI Ms s g = i
      · rw [if_pos c2] at h
        obtain ⟨h1, h2⟩ := List.mem_filter.mp h
        have := List.mem_range.mp h1
        exact ⟨by rw [c2]; omega, h2⟩
      · rw [if_neg c2] at h; cases h
/-- the chain grows at its end -/
theorem chq_app {N I X N' I' X' : Nat → Int} {i n c : Nat} (e1 : ∀ q, q < n → N' q = N q ∧ I' q = I q) (e2 : N' n = (c : Int) ∧ I' n = (i : Int) ∧ X' n = -1) : ∀ L (z : Nat × Nat) l, (∀ q, q < n → q ≠ z.1 → X' q = X q) → X' z.1 = (n : Int) → chq N I X i n l (L ++ [z]) → chq N' I' X' i (n + 1) l (L ++ [z] ++ [(n, c)])
  | [], z, l, ex, ez, ⟨h1, h2, h3, h4, _, h6⟩ => by
    refine ⟨h1, by omega, by rw [(e1 _ h2).2]; exact h3, by rw [(e1 _ h2).1]; exact h4, fun r hr => ?_, ez, by omega, e2.2.1, e2.1, fun r hr => (by cases hr), e2.2.2⟩
    rcases List.mem_cons.mp hr with e | e
    · subst e; exact h2
    · cases e
  | p :: L, z, l, ex, ez, ⟨h1, h2, h3, h4, h5, h6⟩ => by
    have hz : z ∈ L ++ [z] := List.mem_append.mpr (Or.inr (List.mem_cons_self))
    have hp := h5 z hz
    refine ⟨h1, by omega, by rw [(e1 _ h2).2]; exact h3, by rw [(e1 _ h2).1]; exact h4, fun r hr => ?_, ?_⟩
    · rcases List.mem_append.mp hr with e | e
      · exact h5 r e
      · rcases List.mem_cons.mp e with e | e
        · subst e; exact h2
        · cases e
    · rw [ex p.1 h2 (by omega)]
      exact chq_app e1 e2 L z _ ex ez h6
/-- signalOf -/
theorem x_sgOf (hd : DP Ms top s) (hD : isD o) (hX : DX σ o Ms top s) {i t : Nat} {p : Int} (hi : i < lsI s) (ht : t < mdT (moI Ms s i)) (hp : p = -1 ∨ ∃ m : Nat, p = (m : Int) ∧ mdkd (moI Ms s i) t = 5 ∧ m < mdT (Ms (mdpt (moI Ms s i) t))) {Q : Int → St → Prop} : wp (F_X13_signalOf o (i : Int) (t : Int) p) σ Q = Q (sgOf s i t p : Int) σ := by
  have h101 := hd.2.1.1.2
  have h40 := hd.1.2.1 (lsM s i)
  have ht' : t < mdT (Ms (lsM s i)) := ht
  have e1 : ∀ _ : Unit, w32 (w32 (40 * (i : Int)) + (t : Int)) = ((40 * i + t : Nat) : Int) := fun _ => by rw [w32_i (x := 40 * (i : Int)) (by omega) (by omega), w32_i (by omega) (by omega)]; omega
  have x1 := hX.1.2.2.1 (40 * i + t) ⟨i, t, hi, ht, rfl⟩
  rw [F_X13_signalOf, wp_bd, e1 (), DI_6 hD (by omega) (by omega), tn, x1, wp_lt]
  rcases hp with e | ⟨m, e, k5, hm⟩
  · subst e
    rw [wp_ifn (by decide), wp_rt, sgOf_n]
  · subst e
    obtain ⟨b1, b2, b3, b4, b5⟩ := hd.part hi ht k5
    have hm' : m < mdT (Ms (lsM s (lsL s (40 * i + t)))) := by rw [b5]; exact hm
    have h40' := hd.1.2.1 (lsM s (lsL s (40 * i + t)))
    have e2 : ∀ _ : Unit, w32 (w32 (40 * (lsL s (40 * i + t) : Int)) + (m : Int)) = ((40 * lsL s (40 * i + t) + m : Nat) : Int) := fun _ => by rw [w32_i (x := 40 * (lsL s (40 * i + t) : Int)) (by omega) (by omega), w32_i (by omega) (by omega)]; omega
    rw [wp_ifp (by omega), wp_bd, e2 (), DI_6 hD (by omega) (by omega), tn, hX.1.2.2.1 _ ⟨_, m, b2, hm', rfl⟩, wp_rt, sgOf_p]
/-- what links leave alone -/
def kF (o a i : Nat) : Prop := ¬ ((a = o ∧ i = 14) ∨ (o + 9 ≤ a ∧ a ≤ o + 13))
/-- while links are made: n of them; L the links of signals -/
def KLS (Ms : Nat → ModV) (s : LYS) (o i c n : Nat) (σ : St) : Prop := σ.1 o 14 = (n : Int) ∧ ∀ g, g < lsG s → ∃ L, chq (σ.1 (o + 10)) (σ.1 (o + 9)) (σ.1 (o + 11)) (coI Ms s g) n (σ.1 (o + 12) g) L ∧ L.map Prod.snd = conU Ms s g i c ∧ (L = [] → σ.1 (o + 12) g = -1) ∧ ∀ L' z, L = L' ++ [z] → σ.1 (o + 13) g = (z.1 : Int)
/-- the chains of a design -/
def CH (σ : St) (o : Nat) (Ms : Nat → ModV) (s : LYS) : Prop := ∀ g, g < lsG s → chn (σ.1 (o + 10)) (σ.1 (o + 9)) (σ.1 (o + 11)) (coI Ms s g) 6100 (σ.1 (o + 12) g) (conL Ms s g)
theorem chn_mono {N I X : Nat → Int} {i n n' : Nat} (hn : n ≤ n') : ∀ L l, chn N I X i n l L → chn N I X i n' l L
  | [], _, h => h
  | c :: L, _, ⟨q, h1, h2, h3, h4, h5⟩ => ⟨q, h1, by omega, h3, h4, chn_mono hn L _ h5⟩
theorem CH.fr (h : CH σ o Ms s) (e : ∀ a, o + 9 ≤ a → a ≤ o + 12 → σ'.1 a = σ.1 a) : CH σ' o Ms s := by
  intro g hg
  rw [e (o + 9) (by omega) (by omega), e (o + 10) (by omega) (by omega), e (o + 11) (by omega) (by omega), e (o + 12) (by omega) (by omega)]
  exact h g hg
theorem linkX (hd : DP Ms top s) (hD : isD o) (hX : DX σ o Ms top s) : wp (F_X13_link o) σ (fun _ σ' => CH σ' o Ms s ∧ agr (kF o) σ σ') := by
  have hF := FU_ge
  have h200 := hd.2.1.2
  have h101 := hd.2.1.1.2
  have h12 := hd.1.1
  -- the insts
  have key : ∀ k i f n σ1, i + k = lsI s → k < f → n ≤ 60 * i → agr (kF o) σ σ1 → KLS Ms s o i 0 n σ1 → wp (X13_link_30 o f (i : Int)) σ1 (fun _ σ' => CH σ' o Ms s ∧ agr (kF o) σ σ') := by
    intro k
    induction k with
    | zero =>
      intro i f n σ1 hi hf hn hA hK
      obtain ⟨f', rfl⟩ : ∃ f', f = f' + 1 := ⟨f - 1, by omega⟩
      have hX1 := hX.fr hd.1.1 (agr.sub hA (fun a i h => by unfold dP at h; unfold kF; omega))
      rw [X13_link_30, wp_bd, wp_gI, hX1.1.1.1, wp_ifp (by omega), wp_rt]
      refine ⟨fun g hg => ?_, hA⟩
      obtain ⟨L, h1, h2, -⟩ := hK.2 g hg
      have ei : i = lsI s := by omega
      subst ei
      have := chq_chn L _ h1
      rw [h2] at this
      exact chn_mono (by omega) _ _ this
    | succ k ih =>
      intro i f n σ1 hi hf hn hA hK
      obtain ⟨f', rfl⟩ : ∃ f', f = f' + 1 := ⟨f - 1, by omega⟩
      have hX1 := hX.fr hd.1.1 (agr.sub hA (fun a i h => by unfold dP at h; unfold kF; omega))
      have hil : i < lsI s := by omega
      obtain ⟨hm, ok⟩ := hd.inst hil
      have hMd := isMd_D hD (show lsM s i < 12 by omega)
      have c60 : mdC (moI Ms s i) ≤ 60 := ok.1.2.2.1
      rw [X13_link_30, wp_bd, wp_gI, hX1.1.1.1, wp_ifn (by omega), wp_bd, DI_2 hD (by omega) (by omega), tn, (hX1.1.2.1 i hil).1, wp_bd, DI_1 hD (by omega) (by omega), tn, hX1.2.1 _ (by omega), wp_lt]
      have inner : ∀ k2 c g σ2, c + k2 = mdC (moI Ms s i) → k2 < g → agr (kF o) σ σ2 → KLS Ms s o i c (n + c) σ2 → wp (X13_link_52 o (X13_link_30 o f') g (i : Int) (some (o + 27 + 25 * lsM s i)) (c : Int)) σ2 (fun _ σ' => CH σ' o Ms s ∧ agr (kF o) σ σ') := by
        intro k2
        induction k2 with
        | zero =>
          intro c g σ2 hc hg hA2 hK2
          obtain ⟨g', rfl⟩ : ∃ g', g = g' + 1 := ⟨g - 1, by omega⟩
          have hX2 := hX.fr hd.1.1 (agr.sub hA2 (fun a i h => by unfold dP at h; unfold kF; omega))
          have m22 : σ2.1 (o + 27 + 25 * lsM s i) 22 = (mdC (moI Ms s i) : Int) := (hX2.2.2.1 _ hm).1.1.2.2.2.1
          rw [X13_link_52, wp_nn, wp_ck, and_t (ly_Md hMd), wp_bd, wp_gI, m22, wp_ifp (by omega), X13_link_176, wp_lt, w32_i (by omega) (by omega), show (i : Int) + 1 = ((i + 1 : Nat) : Int) by omega]
          refine ih (i + 1) f' (n + c) σ2 (by omega) (by omega) (by omega) hA2 ⟨hK2.1, fun g hg => ?_⟩
          obtain ⟨L, h1, h2, h3⟩ := hK2.2 g hg
          exact ⟨L, h1, by rw [h2, show c = mdC (moI Ms s i) by omega]; exact conU_next, h3⟩
        | succ k2 ih2 =>
          intro c g σ2 hc hg hA2 hK2
          obtain ⟨g', rfl⟩ : ∃ g', g = g' + 1 := ⟨g - 1, by omega⟩
          have hX2 := hX.fr hd.1.1 (agr.sub hA2 (fun a i h => by unfold dP at h; unfold kF; omega))
          have hcl : c < mdC (moI Ms s i) := by omega
          obtain ⟨y1, y2, y3⟩ := hd.con hil hcl
          have m22 : σ2.1 (o + 27 + 25 * lsM s i) 22 = (mdC (moI Ms s i) : Int) := (hX2.2.2.1 _ hm).1.1.2.2.2.1
          obtain ⟨⟨m14, m15, -⟩, -⟩ := (hX2.2.2.1 _ hm).2.2.2 c hcl
          have m14' : σ2.1 (o + 27 + 25 * lsM s i + 14) c = (mdTg (moI Ms s i) c : Int) := m14
          have m15' : σ2.1 (o + 27 + 25 * lsM s i + 15) c = mdPo (moI Ms s i) c := m15
          obtain ⟨k14, kg⟩ := hK2
          rw [X13_link_52, wp_nn, wp_ck, and_t (ly_Md hMd), wp_bd, wp_gI, m22, wp_ifn (by omega), wp_bd, MI_14 hMd (by omega) (by omega), tn, m14', wp_bd, MI_15 hMd (by omega) (by omega), tn, m15', wp_bd, x_sgOf hd hD hX2 hil y1 (by
            rcases y2 with h | ⟨m, h1, h2, h3, -⟩
            · exact Or.inl h.1
            · exact Or.inr ⟨m, h1, h2, h3⟩), wp_lt]
          generalize hT : sgOf s i (mdTg (moI Ms s i) c) (mdPo (moI Ms s i) c) = T at y3
          rw [wp_bd, bgI0 k14, wp_bd, DV_9 hD (by omega) (by omega), tn, wp_bd, bgI0 (v := ((n + c : Nat) : Int)) (by dsimp only; rw [stA_ne (by omega)]; exact k14), wp_bd, DV_10 hD (by omega) (by omega), tn, wp_bd, bgI0 (v := ((n + c : Nat) : Int)) (by dsimp only; rw [stA_ne (by omega), stA_ne (by omega)]; exact k14), wp_bd, DV_11 hD (by omega) (by omega), tn, wp_bd, DI_12 hD (by omega) (by omega), tn]
          dsimp only
          simp (disch := omega) only [stA_ne]
          -- both ways end alike
          obtain ⟨LT, hT1, hT2, hT3, hT4⟩ := kg T y3
          have fin : ∀ (σ3 : St), agr (kF o) σ2 σ3 → σ3.1 o 14 = ((n + c : Nat) : Int) → σ3.1 (o + 9) = ups (σ2.1 (o + 9)) (n + c) (i : Int) → σ3.1 (o + 10) = ups (σ2.1 (o + 10)) (n + c) (c : Int) → (∀ g, g ≠ T → g < lsG s → σ3.1 (o + 12) g = σ2.1 (o + 12) g) → σ3.1 (o + 13) = σ2.1 (o + 13) → ((LT = [] ∧ σ3.1 (o + 12) T = ((n + c : Nat) : Int) ∧ σ3.1 (o + 11) = ups (σ2.1 (o + 11)) (n + c) (-1)) ∨ (∃ L' z, LT = L' ++ [z] ∧ σ3.1 (o + 12) T = σ2.1 (o + 12) T ∧ σ3.1 (o + 11) = ups (ups (σ2.1 (o + 11)) (n + c) (-1)) z.1 ((n + c : Nat) : Int))) → wp (X13_link_149 o (X13_link_30 o f') (X13_link_52 o (X13_link_30 o f') g') (i : Int) (o + 27 + 25 * lsM s i) (c : Int) (T : Int)) σ3 (fun _ σ' => CH σ' o Ms s ∧ agr (kF o) σ σ') := by
            intro σ3 hA3 w14 w9 w10 w12 w13 hcase
            rw [X13_link_149, wp_bd, bgI0 w14, wp_bd, DV_13 hD (by omega) (by omega), tn, wp_bd, bgI0 (v := ((n + c : Nat) : Int)) (by dsimp only; rw [stA_ne (by omega)]; exact w14), wp_bd, wp_pI, wp_lt, w32_i (by omega) (by omega), w32_i (by omega) (by omega), show (c : Int) + 1 = ((c + 1 : Nat) : Int) by omega]
            have hA4 : agr (kF o) σ (stA (stA σ3.1 (o + 13) (ups (σ3.1 (o + 13)) T ((n + c : Nat) : Int))) o (ups (stA σ3.1 (o + 13) (ups (σ3.1 (o + 13)) T ((n + c : Nat) : Int)) o) 14 (((n + c : Nat) : Int) + 1)), σ3.2) := ((hA2.trans hA3).u (by unfold kF; omega) _).u (by unfold kF; omega) _
            refine ih2 (c + 1) g' _ (by omega) (by omega) hA4 ⟨by dsimp only; rw [stA_eq, ups_eq]; omega, fun g hg => ?_⟩
            dsimp only
            rw [stA_ne (by omega), stA_ne (by omega), stA_ne (by omega), stA_ne (by omega), stA_ne (by omega), stA_ne (by omega), stA_ne (by omega), stA_ne (by omega), stA_ne (by omega), stA_eq, w13, hd.conU_up hil hcl hg, hT]
            have cU9 : ∀ q, q < n + c → σ3.1 (o + 10) q = σ2.1 (o + 10) q ∧ σ3.1 (o + 9) q = σ2.1 (o + 9) q := fun q hq => by rw [w9, w10, ups_ne (by omega), ups_ne (by omega)]; exact ⟨rfl, rfl⟩
            by_cases eg : T = g
            · subst eg
              have hco : coI Ms s T = i := ((hd.tg hil hcl y3).mp hT).2.1
              rw [if_pos rfl]
              rcases hcase with ⟨e1, e2, e3⟩ | ⟨L', z, e1, e2, e3⟩
              · refine ⟨[(n + c, c)], ⟨e2, by show n + c < n + (c + 1); omega, ?_, ?_, fun r hr => (by cases hr), ?_⟩, ?_, fun h => (by cases h), fun L' z h => ?_⟩
                · rw [w9, ups_eq, hco]
                · rw [w10, ups_eq]
                · rw [e3, ups_eq]; rfl
                · subst e1
                  rw [← hT2]; rfl
                · have : L' = [] ∧ z = (n + c, c) := by
                    cases L' with
                    | nil => exact ⟨rfl, (List.cons.inj h).1.symm⟩
                    | cons a L'' =>
                      have := congrArg List.length h
                      simp at this
                  rw [this.2, ups_eq]
              · have hz : z.1 < n + c := chq_lt LT _ hT1 z (by rw [e1]; exact List.mem_append.mpr (Or.inr (List.mem_cons_self)))
                rw [e1] at hT1
                refine ⟨L' ++ [z] ++ [(n + c, c)], ?_, ?_, fun h => ?_, fun L2 z2 h => ?_⟩
                · rw [e2]
                  refine chq_app cU9 ⟨by rw [w10, ups_eq], by rw [w9, ups_eq, hco], by rw [e3, ups_ne (by omega), ups_eq]⟩ L' z _ (fun q h1 h2 => ?_) (by rw [e3, ups_eq]) hT1
                  rw [e3, ups_ne h2, ups_ne (by omega)]
                · rw [List.map_append, ← e1, hT2]; rfl
                · have := congrArg List.length h
                  simp at this
                · have := (List.append_inj' h rfl).2
                  have e : z2 = (n + c, c) := (List.cons.inj this).1.symm
                  rw [e, ups_eq]
            · rw [if_neg eg, ups_ne (Ne.symm eg)]
              obtain ⟨L, h1, h2, h3, h4⟩ := kg g hg
              rw [w12 g (Ne.symm eg) hg]
              refine ⟨L, chq_cong (by omega) L _ (fun p hp => ⟨(cU9 p.1 (chq_lt L _ h1 p hp)).1, (cU9 p.1 (chq_lt L _ h1 p hp)).2, ?_⟩) h1, h2, h3, h4⟩
              have hpl := chq_lt L _ h1 p hp
              rcases hcase with ⟨e1, e2, e3⟩ | ⟨L', z, e1, e2, e3⟩
              · rw [e3, ups_ne (by omega)]
              · rw [e3]
                by_cases ez : p.1 = z.1
                · exfalso
                  -- a link has one target
                  exact eg (by
                    have a1 : chq (σ2.1 (o + 10)) (σ2.1 (o + 9)) (σ2.1 (o + 11)) (coI Ms s T) (n + c) (σ2.1 (o + 12) T) LT := hT1
                    have mem1 : z ∈ LT := by rw [e1]; exact List.mem_append.mpr (Or.inr (List.mem_cons_self))
                    obtain ⟨r1, r2⟩ := chq_at LT _ a1 z mem1
                    obtain ⟨r3, r4⟩ := chq_at L _ h1 p hp
                    rw [ez] at r3 r4
                    have i1 : coI Ms s T = coI Ms s g := by omega
                    have i2 : z.2 = p.2 := by omega
                    have m1 : z.2 ∈ conU Ms s T i c := by rw [← hT2]; exact List.mem_map.mpr ⟨z, mem1, rfl⟩
                    have m2 : p.2 ∈ conU Ms s g i c := by rw [← h2]; exact List.mem_map.mpr ⟨p, hp, rfl⟩
                    obtain ⟨u1, u2, u3, u4⟩ := hd.conU_mem hil (by omega) y3 m1
                    obtain ⟨v1, v2, v3, v4⟩ := hd.conU_mem hil (by omega) hg m2
                    have w1 := (hd.tg u2 u3 y3).mpr ⟨u1, rfl, u4⟩
                    have w2 := (hd.tg v2 v3 hg).mpr ⟨v1, rfl, v4⟩
                    rw [← i1, ← i2] at w2
                    exact w1.symm.trans w2)
                · rw [ups_ne ez, ups_ne (by omega)]
          rcases List.eq_nil_or_concat LT with e | ⟨L', z, e⟩
          · have h12 : σ2.1 (o + 12) T = -1 := hT3 e
            rw [h12, wp_ifn (by decide), wp_bd, bgI0 (v := ((n + c : Nat) : Int)) (by dsimp only; rw [stA_ne (by omega), stA_ne (by omega), stA_ne (by omega)]; exact k14), wp_bd, DV_12 hD (by omega) (by omega), tn]
            refine fin _ ?_ ?_ ?_ ?_ (fun g q1 q2 => ?_) ?_ (Or.inl ⟨e, ?_, ?_⟩)
            · exact ((((agr.refl (P := kF o) (σ := σ2)).x (o + 9) (fun k h => by unfold kF at h; omega)).x (o + 10) (fun k h => by unfold kF at h; omega)).x (o + 11) (fun k h => by unfold kF at h; omega)).x (o + 12) (fun k h => by unfold kF at h; omega)
            · simp (disch := omega) only [stA_ne]; exact k14
            · simp (disch := omega) only [stA_ne, stA_eq]
            · simp (disch := omega) only [stA_ne, stA_eq]
            · simp (disch := omega) only [stA_ne, stA_eq]; rw [ups_ne q1]
            · simp (disch := omega) only [stA_ne]
            · simp (disch := omega) only [stA_ne, stA_eq]; rw [ups_eq]
            · simp (disch := omega) only [stA_ne, stA_eq]
          · rw [List.concat_eq_append] at e
            have h13 := hT4 L' z e
            have mz : z ∈ LT := by rw [e]; exact List.mem_append.mpr (Or.inr (List.mem_cons_self))
            have hz : z.1 < n + c := chq_lt LT _ hT1 z mz
            have h12 : 0 ≤ σ2.1 (o + 12) T := by
              cases LT with
              | nil => cases mz
              | cons a LT' => rw [hT1.1]; exact Int.natCast_nonneg _
            rw [wp_ifp h12, wp_bd, DI_13 hD (by omega) (by omega), tn]
            dsimp only
            simp (disch := omega) only [stA_ne]
            rw [h13, wp_bd, bgI0 (v := ((n + c : Nat) : Int)) (by dsimp only; rw [stA_ne (by omega), stA_ne (by omega), stA_ne (by omega)]; exact k14), wp_bd, DV_11 hD (by omega) (by omega), tn]
            refine fin _ ?_ ?_ ?_ ?_ (fun g q1 q2 => ?_) ?_ (Or.inr ⟨L', z, e, ?_, ?_⟩)
            · exact ((((agr.refl (P := kF o) (σ := σ2)).x (o + 9) (fun k h => by unfold kF at h; omega)).x (o + 10) (fun k h => by unfold kF at h; omega)).x (o + 11) (fun k h => by unfold kF at h; omega)).x (o + 11) (fun k h => by unfold kF at h; omega)
            · simp (disch := omega) only [stA_ne]; exact k14
            · simp (disch := omega) only [stA_ne, stA_eq]
            · simp (disch := omega) only [stA_ne, stA_eq]
            · simp (disch := omega) only [stA_ne]
            · simp (disch := omega) only [stA_ne]
            · simp (disch := omega) only [stA_ne]
            · simp (disch := omega) only [stA_ne, stA_eq]
      exact inner (mdC (moI Ms s i)) 0 FU σ1 (by omega) (by omega) hA hK
  -- no links
  have first : ∀ k g f σ1, g + k = lsG s → k < f → agr (kF o) σ σ1 → σ1.1 o 14 = 0 → (∀ x, x < g → σ1.1 (o + 12) x = -1) → wp (X13_link_7 o f (g : Int)) σ1 (fun _ σ' => CH σ' o Ms s ∧ agr (kF o) σ σ') := by
    intro k
    induction k with
    | zero =>
      intro g f σ1 hg hf hA h14 hr
      obtain ⟨f', rfl⟩ : ∃ f', f = f' + 1 := ⟨f - 1, by omega⟩
      have hX1 := hX.fr hd.1.1 (agr.sub hA (fun a i h => by unfold dP at h; unfold kF; omega))
      rw [X13_link_7, wp_bd, wp_gI, hX1.1.1.2, wp_ifp (by omega), X13_link_28, wp_lt]
      refine key (lsI s) 0 FU 0 σ1 (by omega) (by omega) (by omega) hA ⟨h14, fun x hx => ⟨[], hr x (by omega), conU_00.symm, fun _ => hr x (by omega), fun L' z h => ?_⟩⟩
      have := congrArg List.length h
      simp at this
    | succ k ih =>
      intro g f σ1 hg hf hA h14 hr
      obtain ⟨f', rfl⟩ : ∃ f', f = f' + 1 := ⟨f - 1, by omega⟩
      have hX1 := hX.fr hd.1.1 (agr.sub hA (fun a i h => by unfold dP at h; unfold kF; omega))
      rw [X13_link_7, wp_bd, wp_gI, hX1.1.1.2, wp_ifn (by omega), wp_bd, DV_12 hD (by omega) (by omega), tn, wp_lt, w32_i (by omega) (by omega), show (g : Int) + 1 = ((g + 1 : Nat) : Int) by omega]
      refine ih (g + 1) f' _ (by omega) (by omega) (hA.u (by unfold kF; omega) _) (by dsimp only; rw [stA_ne (by omega)]; exact h14) (fun x hx => ?_)
      dsimp only
      rw [stA_eq]
      by_cases e : x = g
      · subst e; rw [ups_eq]
      · rw [ups_ne e]; exact hr x (by omega)
  rw [F_X13_link, wp_bd, wp_pI, wp_lt]
  exact first (lsG s) 0 FU _ (by omega) (by omega) (agr.refl.u (by unfold kF; omega) _) (by dsimp only; rw [stA_eq, ups_eq]) (fun x hx => absurd hx (Nat.not_lt_zero x))
end
