set_option maxRecDepth 100000
set_option maxHeartbeats 400000
/-! ===== designs: what hangs on what; the twin ===== -/
section
variable {op : Nat} {a b c k A B C : Int} {v : Int64}
theorem nd_0 (h : ndR op a b c k A B C v) (e : op = 0) : k = 60 ∧ ∃ x : Nat, x < 4294967296 ∧ a = sg x ∧ v.toInt = (x : Int) := by
  unfold ndR at h
  rw [if_pos e] at h
  exact h
theorem nd_1 (h : ndR op a b c k A B C v) (e : op = 1) : (b = -1 ∧ k = 61 ∨ 0 ≤ b ∧ k = 62 ∧ B = b) ∧ A = a := by
  unfold ndR at h
  rw [if_neg (by omega), if_pos e] at h
  exact h
theorem nd_2 (h : ndR op a b c k A B C v) (e : op = 2) : k = 63 ∧ A = a ∧ B = b := by
  unfold ndR at h
  rw [if_neg (by omega), if_neg (by omega), if_pos e] at h
  exact h
theorem nd_un (h : ndR op a b c k A B C v) (e1 : 3 ≤ op) (e2 : op ≤ 8) : A = a ∧ (k = 19 ∧ op = 5 ∨ k = 20 ∧ op = 6 ∨ k = 21 ∧ op = 7 ∨ k = 53 ∧ op = 3 ∨ k = 64 ∧ op = 8 ∧ B = c ∨ k = 66 ∧ op = 4) := by
  unfold ndR at h
  rw [if_neg (by omega), if_neg (by omega), if_neg (by omega)] at h
  by_cases e8 : op = 8
  · rw [if_pos e8] at h; omega
  · rw [if_neg e8] at h; omega
theorem nd_bi (h : ndR op a b c k A B C v) (e1 : 9 ≤ op) (e2 : op ≠ 19) : A = a ∧ B = b ∧ (op = 9 ∧ k = 65 ∨ op = 10 ∧ k = 51 ∨ op = 11 ∧ k = 52 ∨ op = 12 ∧ k = 50 ∨ op = 13 ∧ k = 44 ∨ op = 14 ∧ k = 45 ∨ op = 15 ∧ k = 46 ∨ op = 16 ∧ k = 47 ∨ op = 17 ∧ k = 48 ∨ op = 18 ∧ k = 49 ∨ op = 20 ∧ k = 54 ∨ op = 21 ∧ k = 55) := by
  unfold ndR at h
  rw [if_neg (by omega), if_neg (by omega), if_neg (by omega), if_neg (by omega)] at h
  obtain ⟨h1, h2⟩ := h
  rcases h2 with h | h | h | h | h | ⟨hB, h⟩
  · exact absurd h.1 (by omega)
  · exact absurd h.1 (by omega)
  · exact absurd h.1 (by omega)
  · exact absurd h.1 (by omega)
  · exact absurd h.1 (by omega)
  · refine ⟨h1, hB, ?_⟩
    clear h1 hB
    rcases h with h | h | h | h | h | h | h | h | h | h | h | h | h
    · exact Or.inl h
    · exact Or.inr (Or.inl h)
    · exact Or.inr (Or.inr (Or.inl h))
    · exact Or.inr (Or.inr (Or.inr (Or.inl h)))
    · exact Or.inr (Or.inr (Or.inr (Or.inr (Or.inl h))))
    · exact Or.inr (Or.inr (Or.inr (Or.inr (Or.inr (Or.inl h)))))
    · exact Or.inr (Or.inr (Or.inr (Or.inr (Or.inr (Or.inr (Or.inl h))))))
    · exact Or.inr (Or.inr (Or.inr (Or.inr (Or.inr (Or.inr (Or.inr (Or.inl h)))))))
    · exact Or.inr (Or.inr (Or.inr (Or.inr (Or.inr (Or.inr (Or.inr (Or.inr (Or.inl h))))))))
    · exact Or.inr (Or.inr (Or.inr (Or.inr (Or.inr (Or.inr (Or.inr (Or.inr (Or.inr (Or.inl h)))))))))
    · exact absurd h.1 e2
    · exact Or.inr (Or.inr (Or.inr (Or.inr (Or.inr (Or.inr (Or.inr (Or.inr (Or.inr (Or.inr (Or.inl h))))))))))
    · exact Or.inr (Or.inr (Or.inr (Or.inr (Or.inr (Or.inr (Or.inr (Or.inr (Or.inr (Or.inr (Or.inr (h)))))))))))
theorem nd_q (h : ndR op a b c k A B C v) (e : op = 19) : k = 40 ∧ A = a ∧ B = b ∧ C = c := by
  unfold ndR at h
  rw [if_neg (by omega), if_neg (by omega), if_neg (by omega), if_neg (by omega)] at h
  omega
end
/-- lists by rising numbers -/
theorem filt_up {f : Nat → Nat} {k : Nat} : ∀ {L : List Nat}, L.Pairwise (fun a b => f a < f b) → (∀ c, c ∈ L → f c = k → L.filter (fun x => decide (f x < k + 1)) = L.filter (fun x => decide (f x < k)) ++ [c]) ∧ ((∀ c, c ∈ L → f c ≠ k) → L.filter (fun x => decide (f x < k + 1)) = L.filter (fun x => decide (f x < k)))
  | [], _ => ⟨fun c h => (by cases h), fun _ => rfl⟩
  | a :: L, hp => by
    obtain ⟨h1, h2⟩ := List.pairwise_cons.mp hp
    obtain ⟨i1, i2⟩ := filt_up (f := f) (k := k) h2
    have none : ∀ m, m ≤ f a → L.filter (fun x => decide (f x < m)) = [] := fun m hm => List.filter_eq_nil_iff.mpr (fun x hx => by have := h1 x hx; simp; omega)
    have no1 : f a = k → L.filter (fun x => decide (f x < k + 1)) = [] := fun e => List.filter_eq_nil_iff.mpr (fun x hx => by have := h1 x hx; simp; omega)
    refine ⟨fun c hc e => ?_, fun hn => ?_⟩
    · rcases List.mem_cons.mp hc with e' | e'
      · subst e'
        rw [List.filter_cons, List.filter_cons, if_pos (by simp; omega), if_neg (by simp; omega), none k (by omega), no1 e]
        rfl
      · have := h1 c e'
        rw [List.filter_cons, List.filter_cons, if_pos (by simp; omega), if_pos (by simp; omega), i1 c e' e]
        rfl
    · have ha := hn a List.mem_cons_self
      have hL := i2 (fun c hc => hn c (List.mem_cons_of_mem _ hc))
      by_cases q : f a < k
      · rw [List.filter_cons, List.filter_cons, if_pos (by simp; omega), if_pos (by simp; omega), hL]
      · rw [List.filter_cons, List.filter_cons, if_neg (by simp; omega), if_neg (by simp; omega), hL]
section
variable {Ms : Nat → ModV} {top : Nat} {s : LYS} {σ σ' τ τ' : St} {o S : Nat}
/-- g's connections of statements below k -/
noncomputable def conK (Ms : Nat → ModV) (s : LYS) (g k : Nat) : List Nat := (conL Ms s g).filter (fun c => decide (mdSt (moI Ms s (coI Ms s g)) c < k))
theorem DP.conL_pw (hd : DP Ms top s) {g : Nat} (hg : g < lsG s) : (conL Ms s g).Pairwise (fun a b => mdSt (moI Ms s (coI Ms s g)) a < mdSt (moI Ms s (coI Ms s g)) b) := by
  by_cases ct : tiG Ms s g
  · rw [conL_ti ct]; exact List.Pairwise.nil
  · rw [hd.conL_eq hg ct]
    have ok := (hd.inst (hd.co hg ct).1).2
    refine List.Pairwise.filter _ ?_
    have h : ∀ n, n ≤ mdC (moI Ms s (coI Ms s g)) → (List.range n).Pairwise (fun a b => mdSt (moI Ms s (coI Ms s g)) a < mdSt (moI Ms s (coI Ms s g)) b) := by
      intro n
      induction n with
      | zero => intro _; exact List.Pairwise.nil
      | succ n ih =>
        intro hn
        rw [List.range_succ]
        refine List.pairwise_append.mpr ⟨ih (by omega), List.pairwise_singleton _ _, fun a ha b hb => ?_⟩
        have := List.mem_range.mp ha
        rcases List.mem_cons.mp hb with e | e
        · subst e; exact ok.2.2.2.2.2.1.1 a b this (by omega)
        · cases e
    exact h _ (Nat.le_refl _)
theorem DP.conK_all (hd : DP Ms top s) {g : Nat} (hg : g < lsG s) : conK Ms s g (mdQ (moI Ms s (coI Ms s g))) = conL Ms s g := by
  unfold conK
  refine List.filter_eq_self.mpr (fun c hc => decide_eq_true ?_)
  obtain ⟨-, h2, h3, -⟩ := hd.conL_mem hg hc
  exact ((hd.inst h2).2.2.2.2.2.1 c h3).2.2
theorem conK_0 {g : Nat} : conK Ms s g 0 = [] := by
  unfold conK
  exact List.filter_eq_nil_iff.mpr (fun x _ => by simp)
/-- a statement of the twin: a connection of g or none -/
theorem DP.stK (hd : DP Ms top s) (hM : DM τ S Ms top s) {g : Nat} (hg : g < lsG s) (hnt : ¬ tiG Ms s g) {k : Nat} (hk : k < mdQ (moI Ms s (coI Ms s g))) : (∃ c, c ∈ conL Ms s g ∧ mdSt (moI Ms s (coI Ms s g)) c = k ∧ (τ.1 2094 (200 * (12 * S + lsM s (coI Ms s g)) + k) = (coT Ms s g : Int) ∧ τ.1 2095 (200 * (12 * S + lsM s (coI Ms s g)) + k) = coP Ms s g) ∧ conK Ms s g (k + 1) = conK Ms s g k ++ [c]) ∨ (¬ (τ.1 2094 (200 * (12 * S + lsM s (coI Ms s g)) + k) = (coT Ms s g : Int) ∧ τ.1 2095 (200 * (12 * S + lsM s (coI Ms s g)) + k) = coP Ms s g) ∧ conK Ms s g (k + 1) = conK Ms s g k) := by
  obtain ⟨q1, q2, q3, q4⟩ := hd.co hg hnt
  obtain ⟨hm, ok⟩ := hd.inst q1
  obtain ⟨-, -, -, m4, m5⟩ := hM.2 _ hm
  obtain ⟨f1, f2⟩ := filt_up (k := k) (hd.conL_pw hg)
  by_cases h : ∃ c, c ∈ conL Ms s g ∧ mdSt (moI Ms s (coI Ms s g)) c = k
  · obtain ⟨c, h1, h2⟩ := h
    obtain ⟨-, -, h3, h4, -⟩ := hd.conL_mem hg h1
    have h5 := of_decide_eq_true h4
    obtain ⟨n1, n2, -⟩ := m4 c h3
    have n1' : τ.1 2094 (200 * (12 * S + lsM s (coI Ms s g)) + mdSt (moI Ms s (coI Ms s g)) c) = (mdTg (moI Ms s (coI Ms s g)) c : Int) := n1
    have n2' : τ.1 2095 (200 * (12 * S + lsM s (coI Ms s g)) + mdSt (moI Ms s (coI Ms s g)) c) = mdPo (moI Ms s (coI Ms s g)) c := n2
    rw [h2] at n1' n2'
    exact Or.inl ⟨c, h1, h2, ⟨by rw [n1', h5.1], by rw [n2', h5.2]⟩, f1 c h1 h2⟩
  · refine Or.inr ⟨?_, f2 (fun c hc e => h ⟨c, hc, e⟩)⟩
    rintro ⟨z1, z2⟩
    rcases m5 k hk with ⟨c, hc, e⟩ | e
    · obtain ⟨n1, n2, -⟩ := m4 c hc
      have n1' : τ.1 2094 (200 * (12 * S + lsM s (coI Ms s g)) + mdSt (moI Ms s (coI Ms s g)) c) = (mdTg (moI Ms s (coI Ms s g)) c : Int) := n1
      have n2' : τ.1 2095 (200 * (12 * S + lsM s (coI Ms s g)) + mdSt (moI Ms s (coI Ms s g)) c) = mdPo (moI Ms s (coI Ms s g)) c := n2
      have e' : mdSt (moI Ms s (coI Ms s g)) c = k := e
      rw [e'] at n1' n2'
      refine h ⟨c, ?_, e'⟩
      rw [hd.conL_eq hg hnt]
      refine List.mem_filter.mpr ⟨List.mem_range.mpr hc, decide_eq_true ⟨?_, ?_⟩⟩
      · omega
      · rw [← n2', z2]
    · omega
/-- the twin asks of an inst -/
theorem m_store (hd : DP Ms top s) (hM : DM τ S Ms top s) (hS : S < 5) {i : Nat} (hi : i < lsI s) {Q : Int → St → Prop} : wp (F_X15_store (S : Int) (i : Int)) τ Q = Q ((12 * S + lsM s i : Nat) : Int) τ := by
  have h101 := hd.2.1.1.2
  have h12 := hd.1.1
  have hm := (hd.inst hi).1
  have e1 : ∀ _ : Unit, w32 (w32 (101 * (S : Int)) + (i : Int)) = ((101 * S + i : Nat) : Int) := fun _ => by rw [w32_i (x := 101 * (S : Int)) (by omega) (by omega), w32_i (by omega) (by omega)]; omega
  have e2 : ∀ _ : Unit, w32 (w32 (12 * (S : Int)) + (lsM s i : Int)) = ((12 * S + lsM s i : Nat) : Int) := fun _ => by rw [w32_i (x := 12 * (S : Int)) (by omega) (by omega), w32_i (by omega) (by omega)]; omega
  rw [F_X15_store, wp_bd, e1 (), RI_2117 (by omega) (by omega), tn, (hM.1.2.1 i hi).1, wp_rt, e2 ()]
def cF (a i : Nat) : Prop := ¬ (a = 2075 ∧ 81 ≤ i ∧ i ≤ 83)
theorem m_conn (hd : DP Ms top s) (hM : DM τ S Ms top s) (hS : S < 5) {g : Nat} (hg : g < lsG s) (hnt : ¬ tiG Ms s g) {Q : Unit → St → Prop} (hQ : ∀ τ', agr cF τ τ' → τ'.1 2075 81 = (coI Ms s g : Int) → τ'.1 2075 82 = (coT Ms s g : Int) → τ'.1 2075 83 = coP Ms s g → Q () τ') : wp (F_X15_connectionsOf (S : Int) (g : Int)) τ Q := by
  have h200 := hd.2.1.2
  have h101 := hd.2.1.1.2
  obtain ⟨-, mi, -, mg⟩ := hM.1
  obtain ⟨g1, ⟨g2, -⟩, g5, g6⟩ := mg g hg
  have e1 : ∀ _ : Unit, w32 (w32 (200 * (S : Int)) + (g : Int)) = ((200 * S + g : Nat) : Int) := fun _ => by rw [w32_i (x := 200 * (S : Int)) (by omega) (by omega), w32_i (by omega) (by omega)]; omega
  have e2 : ∀ _ : Unit, w32 (w32 (101 * (S : Int)) + (lsi s g : Int)) = ((101 * S + lsi s g : Nat) : Int) := fun _ => by rw [w32_i (x := 101 * (S : Int)) (by omega) (by omega), w32_i (by omega) (by omega)]; omega
  rw [F_X15_connectionsOf, wp_lt, e1 (), wp_bd, RI_2125 (by omega) (by omega), tn, g5, wp_bd, wp_pI, wp_bd, RI_2126 (by omega) (by omega), tn]
  dsimp only
  rw [stA_ne (by decide), g6, wp_bd, wp_pI, wp_bd, wp_pI, wp_bd, RI_2122 (by omega) (by omega), tn]
  dsimp only
  by_cases k0 : kdS Ms s g = 0
  · obtain ⟨q1, q2, q3⟩ := (hd.co hg hnt).2.2.2 k0
    obtain ⟨-, i1, i2, -⟩ := mi (lsi s g) g1
    rw [wp_ifp (by rw [stA_ne (by decide), stA_ne (by decide), stA_ne (by decide), g2]; omega), wp_bd, bgI0 (v := (lsi s g : Int)) (by simp (disch := decide) only [stA_eq, ups_ne, ups_eq]), wp_lt, e2 (), wp_bd, bgI0 (v := (lsth s g : Int)) (by simp (disch := decide) only [stA_eq, ups_ne, ups_eq]), wp_bd, wp_pI, wp_bd, RI_2119 (by omega) (by omega), tn]
    dsimp only
    simp (disch := decide) only [stA_ne]
    rw [i2, q3, wp_bd, wp_pI, wp_bd, RI_2118 (by omega) (by omega), tn]
    dsimp only
    simp (disch := decide) only [stA_ne]
    rw [i1, q2, wp_bd, wp_pI, wp_rt]
    refine hQ _ ?_ ?_ ?_ ?_
    · exact (((((agr.refl.u (by unfold cF; omega) _).u (by unfold cF; omega) _).u (by unfold cF; omega) _).u (by unfold cF; omega) _).u (by unfold cF; omega) _).u (by unfold cF; omega) _
    · simp (disch := decide) only [stA_eq, ups_ne, ups_eq]
    · simp (disch := decide) only [stA_eq, ups_ne, ups_eq]
    · simp (disch := decide) only [stA_eq, ups_ne, ups_eq]
      unfold coP
      rw [if_pos k0]
  · have eI : coI Ms s g = lsi s g := if_neg k0
    have eT : coT Ms s g = lsth s g := if_neg k0
    have eP : coP Ms s g = -1 := if_neg k0
    rw [wp_ifn (by rw [stA_ne (by decide), stA_ne (by decide), stA_ne (by decide), g2]; omega), wp_rt]
    refine hQ _ ?_ ?_ ?_ ?_
    · exact ((agr.refl.u (by unfold cF; omega) _).u (by unfold cF; omega) _).u (by unfold cF; omega) _
    · simp (disch := decide) only [stA_eq, ups_ne, ups_eq]; rw [eI]
    · simp (disch := decide) only [stA_eq, ups_ne, ups_eq]; rw [eT]
    · simp (disch := decide) only [stA_eq, ups_ne, ups_eq]; rw [eP]
/-- node n of inst i reads memory h -/
def rmA (Ms : Nat → ModV) (s : LYS) (i n h : Nat) : Prop := gO (gI' Ms s i) n = 2 ∧ lsL s (40 * i + (gA (gI' Ms s i) n).toNat) = h
def rdT (Ms : Nat → ModV) (s : LYS) (i u h : Nat) : Prop := ∃ n, gF (gI' Ms s i) u ≤ n ∧ n ≤ u ∧ (rdA Ms s i n h ∨ rmA Ms s i n h)
def HM (r : Nat → Int) (H : Nat → Nat → Prop) : Prop := ∀ g h, g < 200 → h < 200 → (H g h → r (200 * g + h) = 1) ∧ (¬ H g h → r (200 * g + h) = 0)
theorem HM.cong {r : Nat → Int} {H H' : Nat → Nat → Prop} (h : HM r H) (e : ∀ g h, g < 200 → h < 200 → (H g h ↔ H' g h)) : HM r H' := fun g k hg hk => ⟨fun q => (h g k hg hk).1 ((e g k hg hk).mpr q), fun q => (h g k hg hk).2 (fun z => q ((e g k hg hk).mp z))⟩
theorem HM.set {r : Nat → Int} {H : Nat → Nat → Prop} (h : HM r H) {g k : Nat} (hg : g < 200) (hk : k < 200) : HM (ups r (200 * g + k) 1) (fun a b => H a b ∨ (a = g ∧ b = k)) := fun a b ha hb => by
  by_cases e : 200 * a + b = 200 * g + k
  · have : a = g ∧ b = k := by omega
    rw [e, ups_eq]
    exact ⟨fun _ => rfl, fun q => absurd (Or.inr this) q⟩
  · rw [ups_ne e]
    refine ⟨fun q => ?_, fun q => (h a b ha hb).2 (fun z => q (Or.inl z))⟩
    rcases q with q | ⟨q1, q2⟩
    · exact (h a b ha hb).1 q
    · subst q1; subst q2; exact absurd rfl e
theorem rdT_in {i u n h : Nat} (hf : gF (gI' Ms s i) u = n) (hn : n = u) : rdT Ms s i u h ↔ (rdA Ms s i u h ∨ rmA Ms s i u h) := by
  constructor
  · rintro ⟨m, h1, h2, h3⟩
    have : m = u := by omega
    subst this; exact h3
  · intro h; exact ⟨u, by omega, Nat.le_refl _, h⟩
/-- what an expression reads is what its parts read -/
theorem rdT_1 {i u h : Nat} (h0 : 0 < u) (hf : gF (gI' Ms s i) u = gF (gI' Ms s i) (u - 1)) (hfu : gF (gI' Ms s i) u ≤ u) : rdT Ms s i u h ↔ (rdT Ms s i (u - 1) h ∨ rdA Ms s i u h ∨ rmA Ms s i u h) := by
  constructor
  · rintro ⟨m, h1, h2, h3⟩
    by_cases e : m = u
    · subst e; exact Or.inr h3
    · exact Or.inl ⟨m, by omega, by omega, h3⟩
  · rintro (⟨m, h1, h2, h3⟩ | h3)
    · exact ⟨m, by omega, by omega, h3⟩
    · exact ⟨u, hfu, Nat.le_refl _, h3⟩
theorem rdT_2 {i u a b h : Nat} (hb : b + 1 = u) (ha : a + 1 = gF (gI' Ms s i) b) (hf : gF (gI' Ms s i) u = gF (gI' Ms s i) a) (hfa : gF (gI' Ms s i) a ≤ a) (hfb : gF (gI' Ms s i) b ≤ b) (hn : ¬ (rdA Ms s i u h ∨ rmA Ms s i u h)) : rdT Ms s i u h ↔ (rdT Ms s i a h ∨ rdT Ms s i b h) := by
  constructor
  · rintro ⟨m, h1, h2, h3⟩
    by_cases e : m = u
    · subst e; exact absurd h3 hn
    · by_cases e2 : m ≤ a
      · exact Or.inl ⟨m, by omega, e2, h3⟩
      · exact Or.inr ⟨m, by omega, by omega, h3⟩
  · rintro (⟨m, h1, h2, h3⟩ | ⟨m, h1, h2, h3⟩)
    · exact ⟨m, by omega, by omega, h3⟩
    · exact ⟨m, by omega, by omega, h3⟩
theorem rdT_3 {i u a b c h : Nat} (hc : c + 1 = u) (hb : b + 1 = gF (gI' Ms s i) c) (ha : a + 1 = gF (gI' Ms s i) b) (hf : gF (gI' Ms s i) u = gF (gI' Ms s i) a) (hfa : gF (gI' Ms s i) a ≤ a) (hfb : gF (gI' Ms s i) b ≤ b) (hfc : gF (gI' Ms s i) c ≤ c) (hn : ¬ (rdA Ms s i u h ∨ rmA Ms s i u h)) : rdT Ms s i u h ↔ (rdT Ms s i a h ∨ rdT Ms s i b h ∨ rdT Ms s i c h) := by
  constructor
  · rintro ⟨m, h1, h2, h3⟩
    by_cases e : m = u
    · subst e; exact absurd h3 hn
    · by_cases e2 : m ≤ a
      · exact Or.inl ⟨m, by omega, e2, h3⟩
      · by_cases e3 : m ≤ b
        · exact Or.inr (Or.inl ⟨m, by omega, e3, h3⟩)
        · exact Or.inr (Or.inr ⟨m, by omega, by omega, h3⟩)
  · rintro (⟨m, h1, h2, h3⟩ | ⟨m, h1, h2, h3⟩ | ⟨m, h1, h2, h3⟩)
    · exact ⟨m, by omega, by omega, h3⟩
    · exact ⟨m, by omega, by omega, h3⟩
    · exact ⟨m, by omega, by omega, h3⟩
def hFM (a : Nat) (_ : Nat) : Prop := a ≠ 2135
theorem dT_hFM {S a i : Nat} (h : dT S a i) : hFM a i := by
  unfold dT at h
  unfold hFM
  omega
theorem readsM (hd : DP Ms top s) (hM : DM τ 4 Ms top s) {g i : Nat} (hg : g < lsG s) (hi : i < lsI s) : ∀ u f τ1 (H : Nat → Nat → Prop), u < mdN (moI Ms s i) → u < f → agr hFM τ τ1 → HM (τ1.1 2135) H → wp (G_X15_reads f (g : Int) (i : Int) (u : Int)) τ1 (fun _ τ' => agr hFM τ τ' ∧ HM (τ'.1 2135) (fun a b => H a b ∨ (a = g ∧ rdT Ms s i u b))) := by
  have h200 := hd.2.1.2
  have h101 := hd.2.1.1.2
  have h12 := hd.1.1
  have h40 := hd.1.2.1 (lsM s i)
  obtain ⟨hm, ok⟩ := hd.inst hi
  have n240 : mdN (moI Ms s i) ≤ 240 := ok.1.2.1
  intro u
  induction u using Nat.strongRecOn with
  | ind u ih =>
    intro f τ1 H hu hf hA hH
    obtain ⟨f', rfl⟩ : ∃ f', f = f' + 1 := ⟨f - 1, by omega⟩
    have hM1 := hM.fr hd (agr.sub hA (fun a i h => dT_hFM h))
    obtain ⟨hnd, -⟩ := (hM1.2 _ hm).2.2.1 u hu
    obtain ⟨⟨w1, w2, w3, wf⟩, w4, w5, w6, w7, w8, w9⟩ := hd.nod hi hu
    have e300 : ∀ _ : Unit, w32 (w32 (300 * ((12 * 4 + lsM s i : Nat) : Int)) + (u : Int)) = ((300 * (12 * 4 + lsM s i) + u : Nat) : Int) := fun _ => by rw [w32_i (x := 300 * ((12 * 4 + lsM s i : Nat) : Int)) (by omega) (by omega), w32_i (by omega) (by omega)]; omega
    have e40 : ∀ _ : Unit, w32 (40 * w32 (w32 (101 * 4) + (i : Int))) = ((40 * (404 + i) : Nat) : Int) := fun _ => by rw [w32_i (x := 101 * 4) (by decide) (by decide), w32_i (x := 101 * 4 + (i : Int)) (by omega) (by omega), w32_i (by omega) (by omega)]; omega
    -- an expression that is a part
    have rec1 : ∀ (v : Nat) τ2 (H2 : Nat → Nat → Prop) (Q : Unit → St → Prop), v < u → agr hFM τ τ2 → HM (τ2.1 2135) H2 → (∀ τ3, agr hFM τ τ3 → HM (τ3.1 2135) (fun a b => H2 a b ∨ (a = g ∧ rdT Ms s i v b)) → Q () τ3) → wp (G_X15_reads f' (g : Int) (i : Int) (v : Int)) τ2 Q := fun v τ2 H2 Q hv hA2 hH2 hQ => wp_mono (ih v hv f' τ2 H2 (by omega) (by omega) hA2 hH2) (fun _ τ3 h => hQ τ3 h.1 h.2)
    have cell : ∀ τ2, agr hFM τ τ2 → τ2.1 2088 = τ1.1 2088 ∧ τ2.1 2089 = τ1.1 2089 ∧ τ2.1 2090 = τ1.1 2090 ∧ τ2.1 2091 = τ1.1 2091 := fun τ2 hA2 => by
      refine ⟨?_, ?_, ?_, ?_⟩ <;> exact (hA2.row (fun i => by unfold hFM; decide)).trans (hA.row (fun i => by unfold hFM; decide)).symm
    show wp (F_X15_reads (G_X15_reads f') (g : Int) (i : Int) (u : Int)) τ1 _
    rw [F_X15_reads, wp_lt, wp_bd, show (4 : Int) = ((4 : Nat) : Int) from rfl, m_store hd hM1 (by decide) hi, show (((4 : Nat) : Int)) = 4 from rfl, wp_lt, e300 (), wp_lt, e40 (), wp_bd, RI_2088 (by omega) (by omega), tn]
    have hrdno : 3 ≤ gO (gI' Ms s i) u → ∀ b, ¬ (rdA Ms s i u b ∨ rmA Ms s i u b) := fun h3 b h => by
      rcases h with h | h
      · have := h.1; omega
      · have := h.1; omega
    by_cases c0 : gO (gI' Ms s i) u = 0
    · obtain ⟨k0, -⟩ := nd_0 hnd c0
      rw [k0]
      rw [wp_ifn (by decide), wp_ifn (by decide), wp_ifn (by decide), wp_ifn (by decide), wp_ifp (by decide), wp_rt]
      refine ⟨hA, hH.cong (fun a b _ _ => ⟨Or.inl, fun h => ?_⟩)⟩
      rcases h with h | ⟨-, h⟩
      · exact h
      · rcases (rdT_in (w4 c0).1 rfl).mp h with h | h
        · have := h.1; omega
        · have := h.1; omega
    · by_cases c1 : gO (gI' Ms s i) u = 1
      · obtain ⟨t, t1, t2, t3, t4, -⟩ := hd.rd hi hu c1
        obtain ⟨kk, kA⟩ := nd_1 hnd c1
        have kA' : τ1.1 2089 (300 * (12 * 4 + lsM s i) + u) = (t : Int) := by rw [kA]; exact t1
        have t2' : t < mdT (Ms (lsM s i)) := t2
        have eP : ∀ _ : Unit, w32 (((40 * (404 + i) : Nat) : Int) + (t : Int)) = ((4040 * 4 + (40 * i + t) : Nat) : Int) := fun _ => by rw [w32_i (by omega) (by omega)]; omega
        have hl := hM1.1.2.2.1 (40 * i + t) ⟨i, t, hi, t2, rfl⟩
        have hR : ∀ b, rdT Ms s i u b ↔ sgOf s i t (gB (gI' Ms s i) u) = b := fun b => by
          rw [rdT_in (w5 c1).1 rfl]
          unfold rdA rmA
          rw [t1, tn]
          exact ⟨fun h => by rcases h with h | h; exact h.2; have := h.1; omega, fun h => Or.inl ⟨c1, h⟩⟩
        have kk' : (gB (gI' Ms s i) u = -1 ∧ τ1.1 2088 (300 * (12 * 4 + lsM s i) + u) = 61) ∨ (0 ≤ gB (gI' Ms s i) u ∧ τ1.1 2088 (300 * (12 * 4 + lsM s i) + u) = 62 ∧ τ1.1 2090 (300 * (12 * 4 + lsM s i) + u) = gB (gI' Ms s i) u) := kk
        have fin : ∀ h : Nat, sgOf s i t (gB (gI' Ms s i) u) = h → h < lsG s → wp (bd (wrB 2135 (w32 (w32 (200 * (g : Int)) + (h : Int))) 1) fun _ => rt ()) τ1 (fun _ τ' => agr hFM τ τ' ∧ HM (τ'.1 2135) (fun a b => H a b ∨ (a = g ∧ rdT Ms s i u b))) := by
          intro h hh hl
          have e2 : ∀ _ : Unit, w32 (w32 (200 * (g : Int)) + (h : Int)) = ((200 * g + h : Nat) : Int) := fun _ => by rw [w32_i (x := 200 * (g : Int)) (by omega) (by omega), w32_i (by omega) (by omega)]; omega
          rw [wp_bd, e2 (), RV_2135 (by omega) (by omega) (by decide) (by decide), tn, wp_rt]
          refine ⟨hA.w (fun k hk => absurd rfl hk), ?_⟩
          dsimp only
          rw [stA_eq]
          exact (hH.set (by omega) (by omega)).cong (fun a b _ _ => by rw [hR b, hh]; exact ⟨fun q => by rcases q with q | ⟨q1, q2⟩; exact Or.inl q; exact Or.inr ⟨q1, q2.symm⟩, fun q => by rcases q with q | ⟨q1, q2⟩; exact Or.inl q; exact Or.inr ⟨q1, q2.symm⟩⟩)
        rcases kk' with ⟨k1, k2⟩ | ⟨k1, k2, k3⟩
        · rw [k2]
          rw [wp_ifn (by decide), wp_ifn (by decide), wp_ifn (by decide), wp_ifn (by decide), wp_ifn (by decide), wp_ifp (by decide), wp_bd, RI_2089 (by omega) (by omega), tn, kA', wp_bd, eP (), RI_2121 (by omega) (by omega), tn, hl]
          rw [k1, sgOf_n] at t4
          exact fin _ (by rw [k1, sgOf_n]) t4
        · rcases t3 with h | ⟨p, p1, p2, p3⟩
          · omega
          · obtain ⟨b1, b2, b3, b4, b5⟩ := hd.part hi t2 p2
            have p3' : p < mdT (Ms (lsM s (lsL s (40 * i + t)))) := by rw [b5]; exact p3
            have h40' := hd.1.2.1 (lsM s (lsL s (40 * i + t)))
            have hl2 := hM1.1.2.2.1 (40 * lsL s (40 * i + t) + p) ⟨_, p, b2, p3', rfl⟩
            have eQ : ∀ _ : Unit, w32 (w32 (40 * w32 (w32 (101 * 4) + (lsL s (40 * i + t) : Int))) + (p : Int)) = ((4040 * 4 + (40 * lsL s (40 * i + t) + p) : Nat) : Int) := fun _ => by rw [w32_i (x := 101 * 4) (by decide) (by decide), w32_i (x := 101 * 4 + (lsL s (40 * i + t) : Int)) (by omega) (by omega), w32_i (x := 40 * (101 * 4 + (lsL s (40 * i + t) : Int))) (by omega) (by omega), w32_i (by omega) (by omega)]; omega
            rw [k2]
            rw [wp_ifn (by decide), wp_ifn (by decide), wp_ifn (by decide), wp_ifn (by decide), wp_ifn (by decide), wp_ifn (by decide), wp_ifp (by decide), wp_bd, RI_2089 (by omega) (by omega), tn, kA', wp_bd, eP (), RI_2121 (by omega) (by omega), tn, hl, wp_bd, RI_2090 (by omega) (by omega), tn, k3, p1, wp_bd, eQ (), RI_2121 (by omega) (by omega), tn, hl2]
            rw [p1, sgOf_p] at t4
            exact fin _ (by rw [p1, sgOf_p]) t4
      · by_cases c2 : gO (gI' Ms s i) u = 2
        · obtain ⟨t, t1, t2, t3, t4, -, -, t5, t6, t7⟩ := hd.rm hi hu c2
          obtain ⟨k0, kA, kB⟩ := nd_2 hnd c2
          have kA' : τ1.1 2089 (300 * (12 * 4 + lsM s i) + u) = (t : Int) := by rw [kA]; exact t1
          have kB' : τ1.1 2090 (300 * (12 * 4 + lsM s i) + u) = ((u - 1 : Nat) : Int) := by rw [kB]; exact t6
          have t2' : t < mdT (Ms (lsM s i)) := t2
          have eP : ∀ _ : Unit, w32 (((40 * (404 + i) : Nat) : Int) + (t : Int)) = ((4040 * 4 + (40 * i + t) : Nat) : Int) := fun _ => by rw [w32_i (by omega) (by omega)]; omega
          have hl := hM1.1.2.2.1 (40 * i + t) ⟨i, t, hi, t2, rfl⟩
          have e2 : ∀ _ : Unit, w32 (w32 (200 * (g : Int)) + (lsL s (40 * i + t) : Int)) = ((200 * g + lsL s (40 * i + t) : Nat) : Int) := fun _ => by rw [w32_i (x := 200 * (g : Int)) (by omega) (by omega), w32_i (by omega) (by omega)]; omega
          rw [k0]
          rw [wp_ifn (by decide), wp_ifn (by decide), wp_ifn (by decide), wp_ifn (by decide), wp_ifn (by decide), wp_ifn (by decide), wp_ifn (by decide), wp_ifp (by decide), wp_bd, RI_2089 (by omega) (by omega), tn, kA', wp_bd, eP (), RI_2121 (by omega) (by omega), tn, hl, wp_bd, e2 (), RV_2135 (by omega) (by omega) (by decide) (by decide), tn, wp_bd, RI_2090 (by omega) (by omega), tn]
          dsimp only
          rw [stA_ne (by decide), kB', wp_bd]
          refine rec1 (u - 1) _ _ _ (by omega) (hA.w (fun k hk => absurd rfl hk)) (by dsimp only; rw [stA_eq]; exact hH.set (by omega) (by omega)) (fun τ3 hA3 hH3 => ?_)
          rw [wp_rt]
          refine ⟨hA3, hH3.cong (fun a b _ _ => ?_)⟩
          rw [rdT_1 t5 t7 wf]
          have hR : ∀ b, (rdA Ms s i u b ∨ rmA Ms s i u b) ↔ lsL s (40 * i + t) = b := fun b => by
            unfold rdA rmA
            rw [t1, tn]
            exact ⟨fun h => by rcases h with h | h; have := h.1; omega; exact h.2, fun h => Or.inr ⟨c2, h⟩⟩
          rw [hR b]
          constructor
          · rintro ((h | ⟨h1, h2⟩) | ⟨h1, h2⟩)
            · exact Or.inl h
            · exact Or.inr ⟨h1, Or.inr h2.symm⟩
            · exact Or.inr ⟨h1, Or.inl h2⟩
          · rintro (h | ⟨h1, h2 | h2⟩)
            · exact Or.inl (Or.inl h)
            · exact Or.inr ⟨h1, h2⟩
            · exact Or.inl (Or.inr ⟨h1, h2.symm⟩)
        · by_cases c8 : gO (gI' Ms s i) u ≤ 8
          · obtain ⟨kA, kk⟩ := nd_un hnd (show 3 ≤ gO (mdG (Ms (lsM s i))) u by have : gO (mdG (Ms (lsM s i))) u = gO (gI' Ms s i) u := rfl; omega) c8
            obtain ⟨q1, q2, q3, -⟩ := w7 (by omega) c8
            have kA' : τ1.1 2089 (300 * (12 * 4 + lsM s i) + u) = ((u - 1 : Nat) : Int) := by rw [kA]; exact q2
            have goal1 : wp (bd (rdI 2089 ((300 * (12 * 4 + lsM s i) + u : Nat) : Int)) fun v6 => bd (G_X15_reads f' (g : Int) (i : Int) v6) fun _ => rt ()) τ1 (fun _ τ' => agr hFM τ τ' ∧ HM (τ'.1 2135) (fun a b => H a b ∨ (a = g ∧ rdT Ms s i u b))) := by
              rw [wp_bd, RI_2089 (by omega) (by omega), tn, kA', wp_bd]
              refine rec1 (u - 1) _ _ _ (by omega) hA hH (fun τ3 hA3 hH3 => ?_)
              rw [wp_rt]
              refine ⟨hA3, hH3.cong (fun a b _ _ => ?_)⟩
              rw [rdT_1 q1 q3 wf]
              have := hrdno (by omega) b
              constructor
              · rintro (h | ⟨h1, h2⟩)
                · exact Or.inl h
                · exact Or.inr ⟨h1, Or.inl h2⟩
              · rintro (h | ⟨h1, h2 | h2⟩)
                · exact Or.inl h
                · exact Or.inr ⟨h1, h2⟩
                · exact absurd h2 this
            have kk' : τ1.1 2088 (300 * (12 * 4 + lsM s i) + u) = 19 ∨ τ1.1 2088 (300 * (12 * 4 + lsM s i) + u) = 20 ∨ τ1.1 2088 (300 * (12 * 4 + lsM s i) + u) = 21 ∨ τ1.1 2088 (300 * (12 * 4 + lsM s i) + u) = 53 ∨ τ1.1 2088 (300 * (12 * 4 + lsM s i) + u) = 64 ∨ τ1.1 2088 (300 * (12 * 4 + lsM s i) + u) = 66 := by
              rcases kk with h | h | h | h | h | h
              · exact Or.inl h.1
              · exact Or.inr (Or.inl h.1)
              · exact Or.inr (Or.inr (Or.inl h.1))
              · exact Or.inr (Or.inr (Or.inr (Or.inl h.1)))
              · exact Or.inr (Or.inr (Or.inr (Or.inr (Or.inl h.1))))
              · exact Or.inr (Or.inr (Or.inr (Or.inr (Or.inr h.1))))
            rcases kk' with e | e | e | e | e | e <;> rw [e]
            · rw [wp_ifp (by decide)]; exact goal1
            · rw [wp_ifn (by decide), wp_ifp (by decide)]; exact goal1
            · rw [wp_ifn (by decide), wp_ifn (by decide), wp_ifp (by decide)]; exact goal1
            · rw [wp_ifn (by decide), wp_ifn (by decide), wp_ifn (by decide), wp_ifp (by decide)]; exact goal1
            · rw [wp_ifn (by decide), wp_ifn (by decide), wp_ifn (by decide), wp_ifn (by decide), wp_ifn (by decide), wp_ifn (by decide), wp_ifn (by decide), wp_ifn (by decide), wp_ifp (by decide)]; exact goal1
            · rw [wp_ifn (by decide), wp_ifn (by decide), wp_ifn (by decide), wp_ifn (by decide), wp_ifn (by decide), wp_ifn (by decide), wp_ifn (by decide), wp_ifn (by decide), wp_ifn (by decide), wp_ifp (by decide)]; exact goal1
          · have no19 : ∀ x : Int, x = τ1.1 2088 (300 * (12 * 4 + lsM s i) + u) → (x = 65 ∨ x = 51 ∨ x = 52 ∨ x = 50 ∨ x = 44 ∨ x = 45 ∨ x = 46 ∨ x = 47 ∨ x = 48 ∨ x = 49 ∨ x = 54 ∨ x = 55 ∨ x = 40) → ∀ {M : St → Option (Unit × St)} {m1 m2 m3 m4 m5 m6 m7 m8 m9 m10 : St → Option (Unit × St)} {Q : Unit → St → Prop}, wp M τ1 Q → wp (if x = 19 then m1 else if x = 20 then m2 else if x = 21 then m3 else if x = 53 then m4 else if x = 60 then m5 else if x = 61 then m6 else if x = 62 then m7 else if x = 63 then m8 else if x = 64 then m9 else if x = 66 then m10 else M) τ1 Q := by
              intro x _ hx M m1 m2 m3 m4 m5 m6 m7 m8 m9 m10 Q h
              rw [wp_ifn (by omega), wp_ifn (by omega), wp_ifn (by omega), wp_ifn (by omega), wp_ifn (by omega), wp_ifn (by omega), wp_ifn (by omega), wp_ifn (by omega), wp_ifn (by omega), wp_ifn (by omega)]
              exact h
            by_cases c19 : gO (gI' Ms s i) u = 19
            · obtain ⟨k0, kA, kB, kC⟩ := nd_q hnd c19
              obtain ⟨a, b, q1, q2, q3, q4, q5, q6, q7, -⟩ := w9 c19
              have kA' : τ1.1 2089 (300 * (12 * 4 + lsM s i) + u) = (a : Int) := by rw [kA]; exact q6
              have kB' : τ1.1 2090 (300 * (12 * 4 + lsM s i) + u) = (b : Int) := by rw [kB]; exact q5
              have kC' : τ1.1 2091 (300 * (12 * 4 + lsM s i) + u) = ((u - 1 : Nat) : Int) := by rw [kC]; exact q2
              have fc := (hd.nod hi (show u - 1 < mdN (moI Ms s i) by omega)).1.2.2.2
              have fb := (hd.nod hi (show b < mdN (moI Ms s i) by omega)).1.2.2.2
              have fa := (hd.nod hi (show a < mdN (moI Ms s i) by omega)).1.2.2.2
              have k0' : τ1.1 2088 (300 * (12 * 4 + lsM s i) + u) = 40 := k0
              refine no19 _ rfl (by omega) ?_
              rw [wp_bd, RI_2089 (by omega) (by omega), tn, kA', wp_bd]
              refine rec1 a _ _ _ (by omega) hA hH (fun τ2 hA2 hH2 => ?_)
              rw [wp_bd, RI_2090 (by omega) (by omega), tn, (cell τ2 hA2).2.2.1, kB', wp_bd]
              refine rec1 b _ _ _ (by omega) hA2 hH2 (fun τ3 hA3 hH3 => ?_)
              rw [wp_bd, RI_2088 (by omega) (by omega), tn, (cell τ3 hA3).1, k0', wp_ifp rfl, wp_bd, RI_2091 (by omega) (by omega), tn, (cell τ3 hA3).2.2.2, kC', wp_bd]
              refine rec1 (u - 1) _ _ _ (by omega) hA3 hH3 (fun τ4 hA4 hH4 => ?_)
              rw [wp_rt]
              refine ⟨hA4, hH4.cong (fun x y _ _ => ?_)⟩
              rw [rdT_3 (c := u - 1) (b := b) (a := a) (by omega) q3 q4 q7 fa fb fc (hrdno (by omega) y)]
              constructor
              · rintro (((h | ⟨h1, h2⟩) | ⟨h1, h2⟩) | ⟨h1, h2⟩)
                · exact Or.inl h
                · exact Or.inr ⟨h1, Or.inl h2⟩
                · exact Or.inr ⟨h1, Or.inr (Or.inl h2)⟩
                · exact Or.inr ⟨h1, Or.inr (Or.inr h2)⟩
              · rintro (h | ⟨h1, h2 | h2 | h2⟩)
                · exact Or.inl (Or.inl (Or.inl h))
                · exact Or.inl (Or.inl (Or.inr ⟨h1, h2⟩))
                · exact Or.inl (Or.inr ⟨h1, h2⟩)
                · exact Or.inr ⟨h1, h2⟩
            · obtain ⟨kA, kB, kk⟩ := nd_bi hnd (show 9 ≤ gO (mdG (Ms (lsM s i))) u by have : gO (mdG (Ms (lsM s i))) u = gO (gI' Ms s i) u := rfl; omega) c19
              obtain ⟨q1, q2, q3, q4, q5, -⟩ := w8 (by omega) c19
              have kA' : τ1.1 2089 (300 * (12 * 4 + lsM s i) + u) = ((gF (gI' Ms s i) (u - 1) - 1 : Nat) : Int) := by rw [kA]; exact q4
              have kB' : τ1.1 2090 (300 * (12 * 4 + lsM s i) + u) = ((u - 1 : Nat) : Int) := by rw [kB]; exact q2
              have fb := (hd.nod hi (show u - 1 < mdN (moI Ms s i) by omega)).1.2.2.2
              have fa := (hd.nod hi (show gF (gI' Ms s i) (u - 1) - 1 < mdN (moI Ms s i) by omega)).1.2.2.2
              have kk2 : ∀ x : Int, x = τ1.1 2088 (300 * (12 * 4 + lsM s i) + u) → (x = 65 ∨ x = 51 ∨ x = 52 ∨ x = 50 ∨ x = 44 ∨ x = 45 ∨ x = 46 ∨ x = 47 ∨ x = 48 ∨ x = 49 ∨ x = 54 ∨ x = 55) := by
                rintro x rfl
                rcases kk with h | h | h | h | h | h | h | h | h | h | h | h
                · exact Or.inl h.2
                · exact Or.inr (Or.inl h.2)
                · exact Or.inr (Or.inr (Or.inl h.2))
                · exact Or.inr (Or.inr (Or.inr (Or.inl h.2)))
                · exact Or.inr (Or.inr (Or.inr (Or.inr (Or.inl h.2))))
                · exact Or.inr (Or.inr (Or.inr (Or.inr (Or.inr (Or.inl h.2)))))
                · exact Or.inr (Or.inr (Or.inr (Or.inr (Or.inr (Or.inr (Or.inl h.2))))))
                · exact Or.inr (Or.inr (Or.inr (Or.inr (Or.inr (Or.inr (Or.inr (Or.inl h.2)))))))
                · exact Or.inr (Or.inr (Or.inr (Or.inr (Or.inr (Or.inr (Or.inr (Or.inr (Or.inl h.2))))))))
                · exact Or.inr (Or.inr (Or.inr (Or.inr (Or.inr (Or.inr (Or.inr (Or.inr (Or.inr (Or.inl h.2)))))))))
                · exact Or.inr (Or.inr (Or.inr (Or.inr (Or.inr (Or.inr (Or.inr (Or.inr (Or.inr (Or.inr (Or.inl h.2))))))))))
                · exact Or.inr (Or.inr (Or.inr (Or.inr (Or.inr (Or.inr (Or.inr (Or.inr (Or.inr (Or.inr (Or.inr h.2))))))))))
              have kk' := kk2 _ rfl
              refine no19 _ rfl (by omega) ?_
              rw [wp_bd, RI_2089 (by omega) (by omega), tn, kA', wp_bd]
              refine rec1 (gF (gI' Ms s i) (u - 1) - 1) _ _ _ (by omega) hA hH (fun τ2 hA2 hH2 => ?_)
              rw [wp_bd, RI_2090 (by omega) (by omega), tn, (cell τ2 hA2).2.2.1, kB', wp_bd]
              refine rec1 (u - 1) _ _ _ (by omega) hA2 hH2 (fun τ3 hA3 hH3 => ?_)
              rw [wp_bd, RI_2088 (by omega) (by omega), tn, (cell τ3 hA3).1, wp_ifn (by omega), wp_rt]
              refine ⟨hA3, hH3.cong (fun x y _ _ => ?_)⟩
              rw [rdT_2 (b := u - 1) (a := gF (gI' Ms s i) (u - 1) - 1) (by omega) (by omega) q5 fa fb (hrdno (by omega) y)]
              constructor
              · rintro ((h | ⟨h1, h2⟩) | ⟨h1, h2⟩)
                · exact Or.inl h
                · exact Or.inr ⟨h1, Or.inl h2⟩
                · exact Or.inr ⟨h1, Or.inr h2⟩
              · rintro (h | ⟨h1, h2 | h2⟩)
                · exact Or.inl (Or.inl h)
                · exact Or.inl (Or.inr ⟨h1, h2⟩)
                · exact Or.inr ⟨h1, h2⟩
end
