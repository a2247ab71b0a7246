set_option maxRecDepth 100000
set_option maxHeartbeats 400000
/-! ===== cover, pure: cuts of all variables, the one that is chosen ===== -/
theorem dropc {c : List Nat} {a : Nat} (h : a < c.length) : c.drop a = c.getD a 0 :: c.drop (a + 1) := by
  rw [List.drop_eq_getElem_cons h, List.getD_eq_getElem?_getD, List.getElem?_eq_getElem h]
  rfl
theorem getD_mem {α : Type} {c : List α} {a : Nat} {d : α} (h : a < c.length) : c.getD a d ∈ c := by
  rw [List.getD_eq_getElem?_getD, List.getElem?_eq_getElem h]
  exact List.getElem_mem h
theorem getD_ex {α : Type} {c : List α} {x d : α} (h : x ∈ c) : ∃ i, i < c.length ∧ c.getD i d = x := by
  obtain ⟨i, hi, e⟩ := List.getElem_of_mem h
  exact ⟨i, hi, by rw [List.getD_eq_getElem?_getD, List.getElem?_eq_getElem hi]; exact e⟩
theorem getD_l {α : Type} {c d : List α} {i : Nat} {z : α} (h : i < c.length) : (c ++ d).getD i z = c.getD i z := by
  rw [List.getD_eq_getElem?_getD, List.getD_eq_getElem?_getD, List.getElem?_append_left h]
theorem getD_r {α : Type} {c : List α} {x z : α} : (c ++ [x]).getD c.length z = x := by
  rw [List.getD_eq_getElem?_getD, List.getElem?_append_right (Nat.le_refl _), Nat.sub_self]
  rfl
theorem sub_eq {c d : List Nat} (h : c.Sublist d) (hl : d.length ≤ c.length) : c = d := h.eq_of_length_le hl
theorem mrg_len (xs : List Nat) : ∀ ys, (mrg xs ys).length ≤ xs.length + ys.length := by
  induction xs with
  | nil => intro ys; rw [mrg_nil]; simp
  | cons x xs ih =>
    intro ys
    induction ys with
    | nil => rw [mrg_cn]; simp
    | cons y ys ih2 =>
      rw [mrg_cc]
      split
      · have := ih (y :: ys); simp only [List.length_cons] at this ⊢; omega
      · split
        · simp only [List.length_cons] at ih2 ⊢; omega
        · have := ih ys; simp only [List.length_cons]; omega
/-- unions of two rows of cuts -/
def uni (k : Nat) (A B : List (List Nat)) (c : List Nat) : Prop := c.length ≤ k ∧ ∃ x, x ∈ A ∧ ∃ y, y ∈ B ∧ c = mrg x y
def mins (U : List Nat → Prop) (ms : List (List Nat)) : Prop := ms.Nodup ∧ ∀ c, c ∈ ms ↔ mnm U c
theorem uni_iff {k : Nat} {A B A' B' : List (List Nat)} (hA : ∀ c, c ∈ A ↔ c ∈ A') (hB : ∀ c, c ∈ B ↔ c ∈ B') (c : List Nat) : uni k A B c ↔ uni k A' B' c :=
  ⟨fun ⟨h, x, hx, y, hy, e⟩ => ⟨h, x, (hA x).mp hx, y, (hB y).mp hy, e⟩, fun ⟨h, x, hx, y, hy, e⟩ => ⟨h, x, (hA x).mpr hx, y, (hB y).mpr hy, e⟩⟩
theorem mnm_iff {U U' : List Nat → Prop} (h : ∀ c, U c ↔ U' c) (c : List Nat) : mnm U c ↔ mnm U' c :=
  ⟨fun q => ⟨(h c).mp q.1, fun d hd hs => q.2 d ((h d).mpr hd) hs⟩, fun q => ⟨(h c).mpr q.1, fun d hd hs => q.2 d ((h d).mp hd) hs⟩⟩
/-- the deepest member -/
def dpt (dep : Nat → Nat) : List Nat → Nat
  | [] => 0
  | x :: xs => max (dep x) (dpt dep xs)
theorem dpt_0 {dep : Nat → Nat} : dpt dep [] = 0 := rfl
theorem dpt_c {dep : Nat → Nat} {x : Nat} {xs : List Nat} : dpt dep (x :: xs) = max (dep x) (dpt dep xs) := rfl
theorem dpt_congr {d d' : Nat → Nat} : ∀ c, (∀ x, x ∈ c → d x = d' x) → dpt d c = dpt d' c
  | [], _ => rfl
  | x :: xs, h => by
    unfold dpt
    rw [h x (List.mem_cons.mpr (Or.inl rfl)), dpt_congr xs (fun y hy => h y (List.mem_cons.mpr (Or.inr hy)))]
theorem dpt_le {d : Nat → Nat} {b : Nat} : ∀ c, (∀ x, x ∈ c → d x ≤ b) → dpt d c ≤ b
  | [], _ => Nat.zero_le b
  | x :: xs, h => by
    unfold dpt
    have h1 := h x (List.mem_cons.mpr (Or.inl rfl))
    have h2 := dpt_le xs (fun y hy => h y (List.mem_cons.mpr (Or.inr hy)))
    omega
def lexL : List Nat → List Nat → Prop
  | x :: xs, y :: ys => x < y ∨ (x = y ∧ lexL xs ys)
  | _, _ => False
theorem lexL_c {x y : Nat} {xs ys : List Nat} : lexL (x :: xs) (y :: ys) = (x < y ∨ (x = y ∧ lexL xs ys)) := rfl
theorem lexL_irr : ∀ xs, ¬ lexL xs xs
  | [], h => h
  | x :: xs, h => by
    rw [lexL_c] at h
    rcases h with h | h
    · exact Nat.lt_irrefl x h
    · exact lexL_irr xs h.2
theorem lexL_tr : ∀ xs ys zs, lexL xs ys → lexL ys zs → lexL xs zs
  | [], _, _, h, _ => h.elim
  | _ :: _, [], _, h, _ => h.elim
  | _ :: _, _ :: _, [], _, h => h.elim
  | x :: xs, y :: ys, z :: zs, h, h' => by
    rw [lexL_c] at h h' ⊢
    rcases h with h | ⟨h, h2⟩ <;> rcases h' with h' | ⟨h', h2'⟩
    · exact Or.inl (by omega)
    · exact Or.inl (by omega)
    · exact Or.inl (by omega)
    · exact Or.inr ⟨by omega, lexL_tr xs ys zs h2 h2'⟩
theorem lexL_tot : ∀ xs ys : List Nat, xs.length = ys.length → lexL xs ys ∨ xs = ys ∨ lexL ys xs
  | [], [], _ => Or.inr (Or.inl rfl)
  | [], _ :: _, h => by simp at h
  | _ :: _, [], h => by simp at h
  | x :: xs, y :: ys, h => by
    rw [lexL_c, lexL_c]
    rcases Nat.lt_trichotomy x y with q | q | q
    · exact Or.inl (Or.inl q)
    · subst q
      rcases lexL_tot xs ys (by simpa using h) with w | w | w
      · exact Or.inl (Or.inr ⟨rfl, w⟩)
      · subst w; exact Or.inr (Or.inl rfl)
      · exact Or.inr (Or.inr (Or.inr ⟨rfl, w⟩))
    · exact Or.inr (Or.inr (Or.inl q))
def btr (dep : Nat → Nat) (c d : List Nat) : Prop := dpt dep c < dpt dep d ∨ (dpt dep c = dpt dep d ∧ (c.length < d.length ∨ (c.length = d.length ∧ lexL c d)))
theorem btr_irr {dep : Nat → Nat} {c : List Nat} : ¬ btr dep c c := by
  rintro (h | ⟨_, h | ⟨_, h⟩⟩)
  · omega
  · omega
  · exact lexL_irr c h
theorem btr_tr {dep : Nat → Nat} {c d e : List Nat} (h : btr dep c d) (h' : btr dep d e) : btr dep c e := by
  rcases h with h | ⟨h1, h | ⟨h2, h3⟩⟩ <;> rcases h' with h' | ⟨h1', h' | ⟨h2', h3'⟩⟩
  · exact Or.inl (by omega)
  · exact Or.inl (by omega)
  · exact Or.inl (by omega)
  · exact Or.inl (by omega)
  · exact Or.inr ⟨by omega, Or.inl (by omega)⟩
  · exact Or.inr ⟨by omega, Or.inl (by omega)⟩
  · exact Or.inl (by omega)
  · exact Or.inr ⟨by omega, Or.inl (by omega)⟩
  · exact Or.inr ⟨by omega, Or.inr ⟨by omega, lexL_tr _ _ _ h3 h3'⟩⟩
theorem btr_tot {dep : Nat → Nat} (c d : List Nat) : btr dep c d ∨ c = d ∨ btr dep d c := by
  unfold btr
  rcases Nat.lt_trichotomy (dpt dep c) (dpt dep d) with h | h | h
  · exact Or.inl (Or.inl h)
  · rcases Nat.lt_trichotomy c.length d.length with q | q | q
    · exact Or.inl (Or.inr ⟨h, Or.inl q⟩)
    · rcases lexL_tot c d q with w | w | w
      · exact Or.inl (Or.inr ⟨h, Or.inr ⟨q, w⟩⟩)
      · exact Or.inr (Or.inl w)
      · exact Or.inr (Or.inr (Or.inr ⟨h.symm, Or.inr ⟨q.symm, w⟩⟩))
    · exact Or.inr (Or.inr (Or.inr ⟨h.symm, Or.inl q⟩))
  · exact Or.inr (Or.inr (Or.inl h))
def best (dep : Nat → Nat) (ms : List (List Nat)) (c : List Nat) : Prop := c ∈ ms ∧ ∀ d, d ∈ ms → d = c ∨ btr dep c d
theorem best_u {dep : Nat → Nat} {ms ms' : List (List Nat)} {c c' : List Nat} (h : best dep ms c) (h' : best dep ms' c') (e : ∀ x, x ∈ ms ↔ x ∈ ms') : c = c' := by
  rcases h.2 c' ((e c').mpr h'.1) with q | q
  · exact q.symm
  · rcases h'.2 c ((e c).mp h.1) with w | w
    · exact w
    · exact absurd (btr_tr q w) btr_irr
theorem btr_congr {d d' : Nat → Nat} {a b : List Nat} (ha : dpt d a = dpt d' a) (hb : dpt d b = dpt d' b) (h : btr d a b) : btr d' a b := by
  unfold btr at h ⊢
  rw [← ha, ← hb]; exact h
theorem best_congr {d d' : Nat → Nat} {ms : List (List Nat)} {c : List Nat} (h : best d ms c) (e : ∀ a, a ∈ ms → ∀ x, x ∈ a → d x = d' x) : best d' ms c :=
  ⟨h.1, fun a ha => (h.2 a ha).imp id (fun q => btr_congr (dpt_congr c (e c h.1)) (dpt_congr a (e a ha)) q)⟩
/-- one more row: a better one, or not -/
theorem best_1 {dep : Nat → Nat} {c : List Nat} : best dep [c] c := ⟨List.mem_singleton.mpr rfl, fun _ hd => Or.inl (List.mem_singleton.mp hd)⟩
theorem best_y {dep : Nat → Nat} {ms : List (List Nat)} {c d : List Nat} (h : best dep ms c) (hb : btr dep d c) : best dep (ms ++ [d]) d := by
  refine ⟨List.mem_append.mpr (Or.inr (List.mem_singleton.mpr rfl)), fun e he => ?_⟩
  rcases List.mem_append.mp he with q | q
  · rcases h.2 e q with w | w
    · exact Or.inr (w ▸ hb)
    · exact Or.inr (btr_tr hb w)
  · exact Or.inl (List.mem_singleton.mp q)
theorem best_n {dep : Nat → Nat} {ms : List (List Nat)} {c d : List Nat} (h : best dep ms c) (hb : ¬ btr dep d c) : best dep (ms ++ [d]) c := by
  refine ⟨List.mem_append.mpr (Or.inl h.1), fun e he => ?_⟩
  rcases List.mem_append.mp he with q | q
  · exact h.2 e q
  · rw [List.mem_singleton.mp q]
    rcases btr_tot (dep := dep) d c with w | w | w
    · exact absurd w hb
    · exact Or.inl w
    · exact Or.inr w
abbrev lvN (N : NetV) : Nat := v_i N + v_l N
/-- cuts of the leaves and of the first j ANDs -/
def goodC (N : NetV) (k j : Nat) (cs : Nat → List (List Nat)) (ch : Nat → List Nat) (dep : Nat → Nat) : Prop :=
  cs 0 = [[]] ∧ (∀ v, v ≤ lvN N → dep v = 0) ∧ (∀ v, 1 ≤ v → v ≤ lvN N → cs v = [[v]]) ∧ ∀ i, i < j → ∃ ms, mins (uni k (cs (v_lo N i / 2)) (cs (v_hi N i / 2))) ms ∧ ms.length ≤ 39 ∧ cs (lvN N + 1 + i) = ms ++ [[lvN N + 1 + i]] ∧ best dep ms (ch (lvN N + 1 + i)) ∧ dep (lvN N + 1 + i) = dpt dep (ch (lvN N + 1 + i)) + 1
section
variable {N : NetV} {k j : Nat} {cs cs' : Nat → List (List Nat)} {ch ch' : Nat → List Nat} {dep dep' : Nat → Nat}
theorem nxt2 (hw : netW N) {i : Nat} (hi : i < v_a N) : v_lo N i / 2 < lvN N + 1 + i ∧ v_hi N i / 2 < lvN N + 1 + i := by
  have := hw.2.1 i hi
  unfold lvN; omega
theorem good_mem (hw : netW N) (hk : k ≤ 5) (h : goodC N k j cs ch dep) (hj : j ≤ v_a N) : ∀ v, v ≤ lvN N + j → ∀ c, c ∈ cs v → (∀ x, x ∈ c → 1 ≤ x ∧ x ≤ v) ∧ c.length ≤ 5 := by
  obtain ⟨h1, h2, h3, h4⟩ := h
  intro v
  induction v using Nat.strongRecOn with
  | _ v ih =>
    intro hv c hc
    by_cases e0 : v = 0
    · subst e0
      rw [h1] at hc
      rw [List.mem_singleton.mp hc]
      exact ⟨fun x hx => (by cases hx), Nat.zero_le 5⟩
    · by_cases e1 : v ≤ lvN N
      · rw [h3 v (by omega) e1] at hc
        rw [List.mem_singleton.mp hc]
        exact ⟨fun x hx => by rw [List.mem_singleton.mp hx]; omega, by simp⟩
      · obtain ⟨i, rfl⟩ : ∃ i, v = lvN N + 1 + i := ⟨v - (lvN N + 1), by omega⟩
        have hn := nxt2 hw (i := i) (by omega)
        obtain ⟨ms, q1, q2, q3, q4, q5⟩ := h4 i (by omega)
        rw [q3] at hc
        rcases List.mem_append.mp hc with w | w
        · obtain ⟨⟨u1, x, hx, y, hy, rfl⟩, u2⟩ := (q1.2 c).mp w
          refine ⟨fun z hz => ?_, by omega⟩
          rcases mrg_m x y hz with p | p
          · have := (ih _ hn.1 (by omega) x hx).1 z p; omega
          · have := (ih _ hn.2 (by omega) y hy).1 z p; omega
        · rw [List.mem_singleton.mp w]
          exact ⟨fun x hx => by rw [List.mem_singleton.mp hx]; omega, by simp⟩
/-- members of what is no cut alone are below -/
theorem good_low (hw : netW N) (hk : k ≤ 5) (h : goodC N k j cs ch dep) {i : Nat} (hij : i ≤ j) (hj : j ≤ v_a N) (hi : i < v_a N) {c : List Nat} (hc : uni k (cs (v_lo N i / 2)) (cs (v_hi N i / 2)) c) : ∀ x, x ∈ c → 1 ≤ x ∧ x < lvN N + 1 + i := by
  obtain ⟨u1, x, hx, y, hy, rfl⟩ := hc
  have hn := nxt2 hw hi
  intro z hz
  rcases mrg_m x y hz with p | p
  · have := (good_mem hw hk h hj _ (by omega) x hx).1 z p; omega
  · have := (good_mem hw hk h hj _ (by omega) y hy).1 z p; omega
theorem good_own (h : goodC N k j cs ch dep) {v : Nat} (hv : v ≤ lvN N + j) : ∃ c, c ∈ cs v ∧ c.length ≤ 1 := by
  by_cases e0 : v = 0
  · subst e0; rw [h.1]; exact ⟨[], List.mem_singleton.mpr rfl, by simp⟩
  · by_cases e1 : v ≤ lvN N
    · rw [h.2.2.1 v (by omega) e1]; exact ⟨[v], List.mem_singleton.mpr rfl, by simp⟩
    · obtain ⟨i, rfl⟩ : ∃ i, v = lvN N + 1 + i := ⟨v - (lvN N + 1), by omega⟩
      obtain ⟨ms, q1, q2, q3, q4, q5⟩ := h.2.2.2 i (by omega)
      rw [q3]; exact ⟨[lvN N + 1 + i], List.mem_append.mpr (Or.inr (List.mem_singleton.mpr rfl)), by simp⟩
theorem uni_ex (hw : netW N) (hk : 2 ≤ k) (h : goodC N k j cs ch dep) {i : Nat} (hij : i ≤ j) (hi : i < v_a N) : ∃ c, mnm (uni k (cs (v_lo N i / 2)) (cs (v_hi N i / 2))) c := by
  have hn := nxt2 hw hi
  obtain ⟨x, hx, hx1⟩ := good_own h (v := v_lo N i / 2) (by omega)
  obtain ⟨y, hy, hy1⟩ := good_own h (v := v_hi N i / 2) (by omega)
  have hl := mrg_len x y
  obtain ⟨d, hd, _⟩ := mnm_ex (U := uni k (cs (v_lo N i / 2)) (cs (v_hi N i / 2))) 2 (mrg x y) (by omega) ⟨by omega, x, hx, y, hy, rfl⟩
  exact ⟨d, hd⟩
theorem good_u (hw : netW N) (hk : k ≤ 5) {j' : Nat} (h : goodC N k j cs ch dep) (h' : goodC N k j' cs' ch' dep') (hj : j ≤ v_a N) (hj' : j' ≤ v_a N) : ∀ v, v ≤ lvN N + j → v ≤ lvN N + j' → (∀ c, c ∈ cs v ↔ c ∈ cs' v) ∧ dep v = dep' v ∧ (lvN N < v → ch v = ch' v) := by
  intro v
  induction v using Nat.strongRecOn with
  | _ v ih =>
    intro hv hv'
    by_cases e0 : v = 0
    · subst e0
      rw [h.1, h'.1, h.2.1 0 (by omega), h'.2.1 0 (by omega)]
      exact ⟨fun _ => Iff.rfl, rfl, fun q => absurd q (Nat.not_lt_zero _)⟩
    · by_cases e1 : v ≤ lvN N
      · rw [h.2.2.1 v (by omega) e1, h'.2.2.1 v (by omega) e1, h.2.1 v e1, h'.2.1 v e1]
        exact ⟨fun _ => Iff.rfl, rfl, fun q => absurd q (by omega)⟩
      · obtain ⟨i, rfl⟩ : ∃ i, v = lvN N + 1 + i := ⟨v - (lvN N + 1), by omega⟩
        have hn := nxt2 hw (i := i) (by omega)
        obtain ⟨ms, q1, q2, q3, q4, q5⟩ := h.2.2.2 i (by omega)
        obtain ⟨ms', q1', q2', q3', q4', q5'⟩ := h'.2.2.2 i (by omega)
        have hm : ∀ c, c ∈ ms ↔ c ∈ ms' := fun c => by
          rw [q1.2, q1'.2]
          exact mnm_iff (uni_iff (ih _ hn.1 (by omega) (by omega)).1 (ih _ hn.2 (by omega) (by omega)).1) c
        have hd : ∀ a, a ∈ ms → ∀ x, x ∈ a → dep x = dep' x := fun a ha x hx => by
          have := good_low hw hk h (i := i) (by omega) hj (by omega) ((q1.2 a).mp ha).1 x hx
          exact (ih x (by omega) (by omega) (by omega)).2.1
        have hb := best_u (best_congr q4 hd) q4' hm
        refine ⟨fun c => ?_, ?_, fun _ => hb⟩
        · rw [q3, q3', List.mem_append, List.mem_append, hm c]
        · rw [q5, q5', ← hb, dpt_congr _ (hd _ q4.1)]
/-- too many -/
def failC (N : NetV) (k : Nat) : Prop := ∃ j cs ch dep, j < v_a N ∧ goodC N k j cs ch dep ∧ ∃ l : List (List Nat), l.Nodup ∧ 40 ≤ l.length ∧ ∀ c, c ∈ l → mnm (uni k (cs (v_lo N j / 2)) (cs (v_hi N j / 2))) c
theorem fail_no (hw : netW N) (hk : k ≤ 5) (h : goodC N k (v_a N) cs ch dep) (hf : failC N k) : False := by
  obtain ⟨j, cs', ch', dep', hj, h', l, l1, l2, l3⟩ := hf
  have hn := nxt2 hw hj
  obtain ⟨ms, q1, q2, q3, q4, q5⟩ := h.2.2.2 j hj
  have hu := good_u hw hk h h' (Nat.le_refl _) (by omega)
  have := nd_le l ms l1 (fun c hc => (q1.2 c).mpr ((mnm_iff (uni_iff (hu _ (by omega) (by omega)).1 (hu _ (by omega) (by omega)).1) c).mpr (l3 c hc)))
  omega
/-- one more AND -/
theorem good_up (hw : netW N) (hk : k ≤ 5) (hj : j < v_a N) (h : goodC N k j cs ch dep) {ms : List (List Nat)} {c : List Nat} (h1 : mins (uni k (cs (v_lo N j / 2)) (cs (v_hi N j / 2))) ms) (h2 : ms.length ≤ 39) (h3 : best dep ms c) : goodC N k (j + 1) (ups cs (lvN N + 1 + j) (ms ++ [[lvN N + 1 + j]])) (ups ch (lvN N + 1 + j) c) (ups dep (lvN N + 1 + j) (dpt dep c + 1)) := by
  refine ⟨by rw [ups_ne (by omega)]; exact h.1, fun v hv => by rw [ups_ne (by omega)]; exact h.2.1 v hv, fun v hv hv2 => by rw [ups_ne (by omega)]; exact h.2.2.1 v hv hv2, fun i hi => ?_⟩
  by_cases e : i = j
  · subst e
    have hn := nxt2 hw hj
    have hx : ∀ a, a ∈ ms → ∀ x, x ∈ a → dep x = ups dep (lvN N + 1 + i) (dpt dep c + 1) x := fun a ha x hx => by
      have := good_low hw hk h (i := i) (Nat.le_refl _) (by omega) hj ((h1.2 a).mp ha).1 x hx
      rw [ups_ne (by omega)]
    refine ⟨ms, ?_, h2, by rw [ups_eq], ?_, ?_⟩
    · rw [ups_ne (by omega), ups_ne (by omega)]; exact h1
    · rw [ups_eq]; exact best_congr h3 hx
    · rw [ups_eq, ups_eq]; exact congrArg (· + 1) (dpt_congr c (hx c h3.1))
  · obtain ⟨ms', q1, q2, q3, q4, q5⟩ := h.2.2.2 i (by omega)
    have hn := nxt2 hw (i := i) (by omega)
    have hx : ∀ a, a ∈ ms' → ∀ x, x ∈ a → dep x = ups dep (lvN N + 1 + j) (dpt dep c + 1) x := fun a ha x hx => by
      have := good_low hw hk h (i := i) (by omega) (by omega) (by omega) ((q1.2 a).mp ha).1 x hx
      rw [ups_ne (by omega)]
    refine ⟨ms', ?_, q2, by rw [ups_ne (by omega)]; exact q3, ?_, ?_⟩
    · rw [ups_ne (by omega), ups_ne (by omega)]; exact q1
    · rw [ups_ne (by omega)]; exact best_congr q4 hx
    · rw [ups_ne (by omega), ups_ne (by omega), q5, dpt_congr _ (hx _ q4.1)]
theorem dep_le (hw : netW N) (hk : k ≤ 5) (h : goodC N k j cs ch dep) (hj : j ≤ v_a N) : ∀ v, v ≤ lvN N + j → dep v ≤ v := by
  intro v
  induction v using Nat.strongRecOn with
  | _ v ih =>
    intro hv
    by_cases e1 : v ≤ lvN N
    · rw [h.2.1 v e1]; exact Nat.zero_le v
    · obtain ⟨i, rfl⟩ : ∃ i, v = lvN N + 1 + i := ⟨v - (lvN N + 1), by omega⟩
      obtain ⟨ms, q1, q2, q3, q4, q5⟩ := h.2.2.2 i (by omega)
      have hl := good_low hw hk h (i := i) (by omega) hj (by omega) ((q1.2 _).mp q4.1).1
      have : dpt dep (ch (lvN N + 1 + i)) ≤ lvN N + i := dpt_le _ (fun x hx => by
        have := hl x hx
        have := ih x (by omega) (by omega)
        omega)
      omega
end
/-- rows in the machine: a length, members -/
def cutAt (sz mb : Nat → Int) (p : Nat) (c : List Nat) : Prop := sz p = (c.length : Int) ∧ ∀ j, j < c.length → mb (5 * p + j) = (c.getD j 0 : Int)
theorem within_0 {p : List Nat} : (List.Sublist [] p) ↔ True := ⟨fun _ => trivial, fun _ => List.nil_sublist p⟩
theorem within_c {x : Nat} {c p : List Nat} : (x :: c).Sublist (x :: p) ↔ c.Sublist p := List.cons_sublist_cons
theorem within_n {x y : Nat} {c p : List Nat} (h : y ≠ x) : (x :: c).Sublist (y :: p) ↔ (x :: c).Sublist p := by
  constructor
  · intro q
    cases q with
    | cons _ w => exact w
    | cons_cons _ w => exact absurd rfl h
  · exact fun q => List.Sublist.cons y q
