set_option maxRecDepth 100000
set_option maxHeartbeats 400000
/-! ===== read: names ===== -/
theorem isMd_k {k : Nat} (hk : k < 12) : isMd (110 + 25 * k) := by
  have h : ∀ k : Fin 12, ∀ i : Fin 25, lay (110 + 25 * (k : Nat) + (i : Nat)) = lay (110 + (i : Nat)) := by decide +kernel
  intro i hi
  exact h ⟨k, hk⟩ ⟨i, hi⟩
/-- the draft or a module -/
def isO (o : Nat) : Prop := o = 5 ∨ isMd o
section
variable {o : Nat} {σ : St} {i : Int}
theorem O2 (h : isO o) (h1 : 0 ≤ i) (h2 : i < 400) {Q : Int → St → Prop} : wp (rdB (o + 2) i) σ Q = Q (σ.1 (o + 2) i.toNat) σ := by
  rcases h with rfl | h
  · exact RI_7 h1 h2
  · exact MI_2 h h1 h2
theorem O3 (h : isO o) (h1 : 0 ≤ i) (h2 : i < 40) {Q : Int → St → Prop} : wp (rdI (o + 3) i) σ Q = Q (σ.1 (o + 3) i.toNat) σ := by
  rcases h with rfl | h
  · exact RI_8 h1 h2
  · exact MI_3 h h1 h2
theorem O4 (h : isO o) (h1 : 0 ≤ i) (h2 : i < 40) {Q : Int → St → Prop} : wp (rdI (o + 4) i) σ Q = Q (σ.1 (o + 4) i.toNat) σ := by
  rcases h with rfl | h
  · exact RI_9 h1 h2
  · exact MI_4 h h1 h2
theorem O5 (h : isO o) (h1 : 0 ≤ i) (h2 : i < 40) {Q : Int → St → Prop} : wp (rdI (o + 5) i) σ Q = Q (σ.1 (o + 5) i.toNat) σ := by
  rcases h with rfl | h
  · exact RI_10 h1 h2
  · exact MI_5 h h1 h2
end
/-- a sign of a name -/
def pnz (x : Int) : Prop := 1 ≤ x ∧ x ≤ 127
theorem pnz.ne {x : Int} (h : pnz x) : x ≠ 0 := fun e => by have := h.1; omega
/-- the things of a module of the component and of a store of the twin: names, kinds, widths -/
def thR (σ : St) (o : Nat) (τ : St) (S t : Nat) : Prop := (σ.1 o 7 = (t : Int) ∧ τ.1 2077 S = (t : Int) ∧ t ≤ 40) ∧ ∀ i, i < t → (∃ L : Nat, 1 ≤ L ∧ L ≤ 10 ∧ σ.1 (o + 3) i = (L : Int) ∧ ∀ j, j < 10 → τ.1 2087 (10 * (40 * S + i) + j) = (if j < L then σ.1 (o + 2) (10 * i + j) else 0) ∧ (j < L → pnz (σ.1 (o + 2) (10 * i + j)))) ∧ (σ.1 (o + 4) i = τ.1 2082 (40 * S + i) ∧ 0 ≤ σ.1 (o + 4) i ∧ σ.1 (o + 4) i ≤ 5) ∧ (σ.1 (o + 4) i ≠ 5 → σ.1 (o + 5) i = τ.1 2083 (40 * S + i) ∧ 1 ≤ σ.1 (o + 5) i ∧ σ.1 (o + 5) i ≤ 32)
/-- thing i has the name that stands at q -/
def nmE (T : Nat → Int) (q L : Nat) (σ : St) (o i : Nat) : Prop := σ.1 (o + 3) i = (L : Int) ∧ ∀ j, j < L → σ.1 (o + 2) (10 * i + j) = T (q + j)
/-- the first thing with a name; -1 without -/
def fnd (E : Nat → Prop) (t : Nat) (r : Int) : Prop := (r = -1 ∧ ∀ i, i < t → ¬ E i) ∨ ∃ i, i < t ∧ r = (i : Int) ∧ E i ∧ ∀ i', i' < i → ¬ E i'
theorem fnd_u {E : Nat → Prop} {t : Nat} {r r' : Int} (h : fnd E t r) (h' : fnd E t r') : r = r' := by
  rcases h with ⟨h1, h2⟩ | ⟨i, h1, h2, h3, h4⟩ <;> rcases h' with ⟨k1, k2⟩ | ⟨j, k1, k2, k3, k4⟩
  · rw [h1, k1]
  · exact absurd k3 (h2 j k1)
  · exact absurd h3 (k2 i h1)
  · rcases Nat.lt_trichotomy i j with w | w | w
    · exact absurd h3 (k4 i w)
    · rw [h2, k2, w]
    · exact absurd k3 (h4 j w)
theorem fnd_ex (E : Nat → Prop) : ∀ t, ∃ r, fnd E t r
  | 0 => ⟨-1, Or.inl ⟨rfl, fun i hi => absurd hi (Nat.not_lt_zero i)⟩⟩
  | t + 1 => by
    obtain ⟨r, h⟩ := fnd_ex E t
    rcases h with ⟨h1, h2⟩ | ⟨i, h1, h2, h3, h4⟩
    · by_cases c : E t
      · exact ⟨(t : Int), Or.inr ⟨t, Nat.lt_succ_self t, rfl, c, h2⟩⟩
      · refine ⟨-1, Or.inl ⟨rfl, fun i hi => ?_⟩⟩
        by_cases e : i = t
        · subst e; exact c
        · exact h2 i (by omega)
    · exact ⟨r, Or.inr ⟨i, by omega, h2, h3, h4⟩⟩
theorem fnd_congr {E E' : Nat → Prop} {t : Nat} {r : Int} (e : ∀ i, i < t → (E i ↔ E' i)) (h : fnd E t r) : fnd E' t r := by
  rcases h with ⟨h1, h2⟩ | ⟨i, h1, h2, h3, h4⟩
  · exact Or.inl ⟨h1, fun i hi w => h2 i hi ((e i hi).mpr w)⟩
  · exact Or.inr ⟨i, h1, h2, (e i h1).mp h3, fun i' hi' w => h4 i' hi' ((e i' (by omega)).mpr w)⟩
/-- a name at q -/
theorem nm_tok {T : Nat → Int} {n q : Nat} (hq : q ≤ n) (h : tkK T n q = 1) : 1 ≤ tkL T n q ∧ tkL T n q ≤ 10 ∧ q + tkL T n q ≤ n ∧ ∀ j, j < tkL T n q → pnz (T (q + j)) := by
  have hl := tkL_r hq (by rw [h]; decide) (by rw [h]; decide)
  have cn : ¬ q = n := fun e => by unfold tkK at h; rw [if_pos e] at h; cases h
  unfold tkK at h
  rw [if_neg cn] at h
  by_cases c1 : isLt (T q) = true
  · rw [if_pos c1] at h
    have eL : tkL T n q = rn (fun k => isNp (T k)) n q := by unfold tkL; rw [if_neg cn, if_pos c1]
    by_cases c2 : 10 < tkL T n q
    · rw [if_pos c2] at h; cases h
    · refine ⟨hl.1, by omega, hl.2, fun j hj => ?_⟩
      rw [eL] at hj
      have := rn_in (P := fun k => isNp (T k)) q j hj
      unfold isNp isLt isDd at this
      rw [Bool.or_eq_true, Bool.or_eq_true, decide_eq_true_eq, decide_eq_true_eq, decide_eq_true_eq] at this
      unfold pnz
      omega
  · exfalso
    rw [if_neg c1] at h
    by_cases c2 : isDd (T q) = true
    · rw [if_pos c2] at h
      by_cases c3 : 10 < tkL T n q
      · rw [if_pos c3] at h; cases h
      · rw [if_neg c3] at h; cases h
    · rw [if_neg c2] at h
      have pr := pk_r (T q) (tsg T n (q + 1))
      by_cases c3 : 0 ≤ pkK (T q) (tsg T n (q + 1))
      · rw [if_pos c3] at h; omega
      · rw [if_neg c3] at h
        by_cases c4 : T q ∈ sgs
        · rw [if_pos c4] at h
          have := (sg_km _ c4).2.2
          omega
        · rw [if_neg c4] at h; cases h
section
variable {σ τ : St} {T : Nat → Int} {n q L o S t : Nat}
theorem alikeX (ho : isO o) (hT : TXc T n σ) {i : Nat} (hi : i < 40) (hl : q + L ≤ n) (h10 : L ≤ 10) {Q : Int → St → Prop} (yes : (∀ j, j < L → σ.1 (o + 2) (10 * i + j) = T (q + j)) → Q 1 σ) (no : ¬ (∀ j, j < L → σ.1 (o + 2) (10 * i + j) = T (q + j)) → Q 0 σ) {z : Int} (hz : z = ((10 * i : Nat) : Int)) : wp (F_X2_isAlike (o + 2) z 4 (q : Int) (L : Int)) σ Q := by
  have hf := FU_ge
  have hn := hT.1
  subst hz
  rw [F_X2_isAlike, wp_lt, wp_lt]
  refine loopM (L := fun f (x : Int × Int) => X2_isAlike_6 f (o + 2) ((10 * i : Nat) : Int) 4 (q : Int) (L : Int) x.1 x.2) (fun m x υ => ∃ k : Nat, x.2 = (k : Int) ∧ k ≤ L ∧ m = L - k ∧ υ = σ ∧ ((x.1 = 1 ∧ ∀ j, j < k → σ.1 (o + 2) (10 * i + j) = T (q + j)) ∨ (x.1 = 0 ∧ ¬ ∀ j, j < L → σ.1 (o + 2) (10 * i + j) = T (q + j)))) ?_ FU L (1, 0) σ (by omega) ⟨0, rfl, Nat.zero_le _, rfl, rfl, Or.inl ⟨rfl, fun j hj => absurd hj (Nat.not_lt_zero j)⟩⟩
  rintro f m ⟨x1, x2⟩ υ ⟨k, hx, hk, rfl, rfl, hc⟩ ih
  dsimp only at hx hc
  subst hx
  show wp (X2_isAlike_6 (f + 1) (o + 2) ((10 * i : Nat) : Int) 4 (q : Int) (L : Int) x1 (k : Int)) _ Q
  rw [X2_isAlike_6]
  rcases hc with ⟨rfl, hc⟩ | ⟨rfl, hc⟩
  · by_cases c2 : k < L
    · rw [wp_ifn (by omega), wp_ifn (by decide), wp_bd, w32_i (by omega) (by omega), O2 ho (by omega) (by omega), wp_bd, w32_i (by omega) (by omega), show (((10 * i : Nat) : Int) + (k : Int)).toNat = 10 * i + k by omega, show (q : Int) + (k : Int) = ((q + k : Nat) : Int) by omega, RI_4 (by omega) (by omega), tn, hT.2.2.2.1 _ (by omega)]
      by_cases c3 : υ.1 (o + 2) (10 * i + k) = T (q + k)
      · rw [wp_ifp c3, X2_isAlike_38, wp_lt, wp_lt, w32_i (by omega) (by omega)]
        refine ih (L - (k + 1)) (1, (k : Int) + 1) _ (by omega) ⟨k + 1, rfl, by omega, rfl, rfl, Or.inl ⟨rfl, fun j hj => ?_⟩⟩
        by_cases e : j = k
        · subst e; exact c3
        · exact hc j (by omega)
      · rw [wp_ifn c3, X2_isAlike_38, wp_lt, wp_lt, w32_i (by omega) (by omega)]
        exact ih (L - (k + 1)) (0, (k : Int) + 1) _ (by omega) ⟨k + 1, rfl, by omega, rfl, rfl, Or.inr ⟨rfl, fun hm => c3 (hm k c2)⟩⟩
    · obtain rfl : k = L := by omega
      rw [wp_ifp (by omega), c_rtZ (by decide) (by decide)]
      exact yes hc
  · by_cases c2 : k < L
    · rw [wp_ifn (by omega), wp_ifp rfl, c_rtZ (by decide) (by decide)]; exact no hc
    · rw [wp_ifp (by omega), c_rtZ (by decide) (by decide)]; exact no hc
theorem findX (ho : isO o) (hT : TXc T n σ) (h7 : σ.1 o 7 = (t : Int)) (ht : t ≤ 40) (hl : q + L ≤ n) (h10 : L ≤ 10) {Q : Int → St → Prop} (go : ∀ r, fnd (nmE T q L σ o) t r → Q r σ) : wp (F_X2_find o 4 (q : Int) (L : Int)) σ Q := by
  have hf := FU_ge
  rw [F_X2_find, wp_lt]
  refine loopM (L := fun f (x : Int) => X2_find_3 o f 4 (q : Int) (L : Int) x) (fun m x υ => ∃ i : Nat, x = (i : Int) ∧ i ≤ t ∧ m = t - i ∧ υ = σ ∧ ∀ i', i' < i → ¬ nmE T q L σ o i') ?_ FU t 0 σ (by omega) ⟨0, rfl, Nat.zero_le _, rfl, rfl, fun i hi => absurd hi (Nat.not_lt_zero i)⟩
  rintro f m x υ ⟨i, rfl, hi, rfl, rfl, hno⟩ ih
  show wp (X2_find_3 o (f + 1) 4 (q : Int) (L : Int) (i : Int)) _ Q
  rw [X2_find_3, wp_bd, wp_gI, h7]
  by_cases c : i < t
  · have nx : ¬ nmE T q L υ o i → wp (X2_find_41 o (X2_find_3 o f) 4 (q : Int) (L : Int) (i : Int)) υ Q := by
      intro hne
      rw [X2_find_41, wp_lt, w32_i (by omega) (by omega)]
      refine ih (t - (i + 1)) _ _ (by omega) ⟨i + 1, rfl, by omega, rfl, rfl, fun i' hi' => ?_⟩
      by_cases e : i' = i
      · subst e; exact hne
      · exact hno i' (by omega)
    rw [wp_ifn (by omega), wp_bd, O3 ho (by omega) (by omega), tn]
    by_cases c2 : υ.1 (o + 3) i = (L : Int)
    · rw [wp_ifp c2, wp_bd]
      refine alikeX ho hT (i := i) (by omega) hl h10 (fun w => ?_) (fun w => ?_) (by rw [w32_i (by omega) (by omega)]; omega)
      · rw [wp_ifn (by decide), X2_find_47, wp_bd, wp_gI, h7, wp_ifn (by omega), wp_rt]
        exact go _ (Or.inr ⟨i, c, rfl, ⟨c2, w⟩, hno⟩)
      · rw [wp_ifp rfl]
        exact nx (fun z => w z.2)
    · rw [wp_ifn c2]
      exact nx (fun z => c2 z.1)
  · obtain rfl : i = t := by omega
    rw [wp_ifp (by omega), X2_find_47, wp_bd, wp_gI, h7, wp_ifp (by omega), wp_rt]
    exact go _ (Or.inl ⟨rfl, hno⟩)
/-- the twin's name test -/
def nmT (T : Nat → Int) (q L : Nat) (τ : St) (a f : Nat) : Prop := ∀ j, j < 10 → τ.1 a (f + j) = if j < L then T (q + j) else 0
theorem isNameM (hT : TXt T n τ) (h33 : τ.1 2075 33 = (q : Int)) (h34 : τ.1 2075 34 = (L : Int)) (hl : q + L ≤ n) {a f m : Nat} (hf2 : f + 10 ≤ m) (hm : m ≤ 100000) (hrd : ∀ {i : Int} {Q : Int → St → Prop}, 0 ≤ i → i < (m : Int) → wp (rdB a i) τ Q = Q (τ.1 a i.toNat) τ) {Q : Int → St → Prop} (yes : nmT T q L τ a f → Q 1 τ) (no : ¬ nmT T q L τ a f → Q 0 τ) : wp (F_X15_isName a (f : Int)) τ Q := by
  have hf := FU_ge
  have hn := hT.1
  rw [F_X15_isName, wp_lt, wp_lt]
  refine loopM (L := fun f2 (x : Int × Int) => X15_isName_5 f2 a (f : Int) x.1 x.2) (fun m x υ => ∃ k : Nat, x.2 = (k : Int) ∧ k ≤ 10 ∧ m = 10 - k ∧ υ = τ ∧ ((x.1 = 1 ∧ ∀ j, j < k → τ.1 a (f + j) = if j < L then T (q + j) else 0) ∨ (x.1 = 0 ∧ ¬ nmT T q L τ a f))) ?_ FU 10 (1, 0) τ (by omega) ⟨0, rfl, Nat.zero_le _, rfl, rfl, Or.inl ⟨rfl, fun j hj => absurd hj (Nat.not_lt_zero j)⟩⟩
  rintro f2 m' ⟨x1, x2⟩ υ ⟨k, hx, hk, rfl, rfl, hc⟩ ih
  dsimp only at hx hc
  subst hx
  show wp (X15_isName_5 (f2 + 1) a (f : Int) x1 (k : Int)) _ Q
  rw [X15_isName_5]
  by_cases c2 : k < 10
  · rw [wp_ifn (by omega)]
    rcases hc with ⟨rfl, hc⟩ | ⟨rfl, hc⟩
    · have key : ∀ w : Int, w = (if k < L then T (q + k) else 0) → wp (X15_isName_47 (X15_isName_5 f2) a (f : Int) (k : Int) (υ.1 a (f + k)) w) υ Q := by
        intro w hw
        rw [X15_isName_47]
        by_cases c3 : υ.1 a (f + k) = w
        · rw [wp_ifp c3, X15_isName_55, wp_lt, wp_lt, w32_i (by omega) (by omega)]
          refine ih (10 - (k + 1)) (1, (k : Int) + 1) _ (by omega) ⟨k + 1, rfl, by omega, rfl, rfl, Or.inl ⟨rfl, fun j hj => ?_⟩⟩
          by_cases e : j = k
          · subst e; rw [c3, hw]
          · exact hc j (by omega)
        · rw [wp_ifn c3, X15_isName_55, wp_lt, wp_lt, w32_i (by omega) (by omega)]
          exact ih (10 - (k + 1)) (0, (k : Int) + 1) _ (by omega) ⟨k + 1, rfl, by omega, rfl, rfl, Or.inr ⟨rfl, fun hm => c3 (by rw [hm k c2, hw])⟩⟩
      rw [wp_ifn (by decide), wp_bd, w32_i (by omega) (by omega), hrd (by omega) (by omega), show ((f : Int) + (k : Int)).toNat = f + k by omega, wp_bd, wp_gI, h34]
      by_cases c4 : k < L
      · rw [wp_ifn (by omega), wp_bd, wp_gI, h33, wp_bd, w32_i (by omega) (by omega), show (q : Int) + (k : Int) = ((q + k : Nat) : Int) by omega, RI_2076 (by omega) (by omega), tn, hT.2.2.2 _ (by omega)]
        exact key _ (by rw [if_pos c4])
      · rw [wp_ifp (by omega)]
        exact key _ (by rw [if_neg c4])
    · rw [wp_ifp rfl, c_rtZ (by decide) (by decide)]; exact no hc
  · obtain rfl : k = 10 := by omega
    rw [wp_ifp (by omega)]
    rcases hc with ⟨rfl, hc⟩ | ⟨rfl, hc⟩
    · rw [c_rtZ (by decide) (by decide)]; exact yes hc
    · rw [c_rtZ (by decide) (by decide)]; exact no hc
theorem thingOfM (hT : TXt T n τ) (h33 : τ.1 2075 33 = (q : Int)) (h34 : τ.1 2075 34 = (L : Int)) (hl : q + L ≤ n) {m : Nat} (hm : m < 12) (h77 : τ.1 2077 (48 + m) = (t : Int)) (ht : t ≤ 40) {Q : Int → St → Prop} (go : ∀ r, fnd (fun i => nmT T q L τ 2087 (10 * (40 * (48 + m) + i))) t r → Q r τ) : wp (F_X15_thingOf (m : Int)) τ Q := by
  have hf := FU_ge
  rw [F_X15_thingOf, wp_lt]
  refine loopM (L := fun f (x : Int) => X15_thingOf_2 f (m : Int) x) (fun m' x υ => ∃ i : Nat, x = (i : Int) ∧ i ≤ t ∧ m' = t - i ∧ υ = τ ∧ ∀ i', i' < i → ¬ nmT T q L τ 2087 (10 * (40 * (48 + m) + i'))) ?_ FU t 0 τ (by omega) ⟨0, rfl, Nat.zero_le _, rfl, rfl, fun i hi => absurd hi (Nat.not_lt_zero i)⟩
  rintro f m' x υ ⟨i, rfl, hi, rfl, rfl, hno⟩ ih
  show wp (X15_thingOf_2 (f + 1) (m : Int) (i : Int)) _ Q
  rw [X15_thingOf_2, wp_bd, w32_i (x := 48 + (m : Int)) (by omega) (by omega), RI_2077 (by omega) (by omega), show (48 + (m : Int)).toNat = 48 + m by omega, h77]
  by_cases c : i < t
  · rw [wp_ifn (by omega), wp_bd, w32_i (x := 40 * (48 + (m : Int))) (by omega) (by omega), w32_i (x := 40 * (48 + (m : Int)) + (i : Int)) (by omega) (by omega), w32_i (by omega) (by omega), show 10 * (40 * (48 + (m : Int)) + (i : Int)) = ((10 * (40 * (48 + m) + i) : Nat) : Int) by omega]
    refine isNameM hT h33 h34 hl (m := 24000) (by omega) (by decide) (fun h1 h2 => RI_2087 h1 h2) (fun w => ?_) (fun w => ?_)
    · rw [wp_ifn (by decide), wp_rt]
      exact go _ (Or.inr ⟨i, c, rfl, w, hno⟩)
    · rw [wp_ifp rfl, wp_lt, w32_i (by omega) (by omega)]
      refine ih (t - (i + 1)) _ _ (by omega) ⟨i + 1, rfl, by omega, rfl, rfl, fun i' hi' => ?_⟩
      by_cases e : i' = i
      · subst e; exact w
      · exact hno i' (by omega)
  · obtain rfl : i = t := by omega
    rw [wp_ifp (by omega), wp_rt]
    exact go _ (Or.inl ⟨rfl, hno⟩)
theorem nm_iff (hR : thR σ o τ S t) {i : Nat} (hi : i < t) (h1 : 1 ≤ L) (h10 : L ≤ 10) (h0 : ∀ j, j < L → pnz (T (q + j))) : nmE T q L σ o i ↔ nmT T q L τ 2087 (10 * (40 * S + i)) := by
  obtain ⟨L', l1, l2, l3, l4⟩ := (hR.2 i hi).1
  constructor
  · rintro ⟨w1, w2⟩ j hj
    have e : L' = L := by omega
    subst e
    rw [(l4 j hj).1]
    by_cases c : j < L'
    · rw [if_pos c, if_pos c]; exact w2 j c
    · rw [if_neg c, if_neg c]
  · intro w
    have e : L' = L := by
      rcases Nat.lt_trichotomy L' L with z | z | z
      · exfalso
        have a := w L' (by omega)
        rw [(l4 L' (by omega)).1, if_neg (Nat.lt_irrefl L'), if_pos z] at a
        exact (h0 L' z).ne a.symm
      · exact z
      · exfalso
        have a := w L (by omega)
        have b := l4 L (by omega)
        rw [b.1, if_pos z, if_neg (Nat.lt_irrefl L)] at a
        exact (b.2 z).ne a
    subst e
    refine ⟨l3, fun j hj => ?_⟩
    have a := w j (by omega)
    rw [(l4 j (by omega)).1, if_pos hj, if_pos hj] at a
    exact a
/-- both find the same thing -/
theorem find_both (ho : isO o) (hc : TXc T n σ) (ht : TXt T n τ) {m : Nat} (hm : m < 12) (hR : thR σ o τ (48 + m) t) (hq : q ≤ n) (hK : tkK T n q = 1) (h33 : τ.1 2075 33 = (q : Int)) (h34 : τ.1 2075 34 = (tkL T n q : Int)) : ∃ r : Int, (r = -1 ∨ ∃ i : Nat, r = (i : Int) ∧ i < t) ∧ fnd (nmE T q (tkL T n q) σ o) t r ∧ (∀ Q : Int → St → Prop, Q r σ → wp (F_X2_find o 4 (q : Int) (tkL T n q : Int)) σ Q) ∧ ∀ Q : Int → St → Prop, Q r τ → wp (F_X15_thingOf (m : Int)) τ Q := by
  obtain ⟨l1, l2, l3, l4⟩ := nm_tok hq hK
  obtain ⟨r, hr⟩ := fnd_ex (nmE T q (tkL T n q) σ o) t
  refine ⟨r, ?_, hr, fun Q hQ => findX ho hc hR.1.1 hR.1.2.2 l3 l2 (fun r' h' => fnd_u hr h' ▸ hQ), fun Q hQ => thingOfM ht h33 h34 l3 hm hR.1.2.1 hR.1.2.2 (fun r' h' => ?_)⟩
  · rcases hr with ⟨w, _⟩ | ⟨i, w1, w2, _⟩
    · exact Or.inl w
    · exact Or.inr ⟨i, w2, w1⟩
  · have := fnd_congr (fun i hi => (nm_iff hR hi l1 l2 l4).symm) h'
    exact fnd_u hr this ▸ hQ
end
