set_option maxRecDepth 100000
set_option maxHeartbeats 400000
/-! ===== read: tokens, pure, and the component's ===== -/
def isLt (c : Int) : Bool := decide ((97 ≤ c ∧ c ≤ 122) ∨ (65 ≤ c ∧ c ≤ 90))
def isDd (c : Int) : Bool := decide (48 ≤ c ∧ c ≤ 57)
def isNp (c : Int) : Bool := isLt c || isDd c || decide (c = 95)
def isBl (c : Int) : Bool := decide (c = 9 ∨ c = 10 ∨ c = 13 ∨ c = 32)
def runK (P : Nat → Bool) : Nat → Nat → Nat
  | 0, _ => 0
  | f + 1, p => if P p = true then runK P f (p + 1) + 1 else 0
def rn (P : Nat → Bool) (n p : Nat) : Nat := runK P (n - p) p
theorem rn_eq {P : Nat → Bool} {n : Nat} : ∀ (j p : Nat), (∀ i, i < j → P (p + i) = true) → p + j ≤ n → (p + j = n ∨ P (p + j) = false) → rn P n p = j
  | 0, p, _, h2, h3 => by
    unfold rn
    rcases h3 with h | h
    · rw [show n - p = 0 by omega]; rfl
    · rcases n - p with _ | f
      · rfl
      · unfold runK; rw [Nat.add_zero] at h; rw [if_neg (by rw [h]; decide)]
  | j + 1, p, h1, h2, h3 => by
    have ih := rn_eq (P := P) (n := n) j (p + 1) (fun i hi => by have := h1 (i + 1) (by omega); rwa [show p + (i + 1) = p + 1 + i by omega] at this) (by omega) (by rwa [show p + (j + 1) = p + 1 + j by omega] at h3)
    unfold rn at ih ⊢
    rw [show n - p = (n - (p + 1)) + 1 by omega]
    unfold runK
    rw [if_pos (by have := h1 0 (by omega); exact this), ih]
theorem rn_le (P : Nat → Bool) (n p : Nat) (h : p ≤ n) : p + rn P n p ≤ n := by
  unfold rn
  generalize hf : n - p = f
  induction f generalizing p with
  | zero => unfold runK; omega
  | succ f ih =>
    unfold runK
    split
    · have := ih (p + 1) (by omega) (by omega); omega
    · omega
theorem rn_in {P : Nat → Bool} {n : Nat} (p : Nat) : ∀ i, i < rn P n p → P (p + i) = true := by
  unfold rn
  generalize n - p = f
  induction f generalizing p with
  | zero => intro i hi; unfold runK at hi; omega
  | succ f ih =>
    intro i hi
    unfold runK at hi
    by_cases c : P p = true
    · rw [if_pos c] at hi
      rcases i with _ | i
      · exact c
      · have := ih (p + 1) i (by omega)
        rwa [show p + 1 + i = p + (i + 1) by omega] at this
    · rw [if_neg c] at hi; omega
theorem rn_out {P : Nat → Bool} {n : Nat} (p : Nat) (h : p ≤ n) : p + rn P n p = n ∨ P (p + rn P n p) = false := by
  unfold rn
  generalize hf : n - p = f
  induction f generalizing p with
  | zero => unfold runK; omega
  | succ f ih =>
    unfold runK
    by_cases c : P p = true
    · rw [if_pos c]
      have := ih (p + 1) (by omega) (by omega)
      rwa [show p + 1 + runK P f (p + 1) = p + (runK P f (p + 1) + 1) by omega] at this
    · rw [if_neg c]
      right; rw [Nat.add_zero]; exact Bool.eq_false_iff.mpr c
/-- pairs of signs, signs -/
def pkK (c d : Int) : Int := if c = 60 ∧ d = 61 then 15 else if c = 61 ∧ d = 61 then 16 else if c = 33 ∧ d = 61 then 17 else if c = 60 ∧ d = 60 then 18 else if c = 62 ∧ d = 62 then 19 else -1
def sgs : List Int := [123, 125, 40, 41, 91, 93, 58, 59, 46, 44, 63, 61, 39, 60, 43, 45, 42, 38, 124, 94, 126]
/-- word i stands at a place -/
def wmP (T : Nat → Int) (q l i : Nat) : Prop := sl (1000100 + i) = (l : Int) ∧ ∀ k, k < l → T (q + k) = sb (1000100 + i) (k : Int)
noncomputable def wdF (T : Nat → Int) (q l : Nat) : Nat → Nat → Int
  | 0, _ => 1
  | f + 1, i => @ite _ (wmP T q l i) (Classical.propDecidable _) (3 + (i : Int)) (wdF T q l f (i + 1))
theorem wdF_s {T : Nat → Int} {q l f i : Nat} : wdF T q l (f + 1) i = @ite _ (wmP T q l i) (Classical.propDecidable _) (3 + (i : Int)) (wdF T q l f (i + 1)) := rfl
theorem wdF_y {T : Nat → Int} {q l f i : Nat} (h : wmP T q l i) : wdF T q l (f + 1) i = 3 + (i : Int) := by
  rw [wdF_s]; exact @if_pos _ (Classical.propDecidable _) h _ _ _
theorem wdF_n {T : Nat → Int} {q l f i : Nat} (h : ¬ wmP T q l i) : wdF T q l (f + 1) i = wdF T q l f (i + 1) := by
  rw [wdF_s]; exact @if_neg _ (Classical.propDecidable _) h _ _ _
theorem wdF_r {T : Nat → Int} {q l : Nat} : ∀ f i, wdF T q l f i = 1 ∨ ∃ j, i ≤ j ∧ j < i + f ∧ wdF T q l f i = 3 + (j : Int)
  | 0, _ => Or.inl rfl
  | f + 1, i => by
    by_cases h : wmP T q l i
    · rw [wdF_y h]; exact Or.inr ⟨i, Nat.le_refl i, by omega, rfl⟩
    · rw [wdF_n h]
      rcases wdF_r f (i + 1) with w | ⟨j, h1, h2, h3⟩
      · exact Or.inl w
      · exact Or.inr ⟨j, by omega, by omega, h3⟩
/-- the sign that stands at a place -/
def tsg (T : Nat → Int) (n k : Nat) : Int := if k < n then T k else -1
/-- where the next token begins, how long it is, its kind (-1: a fault) -/
def tkQ (T : Nat → Int) (n p : Nat) : Nat := p + rn (fun k => isBl (T k)) n p
def tkL (T : Nat → Int) (n q : Nat) : Nat := if q = n then 0 else if isLt (T q) = true then rn (fun k => isNp (T k)) n q else if isDd (T q) = true then rn (fun k => isDd (T k)) n q else if 0 ≤ pkK (T q) (tsg T n (q + 1)) then 2 else 1
noncomputable def tkK (T : Nat → Int) (n q : Nat) : Int := if q = n then 0 else if isLt (T q) = true then (if 10 < tkL T n q then -1 else wdF T q (tkL T n q) 12 0) else if isDd (T q) = true then (if 10 < tkL T n q then -1 else 2) else if 0 ≤ pkK (T q) (tsg T n (q + 1)) then pkK (T q) (tsg T n (q + 1)) else if T q ∈ sgs then T q else -1
/-- the value of digits -/
def nmV (T : Nat → Int) (q : Nat) : Nat → Int64
  | 0 => 0
  | k + 1 => ((10 * nmV T q k) + (i2l (T (q + k)))) - 48
/-- the text of the component, its words -/
def TXc (T : Nat → Int) (n : Nat) (σ : St) : Prop := n ≤ 4000 ∧ (∀ k, k < n → -128 ≤ T k ∧ T k ≤ 127) ∧ σ.1 2 2 = (n : Int) ∧ (∀ k, k < n → σ.1 4 k = T k) ∧ ∀ i, i < 12 → σ.2.2 3 i = some (1000100 + i)
def cX (σ : St) (g : Nat → Int) (h : Nat → Int64) : St := (stA σ.1 2 g, stA σ.2.1 2 h, σ.2.2)
theorem cX_id {σ : St} : cX σ (σ.1 2) (σ.2.1 2) = σ := by unfold cX; rw [stA_self, stA_self]
section
variable {σ : St} {g : Nat → Int} {h : Nat → Int64} {k : Nat}
theorem cg {Q : Int → St → Prop} : wp (gI 2 k) (cX σ g h) Q = Q (g k) (cX σ g h) := by
  rw [wp_gI]; show Q (stA σ.1 2 g 2 k) _ = _; rw [stA_eq]
theorem cge {x : Int} (e : g k = x) {Q : Int → St → Prop} : wp (gI 2 k) (cX σ g h) Q = Q x (cX σ g h) := by rw [cg, e]
theorem cp {v : Int} {Q : Unit → St → Prop} : wp (pI 2 k v) (cX σ g h) Q = Q () (cX σ (ups g k v) h) := by
  rw [wp_pI]; unfold cX; dsimp only; rw [stA_eq, stA_stA]
theorem cz {v : Int} (h1 : 0 ≤ v) (h2 : v ≤ 1) {Q : Unit → St → Prop} : wp (pZ 2 k v) (cX σ g h) Q = Q () (cX σ (ups g k v) h) := by
  rw [c_pZ h1 h2]; unfold cX; dsimp only; rw [stA_eq, stA_stA]
theorem cgL {Q : Int64 → St → Prop} : wp (gL 2 k) (cX σ g h) Q = Q (h k) (cX σ g h) := by
  rw [wp_gL]; show Q (stA σ.2.1 2 h 2 k) _ = _; rw [stA_eq]
theorem cpL2 {v : Int64} {Q : Unit → St → Prop} : wp (pL 2 k v) (cX σ g h) Q = Q () (cX σ g (ups h k v)) := by
  rw [wp_pL]; unfold cX; dsimp only; rw [stA_eq, stA_stA]
variable {T : Nat → Int} {n : Nat}
theorem ctx (hT : TXc T n σ) (hk : k < n) {Q : Int → St → Prop} : wp (rdB 4 (k : Int)) (cX σ g h) Q = Q (T k) (cX σ g h) := by
  have := hT.1
  rw [RI_4 (by omega) (by omega), tn]
  show Q (stA σ.1 2 g 4 k) _ = _
  rw [stA_ne (by decide), hT.2.2.2.1 k hk]
theorem sgnX (hT : TXc T n σ) (h2 : g 2 = (n : Int)) {Q : Int → St → Prop} : wp (F_X1_signAt (k : Int)) (cX σ g h) Q = Q (tsg T n k) (cX σ g h) := by
  rw [F_X1_signAt, wp_bd, cge h2]
  unfold tsg
  by_cases c : k < n
  · rw [wp_ifn (by omega), if_pos c, wp_bd, ctx hT c, wp_rt]
  · rw [wp_ifp (by omega), if_neg c, wp_rt]
end
section
variable {c : Int} {σ : St} {Q : Int → St → Prop}
theorem ltX : wp (F_X1_isLetter c) σ Q = Q (if isLt c = true then 1 else 0) σ := by
  unfold isLt
  rw [F_X1_isLetter]
  by_cases h : 97 ≤ c ∧ c ≤ 122
  · rw [wp_ifn (by omega), wp_ifp (by omega), c_rtZ (by decide) (by decide), if_pos (by rw [decide_eq_true (by omega)])]
  · by_cases h2 : 65 ≤ c ∧ c ≤ 90
    · rw [wp_ifp (by omega), X1_isLetter_12, wp_ifn (by omega), wp_ifn (by omega), c_rtZ (by decide) (by decide), if_pos (by rw [decide_eq_true (by omega)])]
    · have e : ¬ (decide ((97 ≤ c ∧ c ≤ 122) ∨ (65 ≤ c ∧ c ≤ 90)) = true) := by rw [decide_eq_false (by omega)]; decide
      rw [if_neg e]
      have key : wp (X1_isLetter_12 c) σ Q = Q 0 σ := by
        rw [X1_isLetter_12]
        by_cases h3 : c < 65
        · rw [wp_ifp h3, c_rtZ (by decide) (by decide)]
        · rw [wp_ifn h3, wp_ifp (by omega), c_rtZ (by decide) (by decide)]
      by_cases h3 : c < 97
      · rw [wp_ifp h3, key]
      · rw [wp_ifn h3, wp_ifn (by omega), key]
theorem dgX : wp (F_X1_isDigit c) σ Q = Q (if isDd c = true then 1 else 0) σ := by
  unfold isDd
  rw [F_X1_isDigit]
  by_cases h1 : c < 48
  · rw [wp_ifp h1, c_rtZ (by decide) (by decide), if_neg (by rw [decide_eq_false (by omega)]; decide)]
  · by_cases h2 : 57 < c
    · rw [wp_ifn h1, wp_ifp h2, c_rtZ (by decide) (by decide), if_neg (by rw [decide_eq_false (by omega)]; decide)]
    · rw [wp_ifn h1, wp_ifn h2, c_rtZ (by decide) (by decide), if_pos (by rw [decide_eq_true (by omega)])]
theorem npX : wp (F_X1_isNamePart c) σ Q = Q (if isNp c = true then 1 else 0) σ := by
  unfold isNp
  rw [F_X1_isNamePart, wp_bd, ltX]
  cases h1 : isLt c
  · rw [wp_ifp (by decide), wp_bd, dgX]
    cases h2 : isDd c
    · rw [wp_ifp (by decide)]
      by_cases h3 : c = 95
      · rw [wp_ifp h3, c_rtZ (by decide) (by decide), if_pos (by rw [decide_eq_true h3]; rfl)]
      · rw [wp_ifn h3, c_rtZ (by decide) (by decide), if_neg (by rw [decide_eq_false h3]; decide)]
    · rw [wp_ifn (by decide), c_rtZ (by decide) (by decide), if_pos (by rfl)]
  · rw [wp_ifn (by decide), c_rtZ (by decide) (by decide), if_pos (by rfl)]
theorem blX : wp (F_X1_isBlank c) σ Q = Q (if isBl c = true then 1 else 0) σ := by
  unfold isBl
  rw [F_X1_isBlank]
  by_cases h1 : c = 9
  · rw [wp_ifp h1, c_rtZ (by decide) (by decide), if_pos (by rw [decide_eq_true (by omega)])]
  · by_cases h2 : c = 10
    · rw [wp_ifn h1, wp_ifp h2, c_rtZ (by decide) (by decide), if_pos (by rw [decide_eq_true (by omega)])]
    · by_cases h3 : c = 13
      · rw [wp_ifn h1, wp_ifn h2, wp_ifp h3, c_rtZ (by decide) (by decide), if_pos (by rw [decide_eq_true (by omega)])]
      · by_cases h4 : c = 32
        · rw [wp_ifn h1, wp_ifn h2, wp_ifn h3, wp_ifp h4, c_rtZ (by decide) (by decide), if_pos (by rw [decide_eq_true (by omega)])]
        · rw [wp_ifn h1, wp_ifn h2, wp_ifn h3, wp_ifn h4, c_rtZ (by decide) (by decide), if_neg (by rw [decide_eq_false (by omega)]; decide)]
theorem pkX {d : Int} : wp (F_X1_pairKind c d) σ Q = Q (pkK c d) σ := by
  unfold pkK
  have k60 : wp (X1_pairKind_60 c d) σ Q = Q (if c = 62 ∧ d = 62 then 19 else -1) σ := by
    rw [X1_pairKind_60]
    by_cases h1 : c = 62
    · by_cases h2 : d = 62
      · rw [wp_ifp h1, wp_ifp h2, wp_rt, if_pos ⟨h1, h2⟩]
      · rw [wp_ifp h1, wp_ifn h2, wp_rt, if_neg (c := c = 62 ∧ d = 62) (fun q => h2 q.2)]
    · rw [wp_ifn h1, wp_rt, if_neg (c := c = 62 ∧ d = 62) (fun q => h1 q.1)]
  have k45 : wp (X1_pairKind_45 c d) σ Q = Q (if c = 60 ∧ d = 60 then 18 else if c = 62 ∧ d = 62 then 19 else -1) σ := by
    rw [X1_pairKind_45]
    by_cases h1 : c = 60
    · by_cases h2 : d = 60
      · rw [wp_ifp h1, wp_ifp h2, wp_rt, if_pos ⟨h1, h2⟩]
      · rw [wp_ifp h1, wp_ifn h2, k60, if_neg (c := c = 60 ∧ d = 60) (fun q => h2 q.2)]
    · rw [wp_ifn h1, k60, if_neg (c := c = 60 ∧ d = 60) (fun q => h1 q.1)]
  have k30 : wp (X1_pairKind_30 c d) σ Q = Q (if c = 33 ∧ d = 61 then 17 else if c = 60 ∧ d = 60 then 18 else if c = 62 ∧ d = 62 then 19 else -1) σ := by
    rw [X1_pairKind_30]
    by_cases h1 : c = 33
    · by_cases h2 : d = 61
      · rw [wp_ifp h1, wp_ifp h2, wp_rt, if_pos ⟨h1, h2⟩]
      · rw [wp_ifp h1, wp_ifn h2, k45, if_neg (c := c = 33 ∧ d = 61) (fun q => h2 q.2)]
    · rw [wp_ifn h1, k45, if_neg (c := c = 33 ∧ d = 61) (fun q => h1 q.1)]
  have k15 : wp (X1_pairKind_15 c d) σ Q = Q (if c = 61 ∧ d = 61 then 16 else if c = 33 ∧ d = 61 then 17 else if c = 60 ∧ d = 60 then 18 else if c = 62 ∧ d = 62 then 19 else -1) σ := by
    rw [X1_pairKind_15]
    by_cases h1 : c = 61
    · by_cases h2 : d = 61
      · rw [wp_ifp h1, wp_ifp h2, wp_rt, if_pos ⟨h1, h2⟩]
      · rw [wp_ifp h1, wp_ifn h2, k30, if_neg (c := c = 61 ∧ d = 61) (fun q => h2 q.2)]
    · rw [wp_ifn h1, k30, if_neg (c := c = 61 ∧ d = 61) (fun q => h1 q.1)]
  rw [F_X1_pairKind]
  by_cases h1 : c = 60
  · by_cases h2 : d = 61
    · rw [wp_ifp h1, wp_ifp h2, wp_rt, if_pos ⟨h1, h2⟩]
    · rw [wp_ifp h1, wp_ifn h2, k15, if_neg (c := c = 60 ∧ d = 61) (fun q => h2 q.2)]
  · rw [wp_ifn h1, k15, if_neg (c := c = 60 ∧ d = 61) (fun q => h1 q.1)]
end
/-! the JDK's strings -/
theorem j3len {o : Nat} {σ : St} {Q : Int → St → Prop} (h : ∀ i, i < 13 → o = 1000100 + i → True) (hl : sl o ≤ 21) (h0 : 0 ≤ sl o) : wp (F_J3_length o) σ Q = Q (sl o) σ := by
  rw [F_J3_length, wp_bd, F_J3_coder, wp_ifn (by decide), wp_rtB, wp_rt, and_t (by decide), show ishr (sl o) 0 = sl o from by rw [ishr_s (by omega) (by omega) (by decide) (by decide)]; simp]
theorem chr_id : ∀ v : Fin 128, i2c (iand ((v : Nat) : Int) 255) = ((v : Nat) : Int) := by decide +kernel
theorem j3chr {o : Nat} {i : Int} {σ : St} {Q : Int → St → Prop} (h1 : 0 ≤ i) (h2 : i < sl o) (h3 : 0 ≤ sb o i ∧ sb o i ≤ 127) : wp (F_J3_charAt o i) σ Q = Q (sb o i) σ := by
  obtain ⟨v, hv⟩ := Int.eq_ofNat_of_zero_le h3.1
  have e : i2c (iand (sb o i) 255) = sb o i := by rw [hv]; exact chr_id ⟨v, by omega⟩
  rw [F_J3_charAt, wp_bd, F_J3_isLatin1, wp_ifn (by decide), wp_ifp rfl, c_rtZ (by decide) (by decide), wp_ifn (by decide), wp_bd, F_J4_charAt, wp_bd, F_J3_checkIndex, wp_bd, F_J5_checkIndex, wp_ifn (by omega), wp_ifp h2, wp_rt, wp_rt, wp_bd, c_rdV h1 h2, e, c_rtC h3.1 (by omega), c_rtC h3.1 (by omega)]
theorem sl_r : ∀ i : Fin 13, 0 ≤ sl (1000100 + (i : Nat)) ∧ sl (1000100 + (i : Nat)) ≤ 21 := by decide +kernel
theorem sb_r : ∀ i : Fin 13, ∀ k : Fin 21, ((k : Nat) : Int) < sl (1000100 + (i : Nat)) → 0 ≤ sb (1000100 + (i : Nat)) ((k : Nat) : Int) ∧ sb (1000100 + (i : Nat)) ((k : Nat) : Int) ≤ 127 := by decide +kernel
section
variable {σ : St} {Q : Int → St → Prop}
theorem wlen {i : Nat} (hi : i < 13) : wp (F_J3_length (1000100 + i)) σ Q = Q (sl (1000100 + i)) σ := by
  have := sl_r ⟨i, hi⟩
  exact j3len (fun _ _ _ => trivial) this.2 this.1
theorem wchr {i k : Nat} (hi : i < 13) (hk : (k : Int) < sl (1000100 + i)) : wp (F_J3_charAt (1000100 + i) (k : Int)) σ Q = Q (sb (1000100 + i) (k : Int)) σ := by
  have h1 := sl_r ⟨i, hi⟩
  dsimp only at h1
  have h2 := sb_r ⟨i, hi⟩ ⟨k, by omega⟩ hk
  exact j3chr (by omega) hk h2
theorem sgs_sb : ∀ k : Fin 21, sb 1000112 ((k : Nat) : Int) = sgs.getD (k : Nat) 0 := by decide +kernel
theorem i2b_id : ∀ v : Fin 128, i2b ((v : Nat) : Int) = ((v : Nat) : Int) := by decide +kernel
theorem idxX {c : Int} (h1 : -128 ≤ c) (h2 : c ≤ 127) (yes : c ∈ sgs → ∀ x, 0 ≤ x → Q x σ) (no : c ∉ sgs → Q (-1) σ) : wp (F_J3_indexOf 1000112 c) σ Q := by
  have hf := FU_ge
  have h21 : sl 1000112 = 21 := by decide +kernel
  rw [F_J3_indexOf, wp_bd, F_J3_indexOf_2, wp_bd, F_J3_isLatin1, wp_ifn (by decide), wp_ifp rfl, c_rtZ (by decide) (by decide), wp_ifn (by decide), wp_bd, show (1000112 : Nat) = 1000100 + 12 from rfl, wlen (by decide), wp_bd, F_J4_indexOf, wp_bd, F_J4_canEncode]
  by_cases c0 : c < 0
  · rw [wp_ifp c0, c_rtZ (by decide) (by decide), wp_ifp rfl, wp_rt, wp_rt, wp_rt]
    refine no (fun q => ?_)
    have : ∀ x, x ∈ sgs → 0 ≤ x := by decide
    have := this c q
    omega
  · obtain ⟨v, hv⟩ := Int.eq_ofNat_of_zero_le (show 0 ≤ c by omega)
    have e : i2b c = c := by rw [hv]; exact i2b_id ⟨v, by omega⟩
    rw [wp_ifn c0, wp_ifn (by omega), c_rtZ (by decide) (by decide), wp_ifn (by decide), wp_bd, wp_max, wp_lt, wp_bd, wp_min, wp_lt, show min (sl (1000100 + 12)) (sl (1000100 + 12)) = 21 by rw [show sl (1000100 + 12) = 21 from h21]; rfl, show max (0 : Int) 0 = 0 from rfl, wp_ifp (by decide), wp_bd, F_J4_indexOfChar, wp_lt, wp_lt, e]
    refine loopM (L := fun f (x : Int) => J4_indexOfChar_7 f (1000100 + 12) 21 c x) (fun m x τ => ∃ a : Nat, x = (a : Int) ∧ a ≤ 21 ∧ m = 21 - a ∧ τ = σ ∧ ∀ i, i < a → sgs.getD i 0 ≠ c) ?_ FU 21 0 σ (by omega) ⟨0, rfl, by decide, rfl, rfl, fun i hi => absurd hi (Nat.not_lt_zero i)⟩
    rintro f m x τ ⟨a, rfl, ha, rfl, rfl, hno⟩ ih
    show wp (J4_indexOfChar_7 (f + 1) (1000100 + 12) 21 c (a : Int)) _ _
    rw [J4_indexOfChar_7]
    by_cases ca : a < 21
    · rw [wp_ifn (by omega), wp_bd, c_rdV (by omega) (by rw [show sl (1000100 + 12) = 21 from h21]; omega), show sb (1000100 + 12) (a : Int) = sgs.getD a 0 from sgs_sb ⟨a, ca⟩]
      by_cases e2 : sgs.getD a 0 = c
      · rw [wp_ifp e2, wp_rt, wp_rt, wp_rt, wp_rt]
        exact yes (by rw [← e2]; exact getD_mem (show a < sgs.length from ca)) _ (by omega)
      · rw [wp_ifn e2, wp_lt, w32_i (by omega) (by omega)]
        refine ih (21 - (a + 1)) _ _ (by omega) ⟨a + 1, rfl, by omega, rfl, rfl, fun i hi => ?_⟩
        by_cases e3 : i = a
        · subst e3; exact e2
        · exact hno i (by omega)
    · rw [wp_ifp (by omega), wp_rt, wp_rt, wp_rt, wp_rt]
      refine no (fun q => ?_)
      obtain ⟨i, hi, e3⟩ := getD_ex (d := 0) q
      have hi' : i < 21 := hi
      exact hno i (by omega) e3
end
