set_option maxRecDepth 100000
set_option maxHeartbeats 400000
/-! ===== read: the twin's scanner ===== -/
def km (K : Int) : Int := if K ≤ 2 then K else if K ≤ 14 then K + 7 else if K = 15 then 43 else if K = 16 then 44 else if K = 17 then 45 else if K = 18 then 54 else if K = 19 then 55 else if K = 123 then 30 else if K = 125 then 31 else if K = 40 then 32 else if K = 41 then 33 else if K = 91 then 34 else if K = 93 then 35 else if K = 58 then 36 else if K = 59 then 37 else if K = 46 then 38 else if K = 44 then 39 else if K = 63 then 40 else if K = 61 then 41 else if K = 39 then 42 else if K = 60 then 46 else if K = 43 then 47 else if K = 45 then 48 else if K = 42 then 49 else if K = 38 then 50 else if K = 124 then 51 else if K = 94 then 52 else if K = 126 then 53 else 0
/-- what a sign is, by itself and by the next one -/
def soB (c : Int) (e l g : Bool) : Int := if c = 33 then (if e = true then 45 else 0) else if c = 38 then 50 else if c = 39 then 42 else if c = 40 then 32 else if c = 41 then 33 else if c = 42 then 49 else if c = 43 then 47 else if c = 44 then 39 else if c = 45 then 48 else if c = 46 then 38 else if c = 58 then 36 else if c = 59 then 37 else if c = 60 then (if e = true then 43 else if l = true then 54 else 46) else if c = 61 then (if e = true then 44 else 41) else if c = 62 then (if g = true then 55 else 0) else if c = 63 then 40 else if c = 91 then 34 else if c = 93 then 35 else if c = 94 then 52 else if c = 123 then 30 else if c = 124 then 51 else if c = 125 then 31 else if c = 126 then 53 else 0
def pkB (c : Int) (e l g : Bool) : Int := if c = 60 ∧ e = true then 15 else if c = 61 ∧ e = true then 16 else if c = 33 ∧ e = true then 17 else if c = 60 ∧ l = true then 18 else if c = 62 ∧ g = true then 19 else -1
def kB (c : Int) (e l g : Bool) : Int := if 0 ≤ pkB c e l g then pkB c e l g else if c ∈ sgs then c else -1
theorem so_km : ∀ c : Fin 256, ∀ e l g : Bool, soB ((c : Nat) : Int) e l g = if kB ((c : Nat) : Int) e l g = -1 then 0 else km (kB ((c : Nat) : Int) e l g) := by decide +kernel
theorem pk_B (c d : Int) : pkK c d = pkB c (decide (d = 61)) (decide (d = 60)) (decide (d = 62)) := by
  unfold pkK pkB
  simp only [decide_eq_true_eq]
theorem wif {c : Prop} [Decidable c] {m k : St → Option (Int × St)} {x y : Int} {σ : St} {Q : Int → St → Prop} (h1 : wp m σ Q = Q x σ) (h2 : wp k σ Q = Q y σ) : wp (if c then m else k) σ Q = Q (if c then x else y) σ := by
  by_cases h : c
  · rw [if_pos h, if_pos h]; exact h1
  · rw [if_neg h, if_neg h]; exact h2
theorem soX {c d : Int} {σ : St} {Q : Int → St → Prop} : wp (F_X15_signOf c d) σ Q = Q (soB c (decide (d = 61)) (decide (d = 60)) (decide (d = 62))) σ := by
  unfold soB
  rw [F_X15_signOf]
  simp only [decide_eq_true_eq]
  repeat' (first | exact wp_rt | refine wif ?_ ?_)
def TXt (T : Nat → Int) (n : Nat) (τ : St) : Prop := n ≤ 4000 ∧ (∀ k, k < n → -128 ≤ T k ∧ T k ≤ 127) ∧ τ.1 2075 2 = (n : Int) ∧ ∀ k, k < n → τ.1 2076 k = T k
def dX (τ : St) (g : Nat → Int) (h : Nat → Int64) : St := (stA τ.1 2075 g, stA τ.2.1 2075 h, τ.2.2)
theorem dX_id {τ : St} : dX τ (τ.1 2075) (τ.2.1 2075) = τ := by unfold dX; rw [stA_self, stA_self]
def usg (T : Nat → Int) (n k : Nat) : Int := if k < n then T k % 256 else -1
section
variable {τ : St} {g : Nat → Int} {h : Nat → Int64} {k : Nat}
theorem dg {Q : Int → St → Prop} : wp (gI 2075 k) (dX τ g h) Q = Q (g k) (dX τ g h) := by
  rw [wp_gI]; show Q (stA τ.1 2075 g 2075 k) _ = _; rw [stA_eq]
theorem dge {x : Int} (e : g k = x) {Q : Int → St → Prop} : wp (gI 2075 k) (dX τ g h) Q = Q x (dX τ g h) := by rw [dg, e]
theorem dp {v : Int} {Q : Unit → St → Prop} : wp (pI 2075 k v) (dX τ g h) Q = Q () (dX τ (ups g k v) h) := by
  rw [wp_pI]; unfold dX; dsimp only; rw [stA_eq, stA_stA]
theorem dz {v : Int} (h1 : 0 ≤ v) (h2 : v ≤ 1) {Q : Unit → St → Prop} : wp (pZ 2075 k v) (dX τ g h) Q = Q () (dX τ (ups g k v) h) := by
  rw [c_pZ h1 h2]; unfold dX; dsimp only; rw [stA_eq, stA_stA]
theorem dgL {Q : Int64 → St → Prop} : wp (gL 2075 k) (dX τ g h) Q = Q (h k) (dX τ g h) := by
  rw [wp_gL]; show Q (stA τ.2.1 2075 h 2075 k) _ = _; rw [stA_eq]
theorem dpL {v : Int64} {Q : Unit → St → Prop} : wp (pL 2075 k v) (dX τ g h) Q = Q () (dX τ g (ups h k v)) := by
  rw [wp_pL]; unfold dX; dsimp only; rw [stA_eq, stA_stA]
variable {T : Nat → Int} {n : Nat}
theorem dtx (hT : TXt T n τ) (hk : k < n) {Q : Int → St → Prop} : wp (rdB 2076 (k : Int)) (dX τ g h) Q = Q (T k) (dX τ g h) := by
  have := hT.1
  rw [RI_2076 (by omega) (by omega), tn]
  show Q (stA τ.1 2075 g 2076 k) _ = _
  rw [stA_ne (by decide), hT.2.2.2 k hk]
theorem usgX (hT : TXt T n τ) (h2 : g 2 = (n : Int)) {Q : Int → St → Prop} : wp (F_X15_sign (k : Int)) (dX τ g h) Q = Q (usg T n k) (dX τ g h) := by
  rw [F_X15_sign, wp_bd, dge h2]
  unfold usg
  by_cases c : k < n
  · rw [wp_ifn (by omega), if_pos c, wp_bd, dtx hT c, wp_rt, show iand (T k) 255 = T k % 256 from iand_mask (k := 8) (by decide)]
  · rw [wp_ifp (by omega), if_neg c, wp_rt]
end
section
variable {c : Int} {σ : St} {Q : Int → St → Prop}
theorem t97 : (97 : Int64).toInt = 97 := by decide
theorem t122 : (122 : Int64).toInt = 122 := by decide
theorem t65 : (65 : Int64).toInt = 65 := by decide
theorem t90 : (90 : Int64).toInt = 90 := by decide
theorem u48 : (48 : Int64).toInt = 48 := by decide
theorem u57 : (57 : Int64).toInt = 57 := by decide
theorem in15_yy {x y z : Int64} (h : y.toInt ≤ x.toInt ∧ x.toInt ≤ z.toInt) : wp (F_X15_in x y z) σ Q = Q 1 σ := by rw [wp_in15, if_pos h]
theorem in15_nn {x y z : Int64} (h : ¬ (y.toInt ≤ x.toInt ∧ x.toInt ≤ z.toInt)) : wp (F_X15_in x y z) σ Q = Q 0 σ := by rw [wp_in15, if_neg h]
theorem lt15 (hc : -1000 ≤ c ∧ c ≤ 1000) : wp (F_X15_isLetter c) σ Q = Q (if isLt c = true then 1 else 0) σ := by
  have e := i2l_t (x := c) (by omega) (by omega)
  unfold isLt
  rw [F_X15_isLetter, wp_bd]
  by_cases h : 97 ≤ c ∧ c ≤ 122
  · rw [in15_yy (by rw [e, t97, t122]; exact h), wp_ifn (by decide), c_rtZ (by decide) (by decide), if_pos (by rw [decide_eq_true (by omega)])]
  · rw [in15_nn (by rw [e, t97, t122]; exact h), wp_ifp rfl, wp_bd]
    by_cases h2 : 65 ≤ c ∧ c ≤ 90
    · rw [in15_yy (by rw [e, t65, t90]; exact h2), wp_ifn (by decide), c_rtZ (by decide) (by decide), if_pos (by rw [decide_eq_true (by omega)])]
    · rw [in15_nn (by rw [e, t65, t90]; exact h2), wp_ifp rfl, c_rtZ (by decide) (by decide), if_neg (by rw [decide_eq_false (by omega)]; decide)]
theorem dg15 (hc : -1000 ≤ c ∧ c ≤ 1000) : wp (F_X15_isDigit c) σ Q = Q (if isDd c = true then 1 else 0) σ := by
  have e := i2l_t (x := c) (by omega) (by omega)
  unfold isDd
  rw [F_X15_isDigit, wp_bd]
  by_cases h : 48 ≤ c ∧ c ≤ 57
  · rw [in15_yy (by rw [e, u48, u57]; exact h), c_rtZ (by decide) (by decide), if_pos (by rw [decide_eq_true h])]
  · rw [in15_nn (by rw [e, u48, u57]; exact h), c_rtZ (by decide) (by decide), if_neg (by rw [decide_eq_false h]; decide)]
end
theorem lt_u {c : Int} (h : -128 ≤ c ∧ c ≤ 127) : isLt (c % 256) = isLt c := by unfold isLt; exact decide_eq_decide.mpr (by omega)
theorem dd_u {c : Int} (h : -128 ≤ c ∧ c ≤ 127) : isDd (c % 256) = isDd c := by unfold isDd; exact decide_eq_decide.mpr (by omega)
/-- the twin's frame of a token -/
def fd (g g' : Nat → Int) : Prop := ∀ k, (k < 30 ∨ 34 < k) → g' k = g k
theorem fd.refl {g : Nat → Int} : fd g g := fun _ _ => rfl
theorem fd.u {g g' : Nat → Int} (h : fd g g') {k : Nat} (hk : 30 ≤ k ∧ k ≤ 34) {v : Int} : fd g (ups g' k v) := fun j hj => by rw [ups_ne (by omega)]; exact h j hj
theorem fd.tr {a b c : Nat → Int} (h : fd a b) (h' : fd b c) : fd a c := fun k hk => (h' k hk).trans (h k hk)
section
variable {τ : St} {T : Nat → Int} {n : Nat} {g : Nat → Int} {h : Nat → Int64} {q l : Nat}
theorem textM (hT : TXt T n τ) {i : Nat} (hi : i < 12) (hl : q + l ≤ n) {Q : Int → St → Prop} (yes : wmP T q l i → Q 1 (dX τ g h)) (no : ¬ wmP T q l i → Q 0 (dX τ g h)) : wp (F_X15_isText (q : Int) (l : Int) (1000100 + i)) (dX τ g h) Q := by
  have hf := FU_ge
  have hn := hT.1
  have hr := sl_r ⟨i, by omega⟩
  dsimp only at hr
  rw [F_X15_isText, wp_bd, wlen (by omega)]
  by_cases c1 : sl (1000100 + i) = (l : Int)
  · rw [wp_ifp c1.symm, X15_isText_13, wp_lt, wp_lt]
    refine loopM (L := fun f (x : Int × Int) => X15_isText_18 f (q : Int) (l : Int) (1000100 + i) x.1 x.2) (fun m x σ => ∃ k : Nat, x.2 = (k : Int) ∧ k ≤ l ∧ m = l - k ∧ σ = dX τ g h ∧ ((x.1 = 1 ∧ ∀ j, j < k → T (q + j) = sb (1000100 + i) (j : Int)) ∨ (x.1 = 0 ∧ ¬ wmP T q l i))) ?_ FU l (1, 0) _ (by omega) ⟨0, rfl, Nat.zero_le _, rfl, rfl, Or.inl ⟨rfl, fun j hj => absurd hj (Nat.not_lt_zero j)⟩⟩
    rintro f m ⟨x1, x2⟩ σ ⟨k, hx, hk, rfl, rfl, hc⟩ ih
    dsimp only at hx hc
    subst hx
    show wp (X15_isText_18 (f + 1) (q : Int) (l : Int) (1000100 + i) x1 (k : Int)) _ Q
    rw [X15_isText_18]
    rcases hc with ⟨rfl, hc⟩ | ⟨rfl, hc⟩
    · by_cases c2 : k < l
      · rw [wp_ifn (by omega), wp_ifn (by decide), wp_bd, w32_i (by omega) (by omega), show (q : Int) + (k : Int) = ((q + k : Nat) : Int) by omega, dtx hT (by omega), wp_bd, wchr (by omega) (by omega)]
        by_cases c3 : T (q + k) = sb (1000100 + i) (k : Int)
        · rw [wp_ifp c3, X15_isText_52, wp_lt, wp_lt, w32_i (by omega) (by omega)]
          refine ih (l - (k + 1)) (1, (k : Int) + 1) _ (by omega) ⟨k + 1, rfl, by omega, rfl, rfl, Or.inl ⟨rfl, fun j hj => ?_⟩⟩
          by_cases e : j = k
          · subst e; exact c3
          · exact hc j (by omega)
        · rw [wp_ifn c3, X15_isText_52, wp_lt, wp_lt, w32_i (by omega) (by omega)]
          exact ih (l - (k + 1)) (0, (k : Int) + 1) _ (by omega) ⟨k + 1, rfl, by omega, rfl, rfl, Or.inr ⟨rfl, fun hm => c3 (hm.2 k c2)⟩⟩
      · obtain rfl : k = l := by omega
        rw [wp_ifp (by omega), c_rtZ (by decide) (by decide)]
        exact yes ⟨c1, hc⟩
    · by_cases c2 : k < l
      · rw [wp_ifn (by omega), wp_ifp rfl, c_rtZ (by decide) (by decide)]; exact no hc
      · rw [wp_ifp (by omega), c_rtZ (by decide) (by decide)]; exact no hc
  · have hno : ¬ wmP T q l i := fun hm => c1 hm.1
    rw [wp_ifn (fun e => c1 e.symm), X15_isText_13, wp_lt, wp_lt]
    obtain ⟨f', hf'⟩ := FU_s
    rw [hf', X15_isText_18]
    by_cases c2 : 0 < l
    · rw [wp_ifn (by omega), wp_ifp rfl, c_rtZ (by decide) (by decide)]; exact no hno
    · rw [wp_ifp (by omega), c_rtZ (by decide) (by decide)]; exact no hno
theorem wordM (hT : TXt T n τ) (hl : q + l ≤ n) {Q : Int → St → Prop} (go : Q (km (wdF T q l 12 0)) (dX τ g h)) : wp (F_X15_wordOf (q : Int) (l : Int)) (dX τ g h) Q := by
  have y : ∀ {f i : Nat} {v : Int}, wdF T q l 12 0 = wdF T q l (f + 1) i → wmP T q l i → km (3 + (i : Int)) = v → Q v (dX τ g h) := by
    intro f i v e hm hv
    rw [e, wdF_y hm, hv] at go; exact go
  have nx : ∀ {f i : Nat}, wdF T q l 12 0 = wdF T q l (f + 1) i → ¬ wmP T q l i → wdF T q l 12 0 = wdF T q l f (i + 1) := fun e hm => e.trans (wdF_n hm)
  rw [F_X15_wordOf, wp_bd]
  refine textM hT (i := 0) (by decide) hl (fun w => ?_) (fun w => ?_)
  · rw [wp_ifn (by decide), wp_rt]; exact y (f := 11) (i := 0) rfl w (by decide)
  have e1 := nx (f := 11) (i := 0) rfl w
  rw [wp_ifp rfl, wp_bd]
  refine textM hT (i := 1) (by decide) hl (fun w => ?_) (fun w => ?_)
  · rw [wp_ifn (by decide), wp_rt]; exact y e1 w (by decide)
  have e2 := nx e1 w
  rw [wp_ifp rfl, wp_bd]
  refine textM hT (i := 2) (by decide) hl (fun w => ?_) (fun w => ?_)
  · rw [wp_ifn (by decide), wp_rt]; exact y e2 w (by decide)
  have e3 := nx e2 w
  rw [wp_ifp rfl, wp_bd]
  refine textM hT (i := 3) (by decide) hl (fun w => ?_) (fun w => ?_)
  · rw [wp_ifn (by decide), wp_rt]; exact y e3 w (by decide)
  have e4 := nx e3 w
  rw [wp_ifp rfl, wp_bd]
  refine textM hT (i := 4) (by decide) hl (fun w => ?_) (fun w => ?_)
  · rw [wp_ifn (by decide), wp_rt]; exact y e4 w (by decide)
  have e5 := nx e4 w
  rw [wp_ifp rfl, wp_bd]
  refine textM hT (i := 5) (by decide) hl (fun w => ?_) (fun w => ?_)
  · rw [wp_ifn (by decide), wp_rt]; exact y e5 w (by decide)
  have e6 := nx e5 w
  rw [wp_ifp rfl, wp_bd]
  refine textM hT (i := 6) (by decide) hl (fun w => ?_) (fun w => ?_)
  · rw [wp_ifn (by decide), wp_rt]; exact y e6 w (by decide)
  have e7 := nx e6 w
  rw [wp_ifp rfl, wp_bd]
  refine textM hT (i := 7) (by decide) hl (fun w => ?_) (fun w => ?_)
  · rw [wp_ifn (by decide), wp_rt]; exact y e7 w (by decide)
  have e8 := nx e7 w
  rw [wp_ifp rfl, wp_bd]
  refine textM hT (i := 8) (by decide) hl (fun w => ?_) (fun w => ?_)
  · rw [wp_ifn (by decide), wp_rt]; exact y e8 w (by decide)
  have e9 := nx e8 w
  rw [wp_ifp rfl, wp_bd]
  refine textM hT (i := 9) (by decide) hl (fun w => ?_) (fun w => ?_)
  · rw [wp_ifn (by decide), wp_rt]; exact y e9 w (by decide)
  have e10 := nx e9 w
  rw [wp_ifp rfl, wp_bd]
  refine textM hT (i := 10) (by decide) hl (fun w => ?_) (fun w => ?_)
  · rw [wp_ifn (by decide), wp_rt]; exact y e10 w (by decide)
  have e11 := nx e10 w
  rw [wp_ifp rfl, wp_bd]
  refine textM hT (i := 11) (by decide) hl (fun w => ?_) (fun w => ?_)
  · rw [wp_ifn (by decide), wp_rt]; exact y e11 w (by decide)
  have e12 := nx e11 w
  rw [wp_ifp rfl, wp_rt]
  rw [e12] at go
  exact go
/-- the end of a word or number -/
theorem look252 (hT : TXt T n τ) {s0 : Int} (h33 : g 33 = (q : Int)) (h34 : g 34 = (l : Int)) (hl : q + l ≤ n) (hs : s0 = 2 ∨ s0 ≠ 2) {Q : Int → St → Prop} (go : ∀ h', (∀ k, k ≠ 35 → h' k = h k) → (s0 = 2 → h' 35 = nmV T q l) → Q s0 (dX τ (ups g 32 s0) h')) : wp (X15_look_252 s0) (dX τ g h) Q := by
  have hf := FU_ge
  have hn := hT.1
  have g32 : (ups g 32 s0) 32 = s0 := ups_eq
  have g33 : (ups g 32 s0) 33 = (q : Int) := by rw [ups_ne (by decide)]; exact h33
  have g34 : (ups g 32 s0) 34 = (l : Int) := by rw [ups_ne (by decide)]; exact h34
  rw [X15_look_252, wp_bd, dp, wp_bd, dpL, wp_lt]
  have fin : ∀ h', (∀ k, k ≠ 35 → h' k = h k) → (s0 = 2 → h' 35 = nmV T q l) → wp X15_look_393 (dX τ (ups g 32 s0) h') Q := by
    intro h' q1 q2
    rw [X15_look_393, wp_bd, dge g32, wp_rt]
    exact go h' q1 q2
  refine loopM (L := fun f (x : Int) => X15_look_262 f x) (fun m x σ => ∃ (k : Nat) (h' : Nat → Int64), x = (k : Int) ∧ k ≤ l ∧ m = l - k ∧ σ = dX τ (ups g 32 s0) h' ∧ (∀ j, j ≠ 35 → h' j = h j) ∧ h' 35 = nmV T q k) ?_ FU l 0 _ (by omega) ⟨0, _, rfl, Nat.zero_le _, rfl, rfl, fun j hj => ups_ne hj, ups_eq⟩
  rintro f m x σ ⟨k, h', rfl, hk, rfl, rfl, hh, h35⟩ ih
  show wp (X15_look_262 (f + 1) (k : Int)) _ Q
  rw [X15_look_262, wp_bd, dge g34]
  by_cases c1 : k < l
  · rw [wp_ifn (by omega), wp_bd, dge g32]
    by_cases c2 : s0 = 2
    · rw [wp_ifp c2, wp_bd, dgL, h35, wp_bd, dge g33, wp_bd, w32_i (by omega) (by omega), show (q : Int) + (k : Int) = ((q + k : Nat) : Int) by omega, dtx hT (by omega), wp_bd, dpL, wp_lt, w32_i (by omega) (by omega)]
      exact ih (l - (k + 1)) _ _ (by omega) ⟨k + 1, _, rfl, by omega, rfl, rfl, fun j hj => by rw [ups_ne hj]; exact hh j hj, ups_eq⟩
    · rw [wp_ifn c2]
      exact fin h' hh (fun e => absurd e c2)
  · obtain rfl : k = l := by omega
    rw [wp_ifp (by omega)]
    exact fin h' hh (fun _ => h35)
/-- a word or a number -/
theorem look134 (hT : TXt T n τ) (h2 : g 2 = (n : Int)) (h28 : g 28 = 0) (h30 : g 30 = (q : Int)) (h31 : g 31 = 1) (h33 : g 33 = (q : Int)) (hq : q < n) (hc : isLt (T q) = true ∨ isDd (T q) = true) {Q : Int → St → Prop} (yes : ∀ g' h', fd g g' → (∀ k, k ≠ 35 → h' k = h k) → g' 31 = 1 → g' 33 = (q : Int) → g' 30 = ((q + tkL T n q : Nat) : Int) → g' 32 = km (tkK T n q) → g' 34 = (tkL T n q : Int) → (tkK T n q = 2 → h' 35 = nmV T q (tkL T n q)) → tkK T n q ≠ -1 → Q (km (tkK T n q)) (dX τ g' h')) (no : ∀ g', (∀ k, (k < 28 ∨ 34 < k) → g' k = g k) → g' 28 = 1 → g' 29 = (q : Int) → tkK T n q = -1 → Q (-1) (dX τ g' h)) : wp (X15_look_134 FU (T q % 256)) (dX τ g h) Q := by
  have hf := FU_ge
  have hn := hT.1
  have hTq := hT.2.1 q hq
  have cn : ¬ q = n := by omega
  have hlt := lt_u hTq
  have hxor : isLt (T q) = true → isDd (T q) = false := by
    intro w
    unfold isLt at w; unfold isDd
    exact decide_eq_false (by have := of_decide_eq_true w; omega)
  have eL : tkL T n q = rn (fun k => if isLt (T q) = true then isNp (T k) else isDd (T k)) n q := by
    unfold tkL
    rw [if_neg cn]
    by_cases c1 : isLt (T q) = true
    · rw [if_pos c1]; congr 1; funext k; rw [if_pos c1]
    · rw [if_neg c1, if_pos (hc.resolve_left c1)]; congr 1; funext k; rw [if_neg c1]
  have eK : tkK T n q = if 10 < tkL T n q then -1 else if isLt (T q) = true then wdF T q (tkL T n q) 12 0 else 2 := by
    unfold tkK
    rw [if_neg cn]
    by_cases c1 : isLt (T q) = true
    · rw [if_pos c1, if_pos c1]
    · rw [if_neg c1, if_pos (hc.resolve_left c1), if_neg c1]
  refine loopM (L := fun f (_ : Unit) => X15_look_134 f (T q % 256)) (fun m _ σ => ∃ (j : Nat) (g' : Nat → Int), q + j ≤ n ∧ m = n - (q + j) ∧ fd g g' ∧ σ = dX τ g' h ∧ (g' 30 = ((q + j : Nat) : Int) ∧ g' 31 = 1 ∧ g' 33 = (q : Int)) ∧ ∀ i, i < j → (if isLt (T q) = true then isNp (T (q + i)) else isDd (T (q + i))) = true) ?_ FU (n - q) () _ (by omega) ⟨0, g, by omega, rfl, fd.refl, rfl, ⟨h30, h31, h33⟩, fun i hi => absurd hi (Nat.not_lt_zero i)⟩
  rintro f m _ σ ⟨j, g', hj, rfl, hF, rfl, ⟨k30, k31, k33⟩, hP⟩ ih
  have k2 : g' 2 = (n : Int) := (hF 2 (by omega)).trans h2
  have k28 : g' 28 = 0 := (hF 28 (by omega)).trans h28
  show wp (X15_look_134 (f + 1) (T q % 256)) _ Q
  have ur : -1000 ≤ usg T n (q + j) ∧ usg T n (q + j) ≤ 1000 := by unfold usg; split <;> omega
  have nx : q + j < n → (if isLt (T q) = true then isNp (T (q + j)) else isDd (T (q + j))) = true → wp (X15_look_182 (X15_look_134 f) (T q % 256)) (dX τ g' h) Q := by
    intro hlt2 hp
    rw [X15_look_182, wp_bd, dge k30, wp_bd, dp, w32_i (by omega) (by omega)]
    refine ih (n - (q + (j + 1))) () _ (by omega) ⟨j + 1, _, by omega, rfl, hF.u (by decide), rfl, ⟨by rw [ups_eq]; omega, by rw [ups_ne (by decide)]; exact k31, by rw [ups_ne (by decide)]; exact k33⟩, fun i hi => ?_⟩
    by_cases e : i = j
    · subst e; exact hp
    · exact hP i (by omega)
  have fin : (q + j = n ∨ (if isLt (T q) = true then isNp (T (q + j)) else isDd (T (q + j))) = false) → wp (X15_look_195 (T q % 256)) (dX τ g' h) Q := by
    intro ho
    have hl : tkL T n q = j := by rw [eL]; exact rn_eq j q hP hj ho
    rw [hl] at eK yes
    rw [X15_look_195, wp_bd, dge k30, wp_bd, dge k33, wp_bd, dp, w32_i (by omega) (by omega), show ((q + j : Nat) : Int) - (q : Int) = (j : Int) by omega, wp_bd, dge (x := (j : Int)) ups_eq]
    have l33 : (ups g' 34 (j : Int)) 33 = (q : Int) := by rw [ups_ne (by decide)]; exact k33
    have l34 : (ups g' 34 (j : Int)) 34 = (j : Int) := ups_eq
    by_cases c3 : 10 < j
    · rw [if_pos c3] at eK
      rw [wp_ifn (by omega), wp_bd, dge l33, wp_bd, F_X15_fail, wp_bd, dge (x := 0) (by rw [ups_ne (by decide)]; exact k28), wp_ifp rfl, wp_bd, dp, wp_bd, dp, wp_rt, wp_rt]
      refine no _ (fun k hk => ?_) ?_ ?_ eK
      · rw [ups_ne (by omega), ups_ne (by omega), ups_ne (by omega)]; exact hF k (by omega)
      · rw [ups_ne (by decide), ups_eq]
      · rw [ups_eq]
    · rw [if_neg c3] at eK
      rw [wp_ifp (by omega), wp_bd, lt15 (by omega), hlt]
      have post : ∀ K, tkK T n q = K → (K = 1 ∨ K = 2 ∨ (3 ≤ K ∧ K ≤ 14)) → wp (X15_look_252 (km K)) (dX τ (ups g' 34 (j : Int)) h) Q := by
        intro K hK hKr
        have hk2 : km K = 2 ↔ K = 2 := by unfold km; rcases hKr with rfl | rfl | ⟨w1, w2⟩ <;> omega
        refine look252 hT l33 l34 hj (by omega) (fun h' q1 q2 => ?_)
        rw [← hK]
        refine yes _ h' ((hF.u (k := 34) (by decide)).u (k := 32) (by decide)) q1 ?_ ?_ ?_ ?_ ?_ (fun w => q2 (hk2.mpr (by rw [← hK]; exact w))) (by rw [hK]; omega)
        · rw [ups_ne (by decide), ups_ne (by decide)]; exact k31
        · rw [ups_ne (by decide)]; exact l33
        · rw [ups_ne (by decide), ups_ne (by decide)]; exact k30
        · rw [ups_eq]
        · rw [ups_ne (by decide)]; exact l34
      by_cases c1 : isLt (T q) = true
      · rw [if_pos c1] at eK
        rw [if_pos c1, wp_ifn (by decide), wp_bd, dge l33, wp_bd, dge l34, wp_bd]
        refine wordM hT hj ?_
        rw [← eK]
        refine post _ rfl ?_
        rw [eK]
        rcases wdF_r (T := T) (q := q) (l := j) 12 0 with w | ⟨j', w1, w2, w3⟩
        · exact Or.inl w
        · rw [w3]; omega
      · rw [if_neg c1] at eK
        rw [if_neg c1, wp_ifp rfl]
        exact post 2 eK (Or.inr (Or.inl rfl))
  rw [X15_look_134, wp_bd, dge k30, wp_bd, usgX hT k2, wp_bd, dg15 ur]
  by_cases cj : q + j < n
  · have hTj := hT.2.1 (q + j) cj
    have eu : usg T n (q + j) = T (q + j) % 256 := by unfold usg; rw [if_pos cj]
    rw [eu, dd_u hTj]
    by_cases c4 : isDd (T (q + j)) = true
    · rw [if_pos c4, wp_ifn (by decide)]
      refine nx cj ?_
      by_cases c1 : isLt (T q) = true
      · rw [if_pos c1]; unfold isNp; rw [c4, Bool.or_true, Bool.true_or]
      · rw [if_neg c1]; exact c4
    · rw [if_neg c4, wp_ifp rfl, wp_bd, lt15 (by omega), hlt]
      by_cases c1 : isLt (T q) = true
      · rw [if_pos c1, wp_ifn (by decide), wp_bd, dge k30, wp_bd, usgX hT k2, eu, wp_bd, lt15 (by omega), lt_u hTj]
        by_cases c5 : isLt (T (q + j)) = true
        · rw [if_pos c5, wp_ifn (by decide)]
          refine nx cj ?_
          rw [if_pos c1]; unfold isNp; rw [c5, Bool.true_or, Bool.true_or]
        · rw [if_neg c5, wp_ifp rfl, wp_bd, dge k30, wp_bd, usgX hT k2, eu]
          by_cases c6 : T (q + j) = 95
          · rw [wp_ifp (by omega)]
            refine nx cj ?_
            rw [if_pos c1]; unfold isNp; rw [c6]; rfl
          · rw [wp_ifn (by omega)]
            refine fin (Or.inr ?_)
            rw [if_pos c1]; unfold isNp
            rw [Bool.eq_false_iff.mpr c5, Bool.eq_false_iff.mpr c4, decide_eq_false c6]; rfl
      · rw [if_neg c1, wp_ifp rfl]
        refine fin (Or.inr ?_)
        rw [if_neg c1]; exact Bool.eq_false_iff.mpr c4
  · have eu : usg T n (q + j) = -1 := by unfold usg; rw [if_neg cj]
    rw [eu, show isDd (-1) = false from rfl, show (if (false : Bool) = true then (1 : Int) else 0) = 0 from rfl, wp_ifp rfl, wp_bd, lt15 (by omega), hlt]
    by_cases c1 : isLt (T q) = true
    · rw [if_pos c1, wp_ifn (by decide), wp_bd, dge k30, wp_bd, usgX hT k2, eu, wp_bd, lt15 (by decide), show isLt (-1) = false from rfl, show (if (false : Bool) = true then (1 : Int) else 0) = 0 from rfl, wp_ifp rfl, wp_bd, dge k30, wp_bd, usgX hT k2, eu, wp_ifn (by decide)]
      exact fin (Or.inl (by omega))
    · rw [if_neg c1, wp_ifp rfl]
      exact fin (Or.inl (by omega))
end
