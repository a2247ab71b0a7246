set_option maxRecDepth 100000
/-! ===== more numbers ===== -/
theorem bm64 {x : Int} (h1 : -9223372036854775808 ≤ x) (h2 : x ≤ 9223372036854775807) : Int.bmod x (2 ^ 64) = x := by
  have h : ((2 ^ 64 : Nat) : Int) = 18446744073709551616 := rfl
  simp only [Int.bmod, h]
  split <;> omega
theorem lsub_t {x y : Int64} (h1 : -9223372036854775808 ≤ x.toInt - y.toInt) (h2 : x.toInt - y.toInt ≤ 9223372036854775807) : (x - y).toInt = x.toInt - y.toInt := by
  rw [Int64.toInt_sub, bm64 h1 h2]
theorem ladd_t {x y : Int64} (h1 : -9223372036854775808 ≤ x.toInt + y.toInt) (h2 : x.toInt + y.toInt ≤ 9223372036854775807) : (x + y).toInt = x.toInt + y.toInt := by
  rw [Int64.toInt_add, bm64 h1 h2]
theorem l2i_t {x : Int64} (h1 : -2147483648 ≤ x.toInt) (h2 : x.toInt ≤ 2147483647) : l2i x = x.toInt := by
  unfold l2i
  rw [Int64.toInt_toInt32]
  have h : ((2 ^ 32 : Nat) : Int) = 4294967296 := rfl
  simp only [Int.bmod, h]
  split <;> omega
theorem ishl1 {k : Nat} (hk : k < 31) : ishl 1 (k : Int) = ((2 ^ k : Nat) : Int) := by
  have : ∀ j : Fin 31, ishl 1 ((j : Nat) : Int) = ((2 ^ (j : Nat) : Nat) : Int) := by decide +kernel
  exact this ⟨k, hk⟩
theorem and63 (x : Int) : iand x 63 = x % 64 := iand_mask (k := 6) (by decide)
theorem idiv64 {x : Int} (h1 : 0 ≤ x) (h2 : x ≤ 2147483647) : idiv x 64 = x / 64 := idiv_pos h1 h2 (by decide) (by decide)
theorem irem64 {x : Int} (h1 : 0 ≤ x) (h2 : x ≤ 2147483647) : irem x 64 = x % 64 := irem_pos h1 h2 (by decide) (by decide)
theorem ishr6 {x : Int} (h1 : -2147483648 ≤ x) (h2 : x ≤ 2147483647) : ishr x 6 = x / 64 := ishr_div (k := 6) ⟨h1, h2⟩ (by decide)
theorem p2le {n k : Nat} (h : n ≤ k) : 2 ^ n ≤ 2 ^ k := Nat.pow_le_pow_right (by decide) h
/-! ===== the values of a net for some leaves ===== -/
theorem rnK_low {N : NetV} {st : Nat} {as : Int64} {v : Nat → Int64} : ∀ k i, i < v_i N + v_l N + 1 → rnK N st as k v i = v i
  | 0, _, _ => rfl
  | k + 1, i, hi => by rw [rnK_succ, ups_ne (by omega)]; exact rnK_low k i hi
theorem rnK_congr {N : NetV} (hw : netW N) {st : Nat} {as : Int64} {v v' : Nat → Int64} (h : ∀ i, i < v_i N + v_l N + 1 → v i = v' i) : ∀ k, k ≤ v_a N → ∀ i, i < v_i N + v_l N + 1 + k → rnK N st as k v i = rnK N st as k v' i
  | 0, _, i, hi => h i hi
  | k + 1, hk, i, hi => by
    have ih := rnK_congr (st := st) (as := as) hw h k (by omega)
    have h2 := hw.2.1 k (by omega)
    rw [rnK_succ, rnK_succ]
    by_cases e : i = v_i N + v_l N + 1 + k
    · subst e
      have e1 : ofV (rnK N st as k v) (v_lo N k) = ofV (rnK N st as k v') (v_lo N k) := by unfold ofV; rw [ih (v_lo N k / 2) (by omega)]
      have e2 : ofV (rnK N st as k v) (v_hi N k) = ofV (rnK N st as k v') (v_hi N k) := by unfold ofV; rw [ih (v_hi N k / 2) (by omega)]
      rw [ups_eq, ups_eq, e1, e2]
    · rw [ups_ne e, ups_ne e]
      exact ih i (by omega)
/-- good values, and with one variable stuck -/
def gv (N : NetV) (L : Nat → Int64) : Nat → Int64 := rnK N 0 0 (v_a N) L
def sv (N : NetV) (L : Nat → Int64) (st : Nat) (as : Int64) : Nat → Int64 := rnK N st as (v_a N) (if st < v_i N + v_l N + 1 then ups L st as else L)
/-- what the leaves have in word w -/
def wl (N : NetV) (w : Nat) : Nat → Int64 := lvK w (v_i N + v_l N) (fun _ => 0)
theorem wl0 {N : NetV} {w : Nat} : wl N w 0 = 0 := by unfold wl lvK; rw [if_neg (by omega)]
/-- of two rows of values: in which bits some of the first k roots differ -/
def dfK (v v' : Nat → Int64) (r r' : Nat → Nat) : Nat → Int64
  | 0 => 0
  | k + 1 => dfK v v' r r' k ||| (ofV v (r k) ^^^ ofV v' (r' k))
theorem dfK_succ (v v' : Nat → Int64) (r r' : Nat → Nat) (k : Nat) : dfK v v' r r' (k + 1) = dfK v v' r r' k ||| (ofV v (r k) ^^^ ofV v' (r' k)) := rfl
theorem ofV_congr {v v' : Nat → Int64} {n b : Nat} (h : ∀ i, i < n → v i = v' i) (hb : b < 2 * n) : ofV v b = ofV v' b := by unfold ofV; rw [h (b / 2) (by omega)]
theorem dfK_congr {v v' u u' : Nat → Int64} {r r' : Nat → Nat} {n n' : Nat} (h : ∀ i, i < n → v i = u i) (h' : ∀ i, i < n' → v' i = u' i) : ∀ k, (∀ j, j < k → r j < 2 * n ∧ r' j < 2 * n') → dfK v v' r r' k = dfK u u' r r' k
  | 0, _ => rfl
  | k + 1, hr => by
    rw [dfK_succ, dfK_succ, dfK_congr h h' k (fun j hj => hr j (by omega)), ofV_congr h (hr k (by omega)).1, ofV_congr h' (hr k (by omega)).2]
/-- the bits in which a fault is seen -/
def fAs (f : Nat) : Int64 := if f % 2 = 1 then -1 else 0
def dfF (N : NetV) (L : Nat → Int64) (f : Nat) : Int64 := dfK (gv N L) (sv N L (f / 2 + 1) (fAs f)) (rootV N) (rootV N) (v_o N + v_l N)
theorem neg_rem {f : Nat} (hf : f < 100000) : (-(i2l (irem (f : Int) 2))) = fAs f := by
  rw [irem_pos (by omega) (by omega) (by decide) (by decide), show ((f : Int) % 2) = ((f % 2 : Nat) : Int) by omega, neg_bit (Nat.mod_lt _ (by decide))]
  rfl
theorem difX {o : Nat} (ho : isN o) {N : NetV} {σ : St} (hX : netX σ o N) (hw : netW N) {L : Nat → Int64} (h0 : L 0 = 0) (hg : ∀ i, i < v_i N + v_l N + 1 + v_a N → σ.2.1 101 i = gv N L i) {f : Nat} (hf : f < 2 * (v_i N + v_l N + v_a N)) : ∃ g, F_X12_difference o (f : Int) σ = some (dfF N L f, σ.1, stA σ.2.1 103 g, σ.2.2) := by
  have hb := hw.1
  have hfu := FU_ge
  have hX2 : ∀ g, netX (σ.1, stA σ.2.1 103 g, σ.2.2) o N := fun g => hX
  have e1 : idiv (f : Int) 2 = ((f / 2 : Nat) : Int) := by rw [idiv_pos (by omega) (by omega) (by decide) (by decide)]; omega
  have r2 := run7s (w := 102) L103 ho (hX2 (cpy (σ.2.1 101) 1 (σ.2.1 103) 1 (v_i N + v_l N))) hw (st := f / 2 + 1) (by omega) (by omega) (as := fAs f)
  rw [show ((f / 2 + 1 : Nat) : Int) = ((f / 2 : Nat) : Int) + 1 by omega] at r2
  dsimp only at r2
  rw [stA_eq, stA_stA] at r2
  refine ⟨rnK N (f / 2 + 1) (fAs f) (v_a N) (if f / 2 + 1 < v_i N + v_l N + 1 then ups (ups (cpy (σ.2.1 101) 1 (σ.2.1 103) 1 (v_i N + v_l N)) 0 0) (f / 2 + 1) (fAs f) else ups (cpy (σ.2.1 101) 1 (σ.2.1 103) 1 (v_i N + v_l N)) 0 0), wp_eq ?_⟩
  have hs : ∀ i, i < v_i N + v_l N + 1 + v_a N → rnK N (f / 2 + 1) (fAs f) (v_a N) (if f / 2 + 1 < v_i N + v_l N + 1 then ups (ups (cpy (σ.2.1 101) 1 (σ.2.1 103) 1 (v_i N + v_l N)) 0 0) (f / 2 + 1) (fAs f) else ups (cpy (σ.2.1 101) 1 (σ.2.1 103) 1 (v_i N + v_l N)) 0 0) i = sv N L (f / 2 + 1) (fAs f) i := by
    have base : ∀ i, i < v_i N + v_l N + 1 → ups (cpy (σ.2.1 101) 1 (σ.2.1 103) 1 (v_i N + v_l N)) 0 0 i = L i := by
      intro i hi
      by_cases e : i = 0
      · subst e; rw [ups_eq, h0]
      · rw [ups_ne e]
        unfold cpy
        rw [if_pos (by omega), show 1 + (i - 1) = i by omega, hg i (by omega)]
        exact rnK_low _ i hi
    refine rnK_congr hw (fun i hi => ?_) (v_a N) (Nat.le_refl _)
    by_cases e : f / 2 + 1 < v_i N + v_l N + 1
    · rw [if_pos e, if_pos e]
      by_cases e2 : i = f / 2 + 1
      · subst e2; rw [ups_eq, ups_eq]
      · rw [ups_ne e2, ups_ne e2]; exact base i hi
    · rw [if_neg e, if_neg e]; exact base i hi
  generalize (rnK N (f / 2 + 1) (fAs f) (v_a N) (if f / 2 + 1 < v_i N + v_l N + 1 then ups (ups (cpy (σ.2.1 101) 1 (σ.2.1 103) 1 (v_i N + v_l N)) 0 0) (f / 2 + 1) (fAs f) else ups (cpy (σ.2.1 101) 1 (σ.2.1 103) 1 (v_i N + v_l N)) 0 0)) = G at hs r2 ⊢
  simp (disch := omega) only [F_X12_difference, F_X14_leaves, wp_bd, wp_rt, wp_lt, wp_ite, wp_gI, wp_cpL, stA_eq, stA_ne, stA_stA, w32_i, L101, L103, tn, hX.1.1, hX.1.2.1, e1, neg_rem, show ((1 : Int).toNat) = 1 from rfl, show ((v_i N : Int) + (v_l N : Int)).toNat = v_i N + v_l N by omega, wp_some r2]
  refine ⟨⟨⟨⟨by decide +kernel, by decide +kernel⟩, by omega, by omega, by omega⟩, by rw [show (lay 101).2 = 4265 by decide +kernel]; omega, by rw [show (lay 103).2 = 4265 by decide +kernel]; omega⟩, ?_⟩
  refine loopI (L := fun f (x : Int) (d : Int64) => X12_difference_46 f o d x) (fun j d τ => d = dfK (gv N L) (sv N L (f / 2 + 1) (fAs f)) (rootV N) (rootV N) j ∧ τ = (σ.1, stA σ.2.1 103 G, σ.2.2)) 0 (v_o N + v_l N) ?_ ?_ FU 0 0 _ (by omega) (by omega) (by omega) ⟨rfl, rfl⟩
  · rintro f2 j d τ - hj ⟨rfl, rfl⟩ ih
    have h1 := rootV_lt hw hj
    simp (disch := omega) only [X12_difference_46, F_X14_roots, wp_bd, wp_rt, wp_lt, wp_gI, wp_ite, hX.1.2.1, hX.1.2.2.2, w32_i, wp_root ho (hX2 G) hw hj, wp_of7 (w := 100) L101 (show rootV N j < 8530 by omega), wp_of7 (w := 102) L103 (show rootV N j < 8530 by omega), stA_eq, stA_ne]
    rw [if_neg (by omega)]
    refine ih _ _ ⟨?_, rfl⟩
    rw [dfK_succ, ofV_congr hs h1, ofV_congr hg h1]
  · rintro f2 d τ ⟨rfl, rfl⟩
    simp (disch := omega) only [X12_difference_46, F_X14_roots, wp_bd, wp_rt, wp_lt, wp_gI, wp_ite, hX.1.2.1, hX.1.2.2.2, w32_i]
    rw [if_pos (by omega)]
    (repeat' (first | (refine And.intro ?_ ?_) | omega | rfl | trivial))
theorem fin15 {s : Nat} (hs : s < 5) {N : NetV} {σ : St} (hM : netM σ s N) (hw : netW N) {u v : Nat → Int64} (hu : ∀ i, i < v_i N + v_l N + 1 + v_a N → σ.2.1 2165 i = u i) (hv : ∀ i, i < v_i N + v_l N + 1 + v_a N → σ.2.1 2166 i = v i) : F_X15_finds (s : Int) σ = some (dfK u v (rootV N) (rootV N) (v_o N + v_l N), σ) := by
  have hb := hw.1
  have hfu := FU_ge
  apply wp_eq
  simp only [F_X15_finds, wp_lt]
  refine loopI (L := fun f (x : Int) (d : Int64) => X15_finds_5 f (s : Int) d x) (fun j d τ => d = dfK u v (rootV N) (rootV N) j ∧ τ = σ) 0 (v_o N + v_l N) ?_ ?_ FU 0 0 _ (by omega) (by omega) (by omega) ⟨rfl, rfl⟩
  · rintro f2 j d τ - hj ⟨rfl, rfl⟩ ih
    have h1 := rootV_lt hw hj
    simp (disch := omega) only [X15_finds_5, wp_bd, wp_rt, wp_lt, wp_ite, wp_rdI, stA_eq, stA_ne, stA_stA, w32_i, L2143, L2145, tn, hM.1.2.1, hM.1.2.2.2, wp_endOf hs hM hw hj, wp_of15 L2165 (show rootV N j < 8530 by omega), wp_of15 L2166 (show rootV N j < 8530 by omega)]
    rw [if_neg (by omega)]
    refine ⟨by omega, by omega, ih _ _ ⟨?_, rfl⟩⟩
    rw [dfK_succ, ofV_congr hu h1, ofV_congr hv h1]
  · rintro f2 d τ ⟨rfl, rfl⟩
    simp (disch := omega) only [X15_finds_5, wp_bd, wp_rt, wp_lt, wp_ite, wp_rdI, stA_eq, stA_ne, stA_stA, w32_i, L2143, L2145, tn, hM.1.2.1, hM.1.2.2.2]
    rw [if_pos (by omega)]
    (repeat' (first | (refine And.intro ?_ ?_) | omega | rfl | trivial))
