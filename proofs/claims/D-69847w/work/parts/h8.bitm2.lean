set_option maxRecDepth 100000
set_option maxHeartbeats 400000
/-! ===== bits: the twin's loops over bits ===== -/
theorem ishl_f : ∀ j : Fin 31, ishl 1 ((j : Nat) : Int) = ((2 ^ (j : Nat) : Nat) : Int) := by decide +kernel
theorem ishl_n1 {k : Nat} (hk : k < 31) : ishl 1 (k : Int) = ((2 ^ k : Nat) : Int) := ishl_f ⟨k, hk⟩
section
variable {i l p : Nat} {σ0 σ : St} {B : NB} {α : Type} {Q : α → St → Prop}
theorem sumT (hi : i ≤ 64 ∧ l ≤ 200) (h : KT i l σ0 σ B p) {a b w t : Nat} (ht : t ≤ 1) {x y o : Nat → Nat} (hw : w ≤ 32) (hx : ltA (i + l) B w x) (hy : ltA (i + l) B w y) (ha : a + w ≤ p ∧ ∀ j, j < w → σ.1 2153 (a + j) = (x j : Int)) (hb : b + w ≤ p ∧ ∀ j, j < w → ixor (σ.1 2153 (b + j)) (t : Int) = (y j : Int)) (hp : p + w ≤ 200000) {g : Unit → St → Option (α × St)} (hQ : ∀ τ, KT i l σ0 τ (smB (i + l) w x y t o B).2 (p + w) → PL (σ.1 2153) (τ.1 2153) p w (smB (i + l) w x y t o B).1 → wp (g ()) τ Q) : wp (bd (F_X15_addBits (a : Int) (b : Int) (t : Int) (w : Int)) g) σ Q := by
  have hF := FU_ge
  have ht1 : ltB (i + l) B t := by unfold ltB; omega
  rw [wp_bd, F_X15_addBits, wp_lt, wp_lt]
  refine lpT (f := smS (i + l) w x y) (x0 := (o, t)) (B0 := B) (w := w) (L := fun m j s => X15_addBits_6 m (a : Int) (b : Int) (t : Int) (w : Int) (s.2 : Int) (j : Int)) (I := fun j s B' τ => KT i l σ0 τ B' (p + j) ∧ goB (i + l) B B' ∧ ltB (i + l) B' s.2 ∧ PL (σ.1 2153) (τ.1 2153) p j s.1) ?_ ?_ (show w < FU by omega) ⟨h, goB.refl h.2.1, ht1, PL.init⟩
  · rintro m j s B' τ hj ⟨k1, k2, k3, k4⟩ ih
    show wp (X15_addBits_6 (m + 1) (a : Int) (b : Int) (t : Int) (w : Int) (s.2 : Int) (j : Int)) τ _
    have hyj := k2.lt (hy j hj)
    have hxj := k2.lt (hx j hj)
    rw [X15_addBits_6, wp_ifn (by omega), wp_bd, wN (by omega), RI_2153 (by omega) (by omega), tn, k4.1 (a + j) (by omega), ha.2 j hj, wp_lt, wp_bd, wN (by omega), RI_2153 (by omega) (by omega), tn, k4.1 (b + j) (by omega), wp_lt, hb.2 j hj]
    refine tXor hi k1 hxj hyj (fun υ a1 a2 a3 a4 => ?_)
    rw [wp_lt]
    refine tXor hi a1 a3 (a2.lt k3) (fun υ2 b1 b2 b3 b4 => ?_)
    refine tPush b1 (by omega) (fun υ3 c1 c2 => ?_)
    have pl : PL (σ.1 2153) (υ3.1 2153) p (j + 1) (ups s.1 j (xorB (i + l) (xorB (i + l) (x j) (y j) B').1 s.2 (xorB (i + l) (x j) (y j) B').2).1) := by rw [c2, b4, a4]; exact k4.up
    by_cases e : j + 1 = w
    · rw [smS_e e] at ih
      dsimp only at ih
      rw [wp_ifp (by rw [wN1 (by omega)]; omega), X15_addBits_98, wp_lt, wN1 (by omega)]
      exact ih _ ⟨c1, (k2.trans a2).trans b2, (a2.trans b2).lt k3, pl⟩
    · rw [smS_n e] at ih
      dsimp only at ih
      rw [wp_ifn (by rw [wN1 (by omega)]; omega)]
      refine tAnd hi c1 ((a2.trans b2).lt hxj) ((a2.trans b2).lt hyj) (fun υ4 d1 d2 d3 d4 => ?_)
      rw [wp_lt]
      refine tAnd hi d1 ((b2.trans d2).lt a3) (((a2.trans b2).trans d2).lt k3) (fun υ5 e1 e2 e3 e4 => ?_)
      rw [wp_lt]
      refine tOr hi e1 (e2.lt d3) e3 (fun υ6 f1 f2 f3 f4 => ?_)
      rw [wp_lt, X15_addBits_98, wp_lt, wN1 (by omega)]
      exact ih _ ⟨f1, ((((k2.trans a2).trans b2).trans d2).trans e2).trans f2, f3, by rw [f4, e4, d4]; exact pl⟩
  · rintro m τ ⟨k1, k2, k3, k4⟩
    show wp (X15_addBits_6 (m + 1) (a : Int) (b : Int) (t : Int) (w : Int) _ (w : Int)) τ _
    rw [X15_addBits_6, wp_ifp (by omega), wp_rt]
    exact hQ τ k1 k4
/-- a partial product -/
theorem ptT (hi : i ≤ 64 ∧ l ≤ 200) (h : KT i l σ0 σ B p) {a b w ii : Nat} {x y : Nat → Nat} (hw : w ≤ 32) (hii : ii < w) (hx : ltA (i + l) B w x) (hy : ltA (i + l) B w y) (ha : a + w ≤ p ∧ ∀ j, j < w → σ.1 2153 (a + j) = (x j : Int)) (hb : b + w ≤ p ∧ ∀ j, j < w → σ.1 2153 (b + j) = (y j : Int)) (hp : p + w ≤ 200000) {rec : Int → Int → Int → Int → Int → St → Option (α × St)} {F : Int → Int → Int → Int → Int → Int → St → Option (α × St)} {G : Nat → Int → Int → Int → Int → Int → Int → Int → St → Option (α × St)} {H : Int → Int → Int → Int → Int → Int → St → Option (α × St)} {J : Nat → Int → Int → Int → Int → Int → Int → Int → St → Option (α × St)} (eG : ∀ m x1 x2 x3 x4 x5 x6 x7, G (m + 1) x1 x2 x3 x4 x5 x6 x7 = if x5 ≤ x7 then H x1 x2 x3 x4 x5 x6 else bd (F_X15_push 0) fun _ => lt (w32 (x7 + 1)) fun x7_1 => G m x1 x2 x3 x4 x5 x6 x7_1) (eH : ∀ x1 x2 x3 x4 x5 x6, H x1 x2 x3 x4 x5 x6 = lt 0 fun x7_1 => J FU x1 x2 x3 x4 x5 x6 x7_1) (eJ : ∀ n x1 x2 x3 x4 x5 x6 x7, J (n + 1) x1 x2 x3 x4 x5 x6 x7 = if x3 ≤ (w32 (x7 + x5)) then (F x1 x2 x3 x4 x5 x6) else bd (rdI 2153 (w32 (x2 + x5))) fun v1 => bd (rdI 2153 (w32 (x1 + x7))) fun v2 => bd (F_X15_and v1 v2) fun v3 => bd (F_X15_push v3) fun _ => lt (w32 (x7 + 1)) fun x7_4 => J n x1 x2 x3 x4 x5 x6 x7_4) {s : Int} (hQ : ∀ τ, KT i l σ0 τ (ptB (i + l) w ii x y B).2 (p + w) → PL (σ.1 2153) (τ.1 2153) p w (ptB (i + l) w ii x y B).1 → wp (F (a : Int) (b : Int) (w : Int) s (ii : Int) (p : Int)) τ Q) : wp (G FU (a : Int) (b : Int) (w : Int) s (ii : Int) (p : Int) 0) σ Q := by
  have hF := FU_ge
  refine lpN (w := ii) (L := fun m j => G m (a : Int) (b : Int) (w : Int) s (ii : Int) (p : Int) (j : Int)) (I := fun j τ => KT i l σ0 τ B (p + j) ∧ PL (σ.1 2153) (τ.1 2153) p j (fun _ => 0)) ?_ ?_ (show ii < FU by omega) ⟨h, PL.init⟩
  · rintro m j τ hj ⟨k1, k2⟩ ih
    show wp (G (m + 1) (a : Int) (b : Int) (w : Int) s (ii : Int) (p : Int) (j : Int)) τ Q
    rw [eG, wp_ifn (by omega)]
    refine tPush k1 (by omega) (fun υ a1 a2 => ?_)
    rw [wp_lt, wN1 (by omega)]
    exact ih _ ⟨a1, by rw [a2]; exact k2.up' (o := fun _ => 0)⟩
  · rintro m τ ⟨k1, k2⟩
    show wp (G (m + 1) (a : Int) (b : Int) (w : Int) s (ii : Int) (p : Int) (ii : Int)) τ Q
    rw [eG, wp_ifp (by omega), eH, wp_lt]
    refine lpT (f := fun k p B => (ups p (k + ii) (andB (i + l) (y ii) (x k) B).1, (andB (i + l) (y ii) (x k) B).2)) (x0 := fun _ => 0) (B0 := B) (w := w - ii) (L := fun m j _ => J m (a : Int) (b : Int) (w : Int) s (ii : Int) (p : Int) (j : Int)) (I := fun j o B' τ' => KT i l σ0 τ' B' (p + (j + ii)) ∧ goB (i + l) B B' ∧ PL (σ.1 2153) (τ'.1 2153) p (j + ii) o) ?_ ?_ (show w - ii < FU by omega) ⟨by rw [Nat.zero_add]; exact k1, goB.refl h.2.1, by rw [Nat.zero_add]; exact k2⟩
    · rintro m j o B' τ' hj ⟨j1, j2, j3⟩ ih
      show wp (J (m + 1) (a : Int) (b : Int) (w : Int) s (ii : Int) (p : Int) (j : Int)) τ' Q
      rw [eJ, wp_ifn (by rw [wN (by omega)]; omega), wp_bd, wN (a := b) (by omega), RI_2153 (by omega) (by omega), tn, j3.1 _ (by omega), hb.2 ii hii, wp_bd, wN (a := a) (by omega), RI_2153 (by omega) (by omega), tn, j3.1 _ (by omega), ha.2 j (by omega)]
      refine tAnd hi j1 (j2.lt (hy ii hii)) (j2.lt (hx j (by omega))) (fun υ a1 a2 a3 a4 => ?_)
      refine tPush a1 (by omega) (fun υ2 b1 b2 => ?_)
      rw [wp_lt, wN1 (by omega)]
      exact ih _ ⟨by rw [show j + 1 + ii = j + ii + 1 by omega]; exact b1, j2.trans a2, by rw [show j + 1 + ii = j + ii + 1 by omega, b2, a4]; exact j3.up⟩
    · rintro m τ' ⟨j1, j2, j3⟩
      show wp (J (m + 1) (a : Int) (b : Int) (w : Int) s (ii : Int) (p : Int) ((w - ii : Nat) : Int)) τ' Q
      rw [show w - ii + ii = w by omega] at j1 j3
      rw [eJ, wp_ifp (by rw [wN (by omega)]; omega)]
      exact hQ τ' j1 j3
theorem mlT (hi : i ≤ 64 ∧ l ≤ 200) (h : KT i l σ0 σ B p) {a b w : Nat} {x y : Nat → Nat} (hw : w ≤ 32) (hx : ltA (i + l) B w x) (hy : ltA (i + l) B w y) (ha : a + w ≤ p ∧ ∀ j, j < w → σ.1 2153 (a + j) = (x j : Int)) (hb : b + w ≤ p ∧ ∀ j, j < w → σ.1 2153 (b + j) = (y j : Int)) (hp : p + 3 * w ≤ 200000) {g : Unit → St → Option (α × St)} (hQ : ∀ τ, KT i l σ0 τ (mlB (i + l) w x y B).2 (p + w) → PL (σ.1 2153) (τ.1 2153) p w (mlB (i + l) w x y B).1 → wp (g ()) τ Q) : wp (bd (F_X15_timesBits (a : Int) (b : Int) (w : Int)) g) σ Q := by
  have hF := FU_ge
  rw [wp_bd, F_X15_timesBits, wp_bd, wp_gI, h.2.2.2, wp_lt, wp_lt]
  refine lpN (w := w) (L := fun m j => X15_timesBits_9 m (a : Int) (b : Int) (w : Int) (p : Int) (j : Int)) (I := fun j τ => KT i l σ0 τ B (p + j) ∧ PL (σ.1 2153) (τ.1 2153) p j (fun _ => 0)) ?_ ?_ (show w < FU by omega) ⟨h, PL.init⟩
  · rintro m j τ hj ⟨k1, k2⟩ ih
    show wp (X15_timesBits_9 (m + 1) (a : Int) (b : Int) (w : Int) (p : Int) (j : Int)) τ _
    rw [X15_timesBits_9, wp_ifn (by omega)]
    refine tPush k1 (by omega) (fun υ a1 a2 => ?_)
    rw [wp_lt, wN1 (by omega)]
    exact ih _ ⟨a1, by rw [a2]; exact k2.up' (o := fun _ => 0)⟩
  · rintro m τ ⟨k1, k2⟩
    show wp (X15_timesBits_9 (m + 1) (a : Int) (b : Int) (w : Int) (p : Int) (w : Int)) τ _
    rw [X15_timesBits_9, wp_ifp (by omega), X15_timesBits_26, wp_lt]
    refine lpT (f := fun ii o B => let p := ptB (i + l) w ii x y B; smB (i + l) w o p.1 0 o p.2) (x0 := fun _ => 0) (B0 := B) (w := w) (L := fun m j _ => X15_timesBits_29 m (a : Int) (b : Int) (w : Int) (p : Int) (j : Int)) (I := fun j o B' τ' => KT i l σ0 τ' B' (p + w) ∧ goB (i + l) B B' ∧ ltA (i + l) B' w o ∧ PL (σ.1 2153) (τ'.1 2153) p w o) ?_ ?_ (show w < FU by omega) ⟨k1, goB.refl h.2.1, fun _ _ => ltB0, k2⟩
    · rintro m j o B' τ' hj ⟨j1, j2, j3, j4⟩ ih
      show wp (X15_timesBits_29 (m + 1) (a : Int) (b : Int) (w : Int) (p : Int) (j : Int)) τ' _
      have pg := ptB_go (w := w) (i := j) j2.1 (by omega) (j2.la hx) (j2.lt (hy j hj))
      have sg := smB_go (w := w) (o := o) pg.1.1 (pg.1.la j3) pg.2 (k := 0) ltB0
      rw [X15_timesBits_29, wp_ifn (by omega), wp_bd, wp_gI, j1.2.2.2, wp_lt, wp_lt]
      refine ptT hi j1 (F := X15_timesBits_106 (X15_timesBits_29 m)) (G := X15_timesBits_44 (X15_timesBits_29 m)) (H := X15_timesBits_62 (X15_timesBits_29 m)) (J := X15_timesBits_65 (X15_timesBits_29 m)) (rec := X15_timesBits_29 m) hw hj (j2.la hx) (j2.la hy) ⟨by omega, fun q hq => by rw [j4.1 _ (by omega)]; exact ha.2 q hq⟩ ⟨by omega, fun q hq => by rw [j4.1 _ (by omega)]; exact hb.2 q hq⟩ (by omega) (fun m x1 x2 x3 x4 x5 x6 x7 => by rw [X15_timesBits_44]) (fun x1 x2 x3 x4 x5 x6 => by rw [X15_timesBits_62]) (fun n x1 x2 x3 x4 x5 x6 x7 => by rw [X15_timesBits_65]) (fun υ a1 a2 => ?_)
      rw [X15_timesBits_106, wp_bd, wp_gI, a1.2.2.2, wp_lt]
      refine sumT (t := 0) (o := o) hi a1 (by decide) hw (pg.1.la j3) pg.2 ⟨by omega, fun q hq => by rw [a2.1 _ (by omega)]; exact j4.2 q hq⟩ ⟨by omega, fun q hq => by rw [a2.2 q hq]; exact ixor0 (by have := ltB_b pg.1.1 (by omega) (pg.2 q hq); omega)⟩ (by omega) (fun υ2 b1 b2 => ?_)
      refine tSettle b1 (by omega) (by omega) (fun υ3 c1 c2 c3 => ?_)
      rw [wp_lt, wN1 (by omega)]
      refine ih _ ⟨c1, (j2.trans pg.1).trans sg.1, sg.2, fun k hk => ?_, fun k hk => ?_⟩
      · rw [c2 k hk, b2.1 k (by omega), a2.1 k (by omega)]; exact j4.1 k hk
      · rw [c3 k hk]; exact b2.2 k hk
    · rintro m τ' ⟨j1, j2, j3, j4⟩
      show wp (X15_timesBits_29 (m + 1) (a : Int) (b : Int) (w : Int) (p : Int) (w : Int)) τ' _
      rw [X15_timesBits_29, wp_ifp (by omega), wp_rt]
      exact hQ τ' j1 j4
/-- alike, bit by bit -/
theorem smeT (hi : i ≤ 64 ∧ l ≤ 200) (h : KT i l σ0 σ B p) {op a b w : Nat} (hop : op ≠ 15) {x y : Nat → Nat} (hw : w ≤ 32) (hx : ltA (i + l) B w x) (hy : ltA (i + l) B w y) (ha : a + w ≤ 200000 ∧ ∀ j, j < w → σ.1 2153 (a + j) = (x j : Int)) (hb : b + w ≤ 200000 ∧ ∀ j, j < w → σ.1 2153 (b + j) = (y j : Int)) {g : Int → St → Option (α × St)} (hQ : ∀ τ, KT i l σ0 τ (lpB (cpS (i + l) op x y) w 0 1 B).2 p → ltB (i + l) (lpB (cpS (i + l) op x y) w 0 1 B).2 (lpB (cpS (i + l) op x y) w 0 1 B).1 → τ.1 2153 = σ.1 2153 → wp (g ((lpB (cpS (i + l) op x y) w 0 1 B).1 : Int)) τ Q) : wp (bd (F_X15_sameBits (a : Int) (b : Int) (w : Int)) g) σ Q := by
  have hF := FU_ge
  rw [wp_bd, F_X15_sameBits, wp_lt, wp_lt]
  refine lpT (f := cpS (i + l) op x y) (x0 := 1) (B0 := B) (w := w) (L := fun m j s => X15_sameBits_6 m (a : Int) (b : Int) (w : Int) (s : Int) (j : Int)) (I := fun j s B' τ => KT i l σ0 τ B' p ∧ goB (i + l) B B' ∧ ltB (i + l) B' s ∧ τ.1 2153 = σ.1 2153) ?_ ?_ (show w < FU by omega) ⟨h, goB.refl h.2.1, ltB1, rfl⟩
  · rintro m j s B' τ hj ⟨k1, k2, k3, k4⟩ ih
    show wp (X15_sameBits_6 (m + 1) (a : Int) (b : Int) (w : Int) (s : Int) (j : Int)) τ _
    rw [cpS_n hop] at ih
    rw [X15_sameBits_6, wp_ifn (by omega), wp_bd, wN (by omega), RI_2153 (by omega) (by omega), tn, k4, ha.2 j hj, wp_bd, wN (by omega), RI_2153 (by omega) (by omega), tn, k4, hb.2 j hj]
    refine tXor hi k1 (k2.lt (hx j hj)) (k2.lt (hy j hj)) (fun υ a1 a2 a3 a4 => ?_)
    rw [ixor1 (ltB_lt a1.2.1 (by omega) a3)]
    refine tAnd hi a1 (a2.lt k3) (ltB_ng a3) (fun υ2 b1 b2 b3 b4 => ?_)
    rw [wp_lt, wp_lt, wN1 (by omega)]
    exact ih _ ⟨b1, (k2.trans a2).trans b2, b3, by rw [b4, a4]; exact k4⟩
  · rintro m τ ⟨k1, k2, k3, k4⟩
    show wp (X15_sameBits_6 (m + 1) (a : Int) (b : Int) (w : Int) _ (w : Int)) τ _
    rw [X15_sameBits_6, wp_ifp (by omega), wp_rt]
    exact hQ τ k1 k3 k4
/-- whether an address is a number -/
theorem isT (hi : i ≤ 64 ∧ l ≤ 200) (h : KT i l σ0 σ B p) {a w k : Nat} {x : Nat → Nat} (hw : w ≤ 32) (hk : k < 64) (hx : ltA (i + l) B w x) (ha : a + w ≤ 200000 ∧ ∀ j, j < w → σ.1 2153 (a + j) = (x j : Int)) {g : Int → St → Option (α × St)} (hQ : ∀ τ, KT i l σ0 τ (isB (i + l) w k x B).2 p → τ.1 2153 = σ.1 2153 → wp (g ((isB (i + l) w k x B).1 : Int)) τ Q) : wp (bd (F_X15_isNumber (a : Int) (w : Int) (k : Int)) g) σ Q := by
  have hF := FU_ge
  have main : k < 2 ^ w → wp (X15_isNumber_15 (a : Int) (w : Int) (k : Int)) σ (fun v τ => wp (g v) τ Q) := by
    intro hkw
    have hd : isB (i + l) w k x B = lpB (isS1 (i + l) k x) w 0 1 B := if_pos hkw
    rw [hd] at hQ
    rw [X15_isNumber_15, wp_lt, wp_lt]
    refine lpT (f := isS1 (i + l) k x) (x0 := 1) (B0 := B) (w := w) (L := fun m j s => X15_isNumber_21 m (a : Int) (w : Int) (k : Int) (s : Int) (j : Int)) (I := fun j s B' τ => KT i l σ0 τ B' p ∧ goB (i + l) B B' ∧ ltB (i + l) B' s ∧ τ.1 2153 = σ.1 2153) ?_ ?_ (show w < FU by omega) ⟨h, goB.refl h.2.1, ltB1, rfl⟩
    · rintro m j s B' τ hj ⟨k1, k2, k3, k4⟩ ih
      show wp (X15_isNumber_21 (m + 1) (a : Int) (w : Int) (k : Int) (s : Int) (j : Int)) τ _
      rw [X15_isNumber_21, wp_ifn (by omega), wp_bd, wN (by omega), RI_2153 (by omega) (by omega), tn, k4, ha.2 j hj, bit_n (by omega) (by omega)]
      refine tXor hi k1 (k2.lt (hx j hj)) ltBb (fun υ a1 a2 a3 a4 => ?_)
      rw [ixor1 (ltB_lt a1.2.1 (by omega) a3)]
      refine tAnd hi a1 (a2.lt k3) (ltB_ng a3) (fun υ2 b1 b2 b3 b4 => ?_)
      rw [wp_lt, wp_lt, wN1 (by omega)]
      exact ih _ ⟨b1, (k2.trans a2).trans b2, b3, by rw [b4, a4]; exact k4⟩
    · rintro m τ ⟨k1, k2, k3, k4⟩
      show wp (X15_isNumber_21 (m + 1) (a : Int) (w : Int) (k : Int) _ (w : Int)) τ _
      rw [X15_isNumber_21, wp_ifp (by omega), wp_rt]
      exact hQ τ k1 k4
  rw [wp_bd, F_X15_isNumber]
  by_cases c : 31 ≤ w
  · rw [wp_ifp (by omega)]
    exact main (Nat.lt_of_lt_of_le (show k < 2 ^ 6 from hk) (Nat.pow_le_pow_right (by decide) (by omega)))
  · have h31 : 2 ^ w ≤ 2 ^ 30 := Nat.pow_le_pow_right (by decide) (by omega)
    have e := ishl_n1 (k := w) (by omega)
    rw [wp_ifn (by omega)]
    by_cases c2 : k < 2 ^ w
    · rw [wp_ifp (by rw [e]; omega)]; exact main c2
    · rw [wp_ifn (by rw [e]; omega), wp_rt]
      have hd : isB (i + l) w k x B = (0, B) := if_neg c2
      rw [hd] at hQ
      exact hQ σ h rfl
/-- shifted -/
theorem shT (hi : i ≤ 64 ∧ l ≤ 200) (h : KT i l σ0 σ B p) {op a b wb w : Nat} {x y : Nat → Nat} (hw : w ≤ 32) (hwb : wb ≤ 32) (hop : op = 20 ∨ op = 21) (hx : ltA (i + l) B w x) (hy : ltA (i + l) B wb y) (ha : a + w ≤ p ∧ ∀ j, j < w → σ.1 2153 (a + j) = (x j : Int)) (hb : b + wb ≤ p ∧ ∀ j, j < wb → σ.1 2153 (b + j) = (y j : Int)) (hp : p + 2 * w ≤ 200000) {g : Unit → St → Option (α × St)} (hQ : ∀ τ, KT i l σ0 τ (sfB (i + l) op w wb x y B).2 (p + w) → PL (σ.1 2153) (τ.1 2153) p w (sfB (i + l) op w wb x y B).1 → wp (g ()) τ Q) : wp (bd (F_X15_shiftBits (a : Int) (w : Int) (b : Int) (wb : Int) (if op = 20 then 1 else 0)) g) σ Q := by
  have hF := FU_ge
  generalize hlf : (if op = 20 then (1 : Int) else 0) = lf
  have z : (0 : Int64).toInt = 0 := rfl
  rw [wp_bd, F_X15_shiftBits, wp_lt]
  refine lpN (w := w) (L := fun m j => X15_shiftBits_3 m (a : Int) (w : Int) (b : Int) (wb : Int) lf (j : Int)) (I := fun j τ => KT i l σ0 τ B (p + j) ∧ PL (σ.1 2153) (τ.1 2153) p j x) ?_ ?_ (show w < FU by omega) ⟨h, PL.init⟩
  · rintro m j τ hj ⟨k1, k2⟩ ih
    show wp (X15_shiftBits_3 (m + 1) (a : Int) (w : Int) (b : Int) (wb : Int) lf (j : Int)) τ _
    rw [X15_shiftBits_3, wp_ifn (by omega), wp_bd, wN (by omega), RI_2153 (by omega) (by omega), tn, k2.1 _ (by omega), ha.2 j hj]
    refine tPush k1 (by omega) (fun υ a1 a2 => ?_)
    rw [wp_lt, wN1 (by omega)]
    exact ih _ ⟨a1, by rw [a2]; exact k2.up'⟩
  · rintro m τ ⟨k1, k2⟩
    show wp (X15_shiftBits_3 (m + 1) (a : Int) (w : Int) (b : Int) (wb : Int) lf (w : Int)) τ _
    rw [X15_shiftBits_3, wp_ifp (by omega), X15_shiftBits_28, wp_bd, wp_gI, k1.2.2.2, wp_lt, wp_lt, w32_i (by omega) (by omega), show ((p + w : Nat) : Int) - (w : Int) = (p : Int) by omega]
    refine lpT (f := fun s o B => mpB (fun j B => muxB (i + l) (y s) (shL op w s o j) (o j) B) w o B) (x0 := x) (B0 := B) (w := wb) (L := fun m j _ => X15_shiftBits_39 m (w : Int) (b : Int) (wb : Int) lf (p : Int) (j : Int)) (I := fun j o B' τ' => KT i l σ0 τ' B' (p + w) ∧ goB (i + l) B B' ∧ ltA (i + l) B' w o ∧ PL (σ.1 2153) (τ'.1 2153) p w o) ?_ ?_ (show wb < FU by omega) ⟨k1, goB.refl h.2.1, hx, k2⟩
    · rintro m s o B' τ' hs ⟨j1, j2, j3, j4⟩ ih
      show wp (X15_shiftBits_39 (m + 1) (w : Int) (b : Int) (wb : Int) lf (p : Int) (s : Int)) τ' _
      have hp2 : 2 ^ s ≤ 2147483648 := p2le (k := 31) (by omega)
      have hp0 := Nat.two_pow_pos s
      have mg := mpB_go (w := w) (o := o) (g := fun j B => muxB (i + l) (y s) (shL op w s o j) (o j) B) j2.1 (fun j B2 hj h2 => okB.go (muxB_ok h2.1 (h2.lt (j2.lt (hy s hs))) (h2.lt (shL_lt j3 hj)) (h2.lt (j3 j hj))))
      rw [X15_shiftBits_39, wp_ifn (by omega), wp_bd, wp_gI, j1.2.2.2, wp_lt, wp_lt]
      refine lpT (f := fun j o' B => (ups o' j (muxB (i + l) (y s) (shL op w s o j) (o j) B).1, (muxB (i + l) (y s) (shL op w s o j) (o j) B).2)) (x0 := o) (B0 := B') (w := w) (L := fun f j _ => X15_shiftBits_55 (X15_shiftBits_39 m) f (w : Int) (b : Int) (wb : Int) lf (p : Int) (s : Int) ((p + w : Nat) : Int) (j : Int)) (I := fun j o' B2 υ => KT i l σ0 υ B2 (p + w + j) ∧ goB (i + l) B' B2 ∧ PL (τ'.1 2153) (υ.1 2153) (p + w) j o') ?_ ?_ (show w < FU by omega) ⟨j1, goB.refl j2.1, PL.init⟩
      · rintro f j o' B2 υ hj ⟨b1, b2, b3⟩ ih2
        show wp (X15_shiftBits_55 (X15_shiftBits_39 m) (f + 1) (w : Int) (b : Int) (wb : Int) lf (p : Int) (s : Int) ((p + w : Nat) : Int) (j : Int)) υ _
        have old : ∀ q, q < p + w → υ.1 2153 q = τ'.1 2153 q := fun q hq => b3.1 q hq
        have go : wp (X15_shiftBits_126 (X15_shiftBits_39 m) (X15_shiftBits_55 (X15_shiftBits_39 m) f) (w : Int) (b : Int) (wb : Int) lf (p : Int) (s : Int) ((p + w : Nat) : Int) (j : Int) (y s : Int) (shL op w s o j : Int)) υ (fun v τ => wp (g v) τ Q) := by
          rw [X15_shiftBits_126, wp_bd, wN (by omega), RI_2153 (by omega) (by omega), tn, old _ (by omega), j4.2 j hj]
          refine tMux hi b1 (b2.lt (j2.lt (hy s hs))) (b2.lt (shL_lt j3 hj)) (b2.lt (j3 j hj)) (fun υ2 d1 d2 d3 d4 => ?_)
          refine tPush d1 (by omega) (fun υ3 e1 e2 => ?_)
          rw [wp_lt, wN1 (by omega)]
          exact ih2 _ ⟨e1, b2.trans d2, by rw [e2, d4]; exact b3.up⟩
        have ew : (i2l (((w - 1 : Nat) : Int))).toInt = ((w - 1 : Nat) : Int) := i2l_t (by omega) (by omega)
        have ew2 : ∀ _ : Unit, w32 ((w : Int) - 1) = ((w - 1 : Nat) : Int) := fun _ => by rw [w32_i (by omega) (by omega)]; omega
        have rb : υ.1 2153 (b + s) = (y s : Int) := by rw [old _ (by omega), j4.1 _ (by omega)]; exact hb.2 s hs
        rw [X15_shiftBits_55, wp_ifn (by omega)]
        rcases hop with e | e
        · have es := sh_sub (j := j) (s := s) (by omega) (by omega)
          have hlf1 : lf = 1 := by rw [← hlf, if_pos e]
          rw [wp_ifn (by omega), X15_shiftBits_85, wp_lt, wp_bd, wN (by omega), RI_2153 (by omega) (by omega), tn, rb, wp_bd, ew2 (), wp_in15, es, z, ew]
          by_cases c : j < 2 ^ s
          · rw [shL_1 e c] at go
            rw [wp_ifp (by rw [if_neg (by omega)])]
            exact go
          · rw [shL_2 e c] at go
            have e2 : l2i ((i2l (j : Int)) - (lshl 1 (s : Int))) = ((j - 2 ^ s : Nat) : Int) := by rw [l2i_t (by rw [es]; omega) (by rw [es]; omega), es]; omega
            rw [wp_ifn (by rw [if_pos (by omega)]; decide), wp_bd, e2, wN (by omega), RI_2153 (by omega) (by omega), tn, old _ (by omega), j4.2 _ (by omega)]
            exact go
        · have es := sh_add (j := j) (s := s) (by omega) (by omega)
          have hlf1 : lf = 0 := by rw [← hlf, if_neg (by omega)]
          rw [wp_ifp (by omega), X15_shiftBits_85, wp_lt, wp_bd, wN (by omega), RI_2153 (by omega) (by omega), tn, rb, wp_bd, ew2 (), wp_in15, es, z, ew]
          by_cases c : j + 2 ^ s < w
          · rw [shL_3 (by omega) c] at go
            have e2 : l2i ((i2l (j : Int)) + (lshl 1 (s : Int))) = ((j + 2 ^ s : Nat) : Int) := by rw [l2i_t (by rw [es]; omega) (by rw [es]; omega), es]; omega
            rw [wp_ifn (by rw [if_pos (by omega)]; decide), wp_bd, e2, wN (by omega), RI_2153 (by omega) (by omega), tn, old _ (by omega), j4.2 _ (by omega)]
            exact go
          · rw [shL_4 (by omega) c] at go
            rw [wp_ifp (by rw [if_neg (by omega)])]
            exact go
      · rintro f υ ⟨b1, b2, b3⟩
        show wp (X15_shiftBits_55 (X15_shiftBits_39 m) (f + 1) (w : Int) (b : Int) (wb : Int) lf (p : Int) (s : Int) ((p + w : Nat) : Int) (w : Int)) υ _
        rw [X15_shiftBits_55, wp_ifp (by omega), X15_shiftBits_148]
        refine tSettle b1 (by omega) (by omega) (fun υ3 c1 c2 c3 => ?_)
        rw [wp_lt, wN1 (by omega)]
        refine ih _ ⟨c1, j2.trans mg.1, mg.2, fun k hk => ?_, fun k hk => ?_⟩
        · rw [c2 k hk, b3.1 k (by omega)]; exact j4.1 k hk
        · rw [c3 k hk]; exact b3.2 k hk
    · rintro m τ' ⟨j1, j2, j3, j4⟩
      show wp (X15_shiftBits_39 (m + 1) (w : Int) (b : Int) (wb : Int) lf (p : Int) (wb : Int)) τ' _
      rw [X15_shiftBits_39, wp_ifp (by omega), wp_rt]
      exact hQ τ' j1 j4
end
