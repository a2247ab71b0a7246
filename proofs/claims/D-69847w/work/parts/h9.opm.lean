set_option maxRecDepth 100000
set_option maxHeartbeats 400000
/-! ===== bits: the twin puts nodes together ===== -/
section
variable {i l p : Nat} {σ0 σ : St} {B : NB} {α : Type} {Q : α → St → Prop}
/-- what was pushed comes down -/
theorem tDown {r w to : Nat} {c0 : Nat → Int} {o : Nat → Nat} (h : KT i l σ0 σ B (r + w)) (hl : PL c0 (σ.1 2153) r w o) (ht : to ≤ r) (hr : r + w ≤ 200000) {g : Unit → St → Option (α × St)} (hQ : ∀ τ, KT i l σ0 τ B (to + w) → PL c0 (τ.1 2153) to w o → wp (g ()) τ Q) : wp (bd (F_X15_settle (r : Int) (to : Int)) g) σ Q := by
  refine tSettle h ht hr (fun τ c1 c2 c3 => hQ τ c1 ⟨fun k hk => ?_, fun k hk => ?_⟩)
  · rw [c2 k hk]; exact hl.1 k (by omega)
  · rw [c3 k hk]; exact hl.2 k hk
/-- zeros are pushed -/
theorem zeroT {L : Nat → Int → St → Option (α × St)} {C : St → Option (α × St)} {w : Nat} (hw : w ≤ 32) (h : KT i l σ0 σ B p) (hp : p + w ≤ 200000) (eL : ∀ m x, L (m + 1) x = if (w : Int) ≤ x then C else bd (F_X15_push 0) fun _ => lt (w32 (x + 1)) fun x1 => L m x1) (hQ : ∀ τ, KT i l σ0 τ B (p + w) → PL (σ.1 2153) (τ.1 2153) p w (fun _ => 0) → wp C τ Q) : wp (L FU 0) σ Q := by
  have hF := FU_ge
  refine lpN (w := w) (L := fun m j => L m (j : Int)) (I := fun j τ => KT i l σ0 τ B (p + j) ∧ PL (σ.1 2153) (τ.1 2153) p j (fun _ => 0)) ?_ ?_ (show w < FU by omega) ⟨h, PL.init⟩
  · rintro m j τ hj ⟨k1, k2⟩ ih
    show wp (L (m + 1) (j : Int)) τ Q
    rw [eL, wp_ifn (by omega)]
    refine tPush k1 (by omega) (fun υ a1 a2 => ?_)
    rw [wp_lt, wN1 (by omega)]
    exact ih _ ⟨a1, by rw [a2]; exact k2.up' (o := fun _ => 0)⟩
  · rintro m τ ⟨k1, k2⟩
    show wp (L (m + 1) (w : Int)) τ Q
    rw [eL, wp_ifp (by omega)]
    exact hQ τ k1 k2
theorem notT (hi : i ≤ 64 ∧ l ≤ 200) (h : KT i l σ0 σ B p) {a w : Nat} {x : Nat → Nat} (hw : w ≤ 32) (hx : ltA (i + l) B w x) (ha : a + w ≤ p ∧ ∀ j, j < w → σ.1 2153 (a + j) = (x j : Int)) (hp : p + w ≤ 200000) {Q : Unit → St → Prop} (hQ : ∀ τ, KT i l σ0 τ B (p + w) → PL (σ.1 2153) (τ.1 2153) p w (fun j => ng (x j)) → Q () τ) : wp (X15_oneBits_9 FU (a : Int) (w : Int) 0) σ Q := by
  have hF := FU_ge
  refine lpN (w := w) (L := fun m j => X15_oneBits_9 m (a : Int) (w : Int) (j : Int)) (I := fun j τ => KT i l σ0 τ B (p + j) ∧ PL (σ.1 2153) (τ.1 2153) p j (fun j => ng (x j))) ?_ ?_ (show w < FU by omega) ⟨h, PL.init⟩
  · rintro m j τ hj ⟨k1, k2⟩ ih
    show wp (X15_oneBits_9 (m + 1) (a : Int) (w : Int) (j : Int)) τ Q
    rw [X15_oneBits_9, wp_ifn (by omega), wp_bd, wN (by omega), RI_2153 (by omega) (by omega), tn, k2.1 _ (by omega), ha.2 j hj, ixor1 (ltB_lt k1.2.1 (by omega) (hx j hj))]
    refine tPush k1 (by omega) (fun υ a1 a2 => ?_)
    rw [wp_lt, wN1 (by omega)]
    exact ih _ ⟨a1, by rw [a2]; exact k2.up' (o := fun j => ng (x j))⟩
  · rintro m τ ⟨k1, k2⟩
    show wp (X15_oneBits_9 (m + 1) (a : Int) (w : Int) (w : Int)) τ Q
    rw [X15_oneBits_9, wp_ifp (by omega), wp_rt]
    exact hQ τ k1 k2
theorem rdFT (hi : i ≤ 64 ∧ l ≤ 200) (h : KT i l σ0 σ B p) {op K a w s0 : Nat} (hK : op = 5 ∧ K = 19 ∨ op = 6 ∧ K = 20 ∨ op = 7 ∧ K = 21) {x : Nat → Nat} (hs0 : s0 ≤ 1) (hw : w ≤ 32) (hx : ltA (i + l) B w x) (ha : a + w ≤ p ∧ ∀ j, j < w → σ.1 2153 (a + j) = (x j : Int)) (hp : p + 1 ≤ 200000) {Q : Unit → St → Prop} (hQ : ∀ τ, KT i l σ0 τ (rdB1 (fdG (i + l) op) w s0 x B).2 (p + 1) → PL (σ.1 2153) (τ.1 2153) p 1 (fun _ => (rdB1 (fdG (i + l) op) w s0 x B).1) → Q () τ) : wp (X15_oneBits_104 (K : Int) (a : Int) (w : Int) (s0 : Int)) σ Q := by
  have hF := FU_ge
  have hs1 : ltB (i + l) B s0 := by unfold ltB; omega
  rw [X15_oneBits_104, wp_lt, wp_lt]
  refine lpT (f := fun j s B => fdG (i + l) op s (x j) B) (x0 := s0) (B0 := B) (w := w) (L := fun m j s => X15_oneBits_109 m (K : Int) (a : Int) (w : Int) (s : Int) (j : Int)) (I := fun j s B' τ => KT i l σ0 τ B' p ∧ goB (i + l) B B' ∧ ltB (i + l) B' s ∧ τ.1 2153 = σ.1 2153) ?_ ?_ (show w < FU by omega) ⟨h, goB.refl h.2.1, hs1, rfl⟩
  · rintro m j s B' τ hj ⟨k1, k2, k3, k4⟩ ih
    show wp (X15_oneBits_109 (m + 1) (K : Int) (a : Int) (w : Int) (s : Int) (j : Int)) τ Q
    have hxj := k2.lt (hx j hj)
    rw [X15_oneBits_109, wp_ifn (by omega)]
    rcases hK with ⟨e1, e2⟩ | ⟨e1, e2⟩ | ⟨e1, e2⟩
    · have e : fdG (i + l) op s (x j) B' = andB (i + l) s (x j) B' := if_pos e1
      rw [e] at ih
      rw [wp_ifp (by omega), wp_bd, wN (by omega), RI_2153 (by omega) (by omega), tn, k4, ha.2 j hj]
      refine tAnd hi k1 k3 hxj (fun υ a1 a2 a3 a4 => ?_)
      rw [X15_oneBits_178, wp_lt, wp_lt, wN1 (by omega)]
      exact ih _ ⟨a1, k2.trans a2, a3, by rw [a4]; exact k4⟩
    · have e : fdG (i + l) op s (x j) B' = orB (i + l) s (x j) B' := (if_neg (by omega)).trans (if_pos e1)
      rw [e] at ih
      rw [wp_ifn (by omega), wp_ifp (by omega), wp_bd, wN (by omega), RI_2153 (by omega) (by omega), tn, k4, ha.2 j hj]
      refine tOr hi k1 k3 hxj (fun υ a1 a2 a3 a4 => ?_)
      rw [X15_oneBits_178, wp_lt, wp_lt, wN1 (by omega)]
      exact ih _ ⟨a1, k2.trans a2, a3, by rw [a4]; exact k4⟩
    · have e : fdG (i + l) op s (x j) B' = xorB (i + l) s (x j) B' := (if_neg (by omega)).trans (if_neg (by omega))
      rw [e] at ih
      rw [wp_ifn (by omega), wp_ifn (by omega), wp_bd, wN (by omega), RI_2153 (by omega) (by omega), tn, k4, ha.2 j hj]
      refine tXor hi k1 k3 hxj (fun υ a1 a2 a3 a4 => ?_)
      rw [X15_oneBits_178, wp_lt, wp_lt, wN1 (by omega)]
      exact ih _ ⟨a1, k2.trans a2, a3, by rw [a4]; exact k4⟩
  · rintro m τ ⟨k1, k2, k3, k4⟩
    show wp (X15_oneBits_109 (m + 1) (K : Int) (a : Int) (w : Int) ((rdB1 (fdG (i + l) op) w s0 x B).1 : Int) (w : Int)) τ Q
    rw [X15_oneBits_109, wp_ifp (by omega), X15_oneBits_186]
    refine tPush k1 (by omega) (fun υ a1 a2 => ?_)
    rw [wp_rt]
    refine hQ υ a1 ?_
    rw [a2, k4]
    exact (PL.init (p := p) (o := fun _ => (rdB1 (fdG (i + l) op) w s0 x B).1)).up' (j := 0)
theorem bwT (hi : i ≤ 64 ∧ l ≤ 200) (h : KT i l σ0 σ B p) {op K a b w : Nat} (hK : op = 10 ∧ K = 51 ∨ op = 11 ∧ K = 52 ∨ op = 12 ∧ K = 50) {x y o : Nat → Nat} (hw : w ≤ 32) (hx : ltA (i + l) B w x) (hy : ltA (i + l) B w y) (ha : a + w ≤ p ∧ ∀ j, j < w → σ.1 2153 (a + j) = (x j : Int)) (hb : b + w ≤ p ∧ ∀ j, j < w → σ.1 2153 (b + j) = (y j : Int)) (hp : p + w ≤ 200000) {Q : Unit → St → Prop} (hQ : ∀ τ, KT i l σ0 τ (mpB (fun j B => bwG (i + l) op (x j) (y j) B) w o B).2 (p + w) → PL (σ.1 2153) (τ.1 2153) p w (mpB (fun j B => bwG (i + l) op (x j) (y j) B) w o B).1 → Q () τ) : wp (X15_twoBits_171 FU (K : Int) (a : Int) (b : Int) (w : Int) 0) σ Q := by
  have hF := FU_ge
  refine lpT (f := fun j o B => (ups o j (bwG (i + l) op (x j) (y j) B).1, (bwG (i + l) op (x j) (y j) B).2)) (x0 := o) (B0 := B) (w := w) (L := fun f j _ => X15_twoBits_171 f (K : Int) (a : Int) (b : Int) (w : Int) (j : Int)) (I := fun j o B' τ => KT i l σ0 τ B' (p + j) ∧ goB (i + l) B B' ∧ PL (σ.1 2153) (τ.1 2153) p j o) ?_ ?_ (show w < FU by omega) ⟨h, goB.refl h.2.1, PL.init⟩
  · rintro f j o' B' τ hj ⟨k1, k2, k3⟩ ih
    show wp (X15_twoBits_171 (f + 1) (K : Int) (a : Int) (b : Int) (w : Int) (j : Int)) τ Q
    have hxj := k2.lt (hx j hj)
    have hyj := k2.lt (hy j hj)
    have fin : ∀ (R : Nat × NB) υ, R = bwG (i + l) op (x j) (y j) B' → KT i l σ0 υ R.2 (p + j) → goB (i + l) B' R.2 → υ.1 2153 = τ.1 2153 → wp (X15_twoBits_266 (X15_twoBits_171 f) (K : Int) (a : Int) (b : Int) (w : Int) (j : Int) (R.1 : Int)) υ Q := by
      rintro R υ hR a1 a2 a4
      rw [X15_twoBits_266]
      refine tPush a1 (by omega) (fun υ2 b1 b2 => ?_)
      rw [wp_lt, wN1 (by omega)]
      subst hR
      exact ih _ ⟨b1, k2.trans a2, by rw [b2, a4]; exact k3.up⟩
    rw [X15_twoBits_171, wp_ifn (by omega)]
    rcases hK with ⟨e1, e2⟩ | ⟨e1, e2⟩ | ⟨e1, e2⟩
    · have e : bwG (i + l) op (x j) (y j) B' = orB (i + l) (x j) (y j) B' := if_pos e1
      rw [wp_ifp (by omega), wp_bd, wN (a := a) (by omega), RI_2153 (by omega) (by omega), tn, k3.1 _ (by omega), ha.2 j hj, wp_bd, wN (a := b) (by omega), RI_2153 (by omega) (by omega), tn, k3.1 _ (by omega), hb.2 j hj]
      exact tOr hi k1 hxj hyj (fun υ a1 a2 a3 a4 => fin _ υ e.symm a1 a2 a4)
    · have e : bwG (i + l) op (x j) (y j) B' = xorB (i + l) (x j) (y j) B' := (if_neg (by omega)).trans (if_pos e1)
      rw [wp_ifn (by omega), wp_ifp (by omega), wp_bd, wN (a := a) (by omega), RI_2153 (by omega) (by omega), tn, k3.1 _ (by omega), ha.2 j hj, wp_bd, wN (a := b) (by omega), RI_2153 (by omega) (by omega), tn, k3.1 _ (by omega), hb.2 j hj]
      exact tXor hi k1 hxj hyj (fun υ a1 a2 a3 a4 => fin _ υ e.symm a1 a2 a4)
    · have e : bwG (i + l) op (x j) (y j) B' = andB (i + l) (x j) (y j) B' := (if_neg (by omega)).trans (if_neg (by omega))
      rw [wp_ifn (by omega), wp_ifn (by omega), wp_bd, wN (a := a) (by omega), RI_2153 (by omega) (by omega), tn, k3.1 _ (by omega), ha.2 j hj, wp_bd, wN (a := b) (by omega), RI_2153 (by omega) (by omega), tn, k3.1 _ (by omega), hb.2 j hj]
      exact tAnd hi k1 hxj hyj (fun υ a1 a2 a3 a4 => fin _ υ e.symm a1 a2 a4)
  · rintro f τ ⟨k1, k2, k3⟩
    show wp (X15_twoBits_171 (f + 1) (K : Int) (a : Int) (b : Int) (w : Int) (w : Int)) τ Q
    rw [X15_twoBits_171, wp_ifp (by omega), wp_rt]
    exact hQ τ k1 k3
theorem mxT2 (hi : i ≤ 64 ∧ l ≤ 200) (h : KT i l σ0 σ B p) {a b c w x : Nat} {y z o : Nat → Nat} (hw : w ≤ 32) (hx : ltB (i + l) B x) (hy : ltA (i + l) B w y) (hz : ltA (i + l) B w z) (ha : a < p ∧ σ.1 2153 a = (x : Int)) (hb : b + w ≤ p ∧ ∀ j, j < w → σ.1 2153 (b + j) = (y j : Int)) (hc : c + w ≤ p ∧ ∀ j, j < w → σ.1 2153 (c + j) = (z j : Int)) (hp : p + w ≤ 200000) {Q : Unit → St → Prop} (hQ : ∀ τ, KT i l σ0 τ (mpB (fun j B => muxB (i + l) x (y j) (z j) B) w o B).2 (p + w) → PL (σ.1 2153) (τ.1 2153) p w (mpB (fun j B => muxB (i + l) x (y j) (z j) B) w o B).1 → Q () τ) : wp (X15_twoBits_446 FU (a : Int) (b : Int) (c : Int) (w : Int) 0) σ Q := by
  have hF := FU_ge
  refine lpT (f := fun j o B => (ups o j (muxB (i + l) x (y j) (z j) B).1, (muxB (i + l) x (y j) (z j) B).2)) (x0 := o) (B0 := B) (w := w) (L := fun f j _ => X15_twoBits_446 f (a : Int) (b : Int) (c : Int) (w : Int) (j : Int)) (I := fun j o B' τ => KT i l σ0 τ B' (p + j) ∧ goB (i + l) B B' ∧ PL (σ.1 2153) (τ.1 2153) p j o) ?_ ?_ (show w < FU by omega) ⟨h, goB.refl h.2.1, PL.init⟩
  · rintro f j o' B' τ hj ⟨k1, k2, k3⟩ ih
    show wp (X15_twoBits_446 (f + 1) (a : Int) (b : Int) (c : Int) (w : Int) (j : Int)) τ Q
    rw [X15_twoBits_446, wp_ifn (by omega), wp_bd, RI_2153 (by omega) (by omega), tn, k3.1 _ (by omega), ha.2, wp_bd, wN (a := b) (by omega), RI_2153 (by omega) (by omega), tn, k3.1 _ (by omega), hb.2 j hj, wp_bd, wN (a := c) (by omega), RI_2153 (by omega) (by omega), tn, k3.1 _ (by omega), hc.2 j hj]
    refine tMux hi k1 (k2.lt hx) (k2.lt (hy j hj)) (k2.lt (hz j hj)) (fun υ a1 a2 a3 a4 => ?_)
    refine tPush a1 (by omega) (fun υ2 b1 b2 => ?_)
    rw [wp_lt, wN1 (by omega)]
    exact ih _ ⟨b1, k2.trans a2, by rw [b2, a4]; exact k3.up⟩
  · rintro f τ ⟨k1, k2, k3⟩
    show wp (X15_twoBits_446 (f + 1) (a : Int) (b : Int) (c : Int) (w : Int) (w : Int)) τ Q
    rw [X15_twoBits_446, wp_ifp (by omega), wp_rt]
    exact hQ τ k1 k3
theorem ltT2 (hi : i ≤ 64 ∧ l ≤ 200) (h : KT i l σ0 σ B p) {op a b w : Nat} (hop : op = 15) {x y : Nat → Nat} (hw : w ≤ 32) (hx : ltA (i + l) B w x) (hy : ltA (i + l) B w y) (ha : a + w ≤ p ∧ ∀ j, j < w → σ.1 2153 (a + j) = (x j : Int)) (hb : b + w ≤ p ∧ ∀ j, j < w → σ.1 2153 (b + j) = (y j : Int)) (hp : p + 1 ≤ 200000) {Q : Unit → St → Prop} (hQ : ∀ τ, KT i l σ0 τ (lpB (cpS (i + l) op x y) w 0 0 B).2 (p + 1) → PL (σ.1 2153) (τ.1 2153) p 1 (fun _ => (lpB (cpS (i + l) op x y) w 0 0 B).1) → Q () τ) : wp (X15_twoBits_316 FU (a : Int) (w : Int) (b : Int) 0 0) σ Q := by
  have hF := FU_ge
  refine lpT (f := cpS (i + l) op x y) (x0 := 0) (B0 := B) (w := w) (L := fun m j s => X15_twoBits_316 m (a : Int) (w : Int) (b : Int) (s : Int) (j : Int)) (I := fun j s B' τ => KT i l σ0 τ B' p ∧ goB (i + l) B B' ∧ ltB (i + l) B' s ∧ τ.1 2153 = σ.1 2153) ?_ ?_ (show w < FU by omega) ⟨h, goB.refl h.2.1, ltB0, rfl⟩
  · rintro m j s B' τ hj ⟨k1, k2, k3, k4⟩ ih
    show wp (X15_twoBits_316 (m + 1) (a : Int) (w : Int) (b : Int) (s : Int) (j : Int)) τ Q
    rw [cpS_y hop] at ih
    rw [X15_twoBits_316, wp_ifn (by omega), wp_bd, wN (by omega), RI_2153 (by omega) (by omega), tn, k4, ha.2 j hj, wp_bd, wN (by omega), RI_2153 (by omega) (by omega), tn, k4, hb.2 j hj]
    refine tXor hi k1 (k2.lt (hx j hj)) (k2.lt (hy j hj)) (fun υ a1 a2 a3 a4 => ?_)
    rw [wp_bd, RI_2153 (by omega) (by omega), tn, a4, k4, hb.2 j hj]
    refine tMux hi a1 a3 (a2.lt (k2.lt (hy j hj))) (a2.lt k3) (fun υ2 b1 b2 b3 b4 => ?_)
    rw [wp_lt, wp_lt, wN1 (by omega)]
    exact ih _ ⟨b1, (k2.trans a2).trans b2, b3, by rw [b4, a4]; exact k4⟩
  · rintro m τ ⟨k1, k2, k3, k4⟩
    show wp (X15_twoBits_316 (m + 1) (a : Int) (w : Int) (b : Int) ((lpB (cpS (i + l) op x y) w 0 0 B).1 : Int) (w : Int)) τ Q
    rw [X15_twoBits_316, wp_ifp (by omega), X15_twoBits_369]
    refine tPush k1 (by omega) (fun υ a1 a2 => ?_)
    rw [wp_rt]
    refine hQ υ a1 ?_
    rw [a2, k4]
    exact (PL.init (p := p) (o := fun _ => (lpB (cpS (i + l) op x y) w 0 0 B).1)).up' (j := 0)
/-- joined: the second part first -/
theorem jnT (h : KT i l σ0 σ B p) {a b c wa wb w : Nat} {x y : Nat → Nat} (hw : w = wa + wb) (hw2 : w ≤ 32) (hc : c = b + wb) (ha : a + wa ≤ p ∧ ∀ j, j < wa → σ.1 2153 (a + j) = (x j : Int)) (hb : b + wb ≤ p ∧ ∀ j, j < wb → σ.1 2153 (b + j) = (y j : Int)) (hp : p + w ≤ 200000) {Q : Unit → St → Prop} (hQ : ∀ τ, KT i l σ0 τ B (p + w) → PL (σ.1 2153) (τ.1 2153) p w (fun j => if w - wa ≤ j then x (j - (w - wa)) else y j) → Q () τ) : wp (X15_twoBits_107 FU (a : Int) (wa : Int) (b : Int) (c : Int) 0) σ Q := by
  have hF := FU_ge
  have ec : ∀ _ : Unit, w32 ((c : Int) - (b : Int)) = (wb : Int) := fun _ => by rw [w32_i (by omega) (by omega)]; omega
  refine lpN (w := wb) (L := fun m j => X15_twoBits_107 m (a : Int) (wa : Int) (b : Int) (c : Int) (j : Int)) (I := fun j τ => KT i l σ0 τ B (p + j) ∧ PL (σ.1 2153) (τ.1 2153) p j (fun j => if w - wa ≤ j then x (j - (w - wa)) else y j)) ?_ ?_ (show wb < FU by omega) ⟨h, PL.init⟩
  · rintro m j τ hj ⟨k1, k2⟩ ih
    show wp (X15_twoBits_107 (m + 1) (a : Int) (wa : Int) (b : Int) (c : Int) (j : Int)) τ Q
    rw [X15_twoBits_107, ec (), wp_ifn (by omega), wp_bd, wN (by omega), RI_2153 (by omega) (by omega), tn, k2.1 _ (by omega), hb.2 j hj]
    refine tPush k1 (by omega) (fun υ a1 a2 => ?_)
    rw [wp_lt, wN1 (by omega)]
    refine ih _ ⟨a1, ?_⟩
    have := k2.up' (o := fun j => if w - wa ≤ j then x (j - (w - wa)) else y j)
    rw [if_neg (show ¬ w - wa ≤ j by omega)] at this
    rw [a2]; exact this
  · rintro m τ ⟨k1, k2⟩
    show wp (X15_twoBits_107 (m + 1) (a : Int) (wa : Int) (b : Int) (c : Int) (wb : Int)) τ Q
    rw [X15_twoBits_107, ec (), wp_ifp (by omega), X15_twoBits_137, wp_lt]
    refine lpN (w := wa) (L := fun m j => X15_twoBits_140 m (a : Int) (wa : Int) (j : Int)) (I := fun j τ => KT i l σ0 τ B (p + (wb + j)) ∧ PL (σ.1 2153) (τ.1 2153) p (wb + j) (fun j => if w - wa ≤ j then x (j - (w - wa)) else y j)) ?_ ?_ (show wa < FU by omega) ⟨k1, k2⟩
    · rintro m j τ hj ⟨k1, k2⟩ ih
      show wp (X15_twoBits_140 (m + 1) (a : Int) (wa : Int) (j : Int)) τ Q
      rw [X15_twoBits_140, wp_ifn (by omega), wp_bd, wN (by omega), RI_2153 (by omega) (by omega), tn, k2.1 _ (by omega), ha.2 j hj]
      refine tPush k1 (by omega) (fun υ a1 a2 => ?_)
      rw [wp_lt, wN1 (by omega)]
      refine ih _ ⟨a1, ?_⟩
      have := k2.up' (o := fun j => if w - wa ≤ j then x (j - (w - wa)) else y j)
      rw [if_pos (show w - wa ≤ wb + j by omega), show wb + j - (w - wa) = j by omega] at this
      rw [a2]; exact this
    · rintro m τ ⟨k1, k2⟩
      show wp (X15_twoBits_140 (m + 1) (a : Int) (wa : Int) (wa : Int)) τ Q
      rw [show wb + wa = w by omega] at k1 k2
      rw [X15_twoBits_140, wp_ifp (by omega), wp_rt]
      exact hQ τ k1 k2
end
