set_option maxRecDepth 100000
set_option maxHeartbeats 400000
/-! ===== read: expressions, the rows of signs ===== -/
def BQ (q : Int) : Prop := 0 ≤ q ∧ q < 4200
section
variable {V : St → St → Prop} {RD : Nat → Int → Nat → Prop} {WD : Nat → Nat → Prop} {c0 : Nat × Int} {σ0 τ0 : St} {T : Nat → Int} {n : Nat} {γ δ : Type}
theorem BS.frE {σ τ σ' τ' : St} (h : BS c0 σ0 τ0 T n σ τ) (e : agr nEX σ σ') (e' : agr nEY τ τ') (h28 : τ'.1 2075 28 = 0) : BS c0 σ0 τ0 T n σ' τ' := by
  obtain ⟨⟨a1, a2, a3, a4, a5⟩, ⟨c1, c2, c3, c4⟩, b3, b4, b5, b6⟩ := h
  refine ⟨⟨a1, a2, ?_, fun k hk => ?_, fun i hi => ?_⟩, ⟨c1, c2, ?_, fun k hk => ?_⟩, h28, b4.trans (agr.sub e (fun a k q => by unfold nX at q; unfold nEX; omega)), b5.trans (agr.sub e' (fun a k q => by unfold nY at q; unfold nEY; omega)), by rw [(e' 2075 37 (by unfold nEY; omega)).1]; exact b6⟩
  · rw [(e 2 2 (by unfold nEX; omega)).1]; exact a3
  · rw [(e 4 k (by unfold nEX; omega)).1]; exact a4 k hk
  · rw [(e 3 i (by unfold nEX; omega)).2.2]; exact a5 i hi
  · rw [(e' 2075 2 (by unfold nEY; omega)).1]; exact c3
  · rw [(e' 2076 k (by unfold nEY; omega)).1]; exact c4 k hk
theorem TK.eq {σ τ σ' τ' : St} {p : Nat} (h : TK T n σ τ p) (e1 : σ'.1 2 = σ.1 2) (e2 : σ'.2 = σ.2) (e3 : ∀ i, i ≠ 38 → i ≠ 39 → τ'.1 2075 i = τ.1 2075 i) (e4 : τ'.2.1 2075 = τ.2.1 2075) : TK T n σ' τ' p := by
  rcases h with ⟨h1, h2, h3, h4⟩ | ⟨h1, h2, h3, t1, t2, t3, t4, t5, t6⟩
  · refine Or.inl ⟨h1, ?_, ?_, ?_⟩
    · rw [e1]; exact h2
    · rw [e3 31 (by decide) (by decide)]; exact h3
    · rw [e3 30 (by decide) (by decide)]; exact h4
  · refine Or.inr ⟨h1, h2, ?_, ?_, ?_, ?_, ?_, ?_, ?_⟩
    · rw [e1, e2]; exact h3
    · rw [e3 31 (by decide) (by decide)]; exact t1
    · rw [e3 32 (by decide) (by decide)]; exact t2
    · rw [e3 33 (by decide) (by decide)]; exact t3
    · rw [e3 30 (by decide) (by decide)]; exact t4
    · rw [e3 34 (by decide) (by decide)]; exact t5
    · rw [e4]; exact t6
theorem EX0.node {G : NG} {N j j' op p p' : Nat} {σ τ σ' τ' : St} {opn f w ct d e : Nat} {a b c k A B C : Int} {v : Int64} (hV : StE V) (hx : EX0 V RD WD G N j op p σ τ) (hp : p < p') (z1 : agr nEX σ σ') (z2 : σ'.1 2 = σ.1 2) (hct : τ.1 2075 39 = (ct : Int)) (z3 : σ'.1 5 14 = ((ct + j % 65536 + e : Nat) : Int)) (he : e ≤ 1 ∧ e + j % 65536 = d + j' % 65536 ∧ wt (gUp G N opn f w a b c) N + j' / 65536 ≤ j / 65536 + e) (z4 : σ'.1 5 13 = ((N + 1 : Nat) : Int)) (z5 : σ'.1 14 = ups (σ.1 14) N (opn : Int) ∧ σ'.1 15 = ups (σ.1 15) N a ∧ σ'.1 16 = ups (σ.1 16) N b ∧ σ'.1 17 = ups (σ.1 17) N c ∧ σ'.1 18 = ups (σ.1 18) N (w : Int)) (y1 : agr nEY τ τ') (y2 : ∀ i, i ≠ 38 → i ≠ 39 → τ'.1 2075 i = τ.1 2075 i) (y3 : τ'.1 2075 39 = ((ct + d : Nat) : Int)) (y4 : τ'.1 2075 38 = ((N + 1 : Nat) : Int)) (y5 : τ'.1 2101 = ups (τ.1 2101) N k ∧ τ'.1 2102 = ups (τ.1 2102) N A ∧ τ'.1 2103 = ups (τ.1 2103) N B ∧ τ'.1 2104 = ups (τ.1 2104) N C ∧ τ'.1 2105 = ups (τ.1 2105) N (w : Int) ∧ τ'.2.1 2106 = ups (τ.2.1 2106) N v) (hrel : ndR opn a b c k A B C v) (hW : nodW RD WD (gUp G N opn f w a b c) N) : EX0 V RD WD (gUp G N opn f w a b c) (N + 1) j' op p' σ' τ' := by
  obtain ⟨h1, ⟨h2, h3⟩, ⟨ct', h4, h5, h6⟩, h7, h8⟩ := hx
  obtain rfl : ct' = ct := by omega
  refine ⟨hV _ _ _ _ z1 y1 h1, ⟨⟨z4, y4⟩, by omega⟩, ⟨ct' + d, y3, by rw [z3]; omega, by omega, by rw [wS_up]; omega⟩, ⟨h7.1, by rw [z2]; exact h7.2.1, by rw [y2 36 (by decide) (by decide)]; exact h7.2.2⟩, fun i hi => ?_⟩
  by_cases e : i = N
  · subst e
    obtain ⟨⟨u1, u2, u3⟩, u4, u5, u6⟩ := gUp_at (G := G) (N := i) (op := opn) (f := f) (w := w) (a := a) (b := b) (c := c)
    refine ⟨⟨⟨?_, ?_, ?_, ?_, ?_⟩, ?_, ?_⟩, hW⟩
    · rw [z5.1, ups_eq, u1]
    · rw [z5.2.1, ups_eq, u4]
    · rw [z5.2.2.1, ups_eq, u5]
    · rw [z5.2.2.2.1, ups_eq, u6]
    · rw [z5.2.2.2.2, ups_eq, u3]
    · rw [y5.2.2.2.2.1, ups_eq, u3]
    · rw [y5.1, y5.2.1, y5.2.2.1, y5.2.2.2.1, y5.2.2.2.2.2, ups_eq, ups_eq, ups_eq, ups_eq, ups_eq, u1, u4, u5, u6]; exact hrel
  · have hi' : i < N := by omega
    obtain ⟨r1, r2⟩ := h8 i hi'
    obtain ⟨⟨u1, u2, u3⟩, u4, u5, u6⟩ := gAt.up (G := G) (N := N) (op := opn) (f := f) (w := w) (a := a) (b := b) (c := c) hi'
    refine ⟨?_, r2.mono (fun j hj => (h8 j (by omega)).2.1.2.2.2) (fun j hj => gAt.up (by omega))⟩
    unfold ndRel
    rw [z5.1, z5.2.1, z5.2.2.1, z5.2.2.2.1, z5.2.2.2.2, y5.2.2.2.2.1, y5.1, y5.2.1, y5.2.2.1, y5.2.2.2.1, y5.2.2.2.2.2, ups_ne e, ups_ne e, ups_ne e, ups_ne e, ups_ne e, ups_ne e, ups_ne e, ups_ne e, ups_ne e, ups_ne e, ups_ne e, u1, u3, u4, u5, u6]
    exact r1
/-- a node of both sides -/
theorem LK_node {G : NG} {N j op p p' pt : Nat} {σ τ : St} {opn f w : Nat} {a b c k A B C : Int} {v : Int64} {B' : δ → Prop} {f' : Int → St → Option ((γ ⊕ XV) × St)} {g' : Int → St → Option (δ × St)} {P : γ → δ → St → St → Prop} (hV : StE V) (hb : BS c0 σ0 τ0 T n σ τ) (hx : EX0 V RD WD G N j op p σ τ) (hp : p < p') (hpt : p' ≤ pt) (hk : TK T n σ τ pt) (hrel : ndR opn a b c k A B C v) (hW : nodW RD WD (gUp G N opn f w a b c) N) (go : ∀ σ' τ', agr nEX σ σ' → agr nEY τ τ' → BS c0 σ0 τ0 T n σ' τ' → TK T n σ' τ' pt → EX0 V RD WD (gUp G N opn f w a b c) (N + 1) j op p' σ' τ' → LK c0 σ0 τ0 B' (f' (N : Int)) (g' (N : Int)) σ' τ' P) : LK c0 σ0 τ0 B' (bd (F_X1_node (opn : Int) a b c (w : Int)) f') (bd (F_X15_node k A B C (w : Int) v 1) g') σ τ P := by
  obtain ⟨h1, ⟨h2, h3⟩, ⟨ct, h4, h5, h6⟩, h7, h8⟩ := id hx
  have hpn : pt ≤ n := by rcases hk with q | q <;> exact q.1
  have hn := hb.1.1
  refine LK_c (nodeX h2.1 h5 (by omega) (by omega) (fun σ' z1 z2 z3 z4 => LK_t (nodeM (d := 1) hb.2.2.1 h2.2 h4 (by omega) (by omega) (Or.inr ⟨rfl, rfl⟩) (fun τ' y1 y2 y3 y4 y5 y6 => ?_))))
  exact go σ' τ' z1 y1 (hb.frE z1 y1 (by rw [y2 28 (by decide) (by decide)]; exact hb.2.2.1)) (hk.eq z2.1 z2.2.1 y2 y3) (hx.node (e := 1) (d := 1) hV hp z1 z2.1 h4 z2.2.2 ⟨Nat.le_refl _, rfl, by have := wt_le (G := gUp G N opn f w a b c) (i := N); omega⟩ z3 z4 y1 y2 y4 y5 y6 hrel hW)
/-- what stands behind an expression that began at a place -/
def PE (V : St → St → Prop) (RD : Nat → Int → Nat → Prop) (WD : Nat → Nat → Prop) (c0 : Nat × Int) (σ0 τ0 : St) (T : Nat → Int) (n : Nat) (σ τ : St) (p s : Nat) (G : NG) (N j op : Nat) (r q : Int) (σ' τ' : St) : Prop := ∃ p' G' N', (p < p' ∧ N < N') ∧ r = ((N' - 1 : Nat) : Int) ∧ q = ((N' - 1 : Nat) : Int) ∧ agr nEX σ σ' ∧ agr nEY τ τ' ∧ BS c0 σ0 τ0 T n σ' τ' ∧ EX0 V RD WD G' N' j op p' σ' τ' ∧ TK T n σ' τ' (p' + s) ∧ (∀ i, i < N → gAt G G' i) ∧ gF G' (N' - 1) = N
/-- the same of both sides -/
def XS (V : St → St → Prop) (RD : Nat → Int → Nat → Prop) (WD : Nat → Nat → Prop) (c0 : Nat × Int) (σ0 τ0 : St) (T : Nat → Int) (n op : Nat) (f : St → Option ((Int ⊕ XV) × St)) (g : St → Option (Int × St)) : Prop := (∀ σ τ p s G N j, BS c0 σ0 τ0 T n σ τ → EX0 V RD WD G N j op p σ τ → TK T n σ τ (p + s) → LK c0 σ0 τ0 BQ f g σ τ (PE V RD WD c0 σ0 τ0 T n σ τ p s G N j op)) ∧ FTw c0 BQ g
theorem wdX {G : NG} {N j op p i : Nat} {σ τ : St} (hx : EX0 V RD WD G N j op p σ τ) (hp : p ≤ 4000) (hi : i < N) {Q : Int → St → Prop} : wp (F_X1_widthOf (i : Int)) σ Q = Q (gW G i : Int) σ := by
  have := hx.2.1.2
  rw [F_X1_widthOf, wp_bd, RI_18 (by omega) (by omega), tn, wp_rt, (hx.2.2.2.2 i hi).1.1.2.2.2.2]
theorem wdM {G : NG} {N j op p i : Nat} {σ τ : St} (hx : EX0 V RD WD G N j op p σ τ) (hp : p ≤ 4000) (hi : i < N) {Q : Int → St → Prop} : wp (rdI 2105 (i : Int)) τ Q = Q (gW G i : Int) τ := by
  have := hx.2.1.2
  rw [RI_2105 (by omega) (by omega), tn, (hx.2.2.2.2 i hi).1.2.1]
theorem TK.le {σ τ : St} {p : Nat} (h : TK T n σ τ p) : p ≤ n := by rcases h with q | q <;> exact q.1
/-- the level of a sign -/
def lvO (b : Int) : Int := if b = 44 then 3 else if b = 45 then 3 else if b = 46 then 3 else if b = 47 then 4 else if b = 48 then 4 else if b = 49 then 5 else if b = 50 then 2 else if b = 51 then 0 else if b = 52 then 1 else if b = 54 then 6 else if b = 55 then 6 else -1
theorem lvX {b : Int} {σ : St} {Q : Int → St → Prop} : wp (F_X15_levelOf b) σ Q = Q (lvO b) σ := by
  unfold lvO
  rw [F_X15_levelOf]
  repeat' (first | exact wp_rt | refine wif ?_ ?_)
/-- the op of a sign -/
def ocK (K : Int) : Nat := if K = 124 then 10 else if K = 94 then 11 else if K = 38 then 12 else if K = 16 then 13 else if K = 17 then 14 else if K = 60 then 15 else if K = 43 then 16 else if K = 45 then 17 else if K = 42 then 18 else if K = 18 then 20 else 21
theorem oc_r : ∀ K, K ∈ KS → 0 ≤ lvO (km K) → (10 ≤ ocK K ∧ ocK K ≠ 19 ∧ ocK K ≤ 21) ∧ (lvO (km K) = 3 ↔ (13 ≤ ocK K ∧ ocK K ≤ 15)) ∧ (lvO (km K) = 6 ↔ (20 ≤ ocK K)) ∧ K ≠ 0 := by decide
theorem oc_nd {K : Int} (h : K ∈ KS) (hl : 0 ≤ lvO (km K)) {a b : Int} : ndR (ocK K) a b (-1) (km K) a b 0 0 := by
  have h2 : ∀ K, K ∈ KS → 0 ≤ lvO (km K) → (ocK K = 10 ∧ km K = 51) ∨ (ocK K = 11 ∧ km K = 52) ∨ (ocK K = 12 ∧ km K = 50) ∨ (ocK K = 13 ∧ km K = 44) ∨ (ocK K = 14 ∧ km K = 45) ∨ (ocK K = 15 ∧ km K = 46) ∨ (ocK K = 16 ∧ km K = 47) ∨ (ocK K = 17 ∧ km K = 48) ∨ (ocK K = 18 ∧ km K = 49) ∨ (ocK K = 20 ∧ km K = 54) ∨ (ocK K = 21 ∧ km K = 55) := by decide
  unfold ndR
  rcases h2 K h hl with ⟨e1, e2⟩ | ⟨e1, e2⟩ | ⟨e1, e2⟩ | ⟨e1, e2⟩ | ⟨e1, e2⟩ | ⟨e1, e2⟩ | ⟨e1, e2⟩ | ⟨e1, e2⟩ | ⟨e1, e2⟩ | ⟨e1, e2⟩ | ⟨e1, e2⟩ <;> rw [e1, e2] <;> simp
/-- a node of two expressions -/
theorem two_W {G : NG} {N M N0 : Nat} {K : Int} (h : K ∈ KS) (hl : 0 ≤ lvO (km K)) (hN : N0 < N) (hM : N < M) (hF0 : gF G (N - 1) = N0) (hF1 : gF G (M - 1) = N) (w1 : 1 ≤ gW G (N - 1) ∧ gW G (N - 1) ≤ 32) (hw : lvO (km K) ≠ 6 → gW G (N - 1) = gW G (M - 1)) {w : Nat} (hwe : w = if lvO (km K) = 3 then 1 else gW G (N - 1)) : nodW RD WD (gUp G M (ocK K) N0 w ((N - 1 : Nat) : Int) ((M - 1 : Nat) : Int) (-1)) M := by
  obtain ⟨⟨u1, u2, u3⟩, u4, u5, u6⟩ := gUp_at (G := G) (N := M) (op := ocK K) (f := N0) (w := w) (a := ((N - 1 : Nat) : Int)) (b := ((M - 1 : Nat) : Int)) (c := -1)
  obtain ⟨⟨v1, v2, v3⟩, -⟩ := gAt.up (G := G) (N := M) (op := ocK K) (f := N0) (w := w) (i := M - 1) (a := ((N - 1 : Nat) : Int)) (b := ((M - 1 : Nat) : Int)) (c := -1) (by omega)
  obtain ⟨⟨x1, x2, x3⟩, -⟩ := gAt.up (G := G) (N := M) (op := ocK K) (f := N0) (w := w) (i := N - 1) (a := ((N - 1 : Nat) : Int)) (b := ((M - 1 : Nat) : Int)) (c := -1) (by omega)
  obtain ⟨o1, o2, o3, o4⟩ := oc_r K h hl
  have hw1 : 1 ≤ w ∧ w ≤ 32 := by rw [hwe]; split <;> omega
  unfold nodW
  rw [u1, u2, u3, u4, u5, u6, v2, v3, hF1, x2, x3, hF0]
  refine ⟨⟨by omega, hw1.1, hw1.2, by omega⟩, fun e => absurd e (by omega), fun e => absurd e (by omega), fun e => absurd e (by omega), fun _ e => absurd e (by omega), fun _ _ => ⟨by omega, rfl, by omega, rfl, rfl, fun e => absurd e (by omega), fun _ e => hw (fun z => by omega), fun e1 e2 => ?_, fun e1 e2 => ?_⟩, fun e => absurd e (by omega)⟩
  · rw [hwe, if_pos (o2.mpr ⟨e1, e2⟩)]
  · rw [hwe, if_neg (fun z => by have := o2.mp z; omega)]
theorem FT_lv {rl : Int → St → Option (Int × St)} {ru : St → Option (Int × St)} {l x x3 : Int} : ∀ f, 1 ≤ f → BQ x → FTw c0 BQ (X15_level_21 rl ru f l x x3) := by
  intro f hf hx
  obtain ⟨f', rfl⟩ : ∃ f', f = f' + 1 := ⟨f - 1, by omega⟩
  rw [X15_level_21]
  exact FT_if (fun _ => FT_rt hx) (fun _ => FT_gF (fun v hv => FT_if (fun e => absurd e (by omega)) (fun _ => FT_rt hx)))
theorem FT_lv105 {rl : Int → St → Option (Int × St)} {ru : St → Option (Int × St)} {rec21 : Int → Int → Int → St → Option (Int × St)} {l x k y : Int} (hx : BQ x) (hr : ∀ x3, FTw c0 BQ (rec21 l 0 x3)) : FTw c0 BQ (X15_level_105 rl ru rec21 l x k y) := by
  have h127 : ∀ w, FTw c0 BQ (X15_level_127 rl ru rec21 l k x y 0 w) := by
    intro w
    rw [X15_level_127]
    refine FT_bd FT_node (fun q hq => ?_)
    subst hq
    refine FT_if (fun _ => ?_) (fun _ => ?_)
    · rw [X15_level_143]; exact hr 0
    · rw [X15_level_143]; exact hr 1
  rw [X15_level_105]
  exact FT_if (fun _ => h127 1) (fun _ => FT_rd 4200 (fun h1 h2 => RI_2105 h1 h2) hx (fun v => h127 v))
end
