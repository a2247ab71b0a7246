set_option maxRecDepth 100000
set_option maxHeartbeats 400000
/-! ===== read: nodes ===== -/
/-- an int that has the bits of a number -/
def sg (v : Nat) : Int := (BitVec.ofNat 32 v).toInt
/-- a node of the twin: kind, a, b, c, value against op, a, b, c -/
def ndR (op : Nat) (a b c : Int) (k A B C : Int) (v : Int64) : Prop :=
  if op = 0 then k = 60 ∧ ∃ x : Nat, x < 4294967296 ∧ a = sg x ∧ v.toInt = (x : Int) else
  if op = 1 then (b = -1 ∧ k = 61 ∨ 0 ≤ b ∧ k = 62 ∧ B = b) ∧ A = a else
  if op = 2 then k = 63 ∧ A = a ∧ B = b else
  if op = 8 then k = 64 ∧ A = a ∧ B = c else
  A = a ∧ (op = 3 ∧ k = 53 ∨ op = 4 ∧ k = 66 ∨ op = 5 ∧ k = 19 ∨ op = 6 ∧ k = 20 ∨ op = 7 ∧ k = 21 ∨
  B = b ∧ (op = 9 ∧ k = 65 ∨ op = 10 ∧ k = 51 ∨ op = 11 ∧ k = 52 ∨ op = 12 ∧ k = 50 ∨ op = 13 ∧ k = 44 ∨ op = 14 ∧ k = 45 ∨ op = 15 ∧ k = 46 ∨ op = 16 ∧ k = 47 ∨ op = 17 ∧ k = 48 ∨ op = 18 ∧ k = 49 ∨ op = 19 ∧ k = 40 ∧ C = c ∨ op = 20 ∧ k = 54 ∨ op = 21 ∧ k = 55))
/-- of nodes: op, the first node of its expression, width, a, b, c -/
abbrev NG : Type := (Nat → Nat) × (Nat → Nat) × (Nat → Nat) × (Nat → Int) × (Nat → Int) × (Nat → Int)
def gO (G : NG) : Nat → Nat := G.1
def gF (G : NG) : Nat → Nat := G.2.1
def gW (G : NG) : Nat → Nat := G.2.2.1
def gA (G : NG) : Nat → Int := G.2.2.2.1
def gB (G : NG) : Nat → Int := G.2.2.2.2.1
def gC (G : NG) : Nat → Int := G.2.2.2.2.2
def gUp (G : NG) (N op f w : Nat) (a b c : Int) : NG := (ups (gO G) N op, ups (gF G) N f, ups (gW G) N w, ups (gA G) N a, ups (gB G) N b, ups (gC G) N c)
/-- alike at i -/
def gAt (G G' : NG) (i : Nat) : Prop := (gO G' i = gO G i ∧ gF G' i = gF G i ∧ gW G' i = gW G i) ∧ gA G' i = gA G i ∧ gB G' i = gB G i ∧ gC G' i = gC G i
theorem gAt.refl {G : NG} {i : Nat} : gAt G G i := ⟨⟨rfl, rfl, rfl⟩, rfl, rfl, rfl⟩
theorem gAt.trans {G G' G'' : NG} {i : Nat} (h : gAt G G' i) (h' : gAt G' G'' i) : gAt G G'' i := ⟨⟨h'.1.1.trans h.1.1, h'.1.2.1.trans h.1.2.1, h'.1.2.2.trans h.1.2.2⟩, h'.2.1.trans h.2.1, h'.2.2.1.trans h.2.2.1, h'.2.2.2.trans h.2.2.2⟩
theorem gAt.up {G : NG} {N op f w i : Nat} {a b c : Int} (h : i < N) : gAt G (gUp G N op f w a b c) i := by
  unfold gAt gUp gO gF gW gA gB gC
  dsimp only
  rw [ups_ne (by omega), ups_ne (by omega), ups_ne (by omega), ups_ne (by omega), ups_ne (by omega), ups_ne (by omega)]
  exact ⟨⟨rfl, rfl, rfl⟩, rfl, rfl, rfl⟩
theorem gUp_at {G : NG} {N op f w : Nat} {a b c : Int} : (gO (gUp G N op f w a b c) N = op ∧ gF (gUp G N op f w a b c) N = f ∧ gW (gUp G N op f w a b c) N = w) ∧ gA (gUp G N op f w a b c) N = a ∧ gB (gUp G N op f w a b c) N = b ∧ gC (gUp G N op f w a b c) N = c := ⟨⟨ups_eq, ups_eq, ups_eq⟩, ups_eq, ups_eq, ups_eq⟩
/-- the weight of a node: a join whose left part is a join has none -/
def wt (G : NG) (i : Nat) : Nat := if gO G i = 9 ∧ (gA G i).toNat < i ∧ gO G (gA G i).toNat = 9 then 0 else 1
def wS (G : NG) : Nat → Nat
  | 0 => 0
  | N + 1 => wS G N + wt G N
theorem wt_le {G : NG} {i : Nat} : wt G i ≤ 1 := by unfold wt; split <;> omega
theorem wt_cong {G G' : NG} {i : Nat} (h : ∀ j, j ≤ i → gAt G G' j) : wt G' i = wt G i := by
  have hi := h i (Nat.le_refl i)
  unfold wt
  rw [hi.1.1, hi.2.1]
  by_cases c : (gA G i).toNat < i
  · rw [(h _ (Nat.le_of_lt c)).1.1]
  · rw [if_neg (fun z => c z.2.1), if_neg (fun z => c z.2.1)]
theorem wS_cong {G G' : NG} : ∀ N, (∀ j, j < N → gAt G G' j) → wS G' N = wS G N
  | 0, _ => rfl
  | N + 1, h => by
    show wS G' N + wt G' N = wS G N + wt G N
    rw [wS_cong N (fun j hj => h j (by omega)), wt_cong (fun j hj => h j (by omega))]
theorem wS_mono {G : NG} {N M : Nat} (h : N ≤ M) : wS G N ≤ wS G M := by
  induction h with
  | refl => exact Nat.le_refl _
  | step _ ih => exact Nat.le_trans ih (Nat.le_add_right _ _)
theorem wS_up {G : NG} {N op f w : Nat} {a b c : Int} : wS (gUp G N op f w a b c) (N + 1) = wS G N + wt (gUp G N op f w a b c) N := by
  show wS (gUp G N op f w a b c) N + _ = _
  rw [wS_cong N (fun j hj => gAt.up hj)]
/-- a node is as the reader makes it -/
def nodW (RD : Nat → Int → Nat → Prop) (WD : Nat → Nat → Prop) (G : NG) (i : Nat) : Prop :=
  (gO G i ≤ 21 ∧ 1 ≤ gW G i ∧ gW G i ≤ 32 ∧ gF G i ≤ i) ∧
  (gO G i = 0 → gF G i = i ∧ ∃ x : Nat, x < 2 ^ gW G i ∧ gA G i = sg x) ∧
  (gO G i = 1 → gF G i = i ∧ ∃ t : Nat, gA G i = (t : Int) ∧ RD t (gB G i) (gW G i)) ∧
  (gO G i = 2 → (∃ t : Nat, gA G i = (t : Int) ∧ WD t (gW G i)) ∧ 0 < i ∧ gB G i = ((i - 1 : Nat) : Int) ∧ gF G i = gF G (i - 1)) ∧
  (3 ≤ gO G i → gO G i ≤ 8 → 0 < i ∧ gA G i = ((i - 1 : Nat) : Int) ∧ gF G i = gF G (i - 1) ∧ (gO G i ≤ 4 → gW G i = gW G (i - 1)) ∧ (5 ≤ gO G i → gO G i ≤ 7 → gW G i = 1) ∧ (gO G i = 8 → ∃ lo : Nat, gC G i = (lo : Int) ∧ lo + gW G i ≤ gW G (i - 1))) ∧
  (9 ≤ gO G i → gO G i ≠ 19 → 0 < i ∧ gB G i = ((i - 1 : Nat) : Int) ∧ 0 < gF G (i - 1) ∧ gA G i = ((gF G (i - 1) - 1 : Nat) : Int) ∧ gF G i = gF G (gF G (i - 1) - 1) ∧ (gO G i = 9 → gW G i = gW G (gF G (i - 1) - 1) + gW G (i - 1)) ∧ (10 ≤ gO G i → gO G i ≤ 18 → gW G (gF G (i - 1) - 1) = gW G (i - 1)) ∧ (13 ≤ gO G i → gO G i ≤ 15 → gW G i = 1) ∧ (10 ≤ gO G i → (gO G i ≤ 12 ∨ 16 ≤ gO G i) → gW G i = gW G (gF G (i - 1) - 1))) ∧
  (gO G i = 19 → ∃ a b : Nat, 0 < i ∧ gC G i = ((i - 1 : Nat) : Int) ∧ b + 1 = gF G (i - 1) ∧ a + 1 = gF G b ∧ gB G i = (b : Int) ∧ gA G i = (a : Int) ∧ gF G i = gF G a ∧ gW G a = 1 ∧ gW G b = gW G i ∧ gW G (i - 1) = gW G i)
theorem nodW.mono {RD : Nat → Int → Nat → Prop} {WD : Nat → Nat → Prop} {G G' : NG} {i : Nat} (h : nodW RD WD G i) (hF : ∀ j, j < i → gF G j ≤ j) (e : ∀ j, j ≤ i → gAt G G' j) : nodW RD WD G' i := by
  obtain ⟨⟨e1, e2, e3⟩, e4, e5, e6⟩ := e i (Nat.le_refl i)
  have ep : 0 < i → gF G' (i - 1) = gF G (i - 1) ∧ gW G' (i - 1) = gW G (i - 1) := fun q => ⟨(e (i - 1) (by omega)).1.2.1, (e (i - 1) (by omega)).1.2.2⟩
  obtain ⟨h1, h2, h3, h4, h5, h6, h7⟩ := h
  unfold nodW
  rw [e1, e2, e3, e4, e5, e6]
  refine ⟨h1, h2, h3, fun w => ?_, fun w1 w2 => ?_, fun w1 w2 => ?_, fun w => ?_⟩
  · obtain ⟨q1, q2, q3, q4⟩ := h4 w
    rw [(ep q2).1]; exact ⟨q1, q2, q3, q4⟩
  · obtain ⟨q1, q2, q3, q4, q5, q6⟩ := h5 w1 w2
    rw [(ep q1).1, (ep q1).2]; exact ⟨q1, q2, q3, q4, q5, q6⟩
  · obtain ⟨q1, q2, q3, q4, q5, q6⟩ := h6 w1 w2
    have hf := hF (i - 1) (by omega)
    have e9 := e (gF G (i - 1) - 1) (by omega)
    rw [(ep q1).1, (ep q1).2, e9.1.2.1, e9.1.2.2]; exact ⟨q1, q2, q3, q4, q5, q6⟩
  · obtain ⟨a, b, q1, q2, q3, q4, q5, q6, q7, q8, q9, q10⟩ := h7 w
    have hf := hF (i - 1) (by omega)
    have hf2 := hF b (by omega)
    refine ⟨a, b, q1, q2, ?_, ?_, q5, q6, ?_, ?_, ?_, ?_⟩
    · rw [(ep q1).1]; exact q3
    · rw [(e b (by omega)).1.2.1]; exact q4
    · rw [(e a (by omega)).1.2.1]; exact q7
    · rw [(e a (by omega)).1.2.2]; exact q8
    · rw [(e b (by omega)).1.2.2]; exact q9
    · rw [(ep q1).2]; exact q10
/-- an expression begins with a leaf -/
theorem leaf1 {RD : Nat → Int → Nat → Prop} {WD : Nat → Nat → Prop} {G : NG} {N : Nat} (h : ∀ i, i < N → nodW RD WD G i) : ∀ x, x < N → gO G (gF G x) ≤ 1 := by
  intro x
  induction x using Nat.strongRecOn with
  | ind x ih =>
    intro hx
    obtain ⟨⟨o1, w1, w2, f1⟩, h2, h3, h4, h5, h6, h7⟩ := h x hx
    by_cases c0 : gO G x ≤ 1
    · have : gF G x = x := by
        rcases (show gO G x = 0 ∨ gO G x = 1 by omega) with e | e
        · exact (h2 e).1
        · exact (h3 e).1
      rw [this]; exact c0
    · by_cases c2 : gO G x = 2
      · obtain ⟨_, q1, _, q2⟩ := h4 c2
        rw [q2]; exact ih (x - 1) (by omega) (by omega)
      · by_cases c8 : gO G x ≤ 8
        · obtain ⟨q1, _, q2, _⟩ := h5 (by omega) c8
          rw [q2]; exact ih (x - 1) (by omega) (by omega)
        · have fb := (h (x - 1) (by omega)).1.2.2.2
          by_cases c19 : gO G x = 19
          · obtain ⟨a, b, q1, _, q3, q4, _, _, q7, _⟩ := h7 c19
            have fb2 := (h b (by omega)).1.2.2.2
            rw [q7]; exact ih a (by omega) (by omega)
          · obtain ⟨q1, _, q3, _, q5, _⟩ := h6 (by omega) c19
            rw [q5]; exact ih _ (by omega) (by omega)
theorem wS_exp {RD : Nat → Int → Nat → Prop} {WD : Nat → Nat → Prop} {G : NG} {N M : Nat} (h : ∀ i, i < M → nodW RD WD G i) (hM : N < M) (hF : gF G (M - 1) = N) : wS G N + 1 ≤ wS G M := by
  have h1 := leaf1 h (M - 1) (by omega)
  rw [hF] at h1
  have w1 : wt G N = 1 := by
    unfold wt
    rw [if_neg (fun z => by omega)]
  have h2 := wS_mono (G := G) (show N + 1 ≤ M by omega)
  have h3 : wS G (N + 1) = wS G N + wt G N := rfl
  omega
/-- node i of both sides -/
def ndRel (σ τ : St) (G : NG) (i : Nat) : Prop := (σ.1 14 i = (gO G i : Int) ∧ σ.1 15 i = gA G i ∧ σ.1 16 i = gB G i ∧ σ.1 17 i = gC G i ∧ σ.1 18 i = (gW G i : Int)) ∧ τ.1 2105 i = (gW G i : Int) ∧ ndR (gO G i) (gA G i) (gB G i) (gC G i) (τ.1 2101 i) (τ.1 2102 i) (τ.1 2103 i) (τ.1 2104 i) (τ.2.1 2106 i)
/-- what expressions leave alone -/
def nEX (a k : Nat) : Prop := ¬ ((a = 2 ∧ 3 ≤ k ∧ k ≤ 9) ∨ (a = 5 ∧ (k = 13 ∨ k = 14)) ∨ (14 ≤ a ∧ a ≤ 18))
def nEY (a k : Nat) : Prop := ¬ ((a = 2075 ∧ ((30 ≤ k ∧ k ≤ 36) ∨ k = 38 ∨ k = 39 ∨ (55 ≤ k ∧ k ≤ 57))) ∨ (2101 ≤ a ∧ a ≤ 2106))
def StE (V : St → St → Prop) : Prop := ∀ σ τ σ' τ', agr nEX σ σ' → agr nEY τ τ' → V σ τ → V σ' τ'
/-- the state of both sides between tokens of an expression; j = joins under way + 65536 * (counts that are not used yet) -/
def EX0 (V : St → St → Prop) (RD : Nat → Int → Nat → Prop) (WD : Nat → Nat → Prop) (G : NG) (N j op p : Nat) (σ τ : St) : Prop := V σ τ ∧ ((σ.1 5 13 = (N : Int) ∧ τ.1 2075 38 = (N : Int)) ∧ N ≤ p) ∧ (∃ ct : Nat, τ.1 2075 39 = (ct : Int) ∧ σ.1 5 14 = ((ct + j % 65536 : Nat) : Int) ∧ ct + j % 65536 ≤ p ∧ wS G N + j / 65536 ≤ ct + j % 65536) ∧ (op ≤ 20 ∧ σ.1 2 9 = (op : Int) ∧ τ.1 2075 36 = (op : Int)) ∧ ∀ i, i < N → ndRel σ τ G i ∧ nodW RD WD G i
theorem agr_nEX {σ τ : St} (h : agr kX9 σ τ) : agr nEX σ τ := agr.sub h (fun a k q => by unfold nEX at q; unfold kX9; omega)
theorem agr_nEY {σ τ : St} (h : agr kY6 σ τ) : agr nEY σ τ := agr.sub h (fun a k q => by unfold nEY at q; unfold kY6; omega)
section
variable {V : St → St → Prop} {RD : Nat → Int → Nat → Prop} {WD : Nat → Nat → Prop} {G : NG} {N j op p : Nat} {σ τ σ' τ' : St}
theorem EX0.le {q : Nat} (h : EX0 V RD WD G N j op p σ τ) (hq : p ≤ q) : EX0 V RD WD G N j op q σ τ := by
  obtain ⟨h1, ⟨h2, h3⟩, ⟨ct, h4, h5, h6⟩, h7⟩ := h
  exact ⟨h1, ⟨h2, by omega⟩, ⟨ct, h4, h5, by omega, h6.2⟩, h7⟩
/-- tokens, nests -/
theorem EX0.fr9 {op' : Nat} (hV : StE V) (h : EX0 V RD WD G N j op p σ τ) (e : agr kX9 σ σ') (e' : agr kY6 τ τ') (ho : op' ≤ 20) (o1 : σ'.1 2 9 = (op' : Int)) (o2 : τ'.1 2075 36 = (op' : Int)) : EX0 V RD WD G N j op' p σ' τ' := by
  obtain ⟨h1, ⟨h2, h3⟩, ⟨ct, h4, h5, h6⟩, h7, h8⟩ := h
  refine ⟨hV _ _ _ _ (agr_nEX e) (agr_nEY e') h1, ⟨⟨?_, ?_⟩, h3⟩, ⟨ct, ?_, ?_, h6⟩, ⟨ho, o1, o2⟩, fun i hi => ⟨?_, (h8 i hi).2⟩⟩
  · rw [(e 5 13 (by unfold kX9; omega)).1]; exact h2.1
  · rw [(e' 2075 38 (by unfold kY6; omega)).1]; exact h2.2
  · rw [(e' 2075 39 (by unfold kY6; omega)).1]; exact h4
  · rw [(e 5 14 (by unfold kX9; omega)).1]; exact h5
  · unfold ndRel
    rw [(e 14 i (by unfold kX9; omega)).1, (e 15 i (by unfold kX9; omega)).1, (e 16 i (by unfold kX9; omega)).1, (e 17 i (by unfold kX9; omega)).1, (e 18 i (by unfold kX9; omega)).1, (e' 2105 i (by unfold kY6; omega)).1, (e' 2101 i (by unfold kY6; omega)).1, (e' 2102 i (by unfold kY6; omega)).1, (e' 2103 i (by unfold kY6; omega)).1, (e' 2104 i (by unfold kY6; omega)).1, (e' 2106 i (by unfold kY6; omega)).2.1]
    exact (h8 i hi).1
theorem EX0.st (hV : StE V) : StT (EX0 V RD WD G N j op p) := fun σ τ σ' τ' e e' h => h.fr9 hV (agr_kX9 e) (agr_kY6 e') h.2.2.2.1.1 (by rw [(e 2 9 (by unfold kX; omega)).1]; exact h.2.2.2.1.2.1) (by rw [(e' 2075 36 (by unfold kY; omega)).1]; exact h.2.2.2.1.2.2)
/-- fewer are open -/
theorem close_l {k : Nat} (h : σ.1 2 9 = ((k + 1 : Nat) : Int)) (hk : k ≤ 100) {Q : Unit → St → Prop} : wp (bd (gI 2 9) fun v => pI 2 9 (w32 (v - 1))) σ Q = Q () (stA σ.1 2 (ups (σ.1 2) 9 (k : Int)), σ.2) := by
  rw [wp_bd, wp_gI, h, wp_pI, w32_i (by omega) (by omega), show ((k + 1 : Nat) : Int) - 1 = (k : Int) by omega]
variable {c0 : Nat × Int} {σ0 τ0 : St} {T : Nat → Int} {n : Nat} {γ δ : Type}
theorem LK_close {B : δ → Prop} {f' : St → Option ((γ ⊕ XV) × St)} {g' : St → Option (δ × St)} {P : γ → δ → St → St → Prop} (hV : StE V) (hb : BS c0 σ0 τ0 T n σ τ) (hk : TKf T n σ τ p) (hx : EX0 V RD WD G N j (op + 1) p σ τ) (go : ∀ σ' τ', agr kX9 σ σ' → agr kY6 τ τ' → BS c0 σ0 τ0 T n σ' τ' → TKf T n σ' τ' p → EX0 V RD WD G N j op p σ' τ' → LK c0 σ0 τ0 B f' g' σ' τ' P) : LK c0 σ0 τ0 B (bd (gI 2 9) fun v => bd (pI 2 9 (w32 (v - 1))) fun _ => f') (bd (gI 2075 36) fun v => bd (pI 2075 36 (w32 (v - 1))) fun _ => g') σ τ P := by
  obtain ⟨o0, o1, o2⟩ := hx.2.2.2.1
  refine LK_c ?_
  rw [wp_gI, o1]
  refine LK_c ?_
  rw [wp_pI]
  refine LK_t ?_
  rw [wp_gI, o2]
  refine LK_t ?_
  rw [wp_pI, w32_i (by omega) (by omega), show ((op + 1 : Nat) : Int) - 1 = (op : Int) by omega]
  have e1 : agr kX9 σ (stA σ.1 2 (ups (σ.1 2) 9 (op : Int)), σ.2) := agr.refl.u (by unfold kX9; omega) _
  have e2 : agr kY6 τ (stA τ.1 2075 (ups (τ.1 2075) 36 (op : Int)), τ.2) := agr.refl.u (by unfold kY6; omega) _
  refine go _ _ e1 e2 (hb.fr9 e1 e2) ?_ (hx.fr9 hV e1 e2 (by omega) (by dsimp only; rw [stA_eq, ups_eq]) (by dsimp only; rw [stA_eq, ups_eq]))
  obtain ⟨k1, ⟨k2, k3⟩, k4, k5⟩ := hk
  refine ⟨k1, ⟨?_, ?_⟩, ?_, ?_⟩ <;> dsimp only <;> rw [stA_eq, ups_ne (by decide)] <;> assumption
/-- the component's new node -/
theorem addX {opn : Nat} {a b c : Int} {w : Nat} (hN : σ.1 5 13 = (N : Int)) (hl : N < 4100) {Q : Int → St → Prop} (go : ∀ σ', agr nEX σ σ' → (σ'.1 2 = σ.1 2 ∧ σ'.2 = σ.2 ∧ σ'.1 5 14 = σ.1 5 14) → σ'.1 5 13 = ((N + 1 : Nat) : Int) → (σ'.1 14 = ups (σ.1 14) N (opn : Int) ∧ σ'.1 15 = ups (σ.1 15) N a ∧ σ'.1 16 = ups (σ.1 16) N b ∧ σ'.1 17 = ups (σ.1 17) N c ∧ σ'.1 18 = ups (σ.1 18) N (w : Int)) → Q (N : Int) σ') : wp (F_X2_addNode 5 (opn : Int) a b c (w : Int)) σ Q := by
  rw [F_X2_addNode, wp_bd, wp_gI, hN, wp_bd, show (5 + 9 : Nat) = 14 from rfl, RV_14 (by omega) (by omega), tn, wp_bd, wp_gI]
  dsimp only
  rw [stA_ne (a := 14) (b := 5) (by decide), hN, wp_bd, show (5 + 10 : Nat) = 15 from rfl, RV_15 (by omega) (by omega), tn, wp_bd, wp_gI]
  dsimp only
  rw [stA_ne (a := 15) (b := 5) (by decide), stA_ne (a := 14) (b := 5) (by decide), hN, wp_bd, show (5 + 11 : Nat) = 16 from rfl, RV_16 (by omega) (by omega), tn, wp_bd, wp_gI]
  dsimp only
  rw [stA_ne (a := 16) (b := 5) (by decide), stA_ne (a := 15) (b := 5) (by decide), stA_ne (a := 14) (b := 5) (by decide), hN, wp_bd, show (5 + 12 : Nat) = 17 from rfl, RV_17 (by omega) (by omega), tn, wp_bd, wp_gI]
  dsimp only
  rw [stA_ne (a := 17) (b := 5) (by decide), stA_ne (a := 16) (b := 5) (by decide), stA_ne (a := 15) (b := 5) (by decide), stA_ne (a := 14) (b := 5) (by decide), hN, wp_bd, show (5 + 13 : Nat) = 18 from rfl, RV_18 (by omega) (by omega), tn, wp_bd, wp_gI]
  dsimp only
  rw [stA_ne (a := 18) (b := 5) (by decide), stA_ne (a := 17) (b := 5) (by decide), stA_ne (a := 16) (b := 5) (by decide), stA_ne (a := 15) (b := 5) (by decide), stA_ne (a := 14) (b := 5) (by decide), hN, wp_bd, wp_pI, wp_rt, w32_i (by omega) (by omega)]
  dsimp only
  refine go _ ?_ ⟨?_, rfl, ?_⟩ ?_ ⟨?_, ?_, ?_, ?_, ?_⟩
  · refine (((((agr.refl.w (a := 14) (fun k q => ?_)).w (a := 15) (fun k q => ?_)).w (a := 16) (fun k q => ?_)).w (a := 17) (fun k q => ?_)).w (a := 18) (fun k q => ?_)).w (a := 5) (fun k q => ?_)
    · exact absurd (by omega) q
    · exact absurd (by omega) q
    · exact absurd (by omega) q
    · exact absurd (by omega) q
    · exact absurd (by omega) q
    · unfold nEX at q
      rw [ups_ne (by omega), stA_ne (by decide), stA_ne (by decide), stA_ne (by decide), stA_ne (by decide), stA_ne (by decide)]
  · dsimp only; rw [stA_ne (by decide), stA_ne (by decide), stA_ne (by decide), stA_ne (by decide), stA_ne (by decide), stA_ne (by decide)]
  · dsimp only; rw [stA_eq, ups_ne (by decide), stA_ne (by decide), stA_ne (by decide), stA_ne (by decide), stA_ne (by decide), stA_ne (by decide)]
  · dsimp only; rw [stA_eq, ups_eq]; rfl
  · dsimp only; rw [stA_ne (by decide), stA_ne (by decide), stA_ne (by decide), stA_ne (by decide), stA_ne (by decide), stA_eq]
  · dsimp only; rw [stA_ne (by decide), stA_ne (by decide), stA_ne (by decide), stA_ne (by decide), stA_eq, stA_ne (by decide)]
  · dsimp only; rw [stA_ne (by decide), stA_ne (by decide), stA_ne (by decide), stA_eq, stA_ne (by decide), stA_ne (by decide)]
  · dsimp only; rw [stA_ne (by decide), stA_ne (by decide), stA_eq, stA_ne (by decide), stA_ne (by decide), stA_ne (by decide)]
  · dsimp only; rw [stA_ne (by decide), stA_eq, stA_ne (by decide), stA_ne (by decide), stA_ne (by decide), stA_ne (by decide)]
theorem nodeX {opn cc : Nat} {a b c : Int} {w : Nat} (hN : σ.1 5 13 = (N : Int)) (hC : σ.1 5 14 = (cc : Int)) (hc : cc < 100000) (hl : N < 4100) {Q : Int → St → Prop} (go : ∀ σ', agr nEX σ σ' → (σ'.1 2 = σ.1 2 ∧ σ'.2 = σ.2 ∧ σ'.1 5 14 = ((cc + 1 : Nat) : Int)) → σ'.1 5 13 = ((N + 1 : Nat) : Int) → (σ'.1 14 = ups (σ.1 14) N (opn : Int) ∧ σ'.1 15 = ups (σ.1 15) N a ∧ σ'.1 16 = ups (σ.1 16) N b ∧ σ'.1 17 = ups (σ.1 17) N c ∧ σ'.1 18 = ups (σ.1 18) N (w : Int)) → Q (N : Int) σ') : wp (F_X1_node (opn : Int) a b c (w : Int)) σ Q := by
  rw [F_X1_node, wp_bd, wp_gI, hC, wp_bd, wp_pI, wp_bd, w32_i (by omega) (by omega)]
  refine addX (σ := (stA σ.1 5 (ups (σ.1 5) 14 ((cc : Int) + 1)), σ.2)) (N := N) (by dsimp only; rw [stA_eq, ups_ne (by decide)]; exact hN) hl (fun σ' z1 z2 z3 z4 => ?_)
  rw [wp_rt]
  dsimp only at z2 z4
  rw [stA_ne (a := 5) (b := 2) (by decide), stA_eq, ups_eq] at z2
  rw [stA_ne (a := 5) (b := 14) (by decide), stA_ne (a := 5) (b := 15) (by decide), stA_ne (a := 5) (b := 16) (by decide), stA_ne (a := 5) (b := 17) (by decide), stA_ne (a := 5) (b := 18) (by decide)] at z4
  refine go σ' ((agr.refl.u (a := 5) (i := 14) (by unfold nEX; omega) _).trans z1) ⟨z2.1, z2.2.1, ?_⟩ z3 z4
  rw [z2.2.2]; rfl
/-- the twin's -/
theorem nodeM {k A B C : Int} {w ct : Nat} {v : Int64} {cnt : Int} {d : Nat} (h28 : τ.1 2075 28 = 0) (hN : τ.1 2075 38 = (N : Int)) (hC : τ.1 2075 39 = (ct : Int)) (hct : ct < 100000) (hl : N < 4200) (hcnt : cnt = 0 ∧ d = 0 ∨ cnt = 1 ∧ d = 1) {Q : Int → St → Prop} (go : ∀ τ', agr nEY τ τ' → (∀ i, i ≠ 38 → i ≠ 39 → τ'.1 2075 i = τ.1 2075 i) → τ'.2.1 2075 = τ.2.1 2075 → τ'.1 2075 39 = ((ct + d : Nat) : Int) → τ'.1 2075 38 = ((N + 1 : Nat) : Int) → (τ'.1 2101 = ups (τ.1 2101) N k ∧ τ'.1 2102 = ups (τ.1 2102) N A ∧ τ'.1 2103 = ups (τ.1 2103) N B ∧ τ'.1 2104 = ups (τ.1 2104) N C ∧ τ'.1 2105 = ups (τ.1 2105) N (w : Int) ∧ τ'.2.1 2106 = ups (τ.2.1 2106) N v) → Q (N : Int) τ') : wp (F_X15_node k A B C (w : Int) v cnt) τ Q := by
  have key : ∀ s1 : Int, s1 = (d : Int) → wp (X15_node_40 k A B C (w : Int) v (N : Int) (ct : Int) s1) (stA τ.1 2075 (ups (τ.1 2075) 38 ((N : Int) + 1)), τ.2) Q := by
    rintro s1 rfl
    rw [X15_node_40, wp_bd, wp_pI, w32_i (by omega) (by omega), wp_bd, RV_2101 (by omega) (by omega), tn, wp_bd, RV_2102 (by omega) (by omega), tn, wp_bd, RV_2103 (by omega) (by omega), tn, wp_bd, RV_2104 (by omega) (by omega), tn, wp_bd, RV_2105 (by omega) (by omega), tn, wp_bd, RV_2106 (by omega) (by omega), tn, wp_rt]
    dsimp only
    refine go _ ?_ (fun i h1 h2 => ?_) ?_ ?_ ?_ ⟨?_, ?_, ?_, ?_, ?_, ?_⟩
    · refine ((((((((agr.refl.w (a := 2075) (fun k q => ?_)).w (a := 2075) (fun k q => ?_)).w (a := 2101) (fun k q => ?_)).w (a := 2102) (fun k q => ?_)).w (a := 2103) (fun k q => ?_)).w (a := 2104) (fun k q => ?_)).w (a := 2105) (fun k q => ?_)).v (a := 2106) (fun k q => ?_))
      · unfold nEY at q; rw [ups_ne (by omega)]
      · unfold nEY at q; rw [ups_ne (by omega), stA_eq, ups_ne (by omega)]
      · exact absurd (by omega) q
      · exact absurd (by omega) q
      · exact absurd (by omega) q
      · exact absurd (by omega) q
      · exact absurd (by omega) q
      · exact absurd (by omega) q
    · dsimp only; rw [stA_ne (by decide), stA_ne (by decide), stA_ne (by decide), stA_ne (by decide), stA_ne (by decide), stA_eq, ups_ne h2, stA_eq, ups_ne h1]
    · dsimp only; rw [stA_ne (by decide)]
    · dsimp only; rw [stA_ne (by decide), stA_ne (by decide), stA_ne (by decide), stA_ne (by decide), stA_ne (by decide), stA_eq, ups_eq]; rfl
    · dsimp only; rw [stA_ne (by decide), stA_ne (by decide), stA_ne (by decide), stA_ne (by decide), stA_ne (by decide), stA_eq, ups_ne (by decide), stA_eq, ups_eq]; rfl
    · dsimp only; rw [stA_ne (by decide), stA_ne (by decide), stA_ne (by decide), stA_ne (by decide), stA_eq, stA_ne (by decide), stA_ne (by decide)]
    · dsimp only; rw [stA_ne (by decide), stA_ne (by decide), stA_ne (by decide), stA_eq, stA_ne (by decide), stA_ne (by decide), stA_ne (by decide)]
    · dsimp only; rw [stA_ne (by decide), stA_ne (by decide), stA_eq, stA_ne (by decide), stA_ne (by decide), stA_ne (by decide), stA_ne (by decide)]
    · dsimp only; rw [stA_ne (by decide), stA_eq, stA_ne (by decide), stA_ne (by decide), stA_ne (by decide), stA_ne (by decide), stA_ne (by decide)]
    · dsimp only; rw [stA_eq, stA_ne (by decide), stA_ne (by decide), stA_ne (by decide), stA_ne (by decide), stA_ne (by decide), stA_ne (by decide)]
    · dsimp only; rw [stA_eq]
  rw [F_X15_node, wp_bd, wp_gI, h28, wp_ifp (by decide), wp_bd, wp_gI, hN, wp_lt, wp_bd, wp_gI, hN, wp_bd, wp_pI, w32_i (by omega) (by omega), wp_bd, wp_gI]
  dsimp only
  rw [stA_eq, ups_ne (by decide), hC]
  rcases hcnt with ⟨rfl, rfl⟩ | ⟨rfl, rfl⟩
  · rw [wp_ifp rfl]; exact key 0 rfl
  · rw [wp_ifn (by decide)]; exact key 1 rfl
end
