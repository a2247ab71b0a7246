set_option maxRecDepth 100000
set_option maxHeartbeats 400000
/-! ===== bits: the twin's whens ===== -/
section
variable {Ms : Nat → ModV} {top : Nat} {s : LYS} {r : Nat → Nat} {K S : Nat} {A : Nat → Prop} {mk : Nat → BST → BST} {i : Nat} {σ τ : St}
/-- the whens around a statement -/
def crS (σ : St) (B y : Nat) (L : List (Nat × Bool)) : Prop := crT (fun k => σ.1 2097 (B + k)) (fun k => σ.1 2098 (B + k)) (fun k => σ.1 2099 (B + k)) y (σ.1 2098 (B + y)) (σ.1 2099 (B + y)) L
theorem crS.nil {B y : Nat} (h : crS σ B y []) : σ.1 2098 (B + y) = -1 := h.1
theorem crS.cons {B y : Nat} {x : Nat × Bool} {L : List (Nat × Bool)} (h : crS σ B y (x :: L)) : ∃ y' : Nat, y' < y ∧ σ.1 2098 (B + y) = (y' : Int) ∧ σ.1 2097 (B + y') = (x.1 : Int) ∧ σ.1 2099 (B + y) = (if x.2 = true then 1 else 0) ∧ crS σ B y' L := by
  obtain ⟨⟨c1, c2⟩, ⟨c3, c4⟩, c5⟩ := h
  obtain ⟨y', e⟩ := Int.eq_ofNat_of_zero_le c1
  rw [e, tn] at c3 c5
  exact ⟨y', by omega, e, c3, c4, c5⟩
theorem crS.tg {B y : Nat} {L : List (Nat × Bool)} (h : crS σ B y L) (e : agr tG σ τ) : crS τ B y L := by
  unfold crS
  rw [e.row (a := 2097) (fun k => by unfold tG; omega), e.row (a := 2098) (fun k => by unfold tG; omega), e.row (a := 2099) (fun k => by unfold tG; omega)]
  exact h
def WHT (Ms : Nat → ModV) (top : Nat) (s : LYS) (S : Nat) (r : Nat → Nat) (K : Nat) (wh : Int → Int → St → Option (Int × St)) (mk : Nat → BST → BST) : Prop := ∀ (i y : Nat) (L : List (Nat × Bool)), i < lsI s → y < 120 → L.length ≤ 20 → (∀ x, x ∈ L → x.1 < mdN (moI Ms s i) ∧ gW (gI' Ms s i) x.1 = 1) → ∀ (A : Nat → Prop) (st : BST) (p q : Nat) (σ : St), BTr Ms top s S A st p σ → crS σ (200 * (12 * S + lsM s i)) y L → (∀ x, x ∈ L → rdU Ms s r K A i x.1 ∧ roomE Ms s r p q i x.1) → p < 200000 → σ.1 2075 112 = (q : Int) → ∀ (Q : Int → St → Prop), (∀ τ, BTr Ms top s S A (whB Ms s mk i L st).2 p τ → agr tG σ τ → lowT p q σ τ → τ.1 2075 112 = (q : Int) → ltB (lvD Ms s) (whB Ms s mk i L st).2.1 (whB Ms s mk i L st).1 → Q ((whB Ms s mk i L st).1 : Int) τ) → wp (wh (i : Int) (y : Int)) σ Q
theorem e200M {S m k : Nat} (hS : S < 5) (hm : m < 12) (hk : k < 200) : w32 (((200 * (12 * S + m) : Nat) : Int) + (k : Int)) = ((200 * (12 * S + m) + k : Nat) : Int) := wN (by omega)
theorem cntT {bo : Int → Int → St → Option (Unit × St)} {S m : Nat} (hS5 : S < 5) (hm : m < 12) {i y : Int} {Q : Int → St → Prop} : ∀ (L : List (Nat × Bool)) (j y' f : Nat), crS σ (200 * (12 * S + m)) y' L → y' < 120 → j + L.length ≤ 20 → L.length < f → wp (X15_whenBit_49 bo i y ((200 * (12 * S + m) : Nat) : Int) ((j + L.length : Nat) : Int)) σ Q → wp (X15_whenBit_20 bo f i y ((200 * (12 * S + m) : Nat) : Int) (j : Int) (y' : Int)) σ Q
  | [], j, y', f, h, hy, hj, hf, hQ => by
    have hf' : 0 < f := hf
    obtain ⟨f', rfl⟩ : ∃ f', f = f' + 1 := ⟨f - 1, by omega⟩
    rw [X15_whenBit_20, wp_bd, e200M hS5 hm (by omega), RI_2098 (by omega) (by omega), tn, h.nil, wp_ifp (by decide)]
    exact hQ
  | x :: L, j, y', f, h, hy, hj, hf, hQ => by
    have hf' : L.length + 1 < f := hf
    have hj' : j + (L.length + 1) ≤ 20 := hj
    obtain ⟨f', rfl⟩ : ∃ f', f = f' + 1 := ⟨f - 1, by omega⟩
    obtain ⟨y2, c1, c2, c3, c4, c5⟩ := h.cons
    rw [X15_whenBit_20, wp_bd, e200M hS5 hm (by omega), RI_2098 (by omega) (by omega), tn, c2, wp_ifn (by omega), wp_lt, wp_bd, RI_2098 (by omega) (by omega), tn, c2, wp_lt, wN1 (by omega)]
    refine cntT hS5 hm L (j + 1) y2 f' c5 (by omega) (by omega) (by omega) ?_
    have e : (x :: L).length = L.length + 1 := rfl
    rw [e, show j + (L.length + 1) = j + 1 + L.length by omega] at hQ
    exact hQ
theorem folT {bo : Int → Int → St → Option (Unit × St)} {rec : Int → Int → Int → Int → Int → St → Option (Int × St)} {S m : Nat} (hS5 : S < 5) (hm : m < 12) {i y x5 : Int} {K0 : Nat} {Q : Int → St → Prop} : ∀ (k j y' f : Nat) (L : List (Nat × Bool)), crS σ (200 * (12 * S + m)) y' L → y' < 120 → j + k = K0 → k ≤ L.length → K0 ≤ 20 → k < f → (∀ y2, y2 < 120 → crS σ (200 * (12 * S + m)) y2 (L.drop k) → wp (X15_whenBit_93 bo rec i y ((200 * (12 * S + m) : Nat) : Int) x5 (K0 : Int) (y2 : Int)) σ Q) → wp (X15_whenBit_69 bo rec f i y ((200 * (12 * S + m) : Nat) : Int) x5 (K0 : Int) (y' : Int) (j : Int)) σ Q
  | 0, j, y', f, L, h, hy, hj, hl, hK, hf, hQ => by
    obtain ⟨f', rfl⟩ : ∃ f', f = f' + 1 := ⟨f - 1, by omega⟩
    rw [X15_whenBit_69, wp_ifp (by omega)]
    exact hQ y' hy h
  | k + 1, j, y', f, [], h, hy, hj, hl, hK, hf, hQ => absurd hl (Nat.not_succ_le_zero k)
  | k + 1, j, y', f, x :: L, h, hy, hj, hl, hK, hf, hQ => by
    obtain ⟨f', rfl⟩ : ∃ f', f = f' + 1 := ⟨f - 1, by omega⟩
    obtain ⟨y2, c1, c2, c3, c4, c5⟩ := h.cons
    have hl' : k + 1 ≤ L.length + 1 := hl
    rw [X15_whenBit_69, wp_ifn (by omega), wp_bd, e200M hS5 hm (by omega), RI_2098 (by omega) (by omega), tn, c2, wp_lt, wp_lt, wN1 (by omega)]
    exact folT hS5 hm k (j + 1) y2 f' L c5 (by omega) (by omega) (by omega) hK (by omega) hQ
theorem drop_one {α : Type} : ∀ (L : List α) (k : Nat), k < L.length → ∃ x, x ∈ L ∧ L.drop k = x :: L.drop (k + 1)
  | [], k, h => absurd h (Nat.not_lt_zero k)
  | a :: L, 0, _ => ⟨a, List.mem_cons_self, rfl⟩
  | a :: L, k + 1, h => by
    have h' : k + 1 < L.length + 1 := h
    obtain ⟨x, x1, x2⟩ := drop_one L k (by omega)
    exact ⟨x, List.mem_cons_of_mem _ x1, x2⟩
theorem whB_c {x : Nat × Bool} {L : List (Nat × Bool)} {st : BST} : whB Ms s mk i (x :: L) st = ((andB (lvD Ms s) (whB Ms s mk i L st).1 (if x.2 = true then ng ((rngB Ms s mk i x.1 (whB Ms s mk i L st).2).1 0) else (rngB Ms s mk i x.1 (whB Ms s mk i L st).2).1 0) (rngB Ms s mk i x.1 (whB Ms s mk i L st).2).2.1).1, (andB (lvD Ms s) (whB Ms s mk i L st).1 (if x.2 = true then ng ((rngB Ms s mk i x.1 (whB Ms s mk i L st).2).1 0) else (rngB Ms s mk i x.1 (whB Ms s mk i L st).2).1 0) (rngB Ms s mk i x.1 (whB Ms s mk i L st).2).2.1).2, (rngB Ms s mk i x.1 (whB Ms s mk i L st).2).2.2) := rfl
theorem whenBT (hd : DP Ms top s) (hlim : limOK Ms s) (hS5 : S < 5) (hp : PMK Ms s r K mk) {bo : Int → Int → St → Option (Unit × St)} (hf : FDT Ms top s S r K bo mk) : WHT Ms top s S r K (fun a1 a2 => F_X15_whenBit bo a1 a2) mk := by
  intro i y L hi hy hL20 hL A st p q σ hB hcr hrd hp2 h112 Q hQ
  have hF := FU_ge
  have h12 := hd.1.1
  obtain ⟨hM, ok⟩ := hd.inst hi
  have hl : inbS Ms s (lsG s) ≤ 64 ∧ keptS Ms s (lsG s) ≤ 200 := ⟨hlim.2.2.1, hlim.1.2⟩
  have hlv : lvD Ms s ≤ 264 := by unfold lvD; omega
  have key : ∀ k f τ, k ≤ L.length → k < f → BTr Ms top s S A (whB Ms s mk i (L.drop k) st).2 p τ → agr tG σ τ → lowT p q σ τ → τ.1 2075 112 = (q : Int) → ltB (lvD Ms s) (whB Ms s mk i (L.drop k) st).2.1 (whB Ms s mk i (L.drop k) st).1 → wp (X15_whenBit_58 bo f (i : Int) (y : Int) ((200 * (12 * S + lsM s i) : Nat) : Int) ((whB Ms s mk i (L.drop k) st).1 : Int) ((k : Int) - 1)) τ Q := by
    intro k
    induction k with
    | zero =>
      intro f τ hk hf' b1 b2 b3 b4 b5
      obtain ⟨f', rfl⟩ : ∃ f', f = f' + 1 := ⟨f - 1, by omega⟩
      rw [X15_whenBit_58, wp_ifp (by omega), wp_rt]
      exact hQ τ b1 b2 b3 b4 b5
    | succ k ih =>
      intro f τ hk hf' b1 b2 b3 b4 b5
      obtain ⟨f', rfl⟩ : ∃ f', f = f' + 1 := ⟨f - 1, by omega⟩
      obtain ⟨x, x1, x2⟩ := drop_one L k (by omega)
      obtain ⟨u1, u2⟩ := hL x x1
      obtain ⟨r1, r2⟩ := hrd x x1
      have e := whB_c (Ms := Ms) (s := s) (mk := mk) (i := i) (x := x) (L := L.drop (k + 1)) (st := st)
      rw [← x2] at e
      generalize hw : whB Ms s mk i (L.drop (k + 1)) st = w at *
      rw [X15_whenBit_58, wp_ifn (by omega), wp_lt, wp_lt, show ((k + 1 : Nat) : Int) - 1 = (k : Int) by omega]
      refine folT hS5 (by omega) k 0 y FU L (hcr.tg b2) hy (by omega) (by omega) (by omega) (by omega) (fun y2 c1 c2 => ?_)
      rw [x2] at c2
      obtain ⟨y3, d1, d2, d3, d4, -⟩ := c2.cons
      rw [X15_whenBit_93, wp_bd, wp_gI, b1.2.2.2.2.1, wp_lt, wp_bd, e200M hS5 (by omega) (by omega), RI_2098 (by omega) (by omega), tn, d2, wp_bd, e200M hS5 (by omega) (by omega), RI_2097 (by omega) (by omega), tn, d3, wp_bd]
      refine hf i x.1 hi u1 A w.2 p q τ b1 r1 r2 b4 _ (fun τ2 g1 g2 g3 g4 g5 g6 => ?_)
      have goW := (rngB_go hd hp.1 hi u1 b1.2.2.1).1
      generalize hr : rngB Ms s mk i x.1 w.2 = R at *
      rw [u2] at g1 g5 g6
      have lb := g5 0 (by decide)
      have c6 := g6 0 (by decide)
      rw [Nat.add_zero] at c6
      rw [wp_bd, RI_2153 (by omega) (by omega), tn, c6, wp_bd, RI_2099 (by omega) (by omega), tn, g2.row (a := 2099) (fun k => by unfold tG; omega), d4]
      have fin : ∀ v : Nat, v = (if x.2 = true then ng (R.1 0) else R.1 0) → ltB (lvD Ms s) R.2.1 v → wp (bd (F_X15_and (w.1 : Int) (v : Int)) fun v1 => lt v1 fun x5_2 => bd (pI 2075 105 (p : Int)) fun _ => lt (w32 ((k : Int) + (-1))) fun x6_3 => X15_whenBit_58 bo f' (i : Int) (y : Int) ((200 * (12 * S + lsM s i) : Nat) : Int) x5_2 x6_3) τ2 Q := by
        intro v hv hlt
        refine tAnd hl g1.kt (goW.1.lt b5) hlt (fun τ3 h1 h2 h3 h4 => ?_)
        have h1' := h1.pt (q := p) (v := (p : Int)) rfl
        rw [wp_lt, wp_bd, wp_pI, wp_lt, w32_i (by omega) (by omega), show (k : Int) + -1 = (k : Int) - 1 by omega]
        obtain ⟨m1, m2⟩ := g1.fr hd h1' h2
        have ee : whB Ms s mk i (L.drop k) st = ((andB (lvD Ms s) w.1 v R.2.1).1, (andB (lvD Ms s) w.1 v R.2.1).2, R.2.2) := by rw [e, hv]
        rw [ee] at ih
        refine ih f' _ (by omega) (by omega) m1 ((b2.trans g2).trans m2) (b3.trans (g3.trans (h1'.low (fun k hk => ?_)))) (by rw [h1'.wk.2]; exact g4) h3
        dsimp only
        rw [stA_ne (by decide), h4]
      cases hq : x.2 with
      | true =>
        rw [hq] at fin
        rw [if_pos rfl, wp_ifn (by decide), X15_whenBit_147, ixor1 (ltB_lt g1.2.2.1.1 hlv lb)]
        exact fin _ (if_pos rfl).symm (ltB_ng lb)
      | false =>
        rw [hq] at fin
        have e0 : (if (false = true) then (1 : Int) else 0) = 0 := rfl
        rw [e0, wp_ifp rfl, X15_whenBit_147, ixor0 (ltB_lt g1.2.2.1.1 hlv lb)]
        exact fin _ rfl lb
  show wp (F_X15_whenBit bo (i : Int) (y : Int)) σ Q
  rw [F_X15_whenBit, wp_bd, wp_gI, hB.1.2.1, wp_bd, m_store hd hB.1.1 hS5 hi, wp_lt, w32_i (x := 200 * ((12 * S + lsM s i : Nat) : Int)) (by omega) (by omega), show 200 * ((12 * S + lsM s i : Nat) : Int) = ((200 * (12 * S + lsM s i) : Nat) : Int) by omega, wp_lt, wp_lt]
  refine cntT hS5 (by omega) L 0 y FU hcr hy (by omega) (by omega) ?_
  rw [X15_whenBit_49, wp_lt, wp_lt, Nat.zero_add, w32_i (by omega) (by omega)]
  have hk := key L.length FU σ (Nat.le_refl _) (by omega)
  rw [List.drop_length] at hk
  exact hk hB agr.refl lowT.refl h112 ltB1
end
