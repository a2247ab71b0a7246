set_option maxRecDepth 100000
set_option maxHeartbeats 400000
/-! ===== read: the rows of signs, loops ===== -/
section
variable {V : St → St → Prop} {RD : Nat → Int → Nat → Prop} {WD : Nat → Nat → Prop} {c0 : Nat × Int} {σ0 τ0 : St} {T : Nat → Int} {n op : Nat} {γ δ : Type}
theorem LK_sign {R : St → St → Prop} {p : Nat} {σ τ : St} {B : δ → Prop} {f' : Int → St → Option ((γ ⊕ XV) × St)} {g' : Unit → St → Option (δ × St)} {P : γ → δ → St → St → Prop} (hb : BS c0 σ0 τ0 T n σ τ) (hk : TKp T n σ τ p) (h0 : tkK T n p ≠ 0) (hS : StT R) (hR : R σ τ) (go : ∀ q σ' τ', p < q → q = p + tkL T n p → agr kX σ σ' → agr kY τ τ' → BS c0 σ0 τ0 T n σ' τ' → R σ' τ' → TKf T n σ' τ' q → LK c0 σ0 τ0 B (f' (p : Int)) (g' ()) σ' τ' P) : LK c0 σ0 τ0 B (bd F_X1_sign f') (bd F_X15_take g') σ τ P := by
  have hl := tkL_r hk.1 h0 hk.2.1
  refine LK_c ?_
  rw [F_X1_sign, wp_bd, wp_gI, hk.k6, wp_lt, wp_bd]
  refine pass_l hb hk h0 (fun σ' e1 e2 e3 => ?_)
  rw [wp_rt]
  refine LK_t (take_r hk (fun τ' z1 z2 z3 => ?_))
  exact go _ σ' τ' (by omega) rfl e1 z1 (hb.fr e1 z1) (hS _ _ _ _ e1 z1 hR) ⟨hl.2, e2, z2⟩
theorem gI28 {σ : St} {τ : St} (h : τ.1 2075 28 = 0) {Q : Int → St → Prop} : wp (gI 2075 28) τ Q = Q 0 τ := by rw [wp_gI, h]
/-- two expressions and a sign come together -/
theorem LK_both {G : NG} {N M N0 j p pt q : Nat} {K : Int} {σ τ : St} {rl : Int → St → Option (Int × St)} {ru : St → Option (Int × St)} {rec21 : Int → Int → Int → St → Option (Int × St)} {l : Nat} {z z' : Int} (hz : l = 3 ∧ z = 1 ∧ z' = 0 ∨ l ≠ 3 ∧ z = 0 ∧ z' = 1) {fc : Int → St → Option ((γ ⊕ XV) × St)} {P : γ → Int → St → St → Prop} (hV : StE V) (hl : l < 6) (hK : K ∈ KS) (hlK : lvO (km K) = (l : Int)) (hb : BS c0 σ0 τ0 T n σ τ) (hx : EX0 V RD WD G M j op p σ τ) (hp : p < pt) (hk : TK T n σ τ pt) (hN : N0 < N) (hM : N < M) (hF0 : gF G (N - 1) = N0) (hF1 : gF G (M - 1) = N) (ft : ∀ x3, FTw c0 BQ (rec21 (l : Int) 0 x3)) (go : ∀ w σ' τ', agr nEX σ σ' → agr nEY τ τ' → BS c0 σ0 τ0 T n σ' τ' → TK T n σ' τ' pt → EX0 V RD WD (gUp G M (ocK K) N0 w ((N - 1 : Nat) : Int) ((M - 1 : Nat) : Int) (-1)) (M + 1) j op (p + 1) σ' τ' → LK c0 σ0 τ0 BQ (fc (M : Int)) (rec21 (l : Int) (M : Int) z') σ' τ' P) : LK c0 σ0 τ0 BQ (bdE (F_X1_both (ocK K : Int) ((N - 1 : Nat) : Int) ((M - 1 : Nat) : Int) (q : Int) z) fc) (bd (gI 2075 28) fun v10 => if v10 = 0 then (if 6 ≤ (l : Int) then (X15_level_105 rl ru rec21 (l : Int) ((N - 1 : Nat) : Int) (km K) ((M - 1 : Nat) : Int)) else bd (rdI 2105 ((N - 1 : Nat) : Int)) fun v11 => bd (rdI 2105 ((M - 1 : Nat) : Int)) fun v12 => if v11 = v12 then (X15_level_105 rl ru rec21 (l : Int) ((N - 1 : Nat) : Int) (km K) ((M - 1 : Nat) : Int)) else bd (F_X15_fail 7 (q : Int)) fun _ => X15_level_105 rl ru rec21 (l : Int) ((N - 1 : Nat) : Int) (km K) ((M - 1 : Nat) : Int)) else X15_level_105 rl ru rec21 (l : Int) ((N - 1 : Nat) : Int) (km K) ((M - 1 : Nat) : Int)) σ τ P := by
  have hp4 : pt ≤ 4000 := Nat.le_trans hk.le hb.1.1
  have hMp := hx.2.1.2
  have hlv : 0 ≤ lvO (km K) := by omega
  refine LK_t ?_
  rw [gI28 (σ := σ) hb.2.2.1, if_pos rfl, if_neg (c := 6 ≤ (l : Int)) (by omega)]
  refine LK_t ?_
  rw [wdM hx (by omega) (by omega)]
  refine LK_t ?_
  rw [wdM hx (by omega) (by omega)]
  have wr := (hx.2.2.2.2 (N - 1) (by omega)).2.1
  have bq : BQ ((N - 1 : Nat) : Int) := ⟨by omega, by omega⟩
  by_cases c : gW G (N - 1) = gW G (M - 1)
  · rw [if_pos (c := ((gW G (N - 1) : Nat) : Int) = ((gW G (M - 1) : Nat) : Int)) (by omega)]
    have key : ∀ w : Nat, w = (if lvO (km K) = 3 then 1 else gW G (N - 1)) → LK c0 σ0 τ0 BQ (bd (F_X1_node (ocK K : Int) ((N - 1 : Nat) : Int) ((M - 1 : Nat) : Int) (-1) (w : Int)) fc) (X15_level_127 rl ru rec21 (l : Int) (km K) ((N - 1 : Nat) : Int) ((M - 1 : Nat) : Int) 0 (w : Int)) σ τ P := by
      intro w hw
      rw [X15_level_127]
      refine LK_node (f := N0) (p' := p + 1) hV hb hx (by omega) hp hk (oc_nd hK hlv) (two_W hK hlv hN hM hF0 hF1 ⟨wr.2.1, wr.2.2.1⟩ (fun _ => c) hw) (fun σ' τ' e1 e2 b1 k1 x1 => ?_)
      have g0 := go w σ' τ' e1 e2 b1 k1 x1
      rw [LK_lt]
      rcases hz with ⟨z1, z2, z3⟩ | ⟨z1, z2, z3⟩
      · rw [if_pos (by omega), X15_level_143]
        rw [z3] at g0
        exact g0
      · rw [if_neg (by omega), X15_level_143]
        rw [z3] at g0
        exact g0
    have hc : ∀ (w : Nat) (g : St → Option (Int × St)), LK c0 σ0 τ0 BQ (bd (F_X1_node (ocK K : Int) ((N - 1 : Nat) : Int) ((M - 1 : Nat) : Int) (-1) (w : Int)) fc) g σ τ P → wpE (X1_both_44 (ocK K : Int) ((N - 1 : Nat) : Int) ((M - 1 : Nat) : Int) (-1) (w : Int)) σ (fun r σ' => LK c0 σ0 τ0 BQ (fc r) g σ' τ P) (fun x σ' => wp g τ (fun q τ' => flt c0 σ0 τ0 BQ x σ' q τ')) := by
      intro w g h
      unfold LK at h
      rw [wpE_bd] at h
      rw [X1_both_44, wpE_bd]
      exact wp_mono h (fun r σ' z => by rw [wpE_lE, wp_rt]; exact z)
    unfold LK
    rw [wpE_bdE, F_X1_both, wpE_bd, wdX hx (by omega) (by omega), wpE_bd, wdX hx (by omega) (by omega), wpE_ifp (by omega)]
    rcases hz with ⟨z1, z2, z3⟩ | ⟨z1, z2, z3⟩
    · rw [wpE_ifn (by omega), X15_level_105, if_pos (by omega)]
      exact hc 1 _ (key 1 (by rw [if_pos (by omega)]))
    · rw [wpE_ifp z2, wpE_bd, wdX hx (by omega) (by omega), X15_level_105, if_neg (by omega)]
      refine hc (gW G (N - 1)) _ (LK_t ?_)
      rw [wdM hx (by omega) (by omega)]
      exact key _ (by rw [if_neg (by omega)])
  · rw [if_neg (c := ((gW G (N - 1) : Nat) : Int) = ((gW G (M - 1) : Nat) : Int)) (by omega)]
    unfold LK
    rw [wpE_bdE, F_X1_both, wpE_bd, wdX hx (by omega) (by omega), wpE_bd, wdX hx (by omega) (by omega), wpE_ifn (by omega)]
    have h := LK_flt (γ := Int) (q := q) (P := fun _ _ _ _ => True) (n' := 7) (by decide) hb rfl (g := fun _ => X15_level_105 rl ru rec21 (l : Int) ((N - 1 : Nat) : Int) (km K) ((M - 1 : Nat) : Int)) (FT_lv105 bq ft)
    unfold LK at h
    rw [wpE_thw] at h ⊢
    exact h
theorem binloop (hV : StE V) {l : Nat} (hl : l < 6) (hl3 : l ≠ 3) {rl : Int → St → Option (Int × St)} {ru : St → Option (Int × St)} {nx : St → Option ((Int ⊕ XV) × St)} {Lc : Nat → Int → St → Option ((Int ⊕ XV) × St)} {Ch : Nat → Int → Int → St → Option ((Int ⊕ XV) × St)} (hnx : XS V RD WD c0 σ0 τ0 T n op nx (rl ((l + 1 : Nat) : Int))) (hLc : ∀ f x, Lc (f + 1) x = bdE F_X1_look (Ch f x)) (hyes : ∀ f (x : Int) K σ τ (g : St → Option (Int × St)) P, K ∈ KS → lvO (km K) = (l : Int) → σ.1 2 5 = K → LK c0 σ0 τ0 BQ (bd F_X1_sign fun v2 => lt v2 fun x2 => bdE nx fun v4 => bdE (F_X1_both (ocK K : Int) x v4 x2 0) fun v5 => lt v5 fun x1 => Lc f x1) g σ τ P → LK c0 σ0 τ0 BQ (Ch f x K) g σ τ P) (hno : ∀ f (x : Int) K σ τ (g : St → Option (Int × St)) P, K ∈ KS → lvO (km K) ≠ (l : Int) → σ.1 2 5 = K → LK c0 σ0 τ0 BQ (lE (rt x)) g σ τ P → LK c0 σ0 τ0 BQ (Ch f x K) g σ τ P) {σb τb : St} {pb N0 j s : Nat} {Gb : NG} : ∀ m f1 f2, m < f1 → m < f2 → ∀ σ τ p G N, n - p < m → BS c0 σ0 τ0 T n σ τ → EX0 V RD WD G N j op p σ τ → TK T n σ τ (p + s) → agr nEX σb σ → agr nEY τb τ → pb < p → N0 < N → (∀ i, i < N0 → gAt Gb G i) → gF G (N - 1) = N0 → LK c0 σ0 τ0 BQ (Lc f1 ((N - 1 : Nat) : Int)) (X15_level_21 rl ru f2 (l : Int) ((N - 1 : Nat) : Int) 1) σ τ (PE V RD WD c0 σ0 τ0 T n σb τb pb s Gb N0 j op) := by
  intro m
  induction m with
  | zero => intro f1 f2 h1 h2 σ τ p G N hm; omega
  | succ m ih =>
    intro f1 f2 h1 h2 σ τ p G N hm hb hx hk ea eb hpb hN0 hG hF
    obtain ⟨f1', rfl⟩ : ∃ f, f1 = f + 1 := ⟨f1 - 1, by omega⟩
    obtain ⟨f2', rfl⟩ : ∃ f, f2 = f + 1 := ⟨f2 - 1, by omega⟩
    have hpn := hk.le
    have hp4 := hb.1.1
    have hNp := hx.2.1.2
    have bq : BQ ((N - 1 : Nat) : Int) := ⟨by omega, by omega⟩
    rw [hLc, X15_level_21, if_neg (by decide)]
    refine LK_t ?_
    rw [gI28 (σ := σ) hb.2.2.1, if_pos rfl]
    refine LK_look hb hk (EX0.st hV) hx (fun υ hυ h37 => ?_) (fun q σ' τ' hq e1 e2 b1 x1 k1 hin => ?_)
    · rw [wp_bd, lvX, if_neg (by show ¬ lvO (-1) = _; have : lvO (-1) = -1 := rfl; omega)]
      exact FT_rt bq υ hυ h37
    refine LK_t ?_
    rw [lvX]
    by_cases c : lvO (km (tkK T n q)) = (l : Int)
    · have h0 : tkK T n q ≠ 0 := (oc_r _ hin (by omega)).2.2.2
      rw [if_pos c]
      refine hyes _ _ _ _ _ _ _ hin c k1.k5 ?_
      refine LK_t ?_
      rw [wp_gI, k1.t32, LK_lt]
      refine LK_t ?_
      rw [wp_gI, k1.t33, LK_lt]
      refine LK_sign b1 k1 h0 (EX0.st hV) x1 (fun q2 σ2 τ2 hq2 hqe w1 w2 b2 x2 k2 => ?_)
      rw [LK_lc, w32_i (by omega) (by omega), show (l : Int) + 1 = ((l + 1 : Nat) : Int) by omega]
      have ft21 : ∀ x3, FTw c0 BQ (X15_level_21 rl ru f2' (l : Int) 0 x3) := fun x3 => FT_lv f2' (by omega) ⟨by decide, by decide⟩
      have k2' : TK T n σ2 τ2 ((q2 - s - 1) + (s + 1)) := by rw [show (q2 - s - 1) + (s + 1) = q2 by omega]; exact Or.inl k2
      refine LK_bd (LK_mono (hnx.1 σ2 τ2 (q2 - s - 1) (s + 1) G N j b2 (x2.le (by omega)) k2') ?_) (fun y hy => ?_)
      · rintro r y σ3 τ3 ⟨p3, G3, M, ⟨hp3, hM⟩, rfl, rfl, f1, f2, b3, x3, k3, hG3, hF3⟩
        rw [LK_lt]
        have k3l := k3.le
        have hF3' : gF G3 (N - 1) = N0 := by rw [(hG3 (N - 1) (by omega)).1.2.1]; exact hF
        have := LK_both (fc := fun v5 => lt v5 fun x1 => Lc f1' x1) (rec21 := X15_level_21 rl ru f2') (rl := rl) (ru := ru) (l := l) (N := N) (N0 := N0) (q := q) (P := PE V RD WD c0 σ0 τ0 T n σb τb pb s Gb N0 j op) (Or.inr ⟨hl3, rfl, rfl⟩) hV hl hin c b3 x3 (by omega) k3 hN0 hM hF3' hF3 ft21 ?_
        · exact this
        · intro w σ4 τ4 u1 u2 b4 k4 x4
          have := ih f1' f2' (by omega) (by omega) σ4 τ4 (p3 + 1) _ (M + 1) (by omega) b4 x4 (by rw [show p3 + 1 + s = p3 + (s + 1) by omega]; exact k4) ((((ea.trans (agr_nEX (agr_kX9 e1))).trans (agr_nEX (agr_kX9 w1))).trans f1).trans u1) ((((eb.trans (agr_nEY (agr_kY6 e2))).trans (agr_nEY (agr_kY6 w2))).trans f2).trans u2) (by omega) (by omega) (fun i hi => (hG i hi).trans ((hG3 i (by omega)).trans (gAt.up (by omega)))) (by rw [show M + 1 - 1 = M by omega]; exact gUp_at.1.2.1)
          rw [show M + 1 - 1 = M by omega] at this
          exact this
      · have h105 := FT_lv105 (rl := rl) (ru := ru) (l := (l : Int)) (k := km (tkK T n q)) (y := y) bq ft21
        exact FT_gF (fun v hv => FT_if (c := v = 0) (fun e => absurd e (by omega)) (fun _ => h105))
    · rw [if_neg c]
      refine hno _ _ _ _ _ _ _ hin c k1.k5 (LK_rt ?_)
      exact ⟨q - s, G, N, ⟨by omega, hN0⟩, rfl, rfl, ea.trans (agr_nEX (agr_kX9 e1)), eb.trans (agr_nEY (agr_kY6 e2)), b1, x1.le (by omega), by rw [show q - s + s = q by omega]; exact Or.inr k1, hG, hF⟩
/-- a level: the next one, and the loop behind it -/
theorem binlev (hV : StE V) {l : Nat} (hl : l < 6) (hl3 : l ≠ 3) {rl : Int → St → Option (Int × St)} {ru : St → Option (Int × St)} {nx : St → Option ((Int ⊕ XV) × St)} {Lc : Nat → Int → St → Option ((Int ⊕ XV) × St)} {Ch : Nat → Int → Int → St → Option ((Int ⊕ XV) × St)} (hnx : XS V RD WD c0 σ0 τ0 T n op nx (rl ((l + 1 : Nat) : Int))) (hLc : ∀ f x, Lc (f + 1) x = bdE F_X1_look (Ch f x)) (hyes : ∀ f (x : Int) K σ τ (g : St → Option (Int × St)) P, K ∈ KS → lvO (km K) = (l : Int) → σ.1 2 5 = K → LK c0 σ0 τ0 BQ (bd F_X1_sign fun v2 => lt v2 fun x2 => bdE nx fun v4 => bdE (F_X1_both (ocK K : Int) x v4 x2 0) fun v5 => lt v5 fun x1 => Lc f x1) g σ τ P → LK c0 σ0 τ0 BQ (Ch f x K) g σ τ P) (hno : ∀ f (x : Int) K σ τ (g : St → Option (Int × St)) P, K ∈ KS → lvO (km K) ≠ (l : Int) → σ.1 2 5 = K → LK c0 σ0 τ0 BQ (lE (rt x)) g σ τ P → LK c0 σ0 τ0 BQ (Ch f x K) g σ τ P) : XS V RD WD c0 σ0 τ0 T n op (bdE nx fun v1 => lt v1 fun x1 => Lc FU x1) (F_X15_level rl ru (l : Int)) := by
  have hf := FU_ge
  have e : w32 ((l : Int) + 1) = ((l + 1 : Nat) : Int) := by rw [w32_i (by omega) (by omega)]; omega
  have ft : ∀ q, BQ q → FTw c0 BQ (X15_level_21 rl ru FU (l : Int) q 1) := fun q hq => FT_lv FU (by omega) hq
  refine ⟨fun σ τ p s G N j hb hx hk => ?_, ?_⟩
  · rw [F_X15_level, if_neg (by omega), e]
    refine LK_bd (LK_mono (hnx.1 σ τ p s G N j hb hx hk) ?_) (fun y hy => ft y hy)
    rintro r y σ3 τ3 ⟨p3, G3, M, ⟨hp3, hM⟩, rfl, rfl, f1, f2, b3, x3, k3, hG3, hF3⟩
    have := b3.1.1
    exact binloop hV hl hl3 hnx hLc hyes hno (n + 1) FU FU (by omega) (by omega) σ3 τ3 p3 G3 M (by omega) b3 x3 k3 f1 f2 hp3 hM hG3 hF3
  · rw [F_X15_level, if_neg (by omega), e]
    exact FT_bd hnx.2 (fun q hq => ft q hq)
end
