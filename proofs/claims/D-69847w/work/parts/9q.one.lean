set_option maxRecDepth 100000
set_option maxHeartbeats 400000
/-! ===== read: statements, at any nest ===== -/
section
variable {k t : Nat} {kd wd pt : Nat → Nat} {Mt : Nat → Nat} {Mk Mw : Nat → Nat → Nat}
variable {c0 : Nat × Int} {σ0 τ0 : St} {T : Nat → Int} {n op : Nat} {a e : Int} {Lc : List (Nat × Bool)} {γ δ : Type}
theorem FT_one {wm : Int → Int → St → Option (Unit × St)} : FTw c0 (fun _ : Unit => True) (F_X15_oneStatement wm a e) := by
  rw [F_X15_oneStatement]
  refine FT_bd FT_look (fun y hy => ?_)
  subst hy
  rw [lt_eq, if_neg (by decide), if_neg (by decide)]
  exact FT_gI (fun v => FT_fail (FT_rt trivial))
theorem stm_LK (hc0 : c0.2 = 12) (hop : op ≤ 20) {wc : Int → St → Option ((Unit ⊕ XV) × St)} {wm : Int → Int → St → Option (Unit × St)} {G : NG} {N nC nW nS p : Nat} {H : SG} {σ τ : St} (hw : ∀ q σ1 τ1, SX k t kd wd pt Mt Mk Mw c0 σ0 τ0 T n op a e Lc G N nC nW nS q H σ1 τ1 → TKp T n σ1 τ1 q → tkK T n q = 10 → LK c0 σ0 τ0 (fun _ : Unit => True) (wc (op : Int)) (wm a e) σ1 τ1 (fun _ _ σ' τ' => SPost k t kd wd pt Mt Mk Mw c0 σ0 τ0 T n op a e Lc G N nC nW nS q σ1 τ1 σ' τ')) (hs : SX k t kd wd pt Mt Mk Mw c0 σ0 τ0 T n op a e Lc G N nC nW nS p H σ τ) (hk : TK T n σ τ p) : LK c0 σ0 τ0 (fun _ : Unit => True) (F_X1_statement wc (op : Int)) (F_X15_oneStatement wm a e) σ τ (fun _ _ σ' τ' => SPost k t kd wd pt Mt Mk Mw c0 σ0 τ0 T n op a e Lc G N nC nW nS p σ τ σ' τ') := by
  rw [F_X1_statement, F_X15_oneStatement]
  refine LK_look hs.1 hk (EX0.st VE.st) hs.2.1 ?_ (fun q σ1 τ1 hq e1 e2 b1 x1 k1 hin => ?_)
  · rw [lt_eq, if_neg (by decide), if_neg (by decide)]
    exact FT_gI (fun v => FT_fail (FT_rt trivial))
  have hs1 := hs.E hq e1 e2 b1 x1
  have post : ∀ σ' τ', SPost k t kd wd pt Mt Mk Mw c0 σ0 τ0 T n op a e Lc G N nC nW nS q σ1 τ1 σ' τ' → SPost k t kd wd pt Mt Mk Mw c0 σ0 τ0 T n op a e Lc G N nC nW nS p σ τ σ' τ' := by
    rintro σ' τ' ⟨G2, N2, nC2, nW2, nS2, p2, H2, q1, q2, q3, q4⟩
    exact ⟨G2, N2, nC2, nW2, nS2, p2, H2, by omega, (STP.E e1 e2).trans q2, q3, q4⟩
  have i1 := km_eq hin (a := 1) (b := 1) (by decide)
  have i10 := km_eq hin (a := 10) (b := 17) (by decide)
  rw [LK_lt]
  by_cases c : tkK T n q = 10
  · rw [if_pos c, if_neg (fun z => by have := i1.mp z; omega), if_pos (i10.mpr c)]
    exact LK_bd (LK_mono (hw q σ1 τ1 hs1 k1 c) (fun _ _ σ' τ' h => LK_rt (post σ' τ' h))) (fun _ _ => FT_rt trivial)
  · rw [if_neg c]
    refine LK_c ?_
    rw [wp_gI, k1.k5]
    by_cases c1 : tkK T n q = 1
    · rw [if_pos c1, if_pos (i1.mpr c1)]
      exact LK_bd (LK_mono (con_LK hc0 hop hs1 k1 (Nat.le_refl _) c1) (fun _ _ σ' τ' h => LK_rt (post σ' τ' h))) (fun _ _ => FT_rt trivial)
    · rw [if_neg c1, if_neg (fun z => c1 (i1.mp z)), if_neg (fun z => c (i10.mp z))]
      refine LK_c ?_
      rw [wp_gI, k1.k6]
      refine LK_t ?_
      rw [wp_gI, k1.t33]
      exact LK_flt (n' := 2) (by decide) b1 rfl (FT_rt trivial)
theorem gs_block (m : Nat) : (G_X1_block (m + 1)).1 = fun a1 => F_X1_block (G_X1_block m).2.2.1 a1 := rfl
theorem gs_block2 (m : Nat) : (G_X1_block (m + 1)).2.1 = fun a1 a2 => F_X1_block2 (G_X1_block m).1 a1 a2 := rfl
theorem gs_statement (m : Nat) : (G_X1_block (m + 1)).2.2.1 = fun a1 => F_X1_statement (G_X1_block m).2.2.2 a1 := rfl
theorem gs_when (m : Nat) : (G_X1_block (m + 1)).2.2.2 = fun a1 => F_X1_when (G_X1_block m).1 (G_X1_block m).2.1 a1 := rfl
theorem gu_block (m : Nat) : (G_X15_block (m + 1)).1 = fun a1 a2 => F_X15_block (G_X15_block m).2.1 a1 a2 := rfl
theorem gu_one (m : Nat) : (G_X15_block (m + 1)).2.1 = fun a1 a2 => F_X15_oneStatement (G_X15_block m).2.2 a1 a2 := rfl
theorem gu_when (m : Nat) : (G_X15_block (m + 1)).2.2 = fun a1 a2 => F_X15_when (G_X15_block m).1 a1 a2 := rfl
theorem stm_all (hc0 : c0.2 = 12) : ∀ d op, op + d = 20 → ∀ n1 n2, 4 * d + 4 ≤ n1 → 3 * d + 4 ≤ n2 → ∀ a e Lc G N nC nW nS p H σ τ, SX k t kd wd pt Mt Mk Mw c0 σ0 τ0 T n op a e Lc G N nC nW nS p H σ τ → TK T n σ τ p → LK c0 σ0 τ0 (fun _ : Unit => True) ((G_X1_block n1).2.2.1 (op : Int)) ((G_X15_block n2).2.1 a e) σ τ (fun _ _ σ' τ' => SPost k t kd wd pt Mt Mk Mw c0 σ0 τ0 T n op a e Lc G N nC nW nS p σ τ σ' τ') := by
  intro d
  induction d with
  | zero =>
    intro op h n1 n2 l1 l2 a e Lc G N nC nW nS p H σ τ hs hk
    obtain ⟨m, rfl⟩ : ∃ m, n1 = m + 1 + 1 + 1 + 1 := ⟨n1 - 4, by omega⟩
    obtain ⟨m', rfl⟩ : ∃ m, n2 = m + 1 + 1 + 1 + 1 := ⟨n2 - 4, by omega⟩
    rw [gs_statement, gu_one]
    refine stm_LK hc0 (by omega) (fun q σ1 τ1 h1 h2 h3 => ?_) hs hk
    rw [gs_when, gu_when, gs_block, gs_block2, gs_block, gu_block]
    refine when_LK hc0 (by omega) (fun h' => absurd h' (by omega)) (fun h' => absurd h' (by omega)) (fun a e => ?_) h1 h2 (Nat.le_refl _) h3
    rw [gu_one]; exact FT_one
  | succ d ih =>
    intro op h n1 n2 l1 l2 a e Lc G N nC nW nS p H σ τ hs hk
    obtain ⟨m, rfl⟩ : ∃ m, n1 = m + 1 + 1 + 1 + 1 := ⟨n1 - 4, by omega⟩
    obtain ⟨m', rfl⟩ : ∃ m, n2 = m + 1 + 1 + 1 + 1 := ⟨n2 - 4, by omega⟩
    rw [gs_statement, gu_one]
    refine stm_LK hc0 (by omega) (fun q σ1 τ1 h1 h2 h3 => ?_) hs hk
    rw [gs_when, gu_when, gs_block, gs_block2, gs_block, gu_block]
    refine when_LK hc0 (by omega) (fun _ => ih (op + 1) (by omega) _ _ (by omega) (by omega)) (fun _ => ih (op + 1) (by omega) _ _ (by omega) (by omega)) (fun a e => ?_) h1 h2 (Nat.le_refl _) h3
    rw [gu_one]; exact FT_one
end
