set_option maxRecDepth 100000
set_option maxHeartbeats 400000
/-! ===== read: statements ===== -/
section
variable {k t : Nat} {kd wd pt : Nat → Nat} {Mt : Nat → Nat} {Mk Mw : Nat → Nat → Nat}
variable {c0 : Nat × Int} {σ0 τ0 : St} {T : Nat → Int} {n op : Nat} {a e : Int} {Lc : List (Nat × Bool)} {γ δ : Type}
theorem WB.E {G G' : NG} {N N' nC nC' nW nW' nS nS' u : Nat} {σ τ σ' τ' σ2 τ2 : St} (h : WB op a e G N nC nW nS σ τ u G' N' nC' nW' nS' σ' τ') (eX : agr kX σ' σ2) (eY : agr kY τ' τ2) : WB op a e G N nC nW nS σ τ u G' N' nC' nW' nS' σ2 τ2 := by
  obtain ⟨h1, h2, ⟨h3, h3'⟩, h4, h5, h6, h7, h8, h9⟩ := h
  have fX := agr_nEX (agr_kX9 eX)
  have fY := agr_nEY (agr_kY6 eY)
  have rX : ∀ x, 19 ≤ x → x ≤ 31 → σ2.1 x = σ'.1 x := fun x q1 q2 => fX.row (fun k => by unfold nEX; omega)
  have rY : ∀ x, 2107 ≤ x → x ≤ 2113 → τ2.1 x = τ'.1 x := fun x q1 q2 => fY.row (fun k => by unfold nEY; omega)
  refine ⟨h1, h2, ⟨h3.trans (agr_nSX fX), h3'.trans (agr_nSY fY)⟩, fun x k q1 q2 q3 => by rw [rX x (by omega) (by omega)]; exact h4 x k q1 q2 q3, fun x k q1 q2 q3 => by rw [rY x q1 q2]; exact h5 x k q1 q2 q3, ?_, ⟨h7.1, h7.2.1, h7.2.2.1, by rw [rX 26 (by decide) (by decide)]; exact h7.2.2.2.1, by rw [rX 27 (by decide) (by decide)]; exact h7.2.2.2.2⟩, fun k q1 q2 => ?_, fun j z q1 q2 => by rw [rX 30 (by decide) (by decide)]; exact h9 j z q1 q2⟩
  · rw [rY 2107 (by decide) (by decide), rY 2110 (by decide) (by decide), rY 2111 (by decide) (by decide), rY 2112 (by decide) (by decide), rY 2113 (by decide) (by decide)]; exact h6
  · rw [rY 2111 (by decide) (by decide), rY 2112 (by decide) (by decide)]; exact h8 k q1 q2
theorem when_LK (hc0 : c0.2 = 12) (hop : op ≤ 20) {sc sc' : Int → St → Option ((Unit ⊕ XV) × St)} {sm : Int → Int → St → Option (Unit × St)} (hst : op < 20 → ∀ a e Lc G N nC nW nS p H σ τ, SX k t kd wd pt Mt Mk Mw c0 σ0 τ0 T n (op + 1) a e Lc G N nC nW nS p H σ τ → TK T n σ τ p → LK c0 σ0 τ0 (fun _ : Unit => True) (sc ((op + 1 : Nat) : Int)) (sm a e) σ τ (fun _ _ σ' τ' => SPost k t kd wd pt Mt Mk Mw c0 σ0 τ0 T n (op + 1) a e Lc G N nC nW nS p σ τ σ' τ')) (hst' : op < 20 → ∀ a e Lc G N nC nW nS p H σ τ, SX k t kd wd pt Mt Mk Mw c0 σ0 τ0 T n (op + 1) a e Lc G N nC nW nS p H σ τ → TK T n σ τ p → LK c0 σ0 τ0 (fun _ : Unit => True) (sc' ((op + 1 : Nat) : Int)) (sm a e) σ τ (fun _ _ σ' τ' => SPost k t kd wd pt Mt Mk Mw c0 σ0 τ0 T n (op + 1) a e Lc G N nC nW nS p σ τ σ' τ')) (hft : ∀ a e, FTw c0 (fun _ : Unit => True) (sm a e)) {G : NG} {N nC nW nS p q : Nat} {H : SG} {σ τ : St} (hs : SX k t kd wd pt Mt Mk Mw c0 σ0 τ0 T n op a e Lc G N nC nW nS p H σ τ) (hk : TKp T n σ τ q) (hpq : p ≤ q) (hK : tkK T n q = 10) : LK c0 σ0 τ0 (fun _ : Unit => True) (F_X1_when (fun r => F_X1_block sc r) (fun r1 r2 => F_X1_block2 (fun r => F_X1_block sc' r) r1 r2) (op : Int)) (F_X15_when (fun a e => F_X15_block sm a e) a e) σ τ (fun _ _ σ' τ' => SPost k t kd wd pt Mt Mk Mw c0 σ0 τ0 T n op a e Lc G N nC nW nS p σ τ σ' τ') := by
  refine whenA hc0 hop hst hft hs hk hpq hK (fun u G' N' nC' nW' nS' p' H' σ' τ' hop1 hp hW hb hx hsr hSL hDV hk' => ?_)
  obtain ⟨ps, hps, hsr⟩ := hsr
  unfold tailX tailM
  rw [show w32 (w32 ((op : Int) + 1) + 20) = ((op + 21 : Nat) : Int) by rw [w32_i (x := (op : Int) + 1) (by omega) (by omega), w32_i (by omega) (by omega)]; omega, show w32 ((op : Int) + 1) = ((op + 1 : Nat) : Int) by rw [w32_i (by omega) (by omega)]; omega]
  refine LK_look hb hk' (EX0.st VE.st) hx (by rw [if_neg (by decide)]; exact FT_rt trivial) (fun q1 σ1 τ1 hq1 e1 e2 b1 x1 k1 hin => ?_)
  have fX := agr_nEX (agr_kX9 e1)
  have fY := agr_nEY (agr_kY6 e2)
  by_cases c : tkK T n q1 = 11
  · rw [if_pos c, if_pos ((km_eq hin (a := 11) (b := 18) (by decide)).mpr c)]
    exact whenE hop hst' hft hs hp (hW.E e1 e2) b1 x1 hps (hsr.E (Nat.le_refl _) fX fY) (hSL.E fX) (hDV.E fX fY) k1 hq1 (by omega)
  · rw [if_neg c, if_neg (fun z => c ((km_eq hin (a := 11) (b := 18) (by decide)).mp z))]
    exact whenN hs (by omega) (hW.E e1 e2) b1 (x1.le hq1) (hsr.E (by omega) fX fY) (hSL.E fX) (Or.inr k1)
end
