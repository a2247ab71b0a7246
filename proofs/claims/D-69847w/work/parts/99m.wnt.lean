set_option maxRecDepth 100000
set_option maxHeartbeats 400000
/-! ===== read: what is wanted, numbers, nests, names ===== -/
def kX9 (a k : Nat) : Prop := ¬ (a = 2 ∧ 3 ≤ k ∧ k ≤ 9)
def kY6 (a k : Nat) : Prop := ¬ (a = 2075 ∧ 30 ≤ k ∧ k ≤ 36)
section
variable {c0 : Nat × Int} {σ0 τ0 σ τ : St} {T : Nat → Int} {n p : Nat} {α γ δ : Type} {R : St → St → Prop}
theorem TKp.k5 (hk : TKp T n σ τ p) : σ.1 2 5 = tkK T n p := hk.2.2.1.2.1
theorem TKp.k6 (hk : TKp T n σ τ p) : σ.1 2 6 = (p : Int) := hk.2.2.1.2.2.1
theorem TKp.k7 (hk : TKp T n σ τ p) : σ.1 2 7 = (tkL T n p : Int) := hk.2.2.1.2.2.2.1
theorem TKp.t32 (hk : TKp T n σ τ p) : τ.1 2075 32 = km (tkK T n p) := hk.2.2.2.2.1
theorem TKp.t33 (hk : TKp T n σ τ p) : τ.1 2075 33 = (p : Int) := hk.2.2.2.2.2.1
theorem TKp.t34 (hk : TKp T n σ τ p) (h1 : 0 < tkK T n p) (h2 : tkK T n p ≤ 14) : τ.1 2075 34 = (tkL T n p : Int) := hk.2.2.2.2.2.2.2.1 h1 h2
theorem LK_lc {B : δ → Prop} {x : α} {f' : α → St → Option ((γ ⊕ XV) × St)} {g : St → Option (δ × St)} {P : γ → δ → St → St → Prop} : LK c0 σ0 τ0 B (lt x f') g σ τ P = LK c0 σ0 τ0 B (f' x) g σ τ P := rfl
theorem LK_lt {B : δ → Prop} {x : α} {f : St → Option ((γ ⊕ XV) × St)} {g' : α → St → Option (δ × St)} {P : γ → δ → St → St → Prop} : LK c0 σ0 τ0 B f (lt x g') σ τ P = LK c0 σ0 τ0 B f (g' x) σ τ P := rfl
/-- both pass -/
theorem LK_pass {B : δ → Prop} {f' : Unit → St → Option ((γ ⊕ XV) × St)} {g' : Unit → St → Option (δ × St)} {P : γ → δ → St → St → Prop} (hb : BS c0 σ0 τ0 T n σ τ) (hk : TKp T n σ τ p) (h0 : tkK T n p ≠ 0) (hS : StT R) (hR : R σ τ) (go : ∀ q σ' τ', p < q → q = p + tkL T n p → agr kX σ σ' → agr kY τ τ' → BS c0 σ0 τ0 T n σ' τ' → R σ' τ' → TKf T n σ' τ' q → (σ'.1 2 6 = (p : Int) ∧ τ'.1 2075 33 = (p : Int) ∧ τ'.1 2075 32 = km (tkK T n p)) → LK c0 σ0 τ0 B (f' ()) (g' ()) σ' τ' P) : LK c0 σ0 τ0 B (bd F_X1_pass f') (bd F_X15_take g') σ τ P := by
  have hl := tkL_r hk.1 h0 hk.2.1
  refine LK_c (pass_l hb hk h0 (fun σ' e1 e2 e3 => LK_t (take_r hk (fun τ' z1 z2 z3 => ?_))))
  exact go _ σ' τ' (by omega) rfl e1 z1 (hb.fr e1 z1) (hS _ _ _ _ e1 z1 hR) ⟨hl.2, e2, z2⟩ ⟨e3, z3⟩
theorem want_LK {a b : Int} (hab : kmOk a b = true) (ha : a ≠ 0) (hb : BS c0 σ0 τ0 T n σ τ) (hk : TK T n σ τ p) (hS : StT R) (hR : R σ τ) {P : Int → Int → St → St → Prop} (go : ∀ q q' σ' τ', p ≤ q → q < q' → tkK T n q = a → agr kX σ σ' → agr kY τ τ' → BS c0 σ0 τ0 T n σ' τ' → R σ' τ' → TKf T n σ' τ' q' → P (q : Int) 1 σ' τ') (hb0 : 0 ≤ b) : LK c0 σ0 τ0 (fun q : Int => q = 0) (F_X1_want a) (F_X15_must b) σ τ P := by
  rw [F_X1_want, F_X15_must]
  have ff : FTw c0 (fun q : Int => q = 0) (rtZ 0) := fun τ h1 _ => by rw [c_rtZ (by decide) (by decide)]; exact ⟨rfl, agr.refl, rfl, rfl, rfl⟩
  refine LK_look hb hk hS hR (FT_if (fun e => absurd e (by omega)) (fun _ => FT_gI (fun v => FT_fail ff))) (fun q σ' τ' hq e1 e2 b1 r1 k1 hin => ?_)
  by_cases c : tkK T n q = a
  · rw [if_pos c, if_pos ((km_eq hin hab).mpr c)]
    refine LK_pass b1 k1 (by rw [c]; exact ha) hS r1 (fun q' σ2 τ2 hq' hqe w1 w2 b2 r2 k2 k3 => ?_)
    refine LK_c ?_
    rw [wp_gI, k3.1]
    refine LK_e ?_
    rw [c_rtZ (by decide) (by decide)]
    exact go q q' σ2 τ2 hq hq' c (e1.trans w1) (e2.trans w2) b2 r2 k2
  · rw [if_neg c, if_neg (fun w => c ((km_eq hin hab).mp w))]
    refine LK_c ?_
    rw [wp_gI, k1.k6]
    refine LK_t ?_
    rw [wp_gI, k1.t33]
    exact LK_flt (n' := 2) (by decide) b1 rfl ff
theorem LK_want {a b : Int} (hab : kmOk a b = true) (ha : a ≠ 0) (hb0 : 0 ≤ b) {B' : δ → Prop} {f' : Int → St → Option ((γ ⊕ XV) × St)} {g' : Int → St → Option (δ × St)} {P : γ → δ → St → St → Prop} (hb : BS c0 σ0 τ0 T n σ τ) (hk : TK T n σ τ p) (hS : StT R) (hR : R σ τ) (ft : FTw c0 B' (g' 0)) (go : ∀ q q' σ' τ', p ≤ q → q < q' → tkK T n q = a → agr kX σ σ' → agr kY τ τ' → BS c0 σ0 τ0 T n σ' τ' → R σ' τ' → TKf T n σ' τ' q' → LK c0 σ0 τ0 B' (f' (q : Int)) (g' 1) σ' τ' P) : LK c0 σ0 τ0 B' (bdE (F_X1_want a) f') (bd (F_X15_must b) g') σ τ P :=
  LK_bd (want_LK hab ha hb hk hS hR go hb0) (fun q hq => by rw [hq]; exact ft)
theorem num_LK {a b : Int64} (hb : BS c0 σ0 τ0 T n σ τ) (hk : TK T n σ τ p) (hS : StT R) (hR : R σ τ) {P : Int → Int64 → St → St → Prop} (go : ∀ (v : Int64) q σ' τ', p < q → a.toInt ≤ v.toInt → v.toInt ≤ b.toInt → agr kX σ σ' → agr kY τ τ' → BS c0 σ0 τ0 T n σ' τ' → R σ' τ' → TKf T n σ' τ' q → P (l2i v) v σ' τ') : LK c0 σ0 τ0 (fun _ : Int64 => True) (F_X1_numberIn a b) (F_X15_numberIn a b) σ τ P := by
  rw [F_X1_numberIn, F_X15_numberIn]
  have ff : ∀ v, FTw c0 (fun _ : Int64 => True) (X15_numberIn_45 v) := fun v => by rw [X15_numberIn_45]; exact FT_bd FT_take (fun _ _ => FT_rt trivial)
  refine LK_look hb hk hS hR (FT_if (fun e => absurd e (by decide)) (fun _ => FT_gI (fun v => FT_fail (FT_rt trivial)))) (fun q σ' τ' hq e1 e2 b1 r1 k1 hin => ?_)
  by_cases c : tkK T n q = 2
  · have g8 := k1.2.2.1.2.2.2.2 c
    have g35 := k1.2.2.2.2.2.2.2.2 c
    rw [if_pos c, if_pos ((km_eq hin (a := 2) (b := 2) (by decide)).mpr c)]
    refine LK_c ?_
    rw [wp_gL, g8]
    refine LK_t ?_
    rw [wp_gL, g35]
    refine LK_c ?_
    rw [wp_isIn]
    rw [LK_lt]
    refine LK_t ?_
    rw [wp_in15]
    by_cases c2 : a.toInt ≤ (nmV T q (tkL T n q)).toInt ∧ (nmV T q (tkL T n q)).toInt ≤ b.toInt
    · rw [if_pos c2, if_neg (by decide), if_neg (by decide)]
      refine LK_c ?_
      rw [wp_gL, g8]
      rw [LK_lc, X15_numberIn_45]
      refine LK_pass b1 k1 (by rw [c]; decide) hS r1 (fun q' σ2 τ2 hq' hqe w1 w2 b2 r2 k2 k3 => ?_)
      exact LK_rt (go _ q' σ2 τ2 (by omega) c2.1 c2.2 (e1.trans w1) (e2.trans w2) b2 r2 k2)
    · rw [if_neg c2, if_pos rfl, if_pos rfl]
      refine LK_c ?_
      rw [wp_gI, k1.k6]
      refine LK_t ?_
      rw [wp_gI, k1.t33]
      exact LK_flt (n' := 6) (by decide) b1 rfl (ff _)
  · rw [if_neg c, if_neg (fun w => c ((km_eq hin (a := 2) (b := 2) (by decide)).mp w))]
    refine LK_c ?_
    rw [wp_gI, k1.k6]
    refine LK_t ?_
    rw [wp_gI, k1.t33]
    exact LK_flt (n' := 2) (by decide) b1 rfl (FT_rt trivial)
theorem LK_num {a b : Int64} {B' : δ → Prop} {f' : Int → St → Option ((γ ⊕ XV) × St)} {g' : Int64 → St → Option (δ × St)} {P : γ → δ → St → St → Prop} (hb : BS c0 σ0 τ0 T n σ τ) (hk : TK T n σ τ p) (hS : StT R) (hR : R σ τ) (ft : ∀ v, FTw c0 B' (g' v)) (go : ∀ (v : Int64) q σ' τ', p < q → a.toInt ≤ v.toInt → v.toInt ≤ b.toInt → agr kX σ σ' → agr kY τ τ' → BS c0 σ0 τ0 T n σ' τ' → R σ' τ' → TKf T n σ' τ' q → LK c0 σ0 τ0 B' (f' (l2i v)) (g' v) σ' τ' P) : LK c0 σ0 τ0 B' (bdE (F_X1_numberIn a b) f') (bd (F_X15_numberIn a b) g') σ τ P :=
  LK_bd (num_LK hb hk hS hR go) (fun q _ => ft q)
theorem agr_kX9 (h : agr kX σ τ) : agr kX9 σ τ := agr.sub h (fun a k q => by unfold kX9 at q; unfold kX; omega)
theorem agr_kY6 (h : agr kY σ τ) : agr kY6 σ τ := agr.sub h (fun a k q => by unfold kY6 at q; unfold kY; omega)
theorem BS.fr9 {σ' τ' : St} (h : BS c0 σ0 τ0 T n σ τ) (e : agr kX9 σ σ') (e' : agr kY6 τ τ') : BS c0 σ0 τ0 T n σ' τ' := by
  obtain ⟨⟨a1, a2, a3, a4, a5⟩, ⟨c1, c2, c3, c4⟩, b3, b4, b5, b6⟩ := h
  refine ⟨⟨a1, a2, ?_, fun k hk => ?_, fun i hi => ?_⟩, ⟨c1, c2, ?_, fun k hk => ?_⟩, ?_, b4.trans (agr.sub e (fun a k q => by unfold nX at q; unfold kX9; omega)), b5.trans (agr.sub e' (fun a k q => by unfold nY at q; unfold kY6; omega)), by rw [(e' 2075 37 (by unfold kY6; omega)).1]; exact b6⟩
  · rw [(e 2 2 (by unfold kX9; omega)).1]; exact a3
  · rw [(e 4 k (by unfold kX9; omega)).1]; exact a4 k hk
  · rw [(e 3 i (by unfold kX9; omega)).2.2]; exact a5 i hi
  · rw [(e' 2075 2 (by unfold kY6; omega)).1]; exact c3
  · rw [(e' 2076 k (by unfold kY6; omega)).1]; exact c4 k hk
  · rw [(e' 2075 28 (by unfold kY6; omega)).1]; exact b3
/-- one more that is open -/
theorem LK_nest {op : Nat} {B' : δ → Prop} {f' : Unit → St → Option ((γ ⊕ XV) × St)} {h' : Unit → St → Option (δ × St)} {z : St → Option (δ × St)} {P : γ → δ → St → St → Prop} (hb : BS c0 σ0 τ0 T n σ τ) (hk : TKp T n σ τ p) (h0 : tkK T n p ≠ 0) (ho : op ≤ 20) (o1 : σ.1 2 9 = (op : Int)) (o2 : τ.1 2075 36 = (op : Int)) (ft : FTw c0 B' z) (go : ∀ q σ' τ', p < q → op < 20 → agr kX9 σ σ' → agr kY6 τ τ' → BS c0 σ0 τ0 T n σ' τ' → σ'.1 2 9 = ((op + 1 : Nat) : Int) → τ'.1 2075 36 = ((op + 1 : Nat) : Int) → TKf T n σ' τ' q → LK c0 σ0 τ0 B' (f' ()) (h' ()) σ' τ' P) : LK c0 σ0 τ0 B' (bdE F_X1_nest f') (bd F_X15_opens fun v => if v = 0 then z else bd F_X15_take h') σ τ P := by
  have hl := tkL_r hk.1 h0 hk.2.1
  refine LK_bd (B := fun q : Int => q = 0) ?_ (fun q hq => FT_if (fun _ => ft) (fun w => absurd hq w))
  unfold LK
  rw [F_X1_nest, wpE_bd, wp_gI, o1]
  by_cases c : op = 20
  · rw [wpE_ifp (by omega), wpE_bd, wp_gI, hk.k6, wpE_thw, F_X15_opens, wp_bd, wp_gI, hb.2.2.1, wp_ifp (by decide), wp_bd, wp_gI, o2, wp_ifp (by omega), wp_bd, wp_gI, hk.t33, wp_bd, fail_0 hb.2.2.1, c_rtZ (by decide) (by decide)]
    refine ⟨rfl, hb.2.2.2.1, hb.2.2.2.2.1.trans (agr.refl.w (a := 2075) (fun k q => ?_)), 9, p, by decide, by decide, rfl, ?_, ?_, ?_⟩
    · unfold nY at q; rw [ups_ne (by omega), ups_ne (by omega)]
    · dsimp only; rw [stA_eq, ups_ne (by decide), ups_eq]; rfl
    · dsimp only; rw [stA_eq, ups_eq]
    · dsimp only; rw [stA_eq, ups_ne (by decide), ups_ne (by decide)]; exact hb.2.2.2.2.2
  · rw [wpE_ifn (by omega), wpE_bd, wp_gI, o1, wpE_bd, wp_pI, wpE_bd, w32_i (by omega) (by omega)]
    have hb1 : BS c0 σ0 τ0 T n (stA σ.1 2 (ups (σ.1 2) 9 ((op : Int) + 1)), σ.2) τ := hb.fr9 (agr.refl.u (by unfold kX9; omega) _) agr.refl
    have hk1 : TKp T n (stA σ.1 2 (ups (σ.1 2) 9 ((op : Int) + 1)), σ.2) τ p := by
      obtain ⟨h1, h2, ⟨k1, k2, k3, k4, k5⟩, h3⟩ := hk
      refine ⟨h1, h2, ⟨?_, ?_, ?_, ?_, k5⟩, h3⟩ <;> dsimp only <;> rw [stA_eq, ups_ne (by decide)] <;> assumption
    refine pass_l hb1 hk1 h0 (fun σ' e1 e2 e3 => ?_)
    rw [wpE_lE, wp_rt, F_X15_opens, wp_bd, wp_gI, hb.2.2.1, wp_ifp (by decide), wp_bd, wp_gI, o2, wp_ifn (by omega), wp_bd, wp_gI, o2, wp_bd, wp_pI, c_rtZ (by decide) (by decide), w32_i (by omega) (by omega)]
    show LK c0 σ0 τ0 B' (f' ()) (if (1 : Int) = 0 then z else bd F_X15_take h') σ' (stA τ.1 2075 (ups (τ.1 2075) 36 ((op : Int) + 1)), τ.2) P
    rw [if_neg (by decide)]
    have hk2 : TKp T n σ (stA τ.1 2075 (ups (τ.1 2075) 36 ((op : Int) + 1)), τ.2) p := by
      obtain ⟨h1, h2, h3, t1, t2, t3, t4, t5, t6⟩ := hk
      refine ⟨h1, h2, h3, ?_, ?_, ?_, ?_, fun w1 w2 => ?_, t6⟩ <;> dsimp only <;> rw [stA_eq, ups_ne (by decide)]
      · exact t1
      · exact t2
      · exact t3
      · exact t4
      · exact t5 w1 w2
    refine LK_t (take_r hk2 (fun τ' z1 z2 z3 => ?_))
    have f1 : agr kX9 σ σ' := (agr.refl.u (by unfold kX9; omega) _).trans (agr_kX9 e1)
    have f2 : agr kY6 τ τ' := (agr.refl.u (by unfold kY6; omega) _).trans (agr_kY6 z1)
    refine go _ σ' τ' (by omega) (by omega) f1 f2 (hb.fr9 f1 f2) ?_ ?_ ⟨hl.2, e2, z2⟩
    · rw [(e1 2 9 (by unfold kX; omega)).1]; dsimp only; rw [stA_eq, ups_eq]; rfl
    · rw [(z1 2075 36 (by unfold kY; omega)).1]; dsimp only; rw [stA_eq, ups_eq]; rfl
end
