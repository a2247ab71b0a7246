set_option maxRecDepth 100000
set_option maxHeartbeats 400000
/-! ===== read: sinks, both sides ===== -/
section
variable {k t nS : Nat} {kd wd pt ws bg : Nat → Nat} {Mt : Nat → Nat} {Mk Mw : Nat → Nat → Nat}
variable {c0 : Nat × Int} {σ0 τ0 : St} {T : Nat → Int} {n : Nat} {G : NG} {N nC nW p : Nat} {H : SG} {σ τ σ' τ' : St} {q : Nat} {γ δ : Type}
/-- the component's state with a number of sinks -/
def skS (σ : St) (s : Nat) : St := (stA σ.1 5 (ups (σ.1 5) 30 (s : Int)), σ.2)
theorem skS_a {s a : Nat} (h : a ≠ 5) : (skS σ s).1 a = σ.1 a := by unfold skS; dsimp only; rw [stA_ne h]
theorem skS_n {s i : Nat} (h : i ≠ 30) : (skS σ s).1 5 i = σ.1 5 i := by unfold skS; dsimp only; rw [stA_eq, ups_ne h]
theorem skS_30 {s : Nat} : (skS σ s).1 5 30 = (s : Int) := by unfold skS; dsimp only; rw [stA_eq, ups_eq]
theorem skS_up {s : Nat} : ((stA (skS σ s).1 5 (ups ((skS σ s).1 5) 30 ((s + 1 : Nat) : Int)), (skS σ s).2) : St) = skS σ (s + 1) := by
  unfold skS
  dsimp only
  rw [stA_eq, stA_stA, ups_ups]
theorem BS.sk {s : Nat} (h : BS c0 σ0 τ0 T n σ τ) : BS c0 σ0 τ0 T n (skS σ s) τ := h.cg (skS_a (by decide)) (skS_a (by decide)) rfl (agr.refl.u (by unfold nX; omega) _)
theorem inP_le {kk : Nat → Nat} : ∀ m, inP kk m ≤ m
  | 0 => Nat.le_refl _
  | m + 1 => by
    have := inP_le (kk := kk) m
    show inP kk m + (if kk m = 0 then 1 else 0) ≤ m + 1
    split <;> omega
theorem skP_le (h40 : ∀ m, Mt m ≤ 40) : ∀ i, skP kd pt Mt Mk i ≤ 41 * i
  | 0 => Nat.le_refl _
  | i + 1 => by
    have h1 := skP_le h40 i
    have h2 := inP_le (kk := Mk (pt i)) (Mt (pt i))
    have h3 := h40 (pt i)
    show skP kd pt Mt Mk i + ((if kd i = 1 ∨ kd i = 2 then 1 else 0) + if kd i = 5 then inP (Mk (pt i)) (Mt (pt i)) else 0) ≤ 41 * (i + 1)
    split <;> split <;> omega
theorem SX.em (hs : SX k t kd wd pt Mt Mk Mw c0 σ0 τ0 T n 0 (-1) 0 [] G N nC nW nS p H σ τ) (hn : nS ≤ 120) : EM k t nS kd pt Mt Mk τ := by
  obtain ⟨hb, hx, hsr, -, -, -⟩ := id hs
  obtain ⟨a1, ⟨a2, a3⟩, ⟨a4, a5⟩, a6, a7⟩ := hx.1
  refine ⟨⟨a1, a3, a4.2.1, a4.2.2⟩, fun i hi => ⟨?_, fun h => ?_⟩, fun m hm => ?_, hsr.1.2.1, hn, rw_ord hsr, fun j hj => ?_⟩
  · rw [← (a5 i hi).2.1.1]; exact (a6 i hi).1.1
  · obtain ⟨h1, h2, h3⟩ := (a6 i hi).2 h
    exact ⟨h1, h3⟩
  · obtain ⟨q1, ⟨q2, q3⟩, q4⟩ := a7 m hm
    exact ⟨q2.2.1, q2.2.2, fun p hp => by rw [← (q3 p hp).2.1.1]; exact (q4 p hp).1⟩
  · rcases (hsr.2.2.2.2 j hj).2 with ⟨c, h1, h2⟩ | h
    · right
      obtain ⟨-, ⟨w, -⟩, ⟨u, -, -, i, z, -⟩, -⟩ := hsr.2.2.1 c h1
      rw [h2] at w
      rw [w, z]; omega
    · exact Or.inl h
/-- one place: driven in both, or a fault of both -/
theorem sink_one (hs : SX k t kd wd pt Mt Mk Mw c0 σ0 τ0 T n 0 (-1) 0 [] G N nC nW nS p H σ τ) (hn : nS ≤ 120) (hk : TKp T n σ τ q) {s : Nat} (hsm : s < 100000) {x y z : Int} (hv : VT t kd pt Mt x y) (hz : z = σ.1 31 x.toNat + max 0 y) {f' : St → Option ((γ ⊕ XV) × St)} {h : St → Option (Unit × St)} {B : δ → Prop} {g' : St → Option (δ × St)} {P : γ → δ → St → St → Prop} (hw : ∀ τf : St, EM k t nS kd pt Mt Mk τf → 1 ≤ τf.1 2075 28 → ∀ Q : Unit → St → Prop, Q () τf → wp h τf Q) (ft : FTw c0 B g') (go : LK c0 σ0 τ0 B f' (bd h fun _ => g') (skS σ (s + 1)) τ P) : LK c0 σ0 τ0 B (bdE (F_X1_countSink z) fun _ => f') (bd (R_X15_always (-1) 0 x y) fun v1 => if v1 = 0 then (bd (gI 2075 33) fun v2 => bd (F_X15_fail 8 v2) fun _ => bd h fun _ => g') else bd h fun _ => g') (skS σ s) τ P := by
  obtain ⟨hr, d1, d2⟩ := driven_iff hs hv
  have em := hs.em hn
  subst hz
  refine LK_t (em.alw ?_)
  rw [F_X1_countSink, bdE_bd]
  refine LK_c ?_
  rw [RI_30 (by omega) (by omega), skS_a (by decide)]
  by_cases c : AL (rwT τ) nS x y (-1) 0
  · rw [if_neg (show ¬ σ.1 30 (σ.1 31 x.toNat + max 0 y).toNat = 0 by rw [d2.mpr c]; decide), alB_y c, if_neg (show ¬ (1 : Int) = 0 by decide)]
    simp only [bdE_bd, bdE_le]
    refine LK_c ?_
    rw [wp_gI, skS_30]
    refine LK_c ?_
    rw [wp_pI, w32_i (by omega) (by omega), show (s : Int) + 1 = ((s + 1 : Nat) : Int) by omega, skS_up]
    exact go
  · have e0 : σ.1 30 (σ.1 31 x.toNat + max 0 y).toNat = 0 := by
      rcases d1 with w | w
      · exact w
      · exact absurd (d2.mp w) c
    rw [if_pos e0, alB_n c, if_pos rfl]
    simp only [bdE_bd, bdE_thw, bd_as]
    refine LK_c ?_
    rw [wp_gI, skS_a (by decide), hk.k6]
    refine LK_t ?_
    rw [wp_gI, hk.t33]
    refine LK_fltS (n' := 8) (by decide) hs.1.sk rfl (fun τf e1 e2 e3 => ?_)
    rw [wp_bd]
    refine hw τf (em.fr e1 e2) (by omega) _ ?_
    have h37 := em.1.2.1
    have hk12 := hs.1.2.2.2.2.2
    exact ft τf (by omega) (by rw [e2 37 (by decide)]; exact hk12)
/-- all sinks -/
theorem sinks_LK (hs : SX k t kd wd pt Mt Mk Mw c0 σ0 τ0 T n 0 (-1) 0 [] G N nC nW nS p H σ τ) (hn : nS ≤ 120) (h40 : ∀ m, Mt m ≤ 40) (hk : TKp T n σ τ q) {f' : St → Option ((γ ⊕ XV) × St)} {B : δ → Prop} {g' : St → Option (δ × St)} {P : γ → δ → St → St → Prop} (ft : FTw c0 B g') (go : LK c0 σ0 τ0 B f' (bd X15_endModule_171 fun _ => g') (skS σ (skP kd pt Mt Mk t)) τ P) : ∀ m f1 f2 i, t - i < m → m ≤ f1 → m ≤ f2 → i ≤ t → LK c0 σ0 τ0 B (bdE (X1_countSinks_2 f1 (i : Int)) fun _ => f') (bd (X15_endModule_31 f2 (i : Int)) fun _ => g') (skS σ (skP kd pt Mt Mk i)) τ P := by
  have em := hs.em hn
  obtain ⟨⟨e1, e2, e3, e4⟩, e5, e6, e7⟩ := id em
  obtain ⟨a1, ⟨a2, a3⟩, a4, a6, a7⟩ := hs.2.1.1
  intro m
  induction m with
  | zero => intro f1 f2 i hm; omega
  | succ m ih =>
    intro f1 f2 i hm hf1 hf2 hi
    have hF := FU_ge
    obtain ⟨f1', rfl⟩ : ∃ f', f1 = f' + 1 := ⟨f1 - 1, by omega⟩
    obtain ⟨f2', rfl⟩ : ∃ f', f2 = f' + 1 := ⟨f2 - 1, by omega⟩
    have hsk := skP_le (kd := kd) (pt := pt) (Mk := Mk) h40 i
    rw [X1_countSinks_2, X15_endModule_31]
    simp only [bdE_bd, bdE_ite, bdE_le, bd_as, bd_ite, lt_eq]
    refine LK_c ?_
    rw [wp_gI, skS_n (by decide), a4.1.1]
    refine LK_t ?_
    rw [wp_gI, e2]
    refine LK_t ?_
    rw [w32_i (x := 48 + (k : Int)) (by omega) (by omega), RI_2077 (by omega) (by omega), show (48 + (k : Int)).toNat = 48 + k by omega, e3]
    by_cases c : i < t
    · rw [if_neg (by omega), if_neg (by omega)]
      refine LK_c ?_
      rw [RI_9 (by omega) (by omega), tn, skS_a (by decide), (a6 i c).1.1]
      refine LK_t ?_
      rw [thing15 e2 e1 (by omega)]
      refine LK_t ?_
      rw [RI_2082 (by omega) (by omega), tn, (e5 i c).1]
      -- the next thing
      have nxt : ∀ s, s = skP kd pt Mt Mk (i + 1) → LK c0 σ0 τ0 B (bdE (X1_countSinks_107 (X1_countSinks_2 f1') (i : Int)) fun _ => f') (bd (X15_endModule_165 (X15_endModule_31 f2') (i : Int)) fun _ => g') (skS σ s) τ P := by
        rintro s rfl
        rw [X1_countSinks_107, X15_endModule_165, lt_eq, lt_eq, w32_i (by omega) (by omega), show (i : Int) + 1 = ((i + 1 : Nat) : Int) by omega]
        exact ih f1' f2' (i + 1) (by omega) (by omega) (by omega) (by omega)
      have wnx : ∀ τf : St, EM k t nS kd pt Mt Mk τf → 1 ≤ τf.1 2075 28 → ∀ Q : Unit → St → Prop, Q () τf → wp (X15_endModule_165 (X15_endModule_31 f2') (i : Int)) τf Q := by
        intro τf hE h28 Q hQ
        rw [X15_endModule_165, wp_lt, w32_i (by omega) (by omega), show (i : Int) + 1 = ((i + 1 : Nat) : Int) by omega]
        exact emF h28 hE (t - (i + 1) + 1) f2' (i + 1) (by omega) (by omega) Q hQ
      -- what lies inside
      have inner : ∀ s, s = skP kd pt Mt Mk i + (if kd i = 1 ∨ kd i = 2 then 1 else 0) → LK c0 σ0 τ0 B (bdE (X1_countSinks_43 (X1_countSinks_2 f1') (i : Int) (kd i : Int)) fun _ => f') (bd (X15_endModule_89 (X15_endModule_31 f2') (i : Int) (kd i : Int)) fun _ => g') (skS σ s) τ P := by
        intro s hs2
        have sk1 : skP kd pt Mt Mk (i + 1) = skP kd pt Mt Mk i + ((if kd i = 1 ∨ kd i = 2 then 1 else 0) + if kd i = 5 then inP (Mk (pt i)) (Mt (pt i)) else 0) := rfl
        have s1 : s ≤ 41 * i + 1 := by rw [hs2]; split <;> omega
        rw [X1_countSinks_43, X15_endModule_89]
        simp only [bdE_bd, bdE_ite, bd_as, lt_eq]
        refine LK_t ?_
        rw [thing15 e2 e1 (by omega)]
        refine LK_t ?_
        rw [RI_2086 (by omega) (by omega), tn]
        by_cases c5 : kd i = 5
        · obtain ⟨p1, p2⟩ := (e5 i c).2 c5
          obtain ⟨m1, m2, m3⟩ := e6 (pt i) p1
          obtain ⟨q1, q2, q3⟩ := a7 (pt i) p1
          have hMd : isMd (110 + 25 * pt i) := isMd_k (by omega)
          rw [if_pos (by omega), p2, w32_i (x := 48 + (pt i : Int)) (by omega) (by omega)]
          refine LK_c ?_
          rw [RI_13 (by omega) (by omega), tn, skS_a (by decide), ((a6 i c).2 c5).2.1]
          refine LK_c ?_
          rw [RI_1 (by omega) (by omega), tn]
          show LK c0 σ0 τ0 B (bdE (X1_countSinks_69 (X1_countSinks_2 f1') FU (i : Int) (σ.2.2 1 (pt i)) 0) fun _ => f') (bd (X15_endModule_106 (X15_endModule_31 f2') FU (i : Int) (kd i : Int) (48 + (pt i : Int)) 0) fun _ => g') (skS σ s) τ P
          rw [q1]
          have wr : ∀ τf : St, EM k t nS kd pt Mt Mk τf → 1 ≤ τf.1 2075 28 → ∀ m' g2 r, Mt (pt i) - r < m' → m' ≤ g2 → r ≤ Mt (pt i) → ∀ Q : Unit → St → Prop, Q () τf → wp (X15_endModule_106 (X15_endModule_31 f2') g2 (i : Int) (kd i : Int) (48 + (pt i : Int)) (r : Int)) τf Q := by
            intro τf hE h28 m'
            obtain ⟨-, -, E6, -⟩ := id hE
            obtain ⟨M1, M2, M3⟩ := E6 (pt i) p1
            induction m' with
            | zero => intro g2 r h; omega
            | succ m' ih3 =>
              intro g2 r h1 h2 h3 Q hQ
              obtain ⟨g2', rfl⟩ : ∃ f', g2 = f' + 1 := ⟨g2 - 1, by omega⟩
              rw [X15_endModule_106, wp_ifp (by omega), wp_bd, RI_2077 (by omega) (by omega), show (48 + (pt i : Int)).toNat = 48 + pt i by omega, M1]
              by_cases cr : r < Mt (pt i)
              · have n159 : wp (X15_endModule_159 (X15_endModule_31 f2') (X15_endModule_106 (X15_endModule_31 f2') g2') (i : Int) (kd i : Int) (48 + (pt i : Int)) (r : Int)) τf Q := by
                  rw [X15_endModule_159, wp_lt, w32_i (by omega) (by omega), show (r : Int) + 1 = ((r + 1 : Nat) : Int) by omega]
                  exact ih3 g2' (r + 1) (by omega) (by omega) (by omega) Q hQ
                rw [wp_ifn (by omega), wp_bd, w32_i (x := 40 * (48 + (pt i : Int))) (by omega) (by omega), w32_i (by omega) (by omega), RI_2082 (by omega) (by omega)]
                by_cases c0 : τf.1 2082 (40 * (48 + (pt i : Int)) + (r : Int)).toNat = 0
                · rw [wp_ifp c0, wp_bd]
                  refine hE.alw ?_
                  by_cases ca : alB (rwT τf) nS (i : Int) (r : Int) (-1) 0 = 0
                  · rw [wp_ifp ca, wp_bd, wp_gI, wp_bd, fail_1 h28]; exact n159
                  · rw [wp_ifn ca]; exact n159
                · rw [wp_ifn c0]; exact n159
              · rw [wp_ifp (by omega)]; exact wnx τf hE h28 Q hQ
          have lp : ∀ m' g1 g2 r, Mt (pt i) - r < m' → m' ≤ g1 → m' ≤ g2 → r ≤ Mt (pt i) → LK c0 σ0 τ0 B (bdE (X1_countSinks_69 (X1_countSinks_2 f1') g1 (i : Int) (some (110 + 25 * pt i)) (r : Int)) fun _ => f') (bd (X15_endModule_106 (X15_endModule_31 f2') g2 (i : Int) (kd i : Int) (48 + (pt i : Int)) (r : Int)) fun _ => g') (skS σ (s + inP (Mk (pt i)) r)) τ P := by
            intro m'
            induction m' with
            | zero => intro g1 g2 r h; omega
            | succ m' ih2 =>
              intro g1 g2 r h1 h2 h2' h3
              obtain ⟨g1', rfl⟩ : ∃ f', g1 = f' + 1 := ⟨g1 - 1, by omega⟩
              obtain ⟨g2', rfl⟩ : ∃ f', g2 = f' + 1 := ⟨g2 - 1, by omega⟩
              have hin := inP_le (kk := Mk (pt i)) r
              rw [X1_countSinks_69, X15_endModule_106, if_pos (by omega)]
              have hnn : ∀ g : Nat → St → Option ((Unit ⊕ XV) × St), nn (some (110 + 25 * pt i)) g = g (110 + 25 * pt i) := fun g => by unfold nn; rfl
              rw [hnn]
              have hck : ∀ (g : St → Option ((Unit ⊕ XV) × St)) (g2 : St → Option (δ × St)) σ2, LK c0 σ0 τ0 B (bdE g fun _ => f') g2 σ2 τ P → LK c0 σ0 τ0 B (bdE (ck (110 + 25 * pt i) 2 g) fun _ => f') g2 σ2 τ P := fun g g2 σ2 h => by
                unfold LK at h ⊢
                rw [wpE_bdE] at h ⊢
                rw [wpE_ck, and_t (ly_Md hMd)]
                exact h
              refine hck _ _ _ ?_
              simp only [bdE_bd, bdE_ite, bd_as, bd_ite]
              refine LK_c ?_
              rw [wp_gI, skS_a (by omega), q2.1.1]
              refine LK_t ?_
              rw [RI_2077 (by omega) (by omega), show (48 + (pt i : Int)).toNat = 48 + pt i by omega, m1]
              by_cases cr : r < Mt (pt i)
              · rw [if_neg (by omega), if_neg (by omega)]
                refine LK_c ?_
                rw [MI_4 hMd (by omega) (by omega), tn, skS_a (by omega), (q3 r cr).1]
                refine LK_t ?_
                rw [w32_i (x := 40 * (48 + (pt i : Int))) (by omega) (by omega), w32_i (by omega) (by omega), RI_2082 (by omega) (by omega), show (40 * (48 + (pt i : Int)) + (r : Int)).toNat = 40 * (48 + pt i) + r by omega, m3 r cr]
                have inS : inP (Mk (pt i)) (r + 1) = inP (Mk (pt i)) r + (if Mk (pt i) r = 0 then 1 else 0) := rfl
                have nx2 : ∀ s', s' = s + inP (Mk (pt i)) (r + 1) → LK c0 σ0 τ0 B (bdE (X1_countSinks_101 (X1_countSinks_2 f1') (X1_countSinks_69 (X1_countSinks_2 f1') g1') (i : Int) (110 + 25 * pt i) (r : Int)) fun _ => f') (bd (X15_endModule_159 (X15_endModule_31 f2') (X15_endModule_106 (X15_endModule_31 f2') g2') (i : Int) (kd i : Int) (48 + (pt i : Int)) (r : Int)) fun _ => g') (skS σ s') τ P := by
                  rintro s' rfl
                  rw [X1_countSinks_101, X15_endModule_159, lt_eq, lt_eq, w32_i (by omega) (by omega), show (r : Int) + 1 = ((r + 1 : Nat) : Int) by omega]
                  exact ih2 g1' g2' (r + 1) (by omega) (by omega) (by omega) (by omega)
                by_cases c0' : Mk (pt i) r = 0
                · rw [if_pos (by omega), if_pos (by omega)]
                  refine LK_c ?_
                  have hv : VT t kd pt Mt (i : Int) (r : Int) := ⟨i, rfl, c, Or.inr ⟨r, rfl, c5, cr⟩⟩
                  have hr2 := (driven_iff hs hv).1
                  rw [tn] at hr2
                  rw [RI_31 (by omega) (by omega), tn, skS_a (by decide), w32_i (by omega) (by omega)]
                  simp only [bdE_bdE]
                  refine sink_one (s := s + inP (Mk (pt i)) r) (z := σ.1 31 i + (r : Int)) hs hn hk (by omega) hv (by rw [tn]; omega) (h := X15_endModule_159 (X15_endModule_31 f2') (X15_endModule_106 (X15_endModule_31 f2') g2') (i : Int) (kd i : Int) (48 + (pt i : Int)) (r : Int)) (fun τf hE h28 Q hQ => ?_) ft (nx2 _ (by rw [inS, if_pos c0']; omega))
                  rw [X15_endModule_159, wp_lt, w32_i (by omega) (by omega), show (r : Int) + 1 = ((r + 1 : Nat) : Int) by omega]
                  exact wr τf hE h28 (Mt (pt i) - (r + 1) + 1) g2' (r + 1) (by omega) (by omega) (by omega) Q hQ
                · rw [if_neg (by omega), if_neg (by omega)]
                  exact nx2 _ (by rw [inS, if_neg c0']; omega)
              · have er : r = Mt (pt i) := by omega
                rw [if_pos (by omega), if_pos (by omega)]
                exact nxt _ (by rw [sk1, if_pos c5, hs2, er]; omega)
          have := lp (Mt (pt i) + 1) FU FU 0 (by omega) (by omega) (by omega) (by omega)
          exact this
        · obtain ⟨F', hF'⟩ : ∃ F', FU = F' + 1 := ⟨FU - 1, by omega⟩
          rw [if_neg (by omega), hF', X15_endModule_106, if_neg (by omega)]
          exact nxt s (by rw [sk1, if_neg c5, hs2]; omega)
      have h33 : (kd i = 1 ∨ kd i = 2) → LK c0 σ0 τ0 B (bdE (X1_countSinks_33 (X1_countSinks_2 f1') (i : Int) (kd i : Int)) fun _ => f') (bd (X15_endModule_68 (X15_endModule_31 f2') (i : Int) (kd i : Int)) fun _ => g') (skS σ (skP kd pt Mt Mk i)) τ P := by
        intro h12
        rw [X1_countSinks_33, X15_endModule_68]
        simp only [bdE_bd, bdE_bdE, bd_as, bd_ite]
        refine LK_c ?_
        have hv : VT t kd pt Mt (i : Int) (-1) := ⟨i, rfl, c, Or.inl ⟨rfl, by omega⟩⟩
        rw [RI_31 (by omega) (by omega), tn, skS_a (by decide)]
        refine sink_one (s := skP kd pt Mt Mk i) (z := σ.1 31 i) hs hn hk (by omega) hv (by rw [tn]; omega) (h := X15_endModule_89 (X15_endModule_31 f2') (i : Int) (kd i : Int)) (fun τf hE h28 Q hQ => ?_) ft (inner _ (by rw [if_pos h12]))
        obtain ⟨⟨E1, E2, E3, E4⟩, E5, E6, E7⟩ := id hE
        have h5 : ¬ kd i = 5 := by omega
        obtain ⟨F', hF'⟩ : ∃ F', FU = F' + 1 := ⟨FU - 1, by omega⟩
        rw [X15_endModule_89, bth E2 E1 (by omega), wp_bd, RI_2086 (by omega) (by omega), tn, wp_lt, wp_lt, hF', X15_endModule_106, wp_ifn (by omega)]
        exact wnx τf hE h28 Q hQ
      by_cases k1 : kd i = 1
      · rw [if_pos (by omega), if_pos (by omega)]; exact h33 (Or.inl k1)
      · rw [if_neg (c := ((kd i : Nat) : Int) = 1) (by omega), if_neg (c := ((kd i : Nat) : Int) = 1) (by omega)]
        by_cases k2 : kd i = 2
        · rw [if_pos (by omega), if_pos (by omega)]; exact h33 (Or.inr k2)
        · rw [if_neg (by omega), if_neg (by omega)]
          exact inner _ (by rw [if_neg (by omega), Nat.add_zero])
    · obtain rfl : i = t := by omega
      rw [if_pos (by omega), if_pos (by omega)]
      exact go
end
