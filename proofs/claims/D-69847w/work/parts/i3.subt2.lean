set_option maxRecDepth 100000
set_option maxHeartbeats 400000
/-! ===== bits: the twin walks an expression ===== -/
noncomputable def visT (fnd : Int → St → Option (Unit × St)) (a1 a2 a3 : Int) : St → Option (Unit × St) := F_X15_visit (fun b => F_X15_signalBits fnd b) a1 a2 a3
section
variable {Ms : Nat → ModV} {top : Nat} {s : LYS} {r : Nat → Nat} {K S : Nat} {A : Nat → Prop} {mk : Nat → BST → BST} {i : Nat}
theorem subT (hd : DP Ms top s) (hlim : limOK Ms s) (hS5 : S < 5) (hi : i < lsI s) {fnd : Int → St → Option (Unit × St)} (hmk : MKT Ms top s S r K fnd mk) (hp : PMK Ms s r K mk) {q0 : Nat} {Q : Unit → St → Prop} : ∀ u, u < mdN (moI Ms s i) → ∀ (f : Nat) (e : Nat → Nat → Nat) (st : BST) (p q : Nat) (σ : St), BTr Ms top s S A st p σ → rdU Ms s r K A i u → roomE Ms s r p q i u → q0 ≤ q → σ.1 2075 112 = ((q + 1 : Nat) : Int) → σ.1 2157 q = (u : Int) → σ.1 2158 q = 0 → 2 * cnE Ms s i u ≤ f → (∀ f' τ, f ≤ f' + 2 * cnE Ms s i u → BTr Ms top s S A (rgB Ms s mk i (cnE Ms s i u) (gF (gI' Ms s i) u) (e, st)).2 (p + gW (gI' Ms s i) u) τ → agr tG σ τ → lowT p q σ τ → τ.1 2075 112 = (q : Int) → (∀ j, j < gW (gI' Ms s i) u → τ.1 2153 (p + j) = ((rgB Ms s mk i (cnE Ms s i u) (gF (gI' Ms s i) u) (e, st)).1 u j : Int)) → wp (X15_bitsOf_26 (visT fnd) f' (i : Int) (q0 : Int) ((300 * (12 * S + lsM s i) : Nat) : Int)) τ Q) → wp (X15_bitsOf_26 (visT fnd) f (i : Int) (q0 : Int) ((300 * (12 * S + lsM s i) : Nat) : Int)) σ Q := by
  have hF := FU_ge
  have h12 := hd.1.1
  have h101 := hd.2.1.1.2
  have h40 := hd.1.2.1 (lsM s i)
  obtain ⟨hM, ok⟩ := hd.inst hi
  have n240 : mdN (moI Ms s i) ≤ 240 := ok.1.2.1
  intro u
  induction u using Nat.strongRecOn with
  | ind u ih =>
    intro hu f e st p q σ hB hrd hroom hq0 h112 h57 h58 hf hQ
    obtain ⟨z1, z2, z3, zf⟩ := (hd.nod hi hu).1
    have wR := fun (_ : Unit) => (hd.nod hi hu).2
    have hc1 : 1 ≤ cnE Ms s i u := by unfold cnE; omega
    have hr1 := hroom.1
    obtain ⟨f1, rfl⟩ : ∃ f1, f = f1 + 1 := ⟨f - 1, by omega⟩
    obtain ⟨y2, hy2⟩ : ∃ y2, y2 = rgB Ms s mk i (u - gF (gI' Ms s i) u) (gF (gI' Ms s i) u) (e, st) := ⟨_, rfl⟩
    have hpre := pre_ok (x := (e, st)) hd hp.1 hi hu hB.2.2.1
    rw [rgB_pre zf] at hQ
    rw [← hy2] at hQ hpre
    obtain ⟨hg2, hv2⟩ := hpre
    have hgy := (ndB_go hd hp.1 hi hu (a := gF (gI' Ms s i) u) (Nat.le_refl _) hv2).1
    -- behind a join
    have fin2 : ∀ (R : (Nat → Nat) × NB) f' p4 τ4 τ5, f1 + 1 ≤ f' + 2 * cnE Ms s i u → ndB Ms s mk i u y2 = (ups y2.1 u R.1, R.2, y2.2.2) → BTr Ms top s S A y2.2 p4 τ4 → agr tG σ τ4 → lowT p q σ τ4 → τ4.1 2075 112 = (q : Int) → KT (inbS Ms s (lsG s)) (keptS Ms s (lsG s)) τ4 τ5 R.2 (p + gW (gI' Ms s i) u) → PL (τ4.1 2153) (τ5.1 2153) p (gW (gI' Ms s i) u) R.1 → wp (X15_bitsOf_26 (visT fnd) f' (i : Int) (q0 : Int) ((300 * (12 * S + lsM s i) : Nat) : Int)) τ5 Q := by
      intro R f' p4 τ4 τ5 hf' hR b1 b2 b3 b4 k1 k2
      rw [hR] at hQ hgy
      obtain ⟨d1, d2⟩ := b1.fr hd k1 hgy.1
      refine hQ f' τ5 hf' d1 (b2.trans d2) (b3.trans (k1.low k2.1)) (by rw [k1.wk.2]; exact b4) (fun j hj => ?_)
      show _ = ((ups y2.1 u R.1 u j : Nat) : Int)
      rw [ups_eq]
      exact k2.2 j hj
    refine popT (m := u) (b := 0) hq0 (by omega) h112 h57 h58 (fun τ1 a1 a2 a3 a4 a5 => ?_)
    rw [if_pos rfl]
    have hB1 := hB.wg hd a1
    have a1' := wG_tG a1
    have a3' : lowT p q σ τ1 := ⟨fun k _ => by rw [a3], fun k _ => by rw [a4, a5]; exact ⟨rfl, rfl⟩⟩
    obtain ⟨hnd, r92⟩ := row_m hB1.1.1 hd hi hu
    have hS1 : τ1.1 2075 109 = (S : Int) := hB1.1.2.1
    rw [wp_bd, visT, F_X15_visit, wp_lt, e300 hS5 (by omega) (by omega), wp_bd, wp_gI, hS1, wp_lt, wp_bd, RI_2088 (by omega) (by omega), tn]
    by_cases c0 : gO (gI' Ms s i) u = 0
    · obtain ⟨k0, x, x1, x2, x3⟩ := nd_0 hnd c0
      obtain ⟨g1, -⟩ := (wR ()).1 c0
      have e2 : y2 = (e, st) := by rw [hy2, pre_leaf g1]
      have hy := ndB_0 (mk := mk) (x := (e, st)) c0
      rw [x2, sg_un (by omega)] at hy
      rw [e2, hy] at hQ
      rw [k0, wp_ifp rfl, wp_lt]
      refine lpN (w := gW (gI' Ms s i) u) (L := fun m j => X15_visit_55 (fun b => F_X15_signalBits fnd b) m ((300 * (12 * S + lsM s i) + u : Nat) : Int) (j : Int)) (I := fun j υ => KT (inbS Ms s (lsG s)) (keptS Ms s (lsG s)) τ1 υ st.1 (p + j) ∧ PL (τ1.1 2153) (υ.1 2153) p j (fun j => if x.testBit j = true then 1 else 0)) ?_ ?_ (show gW (gI' Ms s i) u < FU by omega) ⟨hB1.kt, PL.init⟩
      · rintro m j υ hj ⟨k1, k2⟩ ih2
        show wp (X15_visit_55 (fun b => F_X15_signalBits fnd b) (m + 1) ((300 * (12 * S + lsM s i) + u : Nat) : Int) (j : Int)) υ _
        have r23 : υ.1 2092 = τ1.1 2092 := k1.2.2.1.1 2092 (by decide) (by decide) (by decide) (by decide) (by decide) (by decide) (by decide)
        have r2 : υ.2 = τ1.2 := k1.2.2.1.2.2.2.2
        rw [X15_visit_55, wp_bd, RI_2092 (by omega) (by omega), tn, r23, r92, wp_ifn (by omega), wp_bd, RI_2093 (by omega) (by omega), tn, r2, bitL x3 (by omega)]
        refine tPush k1 (by omega) (fun υ2 d1 d2 => ?_)
        rw [wp_lt, wN1 (by omega)]
        exact ih2 _ ⟨d1, by rw [d2]; exact k2.up' (o := fun j => if x.testBit j = true then 1 else 0)⟩
      · rintro m υ ⟨k1, k2⟩
        show wp (X15_visit_55 (fun b => F_X15_signalBits fnd b) (m + 1) ((300 * (12 * S + lsM s i) + u : Nat) : Int) (gW (gI' Ms s i) u : Int)) υ _
        have r23 : υ.1 2092 = τ1.1 2092 := k1.2.2.1.1 2092 (by decide) (by decide) (by decide) (by decide) (by decide) (by decide) (by decide)
        rw [X15_visit_55, wp_bd, RI_2092 (by omega) (by omega), tn, r23, r92, wp_ifp (by omega), wp_rt]
        obtain ⟨d1, d2⟩ := hB1.fr hd k1 (goB.refl hB.2.2.1.1)
        refine hQ f1 υ (by omega) d1 (a1'.trans d2) (a3'.trans (k1.low k2.1)) (by rw [k1.wk.2]; exact a2) (fun j hj => ?_)
        show _ = ((ups (α := Nat → Nat) e u (fun j => if x.testBit j = true then 1 else 0) u j : Nat) : Int)
        rw [ups_eq]
        exact k2.2 j hj
    by_cases c1 : gO (gI' Ms s i) u = 1
    · obtain ⟨t, t1, t2, t3, t4, t5, t6⟩ := hd.rd hi hu c1
      obtain ⟨g1, -⟩ := (wR ()).2.1 c1
      have e2 : y2 = (e, st) := by rw [hy2, pre_leaf g1]
      have e1s := ndB_1s (mk := mk) (x := (e, st)) c1
      have e1n := ndB_1n (mk := mk) (x := (e, st)) c1
      rw [t1, tn] at e1s e1n
      obtain ⟨kk, kA⟩ := nd_1 hnd c1
      rw [t1] at kA
      have t2' : t < mdT (Ms (lsM s i)) := t2
      have hl := hB1.1.1.1.2.2.1 (40 * i + t) ⟨i, t, hi, t2, rfl⟩
      have hre : rdE Ms s i u (sgOf s i t (gB (gI' Ms s i) u)) := ⟨u, by omega, Nat.le_refl u, c1, by rw [t1, tn]⟩
      have hrm := fun hs => hroom.rd hre t4 hs
      have hrs := hrd _ hre t4
      -- behind the bits
      have fin : ∀ τ, BTr Ms top s S A (@ite _ (stG Ms s (sgOf s i t (gB (gI' Ms s i) u))) (Classical.propDecidable _) st (mk (sgOf s i t (gB (gI' Ms s i) u)) st)) (p + wdS Ms s (sgOf s i t (gB (gI' Ms s i) u))) τ → agr tG τ1 τ → lowT p q τ1 τ → τ.1 2075 112 = (q : Int) → (∀ j, j < wdS Ms s (sgOf s i t (gB (gI' Ms s i) u)) → τ.1 2153 (p + j) = (bitS Ms s (@ite _ (stG Ms s (sgOf s i t (gB (gI' Ms s i) u))) (Classical.propDecidable _) st (mk (sgOf s i t (gB (gI' Ms s i) u)) st)) (sgOf s i t (gB (gI' Ms s i) u)) j : Int)) → wp (rt ()) τ (fun _ υ => wp (X15_bitsOf_26 (visT fnd) f1 (i : Int) (q0 : Int) ((300 * (12 * S + lsM s i) : Nat) : Int)) υ Q) := by
        intro τ b1 b2 b3 b4 b5
        rw [wp_rt]
        rw [t6] at b1 b5
        rw [e2] at hQ
        by_cases cs : stG Ms s (sgOf s i t (gB (gI' Ms s i) u))
        · rw [if_pos cs] at b1 b5
          rw [e1s cs] at hQ
          refine hQ f1 τ (by omega) b1 (a1'.trans b2) (a3'.trans b3) b4 (fun j hj => ?_)
          show _ = ((ups (α := Nat → Nat) e u _ u j : Nat) : Int)
          rw [ups_eq]
          exact b5 j hj
        · rw [if_neg cs] at b1 b5
          rw [e1n cs] at hQ
          refine hQ f1 τ (by omega) b1 (a1'.trans b2) (a3'.trans b3) b4 (fun j hj => ?_)
          show _ = ((ups (α := Nat → Nat) e u _ u j : Nat) : Int)
          rw [ups_eq]
          exact b5 j hj
      clear hQ
      have sg := fun (α : Type) (f : Unit → St → Option (α × St)) Q => sigT (st' := @ite _ (stG Ms s (sgOf s i t (gB (gI' Ms s i) u))) (Classical.propDecidable _) st (mk (sgOf s i t (gB (gI' Ms s i) u)) st)) hd hlim hS5 hmk hp hB1 a2 t4 hrs hrm (by omega) rfl (α := α) (f := f) (Q := Q)
      rcases kk with ⟨k1, k2⟩ | ⟨k1, k2, k3⟩
      · have es : sgOf s i t (gB (gI' Ms s i) u) = lsL s (40 * i + t) := by rw [k1, sgOf_n]
        rw [es] at sg fin
        rw [k2, wp_ifn (by decide), wp_ifp rfl, wp_bd, RI_2089 (by omega) (by omega), tn, kA, wp_bd, e40 hS5 (by omega) (by omega), RI_2121 (by omega) (by omega), tn, hl]
        exact sg _ _ _ fin
      · rcases t3 with ⟨h, -⟩ | ⟨p', p1, p2, p3⟩
        · omega
        · obtain ⟨b1, b2, b3, b4, b5⟩ := hd.part hi t2 p2
          have p3' : p' < mdT (Ms (lsM s (lsL s (40 * i + t)))) := by rw [b5]; exact p3
          have h40' := hd.1.2.1 (lsM s (lsL s (40 * i + t)))
          have hl2 := hB1.1.1.1.2.2.1 (40 * lsL s (40 * i + t) + p') ⟨_, p', b2, p3', rfl⟩
          have es : sgOf s i t (gB (gI' Ms s i) u) = lsL s (40 * lsL s (40 * i + t) + p') := by rw [p1, sgOf_p]
          rw [es] at sg fin
          rw [k2, wp_ifn (by decide), wp_ifn (by decide), wp_ifp rfl, wp_bd, wp_gI, hS1, wp_bd, RI_2089 (by omega) (by omega), tn, kA, wp_bd, e40 hS5 (by omega) (by omega), RI_2121 (by omega) (by omega), tn, hl, wp_bd, RI_2090 (by omega) (by omega), tn, k3, p1, wp_bd, e40 hS5 (by omega) (by omega), RI_2121 (by omega) (by omega), tn, hl2]
          exact sg _ _ _ fin
    -- a node of parts
    have join : ∀ f2 τ3 p4, f1 + 1 ≤ f2 + 2 * cnE Ms s i u → BTr Ms top s S A y2.2 p4 τ3 → agr tG σ τ3 → lowT p q σ τ3 → τ3.1 2075 112 = ((q + 1 : Nat) : Int) → τ3.1 2157 q = (u : Int) → τ3.1 2158 q = 1 → (∀ τ4, BTr Ms top s S A y2.2 p4 τ4 → τ4.1 2153 = τ3.1 2153 → (∀ (R : (Nat → Nat) × NB) τ5, ndB Ms s mk i u y2 = (ups y2.1 u R.1, R.2, y2.2.2) → KT (inbS Ms s (lsG s)) (keptS Ms s (lsG s)) τ4 τ5 R.2 (p + gW (gI' Ms s i) u) → PL (τ4.1 2153) (τ5.1 2153) p (gW (gI' Ms s i) u) R.1 → wp (X15_bitsOf_26 (visT fnd) f2 (i : Int) (q0 : Int) ((300 * (12 * S + lsM s i) : Nat) : Int)) τ5 Q) → wp (F_X15_join (i : Int) ((300 * (12 * S + lsM s i) : Nat) : Int) (u : Int)) τ4 (fun _ τ5 => wp (X15_bitsOf_26 (visT fnd) f2 (i : Int) (q0 : Int) ((300 * (12 * S + lsM s i) : Nat) : Int)) τ5 Q)) → wp (X15_bitsOf_26 (visT fnd) (f2 + 1) (i : Int) (q0 : Int) ((300 * (12 * S + lsM s i) : Nat) : Int)) τ3 Q := by
      intro f2 τ3 p4 hf2 b1 b2 b3 b4 b5 b6 hj
      refine popT (m := u) (b := 1) hq0 (by omega) b4 b5 b6 (fun τ4 d1 d2 d3 d4 d5 => ?_)
      rw [if_neg (by decide), wp_bd]
      have hB4 := b1.wg hd d1
      exact hj τ4 hB4 d3 (fun R τ5 hR k1 k2 => fin2 R f2 p4 τ4 τ5 hf2 hR hB4 (b2.trans (wG_tG d1)) (b3.trans ⟨fun k _ => by rw [d3], fun k _ => by rw [d4, d5]; exact ⟨rfl, rfl⟩⟩) d2 k1 k2)
    have lit : ∀ {st' p' τ}, BTr Ms top s S A st' p' τ → ∀ g, g < lsG s → stG Ms s g → ∀ k, k < szG Ms s g → τ.1 2154 (bitsS Ms s g + k) = (stL Ms s g k : Int) := fun {st' p' τ} hb g hg hs => ((hb.2.2.2.1 g hg).1 hs).2
    clear fin2 hQ hgy
    by_cases c2 : gO (gI' Ms s i) u = 2
    · obtain ⟨t, t1, t2, t3, t4, t5, t6, t7, t8, t9⟩ := hd.rm hi hu c2
      have f1' := (hd.nod hi (show u - 1 < mdN (moI Ms s i) by omega)).1.2.2
      obtain ⟨rm1, rm2⟩ := rm1E hd hi hu t7 t9 hroom
      obtain ⟨k0, kA, kB⟩ := nd_2 hnd c2
      rw [t8] at kB
      have e2 : y2 = rgB Ms s mk i (cnE Ms s i (u - 1)) (gF (gI' Ms s i) (u - 1)) (e, st) := by rw [hy2, pre_one t7 t9 f1'.2]
      have e3 := ndB_2 (mk := mk) (x := y2) c2
      rw [t8, tn] at e3
      rw [k0, wp_ifn (by decide), wp_ifn (by decide), wp_ifn (by decide)]
      refine tWork (m := u) (b := 1) rfl a2 (by omega) (by decide) (fun τ2 b1 b2 b3 b4 b5 b6 => ?_)
      have v1 := wG_row b1
      rw [wp_bd, RI_2088 (by omega) (by omega), tn, v1 2088 (by decide) (by decide) (by decide) (by decide), k0, wp_ifn (by decide), X15_visit_185, wp_bd, RI_2088 (by omega) (by omega), tn, v1 2088 (by decide) (by decide) (by decide) (by decide), k0, wp_bd, hs1 (by decide) (by decide) (by decide), wp_ifn (by decide), wp_bd, RI_2090 (by omega) (by omega), tn, v1 2090 (by decide) (by decide) (by decide) (by decide), kB]
      refine tWork (m := u - 1) (b := 0) rfl b2 (by omega) (by decide) (fun τ3 d1 d2 d3 d4 d5 d6 => ?_)
      have v2 := wG_row d1
      rw [X15_visit_210, wp_bd, RI_2088 (by omega) (by omega), tn, v2 2088 (by decide) (by decide) (by decide) (by decide), v1 2088 (by decide) (by decide) (by decide) (by decide), k0, wp_ifp rfl, wp_rt]
      refine ih (u - 1) (by omega) (by omega) f1 e st p (q + 1) τ3 ((hB1.wg hd b1).wg hd d1) (hrd.of (by omega) (by omega)) rm1 (by omega) d2 d3 d4 (by omega) (fun f2 τ4 g1 g2 g3 g4 g5 g6 => ?_)
      rw [← e2] at g2 g6
      obtain ⟨f3, rfl⟩ : ∃ f3, f2 = f3 + 1 := ⟨f2 - 1, by omega⟩
      refine join f3 τ4 _ (by omega) g2 (((a1'.trans (wG_tG b1)).trans (wG_tG d1)).trans g3) ((((a3'.trans ⟨fun k _ => by rw [b5], b6⟩).trans ⟨fun k _ => by rw [d5], fun k hk => d6 k (by omega)⟩)).trans (g4.mono (Nat.le_refl _) (by omega))) g5 (by rw [(g4.2 q (by omega)).1, (d6 q (by omega)).1]; exact b3) (by rw [(g4.2 q (by omega)).2, (d6 q (by omega)).2]; exact b4) (fun τ5 j1 j2 cont => ?_)
      exact joinW hd hlim hS5 j1.1 j1.kt hi hu c2 (to := p) (x := y2.1 (u - 1)) (hv2.2 (u - 1) (by omega) (by omega)) rfl (fun j hj => by rw [j2]; exact g6 j hj) (by omega) (lit j1) rfl (fun τ6 k1 k2 => cont _ τ6 e3 k1 k2)
    by_cases c8 : gO (gI' Ms s i) u ≤ 8
    · obtain ⟨q1, q2, q3, -⟩ := (wR ()).2.2.2.1 (by omega) c8
      have f1' := (hd.nod hi (show u - 1 < mdN (moI Ms s i) by omega)).1.2.2
      obtain ⟨rm1, rm2⟩ := rm1E hd hi hu q1 q3 hroom
      obtain ⟨kA, kk⟩ := nd_un hnd (by omega) c8
      rw [q2] at kA
      have e2 : y2 = rgB Ms s mk i (cnE Ms s i (u - 1)) (gF (gI' Ms s i) (u - 1)) (e, st) := by rw [hy2, pre_one q1 q3 f1'.2]
      have e3 := ndB_3 (mk := mk) (x := y2) (show 3 ≤ gO (gI' Ms s i) u by omega)
      rw [q2, tn] at e3
      obtain ⟨KK, hKK⟩ : ∃ KK, KK = τ1.1 2088 (300 * (12 * S + lsM s i) + u) := ⟨_, rfl⟩
      rw [← hKK] at kk ⊢
      have kN : KK = 64 ∨ KK = 53 ∨ KK = 66 ∨ KK = 19 ∨ KK = 20 ∨ KK = 21 := by
        rcases kk with h | h | h | h | h | h
        · exact Or.inr (Or.inr (Or.inr (Or.inl h.1)))
        · exact Or.inr (Or.inr (Or.inr (Or.inr (Or.inl h.1))))
        · exact Or.inr (Or.inr (Or.inr (Or.inr (Or.inr h.1))))
        · exact Or.inr (Or.inl h.1)
        · exact Or.inl h.1
        · exact Or.inr (Or.inr (Or.inl h.1))
      obtain ⟨n1, n2, n3, n4, n5⟩ : KK ≠ 60 ∧ KK ≠ 61 ∧ KK ≠ 62 ∧ KK ≠ 40 ∧ KK ≠ 63 := by rcases kN with h | h | h | h | h | h <;> rw [h] <;> decide
      rw [wp_ifn n1, wp_ifn n2, wp_ifn n3]
      refine tWork (m := u) (b := 1) rfl a2 (by omega) (by decide) (fun τ2 b1 b2 b3 b4 b5 b6 => ?_)
      have v1 := wG_row b1
      rw [wp_bd, RI_2088 (by omega) (by omega), tn, v1 2088 (by decide) (by decide) (by decide) (by decide), ← hKK, wp_ifn n4, X15_visit_185, wp_bd, RI_2088 (by omega) (by omega), tn, v1 2088 (by decide) (by decide) (by decide) (by decide), ← hKK, wp_bd, hs0 kN, wp_ifp rfl, X15_visit_210, wp_bd, RI_2088 (by omega) (by omega), tn, v1 2088 (by decide) (by decide) (by decide) (by decide), ← hKK, wp_ifn n5, wp_bd, RI_2089 (by omega) (by omega), tn, v1 2089 (by decide) (by decide) (by decide) (by decide), kA]
      refine tWork (m := u - 1) (b := 0) rfl b2 (by omega) (by decide) (fun τ3 d1 d2 d3 d4 d5 d6 => ?_)
      rw [wp_rt]
      refine ih (u - 1) (by omega) (by omega) f1 e st p (q + 1) τ3 ((hB1.wg hd b1).wg hd d1) (hrd.of (by omega) (by omega)) rm1 (by omega) d2 d3 d4 (by omega) (fun f2 τ4 g1 g2 g3 g4 g5 g6 => ?_)
      rw [← e2] at g2 g6
      obtain ⟨f3, rfl⟩ : ∃ f3, f2 = f3 + 1 := ⟨f2 - 1, by omega⟩
      refine join f3 τ4 _ (by omega) g2 (((a1'.trans (wG_tG b1)).trans (wG_tG d1)).trans g3) ((((a3'.trans ⟨fun k _ => by rw [b5], b6⟩).trans ⟨fun k _ => by rw [d5], fun k hk => d6 k (by omega)⟩)).trans (g4.mono (Nat.le_refl _) (by omega))) g5 (by rw [(g4.2 q (by omega)).1, (d6 q (by omega)).1]; exact b3) (by rw [(g4.2 q (by omega)).2, (d6 q (by omega)).2]; exact b4) (fun τ5 j1 j2 cont => ?_)
      exact joinU hd hlim hS5 j1.1 j1.kt hi hu (by omega) c8 (to := p) (x := y2.1 (u - 1)) (hv2.2 (u - 1) (by omega) (by omega)) rfl (fun j hj => by rw [j2]; exact g6 j hj) (by omega) rfl (fun τ6 k1 k2 => cont _ τ6 e3 k1 k2)
    by_cases c19 : gO (gI' Ms s i) u = 19
    · obtain ⟨a, b, y1, y3, y4, y5, y6, y7, y8, y9, y10, y11⟩ := (wR ()).2.2.2.2.2 c19
      have f1' := (hd.nod hi (show u - 1 < mdN (moI Ms s i) by omega)).1.2.2
      have f2' := (hd.nod hi (show b < mdN (moI Ms s i) by omega)).1.2.2
      have f3' := (hd.nod hi (show a < mdN (moI Ms s i) by omega)).1.2.2
      obtain ⟨rm1, rm2, rm3, rm4, rm5, rm6⟩ := rm3E hd hi hu c19 y1 y4 y5 y8 hroom
      obtain ⟨k0, kA, kB, kC⟩ := nd_q hnd c19
      rw [y7] at kA
      rw [y6] at kB
      rw [y3] at kC
      obtain ⟨yA, hyA⟩ : ∃ yA, yA = rgB Ms s mk i (cnE Ms s i a) (gF (gI' Ms s i) a) (e, st) := ⟨_, rfl⟩
      obtain ⟨yB, hyB⟩ : ∃ yB, yB = rgB Ms s mk i (cnE Ms s i b) (gF (gI' Ms s i) b) (yA.1, yA.2) := ⟨_, rfl⟩
      have e2 : y2 = rgB Ms s mk i (cnE Ms s i (u - 1)) (gF (gI' Ms s i) (u - 1)) (yB.1, yB.2) := by rw [hy2, pre_three y1 y4 y5 y8 f1'.2 f3'.2 f2'.2, ← hyA]; rw [show rgB Ms s mk i (cnE Ms s i b) (gF (gI' Ms s i) b) yA = yB from hyB.symm]
      have eA : y2.1 a = yA.1 a := by rw [e2, rgB_lo _ _ _ (by omega)]; show yB.1 a = _; rw [hyB, rgB_lo _ _ _ (by omega)]
      have eB : y2.1 b = yB.1 b := by rw [e2, rgB_lo _ _ _ (by omega)]
      have e3 := ndB_3 (mk := mk) (x := y2) (show 3 ≤ gO (gI' Ms s i) u by omega)
      rw [y7, y6, y3, tn, tn, tn] at e3
      rw [k0, wp_ifn (by decide), wp_ifn (by decide), wp_ifn (by decide)]
      refine tWork (m := u) (b := 1) rfl a2 (by omega) (by decide) (fun τ2 b1 b2 b3 b4 b5 b6 => ?_)
      have v1 := wG_row b1
      rw [wp_bd, RI_2088 (by omega) (by omega), tn, v1 2088 (by decide) (by decide) (by decide) (by decide), k0, wp_ifp rfl, wp_bd, RI_2091 (by omega) (by omega), tn, v1 2091 (by decide) (by decide) (by decide) (by decide), kC]
      refine tWork (m := u - 1) (b := 0) rfl b2 (by omega) (by decide) (fun τ3 d1 d2 d3 d4 d5 d6 => ?_)
      have v2 := wG_row d1
      rw [X15_visit_185, wp_bd, RI_2088 (by omega) (by omega), tn, v2 2088 (by decide) (by decide) (by decide) (by decide), v1 2088 (by decide) (by decide) (by decide) (by decide), k0, wp_bd, hs1 (by decide) (by decide) (by decide), wp_ifn (by decide), wp_bd, RI_2090 (by omega) (by omega), tn, v2 2090 (by decide) (by decide) (by decide) (by decide), v1 2090 (by decide) (by decide) (by decide) (by decide), kB]
      refine tWork (m := b) (b := 0) rfl d2 (by omega) (by decide) (fun τ4 l1 l2 l3 l4 l5 l6 => ?_)
      have v3 := wG_row l1
      rw [X15_visit_210, wp_bd, RI_2088 (by omega) (by omega), tn, v3 2088 (by decide) (by decide) (by decide) (by decide), v2 2088 (by decide) (by decide) (by decide) (by decide), v1 2088 (by decide) (by decide) (by decide) (by decide), k0, wp_ifn (by decide), wp_bd, RI_2089 (by omega) (by omega), tn, v3 2089 (by decide) (by decide) (by decide) (by decide), v2 2089 (by decide) (by decide) (by decide) (by decide), v1 2089 (by decide) (by decide) (by decide) (by decide), kA]
      refine tWork (m := a) (b := 0) rfl l2 (by omega) (by decide) (fun τ5 o1 o2 o3 o4 o5 o6 => ?_)
      rw [wp_rt]
      have hT : agr tG σ τ5 := (((a1'.trans (wG_tG b1)).trans (wG_tG d1)).trans (wG_tG l1)).trans (wG_tG o1)
      have hL : lowT p q σ τ5 := (((a3'.trans ⟨fun k _ => by rw [b5], b6⟩).trans ⟨fun k _ => by rw [d5], fun k hk => d6 k (by omega)⟩).trans ⟨fun k _ => by rw [l5], fun k hk => l6 k (by omega)⟩).trans ⟨fun k _ => by rw [o5], fun k hk => o6 k (by omega)⟩
      refine ih a (by omega) (by omega) f1 e st p (q + 3) τ5 ((((hB1.wg hd b1).wg hd d1).wg hd l1).wg hd o1) (hrd.of (by omega) (by omega)) rm1 (by omega) o2 o3 o4 (by omega) (fun f2 τ6 g1 g2 g3 g4 g5 g6 => ?_)
      rw [← hyA, y9] at g2
      rw [← hyA, y9] at g6
      have gw := hv2.2
      refine ih b (by omega) (by omega) f2 yA.1 yA.2 (p + 1) (q + 2) τ6 g2 (hrd.of (by omega) (by omega)) rm2 (by omega) g5 (by rw [(g4.2 _ (by omega)).1, (o6 _ (by omega)).1]; exact l3) (by rw [(g4.2 _ (by omega)).2, (o6 _ (by omega)).2]; exact l4) (by omega) (fun f3 τ7 m1 m2 m3 m4 m5 m6 => ?_)
      rw [← hyB] at m2 m6
      refine ih (u - 1) (by omega) (by omega) f3 yB.1 yB.2 (p + 1 + gW (gI' Ms s i) b) (q + 1) τ7 m2 (hrd.of (by omega) (by omega)) rm3 (by omega) m5 (by rw [(m4.2 _ (by omega)).1, (g4.2 _ (by omega)).1, (o6 _ (by omega)).1, (l6 _ (by omega)).1]; exact d3) (by rw [(m4.2 _ (by omega)).2, (g4.2 _ (by omega)).2, (o6 _ (by omega)).2, (l6 _ (by omega)).2]; exact d4) (by omega) (fun f4 τ8 n1 n2 n3 n4 n5 n6 => ?_)
      rw [← e2] at n2 n6
      obtain ⟨f5, rfl⟩ : ∃ f5, f4 = f5 + 1 := ⟨f4 - 1, by omega⟩
      refine join f5 τ8 _ (by omega) n2 (((hT.trans g3).trans m3).trans n3) (((hL.trans (g4.mono (Nat.le_refl _) (by omega))).trans (m4.mono (by omega) (by omega))).trans (n4.mono (by omega) (by omega))) n5 (by rw [(n4.2 q (by omega)).1, (m4.2 q (by omega)).1, (g4.2 q (by omega)).1, (o6 q (by omega)).1, (l6 q (by omega)).1, (d6 q (by omega)).1]; exact b3) (by rw [(n4.2 q (by omega)).2, (m4.2 q (by omega)).2, (g4.2 q (by omega)).2, (o6 q (by omega)).2, (l6 q (by omega)).2, (d6 q (by omega)).2]; exact b4) (fun τ9 j1 j2 cont => ?_)
      have lA := hv2.2 a (by omega) (by omega)
      have lB := hv2.2 b (by omega) (by omega)
      have lC := hv2.2 (u - 1) (by omega) (by omega)
      rw [y9] at lA
      rw [y10] at lB j1 n4 n6 m6
      rw [y11] at lC j1 n6
      refine joinQ hd hlim hS5 j1.1 j1.kt hi hu c19 y7 y6 (to := p) (x := y2.1 a) (y := y2.1 b) (z := y2.1 (u - 1)) lA lB lC rfl ?_ (fun j hj => ?_) (fun j hj => ?_) (by omega) rfl (fun τ10 k1 k2 => cont _ τ10 e3 k1 k2)
      · rw [j2, n4.1 p (by omega), m4.1 p (by omega), eA]; exact g6 0 (by decide)
      · rw [j2, n4.1 _ (by omega), eB]; exact m6 j hj
      · rw [j2]; exact n6 j hj
    · obtain ⟨y1, y3, y4, y5, y6, -⟩ := (wR ()).2.2.2.2.1 (by omega) c19
      obtain ⟨a, ha⟩ : ∃ a, a = gF (gI' Ms s i) (u - 1) - 1 := ⟨_, rfl⟩
      rw [← ha] at y5 y6
      have f1' := (hd.nod hi (show u - 1 < mdN (moI Ms s i) by omega)).1.2.2
      have f3' := (hd.nod hi (show a < mdN (moI Ms s i) by omega)).1.2.2
      have ha' : a + 1 = gF (gI' Ms s i) (u - 1) := by omega
      obtain ⟨rm1, rm3, rm4, rm5⟩ := rm2E hd hi hu y1 ha' y6 y5 hroom
      obtain ⟨kA, kB, kk⟩ := nd_bi hnd (by omega) c19
      rw [y5] at kA
      rw [y3] at kB
      obtain ⟨yA, hyA⟩ : ∃ yA, yA = rgB Ms s mk i (cnE Ms s i a) (gF (gI' Ms s i) a) (e, st) := ⟨_, rfl⟩
      have e2 : y2 = rgB Ms s mk i (cnE Ms s i (u - 1)) (gF (gI' Ms s i) (u - 1)) (yA.1, yA.2) := by rw [hy2, pre_two y1 ha' y6 f1'.2 f3'.2, ← hyA]
      have eA : y2.1 a = yA.1 a := by rw [e2, rgB_lo _ _ _ (by omega)]
      have e3 := ndB_3 (mk := mk) (x := y2) (show 3 ≤ gO (gI' Ms s i) u by omega)
      rw [y5, y3, tn, tn] at e3
      obtain ⟨KK, hKK⟩ : ∃ KK, KK = τ1.1 2088 (300 * (12 * S + lsM s i) + u) := ⟨_, rfl⟩
      rw [← hKK] at kk ⊢
      obtain ⟨n1, n2, n3, n4, n5, n6, n7, n8, n9, n10⟩ : KK ≠ 60 ∧ KK ≠ 61 ∧ KK ≠ 62 ∧ KK ≠ 40 ∧ KK ≠ 63 ∧ 22 ≤ KK ∧ KK ≤ 1000 ∧ KK ≠ 64 ∧ KK ≠ 53 ∧ KK ≠ 66 := by
        rcases kk with h | h | h | h | h | h | h | h | h | h | h | h <;> rw [h.2] <;> decide
      clear kk
      rw [wp_ifn n1, wp_ifn n2, wp_ifn n3]
      refine tWork (m := u) (b := 1) rfl a2 (by omega) (by decide) (fun τ2 b1 b2 b3 b4 b5 b6 => ?_)
      have v1 := wG_row b1
      rw [wp_bd, RI_2088 (by omega) (by omega), tn, v1 2088 (by decide) (by decide) (by decide) (by decide), ← hKK, wp_ifn n4, X15_visit_185, wp_bd, RI_2088 (by omega) (by omega), tn, v1 2088 (by decide) (by decide) (by decide) (by decide), ← hKK, wp_bd, hs1 n6 n7 ⟨n8, n9, n10⟩, wp_ifn (by decide), wp_bd, RI_2090 (by omega) (by omega), tn, v1 2090 (by decide) (by decide) (by decide) (by decide), kB]
      refine tWork (m := u - 1) (b := 0) rfl b2 (by omega) (by decide) (fun τ3 d1 d2 d3 d4 d5 d6 => ?_)
      have v2 := wG_row d1
      rw [X15_visit_210, wp_bd, RI_2088 (by omega) (by omega), tn, v2 2088 (by decide) (by decide) (by decide) (by decide), v1 2088 (by decide) (by decide) (by decide) (by decide), ← hKK, wp_ifn n5, wp_bd, RI_2089 (by omega) (by omega), tn, v2 2089 (by decide) (by decide) (by decide) (by decide), v1 2089 (by decide) (by decide) (by decide) (by decide), kA]
      refine tWork (m := a) (b := 0) rfl d2 (by omega) (by decide) (fun τ5 o1 o2 o3 o4 o5 o6 => ?_)
      rw [wp_rt]
      have hT : agr tG σ τ5 := ((a1'.trans (wG_tG b1)).trans (wG_tG d1)).trans (wG_tG o1)
      have hL : lowT p q σ τ5 := ((a3'.trans ⟨fun k _ => by rw [b5], b6⟩).trans ⟨fun k _ => by rw [d5], fun k hk => d6 k (by omega)⟩).trans ⟨fun k _ => by rw [o5], fun k hk => o6 k (by omega)⟩
      refine ih a (by omega) (by omega) f1 e st p (q + 2) τ5 (((hB1.wg hd b1).wg hd d1).wg hd o1) (hrd.of (by omega) (by omega)) rm1 (by omega) o2 o3 o4 (by omega) (fun f2 τ6 g1 g2 g3 g4 g5 g6 => ?_)
      rw [← hyA] at g2 g6
      refine ih (u - 1) (by omega) (by omega) f2 yA.1 yA.2 (p + gW (gI' Ms s i) a) (q + 1) τ6 g2 (hrd.of (by omega) (by omega)) rm3 (by omega) g5 (by rw [(g4.2 _ (by omega)).1, (o6 _ (by omega)).1]; exact d3) (by rw [(g4.2 _ (by omega)).2, (o6 _ (by omega)).2]; exact d4) (by omega) (fun f3 τ7 m1 m2 m3 m4 m5 m6 => ?_)
      rw [← e2] at m2 m6
      obtain ⟨f5, rfl⟩ : ∃ f5, f3 = f5 + 1 := ⟨f3 - 1, by omega⟩
      refine join f5 τ7 _ (by omega) m2 ((hT.trans g3).trans m3) ((hL.trans (g4.mono (Nat.le_refl _) (by omega))).trans (m4.mono (by omega) (by omega))) m5 (by rw [(m4.2 q (by omega)).1, (g4.2 q (by omega)).1, (o6 q (by omega)).1, (d6 q (by omega)).1]; exact b3) (by rw [(m4.2 q (by omega)).2, (g4.2 q (by omega)).2, (o6 q (by omega)).2, (d6 q (by omega)).2]; exact b4) (fun τ9 j1 j2 cont => ?_)
      refine joinB hd hlim hS5 j1.1 j1.kt hi hu (by omega) c19 y5 y3 (to := p) (x := y2.1 a) (y := y2.1 (u - 1)) (hv2.2 a (by omega) (by omega)) (hv2.2 (u - 1) (by omega) (by omega)) rfl (fun j hj => ?_) (fun j hj => ?_) (by omega) rfl (fun τ10 k1 k2 => cont _ τ10 e3 k1 k2)
      · rw [j2, m4.1 _ (by omega), eA]; exact g6 j hj
      · rw [j2]; exact m6 j hj
/-- how the twin finds an expression -/
def FDT (Ms : Nat → ModV) (top : Nat) (s : LYS) (S : Nat) (r : Nat → Nat) (K : Nat) (bo : Int → Int → St → Option (Unit × St)) (mk : Nat → BST → BST) : Prop := ∀ i u : Nat, i < lsI s → u < mdN (moI Ms s i) → ∀ (A : Nat → Prop) (st : BST) (p q : Nat) (σ : St), BTr Ms top s S A st p σ → rdU Ms s r K A i u → roomE Ms s r p q i u → σ.1 2075 112 = (q : Int) → ∀ (Q : Unit → St → Prop), (∀ τ, BTr Ms top s S A (rngB Ms s mk i u st).2 (p + gW (gI' Ms s i) u) τ → agr tG σ τ → lowT p q σ τ → τ.1 2075 112 = (q : Int) → ltA (lvD Ms s) (rngB Ms s mk i u st).2.1 (gW (gI' Ms s i) u) (rngB Ms s mk i u st).1 → (∀ j, j < gW (gI' Ms s i) u → τ.1 2153 (p + j) = ((rngB Ms s mk i u st).1 j : Int)) → Q () τ) → wp (bo (i : Int) (u : Int)) σ Q
theorem bitsOfT (hd : DP Ms top s) (hlim : limOK Ms s) (hS5 : S < 5) {fnd : Int → St → Option (Unit × St)} (hmk : MKT Ms top s S r K fnd mk) (hp : PMK Ms s r K mk) : FDT Ms top s S r K (fun a1 a2 => F_X15_bitsOf (visT fnd) a1 a2) mk := by
  intro i u hi hu A st p q σ hB hrd hroom h112 Q hQ
  have hF := FU_ge
  have h12 := hd.1.1
  obtain ⟨hM, ok⟩ := hd.inst hi
  have n240 : mdN (moI Ms s i) ≤ 240 := ok.1.2.1
  have hr1 := hroom.1
  have hc : cnE Ms s i u ≤ 240 := by unfold cnE; omega
  have hgo := (rgB_gow (x := (fun _ _ => 0, st)) hd hp.1 hi hu hB.2.2.1).2
  show wp (F_X15_bitsOf (visT fnd) (i : Int) (u : Int)) σ Q
  rw [F_X15_bitsOf, wp_bd, wp_gI, h112, wp_lt, wp_bd, wp_gI, hB.1.2.1, wp_bd, m_store hd hB.1.1 hS5 hi, wp_lt, w32_i (by omega) (by omega), show 300 * ((12 * S + lsM s i : Nat) : Int) = ((300 * (12 * S + lsM s i) : Nat) : Int) by omega]
  have hc1 : 1 ≤ cnE Ms s i u := by have := (hd.nod hi hu).1.2.2.2; unfold cnE; omega
  refine tWork (m := u) (b := 0) rfl h112 (by omega) (by decide) (fun τ1 a1 a2 a3 a4 a5 a6 => ?_)
  refine subT hd hlim hS5 hi hmk hp u hu FU (fun _ _ => 0) st p q τ1 (hB.wg hd a1) hrd hroom (Nat.le_refl _) a2 a3 a4 (by omega) (fun f τ b1 b2 b3 b4 b5 b6 => ?_)
  obtain ⟨f', rfl⟩ : ∃ f', f = f' + 1 := ⟨f - 1, by omega⟩
  rw [X15_bitsOf_26, wp_bd, wp_gI, b5, wp_ifp (by omega), wp_rt]
  exact hQ τ b2 ((wG_tG a1).trans b3) (lowT.trans ⟨fun k _ => by rw [a5], a6⟩ b4) b5 hgo b6
end
