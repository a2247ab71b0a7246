set_option maxRecDepth 100000
set_option maxHeartbeats 400000
/-! ===== read: connections, the value ===== -/
theorem bdE_bdE {α β γ : Type} {m : St → Option ((α ⊕ XV) × St)} {f : α → St → Option ((β ⊕ XV) × St)} {g : β → St → Option ((γ ⊕ XV) × St)} : bdE (bdE m f) g = bdE m (fun v => bdE (f v) g) := by
  funext σ
  unfold bdE
  rcases m σ with _ | ⟨_ | _, τ⟩ <;> rfl
theorem agr.row {P : Nat → Nat → Prop} {σ τ : St} (h : agr P σ τ) {a : Nat} (hP : ∀ k, P a k) : τ.1 a = σ.1 a := funext fun k => (h a k (hP k)).1
section
variable {V : St → St → Prop} {RD : Nat → Int → Nat → Prop} {WD : Nat → Nat → Prop} {c0 : Nat × Int} {σ0 τ0 : St} {T : Nat → Int} {n op : Nat} {γ δ : Type}
theorem FT_60 {s a b c d : Int} : FTw c0 (fun _ : Unit => True) (X15_connection_60 s a b c d) := by
  rw [X15_connection_60]
  dsimp only [lt]
  exact FT_gI (fun v => FT_bd (FT_must (by decide)) (fun z hz => FT_if (fun _ => FT_rt trivial) (fun e => absurd hz e)))
/-- what a connection leaves behind -/
def CPost (c0 : Nat × Int) (σ0 τ0 : St) (V : St → St → Prop) (RD : Nat → Int → Nat → Prop) (WD : Nat → Nat → Prop) (T : Nat → Int) (n op : Nat) (G : NG) (N j nC nS r i w N0 q : Nat) (y z : Int) (σ τ : St) (p' : Nat) (G' : NG) (M : Nat) (σ' τ' : St) : Prop :=
  (q + 3 ≤ p' ∧ N < M ∧ gF G' (M - 1) = N ∧ gW G' (M - 1) = w ∧ ∀ i, i < N → gAt G G' i) ∧ (agr nSX σ σ' ∧ agr nSY τ τ') ∧ BS c0 σ0 τ0 T n σ' τ' ∧ EX0 V RD WD G' M j op p' σ' τ' ∧ TKf T n σ' τ' p' ∧
  (σ'.1 5 22 = ((nC + 1 : Nat) : Int) ∧ σ'.1 5 27 = σ.1 5 27 ∧ σ'.1 2 16 = σ.1 2 16 ∧ (∀ x, 26 ≤ x → x ≤ 29 → σ'.1 x = σ.1 x) ∧ σ'.1 19 = ups (σ.1 19) nC (i : Int) ∧ σ'.1 20 = ups (σ.1 20) nC y ∧ σ'.1 21 = ups (σ.1 21) nC z ∧ σ'.1 22 = ups (σ.1 22) nC (N0 : Int) ∧ σ'.1 23 = ups (σ.1 23) nC ((M - 1 : Nat) : Int) ∧ σ'.1 24 = ups (σ.1 24) nC (N : Int) ∧ σ'.1 25 = ups (σ.1 25) nC (σ.1 2 16) ∧ σ'.1 30 = ups (σ.1 30) (1600 * (r : Int) + σ.1 31 i + max 0 y).toNat 1) ∧
  (τ'.1 2107 = ups (τ.1 2107) nS (i : Int) ∧ τ'.1 2108 = ups (τ.1 2108) nS y ∧ τ'.1 2109 = ups (τ.1 2109) nS z ∧ τ'.1 2110 = ups (τ.1 2110) nS ((M - 1 : Nat) : Int) ∧ (∀ x, 2111 ≤ x → x ≤ 2113 → τ'.1 x = τ.1 x) ∧ τ'.1 2075 46 = τ.1 2075 46 ∧ τ'.1 2075 47 = τ.1 2075 47)
theorem con181 (hV : StE V) (hVS : ∀ σ τ σ' τ', agr nSX σ σ' → agr nSY τ τ' → V σ τ → V σ' τ') (hexp : XS V RD WD c0 σ0 τ0 T n op R_X1_exp R_X15_exp) {σ τ : St} {p q N j nC nS r i w N0 : Nat} {G : NG} {y z : Int} (hb : BS c0 σ0 τ0 T n σ τ) (hx : EX0 V RD WD G N j op p σ τ) (hk : TK T n σ τ q) (hpq : p ≤ q) (hC : σ.1 5 22 = (nC : Int) ∧ nC < 1400) (hS : nS < 2100) (hr : r ≤ 20) (hi : i < 40) (h57 : τ.1 2075 55 = (i : Int) ∧ τ.1 2075 56 = y ∧ τ.1 2075 57 = z) (hw : ∀ σ' τ', V σ' τ' → ∀ Q : Int → St → Prop, wp (F_X15_widthOf (i : Int) y) τ' Q = Q (w : Int) τ') (hsl : 0 ≤ σ.1 31 i ∧ σ.1 31 i + max 0 y < 1600) : LK c0 σ0 τ0 (fun _ : Unit => True) (X1_connection_181 (r : Int) (i : Int) y (N0 : Int) z (w : Int)) (tailC (nS : Int) ()) σ τ (fun _ _ σ' τ' => ∃ p' G' M, CPost c0 σ0 τ0 V RD WD T n op G N j nC nS r i w N0 q y z σ τ p' G' M σ' τ') := by
  obtain ⟨r1, r2, r3⟩ := h57
  rw [X1_connection_181, F_X1_want]
  unfold tailC
  simp only [lt, bdE_bdE, bdE_ite, bdE_bd, bdE_le, bdE_thw]
  refine LK_t ?_
  rw [wp_gI, r1]
  refine LK_t ?_
  rw [wp_gI, r2]
  refine LK_t ?_
  rw [wp_gI, r3]
  refine LK_t ?_
  rw [wp_gI]
  refine LK_look hb hk (EX0.st hV) hx (by rw [if_neg (by decide)]; exact FT_60) (fun q1 σ1 τ1 hq1 e1 e2 b1 x1 k1 hin => ?_)
  by_cases c : tkK T n q1 = 15
  · rw [if_pos c, if_pos ((km_eq hin (a := 15) (b := 43) (by decide)).mpr c), X15_connection_60, F_X15_must]
    simp only [lt, bd_as, bd_ite]
    refine LK_t ?_
    rw [wp_gI, k1.t33]
    refine LK_t ?_
    rw [look_t b1.2.2.1 k1, if_pos ((km_eq hin (a := 15) (b := 43) (by decide)).mpr c)]
    refine LK_pass b1 k1 (by rw [c]; decide) (EX0.st hV) x1 (fun q2 σ2 τ2 hq2 _ w1 w2 b2 x2 k2 k2' => ?_)
    refine LK_c ?_
    rw [wp_gI, k2'.1]
    refine LK_c ?_
    rw [wp_gI, x2.2.1.1.1]
    refine LK_t ?_
    rw [c_rtZ (by decide) (by decide)]
    rw [if_neg (by decide)]
    refine LK_bd (LK_mono (hexp.1 σ2 τ2 q2 0 G N j b2 (x2.le (by omega)) (Or.inl k2)) ?_) (fun u hu => ?_)
    · rintro ru rv σ3 τ3 ⟨p3, G3, M, ⟨hp3, hM⟩, rfl, rfl, f3, f4, b3, x3, k3, hG3, hF3⟩
      have k3l := k3.le
      have hn := b3.1.1
      have hNp := x3.2.1.2
      obtain ⟨⟨-, -, -, -, w18⟩, w2105, -⟩ := (x3.2.2.2.2 (M - 1) (by omega)).1
      refine LK_c ?_
      rw [RI_18 (by omega) (by omega), tn, w18]
      refine LK_t ?_
      rw [gI28 (σ := σ) b3.2.2.1, if_pos rfl]
      refine LK_t ?_
      rw [RI_2105 (by omega) (by omega), tn, w2105]
      refine LK_t ?_
      rw [hw σ3 τ3 x3.1]
      have fX : agr nEX σ σ3 := ((agr_nEX (agr_kX9 e1)).trans (agr_nEX (agr_kX9 w1))).trans f3
      have fY : agr nEY τ τ3 := ((agr_nEY (agr_kY6 e2)).trans (agr_nEY (agr_kY6 w2))).trans f4
      by_cases cw : gW G3 (M - 1) = w
      · rw [if_pos (by omega), if_pos (by omega), X15_connection_117]
        refine LK_c ?_
        rw [wp_gI]
        have h22 : σ3.1 5 22 = (nC : Int) := by rw [(fX 5 22 (by unfold nEX; omega)).1]; exact hC.1
        have h216 : σ3.1 2 16 = σ.1 2 16 := (fX 2 16 (by unfold nEX; omega)).1
        refine LK_c (conX h22 hC.2 (fun σ4 z1 z2 z3 z4 z5 => ?_))
        have h31 : σ4.1 31 = σ.1 31 := (z1 31 (by omega) (by decide)).trans (fX.row (fun k => by unfold nEX; omega))
        refine LK_c ?_
        rw [RI_31 (by omega) (by omega), tn, h31]
        refine LK_c ?_
        rw [wp_max]
        refine LK_c ?_
        rw [w32_i (x := 1600 * (r : Int)) (by omega) (by omega), w32_i (x := 1600 * (r : Int) + σ.1 31 i) (by omega) (by omega), w32_i (by omega) (by omega), RV_30 (by omega) (by omega) (by decide) (by decide)]
        have a5 : agr nSX σ3 (stA σ4.1 30 (ups (σ4.1 30) (1600 * (r : Int) + σ.1 31 i + max 0 y).toNat 1), σ4.2) := by
          refine agr.trans (τ := σ4) (fun a k ha => ?_) (agr.refl.u (by unfold nSX; omega) _)
          refine ⟨?_, by rw [z3], by rw [z3]⟩
          by_cases c5 : a = 5
          · subst c5; exact z2 k (by unfold nSX at ha; omega)
          · rw [z1 a (by unfold nSX at ha; omega) c5]
        have b5 : BS c0 σ0 τ0 T n (stA σ4.1 30 (ups (σ4.1 30) (1600 * (r : Int) + σ.1 31 i + max 0 y).toNat 1), σ4.2) τ3 := b3.frS a5 agr.refl b3.2.2.1
        have m2 : ∀ i', ((stA σ4.1 30 (ups (σ4.1 30) (1600 * (r : Int) + σ.1 31 i + max 0 y).toNat 1), σ4.2) : St).1 2 i' = σ3.1 2 i' := fun i' => by
          dsimp only; rw [stA_ne (by decide), z1 2 (by omega) (by decide)]
        have x5 : EX0 V RD WD G3 M j op p3 (stA σ4.1 30 (ups (σ4.1 30) (1600 * (r : Int) + σ.1 31 i + max 0 y).toNat 1), σ4.2) τ3 := by
          refine x3.cong (hVS _ _ _ _ a5 agr.refl x3.1) (fun i' hi' => ?_) (m2 9) (fun a h1 h2 => ?_) (fun _ _ _ => rfl) (fun _ _ _ => rfl) rfl
          · dsimp only; rw [stA_ne (by decide), z2 i' (by omega)]
          · dsimp only; rw [stA_ne (by omega), z1 a (by omega) (by omega)]
        have k5 : TK T n (stA σ4.1 30 (ups (σ4.1 30) (1600 * (r : Int) + σ.1 31 i + max 0 y).toNat 1), σ4.2) τ3 (p3 + 0) := k3.cong (fun i' _ _ => m2 i') (by dsimp only; rw [z3]) (fun _ _ _ => rfl) rfl
        refine LK_want (a := 59) (b := 37) (by decide) (by decide) (by decide) b5 k5 (EX0.st hV) x5 ?_ (fun q5 q6 σ6 τ6 hq5 hq6 _ g1 g2 b6 x6 k6 => ?_)
        · dsimp only [lt]
          refine FT_w 2100 (fun h1 h2 => RV_2107 h1 h2) (by omega) ⟨by decide, by unfold nY; omega⟩ ?_
          refine FT_w 2100 (fun h1 h2 => RV_2108 h1 h2) (by omega) ⟨by decide, by unfold nY; omega⟩ ?_
          refine FT_w 2100 (fun h1 h2 => RV_2109 h1 h2) (by omega) ⟨by decide, by unfold nY; omega⟩ ?_
          refine FT_w 2100 (fun h1 h2 => RV_2110 h1 h2) (by omega) ⟨by decide, by unfold nY; omega⟩ ?_
          exact FT_rt trivial
        · refine LK_e ?_
          rw [wp_lt, wp_bd, RV_2107 (by omega) (by omega), tn, wp_bd, RV_2108 (by omega) (by omega), tn, wp_bd, RV_2109 (by omega) (by omega), tn, wp_bd, RV_2110 (by omega) (by omega), tn, wp_rt]
          dsimp only
          have e67 : agr nSY τ6 (stA (stA (stA (stA τ6.1 2107 (ups (τ6.1 2107) nS (i : Int))) 2108 (ups ((stA τ6.1 2107 (ups (τ6.1 2107) nS (i : Int))) 2108) nS y)) 2109 (ups ((stA (stA τ6.1 2107 (ups (τ6.1 2107) nS (i : Int))) 2108 (ups ((stA τ6.1 2107 (ups (τ6.1 2107) nS (i : Int))) 2108) nS y)) 2109) nS z)) 2110 (ups ((stA (stA (stA τ6.1 2107 (ups (τ6.1 2107) nS (i : Int))) 2108 (ups ((stA τ6.1 2107 (ups (τ6.1 2107) nS (i : Int))) 2108) nS y)) 2109 (ups ((stA (stA τ6.1 2107 (ups (τ6.1 2107) nS (i : Int))) 2108 (ups ((stA τ6.1 2107 (ups (τ6.1 2107) nS (i : Int))) 2108) nS y)) 2109) nS z)) 2110) nS ((M - 1 : Nat) : Int)), τ6.2) := by
            refine (((agr.refl.w (a := 2107) (fun k q => ?_)).w (a := 2108) (fun k q => ?_)).w (a := 2109) (fun k q => ?_)).w (a := 2110) (fun k q => ?_)
            · exact absurd (by omega) q
            · exact absurd (by omega) q
            · exact absurd (by omega) q
            · exact absurd (by omega) q
          have l5 : ∀ x, ¬ (2107 ≤ x ∧ x ≤ 2110) → stA (stA (stA (stA τ6.1 2107 (ups (τ6.1 2107) nS (i : Int))) 2108 (ups ((stA τ6.1 2107 (ups (τ6.1 2107) nS (i : Int))) 2108) nS y)) 2109 (ups ((stA (stA τ6.1 2107 (ups (τ6.1 2107) nS (i : Int))) 2108 (ups ((stA τ6.1 2107 (ups (τ6.1 2107) nS (i : Int))) 2108) nS y)) 2109) nS z)) 2110 (ups ((stA (stA (stA τ6.1 2107 (ups (τ6.1 2107) nS (i : Int))) 2108 (ups ((stA τ6.1 2107 (ups (τ6.1 2107) nS (i : Int))) 2108) nS y)) 2109 (ups ((stA (stA τ6.1 2107 (ups (τ6.1 2107) nS (i : Int))) 2108 (ups ((stA τ6.1 2107 (ups (τ6.1 2107) nS (i : Int))) 2108) nS y)) 2109) nS z)) 2110) nS ((M - 1 : Nat) : Int)) x = τ6.1 x := fun x hx => by
            rw [stA_ne (by omega), stA_ne (by omega), stA_ne (by omega), stA_ne (by omega)]
          have s6 : agr nSX σ3 σ6 := a5.trans (agr_nSX (agr_nEX (agr_kX9 g1)))
          have t6 : agr nSY τ3 τ6 := agr_nSY (agr_nEY (agr_kY6 g2))
          have rX : ∀ a, 19 ≤ a → a ≤ 29 → σ6.1 a = σ4.1 a := fun a h1 h2 => by
            rw [g1.row (a := a) (fun k => by unfold kX; omega)]; dsimp only; rw [stA_ne (by omega)]
          have rF : ∀ a, 19 ≤ a → a ≤ 30 → σ3.1 a = σ.1 a := fun a h1 h2 => fX.row (fun k => by unfold nEX; omega)
          have rT : ∀ a, 2107 ≤ a → a ≤ 2113 → τ6.1 a = τ.1 a := fun a h1 h2 => (g2.row (fun k => by unfold kY; omega)).trans (fY.row (fun k => by unfold nEY; omega))
          obtain ⟨y1, y2, y3, y4, y5, y6, y7⟩ := z5
          refine ⟨q6, G3, M, ⟨by omega, hM, hF3, cw, hG3⟩, ⟨(agr_nSX fX).trans s6, ((agr_nSY fY).trans t6).trans e67⟩, b6.frS agr.refl e67 (by dsimp only; rw [l5 2075 (by decide)]; exact b6.2.2.1), (x6.le (by omega)).cong (hVS _ _ _ _ agr.refl e67 x6.1) (fun _ _ => rfl) rfl (fun _ _ _ => rfl) (fun i' _ _ => by dsimp only; rw [l5 2075 (by decide)]) (fun a h1 h2 => by dsimp only; rw [l5 a (by omega)]) rfl, k6.cong (fun _ _ _ => rfl) (fun i' _ _ => by dsimp only; rw [l5 2075 (by decide)]), ⟨?_, ?_, ?_, ?_, ?_, ?_, ?_, ?_, ?_, ?_, ?_, ?_⟩, ?_, ?_, ?_, ?_, ?_, ?_, ?_⟩
          · rw [(g1 5 22 (by unfold kX; omega)).1]; dsimp only; rw [stA_ne (by decide), z4]
          · rw [(g1 5 27 (by unfold kX; omega)).1]; dsimp only; rw [stA_ne (by decide), z2 27 (by decide), (fX 5 27 (by unfold nEX; omega)).1]
          · rw [(g1 2 16 (by unfold kX; omega)).1, m2 16, h216]
          · intro x h1 h2; rw [rX x (by omega) h2, z1 x (by omega) (by omega), rF x (by omega) (by omega)]
          · rw [rX 19 (by omega) (by omega), y1, rF 19 (by omega) (by omega)]
          · rw [rX 20 (by omega) (by omega), y2, rF 20 (by omega) (by omega)]
          · rw [rX 21 (by omega) (by omega), y3, rF 21 (by omega) (by omega)]
          · rw [rX 22 (by omega) (by omega), y4, rF 22 (by omega) (by omega)]
          · rw [rX 23 (by omega) (by omega), y5, rF 23 (by omega) (by omega)]
          · rw [rX 24 (by omega) (by omega), y6, rF 24 (by omega) (by omega)]
          · rw [rX 25 (by omega) (by omega), y7, rF 25 (by omega) (by omega), h216]
          · rw [g1.row (a := 30) (fun k => by unfold kX; omega)]; dsimp only; rw [stA_eq, z1 30 (by omega) (by decide), rF 30 (by omega) (by omega)]
          · dsimp only; rw [stA_ne (by decide), stA_ne (by decide), stA_ne (by decide), stA_eq, rT 2107 (by omega) (by omega)]
          · dsimp only; rw [stA_ne (by decide), stA_ne (by decide), stA_eq, stA_ne (by decide), rT 2108 (by omega) (by omega)]
          · dsimp only; rw [stA_ne (by decide), stA_eq, stA_ne (by decide), stA_ne (by decide), rT 2109 (by omega) (by omega)]
          · dsimp only; rw [stA_eq, stA_ne (by decide), stA_ne (by decide), stA_ne (by decide), rT 2110 (by omega) (by omega)]
          · intro x h1 h2; dsimp only; rw [l5 x (by omega), rT x (by omega) h2]
          · dsimp only; rw [l5 2075 (by decide), (g2 2075 46 (by unfold kY; omega)).1, (fY 2075 46 (by unfold nEY; omega)).1]
          · dsimp only; rw [l5 2075 (by decide), (g2 2075 47 (by unfold kY; omega)).1, (fY 2075 47 (by unfold nEY; omega)).1]
      · rw [if_neg (by omega), if_neg (by omega)]
        exact LK_flt (n' := 7) (by decide) b3 rfl (FT_117 (by omega))
    · have f117 : ∀ a b c d, FTw c0 (fun _ : Unit => True) (X15_connection_117 (nS : Int) a b c d) := fun a b c d => FT_117 (by omega)
      exact FT_gF (fun v hv => FT_if (c := v = 0) (fun e => absurd e (by omega)) (fun _ => f117 _ _ _ _))
  · rw [if_neg c, if_neg (fun e => c ((km_eq hin (a := 15) (b := 43) (by decide)).mp e)), X15_connection_60, F_X15_must]
    simp only [lt, bd_as, bd_ite]
    refine LK_t ?_
    rw [wp_gI, k1.t33]
    refine LK_t ?_
    rw [look_t b1.2.2.1 k1, if_neg (fun e => c ((km_eq hin (a := 15) (b := 43) (by decide)).mp e))]
    refine LK_c ?_
    rw [wp_gI, k1.k6]
    refine LK_t ?_
    rw [wp_gI, k1.t33]
    refine LK_flt (n' := 2) (by decide) b1 rfl (fun τ' h1 h3 => ?_)
    rw [wp_bd, c_rtZ (by decide) (by decide), wp_ifp rfl]
    exact FT_rt trivial τ' h1 h3
end
