set_option maxRecDepth 100000
set_option maxHeartbeats 400000
/-! ===== read: signs ahead, slices ===== -/
section
variable {V : St → St → Prop} {RD : Nat → Int → Nat → Prop} {WD : Nat → Nat → Prop} {c0 : Nat × Int} {σ0 τ0 : St} {T : Nat → Int} {n op : Nat} {γ δ : Type}
theorem TK.ups {σ τ : St} {p : Nat} {v w : Int} (h : TK T n σ τ p) : TK T n (stA σ.1 2 (ups (σ.1 2) 9 v), σ.2) (stA τ.1 2075 (ups (τ.1 2075) 36 w), τ.2) p := by
  rcases h with ⟨h1, ⟨h2, h3⟩, h4, h5⟩ | ⟨h1, h2, ⟨k1, k2, k3, k4, k5⟩, t1, t2, t3, t4, t5, t6⟩
  · refine Or.inl ⟨h1, ⟨?_, ?_⟩, ?_, ?_⟩ <;> dsimp only <;> rw [stA_eq, ups_ne (by decide)] <;> assumption
  · refine Or.inr ⟨h1, h2, ⟨?_, ?_, ?_, ?_, k5⟩, ?_, ?_, ?_, ?_, ?_, t6⟩ <;> dsimp only <;> rw [stA_eq, ups_ne (by decide)] <;> assumption
theorem LK_closeK {G : NG} {N j p pt : Nat} {σ τ : St} {B : δ → Prop} {f' : St → Option ((γ ⊕ XV) × St)} {g' : St → Option (δ × St)} {P : γ → δ → St → St → Prop} (hV : StE V) (hb : BS c0 σ0 τ0 T n σ τ) (hk : TK T n σ τ pt) (hx : EX0 V RD WD G N j (op + 1) p σ τ) (go : ∀ σ' τ', agr kX9 σ σ' → agr kY6 τ τ' → BS c0 σ0 τ0 T n σ' τ' → TK T n σ' τ' pt → EX0 V RD WD G N j op p σ' τ' → LK c0 σ0 τ0 B f' g' σ' τ' P) : LK c0 σ0 τ0 B (bd (gI 2 9) fun v => bd (pI 2 9 (w32 (v - 1))) fun _ => f') (bd (gI 2075 36) fun v => bd (pI 2075 36 (w32 (v - 1))) fun _ => g') σ τ P := by
  obtain ⟨o0, o1, o2⟩ := hx.2.2.2.1
  refine LK_c ?_
  rw [wp_gI, o1]
  refine LK_c ?_
  rw [wp_pI]
  refine LK_t ?_
  rw [wp_gI, o2]
  refine LK_t ?_
  rw [wp_pI, w32_i (by omega) (by omega), show ((op + 1 : Nat) : Int) - 1 = (op : Int) by omega]
  have e1 : agr kX9 σ (stA σ.1 2 (ups (σ.1 2) 9 (op : Int)), σ.2) := agr.refl.u (by unfold kX9; omega) _
  have e2 : agr kY6 τ (stA τ.1 2075 (ups (τ.1 2075) 36 (op : Int)), τ.2) := agr.refl.u (by unfold kY6; omega) _
  exact go _ _ e1 e2 (hb.fr9 e1 e2) hk.ups (hx.fr9 hV e1 e2 (by omega) (by dsimp only; rw [stA_eq, ups_eq]) (by dsimp only; rw [stA_eq, ups_eq]))
theorem PE.pre {σ τ σ1 τ1 σ' τ' : St} {p p1 s j N : Nat} {G : NG} {r q : Int} (h : PE V RD WD c0 σ0 τ0 T n σ1 τ1 p1 s G N j op r q σ' τ') (e : agr nEX σ σ1) (e' : agr nEY τ τ1) (hp : p ≤ p1) : PE V RD WD c0 σ0 τ0 T n σ τ p s G N j op r q σ' τ' := by
  obtain ⟨p', G', N', ⟨h1, h2⟩, h3, h4, h5, h6, h7⟩ := h
  exact ⟨p', G', N', ⟨by omega, h2⟩, h3, h4, e.trans h5, e'.trans h6, h7⟩
theorem FT_in {B : δ → Prop} {x y z : Int64} {g : Int → St → Option (δ × St)} (h : ∀ v, FTw c0 B (g v)) : FTw c0 B (bd (F_X15_in x y z) g) := fun τ h1 h3 => by
  rw [wp_bd, wp_in15]; exact h _ τ h1 h3
/-- signs ahead -/
def isU (K : Int) : Prop := K = 126 ∨ K = 45 ∨ K = 12 ∨ K = 13 ∨ K = 14
def oU (K : Int) : Nat := if K = 126 then 3 else if K = 45 then 4 else if K = 12 then 5 else if K = 13 then 6 else 7
def kU (K : Int) : Int := if km K = 48 then 66 else km K
theorem u_km : ∀ K, K ∈ KS → ((K = 126 ∨ K = 45 ∨ K = 12 ∨ K = 13 ∨ K = 14) ↔ (km K = 53 ∨ km K = 48 ∨ (19 ≤ km K ∧ km K ≤ 21))) := by decide
theorem one_nd {K : Int} (h : isU K) {a : Int} : ndR (oU K) a (-1) (-1) (kU K) a 0 0 0 := by
  unfold ndR
  rcases h with e | e | e | e | e <;> rw [e] <;> simp [oU, kU, km]
theorem one_W {G : NG} {M N : Nat} {K : Int} (h : isU K) (hM : N < M) (hF : gF G (M - 1) = N) (w1 : 1 ≤ gW G (M - 1) ∧ gW G (M - 1) ≤ 32) {w : Nat} (hw : w = if 4 < oU K then 1 else gW G (M - 1)) : nodW RD WD (gUp G M (oU K) N w ((M - 1 : Nat) : Int) (-1) (-1)) M := by
  obtain ⟨⟨u1, u2, u3⟩, u4, u5, u6⟩ := gUp_at (G := G) (N := M) (op := oU K) (f := N) (w := w) (a := ((M - 1 : Nat) : Int)) (b := -1) (c := -1)
  obtain ⟨⟨v1, v2, v3⟩, -⟩ := gAt.up (G := G) (N := M) (op := oU K) (f := N) (w := w) (i := M - 1) (a := ((M - 1 : Nat) : Int)) (b := -1) (c := -1) (by omega)
  have ho : 3 ≤ oU K ∧ oU K ≤ 7 := by rcases h with e | e | e | e | e <;> rw [e] <;> decide
  have hw1 : 1 ≤ w ∧ w ≤ 32 := by rw [hw]; split <;> omega
  unfold nodW
  rw [u1, u2, u3, u4, u5, u6, v2, v3, hF]
  refine ⟨⟨by omega, hw1.1, hw1.2, by omega⟩, fun e => absurd e (by omega), fun e => absurd e (by omega), fun e => absurd e (by omega), fun _ _ => ⟨by omega, rfl, rfl, fun e => by rw [hw, if_neg (by omega)], fun e _ => by rw [hw, if_pos (by omega)], fun e => absurd e (by omega)⟩, fun e => absurd e (by omega), fun e => absurd e (by omega)⟩
theorem FT_u36 {rp ru : St → Option (Int × St)} {k : Int} : FTw c0 BQ (X15_unary_36 rp ru k) := by
  rw [X15_unary_36]
  refine FT_bd FT_opens (fun q hq => ?_)
  subst hq
  exact FT_if (fun _ => FT_rt ⟨by decide, by decide⟩) (fun e => absurd rfl e)
theorem t19 : (19 : Int64).toInt = 19 := by decide
theorem t21 : (21 : Int64).toInt = 21 := by decide
theorem xs_unary (hV : StE V) (hop : op ≤ 20) {pc uc : St → Option ((Int ⊕ XV) × St)} {pm um : St → Option (Int × St)} (hpart : XS V RD WD c0 σ0 τ0 T n op pc pm) (hun : op < 20 → XS V RD WD c0 σ0 τ0 T n (op + 1) uc um) : XS V RD WD c0 σ0 τ0 T n op (F_X1_unary pc uc) (F_X15_unary pm um) := by
  refine ⟨fun σ τ p s G N j hb hx hk => ?_, ?_⟩
  · rw [F_X1_unary, F_X15_unary]
    refine LK_look hb hk (EX0.st hV) hx ?_ (fun q σ' τ' hq e1 e2 b1 x1 k1 hin => ?_)
    · dsimp only [lt]
      rw [if_neg (by decide), if_neg (by decide)]
      refine FT_in (fun v => ?_)
      exact FT_if (fun _ => FT_bd hpart.2 (fun q hq => FT_rt hq)) (fun _ => FT_u36)
    · have hkR := km_R _ hin
      rw [LK_lc, LK_lt]
      by_cases c : isU (tkK T n q)
      · have ho : (oU (tkK T n q) : Int) = if tkK T n q = 126 then 3 else if tkK T n q = 45 then 4 else if tkK T n q = 12 then 5 else if tkK T n q = 13 then 6 else 7 := by rcases c with e | e | e | e | e <;> rw [e] <;> rfl
        have ho2 : 3 ≤ oU (tkK T n q) ∧ oU (tkK T n q) ≤ 7 ∧ tkK T n q ≠ 0 := by rcases c with e | e | e | e | e <;> rw [e] <;> decide
        have eC : (if tkK T n q = 126 then (X1_unary_58 pc uc 3) else if tkK T n q = 45 then (X1_unary_58 pc uc 4) else if tkK T n q = 12 then (X1_unary_58 pc uc 5) else if tkK T n q = 13 then (X1_unary_58 pc uc 6) else if tkK T n q = 14 then (X1_unary_58 pc uc 7) else X1_unary_58 pc uc ((-1))) = X1_unary_58 pc uc (oU (tkK T n q) : Int) := by
          rcases c with e | e | e | e | e <;> rw [e] <;> rfl
        have key : LK c0 σ0 τ0 BQ (X1_unary_58 pc uc (oU (tkK T n q) : Int)) (X15_unary_36 pm um (km (tkK T n q))) σ' τ' (PE V RD WD c0 σ0 τ0 T n σ τ p s G N j op) := by
          rw [X1_unary_58, LK_lc, if_pos (by omega), X15_unary_36]
          refine LK_nest b1 k1 ho2.2.2 hop x1.2.2.2.1.2.1 x1.2.2.2.1.2.2 (FT_rt ⟨by decide, by decide⟩) (fun q2 σ2 τ2 hq2 hop2 w1 w2 b2 o1 o2 k2 => ?_)
          have x2 := x1.fr9 hV w1 w2 (by omega) o1 o2
          have k2' : TK T n σ2 τ2 ((q2 - s - 1) + (s + 1)) := by rw [show (q2 - s - 1) + (s + 1) = q2 by omega]; exact Or.inl k2
          refine LK_bd (LK_mono ((hun hop2).1 σ2 τ2 (q2 - s - 1) (s + 1) G N j b2 (x2.le (by omega)) k2') ?_) (fun y hy => ?_)
          · rintro r y σ3 τ3 ⟨p3, G3, M, ⟨hp3, hM⟩, rfl, rfl, f3, f4, b3, x3, k3, hG3, hF3⟩
            rw [LK_lc, LK_lt]
            refine LK_closeK hV b3 k3 x3 (fun σ4 τ4 u1 u2 b4 k4 x4 => ?_)
            have k4l := k4.le
            have hp4 := b4.1.1
            have wr := (x4.2.2.2.2 (M - 1) (by omega)).2.1
            have nd : ∀ w : Nat, w = (if 4 < oU (tkK T n q) then 1 else gW G3 (M - 1)) → LK c0 σ0 τ0 BQ (X1_unary_106 pc uc (oU (tkK T n q) : Int) ((M - 1 : Nat) : Int) (-1) (-1) (w : Int)) (X15_unary_102 pm um (kU (tkK T n q)) ((M - 1 : Nat) : Int) 0 0 (w : Int)) σ4 τ4 (PE V RD WD c0 σ0 τ0 T n σ τ p s G N j op) := by
              intro w hw
              rw [X1_unary_106, X15_unary_102]
              refine LK_node (f := N) (p' := p3 + 1) hV b4 x4 (by omega) (by omega) k4 (one_nd c) (one_W c hM hF3 ⟨wr.2.1, wr.2.2.1⟩ hw) (fun σ5 τ5 v1 v2 b5 k5 x5 => ?_)
              exact LK_rt ⟨p3 + 1, _, M + 1, ⟨by omega, by omega⟩, by rw [show M + 1 - 1 = M by omega], by rw [show M + 1 - 1 = M by omega], (((((agr_nEX (agr_kX9 e1)).trans (agr_nEX w1)).trans f3).trans (agr_nEX u1)).trans v1), (((((agr_nEY (agr_kY6 e2)).trans (agr_nEY w2)).trans f4).trans (agr_nEY u2)).trans v2), b5, x5, by rw [show p3 + 1 + s = p3 + (s + 1) by omega]; exact k5, fun i hi => (hG3 i hi).trans (gAt.up (by omega)), by rw [show M + 1 - 1 = M by omega]; exact gUp_at.1.2.1⟩
            have hz : km (tkK T n q) = 53 ∧ oU (tkK T n q) = 3 ∨ km (tkK T n q) = 48 ∧ oU (tkK T n q) = 4 ∨ (km (tkK T n q) ≠ 53 ∧ km (tkK T n q) ≠ 48) ∧ 4 < oU (tkK T n q) := by rcases c with e | e | e | e | e <;> rw [e] <;> decide
            rcases hz with ⟨z1, z2⟩ | ⟨z1, z2⟩ | ⟨⟨z1, z2⟩, z3⟩
            · have nd1 := nd _ (if_neg (show ¬ 4 < oU (tkK T n q) by omega)).symm
              rw [show kU (tkK T n q) = km (tkK T n q) from by unfold kU; rw [if_neg (by omega)]] at nd1
              rw [if_neg (by omega), if_neg (by omega), X15_unary_77, if_pos z1, X15_unary_92]
              refine LK_c ?_
              rw [wdX x4 (by omega) (by omega)]
              refine LK_t ?_
              rw [wdM x4 (by omega) (by omega)]
              exact nd1
            · have nd1 := nd _ (if_neg (show ¬ 4 < oU (tkK T n q) by omega)).symm
              rw [show kU (tkK T n q) = 66 from by unfold kU; rw [if_pos z1]] at nd1
              rw [if_neg (by omega), if_pos z1, X15_unary_77, if_neg (by omega), if_pos z1, X15_unary_92]
              refine LK_c ?_
              rw [wdX x4 (by omega) (by omega)]
              refine LK_t ?_
              rw [wdM x4 (by omega) (by omega)]
              exact nd1
            · have nd1 := nd 1 (if_pos z3).symm
              rw [show kU (tkK T n q) = km (tkK T n q) from by unfold kU; rw [if_neg z2]] at nd1
              rw [if_pos (by omega), if_neg z2, X15_unary_77, if_neg z1, if_neg z2]
              exact nd1
          · have h102 : ∀ s0 a b c d, FTw c0 BQ (X15_unary_102 pm um s0 a b c d) := fun s0 a b c d => by
              rw [X15_unary_102]
              exact FT_bd FT_node (fun q hq => by rw [hq]; exact FT_rt ⟨by decide, by decide⟩)
            have h77 : ∀ s0, FTw c0 BQ (X15_unary_77 pm um (km (tkK T n q)) y s0) := fun s0 => by
              rw [X15_unary_77]
              refine FT_if (fun _ => ?_) (fun _ => FT_if (fun _ => ?_) (fun _ => h102 _ _ _ _ _))
              · rw [X15_unary_92]; exact FT_rd 4200 (fun h1 h2 => RI_2105 h1 h2) hy (fun v => h102 _ _ _ _ _)
              · rw [X15_unary_92]; exact FT_rd 4200 (fun h1 h2 => RI_2105 h1 h2) hy (fun v => h102 _ _ _ _ _)
            dsimp only [lt]
            refine FT_gI (fun v => ?_)
            refine FT_pI (by decide) ?_
            exact FT_if (fun _ => h77 _) (fun _ => h77 _)
        have hm := (u_km _ hin).mp c
        rw [eC]
        by_cases c53 : km (tkK T n q) = 53
        · rw [if_pos c53]; exact key
        · rw [if_neg c53]
          by_cases c48 : km (tkK T n q) = 48
          · rw [if_pos c48]; exact key
          · rw [if_neg c48]
            refine LK_t ?_
            rw [in15_yy (by rw [i2l_t (by omega) (by omega), t19, t21]; omega), if_neg (by decide)]
            exact key
      · have hm : ¬ (km (tkK T n q) = 53 ∨ km (tkK T n q) = 48 ∨ (19 ≤ km (tkK T n q) ∧ km (tkK T n q) ≤ 21)) := fun z => c ((u_km _ hin).mpr z)
        unfold isU at c
        rw [if_neg (by omega), if_neg (by omega), if_neg (by omega), if_neg (by omega), if_neg (by omega), X1_unary_58, LK_lc, if_neg (by decide), if_neg (by omega), if_neg (by omega)]
        refine LK_t ?_
        rw [in15_nn (by rw [i2l_t (by omega) (by omega), t19, t21]; omega), if_pos rfl]
        refine LK_bd (LK_mono (hpart.1 σ' τ' (q - s) s G N j b1 (x1.le (by omega)) (by rw [show q - s + s = q by omega]; exact Or.inr k1)) ?_) (fun y hy => FT_rt hy)
        intro r y σ3 τ3 h
        exact LK_rt (h.pre (agr_nEX (agr_kX9 e1)) (agr_nEY (agr_kY6 e2)) (by omega))
  · rw [F_X15_unary]
    refine FT_bd FT_look (fun q hq => ?_)
    subst hq
    dsimp only [lt]
    rw [if_neg (by decide), if_neg (by decide)]
    refine FT_in (fun v => ?_)
    exact FT_if (fun _ => FT_bd hpart.2 (fun q hq => FT_rt hq)) (fun _ => FT_u36)
end
