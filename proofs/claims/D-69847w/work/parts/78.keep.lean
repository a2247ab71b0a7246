set_option maxRecDepth 100000
set_option maxHeartbeats 400000
/-! ===== a net that was made comes to a slot ===== -/
section
variable {α : Type} {g h : Nat → α} {sp dp j : Nat}
theorem cpy_0 : cpy g sp h dp 0 = h := by
  funext k; unfold cpy; rw [if_neg (by omega)]
theorem cpy_up {v : α} (e : v = g (sp + j)) : ups (cpy g sp h dp j) (dp + j) v = cpy g sp h dp (j + 1) := by
  funext k
  unfold ups cpy
  by_cases c : k = dp + j
  · subst c; rw [if_pos rfl, if_pos (by omega), e, show sp + (dp + j - dp) = sp + j by omega]
  · rw [if_neg c]
    by_cases c2 : dp ≤ k ∧ k < dp + j
    · rw [if_pos c2, if_pos (by omega)]
    · rw [if_neg c2, if_neg (by omega)]
theorem cpy_off {k n : Nat} (c : k < dp ∨ dp + n ≤ k) : cpy g sp h dp n k = h k := by unfold cpy; rw [if_neg (by omega)]
theorem cpy_on {k n : Nat} (c : k < n) : cpy g sp h dp n (dp + k) = g (sp + k) := by unfold cpy; rw [if_pos (by omega), show dp + k - dp = k by omega]
theorem stA_22 {f : Nat → Nat → α} {a b : Nat} {g h g' h' : Nat → α} (e : a ≠ b) : stA (stA (stA (stA f a g) b h) a g') b h' = stA (stA f a g') b h' := by
  rw [stA_comm (a := b) (b := a) (fun q => e q.symm), stA_stA, stA_stA]
end
theorem c_wrQ {a n o : Nat} {i : Int} {σ : St} (hl : qa a = n) (hk : okQ a o = true) (h1 : 0 ≤ i) (h2 : i < (n : Int)) {Q : Unit → St → Prop} : wp (wrQ a i o) σ Q = Q () (σ.1, σ.2.1, stA σ.2.2 a (ups (σ.2.2 a) i.toNat (some o))) := by
  rw [wp_wrQ, hl, hk, and_t ⟨⟨h1, h2⟩, rfl⟩]
theorem okN {o : Nat} (ho : isN o) : okQ 34 o = true := by unfold okQ; rw [ly_N ho]; decide +kernel
theorem RV_34 {o : Nat} (ho : isN o) {i : Int} {σ : St} (h1 : 0 ≤ i) (h2 : i < 5) {Q : Unit → St → Prop} : wp (wrQ 34 i o) σ Q = Q () (σ.1, σ.2.1, stA σ.2.2 34 (ups (σ.2.2 34) i.toNat (some o))) := c_wrQ (n := 5) L34 (okN ho) h1 h2
/-- the component's nets change places -/
theorem keepX_o {σ : St} {s : Nat} (hs : s < 4) {o4 os : Nat} (h4 : σ.2.2 34 4 = some o4) (h5 : σ.2.2 34 s = some os) (ho4 : isN o4) (hos : isN os) : F_X0_keep (s : Int) σ = some (σ.1 o4 2, (stA σ.1 35 (ups (σ.1 35) s 1), σ.2.1, stA σ.2.2 34 (ups (ups (σ.2.2 34) 4 (some os)) s (some o4)))) := by
  apply wp_eq
  have hn := isN_le ho4
  simp (disch := omega) only [F_X0_keep, ↓wp_bd, ↓wp_rt, ↓wp_lt, wp_ifp, wp_ifn, ↓wp_gI, wp_nn, stA_eq, stA_ne, stA_stA, ups_eq, ups_ne, RI_34, RV_35, tn, tnA, tnS, tnM, tn0, tn1, Int.reduceToNat, if_pos, if_neg, if_true, if_false, RI_34, RI_35, RV_35, RV_34 hos, RV_34 ho4, h4, h5, c_ck (ly_N ho4), and_self]
/-- the twin's slot that is made in comes to slot t -/
theorem kpA {σ : St} {t a : Nat} (ht : t < 4) (ha : a ≤ 4000) (h : σ.1 2144 t = (a : Int)) {Q : Unit → St → Prop} (go : wp (X15_keepNet_110 (t : Int)) (stA (stA σ.1 2146 (cpy (σ.1 2146) 16000 (σ.1 2146) (4000 * t) a)) 2147 (cpy (σ.1 2147) 16000 (σ.1 2147) (4000 * t) a), σ.2) Q) : wp (X15_keepNet_50 FU (t : Int) 0) σ Q := by
  have hf := FU_ge
  refine loopI (L := fun f (y : Int) (_ : Unit) => X15_keepNet_50 f (t : Int) y) (fun j _ τ => τ = (stA (stA σ.1 2146 (cpy (σ.1 2146) 16000 (σ.1 2146) (4000 * t) j)) 2147 (cpy (σ.1 2147) 16000 (σ.1 2147) (4000 * t) j), σ.2)) 0 a ?_ ?_ FU 0 () σ (by omega) (by omega) (by omega) (by rw [cpy_0, cpy_0, stA_self, stA_self])
  · rintro f j - τ - hj rfl ih
    simp (disch := omega) only [X15_keepNet_50, ↓wp_bd, ↓wp_rt, ↓wp_lt, wp_ifp, wp_ifn, stA_eq, stA_ne, stA_stA, ups_eq, ups_ne, w32_i, RI_2144, RI_2146, RV_2146, RI_2147, RV_2147, tn, tnA, tnS, tnM, tn0, tn1, Int.reduceToNat, if_pos, if_neg, if_true, if_false, h, stA_22, cpy_off]
    refine ih () _ ?_
    rw [cpy_up rfl, cpy_up rfl]
  · rintro f - τ rfl
    simp (disch := omega) only [X15_keepNet_50, ↓wp_bd, ↓wp_rt, ↓wp_lt, wp_ifp, wp_ifn, stA_eq, stA_ne, stA_stA, ups_eq, ups_ne, w32_i, RI_2144, RI_2146, RV_2146, RI_2147, RV_2147, tn, tnA, tnS, tnM, tn0, tn1, Int.reduceToNat, if_pos, if_neg, if_true, if_false, h]
    exact go
theorem kpB {σ : St} {t a : Nat} (ht : t < 4) (ha : a ≤ 64) (h : σ.1 2145 t = (a : Int)) {Q : Unit → St → Prop} (go : wp (X15_keepNet_149 (t : Int)) (stA σ.1 2148 (cpy (σ.1 2148) 256 (σ.1 2148) (64 * t) a), σ.2) Q) : wp (X15_keepNet_110 (t : Int)) σ Q := by
  have hf := FU_ge
  simp only [X15_keepNet_110, wp_lt]
  refine loopI (L := fun f (y : Int) (_ : Unit) => X15_keepNet_112 f (t : Int) y) (fun j _ τ => τ = (stA σ.1 2148 (cpy (σ.1 2148) 256 (σ.1 2148) (64 * t) j), σ.2)) 0 a ?_ ?_ FU 0 () σ (by omega) (by omega) (by omega) (by rw [cpy_0, stA_self])
  · rintro f j - τ - hj rfl ih
    simp (disch := omega) only [X15_keepNet_112, ↓wp_bd, ↓wp_rt, ↓wp_lt, wp_ifp, wp_ifn, stA_eq, stA_ne, stA_stA, ups_eq, ups_ne, w32_i, RI_2145, RI_2148, RV_2148, tn, tnA, tnS, tnM, tn0, tn1, Int.reduceToNat, if_pos, if_neg, if_true, if_false, h, cpy_off]
    refine ih () _ ?_
    rw [cpy_up rfl]
  · rintro f - τ rfl
    simp (disch := omega) only [X15_keepNet_112, ↓wp_bd, ↓wp_rt, ↓wp_lt, wp_ifp, wp_ifn, stA_eq, stA_ne, stA_stA, ups_eq, ups_ne, w32_i, RI_2145, RI_2148, RV_2148, tn, tnA, tnS, tnM, tn0, tn1, Int.reduceToNat, if_pos, if_neg, if_true, if_false, h]
    exact go
theorem kpC {σ : St} {t a : Nat} (ht : t < 4) (ha : a ≤ 200) (h : σ.1 2143 t = (a : Int)) {Q : Unit → St → Prop} (go : Q () (stA (stA (stA σ.1 2149 (cpy (σ.1 2149) 800 (σ.1 2149) (200 * t) a)) 2150 (cpy (σ.1 2150) 800 (σ.1 2150) (200 * t) a)) 2141 (ups (σ.1 2141) t 1), σ.2)) : wp (X15_keepNet_149 (t : Int)) σ Q := by
  have hf := FU_ge
  simp only [X15_keepNet_149, wp_lt]
  refine loopI (L := fun f (y : Int) (_ : Unit) => X15_keepNet_151 f (t : Int) y) (fun j _ τ => τ = (stA (stA σ.1 2149 (cpy (σ.1 2149) 800 (σ.1 2149) (200 * t) j)) 2150 (cpy (σ.1 2150) 800 (σ.1 2150) (200 * t) j), σ.2)) 0 a ?_ ?_ FU 0 () σ (by omega) (by omega) (by omega) (by rw [cpy_0, cpy_0, stA_self, stA_self])
  · rintro f j - τ - hj rfl ih
    simp (disch := omega) only [X15_keepNet_151, ↓wp_bd, ↓wp_rt, ↓wp_lt, wp_ifp, wp_ifn, stA_eq, stA_ne, stA_stA, ups_eq, ups_ne, w32_i, RI_2143, RI_2149, RV_2149, RI_2150, RV_2150, tn, tnA, tnS, tnM, tn0, tn1, Int.reduceToNat, if_pos, if_neg, if_true, if_false, h, stA_22, cpy_off]
    refine ih () _ ?_
    rw [cpy_up rfl, cpy_up rfl]
  · rintro f - τ rfl
    simp (disch := omega) only [X15_keepNet_151, X15_keepNet_211, ↓wp_bd, ↓wp_rt, ↓wp_lt, wp_ifp, wp_ifn, stA_eq, stA_ne, stA_stA, ups_eq, ups_ne, w32_i, RV_2141, RI_2143, RI_2149, RV_2149, RI_2150, RV_2150, tn, tnA, tnS, tnM, tn0, tn1, Int.reduceToNat, if_pos, if_neg, if_true, if_false, h]
    exact go
def kpS (t : Nat) (M : NetV) (σ : St) : St := (stA (stA (stA (stA (stA (stA (stA (stA (stA (stA σ.1 2142 (ups (σ.1 2142) t (v_i M : Int))) 2143 (ups (σ.1 2143) t (v_l M : Int))) 2144 (ups (σ.1 2144) t (v_a M : Int))) 2145 (ups (σ.1 2145) t (v_o M : Int))) 2146 (cpy (σ.1 2146) 16000 (σ.1 2146) (4000 * t) (v_a M))) 2147 (cpy (σ.1 2147) 16000 (σ.1 2147) (4000 * t) (v_a M))) 2148 (cpy (σ.1 2148) 256 (σ.1 2148) (64 * t) (v_o M))) 2149 (cpy (σ.1 2149) 800 (σ.1 2149) (200 * t) (v_l M))) 2150 (cpy (σ.1 2150) 800 (σ.1 2150) (200 * t) (v_l M))) 2141 (ups (σ.1 2141) t 1), σ.2)
theorem keep15_o {σ : St} {t : Nat} (ht : t < 4) {M : NetV} (hw : netW M) (h : netM σ 4 M) : F_X15_keepNet (t : Int) σ = some ((), kpS t M σ) := by
  have hb := hw.1
  obtain ⟨⟨k1, k2, k3, k4⟩, -⟩ := h
  apply wp_eq1
  simp (disch := omega) only [F_X15_keepNet, ↓wp_bd, ↓wp_rt, ↓wp_lt, wp_ifp, wp_ifn, stA_eq, stA_ne, stA_stA, ups_eq, ups_ne, RI_2142, RV_2142, RI_2143, RV_2143, RI_2144, RV_2144, RI_2145, RV_2145, tn, tnA, tnS, tnM, tn0, tn1, Int.reduceToNat, if_pos, if_neg, if_true, if_false, k1, k2, k3, k4]
  refine kpA ht hb.2.2.1 (by simp (disch := omega) only [stA_eq, stA_ne, ups_eq]) ?_
  refine kpB ht hb.2.2.2 (by simp (disch := omega) only [stA_eq, stA_ne, ups_eq]) ?_
  refine kpC ht hb.2.1 (by simp (disch := omega) only [stA_eq, stA_ne, ups_eq]) ?_
  unfold kpS
  simp (disch := omega) only [stA_eq, stA_ne]
theorem kpS_M {σ : St} {t : Nat} (ht : t < 4) {M : NetV} (h : netM σ 4 M) : netM (kpS t M σ) t M := by
  obtain ⟨-, k5, k6, k7⟩ := h
  have k5' : ∀ k, k < v_a M → σ.1 2146 (16000 + k) = (v_lo M k : Int) ∧ σ.1 2147 (16000 + k) = (v_hi M k : Int) := k5
  have k6' : ∀ k, k < v_o M → σ.1 2148 (256 + k) = (v_ou M k : Int) := k6
  have k7' : ∀ k, k < v_l M → σ.1 2149 (800 + k) = (v_ne M k : Int) ∧ σ.1 2150 (800 + k) = (v_be M k : Int) := k7
  unfold netM kpS
  dsimp only
  refine ⟨⟨?_, ?_, ?_, ?_⟩, fun k hk => ?_, fun k hk => ?_, fun k hk => ?_⟩
  · simp (disch := omega) only [stA_eq, stA_ne, ups_eq]
  · simp (disch := omega) only [stA_eq, stA_ne, ups_eq]
  · simp (disch := omega) only [stA_eq, stA_ne, ups_eq]
  · simp (disch := omega) only [stA_eq, stA_ne, ups_eq]
  · simp (disch := omega) only [stA_eq, stA_ne, cpy_on]
    exact k5' k hk
  · simp (disch := omega) only [stA_eq, stA_ne, cpy_on]
    exact k6' k hk
  · simp (disch := omega) only [stA_eq, stA_ne, cpy_on]
    exact k7' k hk
theorem kpS_o {σ : St} {t s : Nat} (ht : t < 4) (hs : s < 4) (hst : s ≠ t) {M N : NetV} (hw : netW M) (hN : netW N) (h : netM σ s N) : netM (kpS t M σ) s N := by
  have hb := hw.1
  have hb2 := hN.1
  obtain ⟨⟨k1, k2, k3, k4⟩, k5, k6, k7⟩ := h
  unfold netM kpS
  dsimp only
  refine ⟨⟨?_, ?_, ?_, ?_⟩, fun k hk => ?_, fun k hk => ?_, fun k hk => ?_⟩
  · simp (disch := omega) only [stA_eq, stA_ne, ups_ne]; exact k1
  · simp (disch := omega) only [stA_eq, stA_ne, ups_ne]; exact k2
  · simp (disch := omega) only [stA_eq, stA_ne, ups_ne]; exact k3
  · simp (disch := omega) only [stA_eq, stA_ne, ups_ne]; exact k4
  · simp (disch := omega) only [stA_eq, stA_ne, cpy_off]; exact k5 k hk
  · simp (disch := omega) only [stA_eq, stA_ne, cpy_off]; exact k6 k hk
  · simp (disch := omega) only [stA_eq, stA_ne, cpy_off]; exact k7 k hk
theorem kpS_f {σ : St} {t : Nat} {M : NetV} : (∀ a, (a < 2141 ∨ 2150 < a) → (kpS t M σ).1 a = σ.1 a) ∧ (kpS t M σ).2 = σ.2 ∧ (kpS t M σ).1 2141 = ups (σ.1 2141) t 1 := by
  unfold kpS
  refine ⟨fun a ha => ?_, rfl, ?_⟩
  · simp (disch := omega) only [stA_ne]
  · simp only [stA_eq]
/-! what is made in: both sides -/
/-- while one makes, the twin's slots stay, and all else -/
def FrW (σ τ : St) : Prop := (∀ a, a ≠ 2075 → (a < 2142 ∨ 2152 < a) → τ.1 a = σ.1 a) ∧ (∀ k, k ≠ 103 → τ.1 2075 k = σ.1 2075 k) ∧ (∀ k, k ≠ 4 → τ.1 2142 k = σ.1 2142 k ∧ τ.1 2143 k = σ.1 2143 k ∧ τ.1 2144 k = σ.1 2144 k ∧ τ.1 2145 k = σ.1 2145 k) ∧ (∀ k, k < 16000 → τ.1 2146 k = σ.1 2146 k ∧ τ.1 2147 k = σ.1 2147 k) ∧ (∀ k, k < 256 → τ.1 2148 k = σ.1 2148 k) ∧ (∀ k, k < 800 → τ.1 2149 k = σ.1 2149 k ∧ τ.1 2150 k = σ.1 2150 k)
theorem FrW.refl {σ : St} : FrW σ σ := ⟨fun _ _ _ => rfl, fun _ _ => rfl, fun _ _ => ⟨rfl, rfl, rfl, rfl⟩, fun _ _ => ⟨rfl, rfl⟩, fun _ _ => rfl, fun _ _ => ⟨rfl, rfl⟩⟩
theorem FrW.trans {σ τ υ : St} (h1 : FrW σ τ) (h2 : FrW τ υ) : FrW σ υ := by
  obtain ⟨a1, a2, a3, a4, a5, a6⟩ := h1
  obtain ⟨b1, b2, b3, b4, b5, b6⟩ := h2
  exact ⟨fun a q r => (b1 a q r).trans (a1 a q r), fun k q => (b2 k q).trans (a2 k q), fun k q => ⟨(b3 k q).1.trans (a3 k q).1, (b3 k q).2.1.trans (a3 k q).2.1, (b3 k q).2.2.1.trans (a3 k q).2.2.1, (b3 k q).2.2.2.trans (a3 k q).2.2.2⟩, fun k q => ⟨(b4 k q).1.trans (a4 k q).1, (b4 k q).2.trans (a4 k q).2⟩, fun k q => (b5 k q).trans (a5 k q), fun k q => ⟨(b6 k q).1.trans (a6 k q).1, (b6 k q).2.trans (a6 k q).2⟩⟩
theorem FrW.of {σ τ : St} (h : FrT_o σ τ) : FrW σ τ := by
  obtain ⟨h1, h2, h3, h4, h5⟩ := h
  refine ⟨fun a q r => h1 a q (by omega) (by omega) (by omega) (by omega) (by omega), h2, fun k q => ⟨?_, ?_, h3 k q, ?_⟩, h4, fun k _ => ?_, fun k _ => ⟨?_, ?_⟩⟩
  · rw [h1 2142 (by decide) (by decide) (by decide) (by decide) (by decide) (by decide)]
  · rw [h1 2143 (by decide) (by decide) (by decide) (by decide) (by decide) (by decide)]
  · rw [h1 2145 (by decide) (by decide) (by decide) (by decide) (by decide) (by decide)]
  · rw [h1 2148 (by decide) (by decide) (by decide) (by decide) (by decide) (by decide)]
  · rw [h1 2149 (by decide) (by decide) (by decide) (by decide) (by decide) (by decide)]
  · rw [h1 2150 (by decide) (by decide) (by decide) (by decide) (by decide) (by decide)]
theorem netM.frW {σ τ : St} (h : FrW σ τ) {s : Nat} (hs : s < 4) {N : NetV} (hN : netW N) (hM : netM σ s N) : netM τ s N := by
  have hb := hN.1
  obtain ⟨a1, a2, a3, a4, a5, a6⟩ := h
  obtain ⟨⟨k1, k2, k3, k4⟩, k5, k6, k7⟩ := hM
  obtain ⟨b1, b2, b3, b4⟩ := a3 s (by omega)
  refine ⟨⟨b1.trans k1, b2.trans k2, b3.trans k3, b4.trans k4⟩, fun k hk => ?_, fun k hk => ?_, fun k hk => ?_⟩
  · rw [(a4 (4000 * s + k) (by omega)).1, (a4 (4000 * s + k) (by omega)).2]; exact k5 k hk
  · rw [a5 (64 * s + k) (by omega)]; exact k6 k hk
  · rw [(a6 (200 * s + k) (by omega)).1, (a6 (200 * s + k) (by omega)).2]; exact k7 k hk
/-- the twin's slot that is made in, anew -/
theorem new15 {σ : St} {i l : Nat} : ∃ τ, F_X15_newNet (i : Int) (l : Int) σ = some ((), τ) ∧ mkT τ i l NB0 ∧ FrW σ τ ∧ τ.2 = σ.2 ∧ τ.1 2145 4 = 0 := by
  have hf := FU_ge
  have key : wp (F_X15_newNet (i : Int) (l : Int)) σ (fun _ τ => mkT τ i l NB0 ∧ FrW σ τ ∧ τ.2 = σ.2 ∧ τ.1 2145 4 = 0) := by
    simp (disch := omega) only [F_X15_newNet, ↓wp_bd, ↓wp_rt, ↓wp_lt, wp_ifp, wp_ifn, c_pZ, stA_eq, stA_ne, stA_stA, ups_eq, ups_ne, RV_2142, RV_2143, RV_2144, RV_2145, tn, tnA, tnS, tnM, tn0, tn1, Int.reduceToNat, if_pos, if_neg, if_true, if_false]
    generalize hX : stA (stA (stA (stA (stA σ.1 2142 (ups (σ.1 2142) 4 (i : Int))) 2143 (ups (σ.1 2143) 4 (l : Int))) 2144 (ups (σ.1 2144) 4 0)) 2145 (ups (σ.1 2145) 4 0)) 2075 (ups (σ.1 2075) 103 0) = X
    refine loopI (L := fun f (y : Int) (_ : Unit) => X15_newNet_35 f y) (fun j _ τ => ∃ g, τ = (stA X 2151 g, σ.2) ∧ ∀ k, k < j → g k = -1) 0 16384 ?_ ?_ FU 0 () _ (by omega) (by omega) (by omega) ⟨X 2151, by rw [stA_self], fun k hk => absurd hk (Nat.not_lt_zero k)⟩
    · rintro f j - τ - hj ⟨g, rfl, hg⟩ ih
      simp (disch := omega) only [X15_newNet_35, ↓wp_bd, ↓wp_rt, ↓wp_lt, wp_ifp, wp_ifn, stA_eq, stA_ne, stA_stA, ups_eq, ups_ne, w32_i, RV_2151, tn, tnA, tnS, tnM, tn0, tn1, Int.reduceToNat, if_pos, if_neg, if_true, if_false]
      refine ih () _ ⟨_, rfl, fun k hk => ?_⟩
      by_cases e : k = j
      · subst e; rw [ups_eq]
      · rw [ups_ne e]; exact hg k (by omega)
    · rintro f - τ ⟨g, rfl, hg⟩
      simp (disch := omega) only [X15_newNet_35, ↓wp_bd, ↓wp_rt, ↓wp_lt, wp_ifp, wp_ifn, stA_eq, stA_ne, stA_stA, ups_eq, ups_ne, w32_i, RV_2151, tn, tnA, tnS, tnM, tn0, tn1, Int.reduceToNat, if_pos, if_neg, if_true, if_false]
      subst hX
      refine ⟨⟨⟨?_, ?_, ?_⟩, fun k hk => absurd hk (Nat.not_lt_zero k), ?_, ?_⟩, ⟨fun a q r => ?_, fun k q => ?_, fun k q => ⟨?_, ?_, ?_, ?_⟩, fun k q => ⟨?_, ?_⟩, fun k q => ?_, fun k q => ⟨?_, ?_⟩⟩, (by first | rfl | trivial), ?_⟩
      · simp (disch := omega) only [stA_eq, stA_ne, ups_eq]
      · simp (disch := omega) only [stA_eq, stA_ne, ups_eq]
      · simp (disch := omega) only [stA_eq, stA_ne, ups_eq]; rfl
      · simp (disch := omega) only [stA_eq, stA_ne, ups_eq]; rfl
      · simp (disch := omega) only [stA_eq, stA_ne]
        exact ⟨fun h hh => Or.inl ⟨hg h hh, fun k hk => absurd hk (Nat.not_lt_zero k)⟩, fun k hk => absurd hk (Nat.not_lt_zero k)⟩
      · simp (disch := omega) only [stA_ne]
      all_goals simp (disch := omega) only [stA_eq, stA_ne, ups_ne, ups_eq]
  obtain ⟨_, τ, e, h⟩ := key
  exact ⟨τ, e, h⟩
/-- behind the making: the nets of both sides -/
theorem net_put {σ τ : St} {ob : Nat → Nat} {N : Nat → NetV} (h1 : ∀ s, s < 5 → σ.2.2 34 s = some (ob s) ∧ isN (ob s)) (h2 : ∀ s t, s < 5 → t < 5 → ob s = ob t → s = t) (h3 : ∀ s, s < 4 → σ.1 35 s = σ.1 2141 s ∧ (σ.1 35 s = 0 ∨ σ.1 35 s = 1 ∧ netW (N s) ∧ netX σ (ob s) (N s) ∧ netM σ s (N s))) {s : Nat} (hs : s < 4) {M : NetV} (hM : netW M) (e34 : τ.2.2 34 = ups (ups (σ.2.2 34) 4 (some (ob s))) s (some (ob 4))) (e35 : τ.1 35 = ups (σ.1 35) s 1) (e41 : τ.1 2141 = ups (σ.1 2141) s 1) (hX : netX τ (ob 4) M) (hT : netM τ s M) (oX : ∀ t, t < 4 → t ≠ s → ∀ i k, i < 6 → τ.1 (ob t + i) k = σ.1 (ob t + i) k) (oT : ∀ t, t < 4 → t ≠ s → netW (N t) → netM σ t (N t) → netM τ t (N t)) : I_net τ := by
  refine ⟨ups (ups ob 4 (ob s)) s (ob 4), ups N s M, fun t ht => ?_, fun t u ht hu he => ?_, fun t ht => ?_⟩
  · rw [e34]
    by_cases c : t = s
    · subst c; rw [ups_eq, ups_eq]; exact ⟨rfl, (h1 4 (by omega)).2⟩
    · rw [ups_ne c, ups_ne c]
      by_cases c2 : t = 4
      · subst c2; rw [ups_eq, ups_eq]; exact ⟨rfl, (h1 s (by omega)).2⟩
      · rw [ups_ne c2, ups_ne c2]; exact h1 t ht
  · have w : ∀ t, t < 5 → ∃ t', t' < 5 ∧ ups (ups ob 4 (ob s)) s (ob 4) t = ob t' ∧ (t = s ∧ t' = 4 ∨ t ≠ s ∧ t = 4 ∧ t' = s ∨ t ≠ s ∧ t ≠ 4 ∧ t' = t) := by
      intro t ht
      by_cases c : t = s
      · exact ⟨4, by omega, by rw [c, ups_eq], by omega⟩
      · by_cases c2 : t = 4
        · exact ⟨s, by omega, by rw [ups_ne c, c2, ups_eq], by omega⟩
        · exact ⟨t, ht, by rw [ups_ne c, ups_ne c2], by omega⟩
    obtain ⟨t', w1, w2, w3⟩ := w t ht
    obtain ⟨u', w4, w5, w6⟩ := w u hu
    have := h2 t' u' w1 w4 (by rw [← w2, ← w5, he])
    omega
  · rw [e35, e41]
    by_cases c : t = s
    · subst c
      rw [ups_eq, ups_eq, ups_eq, ups_eq]
      exact ⟨rfl, Or.inr ⟨rfl, hM, hX, hT⟩⟩
    · rw [ups_ne c, ups_ne c, ups_ne c, ups_ne c, ups_ne (show t ≠ 4 by omega)]
      refine ⟨(h3 t ht).1, (h3 t ht).2.imp id (fun q => ⟨q.1, q.2.1, netX.mono q.2.2.1 (fun i k hi => oX t ht c i k hi), oT t ht c q.2.1 q.2.2.2⟩)⟩
/-- two nets of the component have no cell in common -/
theorem isN_off {o o' i j : Nat} (h : isN o) (h' : isN o') (hne : o ≠ o') (hi : i < 6) (hj : j < 6) : o + i ≠ o' + j := by
  rcases h with h | h | h | h | h <;> rcases h' with h' | h' | h' | h' | h' <;> omega
/-- the slots' designs: whether they are there -/
def hdOK (σ τ : St) : Prop := ∀ s, s < 4 → τ.1 33 s = σ.1 33 s ∧ τ.1 2114 s = σ.1 2114 s ∨ τ.1 33 s = 0 ∧ τ.1 2114 s = 0
def I_hd (σ : St) : Prop := ∀ s, s < 4 → σ.1 33 s = σ.1 2114 s ∧ (σ.1 33 s = 0 ∨ σ.1 33 s = 1)
theorem hdOK.refl {σ : St} : hdOK σ σ := fun _ _ => Or.inl ⟨rfl, rfl⟩
theorem hdOK.hd {σ τ : St} (h : I_hd σ) (e : hdOK σ τ) : I_hd τ := fun s hs => by
  have h1 := h s hs
  rcases e s hs with ⟨a, b⟩ | ⟨a, b⟩
  · rw [a, b]; exact h1
  · rw [a, b]; exact ⟨rfl, Or.inl rfl⟩
def P_nd (a k : Nat) : Prop := P_net a k ∨ a = 33 ∨ a = 2114
