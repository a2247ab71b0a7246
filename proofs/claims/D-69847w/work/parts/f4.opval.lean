set_option maxRecDepth 100000
set_option maxHeartbeats 400000
/-! ===== the calls word, restart, value, step ===== -/
/-- what a call on a slot leaves alone -/
def dzF (S o a i : Nat) : Prop := ¬ (dcX o a i ∨ dcTw S a i ∨ a = 2140 ∨ a = 2131 ∨ (a = 2075 ∧ (i = 0 ∨ (81 ≤ i ∧ i ≤ 83))))
/-- what it leaves alone in the twin, of the slot -/
def yFM (S a i : Nat) : Prop := ¬ (a = 2140 ∨ a = 2131 ∨ (a = 2075 ∧ (i = 0 ∨ (81 ≤ i ∧ i ≤ 83))) ∨ ((a = 2128 ∨ a = 2130) ∧ 200 * S ≤ i ∧ i < 200 * S + 200) ∨ (a = 2133 ∧ i = S))
section
variable {Ms : Nat → ModV} {top : Nat} {s : LYS} {v : VST} {c c' S o : Nat} {σ σ' τ τ' : St} {ob : Nat → Nat}
theorem dz_put (hO : dcO ob σ) (hs : ∀ S, S < 4 → σ.1 33 S = σ.1 2114 S ∧ (σ.1 33 S = 0 ∨ σ.1 33 S = 1 ∧ dcS c S (ob S) σ)) (hS : S < 4) (hc : c ≤ c') (h1 : σ.1 33 S = 1) (e : agr (dzF S (ob S)) σ τ) (eP : ∀ m, τ.2.2 (ob S + 1) m = σ.2.2 (ob S + 1) m) (hn : dcS c' S (ob S) τ) : I_des c' τ ∧ Out P_dz σ τ := by
  have hD := (hO.1 S (by omega)).2.1
  refine ⟨I_des.put hO hs hS hc (agr.sub e (fun a i h => ?_)) eP hn h1, agr.sub e (fun a i h => ?_)⟩
  · obtain ⟨h1, h2, h3⟩ := h
    rintro (h | h | h | h | h)
    · exact h2 h
    · exact h3 h
    · unfold P_dz P_des at h1; omega
    · unfold P_dz P_des at h1; omega
    · unfold P_dz P_des at h1; omega
  · obtain ⟨h1, h2⟩ := h
    rintro (h | h | h | h | h)
    · exact h2 (Or.inl (dcX_P hD h))
    · exact h2 (Or.inl (dcT_P hS h))
    · unfold Vis at h1; omega
    · unfold Vis at h1; omega
    · unfold Vis at h1; omega
theorem sF_dz (hD : isD o) {a i : Nat} (h : dzF S o a i) : sF o a i := by
  intro h'
  refine h (Or.inl ?_)
  unfold dcX
  omega
theorem yF_dz {a i : Nat} (h : dzF S o a i) : yFM S a i := by
  rintro (h' | h' | h' | h' | h')
  · exact h (Or.inr (Or.inr (Or.inl h')))
  · exact h (Or.inr (Or.inr (Or.inr (Or.inl h'))))
  · exact h (Or.inr (Or.inr (Or.inr (Or.inr h'))))
  · exact h (Or.inr (Or.inl (Or.inr (Or.inl (by omega)))))
  · exact h (Or.inr (Or.inl (Or.inr (Or.inr (by omega)))))
theorem DCX.keep (h : DCX Ms top s v o σ) (ht : top < 12) (e : agr (sF o) σ σ') : DX σ' o Ms top s ∧ CH σ' o Ms s ∧ DL σ' o Ms s ∧ OX Ms s o σ' := by
  obtain ⟨hX, hC, hL, ⟨q, q1, q2, q3⟩, -⟩ := h
  refine ⟨hX.fr ht (agr.sub e (fun a i h => by unfold dP at h; unfold sF; omega)), hC.fr (fun a h1 h2 => e.row (fun i => by unfold sF; omega)), ?_, ⟨q, q1, ?_, fun k hk => ?_⟩⟩
  · unfold DL
    rw [e.row (a := o + 19) (fun i => by unfold sF; omega), e.row (a := o + 21) (fun i => by unfold sF; omega), (e o 25 (by unfold sF; omega)).1, (e o 31 (by unfold sF; omega)).1]; exact hL
  · rw [(e o 20 (by unfold sF; omega)).1]; exact q2
  · rw [(e (o + 16) k (by unfold sF; omega)).1]; exact q3 k hk
theorem dT_yF {a i : Nat} (h : dT S a i) : yFM S a i := by
  unfold dT at h
  unfold yFM
  omega
theorem DCM.keep (h : DCM Ms top s v S τ) (hd : DP Ms top s) (e : agr (yFM S) τ τ') : DM τ' S Ms top s ∧ OM Ms s S τ' ∧ (∀ g, g < lsG s → τ'.1 2127 (200 * S + g) = (stwS Ms s g : Int)) ∧ τ'.1 2132 S = (stwS Ms s (lsG s) : Int) := by
  obtain ⟨hM, ⟨q, q1, q2⟩, v1, v2, v3⟩ := h
  refine ⟨hM.fr hd (agr.sub e (fun a i h => dT_yF h)), ⟨q, q1, fun k hk => ?_⟩, fun g hg => ?_, ?_⟩
  · rw [(e 2129 _ (by unfold yFM; omega)).1]; exact q2 k hk
  · rw [(e 2127 _ (by unfold yFM; omega)).1]; exact (v1 g hg).1
  · rw [(e 2132 S (by unfold yFM; omega)).1]; exact v2
/-- the twin's code cell -/
theorem z_vm (h : DCM Ms top s v S σ) (hp : DCP Ms top s v) (hσ' : ∀ a, a ≠ 2075 → σ'.1 a = σ.1 a) (h2 : σ'.2 = σ.2) : DCM Ms top s v S σ' := h.fr hp (fun a i hh => ⟨by
  rw [hσ' a (fun e => by subst e; unfold dcTw dT at hh; omega)], by rw [h2], by rw [h2]⟩)
end
/-- the twin's start of a call -/
theorem z_st (σ : St) : ∃ σz : St, (stA σ.1 2075 (ups (σ.1 2075) 0 0), σ.2) = σz ∧ (∀ a, a ≠ 2075 → σz.1 a = σ.1 a) ∧ σz.2 = σ.2 ∧ agr Vis σ σz ∧ agr (fun a i => ¬ (a = 2075 ∧ i = 0)) σ σz := ⟨_, rfl, fun a h => stA_ne h, rfl, agr_code, agr.refl.u (by omega) _⟩
theorem op_word {a b d : Int} (ha : inR a) (hb : inR b) (hdr : inR d) {c : Nat} {σ : St} (hI : I_des c σ) : both2 (F_X0_word a b d) (F_X15_word a b d) σ (fun τ => agr Vis σ τ) := by
  obtain ⟨σz, hσz, ez1, ez2, hz, -⟩ := z_st σ
  obtain ⟨hd1, hd2⟩ := hdr
  have di : (i2l d).toInt = d := i2l_t (by omega) (by omega)
  unfold both2
  rw [F_X0_word, wp_bd]
  rcases dz_of hI ha hb with ⟨ob, S, g, Ms, top, s, v, hO, hs, ⟨rfl, rfl⟩, ⟨hS, hg⟩, h1, ⟨hp, hv, hx, hm⟩, hX, hT⟩ | ⟨hX, hT⟩
  · refine hX ?_
    have hd := hp.1
    have hlim := hp.2.1
    have h200 := hd.2.1.2
    have hD := (hO.1 S (by omega)).2.1
    have hmz := z_vm hm hp ez1 ez2
    obtain ⟨-, -, -, -, -, ⟨ws1, ws2⟩, -⟩ := hd.sig hg
    obtain ⟨l1, ⟨m22, m23, m24⟩, m25, m26⟩ := hmz.1.1.2.2.2 g hg
    have e200' : ∀ k : Nat, k < 200 → w32 (w32 (200 * (S : Int)) + (k : Int)) = ((200 * S + k : Nat) : Int) := fun k hk => by rw [w32_i (x := 200 * (S : Int)) (by omega) (by omega), w32_i (by omega) (by omega)]; omega
    have ew : ∀ _ : Unit, (i2l (w32 ((wsG Ms s g : Int) - 1))).toInt = (wsG Ms s g : Int) - 1 := fun _ => by rw [w32_i (by omega) (by omega), i2l_t (by omega) (by omega)]
    have tw : ∀ {Q : Int → St → Prop}, wp (bd (rdI 2122 (w32 (w32 (200 * (S : Int)) + (g : Int)))) fun v2 => if v2 = 4 then (bd (rdI 2124 (w32 ((w32 (200 * (S : Int))) + (g : Int)))) fun v3 => bd (F_X15_in (i2l d) 0 (i2l (w32 (v3 - 1)))) fun v4 => if v4 = 0 then (rt ((-1))) else bd (rdI 2127 (w32 ((w32 (200 * (S : Int))) + (g : Int)))) fun v5 => bd (rdL 2130 (w32 ((w32 ((w32 (200 * (S : Int))) + v5)) + d))) fun v6 => rt (l2i v6)) else rt ((-1))) σz Q → wp (F_X15_word (S : Int) (g : Int) d) σ Q := fun {Q} h => by
      rw [F_X15_word, wp_bd, wp_pI, hσz, wp_bd]
      refine hT σz (ez1 _ (by decide)) (ez1 _ (by decide)) ?_
      rw [wp_ifp rfl]; exact h
    rw [wp_on1, wp_ck, and_t (ly_D hD), wp_bd, x_kind hd hD hx.1 hg]
    by_cases c4 : kdS Ms s g = 4
    · rw [wp_ifp (by omega), wp_bd, x_words hd hD hx.1 hg, wp_bd]
      by_cases hr : 0 ≤ d ∧ d ≤ (wsG Ms s g : Int) - 1
      · obtain ⟨j, rfl⟩ := Int.eq_ofNat_of_zero_le hr.1
        obtain ⟨w1, w2⟩ := wrd_in hd hlim hg c4
        obtain ⟨g1, g2⟩ := stw_in hd hlim hg (Or.inr c4)
        rw [isIn_yy (by rw [di, t0, ew ()]; exact hr), wp_ifn (by decide), wp_bd, DI_21 hD (by omega) (by omega), tn, (hx.2.2.1.1 g hg).2, wp_bd, w32_i (by omega) (by omega), DI_22 hD (by omega) (by omega), wp_rt, show ((wrdS Ms s g : Int) + (j : Int)).toNat = wrdS Ms s g + j by omega, hx.2.2.2.2.1.2.1 g j hg c4 (by omega)]
        refine tw ?_
        rw [wp_bd, e200' _ (by omega), RI_2122 (by omega) (by omega), tn, m22, wp_ifp (by omega), wp_bd, RI_2124 (by omega) (by omega), tn, m24, wp_bd, in15_yy (by rw [di, t0, ew ()]; exact hr), wp_ifn (by decide), wp_bd, RI_2127 (by omega) (by omega), tn, (hmz.2.2.1 g hg).1, wp_bd, e200' _ (by omega), w32_i (by omega) (by omega), RI_2130 (by omega) (by omega), wp_rt, show (((200 * S + stwS Ms s g : Nat) : Int) + (j : Int)).toNat = 200 * S + (stwS Ms s g + j) by omega]
        have hm' := (hmz.2.2.1 g hg).2.2.2 c4 j (by omega)
        refine ⟨?_, hz⟩
        rw [l2i_sg (by rw [hm']; omega), hm', tn]
      · rw [isIn_nn (by rw [di, t0, ew ()]; exact hr), wp_ifp rfl, wp_rt]
        refine tw ?_
        rw [wp_bd, e200' _ (by omega), RI_2122 (by omega) (by omega), tn, m22, wp_ifp (by omega), wp_bd, RI_2124 (by omega) (by omega), tn, m24, wp_bd, in15_nn (by rw [di, t0, ew ()]; exact hr), wp_ifp rfl, wp_rt]
        exact ⟨rfl, hz⟩
    · rw [wp_ifn (by omega), wp_rt]
      refine tw ?_
      rw [wp_bd, e200' _ (by omega), RI_2122 (by omega) (by omega), tn, m22, wp_ifn (by omega), wp_rt]
      exact ⟨rfl, hz⟩
  · refine hX ?_
    rw [wp_on0, wp_rt, F_X15_word, wp_bd, wp_pI, hσz, wp_bd]
    refine hT σz (ez1 _ (by decide)) (ez1 _ (by decide)) ?_
    rw [wp_ifn (by decide), wp_rt]
    exact ⟨rfl, hz⟩
theorem op_restart {a : Int} (ha : inR a) {c : Nat} {σ : St} (hI : I_des c σ) : both2 (F_X0_restart a) (F_X15_restart a) σ (fun τ => I_des c τ ∧ Out P_dz σ τ) := by
  unfold both2
  rw [F_X0_restart, wp_bd]
  rcases dz_at hI ha with ⟨ob, S, hO, hs, rfl, hS, h1, ⟨Ms, top, s, v, hp, hv, hx, hm⟩, hX, hT⟩ | ⟨hX, hT⟩
  · refine hX ?_
    have hd := hp.1
    have hlim := hp.2.1
    have h12 := hd.1.1
    have hD := (hO.1 S (by omega)).2.1
    have hoD : 410 ≤ ob S ∧ ob S + 326 < 2075 := by rcases hD with w | w | w | w | w <;> omega
    rw [wp_on1, wp_ck, and_t (ly_D hD), wp_bd]
    refine restX hd hD hlim hx.1 hx.2.2.1 (iv := v.1) (fun g hg ht => (hx.2.2.2.2.1.1 g hg).1 ht) (fun σ1 hA1 hV1 h34 => ?_)
    obtain ⟨k1, k2, k3, k4⟩ := hx.keep h12 hA1
    have hA1t : ∀ a, 2075 ≤ a → σ1.1 a = σ.1 a := fun a h => hA1.row (fun i => by unfold sF; omega)
    obtain ⟨σz, hσz, ez1, ez2, -, hz⟩ := z_st σ1
    have hmz : DCM Ms top s v S σz := hm.fr hp ((agr.sub hA1 (fun a i h => by unfold dcTw dT at h; unfold sF; omega)).trans (agr.sub hz (fun a i h => by unfold dcTw dT at h; omega)))
    rw [wp_rt, F_X15_restart, wp_bd, wp_pI, hσz, wp_bd]
    refine hT σz (by rw [ez1 _ (by decide), hA1t _ (by decide)]) ?_
    rw [wp_ifp rfl, wp_bd, RI_2133 (by omega) (by omega), tn, hmz.2.2.2.2, wp_lt, wp_bd]
    refine beginM hd hlim (by omega) hmz.1 (fun g hg => (hmz.2.2.1 g hg).1) hmz.2.2.2.1 (iv := v.1) (fun g hg ht => (hmz.2.2.1 g hg).2.1 ht) (fun τ hA3 hV3 => ?_)
    rw [wp_rt]
    refine ⟨hx.2.2.2.2.1.2.2, ?_⟩
    have hA4 : agr (yFM S) σz τ := agr.sub hA3 (fun a i h => by unfold yFM at h; unfold bFM; omega)
    obtain ⟨l1, l2, -⟩ := hmz.keep hd hA4
    have eF : agr (dzF S (ob S)) σ τ := ((agr.sub hA1 (fun a i h => sF_dz hD h)).trans (agr.sub hz (fun a i h => fun z => yF_dz h (Or.inr (Or.inr (Or.inl ⟨z.1, Or.inl z.2⟩)))))).trans (agr.sub hA4 (fun a i h => yF_dz h))
    have eX : agr (dcX (ob S)) σ1 τ := (agr.sub hz (fun a i h => by unfold dcX at h; omega)).trans (agr.sub hA4 (fun a i h => by unfold dcX at h; unfold yFM; omega))
    refine dz_put hO hs hS (Nat.le_refl _) h1 eF (fun m => ?_) ⟨Ms, top, s, (v.1, bgS Ms s, fun _ _ => 0, 0), ⟨hd, hlim, hp.2.2.1, fun g hg => ⟨(hp.2.2.2.1 g hg).1, (v0_B hd g hg).2⟩, hp.2.2.2.2⟩, Nat.zero_le _, DCX.fr ⟨k1, k2, k3, k4, hV1, Or.inl h34⟩ h12 eX, ⟨l1, l2, hV3⟩⟩
    rw [(eX (ob S + 1) m (by unfold dcX; omega)).2.2, (hA1 (ob S + 1) m (by unfold sF; omega)).2.2]
  · refine hX ?_
    obtain ⟨σz, hσz, ez1, ez2, hz, -⟩ := z_st σ
    rw [wp_on0, wp_rt, F_X15_restart, wp_bd, wp_pI, hσz, wp_bd]
    refine hT σz (ez1 _ (by decide)) ?_
    rw [wp_ifn (by decide), wp_rt]
    exact ⟨rfl, hI.vis hz, Out.of hz⟩
theorem op_value {a b : Int} (ha : inR a) (hb : inR b) {c : Nat} {σ : St} (hBL : BLS σ) (hI : I_des c σ) : both2 (F_X0_value a b) (F_X15_value a b) σ (fun τ => I_des c τ ∧ Out P_dz σ τ) := by
  unfold both2
  rw [F_X0_value, wp_bd]
  rcases dz_of hI ha hb with ⟨ob, S, g, Ms, top, s, v, hO, hs, ⟨rfl, rfl⟩, ⟨hS, hg⟩, h1, ⟨hp, hv, hx, hm⟩, hX, hT⟩ | ⟨hX, hT⟩
  · refine hX ?_
    obtain ⟨hd, hlim, hno, hB, hch⟩ := hp
    have hp : DCP Ms top s v := ⟨hd, hlim, hno, hB, hch⟩
    have h12 := hd.1.1
    have h200 := hd.2.1.2
    have hD := (hO.1 S (by omega)).2.1
    have hoD : 410 ≤ ob S ∧ ob S + 326 < 2075 := by rcases hD with w | w | w | w | w <;> omega
    have e200' : ∀ k : Nat, k < 200 → w32 (w32 (200 * (S : Int)) + (k : Int)) = ((200 * S + k : Nat) : Int) := fun k hk => by rw [w32_i (x := 200 * (S : Int)) (by omega) (by omega), w32_i (by omega) (by omega)]; omega
    rw [wp_on1, wp_ck, and_t (ly_D hD), wp_bd, x_kind hd hD hx.1 hg]
    by_cases c4 : kdS Ms s g = 4
    · obtain ⟨σz, hσz, ez1, ez2, hz, -⟩ := z_st σ
      have hmz := z_vm hm hp ez1 ez2
      rw [wp_ifp (by omega), wp_rt, F_X15_value, wp_bd, wp_pI, hσz, wp_bd]
      refine hT σz (ez1 _ (by decide)) (ez1 _ (by decide)) ?_
      rw [wp_ifp rfl, wp_bd, e200' _ (by omega), RI_2122 (by omega) (by omega), tn, (hmz.1.1.2.2.2 g hg).2.1.1, wp_ifp (by omega), wp_rt]
      exact ⟨rfl, hI.vis hz, Out.of hz⟩
    · rw [wp_ifn (by omega), wp_bd]
      refine findAX hd hch hD hlim hno hB hx.1 hx.2.2.1 hx.2.1 hx.2.2.2.1 hx.2.2.2.2.1 hx.2.2.2.2.2 (fun σ1 hA1 h34 hall => ?_)
      have hA1s : agr (sF (ob S)) σ σ1 := agr.sub hA1 (fun a i h => by unfold sF at h; unfold aF; omega)
      obtain ⟨k1, k2, k3, k4⟩ := hx.keep h12 hA1s
      have hA1t : ∀ a, 2075 ≤ a → σ1.1 a = σ.1 a := fun a h => hA1.row (fun i => by unfold aF; omega)
      obtain ⟨σz, hσz, ez1, ez2, -, hz⟩ := z_st σ1
      have hmz : DCM Ms top s v S σz := hm.fr hp ((agr.sub hA1 (fun a i h => by unfold dcTw dT at h; unfold aF; omega)).trans (agr.sub hz (fun a i h => by unfold dcTw dT at h; omega)))
      have hBLz : BLS σz := fun k => by rw [ez1 _ (by decide), hA1t _ (by decide)]; exact hBL k
      rw [wp_bd, DI_20 hD (by omega) (by omega), tn, hall g hg c4, wp_rt, F_X15_value, wp_bd, wp_pI, hσz, wp_bd]
      refine hT σz (by rw [ez1 _ (by decide), hA1t _ (by decide)]) (by rw [ez1 _ (by decide), hA1t _ (by decide)]) ?_
      rw [wp_ifp rfl, wp_bd, e200' _ (by omega), RI_2122 (by omega) (by omega), tn, (hmz.1.1.2.2.2 g hg).2.1.1, wp_ifn (by omega), wp_bd]
      refine findAM hd hch (by omega) hlim hno hB hmz.1 hBLz hmz.2.1 hmz.2.2 (fun τ hA3 hallM => ?_)
      have hV := hallM g hg c4
      rw [wp_bd, RI_2140 (by omega) (by omega), tn, wp_rt]
      refine ⟨by rw [l2i_sg (by rw [hV]; omega), hV, tn], ?_⟩
      have hA4 : agr (yFM S) σz τ := agr.sub hA3 (fun a i h => by unfold yFM at h; unfold aFM; omega)
      have eF : agr (dzF S (ob S)) σ τ := ((agr.sub hA1s (fun a i h => sF_dz hD h)).trans (agr.sub hz (fun a i h => fun z => yF_dz h (Or.inr (Or.inr (Or.inl ⟨z.1, Or.inl z.2⟩)))))).trans (agr.sub hA4 (fun a i h => yF_dz h))
      have eX : agr (dcX (ob S)) σ1 τ := (agr.sub hz (fun a i h => by unfold dcX at h; omega)).trans (agr.sub hA4 (fun a i h => by unfold dcX at h; unfold yFM; omega))
      have hVX : VX Ms s v (ob S) σ1 := by
        refine ⟨fun x hxl => ⟨fun ht => ?_, fun h3 => ?_⟩, ?_, ?_⟩
        · rw [hall x hxl (by have := ht.2; omega), Vs_n (fun h => h.2 ht)]
          unfold Vb
          rw [if_pos ht]
        · have nt : ¬ tiG Ms s x := fun z => by have := z.2; omega
          rw [hall x hxl (by omega), Vs_n (fun h => h.1 (Or.inl h3))]
          unfold Vb
          rw [if_neg nt, if_pos h3]
        · intro x j hxl h4 hj
          rw [hA1.row (a := ob S + 22) (fun i => by unfold aF; omega)]; exact hx.2.2.2.2.1.2.1 x j hxl h4 hj
        · rw [(hA1 (ob S) 33 (by unfold aF; omega)).1]; exact hx.2.2.2.2.1.2.2
      refine dz_put hO hs hS (Nat.le_refl _) h1 eF (fun m => ?_) ⟨Ms, top, s, v, hp, hv, DCX.fr ⟨k1, k2, k3, k4, hVX, Or.inr ⟨h34, fun x hxl hn => hall x hxl (fun h4 => hn.1 (Or.inr h4))⟩⟩ h12 eX, hmz.fr hp (agr.sub hA3 (fun a i h => by unfold dcTw dT at h; unfold aFM; omega))⟩
      rw [(eX (ob S + 1) m (by unfold dcX; omega)).2.2, (hA1 (ob S + 1) m (by unfold aF; omega)).2.2]
  · refine hX ?_
    obtain ⟨σz, hσz, ez1, ez2, hz, -⟩ := z_st σ
    rw [wp_on0, wp_rt, F_X15_value, wp_bd, wp_pI, hσz, wp_bd]
    refine hT σz (ez1 _ (by decide)) (ez1 _ (by decide)) ?_
    rw [wp_ifn (by decide), wp_rt]
    exact ⟨rfl, hI.vis hz, Out.of hz⟩
