set_option maxRecDepth 100000
set_option maxHeartbeats 400000
/-! ===== the call step ===== -/
/-- n steps -/
noncomputable def stpN (Ms : Nat → ModV) (s : LYS) (v : VST) : Nat → VST
  | 0 => v
  | n + 1 => stp Ms s (stpN Ms s v n)
section
variable {Ms : Nat → ModV} {top : Nat} {s : LYS} {v : VST}
theorem stpN_B (hd : DP Ms top s) (hB : VB Ms s v) : ∀ n, VB Ms s (stpN Ms s v n)
  | 0 => hB
  | n + 1 => stp_B hd (stpN_B hd hB n)
theorem stpN_s : ∀ n, (stpN Ms s v n).2.2.2 = v.2.2.2 + n
  | 0 => rfl
  | n + 1 => by
    have ih : (stpN Ms s v n).2.2.2 = v.2.2.2 + n := stpN_s n
    show (stpN Ms s v n).2.2.2 + 1 = _
    rw [ih]; omega
end
theorem op_step {a b : Int} (ha : inR a) (hb : inR b) {c : Nat} (hc : c + 500 ≤ 1000000) {σ : St} (hBL : BLS σ) (hI : I_des c σ) : both2 (F_X0_step a b) (F_X15_step a b) σ (fun τ => I_des (c + 500) τ ∧ Out P_dz σ τ) := by
  have hF := FU_ge
  obtain ⟨hb1, hb2⟩ := hb
  have t500 : (500 : Int64).toInt = 500 := by decide
  have bi : (i2l b).toInt = b := i2l_t (by omega) (by omega)
  unfold both2
  rw [F_X0_step, wp_bd]
  rcases dz_at hI ha with ⟨ob, S, hO, hs, rfl, hS, h1, ⟨Ms, top, s, v, hp, hv, hx, hm⟩, hX, hT⟩ | ⟨hX, hT⟩
  · refine hX ?_
    obtain ⟨hd, hlim, hno, hB, hch⟩ := hp
    have hp : DCP Ms top s v := ⟨hd, hlim, hno, hB, hch⟩
    have h12 := hd.1.1
    have hD := (hO.1 S (by omega)).2.1
    have hoD : 410 ≤ ob S ∧ ob S + 326 < 2075 := by rcases hD with w | w | w | w | w <;> omega
    rw [wp_on1, wp_bd]
    by_cases hr : 0 ≤ b ∧ b ≤ 500
    · obtain ⟨n, rfl⟩ := Int.eq_ofNat_of_zero_le hr.1
      rw [isIn_yy (by rw [bi, t0, t500]; omega), wp_ifn (by decide), wp_lt]
      -- the twin, behind the component's steps
      have twin : ∀ σ1, agr (sF (ob S)) σ σ1 → VX Ms s (stpN Ms s v n) (ob S) σ1 → FX Ms s (stpN Ms s v n) (ob S) σ1 → wp (F_X15_step (S : Int) (n : Int)) σ1 (fun q τ => ((v.2.2.2 + n : Nat) : Int) = q ∧ I_des (c + 500) τ ∧ Out P_dz σ τ) := by
        intro σ1 hA1 hV1 hF1
        obtain ⟨k1, k2, k3, k4⟩ := hx.keep h12 hA1
        have hA1t : ∀ a, 2075 ≤ a → σ1.1 a = σ.1 a := fun a h => hA1.row (fun i => by unfold sF; omega)
        obtain ⟨σz, hσz, ez1, ez2, -, hz⟩ := z_st σ1
        have hmz : DCM Ms top s v S σz := hm.fr hp ((agr.sub hA1 (fun a i h => by unfold dcTw dT at h; unfold sF; omega)).trans (agr.sub hz (fun a i h => by unfold dcTw dT at h; omega)))
        have hBLz : BLS σz := fun k => by rw [ez1 _ (by decide), hA1t _ (by decide)]; exact hBL k
        rw [F_X15_step, wp_bd, wp_pI, hσz, wp_bd]
        refine hT σz (by rw [ez1 _ (by decide), hA1t _ (by decide)]) ?_
        rw [wp_ifp rfl, wp_bd, in15_yy (by rw [bi, t0, t500]; omega), wp_ifn (by decide), wp_lt]
        have lp : ∀ d k f τ, k + d = n → d < f → agr (yFM S) σz τ → VM Ms s (stpN Ms s v k) S τ → wp (X15_step_32 f (S : Int) (n : Int) (k : Int)) τ (fun q τ => ((v.2.2.2 + n : Nat) : Int) = q ∧ I_des (c + 500) τ ∧ Out P_dz σ τ) := by
          intro d
          induction d with
          | zero =>
            intro k f τ hk hf hA hV
            obtain ⟨f', rfl⟩ : ∃ f', f = f' + 1 := ⟨f - 1, by omega⟩
            have ek : k = n := by omega
            subst ek
            obtain ⟨l1, l2, -⟩ := hmz.keep hd hA
            rw [X15_step_32, wp_ifp (by omega), X15_step_48, wp_bd, RI_2133 (by omega) (by omega), tn, hV.2.2, wp_rt, stpN_s]
            have eF : agr (dzF S (ob S)) σ τ := ((agr.sub hA1 (fun a i h => sF_dz hD h)).trans (agr.sub hz (fun a i h => fun z => yF_dz h (Or.inr (Or.inr (Or.inl ⟨z.1, Or.inl z.2⟩)))))).trans (agr.sub hA (fun a i h => yF_dz h))
            have eX : agr (dcX (ob S)) σ1 τ := (agr.sub hz (fun a i h => by unfold dcX at h; omega)).trans (agr.sub hA (fun a i h => by unfold dcX at h; unfold yFM; omega))
            refine ⟨rfl, dz_put hO hs hS (by omega) h1 eF (fun m => ?_) ⟨Ms, top, s, stpN Ms s v k, ⟨hd, hlim, hno, stpN_B hd hB k, hch⟩, by rw [stpN_s]; omega, DCX.fr ⟨k1, k2, k3, k4, hV1, hF1⟩ h12 eX, ⟨l1, l2, hV⟩⟩⟩
            rw [(eX (ob S + 1) m (by unfold dcX; omega)).2.2, (hA1 (ob S + 1) m (by unfold sF; omega)).2.2]
          | succ d ih =>
            intro k f τ hk hf hA hV
            obtain ⟨f', rfl⟩ : ∃ f', f = f' + 1 := ⟨f - 1, by omega⟩
            obtain ⟨l1, l2, -⟩ := hmz.keep hd hA
            have hBLt : BLS τ := fun k => by rw [(hA 2099 k (by unfold yFM; omega)).1]; exact hBLz k
            rw [X15_step_32, wp_ifn (by omega), wp_bd]
            refine stepM hd hch hS hlim hno (stpN_B hd hB k) l1 hBLt l2 hV (by rw [stpN_s]; omega) (fun τ' hA' hV' => ?_)
            rw [wp_lt, w32_i (by omega) (by omega), show (k : Int) + 1 = ((k + 1 : Nat) : Int) by omega]
            exact ih (k + 1) f' τ' (by omega) (by omega) (hA.trans (agr.sub hA' (fun a i h => by unfold yFM at h; unfold sFM; omega))) hV'
        exact lp n 0 FU σz (by omega) (by omega) agr.refl hmz.2.2
      have lpX : ∀ d k f σ1, k + d = n → d < f → agr (sF (ob S)) σ σ1 → VX Ms s (stpN Ms s v k) (ob S) σ1 → FX Ms s (stpN Ms s v k) (ob S) σ1 → wp (X0_step_30 f (n : Int) (ob S) (k : Int)) σ1 (fun r σ1 => wp (F_X15_step (S : Int) (n : Int)) σ1 (fun q τ => r = q ∧ I_des (c + 500) τ ∧ Out P_dz σ τ)) := by
        intro d
        induction d with
        | zero =>
          intro k f σ1 hk hf hA hV hFx
          obtain ⟨f', rfl⟩ : ∃ f', f = f' + 1 := ⟨f - 1, by omega⟩
          have ek : k = n := by omega
          subst ek
          rw [X0_step_30, wp_ifp (by omega), X0_step_46, wp_ck, and_t (ly_D hD), wp_bd, bgI0 hV.2.2, wp_rt, stpN_s]
          exact twin σ1 hA hV hFx
        | succ d ih =>
          intro k f σ1 hk hf hA hV hFx
          obtain ⟨f', rfl⟩ : ∃ f', f = f' + 1 := ⟨f - 1, by omega⟩
          obtain ⟨k1, k2, k3, k4⟩ := hx.keep h12 hA
          rw [X0_step_30, wp_ifn (by omega), wp_ck, and_t (ly_D hD), wp_bd]
          refine stepX hd hch hD hlim hno (stpN_B hd hB k) k1 k3 k2 k4 hV hFx (by rw [stpN_s]; omega) (fun σ2 hA2 hV2 h34 => ?_)
          rw [wp_lt, w32_i (by omega) (by omega), show (k : Int) + 1 = ((k + 1 : Nat) : Int) by omega]
          exact ih (k + 1) f' σ2 (by omega) (by omega) (hA.trans hA2) hV2 (Or.inl h34)
      exact lpX n 0 FU σ (by omega) (by omega) agr.refl hx.2.2.2.2.1 hx.2.2.2.2.2
    · obtain ⟨σz, hσz, ez1, ez2, hz, -⟩ := z_st σ
      rw [isIn_nn (by rw [bi, t0, t500]; omega), wp_ifp rfl, wp_rt, F_X15_step, wp_bd, wp_pI, hσz, wp_bd]
      refine hT σz (ez1 _ (by decide)) ?_
      rw [wp_ifp rfl, wp_bd, in15_nn (by rw [bi, t0, t500]; omega), wp_ifp rfl, wp_rt]
      exact ⟨rfl, (hI.vis hz).mono (by omega) agr.refl (fun s hs => Or.inl ⟨rfl, rfl⟩), Out.of hz⟩
  · refine hX ?_
    obtain ⟨σz, hσz, ez1, ez2, hz, -⟩ := z_st σ
    rw [wp_on0, wp_rt, F_X15_step, wp_bd, wp_pI, hσz, wp_bd]
    refine hT σz (ez1 _ (by decide)) ?_
    rw [wp_ifn (by decide), wp_rt]
    exact ⟨rfl, (hI.vis hz).mono (by omega) agr.refl (fun s hs => Or.inl ⟨rfl, rfl⟩), Out.of hz⟩
/-! the call set -/
theorem iand_not {a m : Int} (ha : inR a) : (iand a (ixor m (-1)) = 0) ↔ (iand a m = a) := by
  have hA : a = (BitVec.ofInt 32 a).toInt := by
    obtain ⟨h1, h2⟩ := ha
    rw [BitVec.toInt_ofInt]
    exact (Int.bmod_eq_of_le (by omega) (by omega)).symm
  have e1 : iand a (ixor m (-1)) = (BitVec.ofInt 32 a &&& (BitVec.ofInt 32 m ^^^ BitVec.ofInt 32 (-1))).toInt := by
    unfold iand ixor
    rw [Int32.ofInt_toInt]
    rfl
  have e2 : iand a m = (BitVec.ofInt 32 a &&& BitVec.ofInt 32 m).toInt := rfl
  rw [e1, e2]
  generalize BitVec.ofInt 32 a = A at *
  generalize BitVec.ofInt 32 m = M
  have f1 : (BitVec.ofInt 32 (-1)) = BitVec.allOnes 32 := by decide
  rw [f1, hA, BitVec.toInt_inj]
  constructor
  · intro h
    have h' : A &&& (M ^^^ BitVec.allOnes 32) = 0#32 := BitVec.eq_of_toInt_eq (by rw [h]; rfl)
    apply BitVec.eq_of_getLsbD_eq
    intro i hi
    have := congrArg (fun x => x.getLsbD i) h'
    simp only [BitVec.getLsbD_and, BitVec.getLsbD_xor, BitVec.getLsbD_allOnes, hi, decide_true, BitVec.getLsbD_zero] at this
    rw [BitVec.getLsbD_and]
    revert this
    cases A.getLsbD i <;> cases M.getLsbD i <;> decide
  · intro h
    have h' : A &&& (M ^^^ BitVec.allOnes 32) = 0#32 := by
      apply BitVec.eq_of_getLsbD_eq
      intro i hi
      have := congrArg (fun x => x.getLsbD i) h
      simp only [BitVec.getLsbD_and] at this
      simp only [BitVec.getLsbD_and, BitVec.getLsbD_xor, BitVec.getLsbD_allOnes, hi, decide_true, BitVec.getLsbD_zero]
      revert this
      cases A.getLsbD i <;> cases M.getLsbD i <;> decide
    rw [h']; rfl
/-- a value that fits, as the component asks -/
theorem fitsX {a : Int} (ha : inR a) {w : Nat} (hw : w ≤ 32) : (iand a (ixor (sg (2 ^ w - 1)) (-1)) = 0) ↔ (BitVec.ofInt 32 a).toNat < 2 ^ w := by
  have hA : a = sg (BitVec.ofInt 32 a).toNat := by
    obtain ⟨h1, h2⟩ := ha
    unfold sg
    rw [BitVec.ofNat_toNat, BitVec.setWidth_eq, BitVec.toInt_ofInt]
    exact (Int.bmod_eq_of_le (by omega) (by omega)).symm
  have p := p32 hw
  have p0 := Nat.two_pow_pos w
  have lt := (BitVec.ofInt 32 a).isLt
  rw [iand_not ha, msk_v rfl hw]
  constructor
  · intro h
    have h2 : sg ((BitVec.ofInt 32 a).toNat % 2 ^ w) = sg (BitVec.ofInt 32 a).toNat := by rw [h]; exact hA
    rw [sg_inj (by have := Nat.mod_lt (BitVec.ofInt 32 a).toNat p0; omega) lt] at h2
    rw [← h2]; exact Nat.mod_lt _ p0
  · intro h
    rw [Nat.mod_eq_of_lt h]; exact hA.symm
theorem set_v {a : Int} (ha : inR a) : ((i2l a) &&& 4294967295).toInt = ((BitVec.ofInt 32 a).toNat : Int) := by
  have h : (4294967295 : Int64) = lshl 1 ((32 : Nat) : Int) - 1 := by decide
  rw [h, t_msk (by decide)]
  have : (i2l a).toBitVec = BitVec.ofInt 64 a := by
    have h2 : (i2l a).toBitVec.toInt = a := i2l_t ha.1 ha.2
    rw [← h2, BitVec.ofInt_toInt, h2]
  rw [this, BitVec.toNat_ofInt, BitVec.toNat_ofInt]
  omega
theorem op_set {a b d : Int} (ha : inR a) (hb : inR b) (hdr : inR d) {c : Nat} {σ : St} (hI : I_des c σ) : both2 (F_X0_set a b d) (F_X15_set a b d) σ (fun τ => I_des c τ ∧ Out P_dz σ τ) := by
  unfold both2
  rw [F_X0_set, wp_bd]
  rcases dz_of hI ha hb with ⟨ob, S, g, Ms, top, s, v, hO, hs, ⟨rfl, rfl⟩, ⟨hS, hg⟩, h1, ⟨hp, hv, hx, hm⟩, hX, hT⟩ | ⟨hX, hT⟩
  · refine hX ?_
    obtain ⟨hd, hlim, hno, hB, hch⟩ := hp
    have hp : DCP Ms top s v := ⟨hd, hlim, hno, hB, hch⟩
    have h12 := hd.1.1
    have h200 := hd.2.1.2
    have hD := (hO.1 S (by omega)).2.1
    have hoD : 410 ≤ ob S ∧ ob S + 326 < 2075 := by rcases hD with w | w | w | w | w <;> omega
    have e200' : ∀ k : Nat, k < 200 → w32 (w32 (200 * (S : Int)) + (k : Int)) = ((200 * S + k : Nat) : Int) := fun k hk => by rw [w32_i (x := 200 * (S : Int)) (by omega) (by omega), w32_i (by omega) (by omega)]; omega
    obtain ⟨a1, -, -, -, ⟨wd1, wd2⟩, -⟩ := hd.sig hg
    -- the twin, up to the thing
    have tw : ∀ σ1 σz : St, (stA σ1.1 2075 (ups (σ1.1 2075) 0 0), σ1.2) = σz → (∀ a, 2075 ≤ a → σ1.1 a = σ.1 a) → DCM Ms top s v S σz → ∀ {Q : Int → St → Prop}, (¬ tiG Ms s g → Q (-1) σz) → (tiG Ms s g → wp (lt (((200 * S + g : Nat) : Int)) fun x4_4 => bd (rdI 2123 x4_4) fun v5 => if 32 ≤ v5 then (X15_set_90 d x4_4) else bd (rdI 2123 x4_4) fun v6 => bd (F_X15_in (i2l d) 0 ((lshl 1 v6) - 1)) fun v7 => if v7 = 0 then (rt ((-2))) else X15_set_90 d x4_4) σz Q) → wp (F_X15_set (S : Int) (g : Int) d) σ1 Q := by
      intro σ1 σz hσz hA1t hmz Q hn hy
      have ez1 : ∀ a, a ≠ 2075 → σz.1 a = σ1.1 a := fun a h => by rw [← hσz]; exact stA_ne h
      obtain ⟨m1, ⟨m22, m23, m24⟩, m25, m26⟩ := hmz.1.1.2.2.2 g hg
      rw [F_X15_set, wp_bd, wp_pI, hσz, wp_bd]
      refine hT σz (by rw [ez1 _ (by decide), hA1t _ (by decide)]) (by rw [ez1 _ (by decide), hA1t _ (by decide)]) ?_
      rw [wp_ifp rfl, wp_bd, e200' _ (by omega), RI_2122 (by omega) (by omega), tn, m22]
      by_cases c0 : kdS Ms s g = 0
      · rw [wp_ifp (by omega), wp_bd, RI_2125 (by omega) (by omega), tn, m25]
        by_cases ci : lsi s g = 0
        · rw [wp_ifp (by omega)]; exact hy ⟨ci, c0⟩
        · rw [wp_ifn (by omega), wp_rt]; exact hn (fun z => ci z.1)
      · rw [wp_ifn (by omega), wp_rt]; exact hn (fun z => c0 z.2)
    rw [wp_on1, wp_ck, and_t (ly_D hD), wp_bd, x_topIn hd hD hx.1 hg]
    by_cases ct : tiG Ms s g
    · have wT : (i2l d).toInt = d := i2l_t hdr.1 hdr.2
      have fit := fitsX hdr wd2
      rw [b01_y ct, wp_ifn (by decide), wp_bd, x_width hd hD hx.1 hg, wp_bd, mask_v wd2]
      have dB : (BitVec.ofInt 32 d).toNat < 2 ^ wdS Ms s g ↔ (32 ≤ wdS Ms s g ∨ (0 ≤ d ∧ d ≤ ((2 ^ wdS Ms s g - 1 : Nat) : Int))) := by
        have p := p32 wd2
        have p0 := Nat.two_pow_pos (wdS Ms s g)
        have hN : ((BitVec.ofInt 32 d).toNat : Int) = d % 4294967296 := by rw [BitVec.toNat_ofInt]; omega
        obtain ⟨d1, d2⟩ := hdr
        by_cases c32 : 32 ≤ wdS Ms s g
        · have e : wdS Ms s g = 32 := by omega
          rw [e]
          exact ⟨fun _ => Or.inl (Nat.le_refl _), fun _ => (BitVec.ofInt 32 d).isLt⟩
        · have p31 : 2 ^ wdS Ms s g ≤ 2147483648 := p2le (k := 31) (by omega)
          omega
      by_cases cf : (BitVec.ofInt 32 d).toNat < 2 ^ wdS Ms s g
      · have old : σ.1 (ob S + 20) g = sg (v.1 g) := (hx.2.2.2.2.1.1 g hg).1 ct
        rw [wp_ifp (fit.mpr cf), wp_bd, DI_20 hD (by omega) (by omega), tn, old, wp_lt, wp_bd, DV_20 hD (by omega) (by omega), tn, wp_bd, c_pZ (by decide) (by decide), wp_rt]
        have hA1 : agr (fun a i => ¬ ((a = ob S + 20 ∧ i = g) ∨ (a = ob S ∧ i = 34))) σ (stA (stA σ.1 (ob S + 20) (ups (σ.1 (ob S + 20)) g d)) (ob S) (ups (stA σ.1 (ob S + 20) (ups (σ.1 (ob S + 20)) g d) (ob S)) 34 0), σ.2) := (agr.refl.u (by omega) _).u (by omega) _
        have v1 : (stA (stA σ.1 (ob S + 20) (ups (σ.1 (ob S + 20)) g d)) (ob S) (ups (stA σ.1 (ob S + 20) (ups (σ.1 (ob S + 20)) g d) (ob S)) 34 0)) (ob S + 20) g = d ∧ (stA (stA σ.1 (ob S + 20) (ups (σ.1 (ob S + 20)) g d)) (ob S) (ups (stA σ.1 (ob S + 20) (ups (σ.1 (ob S + 20)) g d) (ob S)) 34 0)) (ob S) 34 = 0 := by
          refine ⟨?_, ?_⟩
          · rw [stA_ne (by omega), stA_eq, ups_eq]
          · rw [stA_eq, ups_eq]
        dsimp only
        generalize hU : ((stA (stA σ.1 (ob S + 20) _) (ob S) _, σ.2) : St) = σ1 at hA1
        have v1' : σ1.1 (ob S + 20) g = d ∧ σ1.1 (ob S) 34 = 0 := by subst hU; exact v1
        clear hU v1
        have hA1s : agr (sF (ob S)) σ σ1 := agr.sub hA1 (fun a i h => by unfold sF at h; omega)
        obtain ⟨k1, k2, k3, k4⟩ := hx.keep h12 hA1s
        have hA1t : ∀ a, 2075 ≤ a → σ1.1 a = σ.1 a := fun a h => hA1.row (fun i => by omega)
        obtain ⟨σz, hσz, ez1, ez2, -, hz⟩ := z_st σ1
        have hmz : DCM Ms top s v S σz := hm.fr hp ((agr.sub hA1 (fun a i h => by unfold dcTw dT at h; omega)).trans (agr.sub hz (fun a i h => by unfold dcTw dT at h; omega)))
        have m23 := (hmz.1.1.2.2.2 g hg).2.1.2.1
        have ov : (σz.2.1 2128 (200 * S + g)).toInt = (v.1 g : Int) := (hmz.2.2.1 g hg).2.1 ct
        have last : wp (X15_set_90 d (((200 * S + g : Nat) : Int))) σz (fun q τ => sg (v.1 g) = q ∧ I_des c τ ∧ Out P_dz σ τ) := by
          rw [X15_set_90, wp_bd, RI_2128 (by omega) (by omega), tn, wp_lt, wp_bd, RV_2128 (by omega) (by omega), tn, wp_rt]
          refine ⟨by rw [l2i_sg (by rw [ov]; omega), ov, tn], ?_⟩
          have hA4 : agr (fun a i => ¬ (a = 2128 ∧ i = 200 * S + g)) σz (σz.1, stA σz.2.1 2128 (ups (σz.2.1 2128) (200 * S + g) ((i2l d) &&& 4294967295)), σz.2.2) := agr.refl.v (fun k hk => by rw [ups_ne (by omega)])
          have nv : ((stA σz.2.1 2128 (ups (σz.2.1 2128) (200 * S + g) ((i2l d) &&& 4294967295))) 2128 (200 * S + g)).toInt = ((BitVec.ofInt 32 d).toNat : Int) := by rw [stA_eq, ups_eq]; exact set_v hdr
          generalize hU : ((σz.1, stA σz.2.1 2128 _, σz.2.2) : St) = τ at hA4
          have nv' : (τ.2.1 2128 (200 * S + g)).toInt = ((BitVec.ofInt 32 d).toNat : Int) := by subst hU; exact nv
          clear hU nv
          have hA4y : agr (yFM S) σz τ := agr.sub hA4 (fun a i h => by unfold yFM at h; omega)
          obtain ⟨l1, l2, l3, l4⟩ := hmz.keep hd hA4y
          have eF : agr (dzF S (ob S)) σ τ := ((agr.sub hA1s (fun a i h => sF_dz hD h)).trans (agr.sub hz (fun a i h => fun z => yF_dz h (Or.inr (Or.inr (Or.inl ⟨z.1, Or.inl z.2⟩)))))).trans (agr.sub hA4y (fun a i h => yF_dz h))
          have eX : agr (dcX (ob S)) σ1 τ := (agr.sub hz (fun a i h => by unfold dcX at h; omega)).trans (agr.sub hA4 (fun a i h => by unfold dcX at h; omega))
          have hds : d = sg (BitVec.ofInt 32 d).toNat := by
            obtain ⟨h1, h2⟩ := hdr
            unfold sg
            rw [BitVec.ofNat_toNat, BitVec.setWidth_eq, BitVec.toInt_ofInt]
            exact (Int.bmod_eq_of_le (by omega) (by omega)).symm
          have hVX : VX Ms s (ups v.1 g (BitVec.ofInt 32 d).toNat, v.2) (ob S) σ1 := by
            refine ⟨fun x hxl => ⟨fun ht => ?_, fun h3 => ?_⟩, fun x j hxl h4 hj => ?_, ?_⟩
            · by_cases e : x = g
              · subst e
                show _ = sg (ups v.1 x _ x)
                rw [v1'.1, ups_eq]; exact hds
              · show _ = sg (ups v.1 g _ x)
                rw [ups_ne e, (hA1 (ob S + 20) x (by omega)).1]; exact (hx.2.2.2.2.1.1 x hxl).1 ht
            · have e : x ≠ g := fun e => by subst e; have := ct.2; omega
              rw [(hA1 (ob S + 20) x (by omega)).1]; exact (hx.2.2.2.2.1.1 x hxl).2 h3
            · rw [hA1.row (a := ob S + 22) (fun i => by omega)]; exact hx.2.2.2.2.1.2.1 x j hxl h4 hj
            · rw [(hA1 (ob S) 33 (by omega)).1]; exact hx.2.2.2.2.1.2.2
          have hVM : VM Ms s (ups v.1 g (BitVec.ofInt 32 d).toNat, v.2) S τ := by
            obtain ⟨u1, u2, u3⟩ := hmz.2.2
            refine ⟨fun x hxl => ?_, l4, by rw [(hA4 2133 S (by omega)).1]; exact u3⟩
            obtain ⟨w1, w2, w3, w4⟩ := u1 x hxl
            refine ⟨l3 x hxl, fun ht => ?_, fun h3 => ?_, fun h4 j hj => ?_⟩
            · by_cases e : x = g
              · subst e
                show _ = ((ups v.1 x _ x : Nat) : Int)
                rw [nv', ups_eq]
              · show _ = ((ups v.1 g _ x : Nat) : Int)
                rw [ups_ne e, (hA4 2128 _ (by omega)).2.1]; exact w2 ht
            · rw [(hA4 2130 _ (by omega)).2.1]; exact w3 h3
            · rw [(hA4 2130 _ (by omega)).2.1]; exact w4 h4 j hj
          refine dz_put hO hs hS (Nat.le_refl _) h1 eF (fun m => ?_) ⟨Ms, top, s, (ups v.1 g (BitVec.ofInt 32 d).toNat, v.2), ⟨hd, hlim, hno, fun x hxl => ⟨?_, (hB x hxl).2⟩, hch⟩, hv, DCX.fr ⟨k1, k2, k3, k4, hVX, Or.inl v1'.2⟩ h12 eX, ⟨l1, l2, hVM⟩⟩
          · rw [(eX (ob S + 1) m (by unfold dcX; omega)).2.2, (hA1 (ob S + 1) m (by omega)).2.2]
          · show ups v.1 g _ x < _
            by_cases e : x = g
            · subst e; rw [ups_eq]; exact cf
            · rw [ups_ne e]; exact (hB x hxl).1
        refine tw σ1 σz hσz hA1t hmz (fun hn => absurd ct hn) (fun _ => ?_)
        rw [wp_lt, wp_bd, RI_2123 (by omega) (by omega), tn, m23]
        by_cases c32 : 32 ≤ wdS Ms s g
        · rw [wp_ifp (by omega)]; exact last
        · have hr := (dB.mp cf).resolve_left c32
          rw [wp_ifn (by omega), wp_bd, RI_2123 (by omega) (by omega), tn, m23, wp_bd, in15_yy (by rw [wT, t0, tvI (msk_N wd2) (by have := p32 wd2; omega)]; exact hr), wp_ifn (by decide)]
          exact last
      · obtain ⟨σz, hσz, ez1, ez2, hz, -⟩ := z_st σ
        have hmz := z_vm hm hp ez1 ez2
        have m23 := (hmz.1.1.2.2.2 g hg).2.1.2.1
        rw [wp_ifn (fun h => cf (fit.mp h)), wp_rt]
        refine tw σ σz hσz (fun a _ => rfl) hmz (fun hn => absurd ct hn) (fun _ => ?_)
        have c32 : ¬ 32 ≤ wdS Ms s g := fun h => cf (dB.mpr (Or.inl h))
        rw [wp_lt, wp_bd, RI_2123 (by omega) (by omega), tn, m23, wp_ifn (by omega), wp_bd, RI_2123 (by omega) (by omega), tn, m23, wp_bd, in15_nn (by rw [wT, t0, tvI (msk_N wd2) (by have := p32 wd2; omega)]; exact fun h => cf (dB.mpr (Or.inr h))), wp_ifp rfl, wp_rt]
        exact ⟨rfl, hI.vis hz, Out.of hz⟩
    · obtain ⟨σz, hσz, ez1, ez2, hz, -⟩ := z_st σ
      have hmz := z_vm hm hp ez1 ez2
      rw [b01_n ct, wp_ifp rfl, wp_rt]
      exact tw σ σz hσz (fun a _ => rfl) hmz (fun _ => ⟨rfl, hI.vis hz, Out.of hz⟩) (fun h => absurd h ct)
  · refine hX ?_
    obtain ⟨σz, hσz, ez1, ez2, hz, -⟩ := z_st σ
    rw [wp_on0, wp_rt, F_X15_set, wp_bd, wp_pI, hσz, wp_bd]
    refine hT σz (ez1 _ (by decide)) (ez1 _ (by decide)) ?_
    rw [wp_ifn (by decide), wp_rt]
    exact ⟨rfl, hI.vis hz, Out.of hz⟩
