set_option maxRecDepth 100000
set_option maxHeartbeats 400000
/-! ===== bits: the component's outs and registers ===== -/
/-- what the writing of outs and latches leaves alone -/
def bO (n a k : Nat) : Prop := ¬ (a = 46 ∨ a = n + 3 ∨ a = n + 4 ∨ a = n + 5 ∨ (a = n ∧ k = 3))
section
variable {Ms : Nat → ModV} {top : Nat} {s : LYS} {r : Nat → Nat} {R : Nat} {σ τ υ : St} {st : BST} {o n g : Nat} {A : Nat → Prop}
theorem mkX.oth {i l : Nat} {B : NB} (hn : isN n) (h : mkX σ 38 n i l B) (e : agr (bO n) σ τ) : mkX τ 38 n i l B := by
  have hN := isN_le hn
  obtain ⟨h1, ⟨h2, h3, h4⟩, h5, h6, T, h7, h8⟩ := h
  have rw' : ∀ a, a ≠ 46 → a ≠ n + 3 → a ≠ n + 4 → a ≠ n + 5 → a ≠ n → τ.1 a = σ.1 a := fun a q1 q2 q3 q4 q5 => e.row (fun k => by unfold bO; omega)
  have cn : ∀ k, k ≠ 3 → τ.1 n k = σ.1 n k := fun k hk => (e n k (by unfold bO; omega)).1
  refine ⟨?_, ⟨?_, ?_, ?_⟩, fun k hk => ?_, h6, T, fun j hj => ?_, h8⟩
  · rw [(e 38 1 (by unfold bO; omega)).2.2]; exact h1
  · rw [cn 0 (by decide)]; exact h2
  · rw [cn 1 (by decide)]; exact h3
  · rw [cn 2 (by decide)]; exact h4
  · rw [rw' (n + 1) (by omega) (by omega) (by omega) (by omega) (by omega), rw' (n + 2) (by omega) (by omega) (by omega) (by omega) (by omega)]; exact h5 k hk
  · rw [rw' (38 + 1) (by omega) (by omega) (by omega) (by omega) (by omega)]; exact h7 j hj
theorem BXr.oth (h : BXr Ms top s o n A st σ) (hd : DP Ms top s) (hD : isD o) (hn : isN n) (e : agr (bO n) σ τ) : BXr Ms top s o n A st τ := by
  have hN := isN_le hn
  obtain ⟨g1, g2, g3, g4⟩ := h
  have rw' : ∀ a, a ≠ 46 → a ≠ n + 3 → a ≠ n + 4 → a ≠ n + 5 → a ≠ n → τ.1 a = σ.1 a := fun a q1 q2 q3 q4 q5 => e.row (fun k => by unfold bO; omega)
  refine ⟨g1.fr hd hD hn (agr.sub e (fun a k q => ?_)), g2.oth hn e, g3, fun x hx hs => ?_⟩
  · unfold bH bG at q
    unfold bO
    omega
  · rw [rw' 41 (by omega) (by omega) (by omega) (by omega) (by omega), rw' 42 (by omega) (by omega) (by omega) (by omega) (by omega)]; exact g4 x hx hs
theorem bO_T (h : agr (bO n) σ τ) : agr (bTn n) σ τ := agr.sub h (fun a k q => by unfold bTn at q; unfold bO; omega)
theorem bG_T (h : agr (bG n) σ τ) (hn : isN n) : agr (bTn n) σ τ := agr.sub h (fun a k q => by unfold bTn at q; unfold bG; omega)
theorem bS_T {rc at' w : Nat} (hn : isN n) (h : agr (bS n rc at' w) σ τ) (hrc : rc = n + 4) : agr (bTn n) σ τ := agr.sub h (fun a k q => by unfold bTn at q; unfold bS bG; omega)
theorem bR_T {rc : Nat} (hn : isN n) (h : agr (bR n rc) σ τ) (hrc : rc = n + 4) : agr (bTn n) σ τ := agr.sub h (fun a k q => by unfold bTn at q; unfold bR bG; omega)
theorem kept_in (hlim : limOK Ms s) (hg : g < lsG s) (h : stG Ms s g) : keptS Ms s g + szG Ms s g ≤ keptS Ms s (lsG s) ∧ keptS Ms s (lsG s) ≤ 200 := by
  have h1 : keptS Ms s (g + 1) ≤ keptS Ms s (lsG s) := smF_mono (by omega)
  rw [kept_y h] at h1
  exact ⟨h1, hlim.1.2⟩
theorem R_cn (a : Int) (b : Nat) (c : Int) : R_X3_connect a b c = F_X3_connect (G_X3_connect 1299).2.1 (G_X3_connect 1299).2.2.2.2.2 a b c := by
  show (G_X3_connect (1299 + 1)).1 a b c = _
  rw [G_X3_cn]
/-- a register's next bits -/
theorem regX (hd : DP Ms top s) (hch : chOK Ms s) (hD : isD o) (hn : isN n) (hlim : limOK Ms s) (hr : ∀ x t, x < lsG s → t < lsG s → hgG Ms s x t → r t < r x) (hR : ∀ g, r g < R) (hR2 : 6 * R ≤ 1290) (hg : g < lsG s) (h3 : kdS Ms s g = 3) (hB : BXr Ms top s o n (fun _ => False) st σ) {Q : Unit → St → Prop} {E : XV → St → Prop} (hQ : ∀ τ, BXr Ms top s o n (fun _ => False) (csB Ms s (mkB Ms s R) g (conL Ms s g) (stL Ms s g, st)).2 τ → agr (bTn n) σ τ → (τ.1 n 3 = σ.1 n 3 ∧ τ.1 (n + 3) = σ.1 (n + 3)) → (∀ k, k < keptS Ms s g → τ.1 (n + 4) k = σ.1 (n + 4) k ∧ τ.1 (n + 5) k = σ.1 (n + 5) k) → (∀ j, j < wdS Ms s g → τ.1 (n + 4) (keptS Ms s g + j) = ((csB Ms s (mkB Ms s R) g (conL Ms s g) (stL Ms s g, st)).1 j : Int) ∧ τ.1 (n + 5) (keptS Ms s g + j) = ((if (bgS Ms s g).testBit j = true then 1 else 0 : Nat) : Int)) → Q () τ) (hE : ∀ τ, flB (csB Ms s (mkB Ms s R) g (conL Ms s g) (stL Ms s g, st)).2.1 → agr (bTn n) σ τ → E (1, 0, 0) τ) : wpE (F_X3_nextReg (g : Int) n) σ Q E := by
  have hF := FU_ge
  have hN := isN_le hn
  have h200 := hd.2.1.2
  have h12 := hd.1.1
  have hs : stG Ms s g := Or.inl h3
  obtain ⟨a1, a2, a3, -, ⟨s5, s6⟩, -, -, s9, -⟩ := hd.sig hg
  have h40 := hd.1.2.1 (lsM s (lsi s g))
  have hMd := isMd_D hD (show lsM s (lsi s g) < 12 by omega)
  obtain ⟨k1, k2⟩ := kept_in hlim hg hs
  have hws := wd_sz hd hg
  have hbg := s9 h3
  have hp32 := p32 s6
  have rb : σ.1 (o + 27 + 25 * lsM s (lsi s g) + 7) (lsth s g) = sg (bgS Ms s g) := ((hB.1.1.2.2.1 _ a2).2.1 _ a3).1.2.2.2.2
  rw [F_X3_nextReg, wpE_bd, wp_gQ, hB.1.2.2.2.1, wpE_nn, wpE_ck, and_t (ly_D hD), wpE_bd, x_width hd hD hB.1.1 hg, wpE_lt, wpE_bd, wp_gQ, hB.1.2.2.2.1, wpE_nn, wpE_ck, and_t (ly_D hD), wpE_bd, DI_19 hD (by omega) (by omega), tn, (hB.1.2.2.1.1 g hg).1, wpE_lt, wpE_bd, wp_gQ, hB.1.2.2.2.1, wpE_nn, wpE_ck, and_t (ly_D hD), wpE_bd, x_module hd hD hB.1.1 hg, wpE_nn, wpE_ck, and_t (ly_Md hMd), wpE_bd, wp_gQ, hB.1.2.2.2.1, wpE_nn, wpE_ck, and_t (ly_D hD), wpE_bd, DI_8 hD (by omega) (by omega), tn, (hB.1.1.1.2.2.2 g hg).2, wpE_bd, MI_7 hMd (by omega) (by omega), tn, rb, wpE_lt, wpE_lt]
  refine lpNE (w := wdS Ms s g) (L := fun f j => X3_nextReg_46 f (g : Int) n (wdS Ms s g : Int) (keptS Ms s g : Int) (sg (bgS Ms s g)) (j : Int)) (I := fun j υ => agr (bO n) σ υ ∧ υ.1 (n + 3) = σ.1 (n + 3) ∧ υ.1 n 3 = σ.1 n 3 ∧ CE (σ.1 (n + 4)) (υ.1 (n + 4)) (keptS Ms s g) (wdS Ms s g) j (stL Ms s g) ∧ CE (σ.1 (n + 5)) (υ.1 (n + 5)) (keptS Ms s g) (wdS Ms s g) j (fun j => if (bgS Ms s g).testBit j = true then 1 else 0)) ?_ ?_ (show wdS Ms s g < FU by omega) ⟨agr.refl, rfl, rfl, CE.init, CE.init⟩
  · rintro f j υ hj ⟨b1, b2, b3, b4, b5⟩ ih
    show wpE (X3_nextReg_46 (f + 1) (g : Int) n (wdS Ms s g : Int) (keptS Ms s g : Int) (sg (bgS Ms s g)) (j : Int)) υ Q E
    have hB1 := hB.oth hd hD hn b1
    rw [X3_nextReg_46, wpE_ifn (by omega), wpE_bd, x_stl hd hD hn hlim hB1.1 hB1.2.1 hg (by omega), wpE_bd, wN (by omega), NV_4 hn (by omega) (by omega), tn, wpE_bd, bit_sg (by omega) (by omega), NV_5 hn (by omega) (by omega), tn, wpE_lt, wN1 (by omega)]
    refine ih _ ⟨(b1.w (fun k hk => ?_)).w (fun k hk => ?_), ?_, ?_, ?_, ?_⟩
    · exfalso; unfold bO at hk; omega
    · exfalso; unfold bO at hk; omega
    · dsimp only; rw [stA_ne (by omega), stA_ne (by omega)]; exact b2
    · dsimp only; rw [stA_ne (by omega), stA_ne (by omega)]; exact b3
    · dsimp only; rw [stA_ne (by omega), stA_eq]; exact b4.up' hj
    · dsimp only; rw [stA_eq, stA_ne (by omega)]; exact b5.up' (o := fun j => if (bgS Ms s g).testBit j = true then 1 else 0) hj
  · rintro f υ ⟨b1, b2, b3, b4, b5⟩
    show wpE (X3_nextReg_46 (f + 1) (g : Int) n (wdS Ms s g : Int) (keptS Ms s g : Int) (sg (bgS Ms s g)) (wdS Ms s g : Int)) υ Q E
    have hB1 := hB.oth hd hD hn b1
    have hm : ∀ k, 6 * R ≤ k → MKX Ms top s o n r R (G_X3_connect k).2.2.1 (mkB Ms s R) := fun k hk => makeX hd hch hD hn hlim hr R k hk
    have hp := PMK_of (r := r) (R := R) hd hch
    rw [X3_nextReg_46, wpE_ifp (by omega), X3_nextReg_92, wpE_end, R_cn]
    refine connBX (rc := n + 4) (at' := keptS Ms s g) hd hch hD hn hlim hp (FDX_G (k := 1296) hd hD hn hlim (hm 1296 (by omega)) hp) (WHX_G (k := 1295) hd hD hn hlim (hm 1295 (by omega)) hp) hg hB1 (Or.inr ⟨rfl, by omega⟩) (x0 := stL Ms s g) b4.2 (fun j hj => stL_lt hg hs (by omega)) (rdG_top hd hch hr hR hg) (fun τ d1 d2 d3 d4 d5 d6 => ?_) (fun τ d1 d2 => hE τ d1 ((bO_T b1).trans (bR_T hn d2 rfl)))
    have e5 : τ.1 (n + 5) = υ.1 (n + 5) := d2.row (fun k => by unfold bS bG; omega)
    refine hQ τ d1 ((bO_T b1).trans (bS_T hn d2 rfl)) ⟨?_, ?_⟩ (fun k hk => ⟨?_, ?_⟩) (fun j hj => ⟨d6 j hj, ?_⟩)
    · rw [(d2 n 3 (by unfold bS bG; omega)).1, b3]
    · rw [d2.row (a := n + 3) (fun k => by unfold bS bG; omega), b2]
    · rw [(d2 (n + 4) k (by unfold bS bG; omega)).1, b4.1 k (Or.inl hk)]
    · rw [e5, b5.1 k (Or.inl hk)]
    · rw [e5]; exact b5.2 j hj
end
