set_option maxRecDepth 100000
set_option maxHeartbeats 400000
/-! ===== bits: the twin's outs and registers ===== -/
/-- what the writing of outs and latches leaves alone -/
def tO (a k : Nat) : Prop := ¬ ((a = 2145 ∧ k = 4) ∨ (a = 2148 ∧ 256 ≤ k) ∨ ((a = 2149 ∨ a = 2150) ∧ 800 ≤ k) ∨ (2160 ≤ a ∧ a ≤ 2163))
section
variable {Ms : Nat → ModV} {top : Nat} {s : LYS} {r : Nat → Nat} {R S : Nat} {σ τ υ : St} {st : BST} {g p : Nat} {A : Nat → Prop}
theorem tO_U (h : agr tO σ τ) : agr tU σ τ := agr.sub h (fun a k q => by unfold tU at q; unfold tO; omega)
theorem BTr.oth (h : BTr Ms top s S A st p σ) (hd : DP Ms top s) (hS5 : S < 5) (e : agr tO σ τ) : BTr Ms top s S A st p τ := by
  obtain ⟨⟨g1, g2, g3⟩, h2, h3, h4, h5, h6⟩ := h
  have rw' : ∀ a, a ≠ 2145 → a ≠ 2148 → a ≠ 2149 → a ≠ 2150 → (a < 2160 ∨ 2163 < a) → τ.1 a = σ.1 a := fun a q1 q2 q3 q4 q5 => e.row (fun k => by unfold tO; omega)
  refine ⟨⟨dm_tU g1 hd hS5 (tO_U e), ?_, fun x hx => ?_⟩, ?_, h3, fun x hx => ?_, ?_, h6⟩
  · rw [rw' 2075 (by decide) (by decide) (by decide) (by decide) (by decide)]; exact g2
  · rw [rw' 2155 (by decide) (by decide) (by decide) (by decide) (by decide)]; exact g3 x hx
  · unfold mkT
    rw [rw' 2142 (by decide) (by decide) (by decide) (by decide) (by decide), rw' 2143 (by decide) (by decide) (by decide) (by decide) (by decide), rw' 2144 (by decide) (by decide) (by decide) (by decide) (by decide), rw' 2146 (by decide) (by decide) (by decide) (by decide) (by decide), rw' 2147 (by decide) (by decide) (by decide) (by decide) (by decide), rw' 2075 (by decide) (by decide) (by decide) (by decide) (by decide), rw' 2151 (by decide) (by decide) (by decide) (by decide) (by decide), rw' 2152 (by decide) (by decide) (by decide) (by decide) (by decide)]
    exact h2
  · rw [rw' 2154 (by decide) (by decide) (by decide) (by decide) (by decide), rw' 2156 (by decide) (by decide) (by decide) (by decide) (by decide)]
    exact h4 x hx
  · rw [rw' 2075 (by decide) (by decide) (by decide) (by decide) (by decide)]; exact h5
theorem R_ct (a b c d e : Int) : R_X15_connectBits a b c d e = F_X15_connectBits (G_X15_bitsOf 1299).1 (G_X15_bitsOf 1299).2.2.2.2.2 a b c d e := by
  show (G_X15_bitsOf (1299 + 1)).2.1 a b c d e = _
  rw [G_T_cn]
theorem roomG_top (hd : DP Ms top s) (hlim : limOK Ms s) {K : Nat} : roomG Ms s r 0 0 K := by
  have a3 := smF_le (f := fun g => b1 (¬ stG Ms s g ∧ r g < K) (wdS Ms s g)) (h := szG Ms s) (n := lsG s) (fun g hg => Nat.le_trans b1_le (wd_sz hd hg))
  have a4 := wt_all (T := TsR Ms s r K) hd
  have a5 := cn_all (T := TsR Ms s r K) hd
  have a6 : smF (szG Ms s) (lsG s) ≤ 2000 := hlim.1.1
  unfold roomG bd1 bd2
  omega
/-- a register's next bits -/
theorem regT (hd : DP Ms top s) (hch : chOK Ms s) (hlim : limOK Ms s) (hS5 : S < 5) (hr : ∀ x t, x < lsG s → t < lsG s → hgG Ms s x t → r t < r x) (hR : ∀ g, r g < R) (hR2 : 6 * R ≤ 1290) (hg : g < lsG s) (h3 : kdS Ms s g = 3) (hB : BTr Ms top s S (fun _ => False) st 0 σ) (h112 : σ.1 2075 112 = 0) {rec : Int → Int → Int → St → Option (Int × St)} {Q : Int → St → Prop} (hQ : ∀ τ, BTr Ms top s S (fun _ => False) (csB Ms s (mkB Ms s R) g (conL Ms s g) (stL Ms s g, st)).2 0 τ → agr tU σ τ → τ.1 2075 112 = 0 → (τ.1 2145 = σ.1 2145 ∧ τ.1 2148 = σ.1 2148) → (∀ k, k < keptS Ms s g → τ.1 2149 (800 + k) = σ.1 2149 (800 + k) ∧ τ.1 2150 (800 + k) = σ.1 2150 (800 + k)) → (∀ j, j < wdS Ms s g → τ.1 2149 (800 + (keptS Ms s g + j)) = ((csB Ms s (mkB Ms s R) g (conL Ms s g) (stL Ms s g, st)).1 j : Int) ∧ τ.1 2150 (800 + (keptS Ms s g + j)) = ((if (bgS Ms s g).testBit j = true then 1 else 0 : Nat) : Int)) → wp (X15_bits_765 rec (S : Int) ((keptS Ms s g + wdS Ms s g : Nat) : Int) (g : Int)) τ Q) : wp (X15_bits_560 rec FU (S : Int) (keptS Ms s g : Int) (g : Int) ((200 * S + g : Nat) : Int) (wdS Ms s g : Int) 0) σ Q := by
  have hF := FU_ge
  have h200 := hd.2.1.2
  have h12 := hd.1.1
  have hs : stG Ms s g := Or.inl h3
  have hnt : ¬ tiG Ms s g := fun h => ti_ns h hs
  obtain ⟨a1, a2, a3, -, ⟨s5, s6⟩, -⟩ := hd.sig hg
  have h40 := hd.1.2.1 (lsM s (lsi s g))
  obtain ⟨k1, k2⟩ := kept_in hlim hg hs
  have hws := wd_sz hd hg
  have hbt := bits_in hlim hg
  have hp := PMK_of (r := r) (R := R) hd hch
  have hmk : ∀ k, 6 * R + 1 ≤ k → MKT Ms top s S r R (G_X15_bitsOf k).2.2.1 (mkB Ms s R) := fun k hk => makeT hd hch hlim hS5 hr R k hk
  have lit := ((hB.2.2.2.1 g hg).1 hs).2
  refine lpN (w := wdS Ms s g) (L := fun m j => X15_bits_560 rec m (S : Int) (keptS Ms s g : Int) (g : Int) ((200 * S + g : Nat) : Int) (wdS Ms s g : Int) (j : Int)) (I := fun j υ => KT (inbS Ms s (lsG s)) (keptS Ms s (lsG s)) σ υ st.1 (0 + j) ∧ PL (σ.1 2153) (υ.1 2153) 0 j (stL Ms s g)) ?_ ?_ (show wdS Ms s g < FU by omega) ⟨hB.kt, PL.init⟩
  · rintro m j υ hj ⟨b1', b2⟩ ih
    show wp (X15_bits_560 rec (m + 1) (S : Int) (keptS Ms s g : Int) (g : Int) ((200 * S + g : Nat) : Int) (wdS Ms s g : Int) (j : Int)) υ Q
    have r54 := b1'.wk.1 2154 (by decide) (by decide)
    have r55 := b1'.wk.1 2155 (by decide) (by decide)
    rw [X15_bits_560, wp_ifn (by omega), wp_bd, RI_2155 (by omega) (by omega), tn, r55, hB.1.2.2 g hg, wp_bd, wN (by omega), RI_2154 (by omega) (by omega), tn, r54, lit j (by omega)]
    refine tPush b1' (by omega) (fun υ2 c1 c2 => ?_)
    rw [wp_lt, wN1 (by omega)]
    exact ih _ ⟨c1, by rw [c2]; exact b2.up'⟩
  · rintro m υ ⟨b1', b2⟩
    show wp (X15_bits_560 rec (m + 1) (S : Int) (keptS Ms s g : Int) (g : Int) ((200 * S + g : Nat) : Int) (wdS Ms s g : Int) (wdS Ms s g : Int)) υ Q
    obtain ⟨d1, d2⟩ := hB.fr hd b1' (goB.refl hB.2.2.1.1)
    obtain ⟨-, ⟨-, g2, -⟩, g5, g6⟩ := d1.1.1.1.2.2.2 g hg
    have eI : coI Ms s g = lsi s g := if_neg (by omega)
    have eT : coT Ms s g = lsth s g := if_neg (by omega)
    have eP : coP Ms s g = -1 := if_neg (by omega)
    rw [X15_bits_560, wp_ifp (by omega), X15_bits_592, wp_bd, RI_2125 (by omega) (by omega), tn, g5, wp_bd, RI_2126 (by omega) (by omega), tn, g6, wp_bd, R_ct, show F_X15_connectBits (G_X15_bitsOf 1299).1 (G_X15_bitsOf 1299).2.2.2.2.2 (lsi s g : Int) (lsth s g : Int) (-1) 0 (wdS Ms s g : Int) = F_X15_connectBits (G_X15_bitsOf 1299).1 (G_X15_bitsOf 1299).2.2.2.2.2 (coI Ms s g : Int) (coT Ms s g : Int) (coP Ms s g) ((0 : Nat) : Int) (wdS Ms s g : Int) by rw [eI, eT, eP]; rfl]
    refine connT (at' := 0) (q := 0) (x0 := stL Ms s g) hd hch hlim hS5 hp (FDT_G (k := 1296) hd hlim hS5 (hmk 1296 (by omega)) hp) (WHT_G (k := 1295) hd hlim hS5 (hmk 1295 (by omega)) hp) hg hnt d1 (by rw [b1'.wk.2]; exact h112) (by omega) b2.2 (fun j hj => stL_lt hg hs (by omega)) (fun c u hc hu => ?_) (fun τ2 f1 f2 f3 f4 f5 f6 => ?_)
    · obtain ⟨w1, w2⟩ := rdG_top hd hch hr hR hg c hc
      obtain ⟨z1, z2, z3, -⟩ := hd.conL_mem hg hc
      rcases hu with e | ⟨z, q1, e⟩
      · subst e
        exact ⟨w1.toU, roomE_top hd hch hlim hr z2 (hd.root z2 z3) ⟨c, z3, Or.inl rfl⟩ (by omega)⟩
      · subst e
        exact ⟨(w2 z q1).toU, roomE_top hd hch hlim hr z2 (hch _ _ z2 z3 z q1).1 ⟨c, z3, Or.inr (Or.inr ⟨z, q1, rfl⟩)⟩ (by omega)⟩
    · generalize hy : csB Ms s (mkB Ms s R) g (conL Ms s g) (stL Ms s g, st) = y at *
      have t2 : agr tU σ τ2 := tG_U (d2.trans f2)
      have v85 : (τ2.2.1 2085 (40 * (12 * S + lsM s (lsi s g)) + lsth s g)).toInt = (bgS Ms s g : Int) := ((f1.1.1.2 _ a2).2.1 _ a3).1.2.2.2
      obtain ⟨-, -, m5, m6⟩ := f1.1.1.1.2.2.2 g hg
      have o45 : τ2.1 2145 = σ.1 2145 := (d2.trans f2).row (fun k => by unfold tG; omega)
      have o48 : τ2.1 2148 = σ.1 2148 := (d2.trans f2).row (fun k => by unfold tG; omega)
      have o49 : τ2.1 2149 = σ.1 2149 := (d2.trans f2).row (fun k => by unfold tG; omega)
      have o50 : τ2.1 2150 = σ.1 2150 := (d2.trans f2).row (fun k => by unfold tG; omega)
      rw [wp_lt]
      refine lpN (w := wdS Ms s g) (L := fun m j => X15_bits_617 rec m (S : Int) (keptS Ms s g : Int) (g : Int) ((200 * S + g : Nat) : Int) (wdS Ms s g : Int) (j : Int)) (I := fun j υ => (∀ a, a ≠ 2149 → a ≠ 2150 → υ.1 a = τ2.1 a) ∧ υ.2 = τ2.2 ∧ CE (τ2.1 2149) (υ.1 2149) (800 + keptS Ms s g) (wdS Ms s g) j y.1 ∧ CE (τ2.1 2150) (υ.1 2150) (800 + keptS Ms s g) (wdS Ms s g) j (fun j => if (bgS Ms s g).testBit j = true then 1 else 0)) ?_ ?_ (show wdS Ms s g < FU by omega) ⟨fun _ _ _ => rfl, rfl, CE.init, CE.init⟩
      · rintro m j υ hj ⟨c1, c2, c3, c4⟩ ih
        show wp (X15_bits_617 rec (m + 1) (S : Int) (keptS Ms s g : Int) (g : Int) ((200 * S + g : Nat) : Int) (wdS Ms s g : Int) (j : Int)) υ Q
        have c6 := f6 j hj
        rw [Nat.zero_add] at c6
        have e8 : ∀ _ : Unit, w32 (w32 (800 + (keptS Ms s g : Int)) + (j : Int)) = ((800 + keptS Ms s g + j : Nat) : Int) := fun _ => by rw [w32_i (x := 800 + (keptS Ms s g : Int)) (by omega) (by omega), w32_i (by omega) (by omega)]; omega
        obtain ⟨υ1, hυ1⟩ : ∃ υ1 : St, υ1 = (stA υ.1 2149 (ups (υ.1 2149) (800 + keptS Ms s g + j) (y.1 j : Int)), υ.2) := ⟨_, rfl⟩
        have q1 : ∀ a, a ≠ 2149 → υ1.1 a = υ.1 a := fun a ha => by rw [hυ1]; exact stA_ne ha
        have q2 : υ1.1 2149 = ups (υ.1 2149) (800 + keptS Ms s g + j) (y.1 j : Int) := by rw [hυ1]; dsimp only; rw [stA_eq]
        have q3 : υ1.2 = τ2.2 := by rw [hυ1]; exact c2
        have hM1 : DM υ1 S Ms top s := dm_tU f1.1.1 hd hS5 (fun a k q => by
          unfold tU at q
          refine ⟨?_, by rw [q3], by rw [q3]⟩
          by_cases e49 : a = 2149
          · subst e49; rw [q2, ups_ne (by omega), c3.1 k (by omega)]
          · by_cases e50 : a = 2150
            · subst e50; rw [q1 2150 (by decide), c4.1 k (by omega)]
            · rw [q1 a e49, c1 a e49 e50])
        rw [X15_bits_617, wp_ifn (by omega), wp_bd, RI_2153 (by omega) (by omega), tn, c1 2153 (by decide) (by decide), c6, wp_bd, e8 (), RV_2149 (by omega) (by omega), tn, ← hυ1, wp_bd, RI_2125 (by omega) (by omega), tn, q1 2125 (by decide), c1 2125 (by decide) (by decide), m5, wp_bd, F_X15_things, wp_bd, m_store hd hM1 hS5 a1, wp_rt, wp_bd, RI_2126 (by omega) (by omega), tn, q1 2126 (by decide), c1 2126 (by decide) (by decide), m6, wp_bd, w32_i (x := 40 * ((12 * S + lsM s (lsi s g) : Nat) : Int)) (by omega) (by omega), show 40 * ((12 * S + lsM s (lsi s g) : Nat) : Int) = ((40 * (12 * S + lsM s (lsi s g)) : Nat) : Int) by omega, wN (by omega), RI_2085 (by omega) (by omega), tn, q3, bitL v85 (by omega), wp_bd, RV_2150 (by omega) (by omega), tn, wp_lt, wN1 (by omega)]
        refine ih _ ⟨fun a h1 h2 => ?_, q3, ?_, ?_⟩
        · dsimp only; rw [stA_ne h2, q1 a h1]; exact c1 a h1 h2
        · dsimp only; rw [stA_ne (by decide), q2]; exact c3.up' hj
        · dsimp only; rw [stA_eq, q1 2150 (by decide)]; exact c4.up' (o := fun j => if (bgS Ms s g).testBit j = true then 1 else 0) hj
      · rintro m υ ⟨c1, c2, c3, c4⟩
        show wp (X15_bits_617 rec (m + 1) (S : Int) (keptS Ms s g : Int) (g : Int) ((200 * S + g : Nat) : Int) (wdS Ms s g : Int) (wdS Ms s g : Int)) υ Q
        rw [X15_bits_617, wp_ifp (by omega), X15_bits_696, wp_bd, wp_pI, wp_lt, wN (by omega)]
        have hO : agr tO τ2 υ := fun a k q => by
          unfold tO at q
          refine ⟨?_, by rw [c2], by rw [c2]⟩
          by_cases e49 : a = 2149
          · subst e49; exact c3.1 k (by omega)
          · by_cases e50 : a = 2150
            · subst e50; exact c4.1 k (by omega)
            · rw [c1 a e49 e50]
        have hB3 := f1.oth hd hS5 hO
        have kt := hB3.kt.pt (q := 0) (v := 0) rfl
        obtain ⟨x1, x2⟩ := hB3.fr hd kt (goB.refl hB3.2.2.1.1)
        have pr : ∀ a, a ≠ 2075 → (stA υ.1 2075 (ups (υ.1 2075) 105 0)) a = υ.1 a := fun a ha => stA_ne ha
        refine hQ _ x1 ((t2.trans (tO_U hO)).trans (tG_U x2)) (by rw [kt.wk.2, c1 2075 (by decide) (by decide)]; exact f4) ⟨?_, ?_⟩ (fun k hk => ⟨?_, ?_⟩) (fun j hj => ⟨?_, ?_⟩)
        · dsimp only; rw [pr _ (by decide), c1 2145 (by decide) (by decide), o45]
        · dsimp only; rw [pr _ (by decide), c1 2148 (by decide) (by decide), o48]
        · dsimp only; rw [pr _ (by decide), c3.1 _ (Or.inl (by omega)), o49]
        · dsimp only; rw [pr _ (by decide), c4.1 _ (Or.inl (by omega)), o50]
        · dsimp only; rw [pr _ (by decide), ← Nat.add_assoc]; exact c3.2 j hj
        · dsimp only; rw [pr _ (by decide), ← Nat.add_assoc]; exact c4.2 j hj
end
