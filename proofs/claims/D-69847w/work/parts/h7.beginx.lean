set_option maxRecDepth 100000
set_option maxHeartbeats 400000
/-! ===== bits: the component begins ===== -/
/-- what the component's making of a whole net leaves alone -/
def bTn (n a : Nat) (_ : Nat) : Prop := ¬ ((37 ≤ a ∧ a ≤ 47) ∨ (n ≤ a ∧ a ≤ n + 5))
section
variable {Ms : Nat → ModV} {top : Nat} {s : LYS} {σ τ : St} {o n : Nat}
theorem bT_D (hD : isD o) (hn : isN n) {j k : Nat} (hj : j ≤ 326) : bTn n (o + j) k := by
  have h0 := isD_le hD
  have h := fun k (hk : k ≤ 5) => dn_off hD hn hj hk
  have h1 := h 0 (by decide)
  have h2 := h 1 (by decide)
  have h3 := h 2 (by decide)
  have h4 := h 3 (by decide)
  have h5 := h 4 (by decide)
  have h6 := h 5 (by decide)
  unfold bTn
  omega
theorem DX.bTn (h : DX σ o Ms top s) (hd : DP Ms top s) (hD : isD o) (hn : isN n) (e : agr (bTn n) σ τ) : DX τ o Ms top s := h.fr hd.1.1 (agr.sub e (fun a k q => by
  obtain ⟨j, hj, rfl⟩ : ∃ j, j ≤ 326 ∧ a = o + j := ⟨a - o, by unfold dP at q; omega, by unfold dP at q; omega⟩
  exact bT_D hD hn hj))
theorem CH.bTn (h : CH σ o Ms s) (hD : isD o) (hn : isN n) (e : agr (bTn n) σ τ) : CH τ o Ms s := h.fr (fun a q1 q2 => by
  obtain ⟨j, hj, rfl⟩ : ∃ j, j ≤ 326 ∧ a = o + j := ⟨a - o, by omega, by omega⟩
  exact e.row (fun k => bT_D hD hn hj))
theorem DL.bTn (h : DL σ o Ms s) (hD : isD o) (hn : isN n) (e : agr (bTn n) σ τ) : DL τ o Ms s := by
  obtain ⟨h3, h4, h5⟩ := h
  have r : ∀ j, j ≤ 326 → τ.1 (o + j) = σ.1 (o + j) := fun j hj => e.row (fun k => bT_D hD hn hj)
  refine ⟨fun g hg => ?_, ?_, ?_⟩
  · rw [r 19 (by omega), r 21 (by omega)]; exact h3 g hg
  · have := r 0 (by omega)
    rw [Nat.add_zero] at this
    rw [this]; exact h4
  · have := r 0 (by omega)
    rw [Nat.add_zero] at this
    rw [this]; exact h5
theorem lfS_s {g : Nat} (h : stG Ms s g) : lfS Ms s (g + 1) = lfS Ms s g := by
  show lfS Ms s g + b1 (¬ stG Ms s g) (wdS Ms s g) = _
  rw [b1_n (fun q => q h)]; rfl
theorem lfS_n {g : Nat} (h : ¬ stG Ms s g) : lfS Ms s (g + 1) = lfS Ms s g + wdS Ms s g := by
  show lfS Ms s g + b1 (¬ stG Ms s g) (wdS Ms s g) = _
  rw [b1_y h]
theorem szG_1 (hd : DP Ms top s) {g : Nat} (hg : g < lsG s) (h : kdS Ms s g ≠ 4) : szG Ms s g = wdS Ms s g := by
  unfold szG
  rw [(hd.sig hg).2.2.2.2.2.2.1 h, Nat.mul_one]
theorem inb_y (hd : DP Ms top s) {g : Nat} (hg : g < lsG s) (h : tiG Ms s g) : inbS Ms s (g + 1) = inbS Ms s g + wdS Ms s g := by
  show inbS Ms s g + b1 (tiG Ms s g) (szG Ms s g) = _
  rw [b1_y h, szG_1 hd hg (by have := h.2; omega)]
theorem inb_n {g : Nat} (h : ¬ tiG Ms s g) : inbS Ms s (g + 1) = inbS Ms s g := by
  show inbS Ms s g + b1 (tiG Ms s g) (szG Ms s g) = _
  rw [b1_n h]; rfl
/-- the rows of the first k signals -/
def BGX (Ms : Nat → ModV) (s : LYS) (k : Nat) (σ : St) : Prop := (∀ g, g < k → σ.1 40 g = (lfS Ms s g : Int)) ∧ (∀ g, g < k → ¬ stG Ms s g → σ.1 41 g = b01 (tiG Ms s g)) ∧ ∀ g, g < k → tiG Ms s g → ∀ j, j < wdS Ms s g → σ.1 42 (lfS Ms s g + j) = ((2 * (inbS Ms s g + j + 1) : Nat) : Int)
theorem ti_ns {g : Nat} (h : tiG Ms s g) : ¬ stG Ms s g := by
  have := h.2
  unfold stG
  omega
theorem beg1X (hd : DP Ms top s) (hD : isD o) (hn : isN n) (hlim : limOK Ms s) (hX : DX σ o Ms top s) {Q : Unit → St → Prop} (hQ : ∀ τ, agr (bTn n) σ τ → BGX Ms s (lsG s) τ → τ.2 = σ.2 → wp (X3_begin_141 o n (inbS Ms s (lsG s) : Int)) τ Q) : wp (X3_begin_13 FU o n 0 0 0) σ Q := by
  have hF := FU_ge
  have h200 := hd.2.1.2
  have key : ∀ y g f τ, g + y = lsG s → y < f → agr (bTn n) σ τ → BGX Ms s g τ → τ.2 = σ.2 → wp (X3_begin_13 f o n (inbS Ms s g : Int) (lfS Ms s g : Int) (g : Int)) τ Q := by
    intro y
    induction y with
    | zero =>
      intro g f τ hg hf hA hb hτ
      obtain ⟨f', rfl⟩ : ∃ f', f = f' + 1 := ⟨f - 1, by omega⟩
      have e : g = lsG s := by omega
      subst e
      have hX1 := hX.bTn hd hD hn hA
      rw [X3_begin_13, wp_bd, wp_gI, hX1.1.1.2, wp_ifp (by omega)]
      exact hQ τ hA hb hτ
    | succ y ih =>
      intro g f τ hg hf hA hb hτ
      obtain ⟨f', rfl⟩ : ∃ f', f = f' + 1 := ⟨f - 1, by omega⟩
      have hgl : g < lsG s := by omega
      have hX1 := hX.bTn hd hD hn hA
      have w32' := (hd.sig hgl).2.2.2.2.1
      have hin : inbS Ms s (g + 1) ≤ inbS Ms s (lsG s) := smF_mono (by omega)
      have hi64 := hlim.2.2.1
      have hlf := lfS_le hd hlim (show g + 1 ≤ lsG s by omega)
      obtain ⟨b1, b2, b3⟩ := hb
      rw [X3_begin_13, wp_bd, wp_gI, hX1.1.1.2, wp_ifn (by omega), wp_bd, RV_40 (by omega) (by omega), tn, wp_bd]
      have hA2 : agr (bTn n) σ (stA τ.1 40 (ups (τ.1 40) g (lfS Ms s g : Int)), τ.2) := hA.w (fun k hk => by exfalso; unfold bTn at hk; omega)
      have hX2 := hX.bTn hd hD hn hA2
      rw [x_state hd hD hX2 hgl]
      -- behind the row of offsets
      have go : ∀ v : Int, (stG Ms s g → v = 0) → (¬ stG Ms s g → v = (wdS Ms s g : Int)) → wp (X3_begin_52 (X3_begin_13 f') o n (inbS Ms s g : Int) (g : Int) (lfS Ms s g : Int) v) (stA τ.1 40 (ups (τ.1 40) g (lfS Ms s g : Int)), τ.2) Q := by
        intro v hv1 hv2
        have e1 : w32 ((lfS Ms s g : Int) + v) = (lfS Ms s (g + 1) : Int) := by
          by_cases c : stG Ms s g
          · rw [lfS_s c] at hlf
            rw [hv1 c, lfS_s c, Int.add_zero, w32_i (by omega) (by omega)]
          · rw [lfS_n c] at hlf
            rw [hv2 c, lfS_n c, wN (by omega)]
        rw [X3_begin_52, wp_lt, e1, wp_bd, RV_41 (by omega) (by omega) (by decide) (by decide), tn]
        dsimp only
        have hA3 : agr (bTn n) σ (stA (stA τ.1 40 (ups (τ.1 40) g (lfS Ms s g : Int))) 41 (ups ((stA τ.1 40 (ups (τ.1 40) g (lfS Ms s g : Int))) 41) g 0), τ.2) := hA2.w (fun k hk => by exfalso; unfold bTn at hk; omega)
        have c40 : ∀ x, x < g + 1 → (stA (stA τ.1 40 (ups (τ.1 40) g (lfS Ms s g : Int))) 41 (ups ((stA τ.1 40 (ups (τ.1 40) g (lfS Ms s g : Int))) 41) g 0)) 40 x = (lfS Ms s x : Int) := fun x hx => by
          rw [stA_ne (by decide), stA_eq]
          by_cases e : x = g
          · subst e; rw [ups_eq]
          · rw [ups_ne e]; exact b1 x (by omega)
        have c41 : (stA (stA τ.1 40 (ups (τ.1 40) g (lfS Ms s g : Int))) 41 (ups ((stA τ.1 40 (ups (τ.1 40) g (lfS Ms s g : Int))) 41) g 0)) 41 = ups (τ.1 41) g 0 := by rw [stA_eq, stA_ne (by decide)]
        have c42 : (stA (stA τ.1 40 (ups (τ.1 40) g (lfS Ms s g : Int))) 41 (ups ((stA τ.1 40 (ups (τ.1 40) g (lfS Ms s g : Int))) 41) g 0)) 42 = τ.1 42 := by rw [stA_ne (by decide), stA_ne (by decide)]
        generalize hζ : ((stA (stA τ.1 40 (ups (τ.1 40) g (lfS Ms s g : Int))) 41 (ups ((stA τ.1 40 (ups (τ.1 40) g (lfS Ms s g : Int))) 41) g 0), τ.2) : St) = ζ at hA3 ⊢
        have d40 : ∀ x, x < g + 1 → ζ.1 40 x = (lfS Ms s x : Int) := by rw [← hζ]; exact c40
        have d41 : ζ.1 41 = ups (τ.1 41) g 0 := by rw [← hζ]; exact c41
        have d42 : ζ.1 42 = τ.1 42 := by rw [← hζ]; exact c42
        have d2 : ζ.2 = σ.2 := by rw [← hζ]; exact hτ
        clear hζ c40 c41 c42 hA2 hX2
        have hX3 := hX.bTn hd hD hn hA3
        rw [wp_bd, x_topIn hd hD hX3 hgl]
        by_cases ct : tiG Ms s g
        · have hsn := ti_ns ct
          rw [inb_y hd hgl ct] at hin
          rw [lfS_n hsn] at hlf
          rw [b01_y ct, wp_ifn (by decide), wp_lt]
          refine lpN (w := wdS Ms s g) (L := fun f2 j => X3_begin_78 (X3_begin_13 f') f2 o n (inbS Ms s g : Int) (lfS Ms s (g + 1) : Int) (g : Int) (j : Int)) (I := fun j υ => agr (bTn n) σ υ ∧ (∀ x, x < g + 1 → υ.1 40 x = (lfS Ms s x : Int)) ∧ υ.1 41 = ups (τ.1 41) g 0 ∧ CE (τ.1 42) (υ.1 42) (lfS Ms s g) (wdS Ms s g) j (fun j => 2 * (inbS Ms s g + j + 1)) ∧ υ.2 = σ.2) ?_ ?_ (show wdS Ms s g < FU by omega) ⟨hA3, d40, d41, by rw [d42]; exact CE.init, d2⟩
          · rintro f2 j υ hj ⟨k1, k2, k3, k4, k5⟩ ih2
            show wp (X3_begin_78 (X3_begin_13 f') (f2 + 1) o n (inbS Ms s g : Int) (lfS Ms s (g + 1) : Int) (g : Int) (j : Int)) υ Q
            have hX4 := hX.bTn hd hD hn k1
            rw [X3_begin_78, wp_bd, x_width hd hD hX4 hgl, wp_ifn (by omega), wp_bd, RI_40 (by omega) (by omega), tn, k2 g (by omega), wp_bd, wN (a := lfS Ms s g) (by omega), wN (a := inbS Ms s g) (by omega), wN1 (by omega), w32_i (x := 2 * ((inbS Ms s g + j + 1 : Nat) : Int)) (by omega) (by omega), show 2 * ((inbS Ms s g + j + 1 : Nat) : Int) = ((2 * (inbS Ms s g + j + 1) : Nat) : Int) by omega, RV_42 (by omega) (by omega), tn, wp_lt, wN1 (by omega)]
            refine ih2 _ ⟨k1.w (fun k hk => by exfalso; unfold bTn at hk; omega), fun x hx => ?_, ?_, ?_, k5⟩
            · dsimp only; rw [stA_ne (by decide)]; exact k2 x hx
            · dsimp only; rw [stA_ne (by decide)]; exact k3
            · dsimp only; rw [stA_eq]; exact k4.up' (o := fun j => 2 * (inbS Ms s g + j + 1)) hj
          · rintro f2 υ ⟨k1, k2, k3, k4, k5⟩
            show wp (X3_begin_78 (X3_begin_13 f') (f2 + 1) o n (inbS Ms s g : Int) (lfS Ms s (g + 1) : Int) (g : Int) (wdS Ms s g : Int)) υ Q
            have hX4 := hX.bTn hd hD hn k1
            rw [X3_begin_78, wp_bd, x_width hd hD hX4 hgl, wp_ifp (by omega), X3_begin_118, wp_bd, x_width hd hD hX4 hgl, wp_lt, wN (by omega), wp_bd, RV_41 (by omega) (by omega) (by decide) (by decide), tn, X3_begin_135, wp_lt, wN1 (by omega), ← inb_y hd hgl ct]
            refine ih (g + 1) f' _ (by omega) (by omega) (k1.w (fun k hk => by exfalso; unfold bTn at hk; omega)) ⟨fun x hx => ?_, fun x hx hs => ?_, fun x hx hxt j hj => ?_⟩ k5
            · dsimp only; rw [stA_ne (by decide)]; exact k2 x hx
            · dsimp only; rw [stA_eq, k3]
              by_cases e : x = g
              · subst e; rw [ups_eq, b01_y ct]
              · rw [ups_ne e, ups_ne e]; exact b2 x (by omega) hs
            · dsimp only; rw [stA_ne (by decide)]
              by_cases e : x = g
              · subst e; exact k4.2 j hj
              · have := lfS_up (Ms := Ms) (s := s) (show x < g by omega) (ti_ns hxt)
                rw [k4.1 _ (by omega)]; exact b3 x (by omega) hxt j hj
        · rw [b01_n ct, wp_ifp rfl, X3_begin_135, wp_lt, wN1 (by omega), ← inb_n ct]
          refine ih (g + 1) f' _ (by omega) (by omega) hA3 ⟨fun x hx => d40 x hx, fun x hx hs => ?_, fun x hx hxt j hj => ?_⟩ d2
          · rw [d41]
            by_cases e : x = g
            · subst e; rw [ups_eq, b01_n ct]
            · rw [ups_ne e]; exact b2 x (by omega) hs
          · have e : x ≠ g := fun e => ct (by rw [← e]; exact hxt)
            rw [d42]; exact b3 x (by omega) hxt j hj
      by_cases c : stG Ms s g
      · rw [b01_y c, wp_ifn (by decide)]
        exact go _ (fun _ => rfl) (fun q => absurd c q)
      · rw [b01_n c, wp_ifp rfl, wp_bd, x_width hd hD hX2 hgl]
        exact go _ (fun q => absurd q c) (fun _ => rfl)
  have e0 : inbS Ms s 0 = 0 := rfl
  have e1 : lfS Ms s 0 = 0 := rfl
  have := key (lsG s) 0 FU σ (by omega) (by omega) agr.refl ⟨fun g hg => absurd hg (Nat.not_lt_zero g), fun g hg => absurd hg (Nat.not_lt_zero g), fun g hg => absurd hg (Nat.not_lt_zero g)⟩ rfl
  rw [e0, e1] at this
  exact this
/-- the offsets of nodes, module by module -/
def bMo (Ms : Nat → ModV) (m k : Nat) : Nat := smF (gW (mdG (Ms m))) k
theorem bMo_le (hd : DP Ms top s) {m k : Nat} (hm : m ≤ top) (hk : k ≤ mdN (Ms m)) : bMo Ms m k ≤ 7680 := by
  have ok := hd.1.2.2 m hm
  have h1 := smF_bd (f := gW (mdG (Ms m))) (c := 32) k (fun x hx => (ok.2.2.2.1.2 x (by omega)).1.2.2.1)
  have h2 : mdN (Ms m) ≤ 240 := ok.1.2.1
  unfold bMo
  omega
theorem beg2X (hd : DP Ms top s) (hD : isD o) (hn : isN n) (hX : DX σ o Ms top s) {Q : Unit → St → Prop} (hQ : ∀ τ, (∀ a, a ≠ 44 → τ.1 a = σ.1 a) → τ.2 = σ.2 → (∀ m k, m ≤ top → k < mdN (Ms m) → τ.1 44 (240 * m + k) = (bMo Ms m k : Int)) → wp (X3_begin_233 o) τ Q) : wp (X3_begin_157 FU o 0) σ Q := by
  have hF := FU_ge
  have h12 := hd.1.1
  have frm : ∀ {τ : St}, (∀ a, a ≠ 44 → τ.1 a = σ.1 a) → τ.2 = σ.2 → DX τ o Ms top s := fun {τ} h1 h2 => hX.bTn hd hD hn (fun a k hk => ⟨by rw [h1 a (by unfold bTn at hk; omega)], by rw [h2], by rw [h2]⟩)
  have key : ∀ y m f τ, m + y = top + 1 → y < f → (∀ a, a ≠ 44 → τ.1 a = σ.1 a) → τ.2 = σ.2 → (∀ x k, x < m → k < mdN (Ms x) → τ.1 44 (240 * x + k) = (bMo Ms x k : Int)) → wp (X3_begin_157 f o (m : Int)) τ Q := by
    intro y
    induction y with
    | zero =>
      intro m f τ hm hf h1 h2 h3
      obtain ⟨f', rfl⟩ : ∃ f', f = f' + 1 := ⟨f - 1, by omega⟩
      have hX1 := frm h1 h2
      rw [X3_begin_157, wp_bd, wp_gI, hX1.2.2.2, wp_ifp (by omega)]
      exact hQ τ h1 h2 (fun x k hx hk => h3 x k (by omega) hk)
    | succ y ih =>
      intro m f τ hm hf h1 h2 h3
      obtain ⟨f', rfl⟩ : ∃ f', f = f' + 1 := ⟨f - 1, by omega⟩
      have hX1 := frm h1 h2
      have hmt : m ≤ top := by omega
      have hMd := isMd_D hD (show m < 12 by omega)
      have ok := hd.1.2.2 m hmt
      have n240 : mdN (Ms m) ≤ 240 := ok.1.2.1
      rw [X3_begin_157, wp_bd, wp_gI, hX1.2.2.2, wp_ifn (by omega), wp_lt, wp_lt]
      have inner : ∀ z k f2 υ, k + z = mdN (Ms m) → z < f2 → (∀ a, a ≠ 44 → υ.1 a = σ.1 a) → υ.2 = σ.2 → (∀ x k', x < m → k' < mdN (Ms x) → υ.1 44 (240 * x + k') = (bMo Ms x k' : Int)) → (∀ k', k' < k → υ.1 44 (240 * m + k') = (bMo Ms m k' : Int)) → wp (X3_begin_172 (X3_begin_157 f') f2 o (m : Int) (bMo Ms m k : Int) (k : Int)) υ Q := by
        intro z
        induction z with
        | zero =>
          intro k f2 υ hk hf2 g1 g2 g3 g4
          obtain ⟨f3, rfl⟩ : ∃ f', f2 = f' + 1 := ⟨f2 - 1, by omega⟩
          have hX2 := frm g1 g2
          have r13 := (hX2.2.2.1 m hmt).1.1.2.1
          rw [X3_begin_172, wp_bd, DI_1 hD (by omega) (by omega), tn, hX2.2.1 _ (by omega), wp_nn, wp_ck, and_t (ly_Md hMd), wp_bd, wp_gI, r13, wp_ifp (by omega), X3_begin_227, wp_lt, wN1 (by omega)]
          refine ih (m + 1) f' υ (by omega) (by omega) g1 g2 (fun x k' hx hk' => ?_)
          by_cases e : x = m
          · subst e; exact g4 k' (by omega)
          · exact g3 x k' (by omega) hk'
        | succ z ihz =>
          intro k f2 υ hk hf2 g1 g2 g3 g4
          obtain ⟨f3, rfl⟩ : ∃ f', f2 = f' + 1 := ⟨f2 - 1, by omega⟩
          have hX2 := frm g1 g2
          have r13 := (hX2.2.2.1 m hmt).1.1.2.1
          have rw13 := ((hX2.2.2.1 m hmt).2.2.1 k (by omega)).2.2.2.2
          have hw := (ok.2.2.2.1.2 k (by omega)).1.2.2.1
          have hb := bMo_le hd hmt (show k ≤ mdN (Ms m) by omega)
          have g1' : ∀ a, a ≠ 44 → (stA υ.1 44 (ups (υ.1 44) (240 * m + k) (bMo Ms m k : Int))) a = σ.1 a := fun a ha => by rw [stA_ne ha]; exact g1 a ha
          have hX3 := frm (τ := (stA υ.1 44 (ups (υ.1 44) (240 * m + k) (bMo Ms m k : Int)), υ.2)) g1' g2
          have rw13' := ((hX3.2.2.1 m hmt).2.2.1 k (by omega)).2.2.2.2
          rw [X3_begin_172, wp_bd, DI_1 hD (by omega) (by omega), tn, hX2.2.1 _ (by omega), wp_nn, wp_ck, and_t (ly_Md hMd), wp_bd, wp_gI, r13, wp_ifn (by omega), wp_bd, w240 (by omega) (by omega), RV_44 (by omega) (by omega), tn, wp_bd, DI_1 hD (by omega) (by omega), tn, hX3.2.1 _ (by omega), wp_nn, wp_ck, and_t (ly_Md hMd), wp_bd, MI_13 hMd (by omega) (by omega), tn, rw13', wp_lt, wN (by omega), wp_lt, wN1 (by omega)]
          have e : bMo Ms m k + gW (mdG (Ms m)) k = bMo Ms m (k + 1) := rfl
          rw [e]
          refine ihz (k + 1) f3 _ (by omega) (by omega) g1' g2 (fun x k' hx hk' => ?_) (fun k' hk' => ?_)
          · have := (hd.1.2.2 x (by omega)).1.2.1
            dsimp only
            rw [stA_eq, ups_ne (by omega)]; exact g3 x k' hx hk'
          · dsimp only
            rw [stA_eq]
            by_cases e : k' = k
            · subst e; rw [ups_eq]
            · rw [ups_ne (by omega)]; exact g4 k' (by omega)
      exact inner (mdN (Ms m)) 0 FU τ (by omega) (by omega) h1 h2 h3 (fun k' hk' => absurd hk' (Nat.not_lt_zero k'))
  exact key (top + 1) 0 FU σ (by omega) (by omega) (fun _ _ => rfl) rfl (fun x k hx => absurd hx (Nat.not_lt_zero x))
/-- where the insts' nodes begin -/
theorem beg3X (hd : DP Ms top s) (hD : isD o) (hn : isN n) (hX : DX σ o Ms top s) (h44 : ∀ m k, m ≤ top → k < mdN (Ms m) → σ.1 44 (240 * m + k) = (bMo Ms m k : Int)) {Q : Unit → St → Prop} (hQ : ∀ τ, (∀ a, a ≠ 43 → τ.1 a = σ.1 a) → τ.2 = σ.2 → (∀ i, i < lsI s → τ.1 43 i = (bIn Ms s i : Int)) → Q () τ) : wp (X3_begin_233 o) σ Q := by
  have hF := FU_ge
  have h12 := hd.1.1
  have h101 := hd.2.1.1.2
  have frm : ∀ {τ : St}, (∀ a, a ≠ 43 → τ.1 a = σ.1 a) → τ.2 = σ.2 → DX τ o Ms top s := fun {τ} h1 h2 => hX.bTn hd hD hn (fun a k hk => ⟨by rw [h1 a (by unfold bTn at hk; omega)], by rw [h2], by rw [h2]⟩)
  have key : ∀ y i f τ, i + y = lsI s → y < f → (∀ a, a ≠ 43 → τ.1 a = σ.1 a) → τ.2 = σ.2 → (∀ x, x < i → τ.1 43 x = (bIn Ms s x : Int)) → wp (X3_begin_239 f o (bIn Ms s i : Int) (i : Int)) τ Q := by
    intro y
    induction y with
    | zero =>
      intro i f τ hi hf h1 h2 h3
      obtain ⟨f', rfl⟩ : ∃ f', f = f' + 1 := ⟨f - 1, by omega⟩
      have hX1 := frm h1 h2
      rw [X3_begin_239, wp_bd, wp_gI, hX1.1.1.1, wp_ifp (by omega), wp_rt]
      exact hQ τ h1 h2 (fun x hx => h3 x (by omega))
    | succ y ih =>
      intro i f τ hi hf h1 h2 h3
      obtain ⟨f', rfl⟩ : ∃ f', f = f' + 1 := ⟨f - 1, by omega⟩
      have hil : i < lsI s := by omega
      obtain ⟨hM, ok⟩ := hd.inst hil
      have hMd := isMd_D hD (show lsM s i < 12 by omega)
      have n240 : mdN (moI Ms s i) ≤ 240 := ok.1.2.1
      have hX1 := frm h1 h2
      have h1' : ∀ a, a ≠ 43 → (stA τ.1 43 (ups (τ.1 43) i (bIn Ms s i : Int))) a = σ.1 a := fun a ha => by rw [stA_ne ha]; exact h1 a ha
      have hX2 := frm (τ := (stA τ.1 43 (ups (τ.1 43) i (bIn Ms s i : Int)), τ.2)) h1' h2
      have r13 : (stA τ.1 43 (ups (τ.1 43) i (bIn Ms s i : Int))) (o + 27 + 25 * lsM s i) 13 = (mdN (Ms (lsM s i)) : Int) := (hX2.2.2.1 _ hM).1.1.2.1
      have hb := bIn_le hd i (by omega)
      have hb2 := bIn_le hd (i + 1) (by omega)
      have eup : bIn Ms s (i + 1) = bIn Ms s i + bMn Ms s i (mdN (moI Ms s i)) := rfl
      have h3' : ∀ x, x < i + 1 → (stA τ.1 43 (ups (τ.1 43) i (bIn Ms s i : Int))) 43 x = (bIn Ms s x : Int) := fun x hx => by
        rw [stA_eq]
        by_cases e : x = i
        · subst e; rw [ups_eq]
        · rw [ups_ne e]; exact h3 x (by omega)
      rw [X3_begin_239, wp_bd, wp_gI, hX1.1.1.1, wp_ifn (by omega), wp_bd, RV_43 (by omega) (by omega), tn, wp_bd, DI_2 hD (by omega) (by omega), tn, (hX2.1.2.1 _ hil).1, wp_bd, DI_1 hD (by omega) (by omega), tn, hX2.2.1 _ (by omega), wp_nn, wp_ck, and_t (ly_Md hMd), wp_bd, wp_gI]
      dsimp only
      have eN : mdN (Ms (lsM s i)) = mdN (moI Ms s i) := rfl
      rw [eN] at r13
      by_cases c : mdN (moI Ms s i) = 0
      · have e0 : bIn Ms s (i + 1) = bIn Ms s i := by rw [eup, c]; rfl
        have hh := ih (i + 1) f' (stA τ.1 43 (ups (τ.1 43) i (bIn Ms s i : Int)), τ.2) (by omega) (by omega) h1' h2 h3'
        rw [e0] at hh
        rw [wp_ifp (by rw [r13]; omega), X3_begin_322, wp_lt, wN1 (by omega)]
        exact hh
      · have hk : mdN (moI Ms s i) - 1 < mdN (moI Ms s i) := by omega
        have rw13 : (stA τ.1 43 (ups (τ.1 43) i (bIn Ms s i : Int))) (o + 27 + 25 * lsM s i + 13) (mdN (moI Ms s i) - 1) = (gW (gI' Ms s i) (mdN (moI Ms s i) - 1) : Int) := (row_x hX2 hd hil hk).2.2.2.2
        have e44 : (stA τ.1 43 (ups (τ.1 43) i (bIn Ms s i : Int))) 44 (240 * lsM s i + (mdN (moI Ms s i) - 1)) = (bMo Ms (lsM s i) (mdN (moI Ms s i) - 1) : Int) := by rw [stA_ne (by decide), h1 44 (by decide)]; exact h44 _ _ hM hk
        have hbm := bMo_le hd hM (show mdN (moI Ms s i) - 1 ≤ mdN (Ms (lsM s i)) by rw [eN]; omega)
        have hw := (hd.nod hil hk).1.2.2.1
        have esum : bMo Ms (lsM s i) (mdN (moI Ms s i) - 1) + gW (gI' Ms s i) (mdN (moI Ms s i) - 1) = bMn Ms s i (mdN (moI Ms s i)) := by
          have : bMn Ms s i (mdN (moI Ms s i) - 1 + 1) = bMn Ms s i (mdN (moI Ms s i) - 1) + gW (gI' Ms s i) (mdN (moI Ms s i) - 1) := rfl
          rw [show mdN (moI Ms s i) - 1 + 1 = mdN (moI Ms s i) by omega] at this
          rw [this]; rfl
        have ei : ∀ _ : Unit, w32 (w32 (w32 (240 * (lsM s i : Int)) + (mdN (moI Ms s i) : Int)) - 1) = ((240 * lsM s i + (mdN (moI Ms s i) - 1) : Nat) : Int) := fun _ => by
          rw [w32_i (x := 240 * (lsM s i : Int)) (by omega) (by omega), w32_i (x := 240 * (lsM s i : Int) + (mdN (moI Ms s i) : Int)) (by omega) (by omega), w32_i (by omega) (by omega)]; omega
        rw [wp_ifn (by rw [r13]; omega), wp_bd, DI_2 hD (by omega) (by omega), tn, (hX2.1.2.1 _ hil).1, wp_bd, wp_gI]
        dsimp only
        rw [r13, wp_bd, ei (), RI_44 (by omega) (by omega), tn]
        dsimp only
        rw [e44, wp_bd, wp_gI]
        dsimp only
        rw [r13, wp_bd, w32_i (x := (mdN (moI Ms s i) : Int) - 1) (by omega) (by omega), show (mdN (moI Ms s i) : Int) - 1 = ((mdN (moI Ms s i) - 1 : Nat) : Int) by omega, MI_13 hMd (by omega) (by omega), tn]
        dsimp only
        rw [rw13, wp_lt, wN (by omega), esum, wN (by omega), ← eup, X3_begin_322, wp_lt, wN1 (by omega)]
        exact ih (i + 1) f' _ (by omega) (by omega) h1' h2 h3'
  have e0 : bIn Ms s 0 = 0 := rfl
  have := key (lsI s) 0 FU σ (by omega) (by omega) (fun _ _ => rfl) rfl (fun x hx => absurd hx (Nat.not_lt_zero x))
  rw [e0] at this
  rw [X3_begin_233, wp_lt, wp_lt]
  exact this
theorem wfS0 (hd : DP Ms top s) : wfS Ms s (bst0 Ms s) := by
  refine ⟨wfB0 _, fun g j hg hs hj => ?_⟩
  show ltB (lvD Ms s) NB0 (@ite _ (tiG Ms s g) (Classical.propDecidable _) (2 * (inbS Ms s g + j + 1)) 0)
  by_cases c : tiG Ms s g
  · rw [if_pos c]
    have h1 := inb_y hd hg c
    have h2 : inbS Ms s (g + 1) ≤ inbS Ms s (lsG s) := smF_mono (by omega)
    have h3 : NB0.1 = 0 := rfl
    unfold ltB lvD
    omega
  · rw [if_neg c]; exact ltB0
theorem beginBX (hd : DP Ms top s) (hD : isD o) (hn : isN n) (hlim : limOK Ms s) (hX : DX σ o Ms top s) (hC : CH σ o Ms s) (hL : DL σ o Ms s) {Q : Unit → St → Prop} (hQ : ∀ τ, agr (bTn n) σ τ → BXr Ms top s o n (fun _ => False) (bst0 Ms s) τ → τ.1 n 3 = 0 → Q () τ) : wp (F_X3_begin o n) σ Q := by
  have hN := isN_le hn
  rw [F_X3_begin, wp_bd, wp_pQ, wp_lt, wp_lt, wp_lt]
  generalize hσ1 : ((σ.1, σ.2.1, stA σ.2.2 37 (ups (σ.2.2 37) 1 (some o))) : St) = σ1
  have a1 : agr (bTn n) σ σ1 := fun a k hk => by
    rw [← hσ1]
    refine ⟨rfl, rfl, ?_⟩
    show stA σ.2.2 37 _ a k = _
    rw [stA_ne (by unfold bTn at hk; omega)]
  have q1 : σ1.2.2 37 1 = some o := by rw [← hσ1]; dsimp only; rw [stA_eq, ups_eq]
  clear hσ1
  refine beg1X hd hD hn hlim (hX.bTn hd hD hn a1) (fun τ a2 hb h2 => ?_)
  have a12 := a1.trans a2
  have hL1 := hL.bTn hD hn a12
  obtain ⟨g, ge, gz⟩ := beginX (w := 38) (o := n) (Or.inl rfl) hn (σ := τ) (i := inbS Ms s (lsG s)) (l := keptS Ms s (lsG s))
  rw [X3_begin_141, wp_bd, wp_gI, hL1.2.1, wp_bd, wp_some ge, wp_lt]
  generalize hσ2 : ((stA (stA τ.1 n (ups (ups (ups (ups (τ.1 n) 0 (inbS Ms s (lsG s) : Int)) 1 (keptS Ms s (lsG s) : Int)) 2 0) 3 0)) (38 + 1) g, τ.2.1, stA τ.2.2 38 (ups (τ.2.2 38) 1 (some n))) : St) = σ2
  have b1 : ∀ a, a ≠ n → a ≠ 39 → σ2.1 a = τ.1 a := fun a h1 h2 => by
    rw [← hσ2]
    show stA (stA τ.1 n _) (38 + 1) g a = _
    rw [stA_ne h2, stA_ne h1]
  have b3 : σ2.1 39 = g := by rw [← hσ2]; dsimp only; exact if_pos rfl
  have b4 : σ2.1 n = ups (ups (ups (ups (τ.1 n) 0 (inbS Ms s (lsG s) : Int)) 1 (keptS Ms s (lsG s) : Int)) 2 0) 3 0 := by
    rw [← hσ2]
    dsimp only
    rw [stA_ne (by omega), stA_eq]
  have b5 : σ2.2.2 38 1 = some n := by rw [← hσ2]; dsimp only; rw [stA_eq, ups_eq]
  have b6 : σ2.2.2 37 1 = some o := by rw [← hσ2]; dsimp only; rw [stA_ne (by decide), h2]; exact q1
  have a3 : agr (bTn n) τ σ2 := fun a k hk => by
    unfold bTn at hk
    refine ⟨by rw [b1 a (by omega) (by omega)], ?_, ?_⟩
    · rw [← hσ2]
    · rw [← hσ2]
      show stA τ.2.2 38 _ a k = _
      rw [stA_ne (by omega)]
  clear hσ2 ge
  have a13 := a12.trans a3
  refine beg2X hd hD hn (hX.bTn hd hD hn a13) (fun τ2 c1 c2 c3 => ?_)
  have a4 : agr (bTn n) σ2 τ2 := fun a k hk => ⟨by rw [c1 a (by unfold bTn at hk; omega)], by rw [c2], by rw [c2]⟩
  refine beg3X hd hD hn (hX.bTn hd hD hn (a13.trans a4)) c3 (fun τ3 d1 d2 d3 => ?_)
  have a5 : agr (bTn n) τ2 τ3 := fun a k hk => ⟨by rw [d1 a (by unfold bTn at hk; omega)], by rw [d2], by rw [d2]⟩
  have aF := (a13.trans a4).trans a5
  have e : ∀ a, a ≠ 43 → a ≠ 44 → τ3.1 a = σ2.1 a := fun a h1 h2 => (d1 a h1).trans (c1 a h2)
  have e2 : τ3.2 = σ2.2 := d2.trans c2
  have e40 : ∀ a, 40 ≤ a → a ≤ 42 → τ3.1 a = τ.1 a := fun a h1 h2 => by rw [e a (by omega) (by omega), b1 a (by omega) (by omega)]
  have en : τ3.1 n = _ := (e n (by omega) (by omega)).trans b4
  refine hQ τ3 aF ⟨⟨hX.bTn hd hD hn aF, hC.bTn hD hn aF, hL.bTn hD hn aF, by rw [e2]; exact b6, fun g hg => by rw [e40 40 (by omega) (by omega)]; exact hb.1 g hg, d3, fun i m hi hm => ?_⟩, ⟨by rw [e2]; exact b5, ⟨?_, ?_, ?_⟩, fun k hk => absurd hk (Nat.not_lt_zero k), rfl, fun _ => 0, fun j hj => ?_, hsh0⟩, wfS0 hd, fun x hx hs => ⟨?_, fun m1 _ j hj => ?_⟩⟩ ?_
  · rw [d1 44 (by decide)]; exact c3 _ _ (hd.inst hi).1 hm
  · rw [en, ups_ne (by decide), ups_ne (by decide), ups_ne (by decide), ups_eq]
  · rw [en, ups_ne (by decide), ups_ne (by decide), ups_eq]
  · rw [en, ups_ne (by decide), ups_eq]; rfl
  · show τ3.1 39 j = _
    rw [e 39 (by decide) (by decide), b3]; exact gz j hj
  · rw [e40 41 (by omega) (by omega), hb.2.1 x hx hs]
    show b01 (tiG Ms s x) = if @decide (tiG Ms s x) (Classical.propDecidable _) = true then 1 else 0
    by_cases c : tiG Ms s x
    · have e : @decide (tiG Ms s x) (Classical.propDecidable _) = true := @decide_eq_true _ (Classical.propDecidable _) c
      rw [b01_y c, if_pos e]
    · have e : @decide (tiG Ms s x) (Classical.propDecidable _) = false := @decide_eq_false _ (Classical.propDecidable _) c
      rw [b01_n c, e]
      rfl
  · have c : tiG Ms s x := @of_decide_eq_true _ (Classical.propDecidable _) m1
    rw [e40 42 (by omega) (by omega), hb.2.2 x hx c j hj]
    show _ = ((@ite _ (tiG Ms s x) (Classical.propDecidable _) (2 * (inbS Ms s x + j + 1)) 0 : Nat) : Int)
    rw [if_pos c]
  · rw [en, ups_eq]
end
