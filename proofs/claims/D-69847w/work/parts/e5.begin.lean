set_option maxRecDepth 100000
set_option maxHeartbeats 400000
/-! ===== designs: the twin's begin ===== -/
def bFM (S a i : Nat) : Prop := ¬ ((a = 2130 ∧ 200 * S ≤ i ∧ i < 200 * S + 200) ∨ (a = 2133 ∧ i = S))
section
variable {Ms : Nat → ModV} {top : Nat} {s : LYS} {τ τ' : St} {S g : Nat}
theorem dT_bFM {a i : Nat} (h : dT S a i) : bFM S a i := by
  unfold dT at h
  unfold bFM
  omega
theorem stw_ap2 {x y : Nat} (hxy : x ≠ y) (hx : stG Ms s x) (hy : stG Ms s y) : stwS Ms s x + wsG Ms s x ≤ stwS Ms s y ∨ stwS Ms s y + wsG Ms s y ≤ stwS Ms s x := by
  rcases Nat.lt_or_ge x y with w | w
  · exact Or.inl (stw_ap w hx)
  · exact Or.inr (stw_ap (by omega) hy)
/-- the state at the start -/
theorem beginM (hd : DP Ms top s) (hlim : limOK Ms s) (hS : S < 5) (hM : DM τ S Ms top s) (h27 : ∀ g, g < lsG s → τ.1 2127 (200 * S + g) = (stwS Ms s g : Int)) (h32 : τ.1 2132 S = (stwS Ms s (lsG s) : Int)) {iv : Nat → Nat} (hiv : ∀ g, g < lsG s → tiG Ms s g → (τ.2.1 2128 (200 * S + g)).toInt = (iv g : Int)) {Q : Unit → St → Prop} (hQ : ∀ τ', agr (bFM S) τ τ' → VM Ms s (iv, bgS Ms s, fun _ _ => 0, 0) S τ' → Q () τ') : wp (F_X15_begin (S : Int)) τ Q := by
  have hF := FU_ge
  have h200 := hd.2.1.2
  have h101 := hd.2.1.1.2
  have h12 := hd.1.1
  have e200' : ∀ g : Nat, g < 200 → w32 (w32 (200 * (S : Int)) + (g : Int)) = ((200 * S + g : Nat) : Int) := fun g hg => by rw [w32_i (x := 200 * (S : Int)) (by omega) (by omega), w32_i (by omega) (by omega)]; omega
  have sig : ∀ d g f τ2, g + d = lsG s → d < f → agr (bFM S) τ τ2 → (∀ x j, x < g → x < lsG s → stG Ms s x → j < wsG Ms s x → (τ2.2.1 2130 (200 * S + (stwS Ms s x + j))).toInt = (bgS Ms s x : Int)) → wp (X15_begin_2 f (S : Int) (g : Int)) τ2 Q := by
    intro d
    induction d with
    | zero =>
      intro g f τ2 hg hf hA h0
      obtain ⟨f', rfl⟩ : ∃ f', f = f' + 1 := ⟨f - 1, by omega⟩
      have hM2 := hM.fr hd (agr.sub hA (fun a i h => dT_bFM h))
      rw [X15_begin_2, wp_bd, RI_2115 (by omega) (by omega), tn, hM2.1.1.1, wp_ifp (by omega), X15_begin_123, wp_bd, RV_2133 (by omega) (by omega), tn, wp_rt]
      refine hQ _ (hA.u (by unfold bFM; omega) _) ⟨fun x hx => ?_, ?_, ?_⟩
      · dsimp only
        rw [stA_ne (by decide)]
        refine ⟨by rw [(hA 2127 _ (by unfold bFM; omega)).1]; exact h27 x hx, fun ht => by rw [(hA 2128 _ (by unfold bFM; omega)).2.1]; exact hiv x hx ht, fun h3 => ?_, fun h4 j hj => ?_⟩
        · have := (hd.sig hx).2.2.2.2.2.1.1
          have := h0 x 0 (by omega) hx (Or.inl h3) (by omega)
          exact this
        · rw [h0 x j (by omega) hx (Or.inr h4) hj, (hd.sig hx).2.2.2.2.2.2.2.2.1 (by omega)]
      · dsimp only
        rw [stA_ne (by decide), (hA 2132 S (by unfold bFM; omega)).1]; exact h32
      · dsimp only
        rw [stA_eq, ups_eq]; rfl
    | succ d ih =>
      intro g f τ2 hg hf hA h0
      obtain ⟨f', rfl⟩ : ∃ f', f = f' + 1 := ⟨f - 1, by omega⟩
      have hM2 := hM.fr hd (agr.sub hA (fun a i h => dT_bFM h))
      have hgl : g < lsG s := by omega
      rw [X15_begin_2, wp_bd, RI_2115 (by omega) (by omega), tn, hM2.1.1.1, wp_ifn (by omega), wp_lt, e200' g (by omega), wp_lt]
      obtain ⟨a1, a2, a3, a4, -, ⟨ws1, ws2⟩, -⟩ := hd.sig hgl
      have nxt : ∀ τ3, agr (bFM S) τ τ3 → (∀ x j, x < g + 1 → x < lsG s → stG Ms s x → j < wsG Ms s x → (τ3.2.1 2130 (200 * S + (stwS Ms s x + j))).toInt = (bgS Ms s x : Int)) → wp (X15_begin_117 (X15_begin_2 f') (S : Int) (g : Int)) τ3 Q := by
        intro τ3 b1 b2
        rw [X15_begin_117, wp_lt, w32_i (by omega) (by omega), show (g : Int) + 1 = ((g + 1 : Nat) : Int) by omega]
        exact ih (g + 1) f' τ3 (by omega) (by omega) b1 b2
      have wrd : ∀ k j f2 τ3, j + k = wsG Ms s g → k < f2 → agr (bFM S) τ τ3 → (∀ x j, x < g → x < lsG s → stG Ms s x → j < wsG Ms s x → (τ3.2.1 2130 (200 * S + (stwS Ms s x + j))).toInt = (bgS Ms s x : Int)) → (∀ y, y < j → stG Ms s g → (τ3.2.1 2130 (200 * S + (stwS Ms s g + y))).toInt = (bgS Ms s g : Int)) → wp (X15_begin_23 (X15_begin_2 f') f2 (S : Int) (g : Int) ((200 * S + g : Nat) : Int) (j : Int)) τ3 Q := by
        intro k
        induction k with
        | zero =>
          intro j f2 τ3 hj hf2 hA3 hx3 hg3
          obtain ⟨f2', rfl⟩ : ∃ f2', f2 = f2' + 1 := ⟨f2 - 1, by omega⟩
          have hM3 := hM.fr hd (agr.sub hA3 (fun a i h => dT_bFM h))
          rw [X15_begin_23, wp_bd, RI_2124 (by omega) (by omega), tn, (hM3.1.2.2.2 g hgl).2.1.2.2, wp_ifp (by omega)]
          refine nxt τ3 hA3 (fun x y hx hxl hs hy => ?_)
          by_cases e : x = g
          · subst e; exact hg3 y (by omega) hs
          · exact hx3 x y (by omega) hxl hs hy
        | succ k ih2 =>
          intro j f2 τ3 hj hf2 hA3 hx3 hg3
          obtain ⟨f2', rfl⟩ : ∃ f2', f2 = f2' + 1 := ⟨f2 - 1, by omega⟩
          have hM3 := hM.fr hd (agr.sub hA3 (fun a i h => dT_bFM h))
          obtain ⟨-, ⟨m22, -, m24⟩, m25, m26⟩ := hM3.1.2.2.2 g hgl
          have h27' : τ3.1 2127 (200 * S + g) = (stwS Ms s g : Int) := by rw [(hA3 2127 _ (by unfold bFM; omega)).1]; exact h27 g hgl
          rw [X15_begin_23, wp_bd, RI_2124 (by omega) (by omega), tn, m24, wp_ifn (by omega), wp_bd, RI_2122 (by omega) (by omega), tn, m22]
          have put : stG Ms s g → ∀ v : Int64, v.toInt = (bgS Ms s g : Int) → wp (X15_begin_110 (X15_begin_2 f') (X15_begin_23 (X15_begin_2 f') f2') (S : Int) (g : Int) ((200 * S + g : Nat) : Int) (j : Int) (w32 (w32 (w32 (200 * (S : Int)) + (stwS Ms s g : Int)) + (j : Int))) v) τ3 Q := by
            intro hs v hv
            obtain ⟨g1, g2⟩ := stw_in hd hlim hgl hs
            rw [X15_begin_110, e200' _ (by omega), wp_bd, w32_i (by omega) (by omega), RV_2130 (by omega) (by omega), wp_lt, w32_i (by omega) (by omega), show (j : Int) + 1 = ((j + 1 : Nat) : Int) by omega, show (((200 * S + stwS Ms s g : Nat) : Int) + (j : Int)).toNat = 200 * S + (stwS Ms s g + j) by omega]
            refine ih2 (j + 1) f2' _ (by omega) (by omega) (hA3.v (fun y hy => ?_)) (fun x y hx hxl hsx hy => ?_) (fun y hy _ => ?_)
            · unfold bFM at hy
              rw [ups_ne (by omega)]
              exact (hA3 2130 y (by unfold bFM; omega)).2.1
            · dsimp only
              have := stw_ap (Ms := Ms) (s := s) hx hsx
              rw [stA_eq, ups_ne (by omega)]
              exact hx3 x y hx hxl hsx hy
            · dsimp only
              rw [stA_eq]
              by_cases e : y = j
              · subst e; rw [ups_eq]; exact hv
              · rw [ups_ne (by omega)]; exact hg3 y (by omega) hs
          by_cases c3 : kdS Ms s g = 3
          · have h40 := hd.1.2.1 (lsM s (lsi s g))
            have m85 : (τ3.2.1 2085 (40 * (12 * S + lsM s (lsi s g)) + lsth s g)).toInt = (bgS Ms s g : Int) := ((hM3.2 _ a2).2.1 _ a3).1.2.2.2
            have e40 : w32 (w32 (40 * ((12 * S + lsM s (lsi s g) : Nat) : Int)) + (lsth s g : Int)) = ((40 * (12 * S + lsM s (lsi s g)) + lsth s g : Nat) : Int) := by rw [w32_i (x := 40 * ((12 * S + lsM s (lsi s g) : Nat) : Int)) (by omega) (by omega), w32_i (by omega) (by omega)]; omega
            rw [wp_ifp (by omega), X15_begin_54, wp_bd, RI_2127 (by omega) (by omega), tn, h27', wp_bd, RI_2122 (by omega) (by omega), tn, m22, wp_ifp (by omega), wp_bd, RI_2125 (by omega) (by omega), tn, m25, wp_bd, F_X15_things, wp_bd, m_store hd hM3 hS a1, wp_rt, wp_bd, RI_2126 (by omega) (by omega), tn, m26, wp_bd, e40]
            clear e40
            rw [RI_2085 (by omega) (by omega), tn]
            exact put (Or.inl c3) _ m85
          · rw [wp_ifn (by omega), wp_bd, RI_2122 (by omega) (by omega), tn, m22]
            by_cases c4 : kdS Ms s g = 4
            · rw [wp_ifp (by omega), X15_begin_54, wp_bd, RI_2127 (by omega) (by omega), tn, h27', wp_bd, RI_2122 (by omega) (by omega), tn, m22, wp_ifn (by omega)]
              exact put (Or.inr c4) 0 (by rw [(hd.sig hgl).2.2.2.2.2.2.2.2.1 c3]; rfl)
            · rw [wp_ifn (by omega)]
              refine nxt τ3 hA3 (fun x y hx hxl hs hy => ?_)
              by_cases e : x = g
              · subst e
                rcases hs with h | h
                · exact absurd h c3
                · exact absurd h c4
              · exact hx3 x y (by omega) hxl hs hy
      exact wrd (wsG Ms s g) 0 FU τ2 (by omega) (by omega) hA h0 (fun y h => absurd h (Nat.not_lt_zero y))
  rw [F_X15_begin, wp_lt]
  exact sig (lsG s) 0 FU τ (by omega) (by omega) agr.refl (fun x j h => absurd h (Nat.not_lt_zero x))
def uFM (S a i : Nat) : Prop := ¬ (((a = 2127 ∨ a = 2128 ∨ a = 2130) ∧ 200 * S ≤ i ∧ i < 200 * S + 200) ∨ ((a = 2132 ∨ a = 2133) ∧ i = S))
theorem dT_uFM {a i : Nat} (h : dT S a i) : uFM S a i := by
  unfold dT at h
  unfold uFM
  omega
/-- the places of the state, and the state at the start -/
theorem build5M (hd : DP Ms top s) (hlim : limOK Ms s) (hS : S < 5) (hM : DM τ S Ms top s) {Q : Int → St → Prop} (hQ : ∀ τ', agr (uFM S) τ τ' → VM Ms s (fun _ => 0, bgS Ms s, fun _ _ => 0, 0) S τ' → Q (lsG s : Int) τ') : wp (X15_build_115 FU (S : Int) 0 0) τ Q := by
  have hF := FU_ge
  have h200 := hd.2.1.2
  have e200' : ∀ g : Nat, g < 200 → w32 (w32 (200 * (S : Int)) + (g : Int)) = ((200 * S + g : Nat) : Int) := fun g hg => by rw [w32_i (x := 200 * (S : Int)) (by omega) (by omega), w32_i (by omega) (by omega)]; omega
  have sn : stwS Ms s (lsG s) ≤ 200 := by
    have := stw_le hd (Nat.le_refl (lsG s))
    have := hlim.1.2
    omega
  have key : ∀ d g f τ2, g + d = lsG s → d < f → agr (uFM S) τ τ2 → (∀ x, x < g → τ2.1 2127 (200 * S + x) = (stwS Ms s x : Int) ∧ τ2.2.1 2128 (200 * S + x) = 0) → wp (X15_build_115 f (S : Int) (stwS Ms s g : Int) (g : Int)) τ2 Q := by
    intro d
    induction d with
    | zero =>
      intro g f τ2 hg hf hA h0
      obtain ⟨f', rfl⟩ : ∃ f', f = f' + 1 := ⟨f - 1, by omega⟩
      have hM2 := hM.fr hd (agr.sub hA (fun a i h => dT_uFM h))
      have eg : g = lsG s := by omega
      have hA3 : agr (uFM S) τ (stA τ2.1 2132 (ups (τ2.1 2132) S (stwS Ms s g : Int)), τ2.2) := hA.u (by unfold uFM; omega) _
      have hM3 := hM.fr hd (agr.sub hA3 (fun a i h => dT_uFM h))
      rw [X15_build_115, wp_bd, RI_2115 (by omega) (by omega), tn, hM2.1.1.1, wp_ifp (by omega), X15_build_197, wp_bd, RV_2132 (by omega) (by omega), tn, wp_bd]
      refine beginM hd hlim hS hM3 (fun x hx => ?_) (by dsimp only; rw [stA_eq, ups_eq, eg]) (iv := fun _ => 0) (fun x hx _ => ?_) (fun τ4 hA4 hV4 => ?_)
      · dsimp only
        rw [stA_ne (by decide)]; exact (h0 x (by omega)).1
      · rw [(h0 x (by omega)).2]; rfl
      · have hA5 := hA3.trans (agr.sub hA4 (fun a i h => by unfold uFM at h; unfold bFM; omega))
        have hM5 := hM.fr hd (agr.sub hA5 (fun a i h => dT_uFM h))
        rw [wp_bd, RI_2115 (by omega) (by omega), tn, hM5.1.1.1, wp_rt]
        exact hQ τ4 hA5 hV4
    | succ d ih =>
      intro g f τ2 hg hf hA h0
      obtain ⟨f', rfl⟩ : ∃ f', f = f' + 1 := ⟨f - 1, by omega⟩
      have hM2 := hM.fr hd (agr.sub hA (fun a i h => dT_uFM h))
      have hgl : g < lsG s := by omega
      have sg1 : stwS Ms s (g + 1) ≤ stwS Ms s (lsG s) := smF_mono (by omega)
      have sgU : stwS Ms s (g + 1) = stwS Ms s g + b1 (stG Ms s g) (wsG Ms s g) := rfl
      have hA3 : agr (uFM S) τ (stA τ2.1 2127 (ups (τ2.1 2127) (200 * S + g) (stwS Ms s g : Int)), stA τ2.2.1 2128 (ups (τ2.2.1 2128) (200 * S + g) 0), τ2.2.2) := by
        intro a i h
        have := hA a i h
        unfold uFM at h
        refine ⟨?_, ?_, this.2.2⟩
        · dsimp only
          by_cases e : a = 2127
          · subst e; rw [stA_eq, ups_ne (by omega)]; exact this.1
          · rw [stA_ne e]; exact this.1
        · dsimp only
          by_cases e : a = 2128
          · subst e; rw [stA_eq, ups_ne (by omega)]; exact this.2.1
          · rw [stA_ne e]; exact this.2.1
      have hM3 := hM.fr hd (agr.sub hA3 (fun a i h => dT_uFM h))
      obtain ⟨-, ⟨m22, -, m24⟩, -⟩ := hM3.1.2.2.2 g hgl
      have h0' : ∀ x, x < g + 1 → (stA τ2.1 2127 (ups (τ2.1 2127) (200 * S + g) (stwS Ms s g : Int))) 2127 (200 * S + x) = (stwS Ms s x : Int) ∧ (stA τ2.2.1 2128 (ups (τ2.2.1 2128) (200 * S + g) 0)) 2128 (200 * S + x) = 0 := fun x hx => by
        rw [stA_eq, stA_eq]
        by_cases e : x = g
        · subst e; rw [ups_eq, ups_eq]; exact ⟨rfl, rfl⟩
        · rw [ups_ne (by omega), ups_ne (by omega)]; exact h0 x (by omega)
      rw [X15_build_115, wp_bd, RI_2115 (by omega) (by omega), tn, hM2.1.1.1, wp_ifn (by omega), wp_lt, e200' g (by omega), wp_bd, RV_2128 (by omega) (by omega), tn, wp_bd, RV_2127 (by omega) (by omega), tn, wp_bd, RI_2122 (by omega) (by omega), tn, m22]
      have nx : ∀ w : Nat, stwS Ms s (g + 1) = stwS Ms s g + w → wp (X15_build_188 (X15_build_115 f') (S : Int) (g : Int) (stwS Ms s g : Int) (w : Int)) (stA τ2.1 2127 (ups (τ2.1 2127) (200 * S + g) (stwS Ms s g : Int)), stA τ2.2.1 2128 (ups (τ2.2.1 2128) (200 * S + g) 0), τ2.2.2) Q := by
        intro w hw
        rw [X15_build_188, wp_lt, wp_lt, w32_i (by omega) (by omega), w32_i (by omega) (by omega), show (g : Int) + 1 = ((g + 1 : Nat) : Int) by omega, show (stwS Ms s g : Int) + (w : Int) = (stwS Ms s (g + 1) : Int) by omega]
        exact ih (g + 1) f' _ (by omega) (by omega) hA3 h0'
      by_cases c3 : kdS Ms s g = 3
      · rw [wp_ifp (by omega), X15_build_177, wp_bd, RI_2124 (by omega) (by omega), tn, m24]
        exact nx _ (by rw [sgU, b1_y (show stG Ms s g from Or.inl c3)])
      · rw [wp_ifn (by omega), wp_bd, RI_2122 (by omega) (by omega), tn, m22]
        by_cases c4 : kdS Ms s g = 4
        · rw [wp_ifp (by omega), X15_build_177, wp_bd, RI_2124 (by omega) (by omega), tn, m24]
          exact nx _ (by rw [sgU, b1_y (show stG Ms s g from Or.inr c4)])
        · rw [wp_ifn (by omega)]
          exact nx 0 (by rw [sgU, b1_n (show ¬ stG Ms s g from fun h => by rcases h with h | h; exact c3 h; exact c4 h)])
  exact key (lsG s) 0 FU τ (by omega) (by omega) agr.refl (fun x h => absurd h (Nat.not_lt_zero x))
end
