set_option maxRecDepth 100000
set_option maxHeartbeats 400000
/-! ===== designs: the twin places insts and signals ===== -/
def kdS (Ms : Nat → ModV) (s : LYS) (g : Nat) : Nat := mdkd (Ms (lsM s (lsi s g))) (lsth s g)
def wdS (Ms : Nat → ModV) (s : LYS) (g : Nat) : Nat := mdwd (Ms (lsM s (lsi s g))) (lsth s g)
def wsG (Ms : Nat → ModV) (s : LYS) (g : Nat) : Nat := mdws (Ms (lsM s (lsi s g))) (lsth s g)
def bgS (Ms : Nat → ModV) (s : LYS) (g : Nat) : Nat := mdbg (Ms (lsM s (lsi s g))) (lsth s g)
/-- the twin's slot S holds s; of places those in W -/
def LYM (τ : St) (S : Nat) (Ms : Nat → ModV) (W : Nat → Prop) (s : LYS) : Prop := (τ.1 2115 S = (lsG s : Int) ∧ τ.1 2116 S = (lsI s : Int)) ∧ (∀ i, i < lsI s → τ.1 2117 (101 * S + i) = (lsM s i : Int) ∧ τ.1 2118 (101 * S + i) = lsP s i ∧ τ.1 2119 (101 * S + i) = lsT s i ∧ τ.1 2120 (101 * S + i) = (lsD s i : Int)) ∧ (∀ k, W k → τ.1 2121 (4040 * S + k) = (lsL s k : Int)) ∧ ∀ g, g < lsG s → lsi s g < lsI s ∧ (τ.1 2122 (200 * S + g) = (kdS Ms s g : Int) ∧ τ.1 2123 (200 * S + g) = (wdS Ms s g : Int) ∧ τ.1 2124 (200 * S + g) = (wsG Ms s g : Int)) ∧ τ.1 2125 (200 * S + g) = (lsi s g : Int) ∧ τ.1 2126 (200 * S + g) = (lsth s g : Int)
/-- what placing leaves alone in the twin -/
def dFM (a i : Nat) : Prop := ¬ (((a = 2115 ∨ a = 2116) ∧ i = 4) ∨ (2117 ≤ a ∧ a ≤ 2120 ∧ 404 ≤ i) ∨ (a = 2121 ∧ 16160 ≤ i) ∨ (2122 ≤ a ∧ a ≤ 2126 ∧ 800 ≤ i))
theorem toN4 : (4 : Int).toNat = 4 := rfl
section
variable {Ms : Nat → ModV} {σ σ' : St} {o S : Nat} {W W' : Nat → Prop} {s s' : LYS}
theorem LYM.sub (h : LYM σ S Ms W s) (hs : ∀ k, W' k → W k) : LYM σ S Ms W' s := ⟨h.1, h.2.1, fun k hk => h.2.2.1 k (hs k hk), h.2.2.2⟩
theorem stS_dFM {m a i : Nat} (h : stS m a i) : dFM a i := by
  unfold stS at h
  unfold dFM
  omega
theorem layM {K : Nat} (hK : K ≤ 12) (h40 : ∀ m, mdT (Ms m) ≤ 40) (hok : ∀ m, m < K → mdN (Ms m) ≤ 240 ∧ mdQ (Ms m) ≤ 120 ∧ ∀ c, c < mdC (Ms m) → mdSt (Ms m) c < mdQ (Ms m)) (hkd : ∀ m t, m < K → t < mdT (Ms m) → mdkd (Ms m) t = 5 → mdpt (Ms m) t < m) : ∀ f s m (p t : Int) (d : Nat) τ W, m < K → m < f → lsB s → d + m ≤ 100 → LYM τ 4 Ms W s → (∀ x, x ≤ m → modM τ (48 + x) (Ms x)) → wp (G_X15_lay f (m : Int) p t (d : Int)) τ (fun r τ' => agr dFM τ τ' ∧ ((r = 1 ∧ ∃ s', layF Ms f s m p t d = some s' ∧ LYM τ' 4 Ms (fun k => W k ∨ newC Ms s s' k) s') ∨ (r = 0 ∧ layF Ms f s m p t d = none))) := by
  have hF := FU_ge
  intro f
  induction f with
  | zero => intro s m p t d τ W hm hmf; omega
  | succ f ih =>
    intro s m p t d τ W hm hmf hB hdm hX hmod
    obtain ⟨⟨x15, x16⟩, xi, xl, xg⟩ := id hX
    have hm40 := h40 m
    show wp (F_X15_lay (G_X15_lay f) (m : Int) p t (d : Int)) τ _
    rw [F_X15_lay, wp_lt, wp_bd, RI_2116 (by decide) (by decide), toN4, x16]
    by_cases c : 100 < lsI s
    · rw [wp_ifn (by omega), c_rtZ (by decide) (by decide)]
      exact ⟨agr.refl, Or.inr ⟨rfl, by rw [layF, if_pos c]⟩⟩
    · have e1 : ∀ _ : Unit, w32 (w32 (101 * 4) + (lsI s : Int)) = ((404 + lsI s : Nat) : Int) := fun _ => by rw [w32_i (x := 101 * 4) (by decide) (by decide), w32_i (by omega) (by omega)]; omega
      rw [wp_ifp (by omega), wp_bd, RI_2116 (by decide) (by decide), toN4, x16, wp_lt, wp_bd, RI_2116 (by decide) (by decide), toN4, x16, wp_bd, RV_2116 (by decide) (by decide), toN4, e1 (), wp_bd, RV_2117 (by omega) (by omega), tn, wp_bd, RV_2118 (by omega) (by omega), tn, wp_bd, RV_2119 (by omega) (by omega), tn, wp_bd, RV_2120 (by omega) (by omega), tn, wp_lt, wp_lt, w32_i (x := (lsI s : Int) + 1) (by omega) (by omega), w32_i (x := 48 + (m : Int)) (by omega) (by omega), w32_i (by omega) (by omega)]
      have eL : layF Ms (f + 1) s m p t d = layT (layF Ms f) (Ms m) (lsI s) d (mdT (Ms m)) 0 (lsNew s m p t d) := by rw [layF, if_neg c]
      rw [eL]
      generalize hS : ((stA _ _ _, _) : St) = τ1
      have sA : ∀ a, (a < 2116 ∨ 2120 < a) → τ1.1 a = τ.1 a := fun a ha => by
        subst hS
        simp (disch := omega) only [stA_ne]
      have sr : τ1.2 = τ.2 := by subst hS; rfl
      have s16 : τ1.1 2116 = ups (τ.1 2116) 4 ((lsI s + 1 : Nat) : Int) := by
        subst hS
        simp (disch := decide) only [stA_ne, stA_eq]
        rw [show ((lsI s : Nat) : Int) + 1 = ((lsI s + 1 : Nat) : Int) by omega]
      have s17 : τ1.1 2117 = ups (τ.1 2117) (404 + lsI s) (m : Int) := by
        subst hS
        simp (disch := decide) only [stA_ne, stA_eq]
      have s18 : τ1.1 2118 = ups (τ.1 2118) (404 + lsI s) p := by
        subst hS
        simp (disch := decide) only [stA_ne, stA_eq]
      have s19 : τ1.1 2119 = ups (τ.1 2119) (404 + lsI s) t := by
        subst hS
        simp (disch := decide) only [stA_ne, stA_eq]
      have s20 : τ1.1 2120 = ups (τ.1 2120) (404 + lsI s) (d : Int) := by
        subst hS
        simp (disch := decide) only [stA_ne, stA_eq]
      clear hS
      have aX : agr dFM τ τ1 := fun a i h => by
        unfold dFM at h
        refine ⟨?_, by rw [sr], by rw [sr]⟩
        by_cases q : a < 2116 ∨ 2120 < a
        · rw [sA a q]
        · have : a = 2116 ∨ a = 2117 ∨ a = 2118 ∨ a = 2119 ∨ a = 2120 := by omega
          rcases this with e | e | e | e | e <;> subst e
          · rw [s16, ups_ne (by omega)]
          · rw [s17, ups_ne (by omega)]
          · rw [s18, ups_ne (by omega)]
          · rw [s19, ups_ne (by omega)]
          · rw [s20, ups_ne (by omega)]
      have hX1 : LYM τ1 4 Ms W (lsNew s m p t d) := by
        refine ⟨⟨by rw [sA 2115 (by decide)]; exact x15, by rw [s16, ups_eq]; rfl⟩, fun i hi => ?_, fun k hk => by rw [sA 2121 (by decide)]; exact xl k hk, fun g hg => ?_⟩
        · rw [s17, s18, s19, s20]
          show ups (τ.1 2117) (404 + lsI s) (m : Int) (404 + i) = ((ups (lsM s) (lsI s) m i : Nat) : Int) ∧ ups (τ.1 2118) (404 + lsI s) p (404 + i) = ups (lsP s) (lsI s) p i ∧ ups (τ.1 2119) (404 + lsI s) t (404 + i) = ups (lsT s) (lsI s) t i ∧ ups (τ.1 2120) (404 + lsI s) (d : Int) (404 + i) = ((ups (lsD s) (lsI s) d i : Nat) : Int)
          by_cases e : i = lsI s
          · subst e; simp only [ups_eq]; exact ⟨trivial, trivial, trivial, trivial⟩
          · rw [ups_ne (by omega), ups_ne e, ups_ne (by omega), ups_ne e, ups_ne (by omega), ups_ne e, ups_ne (by omega), ups_ne e]
            exact xi i (by have : i < lsI s + 1 := hi; omega)
        · obtain ⟨g1, ⟨g2, g3, g4⟩, g5, g6⟩ := xg g hg
          have eM : lsM (lsNew s m p t d) (lsi s g) = lsM s (lsi s g) := ups_ne (by omega)
          unfold kdS wdS wsG
          show lsi s g < lsI s + 1 ∧ (_ = ((mdkd (Ms (lsM (lsNew s m p t d) (lsi s g))) (lsth s g) : Nat) : Int) ∧ _ = ((mdwd (Ms (lsM (lsNew s m p t d) (lsi s g))) (lsth s g) : Nat) : Int) ∧ _ = ((mdws (Ms (lsM (lsNew s m p t d) (lsi s g))) (lsth s g) : Nat) : Int)) ∧ _
          rw [eM, sA 2122 (by decide), sA 2123 (by decide), sA 2124 (by decide), sA 2125 (by decide), sA 2126 (by decide)]
          exact ⟨by omega, ⟨g2, g3, g4⟩, g5, g6⟩
      -- the things
      have key : ∀ k y s1 τ1 W1 g, y + k = mdT (Ms m) → k < g → lsB s1 → lsI s < lsI s1 → lsM s1 (lsI s) = m → LYM τ1 4 Ms W1 s1 → agr dFM τ τ1 → wp (X15_lay_106 (G_X15_lay f) g (m : Int) (d : Int) 4 (lsI s : Int) (40 * (48 + (m : Int))) (y : Int)) τ1 (fun r τ' => agr dFM τ τ' ∧ ((r = 1 ∧ ∃ s', layT (layF Ms f) (Ms m) (lsI s) d k y s1 = some s' ∧ LYM τ' 4 Ms (fun k => W1 k ∨ (∃ y', y ≤ y' ∧ y' < mdT (Ms m) ∧ k = 40 * lsI s + y') ∨ newC Ms s1 s' k) s') ∨ (r = 0 ∧ layT (layF Ms f) (Ms m) (lsI s) d k y s1 = none))) := by
        intro k
        induction k with
        | zero =>
          intro y s1 τ1 W1 g hk hg hB1 hI1 hM1 hX1 hA
          obtain ⟨g', rfl⟩ : ∃ g', g = g' + 1 := ⟨g - 1, by omega⟩
          have m7 : τ1.1 2077 (48 + m) = (mdT (Ms m) : Int) := by rw [(hA 2077 (48 + m) (by unfold dFM; omega)).1]; exact (hmod m (Nat.le_refl _)).1.1
          rw [X15_lay_106, wp_bd, w32_i (x := 48 + (m : Int)) (by omega) (by omega), RI_2077 (by omega) (by omega), show (48 + (m : Int)).toNat = 48 + m by omega, m7, wp_ifp (by omega), c_rtZ (by decide) (by decide)]
          refine ⟨hA, Or.inl ⟨rfl, s1, rfl, hX1.sub (fun k hk => ?_)⟩⟩
          rcases hk with h | ⟨y', h1, h2, -⟩ | ⟨x, y', h1, h2, -⟩
          · exact h
          · omega
          · omega
        | succ k ihk =>
          intro y s1 τ1 W1 g hk hg hB1 hI1 hM1 hX1 hA
          obtain ⟨g', rfl⟩ : ∃ g', g = g' + 1 := ⟨g - 1, by omega⟩
          obtain ⟨⟨z15, z16⟩, zi, zl, zg⟩ := id hX1
          obtain ⟨b1, b2⟩ := id hB1
          have hmc := hmod m (Nat.le_refl _)
          have m7 : τ1.1 2077 (48 + m) = (mdT (Ms m) : Int) := by rw [(hA 2077 (48 + m) (by unfold dFM; omega)).1]; exact hmc.1.1
          obtain ⟨⟨k2, k3, k4, -⟩, k6, -⟩ := hmc.2.1 y (by omega)
          have m2 : τ1.1 2082 (40 * (48 + m) + y) = (mdkd (Ms m) y : Int) := by rw [(hA 2082 _ (by unfold dFM; omega)).1]; exact k2
          have m4 : τ1.1 2084 (40 * (48 + m) + y) = (mdws (Ms m) y : Int) := by rw [(hA 2084 _ (by unfold dFM; omega)).1]; exact k4
          have e40 : ∀ _ : Unit, w32 (40 * (48 + (m : Int)) + (y : Int)) = ((40 * (48 + m) + y : Nat) : Int) := fun _ => by rw [w32_i (by omega) (by omega)]; omega
          have eP : ∀ _ : Unit, w32 (w32 (40 * w32 (w32 (101 * 4) + (lsI s : Int))) + (y : Int)) = ((16160 + (40 * lsI s + y) : Nat) : Int) := fun _ => by rw [e1 (), w32_i (x := 40 * ((404 + lsI s : Nat) : Int)) (by omega) (by omega), w32_i (by omega) (by omega)]; omega
          rw [X15_lay_106, wp_bd, w32_i (x := 48 + (m : Int)) (by omega) (by omega), RI_2077 (by omega) (by omega), show (48 + (m : Int)).toNat = 48 + m by omega, m7, wp_ifn (by omega), wp_bd, e40 (), RI_2082 (by omega) (by omega), tn, m2, wp_lt, layT]
          -- behind one thing
          have nxt : ∀ (s2 : LYS) τ2 (W2 : Nat → Prop), lsB s2 → lsI s1 ≤ lsI s2 → (∀ x, x < lsI s1 → lsM s2 x = lsM s1 x) → (∀ k, W2 k ↔ (W1 k ∨ k = 40 * lsI s + y ∨ newC Ms s1 s2 k)) → LYM τ2 4 Ms W2 s2 → agr dFM τ τ2 → wp (X15_lay_320 (G_X15_lay f) (X15_lay_106 (G_X15_lay f) g') (m : Int) (d : Int) 4 (lsI s : Int) (40 * (48 + (m : Int))) (y : Int)) τ2 (fun r τ' => agr dFM τ τ' ∧ ((r = 1 ∧ ∃ s', layT (layF Ms f) (Ms m) (lsI s) d k (y + 1) s2 = some s' ∧ LYM τ' 4 Ms (fun k => W1 k ∨ (∃ y', y ≤ y' ∧ y' < mdT (Ms m) ∧ k = 40 * lsI s + y') ∨ newC Ms s1 s' k) s') ∨ (r = 0 ∧ layT (layF Ms f) (Ms m) (lsI s) d k (y + 1) s2 = none))) := by
            intro s2 τ2 W2 hB2 hI2 hM2 hW2 hX2 hA2
            rw [X15_lay_320, wp_lt, w32_i (by omega) (by omega), show (y : Int) + 1 = ((y + 1 : Nat) : Int) by omega]
            refine wp_mono (ihk (y + 1) s2 τ2 W2 g' (by omega) (by omega) hB2 (by omega) (by rw [hM2 _ hI1]; exact hM1) hX2 hA2) ?_
            rintro r τ' ⟨e0, h⟩
            refine ⟨e0, ?_⟩
            rcases h with ⟨er, s', e1, e2⟩ | h
            · have hI := layT_I (layF_I (Ms := Ms) f) _ _ _ _ e1
              refine Or.inl ⟨er, s', e1, e2.sub (fun q hq => ?_)⟩
              rcases hq with h | ⟨y', h1, h2, h3⟩ | ⟨x, y', h1, h2, h3, h4⟩
              · exact Or.inl ((hW2 q).mpr (Or.inl h))
              · by_cases e : y' = y
                · subst e; exact Or.inl ((hW2 q).mpr (Or.inr (Or.inl h3)))
                · exact Or.inr (Or.inl ⟨y', by omega, h2, h3⟩)
              · by_cases hx : x < lsI s2
                · refine Or.inl ((hW2 q).mpr (Or.inr (Or.inr ⟨x, y', h1, hx, ?_, h4⟩)))
                  rw [← hI.2 x hx]; exact h3
                · exact Or.inr (Or.inr ⟨x, y', by omega, h2, h3, h4⟩)
            · exact Or.inr h
          by_cases c5 : mdkd (Ms m) y = 5
          · have hp := hkd m y hm (by omega) c5
            have m6 : τ1.1 2086 (40 * (48 + m) + y) = (mdpt (Ms m) y : Int) := by rw [(hA 2086 _ (by unfold dFM; omega)).1]; exact k6 c5
            rw [wp_ifp (by omega), if_pos c5, wp_bd, RI_2116 (by decide) (by decide), toN4, z16, wp_bd, eP (), RV_2121 (by omega) (by omega), tn, wp_bd, RI_2086 (by omega) (by omega), tn]
            dsimp only
            rw [stA_ne (by decide), m6, w32_i (x := (d : Int) + 1) (by omega) (by omega), show (d : Int) + 1 = ((d + 1 : Nat) : Int) by omega, wp_bd]
            have hX2 : LYM (stA τ1.1 2121 (ups (τ1.1 2121) (16160 + (40 * lsI s + y)) (lsI s1 : Int)), τ1.2) 4 Ms (fun k => W1 k ∨ k = 40 * lsI s + y) (lsPut s1 (40 * lsI s + y) (lsI s1)) := by
              refine ⟨⟨by dsimp only; rw [stA_ne (by decide)]; exact z15, by dsimp only; rw [stA_ne (by decide)]; exact z16⟩, fun i hi => ?_, fun q hq => ?_, fun g hg => ?_⟩
              · dsimp only
                rw [stA_ne (by decide), stA_ne (by decide), stA_ne (by decide), stA_ne (by decide)]
                exact zi i hi
              · dsimp only
                rw [stA_eq]
                show ups (τ1.1 2121) (16160 + (40 * lsI s + y)) (lsI s1 : Int) (16160 + q) = ((ups (lsL s1) (40 * lsI s + y) (lsI s1) q : Nat) : Int)
                by_cases e : q = 40 * lsI s + y
                · subst e; rw [ups_eq, ups_eq]
                · rw [ups_ne (by omega), ups_ne e]
                  rcases hq with h | h
                  · exact zl q h
                  · exact absurd h e
              · dsimp only
                rw [stA_ne (by decide), stA_ne (by decide), stA_ne (by decide), stA_ne (by decide), stA_ne (by decide)]
                exact zg g hg
            have hA2 : agr dFM τ (stA τ1.1 2121 (ups (τ1.1 2121) (16160 + (40 * lsI s + y)) (lsI s1 : Int)), τ1.2) := hA.u (by unfold dFM; omega) _
            generalize ((stA τ1.1 2121 (ups (τ1.1 2121) (16160 + (40 * lsI s + y)) (lsI s1 : Int)), τ1.2) : St) = τ2 at hX2 hA2
            refine wp_mono (ih (lsPut s1 (40 * lsI s + y) (lsI s1)) (mdpt (Ms m) y) (lsI s : Int) (y : Int) (d + 1) τ2 (fun k => W1 k ∨ k = 40 * lsI s + y) (by omega) (by omega) hB1 (by omega) hX2 (fun x hx => (hmod x (by omega)).fr (h40 x) (hok x (by omega)).1 (hok x (by omega)).2.1 (hok x (by omega)).2.2 (agr.sub hA2 (fun a i h => stS_dFM h)))) ?_
            rintro r τ3 ⟨e3, h⟩
            rcases h with ⟨er, s3, e1, e2⟩ | ⟨er, e2⟩
            · subst er
              rw [e1, wp_ifn (by decide)]
              have hI := layF_I f _ _ _ _ _ _ e1
              exact nxt s3 τ3 _ (layF_B f _ _ _ _ _ _ (show lsB (lsPut s1 (40 * lsI s + y) (lsI s1)) from hB1) e1) hI.1 hI.2 (fun k => ⟨fun h => by
                rcases h with (h | h) | h
                · exact Or.inl h
                · exact Or.inr (Or.inl h)
                · exact Or.inr (Or.inr h), fun h => by
                rcases h with h | h | h
                · exact Or.inl (Or.inl h)
                · exact Or.inl (Or.inr h)
                · exact Or.inr h⟩) e2 (hA2.trans e3)
            · subst er
              rw [e2, wp_ifp rfl, c_rtZ (by decide) (by decide)]
              exact ⟨hA2.trans e3, Or.inr ⟨rfl, rfl⟩⟩
          · have m3 : τ1.1 2083 (40 * (48 + m) + y) = (mdwd (Ms m) y : Int) := by rw [(hA 2083 _ (by unfold dFM; omega)).1]; exact k3 c5
            rw [wp_ifn (by omega), if_neg c5, wp_bd, RI_2115 (by decide) (by decide), toN4, z15]
            by_cases c2 : lsG s1 = 200
            · rw [wp_ifp (by omega), if_pos c2, c_rtZ (by decide) (by decide)]
              exact ⟨hA, Or.inr ⟨rfl, rfl⟩⟩
            · have eG : ∀ _ : Unit, w32 (w32 (200 * 4) + (lsG s1 : Int)) = ((800 + lsG s1 : Nat) : Int) := fun _ => by rw [w32_i (x := 200 * 4) (by decide) (by decide), w32_i (by omega) (by omega)]; omega
              rw [wp_ifn (by omega), if_neg c2, wp_bd, RI_2115 (by decide) (by decide), toN4, z15, wp_lt, eG (), wp_bd, RI_2115 (by decide) (by decide), toN4, z15, wp_bd, eP (), RV_2121 (by omega) (by omega), tn]
              rw [wp_bd, RV_2122 (by omega) (by omega), tn, wp_bd, RI_2083 (by omega) (by omega), tn, wp_bd, RV_2123 (by omega) (by omega), tn, wp_bd, RI_2084 (by omega) (by omega), tn, wp_bd, RV_2124 (by omega) (by omega), tn, wp_bd, RV_2125 (by omega) (by omega), tn, wp_bd, RV_2126 (by omega) (by omega), tn, wp_bd, RI_2115 (by decide) (by decide), toN4, wp_bd, RV_2115 (by decide) (by decide), toN4]
              simp (disch := decide) only [stA_ne, m3, m4, z15]
              rw [w32_i (x := (lsG s1 : Int) + 1) (by omega) (by omega)]
              generalize hS : ((stA _ _ _, _) : St) = τ2
              have uA : ∀ a, a ≠ 2115 → (a < 2121 ∨ 2126 < a) → τ2.1 a = τ1.1 a := fun a q1 q2 => by
                subst hS
                simp (disch := omega) only [stA_ne]
              have ur : τ2.2 = τ1.2 := by subst hS; rfl
              have u15 : τ2.1 2115 = ups (τ1.1 2115) 4 ((lsG s1 + 1 : Nat) : Int) := by
                subst hS
                simp (disch := decide) only [stA_ne, stA_eq]
                rw [show ((lsG s1 : Nat) : Int) + 1 = ((lsG s1 + 1 : Nat) : Int) by omega]
              have u21 : τ2.1 2121 = ups (τ1.1 2121) (16160 + (40 * lsI s + y)) (lsG s1 : Int) := by
                subst hS
                simp (disch := decide) only [stA_ne, stA_eq]
              have u22 : τ2.1 2122 = ups (τ1.1 2122) (800 + lsG s1) (mdkd (Ms m) y : Int) := by
                subst hS
                simp (disch := decide) only [stA_ne, stA_eq]
              have u23 : τ2.1 2123 = ups (τ1.1 2123) (800 + lsG s1) (mdwd (Ms m) y : Int) := by
                subst hS
                simp (disch := decide) only [stA_ne, stA_eq]
              have u24 : τ2.1 2124 = ups (τ1.1 2124) (800 + lsG s1) (mdws (Ms m) y : Int) := by
                subst hS
                simp (disch := decide) only [stA_ne, stA_eq]
              have u25 : τ2.1 2125 = ups (τ1.1 2125) (800 + lsG s1) (lsI s : Int) := by
                subst hS
                simp (disch := decide) only [stA_ne, stA_eq]
              have u26 : τ2.1 2126 = ups (τ1.1 2126) (800 + lsG s1) (y : Int) := by
                subst hS
                simp (disch := decide) only [stA_ne, stA_eq]
              clear hS
              have hX2 : LYM τ2 4 Ms (fun k => W1 k ∨ k = 40 * lsI s + y) (lsSig s1 (lsI s) y) := by
                refine ⟨⟨by rw [u15, ups_eq]; rfl, by rw [uA 2116 (by decide) (by decide)]; exact z16⟩, fun i hi => ?_, fun q hq => ?_, fun g hg => ?_⟩
                · rw [uA 2117 (by decide) (by decide), uA 2118 (by decide) (by decide), uA 2119 (by decide) (by decide), uA 2120 (by decide) (by decide)]
                  exact zi i hi
                · rw [u21]
                  show ups (τ1.1 2121) (16160 + (40 * lsI s + y)) (lsG s1 : Int) (16160 + q) = ((ups (lsL s1) (40 * lsI s + y) (lsG s1) q : Nat) : Int)
                  by_cases e : q = 40 * lsI s + y
                  · subst e; rw [ups_eq, ups_eq]
                  · rw [ups_ne (by omega), ups_ne e]
                    rcases hq with h | h
                    · exact zl q h
                    · exact absurd h e
                · unfold kdS wdS wsG
                  show ups (lsi s1) (lsG s1) (lsI s) g < lsI s1 ∧ (τ2.1 2122 (800 + g) = ((mdkd (Ms (lsM s1 (ups (lsi s1) (lsG s1) (lsI s) g))) (ups (lsth s1) (lsG s1) y g) : Nat) : Int) ∧ τ2.1 2123 (800 + g) = ((mdwd (Ms (lsM s1 (ups (lsi s1) (lsG s1) (lsI s) g))) (ups (lsth s1) (lsG s1) y g) : Nat) : Int) ∧ τ2.1 2124 (800 + g) = ((mdws (Ms (lsM s1 (ups (lsi s1) (lsG s1) (lsI s) g))) (ups (lsth s1) (lsG s1) y g) : Nat) : Int)) ∧ τ2.1 2125 (800 + g) = ((ups (lsi s1) (lsG s1) (lsI s) g : Nat) : Int) ∧ τ2.1 2126 (800 + g) = ((ups (lsth s1) (lsG s1) y g : Nat) : Int)
                  rw [u22, u23, u24, u25, u26]
                  by_cases e : g = lsG s1
                  · subst e; simp only [ups_eq, hM1]; exact ⟨hI1, ⟨trivial, trivial, trivial⟩, trivial, trivial⟩
                  · rw [ups_ne e, ups_ne e, ups_ne (by omega), ups_ne (by omega), ups_ne (by omega), ups_ne (by omega), ups_ne (by omega)]
                    exact zg g (by have : g < lsG s1 + 1 := hg; omega)
              have hA2 : agr dFM τ1 τ2 := fun a i h => by
                unfold dFM at h
                refine ⟨?_, by rw [ur], by rw [ur]⟩
                by_cases q : a ≠ 2115 ∧ (a < 2121 ∨ 2126 < a)
                · rw [uA a q.1 q.2]
                · have : a = 2115 ∨ a = 2121 ∨ a = 2122 ∨ a = 2123 ∨ a = 2124 ∨ a = 2125 ∨ a = 2126 := by omega
                  rcases this with e | e | e | e | e | e | e <;> subst e
                  · rw [u15, ups_ne (by omega)]
                  · rw [u21, ups_ne (by omega)]
                  · rw [u22, ups_ne (by omega)]
                  · rw [u23, ups_ne (by omega)]
                  · rw [u24, ups_ne (by omega)]
                  · rw [u25, ups_ne (by omega)]
                  · rw [u26, ups_ne (by omega)]
              refine nxt _ τ2 _ ⟨b1, by show lsG s1 + 1 ≤ 200; omega⟩ (Nat.le_refl _) (fun _ _ => rfl) (fun k => ⟨fun h => by
                rcases h with h | h
                · exact Or.inl h
                · exact Or.inr (Or.inl h), fun h => by
                rcases h with h | h | ⟨x, y', h1, h2, -⟩
                · exact Or.inl h
                · exact Or.inr h
                · have h2' : x < lsI s1 := h2
                  omega⟩) hX2 (hA.trans hA2)
      refine wp_mono (key (mdT (Ms m)) 0 (lsNew s m p t d) τ1 W FU (by omega) (by omega) ⟨by show lsI s + 1 ≤ 101; omega, hB.2⟩ (Nat.lt_succ_self _) ups_eq hX1 aX) ?_
      rintro r τ' ⟨e0, h⟩
      refine ⟨e0, ?_⟩
      rcases h with ⟨er, s', e1, e2⟩ | h
      · have hI := layT_I (layF_I (Ms := Ms) f) _ _ _ _ e1
        have hI1 : lsI s + 1 ≤ lsI s' := hI.1
        have hM0 : lsM s' (lsI s) = m := (hI.2 (lsI s) (Nat.lt_succ_self _)).trans ups_eq
        refine Or.inl ⟨er, s', e1, e2.sub (fun q hq => ?_)⟩
        rcases hq with h | ⟨x, y', h1, h2, h3, h4⟩
        · exact Or.inl h
        · by_cases ex : x = lsI s
          · subst ex
            rw [hM0] at h3
            exact Or.inr (Or.inl ⟨y', Nat.zero_le _, h3, h4⟩)
          · exact Or.inr (Or.inr ⟨x, y', by show lsI s + 1 ≤ x; omega, h2, h3, h4⟩)
      · exact Or.inr h
end
