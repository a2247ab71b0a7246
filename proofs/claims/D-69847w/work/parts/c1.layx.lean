set_option maxRecDepth 100000
set_option maxHeartbeats 400000
/-! ===== designs: the component places insts and signals ===== -/
theorem bgI0 {σ : St} {a k : Nat} {v : Int} {Q : Int → St → Prop} (h : σ.1 a k = v) : wp (gI a k) σ Q = Q v σ := by rw [wp_gI, h]
/-- the component's rows hold s; of places those in W -/
def LYX (σ : St) (o : Nat) (W : Nat → Prop) (s : LYS) : Prop := (σ.1 o 7 = (lsI s : Int) ∧ σ.1 o 10 = (lsG s : Int)) ∧ (∀ i, i < lsI s → σ.1 (o + 2) i = (lsM s i : Int) ∧ σ.1 (o + 3) i = lsP s i ∧ σ.1 (o + 4) i = lsT s i ∧ σ.1 (o + 5) i = (lsD s i : Int)) ∧ (∀ k, W k → σ.1 (o + 6) k = (lsL s k : Int)) ∧ ∀ g, g < lsG s → σ.1 (o + 7) g = (lsi s g : Int) ∧ σ.1 (o + 8) g = (lsth s g : Int)
/-- what placing leaves alone -/
def dF (o a i : Nat) : Prop := ¬ ((a = o ∧ (i = 7 ∨ i = 10)) ∨ (o + 2 ≤ a ∧ a ≤ o + 8))
/-- the modules of a design -/
def MX (σ : St) (o : Nat) (Ms : Nat → ModV) : Prop := (∀ m, m < 12 → σ.2.2 (o + 1) m = some (o + 27 + 25 * m))
/-- the places of new insts -/
def newC (Ms : Nat → ModV) (s s' : LYS) (k : Nat) : Prop := ∃ x y, lsI s ≤ x ∧ x < lsI s' ∧ y < mdT (Ms (lsM s' x)) ∧ k = 40 * x + y
section
variable {Ms : Nat → ModV} {σ σ' : St} {o : Nat} {W W' : Nat → Prop} {s s' : LYS}
theorem LYX.sub (h : LYX σ o W s) (hs : ∀ k, W' k → W k) : LYX σ o W' s := ⟨h.1, h.2.1, fun k hk => h.2.2.1 k (hs k hk), h.2.2.2⟩
theorem layT_I {rec : LYS → Nat → Int → Int → Nat → Option LYS} {M : ModV} {i d : Nat} (hrec : ∀ s m p t d s', rec s m p t d = some s' → lsI s ≤ lsI s' ∧ ∀ x, x < lsI s → lsM s' x = lsM s x) : ∀ k t s s', layT rec M i d k t s = some s' → lsI s ≤ lsI s' ∧ ∀ x, x < lsI s → lsM s' x = lsM s x := by
  intro k
  induction k with
  | zero => intro t s s' h; cases h; exact ⟨Nat.le_refl _, fun _ _ => rfl⟩
  | succ k ih =>
    intro t s s' h
    rw [layT] at h
    by_cases c : mdkd M t = 5
    · rw [if_pos c] at h
      cases hr : rec (lsPut s (40 * i + t) (lsI s)) (mdpt M t) (i : Int) (t : Int) (d + 1) with
      | none => rw [hr] at h; cases h
      | some s1 =>
        rw [hr] at h
        have h1 := hrec _ _ _ _ _ _ hr
        have h2 := ih (t + 1) s1 s' h
        have e1 : lsI s ≤ lsI s1 := h1.1
        have e2 : ∀ x, x < lsI s → lsM s1 x = lsM s x := h1.2
        exact ⟨by omega, fun x hx => (h2.2 x (by omega)).trans (e2 x hx)⟩
    · rw [if_neg c] at h
      by_cases c2 : lsG s = 200
      · rw [if_pos c2] at h; cases h
      · rw [if_neg c2] at h
        exact ih (t + 1) (lsSig s i t) s' h
theorem layF_I : ∀ f s m p t d s', layF Ms f s m p t d = some s' → lsI s ≤ lsI s' ∧ ∀ x, x < lsI s → lsM s' x = lsM s x := by
  intro f
  induction f with
  | zero => intro s m p t d s' h; cases h
  | succ f ih =>
    intro s m p t d s' h
    rw [layF] at h
    by_cases c : 100 < lsI s
    · rw [if_pos c] at h; cases h
    · rw [if_neg c] at h
      have h1 := layT_I ih _ _ _ _ h
      have e1 : lsI s + 1 ≤ lsI s' := h1.1
      have e2 : ∀ x, x < lsI s + 1 → lsM s' x = ups (lsM s) (lsI s) m x := h1.2
      exact ⟨by omega, fun x hx => by rw [e2 x (by omega), ups_ne (by omega)]⟩
/-- bounds -/
def lsB (s : LYS) : Prop := lsI s ≤ 101 ∧ lsG s ≤ 200
theorem layT_B {rec : LYS → Nat → Int → Int → Nat → Option LYS} {M : ModV} {i d : Nat} (hrec : ∀ s m p t d s', lsB s → rec s m p t d = some s' → lsB s') : ∀ k t s s', lsB s → layT rec M i d k t s = some s' → lsB s' := by
  intro k
  induction k with
  | zero => intro t s s' hb h; cases h; exact hb
  | succ k ih =>
    intro t s s' hb h
    rw [layT] at h
    by_cases c : mdkd M t = 5
    · rw [if_pos c] at h
      cases hr : rec (lsPut s (40 * i + t) (lsI s)) (mdpt M t) (i : Int) (t : Int) (d + 1) with
      | none => rw [hr] at h; cases h
      | some s1 =>
        rw [hr] at h
        exact ih (t + 1) s1 s' (hrec _ _ _ _ _ _ (show lsB (lsPut s (40 * i + t) (lsI s)) from hb) hr) h
    · rw [if_neg c] at h
      by_cases c2 : lsG s = 200
      · rw [if_pos c2] at h; cases h
      · rw [if_neg c2] at h
        exact ih (t + 1) (lsSig s i t) s' ⟨hb.1, by show lsG s + 1 ≤ 200; have h3 : lsG s ≤ 200 := hb.2; omega⟩ h
theorem layF_B : ∀ f s m p t d s', lsB s → layF Ms f s m p t d = some s' → lsB s' := by
  intro f
  induction f with
  | zero => intro s m p t d s' _ h; cases h
  | succ f ih =>
    intro s m p t d s' hb h
    rw [layF] at h
    by_cases c : 100 < lsI s
    · rw [if_pos c] at h; cases h
    · rw [if_neg c] at h
      exact layT_B ih _ _ _ _ (show lsB (lsNew s m p t d) from ⟨by show lsI s + 1 ≤ 101; omega, hb.2⟩) h
theorem placeX {K : Nat} (hK : K ≤ 12) (hd : isD o) (h40 : ∀ m, mdT (Ms m) ≤ 40) (hkd : ∀ m t, m < K → t < mdT (Ms m) → mdkd (Ms m) t = 5 → mdpt (Ms m) t < m) : ∀ f s m (p t : Int) (d : Nat) σ W, m < K → m < f → lsB s → d + m ≤ 100 → LYX σ o W s → MX σ o Ms → (∀ x, x ≤ m → modX σ (o + 27 + 25 * x) (Ms x)) → wpE (G_X13_place f o (m : Int) p t (d : Int)) σ (fun _ σ' => ∃ s', layF Ms f s m p t d = some s' ∧ LYX σ' o (fun k => W k ∨ newC Ms s s' k) s' ∧ agr (dF o) σ σ') (fun x σ' => x = (1, 0, 0) ∧ layF Ms f s m p t d = none ∧ agr (dF o) σ σ') := by
  have hF := FU_ge
  intro f
  induction f with
  | zero => intro s m p t d σ W hm hmf; omega
  | succ f ih =>
    intro s m p t d σ W hm hmf hB hdm hX hMX hmod
    obtain ⟨⟨x7, x10⟩, xi, xl, xg⟩ := id hX
    have hm40 := h40 m
    show wpE (F_X13_place (G_X13_place f) o (m : Int) p t (d : Int)) σ _ _
    rw [F_X13_place, wpE_bd, wp_gI, x7]
    by_cases c : 100 < lsI s
    · rw [wpE_ifn (by omega), X13_place_15, wpE_bdE, F_X13_large, wpE_ifn (by decide), wpE_thw]
      exact ⟨rfl, by rw [layF, if_pos c], agr.refl⟩
    · rw [wpE_ifp (by omega), X13_place_15, wpE_bdE, F_X13_large, wpE_ifp rfl, wpE_lE, wp_rt, wpE_bd, wp_gI, x7, wpE_bd, wp_pI, wpE_lt, w32_i (by omega) (by omega)]
      rw [wpE_bd, DV_2 hd (by omega) (by omega), tn, wpE_bd, DV_3 hd (by omega) (by omega), tn, wpE_bd, DV_4 hd (by omega) (by omega), tn, wpE_bd, DV_5 hd (by omega) (by omega), tn, wpE_bd, DI_1 hd (by omega) (by omega), tn, wpE_lt]
      dsimp only
      rw [hMX m (by omega)]
      have eL : layF Ms (f + 1) s m p t d = layT (layF Ms f) (Ms m) (lsI s) d (mdT (Ms m)) 0 (lsNew s m p t d) := by rw [layF, if_neg c]
      rw [eL]
      generalize hS : ((stA _ _ _, σ.2) : St) = σ1
      have sA : ∀ a, (a < o ∨ o + 5 < a ∨ a = o + 1) → σ1.1 a = σ.1 a := fun a ha => by
        subst hS
        simp (disch := omega) only [stA_ne]
      have sr : σ1.2 = σ.2 := by subst hS; rfl
      have s0 : σ1.1 o = ups (σ.1 o) 7 ((lsI s + 1 : Nat) : Int) := by
        subst hS
        simp (disch := omega) only [stA_ne, stA_eq]
        rw [show ((lsI s : Nat) : Int) + 1 = ((lsI s + 1 : Nat) : Int) by omega]
      have s2 : σ1.1 (o + 2) = ups (σ.1 (o + 2)) (lsI s) (m : Int) := by
        subst hS
        simp (disch := omega) only [stA_ne, stA_eq]
      have s3 : σ1.1 (o + 3) = ups (σ.1 (o + 3)) (lsI s) p := by
        subst hS
        simp (disch := omega) only [stA_ne, stA_eq]
      have s4 : σ1.1 (o + 4) = ups (σ.1 (o + 4)) (lsI s) t := by
        subst hS
        simp (disch := omega) only [stA_ne, stA_eq]
      have s5 : σ1.1 (o + 5) = ups (σ.1 (o + 5)) (lsI s) (d : Int) := by
        subst hS
        simp (disch := omega) only [stA_ne, stA_eq]
      clear hS
      have aX : agr (dF o) σ σ1 := fun a i h => by
        unfold dF at h
        refine ⟨?_, by rw [sr], by rw [sr]⟩
        by_cases e : a = o
        · subst e; rw [s0, ups_ne (by omega)]
        · rw [sA a (by omega)]
      have hX1 : LYX σ1 o W (lsNew s m p t d) := by
        refine ⟨⟨by rw [s0, ups_eq]; rfl, by rw [s0, ups_ne (by decide)]; exact x10⟩, fun i hi => ?_, fun k hk => by rw [sA (o + 6) (by omega)]; exact xl k hk, fun g hg => by rw [sA (o + 7) (by omega), sA (o + 8) (by omega)]; exact xg g hg⟩
        rw [s2, s3, s4, s5]
        show ups (σ.1 (o + 2)) (lsI s) (m : Int) i = ((ups (lsM s) (lsI s) m i : Nat) : Int) ∧ ups (σ.1 (o + 3)) (lsI s) p i = ups (lsP s) (lsI s) p i ∧ ups (σ.1 (o + 4)) (lsI s) t i = ups (lsT s) (lsI s) t i ∧ ups (σ.1 (o + 5)) (lsI s) (d : Int) i = ((ups (lsD s) (lsI s) d i : Nat) : Int)
        by_cases e : i = lsI s
        · subst e; simp only [ups_eq]; exact ⟨trivial, trivial, trivial, trivial⟩
        · rw [ups_ne e, ups_ne e, ups_ne e, ups_ne e, ups_ne e, ups_ne e, ups_ne e, ups_ne e]
          exact xi i (by have : i < lsI s + 1 := hi; omega)
      -- the things
      have key : ∀ k y s1 σ1 W1 g, y + k = mdT (Ms m) → k < g → lsB s1 → LYX σ1 o W1 s1 → agr (dF o) σ σ1 → wpE (X13_place_75 o (G_X13_place f) g (d : Int) (lsI s : Int) (some (o + 27 + 25 * m)) (y : Int)) σ1 (fun _ σ' => ∃ s', layT (layF Ms f) (Ms m) (lsI s) d k y s1 = some s' ∧ LYX σ' o (fun k => W1 k ∨ (∃ y', y ≤ y' ∧ y' < mdT (Ms m) ∧ k = 40 * lsI s + y') ∨ newC Ms s1 s' k) s' ∧ agr (dF o) σ σ') (fun x σ' => x = (1, 0, 0) ∧ layT (layF Ms f) (Ms m) (lsI s) d k y s1 = none ∧ agr (dF o) σ σ') := by
        intro k
        induction k with
        | zero =>
          intro y s1 σ1 W1 g hk hg hB1 hX1 hA
          obtain ⟨g', rfl⟩ : ∃ g', g = g' + 1 := ⟨g - 1, by omega⟩
          have hMd := isMd_D hd (show m < 12 by omega)
          have m7 : σ1.1 (o + 27 + 25 * m) 7 = (mdT (Ms m) : Int) := by rw [(hA _ 7 (by unfold dF; omega)).1]; exact (hmod m (Nat.le_refl _)).1.1.1
          rw [X13_place_75, wpE_nn, wpE_ck, and_t (ly_Md hMd), wpE_bd, wp_gI, m7, wpE_ifp (by omega), wpE_lE, wp_rt]
          refine ⟨s1, rfl, hX1.sub (fun k hk => ?_), hA⟩
          rcases hk with h | ⟨y', h1, h2, -⟩ | ⟨x, y', h1, h2, -⟩
          · exact h
          · omega
          · omega
        | succ k ihk =>
          intro y s1 σ1 W1 g hk hg hB1 hX1 hA
          obtain ⟨g', rfl⟩ : ∃ g', g = g' + 1 := ⟨g - 1, by omega⟩
          obtain ⟨⟨z7, z10⟩, zi, zl, zg⟩ := id hX1
          obtain ⟨b1, b2⟩ := id hB1
          have hMd := isMd_D hd (show m < 12 by omega)
          have hmc := hmod m (Nat.le_refl _)
          have m7 : σ1.1 (o + 27 + 25 * m) 7 = (mdT (Ms m) : Int) := by rw [(hA _ 7 (by unfold dF; omega)).1]; exact hmc.1.1.1
          obtain ⟨⟨-, k4, -⟩, k8, -⟩ := hmc.2.1 y (by omega)
          have m4 : σ1.1 (o + 27 + 25 * m + 4) y = (mdkd (Ms m) y : Int) := by rw [(hA _ y (by unfold dF; omega)).1]; exact k4
          rw [X13_place_75, wpE_nn, wpE_ck, and_t (ly_Md hMd), wpE_bd, wp_gI, m7, wpE_ifn (by omega), wpE_bd, MI_4 hMd (by omega) (by omega), tn, m4, layT]
          -- behind one thing
          have nxt : ∀ (s2 : LYS) σ2 (W2 : Nat → Prop), lsB s2 → lsI s1 ≤ lsI s2 → (∀ x, x < lsI s1 → lsM s2 x = lsM s1 x) → (∀ k, W2 k ↔ (W1 k ∨ k = 40 * lsI s + y ∨ newC Ms s1 s2 k)) → LYX σ2 o W2 s2 → agr (dF o) σ σ2 → wpE (X13_place_205 o (G_X13_place f) (X13_place_75 o (G_X13_place f) g') (d : Int) (lsI s : Int) (o + 27 + 25 * m) (y : Int)) σ2 (fun _ σ' => ∃ s', layT (layF Ms f) (Ms m) (lsI s) d k (y + 1) s2 = some s' ∧ LYX σ' o (fun k => W1 k ∨ (∃ y', y ≤ y' ∧ y' < mdT (Ms m) ∧ k = 40 * lsI s + y') ∨ newC Ms s1 s' k) s' ∧ agr (dF o) σ σ') (fun x σ' => x = (1, 0, 0) ∧ layT (layF Ms f) (Ms m) (lsI s) d k (y + 1) s2 = none ∧ agr (dF o) σ σ') := by
            intro s2 σ2 W2 hB2 hI2 hM2 hW2 hX2 hA2
            rw [X13_place_205, wpE_lt, w32_i (by omega) (by omega), show (y : Int) + 1 = ((y + 1 : Nat) : Int) by omega]
            refine wpE_mono (ihk (y + 1) s2 σ2 W2 g' (by omega) (by omega) hB2 hX2 hA2) ?_ (fun _ _ h => h)
            rintro _ σ' ⟨s', e1, e2, e3⟩
            have hI := layT_I (layF_I (Ms := Ms) f) _ _ _ _ e1
            refine ⟨s', e1, e2.sub (fun q hq => ?_), e3⟩
            rcases hq with h | ⟨y', h1, h2, h3⟩ | ⟨x, y', h1, h2, h3, h4⟩
            · exact Or.inl ((hW2 q).mpr (Or.inl h))
            · by_cases e : y' = y
              · subst e; exact Or.inl ((hW2 q).mpr (Or.inr (Or.inl h3)))
              · exact Or.inr (Or.inl ⟨y', by omega, h2, h3⟩)
            · by_cases hx : x < lsI s2
              · refine Or.inl ((hW2 q).mpr (Or.inr (Or.inr ⟨x, y', h1, hx, ?_, h4⟩)))
                rw [← hI.2 x hx]; exact h3
              · exact Or.inr (Or.inr ⟨x, y', by omega, h2, h3, h4⟩)
          by_cases c5 : mdkd (Ms m) y = 5
          · have hp := hkd m y hm (by omega) c5
            rw [wpE_ifp (by omega), if_pos c5, wpE_bd, wp_gI, z7, wpE_bd, w32_i (x := 40 * (lsI s : Int)) (by omega) (by omega), w32_i (by omega) (by omega), DV_6 hd (by omega) (by omega), show (40 * (lsI s : Int) + (y : Int)).toNat = 40 * lsI s + y by omega]
            have m8 : σ1.1 (o + 27 + 25 * m + 8) y = (mdpt (Ms m) y : Int) := by rw [(hA _ y (by unfold dF; omega)).1]; exact k8 c5
            rw [wpE_bd, MI_8 hMd (by omega) (by omega), tn]
            dsimp only
            rw [stA_ne (by omega), m8, w32_i (x := (d : Int) + 1) (by omega) (by omega), show (d : Int) + 1 = ((d + 1 : Nat) : Int) by omega, wpE_bdE]
            have hX2 : LYX (stA σ1.1 (o + 6) (ups (σ1.1 (o + 6)) (40 * lsI s + y) (lsI s1 : Int)), σ1.2) o (fun k => W1 k ∨ k = 40 * lsI s + y) (lsPut s1 (40 * lsI s + y) (lsI s1)) := by
              refine ⟨⟨by dsimp only; rw [stA_ne (by omega)]; exact z7, by dsimp only; rw [stA_ne (by omega)]; exact z10⟩, fun i hi => ?_, fun q hq => ?_, fun g hg => ?_⟩
              · dsimp only
                rw [stA_ne (by omega), stA_ne (by omega), stA_ne (by omega), stA_ne (by omega)]
                exact zi i hi
              · dsimp only
                rw [stA_eq]
                show ups (σ1.1 (o + 6)) (40 * lsI s + y) (lsI s1 : Int) q = ((ups (lsL s1) (40 * lsI s + y) (lsI s1) q : Nat) : Int)
                by_cases e : q = 40 * lsI s + y
                · subst e; rw [ups_eq, ups_eq]
                · rw [ups_ne e, ups_ne e]
                  rcases hq with h | h
                  · exact zl q h
                  · exact absurd h e
              · dsimp only
                rw [stA_ne (by omega), stA_ne (by omega)]
                exact zg g hg
            have hA2 : agr (dF o) σ (stA σ1.1 (o + 6) (ups (σ1.1 (o + 6)) (40 * lsI s + y) (lsI s1 : Int)), σ1.2) := hA.trans (agr.refl.u (by unfold dF; omega) _)
            generalize ((stA σ1.1 (o + 6) (ups (σ1.1 (o + 6)) (40 * lsI s + y) (lsI s1 : Int)), σ1.2) : St) = σ2 at hX2 hA2
            have hMX2 : MX σ2 o Ms := fun x hx => by rw [(hA2 (o + 1) x (by unfold dF; omega)).2.2]; exact hMX x hx
            refine wpE_mono (ih (lsPut s1 (40 * lsI s + y) (lsI s1)) (mdpt (Ms m) y) (lsI s : Int) (y : Int) (d + 1) σ2 (fun k => W1 k ∨ k = 40 * lsI s + y) (by omega) (by omega) hB1 (by omega) hX2 hMX2 (fun x hx => (hmod x (by omega)).fr (fun a q1 q2 => hA2.row (fun i => by unfold dF; omega)))) ?_ ?_
            · rintro _ σ3 ⟨s3, e1, e2, e3⟩
              rw [e1]
              have hI := layF_I f _ _ _ _ _ _ e1
              exact nxt s3 σ3 _ (layF_B f _ _ _ _ _ _ (show lsB (lsPut s1 (40 * lsI s + y) (lsI s1)) from hB1) e1) hI.1 hI.2 (fun k => ⟨fun h => by
                rcases h with (h | h) | h
                · exact Or.inl h
                · exact Or.inr (Or.inl h)
                · exact Or.inr (Or.inr h), fun h => by
                rcases h with h | h | h
                · exact Or.inl (Or.inl h)
                · exact Or.inl (Or.inr h)
                · exact Or.inr h⟩) e2 (hA2.trans e3)
            · rintro x σ3 ⟨e1, e2, e3⟩
              rw [e2]
              exact ⟨e1, rfl, hA2.trans e3⟩
          · rw [wpE_ifn (by omega), if_neg c5, wpE_bd, wp_gI, z10]
            by_cases c2 : lsG s1 = 200
            · rw [wpE_ifp (by omega), if_pos c2, X13_place_153, wpE_bdE, F_X13_large, wpE_ifn (by decide), wpE_thw]
              exact ⟨rfl, rfl, hA⟩
            · rw [wpE_ifn (by omega), if_neg c2, X13_place_153, wpE_bdE, F_X13_large, wpE_ifp rfl, wpE_lE, wp_rt, wpE_bd, wp_gI, z10, wpE_bd, w32_i (x := 40 * (lsI s : Int)) (by omega) (by omega), w32_i (by omega) (by omega), DV_6 hd (by omega) (by omega), show (40 * (lsI s : Int) + (y : Int)).toNat = 40 * lsI s + y by omega]
              rw [wpE_bd, bgI0 (v := (lsG s1 : Int)) (by dsimp only; rw [stA_ne (by omega)]; exact z10), wpE_bd, DV_7 hd (by omega) (by omega), tn]
              rw [wpE_bd, bgI0 (v := (lsG s1 : Int)) (by dsimp only; rw [stA_ne (by omega), stA_ne (by omega)]; exact z10), wpE_bd, DV_8 hd (by omega) (by omega), tn]
              rw [wpE_bd, bgI0 (v := (lsG s1 : Int)) (by dsimp only; rw [stA_ne (by omega), stA_ne (by omega), stA_ne (by omega)]; exact z10), wpE_bd, wp_pI, w32_i (by omega) (by omega)]
              generalize hS : ((stA _ _ _, _) : St) = σ2
              have uA : ∀ a, a ≠ o → a ≠ o + 6 → a ≠ o + 7 → a ≠ o + 8 → σ2.1 a = σ1.1 a := fun a q1 q2 q3 q4 => by
                subst hS
                simp (disch := assumption) only [stA_ne]
              have ur : σ2.2 = σ1.2 := by subst hS; rfl
              have u0 : σ2.1 o = ups (σ1.1 o) 10 ((lsG s1 + 1 : Nat) : Int) := by
                subst hS
                simp (disch := omega) only [stA_ne, stA_eq]
                rw [show ((lsG s1 : Nat) : Int) + 1 = ((lsG s1 + 1 : Nat) : Int) by omega]
              have u6 : σ2.1 (o + 6) = ups (σ1.1 (o + 6)) (40 * lsI s + y) (lsG s1 : Int) := by
                subst hS
                simp (disch := omega) only [stA_ne, stA_eq]
              have u7 : σ2.1 (o + 7) = ups (σ1.1 (o + 7)) (lsG s1) (lsI s : Int) := by
                subst hS
                simp (disch := omega) only [stA_ne, stA_eq]
              have u8 : σ2.1 (o + 8) = ups (σ1.1 (o + 8)) (lsG s1) (y : Int) := by
                subst hS
                simp (disch := omega) only [stA_ne, stA_eq]
              clear hS
              have hX2 : LYX σ2 o (fun k => W1 k ∨ k = 40 * lsI s + y) (lsSig s1 (lsI s) y) := by
                refine ⟨⟨by rw [u0, ups_ne (by decide)]; exact z7, by rw [u0, ups_eq]; rfl⟩, fun i hi => ?_, fun q hq => ?_, fun g hg => ?_⟩
                · rw [uA (o + 2) (by omega) (by omega) (by omega) (by omega), uA (o + 3) (by omega) (by omega) (by omega) (by omega), uA (o + 4) (by omega) (by omega) (by omega) (by omega), uA (o + 5) (by omega) (by omega) (by omega) (by omega)]
                  exact zi i hi
                · rw [u6]
                  show ups (σ1.1 (o + 6)) (40 * lsI s + y) (lsG s1 : Int) q = ((ups (lsL s1) (40 * lsI s + y) (lsG s1) q : Nat) : Int)
                  by_cases e : q = 40 * lsI s + y
                  · subst e; rw [ups_eq, ups_eq]
                  · rw [ups_ne e, ups_ne e]
                    rcases hq with h | h
                    · exact zl q h
                    · exact absurd h e
                · rw [u7, u8]
                  show ups (σ1.1 (o + 7)) (lsG s1) (lsI s : Int) g = ((ups (lsi s1) (lsG s1) (lsI s) g : Nat) : Int) ∧ ups (σ1.1 (o + 8)) (lsG s1) (y : Int) g = ((ups (lsth s1) (lsG s1) y g : Nat) : Int)
                  by_cases e : g = lsG s1
                  · subst e; simp only [ups_eq]; exact ⟨trivial, trivial⟩
                  · rw [ups_ne e, ups_ne e, ups_ne e, ups_ne e]
                    exact zg g (by have : g < lsG s1 + 1 := hg; omega)
              have hA2 : agr (dF o) σ1 σ2 := fun a i h => by
                unfold dF at h
                refine ⟨?_, by rw [ur], by rw [ur]⟩
                by_cases e : a = o
                · subst e; rw [u0, ups_ne (by omega)]
                · rw [uA a e (by omega) (by omega) (by omega)]
              refine nxt _ σ2 _ ⟨b1, by show lsG s1 + 1 ≤ 200; omega⟩ (Nat.le_refl _) (fun _ _ => rfl) (fun k => ⟨fun h => by
                rcases h with h | h
                · exact Or.inl h
                · exact Or.inr (Or.inl h), fun h => by
                rcases h with h | h | ⟨x, y', h1, h2, -⟩
                · exact Or.inl h
                · exact Or.inr h
                · have h2' : x < lsI s1 := h2
                  omega⟩) hX2 (hA.trans hA2)
      refine wpE_mono (key (mdT (Ms m)) 0 (lsNew s m p t d) σ1 W FU (by omega) (by omega) ⟨by show lsI s + 1 ≤ 101; omega, hB.2⟩ hX1 aX) ?_ (fun _ _ h => h)
      rintro _ σ' ⟨s', e1, e2, e3⟩
      have hI := layT_I (layF_I (Ms := Ms) f) _ _ _ _ e1
      have hI1 : lsI s + 1 ≤ lsI s' := hI.1
      have hM0 : lsM s' (lsI s) = m := (hI.2 (lsI s) (Nat.lt_succ_self _)).trans ups_eq
      refine ⟨s', e1, e2.sub (fun q hq => ?_), e3⟩
      rcases hq with h | ⟨x, y', h1, h2, h3, h4⟩
      · exact Or.inl h
      · by_cases ex : x = lsI s
        · subst ex
          rw [hM0] at h3
          exact Or.inr (Or.inl ⟨y', Nat.zero_le _, h3, h4⟩)
        · exact Or.inr (Or.inr ⟨x, y', by show lsI s + 1 ≤ x; omega, h2, h3, h4⟩)
end
