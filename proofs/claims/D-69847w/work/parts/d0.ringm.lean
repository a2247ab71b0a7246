set_option maxRecDepth 100000
set_option maxHeartbeats 400000
/-! ===== designs: rings; the twin ===== -/
/-- a search backwards from g: queue q of c, t of them done, distances f -/
def BI (H : Nat → Nat → Prop) (n g : Nat) (q : Nat → Nat) (f : Nat → Int) (c t : Nat) : Prop := (0 < c ∧ q 0 = g ∧ t ≤ c ∧ c = cntB (fun k => decide (f k ≠ -1)) n) ∧ (∀ i, i < c → q i < n ∧ f (q i) = (dst H n g (q i) : Int) ∧ dst H n g (q i) < n) ∧ (∀ k, k < n → f k = -1 ∨ ∃ i, i < c ∧ q i = k) ∧ (∀ i j, i ≤ j → j < c → dst H n g (q i) ≤ dst H n g (q j)) ∧ ∀ i k, i < t → k < n → H k (q i) → f k ≠ -1
section
variable {H : Nat → Nat → Prop} {n g c t : Nat} {q : Nat → Nat} {f : Nat → Int}
/-- what is no farther than the one at hand was met -/
theorem BI.old (h : BI H n g q f c t) {D : Nat} (hD : ∀ i, i < c → dst H n g (q i) < D → i < t) : ∀ d k, d ≤ D → k < n → dst H n g k = d → d < n → f k ≠ -1 := by
  obtain ⟨⟨h1, h2, h3, h4⟩, h5, h6, h7, h8⟩ := h
  intro d
  induction d with
  | zero =>
    intro k _ hk hd hn
    have e : k = g := dst_0 (by omega) hd
    rw [e, ← h2, (h5 0 h1).2.1]
    omega
  | succ d ih =>
    intro k hdD hk hd hn
    obtain ⟨u, u1, u2, u3⟩ := dst_next (H := H) (n := n) (g := g) (s := k) (by omega) (by omega)
    have hu := ih u (by omega) u1 (by omega) (by omega)
    rcases h6 u u1 with e | ⟨i, i1, i2⟩
    · exact absurd e hu
    · have := hD i i1 (by rw [i2]; omega)
      exact h8 i k this hk (by rw [i2]; exact u2)
theorem BI.end (h : BI H n g q f c c) : ∀ k, k < n → f k = if dst H n g k < n then (dst H n g k : Int) else -1 := by
  intro k hk
  by_cases e : dst H n g k < n
  · rw [if_pos e]
    have := h.old (D := n) (fun i hi _ => hi) _ k (by omega) hk rfl e
    rcases h.2.2.1 k hk with e2 | ⟨i, i1, i2⟩
    · exact absurd e2 this
    · have := (h.2.1 i i1).2.1
      rw [i2] at this
      exact this
  · rw [if_neg e]
    rcases h.2.2.1 k hk with e2 | ⟨i, i1, i2⟩
    · exact e2
    · have := (h.2.1 i i1).2.2
      rw [i2] at this
      exact absurd this e
/-- one more is met -/
theorem BI.new (h : BI H n g q f c t) (hg : g < n) {t0 k : Nat} (ht0 : t0 < c) (ht : t ≤ t0 + 1) (hall : ∀ i, i < t0 → i < t) (hnear : ∀ j, j < c → dst H n g (q j) ≤ dst H n g (q t0) + 1) (hk : k < n) (hH : H k (q t0)) (hf : f k = -1) : BI H n g (ups q c k) (ups f k (f (q t0) + 1)) (c + 1) t ∧ (∀ j, j < c + 1 → dst H n g (ups q c k j) ≤ dst H n g (ups q c k t0) + 1) := by
  obtain ⟨⟨h1, h2, h3, h4⟩, h5, h6, h7, h8⟩ := id h
  obtain ⟨a1, a2, a3⟩ := h5 t0 ht0
  have hqk : ∀ i, i < c → q i ≠ k := fun i hi e => by
    have := (h5 i hi).2.1
    rw [e, hf] at this
    omega
  have d1 : dst H n g k ≤ dst H n g (q t0) + 1 := dst_step hk hg a1 hH a3
  have d2 : dst H n g k < n := dst_lt hg hk (l := dst H n g (q t0) + 1) ⟨_, a1, hH, dst_ph a3⟩
  have d3 : dst H n g k = dst H n g (q t0) + 1 := by
    rcases Nat.lt_or_ge (dst H n g (q t0)) (dst H n g k) with w | w
    · omega
    · refine absurd hf (h.old (D := dst H n g (q t0)) (fun i hi hlt => ?_) _ k w hk rfl d2)
      rcases Nat.lt_or_ge i t0 with w2 | w2
      · exact hall i w2
      · have := h7 t0 i w2 hi
        omega
  have hc1 : ∀ i, i < c → ups q c k i = q i := fun i hi => ups_ne (by omega)
  refine ⟨⟨⟨by omega, by rw [hc1 0 h1]; exact h2, by omega, ?_⟩, fun i hi => ?_, fun x hx => ?_, fun i j hij hj => ?_, fun i x hi hx hHx => ?_⟩, fun j hj => ?_⟩
  · have e : (fun x => decide (ups f k (f (q t0) + 1) x ≠ -1)) = ups (fun x => decide (f x ≠ -1)) k true := by
      funext x
      by_cases ex : x = k
      · subst ex
        rw [ups_eq, ups_eq, a2]
        exact decide_eq_true (by omega)
      · rw [ups_ne ex, ups_ne ex]
    rw [e, cntB_up (decide_eq_false (by rw [hf]; exact fun z => z rfl)) n hk, ← h4]
  · by_cases e : i = c
    · subst e
      rw [ups_eq, ups_eq, a2]
      exact ⟨hk, by omega, d2⟩
    · rw [ups_ne e, ups_ne (hqk i (by omega))]
      exact h5 i (by omega)
  · by_cases e : x = k
    · subst e
      exact Or.inr ⟨c, Nat.lt_succ_self c, ups_eq⟩
    · rw [ups_ne e]
      rcases h6 x hx with w | ⟨i, i1, i2⟩
      · exact Or.inl w
      · exact Or.inr ⟨i, by omega, by rw [hc1 i i1]; exact i2⟩
  · by_cases e : j = c
    · subst e
      rw [ups_eq]
      by_cases e2 : i = j
      · subst e2; rw [ups_eq]; exact Nat.le_refl _
      · rw [ups_ne e2]
        have := hnear i (by omega)
        omega
    · rw [hc1 j (by omega), hc1 i (by omega)]
      exact h7 i j hij (by omega)
  · rw [hc1 i (by omega)] at hHx
    by_cases e : x = k
    · subst e; rw [ups_eq, a2]; omega
    · rw [ups_ne e]; exact h8 i x hi hx hHx
  · rw [hc1 t0 ht0]
    by_cases e : j = c
    · subst e; rw [ups_eq]; omega
    · rw [hc1 j (by omega)]; exact hnear j (by omega)
theorem onR_iff (hg : g < n) : onR H n g ↔ ∃ z, z < n ∧ H g z ∧ dst H n g z < n := ⟨fun ⟨l, u, h1, h2, h3⟩ => ⟨u, h1, h2, dst_lt hg h1 h3⟩, fun ⟨z, h1, h2, h3⟩ => ⟨_, z, h1, h2, dst_ph h3⟩⟩
end
def qF (a : Nat) (_ : Nat) : Prop := a ≠ 2136 ∧ a ≠ 2137
section
variable {τ : St} {H : Nat → Nat → Prop} {n g : Nat}
theorem e200 {x y : Nat} (hx : x < 200) (hy : y < 200) : w32 (w32 (200 * (x : Int)) + (y : Int)) = ((200 * x + y : Nat) : Int) := by
  rw [w32_i (x := 200 * (x : Int)) (by omega) (by omega), w32_i (by omega) (by omega)]
  omega
theorem hm_rd {τ1 : St} (hH : HM (τ1.1 2135) H) {x y : Nat} (hx : x < 200) (hy : y < 200) {Q : Int → St → Prop} (h1 : H x y → Q 1 τ1) (h0 : ¬ H x y → Q 0 τ1) : wp (rdB 2135 (w32 (w32 (200 * (x : Int)) + (y : Int)))) τ1 Q := by
  rw [e200 hx hy, RI_2135 (by omega) (by omega), tn]
  by_cases c : H x y
  · rw [(hH x y hx hy).1 c]; exact h1 c
  · rw [(hH x y hx hy).2 c]; exact h0 c
theorem measM (hn : n ≤ 200) (hg : g < n) (hH : HM (τ.1 2135) H) : wp (F_X15_measure (g : Int) (n : Int)) τ (fun _ τ' => agr qF τ τ' ∧ ∀ k, k < n → τ'.1 2136 k = if dst H n g k < n then (dst H n g k : Int) else -1) := by
  have hFU := FU_ge
  have hH' : ∀ τ1, agr qF τ τ1 → HM (τ1.1 2135) H := fun τ1 hA => by rw [hA.row (a := 2135) (fun i => by unfold qF; decide)]; exact hH
  have key : ∀ k t c fu τ1 (q : Nat → Nat) (f : Nat → Int), t + k = n → k < fu → agr qF τ τ1 → (∀ i, i < c → τ1.1 2137 i = (q i : Int)) → (∀ x, x < n → τ1.1 2136 x = f x) → BI H n g q f c t → (t < c → ∀ j, j < c → dst H n g (q j) ≤ dst H n g (q t) + 1) → wp (X15_measure_41 fu (n : Int) (t : Int) (c : Int)) τ1 (fun _ τ' => agr qF τ τ' ∧ ∀ k, k < n → τ'.1 2136 k = if dst H n g k < n then (dst H n g k : Int) else -1) := by
    intro k
    induction k with
    | zero =>
      intro t c fu τ1 q f ht hfu hA hq hf hB hN
      obtain ⟨fu', rfl⟩ : ∃ fu', fu = fu' + 1 := ⟨fu - 1, by omega⟩
      have hc : c ≤ n := by rw [hB.1.2.2.2]; exact cntB_le _ n
      have htc := hB.1.2.2.1
      have etc : t = c := by omega
      rw [X15_measure_41, wp_ifp (by omega), wp_rt]
      subst etc
      exact ⟨hA, fun k hk => by rw [hf k hk]; exact hB.end k hk⟩
    | succ k ih =>
      intro t c fu τ1 q f ht hfu hA hq hf hB hN
      obtain ⟨fu', rfl⟩ : ∃ fu', fu = fu' + 1 := ⟨fu - 1, by omega⟩
      have htc := hB.1.2.2.1
      by_cases etc : t = c
      · rw [X15_measure_41, wp_ifp (by omega), wp_rt]
        subst etc
        exact ⟨hA, fun k hk => by rw [hf k hk]; exact hB.end k hk⟩
      · have hql : q t < n := (hB.2.1 t (by omega)).1
        have hcn : c ≤ n := by rw [hB.1.2.2.2]; exact cntB_le _ n
        rw [X15_measure_41, wp_ifn (by omega), wp_bd, RI_2137 (by omega) (by omega), tn, hq t (by omega), wp_lt, wp_lt, w32_i (by omega) (by omega), wp_lt, show (t : Int) + 1 = ((t + 1 : Nat) : Int) by omega]
        have inner : ∀ k2 x f2 c τ2 (q2 : Nat → Nat) (f : Nat → Int), x + k2 = n → k2 < f2 → agr qF τ τ2 → q2 t = q t → t < c → (∀ i, i < c → τ2.1 2137 i = (q2 i : Int)) → (∀ x, x < n → τ2.1 2136 x = f x) → BI H n g q2 f c t → (∀ j, j < c → dst H n g (q2 j) ≤ dst H n g (q2 t) + 1) → (∀ k, k < x → H k (q t) → f k ≠ -1) → wp (X15_measure_61 (X15_measure_41 fu') f2 (n : Int) ((t + 1 : Nat) : Int) (c : Int) (q t : Int) (x : Int)) τ2 (fun _ τ' => agr qF τ τ' ∧ ∀ k, k < n → τ'.1 2136 k = if dst H n g k < n then (dst H n g k : Int) else -1) := by
          intro k2
          induction k2 with
          | zero =>
            intro x f2 c τ2 q2 f hx hf2 hA2 hqt htc2 hq2 hf' hB2 hnear hdone
            obtain ⟨f2', rfl⟩ : ∃ f2', f2 = f2' + 1 := ⟨f2 - 1, by omega⟩
            rw [X15_measure_61, wp_ifp (by omega)]
            obtain ⟨⟨b1, b2, b3, b4⟩, b5, b6, b7, b8⟩ := hB2
            refine ih (t + 1) c fu' τ2 q2 f (by omega) (by omega) hA2 hq2 hf' ⟨⟨b1, b2, by omega, b4⟩, b5, b6, b7, fun i k hi hk hHk => ?_⟩ (fun h1 j hj => Nat.le_trans (hnear j hj) (Nat.succ_le_succ (b7 t (t + 1) (Nat.le_succ t) h1)))
            by_cases e : i = t
            · subst e
              rw [hqt] at hHk
              exact hdone k (by omega) hHk
            · exact b8 i k (by omega) hk hHk
          | succ k2 ih2 =>
            intro x f2 c τ2 q2 f hx hf2 hA2 hqt htc2 hq2 hf' hB2 hnear hdone
            obtain ⟨f2', rfl⟩ : ∃ f2', f2 = f2' + 1 := ⟨f2 - 1, by omega⟩
            have hxl : x < n := by omega
            have stay : (H x (q t) → f x ≠ -1) → wp (X15_measure_122 (X15_measure_41 fu') (X15_measure_61 (X15_measure_41 fu') f2') (n : Int) ((t + 1 : Nat) : Int) (c : Int) (q t : Int) (x : Int)) τ2 (fun _ τ' => agr qF τ τ' ∧ ∀ k, k < n → τ'.1 2136 k = if dst H n g k < n then (dst H n g k : Int) else -1) := by
              intro hno
              rw [X15_measure_122, wp_lt, w32_i (by omega) (by omega), show (x : Int) + 1 = ((x + 1 : Nat) : Int) by omega]
              refine ih2 (x + 1) f2' c τ2 q2 f (by omega) (by omega) hA2 hqt htc2 hq2 hf' hB2 hnear (fun k hk hHk => ?_)
              by_cases e : k = x
              · subst e; exact hno hHk
              · exact hdone k (by omega) hHk
            rw [X15_measure_61, wp_ifn (by omega), wp_bd]
            refine hm_rd (hH' τ2 hA2) (by omega) (by omega) (fun hHx => ?_) (fun hHx => ?_)
            · rw [wp_ifn (by decide), wp_bd, RI_2136 (by omega) (by omega), tn, hf' x hxl]
              rcases hB2.2.2.1 x hxl with e | ⟨i, i1, i2⟩
              · obtain ⟨a1, a2, a3⟩ := hB2.2.1 t htc2
                have hx2 : H x (q2 t) := by rw [hqt]; exact hHx
                obtain ⟨n1, n2⟩ := hB2.new hg htc2 (by omega) (fun i hi => hi) hnear hxl hx2 e
                have hc1 : c + 1 ≤ n := by rw [n1.1.2.2.2]; exact cntB_le _ n
                have hql2 : q2 t < n := a1
                rw [wp_ifn (by omega), wp_bd, RI_2136 (by omega) (by omega), tn, hf' _ hql, ← hqt, a2, wp_bd, RV_2136 (by omega) (by omega), tn, wp_bd, RV_2137 (by omega) (by omega), tn, wp_lt, w32_i (by omega) (by omega), w32_i (by omega) (by omega), X15_measure_122, wp_lt, w32_i (by omega) (by omega), show (x : Int) + 1 = ((x + 1 : Nat) : Int) by omega, show (c : Int) + 1 = ((c + 1 : Nat) : Int) by omega, hqt]
                refine ih2 (x + 1) f2' (c + 1) _ (ups q2 c x) (ups f x (f (q2 t) + 1)) (by omega) (by omega) ((hA2.w (fun k hk => absurd rfl hk.1)).w (fun k hk => absurd rfl hk.2)) (by rw [ups_ne (by omega)]; exact hqt) (by omega) (fun i hi => ?_) (fun y hy => ?_) n1 n2 (fun k hk hHk => ?_)
                · dsimp only
                  rw [stA_eq, stA_ne (by decide)]
                  by_cases e2 : i = c
                  · subst e2; rw [ups_eq, ups_eq]
                  · rw [ups_ne e2, ups_ne e2]; exact hq2 i (by omega)
                · dsimp only
                  rw [stA_ne (by decide), stA_eq]
                  by_cases e2 : y = x
                  · subst e2; rw [ups_eq, ups_eq, a2, hqt]
                  · rw [ups_ne e2, ups_ne e2]; exact hf' y hy
                · by_cases e2 : k = x
                  · subst e2; rw [ups_eq, a2]; omega
                  · rw [ups_ne e2]; exact hdone k (by omega) hHk
              · have := (hB2.2.1 i i1).2.1
                rw [i2] at this
                rw [wp_ifp (by omega)]
                exact stay (fun _ => by omega)
            · rw [wp_ifp rfl]
              exact stay (fun h => absurd h hHx)
        exact inner n 0 FU c τ1 q f (by omega) (by omega) hA rfl (by omega) hq hf hB (hN (by omega)) (fun k hk => absurd hk (Nat.not_lt_zero k))
  have first : ∀ k x fu τ1, x + k = n → k < fu → agr qF τ τ1 → (∀ y, y < x → τ1.1 2136 y = if y = g then 0 else -1) → wp (X15_measure_2 fu (g : Int) (n : Int) (x : Int)) τ1 (fun _ τ' => agr qF τ τ' ∧ ∀ k, k < n → τ'.1 2136 k = if dst H n g k < n then (dst H n g k : Int) else -1) := by
    intro k
    induction k with
    | zero =>
      intro x fu τ1 hx hfu hA hr
      obtain ⟨fu', rfl⟩ : ∃ fu', fu = fu' + 1 := ⟨fu - 1, by omega⟩
      rw [X15_measure_2, wp_ifp (by omega), X15_measure_29, wp_lt, wp_lt, wp_bd, RV_2137 (by decide) (by decide), tn0]
      have dg : dst H n g g = 0 := dst_g (by omega)
      refine key n 0 1 FU _ (fun _ => g) (fun y => if y = g then 0 else -1) (by omega) (by omega) (hA.w (fun k hk => absurd rfl hk.2)) (fun i hi => ?_) (fun y hy => ?_) ⟨⟨by decide, rfl, by decide, ?_⟩, fun i hi => ⟨hg, ?_, ?_⟩, fun k hk => ?_, fun i j _ _ => Nat.le_refl _, fun i k hi => absurd hi (Nat.not_lt_zero i)⟩ (fun _ j _ => Nat.le_succ _)
      · dsimp only
        rw [stA_eq, show i = 0 by omega, ups_eq]
      · dsimp only
        rw [stA_ne (by decide)]; exact hr y (by omega)
      · have e : (fun k => decide ((if k = g then (0 : Int) else -1) ≠ -1)) = ups (fun _ => false) g true := by
          funext k
          by_cases e : k = g
          · subst e; rw [ups_eq, if_pos rfl]; rfl
          · rw [ups_ne e, if_neg e]; rfl
        rw [e, cntB_up rfl n hg, cntB_none n (fun _ _ => rfl)]
      · show (if g = g then (0 : Int) else -1) = (dst H n g g : Int)
        rw [if_pos rfl, dg]; rfl
      · show dst H n g g < n
        rw [dg]; omega
      · by_cases e : k = g
        · exact Or.inr ⟨0, by decide, e.symm⟩
        · exact Or.inl (if_neg e)
    | succ k ih =>
      intro x fu τ1 hx hfu hA hr
      obtain ⟨fu', rfl⟩ : ∃ fu', fu = fu' + 1 := ⟨fu - 1, by omega⟩
      rw [X15_measure_2, wp_ifn (by omega)]
      have put : ∀ v : Int, v = (if x = g then 0 else -1) → wp (X15_measure_22 (X15_measure_2 fu') (g : Int) (n : Int) (x : Int) (x : Int) v) τ1 (fun _ τ' => agr qF τ τ' ∧ ∀ k, k < n → τ'.1 2136 k = if dst H n g k < n then (dst H n g k : Int) else -1) := by
        intro v hv
        rw [X15_measure_22, wp_bd, RV_2136 (by omega) (by omega), tn, wp_lt, w32_i (by omega) (by omega), show (x : Int) + 1 = ((x + 1 : Nat) : Int) by omega]
        refine ih (x + 1) fu' _ (by omega) (by omega) (hA.w (fun k hk => absurd rfl hk.1)) (fun y hy => ?_)
        dsimp only
        rw [stA_eq]
        by_cases e : y = x
        · subst e; rw [ups_eq, hv]
        · rw [ups_ne e]; exact hr y (by omega)
      by_cases e : x = g
      · rw [wp_ifp (by omega)]; exact put 0 (by rw [if_pos e])
      · rw [wp_ifn (by omega)]; exact put (-1) (by rw [if_neg e])
  rw [F_X15_measure, wp_lt]
  exact first n 0 FU τ (by omega) (by omega) agr.refl (fun y hy => absurd hy (Nat.not_lt_zero y))
def gM (a i : Nat) : Prop := ¬ (a = 2134 ∨ a = 2136 ∨ a = 2137 ∨ (a = 2075 ∧ i = 78))
theorem ringM (hn : n ≤ 200) (h15 : τ.1 2115 4 = (n : Int)) (hH : HM (τ.1 2135) H) {Q : Int → St → Prop} (hno : ∀ τ', agr qF τ τ' → (∀ g, g < n → ¬ onR H n g) → Q 0 τ') (hyes : ∀ τ' g, agr gM τ τ' → g < n → onR H n g → (∀ x, x < g → ¬ onR H n x) → τ'.1 2075 78 = ((rBest H n g + 1 : Nat) : Int) → (∀ j, j ≤ rBest H n g → τ'.1 2134 j = (rng H n g j : Int)) → Q 1 τ') : wp F_X15_hasRing τ Q := by
  have hFU := FU_ge
  have hH' : ∀ τ1, agr gM τ τ1 → HM (τ1.1 2135) H := fun τ1 hA => by rw [hA.row (a := 2135) (fun i => by unfold gM; omega)]; exact hH
  have qg : ∀ a i, gM a i → qF a i := fun a i h => by
    unfold gM at h
    unfold qF
    omega
  have key : ∀ k g fu τ1, g + k = n → k < fu → agr qF τ τ1 → (∀ x, x < g → ¬ onR H n x) → wp (X15_hasRing_9 fu (n : Int) (g : Int)) τ1 Q := by
    intro k
    induction k with
    | zero =>
      intro g fu τ1 hg hfu hA hnr
      obtain ⟨fu', rfl⟩ : ∃ fu', fu = fu' + 1 := ⟨fu - 1, by omega⟩
      rw [X15_hasRing_9, wp_ifp (by omega), c_rtZ (by decide) (by decide)]
      exact hno τ1 hA (fun g' hg' => hnr g' (by omega))
    | succ k ih =>
      intro g fu τ1 hg hfu hA hnr
      obtain ⟨fu', rfl⟩ : ∃ fu', fu = fu' + 1 := ⟨fu - 1, by omega⟩
      have hgl : g < n := by omega
      have hH1 : HM (τ1.1 2135) H := hH' τ1 (agr.sub hA qg)
      rw [X15_hasRing_9, wp_ifn (by omega), wp_bd]
      refine wp_mono (measM hn hgl hH1) ?_
      rintro _ τ2 ⟨hA2, hr2⟩
      have hA2' := hA.trans hA2
      have hH2 : HM (τ2.1 2135) H := hH' τ2 (agr.sub hA2' qg)
      rw [wp_lt, wp_lt]
      -- the best
      have best : ∀ k2 h f2 (b : Int), h + k2 = n → k2 < f2 → ((b = -1 ∧ ∀ z, z < h → H g z → ¬ dst H n g z < n) ∨ (∃ d : Nat, b = (d : Int) ∧ (∃ z, z < h ∧ H g z ∧ dst H n g z = d ∧ d < n) ∧ ∀ z, z < h → H g z → d ≤ dst H n g z)) → wp (X15_hasRing_25 (X15_hasRing_9 fu') f2 (n : Int) (g : Int) b (h : Int)) τ2 Q := by
        intro k2
        induction k2 with
        | zero =>
          intro h f2 b hh hf2 hb
          obtain ⟨f2', rfl⟩ : ∃ f2', f2 = f2' + 1 := ⟨f2 - 1, by omega⟩
          rw [X15_hasRing_25, wp_ifp (by omega), X15_hasRing_90]
          rcases hb with ⟨e, hb⟩ | ⟨d, e, ⟨z, z1, z2, z3, z4⟩, hb⟩
          · rw [wp_ifn (by omega), wp_lt, w32_i (by omega) (by omega), show (g : Int) + 1 = ((g + 1 : Nat) : Int) by omega]
            refine ih (g + 1) fu' τ2 (by omega) (by omega) hA2' (fun x hx => ?_)
            by_cases e : x = g
            · subst e
              rw [onR_iff hgl]
              rintro ⟨z, z1, z2, z3⟩
              exact hb z (by omega) z2 z3
            · exact hnr x (by omega)
          · have hon : onR H n g := (onR_iff hgl).mpr ⟨z, by omega, z2, by omega⟩
            obtain ⟨b1, ⟨y, y1, y2, y3⟩, b3⟩ := rBest_ok hgl hon
            have ed : d = rBest H n g := by
              have h1 := b3 z (by omega) z2
              have h2 := hb y (by omega) y2
              omega
            rw [wp_ifp (by omega), X15_hasRing_97, wp_bd, wp_pI, wp_lt, wp_lt]
            have ring : ∀ k3 j f3 τ3, j + k3 = rBest H n g + 1 → k3 < f3 → agr gM τ τ3 → (∀ k, k < n → τ3.1 2136 k = if dst H n g k < n then (dst H n g k : Int) else -1) → τ3.1 2075 78 = (j : Int) → (∀ i, i < j → τ3.1 2134 i = (rng H n g i : Int)) → wp (X15_hasRing_108 f3 (rng H n g j : Int) ((rBest H n g : Int) - (j : Int))) τ3 Q := by
              intro k3
              induction k3 with
              | zero =>
                intro j f3 τ3 hj hf3 hA3 hr3 h78 hrow
                obtain ⟨f3', rfl⟩ : ∃ f3', f3 = f3' + 1 := ⟨f3 - 1, by omega⟩
                rw [X15_hasRing_108, wp_ifp (by omega), c_rtZ (by decide) (by decide)]
                exact hyes τ3 g hA3 hgl hon hnr (by rw [h78]; omega) (fun i hi => hrow i (by omega))
              | succ k3 ih3 =>
                intro j f3 τ3 hj hf3 hA3 hr3 h78 hrow
                obtain ⟨f3', rfl⟩ : ∃ f3', f3 = f3' + 1 := ⟨f3 - 1, by omega⟩
                have rl := rng_lt hgl hon (show j ≤ rBest H n g + 1 by omega)
                obtain ⟨r1, r2, r3, r4⟩ := rng_ok hgl hon j (by omega)
                rw [X15_hasRing_108, wp_ifn (by omega), wp_bd, bgI0 h78, wp_bd, RV_2134 (by omega) (by omega), tn, wp_bd, bgI0 (v := (j : Int)) (by dsimp only; rw [stA_ne (by decide)]; exact h78), wp_bd, wp_pI, wp_lt]
                generalize hS : ((stA _ _ _, _) : St) = τ4
                have hA4 : agr gM τ τ4 := by
                  subst hS
                  exact (hA3.u (by unfold gM; omega) _).u (by unfold gM; omega) _
                have v78 : τ4.1 2075 78 = ((j + 1 : Nat) : Int) := by
                  subst hS
                  simp (disch := decide) only [stA_eq, ups_eq]
                  rw [w32_i (by omega) (by omega)]; omega
                have v34 : τ4.1 2134 = ups (τ3.1 2134) j (rng H n g j : Int) := by
                  subst hS
                  simp (disch := decide) only [stA_ne, stA_eq]
                have v36 : τ4.1 2136 = τ3.1 2136 := by
                  subst hS
                  simp (disch := decide) only [stA_ne]
                clear hS
                have find : ∀ k4 y f4, y + k4 = rng H n g (j + 1) → k4 < f4 → wp (X15_hasRing_137 (X15_hasRing_108 f3') f4 (rng H n g j : Int) ((rBest H n g : Int) - (j : Int)) (y : Int)) τ4 Q := by
                  intro k4
                  induction k4 with
                  | zero =>
                    intro y f4 hy hf4
                    obtain ⟨f4', rfl⟩ : ∃ f4', f4 = f4' + 1 := ⟨f4 - 1, by omega⟩
                    have ey : y = rng H n g (j + 1) := by omega
                    subst ey
                    rw [X15_hasRing_137, wp_bd]
                    refine hm_rd (hH' τ4 hA4) (by omega) (by omega) (fun _ => ?_) (fun h => absurd r2 h)
                    rw [wp_ifn (by decide), wp_bd, RI_2136 (by omega) (by omega), tn, v36, hr3 _ r1, if_pos (by omega), X15_hasRing_172, wp_lt, wp_lt, w32_i (by omega) (by omega), show (rBest H n g : Int) - (j : Int) + -1 = (rBest H n g : Int) - ((j + 1 : Nat) : Int) by omega]
                    refine ih3 (j + 1) f3' τ4 (by omega) (by omega) hA4 (fun k hk => by rw [v36]; exact hr3 k hk) v78 (fun i hi => ?_)
                    rw [v34]
                    by_cases e : i = j
                    · subst e; rw [ups_eq]
                    · rw [ups_ne e]; exact hrow i (by omega)
                  | succ k4 ih4 =>
                    intro y f4 hy hf4
                    obtain ⟨f4', rfl⟩ : ∃ f4', f4 = f4' + 1 := ⟨f4 - 1, by omega⟩
                    have hno4 := r4 y (by omega)
                    have go : wp (X15_hasRing_166 (X15_hasRing_108 f3') (X15_hasRing_137 (X15_hasRing_108 f3') f4') (rng H n g j : Int) ((rBest H n g : Int) - (j : Int)) (y : Int)) τ4 Q := by
                      rw [X15_hasRing_166, wp_lt, w32_i (by omega) (by omega), show (y : Int) + 1 = ((y + 1 : Nat) : Int) by omega]
                      exact ih4 (y + 1) f4' (by omega) (by omega)
                    rw [X15_hasRing_137, wp_bd]
                    refine hm_rd (hH' τ4 hA4) (by omega) (by omega) (fun h => ?_) (fun h => ?_)
                    · have hne : τ3.1 2136 y ≠ (rBest H n g : Int) - (j : Int) := fun e => hno4 ⟨h, by
                        rw [hr3 y (by omega)] at e
                        by_cases c : dst H n g y < n
                        · rw [if_pos c] at e; omega
                        · rw [if_neg c] at e; omega⟩
                      rw [wp_ifn (by decide), wp_bd, RI_2136 (by omega) (by omega), tn, v36, wp_ifn hne]
                      exact go
                    · rw [wp_ifp rfl]
                      exact go
                exact find (rng H n g (j + 1)) 0 FU (by omega) (by omega)
            have hA3 : agr gM τ (stA τ2.1 2075 (ups (τ2.1 2075) 78 0), τ2.2) := (agr.sub hA2' qg).u (by unfold gM; omega) _
            have := ring (rBest H n g + 1) 0 FU (stA τ2.1 2075 (ups (τ2.1 2075) 78 0), τ2.2) (by omega) (by omega) hA3 (fun k hk => by dsimp only; rw [stA_ne (by decide)]; exact hr2 k hk) (by dsimp only; rw [stA_eq, ups_eq]; rfl) (fun i hi => absurd hi (Nat.not_lt_zero i))
            rw [e, ed]
            rw [show ((rBest H n g : Int) - ((0 : Nat) : Int)) = (rBest H n g : Int) by omega] at this
            exact this
        | succ k2 ih2 =>
          intro h f2 b hh hf2 hb
          obtain ⟨f2', rfl⟩ : ∃ f2', f2 = f2' + 1 := ⟨f2 - 1, by omega⟩
          have hhl : h < n := by omega
          have nxt : ∀ b : Int, ((b = -1 ∧ ∀ z, z < h + 1 → H g z → ¬ dst H n g z < n) ∨ (∃ d : Nat, b = (d : Int) ∧ (∃ z, z < h + 1 ∧ H g z ∧ dst H n g z = d ∧ d < n) ∧ ∀ z, z < h + 1 → H g z → d ≤ dst H n g z)) → wp (X15_hasRing_83 (X15_hasRing_9 fu') (X15_hasRing_25 (X15_hasRing_9 fu') f2') (n : Int) (g : Int) (h : Int) b) τ2 Q := by
            intro b hb
            rw [X15_hasRing_83, wp_lt, wp_lt, w32_i (by omega) (by omega), show (h : Int) + 1 = ((h + 1 : Nat) : Int) by omega]
            exact ih2 (h + 1) f2' b (by omega) (by omega) hb
          have skip : (H g h → ¬ dst H n g h < n) → wp (X15_hasRing_83 (X15_hasRing_9 fu') (X15_hasRing_25 (X15_hasRing_9 fu') f2') (n : Int) (g : Int) (h : Int) b) τ2 Q := fun hs => nxt b (by
            rcases hb with ⟨e, hb⟩ | ⟨d, e, ⟨z, z1, z2⟩, hb⟩
            · refine Or.inl ⟨e, fun z hz hz2 => ?_⟩
              by_cases e2 : z = h
              · subst e2; exact hs hz2
              · exact hb z (by omega) hz2
            · refine Or.inr ⟨d, e, ⟨z, by omega, z2⟩, fun z' hz' hz2 => ?_⟩
              by_cases e2 : z' = h
              · subst e2
                have h1 := hs hz2
                have h2 := z2.2.2
                omega
              · exact hb z' (by omega) hz2)
          rw [X15_hasRing_25, wp_ifn (by omega), wp_bd]
          refine hm_rd hH2 (by omega) (by omega) (fun hx => ?_) (fun hx => ?_)
          · rw [wp_ifn (by decide), wp_bd, RI_2136 (by omega) (by omega), tn, hr2 h hhl]
            by_cases c : dst H n g h < n
            · rw [if_pos c, wp_ifn (by omega)]
              have new : (∀ z, z < h → H g z → dst H n g h ≤ dst H n g z) → wp (X15_hasRing_72 (X15_hasRing_9 fu') (X15_hasRing_25 (X15_hasRing_9 fu') f2') (n : Int) (g : Int) (h : Int)) τ2 Q := by
                intro hmin
                rw [X15_hasRing_72, wp_bd, RI_2136 (by omega) (by omega), tn, hr2 h hhl, if_pos c]
                refine nxt _ (Or.inr ⟨_, rfl, ⟨h, Nat.lt_succ_self h, hx, rfl, c⟩, fun z hz hz2 => ?_⟩)
                by_cases e2 : z = h
                · subst e2; exact Nat.le_refl _
                · exact hmin z (by omega) hz2
              rcases hb with ⟨e, hb⟩ | ⟨d, e, ⟨z, z1, z2⟩, hb⟩
              · rw [wp_ifp (by omega)]
                exact new (fun z hz hz2 => by have := hb z hz hz2; omega)
              · rw [wp_ifn (by omega), wp_bd, RI_2136 (by omega) (by omega), tn, hr2 h hhl, if_pos c, e]
                by_cases c2 : d ≤ dst H n g h
                · rw [wp_ifp (by omega)]
                  refine nxt _ (Or.inr ⟨d, rfl, ⟨z, by omega, z2⟩, fun z' hz' hz2 => ?_⟩)
                  by_cases e2 : z' = h
                  · subst e2; exact c2
                  · exact hb z' (by omega) hz2
                · rw [wp_ifn (by omega)]
                  exact new (fun z' hz' hz2 => by have := hb z' hz' hz2; omega)
            · rw [if_neg c, wp_ifp (by decide)]
              exact skip (fun _ => c)
          · rw [wp_ifp rfl]
            exact skip (fun h => absurd h hx)
      exact best n 0 FU (-1) (by omega) (by omega) (Or.inl ⟨rfl, fun z hz => absurd hz (Nat.not_lt_zero z)⟩)
  rw [F_X15_hasRing, wp_bd, RI_2115 (by decide) (by decide), toN4, h15, wp_lt, wp_lt]
  exact key n 0 FU τ (by omega) (by omega) agr.refl (fun x hx => absurd hx (Nat.not_lt_zero x))
end
