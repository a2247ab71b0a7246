set_option maxRecDepth 100000
set_option maxHeartbeats 400000
/-! ===== designs: an order in which each comes behind what it hangs on ===== -/
/-- all numbers below n, each behind what it hangs on -/
def OO (H : Nat → Nat → Prop) (n : Nat) (q : Nat → Nat) (c : Nat) : Prop := c ≤ n ∧ (∀ k, k < c → q k < n) ∧ (∀ x, x < n → ∃ k, k < c ∧ q k = x) ∧ ∀ k h, k < c → h < n → H (q k) h → ∃ k', k' < k ∧ q k' = h
noncomputable def ctP (p : Nat → Prop) (n : Nat) : Nat := smF (fun h => b1 (p h) 1) n
theorem ctP_up {p : Nat → Prop} {n : Nat} : ctP p (n + 1) = ctP p n + b1 (p n) 1 := rfl
theorem ctP_le {p : Nat → Prop} : ∀ {n : Nat}, ctP p n ≤ n
  | 0 => Nat.le_refl _
  | n + 1 => by
    have h1 : ctP p n ≤ n := ctP_le
    have h2 : b1 (p n) 1 ≤ 1 := b1_le
    rw [ctP_up]; omega
theorem ctP_cong {p q : Nat → Prop} {n : Nat} (e : ∀ h, h < n → (p h ↔ q h)) : ctP p n = ctP q n := smF_cong (fun i hi => by
  by_cases c : p i
  · rw [b1_y c, b1_y ((e i hi).mp c)]
  · rw [b1_n c, b1_n (fun z => c ((e i hi).mpr z))])
theorem ctP_0 {p : Nat → Prop} : ∀ {n : Nat}, ctP p n = 0 ↔ ∀ h, h < n → ¬ p h
  | 0 => ⟨fun _ h hh => absurd hh (Nat.not_lt_zero h), fun _ => rfl⟩
  | n + 1 => by
    have ih : ctP p n = 0 ↔ ∀ h, h < n → ¬ p h := ctP_0
    rw [ctP_up]
    constructor
    · intro h x hx
      by_cases e : x = n
      · subst e
        intro hp
        rw [b1_y hp] at h
        omega
      · exact ih.mp (by omega) x (by omega)
    · intro h
      rw [ih.mpr (fun x hx => h x (by omega)), b1_n (h n (by omega))]
theorem ctP_rm {p q : Nat → Prop} {k : Nat} : ∀ {n : Nat}, k < n → p k → (∀ h, h < n → (q h ↔ p h ∧ h ≠ k)) → ctP p n = ctP q n + 1
  | 0, hk, _, _ => absurd hk (Nat.not_lt_zero k)
  | n + 1, hk, hp, e => by
    rw [ctP_up, ctP_up]
    by_cases en : k = n
    · subst en
      have h1 : ctP p k = ctP q k := ctP_cong (fun h hh => ⟨fun z => (e h (by omega)).mpr ⟨z, by omega⟩, fun z => ((e h (by omega)).mp z).1⟩)
      have h2 : ¬ q k := fun z => ((e k (by omega)).mp z).2 rfl
      rw [b1_y hp, b1_n h2, h1]
    · have h1 := ctP_rm (p := p) (q := q) (k := k) (n := n) (by omega) hp (fun h hh => e h (by omega))
      have h2 : b1 (p n) 1 = b1 (q n) 1 := by
        have := e n (by omega)
        by_cases c : p n
        · rw [b1_y c, b1_y (this.mpr ⟨c, fun z => en z.symm⟩)]
        · rw [b1_n c, b1_n (fun z => c (this.mp z).1)]
      omega
section
variable {Ms : Nat → ModV} {top : Nat} {s : LYS} {σ σ' τ τ' : St} {o S : Nat} {H : Nat → Nat → Prop}
/-- while signals are put in order: P those placed, q those put behind, a of them under way -/
def PI (H : Nat → Nat → Prop) (n : Nat) (P : Nat → Prop) (q : Nat → Nat) (c a : Nat) : Prop := c + a = ctP P n ∧ (∀ k, k < c → q k < n ∧ P (q k)) ∧ ∀ k h, k < c → h < n → H (q k) h → ∃ k', k' < k ∧ q k' = h
/-- the component's rows -/
def PX (σ : St) (o n : Nat) (P : Nat → Prop) (q : Nat → Nat) (c : Nat) : Prop := (∀ x, x < n → (P x → σ.1 (o + 17) x = 1) ∧ (¬ P x → σ.1 (o + 17) x = 0)) ∧ (∀ k, k < c → σ.1 (o + 16) k = (q k : Int)) ∧ σ.1 o 20 = (c : Int)
def pF (o a i : Nat) : Prop := ¬ ((a = o ∧ i = 20) ∨ a = o + 16 ∨ a = o + 17)
theorem putX (hd : DP Ms top s) (hD : isD o) (hX : DX σ o Ms top s) (hH : HX (σ.2.1 (o + 14)) H) {r : Nat → Nat} (hr : ∀ x t, x < lsG s → t < lsG s → H x t → r t < r x) : ∀ R x f σ1 (P : Nat → Prop) (q : Nat → Nat) (c a : Nat), r x < R → R ≤ f → x < lsG s → agr (pF o) σ σ1 → PX σ1 o (lsG s) P q c → PI H (lsG s) P q c a → ¬ P x → (∀ y, y < lsG s → P y → (∃ k, k < c ∧ q k = y) ∨ r x < r y) → wp (G_X13_put f o (x : Int)) σ1 (fun _ σ' => agr (pF o) σ σ' ∧ ∃ (P' : Nat → Prop) (q' : Nat → Nat) (c' : Nat), PX σ' o (lsG s) P' q' c' ∧ PI H (lsG s) P' q' c' a ∧ (∀ y, P y → P' y) ∧ c ≤ c' ∧ (∀ k, k < c → q' k = q k) ∧ (∀ y, y < lsG s → P' y → P y ∨ ∃ k, k < c' ∧ q' k = y) ∧ ∃ k, k < c' ∧ q' k = x) := by
  have hFU := FU_ge
  have h200 := hd.2.1.2
  intro R
  induction R with
  | zero => intro x f σ1 P q c a h; exact absurd h (Nat.not_lt_zero _)
  | succ R ih =>
    intro x f σ1 P q c a hrx hf hx hA hP hI hnp hact
    obtain ⟨f', rfl⟩ : ∃ f', f = f' + 1 := ⟨f - 1, by omega⟩
    show wp (F_X13_put (G_X13_put f') o (x : Int)) σ1 _
    rw [F_X13_put, wp_bd, DV_17 hD (by omega) (by omega) (by decide) (by decide), tn, wp_lt]
    obtain ⟨p1, p2, p3⟩ := hP
    obtain ⟨i1, i2, i3⟩ := hI
    have loop : ∀ k t fu σ2 (P2 : Nat → Prop) (q2 : Nat → Nat) (c2 : Nat), t + k = lsG s → k < fu → agr (pF o) σ σ2 → PX σ2 o (lsG s) P2 q2 c2 → PI H (lsG s) P2 q2 c2 (a + 1) → P2 x → (∀ y, P y → P2 y) → c ≤ c2 → (∀ k, k < c → q2 k = q k) → (∀ y, y < lsG s → P2 y → P y ∨ y = x ∨ ∃ k, k < c2 ∧ q2 k = y) → (∀ t', t' < t → H x t' → ∃ k, k < c2 ∧ q2 k = t') → wp (X13_put_9 o (G_X13_put f') fu (x : Int) (t : Int)) σ2 (fun _ σ' => agr (pF o) σ σ' ∧ ∃ (P' : Nat → Prop) (q' : Nat → Nat) (c' : Nat), PX σ' o (lsG s) P' q' c' ∧ PI H (lsG s) P' q' c' a ∧ (∀ y, P y → P' y) ∧ c ≤ c' ∧ (∀ k, k < c → q' k = q k) ∧ (∀ y, y < lsG s → P' y → P y ∨ ∃ k, k < c' ∧ q' k = y) ∧ ∃ k, k < c' ∧ q' k = x) := by
      intro k
      induction k with
      | zero =>
        intro t fu σ2 P2 q2 c2 ht hfu hA2 hP2 hI2 hPx hmono hc hq hnew hdone
        obtain ⟨fu', rfl⟩ : ∃ fu', fu = fu' + 1 := ⟨fu - 1, by omega⟩
        have hX2 := hX.fr hd.1.1 (agr.sub hA2 (fun a i h => by unfold dP at h; unfold pF; omega))
        obtain ⟨y1, y2, y3⟩ := hP2
        obtain ⟨j1, j2, j3⟩ := hI2
        have hle : ctP P2 (lsG s) ≤ lsG s := ctP_le
        rw [X13_put_9, wp_bd, wp_gI, hX2.1.1.2, wp_ifp (by omega), X13_put_49, wp_bd, bgI0 y3, wp_bd, wp_pI, wp_bd, DV_16 hD (by omega) (by omega), tn, wp_rt]
        generalize hS : ((stA _ _ _, _) : St) = σ3
        have v0 : σ3.1 o 20 = ((c2 + 1 : Nat) : Int) := by
          subst hS
          simp (disch := omega) only [stA_ne, stA_eq, ups_eq]
          rw [w32_i (by omega) (by omega)]; omega
        have v16 : σ3.1 (o + 16) = ups (σ2.1 (o + 16)) c2 (x : Int) := by
          subst hS
          simp (disch := omega) only [stA_ne, stA_eq]
        have v17 : σ3.1 (o + 17) = σ2.1 (o + 17) := by
          subst hS
          simp (disch := omega) only [stA_ne]
        have hA3 : agr (pF o) σ σ3 := by
          subst hS
          exact (hA2.u (by unfold pF; omega) _).u (by unfold pF; omega) _
        clear hS
        refine ⟨hA3, P2, ups q2 c2 x, c2 + 1, ⟨fun y hy => by rw [v17]; exact y1 y hy, fun k hk => ?_, v0⟩, ⟨by omega, fun k hk => ?_, fun k h hk hh hH2 => ?_⟩, hmono, by omega, fun k hk => by rw [ups_ne (by omega)]; exact hq k hk, fun y hy hPy => ?_, c2, Nat.lt_succ_self c2, ups_eq⟩
        · rw [v16]
          by_cases e : k = c2
          · subst e; rw [ups_eq, ups_eq]
          · rw [ups_ne e, ups_ne e]; exact y2 k (by omega)
        · by_cases e : k = c2
          · subst e; rw [ups_eq]; exact ⟨hx, hPx⟩
          · rw [ups_ne e]; exact j2 k (by omega)
        · by_cases e : k = c2
          · subst e
            rw [ups_eq] at hH2
            obtain ⟨k', k1, k2⟩ := hdone h (by omega) hH2
            exact ⟨k', k1, by rw [ups_ne (by omega)]; exact k2⟩
          · rw [ups_ne e] at hH2
            obtain ⟨k', k1, k2⟩ := j3 k h (by omega) hh hH2
            exact ⟨k', k1, by rw [ups_ne (by omega)]; exact k2⟩
        · rcases hnew y hy hPy with h | h | ⟨k, k1, k2⟩
          · exact Or.inl h
          · exact Or.inr ⟨c2, Nat.lt_succ_self c2, by rw [ups_eq]; exact h.symm⟩
          · exact Or.inr ⟨k, by omega, by rw [ups_ne (by omega)]; exact k2⟩
      | succ k ihk =>
        intro t fu σ2 P2 q2 c2 ht hfu hA2 hP2 hI2 hPx hmono hc hq hnew hdone
        obtain ⟨fu', rfl⟩ : ∃ fu', fu = fu' + 1 := ⟨fu - 1, by omega⟩
        have hX2 := hX.fr hd.1.1 (agr.sub hA2 (fun a i h => by unfold dP at h; unfold pF; omega))
        have htl : t < lsG s := by omega
        have hHb : HX (σ2.2.1 (o + 14)) H := by
          rw [show σ2.2.1 (o + 14) = σ.2.1 (o + 14) from funext fun i => (hA2 (o + 14) i (by unfold pF; omega)).2.1]; exact hH
        have hbx := hHb x t (by omega) (by omega)
        have stay : (H x t → ∃ k, k < c2 ∧ q2 k = t) → wp (X13_put_43 o (G_X13_put f') (X13_put_9 o (G_X13_put f') fu') (x : Int) (t : Int)) σ2 (fun _ σ' => agr (pF o) σ σ' ∧ ∃ (P' : Nat → Prop) (q' : Nat → Nat) (c' : Nat), PX σ' o (lsG s) P' q' c' ∧ PI H (lsG s) P' q' c' a ∧ (∀ y, P y → P' y) ∧ c ≤ c' ∧ (∀ k, k < c → q' k = q k) ∧ (∀ y, y < lsG s → P' y → P y ∨ ∃ k, k < c' ∧ q' k = y) ∧ ∃ k, k < c' ∧ q' k = x) := by
          intro hs
          rw [X13_put_43, wp_lt, w32_i (by omega) (by omega), show (t : Int) + 1 = ((t + 1 : Nat) : Int) by omega]
          refine ihk (t + 1) fu' σ2 P2 q2 c2 (by omega) (by omega) hA2 hP2 hI2 hPx hmono hc hq hnew (fun t' ht' hH' => ?_)
          by_cases e : t' = t
          · subst e; exact hs hH'
          · exact hdone t' (by omega) hH'
        rw [X13_put_9, wp_bd, wp_gI, hX2.1.1.2, wp_ifn (by omega), wp_bd, has_v (LD14 hD) (by omega) (by omega)]
        by_cases cb : H x t
        · have hrt := hr x t hx htl cb
          rw [if_pos (hbx.mpr cb), wp_ifn (by decide), wp_bd, DI_17 hD (by omega) (by omega), tn]
          by_cases cp : P2 t
          · rw [(hP2.1 t htl).1 cp, wp_ifn (by decide)]
            refine stay (fun _ => ?_)
            rcases hnew t htl cp with h | h | h
            · rcases hact t htl h with ⟨k, k1, k2⟩ | h2
              · exact ⟨k, by omega, by rw [hq k k1]; exact k2⟩
              · omega
            · rw [h] at hrt; omega
            · exact h
          · rw [(hP2.1 t htl).2 cp, wp_ifp rfl, wp_bd]
            refine wp_mono (ih t f' σ2 P2 q2 c2 (a + 1) (by omega) (by omega) htl hA2 hP2 hI2 cp (fun y hy hPy => ?_)) ?_
            · rcases hnew y hy hPy with h | h | h
              · rcases hact y hy h with ⟨k, k1, k2⟩ | h2
                · exact Or.inl ⟨k, by omega, by rw [hq k k1]; exact k2⟩
                · exact Or.inr (by omega)
              · exact Or.inr (by rw [h]; exact hrt)
              · exact Or.inl h
            · rintro _ σ3 ⟨hA3, P3, q3, c3, z1, z2, z3, z4, z5, z6, z7⟩
              rw [X13_put_43, wp_lt, w32_i (by omega) (by omega), show (t : Int) + 1 = ((t + 1 : Nat) : Int) by omega]
              refine ihk (t + 1) fu' σ3 P3 q3 c3 (by omega) (by omega) hA3 z1 z2 (z3 x hPx) (fun y hy => z3 y (hmono y hy)) (by omega) (fun k hk => by rw [z5 k (by omega)]; exact hq k hk) (fun y hy hPy => ?_) (fun t' ht' hH' => ?_)
              · rcases z6 y hy hPy with h | h
                · rcases hnew y hy h with h | h | ⟨k, k1, k2⟩
                  · exact Or.inl h
                  · exact Or.inr (Or.inl h)
                  · exact Or.inr (Or.inr ⟨k, by omega, by rw [z5 k k1]; exact k2⟩)
                · exact Or.inr (Or.inr h)
              · by_cases e : t' = t
                · subst e; exact z7
                · obtain ⟨k, k1, k2⟩ := hdone t' (by omega) hH'
                  exact ⟨k, by omega, by rw [z5 k k1]; exact k2⟩
        · rw [if_neg (fun h => cb (hbx.mp h)), wp_ifp rfl]
          exact stay (fun h => absurd h cb)
    refine loop (lsG s) 0 FU _ (fun y => P y ∨ y = x) q c (by omega) (by omega) (hA.w (fun k hk => absurd (Or.inr (Or.inr rfl)) hk)) ⟨fun y hy => ?_, fun k hk => ?_, ?_⟩ ⟨?_, fun k hk => ⟨(i2 k hk).1, Or.inl (i2 k hk).2⟩, i3⟩ (Or.inr rfl) (fun y hy => Or.inl hy) (Nat.le_refl _) (fun k _ => rfl) (fun y _ hy => ?_) (fun t' ht' => absurd ht' (Nat.not_lt_zero t'))
    · dsimp only
      rw [stA_eq]
      by_cases e : y = x
      · subst e
        rw [ups_eq]
        exact ⟨fun _ => rfl, fun h => absurd (Or.inr rfl) h⟩
      · rw [ups_ne e]
        exact ⟨fun h => (p1 y hy).1 (by rcases h with h | h; exact h; exact absurd h e), fun h => (p1 y hy).2 (fun z => h (Or.inl z))⟩
    · dsimp only
      rw [stA_ne (by omega)]; exact p2 k hk
    · dsimp only
      rw [stA_ne (by omega)]; exact p3
    · have := ctP_rm (p := fun y => P y ∨ y = x) (q := P) (k := x) hx (Or.inr rfl) (fun h hh => ⟨fun z => ⟨Or.inl z, fun e => hnp (e ▸ z)⟩, fun z => by rcases z.1 with w | w; exact w; exact absurd w z.2⟩)
      omega
    · rcases hy with h | h
      · exact Or.inl h
      · exact Or.inr (Or.inl h)
end
/-! the twin: those that hang on nothing more -/
/-- f k: how many k still hangs on, of those not done (and, below x, not the one at hand) -/
def KI (H : Nat → Nat → Prop) (n : Nat) (f q : Nat → Nat) (c t x : Nat) : Prop := c = ctP (fun k => f k = 0) n ∧ (∀ k, k < n → f k = ctP (fun h => H k h ∧ ¬ (∃ i, i < t ∧ q i = h) ∧ ¬ (k < x ∧ h = q t)) n) ∧ (∀ i, i < c → q i < n ∧ f (q i) = 0) ∧ (∀ k, k < n → f k = 0 → ∃ i, i < c ∧ q i = k) ∧ (∀ i j, i < c → j < c → q i = q j → i = j) ∧ ∀ k h, k < c → h < n → H (q k) h → ∃ k', k' < k ∧ q k' = h
section
variable {H : Nat → Nat → Prop} {n c t x : Nat} {f q : Nat → Nat}
theorem KI.end (hK : KI H n f q c c 0) {r : Nat → Nat} (hr : ∀ x t, x < n → t < n → H x t → r t < r x) : OO H n q c := by
  obtain ⟨h1, h2, h3, h4, h5, h6⟩ := hK
  refine ⟨by rw [h1]; exact ctP_le, fun k hk => (h3 k hk).1, ?_, h6⟩
  have key : ∀ R x, r x < R → x < n → ∃ k, k < c ∧ q k = x := by
    intro R
    induction R with
    | zero => intro x h; exact absurd h (Nat.not_lt_zero _)
    | succ R ih =>
      intro x hx hxn
      refine h4 x hxn ?_
      rw [h2 x hxn, ctP_0]
      rintro h hh ⟨a1, a2, -⟩
      exact a2 (ih h (by have := hr x h hxn hh a1; omega) hh)
  exact fun x hx => key (r x + 1) x (Nat.lt_succ_self _) hx
/-- k hangs on the one at hand: one less -/
theorem KI.dec (hK : KI H n f q c t x) (hx : x < n) (ht : t < c) (hH : H x (q t)) : 0 < f x ∧ f x - 1 = ctP (fun h => H x h ∧ ¬ (∃ i, i < t ∧ q i = h) ∧ ¬ (x < x + 1 ∧ h = q t)) n := by
  obtain ⟨h1, h2, h3, h4, h5, h6⟩ := hK
  have e := ctP_rm (p := fun h => H x h ∧ ¬ (∃ i, i < t ∧ q i = h) ∧ ¬ (x < x ∧ h = q t)) (q := fun h => H x h ∧ ¬ (∃ i, i < t ∧ q i = h) ∧ ¬ (x < x + 1 ∧ h = q t)) (k := q t) (h3 t ht).1 ⟨hH, fun ⟨i, i1, i2⟩ => (by have := h5 i t (by omega) ht i2; omega), fun z => Nat.lt_irrefl x z.1⟩ (fun h hh => ⟨fun z => ⟨⟨z.1, z.2.1, fun y => Nat.lt_irrefl x y.1⟩, fun e => z.2.2 ⟨Nat.lt_succ_self x, e⟩⟩, fun z => ⟨z.1.1, z.1.2.1, fun y => z.2 y.2⟩⟩)
  have e2 := h2 x hx
  omega
/-- behind number x: nothing new -/
theorem KI.stay (hK : KI H n f q c t x) {f' : Nat → Nat} (hx : x < n) (hf : ∀ k, k ≠ x → f' k = f k) (hfx : f' x = ctP (fun h => H x h ∧ ¬ (∃ i, i < t ∧ q i = h) ∧ ¬ (x < x + 1 ∧ h = q t)) n) (hz : f' x = 0 ↔ f x = 0) : KI H n f' q c t (x + 1) := by
  obtain ⟨h1, h2, h3, h4, h5, h6⟩ := hK
  have hz' : ∀ k, f' k = 0 ↔ f k = 0 := fun k => by
    by_cases e : k = x
    · rw [e]; exact hz
    · rw [hf k e]
  refine ⟨by rw [h1]; exact ctP_cong (fun k _ => (hz' k).symm), fun k hk => ?_, fun i hi => ⟨(h3 i hi).1, (hz' _).mpr (h3 i hi).2⟩, fun k hk e => h4 k hk ((hz' k).mp e), h5, h6⟩
  by_cases e : k = x
  · subst e; exact hfx
  · rw [hf k e, h2 k hk]
    refine ctP_cong (fun h _ => ?_)
    constructor
    · rintro ⟨a1, a2, a3⟩
      exact ⟨a1, a2, fun z => a3 ⟨by omega, z.2⟩⟩
    · rintro ⟨a1, a2, a3⟩
      exact ⟨a1, a2, fun z => a3 ⟨by omega, z.2⟩⟩
/-- behind number x: it hangs on nothing more -/
theorem KI.push (hK : KI H n f q c t x) (hx : x < n) (ht : t < c) (hH : H x (q t)) (h1' : f x = 1) : KI H n (ups f x 0) (ups q c x) (c + 1) t (x + 1) := by
  obtain ⟨d1, d2⟩ := hK.dec hx ht hH
  obtain ⟨h1, h2, h3, h4, h5, h6⟩ := hK
  have d0 : ctP (fun h => H x h ∧ ¬ (∃ i, i < t ∧ q i = h) ∧ ¬ (x < x + 1 ∧ h = q t)) n = 0 := by omega
  have hqx : ∀ i, i < c → q i ≠ x := fun i hi e => by
    have := (h3 i hi).2
    rw [e] at this; omega
  have hc1 : ∀ i, i < c → ups q c x i = q i := fun i hi => ups_ne (by omega)
  have hdone : ∀ h, (∃ i, i < t ∧ ups q c x i = h) ↔ ∃ i, i < t ∧ q i = h := fun h => ⟨fun ⟨i, i1, i2⟩ => ⟨i, i1, by rw [hc1 i (by omega)] at i2; exact i2⟩, fun ⟨i, i1, i2⟩ => ⟨i, i1, by rw [hc1 i (by omega)]; exact i2⟩⟩
  refine ⟨?_, fun k hk => ?_, fun i hi => ?_, fun k hk e => ?_, fun i j hi hj e => ?_, fun k h hk hh hHk => ?_⟩
  · have := ctP_rm (p := fun k => ups f x 0 k = 0) (q := fun k => f k = 0) (k := x) hx ups_eq (fun h hh => ⟨fun z => ⟨?_, fun e => ?_⟩, fun z => ?_⟩)
    · omega
    · by_cases e : h = x
      · subst e; exact ups_eq
      · rw [ups_ne e]; exact z
    · rw [e] at z; omega
    · have := z.1
      rw [ups_ne z.2] at this
      exact this
  · rw [hc1 t ht]
    by_cases e : k = x
    · subst e
      rw [ups_eq, ← d0]
      exact ctP_cong (fun h _ => by rw [hdone h])
    · rw [ups_ne e, h2 k hk]
      refine ctP_cong (fun h _ => ?_)
      rw [hdone h]
      constructor
      · rintro ⟨a1, a2, a3⟩
        exact ⟨a1, a2, fun z => a3 ⟨by omega, z.2⟩⟩
      · rintro ⟨a1, a2, a3⟩
        exact ⟨a1, a2, fun z => a3 ⟨by omega, z.2⟩⟩
  · by_cases e : i = c
    · subst e; rw [ups_eq]; exact ⟨hx, ups_eq⟩
    · rw [hc1 i (by omega), ups_ne (hqx i (by omega))]
      exact h3 i (by omega)
  · by_cases e2 : k = x
    · exact ⟨c, Nat.lt_succ_self c, by rw [ups_eq]; exact e2.symm⟩
    · rw [ups_ne e2] at e
      obtain ⟨i, i1, i2⟩ := h4 k hk e
      exact ⟨i, by omega, by rw [hc1 i i1]; exact i2⟩
  · by_cases ei : i = c
    · by_cases ej : j = c
      · omega
      · subst ei
        rw [ups_eq, hc1 j (by omega)] at e
        exact absurd e.symm (hqx j (by omega))
    · by_cases ej : j = c
      · subst ej
        rw [ups_eq, hc1 i (by omega)] at e
        exact absurd e (hqx i (by omega))
      · rw [hc1 i (by omega), hc1 j (by omega)] at e
        exact h5 i j (by omega) (by omega) e
  · by_cases e : k = c
    · subst e
      rw [ups_eq] at hHk
      have := ctP_0.mp d0 h hh
      by_cases e2 : ∃ i, i < t ∧ q i = h
      · obtain ⟨i, i1, i2⟩ := e2
        exact ⟨i, by omega, by rw [hc1 i (by omega)]; exact i2⟩
      · by_cases e3 : h = q t
        · exact ⟨t, ht, by rw [hc1 t ht]; exact e3.symm⟩
        · exact absurd ⟨hHk, e2, fun z => e3 z.2⟩ this
    · rw [hc1 k (by omega)] at hHk
      obtain ⟨k', k1, k2⟩ := h6 k h (by omega) hh hHk
      exact ⟨k', k1, by rw [hc1 k' (by omega)]; exact k2⟩
theorem KI.next (hK : KI H n f q c t n) : KI H n f q c (t + 1) 0 := by
  obtain ⟨h1, h2, h3, h4, h5, h6⟩ := hK
  refine ⟨h1, fun k hk => ?_, h3, h4, h5, h6⟩
  rw [h2 k hk]
  refine ctP_cong (fun h _ => ?_)
  constructor
  · rintro ⟨a1, a2, a3⟩
    refine ⟨a1, ?_, fun z => by omega⟩
    rintro ⟨i, i1, i2⟩
    by_cases e : i = t
    · subst e; exact a3 ⟨hk, i2.symm⟩
    · exact a2 ⟨i, by omega, i2⟩
  · rintro ⟨a1, a2, -⟩
    exact ⟨a1, fun ⟨i, i1, i2⟩ => a2 ⟨i, by omega, i2⟩, fun z => a2 ⟨t, Nat.lt_succ_self t, z.2.symm⟩⟩
end
def oFM (a i : Nat) : Prop := ¬ (a = 2136 ∨ (a = 2129 ∧ 800 ≤ i))
theorem orderM {τ : St} {H : Nat → Nat → Prop} {n : Nat} (hn : n ≤ 200) (h15 : τ.1 2115 4 = (n : Int)) (hH : HM (τ.1 2135) H) {r : Nat → Nat} (hr : ∀ x t, x < n → t < n → H x t → r t < r x) : wp F_X15_findOrder τ (fun _ τ' => agr oFM τ τ' ∧ ∃ q, OO H n q n ∧ ∀ k, k < n → τ'.1 2129 (800 + k) = (q k : Int)) := by
  have hFU := FU_ge
  have hH' : ∀ τ1, agr oFM τ τ1 → HM (τ1.1 2135) H := fun τ1 hA => by rw [hA.row (a := 2135) (fun i => by unfold oFM; omega)]; exact hH
  have eO : ∀ x : Nat, x < 200 → w32 (w32 (200 * 4) + (x : Int)) = ((800 + x : Nat) : Int) := fun x hx => by
    rw [w32_i (x := 200 * 4) (by decide) (by decide), w32_i (by omega) (by omega)]; omega
  -- Kahn
  have key : ∀ k t c fu τ1 (q f : Nat → Nat), t + k = n → k < fu → agr oFM τ τ1 → (∀ i, i < c → τ1.1 2129 (800 + i) = (q i : Int)) → (∀ x, x < n → τ1.1 2136 x = (f x : Int)) → KI H n f q c t 0 → t ≤ c → wp (X15_findOrder_121 fu 4 (n : Int) (c : Int) (t : Int)) τ1 (fun _ τ' => agr oFM τ τ' ∧ ∃ q, OO H n q n ∧ ∀ k, k < n → τ'.1 2129 (800 + k) = (q k : Int)) := by
    intro k
    have done : ∀ t c fu τ1 (q f : Nat → Nat), 0 < fu → agr oFM τ τ1 → (∀ i, i < c → τ1.1 2129 (800 + i) = (q i : Int)) → KI H n f q c t 0 → t = c → wp (X15_findOrder_121 fu 4 (n : Int) (c : Int) (t : Int)) τ1 (fun _ τ' => agr oFM τ τ' ∧ ∃ q, OO H n q n ∧ ∀ k, k < n → τ'.1 2129 (800 + k) = (q k : Int)) := by
      intro t c fu τ1 q f hfu hA hq hK htc
      obtain ⟨fu', rfl⟩ : ∃ fu', fu = fu' + 1 := ⟨fu - 1, by omega⟩
      subst htc
      have hO := hK.end hr
      rw [X15_findOrder_121, wp_ifp (by omega), wp_rt]
      -- c = n: all are there, each once
      have hcn : t = n := by
        have h1 := hK.1
        have : ctP (fun k => f k = 0) n = n := by
          have : ∀ m, m ≤ n → ctP (fun k => f k = 0) m = m := by
            intro m
            induction m with
            | zero => intro _; rfl
            | succ m ih =>
              intro hm
              obtain ⟨i, i1, i2⟩ := hO.2.2.1 m (by omega)
              have := (hK.2.2.1 i i1).2
              rw [i2] at this
              rw [ctP_up, ih (by omega), b1_y this]
          exact this n (Nat.le_refl n)
        omega
      subst hcn
      exact ⟨hA, q, hO, hq⟩
    induction k with
    | zero =>
      intro t c fu τ1 q f ht hfu hA hq hf hK htc
      have hcn : c ≤ n := by rw [hK.1]; exact ctP_le
      exact done t c fu τ1 q f (by omega) hA hq hK (by omega)
    | succ k ih =>
      intro t c fu τ1 q f ht hfu hA hq hf hK htc
      by_cases e : t = c
      · exact done t c fu τ1 q f (by omega) hA hq hK e
      · obtain ⟨fu', rfl⟩ : ∃ fu', fu = fu' + 1 := ⟨fu - 1, by omega⟩
        have hql := (hK.2.2.1 t (by omega)).1
        rw [X15_findOrder_121, wp_ifn (by omega), wp_bd, eO t (by omega), RI_2129 (by omega) (by omega), tn, hq t (by omega), wp_lt, wp_lt]
        have inner : ∀ k2 x f2 c τ2 (q2 f : Nat → Nat), x + k2 = n → k2 < f2 → agr oFM τ τ2 → q2 t = q t → t < c → (∀ i, i < c → τ2.1 2129 (800 + i) = (q2 i : Int)) → (∀ x, x < n → τ2.1 2136 x = (f x : Int)) → KI H n f q2 c t x → wp (X15_findOrder_145 (X15_findOrder_121 fu') f2 4 (n : Int) (c : Int) (t : Int) (q t : Int) (x : Int)) τ2 (fun _ τ' => agr oFM τ τ' ∧ ∃ q, OO H n q n ∧ ∀ k, k < n → τ'.1 2129 (800 + k) = (q k : Int)) := by
          intro k2
          induction k2 with
          | zero =>
            intro x f2 c τ2 q2 f hx hf2 hA2 hqt htc2 hq2 hf' hK2
            obtain ⟨f2', rfl⟩ : ∃ f2', f2 = f2' + 1 := ⟨f2 - 1, by omega⟩
            have ex : x = n := by omega
            subst ex
            rw [X15_findOrder_145, wp_ifp (by omega), X15_findOrder_212, wp_lt, w32_i (by omega) (by omega), show (t : Int) + 1 = ((t + 1 : Nat) : Int) by omega]
            exact ih (t + 1) c fu' τ2 q2 f (by omega) (by omega) hA2 hq2 hf' hK2.next (by omega)
          | succ k2 ih2 =>
            intro x f2 c τ2 q2 f hx hf2 hA2 hqt htc2 hq2 hf' hK2
            obtain ⟨f2', rfl⟩ : ∃ f2', f2 = f2' + 1 := ⟨f2 - 1, by omega⟩
            have hxl : x < n := by omega
            have nxt : ∀ c τ3 (q3 f3 : Nat → Nat), agr oFM τ τ3 → q3 t = q t → t < c → (∀ i, i < c → τ3.1 2129 (800 + i) = (q3 i : Int)) → (∀ x, x < n → τ3.1 2136 x = (f3 x : Int)) → KI H n f3 q3 c t (x + 1) → wp (X15_findOrder_206 (X15_findOrder_121 fu') (X15_findOrder_145 (X15_findOrder_121 fu') f2') 4 (n : Int) (c : Int) (t : Int) (q t : Int) (x : Int)) τ3 (fun _ τ' => agr oFM τ τ' ∧ ∃ q, OO H n q n ∧ ∀ k, k < n → τ'.1 2129 (800 + k) = (q k : Int)) := by
              intro c τ3 q3 f3 a1 a2 a3 a4 a5 a6
              rw [X15_findOrder_206, wp_lt, w32_i (by omega) (by omega), show (x : Int) + 1 = ((x + 1 : Nat) : Int) by omega]
              exact ih2 (x + 1) f2' c τ3 q3 f3 (by omega) (by omega) a1 a2 a3 a4 a5 a6
            rw [X15_findOrder_145, wp_ifn (by omega), wp_bd]
            refine hm_rd (hH' τ2 hA2) (by omega) (by omega) (fun hHx => ?_) (fun hHx => ?_)
            · have hx2 : H x (q2 t) := by rw [hqt]; exact hHx
              obtain ⟨d1, d2⟩ := hK2.dec hxl htc2 hx2
              have fl : f x ≤ n := by rw [hK2.2.1 x hxl]; exact ctP_le
              rw [wp_ifn (by decide), wp_bd, RI_2136 (by omega) (by omega), tn, hf' x hxl, wp_bd, RV_2136 (by omega) (by omega), tn, wp_bd, RI_2136 (by omega) (by omega), tn]
              dsimp only
              rw [w32_i (x := (f x : Int) - 1) (by omega) (by omega)]
              by_cases e1 : f x = 1
              · have hK3 := hK2.push hxl htc2 hx2 e1
                have hc1 : c + 1 ≤ n := by rw [hK3.1]; exact ctP_le
                rw [wp_ifp (by rw [stA_eq, ups_eq]; omega), wp_bd, eO c (by omega), RV_2129 (by omega) (by omega), tn, wp_lt, w32_i (by omega) (by omega), show (c : Int) + 1 = ((c + 1 : Nat) : Int) by omega]
                refine nxt (c + 1) _ (ups q2 c x) (ups f x 0) ((hA2.w (fun k hk => absurd (Or.inl rfl) hk)).u (by unfold oFM; omega) _) (by rw [ups_ne (by omega)]; exact hqt) (by omega) (fun i hi => ?_) (fun y hy => ?_) hK3
                · dsimp only
                  rw [stA_eq, stA_ne (by decide)]
                  by_cases e2 : i = c
                  · subst e2; rw [ups_eq, ups_eq]
                  · rw [ups_ne (by omega), ups_ne e2]; exact hq2 i (by omega)
                · dsimp only
                  rw [stA_ne (by decide), stA_eq]
                  by_cases e2 : y = x
                  · subst e2; rw [ups_eq, ups_eq]; omega
                  · rw [ups_ne e2, ups_ne e2]; exact hf' y hy
              · rw [wp_ifn (by rw [stA_eq, ups_eq]; omega)]
                refine nxt c _ q2 (ups f x (f x - 1)) (hA2.w (fun k hk => absurd (Or.inl rfl) hk)) hqt htc2 (fun i hi => ?_) (fun y hy => ?_) (hK2.stay hxl (fun k hk => ups_ne hk) (by rw [ups_eq]; exact d2) (by rw [ups_eq]; omega))
                · dsimp only
                  rw [stA_ne (by decide)]; exact hq2 i hi
                · dsimp only
                  rw [stA_eq]
                  by_cases e2 : y = x
                  · subst e2; rw [ups_eq, ups_eq]; omega
                  · rw [ups_ne e2, ups_ne e2]; exact hf' y hy
            · rw [wp_ifp rfl]
              refine nxt c τ2 q2 f hA2 hqt htc2 hq2 hf' (hK2.stay hxl (fun _ _ => rfl) ?_ Iff.rfl)
              rw [hK2.2.1 x hxl]
              refine ctP_cong (fun h _ => ?_)
              constructor
              · rintro ⟨a1, a2, -⟩
                exact ⟨a1, a2, fun z => hHx (by rw [← hqt, ← z.2]; exact a1)⟩
              · rintro ⟨a1, a2, -⟩
                exact ⟨a1, a2, fun z => Nat.lt_irrefl x z.1⟩
        exact inner n 0 FU c τ1 q f (by omega) (by omega) hA rfl (by omega) hq hf hK
  -- those that hang on nothing
  have start : ∀ k x c fu τ1 (q f : Nat → Nat), x + k = n → k < fu → agr oFM τ τ1 → (∀ i, i < c → τ1.1 2129 (800 + i) = (q i : Int)) → (∀ x, x < n → τ1.1 2136 x = (f x : Int)) → (∀ k, k < n → f k = ctP (H k) n) → c = ctP (fun k => f k = 0) x → (∀ i, i < c → q i < x ∧ f (q i) = 0) → (∀ k, k < x → f k = 0 → ∃ i, i < c ∧ q i = k) → (∀ i j, i < c → j < c → q i = q j → i = j) → wp (X15_findOrder_79 fu 4 (n : Int) (c : Int) (x : Int)) τ1 (fun _ τ' => agr oFM τ τ' ∧ ∃ q, OO H n q n ∧ ∀ k, k < n → τ'.1 2129 (800 + k) = (q k : Int)) := by
    intro k
    induction k with
    | zero =>
      intro x c fu τ1 q f hx hfu hA hq hf hfc hc h3 h4 h5
      obtain ⟨fu', rfl⟩ : ∃ fu', fu = fu' + 1 := ⟨fu - 1, by omega⟩
      have ex : x = n := by omega
      subst ex
      rw [X15_findOrder_79, wp_ifp (by omega), X15_findOrder_118, wp_lt]
      refine key x 0 c FU τ1 q f (by omega) (by omega) hA hq hf ⟨hc, fun k hk => ?_, h3, h4, h5, fun k h hk hh hHk => ?_⟩ (Nat.zero_le _)
      · rw [hfc k hk]
        refine ctP_cong (fun h _ => ⟨fun z => ⟨z, fun ⟨i, i1, _⟩ => absurd i1 (Nat.not_lt_zero i), fun y => absurd y.1 (Nat.not_lt_zero k)⟩, fun z => z.1⟩)
      · have h0 := (h3 k hk).2
        rw [hfc _ (h3 k hk).1] at h0
        exact absurd hHk (ctP_0.mp h0 h hh)
    | succ k ih =>
      intro x c fu τ1 q f hx hfu hA hq hf hfc hc h3 h4 h5
      obtain ⟨fu', rfl⟩ : ∃ fu', fu = fu' + 1 := ⟨fu - 1, by omega⟩
      have hxl : x < n := by omega
      have hcx : c ≤ x := by rw [hc]; exact ctP_le
      rw [X15_findOrder_79, wp_ifn (by omega), wp_bd, RI_2136 (by omega) (by omega), tn, hf x hxl]
      by_cases e : f x = 0
      · rw [wp_ifp (by omega), wp_bd, eO c (by omega), RV_2129 (by omega) (by omega), tn, wp_lt, w32_i (by omega) (by omega), X15_findOrder_112, wp_lt, w32_i (by omega) (by omega), show (x : Int) + 1 = ((x + 1 : Nat) : Int) by omega, show (c : Int) + 1 = ((c + 1 : Nat) : Int) by omega]
        refine ih (x + 1) (c + 1) fu' _ (ups q c x) f (by omega) (by omega) (hA.u (by unfold oFM; omega) _) (fun i hi => ?_) (fun y hy => by dsimp only; rw [stA_ne (by decide)]; exact hf y hy) hfc (by rw [ctP_up, b1_y e, ← hc]) (fun i hi => ?_) (fun k hk e2 => ?_) (fun i j hi hj e2 => ?_)
        · dsimp only
          rw [stA_eq]
          by_cases e2 : i = c
          · subst e2; rw [ups_eq, ups_eq]
          · rw [ups_ne (by omega), ups_ne e2]; exact hq i (by omega)
        · by_cases e2 : i = c
          · subst e2; rw [ups_eq]; exact ⟨Nat.lt_succ_self x, e⟩
          · rw [ups_ne e2]
            have := h3 i (by omega)
            exact ⟨by omega, this.2⟩
        · by_cases e3 : k = x
          · exact ⟨c, Nat.lt_succ_self c, by rw [ups_eq]; exact e3.symm⟩
          · obtain ⟨i, i1, i2⟩ := h4 k (by omega) e2
            exact ⟨i, by omega, by rw [ups_ne (by omega)]; exact i2⟩
        · by_cases ei : i = c
          · by_cases ej : j = c
            · omega
            · subst ei
              rw [ups_eq, ups_ne (by omega)] at e2
              have := (h3 j (by omega)).1
              omega
          · by_cases ej : j = c
            · subst ej
              rw [ups_eq, ups_ne (by omega)] at e2
              have := (h3 i (by omega)).1
              omega
            · rw [ups_ne ei, ups_ne ej] at e2
              exact h5 i j (by omega) (by omega) e2
      · rw [wp_ifn (by omega), X15_findOrder_112, wp_lt, w32_i (by omega) (by omega), show (x : Int) + 1 = ((x + 1 : Nat) : Int) by omega]
        refine ih (x + 1) c fu' τ1 q f (by omega) (by omega) hA hq hf hfc (by rw [ctP_up, b1_n e, ← hc]; rfl) (fun i hi => ⟨by have := (h3 i hi).1; omega, (h3 i hi).2⟩) (fun k hk e2 => ?_) h5
        by_cases e3 : k = x
        · rw [e3] at e2; exact absurd e2 e
        · exact h4 k (by omega) e2
  -- the counts
  have count : ∀ k x fu τ1, x + k = n → k < fu → agr oFM τ τ1 → (∀ y, y < x → τ1.1 2136 y = (ctP (H y) n : Int)) → wp (X15_findOrder_11 fu 4 (n : Int) (x : Int)) τ1 (fun _ τ' => agr oFM τ τ' ∧ ∃ q, OO H n q n ∧ ∀ k, k < n → τ'.1 2129 (800 + k) = (q k : Int)) := by
    intro k
    induction k with
    | zero =>
      intro x fu τ1 hx hfu hA hr1
      obtain ⟨fu', rfl⟩ : ∃ fu', fu = fu' + 1 := ⟨fu - 1, by omega⟩
      rw [X15_findOrder_11, wp_ifp (by omega), X15_findOrder_74, wp_lt, wp_lt]
      exact start n 0 0 FU τ1 (fun _ => 0) (fun y => ctP (H y) n) (by omega) (by omega) hA (fun i hi => absurd hi (Nat.not_lt_zero i)) (fun y hy => hr1 y (by omega)) (fun _ _ => rfl) rfl (fun i hi => absurd hi (Nat.not_lt_zero i)) (fun k hk => absurd hk (Nat.not_lt_zero k)) (fun i j hi => absurd hi (Nat.not_lt_zero i))
    | succ k ih =>
      intro x fu τ1 hx hfu hA hr1
      obtain ⟨fu', rfl⟩ : ∃ fu', fu = fu' + 1 := ⟨fu - 1, by omega⟩
      have hxl : x < n := by omega
      rw [X15_findOrder_11, wp_ifn (by omega), wp_bd, RV_2136 (by omega) (by omega), tn, wp_lt]
      have inner : ∀ k2 h f2 τ2, h + k2 = n → k2 < f2 → agr oFM τ τ2 → (∀ y, y < x → τ2.1 2136 y = (ctP (H y) n : Int)) → τ2.1 2136 x = (ctP (H x) h : Int) → wp (X15_findOrder_26 (X15_findOrder_11 fu') f2 4 (n : Int) (x : Int) (h : Int)) τ2 (fun _ τ' => agr oFM τ τ' ∧ ∃ q, OO H n q n ∧ ∀ k, k < n → τ'.1 2129 (800 + k) = (q k : Int)) := by
        intro k2
        induction k2 with
        | zero =>
          intro h f2 τ2 hh hf2 hA2 hr2 hx2
          obtain ⟨f2', rfl⟩ : ∃ f2', f2 = f2' + 1 := ⟨f2 - 1, by omega⟩
          rw [X15_findOrder_26, wp_ifp (by omega), X15_findOrder_68, wp_lt, w32_i (by omega) (by omega), show (x : Int) + 1 = ((x + 1 : Nat) : Int) by omega]
          refine ih (x + 1) fu' τ2 (by omega) (by omega) hA2 (fun y hy => ?_)
          by_cases e : y = x
          · subst e; rw [hx2, show h = n by omega]
          · exact hr2 y (by omega)
        | succ k2 ih2 =>
          intro h f2 τ2 hh hf2 hA2 hr2 hx2
          obtain ⟨f2', rfl⟩ : ∃ f2', f2 = f2' + 1 := ⟨f2 - 1, by omega⟩
          have hle : ctP (H x) h ≤ h := ctP_le
          have put : ∀ b : Nat, b = b1 (H x h) 1 → wp (X15_findOrder_60 (X15_findOrder_11 fu') (X15_findOrder_26 (X15_findOrder_11 fu') f2') 4 (n : Int) (x : Int) (h : Int) (x : Int) (ctP (H x) h : Int) (b : Int)) τ2 (fun _ τ' => agr oFM τ τ' ∧ ∃ q, OO H n q n ∧ ∀ k, k < n → τ'.1 2129 (800 + k) = (q k : Int)) := by
            rintro b rfl
            have hb1 : b1 (H x h) 1 ≤ 1 := b1_le
            rw [X15_findOrder_60, wp_bd, RV_2136 (by omega) (by omega), tn, wp_lt, w32_i (x := (h : Int) + 1) (by omega) (by omega), show (h : Int) + 1 = ((h + 1 : Nat) : Int) by omega]
            refine ih2 (h + 1) f2' _ (by omega) (by omega) (hA2.w (fun k hk => absurd (Or.inl rfl) hk)) (fun y hy => ?_) ?_
            · dsimp only
              rw [stA_eq, ups_ne (by omega)]; exact hr2 y hy
            · dsimp only
              rw [stA_eq, ups_eq, w32_i (by omega) (by omega), ctP_up]; omega
          rw [X15_findOrder_26, wp_ifn (by omega), wp_bd, RI_2136 (by omega) (by omega), tn, hx2, wp_bd]
          refine hm_rd (hH' τ2 hA2) (by omega) (by omega) (fun hHx => ?_) (fun hHx => ?_)
          · rw [wp_ifn (by decide)]; exact put 1 (b1_y hHx).symm
          · rw [wp_ifp rfl]; exact put 0 (b1_n hHx).symm
      refine inner n 0 FU _ (by omega) (by omega) (hA.w (fun k hk => absurd (Or.inl rfl) hk)) (fun y hy => ?_) ?_
      · dsimp only
        rw [stA_eq, ups_ne (by omega)]; exact hr1 y hy
      · dsimp only
        rw [stA_eq, ups_eq]; rfl
  rw [F_X15_findOrder, wp_lt, wp_bd, RI_2115 (by decide) (by decide), toN4, h15, wp_lt, wp_lt]
  exact count n 0 FU τ (by omega) (by omega) agr.refl (fun y hy => absurd hy (Nat.not_lt_zero y))
