set_option maxRecDepth 100000
set_option maxHeartbeats 400000
/-! ===== the call build ===== -/
theorem LY18 {d : Nat} (h : isD d) : lay (d + 18) = (1, 201) := (layD h 18 (by decide)).trans (by decide +kernel)
theorem RV_32 {o : Nat} (ho : isD o) {i : Int} {σ : St} (h1 : 0 ≤ i) (h2 : i < 5) {Q : Unit → St → Prop} : wp (wrQ 32 i o) σ Q = Q () (σ.1, σ.2.1, stA σ.2.2 32 (ups (σ.2.2 32) i.toNat (some o))) := by
  have hk : okQ 32 o = true := by unfold okQ; rw [ly_D ho]; decide +kernel
  rw [wp_wrQ, L32, hk, and_t ⟨⟨h1, h2⟩, rfl⟩]
/-- what an end without a design leaves alone -/
def bf0 (o a i : Nat) : Prop := ¬ ((dcX o a i ∧ a ≠ o + 1) ∨ a = 36 ∨ (a = 0 ∧ i = 9) ∨ wkM a i ∨ a = 2134 ∨ (a = 2075 ∧ (i = 0 ∨ i = 78)))
/-- what an end with a design leaves alone -/
def bf1 (S o a i : Nat) : Prop := ¬ ((dcX o a i ∧ a ≠ o + 1) ∨ a = 32 ∨ ((a = 33 ∨ a = 35) ∧ i = S) ∨ slM S a i ∨ (a = 2075 ∧ i = 0))
def P_bld (a k : Nat) : Prop := P_dz a k ∨ a = 35 ∨ a = 2141 ∨ (a = 0 ∧ k = 9) ∨ a = 36 ∨ (a = 2075 ∧ k = 78) ∨ a = 2134
section
variable {c S o : Nat} {σ τ : St} {ob : Nat → Nat}
theorem dcX_r {a i : Nat} (hD : isD o) (h : dcX o a i) : 410 ≤ a ∧ a ≤ 2068 ∧ a ≠ 737 ∧ a ≠ 738 ∧ a ≠ 739 ∧ a ≠ 740 ∧ a ≠ 741 ∧ a ≠ 742 ∧ ¬ (1070 ≤ a ∧ a ≤ 1075) ∧ ¬ (1403 ≤ a ∧ a ≤ 1408) ∧ ¬ (1736 ≤ a ∧ a ≤ 1741) := by
  obtain ⟨h1, h2⟩ := h
  rcases hD with rfl | rfl | rfl | rfl | rfl <;> omega
theorem dcTw_r {a i : Nat} (hS : S < 4) (h : dcTw S a i) : (2077 ≤ a ∧ a ≤ 2080 ∧ i < 48) ∨ (2082 ≤ a ∧ a ≤ 2086 ∧ i < 1920) ∨ (a = 2087 ∧ i < 19200) ∨ (2088 ≤ a ∧ a ≤ 2093 ∧ i < 14400) ∨ (2094 ≤ a ∧ a ≤ 2100 ∧ i < 9600) ∨ (2115 ≤ a ∧ a ≤ 2130) ∨ a = 2132 ∨ a = 2133 := by
  have := dcT_P hS h
  rcases h with h | h | h
  · have h2 : 2077 ≤ a := by
      unfold dT at h
      rcases h with h | h | h | h | h | h | h | h | h <;> omega
    unfold P_des at this
    omega
  · omega
  · omega
theorem wkM_r {a i : Nat} (h : wkM a i) : (2115 ≤ a ∧ a ≤ 2126) ∨ a = 2129 ∨ (2135 ≤ a ∧ a ≤ 2137) ∨ (a = 2075 ∧ 81 ≤ i ∧ i ≤ 83) := by
  unfold wkM at h
  omega
theorem bf0_out (hD : isD o) (e : agr (bf0 o) σ τ) : Out P_bld σ τ := agr.sub e (fun a i ⟨hv, hp⟩ => by
  rintro (⟨h, -⟩ | h | h | h | h | h)
  · exact hp (Or.inl (Or.inl (dcX_P hD h)))
  · exact hp (by unfold P_bld; omega)
  · exact hp (by unfold P_bld; omega)
  · have := wkM_r h
    unfold Vis at hv
    unfold P_bld P_dz P_des at hp
    omega
  · exact hp (by unfold P_bld; omega)
  · unfold Vis at hv
    unfold P_bld at hp
    omega)
theorem bf1_out (hD : isD o) (hS : S < 4) (e : agr (bf1 S o) σ τ) : Out P_bld σ τ := agr.sub e (fun a i ⟨hv, hp⟩ => by
  rintro (⟨h, -⟩ | h | h | h | h)
  · exact hp (Or.inl (Or.inl (dcX_P hD h)))
  · exact hp (Or.inl (Or.inl (Or.inl h)))
  · exact hp (by unfold P_bld P_dz; omega)
  · rcases h with h | h | h
    · have := wkM_r h
      unfold Vis at hv
      unfold P_bld P_dz P_des at hp
      omega
    · exact hp (Or.inl (Or.inl (dcT_P hS h)))
    · exact hp (by unfold P_bld P_dz; omega)
  · unfold Vis at hv
    unfold P_bld at hp
    omega)
theorem bf0_m {a i : Nat} (hD : isD o) (h : P_m0 a i) : bf0 o a i := by
  rintro (⟨h', -⟩ | h' | h' | h' | h' | h')
  · have := dcX_r hD h'
    unfold P_m0 at h
    omega
  · unfold P_m0 at h
    omega
  · unfold P_m0 at h
    omega
  · have := wkM_r h'
    unfold P_m0 at h
    omega
  · unfold P_m0 at h
    omega
  · unfold P_m0 at h
    omega
theorem bf1_m {a i : Nat} (hD : isD o) (hS : S < 4) (h : P_m0 a i) : bf1 S o a i := by
  rintro (⟨h', -⟩ | h' | h' | h' | h')
  · have := dcX_r hD h'
    unfold P_m0 at h
    omega
  · unfold P_m0 at h
    omega
  · unfold P_m0 at h
    omega
  · rcases h' with h' | h' | h'
    · have := wkM_r h'
      unfold P_m0 at h
      omega
    · have := dcTw_r hS h'
      unfold P_m0 at h
      omega
    · unfold P_m0 at h
      omega
  · unfold P_m0 at h
    omega
theorem bf0_n {a i : Nat} (hD : isD o) (h : P_net a i) : bf0 o a i := by
  rintro (⟨h', -⟩ | h' | h' | h' | h' | h')
  · have := dcX_r hD h'
    have := dcX_P hD h'
    unfold P_net at h
    omega
  · unfold P_net at h
    omega
  · unfold P_net at h
    omega
  · have := wkM_r h'
    unfold P_net at h
    omega
  · unfold P_net at h
    omega
  · unfold P_net at h
    omega
/-- a net stands but for one slot -/
theorem bf1_n {a i : Nat} (hD : isD o) (hS : S < 4) (h : P_net a i) (h2 : ¬ ((a = 35 ∨ a = 2141) ∧ i = S)) : bf1 S o a i := by
  rintro (⟨h', -⟩ | h' | h' | h' | h')
  · have := dcX_r hD h'
    unfold P_net at h
    omega
  · unfold P_net at h
    omega
  · unfold P_net at h
    omega
  · rcases h' with h' | h' | h'
    · have := wkM_r h'
      unfold P_net at h
      omega
    · have := dcTw_r hS h'
      unfold P_net at h
      omega
    · unfold P_net at h
      omega
  · unfold P_net at h
    omega
theorem net_bld (h : I_net σ) (hD : isD o) (hS : S < 4) (e : agr (bf1 S o) σ τ) (e1 : τ.1 35 S = 0) (e2 : τ.1 2141 S = 0) : I_net τ := by
  obtain ⟨nb, N, h1, h2, h3⟩ := h
  refine ⟨nb, N, fun s hs => ?_, h2, fun s hs => ?_⟩
  · rw [(e 34 s (bf1_n hD hS (by unfold P_net; omega) (by omega))).2.2]; exact h1 s hs
  · by_cases c : s = S
    · subst c; exact ⟨by rw [e1, e2], Or.inl e1⟩
    · rw [(e 35 s (bf1_n hD hS (by unfold P_net; omega) (by omega))).1, (e 2141 s (bf1_n hD hS (by unfold P_net; omega) (by omega))).1]
      refine ⟨(h3 s hs).1, (h3 s hs).2.imp id (fun q => ⟨q.1, q.2.1, netX.mono q.2.2.1 (fun i k hi => ?_), netM.mono q.2.2.2 (fun i hi => funext fun k => ?_)⟩)⟩
      · have ho := (h1 s (by omega)).2
        exact (e (nb s + i) k (bf1_n hD hS (by unfold P_net; omega) (by omega))).1
      · exact (e (2142 + i) k (bf1_n hD hS (by unfold P_net; omega) (by omega))).1
theorem dcO.far (hO : dcO ob σ) {s t : Nat} (hs : s < 5) (ht : t < 5) (hne : s ≠ t) {a : Nat} (h1 : ob s ≤ a) (h2 : a ≤ ob s + 326) : a < ob t ∨ ob t + 326 < a := by
  have hD := (hO.1 s hs).2.1
  have hD' := (hO.1 t ht).2.1
  have hne' : ob s ≠ ob t := fun e => hne (hO.2 s t hs ht e)
  rcases hD with w | w | w | w | w <;> rcases hD' with w' | w' | w' | w' | w' <;> omega
theorem dcT_off {t a i : Nat} (ht : t < 4) (h : dcTw t a i) : ¬ wkM a i := by
  rcases h with h | h | h
  · exact dT4_wk h ht
  · intro h'
    unfold wkM at h'
    omega
  · intro h'
    unfold wkM at h'
    omega
theorem dcT_sep {s t a i : Nat} (hne : s ≠ t) (h : dcTw s a i) (h' : dcTw t a i) : False := by
  rcases h with h | h | h <;> rcases h' with h' | h' | h'
  · unfold dT at h h'
    rcases h with h | h | h | h | h | h | h | h | h <;> rcases h' with h' | h' | h' | h' | h' | h' | h' | h' | h' <;> omega
  all_goals (try unfold dT at h); (try unfold dT at h'); omega
theorem I_des.same (hO : dcO ob σ) (hs : ∀ S, S < 4 → σ.1 33 S = σ.1 2114 S ∧ (σ.1 33 S = 0 ∨ σ.1 33 S = 1 ∧ dcS c S (ob S) σ)) (e : agr (bf0 (ob 4)) σ τ) : I_des c τ := by
  have hD := (hO.1 4 (by decide)).2.1
  have no : ∀ {a i}, ¬ (dcX (ob 4) a i ∧ a ≠ ob 4 + 1) → a < 2075 → a ≠ 36 → a ≠ 0 → bf0 (ob 4) a i := fun h1 h2 h3 h4 => by
    rintro (h | h | h | h | h | h)
    · exact h1 h
    · exact h3 h
    · omega
    · have := wkM_r h
      omega
    · omega
    · omega
  refine ⟨ob, ⟨fun s hs => ?_, hO.2⟩, fun t ht => ?_⟩
  · obtain ⟨a1, a2, a3⟩ := hO.1 s hs
    have b2 := dcX_r a2 (i := 0) (show dcX (ob s) (ob s + 1) 0 by unfold dcX; omega)
    refine ⟨?_, a2, fun m hm => ?_⟩
    · rw [(e 32 s (no (fun h => by have := dcX_r hD h.1; omega) (by decide) (by decide) (by decide))).2.2]; exact a1
    · rw [(e (ob s + 1) m (no (fun h => ?_) (by omega) (by omega) (by omega))).2.2]; exact a3 m hm
      by_cases c4 : s = 4
      · subst c4; exact h.2 rfl
      · have h1 := hO.far hs (show 4 < 5 by decide) c4 (a := ob s + 1) (by omega) (by omega)
        obtain ⟨h2, h3⟩ := h.1
        omega
  · obtain ⟨z1, z2⟩ := hs t ht
    rw [(e 33 t (no (fun h => by have := dcX_r hD h.1; omega) (by decide) (by decide) (by decide))).1, (e 2114 t (by
      rintro (h | h | h | h | h | h)
      · have := dcX_r hD h.1; omega
      · omega
      · omega
      · have := wkM_r h; omega
      · omega
      · omega)).1]
    refine ⟨z1, z2.imp id (fun q => ⟨q.1, q.2.fr (Nat.le_refl _) (agr.sub e (fun a i h => ?_)) (agr.sub e (fun a i h => ?_))⟩)⟩
    · have b2 := dcX_r (hO.1 t (by omega)).2.1 h
      refine no (fun h' => ?_) (by omega) (by omega) (by omega)
      have h1 := hO.far (show t < 5 by omega) (show 4 < 5 by decide) (by omega) h.1 h.2
      obtain ⟨h2, h3⟩ := h'.1
      omega
    · have b2 := dcTw_r ht h
      rintro (h' | h' | h' | h' | h' | h')
      · have := dcX_r hD h'.1; omega
      · omega
      · omega
      · exact dcT_off ht h h'
      · omega
      · omega
theorem I_des.swap (hO : dcO ob σ) (hs : ∀ S, S < 4 → σ.1 33 S = σ.1 2114 S ∧ (σ.1 33 S = 0 ∨ σ.1 33 S = 1 ∧ dcS c S (ob S) σ)) (hS : S < 4) (e : agr (bf1 S (ob 4)) σ τ) (q : τ.2.2 32 = ups (ups (σ.2.2 32) 4 (some (ob S))) S (some (ob 4))) (qm : ∀ m, τ.2.2 (ob 4 + 1) m = σ.2.2 (ob 4 + 1) m) (hn : dcS c S (ob 4) τ) (h1 : τ.1 33 S = 1) (h2 : τ.1 2114 S = 1) : I_des c τ := by
  have hD := (hO.1 4 (by decide)).2.1
  have no : ∀ {a i}, ¬ (dcX (ob 4) a i ∧ a ≠ ob 4 + 1) → a < 2075 → a ≠ 32 → ¬ ((a = 33 ∨ a = 35) ∧ i = S) → bf1 S (ob 4) a i := fun h1 h2 h3 h4 => by
    rintro (h | h | h | h | h)
    · exact h1 h
    · exact h3 h
    · exact h4 h
    · rcases h with h | h | h
      · have := wkM_r h
        omega
      · have := dcTw_r hS h
        omega
      · omega
    · omega
  have ptr : ∀ s, s < 5 → ∀ m, τ.2.2 (ob s + 1) m = σ.2.2 (ob s + 1) m := fun s hs m => by
    by_cases c4 : s = 4
    · subst c4; exact qm m
    · have b2 := dcX_r (hO.1 s hs).2.1 (i := 0) (show dcX (ob s) (ob s + 1) 0 by unfold dcX; omega)
      have h1 := hO.far hs (show 4 < 5 by decide) c4 (a := ob s + 1) (by omega) (by omega)
      exact (e (ob s + 1) m (no (fun h => by obtain ⟨h2, h3⟩ := h.1; omega) (by omega) (by omega) (by omega))).2.2
  refine ⟨ups (ups ob 4 (ob S)) S (ob 4), ⟨fun s hs => ?_, fun s t hs ht h => ?_⟩, fun t ht => ?_⟩
  · by_cases cS : s = S
    · subst cS
      rw [q, ups_eq, ups_eq]
      exact ⟨rfl, hD, fun m hm => by rw [ptr 4 (by decide) m]; exact (hO.1 4 (by decide)).2.2 m hm⟩
    · by_cases c4 : s = 4
      · subst c4
        rw [q, ups_ne cS, ups_ne cS, ups_eq, ups_eq]
        exact ⟨rfl, (hO.1 S (by omega)).2.1, fun m hm => by rw [ptr S (by omega) m]; exact (hO.1 S (by omega)).2.2 m hm⟩
      · rw [q, ups_ne cS, ups_ne cS, ups_ne c4, ups_ne c4]
        exact ⟨(hO.1 s hs).1, (hO.1 s hs).2.1, fun m hm => by rw [ptr s hs m]; exact (hO.1 s hs).2.2 m hm⟩
  · have val : ∀ u, ups (ups ob 4 (ob S)) S (ob 4) u = ob (if u = S then 4 else if u = 4 then S else u) := fun u => by
      rw [ups_app, ups_app]
      by_cases c1 : u = S
      · rw [if_pos c1, if_pos c1]
      · rw [if_neg c1, if_neg c1]
        by_cases c2 : u = 4
        · rw [if_pos c2, if_pos c2]
        · rw [if_neg c2, if_neg c2]
    rw [val, val] at h
    have b5 : ∀ u, u < 5 → (if u = S then 4 else if u = 4 then S else u) < 5 := fun u hu => by
      by_cases c1 : u = S
      · rw [if_pos c1]; omega
      · rw [if_neg c1]
        by_cases c2 : u = 4
        · rw [if_pos c2]; omega
        · rw [if_neg c2]; exact hu
    have inv : ∀ u, u < 5 → ∀ w, w = (if u = S then 4 else if u = 4 then S else u) → u = (if w = S then 4 else if w = 4 then S else w) := fun u hu w hw => by
      by_cases c1 : u = S
      · rw [if_pos c1] at hw; rw [hw, if_neg (by omega), if_pos rfl]; exact c1
      · rw [if_neg c1] at hw
        by_cases c2 : u = 4
        · rw [if_pos c2] at hw; rw [hw, if_pos rfl]; exact c2
        · rw [if_neg c2] at hw; rw [hw, if_neg c1, if_neg c2]
    have e := hO.2 _ _ (b5 s hs) (b5 t ht) h
    rw [inv s hs _ rfl, inv t ht _ rfl, e]
  · by_cases cS : t = S
    · subst cS
      rw [ups_eq, h1, h2]
      exact ⟨rfl, Or.inr ⟨rfl, hn⟩⟩
    · obtain ⟨z1, z2⟩ := hs t ht
      rw [(e 33 t (no (fun h => by have := dcX_r hD h.1; omega) (by decide) (by decide) (by omega))).1, (e 2114 t (by
        rintro (h | h | h | h | h)
        · have := dcX_r hD h.1; omega
        · omega
        · omega
        · rcases h with h | h | h
          · have := wkM_r h; omega
          · have := dcTw_r hS h; omega
          · omega
        · omega)).1, ups_ne cS, ups_ne (by omega)]
      refine ⟨z1, z2.imp id (fun q => ⟨q.1, q.2.fr (Nat.le_refl _) (agr.sub e (fun a i h => ?_)) (agr.sub e (fun a i h => ?_))⟩)⟩
      · have b2 := dcX_r (hO.1 t (by omega)).2.1 h
        refine no (fun h' => ?_) (by omega) (by omega) (by omega)
        have h1 := hO.far (show t < 5 by omega) (show 4 < 5 by decide) (by omega) h.1 h.2
        obtain ⟨h2, h3⟩ := h'.1
        omega
      · have b2 := dcTw_r ht h
        rintro (h' | h' | h' | h' | h')
        · have := dcX_r hD h'.1; omega
        · omega
        · omega
        · rcases h' with h' | h' | h'
          · exact dcT_off ht h h'
          · exact dcT_sep cS h h'
          · omega
        · omega
end
