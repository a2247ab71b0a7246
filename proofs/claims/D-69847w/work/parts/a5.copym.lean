set_option maxRecDepth 100000
set_option maxHeartbeats 400000
/-! ===== read: the module that was read goes to its place: the twin ===== -/
section
variable {τ : St} {k N nS nC ct : Nat}
def nodF (k a i : Nat) : Prop := ¬ (2088 ≤ a ∧ a ≤ 2093 ∧ 300 * (48 + k) ≤ i ∧ i < 300 * (48 + k) + 300)
def stmF (k nS a i : Nat) : Prop := ¬ (2094 ≤ a ∧ a ≤ 2100 ∧ 200 * (48 + k) ≤ i ∧ i < 200 * (48 + k) + nS)
def cntF (k a i : Nat) : Prop := ¬ (2078 ≤ a ∧ a ≤ 2080 ∧ i = 48 + k)
theorem nodesM (hk : k < 12) (h38 : τ.1 2075 38 = (N : Int)) (hN : N ≤ 300) {Q : Unit → St → Prop} (go : ∀ υ, agr (nodF k) τ υ → (∀ i, i < N → (υ.1 2088 (300 * (48 + k) + i) = τ.1 2101 i ∧ υ.1 2089 (300 * (48 + k) + i) = τ.1 2102 i ∧ υ.1 2090 (300 * (48 + k) + i) = τ.1 2103 i ∧ υ.1 2091 (300 * (48 + k) + i) = τ.1 2104 i ∧ υ.1 2092 (300 * (48 + k) + i) = τ.1 2105 i) ∧ υ.2.1 2093 (300 * (48 + k) + i) = τ.2.1 2106 i) → wp X15_endModule_291 υ Q) : wp (X15_endModule_193 FU ((300 * (48 + k) : Nat) : Int) 0) τ Q := by
  have hF := FU_ge
  refine loopM (L := fun f (z : Int) => X15_endModule_193 f ((300 * (48 + k) : Nat) : Int) z) (fun m z υ => ∃ e : Nat, z = (e : Int) ∧ e ≤ N ∧ m = N - e ∧ agr (nodF k) τ υ ∧ (∀ i, i < e → (υ.1 2088 (300 * (48 + k) + i) = τ.1 2101 i ∧ υ.1 2089 (300 * (48 + k) + i) = τ.1 2102 i ∧ υ.1 2090 (300 * (48 + k) + i) = τ.1 2103 i ∧ υ.1 2091 (300 * (48 + k) + i) = τ.1 2104 i ∧ υ.1 2092 (300 * (48 + k) + i) = τ.1 2105 i) ∧ υ.2.1 2093 (300 * (48 + k) + i) = τ.2.1 2106 i)) ?_ FU N 0 τ (by omega) ⟨0, rfl, Nat.zero_le _, rfl, agr.refl, fun i hi => absurd hi (Nat.not_lt_zero i)⟩
  rintro f m z υ ⟨e, rfl, he, rfl, ha, hc⟩ ih
  show wp (X15_endModule_193 (f + 1) ((300 * (48 + k) : Nat) : Int) (e : Int)) _ Q
  rw [X15_endModule_193, bgI (v := (N : Int)) (by rw [(ha 2075 38 (by unfold nodF; omega)).1]; exact h38)]
  by_cases c : e < N
  · have r1 : ∀ a, 2101 ≤ a → a ≤ 2105 → υ.1 a = τ.1 a := fun a h1 h2 => ha.row (fun k => by unfold nodF; omega)
    have r2 : υ.2.1 2106 = τ.2.1 2106 := funext fun i => (ha 2106 i (by unfold nodF; omega)).2.1
    rw [wp_ifn (by omega), w32_i (x := ((300 * (48 + k) : Nat) : Int) + (e : Int)) (by omega) (by omega)]
    rw [wp_bd, RI_2101 (by omega) (by omega), tn, wp_bd, RV_2088 (by omega) (by omega), show (((300 * (48 + k) : Nat) : Int) + (e : Int)).toNat = 300 * (48 + k) + e by omega]
    rw [wp_bd, RI_2102 (by omega) (by omega), tn, wp_bd, RV_2089 (by omega) (by omega), show (((300 * (48 + k) : Nat) : Int) + (e : Int)).toNat = 300 * (48 + k) + e by omega]
    rw [wp_bd, RI_2103 (by omega) (by omega), tn, wp_bd, RV_2090 (by omega) (by omega), show (((300 * (48 + k) : Nat) : Int) + (e : Int)).toNat = 300 * (48 + k) + e by omega]
    rw [wp_bd, RI_2104 (by omega) (by omega), tn, wp_bd, RV_2091 (by omega) (by omega), show (((300 * (48 + k) : Nat) : Int) + (e : Int)).toNat = 300 * (48 + k) + e by omega]
    rw [wp_bd, RI_2105 (by omega) (by omega), tn, wp_bd, RV_2092 (by omega) (by omega), show (((300 * (48 + k) : Nat) : Int) + (e : Int)).toNat = 300 * (48 + k) + e by omega]
    rw [wp_bd, RI_2106 (by omega) (by omega), tn, wp_bd, RV_2093 (by omega) (by omega), show (((300 * (48 + k) : Nat) : Int) + (e : Int)).toNat = 300 * (48 + k) + e by omega]
    simp (disch := decide) only [stA_ne]
    rw [wp_lt, w32_i (by omega) (by omega)]
    refine ih (N - (e + 1)) _ _ (by omega) ⟨e + 1, by omega, by omega, rfl, ?_, fun i hi => ?_⟩
    · refine ha.trans (((((((agr.refl.w (a := 2088) (fun i h => ?_)).w (a := 2089) (fun i h => ?_)).w (a := 2090) (fun i h => ?_)).w (a := 2091) (fun i h => ?_)).w (a := 2092) (fun i h => ?_)).v (a := 2093) (fun i h => ?_))) <;> (unfold nodF at h; rw [ups_ne (by omega)])
    · simp (disch := decide) only [stA_ne, stA_eq]
      by_cases d : i = e
      · subst d
        simp only [ups_eq]
        rw [r1 2101 (by decide) (by decide), r1 2102 (by decide) (by decide), r1 2103 (by decide) (by decide), r1 2104 (by decide) (by decide), r1 2105 (by decide) (by decide), r2]
        exact ⟨⟨rfl, rfl, rfl, rfl, rfl⟩, rfl⟩
      · rw [ups_ne (by omega), ups_ne (by omega), ups_ne (by omega), ups_ne (by omega), ups_ne (by omega), ups_ne (by omega)]
        exact hc i (by omega)
  · obtain rfl : e = N := by omega
    rw [wp_ifp (by omega)]
    exact go υ ha hc
theorem stmsM (hk : k < 12) (h46 : τ.1 2075 46 = (nS : Int)) (hN : nS ≤ 200) (hB : ∀ i, i < nS → (0 ≤ τ.1 2112 i ∧ τ.1 2112 i ≤ 1) ∧ 0 ≤ τ.1 2113 i ∧ τ.1 2113 i ≤ 1) {Q : Unit → St → Prop} (go : ∀ υ, agr (stmF k nS) τ υ → (∀ i, i < nS → υ.1 2094 (200 * (48 + k) + i) = τ.1 2107 i ∧ υ.1 2095 (200 * (48 + k) + i) = τ.1 2108 i ∧ υ.1 2096 (200 * (48 + k) + i) = τ.1 2109 i ∧ υ.1 2097 (200 * (48 + k) + i) = τ.1 2110 i ∧ υ.1 2098 (200 * (48 + k) + i) = τ.1 2111 i ∧ υ.1 2099 (200 * (48 + k) + i) = τ.1 2112 i) → wp X15_endModule_417 υ Q) : wp (X15_endModule_305 FU ((200 * (48 + k) : Nat) : Int) 0) τ Q := by
  have hF := FU_ge
  refine loopM (L := fun f (z : Int) => X15_endModule_305 f ((200 * (48 + k) : Nat) : Int) z) (fun m z υ => ∃ e : Nat, z = (e : Int) ∧ e ≤ nS ∧ m = nS - e ∧ agr (stmF k nS) τ υ ∧ (∀ i, i < e → υ.1 2094 (200 * (48 + k) + i) = τ.1 2107 i ∧ υ.1 2095 (200 * (48 + k) + i) = τ.1 2108 i ∧ υ.1 2096 (200 * (48 + k) + i) = τ.1 2109 i ∧ υ.1 2097 (200 * (48 + k) + i) = τ.1 2110 i ∧ υ.1 2098 (200 * (48 + k) + i) = τ.1 2111 i ∧ υ.1 2099 (200 * (48 + k) + i) = τ.1 2112 i)) ?_ FU nS 0 τ (by omega) ⟨0, rfl, Nat.zero_le _, rfl, agr.refl, fun i hi => absurd hi (Nat.not_lt_zero i)⟩
  rintro f m z υ ⟨e, rfl, he, rfl, ha, hc⟩ ih
  show wp (X15_endModule_305 (f + 1) ((200 * (48 + k) : Nat) : Int) (e : Int)) _ Q
  rw [X15_endModule_305, bgI (v := (nS : Int)) (by rw [(ha 2075 46 (by unfold stmF; omega)).1]; exact h46)]
  by_cases c : e < nS
  · have r1 : ∀ a, 2107 ≤ a → a ≤ 2113 → υ.1 a = τ.1 a := fun a h1 h2 => ha.row (fun k => by unfold stmF; omega)
    obtain ⟨⟨b1, b2⟩, b3, b4⟩ := hB e c
    rw [← r1 2112 (by decide) (by decide)] at b1 b2
    rw [← r1 2113 (by decide) (by decide)] at b3 b4
    have en : (((200 * (48 + k) : Nat) : Int) + (e : Int)).toNat = 200 * (48 + k) + e := by omega
    rw [wp_ifn (by omega), w32_i (x := ((200 * (48 + k) : Nat) : Int) + (e : Int)) (by omega) (by omega)]
    rw [wp_bd, RI_2107 (by omega) (by omega), tn, wp_bd, RV_2094 (by omega) (by omega), en]
    rw [wp_bd, RI_2108 (by omega) (by omega), tn, wp_bd, RV_2095 (by omega) (by omega), en]
    rw [wp_bd, RI_2109 (by omega) (by omega), tn, wp_bd, RV_2096 (by omega) (by omega), en]
    rw [wp_bd, RI_2110 (by omega) (by omega), tn, wp_bd, RV_2097 (by omega) (by omega), en]
    rw [wp_bd, RI_2111 (by omega) (by omega), tn, wp_bd, RV_2098 (by omega) (by omega), en]
    simp (disch := decide) only [stA_ne]
    rw [wp_bd, RI_2112 (by omega) (by omega), tn]
    simp (disch := decide) only [stA_ne]
    rw [wp_bd, RV_2099 (by omega) (by omega) b1 b2, en]
    rw [wp_bd, RI_2113 (by omega) (by omega), tn]
    simp (disch := decide) only [stA_ne]
    rw [wp_bd, RV_2100 (by omega) (by omega) b3 b4, en]
    simp (disch := decide) only [stA_ne]
    rw [wp_lt, w32_i (by omega) (by omega)]
    refine ih (nS - (e + 1)) _ _ (by omega) ⟨e + 1, by omega, by omega, rfl, ?_, fun i hi => ?_⟩
    · refine ha.trans ((((((((agr.refl.w (a := 2094) (fun i h => ?_)).w (a := 2095) (fun i h => ?_)).w (a := 2096) (fun i h => ?_)).w (a := 2097) (fun i h => ?_)).w (a := 2098) (fun i h => ?_)).w (a := 2099) (fun i h => ?_)).w (a := 2100) (fun i h => ?_))) <;> (unfold stmF at h; rw [ups_ne (by omega)])
    · simp (disch := decide) only [stA_ne, stA_eq]
      by_cases d : i = e
      · subst d
        simp only [ups_eq]
        rw [r1 2107 (by decide) (by decide), r1 2108 (by decide) (by decide), r1 2109 (by decide) (by decide), r1 2110 (by decide) (by decide), r1 2111 (by decide) (by decide), r1 2112 (by decide) (by decide)]
        exact ⟨rfl, rfl, rfl, rfl, rfl, rfl⟩
      · rw [ups_ne (by omega), ups_ne (by omega), ups_ne (by omega), ups_ne (by omega), ups_ne (by omega), ups_ne (by omega)]
        exact hc i (by omega)
  · obtain rfl : e = nS := by omega
    rw [wp_ifp (by omega)]
    exact go υ ha hc
/-- what stands at the module's place behind its end -/
def kpF (k nS a i : Nat) : Prop := nodF k a i ∧ stmF k nS a i ∧ cntF k a i
theorem end171 (h28 : τ.1 2075 28 = 0) (h37 : τ.1 2075 37 = (k : Int)) (hk : k < 12) (h38 : τ.1 2075 38 = (N : Int)) (hN : N ≤ 300) (h46 : τ.1 2075 46 = (nS : Int)) (hS : nS ≤ 200) (h39 : τ.1 2075 39 = (ct : Int)) (h47 : τ.1 2075 47 = (nC : Int)) (hB : ∀ i, i < nS → (0 ≤ τ.1 2112 i ∧ τ.1 2112 i ≤ 1) ∧ 0 ≤ τ.1 2113 i ∧ τ.1 2113 i ≤ 1) {Q : Unit → St → Prop} (go : ∀ υ, agr (kpF k nS) τ υ → (∀ i, i < N → (υ.1 2088 (300 * (48 + k) + i) = τ.1 2101 i ∧ υ.1 2089 (300 * (48 + k) + i) = τ.1 2102 i ∧ υ.1 2090 (300 * (48 + k) + i) = τ.1 2103 i ∧ υ.1 2091 (300 * (48 + k) + i) = τ.1 2104 i ∧ υ.1 2092 (300 * (48 + k) + i) = τ.1 2105 i) ∧ υ.2.1 2093 (300 * (48 + k) + i) = τ.2.1 2106 i) → (∀ i, i < nS → υ.1 2094 (200 * (48 + k) + i) = τ.1 2107 i ∧ υ.1 2095 (200 * (48 + k) + i) = τ.1 2108 i ∧ υ.1 2096 (200 * (48 + k) + i) = τ.1 2109 i ∧ υ.1 2097 (200 * (48 + k) + i) = τ.1 2110 i ∧ υ.1 2098 (200 * (48 + k) + i) = τ.1 2111 i ∧ υ.1 2099 (200 * (48 + k) + i) = τ.1 2112 i) → (υ.1 2078 (48 + k) = (ct : Int) ∧ υ.1 2079 (48 + k) = (nC : Int) ∧ υ.1 2080 (48 + k) = (nS : Int)) → Q () υ) : wp X15_endModule_171 τ Q := by
  rw [X15_endModule_171, bgI h28, wp_ifp (by decide), bgI h37, wp_lt, wp_lt, w32_i (x := 48 + (k : Int)) (by omega) (by omega), w32_i (by omega) (by omega), show 300 * (48 + (k : Int)) = ((300 * (48 + k) : Nat) : Int) by omega]
  refine nodesM hk h38 hN (fun υ1 a1 c1 => ?_)
  have f1 : ∀ i, υ1.1 2075 i = τ.1 2075 i := fun i => (a1 2075 i (by unfold nodF; omega)).1
  have g1 : ∀ a, (a < 2088 ∨ 2093 < a) → υ1.1 a = τ.1 a := fun a h => a1.row (fun k => by unfold nodF; omega)
  rw [X15_endModule_291, bgI ((f1 37).trans h37), wp_lt, wp_lt, w32_i (x := 48 + (k : Int)) (by omega) (by omega), w32_i (by omega) (by omega), show 200 * (48 + (k : Int)) = ((200 * (48 + k) : Nat) : Int) by omega]
  refine stmsM hk ((f1 46).trans h46) hS (fun i hi => by rw [g1 2112 (by omega), g1 2113 (by omega)]; exact hB i hi) (fun υ2 a2 c2 => ?_)
  have f2 : ∀ i, υ2.1 2075 i = τ.1 2075 i := fun i => ((a2 2075 i (by unfold stmF; omega)).1).trans (f1 i)
  rw [X15_endModule_417, bgI ((f2 37).trans h37), bgI ((f2 39).trans h39), wp_bd, w32_i (x := 48 + (k : Int)) (by omega) (by omega), RV_2078 (by omega) (by omega), show (48 + (k : Int)).toNat = 48 + k by omega]
  rw [bgI (v := (k : Int)) (by simp (disch := decide) only [stA_ne]; exact (f2 37).trans h37), bgI (v := (nC : Int)) (by simp (disch := decide) only [stA_ne]; exact (f2 47).trans h47), wp_bd, w32_i (x := 48 + (k : Int)) (by omega) (by omega), RV_2079 (by omega) (by omega), show (48 + (k : Int)).toNat = 48 + k by omega]
  rw [bgI (v := (k : Int)) (by simp (disch := decide) only [stA_ne]; exact (f2 37).trans h37), bgI (v := (nS : Int)) (by simp (disch := decide) only [stA_ne]; exact (f2 46).trans h46), wp_bd, w32_i (x := 48 + (k : Int)) (by omega) (by omega), RV_2080 (by omega) (by omega), show (48 + (k : Int)).toNat = 48 + k by omega, wp_rt]
  have a3 : agr (cntF k) υ2 (stA (stA (stA υ2.1 2078 (ups (υ2.1 2078) (48 + k) (ct : Int))) 2079 (ups (υ2.1 2079) (48 + k) (nC : Int))) 2080 (ups (υ2.1 2080) (48 + k) (nS : Int)), υ2.2) := by
    refine ((agr.refl.w (a := 2078) (fun i h => ?_)).w (a := 2079) (fun i h => ?_)).w (a := 2080) (fun i h => ?_) <;> (unfold cntF at h; rw [ups_ne (by omega)])
  have e3 : ((stA (stA (stA υ2.1 2078 (ups (υ2.1 2078) (48 + k) (ct : Int))) 2079 (ups (υ2.1 2079) (48 + k) (nC : Int))) 2080 (ups (υ2.1 2080) (48 + k) (nS : Int)), υ2.2) : St).1 2078 (48 + k) = (ct : Int) ∧ ((stA (stA (stA υ2.1 2078 (ups (υ2.1 2078) (48 + k) (ct : Int))) 2079 (ups (υ2.1 2079) (48 + k) (nC : Int))) 2080 (ups (υ2.1 2080) (48 + k) (nS : Int)), υ2.2) : St).1 2079 (48 + k) = (nC : Int) ∧ ((stA (stA (stA υ2.1 2078 (ups (υ2.1 2078) (48 + k) (ct : Int))) 2079 (ups (υ2.1 2079) (48 + k) (nC : Int))) 2080 (ups (υ2.1 2080) (48 + k) (nS : Int)), υ2.2) : St).1 2080 (48 + k) = (nS : Int) := by
    refine ⟨?_, ?_, ?_⟩ <;> simp (disch := decide) only [stA_ne, stA_eq, ups_eq]
  simp (disch := decide) only [stA_ne]
  generalize ((stA (stA (stA υ2.1 2078 (ups (υ2.1 2078) (48 + k) (ct : Int))) 2079 (ups (υ2.1 2079) (48 + k) (nC : Int))) 2080 (ups (υ2.1 2080) (48 + k) (nS : Int)), υ2.2) : St) = υ3 at a3 e3 ⊢
  refine go υ3 ?_ (fun i hi => ?_) (fun i hi => ?_) e3
  · exact ((agr.sub a1 (fun a i h => h.1)).trans (agr.sub a2 (fun a i h => h.2.1))).trans (agr.sub a3 (fun a i h => h.2.2))
  · have h3 : ∀ a, 2088 ≤ a → a ≤ 2093 → υ3.1 a = υ1.1 a ∧ υ3.2.1 a = υ1.2.1 a := fun a q1 q2 => ⟨funext fun i => ((a3 a i (by unfold cntF; omega)).1).trans (a2 a i (by unfold stmF; omega)).1, funext fun i => ((a3 a i (by unfold cntF; omega)).2.1).trans (a2 a i (by unfold stmF; omega)).2.1⟩
    rw [(h3 2088 (by decide) (by decide)).1, (h3 2089 (by decide) (by decide)).1, (h3 2090 (by decide) (by decide)).1, (h3 2091 (by decide) (by decide)).1, (h3 2092 (by decide) (by decide)).1, (h3 2093 (by decide) (by decide)).2]
    exact c1 i hi
  · have h3 : ∀ a, 2094 ≤ a → a ≤ 2100 → υ3.1 a = υ2.1 a := fun a q1 q2 => funext fun i => (a3 a i (by unfold cntF; omega)).1
    rw [h3 2094 (by decide) (by decide), h3 2095 (by decide) (by decide), h3 2096 (by decide) (by decide), h3 2097 (by decide) (by decide), h3 2098 (by decide) (by decide), h3 2099 (by decide) (by decide)]
    have := c2 i hi
    rw [g1 2107 (by omega), g1 2108 (by omega), g1 2109 (by omega), g1 2110 (by omega), g1 2111 (by omega), g1 2112 (by omega)] at this
    exact this
end
