set_option maxRecDepth 100000
set_option maxHeartbeats 400000
/-! ===== read: the module that was read goes to its place: the component ===== -/
/-- how much of row r is copied -/
def cnR (σ : St) (r : Nat) : Int := if r = 1 then σ.1 5 29 else if r = 2 then 10 * σ.1 5 7 else if r ≤ 8 then σ.1 5 7 else if r ≤ 13 then σ.1 5 13 else if r ≤ 20 then σ.1 5 22 else σ.1 5 27
def cpR (r : Nat) : Nat := if r = 1 then 10 else if r = 2 then 400 else if r ≤ 8 then 40 else if r ≤ 13 then 240 else if r ≤ 20 then 60 else 240
theorem cpR_lay : ∀ r : Fin 25, 1 ≤ (r : Nat) → ((lay (5 + r)).1 = (lay (110 + r)).1 ∧ 1 ≤ (lay (5 + r)).1 ∧ (lay (5 + r)).1 ≤ 3) ∧ cpR r ≤ (lay (5 + r)).2 ∧ (lay (110 + r)).2 = cpR r := by decide +kernel
/-- rows below r are copied -/
def CP (σ : St) (o r : Nat) (υ : St) : Prop := (υ.2 = σ.2 ∧ ∀ a, (a < o ∨ o + 24 < a) → υ.1 a = σ.1 a) ∧ (υ.1 o 7 = σ.1 5 7 ∧ υ.1 o 13 = σ.1 5 13 ∧ υ.1 o 14 = σ.1 5 14 ∧ υ.1 o 22 = σ.1 5 22 ∧ υ.1 o 27 = σ.1 5 27 ∧ υ.1 o 30 = σ.1 5 30 ∧ υ.1 o 29 = σ.1 5 29) ∧ ∀ r', 1 ≤ r' → r' < r → ∀ j : Nat, (j : Int) < cnR σ r' → υ.1 (o + r') j = σ.1 (5 + r') j
section
variable {σ υ : St} {o r : Nat}
theorem cps (hr : 1 ≤ r ∧ r ≤ 24) (hm : isMd o) (ho : 110 ≤ o) (h : CP σ o r υ) {v : Int} (hv : v = cnR σ r) (h0 : 0 ≤ v) (h1 : v ≤ (cpR r : Int)) {Q : Unit → St → Prop} (go : ∀ υ', CP σ o (r + 1) υ' → Q () υ') : wp (cpI (5 + r) 0 (o + r) 0 v) υ Q := by
  obtain ⟨l1, l2, l3⟩ := cpR_lay ⟨r, by omega⟩ hr.1
  dsimp only at l1 l2 l3
  have l4 := hm r (by omega)
  rw [wp_cpI, l4]
  refine ⟨⟨⟨⟨l1.1, l1.2⟩, by decide, by decide, h0⟩, by omega, by omega⟩, go _ ?_⟩
  obtain ⟨⟨a1, a2⟩, a3, a4⟩ := h
  refine ⟨⟨a1, fun a ha => ?_⟩, ?_, fun r' q1 q2 j hj => ?_⟩
  · dsimp only; rw [stA_ne (by omega)]; exact a2 a ha
  · dsimp only; rw [stA_ne (by omega)]; exact a3
  · dsimp only
    by_cases e : r' = r
    · subst e
      rw [stA_eq]
      unfold cpy
      rw [if_pos ⟨by omega, by omega⟩, a2 _ (by omega), show (0 : Int).toNat + (j - (0 : Int).toNat) = j by omega]
    · rw [stA_ne (by omega)]; exact a4 r' q1 (by omega) j hj
theorem copyX (hm : isMd o) (ho : 110 ≤ o) {t N nC nW L : Nat} (h7 : σ.1 5 7 = (t : Int)) (h13 : σ.1 5 13 = (N : Int)) (h22 : σ.1 5 22 = (nC : Int)) (h27 : σ.1 5 27 = (nW : Int)) (h29 : σ.1 5 29 = (L : Int)) (ht : t ≤ 40) (hN : N ≤ 240) (hC : nC ≤ 60) (hW : nW ≤ 240) (hL : L ≤ 10) {Q : Unit → St → Prop} (go : ∀ υ, CP σ o 25 υ → Q () υ) : wp (F_X2_copy o 5) σ Q := by
  rw [F_X2_copy]
  rw [bgI (v := σ.1 5 7) (by rfl), wp_bd, wp_pI]
  rw [bgI (v := σ.1 5 13) (by simp (disch := omega) only [stA_ne]), wp_bd, wp_pI]
  rw [bgI (v := σ.1 5 14) (by simp (disch := omega) only [stA_ne]), wp_bd, wp_pI]
  rw [bgI (v := σ.1 5 22) (by simp (disch := omega) only [stA_ne]), wp_bd, wp_pI]
  rw [bgI (v := σ.1 5 27) (by simp (disch := omega) only [stA_ne]), wp_bd, wp_pI]
  rw [bgI (v := σ.1 5 30) (by simp (disch := omega) only [stA_ne]), wp_bd, wp_pI]
  rw [bgI (v := σ.1 5 29) (by simp (disch := omega) only [stA_ne]), wp_bd, wp_pI]
  generalize hυ : ((stA _ _ _, _) : St) = υ
  have hc : CP σ o 1 υ := by
    subst hυ
    refine ⟨⟨rfl, fun a ha => ?_⟩, ?_, fun r' q1 q2 => absurd q2 (by omega)⟩
    · simp (disch := omega) only [stA_ne]
    · refine ⟨?_, ?_, ?_, ?_, ?_, ?_, ?_⟩ <;> simp (disch := decide) only [stA_eq, ups_eq, ups_ne]
  clear hυ
  rw [bgI hc.2.1.2.2.2.2.2.2, wp_bd]
  rw [h29]
  refine cps (r := 1) (by decide) hm ho hc (by unfold cnR; rw [h29]; rfl) (by omega) (by rw [show cpR 1 = 10 from rfl]; omega) (fun υ2 hc2 => ?_)
  clear hc υ
  revert υ2
  intro υ hc
  rw [bgI hc.2.1.1, wp_bd]
  rw [h7, w32_i (by omega) (by omega)]
  refine cps (r := 2) (by decide) hm ho hc (by unfold cnR; rw [h7]; rfl) (by omega) (by rw [show cpR 2 = 400 from rfl]; omega) (fun υ2 hc2 => ?_)
  clear hc υ
  revert υ2
  intro υ hc
  rw [bgI hc.2.1.1, wp_bd, F_X2_copy_2, wp_bd]
  rw [h7]
  refine cps (r := 3) (by decide) hm ho hc (by unfold cnR; rw [h7]; rfl) (by omega) (by rw [show cpR 3 = 40 from rfl]; omega) (fun υ2 hc2 => ?_)
  clear hc υ
  revert υ2
  intro υ hc
  rw [wp_rt]
  rw [bgI hc.2.1.1, wp_bd, F_X2_copy_2, wp_bd]
  rw [h7]
  refine cps (r := 4) (by decide) hm ho hc (by unfold cnR; rw [h7]; rfl) (by omega) (by rw [show cpR 4 = 40 from rfl]; omega) (fun υ2 hc2 => ?_)
  clear hc υ
  revert υ2
  intro υ hc
  rw [wp_rt]
  rw [bgI hc.2.1.1, wp_bd, F_X2_copy_2, wp_bd]
  rw [h7]
  refine cps (r := 5) (by decide) hm ho hc (by unfold cnR; rw [h7]; rfl) (by omega) (by rw [show cpR 5 = 40 from rfl]; omega) (fun υ2 hc2 => ?_)
  clear hc υ
  revert υ2
  intro υ hc
  rw [wp_rt]
  rw [bgI hc.2.1.1, wp_bd, F_X2_copy_2, wp_bd]
  rw [h7]
  refine cps (r := 6) (by decide) hm ho hc (by unfold cnR; rw [h7]; rfl) (by omega) (by rw [show cpR 6 = 40 from rfl]; omega) (fun υ2 hc2 => ?_)
  clear hc υ
  revert υ2
  intro υ hc
  rw [wp_rt]
  rw [bgI hc.2.1.1, wp_bd, F_X2_copy_2, wp_bd]
  rw [h7]
  refine cps (r := 7) (by decide) hm ho hc (by unfold cnR; rw [h7]; rfl) (by omega) (by rw [show cpR 7 = 40 from rfl]; omega) (fun υ2 hc2 => ?_)
  clear hc υ
  revert υ2
  intro υ hc
  rw [wp_rt]
  rw [bgI hc.2.1.1, wp_bd, F_X2_copy_2, wp_bd]
  rw [h7]
  refine cps (r := 8) (by decide) hm ho hc (by unfold cnR; rw [h7]; rfl) (by omega) (by rw [show cpR 8 = 40 from rfl]; omega) (fun υ2 hc2 => ?_)
  clear hc υ
  revert υ2
  intro υ hc
  rw [wp_rt]
  rw [bgI hc.2.1.2.1, wp_bd, F_X2_copy_2, wp_bd]
  rw [h13]
  refine cps (r := 9) (by decide) hm ho hc (by unfold cnR; rw [h13]; rfl) (by omega) (by rw [show cpR 9 = 240 from rfl]; omega) (fun υ2 hc2 => ?_)
  clear hc υ
  revert υ2
  intro υ hc
  rw [wp_rt]
  rw [bgI hc.2.1.2.1, wp_bd, F_X2_copy_2, wp_bd]
  rw [h13]
  refine cps (r := 10) (by decide) hm ho hc (by unfold cnR; rw [h13]; rfl) (by omega) (by rw [show cpR 10 = 240 from rfl]; omega) (fun υ2 hc2 => ?_)
  clear hc υ
  revert υ2
  intro υ hc
  rw [wp_rt]
  rw [bgI hc.2.1.2.1, wp_bd, F_X2_copy_2, wp_bd]
  rw [h13]
  refine cps (r := 11) (by decide) hm ho hc (by unfold cnR; rw [h13]; rfl) (by omega) (by rw [show cpR 11 = 240 from rfl]; omega) (fun υ2 hc2 => ?_)
  clear hc υ
  revert υ2
  intro υ hc
  rw [wp_rt]
  rw [bgI hc.2.1.2.1, wp_bd, F_X2_copy_2, wp_bd]
  rw [h13]
  refine cps (r := 12) (by decide) hm ho hc (by unfold cnR; rw [h13]; rfl) (by omega) (by rw [show cpR 12 = 240 from rfl]; omega) (fun υ2 hc2 => ?_)
  clear hc υ
  revert υ2
  intro υ hc
  rw [wp_rt]
  rw [bgI hc.2.1.2.1, wp_bd, F_X2_copy_2, wp_bd]
  rw [h13]
  refine cps (r := 13) (by decide) hm ho hc (by unfold cnR; rw [h13]; rfl) (by omega) (by rw [show cpR 13 = 240 from rfl]; omega) (fun υ2 hc2 => ?_)
  clear hc υ
  revert υ2
  intro υ hc
  rw [wp_rt]
  rw [bgI hc.2.1.2.2.2.1, wp_bd, F_X2_copy_2, wp_bd]
  rw [h22]
  refine cps (r := 14) (by decide) hm ho hc (by unfold cnR; rw [h22]; rfl) (by omega) (by rw [show cpR 14 = 60 from rfl]; omega) (fun υ2 hc2 => ?_)
  clear hc υ
  revert υ2
  intro υ hc
  rw [wp_rt]
  rw [bgI hc.2.1.2.2.2.1, wp_bd, F_X2_copy_2, wp_bd]
  rw [h22]
  refine cps (r := 15) (by decide) hm ho hc (by unfold cnR; rw [h22]; rfl) (by omega) (by rw [show cpR 15 = 60 from rfl]; omega) (fun υ2 hc2 => ?_)
  clear hc υ
  revert υ2
  intro υ hc
  rw [wp_rt]
  rw [bgI hc.2.1.2.2.2.1, wp_bd, F_X2_copy_2, wp_bd]
  rw [h22]
  refine cps (r := 16) (by decide) hm ho hc (by unfold cnR; rw [h22]; rfl) (by omega) (by rw [show cpR 16 = 60 from rfl]; omega) (fun υ2 hc2 => ?_)
  clear hc υ
  revert υ2
  intro υ hc
  rw [wp_rt]
  rw [bgI hc.2.1.2.2.2.1, wp_bd, F_X2_copy_2, wp_bd]
  rw [h22]
  refine cps (r := 17) (by decide) hm ho hc (by unfold cnR; rw [h22]; rfl) (by omega) (by rw [show cpR 17 = 60 from rfl]; omega) (fun υ2 hc2 => ?_)
  clear hc υ
  revert υ2
  intro υ hc
  rw [wp_rt]
  rw [bgI hc.2.1.2.2.2.1, wp_bd, F_X2_copy_2, wp_bd]
  rw [h22]
  refine cps (r := 18) (by decide) hm ho hc (by unfold cnR; rw [h22]; rfl) (by omega) (by rw [show cpR 18 = 60 from rfl]; omega) (fun υ2 hc2 => ?_)
  clear hc υ
  revert υ2
  intro υ hc
  rw [wp_rt]
  rw [bgI hc.2.1.2.2.2.1, wp_bd, F_X2_copy_2, wp_bd]
  rw [h22]
  refine cps (r := 19) (by decide) hm ho hc (by unfold cnR; rw [h22]; rfl) (by omega) (by rw [show cpR 19 = 60 from rfl]; omega) (fun υ2 hc2 => ?_)
  clear hc υ
  revert υ2
  intro υ hc
  rw [wp_rt]
  rw [bgI hc.2.1.2.2.2.1, wp_bd, F_X2_copy_2, wp_bd]
  rw [h22]
  refine cps (r := 20) (by decide) hm ho hc (by unfold cnR; rw [h22]; rfl) (by omega) (by rw [show cpR 20 = 60 from rfl]; omega) (fun υ2 hc2 => ?_)
  clear hc υ
  revert υ2
  intro υ hc
  rw [wp_rt]
  rw [bgI hc.2.1.2.2.2.2.1, wp_bd, F_X2_copy_2, wp_bd]
  rw [h27]
  refine cps (r := 21) (by decide) hm ho hc (by unfold cnR; rw [h27]; rfl) (by omega) (by rw [show cpR 21 = 240 from rfl]; omega) (fun υ2 hc2 => ?_)
  clear hc υ
  revert υ2
  intro υ hc
  rw [wp_rt]
  rw [bgI hc.2.1.2.2.2.2.1, wp_bd, F_X2_copy_2, wp_bd]
  rw [h27]
  refine cps (r := 22) (by decide) hm ho hc (by unfold cnR; rw [h27]; rfl) (by omega) (by rw [show cpR 22 = 240 from rfl]; omega) (fun υ2 hc2 => ?_)
  clear hc υ
  revert υ2
  intro υ hc
  rw [wp_rt]
  rw [bgI hc.2.1.2.2.2.2.1, wp_bd]
  rw [h27]
  refine cps (r := 23) (by decide) hm ho hc (by unfold cnR; rw [h27]; rfl) (by omega) (by rw [show cpR 23 = 240 from rfl]; omega) (fun υ2 hc2 => ?_)
  clear hc υ
  revert υ2
  intro υ hc
  rw [bgI hc.2.1.2.2.2.2.1, wp_bd, F_X2_copy_2, wp_bd]
  rw [h27]
  refine cps (r := 24) (by decide) hm ho hc (by unfold cnR; rw [h27]; rfl) (by omega) (by rw [show cpR 24 = 240 from rfl]; omega) (fun υ2 hc2 => ?_)
  clear hc υ
  revert υ2
  intro υ hc
  rw [wp_rt]
  rw [wp_rt]
  exact go _ hc
end
