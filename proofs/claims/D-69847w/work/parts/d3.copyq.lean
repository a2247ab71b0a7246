set_option maxRecDepth 100000
set_option maxHeartbeats 400000
/-! ===== designs: the component copies modules ===== -/
/-- how much of row r is copied -/
def cnQ (p : Nat) (σ : St) (r : Nat) : Int := if r = 1 then σ.1 p 29 else if r = 2 then 10 * σ.1 p 7 else if r ≤ 8 then σ.1 p 7 else if r ≤ 13 then σ.1 p 13 else if r ≤ 20 then σ.1 p 22 else σ.1 p 27
/-- rows below r are copied -/
def CQ (p : Nat) (σ : St) (o r : Nat) (υ : St) : Prop := (υ.2 = σ.2 ∧ ∀ a, (a < o ∨ o + 24 < a) → υ.1 a = σ.1 a) ∧ (υ.1 o 7 = σ.1 p 7 ∧ υ.1 o 13 = σ.1 p 13 ∧ υ.1 o 14 = σ.1 p 14 ∧ υ.1 o 22 = σ.1 p 22 ∧ υ.1 o 27 = σ.1 p 27 ∧ υ.1 o 30 = σ.1 p 30 ∧ υ.1 o 29 = σ.1 p 29) ∧ ∀ r', 1 ≤ r' → r' < r → ∀ j : Nat, (j : Int) < cnQ p σ r' → υ.1 (o + r') j = σ.1 (p + r') j
section
variable {σ υ : St} {p o r : Nat}
theorem cqs (hr : 1 ≤ r ∧ r ≤ 24) (hp : isMd p) (hm : isMd o) (ho : p + 24 < o) (h : CQ p σ o r υ) {v : Int} (hv : v = cnQ p σ r) (h0 : 0 ≤ v) (h1 : v ≤ (cpR r : Int)) {Q : Unit → St → Prop} (go : ∀ υ', CQ p σ o (r + 1) υ' → Q () υ') : wp (cpI (p + r) 0 (o + r) 0 v) υ Q := by
  obtain ⟨l1, l2, l3⟩ := cpR_lay ⟨r, by omega⟩ hr.1
  dsimp only at l1 l2 l3
  have l4 := hm r (by omega)
  have l5 := hp r (by omega)
  rw [wp_cpI, l4, l5]
  refine ⟨⟨⟨⟨rfl, by rw [← l1.1]; exact l1.2⟩, by decide, by decide, h0⟩, by omega, by omega⟩, go _ ?_⟩
  obtain ⟨⟨a1, a2⟩, a3, a4⟩ := h
  refine ⟨⟨a1, fun a ha => ?_⟩, ?_, fun r' q1 q2 j hj => ?_⟩
  · dsimp only; rw [stA_ne (by omega)]; exact a2 a ha
  · dsimp only; rw [stA_ne (by omega)]; exact a3
  · dsimp only
    by_cases e : r' = r
    · subst e
      rw [stA_eq]
      unfold cpy
      rw [if_pos ⟨by omega, by omega⟩, a2 _ (by omega), show (0 : Int).toNat + (j - (0 : Int).toNat) = j by omega]
    · rw [stA_ne (by omega)]; exact a4 r' q1 (by omega) j hj
theorem copyQ (hp : isMd p) (hm : isMd o) (ho : p + 24 < o) {t N nC nW L : Nat} (h7 : σ.1 p 7 = (t : Int)) (h13 : σ.1 p 13 = (N : Int)) (h22 : σ.1 p 22 = (nC : Int)) (h27 : σ.1 p 27 = (nW : Int)) (h29 : σ.1 p 29 = (L : Int)) (ht : t ≤ 40) (hN : N ≤ 240) (hC : nC ≤ 60) (hW : nW ≤ 240) (hL : L ≤ 10) {Q : Unit → St → Prop} (go : ∀ υ, CQ p σ o 25 υ → Q () υ) : wp (F_X2_copy o p) σ Q := by
  rw [F_X2_copy]
  rw [bgI (v := σ.1 p 7) (by rfl), wp_bd, wp_pI]
  rw [bgI (v := σ.1 p 13) (by simp (disch := omega) only [stA_ne]), wp_bd, wp_pI]
  rw [bgI (v := σ.1 p 14) (by simp (disch := omega) only [stA_ne]), wp_bd, wp_pI]
  rw [bgI (v := σ.1 p 22) (by simp (disch := omega) only [stA_ne]), wp_bd, wp_pI]
  rw [bgI (v := σ.1 p 27) (by simp (disch := omega) only [stA_ne]), wp_bd, wp_pI]
  rw [bgI (v := σ.1 p 30) (by simp (disch := omega) only [stA_ne]), wp_bd, wp_pI]
  rw [bgI (v := σ.1 p 29) (by simp (disch := omega) only [stA_ne]), wp_bd, wp_pI]
  generalize hυ : ((stA _ _ _, _) : St) = υ
  have hc : CQ p σ o 1 υ := by
    subst hυ
    refine ⟨⟨rfl, fun a ha => ?_⟩, ?_, fun r' q1 q2 => absurd q2 (by omega)⟩
    · simp (disch := omega) only [stA_ne]
    · refine ⟨?_, ?_, ?_, ?_, ?_, ?_, ?_⟩ <;> simp (disch := decide) only [stA_eq, ups_eq, ups_ne]
  clear hυ
  rw [bgI hc.2.1.2.2.2.2.2.2, wp_bd]
  rw [h29]
  refine cqs (r := 1) (by decide) hp hm ho hc (by unfold cnQ; rw [h29]; rfl) (by omega) (by rw [show cpR 1 = 10 from rfl]; omega) (fun υ2 hc2 => ?_)
  clear hc υ
  revert υ2
  intro υ hc
  rw [bgI hc.2.1.1, wp_bd]
  rw [h7, w32_i (by omega) (by omega)]
  refine cqs (r := 2) (by decide) hp hm ho hc (by unfold cnQ; rw [h7]; rfl) (by omega) (by rw [show cpR 2 = 400 from rfl]; omega) (fun υ2 hc2 => ?_)
  clear hc υ
  revert υ2
  intro υ hc
  rw [bgI hc.2.1.1, wp_bd, F_X2_copy_2, wp_bd]
  rw [h7]
  refine cqs (r := 3) (by decide) hp hm ho hc (by unfold cnQ; rw [h7]; rfl) (by omega) (by rw [show cpR 3 = 40 from rfl]; omega) (fun υ2 hc2 => ?_)
  clear hc υ
  revert υ2
  intro υ hc
  rw [wp_rt]
  rw [bgI hc.2.1.1, wp_bd, F_X2_copy_2, wp_bd]
  rw [h7]
  refine cqs (r := 4) (by decide) hp hm ho hc (by unfold cnQ; rw [h7]; rfl) (by omega) (by rw [show cpR 4 = 40 from rfl]; omega) (fun υ2 hc2 => ?_)
  clear hc υ
  revert υ2
  intro υ hc
  rw [wp_rt]
  rw [bgI hc.2.1.1, wp_bd, F_X2_copy_2, wp_bd]
  rw [h7]
  refine cqs (r := 5) (by decide) hp hm ho hc (by unfold cnQ; rw [h7]; rfl) (by omega) (by rw [show cpR 5 = 40 from rfl]; omega) (fun υ2 hc2 => ?_)
  clear hc υ
  revert υ2
  intro υ hc
  rw [wp_rt]
  rw [bgI hc.2.1.1, wp_bd, F_X2_copy_2, wp_bd]
  rw [h7]
  refine cqs (r := 6) (by decide) hp hm ho hc (by unfold cnQ; rw [h7]; rfl) (by omega) (by rw [show cpR 6 = 40 from rfl]; omega) (fun υ2 hc2 => ?_)
  clear hc υ
  revert υ2
  intro υ hc
  rw [wp_rt]
  rw [bgI hc.2.1.1, wp_bd, F_X2_copy_2, wp_bd]
  rw [h7]
  refine cqs (r := 7) (by decide) hp hm ho hc (by unfold cnQ; rw [h7]; rfl) (by omega) (by rw [show cpR 7 = 40 from rfl]; omega) (fun υ2 hc2 => ?_)
  clear hc υ
  revert υ2
  intro υ hc
  rw [wp_rt]
  rw [bgI hc.2.1.1, wp_bd, F_X2_copy_2, wp_bd]
  rw [h7]
  refine cqs (r := 8) (by decide) hp hm ho hc (by unfold cnQ; rw [h7]; rfl) (by omega) (by rw [show cpR 8 = 40 from rfl]; omega) (fun υ2 hc2 => ?_)
  clear hc υ
  revert υ2
  intro υ hc
  rw [wp_rt]
  rw [bgI hc.2.1.2.1, wp_bd, F_X2_copy_2, wp_bd]
  rw [h13]
  refine cqs (r := 9) (by decide) hp hm ho hc (by unfold cnQ; rw [h13]; rfl) (by omega) (by rw [show cpR 9 = 240 from rfl]; omega) (fun υ2 hc2 => ?_)
  clear hc υ
  revert υ2
  intro υ hc
  rw [wp_rt]
  rw [bgI hc.2.1.2.1, wp_bd, F_X2_copy_2, wp_bd]
  rw [h13]
  refine cqs (r := 10) (by decide) hp hm ho hc (by unfold cnQ; rw [h13]; rfl) (by omega) (by rw [show cpR 10 = 240 from rfl]; omega) (fun υ2 hc2 => ?_)
  clear hc υ
  revert υ2
  intro υ hc
  rw [wp_rt]
  rw [bgI hc.2.1.2.1, wp_bd, F_X2_copy_2, wp_bd]
  rw [h13]
  refine cqs (r := 11) (by decide) hp hm ho hc (by unfold cnQ; rw [h13]; rfl) (by omega) (by rw [show cpR 11 = 240 from rfl]; omega) (fun υ2 hc2 => ?_)
  clear hc υ
  revert υ2
  intro υ hc
  rw [wp_rt]
  rw [bgI hc.2.1.2.1, wp_bd, F_X2_copy_2, wp_bd]
  rw [h13]
  refine cqs (r := 12) (by decide) hp hm ho hc (by unfold cnQ; rw [h13]; rfl) (by omega) (by rw [show cpR 12 = 240 from rfl]; omega) (fun υ2 hc2 => ?_)
  clear hc υ
  revert υ2
  intro υ hc
  rw [wp_rt]
  rw [bgI hc.2.1.2.1, wp_bd, F_X2_copy_2, wp_bd]
  rw [h13]
  refine cqs (r := 13) (by decide) hp hm ho hc (by unfold cnQ; rw [h13]; rfl) (by omega) (by rw [show cpR 13 = 240 from rfl]; omega) (fun υ2 hc2 => ?_)
  clear hc υ
  revert υ2
  intro υ hc
  rw [wp_rt]
  rw [bgI hc.2.1.2.2.2.1, wp_bd, F_X2_copy_2, wp_bd]
  rw [h22]
  refine cqs (r := 14) (by decide) hp hm ho hc (by unfold cnQ; rw [h22]; rfl) (by omega) (by rw [show cpR 14 = 60 from rfl]; omega) (fun υ2 hc2 => ?_)
  clear hc υ
  revert υ2
  intro υ hc
  rw [wp_rt]
  rw [bgI hc.2.1.2.2.2.1, wp_bd, F_X2_copy_2, wp_bd]
  rw [h22]
  refine cqs (r := 15) (by decide) hp hm ho hc (by unfold cnQ; rw [h22]; rfl) (by omega) (by rw [show cpR 15 = 60 from rfl]; omega) (fun υ2 hc2 => ?_)
  clear hc υ
  revert υ2
  intro υ hc
  rw [wp_rt]
  rw [bgI hc.2.1.2.2.2.1, wp_bd, F_X2_copy_2, wp_bd]
  rw [h22]
  refine cqs (r := 16) (by decide) hp hm ho hc (by unfold cnQ; rw [h22]; rfl) (by omega) (by rw [show cpR 16 = 60 from rfl]; omega) (fun υ2 hc2 => ?_)
  clear hc υ
  revert υ2
  intro υ hc
  rw [wp_rt]
  rw [bgI hc.2.1.2.2.2.1, wp_bd, F_X2_copy_2, wp_bd]
  rw [h22]
  refine cqs (r := 17) (by decide) hp hm ho hc (by unfold cnQ; rw [h22]; rfl) (by omega) (by rw [show cpR 17 = 60 from rfl]; omega) (fun υ2 hc2 => ?_)
  clear hc υ
  revert υ2
  intro υ hc
  rw [wp_rt]
  rw [bgI hc.2.1.2.2.2.1, wp_bd, F_X2_copy_2, wp_bd]
  rw [h22]
  refine cqs (r := 18) (by decide) hp hm ho hc (by unfold cnQ; rw [h22]; rfl) (by omega) (by rw [show cpR 18 = 60 from rfl]; omega) (fun υ2 hc2 => ?_)
  clear hc υ
  revert υ2
  intro υ hc
  rw [wp_rt]
  rw [bgI hc.2.1.2.2.2.1, wp_bd, F_X2_copy_2, wp_bd]
  rw [h22]
  refine cqs (r := 19) (by decide) hp hm ho hc (by unfold cnQ; rw [h22]; rfl) (by omega) (by rw [show cpR 19 = 60 from rfl]; omega) (fun υ2 hc2 => ?_)
  clear hc υ
  revert υ2
  intro υ hc
  rw [wp_rt]
  rw [bgI hc.2.1.2.2.2.1, wp_bd, F_X2_copy_2, wp_bd]
  rw [h22]
  refine cqs (r := 20) (by decide) hp hm ho hc (by unfold cnQ; rw [h22]; rfl) (by omega) (by rw [show cpR 20 = 60 from rfl]; omega) (fun υ2 hc2 => ?_)
  clear hc υ
  revert υ2
  intro υ hc
  rw [wp_rt]
  rw [bgI hc.2.1.2.2.2.2.1, wp_bd, F_X2_copy_2, wp_bd]
  rw [h27]
  refine cqs (r := 21) (by decide) hp hm ho hc (by unfold cnQ; rw [h27]; rfl) (by omega) (by rw [show cpR 21 = 240 from rfl]; omega) (fun υ2 hc2 => ?_)
  clear hc υ
  revert υ2
  intro υ hc
  rw [wp_rt]
  rw [bgI hc.2.1.2.2.2.2.1, wp_bd, F_X2_copy_2, wp_bd]
  rw [h27]
  refine cqs (r := 22) (by decide) hp hm ho hc (by unfold cnQ; rw [h27]; rfl) (by omega) (by rw [show cpR 22 = 240 from rfl]; omega) (fun υ2 hc2 => ?_)
  clear hc υ
  revert υ2
  intro υ hc
  rw [wp_rt]
  rw [bgI hc.2.1.2.2.2.2.1, wp_bd]
  rw [h27]
  refine cqs (r := 23) (by decide) hp hm ho hc (by unfold cnQ; rw [h27]; rfl) (by omega) (by rw [show cpR 23 = 240 from rfl]; omega) (fun υ2 hc2 => ?_)
  clear hc υ
  revert υ2
  intro υ hc
  rw [bgI hc.2.1.2.2.2.2.1, wp_bd, F_X2_copy_2, wp_bd]
  rw [h27]
  refine cqs (r := 24) (by decide) hp hm ho hc (by unfold cnQ; rw [h27]; rfl) (by omega) (by rw [show cpR 24 = 240 from rfl]; omega) (fun υ2 hc2 => ?_)
  clear hc υ
  revert υ2
  intro υ hc
  rw [wp_rt]
  rw [wp_rt]
  exact go _ hc
theorem modX.copyQ {M : ModV} {Ms : Nat → ModV} {m : Nat} (h : modX σ p M) (hok : modOK Ms m M) (hc : CQ p σ o 25 υ) : modX υ o M := by
  obtain ⟨⟨⟨a1, a2, a3, a4, a5, a6, a7⟩, a8⟩, b, c, d⟩ := h
  obtain ⟨-, ⟨c7, c13, c14, c22, c27, c30, c29⟩, r⟩ := hc
  obtain ⟨-, -, h3, -⟩ := hok
  have r1 : ∀ j, j < mdL M → υ.1 (o + 1) j = σ.1 (p + 1) j := fun j hj => r 1 (by decide) (by decide) j (by show (j : Int) < σ.1 p 29; omega)
  have r2 : ∀ j, j < 10 * mdT M → υ.1 (o + 2) j = σ.1 (p + 2) j := fun j hj => r 2 (by decide) (by decide) j (by show (j : Int) < 10 * σ.1 p 7; omega)
  have rt : ∀ x, 3 ≤ x → x ≤ 8 → ∀ j, j < mdT M → υ.1 (o + x) j = σ.1 (p + x) j := fun x q1 q2 j hj => r x (by omega) (by omega) j (by unfold cnQ; rw [if_neg (by omega), if_neg (by omega), if_pos q2]; omega)
  have rn : ∀ x, 9 ≤ x → x ≤ 13 → ∀ j, j < mdN M → υ.1 (o + x) j = σ.1 (p + x) j := fun x q1 q2 j hj => r x (by omega) (by omega) j (by unfold cnQ; rw [if_neg (by omega), if_neg (by omega), if_neg (by omega), if_pos q2]; omega)
  have rc : ∀ x, 14 ≤ x → x ≤ 20 → ∀ j, j < mdC M → υ.1 (o + x) j = σ.1 (p + x) j := fun x q1 q2 j hj => r x (by omega) (by omega) j (by unfold cnQ; rw [if_neg (by omega), if_neg (by omega), if_neg (by omega), if_neg (by omega), if_pos q2]; omega)
  have rw' : ∀ x, 21 ≤ x → x ≤ 24 → ∀ j, j < mdW M → υ.1 (o + x) j = σ.1 (p + x) j := fun x q1 q2 j hj => r x (by omega) (by omega) j (by unfold cnQ; rw [if_neg (by omega), if_neg (by omega), if_neg (by omega), if_neg (by omega), if_neg (by omega)]; omega)
  refine ⟨⟨⟨by rw [c7]; exact a1, by rw [c13]; exact a2, by rw [c14]; exact a3, by rw [c22]; exact a4, by rw [c27]; exact a5, by rw [c30]; exact a6, by rw [c29]; exact a7⟩, fun j hj => by rw [r1 j hj]; exact a8 j hj⟩, fun i hi => ?_, fun i hi => ?_, fun q hq => ?_⟩
  · rw [rt 3 (by decide) (by decide) i hi, rt 4 (by decide) (by decide) i hi, rt 5 (by decide) (by decide) i hi, rt 6 (by decide) (by decide) i hi, rt 7 (by decide) (by decide) i hi, rt 8 (by decide) (by decide) i hi]
    obtain ⟨b1, b2, b3⟩ := b i hi
    have := (h3 i hi).2.2.1
    exact ⟨b1, b2, fun j hj => by rw [r2 _ (by omega)]; exact b3 j hj⟩
  · rw [rn 9 (by decide) (by decide) i hi, rn 10 (by decide) (by decide) i hi, rn 11 (by decide) (by decide) i hi, rn 12 (by decide) (by decide) i hi, rn 13 (by decide) (by decide) i hi]
    exact c i hi
  · rw [rc 14 (by decide) (by decide) q hq, rc 15 (by decide) (by decide) q hq, rc 16 (by decide) (by decide) q hq, rc 17 (by decide) (by decide) q hq, rc 18 (by decide) (by decide) q hq, rc 19 (by decide) (by decide) q hq, rc 20 (by decide) (by decide) q hq]
    obtain ⟨d1, d2⟩ := d q hq
    exact ⟨d1, crX.mono (Nat.le_refl _) (Nat.le_refl _) (fun _ _ => gAt.refl) (fun k hk => ⟨rw' 21 (by decide) (by decide) k hk, rw' 22 (by decide) (by decide) k hk, rw' 23 (by decide) (by decide) k hk, rw' 24 (by decide) (by decide) k hk⟩) _ _ d2⟩
/-- the modules of a design are copied: those below k stand -/
theorem modsX {Ms : Nat → ModV} {top q : Nat} {σ : St} {o : Nat} {x1 : Nat} (hD : isD o) (htop : top < 12) (hx1 : qa x1 = 12) (hM1 : ∀ m, m < 12 → σ.2.2 x1 m = some (110 + 25 * m)) (hMX : MX σ o Ms) (hX : ∀ m, m ≤ top → modX σ (110 + 25 * m) (Ms m)) (hok : ∀ m, m ≤ top → modOK Ms m (Ms m)) {Q : Int → St → Prop} (go : ∀ σ', agr (fun a _ => a < o + 27 ∨ o + 326 < a) σ σ' → σ'.2 = σ.2 → (∀ m, m ≤ top → modX σ' (o + 27 + 25 * m) (Ms m)) → wp (X13_build_25 o (top : Int)) σ' Q) : wp (F_X13_build o x1 (top : Int)) σ Q := by
  have hFU := FU_ge
  have key : ∀ d k f σ1, k + d = top + 1 → d < f → agr (fun a _ => a < o + 27 ∨ o + 326 < a) σ σ1 → σ1.2 = σ.2 → (∀ m, m < k → modX σ1 (o + 27 + 25 * m) (Ms m)) → wp (X13_build_2 o f x1 (top : Int) (k : Int)) σ1 Q := by
    intro d
    induction d with
    | zero =>
      intro k f σ1 hk hf hA hs hm
      obtain ⟨f', rfl⟩ : ∃ f', f = f' + 1 := ⟨f - 1, by omega⟩
      rw [X13_build_2, wp_ifp (by omega)]
      exact go σ1 hA hs (fun m h => hm m (by omega))
    | succ d ih =>
      intro k f σ1 hk hf hA hs hm
      obtain ⟨f', rfl⟩ : ∃ f', f = f' + 1 := ⟨f - 1, by omega⟩
      have hp : isMd (110 + 25 * k) := isMd_k (by omega)
      have hn : isMd (o + 27 + 25 * k) := isMd_D hD (by omega)
      have ho := hD
      unfold isD at ho
      have hXk : modX σ1 (110 + 25 * k) (Ms k) := (hX k (by omega)).fr (fun a q1 q2 => hA.row (fun i => Or.inl (by omega)))
      obtain ⟨⟨a1, a2, a3, a4, a5, a6⟩, -⟩ := hok k (by omega)
      have hL := (hok k (by omega)).2.1
      rw [X13_build_2, wp_ifn (by omega), wp_bd, DI_1 hD (by omega) (by omega), tn, wp_bd, c_rdQ hx1 (by omega) (by omega), tn, hs, hM1 k (by omega), hMX k (by omega), wp_nn, wp_nn, wp_ck, and_t (ly_Md hn), wp_ck, and_t (ly_Md hp), wp_bd]
      refine copyQ hp hn (by omega) hXk.1.1.1 hXk.1.1.2.1 hXk.1.1.2.2.2.1 hXk.1.1.2.2.2.2.1 hXk.1.1.2.2.2.2.2.2 a1 a2 a3 a4 hL.2.1 (fun σ2 hc => ?_)
      have hA2 : agr (fun a _ => a < o + 27 ∨ o + 326 < a) σ σ2 := fun a i h => by
        have h' : a < o + 27 ∨ o + 326 < a := h
        have e := hA a i h
        exact ⟨by rw [hc.1.2 a (by omega)]; exact e.1, by rw [hc.1.1]; exact e.2.1, by rw [hc.1.1]; exact e.2.2⟩
      rw [wp_lt, w32_i (by omega) (by omega), show (k : Int) + 1 = ((k + 1 : Nat) : Int) by omega]
      refine ih (k + 1) f' σ2 (by omega) (by omega) hA2 (by rw [hc.1.1]; exact hs) (fun m hm' => ?_)
      by_cases e : m = k
      · subst e
        exact hXk.copyQ (hok m (by omega)) hc
      · exact (hm m (by omega)).fr (fun a q1 q2 => hc.1.2 a (by omega))
  rw [F_X13_build, wp_lt]
  exact key (top + 1) 0 FU σ (by omega) (by omega) agr.refl rfl (fun m h => absurd h (Nat.not_lt_zero m))
end
