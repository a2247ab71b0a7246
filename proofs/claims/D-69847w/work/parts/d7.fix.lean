set_option maxRecDepth 100000
set_option maxHeartbeats 400000
/-! ===== designs: the values of signals, pure ===== -/
/-- the values of the inputs, of regs, of the words of mems; steps -/
abbrev VST : Type := (Nat → Nat) × (Nat → Nat) × (Nat → Nat → Nat) × Nat
section
variable (Ms : Nat → ModV) (s : LYS)
/-- the whens around hold -/
def hlD (V : Nat → Nat) (W : Nat → Nat → Nat) (i : Nat) (L : List (Nat × Bool)) : Prop := ∀ q, q ∈ L → nv Ms s V W i q.1 = (if q.2 = true then 0 else 1)
/-- what connections make of a value -/
noncomputable def cnV (V : Nat → Nat) (W : Nat → Nat → Nat) (g : Nat) : Nat → List Nat → Nat
  | v, [] => v
  | v, c :: L => cnV V W g (@ite _ (hlD Ms s V W (coI Ms s g) (mdCh (moI Ms s (coI Ms s g)) c)) (Classical.propDecidable _) (nv Ms s V W (coI Ms s g) (mdVl (moI Ms s (coI Ms s g)) c)) v) L
/-- a signal that connections make -/
def nrm (g : Nat) : Prop := ¬ stG Ms s g ∧ ¬ tiG Ms s g
noncomputable def Vb (v : VST) (g : Nat) : Nat := by
  classical
  exact if tiG Ms s g then v.1 g else if kdS Ms s g = 3 then v.2.1 g else 0
noncomputable def Vk (v : VST) : Nat → Nat → Nat
  | 0, g => Vb Ms s v g
  | k + 1, g => @ite _ (nrm Ms s g) (Classical.propDecidable _) (cnV Ms s (Vk v k) v.2.2.1 g 0 (conL Ms s g)) (Vb Ms s v g)
/-- the values of all signals -/
noncomputable def Vs (v : VST) (g : Nat) : Nat := Vk Ms s v (lsG s + 1) g
end
section
variable {Ms : Nat → ModV} {top : Nat} {s : LYS} {V V' : Nat → Nat} {W : Nat → Nat → Nat} {v : VST} {i g : Nat}
theorem cnV_y {V : Nat → Nat} {x c : Nat} {L : List Nat} (h : hlD Ms s V W (coI Ms s g) (mdCh (moI Ms s (coI Ms s g)) c)) : cnV Ms s V W g x (c :: L) = cnV Ms s V W g (nv Ms s V W (coI Ms s g) (mdVl (moI Ms s (coI Ms s g)) c)) L := by
  show cnV Ms s V W g (@ite _ _ (Classical.propDecidable _) _ _) L = _
  rw [if_pos h]
theorem cnV_n {V : Nat → Nat} {x c : Nat} {L : List Nat} (h : ¬ hlD Ms s V W (coI Ms s g) (mdCh (moI Ms s (coI Ms s g)) c)) : cnV Ms s V W g x (c :: L) = cnV Ms s V W g x L := by
  show cnV Ms s V W g (@ite _ _ (Classical.propDecidable _) _ _) L = _
  rw [if_neg h]
theorem cnV_app {V : Nat → Nat} : ∀ (P L : List Nat) (x : Nat), cnV Ms s V W g x (P ++ L) = cnV Ms s V W g (cnV Ms s V W g x P) L
  | [], _, _ => rfl
  | c :: P, L, x => cnV_app P L _
/-- the nodes of a module's whens -/
def chOK (Ms : Nat → ModV) (s : LYS) : Prop := ∀ i c, i < lsI s → c < mdC (moI Ms s i) → ∀ q, q ∈ mdCh (moI Ms s i) c → q.1 < mdN (moI Ms s i) ∧ gW (gI' Ms s i) q.1 = 1
theorem chOK_of (hd : DP Ms top s) {σ : St} {o : Nat} (hX : DX σ o Ms top s) : chOK Ms s := fun _ _ hi hc => hd.chN hX hi hc
/-- values of connections hang on what they read -/
theorem cnV_cong (hd : DP Ms top s) (hch : chOK Ms s) (hg : g < lsG s) (hV : ∀ h, h < lsG s → (∃ c, c ∈ conL Ms s g ∧ (rdE Ms s (coI Ms s g) (mdVl (moI Ms s (coI Ms s g)) c) h ∨ ∃ q, q ∈ mdCh (moI Ms s (coI Ms s g)) c ∧ rdE Ms s (coI Ms s g) q.1 h)) → V h = V' h) : ∀ (L : List Nat) (x : Nat), (∀ c, c ∈ L → c ∈ conL Ms s g) → cnV Ms s V W g x L = cnV Ms s V' W g x L
  | [], _, _ => rfl
  | c :: L, x, hL => by
    have hc := hL c List.mem_cons_self
    obtain ⟨z1, z2, z3, z4, -⟩ := hd.conL_mem hg hc
    have lt : ∀ u, u < mdN (moI Ms s (coI Ms s g)) → ∀ h, rdE Ms s (coI Ms s g) u h → h < lsG s := by
      rintro u hu h ⟨n, n1, n2, n4, n5⟩
      obtain ⟨t, t1, t2, t3, t4, -⟩ := hd.rd z2 (show n < mdN _ by omega) n4
      rw [t1, tn] at n5
      rw [← n5]; exact t4
    have e1 : nv Ms s V W (coI Ms s g) (mdVl (moI Ms s (coI Ms s g)) c) = nv Ms s V' W (coI Ms s g) (mdVl (moI Ms s (coI Ms s g)) c) := nv_cong hd z2 (hd.root z2 z3) (fun h hr => hV h (lt _ (hd.root z2 z3) h hr) ⟨c, hc, Or.inl hr⟩)
    have e2 : hlD Ms s V W (coI Ms s g) (mdCh (moI Ms s (coI Ms s g)) c) ↔ hlD Ms s V' W (coI Ms s g) (mdCh (moI Ms s (coI Ms s g)) c) := by
      have e3 : ∀ q, q ∈ mdCh (moI Ms s (coI Ms s g)) c → nv Ms s V W (coI Ms s g) q.1 = nv Ms s V' W (coI Ms s g) q.1 := fun q hq => nv_cong hd z2 (hch _ _ z2 z3 q hq).1 (fun h hr => hV h (lt _ (hch _ _ z2 z3 q hq).1 h hr) ⟨c, hc, Or.inr ⟨q, hq, hr⟩⟩)
      exact ⟨fun h q hq => by rw [← e3 q hq]; exact h q hq, fun h q hq => by rw [e3 q hq]; exact h q hq⟩
    by_cases hh : hlD Ms s V W (coI Ms s g) (mdCh (moI Ms s (coI Ms s g)) c)
    · rw [cnV_y hh, cnV_y (e2.mp hh), e1]
      exact cnV_cong hd hch hg hV L _ (fun x hx => hL x (List.mem_cons_of_mem _ hx))
    · rw [cnV_n hh, cnV_n (fun z => hh (e2.mpr z))]
      exact cnV_cong hd hch hg hV L _ (fun x hx => hL x (List.mem_cons_of_mem _ hx))
/-- a value has the width of its signal -/
theorem DP.cw (hd : DP Ms top s) (hg : g < lsG s) {c : Nat} (hc : c ∈ conL Ms s g) : gW (gI' Ms s (coI Ms s g)) (mdVl (moI Ms s (coI Ms s g)) c) = wdS Ms s g ∧ (kdS Ms s g = 4 ↔ 0 ≤ mdAd (moI Ms s (coI Ms s g)) c) ∧ (0 ≤ mdAd (moI Ms s (coI Ms s g)) c → (mdAd (moI Ms s (coI Ms s g)) c).toNat < mdN (moI Ms s (coI Ms s g))) := by
  obtain ⟨z1, z2, z3, z4, z5⟩ := hd.conL_mem hg hc
  obtain ⟨hm, ok⟩ := hd.inst z2
  obtain ⟨t, e1, e2, e3, h⟩ := (ok.2.2.2.2.1 c z3).1
  have et : mdTg (moI Ms s (coI Ms s g)) c = t := by omega
  rw [et] at z5
  rcases h with ⟨q1, q0, q2, q3, q4⟩ | ⟨a, q1, q0, qa, q2, q3⟩ | ⟨m, q1, q0, q2, q3, q4, q5⟩
  · obtain ⟨b1, b2, b3, b4⟩ := hd.thing z2 e2 (by omega)
    rw [q1, sgOf_n] at z5
    rw [z5] at b2 b3 b4
    refine ⟨?_, ⟨fun h => by omega, fun h => by omega⟩, fun h => by omega⟩
    unfold wdS
    rw [b2, b3]
    exact q4
  · obtain ⟨b1, b2, b3, b4⟩ := hd.thing z2 e2 (by omega)
    rw [q1, sgOf_n] at z5
    rw [z5] at b2 b3 b4
    refine ⟨?_, ⟨fun _ => by omega, fun _ => by omega⟩, fun _ => by omega⟩
    unfold wdS
    rw [b2, b3]
    exact q3
  · obtain ⟨b1, b2, b3, b4, b5⟩ := hd.part z2 e2 q2
    rw [q1, sgOf_p] at z5
    have q4' : mdkd (moI Ms s (lsL s (40 * coI Ms s g + t))) m = 0 := by
      show mdkd (Ms (lsM s (lsL s (40 * coI Ms s g + t)))) m = 0
      rw [b5]; exact q4
    obtain ⟨d1, d2, d3, d4⟩ := hd.thing (i := lsL s (40 * coI Ms s g + t)) (t := m) b2 (by
      show m < mdT (Ms (lsM s (lsL s (40 * coI Ms s g + t))))
      rw [b5]; exact q3) (by omega)
    rw [z5] at d2 d3 d4
    refine ⟨?_, ⟨fun h => by omega, fun h => by omega⟩, fun h => by omega⟩
    unfold wdS
    rw [d2, d3, b5]
    exact q5
theorem cnV_lt (hd : DP Ms top s) (hg : g < lsG s) (hV : ∀ g, g < lsG s → V g < 2 ^ wdS Ms s g) (hW : ∀ g j, g < lsG s → W g j < 2 ^ wdS Ms s g) : ∀ (L : List Nat) (x : Nat), (∀ c, c ∈ L → c ∈ conL Ms s g) → x < 2 ^ wdS Ms s g → cnV Ms s V W g x L < 2 ^ wdS Ms s g
  | [], _, _, h => h
  | c :: L, x, hL, h => by
    have hc := hL c List.mem_cons_self
    obtain ⟨z1, z2, z3, -⟩ := hd.conL_mem hg hc
    by_cases hh : hlD Ms s V W (coI Ms s g) (mdCh (moI Ms s (coI Ms s g)) c)
    · rw [cnV_y hh]
      refine cnV_lt hd hg hV hW L _ (fun x hx => hL x (List.mem_cons_of_mem _ hx)) ?_
      rw [← (hd.cw hg hc).1]
      exact nv_lt hd z2 hV hW _ (hd.root z2 z3)
    · rw [cnV_n hh]
      exact cnV_lt hd hg hV hW L _ (fun x hx => hL x (List.mem_cons_of_mem _ hx)) h
/-- the state fits -/
def VB (Ms : Nat → ModV) (s : LYS) (v : VST) : Prop := ∀ g, g < lsG s → v.1 g < 2 ^ wdS Ms s g ∧ v.2.1 g < 2 ^ wdS Ms s g ∧ ∀ j, v.2.2.1 g j < 2 ^ wdS Ms s g
theorem Vb_lt (hB : VB Ms s v) (hg : g < lsG s) : Vb Ms s v g < 2 ^ wdS Ms s g := by
  unfold Vb
  by_cases c : tiG Ms s g
  · rw [if_pos c]; exact (hB g hg).1
  · rw [if_neg c]
    by_cases c3 : kdS Ms s g = 3
    · rw [if_pos c3]; exact (hB g hg).2.1
    · rw [if_neg c3]; exact Nat.two_pow_pos _
theorem Vk_lt (hd : DP Ms top s) (hB : VB Ms s v) : ∀ k g, g < lsG s → Vk Ms s v k g < 2 ^ wdS Ms s g
  | 0, g, hg => Vb_lt hB hg
  | k + 1, g, hg => by
    show @ite _ _ (Classical.propDecidable _) _ _ < _
    by_cases c : nrm Ms s g
    · rw [if_pos c]
      exact cnV_lt hd hg (Vk_lt hd hB k) (fun g j hg => (hB g hg).2.2 j) _ _ (fun _ h => h) (Nat.two_pow_pos _)
    · rw [if_neg c]; exact Vb_lt hB hg
theorem Vk_n {k : Nat} (h : ¬ nrm Ms s g) : Vk Ms s v k g = Vb Ms s v g := by
  cases k with
  | zero => rfl
  | succ k =>
    show @ite _ _ (Classical.propDecidable _) _ _ = _
    rw [if_neg h]
theorem Vk_y {k : Nat} (h : nrm Ms s g) : Vk Ms s v (k + 1) g = cnV Ms s (Vk Ms s v k) v.2.2.1 g 0 (conL Ms s g) := by
  show @ite _ _ (Classical.propDecidable _) _ _ = _
  rw [if_pos h]
/-- behind its rank a value stands -/
theorem Vk_st (hd : DP Ms top s) (hch : chOK Ms s) {r : Nat → Nat} (hr : ∀ x t, x < lsG s → t < lsG s → hgG Ms s x t → r t < r x) : ∀ R g, r g < R → g < lsG s → ∀ k k', r g < k → r g < k' → Vk Ms s v k g = Vk Ms s v k' g := by
  intro R
  induction R with
  | zero => intro g h; exact absurd h (Nat.not_lt_zero _)
  | succ R ih =>
    intro g hgR hg k k' hk hk'
    by_cases c : nrm Ms s g
    · obtain ⟨k1, rfl⟩ : ∃ k1, k = k1 + 1 := ⟨k - 1, by omega⟩
      obtain ⟨k2, rfl⟩ : ∃ k2, k' = k2 + 1 := ⟨k' - 1, by omega⟩
      rw [Vk_y c, Vk_y c]
      refine cnV_cong hd hch hg (fun h hh hrd => ?_) _ _ (fun _ h => h)
      by_cases ch : nrm Ms s h
      · have hlt := hr g h hg hh ⟨hg, hh, c.1, ch.1, hrd⟩
        exact ih h (by omega) hh k1 k2 (by omega) (by omega)
      · rw [Vk_n ch, Vk_n ch]
    · rw [Vk_n c, Vk_n c]
/-- the values are what the connections make of them -/
theorem Vs_eq (hd : DP Ms top s) (hch : chOK Ms s) (hno : ∀ g, g < lsG s → ¬ onR (hgG Ms s) (lsG s) g) (hg : g < lsG s) (h : nrm Ms s g) : Vs Ms s v g = cnV Ms s (Vs Ms s v) v.2.2.1 g 0 (conL Ms s g) := by
  obtain ⟨r, r1, r2⟩ := rank_ex hno
  have e : Vs Ms s v g = Vk Ms s v (lsG s + 2) g := Vk_st hd hch r2 (r g + 1) g (Nat.lt_succ_self _) hg _ _ (by have := r1 g; omega) (by have := r1 g; omega)
  rw [e, Vk_y h]
  rfl
theorem Vs_n (h : ¬ nrm Ms s g) : Vs Ms s v g = Vb Ms s v g := Vk_n h
theorem Vs_lt (hd : DP Ms top s) (hB : VB Ms s v) : ∀ g, g < lsG s → Vs Ms s v g < 2 ^ wdS Ms s g := Vk_lt hd hB _
end
