set_option maxRecDepth 100000
set_option maxHeartbeats 400000
/-! ===== the names of the twin's things stay bytes (printed by gen/mkpres.py) ===== -/
def BY (σ : St) : Prop := ∀ i, inB 2087 (σ.1 2087 i) = true
/-- m keeps them so -/
def pres {α : Type} (m : St → Option (α × St)) : Prop := ∀ σ x τ, m σ = some (x, τ) → BY σ → BY τ
section
variable {α β : Type} {a k : Nat} {i v : Int}
theorem pres_bd {m : St → Option (β × St)} {g : β → St → Option (α × St)} (h : pres m) (hg : ∀ x, pres (g x)) : pres (bd m g) := by
  intro σ x τ e hb
  unfold bd at e
  cases hm : m σ with
  | none => rw [hm] at e; cases e
  | some p =>
    rw [hm] at e
    exact hg p.1 p.2 x τ e (h σ p.1 p.2 hm hb)
theorem pres_lt {x : β} {g : β → St → Option (α × St)} (hg : ∀ x, pres (g x)) : pres (lt x g) := hg x
theorem pres_ite {c : Prop} {hd : Decidable c} {m n : St → Option (α × St)} (h1 : pres m) (h2 : pres n) : pres (if c then m else n) := by
  by_cases h : c
  · rw [if_pos h]; exact h1
  · rw [if_neg h]; exact h2
theorem pres_no : pres (no : St → Option (α × St)) := by
  intro σ x τ e; cases e
theorem pres_same {m : St → Option (α × St)} (h : ∀ σ x τ, m σ = some (x, τ) → τ = σ) : pres m := by
  intro σ x τ e hb
  rw [h σ x τ e]; exact hb
theorem pres_if {c : St → Prop} {hd : ∀ σ, Decidable (c σ)} {x : St → α} : pres (fun σ => if c σ then some (x σ, σ) else none) := pres_same (fun σ y τ e => by
  by_cases h : c σ
  · rw [if_pos h] at e; cases e; rfl
  · rw [if_neg h] at e; cases e)
theorem pres_rt {x : α} : pres (rt x) := pres_same (fun σ y τ e => by cases e; rfl)
theorem pres_rtZ : pres (rtZ i) := pres_if (c := fun _ => 0 ≤ i ∧ i ≤ 1) (x := fun _ => i)
theorem pres_rtB : pres (rtB i) := pres_if (c := fun _ => -128 ≤ i ∧ i ≤ 127) (x := fun _ => i)
theorem pres_rtC : pres (rtC i) := pres_if (c := fun _ => 0 ≤ i ∧ i ≤ 255) (x := fun _ => i)
theorem pres_rdI : pres (rdI a i) := pres_if (c := fun _ => 0 ≤ i ∧ i < (ia a : Int)) (x := fun σ => σ.1 a i.toNat)
theorem pres_rdB : pres (rdB a i) := pres_if (c := fun _ => 0 ≤ i ∧ i < (ba a : Int)) (x := fun σ => σ.1 a i.toNat)
theorem pres_rdL : pres (rdL a i) := pres_if (c := fun _ => 0 ≤ i ∧ i < (la a : Int)) (x := fun σ => σ.2.1 a i.toNat)
theorem pres_rdQ : pres (rdQ a i) := pres_if (c := fun _ => 0 ≤ i ∧ i < (qa a : Int)) (x := fun σ => σ.2.2 a i.toNat)
theorem pres_rdV : pres (rdV a i) := pres_if (c := fun _ => 0 ≤ i ∧ i < sl a) (x := fun _ => sb a i)
theorem pres_gI : pres (gI a k) := pres_same (fun σ y τ e => by cases e; rfl)
theorem pres_gL : pres (gL a k) := pres_same (fun σ y τ e => by cases e; rfl)
theorem pres_gQ : pres (gQ a k) := pres_same (fun σ y τ e => by cases e; rfl)
theorem BY_up {σ : St} (hb : BY σ) (h : a = 2087 → inB 2087 v = true) : BY (up2 σ.1 a k v, σ.2) := by
  intro j
  show inB 2087 (up2 σ.1 a k v 2087 j) = true
  unfold up2
  by_cases e : 2087 = a ∧ j = k
  · rw [if_pos e]; exact h e.1.symm
  · rw [if_neg e]; exact hb j
theorem pres_pI (h : a ≠ 2087) : pres (pI a k v) := by
  intro σ x τ e hb
  cases e
  exact BY_up hb (fun z => absurd z h)
theorem pres_pL {v : Int64} (_ : a ≠ 2087) : pres (pL a k v) := by
  intro σ x τ e hb
  cases e
  exact hb
theorem pres_pZ (h : a ≠ 2087) : pres (pZ a k v) := by
  intro σ x τ e hb
  unfold pZ at e
  by_cases c : 0 ≤ v ∧ v ≤ 1
  · rw [if_pos c] at e; cases e
    exact BY_up hb (fun z => absurd z h)
  · rw [if_neg c] at e; cases e
theorem ia87 : ia 2087 = 0 := by decide +kernel
theorem pres_wrI : pres (wrI a i v) := by
  intro σ x τ e hb
  unfold wrI at e
  by_cases c : 0 ≤ i ∧ i < (ia a : Int)
  · rw [if_pos c] at e; cases e
    refine BY_up hb (fun z => ?_)
    subst z
    rw [ia87] at c
    omega
  · rw [if_neg c] at e; cases e
theorem pres_wrB : pres (wrB a i v) := by
  intro σ x τ e hb
  unfold wrB at e
  by_cases c : (0 ≤ i ∧ i < (ba a : Int)) ∧ inB a v = true
  · rw [if_pos c] at e; cases e
    exact BY_up hb (fun z => by subst z; exact c.2)
  · rw [if_neg c] at e; cases e
theorem pres_wrL {v : Int64} : pres (wrL a i v) := by
  intro σ x τ e hb
  unfold wrL at e
  by_cases c : 0 ≤ i ∧ i < (la a : Int)
  · rw [if_pos c] at e; cases e; exact hb
  · rw [if_neg c] at e; cases e
theorem pres_ckS {g : St → Option (α × St)} (h : pres g) : pres (ckS a g) := by
  intro σ x τ e hb
  unfold ckS at e
  split at e
  · exact h σ x τ e hb
  · cases e
theorem pres_ck {ci : Nat} {g : St → Option (α × St)} (h : pres g) : pres (ck a ci g) := by
  intro σ x τ e hb
  unfold ck at e
  split at e
  · exact h σ x τ e hb
  · cases e
end
theorem bp_F_X15_in {a0 : Int64} {a2 : Int64} {a4 : Int64}  : pres (F_X15_in a0 a2 a4) := by
  rw [F_X15_in]
  refine pres_ite ?_ ?_
  · exact pres_rtZ
  · refine pres_ite ?_ ?_
    · exact pres_rtZ
    · exact pres_rtZ
theorem bp_F_X15_fail {a1 : Int} {a2 : Int}  : pres (F_X15_fail a1 a2) := by
  rw [F_X15_fail]
  refine pres_bd pres_gI (fun _ => ?_)
  refine pres_ite ?_ ?_
  · refine pres_bd (pres_pI (by decide)) (fun _ => ?_)
    refine pres_bd (pres_pI (by decide)) (fun _ => ?_)
    exact pres_rt
  · exact pres_rt
theorem bp_F_X15_sign {a1 : Int}  : pres (F_X15_sign a1) := by
  rw [F_X15_sign]
  refine pres_bd pres_gI (fun _ => ?_)
  refine pres_ite ?_ ?_
  · exact pres_rt
  · refine pres_bd pres_rdB (fun _ => ?_)
    exact pres_rt
theorem bp_F_X15_isLetter {a0 : Int}  : pres (F_X15_isLetter a0) := by
  rw [F_X15_isLetter]
  refine pres_bd bp_F_X15_in (fun _ => ?_)
  refine pres_ite ?_ ?_
  · refine pres_bd bp_F_X15_in (fun _ => ?_)
    refine pres_ite ?_ ?_
    · exact pres_rtZ
    · exact pres_rtZ
  · exact pres_rtZ
theorem bp_F_X15_isDigit {a0 : Int}  : pres (F_X15_isDigit a0) := by
  rw [F_X15_isDigit]
  refine pres_bd bp_F_X15_in (fun _ => ?_)
  exact pres_rtZ
theorem bp_F_X15_signOf {a0 : Int} {a1 : Int}  : pres (F_X15_signOf a0 a1) := by
  rw [F_X15_signOf]
  refine pres_ite ?_ ?_
  · refine pres_ite ?_ ?_
    · exact pres_rt
    · exact pres_rt
  · refine pres_ite ?_ ?_
    · exact pres_rt
    · refine pres_ite ?_ ?_
      · exact pres_rt
      · refine pres_ite ?_ ?_
        · exact pres_rt
        · refine pres_ite ?_ ?_
          · exact pres_rt
          · refine pres_ite ?_ ?_
            · exact pres_rt
            · refine pres_ite ?_ ?_
              · exact pres_rt
              · refine pres_ite ?_ ?_
                · exact pres_rt
                · refine pres_ite ?_ ?_
                  · exact pres_rt
                  · refine pres_ite ?_ ?_
                    · exact pres_rt
                    · refine pres_ite ?_ ?_
                      · exact pres_rt
                      · refine pres_ite ?_ ?_
                        · exact pres_rt
                        · refine pres_ite ?_ ?_
                          · refine pres_ite ?_ ?_
                            · exact pres_rt
                            · refine pres_ite ?_ ?_
                              · exact pres_rt
                              · exact pres_rt
                          · refine pres_ite ?_ ?_
                            · refine pres_ite ?_ ?_
                              · exact pres_rt
                              · exact pres_rt
                            · refine pres_ite ?_ ?_
                              · refine pres_ite ?_ ?_
                                · exact pres_rt
                                · exact pres_rt
                              · refine pres_ite ?_ ?_
                                · exact pres_rt
                                · refine pres_ite ?_ ?_
                                  · exact pres_rt
                                  · refine pres_ite ?_ ?_
                                    · exact pres_rt
                                    · refine pres_ite ?_ ?_
                                      · exact pres_rt
                                      · refine pres_ite ?_ ?_
                                        · exact pres_rt
                                        · refine pres_ite ?_ ?_
                                          · exact pres_rt
                                          · refine pres_ite ?_ ?_
                                            · exact pres_rt
                                            · refine pres_ite ?_ ?_
                                              · exact pres_rt
                                              · exact pres_rt
theorem bp_F_X15_take   : pres (F_X15_take) := by
  rw [F_X15_take]
  refine pres_bd (pres_pZ (by decide)) (fun _ => ?_)
  exact pres_rt
theorem bp_F_X15_opens   : pres (F_X15_opens) := by
  rw [F_X15_opens]
  refine pres_bd pres_gI (fun _ => ?_)
  refine pres_ite ?_ ?_
  · refine pres_bd pres_gI (fun _ => ?_)
    refine pres_ite ?_ ?_
    · refine pres_bd pres_gI (fun _ => ?_)
      refine pres_bd bp_F_X15_fail (fun _ => ?_)
      exact pres_rtZ
    · refine pres_bd pres_gI (fun _ => ?_)
      refine pres_bd (pres_pI (by decide)) (fun _ => ?_)
      exact pres_rtZ
  · exact pres_rtZ
theorem bp_X15_node_40 {x1 : Int} {x2 : Int} {x3 : Int} {x4 : Int} {x5 : Int} {x6 : Int64} {x9 : Int} {s0 : Int} {s1 : Int}  : pres (X15_node_40 x1 x2 x3 x4 x5 x6 x9 s0 s1) := by
  rw [X15_node_40]
  refine pres_bd (pres_pI (by decide)) (fun _ => ?_)
  refine pres_bd pres_wrI (fun _ => ?_)
  refine pres_bd pres_wrI (fun _ => ?_)
  refine pres_bd pres_wrI (fun _ => ?_)
  refine pres_bd pres_wrI (fun _ => ?_)
  refine pres_bd pres_wrI (fun _ => ?_)
  refine pres_bd pres_wrL (fun _ => ?_)
  exact pres_rt
theorem bp_F_X15_node {a1 : Int} {a2 : Int} {a3 : Int} {a4 : Int} {a5 : Int} {a6 : Int64} {a8 : Int}  : pres (F_X15_node a1 a2 a3 a4 a5 a6 a8) := by
  rw [F_X15_node]
  refine pres_bd pres_gI (fun _ => ?_)
  refine pres_ite ?_ ?_
  · refine pres_bd pres_gI (fun _ => ?_)
    refine pres_lt (fun _ => ?_)
    refine pres_bd pres_gI (fun _ => ?_)
    refine pres_bd (pres_pI (by decide)) (fun _ => ?_)
    refine pres_bd pres_gI (fun _ => ?_)
    refine pres_ite ?_ ?_
    · exact bp_X15_node_40
    · exact bp_X15_node_40
  · exact pres_rt
theorem bp_X15_isName_55 {rec5 : Nat → Int → Int → Int → St → Option (Int × St)} {x1 : Nat} {x2 : Int} {x4 : Int} {s0 : Int} (h_rec5 : ∀ y0 y1 y2 y3, pres (rec5 y0 y1 y2 y3)) : pres (X15_isName_55 rec5 x1 x2 x4 s0) := by
  rw [X15_isName_55]
  refine pres_lt (fun _ => ?_)
  refine pres_lt (fun _ => ?_)
  exact (h_rec5 _ _ _ _)
theorem bp_X15_isName_47 {rec5 : Nat → Int → Int → Int → St → Option (Int × St)} {x1 : Nat} {x2 : Int} {x4 : Int} {s0 : Int} {s1 : Int} (h_rec5 : ∀ y0 y1 y2 y3, pres (rec5 y0 y1 y2 y3)) : pres (X15_isName_47 rec5 x1 x2 x4 s0 s1) := by
  rw [X15_isName_47]
  refine pres_ite ?_ ?_
  · exact (bp_X15_isName_55 (fun _ _ _ _ => (h_rec5 _ _ _ _)))
  · exact (bp_X15_isName_55 (fun _ _ _ _ => (h_rec5 _ _ _ _)))
theorem bp_X15_isName_5   : ∀ (n : Nat) (y0 : Nat) (y1 : Int) (y2 : Int) (y3 : Int), pres (X15_isName_5 n y0 y1 y2 y3) := by
  intro n
  induction n with
  | zero => intros; exact pres_no
  | succ n ih =>
    intros
    rw [X15_isName_5]
    refine pres_ite ?_ ?_
    · exact pres_rtZ
    · refine pres_ite ?_ ?_
      · exact pres_rtZ
      · refine pres_bd pres_rdB (fun _ => ?_)
        refine pres_bd pres_gI (fun _ => ?_)
        refine pres_ite ?_ ?_
        · exact (bp_X15_isName_47 (fun _ _ _ _ => (ih _ _ _ _)))
        · refine pres_bd pres_gI (fun _ => ?_)
          refine pres_bd pres_rdB (fun _ => ?_)
          exact (bp_X15_isName_47 (fun _ _ _ _ => (ih _ _ _ _)))
theorem bp_F_X15_isName {a1 : Nat} {a2 : Int}  : pres (F_X15_isName a1 a2) := by
  rw [F_X15_isName]
  refine pres_lt (fun _ => ?_)
  refine pres_lt (fun _ => ?_)
  exact (bp_X15_isName_5 _ _ _ _ _)
theorem bp_X15_keepName_35 {rec2 : Nat → Int → Int → St → Option (Unit × St)} {x1 : Nat} {x2 : Int} {x3 : Int} {s0 : Nat} {s1 : Int} {s2 : Int} (h_rec2 : ∀ y0 y1 y2, pres (rec2 y0 y1 y2)) : pres (X15_keepName_35 rec2 x1 x2 x3 s0 s1 s2) := by
  rw [X15_keepName_35]
  refine pres_bd pres_wrB (fun _ => ?_)
  refine pres_lt (fun _ => ?_)
  exact (h_rec2 _ _ _)
theorem bp_X15_keepName_2   : ∀ (n : Nat) (y0 : Nat) (y1 : Int) (y2 : Int), pres (X15_keepName_2 n y0 y1 y2) := by
  intro n
  induction n with
  | zero => intros; exact pres_no
  | succ n ih =>
    intros
    rw [X15_keepName_2]
    refine pres_ite ?_ ?_
    · exact pres_rt
    · refine pres_bd pres_gI (fun _ => ?_)
      refine pres_ite ?_ ?_
      · exact (bp_X15_keepName_35 (fun _ _ _ => (ih _ _ _)))
      · refine pres_bd pres_gI (fun _ => ?_)
        refine pres_bd pres_rdB (fun _ => ?_)
        exact (bp_X15_keepName_35 (fun _ _ _ => (ih _ _ _)))
theorem bp_F_X15_keepName {a1 : Nat} {a2 : Int}  : pres (F_X15_keepName a1 a2) := by
  rw [F_X15_keepName]
  refine pres_lt (fun _ => ?_)
  exact (bp_X15_keepName_2 _ _ _ _)
theorem bp_X15_thingOf_2   : ∀ (n : Nat) (y0 : Int) (y1 : Int), pres (X15_thingOf_2 n y0 y1) := by
  intro n
  induction n with
  | zero => intros; exact pres_no
  | succ n ih =>
    intros
    rw [X15_thingOf_2]
    refine pres_bd pres_rdI (fun _ => ?_)
    refine pres_ite ?_ ?_
    · exact pres_rt
    · refine pres_bd bp_F_X15_isName (fun _ => ?_)
      refine pres_ite ?_ ?_
      · refine pres_lt (fun _ => ?_)
        exact (ih _ _)
      · exact pres_rt
theorem bp_F_X15_thingOf {a1 : Int}  : pres (F_X15_thingOf a1) := by
  rw [F_X15_thingOf]
  refine pres_lt (fun _ => ?_)
  exact (bp_X15_thingOf_2 _ _ _)
theorem bp_X15_moduleOf_2   : ∀ (n : Nat) (y0 : Int) (y1 : Int), pres (X15_moduleOf_2 n y0 y1) := by
  intro n
  induction n with
  | zero => intros; exact pres_no
  | succ n ih =>
    intros
    rw [X15_moduleOf_2]
    refine pres_ite ?_ ?_
    · exact pres_rt
    · refine pres_bd bp_F_X15_isName (fun _ => ?_)
      refine pres_ite ?_ ?_
      · refine pres_lt (fun _ => ?_)
        exact (ih _ _)
      · exact pres_rt
theorem bp_F_X15_moduleOf {a1 : Int}  : pres (F_X15_moduleOf a1) := by
  rw [F_X15_moduleOf]
  refine pres_lt (fun _ => ?_)
  exact (bp_X15_moduleOf_2 _ _ _)
theorem bp_F_X15_thing {a1 : Int}  : pres (F_X15_thing a1) := by
  rw [F_X15_thing]
  refine pres_bd pres_gI (fun _ => ?_)
  exact pres_rt
theorem bp_F_X15_levelOf {a0 : Int}  : pres (F_X15_levelOf a0) := by
  rw [F_X15_levelOf]
  refine pres_ite ?_ ?_
  · exact pres_rt
  · refine pres_ite ?_ ?_
    · exact pres_rt
    · refine pres_ite ?_ ?_
      · exact pres_rt
      · refine pres_ite ?_ ?_
        · exact pres_rt
        · refine pres_ite ?_ ?_
          · exact pres_rt
          · refine pres_ite ?_ ?_
            · exact pres_rt
            · refine pres_ite ?_ ?_
              · exact pres_rt
              · refine pres_ite ?_ ?_
                · exact pres_rt
                · refine pres_ite ?_ ?_
                  · exact pres_rt
                  · refine pres_ite ?_ ?_
                    · exact pres_rt
                    · refine pres_ite ?_ ?_
                      · exact pres_rt
                      · exact pres_rt
theorem bp_F_X15_widthOf {a1 : Int} {a2 : Int}  : pres (F_X15_widthOf a1 a2) := by
  rw [F_X15_widthOf]
  refine pres_ite ?_ ?_
  · refine pres_bd bp_F_X15_thing (fun _ => ?_)
    refine pres_bd pres_rdI (fun _ => ?_)
    exact pres_rt
  · refine pres_bd bp_F_X15_thing (fun _ => ?_)
    refine pres_bd pres_rdI (fun _ => ?_)
    refine pres_bd pres_rdI (fun _ => ?_)
    exact pres_rt
theorem bp_F_X15_statement {a1 : Int} {a2 : Int}  : pres (F_X15_statement a1 a2) := by
  rw [F_X15_statement]
  refine pres_bd pres_gI (fun _ => ?_)
  refine pres_lt (fun _ => ?_)
  refine pres_bd pres_gI (fun _ => ?_)
  refine pres_bd (pres_pI (by decide)) (fun _ => ?_)
  refine pres_bd pres_wrI (fun _ => ?_)
  refine pres_bd pres_wrB (fun _ => ?_)
  refine pres_bd pres_wrB (fun _ => ?_)
  refine pres_bd pres_wrI (fun _ => ?_)
  refine pres_bd pres_wrI (fun _ => ?_)
  refine pres_bd pres_wrI (fun _ => ?_)
  exact pres_rt
theorem bp_X15_always_110 {r_X15_always : Int → Int → Int → Int → St → Option (Int × St)} {rec3 : Int → Int → Int → Int → Int → St → Option (Int × St)} {x1 : Int} {x2 : Int} {x3 : Int} {x4 : Int} {x5 : Int} (h_r_X15_always : ∀ y0 y1 y2 y3, pres (r_X15_always y0 y1 y2 y3)) (h_rec3 : ∀ y0 y1 y2 y3 y4, pres (rec3 y0 y1 y2 y3 y4)) : pres (X15_always_110 r_X15_always rec3 x1 x2 x3 x4 x5) := by
  rw [X15_always_110]
  refine pres_lt (fun _ => ?_)
  exact (h_rec3 _ _ _ _ _)
theorem bp_X15_always_3 {r_X15_always : Int → Int → Int → Int → St → Option (Int × St)} (h_r_X15_always : ∀ y0 y1 y2 y3, pres (r_X15_always y0 y1 y2 y3)) : ∀ (n : Nat) (y0 : Int) (y1 : Int) (y2 : Int) (y3 : Int) (y4 : Int), pres (X15_always_3 r_X15_always n y0 y1 y2 y3 y4) := by
  intro n
  induction n with
  | zero => intros; exact pres_no
  | succ n ih =>
    intros
    rw [X15_always_3]
    refine pres_bd pres_gI (fun _ => ?_)
    refine pres_ite ?_ ?_
    · exact pres_rtZ
    · refine pres_bd pres_rdI (fun _ => ?_)
      refine pres_ite ?_ ?_
      · refine pres_bd pres_rdB (fun _ => ?_)
        refine pres_ite ?_ ?_
        · refine pres_bd pres_rdI (fun _ => ?_)
          refine pres_ite ?_ ?_
          · refine pres_bd pres_rdB (fun _ => ?_)
            refine pres_ite ?_ ?_
            · exact (bp_X15_always_110 (fun _ _ _ _ => (h_r_X15_always _ _ _ _)) (fun _ _ _ _ _ => (ih _ _ _ _ _)))
            · refine pres_bd (h_r_X15_always _ _ _ _) (fun _ => ?_)
              refine pres_ite ?_ ?_
              · exact (bp_X15_always_110 (fun _ _ _ _ => (h_r_X15_always _ _ _ _)) (fun _ _ _ _ _ => (ih _ _ _ _ _)))
              · refine pres_bd (h_r_X15_always _ _ _ _) (fun _ => ?_)
                refine pres_ite ?_ ?_
                · exact (bp_X15_always_110 (fun _ _ _ _ => (h_r_X15_always _ _ _ _)) (fun _ _ _ _ _ => (ih _ _ _ _ _)))
                · exact pres_rtZ
          · refine pres_bd pres_rdI (fun _ => ?_)
            refine pres_ite ?_ ?_
            · refine pres_bd pres_rdI (fun _ => ?_)
              refine pres_ite ?_ ?_
              · exact pres_rtZ
              · exact (bp_X15_always_110 (fun _ _ _ _ => (h_r_X15_always _ _ _ _)) (fun _ _ _ _ _ => (ih _ _ _ _ _)))
            · exact (bp_X15_always_110 (fun _ _ _ _ => (h_r_X15_always _ _ _ _)) (fun _ _ _ _ _ => (ih _ _ _ _ _)))
        · exact (bp_X15_always_110 (fun _ _ _ _ => (h_r_X15_always _ _ _ _)) (fun _ _ _ _ _ => (ih _ _ _ _ _)))
      · exact (bp_X15_always_110 (fun _ _ _ _ => (h_r_X15_always _ _ _ _)) (fun _ _ _ _ _ => (ih _ _ _ _ _)))
theorem bp_F_X15_always {r_X15_always : Int → Int → Int → Int → St → Option (Int × St)} {a1 : Int} {a2 : Int} {a3 : Int} {a4 : Int} (h_r_X15_always : ∀ y0 y1 y2 y3, pres (r_X15_always y0 y1 y2 y3)) : pres (F_X15_always r_X15_always a1 a2 a3 a4) := by
  rw [F_X15_always]
  refine pres_lt (fun _ => ?_)
  exact (bp_X15_always_3 (fun _ _ _ _ => (h_r_X15_always _ _ _ _)) _ _ _ _ _ _)
theorem bp_G_X15_always : ∀ n : Nat, (∀ y0 y1 y2 y3, pres ((G_X15_always n) y0 y1 y2 y3)) := by
  intro n
  induction n with
  | zero => exact fun _ _ _ _ => pres_no
  | succ n ih =>
    have ih0 := ih
    exact fun _ _ _ _ => bp_F_X15_always ih0
theorem bp_R_X15_always {a1 : Int} {a2 : Int} {a3 : Int} {a4 : Int} : pres (R_X15_always a1 a2 a3 a4) := ((bp_G_X15_always 210)) _ _ _ _
theorem bp_X15_endModule_417   : pres (X15_endModule_417) := by
  rw [X15_endModule_417]
  refine pres_bd pres_gI (fun _ => ?_)
  refine pres_bd pres_gI (fun _ => ?_)
  refine pres_bd pres_wrI (fun _ => ?_)
  refine pres_bd pres_gI (fun _ => ?_)
  refine pres_bd pres_gI (fun _ => ?_)
  refine pres_bd pres_wrI (fun _ => ?_)
  refine pres_bd pres_gI (fun _ => ?_)
  refine pres_bd pres_gI (fun _ => ?_)
  refine pres_bd pres_wrI (fun _ => ?_)
  exact pres_rt
theorem bp_X15_endModule_305   : ∀ (n : Nat) (y0 : Int) (y1 : Int), pres (X15_endModule_305 n y0 y1) := by
  intro n
  induction n with
  | zero => intros; exact pres_no
  | succ n ih =>
    intros
    rw [X15_endModule_305]
    refine pres_bd pres_gI (fun _ => ?_)
    refine pres_ite ?_ ?_
    · exact bp_X15_endModule_417
    · refine pres_bd pres_rdI (fun _ => ?_)
      refine pres_bd pres_wrI (fun _ => ?_)
      refine pres_bd pres_rdI (fun _ => ?_)
      refine pres_bd pres_wrI (fun _ => ?_)
      refine pres_bd pres_rdI (fun _ => ?_)
      refine pres_bd pres_wrI (fun _ => ?_)
      refine pres_bd pres_rdI (fun _ => ?_)
      refine pres_bd pres_wrI (fun _ => ?_)
      refine pres_bd pres_rdI (fun _ => ?_)
      refine pres_bd pres_wrI (fun _ => ?_)
      refine pres_bd pres_rdB (fun _ => ?_)
      refine pres_bd pres_wrB (fun _ => ?_)
      refine pres_bd pres_rdB (fun _ => ?_)
      refine pres_bd pres_wrB (fun _ => ?_)
      refine pres_lt (fun _ => ?_)
      exact (ih _ _)
theorem bp_X15_endModule_291   : pres (X15_endModule_291) := by
  rw [X15_endModule_291]
  refine pres_bd pres_gI (fun _ => ?_)
  refine pres_lt (fun _ => ?_)
  refine pres_lt (fun _ => ?_)
  exact (bp_X15_endModule_305 _ _ _)
theorem bp_X15_endModule_193   : ∀ (n : Nat) (y0 : Int) (y1 : Int), pres (X15_endModule_193 n y0 y1) := by
  intro n
  induction n with
  | zero => intros; exact pres_no
  | succ n ih =>
    intros
    rw [X15_endModule_193]
    refine pres_bd pres_gI (fun _ => ?_)
    refine pres_ite ?_ ?_
    · exact bp_X15_endModule_291
    · refine pres_bd pres_rdI (fun _ => ?_)
      refine pres_bd pres_wrI (fun _ => ?_)
      refine pres_bd pres_rdI (fun _ => ?_)
      refine pres_bd pres_wrI (fun _ => ?_)
      refine pres_bd pres_rdI (fun _ => ?_)
      refine pres_bd pres_wrI (fun _ => ?_)
      refine pres_bd pres_rdI (fun _ => ?_)
      refine pres_bd pres_wrI (fun _ => ?_)
      refine pres_bd pres_rdI (fun _ => ?_)
      refine pres_bd pres_wrI (fun _ => ?_)
      refine pres_bd pres_rdL (fun _ => ?_)
      refine pres_bd pres_wrL (fun _ => ?_)
      refine pres_lt (fun _ => ?_)
      exact (ih _ _)
theorem bp_X15_endModule_171   : pres (X15_endModule_171) := by
  rw [X15_endModule_171]
  refine pres_bd pres_gI (fun _ => ?_)
  refine pres_ite ?_ ?_
  · refine pres_bd pres_gI (fun _ => ?_)
    refine pres_lt (fun _ => ?_)
    refine pres_lt (fun _ => ?_)
    exact (bp_X15_endModule_193 _ _ _)
  · exact pres_rt
theorem bp_X15_endModule_165 {rec31 : Int → St → Option (Unit × St)} {x1 : Int} (h_rec31 : ∀ y0, pres (rec31 y0)) : pres (X15_endModule_165 rec31 x1) := by
  rw [X15_endModule_165]
  refine pres_lt (fun _ => ?_)
  exact (h_rec31 _)
theorem bp_X15_endModule_159 {rec31 : Int → St → Option (Unit × St)} {rec106 : Int → Int → Int → Int → St → Option (Unit × St)} {x1 : Int} {x2 : Int} {x3 : Int} {x4 : Int} (h_rec31 : ∀ y0, pres (rec31 y0)) (h_rec106 : ∀ y0 y1 y2 y3, pres (rec106 y0 y1 y2 y3)) : pres (X15_endModule_159 rec31 rec106 x1 x2 x3 x4) := by
  rw [X15_endModule_159]
  refine pres_lt (fun _ => ?_)
  exact (h_rec106 _ _ _ _)
theorem bp_X15_endModule_106 {rec31 : Int → St → Option (Unit × St)} (h_rec31 : ∀ y0, pres (rec31 y0)) : ∀ (n : Nat) (y0 : Int) (y1 : Int) (y2 : Int) (y3 : Int), pres (X15_endModule_106 rec31 n y0 y1 y2 y3) := by
  intro n
  induction n with
  | zero => intros; exact pres_no
  | succ n ih =>
    intros
    rw [X15_endModule_106]
    refine pres_ite ?_ ?_
    · refine pres_bd pres_rdI (fun _ => ?_)
      refine pres_ite ?_ ?_
      · exact (bp_X15_endModule_165 (fun _ => (h_rec31 _)))
      · refine pres_bd pres_rdI (fun _ => ?_)
        refine pres_ite ?_ ?_
        · refine pres_bd bp_R_X15_always (fun _ => ?_)
          refine pres_ite ?_ ?_
          · refine pres_bd pres_gI (fun _ => ?_)
            refine pres_bd bp_F_X15_fail (fun _ => ?_)
            exact (bp_X15_endModule_159 (fun _ => (h_rec31 _)) (fun _ _ _ _ => (ih _ _ _ _)))
          · exact (bp_X15_endModule_159 (fun _ => (h_rec31 _)) (fun _ _ _ _ => (ih _ _ _ _)))
        · exact (bp_X15_endModule_159 (fun _ => (h_rec31 _)) (fun _ _ _ _ => (ih _ _ _ _)))
    · exact (bp_X15_endModule_165 (fun _ => (h_rec31 _)))
theorem bp_X15_endModule_89 {rec31 : Int → St → Option (Unit × St)} {x1 : Int} {x2 : Int} (h_rec31 : ∀ y0, pres (rec31 y0)) : pres (X15_endModule_89 rec31 x1 x2) := by
  rw [X15_endModule_89]
  refine pres_bd bp_F_X15_thing (fun _ => ?_)
  refine pres_bd pres_rdI (fun _ => ?_)
  refine pres_lt (fun _ => ?_)
  refine pres_lt (fun _ => ?_)
  exact (bp_X15_endModule_106 (fun _ => (h_rec31 _)) _ _ _ _ _)
theorem bp_X15_endModule_68 {rec31 : Int → St → Option (Unit × St)} {x1 : Int} {x2 : Int} (h_rec31 : ∀ y0, pres (rec31 y0)) : pres (X15_endModule_68 rec31 x1 x2) := by
  rw [X15_endModule_68]
  refine pres_bd bp_R_X15_always (fun _ => ?_)
  refine pres_ite ?_ ?_
  · refine pres_bd pres_gI (fun _ => ?_)
    refine pres_bd bp_F_X15_fail (fun _ => ?_)
    exact (bp_X15_endModule_89 (fun _ => (h_rec31 _)))
  · exact (bp_X15_endModule_89 (fun _ => (h_rec31 _)))
theorem bp_X15_endModule_31   : ∀ (n : Nat) (y0 : Int), pres (X15_endModule_31 n y0) := by
  intro n
  induction n with
  | zero => intros; exact pres_no
  | succ n ih =>
    intros
    rw [X15_endModule_31]
    refine pres_bd pres_gI (fun _ => ?_)
    refine pres_bd pres_rdI (fun _ => ?_)
    refine pres_ite ?_ ?_
    · exact bp_X15_endModule_171
    · refine pres_bd bp_F_X15_thing (fun _ => ?_)
      refine pres_bd pres_rdI (fun _ => ?_)
      refine pres_lt (fun _ => ?_)
      refine pres_ite ?_ ?_
      · exact (bp_X15_endModule_68 (fun _ => (ih _)))
      · refine pres_ite ?_ ?_
        · exact (bp_X15_endModule_68 (fun _ => (ih _)))
        · exact (bp_X15_endModule_89 (fun _ => (ih _)))
theorem bp_X15_endModule_18   : pres (X15_endModule_18) := by
  rw [X15_endModule_18]
  refine pres_bd pres_gI (fun _ => ?_)
  refine pres_bd bp_F_X15_fail (fun _ => ?_)
  exact pres_rt
theorem bp_F_X15_endModule   : pres (F_X15_endModule) := by
  rw [F_X15_endModule]
  refine pres_bd pres_gI (fun _ => ?_)
  refine pres_ite ?_ ?_
  · exact bp_X15_endModule_18
  · refine pres_bd pres_gI (fun _ => ?_)
    refine pres_ite ?_ ?_
    · refine pres_lt (fun _ => ?_)
      exact (bp_X15_endModule_31 _ _)
    · exact bp_X15_endModule_18
theorem bp_F_J3_coder {this : Nat}  : pres (F_J3_coder this) := by
  rw [F_J3_coder]
  refine pres_ite ?_ ?_
  · exact pres_rtB
  · exact pres_rtB
theorem bp_F_J3_isLatin1 {this : Nat}  : pres (F_J3_isLatin1 this) := by
  rw [F_J3_isLatin1]
  refine pres_ite ?_ ?_
  · exact pres_rtZ
  · refine pres_ite ?_ ?_
    · exact pres_rtZ
    · exact pres_rtZ
theorem bp_F_J3_length {this : Nat}  : pres (F_J3_length this) := by
  rw [F_J3_length]
  refine pres_bd bp_F_J3_coder (fun _ => ?_)
  exact pres_rt
theorem bp_J5_checkIndex_9 {x0 : Int} {x1 : Int}  : pres (J5_checkIndex_9 x0 x1) := by
  rw [J5_checkIndex_9]
  exact pres_no
theorem bp_F_J5_checkIndex {a0 : Int} {a1 : Int}  : pres (F_J5_checkIndex a0 a1) := by
  rw [F_J5_checkIndex]
  refine pres_ite ?_ ?_
  · exact bp_J5_checkIndex_9
  · refine pres_ite ?_ ?_
    · exact pres_rt
    · exact bp_J5_checkIndex_9
theorem bp_F_J3_checkIndex {a0 : Int} {a1 : Int}  : pres (F_J3_checkIndex a0 a1) := by
  rw [F_J3_checkIndex]
  refine pres_bd bp_F_J5_checkIndex (fun _ => ?_)
  exact pres_rt
theorem bp_F_J4_charAt {a0 : Nat} {a1 : Int}  : pres (F_J4_charAt a0 a1) := by
  rw [F_J4_charAt]
  refine pres_bd bp_F_J3_checkIndex (fun _ => ?_)
  refine pres_bd pres_rdV (fun _ => ?_)
  exact pres_rtC
theorem bp_F_J3_charAt {this : Nat} {a1 : Int}  : pres (F_J3_charAt this a1) := by
  rw [F_J3_charAt]
  refine pres_bd bp_F_J3_isLatin1 (fun _ => ?_)
  refine pres_ite ?_ ?_
  · exact pres_no
  · refine pres_bd bp_F_J4_charAt (fun _ => ?_)
    exact pres_rtC
theorem bp_X15_isText_52 {rec18 : Int → Int → Nat → Int → Int → St → Option (Int × St)} {x1 : Int} {x2 : Int} {x3 : Nat} {x5 : Int} {s0 : Int} (h_rec18 : ∀ y0 y1 y2 y3 y4, pres (rec18 y0 y1 y2 y3 y4)) : pres (X15_isText_52 rec18 x1 x2 x3 x5 s0) := by
  rw [X15_isText_52]
  refine pres_lt (fun _ => ?_)
  refine pres_lt (fun _ => ?_)
  exact (h_rec18 _ _ _ _ _)
theorem bp_X15_isText_18   : ∀ (n : Nat) (y0 : Int) (y1 : Int) (y2 : Nat) (y3 : Int) (y4 : Int), pres (X15_isText_18 n y0 y1 y2 y3 y4) := by
  intro n
  induction n with
  | zero => intros; exact pres_no
  | succ n ih =>
    intros
    rw [X15_isText_18]
    refine pres_ite ?_ ?_
    · exact pres_rtZ
    · refine pres_ite ?_ ?_
      · exact pres_rtZ
      · refine pres_bd pres_rdB (fun _ => ?_)
        refine pres_bd bp_F_J3_charAt (fun _ => ?_)
        refine pres_ite ?_ ?_
        · exact (bp_X15_isText_52 (fun _ _ _ _ _ => (ih _ _ _ _ _)))
        · exact (bp_X15_isText_52 (fun _ _ _ _ _ => (ih _ _ _ _ _)))
theorem bp_X15_isText_13 {x1 : Int} {x2 : Int} {x3 : Nat} {s0 : Int}  : pres (X15_isText_13 x1 x2 x3 s0) := by
  rw [X15_isText_13]
  refine pres_lt (fun _ => ?_)
  refine pres_lt (fun _ => ?_)
  exact (bp_X15_isText_18 _ _ _ _ _ _)
theorem bp_F_X15_isText {a1 : Int} {a2 : Int} {a3 : Nat}  : pres (F_X15_isText a1 a2 a3) := by
  rw [F_X15_isText]
  refine pres_bd bp_F_J3_length (fun _ => ?_)
  refine pres_ite ?_ ?_
  · exact bp_X15_isText_13
  · exact bp_X15_isText_13
theorem bp_F_X15_wordOf {a1 : Int} {a2 : Int}  : pres (F_X15_wordOf a1 a2) := by
  rw [F_X15_wordOf]
  refine pres_bd bp_F_X15_isText (fun _ => ?_)
  refine pres_ite ?_ ?_
  · refine pres_bd bp_F_X15_isText (fun _ => ?_)
    refine pres_ite ?_ ?_
    · refine pres_bd bp_F_X15_isText (fun _ => ?_)
      refine pres_ite ?_ ?_
      · refine pres_bd bp_F_X15_isText (fun _ => ?_)
        refine pres_ite ?_ ?_
        · refine pres_bd bp_F_X15_isText (fun _ => ?_)
          refine pres_ite ?_ ?_
          · refine pres_bd bp_F_X15_isText (fun _ => ?_)
            refine pres_ite ?_ ?_
            · refine pres_bd bp_F_X15_isText (fun _ => ?_)
              refine pres_ite ?_ ?_
              · refine pres_bd bp_F_X15_isText (fun _ => ?_)
                refine pres_ite ?_ ?_
                · refine pres_bd bp_F_X15_isText (fun _ => ?_)
                  refine pres_ite ?_ ?_
                  · refine pres_bd bp_F_X15_isText (fun _ => ?_)
                    refine pres_ite ?_ ?_
                    · refine pres_bd bp_F_X15_isText (fun _ => ?_)
                      refine pres_ite ?_ ?_
                      · refine pres_bd bp_F_X15_isText (fun _ => ?_)
                        refine pres_ite ?_ ?_
                        · exact pres_rt
                        · exact pres_rt
                      · exact pres_rt
                    · exact pres_rt
                  · exact pres_rt
                · exact pres_rt
              · exact pres_rt
            · exact pres_rt
          · exact pres_rt
        · exact pres_rt
      · exact pres_rt
    · exact pres_rt
  · exact pres_rt
theorem bp_X15_look_393   : pres (X15_look_393) := by
  rw [X15_look_393]
  refine pres_bd pres_gI (fun _ => ?_)
  exact pres_rt
theorem bp_X15_look_389 {s0 : Int} {s1 : Int}  : pres (X15_look_389 s0 s1) := by
  rw [X15_look_389]
  refine pres_bd (pres_pI (by decide)) (fun _ => ?_)
  exact bp_X15_look_393
theorem bp_X15_look_375 {s0 : Int}  : pres (X15_look_375 s0) := by
  rw [X15_look_375]
  refine pres_bd pres_gI (fun _ => ?_)
  refine pres_ite ?_ ?_
  · exact bp_X15_look_389
  · exact bp_X15_look_389
theorem bp_X15_look_262   : ∀ (n : Nat) (y0 : Int), pres (X15_look_262 n y0) := by
  intro n
  induction n with
  | zero => intros; exact pres_no
  | succ n ih =>
    intros
    rw [X15_look_262]
    refine pres_bd pres_gI (fun _ => ?_)
    refine pres_ite ?_ ?_
    · exact bp_X15_look_393
    · refine pres_bd pres_gI (fun _ => ?_)
      refine pres_ite ?_ ?_
      · refine pres_bd pres_gL (fun _ => ?_)
        refine pres_bd pres_gI (fun _ => ?_)
        refine pres_bd pres_rdB (fun _ => ?_)
        refine pres_bd (pres_pL (by decide)) (fun _ => ?_)
        refine pres_lt (fun _ => ?_)
        exact (ih _)
      · exact bp_X15_look_393
theorem bp_X15_look_252 {s0 : Int}  : pres (X15_look_252 s0) := by
  rw [X15_look_252]
  refine pres_bd (pres_pI (by decide)) (fun _ => ?_)
  refine pres_bd (pres_pL (by decide)) (fun _ => ?_)
  refine pres_lt (fun _ => ?_)
  exact (bp_X15_look_262 _ _)
theorem bp_X15_look_195 {x1 : Int}  : pres (X15_look_195 x1) := by
  rw [X15_look_195]
  refine pres_bd pres_gI (fun _ => ?_)
  refine pres_bd pres_gI (fun _ => ?_)
  refine pres_bd (pres_pI (by decide)) (fun _ => ?_)
  refine pres_bd pres_gI (fun _ => ?_)
  refine pres_ite ?_ ?_
  · refine pres_bd bp_F_X15_isLetter (fun _ => ?_)
    refine pres_ite ?_ ?_
    · exact bp_X15_look_252
    · refine pres_bd pres_gI (fun _ => ?_)
      refine pres_bd pres_gI (fun _ => ?_)
      refine pres_bd bp_F_X15_wordOf (fun _ => ?_)
      exact bp_X15_look_252
  · refine pres_bd pres_gI (fun _ => ?_)
    refine pres_bd bp_F_X15_fail (fun _ => ?_)
    exact pres_rt
theorem bp_X15_look_182 {rec134 : Int → St → Option (Int × St)} {x1 : Int} (h_rec134 : ∀ y0, pres (rec134 y0)) : pres (X15_look_182 rec134 x1) := by
  rw [X15_look_182]
  refine pres_bd pres_gI (fun _ => ?_)
  refine pres_bd (pres_pI (by decide)) (fun _ => ?_)
  exact (h_rec134 _)
theorem bp_X15_look_134   : ∀ (n : Nat) (y0 : Int), pres (X15_look_134 n y0) := by
  intro n
  induction n with
  | zero => intros; exact pres_no
  | succ n ih =>
    intros
    rw [X15_look_134]
    refine pres_bd pres_gI (fun _ => ?_)
    refine pres_bd bp_F_X15_sign (fun _ => ?_)
    refine pres_bd bp_F_X15_isDigit (fun _ => ?_)
    refine pres_ite ?_ ?_
    · refine pres_bd bp_F_X15_isLetter (fun _ => ?_)
      refine pres_ite ?_ ?_
      · exact bp_X15_look_195
      · refine pres_bd pres_gI (fun _ => ?_)
        refine pres_bd bp_F_X15_sign (fun _ => ?_)
        refine pres_bd bp_F_X15_isLetter (fun _ => ?_)
        refine pres_ite ?_ ?_
        · refine pres_bd pres_gI (fun _ => ?_)
          refine pres_bd bp_F_X15_sign (fun _ => ?_)
          refine pres_ite ?_ ?_
          · exact (bp_X15_look_182 (fun _ => (ih _)))
          · exact bp_X15_look_195
        · exact (bp_X15_look_182 (fun _ => (ih _)))
    · exact (bp_X15_look_182 (fun _ => (ih _)))
theorem bp_X15_look_86   : pres (X15_look_86) := by
  rw [X15_look_86]
  refine pres_bd (pres_pZ (by decide)) (fun _ => ?_)
  refine pres_bd pres_gI (fun _ => ?_)
  refine pres_bd (pres_pI (by decide)) (fun _ => ?_)
  refine pres_bd pres_gI (fun _ => ?_)
  refine pres_bd bp_F_X15_sign (fun _ => ?_)
  refine pres_lt (fun _ => ?_)
  refine pres_ite ?_ ?_
  · refine pres_bd bp_F_X15_isLetter (fun _ => ?_)
    refine pres_ite ?_ ?_
    · refine pres_bd bp_F_X15_isDigit (fun _ => ?_)
      refine pres_ite ?_ ?_
      · refine pres_bd pres_gI (fun _ => ?_)
        refine pres_bd bp_F_X15_sign (fun _ => ?_)
        refine pres_bd bp_F_X15_signOf (fun _ => ?_)
        refine pres_bd (pres_pI (by decide)) (fun _ => ?_)
        refine pres_bd pres_gI (fun _ => ?_)
        refine pres_ite ?_ ?_
        · refine pres_bd pres_gI (fun _ => ?_)
          refine pres_bd bp_F_X15_fail (fun _ => ?_)
          exact pres_rt
        · refine pres_bd pres_gI (fun _ => ?_)
          refine pres_bd pres_gI (fun _ => ?_)
          refine pres_ite ?_ ?_
          · exact bp_X15_look_375
          · refine pres_bd pres_gI (fun _ => ?_)
            refine pres_ite ?_ ?_
            · exact bp_X15_look_389
            · exact bp_X15_look_375
      · exact (bp_X15_look_134 _ _)
    · exact (bp_X15_look_134 _ _)
  · refine pres_bd (pres_pI (by decide)) (fun _ => ?_)
    exact bp_X15_look_393
theorem bp_X15_look_73 {rec21 : St → Option (Int × St)} (h_rec21 : pres (rec21)) : pres (X15_look_73 rec21) := by
  rw [X15_look_73]
  refine pres_bd pres_gI (fun _ => ?_)
  refine pres_bd (pres_pI (by decide)) (fun _ => ?_)
  exact (h_rec21)
theorem bp_X15_look_21   : ∀ (n : Nat) , pres (X15_look_21 n) := by
  intro n
  induction n with
  | zero => intros; exact pres_no
  | succ n ih =>
    intros
    rw [X15_look_21]
    refine pres_bd pres_gI (fun _ => ?_)
    refine pres_bd bp_F_X15_sign (fun _ => ?_)
    refine pres_ite ?_ ?_
    · exact (bp_X15_look_73 (ih))
    · refine pres_bd pres_gI (fun _ => ?_)
      refine pres_bd bp_F_X15_sign (fun _ => ?_)
      refine pres_ite ?_ ?_
      · exact (bp_X15_look_73 (ih))
      · refine pres_bd pres_gI (fun _ => ?_)
        refine pres_bd bp_F_X15_sign (fun _ => ?_)
        refine pres_ite ?_ ?_
        · exact (bp_X15_look_73 (ih))
        · refine pres_bd pres_gI (fun _ => ?_)
          refine pres_bd bp_F_X15_sign (fun _ => ?_)
          refine pres_ite ?_ ?_
          · exact (bp_X15_look_73 (ih))
          · exact bp_X15_look_86
theorem bp_F_X15_look   : pres (F_X15_look) := by
  rw [F_X15_look]
  refine pres_bd pres_gI (fun _ => ?_)
  refine pres_ite ?_ ?_
  · refine pres_bd pres_gI (fun _ => ?_)
    refine pres_ite ?_ ?_
    · exact (bp_X15_look_21 _)
    · refine pres_bd pres_gI (fun _ => ?_)
      exact pres_rt
  · exact pres_rt
theorem bp_F_X15_must {a1 : Int}  : pres (F_X15_must a1) := by
  rw [F_X15_must]
  refine pres_bd bp_F_X15_look (fun _ => ?_)
  refine pres_ite ?_ ?_
  · refine pres_bd bp_F_X15_take (fun _ => ?_)
    exact pres_rtZ
  · refine pres_bd pres_gI (fun _ => ?_)
    refine pres_bd bp_F_X15_fail (fun _ => ?_)
    exact pres_rtZ
theorem bp_X15_numberIn_45 {x5 : Int64}  : pres (X15_numberIn_45 x5) := by
  rw [X15_numberIn_45]
  refine pres_bd bp_F_X15_take (fun _ => ?_)
  exact pres_rt
theorem bp_F_X15_numberIn {a1 : Int64} {a3 : Int64}  : pres (F_X15_numberIn a1 a3) := by
  rw [F_X15_numberIn]
  refine pres_bd bp_F_X15_look (fun _ => ?_)
  refine pres_ite ?_ ?_
  · refine pres_bd pres_gL (fun _ => ?_)
    refine pres_lt (fun _ => ?_)
    refine pres_bd bp_F_X15_in (fun _ => ?_)
    refine pres_ite ?_ ?_
    · refine pres_bd pres_gI (fun _ => ?_)
      refine pres_bd bp_F_X15_fail (fun _ => ?_)
      exact bp_X15_numberIn_45
    · exact bp_X15_numberIn_45
  · refine pres_bd pres_gI (fun _ => ?_)
    refine pres_bd bp_F_X15_fail (fun _ => ?_)
    exact pres_rt
theorem bp_X15_exp_106 {r_X15_exp : St → Option (Int × St)} {r_X15_level : Int → St → Option (Int × St)} {x1 : Int} {x3 : Int} {x4 : Int} (h_r_X15_exp : pres (r_X15_exp)) (h_r_X15_level : ∀ y0, pres (r_X15_level y0)) : pres (X15_exp_106 r_X15_exp r_X15_level x1 x3 x4) := by
  rw [X15_exp_106]
  refine pres_bd pres_gI (fun _ => ?_)
  refine pres_bd (pres_pI (by decide)) (fun _ => ?_)
  refine pres_bd pres_rdI (fun _ => ?_)
  refine pres_bd bp_F_X15_node (fun _ => ?_)
  exact pres_rt
theorem bp_F_X15_exp {r_X15_exp : St → Option (Int × St)} {r_X15_level : Int → St → Option (Int × St)} (h_r_X15_exp : pres (r_X15_exp)) (h_r_X15_level : ∀ y0, pres (r_X15_level y0)) : pres (F_X15_exp r_X15_exp r_X15_level) := by
  rw [F_X15_exp]
  refine pres_bd (h_r_X15_level _) (fun _ => ?_)
  refine pres_lt (fun _ => ?_)
  refine pres_bd bp_F_X15_look (fun _ => ?_)
  refine pres_ite ?_ ?_
  · refine pres_bd pres_gI (fun _ => ?_)
    refine pres_lt (fun _ => ?_)
    refine pres_bd bp_F_X15_opens (fun _ => ?_)
    refine pres_ite ?_ ?_
    · exact pres_rt
    · refine pres_bd bp_F_X15_take (fun _ => ?_)
      refine pres_bd pres_rdI (fun _ => ?_)
      refine pres_ite ?_ ?_
      · refine pres_bd (h_r_X15_exp) (fun _ => ?_)
        refine pres_lt (fun _ => ?_)
        refine pres_bd bp_F_X15_must (fun _ => ?_)
        refine pres_ite ?_ ?_
        · exact pres_rt
        · refine pres_bd (h_r_X15_exp) (fun _ => ?_)
          refine pres_lt (fun _ => ?_)
          refine pres_bd pres_gI (fun _ => ?_)
          refine pres_ite ?_ ?_
          · refine pres_bd pres_rdI (fun _ => ?_)
            refine pres_bd pres_rdI (fun _ => ?_)
            refine pres_ite ?_ ?_
            · exact (bp_X15_exp_106 (h_r_X15_exp) (fun _ => (h_r_X15_level _)))
            · refine pres_bd bp_F_X15_fail (fun _ => ?_)
              exact (bp_X15_exp_106 (h_r_X15_exp) (fun _ => (h_r_X15_level _)))
          · exact (bp_X15_exp_106 (h_r_X15_exp) (fun _ => (h_r_X15_level _)))
      · refine pres_bd bp_F_X15_fail (fun _ => ?_)
        exact pres_rt
  · exact pres_rt
theorem bp_X15_level_143 {r_X15_level : Int → St → Option (Int × St)} {r_X15_unary : St → Option (Int × St)} {rec21 : Int → Int → Int → St → Option (Int × St)} {x1 : Int} {x2 : Int} {s0 : Int} (h_r_X15_level : ∀ y0, pres (r_X15_level y0)) (h_r_X15_unary : pres (r_X15_unary)) (h_rec21 : ∀ y0 y1 y2, pres (rec21 y0 y1 y2)) : pres (X15_level_143 r_X15_level r_X15_unary rec21 x1 x2 s0) := by
  rw [X15_level_143]
  refine pres_lt (fun _ => ?_)
  exact (h_rec21 _ _ _)
theorem bp_X15_level_127 {r_X15_level : Int → St → Option (Int × St)} {r_X15_unary : St → Option (Int × St)} {rec21 : Int → Int → Int → St → Option (Int × St)} {x1 : Int} {s0 : Int} {s1 : Int} {s2 : Int} {s3 : Int} {s4 : Int} (h_r_X15_level : ∀ y0, pres (r_X15_level y0)) (h_r_X15_unary : pres (r_X15_unary)) (h_rec21 : ∀ y0 y1 y2, pres (rec21 y0 y1 y2)) : pres (X15_level_127 r_X15_level r_X15_unary rec21 x1 s0 s1 s2 s3 s4) := by
  rw [X15_level_127]
  refine pres_bd bp_F_X15_node (fun _ => ?_)
  refine pres_lt (fun _ => ?_)
  refine pres_ite ?_ ?_
  · exact (bp_X15_level_143 (fun _ => (h_r_X15_level _)) (h_r_X15_unary) (fun _ _ _ => (h_rec21 _ _ _)))
  · exact (bp_X15_level_143 (fun _ => (h_r_X15_level _)) (h_r_X15_unary) (fun _ _ _ => (h_rec21 _ _ _)))
theorem bp_X15_level_105 {r_X15_level : Int → St → Option (Int × St)} {r_X15_unary : St → Option (Int × St)} {rec21 : Int → Int → Int → St → Option (Int × St)} {x1 : Int} {x2 : Int} {x4 : Int} {x6 : Int} (h_r_X15_level : ∀ y0, pres (r_X15_level y0)) (h_r_X15_unary : pres (r_X15_unary)) (h_rec21 : ∀ y0 y1 y2, pres (rec21 y0 y1 y2)) : pres (X15_level_105 r_X15_level r_X15_unary rec21 x1 x2 x4 x6) := by
  rw [X15_level_105]
  refine pres_ite ?_ ?_
  · exact (bp_X15_level_127 (fun _ => (h_r_X15_level _)) (h_r_X15_unary) (fun _ _ _ => (h_rec21 _ _ _)))
  · refine pres_bd pres_rdI (fun _ => ?_)
    exact (bp_X15_level_127 (fun _ => (h_r_X15_level _)) (h_r_X15_unary) (fun _ _ _ => (h_rec21 _ _ _)))
theorem bp_X15_level_21 {r_X15_level : Int → St → Option (Int × St)} {r_X15_unary : St → Option (Int × St)} (h_r_X15_level : ∀ y0, pres (r_X15_level y0)) (h_r_X15_unary : pres (r_X15_unary)) : ∀ (n : Nat) (y0 : Int) (y1 : Int) (y2 : Int), pres (X15_level_21 r_X15_level r_X15_unary n y0 y1 y2) := by
  intro n
  induction n with
  | zero => intros; exact pres_no
  | succ n ih =>
    intros
    rw [X15_level_21]
    refine pres_ite ?_ ?_
    · exact pres_rt
    · refine pres_bd pres_gI (fun _ => ?_)
      refine pres_ite ?_ ?_
      · refine pres_bd bp_F_X15_look (fun _ => ?_)
        refine pres_bd bp_F_X15_levelOf (fun _ => ?_)
        refine pres_ite ?_ ?_
        · refine pres_bd pres_gI (fun _ => ?_)
          refine pres_lt (fun _ => ?_)
          refine pres_bd pres_gI (fun _ => ?_)
          refine pres_lt (fun _ => ?_)
          refine pres_bd bp_F_X15_take (fun _ => ?_)
          refine pres_bd (h_r_X15_level _) (fun _ => ?_)
          refine pres_lt (fun _ => ?_)
          refine pres_bd pres_gI (fun _ => ?_)
          refine pres_ite ?_ ?_
          · refine pres_ite ?_ ?_
            · exact (bp_X15_level_105 (fun _ => (h_r_X15_level _)) (h_r_X15_unary) (fun _ _ _ => (ih _ _ _)))
            · refine pres_bd pres_rdI (fun _ => ?_)
              refine pres_bd pres_rdI (fun _ => ?_)
              refine pres_ite ?_ ?_
              · exact (bp_X15_level_105 (fun _ => (h_r_X15_level _)) (h_r_X15_unary) (fun _ _ _ => (ih _ _ _)))
              · refine pres_bd bp_F_X15_fail (fun _ => ?_)
                exact (bp_X15_level_105 (fun _ => (h_r_X15_level _)) (h_r_X15_unary) (fun _ _ _ => (ih _ _ _)))
          · exact (bp_X15_level_105 (fun _ => (h_r_X15_level _)) (h_r_X15_unary) (fun _ _ _ => (ih _ _ _)))
        · exact pres_rt
      · exact pres_rt
theorem bp_F_X15_level {r_X15_level : Int → St → Option (Int × St)} {r_X15_unary : St → Option (Int × St)} {a1 : Int} (h_r_X15_level : ∀ y0, pres (r_X15_level y0)) (h_r_X15_unary : pres (r_X15_unary)) : pres (F_X15_level r_X15_level r_X15_unary a1) := by
  rw [F_X15_level]
  refine pres_ite ?_ ?_
  · refine pres_bd (h_r_X15_unary) (fun _ => ?_)
    exact pres_rt
  · refine pres_bd (h_r_X15_level _) (fun _ => ?_)
    refine pres_lt (fun _ => ?_)
    refine pres_lt (fun _ => ?_)
    exact (bp_X15_level_21 (fun _ => (h_r_X15_level _)) (h_r_X15_unary) _ _ _ _)
theorem bp_X15_part_58 {r_X15_primary : St → Option (Int × St)} {rec5 : Int → St → Option (Int × St)} {x1 : Int} {x2 : Int} {x3 : Int} (h_r_X15_primary : pres (r_X15_primary)) (h_rec5 : ∀ y0, pres (rec5 y0)) : pres (X15_part_58 r_X15_primary rec5 x1 x2 x3) := by
  rw [X15_part_58]
  refine pres_bd bp_F_X15_must (fun _ => ?_)
  refine pres_ite ?_ ?_
  · exact pres_rt
  · refine pres_bd bp_F_X15_node (fun _ => ?_)
    refine pres_lt (fun _ => ?_)
    exact (h_rec5 _)
theorem bp_X15_part_5 {r_X15_primary : St → Option (Int × St)} (h_r_X15_primary : pres (r_X15_primary)) : ∀ (n : Nat) (y0 : Int), pres (X15_part_5 r_X15_primary n y0) := by
  intro n
  induction n with
  | zero => intros; exact pres_no
  | succ n ih =>
    intros
    rw [X15_part_5]
    refine pres_bd bp_F_X15_look (fun _ => ?_)
    refine pres_ite ?_ ?_
    · refine pres_bd bp_F_X15_take (fun _ => ?_)
      refine pres_bd pres_rdI (fun _ => ?_)
      refine pres_bd bp_F_X15_numberIn (fun _ => ?_)
      refine pres_lt (fun _ => ?_)
      refine pres_lt (fun _ => ?_)
      refine pres_bd bp_F_X15_look (fun _ => ?_)
      refine pres_ite ?_ ?_
      · refine pres_bd bp_F_X15_take (fun _ => ?_)
        refine pres_bd bp_F_X15_numberIn (fun _ => ?_)
        refine pres_lt (fun _ => ?_)
        exact (bp_X15_part_58 (h_r_X15_primary) (fun _ => (ih _)))
      · exact (bp_X15_part_58 (h_r_X15_primary) (fun _ => (ih _)))
    · exact pres_rt
theorem bp_F_X15_part {r_X15_primary : St → Option (Int × St)} (h_r_X15_primary : pres (r_X15_primary)) : pres (F_X15_part r_X15_primary) := by
  rw [F_X15_part]
  refine pres_bd (h_r_X15_primary) (fun _ => ?_)
  refine pres_lt (fun _ => ?_)
  exact (bp_X15_part_5 (h_r_X15_primary) _ _)
theorem bp_X15_primary_331 {r_X15_exp : St → Option (Int × St)} {r_X15_reference : Int → St → Option (Unit × St)} {x4 : Int} {s0 : Int} {s1 : Int} {s2 : Int} (h_r_X15_exp : pres (r_X15_exp)) (h_r_X15_reference : ∀ y0, pres (r_X15_reference y0)) : pres (X15_primary_331 r_X15_exp r_X15_reference x4 s0 s1 s2) := by
  rw [X15_primary_331]
  refine pres_bd bp_F_X15_node (fun _ => ?_)
  exact pres_rt
theorem bp_X15_primary_312 {r_X15_exp : St → Option (Int × St)} {r_X15_reference : Int → St → Option (Unit × St)} {x3 : Int} {x4 : Int} {s0 : Int} (h_r_X15_exp : pres (r_X15_exp)) (h_r_X15_reference : ∀ y0, pres (r_X15_reference y0)) : pres (X15_primary_312 r_X15_exp r_X15_reference x3 x4 s0) := by
  rw [X15_primary_312]
  refine pres_bd pres_gI (fun _ => ?_)
  refine pres_ite ?_ ?_
  · refine pres_bd pres_gI (fun _ => ?_)
    exact (bp_X15_primary_331 (h_r_X15_exp) (fun _ => (h_r_X15_reference _)))
  · refine pres_bd pres_gI (fun _ => ?_)
    exact (bp_X15_primary_331 (h_r_X15_exp) (fun _ => (h_r_X15_reference _)))
theorem bp_X15_primary_160 {r_X15_exp : St → Option (Int × St)} {r_X15_reference : Int → St → Option (Unit × St)} {x3 : Int} (h_r_X15_exp : pres (r_X15_exp)) (h_r_X15_reference : ∀ y0, pres (r_X15_reference y0)) : pres (X15_primary_160 r_X15_exp r_X15_reference x3) := by
  rw [X15_primary_160]
  refine pres_bd bp_F_X15_must (fun _ => ?_)
  refine pres_lt (fun _ => ?_)
  refine pres_bd pres_gI (fun _ => ?_)
  refine pres_bd (pres_pI (by decide)) (fun _ => ?_)
  refine pres_bd pres_gI (fun _ => ?_)
  refine pres_bd (pres_pI (by decide)) (fun _ => ?_)
  exact pres_rt
theorem bp_X15_primary_130 {r_X15_exp : St → Option (Int × St)} {r_X15_reference : Int → St → Option (Unit × St)} {rec78 : Int → Int → St → Option (Int × St)} {x2 : Int} {x3 : Int} {x4 : Int} (h_r_X15_exp : pres (r_X15_exp)) (h_r_X15_reference : ∀ y0, pres (r_X15_reference y0)) (h_rec78 : ∀ y0 y1, pres (rec78 y0 y1)) : pres (X15_primary_130 r_X15_exp r_X15_reference rec78 x2 x3 x4) := by
  rw [X15_primary_130]
  refine pres_bd pres_rdI (fun _ => ?_)
  refine pres_bd pres_rdI (fun _ => ?_)
  refine pres_bd bp_F_X15_node (fun _ => ?_)
  refine pres_lt (fun _ => ?_)
  exact (h_rec78 _ _)
theorem bp_X15_primary_78 {r_X15_exp : St → Option (Int × St)} {r_X15_reference : Int → St → Option (Unit × St)} (h_r_X15_exp : pres (r_X15_exp)) (h_r_X15_reference : ∀ y0, pres (r_X15_reference y0)) : ∀ (n : Nat) (y0 : Int) (y1 : Int), pres (X15_primary_78 r_X15_exp r_X15_reference n y0 y1) := by
  intro n
  induction n with
  | zero => intros; exact pres_no
  | succ n ih =>
    intros
    rw [X15_primary_78]
    refine pres_bd bp_F_X15_look (fun _ => ?_)
    refine pres_ite ?_ ?_
    · refine pres_bd bp_F_X15_take (fun _ => ?_)
      refine pres_bd (h_r_X15_exp) (fun _ => ?_)
      refine pres_lt (fun _ => ?_)
      refine pres_bd pres_gI (fun _ => ?_)
      refine pres_ite ?_ ?_
      · refine pres_bd pres_rdI (fun _ => ?_)
        refine pres_bd pres_rdI (fun _ => ?_)
        refine pres_ite ?_ ?_
        · exact (bp_X15_primary_130 (h_r_X15_exp) (fun _ => (h_r_X15_reference _)) (fun _ _ => (ih _ _)))
        · refine pres_bd bp_F_X15_fail (fun _ => ?_)
          exact (bp_X15_primary_130 (h_r_X15_exp) (fun _ => (h_r_X15_reference _)) (fun _ _ => (ih _ _)))
      · exact (bp_X15_primary_130 (h_r_X15_exp) (fun _ => (h_r_X15_reference _)) (fun _ _ => (ih _ _)))
    · exact (bp_X15_primary_160 (h_r_X15_exp) (fun _ => (h_r_X15_reference _)))
theorem bp_F_X15_primary {r_X15_exp : St → Option (Int × St)} {r_X15_reference : Int → St → Option (Unit × St)} (h_r_X15_exp : pres (r_X15_exp)) (h_r_X15_reference : ∀ y0, pres (r_X15_reference y0)) : pres (F_X15_primary r_X15_exp r_X15_reference) := by
  rw [F_X15_primary]
  refine pres_bd bp_F_X15_look (fun _ => ?_)
  refine pres_lt (fun _ => ?_)
  refine pres_bd pres_gI (fun _ => ?_)
  refine pres_lt (fun _ => ?_)
  refine pres_ite ?_ ?_
  · refine pres_bd bp_F_X15_opens (fun _ => ?_)
    refine pres_ite ?_ ?_
    · exact pres_rt
    · refine pres_bd bp_F_X15_take (fun _ => ?_)
      refine pres_bd (h_r_X15_exp) (fun _ => ?_)
      refine pres_lt (fun _ => ?_)
      refine pres_bd bp_F_X15_must (fun _ => ?_)
      refine pres_lt (fun _ => ?_)
      refine pres_bd pres_gI (fun _ => ?_)
      refine pres_bd (pres_pI (by decide)) (fun _ => ?_)
      exact pres_rt
  · refine pres_ite ?_ ?_
    · refine pres_bd bp_F_X15_opens (fun _ => ?_)
      refine pres_ite ?_ ?_
      · exact pres_rt
      · refine pres_bd bp_F_X15_take (fun _ => ?_)
        refine pres_bd (h_r_X15_exp) (fun _ => ?_)
        refine pres_lt (fun _ => ?_)
        exact (bp_X15_primary_78 (h_r_X15_exp) (fun _ => (h_r_X15_reference _)) _ _ _)
    · refine pres_ite ?_ ?_
      · refine pres_bd bp_F_X15_numberIn (fun _ => ?_)
        refine pres_lt (fun _ => ?_)
        refine pres_bd bp_F_X15_must (fun _ => ?_)
        refine pres_ite ?_ ?_
        · exact pres_rt
        · refine pres_bd bp_F_X15_numberIn (fun _ => ?_)
          refine pres_lt (fun _ => ?_)
          refine pres_bd bp_F_X15_node (fun _ => ?_)
          exact pres_rt
      · refine pres_ite ?_ ?_
        · refine pres_bd (h_r_X15_reference _) (fun _ => ?_)
          refine pres_bd pres_gI (fun _ => ?_)
          refine pres_ite ?_ ?_
          · refine pres_bd pres_gI (fun _ => ?_)
            refine pres_lt (fun _ => ?_)
            refine pres_bd pres_gI (fun _ => ?_)
            refine pres_bd bp_F_X15_widthOf (fun _ => ?_)
            refine pres_lt (fun _ => ?_)
            refine pres_bd pres_gI (fun _ => ?_)
            refine pres_ite ?_ ?_
            · refine pres_bd pres_gI (fun _ => ?_)
              refine pres_ite ?_ ?_
              · exact (bp_X15_primary_312 (h_r_X15_exp) (fun _ => (h_r_X15_reference _)))
              · exact (bp_X15_primary_312 (h_r_X15_exp) (fun _ => (h_r_X15_reference _)))
            · exact (bp_X15_primary_312 (h_r_X15_exp) (fun _ => (h_r_X15_reference _)))
          · exact pres_rt
        · refine pres_bd bp_F_X15_fail (fun _ => ?_)
          exact pres_rt
theorem bp_X15_reference_276 {r_X15_exp : St → Option (Int × St)} {x3 : Int} {x4 : Int} {x5 : Int} (h_r_X15_exp : pres (r_X15_exp)) : pres (X15_reference_276 r_X15_exp x3 x4 x5) := by
  rw [X15_reference_276]
  refine pres_bd (pres_pI (by decide)) (fun _ => ?_)
  refine pres_bd (pres_pI (by decide)) (fun _ => ?_)
  refine pres_bd (pres_pI (by decide)) (fun _ => ?_)
  exact pres_rt
theorem bp_X15_reference_269 {r_X15_exp : St → Option (Int × St)} {x2 : Int} (h_r_X15_exp : pres (r_X15_exp)) : pres (X15_reference_269 r_X15_exp x2) := by
  rw [X15_reference_269]
  refine pres_bd bp_F_X15_fail (fun _ => ?_)
  exact pres_rt
theorem bp_X15_reference_177 {r_X15_exp : St → Option (Int × St)} {x2 : Int} {x3 : Int} {x4 : Int} {x5 : Int} {s0 : Int} {s1 : Int} (h_r_X15_exp : pres (r_X15_exp)) : pres (X15_reference_177 r_X15_exp x2 x3 x4 x5 s0 s1) := by
  rw [X15_reference_177]
  refine pres_ite ?_ ?_
  · exact (bp_X15_reference_276 (h_r_X15_exp))
  · refine pres_bd bp_F_X15_fail (fun _ => ?_)
    exact pres_rt
theorem bp_X15_reference_144 {r_X15_exp : St → Option (Int × St)} {x1 : Int} {x2 : Int} {x3 : Int} {x4 : Int} {x5 : Int} {s0 : Int} (h_r_X15_exp : pres (r_X15_exp)) : pres (X15_reference_144 r_X15_exp x1 x2 x3 x4 x5 s0) := by
  rw [X15_reference_144]
  refine pres_lt (fun _ => ?_)
  refine pres_ite ?_ ?_
  · refine pres_bd bp_F_X15_take (fun _ => ?_)
    refine pres_ite ?_ ?_
    · exact (bp_X15_reference_177 (h_r_X15_exp))
    · exact (bp_X15_reference_177 (h_r_X15_exp))
  · refine pres_bd pres_gI (fun _ => ?_)
    refine pres_bd bp_F_X15_fail (fun _ => ?_)
    exact pres_rt
theorem bp_F_X15_reference {r_X15_exp : St → Option (Int × St)} {a1 : Int} (h_r_X15_exp : pres (r_X15_exp)) : pres (F_X15_reference r_X15_exp a1) := by
  rw [F_X15_reference]
  refine pres_bd pres_gI (fun _ => ?_)
  refine pres_lt (fun _ => ?_)
  refine pres_bd pres_gI (fun _ => ?_)
  refine pres_bd bp_F_X15_thingOf (fun _ => ?_)
  refine pres_lt (fun _ => ?_)
  refine pres_ite ?_ ?_
  · refine pres_bd bp_F_X15_take (fun _ => ?_)
    refine pres_lt (fun _ => ?_)
    refine pres_lt (fun _ => ?_)
    refine pres_bd bp_F_X15_look (fun _ => ?_)
    refine pres_lt (fun _ => ?_)
    refine pres_bd bp_F_X15_thing (fun _ => ?_)
    refine pres_bd pres_rdI (fun _ => ?_)
    refine pres_lt (fun _ => ?_)
    refine pres_ite ?_ ?_
    · refine pres_bd bp_F_X15_take (fun _ => ?_)
      refine pres_bd bp_F_X15_look (fun _ => ?_)
      refine pres_ite ?_ ?_
      · refine pres_ite ?_ ?_
        · refine pres_bd bp_F_X15_thing (fun _ => ?_)
          refine pres_bd pres_rdI (fun _ => ?_)
          refine pres_bd bp_F_X15_thingOf (fun _ => ?_)
          refine pres_lt (fun _ => ?_)
          refine pres_ite ?_ ?_
          · refine pres_bd bp_F_X15_thing (fun _ => ?_)
            refine pres_bd pres_rdI (fun _ => ?_)
            refine pres_bd pres_rdI (fun _ => ?_)
            exact (bp_X15_reference_144 (h_r_X15_exp))
          · exact (bp_X15_reference_144 (h_r_X15_exp))
        · refine pres_bd bp_F_X15_fail (fun _ => ?_)
          exact pres_rt
      · refine pres_bd pres_gI (fun _ => ?_)
        refine pres_bd bp_F_X15_fail (fun _ => ?_)
        exact pres_rt
    · refine pres_ite ?_ ?_
      · refine pres_ite ?_ ?_
        · refine pres_bd bp_F_X15_opens (fun _ => ?_)
          refine pres_ite ?_ ?_
          · exact pres_rt
          · refine pres_bd bp_F_X15_take (fun _ => ?_)
            refine pres_bd (h_r_X15_exp) (fun _ => ?_)
            refine pres_lt (fun _ => ?_)
            refine pres_bd bp_F_X15_must (fun _ => ?_)
            refine pres_lt (fun _ => ?_)
            refine pres_bd pres_gI (fun _ => ?_)
            refine pres_bd (pres_pI (by decide)) (fun _ => ?_)
            exact (bp_X15_reference_276 (h_r_X15_exp))
        · refine pres_bd bp_F_X15_fail (fun _ => ?_)
          exact pres_rt
      · refine pres_ite ?_ ?_
        · exact (bp_X15_reference_276 (h_r_X15_exp))
        · refine pres_ite ?_ ?_
          · exact (bp_X15_reference_269 (h_r_X15_exp))
          · refine pres_ite ?_ ?_
            · exact (bp_X15_reference_276 (h_r_X15_exp))
            · refine pres_ite ?_ ?_
              · exact (bp_X15_reference_269 (h_r_X15_exp))
              · exact (bp_X15_reference_276 (h_r_X15_exp))
  · refine pres_bd bp_F_X15_fail (fun _ => ?_)
    exact pres_rt
theorem bp_X15_unary_102 {r_X15_part : St → Option (Int × St)} {r_X15_unary : St → Option (Int × St)} {s0 : Int} {s1 : Int} {s2 : Int} {s3 : Int} {s4 : Int} (h_r_X15_part : pres (r_X15_part)) (h_r_X15_unary : pres (r_X15_unary)) : pres (X15_unary_102 r_X15_part r_X15_unary s0 s1 s2 s3 s4) := by
  rw [X15_unary_102]
  refine pres_bd bp_F_X15_node (fun _ => ?_)
  exact pres_rt
theorem bp_X15_unary_92 {r_X15_part : St → Option (Int × St)} {r_X15_unary : St → Option (Int × St)} {x2 : Int} {s0 : Int} {s1 : Int} {s2 : Int} {s3 : Int} (h_r_X15_part : pres (r_X15_part)) (h_r_X15_unary : pres (r_X15_unary)) : pres (X15_unary_92 r_X15_part r_X15_unary x2 s0 s1 s2 s3) := by
  rw [X15_unary_92]
  refine pres_bd pres_rdI (fun _ => ?_)
  exact (bp_X15_unary_102 (h_r_X15_part) (h_r_X15_unary))
theorem bp_X15_unary_77 {r_X15_part : St → Option (Int × St)} {r_X15_unary : St → Option (Int × St)} {x1 : Int} {x2 : Int} {s0 : Int} (h_r_X15_part : pres (r_X15_part)) (h_r_X15_unary : pres (r_X15_unary)) : pres (X15_unary_77 r_X15_part r_X15_unary x1 x2 s0) := by
  rw [X15_unary_77]
  refine pres_ite ?_ ?_
  · exact (bp_X15_unary_92 (h_r_X15_part) (h_r_X15_unary))
  · refine pres_ite ?_ ?_
    · exact (bp_X15_unary_92 (h_r_X15_part) (h_r_X15_unary))
    · exact (bp_X15_unary_102 (h_r_X15_part) (h_r_X15_unary))
theorem bp_X15_unary_36 {r_X15_part : St → Option (Int × St)} {r_X15_unary : St → Option (Int × St)} {x1 : Int} (h_r_X15_part : pres (r_X15_part)) (h_r_X15_unary : pres (r_X15_unary)) : pres (X15_unary_36 r_X15_part r_X15_unary x1) := by
  rw [X15_unary_36]
  refine pres_bd bp_F_X15_opens (fun _ => ?_)
  refine pres_ite ?_ ?_
  · exact pres_rt
  · refine pres_bd bp_F_X15_take (fun _ => ?_)
    refine pres_bd (h_r_X15_unary) (fun _ => ?_)
    refine pres_lt (fun _ => ?_)
    refine pres_bd pres_gI (fun _ => ?_)
    refine pres_bd (pres_pI (by decide)) (fun _ => ?_)
    refine pres_ite ?_ ?_
    · exact (bp_X15_unary_77 (h_r_X15_part) (h_r_X15_unary))
    · exact (bp_X15_unary_77 (h_r_X15_part) (h_r_X15_unary))
theorem bp_F_X15_unary {r_X15_part : St → Option (Int × St)} {r_X15_unary : St → Option (Int × St)} (h_r_X15_part : pres (r_X15_part)) (h_r_X15_unary : pres (r_X15_unary)) : pres (F_X15_unary r_X15_part r_X15_unary) := by
  rw [F_X15_unary]
  refine pres_bd bp_F_X15_look (fun _ => ?_)
  refine pres_lt (fun _ => ?_)
  refine pres_ite ?_ ?_
  · exact (bp_X15_unary_36 (h_r_X15_part) (h_r_X15_unary))
  · refine pres_ite ?_ ?_
    · exact (bp_X15_unary_36 (h_r_X15_part) (h_r_X15_unary))
    · refine pres_bd bp_F_X15_in (fun _ => ?_)
      refine pres_ite ?_ ?_
      · refine pres_bd (h_r_X15_part) (fun _ => ?_)
        exact pres_rt
      · exact (bp_X15_unary_36 (h_r_X15_part) (h_r_X15_unary))
theorem bp_G_X15_exp : ∀ n : Nat, (pres ((G_X15_exp n).1)) ∧ (∀ y0, pres ((G_X15_exp n).2.1 y0)) ∧ (pres ((G_X15_exp n).2.2.1)) ∧ (pres ((G_X15_exp n).2.2.2.1)) ∧ (∀ y0, pres ((G_X15_exp n).2.2.2.2.1 y0)) ∧ (pres ((G_X15_exp n).2.2.2.2.2)) := by
  intro n
  induction n with
  | zero => exact ⟨pres_no, fun _ => pres_no, pres_no, pres_no, fun _ => pres_no, pres_no⟩
  | succ n ih =>
    obtain ⟨ih0, ih1, ih2, ih3, ih4, ih5⟩ := ih
    exact ⟨bp_F_X15_exp ih0 ih1, fun _ => bp_F_X15_level ih1 ih5, bp_F_X15_part ih3, bp_F_X15_primary ih0 ih4, fun _ => bp_F_X15_reference ih0, bp_F_X15_unary ih2 ih5⟩
theorem bp_R_X15_exp : pres R_X15_exp := ((bp_G_X15_exp 400).1)
theorem bp_R_X15_reference {a1 : Int} : pres (R_X15_reference a1) := ((bp_G_X15_exp 400).2.2.2.2.1) _
theorem bp_X15_connection_117 {x3 : Int} {x4 : Int} {x5 : Int} {x6 : Int} {x9 : Int}  : pres (X15_connection_117 x3 x4 x5 x6 x9) := by
  rw [X15_connection_117]
  refine pres_bd bp_F_X15_must (fun _ => ?_)
  refine pres_lt (fun _ => ?_)
  refine pres_bd pres_wrI (fun _ => ?_)
  refine pres_bd pres_wrI (fun _ => ?_)
  refine pres_bd pres_wrI (fun _ => ?_)
  refine pres_bd pres_wrI (fun _ => ?_)
  exact pres_rt
theorem bp_X15_connection_60 {x3 : Int} {x4 : Int} {x5 : Int} {x6 : Int} {s0 : Int}  : pres (X15_connection_60 x3 x4 x5 x6 s0) := by
  rw [X15_connection_60]
  refine pres_lt (fun _ => ?_)
  refine pres_bd pres_gI (fun _ => ?_)
  refine pres_lt (fun _ => ?_)
  refine pres_bd bp_F_X15_must (fun _ => ?_)
  refine pres_ite ?_ ?_
  · exact pres_rt
  · refine pres_bd bp_R_X15_exp (fun _ => ?_)
    refine pres_lt (fun _ => ?_)
    refine pres_bd pres_gI (fun _ => ?_)
    refine pres_ite ?_ ?_
    · refine pres_bd pres_rdI (fun _ => ?_)
      refine pres_bd bp_F_X15_widthOf (fun _ => ?_)
      refine pres_ite ?_ ?_
      · exact bp_X15_connection_117
      · refine pres_bd bp_F_X15_fail (fun _ => ?_)
        exact bp_X15_connection_117
    · exact bp_X15_connection_117
theorem bp_F_X15_connection {a1 : Int} {a2 : Int}  : pres (F_X15_connection a1 a2) := by
  rw [F_X15_connection]
  refine pres_bd bp_F_X15_statement (fun _ => ?_)
  refine pres_lt (fun _ => ?_)
  refine pres_bd pres_gI (fun _ => ?_)
  refine pres_bd (pres_pI (by decide)) (fun _ => ?_)
  refine pres_bd bp_R_X15_reference (fun _ => ?_)
  refine pres_bd pres_gI (fun _ => ?_)
  refine pres_lt (fun _ => ?_)
  refine pres_bd pres_gI (fun _ => ?_)
  refine pres_lt (fun _ => ?_)
  refine pres_bd pres_gI (fun _ => ?_)
  refine pres_lt (fun _ => ?_)
  refine pres_bd pres_gI (fun _ => ?_)
  refine pres_lt (fun _ => ?_)
  refine pres_bd bp_F_X15_look (fun _ => ?_)
  refine pres_ite ?_ ?_
  · exact bp_X15_connection_60
  · exact bp_X15_connection_60
theorem bp_X15_block_35 {r_X15_oneStatement : Int → Int → St → Option (Unit × St)} (h_r_X15_oneStatement : ∀ y0 y1, pres (r_X15_oneStatement y0 y1)) : pres (X15_block_35 r_X15_oneStatement) := by
  rw [X15_block_35]
  refine pres_bd bp_F_X15_must (fun _ => ?_)
  refine pres_lt (fun _ => ?_)
  exact pres_rt
theorem bp_X15_block_10 {r_X15_oneStatement : Int → Int → St → Option (Unit × St)} (h_r_X15_oneStatement : ∀ y0 y1, pres (r_X15_oneStatement y0 y1)) : ∀ (n : Nat) (y0 : Int) (y1 : Int), pres (X15_block_10 r_X15_oneStatement n y0 y1) := by
  intro n
  induction n with
  | zero => intros; exact pres_no
  | succ n ih =>
    intros
    rw [X15_block_10]
    refine pres_bd pres_gI (fun _ => ?_)
    refine pres_ite ?_ ?_
    · refine pres_bd bp_F_X15_look (fun _ => ?_)
      refine pres_ite ?_ ?_
      · exact (bp_X15_block_35 (fun _ _ => (h_r_X15_oneStatement _ _)))
      · refine pres_bd (h_r_X15_oneStatement _ _) (fun _ => ?_)
        exact (ih _ _)
    · exact (bp_X15_block_35 (fun _ _ => (h_r_X15_oneStatement _ _)))
theorem bp_F_X15_block {r_X15_oneStatement : Int → Int → St → Option (Unit × St)} {a1 : Int} {a2 : Int} (h_r_X15_oneStatement : ∀ y0 y1, pres (r_X15_oneStatement y0 y1)) : pres (F_X15_block r_X15_oneStatement a1 a2) := by
  rw [F_X15_block]
  refine pres_bd bp_F_X15_must (fun _ => ?_)
  refine pres_ite ?_ ?_
  · exact pres_rt
  · exact (bp_X15_block_10 (fun _ _ => (h_r_X15_oneStatement _ _)) _ _ _)
theorem bp_F_X15_oneStatement {r_X15_when : Int → Int → St → Option (Unit × St)} {a1 : Int} {a2 : Int} (h_r_X15_when : ∀ y0 y1, pres (r_X15_when y0 y1)) : pres (F_X15_oneStatement r_X15_when a1 a2) := by
  rw [F_X15_oneStatement]
  refine pres_bd bp_F_X15_look (fun _ => ?_)
  refine pres_lt (fun _ => ?_)
  refine pres_ite ?_ ?_
  · refine pres_bd bp_F_X15_connection (fun _ => ?_)
    exact pres_rt
  · refine pres_ite ?_ ?_
    · refine pres_bd (h_r_X15_when _ _) (fun _ => ?_)
      exact pres_rt
    · refine pres_bd pres_gI (fun _ => ?_)
      refine pres_bd bp_F_X15_fail (fun _ => ?_)
      exact pres_rt
theorem bp_X15_when_56 {r_X15_block : Int → Int → St → Option (Unit × St)} {x4 : Int} {x5 : Int} (h_r_X15_block : ∀ y0 y1, pres (r_X15_block y0 y1)) : pres (X15_when_56 r_X15_block x4 x5) := by
  rw [X15_when_56]
  refine pres_bd pres_wrI (fun _ => ?_)
  refine pres_bd (h_r_X15_block _ _) (fun _ => ?_)
  refine pres_bd pres_gI (fun _ => ?_)
  refine pres_bd (pres_pI (by decide)) (fun _ => ?_)
  refine pres_bd bp_F_X15_look (fun _ => ?_)
  refine pres_ite ?_ ?_
  · refine pres_bd bp_F_X15_opens (fun _ => ?_)
    refine pres_ite ?_ ?_
    · exact pres_rt
    · refine pres_bd bp_F_X15_take (fun _ => ?_)
      refine pres_bd pres_wrB (fun _ => ?_)
      refine pres_bd (h_r_X15_block _ _) (fun _ => ?_)
      refine pres_bd pres_gI (fun _ => ?_)
      refine pres_bd (pres_pI (by decide)) (fun _ => ?_)
      exact pres_rt
  · exact pres_rt
theorem bp_F_X15_when {r_X15_block : Int → Int → St → Option (Unit × St)} {a1 : Int} {a2 : Int} (h_r_X15_block : ∀ y0 y1, pres (r_X15_block y0 y1)) : pres (F_X15_when r_X15_block a1 a2) := by
  rw [F_X15_when]
  refine pres_bd pres_gI (fun _ => ?_)
  refine pres_lt (fun _ => ?_)
  refine pres_bd bp_F_X15_opens (fun _ => ?_)
  refine pres_ite ?_ ?_
  · exact pres_rt
  · refine pres_bd bp_F_X15_take (fun _ => ?_)
    refine pres_bd bp_F_X15_statement (fun _ => ?_)
    refine pres_lt (fun _ => ?_)
    refine pres_bd bp_R_X15_exp (fun _ => ?_)
    refine pres_lt (fun _ => ?_)
    refine pres_bd pres_gI (fun _ => ?_)
    refine pres_ite ?_ ?_
    · refine pres_bd pres_rdI (fun _ => ?_)
      refine pres_ite ?_ ?_
      · exact (bp_X15_when_56 (fun _ _ => (h_r_X15_block _ _)))
      · refine pres_bd bp_F_X15_fail (fun _ => ?_)
        exact (bp_X15_when_56 (fun _ _ => (h_r_X15_block _ _)))
    · exact (bp_X15_when_56 (fun _ _ => (h_r_X15_block _ _)))
theorem bp_G_X15_block : ∀ n : Nat, (∀ y0 y1, pres ((G_X15_block n).1 y0 y1)) ∧ (∀ y0 y1, pres ((G_X15_block n).2.1 y0 y1)) ∧ (∀ y0 y1, pres ((G_X15_block n).2.2 y0 y1)) := by
  intro n
  induction n with
  | zero => exact ⟨fun _ _ => pres_no, fun _ _ => pres_no, fun _ _ => pres_no⟩
  | succ n ih =>
    obtain ⟨ih0, ih1, ih2⟩ := ih
    exact ⟨fun _ _ => bp_F_X15_block ih1, fun _ _ => bp_F_X15_oneStatement ih2, fun _ _ => bp_F_X15_when ih0⟩
theorem bp_R_X15_oneStatement {a1 : Int} {a2 : Int} : pres (R_X15_oneStatement a1 a2) := ((bp_G_X15_block 100).2.1) _ _
theorem bp_X15_newThing_66 {x1 : Int}  : pres (X15_newThing_66 x1) := by
  rw [X15_newThing_66]
  refine pres_bd pres_gI (fun _ => ?_)
  refine pres_ite ?_ ?_
  · refine pres_bd pres_gI (fun _ => ?_)
    refine pres_bd pres_rdI (fun _ => ?_)
    refine pres_lt (fun _ => ?_)
    refine pres_bd bp_F_X15_thing (fun _ => ?_)
    refine pres_bd bp_F_X15_keepName (fun _ => ?_)
    refine pres_bd bp_F_X15_thing (fun _ => ?_)
    refine pres_bd pres_wrI (fun _ => ?_)
    refine pres_bd bp_F_X15_thing (fun _ => ?_)
    refine pres_bd pres_wrI (fun _ => ?_)
    refine pres_bd bp_F_X15_thing (fun _ => ?_)
    refine pres_bd pres_wrL (fun _ => ?_)
    refine pres_bd bp_F_X15_thing (fun _ => ?_)
    refine pres_bd pres_wrI (fun _ => ?_)
    refine pres_bd pres_gI (fun _ => ?_)
    refine pres_bd pres_rdI (fun _ => ?_)
    refine pres_bd pres_wrI (fun _ => ?_)
    refine pres_bd bp_F_X15_take (fun _ => ?_)
    exact pres_rt
  · exact pres_rt
theorem bp_X15_newThing_39 {x1 : Int}  : pres (X15_newThing_39 x1) := by
  rw [X15_newThing_39]
  refine pres_bd pres_gI (fun _ => ?_)
  refine pres_bd pres_rdI (fun _ => ?_)
  refine pres_ite ?_ ?_
  · refine pres_bd pres_gI (fun _ => ?_)
    refine pres_bd bp_F_X15_fail (fun _ => ?_)
    exact bp_X15_newThing_66
  · exact bp_X15_newThing_66
theorem bp_F_X15_newThing {a1 : Int}  : pres (F_X15_newThing a1) := by
  rw [F_X15_newThing]
  refine pres_bd bp_F_X15_look (fun _ => ?_)
  refine pres_ite ?_ ?_
  · refine pres_bd pres_gI (fun _ => ?_)
    refine pres_bd bp_F_X15_thingOf (fun _ => ?_)
    refine pres_ite ?_ ?_
    · exact bp_X15_newThing_39
    · refine pres_bd pres_gI (fun _ => ?_)
      refine pres_bd bp_F_X15_fail (fun _ => ?_)
      exact bp_X15_newThing_39
  · refine pres_bd pres_gI (fun _ => ?_)
    refine pres_bd bp_F_X15_fail (fun _ => ?_)
    exact pres_rt
theorem bp_F_X15_instance {a1 : Int}  : pres (F_X15_instance a1) := by
  rw [F_X15_instance]
  refine pres_bd bp_F_X15_must (fun _ => ?_)
  refine pres_ite ?_ ?_
  · exact pres_rt
  · refine pres_bd bp_F_X15_look (fun _ => ?_)
    refine pres_ite ?_ ?_
    · refine pres_bd pres_gI (fun _ => ?_)
      refine pres_bd bp_F_X15_moduleOf (fun _ => ?_)
      refine pres_lt (fun _ => ?_)
      refine pres_ite ?_ ?_
      · refine pres_bd bp_F_X15_take (fun _ => ?_)
        refine pres_bd bp_F_X15_thing (fun _ => ?_)
        refine pres_bd pres_wrI (fun _ => ?_)
        refine pres_bd bp_F_X15_must (fun _ => ?_)
        refine pres_lt (fun _ => ?_)
        exact pres_rt
      · refine pres_bd pres_gI (fun _ => ?_)
        refine pres_bd bp_F_X15_fail (fun _ => ?_)
        exact pres_rt
    · refine pres_bd pres_gI (fun _ => ?_)
      refine pres_bd bp_F_X15_fail (fun _ => ?_)
      exact pres_rt
theorem bp_X15_item_206   : pres (X15_item_206) := by
  rw [X15_item_206]
  refine pres_bd bp_F_X15_must (fun _ => ?_)
  refine pres_lt (fun _ => ?_)
  exact pres_rt
theorem bp_X15_item_198   : pres (X15_item_198) := by
  rw [X15_item_198]
  refine pres_bd bp_F_X15_must (fun _ => ?_)
  refine pres_lt (fun _ => ?_)
  exact bp_X15_item_206
theorem bp_X15_item_153 {x1 : Int} {x2 : Int}  : pres (X15_item_153 x1 x2) := by
  rw [X15_item_153]
  refine pres_ite ?_ ?_
  · refine pres_bd bp_F_X15_must (fun _ => ?_)
    refine pres_ite ?_ ?_
    · exact bp_X15_item_206
    · refine pres_bd bp_F_X15_numberIn (fun _ => ?_)
      refine pres_lt (fun _ => ?_)
      refine pres_bd pres_gI (fun _ => ?_)
      refine pres_ite ?_ ?_
      · refine pres_bd bp_F_X15_thing (fun _ => ?_)
        refine pres_bd pres_wrI (fun _ => ?_)
        exact bp_X15_item_198
      · exact bp_X15_item_198
  · exact bp_X15_item_206
theorem bp_X15_item_107 {x1 : Int} {x2 : Int} {x3 : Int}  : pres (X15_item_107 x1 x2 x3) := by
  rw [X15_item_107]
  refine pres_ite ?_ ?_
  · refine pres_bd bp_F_X15_must (fun _ => ?_)
    refine pres_ite ?_ ?_
    · exact bp_X15_item_153
    · refine pres_bd bp_F_X15_numberIn (fun _ => ?_)
      refine pres_lt (fun _ => ?_)
      refine pres_bd pres_gI (fun _ => ?_)
      refine pres_ite ?_ ?_
      · refine pres_bd bp_F_X15_thing (fun _ => ?_)
        refine pres_bd pres_wrL (fun _ => ?_)
        exact bp_X15_item_153
      · exact bp_X15_item_153
  · exact bp_X15_item_153
theorem bp_X15_item_11   : pres (X15_item_11) := by
  rw [X15_item_11]
  refine pres_bd bp_R_X15_oneStatement (fun _ => ?_)
  exact pres_rt
theorem bp_F_X15_item {a1 : Int}  : pres (F_X15_item a1) := by
  rw [F_X15_item]
  refine pres_ite ?_ ?_
  · exact bp_X15_item_11
  · refine pres_ite ?_ ?_
    · exact bp_X15_item_11
    · refine pres_bd bp_F_X15_in (fun _ => ?_)
      refine pres_ite ?_ ?_
      · refine pres_bd pres_gI (fun _ => ?_)
        refine pres_bd bp_F_X15_fail (fun _ => ?_)
        exact pres_rt
      · refine pres_bd bp_F_X15_take (fun _ => ?_)
        refine pres_bd bp_F_X15_newThing (fun _ => ?_)
        refine pres_lt (fun _ => ?_)
        refine pres_ite ?_ ?_
        · refine pres_bd bp_F_X15_instance (fun _ => ?_)
          exact pres_rt
        · refine pres_bd bp_F_X15_must (fun _ => ?_)
          refine pres_ite ?_ ?_
          · exact pres_rt
          · refine pres_bd bp_F_X15_numberIn (fun _ => ?_)
            refine pres_lt (fun _ => ?_)
            refine pres_bd pres_gI (fun _ => ?_)
            refine pres_ite ?_ ?_
            · refine pres_bd bp_F_X15_thing (fun _ => ?_)
              refine pres_bd pres_wrI (fun _ => ?_)
              exact bp_X15_item_107
            · exact bp_X15_item_107
theorem bp_X15_readModule_166   : pres (X15_readModule_166) := by
  rw [X15_readModule_166]
  refine pres_bd pres_gI (fun _ => ?_)
  refine pres_ite ?_ ?_
  · refine pres_bd bp_F_X15_endModule (fun _ => ?_)
    refine pres_bd bp_F_X15_take (fun _ => ?_)
    exact pres_rt
  · exact pres_rt
theorem bp_X15_readModule_139   : ∀ (n : Nat) , pres (X15_readModule_139 n) := by
  intro n
  induction n with
  | zero => intros; exact pres_no
  | succ n ih =>
    intros
    rw [X15_readModule_139]
    refine pres_bd pres_gI (fun _ => ?_)
    refine pres_ite ?_ ?_
    · refine pres_bd bp_F_X15_look (fun _ => ?_)
      refine pres_ite ?_ ?_
      · exact bp_X15_readModule_166
      · refine pres_bd bp_F_X15_look (fun _ => ?_)
        refine pres_bd bp_F_X15_item (fun _ => ?_)
        exact (ih)
    · exact bp_X15_readModule_166
theorem bp_F_X15_readModule   : pres (F_X15_readModule) := by
  rw [F_X15_readModule]
  refine pres_bd bp_F_X15_must (fun _ => ?_)
  refine pres_ite ?_ ?_
  · exact pres_rt
  · refine pres_bd bp_F_X15_look (fun _ => ?_)
    refine pres_ite ?_ ?_
    · refine pres_bd pres_gI (fun _ => ?_)
      refine pres_bd bp_F_X15_moduleOf (fun _ => ?_)
      refine pres_ite ?_ ?_
      · refine pres_bd pres_gI (fun _ => ?_)
        refine pres_ite ?_ ?_
        · refine pres_bd pres_gI (fun _ => ?_)
          refine pres_bd bp_F_X15_fail (fun _ => ?_)
          exact pres_rt
        · refine pres_bd pres_gI (fun _ => ?_)
          refine pres_bd bp_F_X15_keepName (fun _ => ?_)
          refine pres_bd bp_F_X15_take (fun _ => ?_)
          refine pres_bd pres_gI (fun _ => ?_)
          refine pres_bd pres_wrI (fun _ => ?_)
          refine pres_bd (pres_pI (by decide)) (fun _ => ?_)
          refine pres_bd (pres_pI (by decide)) (fun _ => ?_)
          refine pres_bd (pres_pI (by decide)) (fun _ => ?_)
          refine pres_bd (pres_pI (by decide)) (fun _ => ?_)
          refine pres_bd (pres_pI (by decide)) (fun _ => ?_)
          refine pres_bd bp_F_X15_must (fun _ => ?_)
          refine pres_ite ?_ ?_
          · exact pres_rt
          · exact (bp_X15_readModule_139 _)
      · refine pres_bd pres_gI (fun _ => ?_)
        refine pres_bd bp_F_X15_fail (fun _ => ?_)
        exact pres_rt
    · refine pres_bd pres_gI (fun _ => ?_)
      refine pres_bd bp_F_X15_fail (fun _ => ?_)
      exact pres_rt
theorem bp_X15_read_64   : pres (X15_read_64) := by
  rw [X15_read_64]
  refine pres_bd pres_gI (fun _ => ?_)
  refine pres_ite ?_ ?_
  · refine pres_bd pres_gI (fun _ => ?_)
    refine pres_bd (pres_pI (by decide)) (fun _ => ?_)
    refine pres_bd pres_gI (fun _ => ?_)
    exact pres_rt
  · refine pres_bd pres_gI (fun _ => ?_)
    exact pres_rt
theorem bp_X15_read_33   : ∀ (n : Nat) , pres (X15_read_33 n) := by
  intro n
  induction n with
  | zero => intros; exact pres_no
  | succ n ih =>
    intros
    rw [X15_read_33]
    refine pres_bd pres_gI (fun _ => ?_)
    refine pres_ite ?_ ?_
    · refine pres_bd bp_F_X15_look (fun _ => ?_)
      refine pres_ite ?_ ?_
      · exact bp_X15_read_64
      · refine pres_bd bp_F_X15_readModule (fun _ => ?_)
        refine pres_bd pres_gI (fun _ => ?_)
        refine pres_bd (pres_pI (by decide)) (fun _ => ?_)
        exact (ih)
    · exact bp_X15_read_64
theorem bp_F_X15_read   : pres (F_X15_read) := by
  rw [F_X15_read]
  refine pres_bd (pres_pI (by decide)) (fun _ => ?_)
  refine pres_bd (pres_pI (by decide)) (fun _ => ?_)
  refine pres_bd (pres_pI (by decide)) (fun _ => ?_)
  refine pres_bd (pres_pI (by decide)) (fun _ => ?_)
  refine pres_bd (pres_pZ (by decide)) (fun _ => ?_)
  refine pres_bd pres_gI (fun _ => ?_)
  refine pres_bd (pres_pI (by decide)) (fun _ => ?_)
  exact (bp_X15_read_33 _)
theorem wp_BY {α : Type} {m : St → Option (α × St)} {σ : St} {Q : α → St → Prop} (h : wp m σ Q) (hp : pres m) (hb : BY σ) : wp m σ (fun x τ => Q x τ ∧ BY τ) := by
  obtain ⟨x, τ, e, q⟩ := h
  exact ⟨x, τ, e, q, hp σ x τ e hb⟩
