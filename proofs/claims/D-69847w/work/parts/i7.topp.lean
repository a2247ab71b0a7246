set_option maxRecDepth 100000
set_option maxHeartbeats 400000
/-! ===== bits: the whole net (pure) ===== -/
/-- a connection of a mem: condition, address, value, the address's width -/
abbrev MCE : Type := Nat × (Nat → Nat) × (Nat → Nat) × Nat
section
variable (Ms : Nat → ModV) (s : LYS) (mk : Nat → BST → BST)
/-- the outs of the first signals -/
noncomputable def otP : Nat → BST → BST × (Nat → Nat)
  | 0, st => (st, fun _ => 0)
  | k + 1, st => @ite _ (toG Ms s k) (Classical.propDecidable _) (mk k (otP k st).1, fun a => if oubS Ms s k ≤ a then bitS Ms s (mk k (otP k st).1) k (a - oubS Ms s k) else (otP k st).2 a) (otP k st)
def adN (g c : Nat) : Nat := (mdAd (moI Ms s (coI Ms s g)) c).toNat
noncomputable def mcP (g : Nat) : List Nat → BST → List MCE × BST
  | [], st => ([], st)
  | c :: L, st => (((whB Ms s mk (coI Ms s g) (mdCh (moI Ms s (coI Ms s g)) c) st).1, (rngB Ms s mk (coI Ms s g) (adN Ms s g c) (whB Ms s mk (coI Ms s g) (mdCh (moI Ms s (coI Ms s g)) c) st).2).1, (rngB Ms s mk (coI Ms s g) (mdVl (moI Ms s (coI Ms s g)) c) (rngB Ms s mk (coI Ms s g) (adN Ms s g c) (whB Ms s mk (coI Ms s g) (mdCh (moI Ms s (coI Ms s g)) c) st).2).2).1, gW (gI' Ms s (coI Ms s g)) (adN Ms s g c)) :: (mcP g L (rngB Ms s mk (coI Ms s g) (mdVl (moI Ms s (coI Ms s g)) c) (rngB Ms s mk (coI Ms s g) (adN Ms s g c) (whB Ms s mk (coI Ms s g) (mdCh (moI Ms s (coI Ms s g)) c) st).2).2).2).1, (mcP g L (rngB Ms s mk (coI Ms s g) (mdVl (moI Ms s (coI Ms s g)) c) (rngB Ms s mk (coI Ms s g) (adN Ms s g c) (whB Ms s mk (coI Ms s g) (mdCh (moI Ms s (coI Ms s g)) c) st).2).2).2).2)
end
/-- one connection upon a word -/
noncomputable def mw1 (lv w k : Nat) (e : MCE) (x : (Nat → Nat) × NB) : (Nat → Nat) × NB := mpB (fun j B => muxB lv (andB lv e.1 (isB lv e.2.2.2 k e.2.1 x.2).1 (isB lv e.2.2.2 k e.2.1 x.2).2).1 (e.2.2.1 j) (x.1 j) B) w x.1 (andB lv e.1 (isB lv e.2.2.2 k e.2.1 x.2).1 (isB lv e.2.2.2 k e.2.1 x.2).2).2
noncomputable def mwP (lv w k : Nat) : List MCE → (Nat → Nat) × NB → (Nat → Nat) × NB
  | [], x => x
  | e :: L, x => mwP lv w k L (mw1 lv w k e x)
section
variable (Ms : Nat → ModV) (s : LYS) (mk : Nat → BST → BST)
/-- the words of a mem -/
noncomputable def wsB (g : Nat) (L : List MCE) : Nat → (Nat → Nat) × NB → (Nat → Nat) × NB
  | 0, x => x
  | k + 1, x => (fun a => if wdS Ms s g * k ≤ a then (mwP (lvD Ms s) (wdS Ms s g) k L (fun j => stL Ms s g (wdS Ms s g * k + j), (wsB g L k x).2)).1 (a - wdS Ms s g * k) else (wsB g L k x).1 a, (mwP (lvD Ms s) (wdS Ms s g) k L (fun j => stL Ms s g (wdS Ms s g * k + j), (wsB g L k x).2)).2)
/-- the latches of the first signals -/
noncomputable def nxB : Nat → BST × (Nat → Nat) → BST × (Nat → Nat)
  | 0, x => x
  | k + 1, x =>
    if kdS Ms s k = 3 then ((csB Ms s mk k (conL Ms s k) (stL Ms s k, (nxB k x).1)).2, fun a => if keptS Ms s k ≤ a then (csB Ms s mk k (conL Ms s k) (stL Ms s k, (nxB k x).1)).1 (a - keptS Ms s k) else (nxB k x).2 a)
    else if kdS Ms s k = 4 then (((wsB Ms s k (mcP Ms s mk k (conL Ms s k) (nxB k x).1).1 (wsG Ms s k) (fun _ => 0, (mcP Ms s mk k (conL Ms s k) (nxB k x).1).2.1)).2, (mcP Ms s mk k (conL Ms s k) (nxB k x).1).2.2.1, (mcP Ms s mk k (conL Ms s k) (nxB k x).1).2.2.2), fun a => if keptS Ms s k ≤ a then (wsB Ms s k (mcP Ms s mk k (conL Ms s k) (nxB k x).1).1 (wsG Ms s k) (fun _ => 0, (mcP Ms s mk k (conL Ms s k) (nxB k x).1).2.1)).1 (a - keptS Ms s k) else (nxB k x).2 a)
    else nxB k x
noncomputable def beB : Nat → Nat → Nat
  | 0, _ => 0
  | k + 1, a => if kdS Ms s k = 3 then (if keptS Ms s k ≤ a then (if (bgS Ms s k).testBit (a - keptS Ms s k) = true then 1 else 0) else beB k a) else if kdS Ms s k = 4 then (if keptS Ms s k ≤ a then 0 else beB k a) else beB k a
end
section
variable {Ms : Nat → ModV} {top : Nat} {s : LYS} {mk : Nat → BST → BST}
theorem otP_y {k : Nat} {st : BST} (h : toG Ms s k) : otP Ms s mk (k + 1) st = (mk k (otP Ms s mk k st).1, fun a => if oubS Ms s k ≤ a then bitS Ms s (mk k (otP Ms s mk k st).1) k (a - oubS Ms s k) else (otP Ms s mk k st).2 a) := if_pos h
theorem otP_n {k : Nat} {st : BST} (h : ¬ toG Ms s k) : otP Ms s mk (k + 1) st = otP Ms s mk k st := if_neg h
theorem nxB_3 {k : Nat} {x : BST × (Nat → Nat)} (h : kdS Ms s k = 3) : nxB Ms s mk (k + 1) x = ((csB Ms s mk k (conL Ms s k) (stL Ms s k, (nxB Ms s mk k x).1)).2, fun a => if keptS Ms s k ≤ a then (csB Ms s mk k (conL Ms s k) (stL Ms s k, (nxB Ms s mk k x).1)).1 (a - keptS Ms s k) else (nxB Ms s mk k x).2 a) := if_pos h
theorem nxB_4 {k : Nat} {x : BST × (Nat → Nat)} (h : kdS Ms s k = 4) {m : List MCE × BST} (hm : m = mcP Ms s mk k (conL Ms s k) (nxB Ms s mk k x).1) {w : (Nat → Nat) × NB} (hw : w = wsB Ms s k m.1 (wsG Ms s k) (fun _ => 0, m.2.1)) : nxB Ms s mk (k + 1) x = ((w.2, m.2.2.1, m.2.2.2), fun a => if keptS Ms s k ≤ a then w.1 (a - keptS Ms s k) else (nxB Ms s mk k x).2 a) := by
  subst hw hm
  exact (if_neg (by omega)).trans (if_pos h)
theorem nxB_o {k : Nat} {x : BST × (Nat → Nat)} (h : ¬ stG Ms s k) : nxB Ms s mk (k + 1) x = nxB Ms s mk k x := (if_neg (fun e => h (Or.inl e))).trans (if_neg (fun e => h (Or.inr e)))
theorem beB_le {k a : Nat} : beB Ms s k a ≤ 1 := by
  induction k with
  | zero => exact Nat.zero_le _
  | succ k ih =>
    show (if kdS Ms s k = 3 then _ else _) ≤ 1
    split
    · split
      · split <;> omega
      · exact ih
    · split
      · split
        · omega
        · exact ih
      · exact ih
theorem mw1_go {lv w k : Nat} {e : MCE} {x : (Nat → Nat) × NB} (hw : wfB lv x.2) (h1 : ltB lv x.2 e.1) (h2 : ltA lv x.2 e.2.2.2 e.2.1) (h3 : ltA lv x.2 w e.2.2.1) (h4 : ltA lv x.2 w x.1) : goB lv x.2 (mw1 lv w k e x).2 ∧ ltA lv (mw1 lv w k e x).2 w (mw1 lv w k e x).1 := by
  have ig := isB_go (k := k) hw h2
  have ag := andB_go ig.1.1 (ig.1.lt h1) ig.2
  have g2 := ig.1.trans ag.1
  have mg := mpB_go (w := w) (o := x.1) (g := fun j B => muxB lv (andB lv e.1 (isB lv e.2.2.2 k e.2.1 x.2).1 (isB lv e.2.2.2 k e.2.1 x.2).2).1 (e.2.2.1 j) (x.1 j) B) ag.1.1 (fun j B2 hj hB2 => okB.go (muxB_ok hB2.1 (hB2.lt ag.2) (hB2.lt (g2.lt (h3 j hj))) (hB2.lt (g2.lt (h4 j hj)))))
  exact ⟨g2.trans mg.1, mg.2⟩
def ltE (lv w : Nat) (B : NB) (e : MCE) : Prop := ltB lv B e.1 ∧ ltA lv B e.2.2.2 e.2.1 ∧ ltA lv B w e.2.2.1 ∧ e.2.2.2 ≤ 32
theorem ltE.go {lv w : Nat} {B B' : NB} {e : MCE} (h : ltE lv w B e) (g : goB lv B B') : ltE lv w B' e := ⟨g.lt h.1, g.la h.2.1, g.la h.2.2.1, h.2.2.2⟩
theorem mwP_go {lv w k : Nat} : ∀ (L : List MCE) (x : (Nat → Nat) × NB), wfB lv x.2 → (∀ e, e ∈ L → ltE lv w x.2 e) → ltA lv x.2 w x.1 → goB lv x.2 (mwP lv w k L x).2 ∧ ltA lv (mwP lv w k L x).2 w (mwP lv w k L x).1
  | [], x, hw, _, h => ⟨goB.refl hw, h⟩
  | e :: L, x, hw, hL, h => by
    have he := hL e List.mem_cons_self
    obtain ⟨a1, a2⟩ := mw1_go (k := k) hw he.1 he.2.1 he.2.2.1 h
    obtain ⟨b1, b2⟩ := mwP_go (k := k) L _ a1.1 (fun e' he' => (hL e' (List.mem_cons_of_mem _ he')).go a1) a2
    exact ⟨a1.trans b1, b2⟩
theorem fl_mw1 {lv w k : Nat} {e : MCE} {x : (Nat → Nat) × NB} (h : flB x.2) : flB (mw1 lv w k e x).2 := fl_mp (fun _ _ h => fl_mux h) (fl_and (fl_is h))
theorem fl_mwP {lv w k : Nat} : ∀ (L : List MCE) (x : (Nat → Nat) × NB), flB x.2 → flB (mwP lv w k L x).2
  | [], _, h => h
  | _ :: L, _, h => fl_mwP L _ (fl_mw1 h)
theorem fl_ws {g : Nat} {L : List MCE} {x : (Nat → Nat) × NB} : ∀ (a b : Nat), flB (wsB Ms s g L a x).2 → flB (wsB Ms s g L (a + b) x).2
  | _, 0, h => h
  | a, b + 1, h => fl_mwP L _ (fl_ws a b h)
theorem stW_lt (hd : DP Ms top s) {g k j : Nat} {B : NB} (hg : g < lsG s) (h4 : kdS Ms s g = 4) (hk : k < wsG Ms s g) (hj : j < wdS Ms s g) : wdS Ms s g * k + j < szG Ms s g ∧ ltB (lvD Ms s) B (stL Ms s g (wdS Ms s g * k + j)) := by
  have h1 : wdS Ms s g * (k + 1) ≤ wdS Ms s g * wsG Ms s g := Nat.mul_le_mul_left _ hk
  rw [Nat.mul_succ] at h1
  have h2 : wdS Ms s g * k + j < szG Ms s g := by unfold szG; omega
  exact ⟨h2, stL_lt hg (Or.inr h4) h2⟩
theorem wsB_go (hd : DP Ms top s) {g : Nat} (hg : g < lsG s) (h4 : kdS Ms s g = 4) {L : List MCE} {x : (Nat → Nat) × NB} (hw : wfB (lvD Ms s) x.2) (hL : ∀ e, e ∈ L → ltE (lvD Ms s) (wdS Ms s g) x.2 e) : ∀ k, k ≤ wsG Ms s g → goB (lvD Ms s) x.2 (wsB Ms s g L k x).2 ∧ ∀ a, a < wdS Ms s g * k → ltB (lvD Ms s) (wsB Ms s g L k x).2 ((wsB Ms s g L k x).1 a) := by
  intro k
  induction k with
  | zero => intro _; exact ⟨goB.refl hw, fun a ha => absurd ha (Nat.not_lt_zero a)⟩
  | succ k ih =>
    intro hk
    obtain ⟨a1, a2⟩ := ih (by omega)
    obtain ⟨b1, b2⟩ := mwP_go (k := k) L (fun j => stL Ms s g (wdS Ms s g * k + j), (wsB Ms s g L k x).2) a1.1 (fun e he => (hL e he).go a1) (fun j hj => (stW_lt hd hg h4 (by omega) hj).2)
    refine ⟨a1.trans b1, fun a ha => ?_⟩
    rw [Nat.mul_succ] at ha
    show ltB _ _ (if wdS Ms s g * k ≤ a then _ else _)
    by_cases c : wdS Ms s g * k ≤ a
    · rw [if_pos c]; exact b2 _ (by omega)
    · rw [if_neg c]; exact b1.lt (a2 a (by omega))
theorem mcP_ind {P : BST → BST → Prop} (ht : ∀ a b c, P a b → P b c → P a c) (hr : ∀ st, P st st) (hnet : ∀ (st : BST) B, (flB st.1 → flB B) → P st (B, st.2.1, st.2.2)) (hmk : ∀ h st, P st (mk h st)) {g : Nat} : ∀ (L : List Nat) (st : BST), P st (mcP Ms s mk g L st).2
  | [], st => hr st
  | c :: L, st => ht _ _ _ (ht _ _ _ (whB_ind ht hr hnet hmk _ _) (ht _ _ _ (rngB_ind ht hr hnet hmk) (rngB_ind ht hr hnet hmk))) (mcP_ind ht hr hnet hmk L _)
theorem nxB_ind {P : BST → BST → Prop} (ht : ∀ a b c, P a b → P b c → P a c) (hr : ∀ st, P st st) (hnet : ∀ (st : BST) B, (flB st.1 → flB B) → P st (B, st.2.1, st.2.2)) (hmk : ∀ h st, P st (mk h st)) {x : BST × (Nat → Nat)} : ∀ a b, P (nxB Ms s mk a x).1 (nxB Ms s mk (a + b) x).1
  | _, 0 => hr _
  | a, b + 1 => by
    have ih := nxB_ind ht hr hnet hmk (x := x) a b
    refine ht _ _ _ ih ?_
    show P (nxB Ms s mk (a + b) x).1 (nxB Ms s mk (a + b + 1) x).1
    by_cases c : kdS Ms s (a + b) = 3
    · rw [nxB_3 c]; exact csB_ind ht hr hnet hmk (conL Ms s (a + b)) (stL Ms s (a + b), (nxB Ms s mk (a + b) x).1)
    by_cases c4 : kdS Ms s (a + b) = 4
    · rw [nxB_4 c4 rfl rfl]
      exact ht _ _ _ (mcP_ind ht hr hnet hmk _ _) (hnet _ _ (fun h => by
        have := fl_ws (Ms := Ms) (s := s) (g := a + b) (L := (mcP Ms s mk (a + b) (conL Ms s (a + b)) (nxB Ms s mk (a + b) x).1).1) (x := (fun _ => 0, (mcP Ms s mk (a + b) (conL Ms s (a + b)) (nxB Ms s mk (a + b) x).1).2.1)) 0 (wsG Ms s (a + b)) h
        rw [Nat.zero_add] at this
        exact this))
    · rw [nxB_o (fun h => h.elim c c4)]; exact hr _
theorem otP_ind {P : BST → BST → Prop} (ht : ∀ a b c, P a b → P b c → P a c) (hr : ∀ st, P st st) (hmk : ∀ h st, P st (mk h st)) {st : BST} : ∀ a b, P (otP Ms s mk a st).1 (otP Ms s mk (a + b) st).1
  | _, 0 => hr _
  | a, b + 1 => by
    have ih := otP_ind ht hr hmk (st := st) a b
    refine ht _ _ _ ih ?_
    show P (otP Ms s mk (a + b) st).1 (otP Ms s mk (a + b + 1) st).1
    by_cases c : toG Ms s (a + b)
    · rw [otP_y c]; exact hmk _ _
    · rw [otP_n c]; exact hr _
theorem oub_y (hd : DP Ms top s) {g : Nat} (hg : g < lsG s) (h : toG Ms s g) : oubS Ms s (g + 1) = oubS Ms s g + wdS Ms s g := by
  show oubS Ms s g + b1 (toG Ms s g) (szG Ms s g) = _
  rw [b1_y h, szG_1 hd hg (by have := h.2; omega)]
theorem oub_n {g : Nat} (h : ¬ toG Ms s g) : oubS Ms s (g + 1) = oubS Ms s g := by
  show oubS Ms s g + b1 (toG Ms s g) (szG Ms s g) = _
  rw [b1_n h, Nat.add_zero]
theorem kept_y {g : Nat} (h : stG Ms s g) : keptS Ms s (g + 1) = keptS Ms s g + szG Ms s g := by
  show keptS Ms s g + b1 (stG Ms s g) (szG Ms s g) = _
  rw [b1_y h]
theorem kept_n {g : Nat} (h : ¬ stG Ms s g) : keptS Ms s (g + 1) = keptS Ms s g := by
  show keptS Ms s g + b1 (stG Ms s g) (szG Ms s g) = _
  rw [b1_n h, Nat.add_zero]
theorem to_ns {g : Nat} (h : toG Ms s g) : ¬ stG Ms s g := fun q => by
  have := h.2
  unfold stG at q
  omega
theorem otP_go (hd : DP Ms top s) (hmk : ∀ h st, h < lsG s → wfS Ms s st → goS Ms s st (mk h st)) {st : BST} (hst : wfS Ms s st) : ∀ k, k ≤ lsG s → goS Ms s st (otP Ms s mk k st).1 ∧ ∀ a, a < oubS Ms s k → ltB (lvD Ms s) (otP Ms s mk k st).1.1 ((otP Ms s mk k st).2 a) := by
  intro k
  induction k with
  | zero => intro _; exact ⟨goS.refl hst, fun a ha => absurd ha (Nat.not_lt_zero a)⟩
  | succ k ih =>
    intro hk
    obtain ⟨a1, a2⟩ := ih (by omega)
    by_cases c : toG Ms s k
    · have g1 := hmk k _ (by omega) a1.2
      rw [otP_y c, oub_y hd (by omega) c]
      refine ⟨a1.trans g1, fun a ha => ?_⟩
      show ltB _ _ (if oubS Ms s k ≤ a then _ else _)
      by_cases c2 : oubS Ms s k ≤ a
      · rw [if_pos c2]
        have hsg := hd.sig (show k < lsG s by omega)
        exact bitS_lt g1.2 (by omega) (by have := c.2; omega) hsg.2.2.2.2.2.1.1 (by omega)
      · rw [if_neg c2]; exact g1.1.lt (a2 a (by omega))
    · rw [otP_n c, oub_n c]; exact ⟨a1, a2⟩
theorem DP.ad (hd : DP Ms top s) {g c : Nat} (hg : g < lsG s) (h4 : kdS Ms s g = 4) (hc : c ∈ conL Ms s g) : adN Ms s g c < mdN (moI Ms s (coI Ms s g)) ∧ mdAd (moI Ms s (coI Ms s g)) c = (adN Ms s g c : Int) ∧ rootM (moI Ms s (coI Ms s g)) (adN Ms s g c) := by
  obtain ⟨z1, z2, z3, -⟩ := hd.conL_mem hg hc
  obtain ⟨-, w1, w2⟩ := hd.cw hg hc
  have h0 := w1.mp h4
  have e : mdAd (moI Ms s (coI Ms s g)) c = (adN Ms s g c : Int) := by unfold adN; omega
  exact ⟨w2 h0, e, c, z3, Or.inr (Or.inl e.symm)⟩
theorem mcP_go (hd : DP Ms top s) (hch : chOK Ms s) (hmk : ∀ h st, h < lsG s → wfS Ms s st → goS Ms s st (mk h st)) {g : Nat} (hg : g < lsG s) (h4 : kdS Ms s g = 4) : ∀ (L : List Nat) (st : BST), (∀ c, c ∈ L → c ∈ conL Ms s g) → wfS Ms s st → goS Ms s st (mcP Ms s mk g L st).2 ∧ ∀ e, e ∈ (mcP Ms s mk g L st).1 → ltE (lvD Ms s) (wdS Ms s g) (mcP Ms s mk g L st).2.1 e
  | [], st, _, h => ⟨goS.refl h, fun e he => by cases he⟩
  | c :: L, st, hL, h => by
    have hc := hL c List.mem_cons_self
    obtain ⟨y1, y2, y3, -⟩ := hd.conL_mem hg hc
    obtain ⟨d1, d2, -⟩ := hd.ad hg h4 hc
    obtain ⟨a1, a2⟩ := whB_go hd hmk y2 (mdCh (moI Ms s (coI Ms s g)) c) st (fun q hq => hch _ _ y2 y3 q hq) h
    obtain ⟨b1, b2⟩ := rngB_go hd hmk y2 d1 a1.2
    obtain ⟨c1, c2⟩ := rngB_go hd hmk y2 (hd.root y2 y3) b1.2
    rw [(hd.cw hg hc).1] at c2
    obtain ⟨e1, e2⟩ := mcP_go hd hch hmk hg h4 L _ (fun z hz => hL z (List.mem_cons_of_mem _ hz)) c1.2
    refine ⟨((a1.trans b1).trans c1).trans e1, fun e he => ?_⟩
    rcases List.mem_cons.mp he with q | q
    · subst q
      exact ⟨e1.1.lt (c1.1.lt (b1.1.lt a2)), e1.1.la (c1.1.la b2), e1.1.la c2, (hd.nod y2 d1).1.2.2.1⟩
    · exact e2 e q
theorem nxB_go (hd : DP Ms top s) (hch : chOK Ms s) (hmk : ∀ h st, h < lsG s → wfS Ms s st → goS Ms s st (mk h st)) {x : BST × (Nat → Nat)} (hst : wfS Ms s x.1) : ∀ k, k ≤ lsG s → goS Ms s x.1 (nxB Ms s mk k x).1 ∧ ∀ a, a < keptS Ms s k → ltB (lvD Ms s) (nxB Ms s mk k x).1.1 ((nxB Ms s mk k x).2 a) := by
  intro k
  induction k with
  | zero => intro _; exact ⟨goS.refl hst, fun a ha => absurd ha (Nat.not_lt_zero a)⟩
  | succ k ih =>
    intro hk
    obtain ⟨a1, a2⟩ := ih (by omega)
    have hkl : k < lsG s := by omega
    have hws := wd_sz hd hkl
    by_cases c : kdS Ms s k = 3
    · have hs : stG Ms s k := Or.inl c
      obtain ⟨g1, g2⟩ := csB_go hd hch hmk hkl (conL Ms s k) (stL Ms s k, (nxB Ms s mk k x).1) (fun _ h => h) a1.2 (fun j hj => stL_lt hkl hs (by omega))
      rw [nxB_3 c, kept_y hs, szG_1 hd hkl (by omega)]
      refine ⟨a1.trans g1, fun a ha => ?_⟩
      show ltB _ _ (if keptS Ms s k ≤ a then _ else _)
      by_cases c2 : keptS Ms s k ≤ a
      · rw [if_pos c2]; exact g2 _ (by omega)
      · rw [if_neg c2]; exact g1.1.lt (a2 a (by omega))
    by_cases c4 : kdS Ms s k = 4
    · have hs : stG Ms s k := Or.inr c4
      obtain ⟨g1, g2⟩ := mcP_go hd hch hmk hkl c4 (conL Ms s k) (nxB Ms s mk k x).1 (fun _ h => h) a1.2
      obtain ⟨w1, w2⟩ := wsB_go (x := (fun _ => 0, (mcP Ms s mk k (conL Ms s k) (nxB Ms s mk k x).1).2.1)) hd hkl c4 g1.2.1 g2 (wsG Ms s k) (Nat.le_refl _)
      rw [nxB_4 c4 rfl rfl, kept_y hs]
      have g3 := g1.2.net w1
      refine ⟨(a1.trans g1).trans g3, fun a ha => ?_⟩
      show ltB _ _ (if keptS Ms s k ≤ a then _ else _)
      by_cases c2 : keptS Ms s k ≤ a
      · rw [if_pos c2]
        refine w2 _ ?_
        unfold szG at ha
        omega
      · rw [if_neg c2]; exact w1.lt (g1.1.lt (a2 a (by omega)))
    · have hs : ¬ stG Ms s k := fun h => h.elim c c4
      rw [nxB_o hs, kept_n hs]; exact ⟨a1, a2⟩
end
