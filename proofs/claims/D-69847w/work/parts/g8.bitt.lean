set_option maxRecDepth 100000
set_option maxHeartbeats 400000
/-! ===== bits: what is made stays made; the outs, what comes next (pure) ===== -/
/-- signals that are made stay so -/
def kpBs (st st' : BST) : Prop := ∀ g, st.2.1 g = true → st'.2.1 g = true ∧ st'.2.2 g = st.2.2 g
theorem kpBs.refl {st : BST} : kpBs st st := fun _ h => ⟨h, rfl⟩
theorem kpBs.trans {st st' st'' : BST} (h : kpBs st st') (h' : kpBs st' st'') : kpBs st st'' := fun g q => ⟨(h' g (h g q).1).1, ((h' g (h g q).1).2).trans (h g q).2⟩
theorem kpBs.net {st : BST} {B : NB} : kpBs st (B, st.2.1, st.2.2) := fun _ h => ⟨h, rfl⟩
section
variable {Ms : Nat → ModV} {s : LYS} {mk : Nat → BST → BST}
theorem ndB_0 {i n : Nat} {x : (Nat → Nat → Nat) × BST} (e : gO (gI' Ms s i) n = 0) : ndB Ms s mk i n x = (ups x.1 n (fun j => if (gA (gI' Ms s i) n % 4294967296).toNat.testBit j = true then 1 else 0), x.2) := if_pos e
theorem ndB_1s {i n : Nat} {x : (Nat → Nat → Nat) × BST} (e : gO (gI' Ms s i) n = 1) (hs : stG Ms s (sgOf s i (gA (gI' Ms s i) n).toNat (gB (gI' Ms s i) n))) : ndB Ms s mk i n x = (ups x.1 n (bitS Ms s x.2 (sgOf s i (gA (gI' Ms s i) n).toNat (gB (gI' Ms s i) n))), x.2) := by
  unfold ndB
  rw [if_neg (by omega), if_pos e]
  dsimp only
  rw [if_pos hs]
theorem ndB_1n {i n : Nat} {x : (Nat → Nat → Nat) × BST} (e : gO (gI' Ms s i) n = 1) (hs : ¬ stG Ms s (sgOf s i (gA (gI' Ms s i) n).toNat (gB (gI' Ms s i) n))) : ndB Ms s mk i n x = (ups x.1 n (bitS Ms s (mk (sgOf s i (gA (gI' Ms s i) n).toNat (gB (gI' Ms s i) n)) x.2) (sgOf s i (gA (gI' Ms s i) n).toNat (gB (gI' Ms s i) n))), mk (sgOf s i (gA (gI' Ms s i) n).toNat (gB (gI' Ms s i) n)) x.2) := by
  unfold ndB
  rw [if_neg (by omega), if_pos e]
  dsimp only
  rw [if_neg hs]
theorem ndB_2 {i n : Nat} {x : (Nat → Nat → Nat) × BST} (e : gO (gI' Ms s i) n = 2) : ndB Ms s mk i n x = (ups x.1 n (wdB (lvD Ms s) (gW (gI' Ms s i) n) (wsG Ms s (lsL s (40 * i + (gA (gI' Ms s i) n).toNat))) (gW (gI' Ms s i) (gB (gI' Ms s i) n).toNat) (x.1 (gB (gI' Ms s i) n).toNat) (stL Ms s (lsL s (40 * i + (gA (gI' Ms s i) n).toNat))) x.2.1).1, (wdB (lvD Ms s) (gW (gI' Ms s i) n) (wsG Ms s (lsL s (40 * i + (gA (gI' Ms s i) n).toNat))) (gW (gI' Ms s i) (gB (gI' Ms s i) n).toNat) (x.1 (gB (gI' Ms s i) n).toNat) (stL Ms s (lsL s (40 * i + (gA (gI' Ms s i) n).toNat))) x.2.1).2, x.2.2) := by
  unfold ndB
  rw [if_neg (by omega), if_neg (by omega), if_pos e]
theorem ndB_3 {i n : Nat} {x : (Nat → Nat → Nat) × BST} (e : 3 ≤ gO (gI' Ms s i) n) : ndB Ms s mk i n x = (ups x.1 n (opB (lvD Ms s) (gO (gI' Ms s i) n) (gW (gI' Ms s i) n) (gW (gI' Ms s i) (gA (gI' Ms s i) n).toNat) (gW (gI' Ms s i) (gB (gI' Ms s i) n).toNat) (gC (gI' Ms s i) n).toNat (x.1 (gA (gI' Ms s i) n).toNat) (x.1 (gB (gI' Ms s i) n).toNat) (x.1 (gC (gI' Ms s i) n).toNat) x.2.1).1, (opB (lvD Ms s) (gO (gI' Ms s i) n) (gW (gI' Ms s i) n) (gW (gI' Ms s i) (gA (gI' Ms s i) n).toNat) (gW (gI' Ms s i) (gB (gI' Ms s i) n).toNat) (gC (gI' Ms s i) n).toNat (x.1 (gA (gI' Ms s i) n).toNat) (x.1 (gB (gI' Ms s i) n).toNat) (x.1 (gC (gI' Ms s i) n).toNat) x.2.1).2, x.2.2) := by
  unfold ndB
  rw [if_neg (by omega), if_neg (by omega), if_neg (by omega)]
/-- a property of states that the making of nodes keeps -/
theorem ndB_ind {P : BST → BST → Prop} (hr : ∀ st, P st st) (hnet : ∀ (st : BST) B, (flB st.1 → flB B) → P st (B, st.2.1, st.2.2)) (hmk : ∀ h st, P st (mk h st)) {i n : Nat} {x : (Nat → Nat → Nat) × BST} : P x.2 (ndB Ms s mk i n x).2 := by
  by_cases c0 : gO (gI' Ms s i) n = 0
  · rw [ndB_0 c0]; exact hr _
  by_cases c1 : gO (gI' Ms s i) n = 1
  · by_cases cs : stG Ms s (sgOf s i (gA (gI' Ms s i) n).toNat (gB (gI' Ms s i) n))
    · rw [ndB_1s c1 cs]; exact hr _
    · rw [ndB_1n c1 cs]; exact hmk _ _
  by_cases c2 : gO (gI' Ms s i) n = 2
  · rw [ndB_2 c2]; exact hnet _ _ (fun h => fl_wd h)
  · rw [ndB_3 (by omega)]; exact hnet _ _ (fun h => fl_op h)
theorem rgB_ind {P : BST → BST → Prop} (ht : ∀ a b c, P a b → P b c → P a c) (hr : ∀ st, P st st) (hnet : ∀ (st : BST) B, (flB st.1 → flB B) → P st (B, st.2.1, st.2.2)) (hmk : ∀ h st, P st (mk h st)) {i : Nat} : ∀ k n (x : (Nat → Nat → Nat) × BST), P x.2 (rgB Ms s mk i k n x).2
  | 0, _, _ => hr _
  | k + 1, n, x => ht _ _ _ (ndB_ind hr hnet hmk) (rgB_ind ht hr hnet hmk k (n + 1) (ndB Ms s mk i n x))
theorem rngB_ind {P : BST → BST → Prop} (ht : ∀ a b c, P a b → P b c → P a c) (hr : ∀ st, P st st) (hnet : ∀ (st : BST) B, (flB st.1 → flB B) → P st (B, st.2.1, st.2.2)) (hmk : ∀ h st, P st (mk h st)) {i u : Nat} {st : BST} : P st (rngB Ms s mk i u st).2 := rgB_ind ht hr hnet hmk _ _ (_, st)
theorem whB_ind {P : BST → BST → Prop} (ht : ∀ a b c, P a b → P b c → P a c) (hr : ∀ st, P st st) (hnet : ∀ (st : BST) B, (flB st.1 → flB B) → P st (B, st.2.1, st.2.2)) (hmk : ∀ h st, P st (mk h st)) {i : Nat} : ∀ (L : List (Nat × Bool)) (st : BST), P st (whB Ms s mk i L st).2
  | [], _ => hr _
  | q :: L, st => ht _ _ _ (ht _ _ _ (whB_ind ht hr hnet hmk L st) (rngB_ind ht hr hnet hmk (i := i) (u := q.1) (st := (whB Ms s mk i L st).2))) (hnet (rngB Ms s mk i q.1 (whB Ms s mk i L st).2).2 _ (fun h => fl_and h))
theorem cnB_ind {P : BST → BST → Prop} (ht : ∀ a b c, P a b → P b c → P a c) (hr : ∀ st, P st st) (hnet : ∀ (st : BST) B, (flB st.1 → flB B) → P st (B, st.2.1, st.2.2)) (hmk : ∀ h st, P st (mk h st)) {g c : Nat} {x : (Nat → Nat) × BST} : P x.2 (cnB Ms s mk g c x).2 := by
  have h1 := whB_ind ht hr hnet hmk (Ms := Ms) (s := s) (i := coI Ms s g) (mdCh (moI Ms s (coI Ms s g)) c) x.2
  have h2 := rngB_ind ht hr hnet hmk (Ms := Ms) (s := s) (i := coI Ms s g) (u := mdVl (moI Ms s (coI Ms s g)) c) (st := (whB Ms s mk (coI Ms s g) (mdCh (moI Ms s (coI Ms s g)) c) x.2).2)
  unfold cnB
  dsimp only
  split
  · exact ht _ _ _ h1 h2
  · exact ht _ _ _ (ht _ _ _ h1 h2) (hnet _ _ (fun h => fl_mp (fun _ _ h => fl_mux h) h))
theorem csB_ind {P : BST → BST → Prop} (ht : ∀ a b c, P a b → P b c → P a c) (hr : ∀ st, P st st) (hnet : ∀ (st : BST) B, (flB st.1 → flB B) → P st (B, st.2.1, st.2.2)) (hmk : ∀ h st, P st (mk h st)) {g : Nat} : ∀ (L : List Nat) (x : (Nat → Nat) × BST), P x.2 (csB Ms s mk g L x).2
  | [], _ => hr _
  | _ :: L, x => ht _ _ _ (cnB_ind ht hr hnet hmk) (csB_ind ht hr hnet hmk L _)
theorem mkB_y {R g : Nat} {st : BST} (h : st.2.1 g = true) : mkB Ms s R g st = st := by
  cases R with
  | zero => rfl
  | succ R => exact if_pos h
theorem mkB_n {R g : Nat} {st : BST} (h : ¬ st.2.1 g = true) : mkB Ms s (R + 1) g st = ((csB Ms s (mkB Ms s R) g (conL Ms s g) (fun _ => 0, st.1, ups st.2.1 g true, st.2.2)).2.1, (csB Ms s (mkB Ms s R) g (conL Ms s g) (fun _ => 0, st.1, ups st.2.1 g true, st.2.2)).2.2.1, ups (csB Ms s (mkB Ms s R) g (conL Ms s g) (fun _ => 0, st.1, ups st.2.1 g true, st.2.2)).2.2.2 g (csB Ms s (mkB Ms s R) g (conL Ms s g) (fun _ => 0, st.1, ups st.2.1 g true, st.2.2)).1) := if_neg h
theorem kp_mk : ∀ R g st, kpBs st (mkB Ms s R g st)
  | 0, _, _ => kpBs.refl
  | R + 1, g, st => by
    by_cases c : st.2.1 g = true
    · rw [mkB_y c]; exact kpBs.refl
    · rw [mkB_n c]
      have h := csB_ind (P := kpBs) (fun _ _ _ => kpBs.trans) (fun _ => kpBs.refl) (fun _ _ _ => kpBs.net) (fun h st => kp_mk R h st) (Ms := Ms) (s := s) (g := g) (conL Ms s g) (fun _ => 0, st.1, ups st.2.1 g true, st.2.2)
      intro k hk
      have hkg : k ≠ g := fun e => c (by rw [← e]; exact hk)
      obtain ⟨a1, a2⟩ := h k (by show ups st.2.1 g true k = true; rw [ups_ne hkg]; exact hk)
      refine ⟨a1, ?_⟩
      show ups (α := Nat → Nat) _ g _ k = _
      rw [ups_ne hkg]; exact a2
def flSt (st st' : BST) : Prop := flB st.1 → flB st'.1
theorem fl_mk : ∀ R g st, flSt st (mkB Ms s R g st)
  | 0, _, _ => id
  | R + 1, g, st => by
    by_cases c : st.2.1 g = true
    · rw [mkB_y c]; exact id
    · rw [mkB_n c]
      exact csB_ind (P := flSt) (fun _ _ _ h h' => h' ∘ h) (fun _ => id) (fun _ _ h => h) (fun h st => fl_mk R h st) (Ms := Ms) (s := s) (g := g) (conL Ms s g) (fun _ => 0, st.1, ups st.2.1 g true, st.2.2)
theorem mkB_made {R g : Nat} {st : BST} : (mkB Ms s (R + 1) g st).2.1 g = true := by
  by_cases c : st.2.1 g = true
  · rw [mkB_y c]; exact c
  · rw [mkB_n c]
    exact (csB_ind (P := kpBs) (fun _ _ _ => kpBs.trans) (fun _ => kpBs.refl) (fun _ _ _ => kpBs.net) (fun h st => kp_mk R h st) (Ms := Ms) (s := s) (g := g) (conL Ms s g) (fun _ => 0, st.1, ups st.2.1 g true, st.2.2) g (by show ups st.2.1 g true g = true; rw [ups_eq])).1
end
section
variable (Ms : Nat → ModV) (s : LYS)
/-- the outs so far: a state, how many, which -/
abbrev OST : Type := BST × Nat × (Nat → Nat)
noncomputable def otB (R g : Nat) (x : OST) : OST := @ite _ (toG Ms s g) (Classical.propDecidable _) (mkB Ms s R g x.1, x.2.1 + wdS Ms s g, fun j => if j < x.2.1 then x.2.2 j else bitS Ms s (mkB Ms s R g x.1) g (j - x.2.1)) x
noncomputable def otsB (R : Nat) (x : OST) : Nat → OST
  | 0 => x
  | g + 1 => otB Ms s R g (otsB R x g)
/-- a connection of a mem: its whens, the width of its address, the address, the value -/
abbrev MEn : Type := Nat × Nat × (Nat → Nat) × (Nat → Nat)
noncomputable def mcB (mk : Nat → BST → BST) (g c : Nat) (st : BST) : MEn × BST :=
  let w := whB Ms s mk (coI Ms s g) (mdCh (moI Ms s (coI Ms s g)) c) st
  let a := rngB Ms s mk (coI Ms s g) (mdAd (moI Ms s (coI Ms s g)) c).toNat w.2
  let v := rngB Ms s mk (coI Ms s g) (mdVl (moI Ms s (coI Ms s g)) c) a.2
  ((w.1, gW (gI' Ms s (coI Ms s g)) (mdAd (moI Ms s (coI Ms s g)) c).toNat, a.1, v.1), v.2)
noncomputable def mcL (mk : Nat → BST → BST) (g : Nat) : List Nat → List MEn × BST → List MEn × BST
  | [], x => x
  | c :: L, x => mcL mk g L (x.1 ++ [(mcB Ms s mk g c x.2).1], (mcB Ms s mk g c x.2).2)
end
/-- a connection to word j -/
noncomputable def mwB (lv w j : Nat) (e : MEn) (x : (Nat → Nat) × NB) : (Nat → Nat) × NB :=
  let q := isB lv e.2.1 j e.2.2.1 x.2
  let t := andB lv e.1 q.1 q.2
  mpB (fun k B => muxB lv t.1 (e.2.2.2 k) (x.1 k) B) w x.1 t.2
noncomputable def mwL (lv w j : Nat) : List MEn → (Nat → Nat) × NB → (Nat → Nat) × NB
  | [], x => x
  | e :: L, x => mwL lv w j L (mwB lv w j e x)
noncomputable def mmS (lv w : Nat) (st : Nat → Nat) (L : List MEn) (j : Nat) (nx : Nat → Nat) (B : NB) : (Nat → Nat) × NB :=
  (fun q => if q < w * j then nx q else (mwL lv w j L (fun k => st (w * j + k), B)).1 (q - w * j), (mwL lv w j L (fun k => st (w * j + k), B)).2)
noncomputable def mmB (lv w n : Nat) (st : Nat → Nat) (L : List MEn) (B : NB) : (Nat → Nat) × NB := lpB (mmS lv w st L) n 0 (fun _ => 0) B
section
variable (Ms : Nat → ModV) (s : LYS)
/-- what comes next, and what begins -/
abbrev RST : Type := BST × (Nat → Nat) × (Nat → Nat)
noncomputable def nxG (R g : Nat) (x : RST) : RST :=
  if kdS Ms s g = 3 then
    let r := csB Ms s (mkB Ms s R) g (conL Ms s g) (stL Ms s g, x.1)
    (r.2, fun j => if j < keptS Ms s g then x.2.1 j else r.1 (j - keptS Ms s g), fun j => if j < keptS Ms s g then x.2.2 j else (if (bgS Ms s g).testBit (j - keptS Ms s g) = true then 1 else 0))
  else if kdS Ms s g = 4 then
    let m := mcL Ms s (mkB Ms s R) g (conL Ms s g) ([], x.1)
    let r := mmB (lvD Ms s) (wdS Ms s g) (wsG Ms s g) (stL Ms s g) m.1 m.2.1
    ((r.2, m.2.2), fun j => if j < keptS Ms s g then x.2.1 j else r.1 (j - keptS Ms s g), fun j => if j < keptS Ms s g then x.2.2 j else 0)
  else x
noncomputable def nxsB (R : Nat) (x : RST) : Nat → RST
  | 0 => x
  | g + 1 => nxG Ms s R g (nxsB R x g)
/-- the whole of it -/
noncomputable def btO : OST := otsB Ms s (lsG s + 1) (bst0 Ms s, 0, fun _ => 0) (lsG s)
noncomputable def btR : RST := nxsB Ms s (lsG s + 1) ((btO Ms s).1, fun _ => 0, fun _ => 0) (lsG s)
noncomputable def btN : NetV := ((inbS Ms s (lsG s), keptS Ms s (lsG s), (btR Ms s).1.1.1, (btO Ms s).2.1), (btR Ms s).1.1.2.1, (btR Ms s).1.1.2.2.1, (btO Ms s).2.2, (btR Ms s).2.1, (btR Ms s).2.2)
end
section
variable {Ms : Nat → ModV} {s : LYS} {mk : Nat → BST → BST}
theorem mcL_ind {P : BST → BST → Prop} (ht : ∀ a b c, P a b → P b c → P a c) (hr : ∀ st, P st st) (hnet : ∀ (st : BST) B, (flB st.1 → flB B) → P st (B, st.2.1, st.2.2)) (hmk : ∀ h st, P st (mk h st)) {g : Nat} : ∀ (L : List Nat) (x : List MEn × BST), P x.2 (mcL Ms s mk g L x).2
  | [], _ => hr _
  | c :: L, x => ht _ _ _ (ht _ _ _ (ht _ _ _ (whB_ind ht hr hnet hmk (i := coI Ms s g) (mdCh (moI Ms s (coI Ms s g)) c) x.2) (rngB_ind ht hr hnet hmk (i := coI Ms s g) (u := (mdAd (moI Ms s (coI Ms s g)) c).toNat))) (rngB_ind ht hr hnet hmk (i := coI Ms s g) (u := mdVl (moI Ms s (coI Ms s g)) c))) (mcL_ind ht hr hnet hmk L (x.1 ++ [(mcB Ms s mk g c x.2).1], (mcB Ms s mk g c x.2).2))
theorem fl_mw {lv w j : Nat} {e : MEn} {x : (Nat → Nat) × NB} (h : flB x.2) : flB (mwB lv w j e x).2 := fl_mp (fun _ _ h => fl_mux h) (fl_and (fl_is h))
theorem fl_mwL {lv w j : Nat} : ∀ (L : List MEn) (x : (Nat → Nat) × NB), flB x.2 → flB (mwL lv w j L x).2
  | [], _, h => h
  | _ :: L, x, h => fl_mwL L _ (fl_mw h)
theorem fl_mm {lv w n : Nat} {st : Nat → Nat} {L : List MEn} {B : NB} (h : flB B) : flB (mmB lv w n st L B).2 := fl_lp (f := mmS lv w st L) (fun _ _ _ h => fl_mwL L _ h) n 0 (fun _ => 0) B h
theorem nxG_ind {P : BST → BST → Prop} (ht : ∀ a b c, P a b → P b c → P a c) (hr : ∀ st, P st st) (hnet : ∀ (st : BST) B, (flB st.1 → flB B) → P st (B, st.2.1, st.2.2)) {R : Nat} (hmk : ∀ h st, P st (mkB Ms s R h st)) {g : Nat} {x : RST} : P x.1 (nxG Ms s R g x).1 := by
  unfold nxG
  split
  · exact csB_ind ht hr hnet hmk (conL Ms s g) (stL Ms s g, x.1)
  · split
    · exact ht _ _ _ (mcL_ind ht hr hnet hmk (conL Ms s g) ([], x.1)) (hnet (mcL Ms s (mkB Ms s R) g (conL Ms s g) ([], x.1)).2 _ (fun h => fl_mm h))
    · exact hr _
theorem nxs_ind {P : BST → BST → Prop} (ht : ∀ a b c, P a b → P b c → P a c) (hr : ∀ st, P st st) (hnet : ∀ (st : BST) B, (flB st.1 → flB B) → P st (B, st.2.1, st.2.2)) {R : Nat} (hmk : ∀ h st, P st (mkB Ms s R h st)) {x : RST} : ∀ k g, P (nxsB Ms s R x g).1 (nxsB Ms s R x (g + k)).1
  | 0, _ => hr _
  | k + 1, g => ht _ _ _ (nxs_ind ht hr hnet hmk k g) (nxG_ind ht hr hnet hmk)
theorem ot_ind {P : BST → BST → Prop} (hr : ∀ st, P st st) {R : Nat} (hmk : ∀ h st, P st (mkB Ms s R h st)) {g : Nat} {x : OST} : P x.1 (otB Ms s R g x).1 := by
  unfold otB
  by_cases c : toG Ms s g
  · rw [if_pos c]; exact hmk _ _
  · rw [if_neg c]; exact hr _
theorem ots_ind {P : BST → BST → Prop} (ht : ∀ a b c, P a b → P b c → P a c) (hr : ∀ st, P st st) {R : Nat} (hmk : ∀ h st, P st (mkB Ms s R h st)) {x : OST} : ∀ k g, P (otsB Ms s R x g).1 (otsB Ms s R x (g + k)).1
  | 0, _ => hr _
  | k + 1, g => ht _ _ _ (ots_ind ht hr hmk k g) (ot_ind hr hmk)
end
