set_option maxRecDepth 100000
set_option maxHeartbeats 400000
/-! ===== bits: the making of a design's net (pure) ===== -/
/-- the net, what is made, its literals -/
abbrev BST : Type := NB × (Nat → Bool) × (Nat → Nat → Nat)
section
variable (Ms : Nat → ModV) (s : LYS)
/-- levels under the ANDs -/
noncomputable def lvD : Nat := inbS Ms s (lsG s) + keptS Ms s (lsG s)
noncomputable def stL (g k : Nat) : Nat := 2 * (inbS Ms s (lsG s) + keptS Ms s g + k + 1)
noncomputable def bitS (st : BST) (g j : Nat) : Nat := @ite _ (stG Ms s g) (Classical.propDecidable _) (stL Ms s g j) (st.2.2 g j)
noncomputable def bst0 : BST := (NB0, fun g => @decide (tiG Ms s g) (Classical.propDecidable _), fun g j => @ite _ (tiG Ms s g) (Classical.propDecidable _) (2 * (inbS Ms s g + j + 1)) 0)
/-- a node -/
noncomputable def ndB (mk : Nat → BST → BST) (i n : Nat) (x : (Nat → Nat → Nat) × BST) : (Nat → Nat → Nat) × BST :=
  if gO (gI' Ms s i) n = 0 then (ups x.1 n (fun j => if (gA (gI' Ms s i) n % 4294967296).toNat.testBit j = true then 1 else 0), x.2)
  else if gO (gI' Ms s i) n = 1 then
    let h := sgOf s i (gA (gI' Ms s i) n).toNat (gB (gI' Ms s i) n)
    let st := @ite _ (stG Ms s h) (Classical.propDecidable _) x.2 (mk h x.2)
    (ups x.1 n (bitS Ms s st h), st)
  else if gO (gI' Ms s i) n = 2 then
    let h := lsL s (40 * i + (gA (gI' Ms s i) n).toNat)
    let r := wdB (lvD Ms s) (gW (gI' Ms s i) n) (wsG Ms s h) (gW (gI' Ms s i) (gB (gI' Ms s i) n).toNat) (x.1 (gB (gI' Ms s i) n).toNat) (stL Ms s h) x.2.1
    (ups x.1 n r.1, r.2, x.2.2)
  else
    let r := opB (lvD Ms s) (gO (gI' Ms s i) n) (gW (gI' Ms s i) n) (gW (gI' Ms s i) (gA (gI' Ms s i) n).toNat) (gW (gI' Ms s i) (gB (gI' Ms s i) n).toNat) (gC (gI' Ms s i) n).toNat (x.1 (gA (gI' Ms s i) n).toNat) (x.1 (gB (gI' Ms s i) n).toNat) (x.1 (gC (gI' Ms s i) n).toNat) x.2.1
    (ups x.1 n r.1, r.2, x.2.2)
/-- k nodes from n -/
noncomputable def rgB (mk : Nat → BST → BST) (i : Nat) : Nat → Nat → (Nat → Nat → Nat) × BST → (Nat → Nat → Nat) × BST
  | 0, _, x => x
  | k + 1, n, x => rgB mk i k (n + 1) (ndB Ms s mk i n x)
/-- a range -/
noncomputable def rngB (mk : Nat → BST → BST) (i u : Nat) (st : BST) : (Nat → Nat) × BST := ((rgB Ms s mk i (u + 1 - gF (gI' Ms s i) u) (gF (gI' Ms s i) u) (fun _ _ => 0, st)).1 u, (rgB Ms s mk i (u + 1 - gF (gI' Ms s i) u) (gF (gI' Ms s i) u) (fun _ _ => 0, st)).2)
/-- conditions, from outside in: the list is the other way round -/
noncomputable def whB (mk : Nat → BST → BST) (i : Nat) : List (Nat × Bool) → BST → Nat × BST
  | [], st => (1, st)
  | q :: L, st =>
    let x := whB mk i L st
    let r := rngB Ms s mk i q.1 x.2
    let y := andB (lvD Ms s) x.1 (if q.2 = true then ng (r.1 0) else r.1 0) r.2.1
    (y.1, y.2, r.2.2)
/-- a connection, over what is there -/
noncomputable def cnB (mk : Nat → BST → BST) (g c : Nat) (x : (Nat → Nat) × BST) : (Nat → Nat) × BST :=
  let w := whB Ms s mk (coI Ms s g) (mdCh (moI Ms s (coI Ms s g)) c) x.2
  let r := rngB Ms s mk (coI Ms s g) (mdVl (moI Ms s (coI Ms s g)) c) w.2
  if mdCh (moI Ms s (coI Ms s g)) c = [] then (r.1, r.2)
  else
    let m := mpB (fun j B => muxB (lvD Ms s) w.1 (r.1 j) (x.1 j) B) (wdS Ms s g) x.1 r.2.1
    (m.1, m.2, r.2.2)
noncomputable def csB (mk : Nat → BST → BST) (g : Nat) : List Nat → (Nat → Nat) × BST → (Nat → Nat) × BST
  | [], x => x
  | c :: L, x => csB mk g L (cnB Ms s mk g c x)
/-- a signal, R deep -/
noncomputable def mkB : Nat → Nat → BST → BST
  | 0, _, st => st
  | R + 1, g, st => if st.2.1 g = true then st else
    let x := csB Ms s (mkB R) g (conL Ms s g) (fun _ => 0, st.1, ups st.2.1 g true, st.2.2)
    (x.2.1, x.2.2.1, ups x.2.2.2 g x.1)
end
