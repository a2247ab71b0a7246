set_option maxRecDepth 100000
set_option maxHeartbeats 400000
/-! ===== modules: the value that a component's module and a store of the twin have ===== -/
/-- counts: things, nodes, connections, whens, counted nodes, sinks, the length of the name, statements; of things: kind, width, words, begin, part, length of the name; names of things, of the module; nodes; of connections: thing, value, statement, port, address, the whens around -/
abbrev ModV : Type := (Nat × Nat × Nat × Nat × Nat × Nat × Nat × Nat) × ((Nat → Nat) × (Nat → Nat) × (Nat → Nat) × (Nat → Nat) × (Nat → Nat) × (Nat → Nat)) × ((Nat → Nat → Int) × (Nat → Int)) × NG × ((Nat → Nat) × (Nat → Nat) × (Nat → Nat) × (Nat → Int) × (Nat → Int) × (Nat → List (Nat × Bool)))
def mdT (M : ModV) : Nat := M.1.1
def mdN (M : ModV) : Nat := M.1.2.1
def mdC (M : ModV) : Nat := M.1.2.2.1
def mdW (M : ModV) : Nat := M.1.2.2.2.1
def mdK (M : ModV) : Nat := M.1.2.2.2.2.1
def mdS (M : ModV) : Nat := M.1.2.2.2.2.2.1
def mdL (M : ModV) : Nat := M.1.2.2.2.2.2.2.1
def mdQ (M : ModV) : Nat := M.1.2.2.2.2.2.2.2
def mdkd (M : ModV) : Nat → Nat := M.2.1.1
def mdwd (M : ModV) : Nat → Nat := M.2.1.2.1
def mdws (M : ModV) : Nat → Nat := M.2.1.2.2.1
def mdbg (M : ModV) : Nat → Nat := M.2.1.2.2.2.1
def mdpt (M : ModV) : Nat → Nat := M.2.1.2.2.2.2.1
def mdnl (M : ModV) : Nat → Nat := M.2.1.2.2.2.2.2
def mdtn (M : ModV) : Nat → Nat → Int := M.2.2.1.1
def mdmn (M : ModV) : Nat → Int := M.2.2.1.2
def mdG (M : ModV) : NG := M.2.2.2.1
def mdTg (M : ModV) : Nat → Nat := M.2.2.2.2.1
def mdVl (M : ModV) : Nat → Nat := M.2.2.2.2.2.1
def mdSt (M : ModV) : Nat → Nat := M.2.2.2.2.2.2.1
def mdPo (M : ModV) : Nat → Int := M.2.2.2.2.2.2.2.1
def mdAd (M : ModV) : Nat → Int := M.2.2.2.2.2.2.2.2.1
def mdCh (M : ModV) : Nat → List (Nat × Bool) := M.2.2.2.2.2.2.2.2.2
/-- the component's module o holds M -/
def modX (σ : St) (o : Nat) (M : ModV) : Prop :=
  ((σ.1 o 7 = (mdT M : Int) ∧ σ.1 o 13 = (mdN M : Int) ∧ σ.1 o 14 = (mdK M : Int) ∧ σ.1 o 22 = (mdC M : Int) ∧ σ.1 o 27 = (mdW M : Int) ∧ σ.1 o 30 = (mdS M : Int) ∧ σ.1 o 29 = (mdL M : Int)) ∧ ∀ j, j < mdL M → σ.1 (o + 1) j = mdmn M j) ∧
  (∀ i, i < mdT M → (σ.1 (o + 3) i = (mdnl M i : Int) ∧ σ.1 (o + 4) i = (mdkd M i : Int) ∧ (mdkd M i ≠ 5 → σ.1 (o + 5) i = (mdwd M i : Int)) ∧ σ.1 (o + 6) i = (mdws M i : Int) ∧ σ.1 (o + 7) i = sg (mdbg M i)) ∧ (mdkd M i = 5 → σ.1 (o + 8) i = (mdpt M i : Int)) ∧ ∀ j, j < mdnl M i → σ.1 (o + 2) (10 * i + j) = mdtn M i j) ∧
  (∀ i, i < mdN M → σ.1 (o + 9) i = (gO (mdG M) i : Int) ∧ σ.1 (o + 10) i = gA (mdG M) i ∧ σ.1 (o + 11) i = gB (mdG M) i ∧ σ.1 (o + 12) i = gC (mdG M) i ∧ σ.1 (o + 13) i = (gW (mdG M) i : Int)) ∧
  ∀ c, c < mdC M → (σ.1 (o + 14) c = (mdTg M c : Int) ∧ σ.1 (o + 15) c = mdPo M c ∧ σ.1 (o + 16) c = mdAd M c ∧ σ.1 (o + 18) c = (mdVl M c : Int) ∧ σ.1 (o + 19) c = (gF (mdG M) (mdVl M c) : Int) ∧ (0 ≤ mdAd M c → σ.1 (o + 17) c = (gF (mdG M) (mdAd M c).toNat : Int))) ∧ crX (σ.1 (o + 21)) (σ.1 (o + 22)) (σ.1 (o + 23)) (σ.1 (o + 24)) (mdG M) (mdN M) (mdW M) (σ.1 (o + 20) c) (mdCh M c)
/-- the store S of the twin holds M -/
def modM (τ : St) (S : Nat) (M : ModV) : Prop :=
  (τ.1 2077 S = (mdT M : Int) ∧ τ.1 2078 S = (mdK M : Int) ∧ τ.1 2080 S = (mdQ M : Int)) ∧
  (∀ i, i < mdT M → (τ.1 2082 (40 * S + i) = (mdkd M i : Int) ∧ (mdkd M i ≠ 5 → τ.1 2083 (40 * S + i) = (mdwd M i : Int)) ∧ τ.1 2084 (40 * S + i) = (mdws M i : Int) ∧ (τ.2.1 2085 (40 * S + i)).toInt = (mdbg M i : Int)) ∧ (mdkd M i = 5 → τ.1 2086 (40 * S + i) = (mdpt M i : Int)) ∧ ∀ j, j < 10 → τ.1 2087 (10 * (40 * S + i) + j) = if j < mdnl M i then mdtn M i j else 0) ∧
  (∀ i, i < mdN M → ndR (gO (mdG M) i) (gA (mdG M) i) (gB (mdG M) i) (gC (mdG M) i) (τ.1 2088 (300 * S + i)) (τ.1 2089 (300 * S + i)) (τ.1 2090 (300 * S + i)) (τ.1 2091 (300 * S + i)) (τ.2.1 2093 (300 * S + i)) ∧ τ.1 2092 (300 * S + i) = (gW (mdG M) i : Int)) ∧
  (∀ c, c < mdC M → τ.1 2094 (200 * S + mdSt M c) = (mdTg M c : Int) ∧ τ.1 2095 (200 * S + mdSt M c) = mdPo M c ∧ τ.1 2096 (200 * S + mdSt M c) = mdAd M c ∧ τ.1 2097 (200 * S + mdSt M c) = (mdVl M c : Int) ∧ crT (fun k => τ.1 2097 (200 * S + k)) (fun k => τ.1 2098 (200 * S + k)) (fun k => τ.1 2099 (200 * S + k)) (mdSt M c) (τ.1 2098 (200 * S + mdSt M c)) (τ.1 2099 (200 * S + mdSt M c)) (mdCh M c)) ∧
  ∀ k, k < mdQ M → (∃ c, c < mdC M ∧ mdSt M c = k) ∨ τ.1 2094 (200 * S + k) = -1
/-- how many ports of a module are in; how many sinks -/
def inP (kk : Nat → Nat) : Nat → Nat
  | 0 => 0
  | p + 1 => inP kk p + (if kk p = 0 then 1 else 0)
def skP (kd pt Mt : Nat → Nat) (Mk : Nat → Nat → Nat) : Nat → Nat
  | 0 => 0
  | i + 1 => skP kd pt Mt Mk i + ((if kd i = 1 ∨ kd i = 2 then 1 else 0) + if kd i = 5 then inP (Mk (pt i)) (Mt (pt i)) else 0)
/-- a node that is the last one of a value, an address or a condition -/
def rootM (M : ModV) (u : Nat) : Prop := ∃ c, c < mdC M ∧ (u = mdVl M c ∨ (u : Int) = mdAd M c ∨ ∃ q, q ∈ mdCh M c ∧ u = q.1)
/-- ranges of connections lie apart, and from conditions -/
def sepM (M : ModV) : Prop := (∀ c, c < mdC M → ∀ a : Nat, mdAd M c = (a : Int) → a < gF (mdG M) (mdVl M c)) ∧ (∀ c c', c < c' → c' < mdC M → mdVl M c < gF (mdG M) (mdVl M c') ∧ ∀ a : Nat, mdAd M c' = (a : Int) → mdVl M c < gF (mdG M) a) ∧ ∀ c c' q, c < mdC M → c' < mdC M → q ∈ mdCh M c' → q.1 ≠ mdVl M c ∧ (q.1 : Int) ≠ mdAd M c
/-- a module as the reader makes it, behind m others -/
def modOK (Ms : Nat → ModV) (m : Nat) (M : ModV) : Prop :=
  (mdT M ≤ 40 ∧ mdN M ≤ 240 ∧ mdC M ≤ 60 ∧ mdW M ≤ 240 ∧ mdK M ≤ 120 ∧ mdQ M ≤ 120) ∧ (1 ≤ mdL M ∧ mdL M ≤ 10 ∧ ∀ j, j < mdL M → mdmn M j ≠ 0) ∧
  (∀ i, i < mdT M → (mdkd M i ≤ 5 ∧ (mdkd M i ≠ 5 → 1 ≤ mdwd M i ∧ mdwd M i ≤ 32) ∧ (1 ≤ mdws M i ∧ mdws M i ≤ 64 ∧ (mdkd M i ≠ 4 → mdws M i = 1)) ∧ (mdkd M i = 3 → mdbg M i < 2 ^ mdwd M i) ∧ (mdkd M i ≠ 3 → mdbg M i = 0) ∧ (mdkd M i = 5 → mdpt M i < m)) ∧ (1 ≤ mdnl M i ∧ mdnl M i ≤ 10 ∧ ∀ j, j < mdnl M i → pnz (mdtn M i j))) ∧
  (wS (mdG M) (mdN M) ≤ mdK M ∧ ∀ i, i < mdN M → nodW (RDk (mdT M) (mdkd M) (mdwd M) (mdpt M) (fun x => mdT (Ms x)) (fun x => mdkd (Ms x)) (fun x => mdwd (Ms x))) (WDk (mdT M) (mdkd M) (mdwd M)) (mdG M) i) ∧
  (∀ c, c < mdC M → CW (mdT M) (mdkd M) (mdwd M) (mdpt M) (fun x => mdT (Ms x)) (fun x => mdkd (Ms x)) (fun x => mdwd (Ms x)) (mdN M) (mdG M) (mdTg M c : Int) (mdPo M c) (mdAd M c) (mdVl M c) ∧ (mdCh M c).length ≤ 20 ∧ mdSt M c < mdQ M) ∧
  ((∀ c c', c < c' → c' < mdC M → mdSt M c < mdSt M c') ∧ (∀ u u', rootM M u → rootM M u' → u = u' ∨ u < gF (mdG M) u' ∨ u' < gF (mdG M) u) ∧ sepM M) ∧
  mdS M = skP (mdkd M) (mdpt M) (fun x => mdT (Ms x)) (fun x => mdkd (Ms x)) (mdT M)
section
variable {σ σ' τ τ' : St} {o S : Nat} {M : ModV}
theorem modX.fr (h : modX σ o M) (e : ∀ a, o ≤ a → a ≤ o + 24 → σ'.1 a = σ.1 a) : modX σ' o M := by
  unfold modX
  rw [e o (by omega) (by omega), e (o + 1) (by omega) (by omega), e (o + 2) (by omega) (by omega), e (o + 3) (by omega) (by omega), e (o + 4) (by omega) (by omega), e (o + 5) (by omega) (by omega), e (o + 6) (by omega) (by omega), e (o + 7) (by omega) (by omega), e (o + 8) (by omega) (by omega), e (o + 9) (by omega) (by omega), e (o + 10) (by omega) (by omega), e (o + 11) (by omega) (by omega), e (o + 12) (by omega) (by omega), e (o + 13) (by omega) (by omega), e (o + 14) (by omega) (by omega), e (o + 15) (by omega) (by omega), e (o + 16) (by omega) (by omega), e (o + 17) (by omega) (by omega), e (o + 18) (by omega) (by omega), e (o + 19) (by omega) (by omega), e (o + 20) (by omega) (by omega), e (o + 21) (by omega) (by omega), e (o + 22) (by omega) (by omega), e (o + 23) (by omega) (by omega), e (o + 24) (by omega) (by omega)]
  exact h
/-- the cells of a store -/
def stS (S a i : Nat) : Prop := (2077 ≤ a ∧ a ≤ 2080 ∧ i = S) ∨ (2082 ≤ a ∧ a ≤ 2086 ∧ 40 * S ≤ i ∧ i < 40 * S + 40) ∨ (a = 2087 ∧ 400 * S ≤ i ∧ i < 400 * S + 400) ∨ (2088 ≤ a ∧ a ≤ 2093 ∧ 300 * S ≤ i ∧ i < 300 * S + 300) ∨ (2094 ≤ a ∧ a ≤ 2100 ∧ 200 * S ≤ i ∧ i < 200 * S + 200)
theorem modM.fr (h : modM τ S M) (hT : mdT M ≤ 40) (hN : mdN M ≤ 240) (hQ : mdQ M ≤ 120) (hS : ∀ c, c < mdC M → mdSt M c < mdQ M) (e : agr (stS S) τ τ') : modM τ' S M := by
  obtain ⟨⟨h1, h2, h3⟩, h4, h5, h6, h7⟩ := h
  refine ⟨⟨by rw [(e 2077 S (by unfold stS; omega)).1]; exact h1, by rw [(e 2078 S (by unfold stS; omega)).1]; exact h2, by rw [(e 2080 S (by unfold stS; omega)).1]; exact h3⟩, fun i hi => ?_, fun i hi => ?_, fun c hc => ?_, fun k hk => ?_⟩
  · rw [(e 2082 (40 * S + i) (by unfold stS; omega)).1, (e 2083 (40 * S + i) (by unfold stS; omega)).1, (e 2084 (40 * S + i) (by unfold stS; omega)).1, (e 2085 (40 * S + i) (by unfold stS; omega)).2.1, (e 2086 (40 * S + i) (by unfold stS; omega)).1]
    obtain ⟨a1, a2, a3⟩ := h4 i hi
    exact ⟨a1, a2, fun j hj => by rw [(e 2087 (10 * (40 * S + i) + j) (by unfold stS; omega)).1]; exact a3 j hj⟩
  · rw [(e 2088 (300 * S + i) (by unfold stS; omega)).1, (e 2089 (300 * S + i) (by unfold stS; omega)).1, (e 2090 (300 * S + i) (by unfold stS; omega)).1, (e 2091 (300 * S + i) (by unfold stS; omega)).1, (e 2092 (300 * S + i) (by unfold stS; omega)).1, (e 2093 (300 * S + i) (by unfold stS; omega)).2.1]
    exact h5 i hi
  · have hs := hS c hc
    obtain ⟨a1, a2, a3, a4, a5⟩ := h6 c hc
    rw [(e 2094 (200 * S + mdSt M c) (by unfold stS; omega)).1, (e 2095 (200 * S + mdSt M c) (by unfold stS; omega)).1, (e 2096 (200 * S + mdSt M c) (by unfold stS; omega)).1, (e 2097 (200 * S + mdSt M c) (by unfold stS; omega)).1, (e 2098 (200 * S + mdSt M c) (by unfold stS; omega)).1, (e 2099 (200 * S + mdSt M c) (by unfold stS; omega)).1]
    exact ⟨a1, a2, a3, a4, crT.mono _ _ _ _ _ (Nat.le_refl _) (fun k hk => ⟨(e 2097 (200 * S + k) (by unfold stS; omega)).1, (e 2098 (200 * S + k) (by unfold stS; omega)).1, (e 2099 (200 * S + k) (by unfold stS; omega)).1⟩) a5⟩
  · rw [(e 2094 (200 * S + k) (by unfold stS; omega)).1]
    exact h7 k hk
end
