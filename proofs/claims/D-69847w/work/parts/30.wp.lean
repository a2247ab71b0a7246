set_option maxRecDepth 100000
/-! ===== PHASE 2: the pure side. What a shallow function gives ===== -/
def wp {α : Type} (m : St → Option (α × St)) (σ : St) (Q : α → St → Prop) : Prop := ∃ x τ, m σ = some (x, τ) ∧ Q x τ
/-- of a function that may throw: what it gives, what it throws -/
def wpE {ρ : Type} (m : St → Option ((ρ ⊕ XV) × St)) (σ : St) (Q : ρ → St → Prop) (E : XV → St → Prop) : Prop := wp m σ (fun r τ => Sum.elim (fun a => Q a τ) (fun x => E x τ) r)
def stA {α : Type} (f : Nat → Nat → α) (a : Nat) (g : Nat → α) : Nat → Nat → α := fun b => if b = a then g else f b
def ups {α : Type} (g : Nat → α) (i : Nat) (v : α) : Nat → α := fun j => if j = i then v else g j
section
variable {α β : Type} {f : Nat → Nat → α} {g h : Nat → α} {a b i j : Nat} {v : α}
theorem stA_eq : stA f a g a = g := if_pos rfl
theorem stA_ne (h : b ≠ a) : stA f a g b = f b := if_neg h
theorem stA_stA : stA (stA f a g) a h = stA f a h := by
  funext b; unfold stA; by_cases e : b = a
  · rw [if_pos e, if_pos e]
  · rw [if_neg e, if_neg e, if_neg e]
theorem stA_self : stA f a (f a) = f := by
  funext b; unfold stA; by_cases e : b = a
  · rw [if_pos e, e]
  · rw [if_neg e]
theorem stA_comm (e : a ≠ b) : stA (stA f a g) b h = stA (stA f b h) a g := by
  funext c; unfold stA; by_cases e1 : c = b
  · rw [if_pos e1, if_neg (fun q => e (q.symm.trans e1)), if_pos e1]
  · rw [if_neg e1, if_neg e1]
theorem ups_eq : ups g i v i = v := if_pos rfl
theorem ups_ne (h : j ≠ i) : ups g i v j = g j := if_neg h
theorem ups_ups {w : α} : ups (ups g i v) i w = ups g i w := by
  funext b; unfold ups; by_cases e : b = i
  · rw [if_pos e, if_pos e]
  · rw [if_neg e, if_neg e, if_neg e]
theorem up2_st : up2 f a i v = stA f a (ups (f a) i v) := by
  funext b c; unfold up2 stA ups
  by_cases e : b = a
  · subst e
    rw [if_pos rfl]
    by_cases e2 : c = i
    · rw [if_pos ⟨rfl, e2⟩, if_pos e2]
    · rw [if_neg (fun q => e2 q.2), if_neg e2]
  · rw [if_neg (fun q => e q.1), if_neg e]
end
section
variable {α β Ω : Type} {σ : St} {Q : α → St → Prop} {a k i : Nat}
theorem wp_of {m : St → Option (α × St)} {x : α} {τ : St} (h : m σ = some (x, τ)) (q : Q x τ) : wp m σ Q := ⟨x, τ, h, q⟩
theorem wp_mono {m : St → Option (α × St)} {P : α → St → Prop} (h : wp m σ P) (q : ∀ x τ, P x τ → Q x τ) : wp m σ Q := by
  obtain ⟨x, τ, e, p⟩ := h
  exact ⟨x, τ, e, q x τ p⟩
theorem wp_bd {m : St → Option (β × St)} {g : β → St → Option (α × St)} : wp (bd m g) σ Q = wp m σ (fun x τ => wp (g x) τ Q) := by
  apply propext
  unfold wp bd
  constructor
  · rintro ⟨x, τ, h, q⟩
    cases e : m σ with
    | none => rw [e] at h; cases h
    | some p => rw [e] at h; exact ⟨p.1, p.2, rfl, x, τ, h, q⟩
  · rintro ⟨y, τ, h, x, τ', h', q⟩
    exact ⟨x, τ', by rw [h]; exact h', q⟩
theorem wp_rt {x : α} : wp (rt x) σ Q = Q x σ := by
  apply propext
  unfold wp rt
  constructor
  · rintro ⟨y, τ, h, q⟩; cases h; exact q
  · exact fun q => ⟨x, σ, rfl, q⟩
theorem wp_lt {x : β} {g : β → St → Option (α × St)} : wp (lt x g) σ Q = wp (g x) σ Q := rfl
theorem wp_ite {c : Prop} {hd : Decidable c} {m n : St → Option (α × St)} : wp (if c then m else n) σ Q = if c then wp m σ Q else wp n σ Q := by
  by_cases h : c
  · rw [if_pos h, if_pos h]
  · rw [if_neg h, if_neg h]
theorem wp_if {c : Prop} {x : α} {τ : St} [Decidable c] {m : St → Option (α × St)} (e : m σ = if c then some (x, τ) else none) : wp m σ Q = (c ∧ Q x τ) := by
  apply propext
  unfold wp
  rw [e]
  by_cases h : c
  · rw [if_pos h]
    constructor
    · rintro ⟨y, τ', h', q⟩; cases h'; exact ⟨h, q⟩
    · exact fun q => ⟨x, τ, rfl, q.2⟩
  · rw [if_neg h]
    constructor
    · rintro ⟨y, τ', h', q⟩; cases h'
    · exact fun q => absurd q.1 h
theorem wp_rdI {a : Nat} {i : Int} {Q : Int → St → Prop} : wp (rdI a i) σ Q = ((0 ≤ i ∧ i < (ia a : Int)) ∧ Q (σ.1 a i.toNat) σ) := wp_if rfl
theorem wp_rdB {a : Nat} {i : Int} {Q : Int → St → Prop} : wp (rdB a i) σ Q = ((0 ≤ i ∧ i < (ba a : Int)) ∧ Q (σ.1 a i.toNat) σ) := wp_if rfl
theorem wp_rdL {a : Nat} {i : Int} {Q : Int64 → St → Prop} : wp (rdL a i) σ Q = ((0 ≤ i ∧ i < (la a : Int)) ∧ Q (σ.2.1 a i.toNat) σ) := wp_if rfl
theorem wp_rdQ {a : Nat} {i : Int} {Q : Option Nat → St → Prop} : wp (rdQ a i) σ Q = ((0 ≤ i ∧ i < (qa a : Int)) ∧ Q (σ.2.2 a i.toNat) σ) := wp_if rfl
theorem wp_wrI {a : Nat} {i v : Int} {Q : Unit → St → Prop} : wp (wrI a i v) σ Q = ((0 ≤ i ∧ i < (ia a : Int)) ∧ Q () (stA σ.1 a (ups (σ.1 a) i.toNat v), σ.2)) := by rw [← up2_st]; exact wp_if rfl
theorem wp_wrB {a : Nat} {i v : Int} {Q : Unit → St → Prop} : wp (wrB a i v) σ Q = (((0 ≤ i ∧ i < (ba a : Int)) ∧ inB a v = true) ∧ Q () (stA σ.1 a (ups (σ.1 a) i.toNat v), σ.2)) := by rw [← up2_st]; exact wp_if rfl
theorem wp_wrL {a : Nat} {i : Int} {v : Int64} {Q : Unit → St → Prop} : wp (wrL a i v) σ Q = ((0 ≤ i ∧ i < (la a : Int)) ∧ Q () (σ.1, stA σ.2.1 a (ups (σ.2.1 a) i.toNat v), σ.2.2)) := by rw [← up2_st]; exact wp_if rfl
theorem wp_wrQ {a o : Nat} {i : Int} {Q : Unit → St → Prop} : wp (wrQ a i o) σ Q = (((0 ≤ i ∧ i < (qa a : Int)) ∧ okQ a o = true) ∧ Q () (σ.1, σ.2.1, stA σ.2.2 a (ups (σ.2.2 a) i.toNat (some o)))) := by rw [← up2_st]; exact wp_if rfl
theorem wp_some {m : St → Option (α × St)} {x : α} {τ : St} (e : m σ = some (x, τ)) : wp m σ Q = Q x τ := by
  apply propext
  unfold wp
  rw [e]
  constructor
  · rintro ⟨y, τ', h', q⟩; cases h'; exact q
  · exact fun q => ⟨x, τ, rfl, q⟩
theorem wp_gI {Q : Int → St → Prop} : wp (gI a k) σ Q = Q (σ.1 a k) σ := wp_some rfl
theorem wp_gL {Q : Int64 → St → Prop} : wp (gL a k) σ Q = Q (σ.2.1 a k) σ := wp_some rfl
theorem wp_gQ {Q : Option Nat → St → Prop} : wp (gQ a k) σ Q = Q (σ.2.2 a k) σ := wp_some rfl
theorem wp_pI {v : Int} {Q : Unit → St → Prop} : wp (pI a k v) σ Q = Q () (stA σ.1 a (ups (σ.1 a) k v), σ.2) := by rw [← up2_st]; exact wp_some rfl
theorem wp_pL {v : Int64} {Q : Unit → St → Prop} : wp (pL a k v) σ Q = Q () (σ.1, stA σ.2.1 a (ups (σ.2.1 a) k v), σ.2.2) := by rw [← up2_st]; exact wp_some rfl
theorem wp_pQ {v : Option Nat} {Q : Unit → St → Prop} : wp (pQ a k v) σ Q = Q () (σ.1, σ.2.1, stA σ.2.2 a (ups (σ.2.2 a) k v)) := by rw [← up2_st]; exact wp_some rfl
theorem wp_pZ {v : Int} {Q : Unit → St → Prop} : wp (pZ a k v) σ Q = ((0 ≤ v ∧ v ≤ 1) ∧ Q () (stA σ.1 a (ups (σ.1 a) k v), σ.2)) := by rw [← up2_st]; exact wp_if rfl
theorem wp_rtZ {x : Int} {Q : Int → St → Prop} : wp (rtZ x) σ Q = ((0 ≤ x ∧ x ≤ 1) ∧ Q x σ) := wp_if rfl
theorem wp_rtB {x : Int} {Q : Int → St → Prop} : wp (rtB x) σ Q = ((-128 ≤ x ∧ x ≤ 127) ∧ Q x σ) := wp_if rfl
theorem wp_rtC {x : Int} {Q : Int → St → Prop} : wp (rtC x) σ Q = ((0 ≤ x ∧ x ≤ 255) ∧ Q x σ) := wp_if rfl
theorem wp_rdP6 {i : Int} {Q : Int64 → St → Prop} : wp (rdP6 i) σ Q = ((0 ≤ i ∧ i < 6) ∧ Q (pat6.getD i.toNat 0) σ) := wp_if rfl
theorem wp_rdP5 {i : Int} {Q : Int64 → St → Prop} : wp (rdP5 i) σ Q = ((0 ≤ i ∧ i < 5) ∧ Q (pat5.getD i.toNat 0) σ) := wp_if rfl
theorem wp_rdV {o : Nat} {i : Int} {Q : Int → St → Prop} : wp (rdV o i) σ Q = ((0 ≤ i ∧ i < sl o) ∧ Q (sb o i) σ) := wp_if rfl
theorem wp_cond {c : Prop} [Decidable c] {m n : St → Option (α × St)} (e : m σ = if c then n σ else none) : wp m σ Q = (c ∧ wp n σ Q) := by
  apply propext
  unfold wp
  rw [e]
  by_cases h : c
  · rw [if_pos h]; exact ⟨fun q => ⟨h, q⟩, fun q => q.2⟩
  · rw [if_neg h]; exact ⟨fun ⟨_, _, q, _⟩ => (by cases q), fun q => absurd q.1 h⟩
theorem wp_ck {o ci : Nat} {g : St → Option (α × St)} : wp (ck o ci g) σ Q = (lay o = (0, ci) ∧ wp g σ Q) := wp_cond rfl
theorem wp_ckS {o : Nat} {g : St → Option (α × St)} : wp (ckS o g) σ Q = ((1000100 ≤ o ∧ o < 1000113) ∧ wp g σ Q) := wp_cond rfl
theorem wp_nz {y : Int} {g : St → Option (α × St)} : wp (nz y g) σ Q = (¬ y = 0 ∧ wp g σ Q) := wp_cond (by unfold nz; by_cases h : y = 0 <;> simp [h])
theorem wp_nn {o : Nat} {g : Nat → St → Option (α × St)} : wp (nn (some o) g) σ Q = wp (g o) σ Q := rfl
theorem wp_on {r : Option Nat} {m : St → Option (α × St)} {g : Nat → St → Option (α × St)} : wp (on r m g) σ Q = (match r with | none => wp m σ Q | some o => wp (g o) σ Q) := by cases r <;> rfl
theorem wp_on0 {m : St → Option (α × St)} {g : Nat → St → Option (α × St)} : wp (on none m g) σ Q = wp m σ Q := rfl
theorem wp_on1 {o : Nat} {m : St → Option (α × St)} {g : Nat → St → Option (α × St)} : wp (on (some o) m g) σ Q = wp (g o) σ Q := rfl
/-- a stretch of an array from another one -/
def cpy {α : Type} (g : Nat → α) (sp : Nat) (h : Nat → α) (dp n : Nat) : Nat → α := fun j => if dp ≤ j ∧ j < dp + n then g (sp + (j - dp)) else h j
theorem cp_st {α : Type} {f : Nat → Nat → α} {a b sp dp n : Nat} : (fun x j => if x = b ∧ dp ≤ j ∧ j < dp + n then f a (sp + (j - dp)) else f x j) = stA f b (cpy (f a) sp (f b) dp n) := by
  funext x j
  unfold stA cpy
  by_cases e : x = b
  · subst e
    rw [if_pos rfl]
    by_cases e2 : dp ≤ j ∧ j < dp + n
    · rw [if_pos ⟨rfl, e2⟩, if_pos e2]
    · rw [if_neg (fun q => e2 q.2), if_neg e2]
  · rw [if_neg (fun q => e q.1), if_neg e]
theorem wp_cpI {a b : Nat} {sp dp n : Int} {Q : Unit → St → Prop} : wp (cpI a sp b dp n) σ Q = (((((lay a).1 = (lay b).1 ∧ 1 ≤ (lay a).1 ∧ (lay a).1 ≤ 3) ∧ 0 ≤ sp ∧ 0 ≤ dp ∧ 0 ≤ n) ∧ sp + n ≤ ((lay a).2 : Int) ∧ dp + n ≤ ((lay b).2 : Int)) ∧ Q () (stA σ.1 b (cpy (σ.1 a) sp.toNat (σ.1 b) dp.toNat n.toNat), σ.2)) := by rw [← cp_st]; exact wp_if rfl
theorem wp_cpL {a b : Nat} {sp dp n : Int} {Q : Unit → St → Prop} : wp (cpL a sp b dp n) σ Q = (((((lay a).1 = 4 ∧ (lay b).1 = 4) ∧ 0 ≤ sp ∧ 0 ≤ dp ∧ 0 ≤ n) ∧ sp + n ≤ ((lay a).2 : Int) ∧ dp + n ≤ ((lay b).2 : Int)) ∧ Q () (σ.1, stA σ.2.1 b (cpy (σ.2.1 a) sp.toNat (σ.2.1 b) dp.toNat n.toNat), σ.2.2)) := by rw [← cp_st]; exact wp_if rfl
/-! what may throw -/
variable {E : XV → St → Prop}
theorem wpE_bd {m : St → Option (β × St)} {g : β → St → Option ((α ⊕ XV) × St)} : wpE (bd m g) σ Q E = wp m σ (fun x τ => wpE (g x) τ Q E) := wp_bd
theorem wpE_lt {x : β} {g : β → St → Option ((α ⊕ XV) × St)} : wpE (lt x g) σ Q E = wpE (g x) σ Q E := rfl
theorem wpE_ite {c : Prop} {hd : Decidable c} {m n : St → Option ((α ⊕ XV) × St)} : wpE (if c then m else n) σ Q E = if c then wpE m σ Q E else wpE n σ Q E := wp_ite
theorem wpE_ck {o ci : Nat} {g : St → Option ((α ⊕ XV) × St)} : wpE (ck o ci g) σ Q E = (lay o = (0, ci) ∧ wpE g σ Q E) := wp_ck
theorem wpE_nz {y : Int} {g : St → Option ((α ⊕ XV) × St)} : wpE (nz y g) σ Q E = (¬ y = 0 ∧ wpE g σ Q E) := wp_nz
theorem wpE_nn {o : Nat} {g : Nat → St → Option ((α ⊕ XV) × St)} : wpE (nn (some o) g) σ Q E = wpE (g o) σ Q E := rfl
theorem wpE_thw {x : XV} : wpE (thw (ρ := α) x) σ Q E = E x σ := by
  unfold wpE
  rw [wp_some (m := thw (ρ := α) x) (x := .inr x) (τ := σ) rfl]
  rfl
theorem wpE_lE {m : St → Option (α × St)} : wpE (lE m) σ Q E = wp m σ Q := by
  apply propext
  unfold wpE wp lE
  constructor
  · rintro ⟨x, τ, h, q⟩
    cases e : m σ with
    | none => rw [e] at h; cases h
    | some p => rw [e] at h; cases h; exact ⟨p.1, p.2, rfl, q⟩
  · rintro ⟨x, τ, h, q⟩
    exact ⟨.inl x, τ, by rw [h]; rfl, q⟩
theorem wpE_bdE {m : St → Option ((β ⊕ XV) × St)} {g : β → St → Option ((α ⊕ XV) × St)} : wpE (bdE m g) σ Q E = wpE m σ (fun x τ => wpE (g x) τ Q E) E := by
  apply propext
  unfold wpE wp bdE
  constructor
  · rintro ⟨x, τ, h, q⟩
    cases e : m σ with
    | none => rw [e] at h; cases h
    | some p =>
      obtain ⟨p, τ1⟩ := p
      rw [e] at h
      cases p with
      | inl y => exact ⟨.inl y, τ1, rfl, x, τ, h, q⟩
      | inr y => cases h; exact ⟨.inr y, τ, rfl, q⟩
  · rintro ⟨y, τ, h, q⟩
    cases y with
    | inl y => obtain ⟨x, τ', h', q⟩ := q; exact ⟨x, τ', by rw [h]; exact h', q⟩
    | inr y => exact ⟨.inr y, τ, by rw [h], q⟩
theorem wp_bdX {m : St → Option ((β ⊕ XV) × St)} {g : β → St → Option (α × St)} : wp (bdX m g) σ Q = wpE m σ (fun x τ => wp (g x) τ Q) (fun _ _ => False) := by
  apply propext
  unfold wpE wp bdX
  constructor
  · rintro ⟨x, τ, h, q⟩
    cases e : m σ with
    | none => rw [e] at h; cases h
    | some p =>
      obtain ⟨p, τ1⟩ := p
      rw [e] at h
      cases p with
      | inl y => exact ⟨.inl y, τ1, rfl, x, τ, h, q⟩
      | inr y => cases h
  · rintro ⟨y, τ, h, q⟩
    cases y with
    | inl y => obtain ⟨x, τ', h', q⟩ := q; exact ⟨x, τ', by rw [h]; exact h', q⟩
    | inr y => exact q.elim
theorem wp_tryE {kx : Nat} {m : St → Option ((β ⊕ XV) × St)} {h : XV → St → Option (α × St)} {g : β → St → Option (α × St)} : wp (tryE kx m h g) σ Q = wpE m σ (fun x τ => wp (g x) τ Q) (fun x τ => x.1 = kx ∧ wp (h x) τ Q) := by
  apply propext
  unfold wpE wp tryE
  constructor
  · rintro ⟨x, τ, h1, q⟩
    cases e : m σ with
    | none => rw [e] at h1; cases h1
    | some p =>
      obtain ⟨p, τ1⟩ := p
      rw [e] at h1
      cases p with
      | inl y => exact ⟨.inl y, τ1, rfl, x, τ, h1, q⟩
      | inr y =>
        dsimp only at h1
        by_cases hk : y.1 = kx
        · rw [if_pos hk] at h1; exact ⟨.inr y, τ1, rfl, hk, x, τ, h1, q⟩
        · rw [if_neg hk] at h1; cases h1
  · rintro ⟨y, τ, h1, q⟩
    cases y with
    | inl y => obtain ⟨x, τ', h', q⟩ := q; exact ⟨x, τ', by rw [h1]; exact h', q⟩
    | inr y => obtain ⟨hk, x, τ', h', q⟩ := q; exact ⟨x, τ', by rw [h1]; dsimp only; rw [if_pos hk]; exact h', q⟩
theorem wpE_mono {m : St → Option ((α ⊕ XV) × St)} {P : α → St → Prop} {E' : XV → St → Prop} (h : wpE m σ P E') (q : ∀ x τ, P x τ → Q x τ) (q2 : ∀ x τ, E' x τ → E x τ) : wpE m σ Q E := wp_mono h (fun r τ p => by cases r with | inl a => exact q a τ p | inr x => exact q2 x τ p)
end
/-! numbers -/
theorem w32_i {x : Int} (h1 : -2147483648 ≤ x) (h2 : x ≤ 2147483647) : w32 x = x := w32_id ⟨h1, h2⟩
theorem tn (k : Nat) : ((k : Int)).toNat = k := Int.toNat_natCast k
/-- a loop: a measure falls at each turn -/
theorem loopM {α ρ : Type} {L : Nat → α → St → Option (ρ × St)} {Q : ρ → St → Prop} (I : Nat → α → St → Prop) (step : ∀ f m x σ, I m x σ → (∀ m' x' τ, m' < m → I m' x' τ → wp (L f x') τ Q) → wp (L (f + 1) x) σ Q) : ∀ f m x σ, m < f → I m x σ → wp (L f x) σ Q
  | 0, _, _, _, h, _ => absurd h (Nat.not_lt_zero _)
  | f + 1, m, x, σ, h, hi => step f m x σ hi (fun m' x' τ h' hi' => loopM I step f m' x' τ (by omega) hi')
