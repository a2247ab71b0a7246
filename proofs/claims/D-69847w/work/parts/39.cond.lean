set_option maxRecDepth 100000
/-! ===== conditional rows ===== -/
section
variable {α β : Type} {σ : St} {a n : Nat} {i : Int}
theorem wp_ifp {c : Prop} {hd : Decidable c} {m k : St → Option (α × St)} {Q : α → St → Prop} (h : c) : wp (if c then m else k) σ Q = wp m σ Q := by rw [if_pos h]
theorem wp_ifn {c : Prop} {hd : Decidable c} {m k : St → Option (α × St)} {Q : α → St → Prop} (h : ¬ c) : wp (if c then m else k) σ Q = wp k σ Q := by rw [if_neg h]
theorem wpE_ifp {c : Prop} {hd : Decidable c} {m k : St → Option ((α ⊕ XV) × St)} {Q : α → St → Prop} {E : XV → St → Prop} (h : c) : wpE (if c then m else k) σ Q E = wpE m σ Q E := by rw [if_pos h]
theorem wpE_ifn {c : Prop} {hd : Decidable c} {m k : St → Option ((α ⊕ XV) × St)} {Q : α → St → Prop} {E : XV → St → Prop} (h : ¬ c) : wpE (if c then m else k) σ Q E = wpE k σ Q E := by rw [if_neg h]
theorem and_t {p q : Prop} (h : p) : (p ∧ q) = q := propext ⟨fun x => x.2, fun x => ⟨h, x⟩⟩
theorem c_rdI (hl : ia a = n) (h1 : 0 ≤ i) (h2 : i < (n : Int)) {Q : Int → St → Prop} : wp (rdI a i) σ Q = Q (σ.1 a i.toNat) σ := by rw [wp_rdI, hl, and_t ⟨h1, h2⟩]
theorem c_rdB (hl : ba a = n) (h1 : 0 ≤ i) (h2 : i < (n : Int)) {Q : Int → St → Prop} : wp (rdB a i) σ Q = Q (σ.1 a i.toNat) σ := by rw [wp_rdB, hl, and_t ⟨h1, h2⟩]
theorem c_rdL (hl : la a = n) (h1 : 0 ≤ i) (h2 : i < (n : Int)) {Q : Int64 → St → Prop} : wp (rdL a i) σ Q = Q (σ.2.1 a i.toNat) σ := by rw [wp_rdL, hl, and_t ⟨h1, h2⟩]
theorem c_rdQ (hl : qa a = n) (h1 : 0 ≤ i) (h2 : i < (n : Int)) {Q : Option Nat → St → Prop} : wp (rdQ a i) σ Q = Q (σ.2.2 a i.toNat) σ := by rw [wp_rdQ, hl, and_t ⟨h1, h2⟩]
theorem c_wrI (hl : ia a = n) (h1 : 0 ≤ i) (h2 : i < (n : Int)) {v : Int} {Q : Unit → St → Prop} : wp (wrI a i v) σ Q = Q () (stA σ.1 a (ups (σ.1 a) i.toNat v), σ.2) := by rw [wp_wrI, hl, and_t ⟨h1, h2⟩]
theorem c_wrL (hl : la a = n) (h1 : 0 ≤ i) (h2 : i < (n : Int)) {v : Int64} {Q : Unit → St → Prop} : wp (wrL a i v) σ Q = Q () (σ.1, stA σ.2.1 a (ups (σ.2.1 a) i.toNat v), σ.2.2) := by rw [wp_wrL, hl, and_t ⟨h1, h2⟩]
theorem c_wrZ (hl : ba a = n ∧ ∀ v : Int, (inB a v = true) = (0 ≤ v ∧ v ≤ 1)) (h1 : 0 ≤ i) (h2 : i < (n : Int)) {v : Int} (h3 : 0 ≤ v) (h4 : v ≤ 1) {Q : Unit → St → Prop} : wp (wrB a i v) σ Q = Q () (stA σ.1 a (ups (σ.1 a) i.toNat v), σ.2) := by rw [wp_wrB, hl.1, hl.2, and_t ⟨⟨h1, h2⟩, h3, h4⟩]
theorem c_wrB (hl : ba a = n ∧ ∀ v : Int, (inB a v = true) = (-128 ≤ v ∧ v ≤ 127)) (h1 : 0 ≤ i) (h2 : i < (n : Int)) {v : Int} (h3 : -128 ≤ v) (h4 : v ≤ 127) {Q : Unit → St → Prop} : wp (wrB a i v) σ Q = Q () (stA σ.1 a (ups (σ.1 a) i.toNat v), σ.2) := by rw [wp_wrB, hl.1, hl.2, and_t ⟨⟨h1, h2⟩, h3, h4⟩]
theorem c_pZ {k : Nat} {v : Int} (h1 : 0 ≤ v) (h2 : v ≤ 1) {Q : Unit → St → Prop} : wp (pZ a k v) σ Q = Q () (stA σ.1 a (ups (σ.1 a) k v), σ.2) := by rw [wp_pZ, and_t ⟨h1, h2⟩]
theorem c_rtZ {x : Int} (h1 : 0 ≤ x) (h2 : x ≤ 1) {Q : Int → St → Prop} : wp (rtZ x) σ Q = Q x σ := by rw [wp_rtZ, and_t ⟨h1, h2⟩]
theorem c_rtB {x : Int} (h1 : -128 ≤ x) (h2 : x ≤ 127) {Q : Int → St → Prop} : wp (rtB x) σ Q = Q x σ := by rw [wp_rtB, and_t ⟨h1, h2⟩]
theorem c_rtC {x : Int} (h1 : 0 ≤ x) (h2 : x ≤ 255) {Q : Int → St → Prop} : wp (rtC x) σ Q = Q x σ := by rw [wp_rtC, and_t ⟨h1, h2⟩]
theorem c_nz {y : Int} (h : ¬ y = 0) {g : St → Option (α × St)} {Q : α → St → Prop} : wp (nz y g) σ Q = wp g σ Q := by rw [wp_nz, and_t h]
theorem c_nzE {y : Int} (h : ¬ y = 0) {g : St → Option ((α ⊕ XV) × St)} {Q : α → St → Prop} {E : XV → St → Prop} : wpE (nz y g) σ Q E = wpE g σ Q E := by rw [wpE_nz, and_t h]
theorem c_ck {o ci : Nat} (h : lay o = (0, ci)) {g : St → Option (α × St)} {Q : α → St → Prop} : wp (ck o ci g) σ Q = wp g σ Q := by rw [wp_ck, and_t h]
theorem c_ckE {o ci : Nat} (h : lay o = (0, ci)) {g : St → Option ((α ⊕ XV) × St)} {Q : α → St → Prop} {E : XV → St → Prop} : wpE (ck o ci g) σ Q E = wpE g σ Q E := by rw [wpE_ck, and_t h]
theorem c_rdP6 (h1 : 0 ≤ i) (h2 : i < 6) {Q : Int64 → St → Prop} : wp (rdP6 i) σ Q = Q (pat6.getD i.toNat 0) σ := by rw [wp_rdP6, and_t ⟨h1, h2⟩]
theorem c_rdP5 (h1 : 0 ≤ i) (h2 : i < 5) {Q : Int64 → St → Prop} : wp (rdP5 i) σ Q = Q (pat5.getD i.toNat 0) σ := by rw [wp_rdP5, and_t ⟨h1, h2⟩]
theorem c_rdV {o : Nat} (h1 : 0 ≤ i) (h2 : i < sl o) {Q : Int → St → Prop} : wp (rdV o i) σ Q = Q (sb o i) σ := by rw [wp_rdV, and_t ⟨h1, h2⟩]
theorem c_cpI {b : Nat} {m k : Nat} {t : Nat} (ha : lay a = (t, m)) (hb : lay b = (t, k)) (ht : 1 ≤ t ∧ t ≤ 3) {sp dp c : Int} (h1 : 0 ≤ sp) (h2 : 0 ≤ dp) (h3 : 0 ≤ c) (h4 : sp + c ≤ (m : Int)) (h5 : dp + c ≤ (k : Int)) {Q : Unit → St → Prop} : wp (cpI a sp b dp c) σ Q = Q () (stA σ.1 b (cpy (σ.1 a) sp.toNat (σ.1 b) dp.toNat c.toNat), σ.2) := by
  rw [wp_cpI, ha, hb, and_t ⟨⟨⟨rfl, ht⟩, h1, h2, h3⟩, h4, h5⟩]
theorem c_cpL {b : Nat} {m k : Nat} (ha : lay a = (4, m)) (hb : lay b = (4, k)) {sp dp c : Int} (h1 : 0 ≤ sp) (h2 : 0 ≤ dp) (h3 : 0 ≤ c) (h4 : sp + c ≤ (m : Int)) (h5 : dp + c ≤ (k : Int)) {Q : Unit → St → Prop} : wp (cpL a sp b dp c) σ Q = Q () (σ.1, stA σ.2.1 b (cpy (σ.2.1 a) sp.toNat (σ.2.1 b) dp.toNat c.toNat), σ.2.2) := by
  rw [wp_cpL, ha, hb, and_t ⟨⟨⟨rfl, rfl⟩, h1, h2, h3⟩, h4, h5⟩]
end
theorem tnA {a b : Int} (ha : 0 ≤ a) (hb : 0 ≤ b) : (a + b).toNat = a.toNat + b.toNat := by omega
theorem tnS {a b : Int} (hb : 0 ≤ b) (h : b ≤ a) : (a - b).toNat = a.toNat - b.toNat := by omega
theorem tnM {a b : Int} (ha : 0 ≤ a) (hb : 0 ≤ b) : (a * b).toNat = a.toNat * b.toNat := Int.toNat_mul ha hb
theorem tnD2 {a : Int} (ha : 0 ≤ a) : (a / 2).toNat = a.toNat / 2 := by omega
theorem tnD64 {a : Int} (ha : 0 ≤ a) : (a / 64).toNat = a.toNat / 64 := by omega
theorem tnR2 {a : Int} (ha : 0 ≤ a) : (a % 2).toNat = a.toNat % 2 := by omega
theorem tnR64 {a : Int} (ha : 0 ≤ a) : (a % 64).toNat = a.toNat % 64 := by omega
theorem tn0 : ((0 : Int)).toNat = 0 := rfl
theorem tn1 : ((1 : Int)).toNat = 1 := rfl
section
variable {σ : St} {i : Int}
theorem RI_1 (h1 : 0 ≤ i) (h2 : i < 12) {Q : Option Nat → St → Prop} : wp (rdQ 1 i) σ Q = Q (σ.2.2 1 i.toNat) σ := c_rdQ (n := 12) L1 h1 h2
theorem RI_3 (h1 : 0 ≤ i) (h2 : i < 12) {Q : Option Nat → St → Prop} : wp (rdQ 3 i) σ Q = Q (σ.2.2 3 i.toNat) σ := c_rdQ (n := 12) L3 h1 h2
theorem RI_4 (h1 : 0 ≤ i) (h2 : i < 4000) {Q : Int → St → Prop} : wp (rdB 4 i) σ Q = Q (σ.1 4 i.toNat) σ := c_rdB (n := 4000) (L4).1 h1 h2
theorem RV_4 (h1 : 0 ≤ i) (h2 : i < 4000) {v : Int} (h3 : -128 ≤ v) (h4 : v ≤ 127) {Q : Unit → St → Prop} : wp (wrB 4 i v) σ Q = Q () (stA σ.1 4 (ups (σ.1 4) i.toNat v), σ.2) := c_wrB (n := 4000) L4 h1 h2 h3 h4
theorem RI_6 (h1 : 0 ≤ i) (h2 : i < 10) {Q : Int → St → Prop} : wp (rdB 6 i) σ Q = Q (σ.1 6 i.toNat) σ := c_rdB (n := 10) (L6).1 h1 h2
theorem RV_6 (h1 : 0 ≤ i) (h2 : i < 10) {v : Int} (h3 : -128 ≤ v) (h4 : v ≤ 127) {Q : Unit → St → Prop} : wp (wrB 6 i v) σ Q = Q () (stA σ.1 6 (ups (σ.1 6) i.toNat v), σ.2) := c_wrB (n := 10) L6 h1 h2 h3 h4
theorem RI_7 (h1 : 0 ≤ i) (h2 : i < 400) {Q : Int → St → Prop} : wp (rdB 7 i) σ Q = Q (σ.1 7 i.toNat) σ := c_rdB (n := 400) (L7).1 h1 h2
theorem RV_7 (h1 : 0 ≤ i) (h2 : i < 400) {v : Int} (h3 : -128 ≤ v) (h4 : v ≤ 127) {Q : Unit → St → Prop} : wp (wrB 7 i v) σ Q = Q () (stA σ.1 7 (ups (σ.1 7) i.toNat v), σ.2) := c_wrB (n := 400) L7 h1 h2 h3 h4
theorem RI_8 (h1 : 0 ≤ i) (h2 : i < 40) {Q : Int → St → Prop} : wp (rdI 8 i) σ Q = Q (σ.1 8 i.toNat) σ := c_rdI (n := 40) L8 h1 h2
theorem RV_8 (h1 : 0 ≤ i) (h2 : i < 40) {v : Int} {Q : Unit → St → Prop} : wp (wrI 8 i v) σ Q = Q () (stA σ.1 8 (ups (σ.1 8) i.toNat v), σ.2) := c_wrI (n := 40) L8 h1 h2
theorem RI_9 (h1 : 0 ≤ i) (h2 : i < 40) {Q : Int → St → Prop} : wp (rdI 9 i) σ Q = Q (σ.1 9 i.toNat) σ := c_rdI (n := 40) L9 h1 h2
theorem RV_9 (h1 : 0 ≤ i) (h2 : i < 40) {v : Int} {Q : Unit → St → Prop} : wp (wrI 9 i v) σ Q = Q () (stA σ.1 9 (ups (σ.1 9) i.toNat v), σ.2) := c_wrI (n := 40) L9 h1 h2
theorem RI_10 (h1 : 0 ≤ i) (h2 : i < 40) {Q : Int → St → Prop} : wp (rdI 10 i) σ Q = Q (σ.1 10 i.toNat) σ := c_rdI (n := 40) L10 h1 h2
theorem RV_10 (h1 : 0 ≤ i) (h2 : i < 40) {v : Int} {Q : Unit → St → Prop} : wp (wrI 10 i v) σ Q = Q () (stA σ.1 10 (ups (σ.1 10) i.toNat v), σ.2) := c_wrI (n := 40) L10 h1 h2
theorem RI_11 (h1 : 0 ≤ i) (h2 : i < 40) {Q : Int → St → Prop} : wp (rdI 11 i) σ Q = Q (σ.1 11 i.toNat) σ := c_rdI (n := 40) L11 h1 h2
theorem RV_11 (h1 : 0 ≤ i) (h2 : i < 40) {v : Int} {Q : Unit → St → Prop} : wp (wrI 11 i v) σ Q = Q () (stA σ.1 11 (ups (σ.1 11) i.toNat v), σ.2) := c_wrI (n := 40) L11 h1 h2
theorem RI_12 (h1 : 0 ≤ i) (h2 : i < 40) {Q : Int → St → Prop} : wp (rdI 12 i) σ Q = Q (σ.1 12 i.toNat) σ := c_rdI (n := 40) L12 h1 h2
theorem RV_12 (h1 : 0 ≤ i) (h2 : i < 40) {v : Int} {Q : Unit → St → Prop} : wp (wrI 12 i v) σ Q = Q () (stA σ.1 12 (ups (σ.1 12) i.toNat v), σ.2) := c_wrI (n := 40) L12 h1 h2
theorem RI_13 (h1 : 0 ≤ i) (h2 : i < 40) {Q : Int → St → Prop} : wp (rdI 13 i) σ Q = Q (σ.1 13 i.toNat) σ := c_rdI (n := 40) L13 h1 h2
theorem RV_13 (h1 : 0 ≤ i) (h2 : i < 40) {v : Int} {Q : Unit → St → Prop} : wp (wrI 13 i v) σ Q = Q () (stA σ.1 13 (ups (σ.1 13) i.toNat v), σ.2) := c_wrI (n := 40) L13 h1 h2
theorem RI_14 (h1 : 0 ≤ i) (h2 : i < 4100) {Q : Int → St → Prop} : wp (rdI 14 i) σ Q = Q (σ.1 14 i.toNat) σ := c_rdI (n := 4100) L14 h1 h2
theorem RV_14 (h1 : 0 ≤ i) (h2 : i < 4100) {v : Int} {Q : Unit → St → Prop} : wp (wrI 14 i v) σ Q = Q () (stA σ.1 14 (ups (σ.1 14) i.toNat v), σ.2) := c_wrI (n := 4100) L14 h1 h2
theorem RI_15 (h1 : 0 ≤ i) (h2 : i < 4100) {Q : Int → St → Prop} : wp (rdI 15 i) σ Q = Q (σ.1 15 i.toNat) σ := c_rdI (n := 4100) L15 h1 h2
theorem RV_15 (h1 : 0 ≤ i) (h2 : i < 4100) {v : Int} {Q : Unit → St → Prop} : wp (wrI 15 i v) σ Q = Q () (stA σ.1 15 (ups (σ.1 15) i.toNat v), σ.2) := c_wrI (n := 4100) L15 h1 h2
theorem RI_16 (h1 : 0 ≤ i) (h2 : i < 4100) {Q : Int → St → Prop} : wp (rdI 16 i) σ Q = Q (σ.1 16 i.toNat) σ := c_rdI (n := 4100) L16 h1 h2
theorem RV_16 (h1 : 0 ≤ i) (h2 : i < 4100) {v : Int} {Q : Unit → St → Prop} : wp (wrI 16 i v) σ Q = Q () (stA σ.1 16 (ups (σ.1 16) i.toNat v), σ.2) := c_wrI (n := 4100) L16 h1 h2
theorem RI_17 (h1 : 0 ≤ i) (h2 : i < 4100) {Q : Int → St → Prop} : wp (rdI 17 i) σ Q = Q (σ.1 17 i.toNat) σ := c_rdI (n := 4100) L17 h1 h2
theorem RV_17 (h1 : 0 ≤ i) (h2 : i < 4100) {v : Int} {Q : Unit → St → Prop} : wp (wrI 17 i v) σ Q = Q () (stA σ.1 17 (ups (σ.1 17) i.toNat v), σ.2) := c_wrI (n := 4100) L17 h1 h2
theorem RI_18 (h1 : 0 ≤ i) (h2 : i < 4100) {Q : Int → St → Prop} : wp (rdI 18 i) σ Q = Q (σ.1 18 i.toNat) σ := c_rdI (n := 4100) L18 h1 h2
theorem RV_18 (h1 : 0 ≤ i) (h2 : i < 4100) {v : Int} {Q : Unit → St → Prop} : wp (wrI 18 i v) σ Q = Q () (stA σ.1 18 (ups (σ.1 18) i.toNat v), σ.2) := c_wrI (n := 4100) L18 h1 h2
theorem RI_19 (h1 : 0 ≤ i) (h2 : i < 1400) {Q : Int → St → Prop} : wp (rdI 19 i) σ Q = Q (σ.1 19 i.toNat) σ := c_rdI (n := 1400) L19 h1 h2
theorem RV_19 (h1 : 0 ≤ i) (h2 : i < 1400) {v : Int} {Q : Unit → St → Prop} : wp (wrI 19 i v) σ Q = Q () (stA σ.1 19 (ups (σ.1 19) i.toNat v), σ.2) := c_wrI (n := 1400) L19 h1 h2
theorem RI_20 (h1 : 0 ≤ i) (h2 : i < 1400) {Q : Int → St → Prop} : wp (rdI 20 i) σ Q = Q (σ.1 20 i.toNat) σ := c_rdI (n := 1400) L20 h1 h2
theorem RV_20 (h1 : 0 ≤ i) (h2 : i < 1400) {v : Int} {Q : Unit → St → Prop} : wp (wrI 20 i v) σ Q = Q () (stA σ.1 20 (ups (σ.1 20) i.toNat v), σ.2) := c_wrI (n := 1400) L20 h1 h2
theorem RI_21 (h1 : 0 ≤ i) (h2 : i < 1400) {Q : Int → St → Prop} : wp (rdI 21 i) σ Q = Q (σ.1 21 i.toNat) σ := c_rdI (n := 1400) L21 h1 h2
theorem RV_21 (h1 : 0 ≤ i) (h2 : i < 1400) {v : Int} {Q : Unit → St → Prop} : wp (wrI 21 i v) σ Q = Q () (stA σ.1 21 (ups (σ.1 21) i.toNat v), σ.2) := c_wrI (n := 1400) L21 h1 h2
theorem RI_22 (h1 : 0 ≤ i) (h2 : i < 1400) {Q : Int → St → Prop} : wp (rdI 22 i) σ Q = Q (σ.1 22 i.toNat) σ := c_rdI (n := 1400) L22 h1 h2
theorem RV_22 (h1 : 0 ≤ i) (h2 : i < 1400) {v : Int} {Q : Unit → St → Prop} : wp (wrI 22 i v) σ Q = Q () (stA σ.1 22 (ups (σ.1 22) i.toNat v), σ.2) := c_wrI (n := 1400) L22 h1 h2
theorem RI_23 (h1 : 0 ≤ i) (h2 : i < 1400) {Q : Int → St → Prop} : wp (rdI 23 i) σ Q = Q (σ.1 23 i.toNat) σ := c_rdI (n := 1400) L23 h1 h2
theorem RV_23 (h1 : 0 ≤ i) (h2 : i < 1400) {v : Int} {Q : Unit → St → Prop} : wp (wrI 23 i v) σ Q = Q () (stA σ.1 23 (ups (σ.1 23) i.toNat v), σ.2) := c_wrI (n := 1400) L23 h1 h2
theorem RI_24 (h1 : 0 ≤ i) (h2 : i < 1400) {Q : Int → St → Prop} : wp (rdI 24 i) σ Q = Q (σ.1 24 i.toNat) σ := c_rdI (n := 1400) L24 h1 h2
theorem RV_24 (h1 : 0 ≤ i) (h2 : i < 1400) {v : Int} {Q : Unit → St → Prop} : wp (wrI 24 i v) σ Q = Q () (stA σ.1 24 (ups (σ.1 24) i.toNat v), σ.2) := c_wrI (n := 1400) L24 h1 h2
theorem RI_25 (h1 : 0 ≤ i) (h2 : i < 1400) {Q : Int → St → Prop} : wp (rdI 25 i) σ Q = Q (σ.1 25 i.toNat) σ := c_rdI (n := 1400) L25 h1 h2
theorem RV_25 (h1 : 0 ≤ i) (h2 : i < 1400) {v : Int} {Q : Unit → St → Prop} : wp (wrI 25 i v) σ Q = Q () (stA σ.1 25 (ups (σ.1 25) i.toNat v), σ.2) := c_wrI (n := 1400) L25 h1 h2
theorem RI_26 (h1 : 0 ≤ i) (h2 : i < 1400) {Q : Int → St → Prop} : wp (rdI 26 i) σ Q = Q (σ.1 26 i.toNat) σ := c_rdI (n := 1400) L26 h1 h2
theorem RV_26 (h1 : 0 ≤ i) (h2 : i < 1400) {v : Int} {Q : Unit → St → Prop} : wp (wrI 26 i v) σ Q = Q () (stA σ.1 26 (ups (σ.1 26) i.toNat v), σ.2) := c_wrI (n := 1400) L26 h1 h2
theorem RI_27 (h1 : 0 ≤ i) (h2 : i < 1400) {Q : Int → St → Prop} : wp (rdI 27 i) σ Q = Q (σ.1 27 i.toNat) σ := c_rdI (n := 1400) L27 h1 h2
theorem RV_27 (h1 : 0 ≤ i) (h2 : i < 1400) {v : Int} {Q : Unit → St → Prop} : wp (wrI 27 i v) σ Q = Q () (stA σ.1 27 (ups (σ.1 27) i.toNat v), σ.2) := c_wrI (n := 1400) L27 h1 h2
theorem RI_28 (h1 : 0 ≤ i) (h2 : i < 1400) {Q : Int → St → Prop} : wp (rdB 28 i) σ Q = Q (σ.1 28 i.toNat) σ := c_rdB (n := 1400) (L28).1 h1 h2
theorem RV_28 (h1 : 0 ≤ i) (h2 : i < 1400) {v : Int} (h3 : 0 ≤ v) (h4 : v ≤ 1) {Q : Unit → St → Prop} : wp (wrB 28 i v) σ Q = Q () (stA σ.1 28 (ups (σ.1 28) i.toNat v), σ.2) := c_wrZ (n := 1400) L28 h1 h2 h3 h4
theorem RI_29 (h1 : 0 ≤ i) (h2 : i < 1400) {Q : Int → St → Prop} : wp (rdI 29 i) σ Q = Q (σ.1 29 i.toNat) σ := c_rdI (n := 1400) L29 h1 h2
theorem RV_29 (h1 : 0 ≤ i) (h2 : i < 1400) {v : Int} {Q : Unit → St → Prop} : wp (wrI 29 i v) σ Q = Q () (stA σ.1 29 (ups (σ.1 29) i.toNat v), σ.2) := c_wrI (n := 1400) L29 h1 h2
theorem RI_30 (h1 : 0 ≤ i) (h2 : i < 67200) {Q : Int → St → Prop} : wp (rdB 30 i) σ Q = Q (σ.1 30 i.toNat) σ := c_rdB (n := 67200) (L30).1 h1 h2
theorem RV_30 (h1 : 0 ≤ i) (h2 : i < 67200) {v : Int} (h3 : 0 ≤ v) (h4 : v ≤ 1) {Q : Unit → St → Prop} : wp (wrB 30 i v) σ Q = Q () (stA σ.1 30 (ups (σ.1 30) i.toNat v), σ.2) := c_wrZ (n := 67200) L30 h1 h2 h3 h4
theorem RI_31 (h1 : 0 ≤ i) (h2 : i < 40) {Q : Int → St → Prop} : wp (rdI 31 i) σ Q = Q (σ.1 31 i.toNat) σ := c_rdI (n := 40) L31 h1 h2
theorem RV_31 (h1 : 0 ≤ i) (h2 : i < 40) {v : Int} {Q : Unit → St → Prop} : wp (wrI 31 i v) σ Q = Q () (stA σ.1 31 (ups (σ.1 31) i.toNat v), σ.2) := c_wrI (n := 40) L31 h1 h2
theorem RI_32 (h1 : 0 ≤ i) (h2 : i < 5) {Q : Option Nat → St → Prop} : wp (rdQ 32 i) σ Q = Q (σ.2.2 32 i.toNat) σ := c_rdQ (n := 5) L32 h1 h2
theorem RI_33 (h1 : 0 ≤ i) (h2 : i < 4) {Q : Int → St → Prop} : wp (rdB 33 i) σ Q = Q (σ.1 33 i.toNat) σ := c_rdB (n := 4) (L33).1 h1 h2
theorem RV_33 (h1 : 0 ≤ i) (h2 : i < 4) {v : Int} (h3 : 0 ≤ v) (h4 : v ≤ 1) {Q : Unit → St → Prop} : wp (wrB 33 i v) σ Q = Q () (stA σ.1 33 (ups (σ.1 33) i.toNat v), σ.2) := c_wrZ (n := 4) L33 h1 h2 h3 h4
theorem RI_34 (h1 : 0 ≤ i) (h2 : i < 5) {Q : Option Nat → St → Prop} : wp (rdQ 34 i) σ Q = Q (σ.2.2 34 i.toNat) σ := c_rdQ (n := 5) L34 h1 h2
theorem RI_35 (h1 : 0 ≤ i) (h2 : i < 4) {Q : Int → St → Prop} : wp (rdB 35 i) σ Q = Q (σ.1 35 i.toNat) σ := c_rdB (n := 4) (L35).1 h1 h2
theorem RV_35 (h1 : 0 ≤ i) (h2 : i < 4) {v : Int} (h3 : 0 ≤ v) (h4 : v ≤ 1) {Q : Unit → St → Prop} : wp (wrB 35 i v) σ Q = Q () (stA σ.1 35 (ups (σ.1 35) i.toNat v), σ.2) := c_wrZ (n := 4) L35 h1 h2 h3 h4
theorem RI_36 (h1 : 0 ≤ i) (h2 : i < 201) {Q : Int → St → Prop} : wp (rdI 36 i) σ Q = Q (σ.1 36 i.toNat) σ := c_rdI (n := 201) L36 h1 h2
theorem RV_36 (h1 : 0 ≤ i) (h2 : i < 201) {v : Int} {Q : Unit → St → Prop} : wp (wrI 36 i v) σ Q = Q () (stA σ.1 36 (ups (σ.1 36) i.toNat v), σ.2) := c_wrI (n := 201) L36 h1 h2
theorem RI_39 (h1 : 0 ≤ i) (h2 : i < 16384) {Q : Int → St → Prop} : wp (rdI 39 i) σ Q = Q (σ.1 39 i.toNat) σ := c_rdI (n := 16384) L39 h1 h2
theorem RV_39 (h1 : 0 ≤ i) (h2 : i < 16384) {v : Int} {Q : Unit → St → Prop} : wp (wrI 39 i v) σ Q = Q () (stA σ.1 39 (ups (σ.1 39) i.toNat v), σ.2) := c_wrI (n := 16384) L39 h1 h2
theorem RI_40 (h1 : 0 ≤ i) (h2 : i < 200) {Q : Int → St → Prop} : wp (rdI 40 i) σ Q = Q (σ.1 40 i.toNat) σ := c_rdI (n := 200) L40 h1 h2
theorem RV_40 (h1 : 0 ≤ i) (h2 : i < 200) {v : Int} {Q : Unit → St → Prop} : wp (wrI 40 i v) σ Q = Q () (stA σ.1 40 (ups (σ.1 40) i.toNat v), σ.2) := c_wrI (n := 200) L40 h1 h2
theorem RI_41 (h1 : 0 ≤ i) (h2 : i < 200) {Q : Int → St → Prop} : wp (rdB 41 i) σ Q = Q (σ.1 41 i.toNat) σ := c_rdB (n := 200) (L41).1 h1 h2
theorem RV_41 (h1 : 0 ≤ i) (h2 : i < 200) {v : Int} (h3 : 0 ≤ v) (h4 : v ≤ 1) {Q : Unit → St → Prop} : wp (wrB 41 i v) σ Q = Q () (stA σ.1 41 (ups (σ.1 41) i.toNat v), σ.2) := c_wrZ (n := 200) L41 h1 h2 h3 h4
theorem RI_42 (h1 : 0 ≤ i) (h2 : i < 2000) {Q : Int → St → Prop} : wp (rdI 42 i) σ Q = Q (σ.1 42 i.toNat) σ := c_rdI (n := 2000) L42 h1 h2
theorem RV_42 (h1 : 0 ≤ i) (h2 : i < 2000) {v : Int} {Q : Unit → St → Prop} : wp (wrI 42 i v) σ Q = Q () (stA σ.1 42 (ups (σ.1 42) i.toNat v), σ.2) := c_wrI (n := 2000) L42 h1 h2
theorem RI_43 (h1 : 0 ≤ i) (h2 : i < 101) {Q : Int → St → Prop} : wp (rdI 43 i) σ Q = Q (σ.1 43 i.toNat) σ := c_rdI (n := 101) L43 h1 h2
theorem RV_43 (h1 : 0 ≤ i) (h2 : i < 101) {v : Int} {Q : Unit → St → Prop} : wp (wrI 43 i v) σ Q = Q () (stA σ.1 43 (ups (σ.1 43) i.toNat v), σ.2) := c_wrI (n := 101) L43 h1 h2
theorem RI_44 (h1 : 0 ≤ i) (h2 : i < 2880) {Q : Int → St → Prop} : wp (rdI 44 i) σ Q = Q (σ.1 44 i.toNat) σ := c_rdI (n := 2880) L44 h1 h2
theorem RV_44 (h1 : 0 ≤ i) (h2 : i < 2880) {v : Int} {Q : Unit → St → Prop} : wp (wrI 44 i v) σ Q = Q () (stA σ.1 44 (ups (σ.1 44) i.toNat v), σ.2) := c_wrI (n := 2880) L44 h1 h2
theorem RI_45 (h1 : 0 ≤ i) (h2 : i < 776000) {Q : Int → St → Prop} : wp (rdI 45 i) σ Q = Q (σ.1 45 i.toNat) σ := c_rdI (n := 776000) L45 h1 h2
theorem RV_45 (h1 : 0 ≤ i) (h2 : i < 776000) {v : Int} {Q : Unit → St → Prop} : wp (wrI 45 i v) σ Q = Q () (stA σ.1 45 (ups (σ.1 45) i.toNat v), σ.2) := c_wrI (n := 776000) L45 h1 h2
theorem RI_46 (h1 : 0 ≤ i) (h2 : i < 60) {Q : Int → St → Prop} : wp (rdI 46 i) σ Q = Q (σ.1 46 i.toNat) σ := c_rdI (n := 60) L46 h1 h2
theorem RV_46 (h1 : 0 ≤ i) (h2 : i < 60) {v : Int} {Q : Unit → St → Prop} : wp (wrI 46 i v) σ Q = Q () (stA σ.1 46 (ups (σ.1 46) i.toNat v), σ.2) := c_wrI (n := 60) L46 h1 h2
theorem RI_47 (h1 : 0 ≤ i) (h2 : i < 32) {Q : Int → St → Prop} : wp (rdI 47 i) σ Q = Q (σ.1 47 i.toNat) σ := c_rdI (n := 32) L47 h1 h2
theorem RV_47 (h1 : 0 ≤ i) (h2 : i < 32) {v : Int} {Q : Unit → St → Prop} : wp (wrI 47 i v) σ Q = Q () (stA σ.1 47 (ups (σ.1 47) i.toNat v), σ.2) := c_wrI (n := 32) L47 h1 h2
theorem RI_49 (h1 : 0 ≤ i) (h2 : i < 60100) {Q : Int → St → Prop} : wp (rdB 49 i) σ Q = Q (σ.1 49 i.toNat) σ := c_rdB (n := 60100) (L49).1 h1 h2
theorem RV_49 (h1 : 0 ≤ i) (h2 : i < 60100) {v : Int} (h3 : -128 ≤ v) (h4 : v ≤ 127) {Q : Unit → St → Prop} : wp (wrB 49 i v) σ Q = Q () (stA σ.1 49 (ups (σ.1 49) i.toNat v), σ.2) := c_wrB (n := 60100) L49 h1 h2 h3 h4
theorem RI_50 (h1 : 0 ≤ i) (h2 : i < 60100) {Q : Int → St → Prop} : wp (rdB 50 i) σ Q = Q (σ.1 50 i.toNat) σ := c_rdB (n := 60100) (L50).1 h1 h2
theorem RV_50 (h1 : 0 ≤ i) (h2 : i < 60100) {v : Int} (h3 : -128 ≤ v) (h4 : v ≤ 127) {Q : Unit → St → Prop} : wp (wrB 50 i v) σ Q = Q () (stA σ.1 50 (ups (σ.1 50) i.toNat v), σ.2) := c_wrB (n := 60100) L50 h1 h2 h3 h4
theorem RI_53 (h1 : 0 ≤ i) (h2 : i < 4265) {Q : Int64 → St → Prop} : wp (rdL 53 i) σ Q = Q (σ.2.1 53 i.toNat) σ := c_rdL (n := 4265) L53 h1 h2
theorem RV_53 (h1 : 0 ≤ i) (h2 : i < 4265) {v : Int64} {Q : Unit → St → Prop} : wp (wrL 53 i v) σ Q = Q () (σ.1, stA σ.2.1 53 (ups (σ.2.1 53) i.toNat v), σ.2.2) := c_wrL (n := 4265) L53 h1 h2
theorem RI_54 (h1 : 0 ≤ i) (h2 : i < 1091840) {Q : Int64 → St → Prop} : wp (rdL 54 i) σ Q = Q (σ.2.1 54 i.toNat) σ := c_rdL (n := 1091840) L54 h1 h2
theorem RV_54 (h1 : 0 ≤ i) (h2 : i < 1091840) {v : Int64} {Q : Unit → St → Prop} : wp (wrL 54 i v) σ Q = Q () (σ.1, stA σ.2.1 54 (ups (σ.2.1 54) i.toNat v), σ.2.2) := c_wrL (n := 1091840) L54 h1 h2
theorem RI_55 (h1 : 0 ≤ i) (h2 : i < 16384) {Q : Int → St → Prop} : wp (rdI 55 i) σ Q = Q (σ.1 55 i.toNat) σ := c_rdI (n := 16384) L55 h1 h2
theorem RV_55 (h1 : 0 ≤ i) (h2 : i < 16384) {v : Int} {Q : Unit → St → Prop} : wp (wrI 55 i v) σ Q = Q () (stA σ.1 55 (ups (σ.1 55) i.toNat v), σ.2) := c_wrI (n := 16384) L55 h1 h2
theorem RI_56 (h1 : 0 ≤ i) (h2 : i < 4265) {Q : Int → St → Prop} : wp (rdI 56 i) σ Q = Q (σ.1 56 i.toNat) σ := c_rdI (n := 4265) L56 h1 h2
theorem RV_56 (h1 : 0 ≤ i) (h2 : i < 4265) {v : Int} {Q : Unit → St → Prop} : wp (wrI 56 i v) σ Q = Q () (stA σ.1 56 (ups (σ.1 56) i.toNat v), σ.2) := c_wrI (n := 4265) L56 h1 h2
theorem RI_57 (h1 : 0 ≤ i) (h2 : i < 4265) {Q : Int → St → Prop} : wp (rdI 57 i) σ Q = Q (σ.1 57 i.toNat) σ := c_rdI (n := 4265) L57 h1 h2
theorem RV_57 (h1 : 0 ≤ i) (h2 : i < 4265) {v : Int} {Q : Unit → St → Prop} : wp (wrI 57 i v) σ Q = Q () (stA σ.1 57 (ups (σ.1 57) i.toNat v), σ.2) := c_wrI (n := 4265) L57 h1 h2
theorem RI_58 (h1 : 0 ≤ i) (h2 : i < 4265) {Q : Int → St → Prop} : wp (rdB 58 i) σ Q = Q (σ.1 58 i.toNat) σ := c_rdB (n := 4265) (L58).1 h1 h2
theorem RV_58 (h1 : 0 ≤ i) (h2 : i < 4265) {v : Int} (h3 : 0 ≤ v) (h4 : v ≤ 1) {Q : Unit → St → Prop} : wp (wrB 58 i v) σ Q = Q () (stA σ.1 58 (ups (σ.1 58) i.toNat v), σ.2) := c_wrZ (n := 4265) L58 h1 h2 h3 h4
theorem RI_60 (h1 : 0 ≤ i) (h2 : i < 16384) {Q : Int → St → Prop} : wp (rdI 60 i) σ Q = Q (σ.1 60 i.toNat) σ := c_rdI (n := 16384) L60 h1 h2
theorem RV_60 (h1 : 0 ≤ i) (h2 : i < 16384) {v : Int} {Q : Unit → St → Prop} : wp (wrI 60 i v) σ Q = Q () (stA σ.1 60 (ups (σ.1 60) i.toNat v), σ.2) := c_wrI (n := 16384) L60 h1 h2
theorem RI_62 (h1 : 0 ≤ i) (h2 : i < 565) {Q : Int → St → Prop} : wp (rdI 62 i) σ Q = Q (σ.1 62 i.toNat) σ := c_rdI (n := 565) L62 h1 h2
theorem RV_62 (h1 : 0 ≤ i) (h2 : i < 565) {v : Int} {Q : Unit → St → Prop} : wp (wrI 62 i v) σ Q = Q () (stA σ.1 62 (ups (σ.1 62) i.toNat v), σ.2) := c_wrI (n := 565) L62 h1 h2
theorem RI_63 (h1 : 0 ≤ i) (h2 : i < 22600) {Q : Int → St → Prop} : wp (rdI 63 i) σ Q = Q (σ.1 63 i.toNat) σ := c_rdI (n := 22600) L63 h1 h2
theorem RV_63 (h1 : 0 ≤ i) (h2 : i < 22600) {v : Int} {Q : Unit → St → Prop} : wp (wrI 63 i v) σ Q = Q () (stA σ.1 63 (ups (σ.1 63) i.toNat v), σ.2) := c_wrI (n := 22600) L63 h1 h2
theorem RI_64 (h1 : 0 ≤ i) (h2 : i < 113000) {Q : Int → St → Prop} : wp (rdI 64 i) σ Q = Q (σ.1 64 i.toNat) σ := c_rdI (n := 113000) L64 h1 h2
theorem RV_64 (h1 : 0 ≤ i) (h2 : i < 113000) {v : Int} {Q : Unit → St → Prop} : wp (wrI 64 i v) σ Q = Q () (stA σ.1 64 (ups (σ.1 64) i.toNat v), σ.2) := c_wrI (n := 113000) L64 h1 h2
theorem RI_65 (h1 : 0 ≤ i) (h2 : i < 565) {Q : Int → St → Prop} : wp (rdI 65 i) σ Q = Q (σ.1 65 i.toNat) σ := c_rdI (n := 565) L65 h1 h2
theorem RV_65 (h1 : 0 ≤ i) (h2 : i < 565) {v : Int} {Q : Unit → St → Prop} : wp (wrI 65 i v) σ Q = Q () (stA σ.1 65 (ups (σ.1 65) i.toNat v), σ.2) := c_wrI (n := 565) L65 h1 h2
theorem RI_66 (h1 : 0 ≤ i) (h2 : i < 565) {Q : Int → St → Prop} : wp (rdB 66 i) σ Q = Q (σ.1 66 i.toNat) σ := c_rdB (n := 565) (L66).1 h1 h2
theorem RV_66 (h1 : 0 ≤ i) (h2 : i < 565) {v : Int} (h3 : 0 ≤ v) (h4 : v ≤ 1) {Q : Unit → St → Prop} : wp (wrB 66 i v) σ Q = Q () (stA σ.1 66 (ups (σ.1 66) i.toNat v), σ.2) := c_wrZ (n := 565) L66 h1 h2 h3 h4
theorem RI_67 (h1 : 0 ≤ i) (h2 : i < 5) {Q : Int → St → Prop} : wp (rdI 67 i) σ Q = Q (σ.1 67 i.toNat) σ := c_rdI (n := 5) L67 h1 h2
theorem RV_67 (h1 : 0 ≤ i) (h2 : i < 5) {v : Int} {Q : Unit → St → Prop} : wp (wrI 67 i v) σ Q = Q () (stA σ.1 67 (ups (σ.1 67) i.toNat v), σ.2) := c_wrI (n := 5) L67 h1 h2
theorem RI_68 (h1 : 0 ≤ i) (h2 : i < 565) {Q : Int64 → St → Prop} : wp (rdL 68 i) σ Q = Q (σ.2.1 68 i.toNat) σ := c_rdL (n := 565) L68 h1 h2
theorem RV_68 (h1 : 0 ≤ i) (h2 : i < 565) {v : Int64} {Q : Unit → St → Prop} : wp (wrL 68 i v) σ Q = Q () (σ.1, stA σ.2.1 68 (ups (σ.2.1 68) i.toNat v), σ.2.2) := c_wrL (n := 565) L68 h1 h2
theorem RI_69 (h1 : 0 ≤ i) (h2 : i < 565) {Q : Int → St → Prop} : wp (rdB 69 i) σ Q = Q (σ.1 69 i.toNat) σ := c_rdB (n := 565) (L69).1 h1 h2
theorem RV_69 (h1 : 0 ≤ i) (h2 : i < 565) {v : Int} (h3 : 0 ≤ v) (h4 : v ≤ 1) {Q : Unit → St → Prop} : wp (wrB 69 i v) σ Q = Q () (stA σ.1 69 (ups (σ.1 69) i.toNat v), σ.2) := c_wrZ (n := 565) L69 h1 h2 h3 h4
theorem RI_70 (h1 : 0 ≤ i) (h2 : i < 300) {Q : Int → St → Prop} : wp (rdI 70 i) σ Q = Q (σ.1 70 i.toNat) σ := c_rdI (n := 300) L70 h1 h2
theorem RV_70 (h1 : 0 ≤ i) (h2 : i < 300) {v : Int} {Q : Unit → St → Prop} : wp (wrI 70 i v) σ Q = Q () (stA σ.1 70 (ups (σ.1 70) i.toNat v), σ.2) := c_wrI (n := 300) L70 h1 h2
theorem RI_71 (h1 : 0 ≤ i) (h2 : i < 300) {Q : Int64 → St → Prop} : wp (rdL 71 i) σ Q = Q (σ.2.1 71 i.toNat) σ := c_rdL (n := 300) L71 h1 h2
theorem RV_71 (h1 : 0 ≤ i) (h2 : i < 300) {v : Int64} {Q : Unit → St → Prop} : wp (wrL 71 i v) σ Q = Q () (σ.1, stA σ.2.1 71 (ups (σ.2.1 71) i.toNat v), σ.2.2) := c_wrL (n := 300) L71 h1 h2
theorem RI_72 (h1 : 0 ≤ i) (h2 : i < 565) {Q : Int → St → Prop} : wp (rdI 72 i) σ Q = Q (σ.1 72 i.toNat) σ := c_rdI (n := 565) L72 h1 h2
theorem RV_72 (h1 : 0 ≤ i) (h2 : i < 565) {v : Int} {Q : Unit → St → Prop} : wp (wrI 72 i v) σ Q = Q () (stA σ.1 72 (ups (σ.1 72) i.toNat v), σ.2) := c_wrI (n := 565) L72 h1 h2
theorem RI_74 (h1 : 0 ≤ i) (h2 : i < 300) {Q : Int → St → Prop} : wp (rdI 74 i) σ Q = Q (σ.1 74 i.toNat) σ := c_rdI (n := 300) L74 h1 h2
theorem RV_74 (h1 : 0 ≤ i) (h2 : i < 300) {v : Int} {Q : Unit → St → Prop} : wp (wrI 74 i v) σ Q = Q () (stA σ.1 74 (ups (σ.1 74) i.toNat v), σ.2) := c_wrI (n := 300) L74 h1 h2
theorem RI_75 (h1 : 0 ≤ i) (h2 : i < 300) {Q : Int → St → Prop} : wp (rdI 75 i) σ Q = Q (σ.1 75 i.toNat) σ := c_rdI (n := 300) L75 h1 h2
theorem RV_75 (h1 : 0 ≤ i) (h2 : i < 300) {v : Int} {Q : Unit → St → Prop} : wp (wrI 75 i v) σ Q = Q () (stA σ.1 75 (ups (σ.1 75) i.toNat v), σ.2) := c_wrI (n := 300) L75 h1 h2
theorem RI_76 (h1 : 0 ≤ i) (h2 : i < 300) {Q : Int → St → Prop} : wp (rdI 76 i) σ Q = Q (σ.1 76 i.toNat) σ := c_rdI (n := 300) L76 h1 h2
theorem RV_76 (h1 : 0 ≤ i) (h2 : i < 300) {v : Int} {Q : Unit → St → Prop} : wp (wrI 76 i v) σ Q = Q () (stA σ.1 76 (ups (σ.1 76) i.toNat v), σ.2) := c_wrI (n := 300) L76 h1 h2
theorem RI_77 (h1 : 0 ≤ i) (h2 : i < 300) {Q : Int → St → Prop} : wp (rdI 77 i) σ Q = Q (σ.1 77 i.toNat) σ := c_rdI (n := 300) L77 h1 h2
theorem RV_77 (h1 : 0 ≤ i) (h2 : i < 300) {v : Int} {Q : Unit → St → Prop} : wp (wrI 77 i v) σ Q = Q () (stA σ.1 77 (ups (σ.1 77) i.toNat v), σ.2) := c_wrI (n := 300) L77 h1 h2
theorem RI_78 (h1 : 0 ≤ i) (h2 : i < 1500) {Q : Int → St → Prop} : wp (rdI 78 i) σ Q = Q (σ.1 78 i.toNat) σ := c_rdI (n := 1500) L78 h1 h2
theorem RV_78 (h1 : 0 ≤ i) (h2 : i < 1500) {v : Int} {Q : Unit → St → Prop} : wp (wrI 78 i v) σ Q = Q () (stA σ.1 78 (ups (σ.1 78) i.toNat v), σ.2) := c_wrI (n := 1500) L78 h1 h2
theorem RI_80 (h1 : 0 ≤ i) (h2 : i < 4265) {Q : Int64 → St → Prop} : wp (rdL 80 i) σ Q = Q (σ.2.1 80 i.toNat) σ := c_rdL (n := 4265) L80 h1 h2
theorem RV_80 (h1 : 0 ≤ i) (h2 : i < 4265) {v : Int64} {Q : Unit → St → Prop} : wp (wrL 80 i v) σ Q = Q () (σ.1, stA σ.2.1 80 (ups (σ.2.1 80) i.toNat v), σ.2.2) := c_wrL (n := 4265) L80 h1 h2
theorem RI_82 (h1 : 0 ≤ i) (h2 : i < 4265) {Q : Int64 → St → Prop} : wp (rdL 82 i) σ Q = Q (σ.2.1 82 i.toNat) σ := c_rdL (n := 4265) L82 h1 h2
theorem RV_82 (h1 : 0 ≤ i) (h2 : i < 4265) {v : Int64} {Q : Unit → St → Prop} : wp (wrL 82 i v) σ Q = Q () (σ.1, stA σ.2.1 82 (ups (σ.2.1 82) i.toNat v), σ.2.2) := c_wrL (n := 4265) L82 h1 h2
theorem RI_86 (h1 : 0 ≤ i) (h2 : i < 4265) {Q : Int64 → St → Prop} : wp (rdL 86 i) σ Q = Q (σ.2.1 86 i.toNat) σ := c_rdL (n := 4265) L86 h1 h2
theorem RV_86 (h1 : 0 ≤ i) (h2 : i < 4265) {v : Int64} {Q : Unit → St → Prop} : wp (wrL 86 i v) σ Q = Q () (σ.1, stA σ.2.1 86 (ups (σ.2.1 86) i.toNat v), σ.2.2) := c_wrL (n := 4265) L86 h1 h2
theorem RI_87 (h1 : 0 ≤ i) (h2 : i < 4096) {Q : Int64 → St → Prop} : wp (rdL 87 i) σ Q = Q (σ.2.1 87 i.toNat) σ := c_rdL (n := 4096) L87 h1 h2
theorem RV_87 (h1 : 0 ≤ i) (h2 : i < 4096) {v : Int64} {Q : Unit → St → Prop} : wp (wrL 87 i v) σ Q = Q () (σ.1, stA σ.2.1 87 (ups (σ.2.1 87) i.toNat v), σ.2.2) := c_wrL (n := 4096) L87 h1 h2
theorem RI_88 (h1 : 0 ≤ i) (h2 : i < 4096) {Q : Int → St → Prop} : wp (rdI 88 i) σ Q = Q (σ.1 88 i.toNat) σ := c_rdI (n := 4096) L88 h1 h2
theorem RV_88 (h1 : 0 ≤ i) (h2 : i < 4096) {v : Int} {Q : Unit → St → Prop} : wp (wrI 88 i v) σ Q = Q () (stA σ.1 88 (ups (σ.1 88) i.toNat v), σ.2) := c_wrI (n := 4096) L88 h1 h2
theorem RI_91 (h1 : 0 ≤ i) (h2 : i < 4265) {Q : Int64 → St → Prop} : wp (rdL 91 i) σ Q = Q (σ.2.1 91 i.toNat) σ := c_rdL (n := 4265) L91 h1 h2
theorem RV_91 (h1 : 0 ≤ i) (h2 : i < 4265) {v : Int64} {Q : Unit → St → Prop} : wp (wrL 91 i v) σ Q = Q () (σ.1, stA σ.2.1 91 (ups (σ.2.1 91) i.toNat v), σ.2.2) := c_wrL (n := 4265) L91 h1 h2
theorem RI_92 (h1 : 0 ≤ i) (h2 : i < 4096) {Q : Int64 → St → Prop} : wp (rdL 92 i) σ Q = Q (σ.2.1 92 i.toNat) σ := c_rdL (n := 4096) L92 h1 h2
theorem RV_92 (h1 : 0 ≤ i) (h2 : i < 4096) {v : Int64} {Q : Unit → St → Prop} : wp (wrL 92 i v) σ Q = Q () (σ.1, stA σ.2.1 92 (ups (σ.2.1 92) i.toNat v), σ.2.2) := c_wrL (n := 4096) L92 h1 h2
theorem RI_93 (h1 : 0 ≤ i) (h2 : i < 4096) {Q : Int → St → Prop} : wp (rdI 93 i) σ Q = Q (σ.1 93 i.toNat) σ := c_rdI (n := 4096) L93 h1 h2
theorem RV_93 (h1 : 0 ≤ i) (h2 : i < 4096) {v : Int} {Q : Unit → St → Prop} : wp (wrI 93 i v) σ Q = Q () (stA σ.1 93 (ups (σ.1 93) i.toNat v), σ.2) := c_wrI (n := 4096) L93 h1 h2
theorem RI_94 (h1 : 0 ≤ i) (h2 : i < 1024) {Q : Int → St → Prop} : wp (rdB 94 i) σ Q = Q (σ.1 94 i.toNat) σ := c_rdB (n := 1024) (L94).1 h1 h2
theorem RV_94 (h1 : 0 ≤ i) (h2 : i < 1024) {v : Int} (h3 : 0 ≤ v) (h4 : v ≤ 1) {Q : Unit → St → Prop} : wp (wrB 94 i v) σ Q = Q () (stA σ.1 94 (ups (σ.1 94) i.toNat v), σ.2) := c_wrZ (n := 1024) L94 h1 h2 h3 h4
theorem RI_95 (h1 : 0 ≤ i) (h2 : i < 1024) {Q : Int → St → Prop} : wp (rdI 95 i) σ Q = Q (σ.1 95 i.toNat) σ := c_rdI (n := 1024) L95 h1 h2
theorem RV_95 (h1 : 0 ≤ i) (h2 : i < 1024) {v : Int} {Q : Unit → St → Prop} : wp (wrI 95 i v) σ Q = Q () (stA σ.1 95 (ups (σ.1 95) i.toNat v), σ.2) := c_wrI (n := 1024) L95 h1 h2
theorem RI_96 (h1 : 0 ≤ i) (h2 : i < 1024) {Q : Int → St → Prop} : wp (rdI 96 i) σ Q = Q (σ.1 96 i.toNat) σ := c_rdI (n := 1024) L96 h1 h2
theorem RV_96 (h1 : 0 ≤ i) (h2 : i < 1024) {v : Int} {Q : Unit → St → Prop} : wp (wrI 96 i v) σ Q = Q () (stA σ.1 96 (ups (σ.1 96) i.toNat v), σ.2) := c_wrI (n := 1024) L96 h1 h2
theorem RI_97 (h1 : 0 ≤ i) (h2 : i < 1024) {Q : Int → St → Prop} : wp (rdI 97 i) σ Q = Q (σ.1 97 i.toNat) σ := c_rdI (n := 1024) L97 h1 h2
theorem RV_97 (h1 : 0 ≤ i) (h2 : i < 1024) {v : Int} {Q : Unit → St → Prop} : wp (wrI 97 i v) σ Q = Q () (stA σ.1 97 (ups (σ.1 97) i.toNat v), σ.2) := c_wrI (n := 1024) L97 h1 h2
theorem RI_98 (h1 : 0 ≤ i) (h2 : i < 1030) {Q : Int → St → Prop} : wp (rdI 98 i) σ Q = Q (σ.1 98 i.toNat) σ := c_rdI (n := 1030) L98 h1 h2
theorem RV_98 (h1 : 0 ≤ i) (h2 : i < 1030) {v : Int} {Q : Unit → St → Prop} : wp (wrI 98 i v) σ Q = Q () (stA σ.1 98 (ups (σ.1 98) i.toNat v), σ.2) := c_wrI (n := 1030) L98 h1 h2
theorem RI_101 (h1 : 0 ≤ i) (h2 : i < 4265) {Q : Int64 → St → Prop} : wp (rdL 101 i) σ Q = Q (σ.2.1 101 i.toNat) σ := c_rdL (n := 4265) L101 h1 h2
theorem RV_101 (h1 : 0 ≤ i) (h2 : i < 4265) {v : Int64} {Q : Unit → St → Prop} : wp (wrL 101 i v) σ Q = Q () (σ.1, stA σ.2.1 101 (ups (σ.2.1 101) i.toNat v), σ.2.2) := c_wrL (n := 4265) L101 h1 h2
theorem RI_103 (h1 : 0 ≤ i) (h2 : i < 4265) {Q : Int64 → St → Prop} : wp (rdL 103 i) σ Q = Q (σ.2.1 103 i.toNat) σ := c_rdL (n := 4265) L103 h1 h2
theorem RV_103 (h1 : 0 ≤ i) (h2 : i < 4265) {v : Int64} {Q : Unit → St → Prop} : wp (wrL 103 i v) σ Q = Q () (σ.1, stA σ.2.1 103 (ups (σ.2.1 103) i.toNat v), σ.2.2) := c_wrL (n := 4265) L103 h1 h2
theorem RI_104 (h1 : 0 ≤ i) (h2 : i < 64) {Q : Int → St → Prop} : wp (rdI 104 i) σ Q = Q (σ.1 104 i.toNat) σ := c_rdI (n := 64) L104 h1 h2
theorem RV_104 (h1 : 0 ≤ i) (h2 : i < 64) {v : Int} {Q : Unit → St → Prop} : wp (wrI 104 i v) σ Q = Q () (stA σ.1 104 (ups (σ.1 104) i.toNat v), σ.2) := c_wrI (n := 64) L104 h1 h2
theorem RI_105 (h1 : 0 ≤ i) (h2 : i < 1664) {Q : Int64 → St → Prop} : wp (rdL 105 i) σ Q = Q (σ.2.1 105 i.toNat) σ := c_rdL (n := 1664) L105 h1 h2
theorem RV_105 (h1 : 0 ≤ i) (h2 : i < 1664) {v : Int64} {Q : Unit → St → Prop} : wp (wrL 105 i v) σ Q = Q () (σ.1, stA σ.2.1 105 (ups (σ.2.1 105) i.toNat v), σ.2.2) := c_wrL (n := 1664) L105 h1 h2
theorem RI_106 (h1 : 0 ≤ i) (h2 : i < 416) {Q : Int → St → Prop} : wp (rdB 106 i) σ Q = Q (σ.1 106 i.toNat) σ := c_rdB (n := 416) (L106).1 h1 h2
theorem RV_106 (h1 : 0 ≤ i) (h2 : i < 416) {v : Int} (h3 : 0 ≤ v) (h4 : v ≤ 1) {Q : Unit → St → Prop} : wp (wrB 106 i v) σ Q = Q () (stA σ.1 106 (ups (σ.1 106) i.toNat v), σ.2) := c_wrZ (n := 416) L106 h1 h2 h3 h4
theorem RI_107 (h1 : 0 ≤ i) (h2 : i < 64) {Q : Int → St → Prop} : wp (rdI 107 i) σ Q = Q (σ.1 107 i.toNat) σ := c_rdI (n := 64) L107 h1 h2
theorem RV_107 (h1 : 0 ≤ i) (h2 : i < 64) {v : Int} {Q : Unit → St → Prop} : wp (wrI 107 i v) σ Q = Q () (stA σ.1 107 (ups (σ.1 107) i.toNat v), σ.2) := c_wrI (n := 64) L107 h1 h2
theorem RI_108 (h1 : 0 ≤ i) (h2 : i < 1030) {Q : Int → St → Prop} : wp (rdI 108 i) σ Q = Q (σ.1 108 i.toNat) σ := c_rdI (n := 1030) L108 h1 h2
theorem RV_108 (h1 : 0 ≤ i) (h2 : i < 1030) {v : Int} {Q : Unit → St → Prop} : wp (wrI 108 i v) σ Q = Q () (stA σ.1 108 (ups (σ.1 108) i.toNat v), σ.2) := c_wrI (n := 1030) L108 h1 h2
theorem RI_109 (h1 : 0 ≤ i) (h2 : i < 4265) {Q : Int → St → Prop} : wp (rdI 109 i) σ Q = Q (σ.1 109 i.toNat) σ := c_rdI (n := 4265) L109 h1 h2
theorem RV_109 (h1 : 0 ≤ i) (h2 : i < 4265) {v : Int} {Q : Unit → St → Prop} : wp (wrI 109 i v) σ Q = Q () (stA σ.1 109 (ups (σ.1 109) i.toNat v), σ.2) := c_wrI (n := 4265) L109 h1 h2
theorem RI_2076 (h1 : 0 ≤ i) (h2 : i < 4000) {Q : Int → St → Prop} : wp (rdB 2076 i) σ Q = Q (σ.1 2076 i.toNat) σ := c_rdB (n := 4000) (L2076).1 h1 h2
theorem RV_2076 (h1 : 0 ≤ i) (h2 : i < 4000) {v : Int} (h3 : -128 ≤ v) (h4 : v ≤ 127) {Q : Unit → St → Prop} : wp (wrB 2076 i v) σ Q = Q () (stA σ.1 2076 (ups (σ.1 2076) i.toNat v), σ.2) := c_wrB (n := 4000) L2076 h1 h2 h3 h4
theorem RI_2077 (h1 : 0 ≤ i) (h2 : i < 60) {Q : Int → St → Prop} : wp (rdI 2077 i) σ Q = Q (σ.1 2077 i.toNat) σ := c_rdI (n := 60) L2077 h1 h2
theorem RV_2077 (h1 : 0 ≤ i) (h2 : i < 60) {v : Int} {Q : Unit → St → Prop} : wp (wrI 2077 i v) σ Q = Q () (stA σ.1 2077 (ups (σ.1 2077) i.toNat v), σ.2) := c_wrI (n := 60) L2077 h1 h2
theorem RI_2078 (h1 : 0 ≤ i) (h2 : i < 60) {Q : Int → St → Prop} : wp (rdI 2078 i) σ Q = Q (σ.1 2078 i.toNat) σ := c_rdI (n := 60) L2078 h1 h2
theorem RV_2078 (h1 : 0 ≤ i) (h2 : i < 60) {v : Int} {Q : Unit → St → Prop} : wp (wrI 2078 i v) σ Q = Q () (stA σ.1 2078 (ups (σ.1 2078) i.toNat v), σ.2) := c_wrI (n := 60) L2078 h1 h2
theorem RI_2079 (h1 : 0 ≤ i) (h2 : i < 60) {Q : Int → St → Prop} : wp (rdI 2079 i) σ Q = Q (σ.1 2079 i.toNat) σ := c_rdI (n := 60) L2079 h1 h2
theorem RV_2079 (h1 : 0 ≤ i) (h2 : i < 60) {v : Int} {Q : Unit → St → Prop} : wp (wrI 2079 i v) σ Q = Q () (stA σ.1 2079 (ups (σ.1 2079) i.toNat v), σ.2) := c_wrI (n := 60) L2079 h1 h2
theorem RI_2080 (h1 : 0 ≤ i) (h2 : i < 60) {Q : Int → St → Prop} : wp (rdI 2080 i) σ Q = Q (σ.1 2080 i.toNat) σ := c_rdI (n := 60) L2080 h1 h2
theorem RV_2080 (h1 : 0 ≤ i) (h2 : i < 60) {v : Int} {Q : Unit → St → Prop} : wp (wrI 2080 i v) σ Q = Q () (stA σ.1 2080 (ups (σ.1 2080) i.toNat v), σ.2) := c_wrI (n := 60) L2080 h1 h2
theorem RI_2081 (h1 : 0 ≤ i) (h2 : i < 600) {Q : Int → St → Prop} : wp (rdB 2081 i) σ Q = Q (σ.1 2081 i.toNat) σ := c_rdB (n := 600) (L2081).1 h1 h2
theorem RV_2081 (h1 : 0 ≤ i) (h2 : i < 600) {v : Int} (h3 : -128 ≤ v) (h4 : v ≤ 127) {Q : Unit → St → Prop} : wp (wrB 2081 i v) σ Q = Q () (stA σ.1 2081 (ups (σ.1 2081) i.toNat v), σ.2) := c_wrB (n := 600) L2081 h1 h2 h3 h4
theorem RI_2082 (h1 : 0 ≤ i) (h2 : i < 2400) {Q : Int → St → Prop} : wp (rdI 2082 i) σ Q = Q (σ.1 2082 i.toNat) σ := c_rdI (n := 2400) L2082 h1 h2
theorem RV_2082 (h1 : 0 ≤ i) (h2 : i < 2400) {v : Int} {Q : Unit → St → Prop} : wp (wrI 2082 i v) σ Q = Q () (stA σ.1 2082 (ups (σ.1 2082) i.toNat v), σ.2) := c_wrI (n := 2400) L2082 h1 h2
theorem RI_2083 (h1 : 0 ≤ i) (h2 : i < 2400) {Q : Int → St → Prop} : wp (rdI 2083 i) σ Q = Q (σ.1 2083 i.toNat) σ := c_rdI (n := 2400) L2083 h1 h2
theorem RV_2083 (h1 : 0 ≤ i) (h2 : i < 2400) {v : Int} {Q : Unit → St → Prop} : wp (wrI 2083 i v) σ Q = Q () (stA σ.1 2083 (ups (σ.1 2083) i.toNat v), σ.2) := c_wrI (n := 2400) L2083 h1 h2
theorem RI_2084 (h1 : 0 ≤ i) (h2 : i < 2400) {Q : Int → St → Prop} : wp (rdI 2084 i) σ Q = Q (σ.1 2084 i.toNat) σ := c_rdI (n := 2400) L2084 h1 h2
theorem RV_2084 (h1 : 0 ≤ i) (h2 : i < 2400) {v : Int} {Q : Unit → St → Prop} : wp (wrI 2084 i v) σ Q = Q () (stA σ.1 2084 (ups (σ.1 2084) i.toNat v), σ.2) := c_wrI (n := 2400) L2084 h1 h2
theorem RI_2085 (h1 : 0 ≤ i) (h2 : i < 2400) {Q : Int64 → St → Prop} : wp (rdL 2085 i) σ Q = Q (σ.2.1 2085 i.toNat) σ := c_rdL (n := 2400) L2085 h1 h2
theorem RV_2085 (h1 : 0 ≤ i) (h2 : i < 2400) {v : Int64} {Q : Unit → St → Prop} : wp (wrL 2085 i v) σ Q = Q () (σ.1, stA σ.2.1 2085 (ups (σ.2.1 2085) i.toNat v), σ.2.2) := c_wrL (n := 2400) L2085 h1 h2
theorem RI_2086 (h1 : 0 ≤ i) (h2 : i < 2400) {Q : Int → St → Prop} : wp (rdI 2086 i) σ Q = Q (σ.1 2086 i.toNat) σ := c_rdI (n := 2400) L2086 h1 h2
theorem RV_2086 (h1 : 0 ≤ i) (h2 : i < 2400) {v : Int} {Q : Unit → St → Prop} : wp (wrI 2086 i v) σ Q = Q () (stA σ.1 2086 (ups (σ.1 2086) i.toNat v), σ.2) := c_wrI (n := 2400) L2086 h1 h2
theorem RI_2087 (h1 : 0 ≤ i) (h2 : i < 24000) {Q : Int → St → Prop} : wp (rdB 2087 i) σ Q = Q (σ.1 2087 i.toNat) σ := c_rdB (n := 24000) (L2087).1 h1 h2
theorem RV_2087 (h1 : 0 ≤ i) (h2 : i < 24000) {v : Int} (h3 : -128 ≤ v) (h4 : v ≤ 127) {Q : Unit → St → Prop} : wp (wrB 2087 i v) σ Q = Q () (stA σ.1 2087 (ups (σ.1 2087) i.toNat v), σ.2) := c_wrB (n := 24000) L2087 h1 h2 h3 h4
theorem RI_2088 (h1 : 0 ≤ i) (h2 : i < 18000) {Q : Int → St → Prop} : wp (rdI 2088 i) σ Q = Q (σ.1 2088 i.toNat) σ := c_rdI (n := 18000) L2088 h1 h2
theorem RV_2088 (h1 : 0 ≤ i) (h2 : i < 18000) {v : Int} {Q : Unit → St → Prop} : wp (wrI 2088 i v) σ Q = Q () (stA σ.1 2088 (ups (σ.1 2088) i.toNat v), σ.2) := c_wrI (n := 18000) L2088 h1 h2
theorem RI_2089 (h1 : 0 ≤ i) (h2 : i < 18000) {Q : Int → St → Prop} : wp (rdI 2089 i) σ Q = Q (σ.1 2089 i.toNat) σ := c_rdI (n := 18000) L2089 h1 h2
theorem RV_2089 (h1 : 0 ≤ i) (h2 : i < 18000) {v : Int} {Q : Unit → St → Prop} : wp (wrI 2089 i v) σ Q = Q () (stA σ.1 2089 (ups (σ.1 2089) i.toNat v), σ.2) := c_wrI (n := 18000) L2089 h1 h2
theorem RI_2090 (h1 : 0 ≤ i) (h2 : i < 18000) {Q : Int → St → Prop} : wp (rdI 2090 i) σ Q = Q (σ.1 2090 i.toNat) σ := c_rdI (n := 18000) L2090 h1 h2
theorem RV_2090 (h1 : 0 ≤ i) (h2 : i < 18000) {v : Int} {Q : Unit → St → Prop} : wp (wrI 2090 i v) σ Q = Q () (stA σ.1 2090 (ups (σ.1 2090) i.toNat v), σ.2) := c_wrI (n := 18000) L2090 h1 h2
theorem RI_2091 (h1 : 0 ≤ i) (h2 : i < 18000) {Q : Int → St → Prop} : wp (rdI 2091 i) σ Q = Q (σ.1 2091 i.toNat) σ := c_rdI (n := 18000) L2091 h1 h2
theorem RV_2091 (h1 : 0 ≤ i) (h2 : i < 18000) {v : Int} {Q : Unit → St → Prop} : wp (wrI 2091 i v) σ Q = Q () (stA σ.1 2091 (ups (σ.1 2091) i.toNat v), σ.2) := c_wrI (n := 18000) L2091 h1 h2
theorem RI_2092 (h1 : 0 ≤ i) (h2 : i < 18000) {Q : Int → St → Prop} : wp (rdI 2092 i) σ Q = Q (σ.1 2092 i.toNat) σ := c_rdI (n := 18000) L2092 h1 h2
theorem RV_2092 (h1 : 0 ≤ i) (h2 : i < 18000) {v : Int} {Q : Unit → St → Prop} : wp (wrI 2092 i v) σ Q = Q () (stA σ.1 2092 (ups (σ.1 2092) i.toNat v), σ.2) := c_wrI (n := 18000) L2092 h1 h2
theorem RI_2093 (h1 : 0 ≤ i) (h2 : i < 18000) {Q : Int64 → St → Prop} : wp (rdL 2093 i) σ Q = Q (σ.2.1 2093 i.toNat) σ := c_rdL (n := 18000) L2093 h1 h2
theorem RV_2093 (h1 : 0 ≤ i) (h2 : i < 18000) {v : Int64} {Q : Unit → St → Prop} : wp (wrL 2093 i v) σ Q = Q () (σ.1, stA σ.2.1 2093 (ups (σ.2.1 2093) i.toNat v), σ.2.2) := c_wrL (n := 18000) L2093 h1 h2
theorem RI_2094 (h1 : 0 ≤ i) (h2 : i < 12000) {Q : Int → St → Prop} : wp (rdI 2094 i) σ Q = Q (σ.1 2094 i.toNat) σ := c_rdI (n := 12000) L2094 h1 h2
theorem RV_2094 (h1 : 0 ≤ i) (h2 : i < 12000) {v : Int} {Q : Unit → St → Prop} : wp (wrI 2094 i v) σ Q = Q () (stA σ.1 2094 (ups (σ.1 2094) i.toNat v), σ.2) := c_wrI (n := 12000) L2094 h1 h2
theorem RI_2095 (h1 : 0 ≤ i) (h2 : i < 12000) {Q : Int → St → Prop} : wp (rdI 2095 i) σ Q = Q (σ.1 2095 i.toNat) σ := c_rdI (n := 12000) L2095 h1 h2
theorem RV_2095 (h1 : 0 ≤ i) (h2 : i < 12000) {v : Int} {Q : Unit → St → Prop} : wp (wrI 2095 i v) σ Q = Q () (stA σ.1 2095 (ups (σ.1 2095) i.toNat v), σ.2) := c_wrI (n := 12000) L2095 h1 h2
theorem RI_2096 (h1 : 0 ≤ i) (h2 : i < 12000) {Q : Int → St → Prop} : wp (rdI 2096 i) σ Q = Q (σ.1 2096 i.toNat) σ := c_rdI (n := 12000) L2096 h1 h2
theorem RV_2096 (h1 : 0 ≤ i) (h2 : i < 12000) {v : Int} {Q : Unit → St → Prop} : wp (wrI 2096 i v) σ Q = Q () (stA σ.1 2096 (ups (σ.1 2096) i.toNat v), σ.2) := c_wrI (n := 12000) L2096 h1 h2
theorem RI_2097 (h1 : 0 ≤ i) (h2 : i < 12000) {Q : Int → St → Prop} : wp (rdI 2097 i) σ Q = Q (σ.1 2097 i.toNat) σ := c_rdI (n := 12000) L2097 h1 h2
theorem RV_2097 (h1 : 0 ≤ i) (h2 : i < 12000) {v : Int} {Q : Unit → St → Prop} : wp (wrI 2097 i v) σ Q = Q () (stA σ.1 2097 (ups (σ.1 2097) i.toNat v), σ.2) := c_wrI (n := 12000) L2097 h1 h2
theorem RI_2098 (h1 : 0 ≤ i) (h2 : i < 12000) {Q : Int → St → Prop} : wp (rdI 2098 i) σ Q = Q (σ.1 2098 i.toNat) σ := c_rdI (n := 12000) L2098 h1 h2
theorem RV_2098 (h1 : 0 ≤ i) (h2 : i < 12000) {v : Int} {Q : Unit → St → Prop} : wp (wrI 2098 i v) σ Q = Q () (stA σ.1 2098 (ups (σ.1 2098) i.toNat v), σ.2) := c_wrI (n := 12000) L2098 h1 h2
theorem RI_2099 (h1 : 0 ≤ i) (h2 : i < 12000) {Q : Int → St → Prop} : wp (rdB 2099 i) σ Q = Q (σ.1 2099 i.toNat) σ := c_rdB (n := 12000) (L2099).1 h1 h2
theorem RV_2099 (h1 : 0 ≤ i) (h2 : i < 12000) {v : Int} (h3 : 0 ≤ v) (h4 : v ≤ 1) {Q : Unit → St → Prop} : wp (wrB 2099 i v) σ Q = Q () (stA σ.1 2099 (ups (σ.1 2099) i.toNat v), σ.2) := c_wrZ (n := 12000) L2099 h1 h2 h3 h4
theorem RI_2100 (h1 : 0 ≤ i) (h2 : i < 12000) {Q : Int → St → Prop} : wp (rdB 2100 i) σ Q = Q (σ.1 2100 i.toNat) σ := c_rdB (n := 12000) (L2100).1 h1 h2
theorem RV_2100 (h1 : 0 ≤ i) (h2 : i < 12000) {v : Int} (h3 : 0 ≤ v) (h4 : v ≤ 1) {Q : Unit → St → Prop} : wp (wrB 2100 i v) σ Q = Q () (stA σ.1 2100 (ups (σ.1 2100) i.toNat v), σ.2) := c_wrZ (n := 12000) L2100 h1 h2 h3 h4
theorem RI_2101 (h1 : 0 ≤ i) (h2 : i < 4200) {Q : Int → St → Prop} : wp (rdI 2101 i) σ Q = Q (σ.1 2101 i.toNat) σ := c_rdI (n := 4200) L2101 h1 h2
theorem RV_2101 (h1 : 0 ≤ i) (h2 : i < 4200) {v : Int} {Q : Unit → St → Prop} : wp (wrI 2101 i v) σ Q = Q () (stA σ.1 2101 (ups (σ.1 2101) i.toNat v), σ.2) := c_wrI (n := 4200) L2101 h1 h2
theorem RI_2102 (h1 : 0 ≤ i) (h2 : i < 4200) {Q : Int → St → Prop} : wp (rdI 2102 i) σ Q = Q (σ.1 2102 i.toNat) σ := c_rdI (n := 4200) L2102 h1 h2
theorem RV_2102 (h1 : 0 ≤ i) (h2 : i < 4200) {v : Int} {Q : Unit → St → Prop} : wp (wrI 2102 i v) σ Q = Q () (stA σ.1 2102 (ups (σ.1 2102) i.toNat v), σ.2) := c_wrI (n := 4200) L2102 h1 h2
theorem RI_2103 (h1 : 0 ≤ i) (h2 : i < 4200) {Q : Int → St → Prop} : wp (rdI 2103 i) σ Q = Q (σ.1 2103 i.toNat) σ := c_rdI (n := 4200) L2103 h1 h2
theorem RV_2103 (h1 : 0 ≤ i) (h2 : i < 4200) {v : Int} {Q : Unit → St → Prop} : wp (wrI 2103 i v) σ Q = Q () (stA σ.1 2103 (ups (σ.1 2103) i.toNat v), σ.2) := c_wrI (n := 4200) L2103 h1 h2
theorem RI_2104 (h1 : 0 ≤ i) (h2 : i < 4200) {Q : Int → St → Prop} : wp (rdI 2104 i) σ Q = Q (σ.1 2104 i.toNat) σ := c_rdI (n := 4200) L2104 h1 h2
theorem RV_2104 (h1 : 0 ≤ i) (h2 : i < 4200) {v : Int} {Q : Unit → St → Prop} : wp (wrI 2104 i v) σ Q = Q () (stA σ.1 2104 (ups (σ.1 2104) i.toNat v), σ.2) := c_wrI (n := 4200) L2104 h1 h2
theorem RI_2105 (h1 : 0 ≤ i) (h2 : i < 4200) {Q : Int → St → Prop} : wp (rdI 2105 i) σ Q = Q (σ.1 2105 i.toNat) σ := c_rdI (n := 4200) L2105 h1 h2
theorem RV_2105 (h1 : 0 ≤ i) (h2 : i < 4200) {v : Int} {Q : Unit → St → Prop} : wp (wrI 2105 i v) σ Q = Q () (stA σ.1 2105 (ups (σ.1 2105) i.toNat v), σ.2) := c_wrI (n := 4200) L2105 h1 h2
theorem RI_2106 (h1 : 0 ≤ i) (h2 : i < 4200) {Q : Int64 → St → Prop} : wp (rdL 2106 i) σ Q = Q (σ.2.1 2106 i.toNat) σ := c_rdL (n := 4200) L2106 h1 h2
theorem RV_2106 (h1 : 0 ≤ i) (h2 : i < 4200) {v : Int64} {Q : Unit → St → Prop} : wp (wrL 2106 i v) σ Q = Q () (σ.1, stA σ.2.1 2106 (ups (σ.2.1 2106) i.toNat v), σ.2.2) := c_wrL (n := 4200) L2106 h1 h2
theorem RI_2107 (h1 : 0 ≤ i) (h2 : i < 2100) {Q : Int → St → Prop} : wp (rdI 2107 i) σ Q = Q (σ.1 2107 i.toNat) σ := c_rdI (n := 2100) L2107 h1 h2
theorem RV_2107 (h1 : 0 ≤ i) (h2 : i < 2100) {v : Int} {Q : Unit → St → Prop} : wp (wrI 2107 i v) σ Q = Q () (stA σ.1 2107 (ups (σ.1 2107) i.toNat v), σ.2) := c_wrI (n := 2100) L2107 h1 h2
theorem RI_2108 (h1 : 0 ≤ i) (h2 : i < 2100) {Q : Int → St → Prop} : wp (rdI 2108 i) σ Q = Q (σ.1 2108 i.toNat) σ := c_rdI (n := 2100) L2108 h1 h2
theorem RV_2108 (h1 : 0 ≤ i) (h2 : i < 2100) {v : Int} {Q : Unit → St → Prop} : wp (wrI 2108 i v) σ Q = Q () (stA σ.1 2108 (ups (σ.1 2108) i.toNat v), σ.2) := c_wrI (n := 2100) L2108 h1 h2
theorem RI_2109 (h1 : 0 ≤ i) (h2 : i < 2100) {Q : Int → St → Prop} : wp (rdI 2109 i) σ Q = Q (σ.1 2109 i.toNat) σ := c_rdI (n := 2100) L2109 h1 h2
theorem RV_2109 (h1 : 0 ≤ i) (h2 : i < 2100) {v : Int} {Q : Unit → St → Prop} : wp (wrI 2109 i v) σ Q = Q () (stA σ.1 2109 (ups (σ.1 2109) i.toNat v), σ.2) := c_wrI (n := 2100) L2109 h1 h2
theorem RI_2110 (h1 : 0 ≤ i) (h2 : i < 2100) {Q : Int → St → Prop} : wp (rdI 2110 i) σ Q = Q (σ.1 2110 i.toNat) σ := c_rdI (n := 2100) L2110 h1 h2
theorem RV_2110 (h1 : 0 ≤ i) (h2 : i < 2100) {v : Int} {Q : Unit → St → Prop} : wp (wrI 2110 i v) σ Q = Q () (stA σ.1 2110 (ups (σ.1 2110) i.toNat v), σ.2) := c_wrI (n := 2100) L2110 h1 h2
theorem RI_2111 (h1 : 0 ≤ i) (h2 : i < 2100) {Q : Int → St → Prop} : wp (rdI 2111 i) σ Q = Q (σ.1 2111 i.toNat) σ := c_rdI (n := 2100) L2111 h1 h2
theorem RV_2111 (h1 : 0 ≤ i) (h2 : i < 2100) {v : Int} {Q : Unit → St → Prop} : wp (wrI 2111 i v) σ Q = Q () (stA σ.1 2111 (ups (σ.1 2111) i.toNat v), σ.2) := c_wrI (n := 2100) L2111 h1 h2
theorem RI_2112 (h1 : 0 ≤ i) (h2 : i < 2100) {Q : Int → St → Prop} : wp (rdB 2112 i) σ Q = Q (σ.1 2112 i.toNat) σ := c_rdB (n := 2100) (L2112).1 h1 h2
theorem RV_2112 (h1 : 0 ≤ i) (h2 : i < 2100) {v : Int} (h3 : 0 ≤ v) (h4 : v ≤ 1) {Q : Unit → St → Prop} : wp (wrB 2112 i v) σ Q = Q () (stA σ.1 2112 (ups (σ.1 2112) i.toNat v), σ.2) := c_wrZ (n := 2100) L2112 h1 h2 h3 h4
theorem RI_2113 (h1 : 0 ≤ i) (h2 : i < 2100) {Q : Int → St → Prop} : wp (rdB 2113 i) σ Q = Q (σ.1 2113 i.toNat) σ := c_rdB (n := 2100) (L2113).1 h1 h2
theorem RV_2113 (h1 : 0 ≤ i) (h2 : i < 2100) {v : Int} (h3 : 0 ≤ v) (h4 : v ≤ 1) {Q : Unit → St → Prop} : wp (wrB 2113 i v) σ Q = Q () (stA σ.1 2113 (ups (σ.1 2113) i.toNat v), σ.2) := c_wrZ (n := 2100) L2113 h1 h2 h3 h4
theorem RI_2114 (h1 : 0 ≤ i) (h2 : i < 5) {Q : Int → St → Prop} : wp (rdB 2114 i) σ Q = Q (σ.1 2114 i.toNat) σ := c_rdB (n := 5) (L2114).1 h1 h2
theorem RV_2114 (h1 : 0 ≤ i) (h2 : i < 5) {v : Int} (h3 : 0 ≤ v) (h4 : v ≤ 1) {Q : Unit → St → Prop} : wp (wrB 2114 i v) σ Q = Q () (stA σ.1 2114 (ups (σ.1 2114) i.toNat v), σ.2) := c_wrZ (n := 5) L2114 h1 h2 h3 h4
theorem RI_2115 (h1 : 0 ≤ i) (h2 : i < 5) {Q : Int → St → Prop} : wp (rdI 2115 i) σ Q = Q (σ.1 2115 i.toNat) σ := c_rdI (n := 5) L2115 h1 h2
theorem RV_2115 (h1 : 0 ≤ i) (h2 : i < 5) {v : Int} {Q : Unit → St → Prop} : wp (wrI 2115 i v) σ Q = Q () (stA σ.1 2115 (ups (σ.1 2115) i.toNat v), σ.2) := c_wrI (n := 5) L2115 h1 h2
theorem RI_2116 (h1 : 0 ≤ i) (h2 : i < 5) {Q : Int → St → Prop} : wp (rdI 2116 i) σ Q = Q (σ.1 2116 i.toNat) σ := c_rdI (n := 5) L2116 h1 h2
theorem RV_2116 (h1 : 0 ≤ i) (h2 : i < 5) {v : Int} {Q : Unit → St → Prop} : wp (wrI 2116 i v) σ Q = Q () (stA σ.1 2116 (ups (σ.1 2116) i.toNat v), σ.2) := c_wrI (n := 5) L2116 h1 h2
theorem RI_2117 (h1 : 0 ≤ i) (h2 : i < 505) {Q : Int → St → Prop} : wp (rdI 2117 i) σ Q = Q (σ.1 2117 i.toNat) σ := c_rdI (n := 505) L2117 h1 h2
theorem RV_2117 (h1 : 0 ≤ i) (h2 : i < 505) {v : Int} {Q : Unit → St → Prop} : wp (wrI 2117 i v) σ Q = Q () (stA σ.1 2117 (ups (σ.1 2117) i.toNat v), σ.2) := c_wrI (n := 505) L2117 h1 h2
theorem RI_2118 (h1 : 0 ≤ i) (h2 : i < 505) {Q : Int → St → Prop} : wp (rdI 2118 i) σ Q = Q (σ.1 2118 i.toNat) σ := c_rdI (n := 505) L2118 h1 h2
theorem RV_2118 (h1 : 0 ≤ i) (h2 : i < 505) {v : Int} {Q : Unit → St → Prop} : wp (wrI 2118 i v) σ Q = Q () (stA σ.1 2118 (ups (σ.1 2118) i.toNat v), σ.2) := c_wrI (n := 505) L2118 h1 h2
theorem RI_2119 (h1 : 0 ≤ i) (h2 : i < 505) {Q : Int → St → Prop} : wp (rdI 2119 i) σ Q = Q (σ.1 2119 i.toNat) σ := c_rdI (n := 505) L2119 h1 h2
theorem RV_2119 (h1 : 0 ≤ i) (h2 : i < 505) {v : Int} {Q : Unit → St → Prop} : wp (wrI 2119 i v) σ Q = Q () (stA σ.1 2119 (ups (σ.1 2119) i.toNat v), σ.2) := c_wrI (n := 505) L2119 h1 h2
theorem RI_2120 (h1 : 0 ≤ i) (h2 : i < 505) {Q : Int → St → Prop} : wp (rdI 2120 i) σ Q = Q (σ.1 2120 i.toNat) σ := c_rdI (n := 505) L2120 h1 h2
theorem RV_2120 (h1 : 0 ≤ i) (h2 : i < 505) {v : Int} {Q : Unit → St → Prop} : wp (wrI 2120 i v) σ Q = Q () (stA σ.1 2120 (ups (σ.1 2120) i.toNat v), σ.2) := c_wrI (n := 505) L2120 h1 h2
theorem RI_2121 (h1 : 0 ≤ i) (h2 : i < 20200) {Q : Int → St → Prop} : wp (rdI 2121 i) σ Q = Q (σ.1 2121 i.toNat) σ := c_rdI (n := 20200) L2121 h1 h2
theorem RV_2121 (h1 : 0 ≤ i) (h2 : i < 20200) {v : Int} {Q : Unit → St → Prop} : wp (wrI 2121 i v) σ Q = Q () (stA σ.1 2121 (ups (σ.1 2121) i.toNat v), σ.2) := c_wrI (n := 20200) L2121 h1 h2
theorem RI_2122 (h1 : 0 ≤ i) (h2 : i < 1000) {Q : Int → St → Prop} : wp (rdI 2122 i) σ Q = Q (σ.1 2122 i.toNat) σ := c_rdI (n := 1000) L2122 h1 h2
theorem RV_2122 (h1 : 0 ≤ i) (h2 : i < 1000) {v : Int} {Q : Unit → St → Prop} : wp (wrI 2122 i v) σ Q = Q () (stA σ.1 2122 (ups (σ.1 2122) i.toNat v), σ.2) := c_wrI (n := 1000) L2122 h1 h2
theorem RI_2123 (h1 : 0 ≤ i) (h2 : i < 1000) {Q : Int → St → Prop} : wp (rdI 2123 i) σ Q = Q (σ.1 2123 i.toNat) σ := c_rdI (n := 1000) L2123 h1 h2
theorem RV_2123 (h1 : 0 ≤ i) (h2 : i < 1000) {v : Int} {Q : Unit → St → Prop} : wp (wrI 2123 i v) σ Q = Q () (stA σ.1 2123 (ups (σ.1 2123) i.toNat v), σ.2) := c_wrI (n := 1000) L2123 h1 h2
theorem RI_2124 (h1 : 0 ≤ i) (h2 : i < 1000) {Q : Int → St → Prop} : wp (rdI 2124 i) σ Q = Q (σ.1 2124 i.toNat) σ := c_rdI (n := 1000) L2124 h1 h2
theorem RV_2124 (h1 : 0 ≤ i) (h2 : i < 1000) {v : Int} {Q : Unit → St → Prop} : wp (wrI 2124 i v) σ Q = Q () (stA σ.1 2124 (ups (σ.1 2124) i.toNat v), σ.2) := c_wrI (n := 1000) L2124 h1 h2
theorem RI_2125 (h1 : 0 ≤ i) (h2 : i < 1000) {Q : Int → St → Prop} : wp (rdI 2125 i) σ Q = Q (σ.1 2125 i.toNat) σ := c_rdI (n := 1000) L2125 h1 h2
theorem RV_2125 (h1 : 0 ≤ i) (h2 : i < 1000) {v : Int} {Q : Unit → St → Prop} : wp (wrI 2125 i v) σ Q = Q () (stA σ.1 2125 (ups (σ.1 2125) i.toNat v), σ.2) := c_wrI (n := 1000) L2125 h1 h2
theorem RI_2126 (h1 : 0 ≤ i) (h2 : i < 1000) {Q : Int → St → Prop} : wp (rdI 2126 i) σ Q = Q (σ.1 2126 i.toNat) σ := c_rdI (n := 1000) L2126 h1 h2
theorem RV_2126 (h1 : 0 ≤ i) (h2 : i < 1000) {v : Int} {Q : Unit → St → Prop} : wp (wrI 2126 i v) σ Q = Q () (stA σ.1 2126 (ups (σ.1 2126) i.toNat v), σ.2) := c_wrI (n := 1000) L2126 h1 h2
theorem RI_2127 (h1 : 0 ≤ i) (h2 : i < 1000) {Q : Int → St → Prop} : wp (rdI 2127 i) σ Q = Q (σ.1 2127 i.toNat) σ := c_rdI (n := 1000) L2127 h1 h2
theorem RV_2127 (h1 : 0 ≤ i) (h2 : i < 1000) {v : Int} {Q : Unit → St → Prop} : wp (wrI 2127 i v) σ Q = Q () (stA σ.1 2127 (ups (σ.1 2127) i.toNat v), σ.2) := c_wrI (n := 1000) L2127 h1 h2
theorem RI_2128 (h1 : 0 ≤ i) (h2 : i < 1000) {Q : Int64 → St → Prop} : wp (rdL 2128 i) σ Q = Q (σ.2.1 2128 i.toNat) σ := c_rdL (n := 1000) L2128 h1 h2
theorem RV_2128 (h1 : 0 ≤ i) (h2 : i < 1000) {v : Int64} {Q : Unit → St → Prop} : wp (wrL 2128 i v) σ Q = Q () (σ.1, stA σ.2.1 2128 (ups (σ.2.1 2128) i.toNat v), σ.2.2) := c_wrL (n := 1000) L2128 h1 h2
theorem RI_2129 (h1 : 0 ≤ i) (h2 : i < 1000) {Q : Int → St → Prop} : wp (rdI 2129 i) σ Q = Q (σ.1 2129 i.toNat) σ := c_rdI (n := 1000) L2129 h1 h2
theorem RV_2129 (h1 : 0 ≤ i) (h2 : i < 1000) {v : Int} {Q : Unit → St → Prop} : wp (wrI 2129 i v) σ Q = Q () (stA σ.1 2129 (ups (σ.1 2129) i.toNat v), σ.2) := c_wrI (n := 1000) L2129 h1 h2
theorem RI_2130 (h1 : 0 ≤ i) (h2 : i < 1000) {Q : Int64 → St → Prop} : wp (rdL 2130 i) σ Q = Q (σ.2.1 2130 i.toNat) σ := c_rdL (n := 1000) L2130 h1 h2
theorem RV_2130 (h1 : 0 ≤ i) (h2 : i < 1000) {v : Int64} {Q : Unit → St → Prop} : wp (wrL 2130 i v) σ Q = Q () (σ.1, stA σ.2.1 2130 (ups (σ.2.1 2130) i.toNat v), σ.2.2) := c_wrL (n := 1000) L2130 h1 h2
theorem RI_2131 (h1 : 0 ≤ i) (h2 : i < 200) {Q : Int64 → St → Prop} : wp (rdL 2131 i) σ Q = Q (σ.2.1 2131 i.toNat) σ := c_rdL (n := 200) L2131 h1 h2
theorem RV_2131 (h1 : 0 ≤ i) (h2 : i < 200) {v : Int64} {Q : Unit → St → Prop} : wp (wrL 2131 i v) σ Q = Q () (σ.1, stA σ.2.1 2131 (ups (σ.2.1 2131) i.toNat v), σ.2.2) := c_wrL (n := 200) L2131 h1 h2
theorem RI_2132 (h1 : 0 ≤ i) (h2 : i < 5) {Q : Int → St → Prop} : wp (rdI 2132 i) σ Q = Q (σ.1 2132 i.toNat) σ := c_rdI (n := 5) L2132 h1 h2
theorem RV_2132 (h1 : 0 ≤ i) (h2 : i < 5) {v : Int} {Q : Unit → St → Prop} : wp (wrI 2132 i v) σ Q = Q () (stA σ.1 2132 (ups (σ.1 2132) i.toNat v), σ.2) := c_wrI (n := 5) L2132 h1 h2
theorem RI_2133 (h1 : 0 ≤ i) (h2 : i < 5) {Q : Int → St → Prop} : wp (rdI 2133 i) σ Q = Q (σ.1 2133 i.toNat) σ := c_rdI (n := 5) L2133 h1 h2
theorem RV_2133 (h1 : 0 ≤ i) (h2 : i < 5) {v : Int} {Q : Unit → St → Prop} : wp (wrI 2133 i v) σ Q = Q () (stA σ.1 2133 (ups (σ.1 2133) i.toNat v), σ.2) := c_wrI (n := 5) L2133 h1 h2
theorem RI_2134 (h1 : 0 ≤ i) (h2 : i < 200) {Q : Int → St → Prop} : wp (rdI 2134 i) σ Q = Q (σ.1 2134 i.toNat) σ := c_rdI (n := 200) L2134 h1 h2
theorem RV_2134 (h1 : 0 ≤ i) (h2 : i < 200) {v : Int} {Q : Unit → St → Prop} : wp (wrI 2134 i v) σ Q = Q () (stA σ.1 2134 (ups (σ.1 2134) i.toNat v), σ.2) := c_wrI (n := 200) L2134 h1 h2
theorem RI_2135 (h1 : 0 ≤ i) (h2 : i < 40000) {Q : Int → St → Prop} : wp (rdB 2135 i) σ Q = Q (σ.1 2135 i.toNat) σ := c_rdB (n := 40000) (L2135).1 h1 h2
theorem RV_2135 (h1 : 0 ≤ i) (h2 : i < 40000) {v : Int} (h3 : 0 ≤ v) (h4 : v ≤ 1) {Q : Unit → St → Prop} : wp (wrB 2135 i v) σ Q = Q () (stA σ.1 2135 (ups (σ.1 2135) i.toNat v), σ.2) := c_wrZ (n := 40000) L2135 h1 h2 h3 h4
theorem RI_2136 (h1 : 0 ≤ i) (h2 : i < 200) {Q : Int → St → Prop} : wp (rdI 2136 i) σ Q = Q (σ.1 2136 i.toNat) σ := c_rdI (n := 200) L2136 h1 h2
theorem RV_2136 (h1 : 0 ≤ i) (h2 : i < 200) {v : Int} {Q : Unit → St → Prop} : wp (wrI 2136 i v) σ Q = Q () (stA σ.1 2136 (ups (σ.1 2136) i.toNat v), σ.2) := c_wrI (n := 200) L2136 h1 h2
theorem RI_2137 (h1 : 0 ≤ i) (h2 : i < 201) {Q : Int → St → Prop} : wp (rdI 2137 i) σ Q = Q (σ.1 2137 i.toNat) σ := c_rdI (n := 201) L2137 h1 h2
theorem RV_2137 (h1 : 0 ≤ i) (h2 : i < 201) {v : Int} {Q : Unit → St → Prop} : wp (wrI 2137 i v) σ Q = Q () (stA σ.1 2137 (ups (σ.1 2137) i.toNat v), σ.2) := c_wrI (n := 201) L2137 h1 h2
theorem RI_2138 (h1 : 0 ≤ i) (h2 : i < 60100) {Q : Int → St → Prop} : wp (rdB 2138 i) σ Q = Q (σ.1 2138 i.toNat) σ := c_rdB (n := 60100) (L2138).1 h1 h2
theorem RV_2138 (h1 : 0 ≤ i) (h2 : i < 60100) {v : Int} (h3 : -128 ≤ v) (h4 : v ≤ 127) {Q : Unit → St → Prop} : wp (wrB 2138 i v) σ Q = Q () (stA σ.1 2138 (ups (σ.1 2138) i.toNat v), σ.2) := c_wrB (n := 60100) L2138 h1 h2 h3 h4
theorem RI_2139 (h1 : 0 ≤ i) (h2 : i < 110) {Q : Int → St → Prop} : wp (rdI 2139 i) σ Q = Q (σ.1 2139 i.toNat) σ := c_rdI (n := 110) L2139 h1 h2
theorem RV_2139 (h1 : 0 ≤ i) (h2 : i < 110) {v : Int} {Q : Unit → St → Prop} : wp (wrI 2139 i v) σ Q = Q () (stA σ.1 2139 (ups (σ.1 2139) i.toNat v), σ.2) := c_wrI (n := 110) L2139 h1 h2
theorem RI_2140 (h1 : 0 ≤ i) (h2 : i < 200) {Q : Int64 → St → Prop} : wp (rdL 2140 i) σ Q = Q (σ.2.1 2140 i.toNat) σ := c_rdL (n := 200) L2140 h1 h2
theorem RV_2140 (h1 : 0 ≤ i) (h2 : i < 200) {v : Int64} {Q : Unit → St → Prop} : wp (wrL 2140 i v) σ Q = Q () (σ.1, stA σ.2.1 2140 (ups (σ.2.1 2140) i.toNat v), σ.2.2) := c_wrL (n := 200) L2140 h1 h2
theorem RI_2141 (h1 : 0 ≤ i) (h2 : i < 5) {Q : Int → St → Prop} : wp (rdB 2141 i) σ Q = Q (σ.1 2141 i.toNat) σ := c_rdB (n := 5) (L2141).1 h1 h2
theorem RV_2141 (h1 : 0 ≤ i) (h2 : i < 5) {v : Int} (h3 : 0 ≤ v) (h4 : v ≤ 1) {Q : Unit → St → Prop} : wp (wrB 2141 i v) σ Q = Q () (stA σ.1 2141 (ups (σ.1 2141) i.toNat v), σ.2) := c_wrZ (n := 5) L2141 h1 h2 h3 h4
theorem RI_2142 (h1 : 0 ≤ i) (h2 : i < 5) {Q : Int → St → Prop} : wp (rdI 2142 i) σ Q = Q (σ.1 2142 i.toNat) σ := c_rdI (n := 5) L2142 h1 h2
theorem RV_2142 (h1 : 0 ≤ i) (h2 : i < 5) {v : Int} {Q : Unit → St → Prop} : wp (wrI 2142 i v) σ Q = Q () (stA σ.1 2142 (ups (σ.1 2142) i.toNat v), σ.2) := c_wrI (n := 5) L2142 h1 h2
theorem RI_2143 (h1 : 0 ≤ i) (h2 : i < 5) {Q : Int → St → Prop} : wp (rdI 2143 i) σ Q = Q (σ.1 2143 i.toNat) σ := c_rdI (n := 5) L2143 h1 h2
theorem RV_2143 (h1 : 0 ≤ i) (h2 : i < 5) {v : Int} {Q : Unit → St → Prop} : wp (wrI 2143 i v) σ Q = Q () (stA σ.1 2143 (ups (σ.1 2143) i.toNat v), σ.2) := c_wrI (n := 5) L2143 h1 h2
theorem RI_2144 (h1 : 0 ≤ i) (h2 : i < 5) {Q : Int → St → Prop} : wp (rdI 2144 i) σ Q = Q (σ.1 2144 i.toNat) σ := c_rdI (n := 5) L2144 h1 h2
theorem RV_2144 (h1 : 0 ≤ i) (h2 : i < 5) {v : Int} {Q : Unit → St → Prop} : wp (wrI 2144 i v) σ Q = Q () (stA σ.1 2144 (ups (σ.1 2144) i.toNat v), σ.2) := c_wrI (n := 5) L2144 h1 h2
theorem RI_2145 (h1 : 0 ≤ i) (h2 : i < 5) {Q : Int → St → Prop} : wp (rdI 2145 i) σ Q = Q (σ.1 2145 i.toNat) σ := c_rdI (n := 5) L2145 h1 h2
theorem RV_2145 (h1 : 0 ≤ i) (h2 : i < 5) {v : Int} {Q : Unit → St → Prop} : wp (wrI 2145 i v) σ Q = Q () (stA σ.1 2145 (ups (σ.1 2145) i.toNat v), σ.2) := c_wrI (n := 5) L2145 h1 h2
theorem RI_2146 (h1 : 0 ≤ i) (h2 : i < 20000) {Q : Int → St → Prop} : wp (rdI 2146 i) σ Q = Q (σ.1 2146 i.toNat) σ := c_rdI (n := 20000) L2146 h1 h2
theorem RV_2146 (h1 : 0 ≤ i) (h2 : i < 20000) {v : Int} {Q : Unit → St → Prop} : wp (wrI 2146 i v) σ Q = Q () (stA σ.1 2146 (ups (σ.1 2146) i.toNat v), σ.2) := c_wrI (n := 20000) L2146 h1 h2
theorem RI_2147 (h1 : 0 ≤ i) (h2 : i < 20000) {Q : Int → St → Prop} : wp (rdI 2147 i) σ Q = Q (σ.1 2147 i.toNat) σ := c_rdI (n := 20000) L2147 h1 h2
theorem RV_2147 (h1 : 0 ≤ i) (h2 : i < 20000) {v : Int} {Q : Unit → St → Prop} : wp (wrI 2147 i v) σ Q = Q () (stA σ.1 2147 (ups (σ.1 2147) i.toNat v), σ.2) := c_wrI (n := 20000) L2147 h1 h2
theorem RI_2148 (h1 : 0 ≤ i) (h2 : i < 320) {Q : Int → St → Prop} : wp (rdI 2148 i) σ Q = Q (σ.1 2148 i.toNat) σ := c_rdI (n := 320) L2148 h1 h2
theorem RV_2148 (h1 : 0 ≤ i) (h2 : i < 320) {v : Int} {Q : Unit → St → Prop} : wp (wrI 2148 i v) σ Q = Q () (stA σ.1 2148 (ups (σ.1 2148) i.toNat v), σ.2) := c_wrI (n := 320) L2148 h1 h2
theorem RI_2149 (h1 : 0 ≤ i) (h2 : i < 1000) {Q : Int → St → Prop} : wp (rdI 2149 i) σ Q = Q (σ.1 2149 i.toNat) σ := c_rdI (n := 1000) L2149 h1 h2
theorem RV_2149 (h1 : 0 ≤ i) (h2 : i < 1000) {v : Int} {Q : Unit → St → Prop} : wp (wrI 2149 i v) σ Q = Q () (stA σ.1 2149 (ups (σ.1 2149) i.toNat v), σ.2) := c_wrI (n := 1000) L2149 h1 h2
theorem RI_2150 (h1 : 0 ≤ i) (h2 : i < 1000) {Q : Int → St → Prop} : wp (rdI 2150 i) σ Q = Q (σ.1 2150 i.toNat) σ := c_rdI (n := 1000) L2150 h1 h2
theorem RV_2150 (h1 : 0 ≤ i) (h2 : i < 1000) {v : Int} {Q : Unit → St → Prop} : wp (wrI 2150 i v) σ Q = Q () (stA σ.1 2150 (ups (σ.1 2150) i.toNat v), σ.2) := c_wrI (n := 1000) L2150 h1 h2
theorem RI_2151 (h1 : 0 ≤ i) (h2 : i < 16384) {Q : Int → St → Prop} : wp (rdI 2151 i) σ Q = Q (σ.1 2151 i.toNat) σ := c_rdI (n := 16384) L2151 h1 h2
theorem RV_2151 (h1 : 0 ≤ i) (h2 : i < 16384) {v : Int} {Q : Unit → St → Prop} : wp (wrI 2151 i v) σ Q = Q () (stA σ.1 2151 (ups (σ.1 2151) i.toNat v), σ.2) := c_wrI (n := 16384) L2151 h1 h2
theorem RI_2152 (h1 : 0 ≤ i) (h2 : i < 4000) {Q : Int → St → Prop} : wp (rdI 2152 i) σ Q = Q (σ.1 2152 i.toNat) σ := c_rdI (n := 4000) L2152 h1 h2
theorem RV_2152 (h1 : 0 ≤ i) (h2 : i < 4000) {v : Int} {Q : Unit → St → Prop} : wp (wrI 2152 i v) σ Q = Q () (stA σ.1 2152 (ups (σ.1 2152) i.toNat v), σ.2) := c_wrI (n := 4000) L2152 h1 h2
theorem RI_2153 (h1 : 0 ≤ i) (h2 : i < 200000) {Q : Int → St → Prop} : wp (rdI 2153 i) σ Q = Q (σ.1 2153 i.toNat) σ := c_rdI (n := 200000) L2153 h1 h2
theorem RV_2153 (h1 : 0 ≤ i) (h2 : i < 200000) {v : Int} {Q : Unit → St → Prop} : wp (wrI 2153 i v) σ Q = Q () (stA σ.1 2153 (ups (σ.1 2153) i.toNat v), σ.2) := c_wrI (n := 200000) L2153 h1 h2
theorem RI_2154 (h1 : 0 ≤ i) (h2 : i < 2000) {Q : Int → St → Prop} : wp (rdI 2154 i) σ Q = Q (σ.1 2154 i.toNat) σ := c_rdI (n := 2000) L2154 h1 h2
theorem RV_2154 (h1 : 0 ≤ i) (h2 : i < 2000) {v : Int} {Q : Unit → St → Prop} : wp (wrI 2154 i v) σ Q = Q () (stA σ.1 2154 (ups (σ.1 2154) i.toNat v), σ.2) := c_wrI (n := 2000) L2154 h1 h2
theorem RI_2155 (h1 : 0 ≤ i) (h2 : i < 200) {Q : Int → St → Prop} : wp (rdI 2155 i) σ Q = Q (σ.1 2155 i.toNat) σ := c_rdI (n := 200) L2155 h1 h2
theorem RV_2155 (h1 : 0 ≤ i) (h2 : i < 200) {v : Int} {Q : Unit → St → Prop} : wp (wrI 2155 i v) σ Q = Q () (stA σ.1 2155 (ups (σ.1 2155) i.toNat v), σ.2) := c_wrI (n := 200) L2155 h1 h2
theorem RI_2156 (h1 : 0 ≤ i) (h2 : i < 200) {Q : Int → St → Prop} : wp (rdB 2156 i) σ Q = Q (σ.1 2156 i.toNat) σ := c_rdB (n := 200) (L2156).1 h1 h2
theorem RV_2156 (h1 : 0 ≤ i) (h2 : i < 200) {v : Int} (h3 : 0 ≤ v) (h4 : v ≤ 1) {Q : Unit → St → Prop} : wp (wrB 2156 i v) σ Q = Q () (stA σ.1 2156 (ups (σ.1 2156) i.toNat v), σ.2) := c_wrZ (n := 200) L2156 h1 h2 h3 h4
theorem RI_2157 (h1 : 0 ≤ i) (h2 : i < 50000) {Q : Int → St → Prop} : wp (rdI 2157 i) σ Q = Q (σ.1 2157 i.toNat) σ := c_rdI (n := 50000) L2157 h1 h2
theorem RV_2157 (h1 : 0 ≤ i) (h2 : i < 50000) {v : Int} {Q : Unit → St → Prop} : wp (wrI 2157 i v) σ Q = Q () (stA σ.1 2157 (ups (σ.1 2157) i.toNat v), σ.2) := c_wrI (n := 50000) L2157 h1 h2
theorem RI_2158 (h1 : 0 ≤ i) (h2 : i < 50000) {Q : Int → St → Prop} : wp (rdB 2158 i) σ Q = Q (σ.1 2158 i.toNat) σ := c_rdB (n := 50000) (L2158).1 h1 h2
theorem RV_2158 (h1 : 0 ≤ i) (h2 : i < 50000) {v : Int} (h3 : 0 ≤ v) (h4 : v ≤ 1) {Q : Unit → St → Prop} : wp (wrB 2158 i v) σ Q = Q () (stA σ.1 2158 (ups (σ.1 2158) i.toNat v), σ.2) := c_wrZ (n := 50000) L2158 h1 h2 h3 h4
theorem RI_2159 (h1 : 0 ≤ i) (h2 : i < 30) {Q : Int → St → Prop} : wp (rdI 2159 i) σ Q = Q (σ.1 2159 i.toNat) σ := c_rdI (n := 30) L2159 h1 h2
theorem RV_2159 (h1 : 0 ≤ i) (h2 : i < 30) {v : Int} {Q : Unit → St → Prop} : wp (wrI 2159 i v) σ Q = Q () (stA σ.1 2159 (ups (σ.1 2159) i.toNat v), σ.2) := c_wrI (n := 30) L2159 h1 h2
theorem RI_2160 (h1 : 0 ≤ i) (h2 : i < 60) {Q : Int → St → Prop} : wp (rdI 2160 i) σ Q = Q (σ.1 2160 i.toNat) σ := c_rdI (n := 60) L2160 h1 h2
theorem RV_2160 (h1 : 0 ≤ i) (h2 : i < 60) {v : Int} {Q : Unit → St → Prop} : wp (wrI 2160 i v) σ Q = Q () (stA σ.1 2160 (ups (σ.1 2160) i.toNat v), σ.2) := c_wrI (n := 60) L2160 h1 h2
theorem RI_2161 (h1 : 0 ≤ i) (h2 : i < 60) {Q : Int → St → Prop} : wp (rdI 2161 i) σ Q = Q (σ.1 2161 i.toNat) σ := c_rdI (n := 60) L2161 h1 h2
theorem RV_2161 (h1 : 0 ≤ i) (h2 : i < 60) {v : Int} {Q : Unit → St → Prop} : wp (wrI 2161 i v) σ Q = Q () (stA σ.1 2161 (ups (σ.1 2161) i.toNat v), σ.2) := c_wrI (n := 60) L2161 h1 h2
theorem RI_2162 (h1 : 0 ≤ i) (h2 : i < 60) {Q : Int → St → Prop} : wp (rdI 2162 i) σ Q = Q (σ.1 2162 i.toNat) σ := c_rdI (n := 60) L2162 h1 h2
theorem RV_2162 (h1 : 0 ≤ i) (h2 : i < 60) {v : Int} {Q : Unit → St → Prop} : wp (wrI 2162 i v) σ Q = Q () (stA σ.1 2162 (ups (σ.1 2162) i.toNat v), σ.2) := c_wrI (n := 60) L2162 h1 h2
theorem RI_2163 (h1 : 0 ≤ i) (h2 : i < 60) {Q : Int → St → Prop} : wp (rdI 2163 i) σ Q = Q (σ.1 2163 i.toNat) σ := c_rdI (n := 60) L2163 h1 h2
theorem RV_2163 (h1 : 0 ≤ i) (h2 : i < 60) {v : Int} {Q : Unit → St → Prop} : wp (wrI 2163 i v) σ Q = Q () (stA σ.1 2163 (ups (σ.1 2163) i.toNat v), σ.2) := c_wrI (n := 60) L2163 h1 h2
theorem RI_2164 (h1 : 0 ≤ i) (h2 : i < 4300) {Q : Int → St → Prop} : wp (rdI 2164 i) σ Q = Q (σ.1 2164 i.toNat) σ := c_rdI (n := 4300) L2164 h1 h2
theorem RV_2164 (h1 : 0 ≤ i) (h2 : i < 4300) {v : Int} {Q : Unit → St → Prop} : wp (wrI 2164 i v) σ Q = Q () (stA σ.1 2164 (ups (σ.1 2164) i.toNat v), σ.2) := c_wrI (n := 4300) L2164 h1 h2
theorem RI_2165 (h1 : 0 ≤ i) (h2 : i < 4300) {Q : Int64 → St → Prop} : wp (rdL 2165 i) σ Q = Q (σ.2.1 2165 i.toNat) σ := c_rdL (n := 4300) L2165 h1 h2
theorem RV_2165 (h1 : 0 ≤ i) (h2 : i < 4300) {v : Int64} {Q : Unit → St → Prop} : wp (wrL 2165 i v) σ Q = Q () (σ.1, stA σ.2.1 2165 (ups (σ.2.1 2165) i.toNat v), σ.2.2) := c_wrL (n := 4300) L2165 h1 h2
theorem RI_2166 (h1 : 0 ≤ i) (h2 : i < 4300) {Q : Int64 → St → Prop} : wp (rdL 2166 i) σ Q = Q (σ.2.1 2166 i.toNat) σ := c_rdL (n := 4300) L2166 h1 h2
theorem RV_2166 (h1 : 0 ≤ i) (h2 : i < 4300) {v : Int64} {Q : Unit → St → Prop} : wp (wrL 2166 i v) σ Q = Q () (σ.1, stA σ.2.1 2166 (ups (σ.2.1 2166) i.toNat v), σ.2.2) := c_wrL (n := 4300) L2166 h1 h2
theorem RI_2167 (h1 : 0 ≤ i) (h2 : i < 1100800) {Q : Int64 → St → Prop} : wp (rdL 2167 i) σ Q = Q (σ.2.1 2167 i.toNat) σ := c_rdL (n := 1100800) L2167 h1 h2
theorem RV_2167 (h1 : 0 ≤ i) (h2 : i < 1100800) {v : Int64} {Q : Unit → St → Prop} : wp (wrL 2167 i v) σ Q = Q () (σ.1, stA σ.2.1 2167 (ups (σ.2.1 2167) i.toNat v), σ.2.2) := c_wrL (n := 1100800) L2167 h1 h2
theorem RI_2168 (h1 : 0 ≤ i) (h2 : i < 4300) {Q : Int → St → Prop} : wp (rdI 2168 i) σ Q = Q (σ.1 2168 i.toNat) σ := c_rdI (n := 4300) L2168 h1 h2
theorem RV_2168 (h1 : 0 ≤ i) (h2 : i < 4300) {v : Int} {Q : Unit → St → Prop} : wp (wrI 2168 i v) σ Q = Q () (stA σ.1 2168 (ups (σ.1 2168) i.toNat v), σ.2) := c_wrI (n := 4300) L2168 h1 h2
theorem RI_2169 (h1 : 0 ≤ i) (h2 : i < 4300) {Q : Int → St → Prop} : wp (rdB 2169 i) σ Q = Q (σ.1 2169 i.toNat) σ := c_rdB (n := 4300) (L2169).1 h1 h2
theorem RV_2169 (h1 : 0 ≤ i) (h2 : i < 4300) {v : Int} (h3 : 0 ≤ v) (h4 : v ≤ 1) {Q : Unit → St → Prop} : wp (wrB 2169 i v) σ Q = Q () (stA σ.1 2169 (ups (σ.1 2169) i.toNat v), σ.2) := c_wrZ (n := 4300) L2169 h1 h2 h3 h4
theorem RI_2170 (h1 : 0 ≤ i) (h2 : i < 4300) {Q : Int → St → Prop} : wp (rdI 2170 i) σ Q = Q (σ.1 2170 i.toNat) σ := c_rdI (n := 4300) L2170 h1 h2
theorem RV_2170 (h1 : 0 ≤ i) (h2 : i < 4300) {v : Int} {Q : Unit → St → Prop} : wp (wrI 2170 i v) σ Q = Q () (stA σ.1 2170 (ups (σ.1 2170) i.toNat v), σ.2) := c_wrI (n := 4300) L2170 h1 h2
theorem RI_2171 (h1 : 0 ≤ i) (h2 : i < 4096) {Q : Int → St → Prop} : wp (rdI 2171 i) σ Q = Q (σ.1 2171 i.toNat) σ := c_rdI (n := 4096) L2171 h1 h2
theorem RV_2171 (h1 : 0 ≤ i) (h2 : i < 4096) {v : Int} {Q : Unit → St → Prop} : wp (wrI 2171 i v) σ Q = Q () (stA σ.1 2171 (ups (σ.1 2171) i.toNat v), σ.2) := c_wrI (n := 4096) L2171 h1 h2
theorem RI_2172 (h1 : 0 ≤ i) (h2 : i < 4300) {Q : Int → St → Prop} : wp (rdI 2172 i) σ Q = Q (σ.1 2172 i.toNat) σ := c_rdI (n := 4300) L2172 h1 h2
theorem RV_2172 (h1 : 0 ≤ i) (h2 : i < 4300) {v : Int} {Q : Unit → St → Prop} : wp (wrI 2172 i v) σ Q = Q () (stA σ.1 2172 (ups (σ.1 2172) i.toNat v), σ.2) := c_wrI (n := 4300) L2172 h1 h2
theorem RI_2173 (h1 : 0 ≤ i) (h2 : i < 4300) {Q : Int64 → St → Prop} : wp (rdL 2173 i) σ Q = Q (σ.2.1 2173 i.toNat) σ := c_rdL (n := 4300) L2173 h1 h2
theorem RV_2173 (h1 : 0 ≤ i) (h2 : i < 4300) {v : Int64} {Q : Unit → St → Prop} : wp (wrL 2173 i v) σ Q = Q () (σ.1, stA σ.2.1 2173 (ups (σ.2.1 2173) i.toNat v), σ.2.2) := c_wrL (n := 4300) L2173 h1 h2
theorem RI_2174 (h1 : 0 ≤ i) (h2 : i < 600) {Q : Int → St → Prop} : wp (rdI 2174 i) σ Q = Q (σ.1 2174 i.toNat) σ := c_rdI (n := 600) L2174 h1 h2
theorem RV_2174 (h1 : 0 ≤ i) (h2 : i < 600) {v : Int} {Q : Unit → St → Prop} : wp (wrI 2174 i v) σ Q = Q () (stA σ.1 2174 (ups (σ.1 2174) i.toNat v), σ.2) := c_wrI (n := 600) L2174 h1 h2
theorem RI_2175 (h1 : 0 ≤ i) (h2 : i < 24000) {Q : Int → St → Prop} : wp (rdI 2175 i) σ Q = Q (σ.1 2175 i.toNat) σ := c_rdI (n := 24000) L2175 h1 h2
theorem RV_2175 (h1 : 0 ≤ i) (h2 : i < 24000) {v : Int} {Q : Unit → St → Prop} : wp (wrI 2175 i v) σ Q = Q () (stA σ.1 2175 (ups (σ.1 2175) i.toNat v), σ.2) := c_wrI (n := 24000) L2175 h1 h2
theorem RI_2176 (h1 : 0 ≤ i) (h2 : i < 120000) {Q : Int → St → Prop} : wp (rdI 2176 i) σ Q = Q (σ.1 2176 i.toNat) σ := c_rdI (n := 120000) L2176 h1 h2
theorem RV_2176 (h1 : 0 ≤ i) (h2 : i < 120000) {v : Int} {Q : Unit → St → Prop} : wp (wrI 2176 i v) σ Q = Q () (stA σ.1 2176 (ups (σ.1 2176) i.toNat v), σ.2) := c_wrI (n := 120000) L2176 h1 h2
theorem RI_2177 (h1 : 0 ≤ i) (h2 : i < 600) {Q : Int → St → Prop} : wp (rdI 2177 i) σ Q = Q (σ.1 2177 i.toNat) σ := c_rdI (n := 600) L2177 h1 h2
theorem RV_2177 (h1 : 0 ≤ i) (h2 : i < 600) {v : Int} {Q : Unit → St → Prop} : wp (wrI 2177 i v) σ Q = Q () (stA σ.1 2177 (ups (σ.1 2177) i.toNat v), σ.2) := c_wrI (n := 600) L2177 h1 h2
theorem RI_2178 (h1 : 0 ≤ i) (h2 : i < 300) {Q : Int → St → Prop} : wp (rdI 2178 i) σ Q = Q (σ.1 2178 i.toNat) σ := c_rdI (n := 300) L2178 h1 h2
theorem RV_2178 (h1 : 0 ≤ i) (h2 : i < 300) {v : Int} {Q : Unit → St → Prop} : wp (wrI 2178 i v) σ Q = Q () (stA σ.1 2178 (ups (σ.1 2178) i.toNat v), σ.2) := c_wrI (n := 300) L2178 h1 h2
theorem RI_2179 (h1 : 0 ≤ i) (h2 : i < 300) {Q : Int → St → Prop} : wp (rdI 2179 i) σ Q = Q (σ.1 2179 i.toNat) σ := c_rdI (n := 300) L2179 h1 h2
theorem RV_2179 (h1 : 0 ≤ i) (h2 : i < 300) {v : Int} {Q : Unit → St → Prop} : wp (wrI 2179 i v) σ Q = Q () (stA σ.1 2179 (ups (σ.1 2179) i.toNat v), σ.2) := c_wrI (n := 300) L2179 h1 h2
theorem RI_2180 (h1 : 0 ≤ i) (h2 : i < 1500) {Q : Int → St → Prop} : wp (rdI 2180 i) σ Q = Q (σ.1 2180 i.toNat) σ := c_rdI (n := 1500) L2180 h1 h2
theorem RV_2180 (h1 : 0 ≤ i) (h2 : i < 1500) {v : Int} {Q : Unit → St → Prop} : wp (wrI 2180 i v) σ Q = Q () (stA σ.1 2180 (ups (σ.1 2180) i.toNat v), σ.2) := c_wrI (n := 1500) L2180 h1 h2
theorem RI_2181 (h1 : 0 ≤ i) (h2 : i < 300) {Q : Int → St → Prop} : wp (rdI 2181 i) σ Q = Q (σ.1 2181 i.toNat) σ := c_rdI (n := 300) L2181 h1 h2
theorem RV_2181 (h1 : 0 ≤ i) (h2 : i < 300) {v : Int} {Q : Unit → St → Prop} : wp (wrI 2181 i v) σ Q = Q () (stA σ.1 2181 (ups (σ.1 2181) i.toNat v), σ.2) := c_wrI (n := 300) L2181 h1 h2
theorem RI_2182 (h1 : 0 ≤ i) (h2 : i < 300) {Q : Int → St → Prop} : wp (rdI 2182 i) σ Q = Q (σ.1 2182 i.toNat) σ := c_rdI (n := 300) L2182 h1 h2
theorem RV_2182 (h1 : 0 ≤ i) (h2 : i < 300) {v : Int} {Q : Unit → St → Prop} : wp (wrI 2182 i v) σ Q = Q () (stA σ.1 2182 (ups (σ.1 2182) i.toNat v), σ.2) := c_wrI (n := 300) L2182 h1 h2
theorem RI_2183 (h1 : 0 ≤ i) (h2 : i < 10) {Q : Int → St → Prop} : wp (rdI 2183 i) σ Q = Q (σ.1 2183 i.toNat) σ := c_rdI (n := 10) L2183 h1 h2
theorem RV_2183 (h1 : 0 ≤ i) (h2 : i < 10) {v : Int} {Q : Unit → St → Prop} : wp (wrI 2183 i v) σ Q = Q () (stA σ.1 2183 (ups (σ.1 2183) i.toNat v), σ.2) := c_wrI (n := 10) L2183 h1 h2
theorem RI_2184 (h1 : 0 ≤ i) (h2 : i < 1700) {Q : Int → St → Prop} : wp (rdI 2184 i) σ Q = Q (σ.1 2184 i.toNat) σ := c_rdI (n := 1700) L2184 h1 h2
theorem RV_2184 (h1 : 0 ≤ i) (h2 : i < 1700) {v : Int} {Q : Unit → St → Prop} : wp (wrI 2184 i v) σ Q = Q () (stA σ.1 2184 (ups (σ.1 2184) i.toNat v), σ.2) := c_wrI (n := 1700) L2184 h1 h2
theorem RI_2185 (h1 : 0 ≤ i) (h2 : i < 8500) {Q : Int → St → Prop} : wp (rdI 2185 i) σ Q = Q (σ.1 2185 i.toNat) σ := c_rdI (n := 8500) L2185 h1 h2
theorem RV_2185 (h1 : 0 ≤ i) (h2 : i < 8500) {v : Int} {Q : Unit → St → Prop} : wp (wrI 2185 i v) σ Q = Q () (stA σ.1 2185 (ups (σ.1 2185) i.toNat v), σ.2) := c_wrI (n := 8500) L2185 h1 h2
theorem RI_2186 (h1 : 0 ≤ i) (h2 : i < 4200) {Q : Int → St → Prop} : wp (rdI 2186 i) σ Q = Q (σ.1 2186 i.toNat) σ := c_rdI (n := 4200) L2186 h1 h2
theorem RV_2186 (h1 : 0 ≤ i) (h2 : i < 4200) {v : Int} {Q : Unit → St → Prop} : wp (wrI 2186 i v) σ Q = Q () (stA σ.1 2186 (ups (σ.1 2186) i.toNat v), σ.2) := c_wrI (n := 4200) L2186 h1 h2
theorem RI_2187 (h1 : 0 ≤ i) (h2 : i < 4096) {Q : Int → St → Prop} : wp (rdI 2187 i) σ Q = Q (σ.1 2187 i.toNat) σ := c_rdI (n := 4096) L2187 h1 h2
theorem RV_2187 (h1 : 0 ≤ i) (h2 : i < 4096) {v : Int} {Q : Unit → St → Prop} : wp (wrI 2187 i v) σ Q = Q () (stA σ.1 2187 (ups (σ.1 2187) i.toNat v), σ.2) := c_wrI (n := 4096) L2187 h1 h2
theorem RI_2188 (h1 : 0 ≤ i) (h2 : i < 4096) {Q : Int → St → Prop} : wp (rdI 2188 i) σ Q = Q (σ.1 2188 i.toNat) σ := c_rdI (n := 4096) L2188 h1 h2
theorem RV_2188 (h1 : 0 ≤ i) (h2 : i < 4096) {v : Int} {Q : Unit → St → Prop} : wp (wrI 2188 i v) σ Q = Q () (stA σ.1 2188 (ups (σ.1 2188) i.toNat v), σ.2) := c_wrI (n := 4096) L2188 h1 h2
theorem RI_2189 (h1 : 0 ≤ i) (h2 : i < 1024) {Q : Int → St → Prop} : wp (rdI 2189 i) σ Q = Q (σ.1 2189 i.toNat) σ := c_rdI (n := 1024) L2189 h1 h2
theorem RV_2189 (h1 : 0 ≤ i) (h2 : i < 1024) {v : Int} {Q : Unit → St → Prop} : wp (wrI 2189 i v) σ Q = Q () (stA σ.1 2189 (ups (σ.1 2189) i.toNat v), σ.2) := c_wrI (n := 1024) L2189 h1 h2
theorem RI_2190 (h1 : 0 ≤ i) (h2 : i < 1024) {Q : Int → St → Prop} : wp (rdB 2190 i) σ Q = Q (σ.1 2190 i.toNat) σ := c_rdB (n := 1024) (L2190).1 h1 h2
theorem RV_2190 (h1 : 0 ≤ i) (h2 : i < 1024) {v : Int} (h3 : 0 ≤ v) (h4 : v ≤ 1) {Q : Unit → St → Prop} : wp (wrB 2190 i v) σ Q = Q () (stA σ.1 2190 (ups (σ.1 2190) i.toNat v), σ.2) := c_wrZ (n := 1024) L2190 h1 h2 h3 h4
theorem RI_2191 (h1 : 0 ≤ i) (h2 : i < 1024) {Q : Int → St → Prop} : wp (rdB 2191 i) σ Q = Q (σ.1 2191 i.toNat) σ := c_rdB (n := 1024) (L2191).1 h1 h2
theorem RV_2191 (h1 : 0 ≤ i) (h2 : i < 1024) {v : Int} (h3 : 0 ≤ v) (h4 : v ≤ 1) {Q : Unit → St → Prop} : wp (wrB 2191 i v) σ Q = Q () (stA σ.1 2191 (ups (σ.1 2191) i.toNat v), σ.2) := c_wrZ (n := 1024) L2191 h1 h2 h3 h4
theorem RI_2192 (h1 : 0 ≤ i) (h2 : i < 64) {Q : Int → St → Prop} : wp (rdI 2192 i) σ Q = Q (σ.1 2192 i.toNat) σ := c_rdI (n := 64) L2192 h1 h2
theorem RV_2192 (h1 : 0 ≤ i) (h2 : i < 64) {v : Int} {Q : Unit → St → Prop} : wp (wrI 2192 i v) σ Q = Q () (stA σ.1 2192 (ups (σ.1 2192) i.toNat v), σ.2) := c_wrI (n := 64) L2192 h1 h2
theorem RI_2193 (h1 : 0 ≤ i) (h2 : i < 14) {Q : Int64 → St → Prop} : wp (rdL 2193 i) σ Q = Q (σ.2.1 2193 i.toNat) σ := c_rdL (n := 14) L2193 h1 h2
theorem RV_2193 (h1 : 0 ≤ i) (h2 : i < 14) {v : Int64} {Q : Unit → St → Prop} : wp (wrL 2193 i v) σ Q = Q () (σ.1, stA σ.2.1 2193 (ups (σ.2.1 2193) i.toNat v), σ.2.2) := c_wrL (n := 14) L2193 h1 h2
theorem RI_2194 (h1 : 0 ≤ i) (h2 : i < 1700) {Q : Int64 → St → Prop} : wp (rdL 2194 i) σ Q = Q (σ.2.1 2194 i.toNat) σ := c_rdL (n := 1700) L2194 h1 h2
theorem RV_2194 (h1 : 0 ≤ i) (h2 : i < 1700) {v : Int64} {Q : Unit → St → Prop} : wp (wrL 2194 i v) σ Q = Q () (σ.1, stA σ.2.1 2194 (ups (σ.2.1 2194) i.toNat v), σ.2.2) := c_wrL (n := 1700) L2194 h1 h2
theorem RI_2195 (h1 : 0 ≤ i) (h2 : i < 420) {Q : Int → St → Prop} : wp (rdB 2195 i) σ Q = Q (σ.1 2195 i.toNat) σ := c_rdB (n := 420) (L2195).1 h1 h2
theorem RV_2195 (h1 : 0 ≤ i) (h2 : i < 420) {v : Int} (h3 : 0 ≤ v) (h4 : v ≤ 1) {Q : Unit → St → Prop} : wp (wrB 2195 i v) σ Q = Q () (stA σ.1 2195 (ups (σ.1 2195) i.toNat v), σ.2) := c_wrZ (n := 420) L2195 h1 h2 h3 h4
theorem RI_2196 (h1 : 0 ≤ i) (h2 : i < 64) {Q : Int → St → Prop} : wp (rdI 2196 i) σ Q = Q (σ.1 2196 i.toNat) σ := c_rdI (n := 64) L2196 h1 h2
theorem RV_2196 (h1 : 0 ≤ i) (h2 : i < 64) {v : Int} {Q : Unit → St → Prop} : wp (wrI 2196 i v) σ Q = Q () (stA σ.1 2196 (ups (σ.1 2196) i.toNat v), σ.2) := c_wrI (n := 64) L2196 h1 h2
theorem NI_1 {o : Nat} (hh : isN o) (h1 : 0 ≤ i) (h2 : i < 4000) {Q : Int → St → Prop} : wp (rdI (o + 1) i) σ Q = Q (σ.1 (o + 1) i.toNat) σ := c_rdI (n := 4000) (LN hh).1 h1 h2
theorem NV_1 {o : Nat} (hh : isN o) (h1 : 0 ≤ i) (h2 : i < 4000) {v : Int} {Q : Unit → St → Prop} : wp (wrI (o + 1) i v) σ Q = Q () (stA σ.1 (o + 1) (ups (σ.1 (o + 1)) i.toNat v), σ.2) := c_wrI (n := 4000) (LN hh).1 h1 h2
theorem NI_2 {o : Nat} (hh : isN o) (h1 : 0 ≤ i) (h2 : i < 4000) {Q : Int → St → Prop} : wp (rdI (o + 2) i) σ Q = Q (σ.1 (o + 2) i.toNat) σ := c_rdI (n := 4000) (LN hh).2.2.1 h1 h2
theorem NV_2 {o : Nat} (hh : isN o) (h1 : 0 ≤ i) (h2 : i < 4000) {v : Int} {Q : Unit → St → Prop} : wp (wrI (o + 2) i v) σ Q = Q () (stA σ.1 (o + 2) (ups (σ.1 (o + 2)) i.toNat v), σ.2) := c_wrI (n := 4000) (LN hh).2.2.1 h1 h2
theorem NI_3 {o : Nat} (hh : isN o) (h1 : 0 ≤ i) (h2 : i < 64) {Q : Int → St → Prop} : wp (rdI (o + 3) i) σ Q = Q (σ.1 (o + 3) i.toNat) σ := c_rdI (n := 64) (LN hh).2.2.2.2.1 h1 h2
theorem NV_3 {o : Nat} (hh : isN o) (h1 : 0 ≤ i) (h2 : i < 64) {v : Int} {Q : Unit → St → Prop} : wp (wrI (o + 3) i v) σ Q = Q () (stA σ.1 (o + 3) (ups (σ.1 (o + 3)) i.toNat v), σ.2) := c_wrI (n := 64) (LN hh).2.2.2.2.1 h1 h2
theorem NI_4 {o : Nat} (hh : isN o) (h1 : 0 ≤ i) (h2 : i < 200) {Q : Int → St → Prop} : wp (rdI (o + 4) i) σ Q = Q (σ.1 (o + 4) i.toNat) σ := c_rdI (n := 200) (LN hh).2.2.2.2.2.2.1 h1 h2
theorem NV_4 {o : Nat} (hh : isN o) (h1 : 0 ≤ i) (h2 : i < 200) {v : Int} {Q : Unit → St → Prop} : wp (wrI (o + 4) i v) σ Q = Q () (stA σ.1 (o + 4) (ups (σ.1 (o + 4)) i.toNat v), σ.2) := c_wrI (n := 200) (LN hh).2.2.2.2.2.2.1 h1 h2
theorem NI_5 {o : Nat} (hh : isN o) (h1 : 0 ≤ i) (h2 : i < 200) {Q : Int → St → Prop} : wp (rdI (o + 5) i) σ Q = Q (σ.1 (o + 5) i.toNat) σ := c_rdI (n := 200) (LN hh).2.2.2.2.2.2.2.2.1 h1 h2
theorem NV_5 {o : Nat} (hh : isN o) (h1 : 0 ≤ i) (h2 : i < 200) {v : Int} {Q : Unit → St → Prop} : wp (wrI (o + 5) i v) σ Q = Q () (stA σ.1 (o + 5) (ups (σ.1 (o + 5)) i.toNat v), σ.2) := c_wrI (n := 200) (LN hh).2.2.2.2.2.2.2.2.1 h1 h2
theorem DI_1 {d : Nat} (hh : isD d) (h1 : 0 ≤ i) (h2 : i < 12) {Q : Option Nat → St → Prop} : wp (rdQ (d + 1) i) σ Q = Q (σ.2.2 (d + 1) i.toNat) σ := c_rdQ (n := 12) (LD hh).1 h1 h2
theorem DI_2 {d : Nat} (hh : isD d) (h1 : 0 ≤ i) (h2 : i < 101) {Q : Int → St → Prop} : wp (rdI (d + 2) i) σ Q = Q (σ.1 (d + 2) i.toNat) σ := c_rdI (n := 101) (LD hh).2.2.1 h1 h2
theorem DV_2 {d : Nat} (hh : isD d) (h1 : 0 ≤ i) (h2 : i < 101) {v : Int} {Q : Unit → St → Prop} : wp (wrI (d + 2) i v) σ Q = Q () (stA σ.1 (d + 2) (ups (σ.1 (d + 2)) i.toNat v), σ.2) := c_wrI (n := 101) (LD hh).2.2.1 h1 h2
theorem DI_3 {d : Nat} (hh : isD d) (h1 : 0 ≤ i) (h2 : i < 101) {Q : Int → St → Prop} : wp (rdI (d + 3) i) σ Q = Q (σ.1 (d + 3) i.toNat) σ := c_rdI (n := 101) (LD hh).2.2.2.2.1 h1 h2
theorem DV_3 {d : Nat} (hh : isD d) (h1 : 0 ≤ i) (h2 : i < 101) {v : Int} {Q : Unit → St → Prop} : wp (wrI (d + 3) i v) σ Q = Q () (stA σ.1 (d + 3) (ups (σ.1 (d + 3)) i.toNat v), σ.2) := c_wrI (n := 101) (LD hh).2.2.2.2.1 h1 h2
theorem DI_4 {d : Nat} (hh : isD d) (h1 : 0 ≤ i) (h2 : i < 101) {Q : Int → St → Prop} : wp (rdI (d + 4) i) σ Q = Q (σ.1 (d + 4) i.toNat) σ := c_rdI (n := 101) (LD hh).2.2.2.2.2.2.1 h1 h2
theorem DV_4 {d : Nat} (hh : isD d) (h1 : 0 ≤ i) (h2 : i < 101) {v : Int} {Q : Unit → St → Prop} : wp (wrI (d + 4) i v) σ Q = Q () (stA σ.1 (d + 4) (ups (σ.1 (d + 4)) i.toNat v), σ.2) := c_wrI (n := 101) (LD hh).2.2.2.2.2.2.1 h1 h2
theorem DI_5 {d : Nat} (hh : isD d) (h1 : 0 ≤ i) (h2 : i < 101) {Q : Int → St → Prop} : wp (rdI (d + 5) i) σ Q = Q (σ.1 (d + 5) i.toNat) σ := c_rdI (n := 101) (LD hh).2.2.2.2.2.2.2.2.1 h1 h2
theorem DV_5 {d : Nat} (hh : isD d) (h1 : 0 ≤ i) (h2 : i < 101) {v : Int} {Q : Unit → St → Prop} : wp (wrI (d + 5) i v) σ Q = Q () (stA σ.1 (d + 5) (ups (σ.1 (d + 5)) i.toNat v), σ.2) := c_wrI (n := 101) (LD hh).2.2.2.2.2.2.2.2.1 h1 h2
theorem DI_6 {d : Nat} (hh : isD d) (h1 : 0 ≤ i) (h2 : i < 4040) {Q : Int → St → Prop} : wp (rdI (d + 6) i) σ Q = Q (σ.1 (d + 6) i.toNat) σ := c_rdI (n := 4040) (LD hh).2.2.2.2.2.2.2.2.2.2.1 h1 h2
theorem DV_6 {d : Nat} (hh : isD d) (h1 : 0 ≤ i) (h2 : i < 4040) {v : Int} {Q : Unit → St → Prop} : wp (wrI (d + 6) i v) σ Q = Q () (stA σ.1 (d + 6) (ups (σ.1 (d + 6)) i.toNat v), σ.2) := c_wrI (n := 4040) (LD hh).2.2.2.2.2.2.2.2.2.2.1 h1 h2
theorem DI_7 {d : Nat} (hh : isD d) (h1 : 0 ≤ i) (h2 : i < 200) {Q : Int → St → Prop} : wp (rdI (d + 7) i) σ Q = Q (σ.1 (d + 7) i.toNat) σ := c_rdI (n := 200) (LD hh).2.2.2.2.2.2.2.2.2.2.2.2.1 h1 h2
theorem DV_7 {d : Nat} (hh : isD d) (h1 : 0 ≤ i) (h2 : i < 200) {v : Int} {Q : Unit → St → Prop} : wp (wrI (d + 7) i v) σ Q = Q () (stA σ.1 (d + 7) (ups (σ.1 (d + 7)) i.toNat v), σ.2) := c_wrI (n := 200) (LD hh).2.2.2.2.2.2.2.2.2.2.2.2.1 h1 h2
theorem DI_8 {d : Nat} (hh : isD d) (h1 : 0 ≤ i) (h2 : i < 200) {Q : Int → St → Prop} : wp (rdI (d + 8) i) σ Q = Q (σ.1 (d + 8) i.toNat) σ := c_rdI (n := 200) (LD hh).2.2.2.2.2.2.2.2.2.2.2.2.2.2.1 h1 h2
theorem DV_8 {d : Nat} (hh : isD d) (h1 : 0 ≤ i) (h2 : i < 200) {v : Int} {Q : Unit → St → Prop} : wp (wrI (d + 8) i v) σ Q = Q () (stA σ.1 (d + 8) (ups (σ.1 (d + 8)) i.toNat v), σ.2) := c_wrI (n := 200) (LD hh).2.2.2.2.2.2.2.2.2.2.2.2.2.2.1 h1 h2
theorem DI_9 {d : Nat} (hh : isD d) (h1 : 0 ≤ i) (h2 : i < 6100) {Q : Int → St → Prop} : wp (rdI (d + 9) i) σ Q = Q (σ.1 (d + 9) i.toNat) σ := c_rdI (n := 6100) (LD hh).2.2.2.2.2.2.2.2.2.2.2.2.2.2.2.2.1 h1 h2
theorem DV_9 {d : Nat} (hh : isD d) (h1 : 0 ≤ i) (h2 : i < 6100) {v : Int} {Q : Unit → St → Prop} : wp (wrI (d + 9) i v) σ Q = Q () (stA σ.1 (d + 9) (ups (σ.1 (d + 9)) i.toNat v), σ.2) := c_wrI (n := 6100) (LD hh).2.2.2.2.2.2.2.2.2.2.2.2.2.2.2.2.1 h1 h2
theorem DI_10 {d : Nat} (hh : isD d) (h1 : 0 ≤ i) (h2 : i < 6100) {Q : Int → St → Prop} : wp (rdI (d + 10) i) σ Q = Q (σ.1 (d + 10) i.toNat) σ := c_rdI (n := 6100) (LD hh).2.2.2.2.2.2.2.2.2.2.2.2.2.2.2.2.2.2.1 h1 h2
theorem DV_10 {d : Nat} (hh : isD d) (h1 : 0 ≤ i) (h2 : i < 6100) {v : Int} {Q : Unit → St → Prop} : wp (wrI (d + 10) i v) σ Q = Q () (stA σ.1 (d + 10) (ups (σ.1 (d + 10)) i.toNat v), σ.2) := c_wrI (n := 6100) (LD hh).2.2.2.2.2.2.2.2.2.2.2.2.2.2.2.2.2.2.1 h1 h2
theorem DI_11 {d : Nat} (hh : isD d) (h1 : 0 ≤ i) (h2 : i < 6100) {Q : Int → St → Prop} : wp (rdI (d + 11) i) σ Q = Q (σ.1 (d + 11) i.toNat) σ := c_rdI (n := 6100) (LD hh).2.2.2.2.2.2.2.2.2.2.2.2.2.2.2.2.2.2.2.2.1 h1 h2
theorem DV_11 {d : Nat} (hh : isD d) (h1 : 0 ≤ i) (h2 : i < 6100) {v : Int} {Q : Unit → St → Prop} : wp (wrI (d + 11) i v) σ Q = Q () (stA σ.1 (d + 11) (ups (σ.1 (d + 11)) i.toNat v), σ.2) := c_wrI (n := 6100) (LD hh).2.2.2.2.2.2.2.2.2.2.2.2.2.2.2.2.2.2.2.2.1 h1 h2
theorem DI_12 {d : Nat} (hh : isD d) (h1 : 0 ≤ i) (h2 : i < 200) {Q : Int → St → Prop} : wp (rdI (d + 12) i) σ Q = Q (σ.1 (d + 12) i.toNat) σ := c_rdI (n := 200) (LD hh).2.2.2.2.2.2.2.2.2.2.2.2.2.2.2.2.2.2.2.2.2.2.1 h1 h2
theorem DV_12 {d : Nat} (hh : isD d) (h1 : 0 ≤ i) (h2 : i < 200) {v : Int} {Q : Unit → St → Prop} : wp (wrI (d + 12) i v) σ Q = Q () (stA σ.1 (d + 12) (ups (σ.1 (d + 12)) i.toNat v), σ.2) := c_wrI (n := 200) (LD hh).2.2.2.2.2.2.2.2.2.2.2.2.2.2.2.2.2.2.2.2.2.2.1 h1 h2
theorem DI_13 {d : Nat} (hh : isD d) (h1 : 0 ≤ i) (h2 : i < 200) {Q : Int → St → Prop} : wp (rdI (d + 13) i) σ Q = Q (σ.1 (d + 13) i.toNat) σ := c_rdI (n := 200) (LD hh).2.2.2.2.2.2.2.2.2.2.2.2.2.2.2.2.2.2.2.2.2.2.2.2.1 h1 h2
theorem DV_13 {d : Nat} (hh : isD d) (h1 : 0 ≤ i) (h2 : i < 200) {v : Int} {Q : Unit → St → Prop} : wp (wrI (d + 13) i v) σ Q = Q () (stA σ.1 (d + 13) (ups (σ.1 (d + 13)) i.toNat v), σ.2) := c_wrI (n := 200) (LD hh).2.2.2.2.2.2.2.2.2.2.2.2.2.2.2.2.2.2.2.2.2.2.2.2.1 h1 h2
theorem DI_14 {d : Nat} (hh : isD d) (h1 : 0 ≤ i) (h2 : i < 800) {Q : Int64 → St → Prop} : wp (rdL (d + 14) i) σ Q = Q (σ.2.1 (d + 14) i.toNat) σ := c_rdL (n := 800) (LD hh).2.2.2.2.2.2.2.2.2.2.2.2.2.2.2.2.2.2.2.2.2.2.2.2.2.2.1 h1 h2
theorem DV_14 {d : Nat} (hh : isD d) (h1 : 0 ≤ i) (h2 : i < 800) {v : Int64} {Q : Unit → St → Prop} : wp (wrL (d + 14) i v) σ Q = Q () (σ.1, stA σ.2.1 (d + 14) (ups (σ.2.1 (d + 14)) i.toNat v), σ.2.2) := c_wrL (n := 800) (LD hh).2.2.2.2.2.2.2.2.2.2.2.2.2.2.2.2.2.2.2.2.2.2.2.2.2.2.1 h1 h2
theorem DI_15 {d : Nat} (hh : isD d) (h1 : 0 ≤ i) (h2 : i < 800) {Q : Int64 → St → Prop} : wp (rdL (d + 15) i) σ Q = Q (σ.2.1 (d + 15) i.toNat) σ := c_rdL (n := 800) (LD hh).2.2.2.2.2.2.2.2.2.2.2.2.2.2.2.2.2.2.2.2.2.2.2.2.2.2.2.2.1 h1 h2
theorem DV_15 {d : Nat} (hh : isD d) (h1 : 0 ≤ i) (h2 : i < 800) {v : Int64} {Q : Unit → St → Prop} : wp (wrL (d + 15) i v) σ Q = Q () (σ.1, stA σ.2.1 (d + 15) (ups (σ.2.1 (d + 15)) i.toNat v), σ.2.2) := c_wrL (n := 800) (LD hh).2.2.2.2.2.2.2.2.2.2.2.2.2.2.2.2.2.2.2.2.2.2.2.2.2.2.2.2.1 h1 h2
theorem DI_16 {d : Nat} (hh : isD d) (h1 : 0 ≤ i) (h2 : i < 200) {Q : Int → St → Prop} : wp (rdI (d + 16) i) σ Q = Q (σ.1 (d + 16) i.toNat) σ := c_rdI (n := 200) (LD hh).2.2.2.2.2.2.2.2.2.2.2.2.2.2.2.2.2.2.2.2.2.2.2.2.2.2.2.2.2.2.1 h1 h2
theorem DV_16 {d : Nat} (hh : isD d) (h1 : 0 ≤ i) (h2 : i < 200) {v : Int} {Q : Unit → St → Prop} : wp (wrI (d + 16) i v) σ Q = Q () (stA σ.1 (d + 16) (ups (σ.1 (d + 16)) i.toNat v), σ.2) := c_wrI (n := 200) (LD hh).2.2.2.2.2.2.2.2.2.2.2.2.2.2.2.2.2.2.2.2.2.2.2.2.2.2.2.2.2.2.1 h1 h2
theorem DI_17 {d : Nat} (hh : isD d) (h1 : 0 ≤ i) (h2 : i < 200) {Q : Int → St → Prop} : wp (rdB (d + 17) i) σ Q = Q (σ.1 (d + 17) i.toNat) σ := c_rdB (n := 200) (LD hh).2.2.2.2.2.2.2.2.2.2.2.2.2.2.2.2.2.2.2.2.2.2.2.2.2.2.2.2.2.2.2.2.1 h1 h2
theorem DV_17 {d : Nat} (hh : isD d) (h1 : 0 ≤ i) (h2 : i < 200) {v : Int} (h3 : 0 ≤ v) (h4 : v ≤ 1) {Q : Unit → St → Prop} : wp (wrB (d + 17) i v) σ Q = Q () (stA σ.1 (d + 17) (ups (σ.1 (d + 17)) i.toNat v), σ.2) := c_wrZ (n := 200) ⟨(LD hh).2.2.2.2.2.2.2.2.2.2.2.2.2.2.2.2.2.2.2.2.2.2.2.2.2.2.2.2.2.2.2.2.1, (LD hh).2.2.2.2.2.2.2.2.2.2.2.2.2.2.2.2.2.2.2.2.2.2.2.2.2.2.2.2.2.2.2.2.2.1⟩ h1 h2 h3 h4
theorem DI_18 {d : Nat} (hh : isD d) (h1 : 0 ≤ i) (h2 : i < 201) {Q : Int → St → Prop} : wp (rdI (d + 18) i) σ Q = Q (σ.1 (d + 18) i.toNat) σ := c_rdI (n := 201) (LD hh).2.2.2.2.2.2.2.2.2.2.2.2.2.2.2.2.2.2.2.2.2.2.2.2.2.2.2.2.2.2.2.2.2.2.2.1 h1 h2
theorem DV_18 {d : Nat} (hh : isD d) (h1 : 0 ≤ i) (h2 : i < 201) {v : Int} {Q : Unit → St → Prop} : wp (wrI (d + 18) i v) σ Q = Q () (stA σ.1 (d + 18) (ups (σ.1 (d + 18)) i.toNat v), σ.2) := c_wrI (n := 201) (LD hh).2.2.2.2.2.2.2.2.2.2.2.2.2.2.2.2.2.2.2.2.2.2.2.2.2.2.2.2.2.2.2.2.2.2.2.1 h1 h2
theorem DI_19 {d : Nat} (hh : isD d) (h1 : 0 ≤ i) (h2 : i < 200) {Q : Int → St → Prop} : wp (rdI (d + 19) i) σ Q = Q (σ.1 (d + 19) i.toNat) σ := c_rdI (n := 200) (LD hh).2.2.2.2.2.2.2.2.2.2.2.2.2.2.2.2.2.2.2.2.2.2.2.2.2.2.2.2.2.2.2.2.2.2.2.2.2.1 h1 h2
theorem DV_19 {d : Nat} (hh : isD d) (h1 : 0 ≤ i) (h2 : i < 200) {v : Int} {Q : Unit → St → Prop} : wp (wrI (d + 19) i v) σ Q = Q () (stA σ.1 (d + 19) (ups (σ.1 (d + 19)) i.toNat v), σ.2) := c_wrI (n := 200) (LD hh).2.2.2.2.2.2.2.2.2.2.2.2.2.2.2.2.2.2.2.2.2.2.2.2.2.2.2.2.2.2.2.2.2.2.2.2.2.1 h1 h2
theorem DI_20 {d : Nat} (hh : isD d) (h1 : 0 ≤ i) (h2 : i < 200) {Q : Int → St → Prop} : wp (rdI (d + 20) i) σ Q = Q (σ.1 (d + 20) i.toNat) σ := c_rdI (n := 200) (LD hh).2.2.2.2.2.2.2.2.2.2.2.2.2.2.2.2.2.2.2.2.2.2.2.2.2.2.2.2.2.2.2.2.2.2.2.2.2.2.2.1 h1 h2
theorem DV_20 {d : Nat} (hh : isD d) (h1 : 0 ≤ i) (h2 : i < 200) {v : Int} {Q : Unit → St → Prop} : wp (wrI (d + 20) i v) σ Q = Q () (stA σ.1 (d + 20) (ups (σ.1 (d + 20)) i.toNat v), σ.2) := c_wrI (n := 200) (LD hh).2.2.2.2.2.2.2.2.2.2.2.2.2.2.2.2.2.2.2.2.2.2.2.2.2.2.2.2.2.2.2.2.2.2.2.2.2.2.2.1 h1 h2
theorem DI_21 {d : Nat} (hh : isD d) (h1 : 0 ≤ i) (h2 : i < 200) {Q : Int → St → Prop} : wp (rdI (d + 21) i) σ Q = Q (σ.1 (d + 21) i.toNat) σ := c_rdI (n := 200) (LD hh).2.2.2.2.2.2.2.2.2.2.2.2.2.2.2.2.2.2.2.2.2.2.2.2.2.2.2.2.2.2.2.2.2.2.2.2.2.2.2.2.2.1 h1 h2
theorem DV_21 {d : Nat} (hh : isD d) (h1 : 0 ≤ i) (h2 : i < 200) {v : Int} {Q : Unit → St → Prop} : wp (wrI (d + 21) i v) σ Q = Q () (stA σ.1 (d + 21) (ups (σ.1 (d + 21)) i.toNat v), σ.2) := c_wrI (n := 200) (LD hh).2.2.2.2.2.2.2.2.2.2.2.2.2.2.2.2.2.2.2.2.2.2.2.2.2.2.2.2.2.2.2.2.2.2.2.2.2.2.2.2.2.1 h1 h2
theorem DI_22 {d : Nat} (hh : isD d) (h1 : 0 ≤ i) (h2 : i < 400) {Q : Int → St → Prop} : wp (rdI (d + 22) i) σ Q = Q (σ.1 (d + 22) i.toNat) σ := c_rdI (n := 400) (LD hh).2.2.2.2.2.2.2.2.2.2.2.2.2.2.2.2.2.2.2.2.2.2.2.2.2.2.2.2.2.2.2.2.2.2.2.2.2.2.2.2.2.2.2.1 h1 h2
theorem DV_22 {d : Nat} (hh : isD d) (h1 : 0 ≤ i) (h2 : i < 400) {v : Int} {Q : Unit → St → Prop} : wp (wrI (d + 22) i v) σ Q = Q () (stA σ.1 (d + 22) (ups (σ.1 (d + 22)) i.toNat v), σ.2) := c_wrI (n := 400) (LD hh).2.2.2.2.2.2.2.2.2.2.2.2.2.2.2.2.2.2.2.2.2.2.2.2.2.2.2.2.2.2.2.2.2.2.2.2.2.2.2.2.2.2.2.1 h1 h2
theorem DI_23 {d : Nat} (hh : isD d) (h1 : 0 ≤ i) (h2 : i < 400) {Q : Int → St → Prop} : wp (rdI (d + 23) i) σ Q = Q (σ.1 (d + 23) i.toNat) σ := c_rdI (n := 400) (LD hh).2.2.2.2.2.2.2.2.2.2.2.2.2.2.2.2.2.2.2.2.2.2.2.2.2.2.2.2.2.2.2.2.2.2.2.2.2.2.2.2.2.2.2.2.2.1 h1 h2
theorem DV_23 {d : Nat} (hh : isD d) (h1 : 0 ≤ i) (h2 : i < 400) {v : Int} {Q : Unit → St → Prop} : wp (wrI (d + 23) i v) σ Q = Q () (stA σ.1 (d + 23) (ups (σ.1 (d + 23)) i.toNat v), σ.2) := c_wrI (n := 400) (LD hh).2.2.2.2.2.2.2.2.2.2.2.2.2.2.2.2.2.2.2.2.2.2.2.2.2.2.2.2.2.2.2.2.2.2.2.2.2.2.2.2.2.2.2.2.2.1 h1 h2
theorem DI_24 {d : Nat} (hh : isD d) (h1 : 0 ≤ i) (h2 : i < 200) {Q : Int → St → Prop} : wp (rdI (d + 24) i) σ Q = Q (σ.1 (d + 24) i.toNat) σ := c_rdI (n := 200) (LD hh).2.2.2.2.2.2.2.2.2.2.2.2.2.2.2.2.2.2.2.2.2.2.2.2.2.2.2.2.2.2.2.2.2.2.2.2.2.2.2.2.2.2.2.2.2.2.2.1 h1 h2
theorem DV_24 {d : Nat} (hh : isD d) (h1 : 0 ≤ i) (h2 : i < 200) {v : Int} {Q : Unit → St → Prop} : wp (wrI (d + 24) i v) σ Q = Q () (stA σ.1 (d + 24) (ups (σ.1 (d + 24)) i.toNat v), σ.2) := c_wrI (n := 200) (LD hh).2.2.2.2.2.2.2.2.2.2.2.2.2.2.2.2.2.2.2.2.2.2.2.2.2.2.2.2.2.2.2.2.2.2.2.2.2.2.2.2.2.2.2.2.2.2.2.1 h1 h2
theorem DI_25 {d : Nat} (hh : isD d) (h1 : 0 ≤ i) (h2 : i < 240) {Q : Int → St → Prop} : wp (rdI (d + 25) i) σ Q = Q (σ.1 (d + 25) i.toNat) σ := c_rdI (n := 240) (LD hh).2.2.2.2.2.2.2.2.2.2.2.2.2.2.2.2.2.2.2.2.2.2.2.2.2.2.2.2.2.2.2.2.2.2.2.2.2.2.2.2.2.2.2.2.2.2.2.2.2.1 h1 h2
theorem DV_25 {d : Nat} (hh : isD d) (h1 : 0 ≤ i) (h2 : i < 240) {v : Int} {Q : Unit → St → Prop} : wp (wrI (d + 25) i v) σ Q = Q () (stA σ.1 (d + 25) (ups (σ.1 (d + 25)) i.toNat v), σ.2) := c_wrI (n := 240) (LD hh).2.2.2.2.2.2.2.2.2.2.2.2.2.2.2.2.2.2.2.2.2.2.2.2.2.2.2.2.2.2.2.2.2.2.2.2.2.2.2.2.2.2.2.2.2.2.2.2.2.1 h1 h2
theorem DI_26 {d : Nat} (hh : isD d) (h1 : 0 ≤ i) (h2 : i < 200) {Q : Int → St → Prop} : wp (rdI (d + 26) i) σ Q = Q (σ.1 (d + 26) i.toNat) σ := c_rdI (n := 200) (LD hh).2.2.2.2.2.2.2.2.2.2.2.2.2.2.2.2.2.2.2.2.2.2.2.2.2.2.2.2.2.2.2.2.2.2.2.2.2.2.2.2.2.2.2.2.2.2.2.2.2.2.2.1 h1 h2
theorem DV_26 {d : Nat} (hh : isD d) (h1 : 0 ≤ i) (h2 : i < 200) {v : Int} {Q : Unit → St → Prop} : wp (wrI (d + 26) i v) σ Q = Q () (stA σ.1 (d + 26) (ups (σ.1 (d + 26)) i.toNat v), σ.2) := c_wrI (n := 200) (LD hh).2.2.2.2.2.2.2.2.2.2.2.2.2.2.2.2.2.2.2.2.2.2.2.2.2.2.2.2.2.2.2.2.2.2.2.2.2.2.2.2.2.2.2.2.2.2.2.2.2.2.2.1 h1 h2
theorem MI_1 {m : Nat} (hh : isMd m) (h1 : 0 ≤ i) (h2 : i < 10) {Q : Int → St → Prop} : wp (rdB (m + 1) i) σ Q = Q (σ.1 (m + 1) i.toNat) σ := c_rdB (n := 10) (LMd hh).1 h1 h2
theorem MV_1 {m : Nat} (hh : isMd m) (h1 : 0 ≤ i) (h2 : i < 10) {v : Int} (h3 : -128 ≤ v) (h4 : v ≤ 127) {Q : Unit → St → Prop} : wp (wrB (m + 1) i v) σ Q = Q () (stA σ.1 (m + 1) (ups (σ.1 (m + 1)) i.toNat v), σ.2) := c_wrB (n := 10) ⟨(LMd hh).1, (LMd hh).2.1⟩ h1 h2 h3 h4
theorem MI_2 {m : Nat} (hh : isMd m) (h1 : 0 ≤ i) (h2 : i < 400) {Q : Int → St → Prop} : wp (rdB (m + 2) i) σ Q = Q (σ.1 (m + 2) i.toNat) σ := c_rdB (n := 400) (LMd hh).2.2.2.1 h1 h2
theorem MV_2 {m : Nat} (hh : isMd m) (h1 : 0 ≤ i) (h2 : i < 400) {v : Int} (h3 : -128 ≤ v) (h4 : v ≤ 127) {Q : Unit → St → Prop} : wp (wrB (m + 2) i v) σ Q = Q () (stA σ.1 (m + 2) (ups (σ.1 (m + 2)) i.toNat v), σ.2) := c_wrB (n := 400) ⟨(LMd hh).2.2.2.1, (LMd hh).2.2.2.2.1⟩ h1 h2 h3 h4
theorem MI_3 {m : Nat} (hh : isMd m) (h1 : 0 ≤ i) (h2 : i < 40) {Q : Int → St → Prop} : wp (rdI (m + 3) i) σ Q = Q (σ.1 (m + 3) i.toNat) σ := c_rdI (n := 40) (LMd hh).2.2.2.2.2.2.1 h1 h2
theorem MV_3 {m : Nat} (hh : isMd m) (h1 : 0 ≤ i) (h2 : i < 40) {v : Int} {Q : Unit → St → Prop} : wp (wrI (m + 3) i v) σ Q = Q () (stA σ.1 (m + 3) (ups (σ.1 (m + 3)) i.toNat v), σ.2) := c_wrI (n := 40) (LMd hh).2.2.2.2.2.2.1 h1 h2
theorem MI_4 {m : Nat} (hh : isMd m) (h1 : 0 ≤ i) (h2 : i < 40) {Q : Int → St → Prop} : wp (rdI (m + 4) i) σ Q = Q (σ.1 (m + 4) i.toNat) σ := c_rdI (n := 40) (LMd hh).2.2.2.2.2.2.2.2.1 h1 h2
theorem MV_4 {m : Nat} (hh : isMd m) (h1 : 0 ≤ i) (h2 : i < 40) {v : Int} {Q : Unit → St → Prop} : wp (wrI (m + 4) i v) σ Q = Q () (stA σ.1 (m + 4) (ups (σ.1 (m + 4)) i.toNat v), σ.2) := c_wrI (n := 40) (LMd hh).2.2.2.2.2.2.2.2.1 h1 h2
theorem MI_5 {m : Nat} (hh : isMd m) (h1 : 0 ≤ i) (h2 : i < 40) {Q : Int → St → Prop} : wp (rdI (m + 5) i) σ Q = Q (σ.1 (m + 5) i.toNat) σ := c_rdI (n := 40) (LMd hh).2.2.2.2.2.2.2.2.2.2.1 h1 h2
theorem MV_5 {m : Nat} (hh : isMd m) (h1 : 0 ≤ i) (h2 : i < 40) {v : Int} {Q : Unit → St → Prop} : wp (wrI (m + 5) i v) σ Q = Q () (stA σ.1 (m + 5) (ups (σ.1 (m + 5)) i.toNat v), σ.2) := c_wrI (n := 40) (LMd hh).2.2.2.2.2.2.2.2.2.2.1 h1 h2
theorem MI_6 {m : Nat} (hh : isMd m) (h1 : 0 ≤ i) (h2 : i < 40) {Q : Int → St → Prop} : wp (rdI (m + 6) i) σ Q = Q (σ.1 (m + 6) i.toNat) σ := c_rdI (n := 40) (LMd hh).2.2.2.2.2.2.2.2.2.2.2.2.1 h1 h2
theorem MV_6 {m : Nat} (hh : isMd m) (h1 : 0 ≤ i) (h2 : i < 40) {v : Int} {Q : Unit → St → Prop} : wp (wrI (m + 6) i v) σ Q = Q () (stA σ.1 (m + 6) (ups (σ.1 (m + 6)) i.toNat v), σ.2) := c_wrI (n := 40) (LMd hh).2.2.2.2.2.2.2.2.2.2.2.2.1 h1 h2
theorem MI_7 {m : Nat} (hh : isMd m) (h1 : 0 ≤ i) (h2 : i < 40) {Q : Int → St → Prop} : wp (rdI (m + 7) i) σ Q = Q (σ.1 (m + 7) i.toNat) σ := c_rdI (n := 40) (LMd hh).2.2.2.2.2.2.2.2.2.2.2.2.2.2.1 h1 h2
theorem MV_7 {m : Nat} (hh : isMd m) (h1 : 0 ≤ i) (h2 : i < 40) {v : Int} {Q : Unit → St → Prop} : wp (wrI (m + 7) i v) σ Q = Q () (stA σ.1 (m + 7) (ups (σ.1 (m + 7)) i.toNat v), σ.2) := c_wrI (n := 40) (LMd hh).2.2.2.2.2.2.2.2.2.2.2.2.2.2.1 h1 h2
theorem MI_8 {m : Nat} (hh : isMd m) (h1 : 0 ≤ i) (h2 : i < 40) {Q : Int → St → Prop} : wp (rdI (m + 8) i) σ Q = Q (σ.1 (m + 8) i.toNat) σ := c_rdI (n := 40) (LMd hh).2.2.2.2.2.2.2.2.2.2.2.2.2.2.2.2.1 h1 h2
theorem MV_8 {m : Nat} (hh : isMd m) (h1 : 0 ≤ i) (h2 : i < 40) {v : Int} {Q : Unit → St → Prop} : wp (wrI (m + 8) i v) σ Q = Q () (stA σ.1 (m + 8) (ups (σ.1 (m + 8)) i.toNat v), σ.2) := c_wrI (n := 40) (LMd hh).2.2.2.2.2.2.2.2.2.2.2.2.2.2.2.2.1 h1 h2
theorem MI_9 {m : Nat} (hh : isMd m) (h1 : 0 ≤ i) (h2 : i < 240) {Q : Int → St → Prop} : wp (rdI (m + 9) i) σ Q = Q (σ.1 (m + 9) i.toNat) σ := c_rdI (n := 240) (LMd hh).2.2.2.2.2.2.2.2.2.2.2.2.2.2.2.2.2.2.1 h1 h2
theorem MV_9 {m : Nat} (hh : isMd m) (h1 : 0 ≤ i) (h2 : i < 240) {v : Int} {Q : Unit → St → Prop} : wp (wrI (m + 9) i v) σ Q = Q () (stA σ.1 (m + 9) (ups (σ.1 (m + 9)) i.toNat v), σ.2) := c_wrI (n := 240) (LMd hh).2.2.2.2.2.2.2.2.2.2.2.2.2.2.2.2.2.2.1 h1 h2
theorem MI_10 {m : Nat} (hh : isMd m) (h1 : 0 ≤ i) (h2 : i < 240) {Q : Int → St → Prop} : wp (rdI (m + 10) i) σ Q = Q (σ.1 (m + 10) i.toNat) σ := c_rdI (n := 240) (LMd hh).2.2.2.2.2.2.2.2.2.2.2.2.2.2.2.2.2.2.2.2.1 h1 h2
theorem MV_10 {m : Nat} (hh : isMd m) (h1 : 0 ≤ i) (h2 : i < 240) {v : Int} {Q : Unit → St → Prop} : wp (wrI (m + 10) i v) σ Q = Q () (stA σ.1 (m + 10) (ups (σ.1 (m + 10)) i.toNat v), σ.2) := c_wrI (n := 240) (LMd hh).2.2.2.2.2.2.2.2.2.2.2.2.2.2.2.2.2.2.2.2.1 h1 h2
theorem MI_11 {m : Nat} (hh : isMd m) (h1 : 0 ≤ i) (h2 : i < 240) {Q : Int → St → Prop} : wp (rdI (m + 11) i) σ Q = Q (σ.1 (m + 11) i.toNat) σ := c_rdI (n := 240) (LMd hh).2.2.2.2.2.2.2.2.2.2.2.2.2.2.2.2.2.2.2.2.2.2.1 h1 h2
theorem MV_11 {m : Nat} (hh : isMd m) (h1 : 0 ≤ i) (h2 : i < 240) {v : Int} {Q : Unit → St → Prop} : wp (wrI (m + 11) i v) σ Q = Q () (stA σ.1 (m + 11) (ups (σ.1 (m + 11)) i.toNat v), σ.2) := c_wrI (n := 240) (LMd hh).2.2.2.2.2.2.2.2.2.2.2.2.2.2.2.2.2.2.2.2.2.2.1 h1 h2
theorem MI_12 {m : Nat} (hh : isMd m) (h1 : 0 ≤ i) (h2 : i < 240) {Q : Int → St → Prop} : wp (rdI (m + 12) i) σ Q = Q (σ.1 (m + 12) i.toNat) σ := c_rdI (n := 240) (LMd hh).2.2.2.2.2.2.2.2.2.2.2.2.2.2.2.2.2.2.2.2.2.2.2.2.1 h1 h2
theorem MV_12 {m : Nat} (hh : isMd m) (h1 : 0 ≤ i) (h2 : i < 240) {v : Int} {Q : Unit → St → Prop} : wp (wrI (m + 12) i v) σ Q = Q () (stA σ.1 (m + 12) (ups (σ.1 (m + 12)) i.toNat v), σ.2) := c_wrI (n := 240) (LMd hh).2.2.2.2.2.2.2.2.2.2.2.2.2.2.2.2.2.2.2.2.2.2.2.2.1 h1 h2
theorem MI_13 {m : Nat} (hh : isMd m) (h1 : 0 ≤ i) (h2 : i < 240) {Q : Int → St → Prop} : wp (rdI (m + 13) i) σ Q = Q (σ.1 (m + 13) i.toNat) σ := c_rdI (n := 240) (LMd hh).2.2.2.2.2.2.2.2.2.2.2.2.2.2.2.2.2.2.2.2.2.2.2.2.2.2.1 h1 h2
theorem MV_13 {m : Nat} (hh : isMd m) (h1 : 0 ≤ i) (h2 : i < 240) {v : Int} {Q : Unit → St → Prop} : wp (wrI (m + 13) i v) σ Q = Q () (stA σ.1 (m + 13) (ups (σ.1 (m + 13)) i.toNat v), σ.2) := c_wrI (n := 240) (LMd hh).2.2.2.2.2.2.2.2.2.2.2.2.2.2.2.2.2.2.2.2.2.2.2.2.2.2.1 h1 h2
theorem MI_14 {m : Nat} (hh : isMd m) (h1 : 0 ≤ i) (h2 : i < 60) {Q : Int → St → Prop} : wp (rdI (m + 14) i) σ Q = Q (σ.1 (m + 14) i.toNat) σ := c_rdI (n := 60) (LMd hh).2.2.2.2.2.2.2.2.2.2.2.2.2.2.2.2.2.2.2.2.2.2.2.2.2.2.2.2.1 h1 h2
theorem MV_14 {m : Nat} (hh : isMd m) (h1 : 0 ≤ i) (h2 : i < 60) {v : Int} {Q : Unit → St → Prop} : wp (wrI (m + 14) i v) σ Q = Q () (stA σ.1 (m + 14) (ups (σ.1 (m + 14)) i.toNat v), σ.2) := c_wrI (n := 60) (LMd hh).2.2.2.2.2.2.2.2.2.2.2.2.2.2.2.2.2.2.2.2.2.2.2.2.2.2.2.2.1 h1 h2
theorem MI_15 {m : Nat} (hh : isMd m) (h1 : 0 ≤ i) (h2 : i < 60) {Q : Int → St → Prop} : wp (rdI (m + 15) i) σ Q = Q (σ.1 (m + 15) i.toNat) σ := c_rdI (n := 60) (LMd hh).2.2.2.2.2.2.2.2.2.2.2.2.2.2.2.2.2.2.2.2.2.2.2.2.2.2.2.2.2.2.1 h1 h2
theorem MV_15 {m : Nat} (hh : isMd m) (h1 : 0 ≤ i) (h2 : i < 60) {v : Int} {Q : Unit → St → Prop} : wp (wrI (m + 15) i v) σ Q = Q () (stA σ.1 (m + 15) (ups (σ.1 (m + 15)) i.toNat v), σ.2) := c_wrI (n := 60) (LMd hh).2.2.2.2.2.2.2.2.2.2.2.2.2.2.2.2.2.2.2.2.2.2.2.2.2.2.2.2.2.2.1 h1 h2
theorem MI_16 {m : Nat} (hh : isMd m) (h1 : 0 ≤ i) (h2 : i < 60) {Q : Int → St → Prop} : wp (rdI (m + 16) i) σ Q = Q (σ.1 (m + 16) i.toNat) σ := c_rdI (n := 60) (LMd hh).2.2.2.2.2.2.2.2.2.2.2.2.2.2.2.2.2.2.2.2.2.2.2.2.2.2.2.2.2.2.2.2.1 h1 h2
theorem MV_16 {m : Nat} (hh : isMd m) (h1 : 0 ≤ i) (h2 : i < 60) {v : Int} {Q : Unit → St → Prop} : wp (wrI (m + 16) i v) σ Q = Q () (stA σ.1 (m + 16) (ups (σ.1 (m + 16)) i.toNat v), σ.2) := c_wrI (n := 60) (LMd hh).2.2.2.2.2.2.2.2.2.2.2.2.2.2.2.2.2.2.2.2.2.2.2.2.2.2.2.2.2.2.2.2.1 h1 h2
theorem MI_17 {m : Nat} (hh : isMd m) (h1 : 0 ≤ i) (h2 : i < 60) {Q : Int → St → Prop} : wp (rdI (m + 17) i) σ Q = Q (σ.1 (m + 17) i.toNat) σ := c_rdI (n := 60) (LMd hh).2.2.2.2.2.2.2.2.2.2.2.2.2.2.2.2.2.2.2.2.2.2.2.2.2.2.2.2.2.2.2.2.2.2.1 h1 h2
theorem MV_17 {m : Nat} (hh : isMd m) (h1 : 0 ≤ i) (h2 : i < 60) {v : Int} {Q : Unit → St → Prop} : wp (wrI (m + 17) i v) σ Q = Q () (stA σ.1 (m + 17) (ups (σ.1 (m + 17)) i.toNat v), σ.2) := c_wrI (n := 60) (LMd hh).2.2.2.2.2.2.2.2.2.2.2.2.2.2.2.2.2.2.2.2.2.2.2.2.2.2.2.2.2.2.2.2.2.2.1 h1 h2
theorem MI_18 {m : Nat} (hh : isMd m) (h1 : 0 ≤ i) (h2 : i < 60) {Q : Int → St → Prop} : wp (rdI (m + 18) i) σ Q = Q (σ.1 (m + 18) i.toNat) σ := c_rdI (n := 60) (LMd hh).2.2.2.2.2.2.2.2.2.2.2.2.2.2.2.2.2.2.2.2.2.2.2.2.2.2.2.2.2.2.2.2.2.2.2.2.1 h1 h2
theorem MV_18 {m : Nat} (hh : isMd m) (h1 : 0 ≤ i) (h2 : i < 60) {v : Int} {Q : Unit → St → Prop} : wp (wrI (m + 18) i v) σ Q = Q () (stA σ.1 (m + 18) (ups (σ.1 (m + 18)) i.toNat v), σ.2) := c_wrI (n := 60) (LMd hh).2.2.2.2.2.2.2.2.2.2.2.2.2.2.2.2.2.2.2.2.2.2.2.2.2.2.2.2.2.2.2.2.2.2.2.2.1 h1 h2
theorem MI_19 {m : Nat} (hh : isMd m) (h1 : 0 ≤ i) (h2 : i < 60) {Q : Int → St → Prop} : wp (rdI (m + 19) i) σ Q = Q (σ.1 (m + 19) i.toNat) σ := c_rdI (n := 60) (LMd hh).2.2.2.2.2.2.2.2.2.2.2.2.2.2.2.2.2.2.2.2.2.2.2.2.2.2.2.2.2.2.2.2.2.2.2.2.2.2.1 h1 h2
theorem MV_19 {m : Nat} (hh : isMd m) (h1 : 0 ≤ i) (h2 : i < 60) {v : Int} {Q : Unit → St → Prop} : wp (wrI (m + 19) i v) σ Q = Q () (stA σ.1 (m + 19) (ups (σ.1 (m + 19)) i.toNat v), σ.2) := c_wrI (n := 60) (LMd hh).2.2.2.2.2.2.2.2.2.2.2.2.2.2.2.2.2.2.2.2.2.2.2.2.2.2.2.2.2.2.2.2.2.2.2.2.2.2.1 h1 h2
theorem MI_20 {m : Nat} (hh : isMd m) (h1 : 0 ≤ i) (h2 : i < 60) {Q : Int → St → Prop} : wp (rdI (m + 20) i) σ Q = Q (σ.1 (m + 20) i.toNat) σ := c_rdI (n := 60) (LMd hh).2.2.2.2.2.2.2.2.2.2.2.2.2.2.2.2.2.2.2.2.2.2.2.2.2.2.2.2.2.2.2.2.2.2.2.2.2.2.2.2.1 h1 h2
theorem MV_20 {m : Nat} (hh : isMd m) (h1 : 0 ≤ i) (h2 : i < 60) {v : Int} {Q : Unit → St → Prop} : wp (wrI (m + 20) i v) σ Q = Q () (stA σ.1 (m + 20) (ups (σ.1 (m + 20)) i.toNat v), σ.2) := c_wrI (n := 60) (LMd hh).2.2.2.2.2.2.2.2.2.2.2.2.2.2.2.2.2.2.2.2.2.2.2.2.2.2.2.2.2.2.2.2.2.2.2.2.2.2.2.2.1 h1 h2
theorem MI_21 {m : Nat} (hh : isMd m) (h1 : 0 ≤ i) (h2 : i < 240) {Q : Int → St → Prop} : wp (rdI (m + 21) i) σ Q = Q (σ.1 (m + 21) i.toNat) σ := c_rdI (n := 240) (LMd hh).2.2.2.2.2.2.2.2.2.2.2.2.2.2.2.2.2.2.2.2.2.2.2.2.2.2.2.2.2.2.2.2.2.2.2.2.2.2.2.2.2.2.1 h1 h2
theorem MV_21 {m : Nat} (hh : isMd m) (h1 : 0 ≤ i) (h2 : i < 240) {v : Int} {Q : Unit → St → Prop} : wp (wrI (m + 21) i v) σ Q = Q () (stA σ.1 (m + 21) (ups (σ.1 (m + 21)) i.toNat v), σ.2) := c_wrI (n := 240) (LMd hh).2.2.2.2.2.2.2.2.2.2.2.2.2.2.2.2.2.2.2.2.2.2.2.2.2.2.2.2.2.2.2.2.2.2.2.2.2.2.2.2.2.2.1 h1 h2
theorem MI_22 {m : Nat} (hh : isMd m) (h1 : 0 ≤ i) (h2 : i < 240) {Q : Int → St → Prop} : wp (rdI (m + 22) i) σ Q = Q (σ.1 (m + 22) i.toNat) σ := c_rdI (n := 240) (LMd hh).2.2.2.2.2.2.2.2.2.2.2.2.2.2.2.2.2.2.2.2.2.2.2.2.2.2.2.2.2.2.2.2.2.2.2.2.2.2.2.2.2.2.2.2.1 h1 h2
theorem MV_22 {m : Nat} (hh : isMd m) (h1 : 0 ≤ i) (h2 : i < 240) {v : Int} {Q : Unit → St → Prop} : wp (wrI (m + 22) i v) σ Q = Q () (stA σ.1 (m + 22) (ups (σ.1 (m + 22)) i.toNat v), σ.2) := c_wrI (n := 240) (LMd hh).2.2.2.2.2.2.2.2.2.2.2.2.2.2.2.2.2.2.2.2.2.2.2.2.2.2.2.2.2.2.2.2.2.2.2.2.2.2.2.2.2.2.2.2.1 h1 h2
theorem MI_23 {m : Nat} (hh : isMd m) (h1 : 0 ≤ i) (h2 : i < 240) {Q : Int → St → Prop} : wp (rdB (m + 23) i) σ Q = Q (σ.1 (m + 23) i.toNat) σ := c_rdB (n := 240) (LMd hh).2.2.2.2.2.2.2.2.2.2.2.2.2.2.2.2.2.2.2.2.2.2.2.2.2.2.2.2.2.2.2.2.2.2.2.2.2.2.2.2.2.2.2.2.2.2.1 h1 h2
theorem MV_23 {m : Nat} (hh : isMd m) (h1 : 0 ≤ i) (h2 : i < 240) {v : Int} (h3 : 0 ≤ v) (h4 : v ≤ 1) {Q : Unit → St → Prop} : wp (wrB (m + 23) i v) σ Q = Q () (stA σ.1 (m + 23) (ups (σ.1 (m + 23)) i.toNat v), σ.2) := c_wrZ (n := 240) ⟨(LMd hh).2.2.2.2.2.2.2.2.2.2.2.2.2.2.2.2.2.2.2.2.2.2.2.2.2.2.2.2.2.2.2.2.2.2.2.2.2.2.2.2.2.2.2.2.2.2.1, (LMd hh).2.2.2.2.2.2.2.2.2.2.2.2.2.2.2.2.2.2.2.2.2.2.2.2.2.2.2.2.2.2.2.2.2.2.2.2.2.2.2.2.2.2.2.2.2.2.2.1⟩ h1 h2 h3 h4
theorem MI_24 {m : Nat} (hh : isMd m) (h1 : 0 ≤ i) (h2 : i < 240) {Q : Int → St → Prop} : wp (rdI (m + 24) i) σ Q = Q (σ.1 (m + 24) i.toNat) σ := c_rdI (n := 240) (LMd hh).2.2.2.2.2.2.2.2.2.2.2.2.2.2.2.2.2.2.2.2.2.2.2.2.2.2.2.2.2.2.2.2.2.2.2.2.2.2.2.2.2.2.2.2.2.2.2.2.2.1 h1 h2
theorem MV_24 {m : Nat} (hh : isMd m) (h1 : 0 ≤ i) (h2 : i < 240) {v : Int} {Q : Unit → St → Prop} : wp (wrI (m + 24) i v) σ Q = Q () (stA σ.1 (m + 24) (ups (σ.1 (m + 24)) i.toNat v), σ.2) := c_wrI (n := 240) (LMd hh).2.2.2.2.2.2.2.2.2.2.2.2.2.2.2.2.2.2.2.2.2.2.2.2.2.2.2.2.2.2.2.2.2.2.2.2.2.2.2.2.2.2.2.2.2.2.2.2.2.1 h1 h2
end
