set_option maxRecDepth 100000
set_option maxHeartbeats 400000
/-! ===== designs: the twin copies the draft to a slot ===== -/
/-- how much of an array a slot has -/
def bw (a : Nat) : Nat := if a = 2077 ∨ a = 2078 ∨ a = 2080 then 12 else if 2082 ≤ a ∧ a ≤ 2086 then 480 else if a = 2087 then 4800 else if 2088 ≤ a ∧ a ≤ 2093 then 3600 else if 2094 ≤ a ∧ a ≤ 2099 then 2400 else if a = 2115 ∨ a = 2116 then 1 else if 2117 ≤ a ∧ a ≤ 2120 then 101 else if a = 2121 then 4040 else if (2122 ≤ a ∧ a ≤ 2126) ∨ a = 2129 then 200 else 0
def lgA (a : Nat) : Prop := a = 2085 ∨ a = 2093
/-- what was copied: of each array the first pb -/
def PG (S : Nat) (pb : Nat → Nat) (τ τ' : St) : Prop := (∀ a, pb a ≤ bw a) ∧ (∀ a j, j < pb a → (¬ lgA a → τ'.1 a (bw a * S + j) = τ.1 a (bw a * 4 + j)) ∧ (lgA a → τ'.2.1 a (bw a * S + j) = τ.2.1 a (bw a * 4 + j))) ∧ (∀ a i, ¬ (bw a * S ≤ i ∧ i < bw a * S + pb a) → τ'.1 a i = τ.1 a i ∧ τ'.2.1 a i = τ.2.1 a i) ∧ τ'.2.2 = τ.2.2
section
variable {S : Nat} {pb : Nat → Nat} {τ τ' : St}
theorem PG.src (h : PG S pb τ τ') (hS : S < 4) (a j : Nat) : τ'.1 a (bw a * 4 + j) = τ.1 a (bw a * 4 + j) ∧ τ'.2.1 a (bw a * 4 + j) = τ.2.1 a (bw a * 4 + j) := by
  refine h.2.2.1 a _ (fun z => ?_)
  have h1 := h.1 a
  have h2 : bw a * S + bw a ≤ bw a * 4 := by
    have := Nat.mul_le_mul_left (bw a) (show S + 1 ≤ 4 by omega)
    rw [Nat.mul_add, Nat.mul_one] at this
    exact this
  omega
theorem PG.stI (h : PG S pb τ τ') {a m : Nat} (hm : pb a = m) (hb : m < bw a) (ha : ¬ lgA a) {v : Int} (hv : v = τ.1 a (bw a * 4 + m)) : PG S (ups pb a (m + 1)) τ (stA τ'.1 a (ups (τ'.1 a) (bw a * S + m) v), τ'.2) := by
  obtain ⟨h1, h2, h3, h4⟩ := h
  refine ⟨fun b => ?_, fun b j hj => ?_, fun b i hi => ?_, h4⟩
  · by_cases e : b = a
    · subst e; rw [ups_eq]; exact hb
    · rw [ups_ne e]; exact h1 b
  · by_cases e : b = a
    · subst e
      rw [ups_eq] at hj
      dsimp only
      rw [stA_eq]
      by_cases e2 : j = m
      · subst e2; rw [ups_eq]; exact ⟨fun _ => hv, fun z => absurd z ha⟩
      · rw [ups_ne (by omega)]; exact h2 b j (by omega)
    · rw [ups_ne e] at hj
      dsimp only
      rw [stA_ne e]; exact h2 b j hj
  · by_cases e : b = a
    · subst e
      rw [ups_eq] at hi
      dsimp only
      rw [stA_eq, ups_ne (by omega)]
      exact h3 b i (by omega)
    · rw [ups_ne e] at hi
      dsimp only
      rw [stA_ne e]; exact h3 b i hi
theorem PG.stL (h : PG S pb τ τ') {a m : Nat} (hm : pb a = m) (hb : m < bw a) (ha : lgA a) {v : Int64} (hv : v = τ.2.1 a (bw a * 4 + m)) : PG S (ups pb a (m + 1)) τ (τ'.1, stA τ'.2.1 a (ups (τ'.2.1 a) (bw a * S + m) v), τ'.2.2) := by
  obtain ⟨h1, h2, h3, h4⟩ := h
  refine ⟨fun b => ?_, fun b j hj => ?_, fun b i hi => ?_, h4⟩
  · by_cases e : b = a
    · subst e; rw [ups_eq]; exact hb
    · rw [ups_ne e]; exact h1 b
  · by_cases e : b = a
    · subst e
      rw [ups_eq] at hj
      dsimp only
      rw [stA_eq]
      by_cases e2 : j = m
      · subst e2; rw [ups_eq]; exact ⟨fun z => absurd ha z, fun _ => hv⟩
      · rw [ups_ne (by omega)]; exact h2 b j (by omega)
    · rw [ups_ne e] at hj
      dsimp only
      rw [stA_ne e]; exact h2 b j hj
  · by_cases e : b = a
    · subst e
      rw [ups_eq] at hi
      dsimp only
      rw [stA_eq, ups_ne (by omega)]
      exact h3 b i (by omega)
    · rw [ups_ne e] at hi
      dsimp only
      rw [stA_ne e]; exact h3 b i hi
/-- a row: an int -/
theorem cpI1 {a L m : Nat} (hS : S < 4) (h : PG S pb τ τ') (hm : pb a = m) (hb : m < bw a) (ha : ¬ lgA a) (hl : ia a = L) (hL : bw a * 5 = L) {i4 iS : Int} (e4 : i4 = ((bw a * 4 + m : Nat) : Int)) (eS : iS = ((bw a * S + m : Nat) : Int)) {f : Unit → St → Option (Unit × St)} {Q : Unit → St → Prop} (hQ : ∀ τ2, PG S (ups pb a (m + 1)) τ τ2 → wp (f ()) τ2 Q) : wp (bd (rdI a i4) fun v => bd (wrI a iS v) f) τ' Q := by
  have h2 : bw a * S + bw a ≤ bw a * 4 := by
    have := Nat.mul_le_mul_left (bw a) (show S + 1 ≤ 4 by omega)
    rw [Nat.mul_add, Nat.mul_one] at this
    exact this
  rw [e4, eS, wp_bd, c_rdI hl (by omega) (by omega), tn, wp_bd, c_wrI hl (by omega) (by omega), tn]
  exact hQ _ (h.stI hm hb ha (h.src hS a m).1)
theorem cpL1 {a L m : Nat} (hS : S < 4) (h : PG S pb τ τ') (hm : pb a = m) (hb : m < bw a) (ha : lgA a) (hl : la a = L) (hL : bw a * 5 = L) {i4 iS : Int} (e4 : i4 = ((bw a * 4 + m : Nat) : Int)) (eS : iS = ((bw a * S + m : Nat) : Int)) {f : Unit → St → Option (Unit × St)} {Q : Unit → St → Prop} (hQ : ∀ τ2, PG S (ups pb a (m + 1)) τ τ2 → wp (f ()) τ2 Q) : wp (bd (rdL a i4) fun v => bd (wrL a iS v) f) τ' Q := by
  have h2 : bw a * S + bw a ≤ bw a * 4 := by
    have := Nat.mul_le_mul_left (bw a) (show S + 1 ≤ 4 by omega)
    rw [Nat.mul_add, Nat.mul_one] at this
    exact this
  rw [e4, eS, wp_bd, c_rdL hl (by omega) (by omega), tn, wp_bd, c_wrL hl (by omega) (by omega), tn]
  exact hQ _ (h.stL hm hb ha (h.src hS a m).2)
theorem cpB1 {a L m : Nat} (hS : S < 4) (h : PG S pb τ τ') (hm : pb a = m) (hb : m < bw a) (ha : ¬ lgA a) (hl : ba a = L) (hv : ∀ i, inB a (τ.1 a i) = true) (hL : bw a * 5 = L) {i4 iS : Int} (e4 : i4 = ((bw a * 4 + m : Nat) : Int)) (eS : iS = ((bw a * S + m : Nat) : Int)) {f : Unit → St → Option (Unit × St)} {Q : Unit → St → Prop} (hQ : ∀ τ2, PG S (ups pb a (m + 1)) τ τ2 → wp (f ()) τ2 Q) : wp (bd (rdB a i4) fun v => bd (wrB a iS v) f) τ' Q := by
  have h2 : bw a * S + bw a ≤ bw a * 4 := by
    have := Nat.mul_le_mul_left (bw a) (show S + 1 ≤ 4 by omega)
    rw [Nat.mul_add, Nat.mul_one] at this
    exact this
  have e := (h.src hS a m).1
  rw [e4, eS, wp_bd, c_rdB hl (by omega) (by omega), tn, wp_bd, wp_wrB, hl, and_t ⟨⟨by omega, by omega⟩, by rw [e]; exact hv _⟩, tn]
  exact hQ _ (h.stI hm hb ha e)
theorem cd802 {k fu0 : Nat} (hS : S < 4) {pb0 : Nat → Nat} {Q : Unit → St → Prop} (hQ : ∀ (τ2 : St) (pb : Nat → Nat), PG S pb τ τ2 → (∀ a, pb a = if a = 2122 ∨ a = 2123 ∨ a = 2124 ∨ a = 2125 ∨ a = 2126 ∨ a = 2129 then 0 + 200 else pb0 a) → wp (rt ()) τ2 Q) : ∀ (d x f : Nat) (τ1 : St) (pb : Nat → Nat), x + d = 200 → d < f → PG S pb τ τ1 → (∀ a, pb a = if a = 2122 ∨ a = 2123 ∨ a = 2124 ∨ a = 2125 ∨ a = 2126 ∨ a = 2129 then 0 + x else pb0 a) → wp (X15_copyDesign_802 f (S : Int) 4 (x : Int)) τ1 Q := by
  intro d
  induction d with
  | zero =>
    intro x f τ1 pb hx hf hP hp
    obtain ⟨f', rfl⟩ : ∃ f', f = f' + 1 := ⟨f - 1, by omega⟩
    rw [X15_copyDesign_802, wp_ifp (by omega)]
    exact hQ τ1 pb hP (by rw [show x = 200 by omega] at hp; exact hp)
  | succ d ih =>
    intro x f τ1 pb hx hf hP hp
    obtain ⟨f', rfl⟩ : ∃ f', f = f' + 1 := ⟨f - 1, by omega⟩
    rw [X15_copyDesign_802, wp_ifn (by omega)]
    refine cpI1 (a := 2122) (m := 0 + x) hS hP (by rw [hp 2122, if_pos (by decide)]) (by rw [show bw 2122 = 200 from rfl]; omega) (by unfold lgA; decide) L2122 rfl (by rw [show bw 2122 = 200 from rfl]; exact (by rw [w32_i (x := 200 * 4) (by decide) (by decide), w32_i (by omega) (by omega)]; omega)) (by rw [show bw 2122 = 200 from rfl]; exact (by rw [w32_i (x := 200 * (S : Int)) (by omega) (by omega), w32_i (by omega) (by omega)]; omega)) (fun τ2' hP2 => ?_)
    refine cpI1 (a := 2123) (m := 0 + x) hS hP2 (by rw [ups_ne (by decide)]; rw [hp 2123, if_pos (by decide)]) (by rw [show bw 2123 = 200 from rfl]; omega) (by unfold lgA; decide) L2123 rfl (by rw [show bw 2123 = 200 from rfl]; exact (by rw [w32_i (x := 200 * 4) (by decide) (by decide), w32_i (by omega) (by omega)]; omega)) (by rw [show bw 2123 = 200 from rfl]; exact (by rw [w32_i (x := 200 * (S : Int)) (by omega) (by omega), w32_i (by omega) (by omega)]; omega)) (fun τ3' hP3 => ?_)
    refine cpI1 (a := 2124) (m := 0 + x) hS hP3 (by rw [ups_ne (by decide)]; rw [ups_ne (by decide)]; rw [hp 2124, if_pos (by decide)]) (by rw [show bw 2124 = 200 from rfl]; omega) (by unfold lgA; decide) L2124 rfl (by rw [show bw 2124 = 200 from rfl]; exact (by rw [w32_i (x := 200 * 4) (by decide) (by decide), w32_i (by omega) (by omega)]; omega)) (by rw [show bw 2124 = 200 from rfl]; exact (by rw [w32_i (x := 200 * (S : Int)) (by omega) (by omega), w32_i (by omega) (by omega)]; omega)) (fun τ4' hP4 => ?_)
    refine cpI1 (a := 2125) (m := 0 + x) hS hP4 (by rw [ups_ne (by decide)]; rw [ups_ne (by decide)]; rw [ups_ne (by decide)]; rw [hp 2125, if_pos (by decide)]) (by rw [show bw 2125 = 200 from rfl]; omega) (by unfold lgA; decide) L2125 rfl (by rw [show bw 2125 = 200 from rfl]; exact (by rw [w32_i (x := 200 * 4) (by decide) (by decide), w32_i (by omega) (by omega)]; omega)) (by rw [show bw 2125 = 200 from rfl]; exact (by rw [w32_i (x := 200 * (S : Int)) (by omega) (by omega), w32_i (by omega) (by omega)]; omega)) (fun τ5' hP5 => ?_)
    refine cpI1 (a := 2126) (m := 0 + x) hS hP5 (by rw [ups_ne (by decide)]; rw [ups_ne (by decide)]; rw [ups_ne (by decide)]; rw [ups_ne (by decide)]; rw [hp 2126, if_pos (by decide)]) (by rw [show bw 2126 = 200 from rfl]; omega) (by unfold lgA; decide) L2126 rfl (by rw [show bw 2126 = 200 from rfl]; exact (by rw [w32_i (x := 200 * 4) (by decide) (by decide), w32_i (by omega) (by omega)]; omega)) (by rw [show bw 2126 = 200 from rfl]; exact (by rw [w32_i (x := 200 * (S : Int)) (by omega) (by omega), w32_i (by omega) (by omega)]; omega)) (fun τ6' hP6 => ?_)
    refine cpI1 (a := 2129) (m := 0 + x) hS hP6 (by rw [ups_ne (by decide)]; rw [ups_ne (by decide)]; rw [ups_ne (by decide)]; rw [ups_ne (by decide)]; rw [ups_ne (by decide)]; rw [hp 2129, if_pos (by decide)]) (by rw [show bw 2129 = 200 from rfl]; omega) (by unfold lgA; decide) L2129 rfl (by rw [show bw 2129 = 200 from rfl]; exact (by rw [w32_i (x := 200 * 4) (by decide) (by decide), w32_i (by omega) (by omega)]; omega)) (by rw [show bw 2129 = 200 from rfl]; exact (by rw [w32_i (x := 200 * (S : Int)) (by omega) (by omega), w32_i (by omega) (by omega)]; omega)) (fun τ7' hP7 => ?_)
    rw [wp_lt, w32_i (by omega) (by omega), show (x : Int) + 1 = ((x + 1 : Nat) : Int) by omega]
    refine ih (x + 1) f' _ _ (by omega) (by omega) hP7 (fun a => ?_)
    have hpa := hp a
    unfold ups
    repeat' split
    all_goals (first | omega | (rw [hpa]; split <;> omega) | skip)
theorem cd763 {k fu0 : Nat} (hS : S < 4) {pb0 : Nat → Nat} {Q : Unit → St → Prop} (hQ : ∀ (τ2 : St) (pb : Nat → Nat), PG S pb τ τ2 → (∀ a, pb a = if a = 2121 then 0 + 4040 else pb0 a) → wp (X15_copyDesign_802 FU (S : Int) 4 0) τ2 Q) : ∀ (d x f : Nat) (τ1 : St) (pb : Nat → Nat), x + d = 4040 → d < f → PG S pb τ τ1 → (∀ a, pb a = if a = 2121 then 0 + x else pb0 a) → wp (X15_copyDesign_763 f (S : Int) 4 (x : Int)) τ1 Q := by
  intro d
  induction d with
  | zero =>
    intro x f τ1 pb hx hf hP hp
    obtain ⟨f', rfl⟩ : ∃ f', f = f' + 1 := ⟨f - 1, by omega⟩
    rw [X15_copyDesign_763, wp_ifp (by omega), X15_copyDesign_800, wp_lt]
    exact hQ τ1 pb hP (by rw [show x = 4040 by omega] at hp; exact hp)
  | succ d ih =>
    intro x f τ1 pb hx hf hP hp
    obtain ⟨f', rfl⟩ : ∃ f', f = f' + 1 := ⟨f - 1, by omega⟩
    rw [X15_copyDesign_763, wp_ifn (by omega)]
    refine cpI1 (a := 2121) (m := 0 + x) hS hP (by rw [hp 2121, if_pos (by decide)]) (by rw [show bw 2121 = 4040 from rfl]; omega) (by unfold lgA; decide) L2121 rfl (by rw [show bw 2121 = 4040 from rfl]; exact (by rw [w32_i (x := 4040 * 4) (by decide) (by decide), w32_i (by omega) (by omega)]; omega)) (by rw [show bw 2121 = 4040 from rfl]; exact (by rw [w32_i (x := 4040 * (S : Int)) (by omega) (by omega), w32_i (by omega) (by omega)]; omega)) (fun τ2' hP2 => ?_)
    rw [wp_lt, w32_i (by omega) (by omega), show (x : Int) + 1 = ((x + 1 : Nat) : Int) by omega]
    refine ih (x + 1) f' _ _ (by omega) (by omega) hP2 (fun a => ?_)
    have hpa := hp a
    unfold ups
    repeat' split
    all_goals (first | omega | (rw [hpa]; split <;> omega) | skip)
theorem cd661 {k fu0 : Nat} (hS : S < 4) {pb0 : Nat → Nat} {Q : Unit → St → Prop} (hQ : ∀ (τ2 : St) (pb : Nat → Nat), PG S pb τ τ2 → (∀ a, pb a = if a = 2117 ∨ a = 2118 ∨ a = 2119 ∨ a = 2120 then 0 + 101 else pb0 a) → wp (X15_copyDesign_763 FU (S : Int) 4 0) τ2 Q) : ∀ (d x f : Nat) (τ1 : St) (pb : Nat → Nat), x + d = 101 → d < f → PG S pb τ τ1 → (∀ a, pb a = if a = 2117 ∨ a = 2118 ∨ a = 2119 ∨ a = 2120 then 0 + x else pb0 a) → wp (X15_copyDesign_661 f (S : Int) 4 (x : Int)) τ1 Q := by
  intro d
  induction d with
  | zero =>
    intro x f τ1 pb hx hf hP hp
    obtain ⟨f', rfl⟩ : ∃ f', f = f' + 1 := ⟨f - 1, by omega⟩
    rw [X15_copyDesign_661, wp_ifp (by omega), X15_copyDesign_761, wp_lt]
    exact hQ τ1 pb hP (by rw [show x = 101 by omega] at hp; exact hp)
  | succ d ih =>
    intro x f τ1 pb hx hf hP hp
    obtain ⟨f', rfl⟩ : ∃ f', f = f' + 1 := ⟨f - 1, by omega⟩
    rw [X15_copyDesign_661, wp_ifn (by omega)]
    refine cpI1 (a := 2117) (m := 0 + x) hS hP (by rw [hp 2117, if_pos (by decide)]) (by rw [show bw 2117 = 101 from rfl]; omega) (by unfold lgA; decide) L2117 rfl (by rw [show bw 2117 = 101 from rfl]; exact (by rw [w32_i (x := 101 * 4) (by decide) (by decide), w32_i (by omega) (by omega)]; omega)) (by rw [show bw 2117 = 101 from rfl]; exact (by rw [w32_i (x := 101 * (S : Int)) (by omega) (by omega), w32_i (by omega) (by omega)]; omega)) (fun τ2' hP2 => ?_)
    refine cpI1 (a := 2118) (m := 0 + x) hS hP2 (by rw [ups_ne (by decide)]; rw [hp 2118, if_pos (by decide)]) (by rw [show bw 2118 = 101 from rfl]; omega) (by unfold lgA; decide) L2118 rfl (by rw [show bw 2118 = 101 from rfl]; exact (by rw [w32_i (x := 101 * 4) (by decide) (by decide), w32_i (by omega) (by omega)]; omega)) (by rw [show bw 2118 = 101 from rfl]; exact (by rw [w32_i (x := 101 * (S : Int)) (by omega) (by omega), w32_i (by omega) (by omega)]; omega)) (fun τ3' hP3 => ?_)
    refine cpI1 (a := 2119) (m := 0 + x) hS hP3 (by rw [ups_ne (by decide)]; rw [ups_ne (by decide)]; rw [hp 2119, if_pos (by decide)]) (by rw [show bw 2119 = 101 from rfl]; omega) (by unfold lgA; decide) L2119 rfl (by rw [show bw 2119 = 101 from rfl]; exact (by rw [w32_i (x := 101 * 4) (by decide) (by decide), w32_i (by omega) (by omega)]; omega)) (by rw [show bw 2119 = 101 from rfl]; exact (by rw [w32_i (x := 101 * (S : Int)) (by omega) (by omega), w32_i (by omega) (by omega)]; omega)) (fun τ4' hP4 => ?_)
    refine cpI1 (a := 2120) (m := 0 + x) hS hP4 (by rw [ups_ne (by decide)]; rw [ups_ne (by decide)]; rw [ups_ne (by decide)]; rw [hp 2120, if_pos (by decide)]) (by rw [show bw 2120 = 101 from rfl]; omega) (by unfold lgA; decide) L2120 rfl (by rw [show bw 2120 = 101 from rfl]; exact (by rw [w32_i (x := 101 * 4) (by decide) (by decide), w32_i (by omega) (by omega)]; omega)) (by rw [show bw 2120 = 101 from rfl]; exact (by rw [w32_i (x := 101 * (S : Int)) (by omega) (by omega), w32_i (by omega) (by omega)]; omega)) (fun τ5' hP5 => ?_)
    rw [wp_lt, w32_i (by omega) (by omega), show (x : Int) + 1 = ((x + 1 : Nat) : Int) by omega]
    refine ih (x + 1) f' _ _ (by omega) (by omega) hP5 (fun a => ?_)
    have hpa := hp a
    unfold ups
    repeat' split
    all_goals (first | omega | (rw [hpa]; split <;> omega) | skip)
theorem cd447 {k fu0 : Nat} {rc : Int → Int → Int → St → Option (Unit × St)} (hS : S < 4) (hk : k < 12) (hv99 : ∀ i, inB 2099 (τ.1 2099 i) = true) {pb0 : Nat → Nat} {Q : Unit → St → Prop} (hQ : ∀ (τ2 : St) (pb : Nat → Nat), PG S pb τ τ2 → (∀ a, pb a = if a = 2094 ∨ a = 2095 ∨ a = 2096 ∨ a = 2097 ∨ a = 2098 ∨ a = 2099 then 200 * k + 200 else pb0 a) → wp (rc (S : Int) 4 ((k + 1 : Nat) : Int)) τ2 Q) : ∀ (d x f : Nat) (τ1 : St) (pb : Nat → Nat), x + d = 200 → d < f → PG S pb τ τ1 → (∀ a, pb a = if a = 2094 ∨ a = 2095 ∨ a = 2096 ∨ a = 2097 ∨ a = 2098 ∨ a = 2099 then 200 * k + x else pb0 a) → wp (X15_copyDesign_447 rc f (S : Int) 4 (k : Int) ((12 * 4 + k : Nat) : Int) ((12 * S + k : Nat) : Int) (x : Int)) τ1 Q := by
  intro d
  induction d with
  | zero =>
    intro x f τ1 pb hx hf hP hp
    obtain ⟨f', rfl⟩ : ∃ f', f = f' + 1 := ⟨f - 1, by omega⟩
    rw [X15_copyDesign_447, wp_ifp (by omega), X15_copyDesign_629, wp_lt, w32_i (by omega) (by omega), show (k : Int) + 1 = ((k + 1 : Nat) : Int) by omega]
    exact hQ τ1 pb hP (by rw [show x = 200 by omega] at hp; exact hp)
  | succ d ih =>
    intro x f τ1 pb hx hf hP hp
    obtain ⟨f', rfl⟩ : ∃ f', f = f' + 1 := ⟨f - 1, by omega⟩
    rw [X15_copyDesign_447, wp_ifn (by omega)]
    refine cpI1 (a := 2094) (m := 200 * k + x) hS hP (by rw [hp 2094, if_pos (by decide)]) (by rw [show bw 2094 = 2400 from rfl]; omega) (by unfold lgA; decide) L2094 rfl (by rw [show bw 2094 = 2400 from rfl]; exact (by rw [w32_i (x := 200 * ((12 * 4 + k : Nat) : Int)) (by omega) (by omega), w32_i (by omega) (by omega)]; omega)) (by rw [show bw 2094 = 2400 from rfl]; exact (by rw [w32_i (x := 200 * ((12 * S + k : Nat) : Int)) (by omega) (by omega), w32_i (by omega) (by omega)]; omega)) (fun τ2' hP2 => ?_)
    refine cpI1 (a := 2095) (m := 200 * k + x) hS hP2 (by rw [ups_ne (by decide)]; rw [hp 2095, if_pos (by decide)]) (by rw [show bw 2095 = 2400 from rfl]; omega) (by unfold lgA; decide) L2095 rfl (by rw [show bw 2095 = 2400 from rfl]; exact (by rw [w32_i (x := 200 * ((12 * 4 + k : Nat) : Int)) (by omega) (by omega), w32_i (by omega) (by omega)]; omega)) (by rw [show bw 2095 = 2400 from rfl]; exact (by rw [w32_i (x := 200 * ((12 * S + k : Nat) : Int)) (by omega) (by omega), w32_i (by omega) (by omega)]; omega)) (fun τ3' hP3 => ?_)
    refine cpI1 (a := 2096) (m := 200 * k + x) hS hP3 (by rw [ups_ne (by decide)]; rw [ups_ne (by decide)]; rw [hp 2096, if_pos (by decide)]) (by rw [show bw 2096 = 2400 from rfl]; omega) (by unfold lgA; decide) L2096 rfl (by rw [show bw 2096 = 2400 from rfl]; exact (by rw [w32_i (x := 200 * ((12 * 4 + k : Nat) : Int)) (by omega) (by omega), w32_i (by omega) (by omega)]; omega)) (by rw [show bw 2096 = 2400 from rfl]; exact (by rw [w32_i (x := 200 * ((12 * S + k : Nat) : Int)) (by omega) (by omega), w32_i (by omega) (by omega)]; omega)) (fun τ4' hP4 => ?_)
    refine cpI1 (a := 2097) (m := 200 * k + x) hS hP4 (by rw [ups_ne (by decide)]; rw [ups_ne (by decide)]; rw [ups_ne (by decide)]; rw [hp 2097, if_pos (by decide)]) (by rw [show bw 2097 = 2400 from rfl]; omega) (by unfold lgA; decide) L2097 rfl (by rw [show bw 2097 = 2400 from rfl]; exact (by rw [w32_i (x := 200 * ((12 * 4 + k : Nat) : Int)) (by omega) (by omega), w32_i (by omega) (by omega)]; omega)) (by rw [show bw 2097 = 2400 from rfl]; exact (by rw [w32_i (x := 200 * ((12 * S + k : Nat) : Int)) (by omega) (by omega), w32_i (by omega) (by omega)]; omega)) (fun τ5' hP5 => ?_)
    refine cpI1 (a := 2098) (m := 200 * k + x) hS hP5 (by rw [ups_ne (by decide)]; rw [ups_ne (by decide)]; rw [ups_ne (by decide)]; rw [ups_ne (by decide)]; rw [hp 2098, if_pos (by decide)]) (by rw [show bw 2098 = 2400 from rfl]; omega) (by unfold lgA; decide) L2098 rfl (by rw [show bw 2098 = 2400 from rfl]; exact (by rw [w32_i (x := 200 * ((12 * 4 + k : Nat) : Int)) (by omega) (by omega), w32_i (by omega) (by omega)]; omega)) (by rw [show bw 2098 = 2400 from rfl]; exact (by rw [w32_i (x := 200 * ((12 * S + k : Nat) : Int)) (by omega) (by omega), w32_i (by omega) (by omega)]; omega)) (fun τ6' hP6 => ?_)
    refine cpB1 (a := 2099) (m := 200 * k + x) hS hP6 (by rw [ups_ne (by decide)]; rw [ups_ne (by decide)]; rw [ups_ne (by decide)]; rw [ups_ne (by decide)]; rw [ups_ne (by decide)]; rw [hp 2099, if_pos (by decide)]) (by rw [show bw 2099 = 2400 from rfl]; omega) (by unfold lgA; decide) L2099.1 hv99 rfl (by rw [show bw 2099 = 2400 from rfl]; exact (by rw [w32_i (x := 200 * ((12 * 4 + k : Nat) : Int)) (by omega) (by omega), w32_i (by omega) (by omega)]; omega)) (by rw [show bw 2099 = 2400 from rfl]; exact (by rw [w32_i (x := 200 * ((12 * S + k : Nat) : Int)) (by omega) (by omega), w32_i (by omega) (by omega)]; omega)) (fun τ7' hP7 => ?_)
    rw [wp_lt, w32_i (by omega) (by omega), show (x : Int) + 1 = ((x + 1 : Nat) : Int) by omega]
    refine ih (x + 1) f' _ _ (by omega) (by omega) hP7 (fun a => ?_)
    have hpa := hp a
    unfold ups
    repeat' split
    all_goals (first | omega | (rw [hpa]; split <;> omega) | skip)
theorem cd262 {k fu0 : Nat} {rc : Int → Int → Int → St → Option (Unit × St)} (hS : S < 4) (hk : k < 12) {pb0 : Nat → Nat} {Q : Unit → St → Prop} (hQ : ∀ (τ2 : St) (pb : Nat → Nat), PG S pb τ τ2 → (∀ a, pb a = if a = 2088 ∨ a = 2089 ∨ a = 2090 ∨ a = 2091 ∨ a = 2092 ∨ a = 2093 then 300 * k + 300 else pb0 a) → wp (X15_copyDesign_447 rc FU (S : Int) 4 (k : Int) ((12 * 4 + k : Nat) : Int) ((12 * S + k : Nat) : Int) 0) τ2 Q) : ∀ (d x f : Nat) (τ1 : St) (pb : Nat → Nat), x + d = 300 → d < f → PG S pb τ τ1 → (∀ a, pb a = if a = 2088 ∨ a = 2089 ∨ a = 2090 ∨ a = 2091 ∨ a = 2092 ∨ a = 2093 then 300 * k + x else pb0 a) → wp (X15_copyDesign_262 rc f (S : Int) 4 (k : Int) ((12 * 4 + k : Nat) : Int) ((12 * S + k : Nat) : Int) (x : Int)) τ1 Q := by
  intro d
  induction d with
  | zero =>
    intro x f τ1 pb hx hf hP hp
    obtain ⟨f', rfl⟩ : ∃ f', f = f' + 1 := ⟨f - 1, by omega⟩
    rw [X15_copyDesign_262, wp_ifp (by omega), X15_copyDesign_444, wp_lt]
    exact hQ τ1 pb hP (by rw [show x = 300 by omega] at hp; exact hp)
  | succ d ih =>
    intro x f τ1 pb hx hf hP hp
    obtain ⟨f', rfl⟩ : ∃ f', f = f' + 1 := ⟨f - 1, by omega⟩
    rw [X15_copyDesign_262, wp_ifn (by omega)]
    refine cpI1 (a := 2088) (m := 300 * k + x) hS hP (by rw [hp 2088, if_pos (by decide)]) (by rw [show bw 2088 = 3600 from rfl]; omega) (by unfold lgA; decide) L2088 rfl (by rw [show bw 2088 = 3600 from rfl]; exact (by rw [w32_i (x := 300 * ((12 * 4 + k : Nat) : Int)) (by omega) (by omega), w32_i (by omega) (by omega)]; omega)) (by rw [show bw 2088 = 3600 from rfl]; exact (by rw [w32_i (x := 300 * ((12 * S + k : Nat) : Int)) (by omega) (by omega), w32_i (by omega) (by omega)]; omega)) (fun τ2' hP2 => ?_)
    refine cpI1 (a := 2089) (m := 300 * k + x) hS hP2 (by rw [ups_ne (by decide)]; rw [hp 2089, if_pos (by decide)]) (by rw [show bw 2089 = 3600 from rfl]; omega) (by unfold lgA; decide) L2089 rfl (by rw [show bw 2089 = 3600 from rfl]; exact (by rw [w32_i (x := 300 * ((12 * 4 + k : Nat) : Int)) (by omega) (by omega), w32_i (by omega) (by omega)]; omega)) (by rw [show bw 2089 = 3600 from rfl]; exact (by rw [w32_i (x := 300 * ((12 * S + k : Nat) : Int)) (by omega) (by omega), w32_i (by omega) (by omega)]; omega)) (fun τ3' hP3 => ?_)
    refine cpI1 (a := 2090) (m := 300 * k + x) hS hP3 (by rw [ups_ne (by decide)]; rw [ups_ne (by decide)]; rw [hp 2090, if_pos (by decide)]) (by rw [show bw 2090 = 3600 from rfl]; omega) (by unfold lgA; decide) L2090 rfl (by rw [show bw 2090 = 3600 from rfl]; exact (by rw [w32_i (x := 300 * ((12 * 4 + k : Nat) : Int)) (by omega) (by omega), w32_i (by omega) (by omega)]; omega)) (by rw [show bw 2090 = 3600 from rfl]; exact (by rw [w32_i (x := 300 * ((12 * S + k : Nat) : Int)) (by omega) (by omega), w32_i (by omega) (by omega)]; omega)) (fun τ4' hP4 => ?_)
    refine cpI1 (a := 2091) (m := 300 * k + x) hS hP4 (by rw [ups_ne (by decide)]; rw [ups_ne (by decide)]; rw [ups_ne (by decide)]; rw [hp 2091, if_pos (by decide)]) (by rw [show bw 2091 = 3600 from rfl]; omega) (by unfold lgA; decide) L2091 rfl (by rw [show bw 2091 = 3600 from rfl]; exact (by rw [w32_i (x := 300 * ((12 * 4 + k : Nat) : Int)) (by omega) (by omega), w32_i (by omega) (by omega)]; omega)) (by rw [show bw 2091 = 3600 from rfl]; exact (by rw [w32_i (x := 300 * ((12 * S + k : Nat) : Int)) (by omega) (by omega), w32_i (by omega) (by omega)]; omega)) (fun τ5' hP5 => ?_)
    refine cpI1 (a := 2092) (m := 300 * k + x) hS hP5 (by rw [ups_ne (by decide)]; rw [ups_ne (by decide)]; rw [ups_ne (by decide)]; rw [ups_ne (by decide)]; rw [hp 2092, if_pos (by decide)]) (by rw [show bw 2092 = 3600 from rfl]; omega) (by unfold lgA; decide) L2092 rfl (by rw [show bw 2092 = 3600 from rfl]; exact (by rw [w32_i (x := 300 * ((12 * 4 + k : Nat) : Int)) (by omega) (by omega), w32_i (by omega) (by omega)]; omega)) (by rw [show bw 2092 = 3600 from rfl]; exact (by rw [w32_i (x := 300 * ((12 * S + k : Nat) : Int)) (by omega) (by omega), w32_i (by omega) (by omega)]; omega)) (fun τ6' hP6 => ?_)
    refine cpL1 (a := 2093) (m := 300 * k + x) hS hP6 (by rw [ups_ne (by decide)]; rw [ups_ne (by decide)]; rw [ups_ne (by decide)]; rw [ups_ne (by decide)]; rw [ups_ne (by decide)]; rw [hp 2093, if_pos (by decide)]) (by rw [show bw 2093 = 3600 from rfl]; omega) (by unfold lgA; decide) L2093 rfl (by rw [show bw 2093 = 3600 from rfl]; exact (by rw [w32_i (x := 300 * ((12 * 4 + k : Nat) : Int)) (by omega) (by omega), w32_i (by omega) (by omega)]; omega)) (by rw [show bw 2093 = 3600 from rfl]; exact (by rw [w32_i (x := 300 * ((12 * S + k : Nat) : Int)) (by omega) (by omega), w32_i (by omega) (by omega)]; omega)) (fun τ7' hP7 => ?_)
    rw [wp_lt, w32_i (by omega) (by omega), show (x : Int) + 1 = ((x + 1 : Nat) : Int) by omega]
    refine ih (x + 1) f' _ _ (by omega) (by omega) hP7 (fun a => ?_)
    have hpa := hp a
    unfold ups
    repeat' split
    all_goals (first | omega | (rw [hpa]; split <;> omega) | skip)
theorem cd217 {k fu0 : Nat} {rc : Int → Int → Int → St → Option (Unit × St)} (hS : S < 4) (hk : k < 12) (hv87 : ∀ i, inB 2087 (τ.1 2087 i) = true) {pb0 : Nat → Nat} {Q : Unit → St → Prop} (hQ : ∀ (τ2 : St) (pb : Nat → Nat), PG S pb τ τ2 → (∀ a, pb a = if a = 2087 then 400 * k + 400 else pb0 a) → wp (X15_copyDesign_262 rc FU (S : Int) 4 (k : Int) ((12 * 4 + k : Nat) : Int) ((12 * S + k : Nat) : Int) 0) τ2 Q) : ∀ (d x f : Nat) (τ1 : St) (pb : Nat → Nat), x + d = 400 → d < f → PG S pb τ τ1 → (∀ a, pb a = if a = 2087 then 400 * k + x else pb0 a) → wp (X15_copyDesign_217 rc f (S : Int) 4 (k : Int) ((12 * 4 + k : Nat) : Int) ((12 * S + k : Nat) : Int) (x : Int)) τ1 Q := by
  intro d
  induction d with
  | zero =>
    intro x f τ1 pb hx hf hP hp
    obtain ⟨f', rfl⟩ : ∃ f', f = f' + 1 := ⟨f - 1, by omega⟩
    rw [X15_copyDesign_217, wp_ifp (by omega), X15_copyDesign_259, wp_lt]
    exact hQ τ1 pb hP (by rw [show x = 400 by omega] at hp; exact hp)
  | succ d ih =>
    intro x f τ1 pb hx hf hP hp
    obtain ⟨f', rfl⟩ : ∃ f', f = f' + 1 := ⟨f - 1, by omega⟩
    rw [X15_copyDesign_217, wp_ifn (by omega)]
    refine cpB1 (a := 2087) (m := 400 * k + x) hS hP (by rw [hp 2087, if_pos (by decide)]) (by rw [show bw 2087 = 4800 from rfl]; omega) (by unfold lgA; decide) L2087.1 hv87 rfl (by rw [show bw 2087 = 4800 from rfl]; exact (by rw [w32_i (x := 400 * ((12 * 4 + k : Nat) : Int)) (by omega) (by omega), w32_i (by omega) (by omega)]; omega)) (by rw [show bw 2087 = 4800 from rfl]; exact (by rw [w32_i (x := 400 * ((12 * S + k : Nat) : Int)) (by omega) (by omega), w32_i (by omega) (by omega)]; omega)) (fun τ2' hP2 => ?_)
    rw [wp_lt, w32_i (by omega) (by omega), show (x : Int) + 1 = ((x + 1 : Nat) : Int) by omega]
    refine ih (x + 1) f' _ _ (by omega) (by omega) hP2 (fun a => ?_)
    have hpa := hp a
    unfold ups
    repeat' split
    all_goals (first | omega | (rw [hpa]; split <;> omega) | skip)
theorem cd71 {k fu0 : Nat} {rc : Int → Int → Int → St → Option (Unit × St)} (hS : S < 4) (hk : k < 12) {pb0 : Nat → Nat} {Q : Unit → St → Prop} (hQ : ∀ (τ2 : St) (pb : Nat → Nat), PG S pb τ τ2 → (∀ a, pb a = if a = 2082 ∨ a = 2083 ∨ a = 2084 ∨ a = 2085 ∨ a = 2086 then 40 * k + 40 else pb0 a) → wp (X15_copyDesign_217 rc FU (S : Int) 4 (k : Int) ((12 * 4 + k : Nat) : Int) ((12 * S + k : Nat) : Int) 0) τ2 Q) : ∀ (d x f : Nat) (τ1 : St) (pb : Nat → Nat), x + d = 40 → d < f → PG S pb τ τ1 → (∀ a, pb a = if a = 2082 ∨ a = 2083 ∨ a = 2084 ∨ a = 2085 ∨ a = 2086 then 40 * k + x else pb0 a) → wp (X15_copyDesign_71 rc f (S : Int) 4 (k : Int) ((12 * 4 + k : Nat) : Int) ((12 * S + k : Nat) : Int) (x : Int)) τ1 Q := by
  intro d
  induction d with
  | zero =>
    intro x f τ1 pb hx hf hP hp
    obtain ⟨f', rfl⟩ : ∃ f', f = f' + 1 := ⟨f - 1, by omega⟩
    rw [X15_copyDesign_71, wp_ifp (by omega), X15_copyDesign_214, wp_lt]
    exact hQ τ1 pb hP (by rw [show x = 40 by omega] at hp; exact hp)
  | succ d ih =>
    intro x f τ1 pb hx hf hP hp
    obtain ⟨f', rfl⟩ : ∃ f', f = f' + 1 := ⟨f - 1, by omega⟩
    rw [X15_copyDesign_71, wp_ifn (by omega)]
    refine cpI1 (a := 2082) (m := 40 * k + x) hS hP (by rw [hp 2082, if_pos (by decide)]) (by rw [show bw 2082 = 480 from rfl]; omega) (by unfold lgA; decide) L2082 rfl (by rw [show bw 2082 = 480 from rfl]; exact (by rw [w32_i (x := 40 * ((12 * 4 + k : Nat) : Int)) (by omega) (by omega), w32_i (by omega) (by omega)]; omega)) (by rw [show bw 2082 = 480 from rfl]; exact (by rw [w32_i (x := 40 * ((12 * S + k : Nat) : Int)) (by omega) (by omega), w32_i (by omega) (by omega)]; omega)) (fun τ2' hP2 => ?_)
    refine cpI1 (a := 2083) (m := 40 * k + x) hS hP2 (by rw [ups_ne (by decide)]; rw [hp 2083, if_pos (by decide)]) (by rw [show bw 2083 = 480 from rfl]; omega) (by unfold lgA; decide) L2083 rfl (by rw [show bw 2083 = 480 from rfl]; exact (by rw [w32_i (x := 40 * ((12 * 4 + k : Nat) : Int)) (by omega) (by omega), w32_i (by omega) (by omega)]; omega)) (by rw [show bw 2083 = 480 from rfl]; exact (by rw [w32_i (x := 40 * ((12 * S + k : Nat) : Int)) (by omega) (by omega), w32_i (by omega) (by omega)]; omega)) (fun τ3' hP3 => ?_)
    refine cpI1 (a := 2084) (m := 40 * k + x) hS hP3 (by rw [ups_ne (by decide)]; rw [ups_ne (by decide)]; rw [hp 2084, if_pos (by decide)]) (by rw [show bw 2084 = 480 from rfl]; omega) (by unfold lgA; decide) L2084 rfl (by rw [show bw 2084 = 480 from rfl]; exact (by rw [w32_i (x := 40 * ((12 * 4 + k : Nat) : Int)) (by omega) (by omega), w32_i (by omega) (by omega)]; omega)) (by rw [show bw 2084 = 480 from rfl]; exact (by rw [w32_i (x := 40 * ((12 * S + k : Nat) : Int)) (by omega) (by omega), w32_i (by omega) (by omega)]; omega)) (fun τ4' hP4 => ?_)
    refine cpL1 (a := 2085) (m := 40 * k + x) hS hP4 (by rw [ups_ne (by decide)]; rw [ups_ne (by decide)]; rw [ups_ne (by decide)]; rw [hp 2085, if_pos (by decide)]) (by rw [show bw 2085 = 480 from rfl]; omega) (by unfold lgA; decide) L2085 rfl (by rw [show bw 2085 = 480 from rfl]; exact (by rw [w32_i (x := 40 * ((12 * 4 + k : Nat) : Int)) (by omega) (by omega), w32_i (by omega) (by omega)]; omega)) (by rw [show bw 2085 = 480 from rfl]; exact (by rw [w32_i (x := 40 * ((12 * S + k : Nat) : Int)) (by omega) (by omega), w32_i (by omega) (by omega)]; omega)) (fun τ5' hP5 => ?_)
    refine cpI1 (a := 2086) (m := 40 * k + x) hS hP5 (by rw [ups_ne (by decide)]; rw [ups_ne (by decide)]; rw [ups_ne (by decide)]; rw [ups_ne (by decide)]; rw [hp 2086, if_pos (by decide)]) (by rw [show bw 2086 = 480 from rfl]; omega) (by unfold lgA; decide) L2086 rfl (by rw [show bw 2086 = 480 from rfl]; exact (by rw [w32_i (x := 40 * ((12 * 4 + k : Nat) : Int)) (by omega) (by omega), w32_i (by omega) (by omega)]; omega)) (by rw [show bw 2086 = 480 from rfl]; exact (by rw [w32_i (x := 40 * ((12 * S + k : Nat) : Int)) (by omega) (by omega), w32_i (by omega) (by omega)]; omega)) (fun τ6' hP6 => ?_)
    rw [wp_lt, w32_i (by omega) (by omega), show (x : Int) + 1 = ((x + 1 : Nat) : Int) by omega]
    refine ih (x + 1) f' _ _ (by omega) (by omega) hP6 (fun a => ?_)
    have hpa := hp a
    unfold ups
    repeat' split
    all_goals (first | omega | (rw [hpa]; split <;> omega) | skip)
/-- the arrays of modules, of insts, of signals -/
def pbK (k a : Nat) : Nat := if a = 2077 ∨ a = 2078 ∨ a = 2080 then k else if 2082 ≤ a ∧ a ≤ 2086 then 40 * k else if a = 2087 then 400 * k else if 2088 ≤ a ∧ a ≤ 2093 then 300 * k else if 2094 ≤ a ∧ a ≤ 2099 then 200 * k else 0
theorem copyDM (hS : S < 4) (hv87 : ∀ i, inB 2087 (τ.1 2087 i) = true) (hv99 : ∀ i, inB 2099 (τ.1 2099 i) = true) {Q : Unit → St → Prop} (hQ : ∀ τ', PG S bw τ τ' → Q () τ') : wp (F_X15_copyDesign (S : Int)) τ Q := by
  have hFU := FU_ge
  have last : ∀ τ1 pb, PG S pb τ τ1 → (∀ a, pb a = pbK 12 a) → wp (X15_copyDesign_635 (S : Int) 4) τ1 Q := by
    intro τ1 pb hP hp
    rw [X15_copyDesign_635]
    refine cpI1 (a := 2115) (m := 0) hS hP (by rw [hp 2115]; rfl) (by decide) (by unfold lgA; decide) L2115 rfl (by rfl) (by rw [show bw 2115 = 1 from rfl]; omega) (fun τ2 hP2 => ?_)
    refine cpI1 (a := 2116) (m := 0) hS hP2 (by rw [ups_ne (by decide), hp 2116]; rfl) (by decide) (by unfold lgA; decide) L2116 rfl (by rfl) (by rw [show bw 2116 = 1 from rfl]; omega) (fun τ3 hP3 => ?_)
    rw [wp_lt]
    refine cd661 (k := 0) (fu0 := 0) hS (pb0 := ups (ups pb 2115 1) 2116 1) (fun τ4 pb4 hP4 hp4 => ?_) 101 0 FU τ3 _ (by omega) (by omega) hP3 (fun a => ?_)
    · refine cd763 (k := 0) (fu0 := 0) hS (pb0 := pb4) (fun τ5 pb5 hP5 hp5 => ?_) 4040 0 FU τ4 pb4 (by omega) (by omega) hP4 (fun a => ?_)
      · refine cd802 (k := 0) (fu0 := 0) hS (pb0 := pb5) (fun τ6 pb6 hP6 hp6 => ?_) 200 0 FU τ5 pb5 (by omega) (by omega) hP5 (fun a => ?_)
        · rw [wp_rt]
          have e : pb6 = bw := by
            funext a
            rw [hp6 a]
            by_cases c6 : a = 2122 ∨ a = 2123 ∨ a = 2124 ∨ a = 2125 ∨ a = 2126 ∨ a = 2129
            · rw [if_pos c6]
              rcases c6 with e | e | e | e | e | e <;> subst e <;> rfl
            · rw [if_neg c6, hp5 a]
              by_cases c5 : a = 2121
              · rw [if_pos c5]; subst c5; rfl
              · rw [if_neg c5, hp4 a]
                by_cases c4 : a = 2117 ∨ a = 2118 ∨ a = 2119 ∨ a = 2120
                · rw [if_pos c4]
                  rcases c4 with e | e | e | e <;> subst e <;> rfl
                · rw [if_neg c4]
                  by_cases d1 : a = 2116
                  · subst d1; rfl
                  · rw [ups_ne d1]
                    by_cases d2 : a = 2115
                    · subst d2; rfl
                    · rw [ups_ne d2, hp a]
                      unfold pbK bw
                      by_cases q1 : a = 2077 ∨ a = 2078 ∨ a = 2080
                      · rw [if_pos q1, if_pos q1]
                      · rw [if_neg q1, if_neg q1]
                        by_cases q2 : 2082 ≤ a ∧ a ≤ 2086
                        · rw [if_pos q2, if_pos q2]
                        · rw [if_neg q2, if_neg q2]
                          by_cases q3 : a = 2087
                          · rw [if_pos q3, if_pos q3]
                          · rw [if_neg q3, if_neg q3]
                            by_cases q4 : 2088 ≤ a ∧ a ≤ 2093
                            · rw [if_pos q4, if_pos q4]
                            · rw [if_neg q4, if_neg q4]
                              by_cases q5 : 2094 ≤ a ∧ a ≤ 2099
                              · rw [if_pos q5, if_pos q5]
                              · rw [if_neg q5, if_neg q5, if_neg (by omega), if_neg (by omega), if_neg (by omega), if_neg (by omega)]
          rw [e] at hP6
          exact hQ τ6 hP6
        · by_cases c6 : a = 2122 ∨ a = 2123 ∨ a = 2124 ∨ a = 2125 ∨ a = 2126 ∨ a = 2129
          · rw [if_pos c6, hp5 a, if_neg (by omega), hp4 a, if_neg (by omega), ups_ne (by omega), ups_ne (by omega), hp a]
            unfold pbK
            rw [if_neg (by omega), if_neg (by omega), if_neg (by omega), if_neg (by omega), if_neg (by omega)]
          · rw [if_neg c6]
      · by_cases c5 : a = 2121
        · rw [if_pos c5, hp4 a, if_neg (by omega), ups_ne (by omega), ups_ne (by omega), hp a]
          subst c5; rfl
        · rw [if_neg c5]
    · by_cases c4 : a = 2117 ∨ a = 2118 ∨ a = 2119 ∨ a = 2120
      · rw [if_pos c4, ups_ne (by omega), ups_ne (by omega), hp a]
        unfold pbK
        rw [if_neg (by omega), if_neg (by omega), if_neg (by omega), if_neg (by omega), if_neg (by omega)]
      · rw [if_neg c4]
  have key : ∀ d k f τ1 pb, k + d = 12 → d < f → PG S pb τ τ1 → (∀ a, pb a = pbK k a) → wp (X15_copyDesign_4 f (S : Int) 4 (k : Int)) τ1 Q := by
    intro d
    induction d with
    | zero =>
      intro k f τ1 pb hk hf hP hp
      obtain ⟨f', rfl⟩ : ∃ f', f = f' + 1 := ⟨f - 1, by omega⟩
      rw [X15_copyDesign_4, wp_ifp (by omega)]
      exact last τ1 pb hP (by rw [show k = 12 by omega] at hp; exact hp)
    | succ d ih =>
      intro k f τ1 pb hk hf hP hp
      obtain ⟨f', rfl⟩ : ∃ f', f = f' + 1 := ⟨f - 1, by omega⟩
      have hk12 : k < 12 := by omega
      have e4 : ∀ _ : Unit, w32 (w32 (12 * 4) + (k : Int)) = ((12 * 4 + k : Nat) : Int) := fun _ => by rw [w32_i (x := 12 * 4) (by decide) (by decide), w32_i (by omega) (by omega)]; omega
      have eS : ∀ _ : Unit, w32 (w32 (12 * (S : Int)) + (k : Int)) = ((12 * S + k : Nat) : Int) := fun _ => by rw [w32_i (x := 12 * (S : Int)) (by omega) (by omega), w32_i (by omega) (by omega)]; omega
      rw [X15_copyDesign_4, wp_ifn (by omega), wp_lt, wp_lt, e4 (), eS ()]
      refine cpI1 (a := 2077) (m := k) hS hP (by rw [hp 2077]; rfl) (by rw [show bw 2077 = 12 from rfl]; exact hk12) (by unfold lgA; decide) L2077 rfl rfl rfl (fun τ2 hP2 => ?_)
      refine cpI1 (a := 2078) (m := k) hS hP2 (by rw [ups_ne (by decide), hp 2078]; rfl) (by rw [show bw 2078 = 12 from rfl]; exact hk12) (by unfold lgA; decide) L2078 rfl rfl rfl (fun τ3 hP3 => ?_)
      refine cpI1 (a := 2080) (m := k) hS hP3 (by rw [ups_ne (by decide), ups_ne (by decide), hp 2080]; rfl) (by rw [show bw 2080 = 12 from rfl]; exact hk12) (by unfold lgA; decide) L2080 rfl rfl rfl (fun τ4 hP4 => ?_)
      rw [wp_lt]
      refine cd71 (k := k) (fu0 := 0) hS hk12 (pb0 := ups (ups (ups pb 2077 (k + 1)) 2078 (k + 1)) 2080 (k + 1)) (fun τ5 pb5 hP5 hp5 => ?_) 40 0 FU τ4 _ (by omega) (by omega) hP4 (fun a => ?_)
      · refine cd217 (k := k) (fu0 := 0) hS hk12 hv87 (pb0 := pb5) (fun τ6 pb6 hP6 hp6 => ?_) 400 0 FU τ5 pb5 (by omega) (by omega) hP5 (fun a => ?_)
        · refine cd262 (k := k) (fu0 := 0) hS hk12 (pb0 := pb6) (fun τ7 pb7 hP7 hp7 => ?_) 300 0 FU τ6 pb6 (by omega) (by omega) hP6 (fun a => ?_)
          · refine cd447 (k := k) (fu0 := 0) hS hk12 hv99 (pb0 := pb7) (fun τ8 pb8 hP8 hp8 => ?_) 200 0 FU τ7 pb7 (by omega) (by omega) hP7 (fun a => ?_)
            · refine ih (k + 1) f' τ8 pb8 (by omega) (by omega) hP8 (fun a => ?_)
              rw [hp8 a]
              by_cases q5 : a = 2094 ∨ a = 2095 ∨ a = 2096 ∨ a = 2097 ∨ a = 2098 ∨ a = 2099
              · rw [if_pos q5]
                unfold pbK
                rw [if_neg (by omega), if_neg (by omega), if_neg (by omega), if_neg (by omega), if_pos (by omega)]
                omega
              · rw [if_neg q5, hp7 a]
                by_cases q4 : a = 2088 ∨ a = 2089 ∨ a = 2090 ∨ a = 2091 ∨ a = 2092 ∨ a = 2093
                · rw [if_pos q4]
                  unfold pbK
                  rw [if_neg (by omega), if_neg (by omega), if_neg (by omega), if_pos (by omega)]
                  omega
                · rw [if_neg q4, hp6 a]
                  by_cases q3 : a = 2087
                  · rw [if_pos q3]
                    unfold pbK
                    rw [if_neg (by omega), if_neg (by omega), if_pos (by omega)]
                    omega
                  · rw [if_neg q3, hp5 a]
                    by_cases q2 : a = 2082 ∨ a = 2083 ∨ a = 2084 ∨ a = 2085 ∨ a = 2086
                    · rw [if_pos q2]
                      unfold pbK
                      rw [if_neg (by omega), if_pos (by omega)]
                      omega
                    · rw [if_neg q2]
                      by_cases d1 : a = 2080
                      · subst d1; rw [ups_eq]; rfl
                      · rw [ups_ne d1]
                        by_cases d2 : a = 2078
                        · subst d2; rw [ups_eq]; rfl
                        · rw [ups_ne d2]
                          by_cases d3 : a = 2077
                          · subst d3; rw [ups_eq]; rfl
                          · rw [ups_ne d3, hp a]
                            unfold pbK
                            rw [if_neg (by omega), if_neg (by omega), if_neg (by omega), if_neg (by omega), if_neg (by omega), if_neg (by omega), if_neg (by omega), if_neg (by omega), if_neg (by omega), if_neg (by omega)]
            · by_cases q5 : a = 2094 ∨ a = 2095 ∨ a = 2096 ∨ a = 2097 ∨ a = 2098 ∨ a = 2099
              · rw [if_pos q5, hp7 a, if_neg (by omega), hp6 a, if_neg (by omega), hp5 a, if_neg (by omega), ups_ne (by omega), ups_ne (by omega), ups_ne (by omega), hp a]
                unfold pbK
                rw [if_neg (by omega), if_neg (by omega), if_neg (by omega), if_neg (by omega), if_pos (by omega)]
                rfl
              · rw [if_neg q5]
          · by_cases q4 : a = 2088 ∨ a = 2089 ∨ a = 2090 ∨ a = 2091 ∨ a = 2092 ∨ a = 2093
            · rw [if_pos q4, hp6 a, if_neg (by omega), hp5 a, if_neg (by omega), ups_ne (by omega), ups_ne (by omega), ups_ne (by omega), hp a]
              unfold pbK
              rw [if_neg (by omega), if_neg (by omega), if_neg (by omega), if_pos (by omega)]
              rfl
            · rw [if_neg q4]
        · by_cases q3 : a = 2087
          · rw [if_pos q3, hp5 a, if_neg (by omega), ups_ne (by omega), ups_ne (by omega), ups_ne (by omega), hp a]
            unfold pbK
            rw [if_neg (by omega), if_neg (by omega), if_pos (by omega)]
            rfl
          · rw [if_neg q3]
      · by_cases q2 : a = 2082 ∨ a = 2083 ∨ a = 2084 ∨ a = 2085 ∨ a = 2086
        · rw [if_pos q2, ups_ne (by omega), ups_ne (by omega), ups_ne (by omega), hp a]
          unfold pbK
          rw [if_neg (by omega), if_pos (by omega)]
          rfl
        · rw [if_neg q2]
  rw [F_X15_copyDesign, wp_lt, wp_lt]
  refine key 12 0 FU τ (fun _ => 0) (by omega) (by omega) ⟨fun a => Nat.zero_le _, fun a j hj => absurd hj (Nat.not_lt_zero j), fun a i _ => ⟨rfl, rfl⟩, rfl⟩ (fun a => ?_)
  unfold pbK
  repeat' split
  all_goals rfl
end
