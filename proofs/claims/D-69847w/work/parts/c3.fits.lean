set_option maxRecDepth 100000
set_option maxHeartbeats 400000
/-! ===== designs: what a design is; its limits ===== -/
def DP (Ms : Nat → ModV) (top : Nat) (s : LYS) : Prop := (top < 12 ∧ (∀ m, mdT (Ms m) ≤ 40) ∧ ∀ m, m ≤ top → modOK Ms m (Ms m)) ∧ ((0 < lsI s ∧ lsI s ≤ 101) ∧ lsG s ≤ 200) ∧ (∀ x, x < lsI s → lsM s x ≤ top ∧ ∀ y, y < mdT (Ms (lsM s x)) → plOK Ms s x y) ∧ (∀ g, g < lsG s → sgOK Ms s g) ∧ (∀ j, 0 < j → j < lsI s → inOK Ms s 0 0 (mdT (Ms top)) j) ∧ lsM s 0 = top ∧ lsP s 0 = -1 ∧ lsT s 0 = -1 ∧ lsD s 0 = 0
/-- the places of all things -/
def plW (Ms : Nat → ModV) (s : LYS) (k : Nat) : Prop := ∃ x y, x < lsI s ∧ y < mdT (Ms (lsM s x)) ∧ k = 40 * x + y
def DX (σ : St) (o : Nat) (Ms : Nat → ModV) (top : Nat) (s : LYS) : Prop := LYX σ o (plW Ms s) s ∧ MX σ o Ms ∧ (∀ m, m ≤ top → modX σ (o + 27 + 25 * m) (Ms m)) ∧ σ.1 o 1 = (top : Int)
def DM (τ : St) (S : Nat) (Ms : Nat → ModV) (top : Nat) (s : LYS) : Prop := LYM τ S Ms (plW Ms s) s ∧ ∀ m, m ≤ top → modM τ (12 * S + m) (Ms m)
theorem DP_of {Ms : Nat → ModV} {k m : Nat} (hk : k ≤ 12) (h40 : ∀ m, mdT (Ms m) ≤ 40) (hok : ∀ m, m < k → modOK Ms m (Ms m)) (hm : m < k) {f : Nat} {s : LYS} (h : layF Ms f ls0 m (-1) (-1) 0 = some s) : DP Ms m s := by
  have h1 := layF_ok (K := k) h40 (fun m t hm ht h5 => ((hok m hm).2.2.1 t ht).1.2.2.2.2.2 h5) f ls0 m (-1) (-1) 0 s hm (Nat.zero_le _) (Nat.zero_le _) h
  obtain ⟨-, w2, ⟨w3, w3'⟩, ⟨w4, w5, w6, w7⟩, ⟨w8, w9⟩, w10, w11⟩ := h1
  have e0 : lsI ls0 = 0 := rfl
  rw [e0] at w2 w4 w5 w6 w7 w8 w9 w10 w11
  refine ⟨⟨by omega, h40, fun x hx => hok x (by omega)⟩, ⟨⟨w2, w3⟩, w3'⟩, fun x hx => ?_, fun g hg => (w10 g (Nat.zero_le _) hg).2.1, w11, w4, w5, w6, w7⟩
  rcases Nat.eq_zero_or_pos x with e | e
  · subst e
    rw [w4]
    exact ⟨Nat.le_refl _, w8⟩
  · exact w9 x e hx
section
variable {Ms : Nat → ModV} {top : Nat} {s : LYS} {σ σ' τ τ' : St} {o S : Nat}
/-- the cells of a component's design that hold it -/
def dP (o a i : Nat) : Prop := (a = o ∧ (i = 1 ∨ i = 7 ∨ i = 10)) ∨ (o + 1 ≤ a ∧ a ≤ o + 8) ∨ (o + 27 ≤ a ∧ a ≤ o + 326)
theorem DX.fr (h : DX σ o Ms top s) (ht : top < 12) (e : agr (dP o) σ σ') : DX σ' o Ms top s := by
  obtain ⟨⟨⟨h7, h10⟩, hi, hl, hg⟩, hm, hM, h1⟩ := h
  have r : ∀ a, (o + 1 ≤ a ∧ a ≤ o + 8) ∨ (o + 27 ≤ a ∧ a ≤ o + 326) → σ'.1 a = σ.1 a := fun a ha => e.row (fun i => by unfold dP; omega)
  have c : ∀ i, (i = 1 ∨ i = 7 ∨ i = 10) → σ'.1 o i = σ.1 o i := fun i hi => (e o i (by unfold dP; omega)).1
  refine ⟨⟨⟨by rw [c 7 (by omega)]; exact h7, by rw [c 10 (by omega)]; exact h10⟩, fun i h => ?_, fun k h => ?_, fun g h => ?_⟩, fun m h => ?_, fun m h => (hM m h).fr (fun a q1 q2 => r a (by omega)), by rw [c 1 (by omega)]; exact h1⟩
  · rw [r (o + 2) (by omega), r (o + 3) (by omega), r (o + 4) (by omega), r (o + 5) (by omega)]; exact hi i h
  · rw [r (o + 6) (by omega)]; exact hl k h
  · rw [r (o + 7) (by omega), r (o + 8) (by omega)]; exact hg g h
  · rw [(e (o + 1) m (by unfold dP; omega)).2.2]; exact hm m h
/-- the cells of a twin's slot that hold a design -/
def dT (S a i : Nat) : Prop := ((a = 2115 ∨ a = 2116) ∧ i = S) ∨ (2117 ≤ a ∧ a ≤ 2120 ∧ 101 * S ≤ i ∧ i < 101 * S + 101) ∨ (a = 2121 ∧ 4040 * S ≤ i ∧ i < 4040 * S + 4040) ∨ (2122 ≤ a ∧ a ≤ 2126 ∧ 200 * S ≤ i ∧ i < 200 * S + 200) ∨ (2077 ≤ a ∧ a ≤ 2080 ∧ 12 * S ≤ i ∧ i < 12 * S + 12) ∨ (2082 ≤ a ∧ a ≤ 2086 ∧ 480 * S ≤ i ∧ i < 480 * S + 480) ∨ (a = 2087 ∧ 4800 * S ≤ i ∧ i < 4800 * S + 4800) ∨ (2088 ≤ a ∧ a ≤ 2093 ∧ 3600 * S ≤ i ∧ i < 3600 * S + 3600) ∨ (2094 ≤ a ∧ a ≤ 2100 ∧ 2400 * S ≤ i ∧ i < 2400 * S + 2400)
theorem DM.fr (h : DM τ S Ms top s) (hd : DP Ms top s) (e : agr (dT S) τ τ') : DM τ' S Ms top s := by
  obtain ⟨⟨⟨h7, h10⟩, hi, hl, hg⟩, hM⟩ := h
  obtain ⟨⟨ht, h40, hok⟩, ⟨⟨b0, b1⟩, b2⟩, hpl, hsg, -⟩ := hd
  refine ⟨⟨⟨by rw [(e 2115 S (by unfold dT; omega)).1]; exact h7, by rw [(e 2116 S (by unfold dT; omega)).1]; exact h10⟩, fun i h => ?_, fun k h => ?_, fun g h => ?_⟩, fun m h => (hM m h).fr (h40 m) (hok m h).1.2.1 (hok m h).1.2.2.2.2.2 (fun c hc => ((hok m h).2.2.2.2.1 c hc).2.2) (agr.sub e (fun a i q => ?_))⟩
  · rw [(e 2117 (101 * S + i) (by unfold dT; omega)).1, (e 2118 (101 * S + i) (by unfold dT; omega)).1, (e 2119 (101 * S + i) (by unfold dT; omega)).1, (e 2120 (101 * S + i) (by unfold dT; omega)).1]; exact hi i h
  · obtain ⟨x, y, h1, h2, h3⟩ := id h
    have := h40 (lsM s x)
    rw [(e 2121 (4040 * S + k) (by unfold dT; omega)).1]; exact hl k h
  · rw [(e 2122 (200 * S + g) (by unfold dT; omega)).1, (e 2123 (200 * S + g) (by unfold dT; omega)).1, (e 2124 (200 * S + g) (by unfold dT; omega)).1, (e 2125 (200 * S + g) (by unfold dT; omega)).1, (e 2126 (200 * S + g) (by unfold dT; omega)).1]; exact hg g h
  · unfold stS at q
    unfold dT
    have hm : m < 12 := by omega
    clear hi hl hg hM hpl hsg hok h40
    rcases q with q | q | q | q | q
    · exact Or.inr (Or.inr (Or.inr (Or.inr (Or.inl (by omega)))))
    · exact Or.inr (Or.inr (Or.inr (Or.inr (Or.inr (Or.inl (by omega))))))
    · exact Or.inr (Or.inr (Or.inr (Or.inr (Or.inr (Or.inr (Or.inl (by omega)))))))
    · exact Or.inr (Or.inr (Or.inr (Or.inr (Or.inr (Or.inr (Or.inr (Or.inl (by omega))))))))
    · exact Or.inr (Or.inr (Or.inr (Or.inr (Or.inr (Or.inr (Or.inr (Or.inr (by omega))))))))
/-- a signal -/
theorem DP.sig (hd : DP Ms top s) {g : Nat} (hg : g < lsG s) : lsi s g < lsI s ∧ lsM s (lsi s g) ≤ top ∧ lsth s g < mdT (Ms (lsM s (lsi s g))) ∧ kdS Ms s g ≤ 4 ∧ (1 ≤ wdS Ms s g ∧ wdS Ms s g ≤ 32) ∧ (1 ≤ wsG Ms s g ∧ wsG Ms s g ≤ 64) ∧ (kdS Ms s g ≠ 4 → wsG Ms s g = 1) ∧ (kdS Ms s g = 3 → bgS Ms s g < 2 ^ wdS Ms s g) ∧ (kdS Ms s g ≠ 3 → bgS Ms s g = 0) ∧ lsL s (40 * lsi s g + lsth s g) = g ∧ plW Ms s (40 * lsi s g + lsth s g) := by
  obtain ⟨⟨ht, h40, hok⟩, -, hpl, hsg, -⟩ := hd
  obtain ⟨a1, a2, a3, a4⟩ := hsg g hg
  have hm := (hpl _ a1).1
  obtain ⟨⟨b1, b2, b3, b4, b5, b6⟩, -⟩ := (hok _ hm).2.2.1 _ a2
  unfold kdS wdS wsG bgS
  exact ⟨a1, hm, a2, by omega, b2 a3, ⟨b3.1, b3.2.1⟩, b3.2.2, b4, b5, a4, _, _, a1, a2, rfl⟩
/-- the component asks of a signal -/
theorem x_module (hd : DP Ms top s) (hD : isD o) (hX : DX σ o Ms top s) {g : Nat} (hg : g < lsG s) {Q : Option Nat → St → Prop} : wp (F_X13_moduleOf o (g : Int)) σ Q = Q (some (o + 27 + 25 * lsM s (lsi s g))) σ := by
  obtain ⟨a1, a2, a3, -⟩ := hd.sig hg
  have h200 := hd.2.1.2
  have h101 := hd.2.1.1.2
  have h12 := hd.1.1
  obtain ⟨⟨-, xi, -, xg⟩, xm, -⟩ := hX
  rw [F_X13_moduleOf, wp_bd, DI_7 hD (by omega) (by omega), tn, (xg g hg).1, wp_bd, DI_2 hD (by omega) (by omega), tn, (xi _ a1).1, wp_bd, DI_1 hD (by omega) (by omega), tn, xm _ (by omega), wp_rt]
theorem x_kind (hd : DP Ms top s) (hD : isD o) (hX : DX σ o Ms top s) {g : Nat} (hg : g < lsG s) {Q : Int → St → Prop} : wp (F_X13_kind o (g : Int)) σ Q = Q (kdS Ms s g : Int) σ := by
  obtain ⟨a1, a2, a3, -⟩ := hd.sig hg
  have h200 := hd.2.1.2
  have h12 := hd.1.1
  have h40 := hd.1.2.1 (lsM s (lsi s g))
  have hMd := isMd_D hD (show lsM s (lsi s g) < 12 by omega)
  rw [F_X13_kind, wp_bd, x_module hd hD hX hg, wp_nn, wp_ck, and_t (ly_Md hMd), wp_bd, DI_8 hD (by omega) (by omega), tn, (hX.1.2.2.2 g hg).2, wp_bd, MI_4 hMd (by omega) (by omega), tn, wp_rt, ((hX.2.2.1 _ a2).2.1 _ a3).1.2.1]
  rfl
theorem x_width (hd : DP Ms top s) (hD : isD o) (hX : DX σ o Ms top s) {g : Nat} (hg : g < lsG s) {Q : Int → St → Prop} : wp (F_X13_width o (g : Int)) σ Q = Q (wdS Ms s g : Int) σ := by
  obtain ⟨a1, a2, a3, a4, -⟩ := hd.sig hg
  have h200 := hd.2.1.2
  have h12 := hd.1.1
  have h40 := hd.1.2.1 (lsM s (lsi s g))
  have hMd := isMd_D hD (show lsM s (lsi s g) < 12 by omega)
  rw [F_X13_width, wp_bd, x_module hd hD hX hg, wp_nn, wp_ck, and_t (ly_Md hMd), wp_bd, DI_8 hD (by omega) (by omega), tn, (hX.1.2.2.2 g hg).2, wp_bd, MI_5 hMd (by omega) (by omega), tn, wp_rt, ((hX.2.2.1 _ a2).2.1 _ a3).1.2.2.1 (by unfold kdS at a4; omega)]
  rfl
theorem x_words (hd : DP Ms top s) (hD : isD o) (hX : DX σ o Ms top s) {g : Nat} (hg : g < lsG s) {Q : Int → St → Prop} : wp (F_X13_wordsOf o (g : Int)) σ Q = Q (wsG Ms s g : Int) σ := by
  obtain ⟨a1, a2, a3, -⟩ := hd.sig hg
  have h200 := hd.2.1.2
  have h12 := hd.1.1
  have h40 := hd.1.2.1 (lsM s (lsi s g))
  have hMd := isMd_D hD (show lsM s (lsi s g) < 12 by omega)
  rw [F_X13_wordsOf, wp_bd, x_module hd hD hX hg, wp_nn, wp_ck, and_t (ly_Md hMd), wp_bd, DI_8 hD (by omega) (by omega), tn, (hX.1.2.2.2 g hg).2, wp_bd, MI_6 hMd (by omega) (by omega), tn, wp_rt, ((hX.2.2.1 _ a2).2.1 _ a3).1.2.2.2.1]
  rfl
/-- kinds of signals -/
def stG (Ms : Nat → ModV) (s : LYS) (g : Nat) : Prop := kdS Ms s g = 3 ∨ kdS Ms s g = 4
def tiG (Ms : Nat → ModV) (s : LYS) (g : Nat) : Prop := lsi s g = 0 ∧ kdS Ms s g = 0
def toG (Ms : Nat → ModV) (s : LYS) (g : Nat) : Prop := lsi s g = 0 ∧ kdS Ms s g = 1
noncomputable def b01 (p : Prop) : Int := by
  classical
  exact if p then 1 else 0
theorem b01_y {p : Prop} (h : p) : b01 p = 1 := if_pos h
theorem b01_n {p : Prop} (h : ¬ p) : b01 p = 0 := if_neg h
theorem x_state (hd : DP Ms top s) (hD : isD o) (hX : DX σ o Ms top s) {g : Nat} (hg : g < lsG s) {Q : Int → St → Prop} : wp (F_X13_isState o (g : Int)) σ Q = Q (b01 (stG Ms s g)) σ := by
  rw [F_X13_isState, wp_bd, x_kind hd hD hX hg]
  by_cases c : kdS Ms s g = 3
  · rw [wp_ifp (by omega), c_rtZ (by decide) (by decide), b01_y (show stG Ms s g from Or.inl c)]
  · rw [wp_ifn (by omega), wp_bd, x_kind hd hD hX hg]
    by_cases c2 : kdS Ms s g = 4
    · rw [wp_ifp (by omega), c_rtZ (by decide) (by decide), b01_y (show stG Ms s g from Or.inr c2)]
    · rw [wp_ifn (by omega), c_rtZ (by decide) (by decide), b01_n (by unfold stG; omega)]
theorem x_topIn (hd : DP Ms top s) (hD : isD o) (hX : DX σ o Ms top s) {g : Nat} (hg : g < lsG s) {Q : Int → St → Prop} : wp (F_X13_isTopIn o (g : Int)) σ Q = Q (b01 (tiG Ms s g)) σ := by
  have h200 := hd.2.1.2
  rw [F_X13_isTopIn, wp_bd, DI_7 hD (by omega) (by omega), tn, (hX.1.2.2.2 g hg).1]
  by_cases c : lsi s g = 0
  · rw [wp_ifp (by omega), wp_bd, x_kind hd hD hX hg]
    by_cases c2 : kdS Ms s g = 0
    · rw [wp_ifp (by omega), c_rtZ (by decide) (by decide), b01_y ⟨c, c2⟩]
    · rw [wp_ifn (by omega), c_rtZ (by decide) (by decide), b01_n (fun h => c2 h.2)]
  · rw [wp_ifn (by omega), c_rtZ (by decide) (by decide), b01_n (fun h => c h.1)]
theorem x_topOut (hd : DP Ms top s) (hD : isD o) (hX : DX σ o Ms top s) {g : Nat} (hg : g < lsG s) {Q : Int → St → Prop} : wp (F_X13_isTopOut o (g : Int)) σ Q = Q (b01 (toG Ms s g)) σ := by
  have h200 := hd.2.1.2
  rw [F_X13_isTopOut, wp_bd, DI_7 hD (by omega) (by omega), tn, (hX.1.2.2.2 g hg).1]
  by_cases c : lsi s g = 0
  · rw [wp_ifp (by omega), wp_bd, x_kind hd hD hX hg]
    by_cases c2 : kdS Ms s g = 1
    · rw [wp_ifp (by omega), c_rtZ (by decide) (by decide), b01_y ⟨c, c2⟩]
    · rw [wp_ifn (by omega), c_rtZ (by decide) (by decide), b01_n (fun h => c2 h.2)]
  · rw [wp_ifn (by omega), c_rtZ (by decide) (by decide), b01_n (fun h => c h.1)]
/-! sums -/
def smF (f : Nat → Nat) : Nat → Nat
  | 0 => 0
  | n + 1 => smF f n + f n
theorem smF_mono {f : Nat → Nat} : ∀ {n m : Nat}, n ≤ m → smF f n ≤ smF f m := by
  intro n m h
  induction m with
  | zero => rw [Nat.le_zero.mp h]; exact Nat.le_refl _
  | succ m ih =>
    by_cases e : n = m + 1
    · subst e; exact Nat.le_refl _
    · have := ih (by omega)
      show smF f n ≤ smF f m + f m
      omega
theorem smF_le {f h : Nat → Nat} : ∀ {n : Nat}, (∀ i, i < n → f i ≤ h i) → smF f n ≤ smF h n := by
  intro n
  induction n with
  | zero => intro _; exact Nat.le_refl _
  | succ n ih =>
    intro q
    have h1 := ih (fun i hi => q i (by omega))
    have h2 := q n (by omega)
    show smF f n + f n ≤ smF h n + h n
    omega
theorem smF_cong {f h : Nat → Nat} : ∀ {n : Nat}, (∀ i, i < n → f i = h i) → smF f n = smF h n := by
  intro n
  induction n with
  | zero => intro _; rfl
  | succ n ih =>
    intro q
    show smF f n + f n = smF h n + h n
    rw [ih (fun i hi => q i (by omega)), q n (by omega)]
def szG (Ms : Nat → ModV) (s : LYS) (g : Nat) : Nat := wdS Ms s g * wsG Ms s g
noncomputable def b1 (p : Prop) (n : Nat) : Nat := by
  classical
  exact if p then n else 0
theorem b1_y {p : Prop} {n : Nat} (h : p) : b1 p n = n := if_pos h
theorem b1_n {p : Prop} {n : Nat} (h : ¬ p) : b1 p n = 0 := if_neg h
theorem b1_le {p : Prop} {n : Nat} : b1 p n ≤ n := by
  by_cases h : p
  · rw [b1_y h]; exact Nat.le_refl _
  · rw [b1_n h]; exact Nat.zero_le _
noncomputable def bitsS (Ms : Nat → ModV) (s : LYS) (g : Nat) : Nat := smF (szG Ms s) g
noncomputable def keptS (Ms : Nat → ModV) (s : LYS) (g : Nat) : Nat := smF (fun g => b1 (stG Ms s g) (szG Ms s g)) g
noncomputable def insS (Ms : Nat → ModV) (s : LYS) (g : Nat) : Nat := smF (fun g => b1 (tiG Ms s g) 1) g
noncomputable def inbS (Ms : Nat → ModV) (s : LYS) (g : Nat) : Nat := smF (fun g => b1 (tiG Ms s g) (szG Ms s g)) g
noncomputable def outS (Ms : Nat → ModV) (s : LYS) (g : Nat) : Nat := smF (fun g => b1 (toG Ms s g) 1) g
noncomputable def oubS (Ms : Nat → ModV) (s : LYS) (g : Nat) : Nat := smF (fun g => b1 (toG Ms s g) (szG Ms s g)) g
noncomputable def wrdS (Ms : Nat → ModV) (s : LYS) (g : Nat) : Nat := smF (fun g => b1 (kdS Ms s g = 4) (wsG Ms s g)) g
/-- within the limits -/
def limOK (Ms : Nat → ModV) (s : LYS) : Prop := (bitsS Ms s (lsG s) ≤ 2000 ∧ keptS Ms s (lsG s) ≤ 200) ∧ insS Ms s (lsG s) ≤ 24 ∧ inbS Ms s (lsG s) ≤ 64 ∧ outS Ms s (lsG s) ≤ 24 ∧ oubS Ms s (lsG s) ≤ 64
theorem sm_up {f : Nat → Nat} {n : Nat} : smF f (n + 1) = smF f n + f n := rfl
theorem szG_le (hd : DP Ms top s) {g : Nat} (hg : g < lsG s) : 1 ≤ szG Ms s g ∧ szG Ms s g ≤ 2048 := by
  obtain ⟨-, -, -, -, ⟨a1, a2⟩, ⟨a3, a4⟩, -⟩ := hd.sig hg
  unfold szG
  have := Nat.mul_le_mul a2 a4
  have := Nat.mul_le_mul a1 a3
  omega
theorem wrd_le (hd : DP Ms top s) {g : Nat} (hg : g ≤ lsG s) : wrdS Ms s g ≤ keptS Ms s g := by
  unfold wrdS keptS
  refine smF_le (fun i hi => ?_)
  obtain ⟨-, -, -, -, ⟨a1, a2⟩, ⟨a3, a4⟩, -⟩ := hd.sig (show i < lsG s by omega)
  by_cases c : kdS Ms s i = 4
  · rw [b1_y c, b1_y (show stG Ms s i from Or.inr c)]
    unfold szG
    have := Nat.mul_le_mul a1 (Nat.le_refl (wsG Ms s i))
    omega
  · rw [b1_n c]; exact Nat.zero_le _
theorem sums_le {g : Nat} : keptS Ms s g ≤ bitsS Ms s g ∧ inbS Ms s g ≤ bitsS Ms s g ∧ oubS Ms s g ≤ bitsS Ms s g ∧ insS Ms s g ≤ g ∧ outS Ms s g ≤ g := by
  refine ⟨smF_le (fun i hi => b1_le), smF_le (fun i hi => b1_le), smF_le (fun i hi => b1_le), ?_, ?_⟩
  · induction g with
    | zero => exact Nat.le_refl _
    | succ g ih =>
      have : b1 (tiG Ms s g) 1 ≤ 1 := b1_le
      show insS Ms s g + b1 (tiG Ms s g) 1 ≤ g + 1
      omega
  · induction g with
    | zero => exact Nat.le_refl _
    | succ g ih =>
      have : b1 (toG Ms s g) 1 ≤ 1 := b1_le
      show outS Ms s g + b1 (toG Ms s g) 1 ≤ g + 1
      omega
theorem bits_up (hd : DP Ms top s) {g : Nat} (hg : g ≤ lsG s) : bitsS Ms s g ≤ 2048 * g := by
  induction g with
  | zero => exact Nat.le_refl _
  | succ g ih =>
    have h1 := ih (by omega)
    have h2 := szG_le hd (show g < lsG s by omega)
    show bitsS Ms s g + szG Ms s g ≤ 2048 * (g + 1)
    omega
/-- the component's numbers of a design -/
def DL (σ : St) (o : Nat) (Ms : Nat → ModV) (s : LYS) : Prop := (∀ g, g < lsG s → σ.1 (o + 19) g = (keptS Ms s g : Int) ∧ σ.1 (o + 21) g = (wrdS Ms s g : Int)) ∧ σ.1 o 25 = (keptS Ms s (lsG s) : Int) ∧ σ.1 o 31 = (wrdS Ms s (lsG s) : Int)
/-- what the limits leave alone -/
def lF (o a i : Nat) : Prop := ¬ ((a = o ∧ (i = 25 ∨ i = 31)) ∨ a = o + 19 ∨ a = o + 21)
theorem lim15 (hd : DP Ms top s) (hM : DM τ 4 Ms top s) {Q : Int → St → Prop} (hy : limOK Ms s → Q 1 τ) (hn : ¬ limOK Ms s → Q 0 τ) : wp F_X15_fits τ Q := by
  have hF := FU_ge
  have h200 := hd.2.1.2
  obtain ⟨⟨⟨m15, m16⟩, mi, -, mg⟩, -⟩ := hM
  rw [F_X15_fits, wp_lt, wp_lt, wp_lt, wp_lt, wp_lt, wp_lt, wp_lt, wp_lt]
  have key : ∀ k g f, g + k = lsG s → k < f → wp (X15_fits_21 f 4 (bitsS Ms s g : Int) (insS Ms s g : Int) (inbS Ms s g : Int) (outS Ms s g : Int) (oubS Ms s g : Int) (keptS Ms s g : Int) (g : Int)) τ Q := by
    intro k
    induction k with
    | zero =>
      intro g f hg hf
      obtain ⟨f', rfl⟩ : ∃ f', f = f' + 1 := ⟨f - 1, by omega⟩
      have eg : g = lsG s := by omega
      subst eg
      rw [X15_fits_21, wp_bd, RI_2115 (by decide) (by decide), toN4, m15, wp_ifp (by omega), X15_fits_222]
      by_cases c1 : bitsS Ms s (lsG s) ≤ 2000
      · rw [wp_ifn (by omega)]
        by_cases c2 : insS Ms s (lsG s) ≤ 24
        · rw [wp_ifn (by omega)]
          by_cases c3 : inbS Ms s (lsG s) ≤ 64
          · rw [wp_ifn (by omega)]
            by_cases c4 : keptS Ms s (lsG s) ≤ 200
            · rw [wp_ifn (by omega)]
              by_cases c5 : outS Ms s (lsG s) ≤ 24
              · rw [wp_ifn (by omega)]
                by_cases c6 : oubS Ms s (lsG s) ≤ 64
                · rw [wp_ifn (by omega), c_rtZ (by decide) (by decide)]; exact hy ⟨⟨c1, c4⟩, c2, c3, c5, c6⟩
                · rw [wp_ifp (by omega), c_rtZ (by decide) (by decide)]; exact hn (fun h => c6 h.2.2.2.2)
              · rw [wp_ifp (by omega), c_rtZ (by decide) (by decide)]; exact hn (fun h => c5 h.2.2.2.1)
            · rw [wp_ifp (by omega), c_rtZ (by decide) (by decide)]; exact hn (fun h => c4 h.1.2)
          · rw [wp_ifp (by omega), c_rtZ (by decide) (by decide)]; exact hn (fun h => c3 h.2.2.1)
        · rw [wp_ifp (by omega), c_rtZ (by decide) (by decide)]; exact hn (fun h => c2 h.2.1)
      · rw [wp_ifp (by omega), c_rtZ (by decide) (by decide)]; exact hn (fun h => c1 h.1.1)
    | succ k ih =>
      intro g f hg hf
      obtain ⟨f', rfl⟩ : ∃ f', f = f' + 1 := ⟨f - 1, by omega⟩
      obtain ⟨-, ⟨g2, g3, g4⟩, g5, g6⟩ := mg g (by omega)
      have hsz := szG_le hd (show g < lsG s by omega)
      have hb := bits_up hd (show g ≤ lsG s by omega)
      obtain ⟨s1, s2, s3, s4, s5⟩ := sums_le (Ms := Ms) (s := s) (g := g)
      have e9 : ∀ _ : Unit, w32 (w32 (200 * 4) + (g : Int)) = ((200 * 4 + g : Nat) : Int) := fun _ => by rw [w32_i (x := 200 * 4) (by decide) (by decide), w32_i (by omega) (by omega)]; omega
      have em : ∀ _ : Unit, w32 ((wdS Ms s g : Int) * (wsG Ms s g : Int)) = (szG Ms s g : Int) := fun _ => by
        rw [← Int.natCast_mul]
        exact w32_i (by unfold szG at hsz; omega) (by unfold szG at hsz; omega)
      rw [X15_fits_21, wp_bd, RI_2115 (by decide) (by decide), toN4, m15, wp_ifn (by omega), wp_lt, e9 (), wp_bd, RI_2123 (by omega) (by omega), tn, g3, wp_bd, RI_2124 (by omega) (by omega), tn, g4, wp_lt, em (), wp_lt, w32_i (by omega) (by omega), wp_bd, RI_2122 (by omega) (by omega), tn, g2]
      rw [show (bitsS Ms s g : Int) + (szG Ms s g : Int) = ((bitsS Ms s (g + 1) : Nat) : Int) by show _ = ((bitsS Ms s g + szG Ms s g : Nat) : Int); omega]
      have h94 : ∀ k1 : Int, k1 = (b1 (stG Ms s g) (szG Ms s g) : Int) → wp (X15_fits_94 (X15_fits_21 f') 4 (bitsS Ms s (g + 1) : Int) (insS Ms s g : Int) (inbS Ms s g : Int) (outS Ms s g : Int) (oubS Ms s g : Int) (g : Int) ((200 * 4 + g : Nat) : Int) (szG Ms s g : Int) (keptS Ms s g : Int) k1) τ Q := by
        rintro k1 rfl
        have hk1 : b1 (stG Ms s g) (szG Ms s g) ≤ szG Ms s g := b1_le
        rw [X15_fits_94, wp_lt, w32_i (by omega) (by omega), show (keptS Ms s g : Int) + (b1 (stG Ms s g) (szG Ms s g) : Int) = ((keptS Ms s (g + 1) : Nat) : Int) by show _ = ((keptS Ms s g + b1 (stG Ms s g) (szG Ms s g) : Nat) : Int); omega, wp_bd, RI_2125 (by omega) (by omega), tn, g5]
        have last : ∀ a b c d : Nat, a = b1 (tiG Ms s g) 1 → b = b1 (tiG Ms s g) (szG Ms s g) → c = b1 (toG Ms s g) 1 → d = b1 (toG Ms s g) (szG Ms s g) → wp (X15_fits_213 (X15_fits_21 f') 4 (bitsS Ms s (g + 1) : Int) ((insS Ms s g + a : Nat) : Int) ((inbS Ms s g + b : Nat) : Int) ((outS Ms s g + c : Nat) : Int) (keptS Ms s (g + 1) : Int) (g : Int) (oubS Ms s g : Int) (d : Int)) τ Q := by
          rintro a b c d rfl rfl rfl rfl
          have q1 : b1 (toG Ms s g) (szG Ms s g) ≤ szG Ms s g := b1_le
          rw [X15_fits_213, wp_lt, wp_lt, w32_i (by omega) (by omega), w32_i (by omega) (by omega), show (g : Int) + 1 = ((g + 1 : Nat) : Int) by omega, show (oubS Ms s g : Int) + (b1 (toG Ms s g) (szG Ms s g) : Int) = ((oubS Ms s (g + 1) : Nat) : Int) by show _ = ((oubS Ms s g + b1 (toG Ms s g) (szG Ms s g) : Nat) : Int); omega]
          exact ih (g + 1) f' (by omega) (by omega)
        have w1 : ∀ a c : Nat, a ≤ 200 → c ≤ 1 → w32 ((a : Int) + (c : Int)) = ((a + c : Nat) : Int) := fun a c h1 h2 => by rw [w32_i (by omega) (by omega)]; omega
        have w2 : ∀ a c : Nat, a ≤ 500000 → c ≤ 3000 → w32 ((a : Int) + (c : Int)) = ((a + c : Nat) : Int) := fun a c h1 h2 => by rw [w32_i (by omega) (by omega)]; omega
        by_cases c0 : lsi s g = 0
        · rw [wp_ifp (by omega), X15_fits_112, wp_lt, wp_ifn (by decide), wp_bd, RI_2122 (by omega) (by omega), tn, g2]
          by_cases k0 : kdS Ms s g = 0
          · have t1 : tiG Ms s g := ⟨c0, k0⟩
            have t2 : ¬ toG Ms s g := fun h => by have := h.2; omega
            rw [wp_ifp (by omega), X15_fits_135, wp_lt, show (1 : Int) = ((1 : Nat) : Int) from rfl, w1 _ _ (by omega) (by omega), wp_ifn (by decide), wp_bd, RI_2122 (by omega) (by omega), tn, g2, wp_ifp (by omega), X15_fits_160, wp_lt, w2 _ _ (by omega) (by omega), wp_ifn (by decide), wp_bd, RI_2122 (by omega) (by omega), tn, g2, wp_ifn (by omega), X15_fits_186, wp_lt, show (0 : Int) = ((0 : Nat) : Int) from rfl, w1 _ _ (by omega) (by omega), wp_ifn (by decide), wp_bd, RI_2122 (by omega) (by omega), tn, g2, wp_ifn (by omega)]
            exact last 1 (szG Ms s g) 0 0 (b1_y t1).symm (b1_y t1).symm (b1_n t2).symm (b1_n t2).symm
          · rw [wp_ifn (by omega), X15_fits_135, wp_lt, show (0 : Int) = ((0 : Nat) : Int) from rfl, w1 _ _ (by omega) (by omega), wp_ifn (by decide), wp_bd, RI_2122 (by omega) (by omega), tn, g2, wp_ifn (by omega), X15_fits_160, wp_lt, show (0 : Int) = ((0 : Nat) : Int) from rfl, w2 _ _ (by omega) (by omega), wp_ifn (by decide), wp_bd, RI_2122 (by omega) (by omega), tn, g2]
            have t1 : ¬ tiG Ms s g := fun h => k0 h.2
            by_cases k1 : kdS Ms s g = 1
            · have t2 : toG Ms s g := ⟨c0, k1⟩
              rw [wp_ifp (by omega), X15_fits_186, wp_lt, show (1 : Int) = ((1 : Nat) : Int) from rfl, w1 _ _ (by omega) (by omega), wp_ifn (by decide), wp_bd, RI_2122 (by omega) (by omega), tn, g2, wp_ifp (by omega)]
              exact last 0 0 1 (szG Ms s g) (b1_n t1).symm (b1_n t1).symm (b1_y t2).symm (b1_y t2).symm
            · have t2 : ¬ toG Ms s g := fun h => k1 h.2
              rw [wp_ifn (by omega), X15_fits_186, wp_lt, show (0 : Int) = ((0 : Nat) : Int) from rfl, w1 _ _ (by omega) (by omega), wp_ifn (by decide), wp_bd, RI_2122 (by omega) (by omega), tn, g2, wp_ifn (by omega)]
              exact last 0 0 0 0 (b1_n t1).symm (b1_n t1).symm (b1_n t2).symm (b1_n t2).symm
        · have t1 : ¬ tiG Ms s g := fun h => c0 h.1
          have t2 : ¬ toG Ms s g := fun h => c0 h.1
          rw [wp_ifn (by omega), X15_fits_112, wp_lt, wp_ifp rfl, X15_fits_135, wp_lt, show (0 : Int) = ((0 : Nat) : Int) from rfl, w1 _ _ (by omega) (by omega), wp_ifp rfl, X15_fits_160, wp_lt, show (0 : Int) = ((0 : Nat) : Int) from rfl, w2 _ _ (by omega) (by omega), wp_ifp rfl, X15_fits_186, wp_lt, show (0 : Int) = ((0 : Nat) : Int) from rfl, w1 _ _ (by omega) (by omega), wp_ifp rfl]
          exact last 0 0 0 0 (b1_n t1).symm (b1_n t1).symm (b1_n t2).symm (b1_n t2).symm
      by_cases k3 : kdS Ms s g = 3
      · rw [wp_ifp (by omega)]; exact h94 _ (by rw [b1_y (show stG Ms s g from Or.inl k3)])
      · rw [wp_ifn (by omega), wp_bd, RI_2122 (by omega) (by omega), tn, g2]
        by_cases k4 : kdS Ms s g = 4
        · rw [wp_ifp (by omega)]; exact h94 _ (by rw [b1_y (show stG Ms s g from Or.inr k4)])
        · rw [wp_ifn (by omega)]; exact h94 _ (by rw [b1_n (by unfold stG; omega)]; rfl)
  exact key (lsG s) 0 FU (by omega) (by omega)
theorem limX (hd : DP Ms top s) (hD : isD o) (hX : DX σ o Ms top s) : wpE (F_X13_limits o) σ (fun _ σ' => limOK Ms s ∧ DL σ' o Ms s ∧ agr (lF o) σ σ') (fun x σ' => x = (1, 0, 0) ∧ ¬ limOK Ms s ∧ agr (lF o) σ σ') := by
  have hF := FU_ge
  have h200 := hd.2.1.2
  have key : ∀ k g f σ1, g + k = lsG s → k < f → agr (lF o) σ σ1 → (bitsS Ms s g ≤ 2000 ∧ keptS Ms s g ≤ 200) → (∀ x, x < g → σ1.1 (o + 19) x = (keptS Ms s x : Int) ∧ σ1.1 (o + 21) x = (wrdS Ms s x : Int)) → σ1.1 o 25 = (keptS Ms s g : Int) → σ1.1 o 31 = (wrdS Ms s g : Int) → wpE (X13_limits_25 o f (bitsS Ms s g : Int) (insS Ms s g : Int) (inbS Ms s g : Int) (outS Ms s g : Int) (oubS Ms s g : Int) (g : Int)) σ1 (fun _ σ' => limOK Ms s ∧ DL σ' o Ms s ∧ agr (lF o) σ σ') (fun x σ' => x = (1, 0, 0) ∧ ¬ limOK Ms s ∧ agr (lF o) σ σ') := by
    intro k
    induction k with
    | zero =>
      intro g f σ1 hg hf hA hlim hrow h25 h31
      obtain ⟨f', rfl⟩ : ∃ f', f = f' + 1 := ⟨f - 1, by omega⟩
      have hX1 := hX.fr hd.1.1 (agr.sub hA (fun a i h => by unfold dP at h; unfold lF; omega))
      have eg : g = lsG s := by omega
      subst eg
      have thr : ∀ b : Int, b = 1 → ¬ limOK Ms s → wpE (X13_limits_277 o b) σ1 (fun _ σ' => limOK Ms s ∧ DL σ' o Ms s ∧ agr (lF o) σ σ') (fun x σ' => x = (1, 0, 0) ∧ ¬ limOK Ms s ∧ agr (lF o) σ σ') := by
        rintro b rfl h
        rw [X13_limits_277, wpE_bdE, F_X13_large, wpE_ifn (by decide), wpE_thw]
        exact ⟨rfl, h, hA⟩
      rw [X13_limits_25, wpE_bd, wp_gI, hX1.1.1.2, wpE_ifp (by omega), X13_limits_245]
      by_cases c2 : insS Ms s (lsG s) ≤ 24
      · rw [wpE_ifn (by omega)]
        by_cases c3 : inbS Ms s (lsG s) ≤ 64
        · rw [wpE_ifn (by omega)]
          by_cases c5 : outS Ms s (lsG s) ≤ 24
          · rw [wpE_ifn (by omega)]
            by_cases c6 : oubS Ms s (lsG s) ≤ 64
            · rw [wpE_ifp (by omega), X13_limits_277, wpE_bdE, F_X13_large, wpE_ifp rfl, wpE_lE, wp_rt, wpE_lE, wp_rt]
              exact ⟨⟨hlim, c2, c3, c5, c6⟩, ⟨hrow, h25, h31⟩, hA⟩
            · rw [wpE_ifn (by omega)]; exact thr 1 rfl (fun h => c6 h.2.2.2.2)
          · rw [wpE_ifp (by omega)]; exact thr 1 rfl (fun h => c5 h.2.2.2.1)
        · rw [wpE_ifp (by omega)]; exact thr 1 rfl (fun h => c3 h.2.2.1)
      · rw [wpE_ifp (by omega)]; exact thr 1 rfl (fun h => c2 h.2.1)
    | succ k ih =>
      intro g f σ1 hg hf hA hlim hrow h25 h31
      obtain ⟨f', rfl⟩ : ∃ f', f = f' + 1 := ⟨f - 1, by omega⟩
      have hX1 := hX.fr hd.1.1 (agr.sub hA (fun a i h => by unfold dP at h; unfold lF; omega))
      have hgl : g < lsG s := by omega
      have hsz := szG_le hd hgl
      obtain ⟨s1, s2, s3, s4, s5⟩ := sums_le (Ms := Ms) (s := s) (g := g)
      have hwk := wrd_le hd (show g ≤ lsG s by omega)
      have em : ∀ _ : Unit, w32 ((wdS Ms s g : Int) * (wsG Ms s g : Int)) = (szG Ms s g : Int) := fun _ => by
        rw [← Int.natCast_mul]
        exact w32_i (by unfold szG at hsz; omega) (by unfold szG at hsz; omega)
      have w1 : ∀ a c : Nat, a ≤ 200 → c ≤ 1 → w32 ((a : Int) + (c : Int)) = ((a + c : Nat) : Int) := fun a c h1 h2 => by rw [w32_i (by omega) (by omega)]; omega
      have w2 : ∀ a c : Nat, a ≤ 500000 → c ≤ 3000 → w32 ((a : Int) + (c : Int)) = ((a + c : Nat) : Int) := fun a c h1 h2 => by rw [w32_i (by omega) (by omega)]; omega
      have w10 : ∀ a : Nat, a ≤ 200 → w32 ((a : Int) + 0) = ((a + 0 : Nat) : Int) := fun a h1 => w1 a 0 h1 (by decide)
      have w11 : ∀ a : Nat, a ≤ 200 → w32 ((a : Int) + 1) = ((a + 1 : Nat) : Int) := fun a h1 => w1 a 1 h1 (by decide)
      have w20 : ∀ a : Nat, a ≤ 500000 → w32 ((a : Int) + 0) = ((a + 0 : Nat) : Int) := fun a h1 => w2 a 0 h1 (by decide)
      rw [X13_limits_25, wpE_bd, wp_gI, hX1.1.1.2, wpE_ifn (by omega), wpE_bd, x_width hd hD hX1 hgl, wpE_bd, x_words hd hD hX1 hgl, wpE_lt, em (), wpE_lt, w2 _ _ (by omega) (by omega), wpE_bd, x_topIn hd hD hX1 hgl]
      -- behind the counts
      have rest : ∀ a b c d : Nat, a = b1 (tiG Ms s g) 1 → b = b1 (tiG Ms s g) (szG Ms s g) → c = b1 (toG Ms s g) 1 → d = b1 (toG Ms s g) (szG Ms s g) → wpE (X13_limits_125 o (X13_limits_25 o f') ((bitsS Ms s g + szG Ms s g : Nat) : Int) ((insS Ms s g + a : Nat) : Int) ((inbS Ms s g + b : Nat) : Int) ((outS Ms s g + c : Nat) : Int) (g : Int) (szG Ms s g : Int) (oubS Ms s g : Int) (d : Int)) σ1 (fun _ σ' => limOK Ms s ∧ DL σ' o Ms s ∧ agr (lF o) σ σ') (fun x σ' => x = (1, 0, 0) ∧ ¬ limOK Ms s ∧ agr (lF o) σ σ') := by
        rintro a b c d rfl rfl rfl rfl
        have q1 : b1 (toG Ms s g) (szG Ms s g) ≤ szG Ms s g := b1_le
        rw [X13_limits_125, wpE_lt, w2 _ _ (by omega) (by omega), wpE_bd, bgI0 h25, wpE_bd, DV_19 hD (by omega) (by omega), tn, wpE_bd, bgI0 (v := (keptS Ms s g : Int)) (by dsimp only; rw [stA_ne (by omega)]; exact h25)]
        have hA2 : agr (lF o) σ (stA σ1.1 (o + 19) (ups (σ1.1 (o + 19)) g (keptS Ms s g : Int)), σ1.2) := hA.u (by unfold lF; omega) _
        have k19 : ∀ x, x < g + 1 → ((stA σ1.1 (o + 19) (ups (σ1.1 (o + 19)) g (keptS Ms s g : Int)), σ1.2) : St).1 (o + 19) x = (keptS Ms s x : Int) := fun x hx => by
          dsimp only
          rw [stA_eq]
          by_cases e : x = g
          · subst e; rw [ups_eq]
          · rw [ups_ne e]; exact (hrow x (by omega)).1
        have k21 : ∀ x, x < g → ((stA σ1.1 (o + 19) (ups (σ1.1 (o + 19)) g (keptS Ms s g : Int)), σ1.2) : St).1 (o + 21) x = (wrdS Ms s x : Int) := fun x hx => by
          dsimp only
          rw [stA_ne (by omega)]; exact (hrow x hx).2
        have k31 : ((stA σ1.1 (o + 19) (ups (σ1.1 (o + 19)) g (keptS Ms s g : Int)), σ1.2) : St).1 o 31 = (wrdS Ms s g : Int) := by
          dsimp only
          rw [stA_ne (by omega)]; exact h31
        generalize ((stA σ1.1 (o + 19) (ups (σ1.1 (o + 19)) g (keptS Ms s g : Int)), σ1.2) : St) = σ2 at hA2 k19 k21 k31
        have hX2 := hX.fr hd.1.1 (agr.sub hA2 (fun a i h => by unfold dP at h; unfold lF; omega))
        have h159 : ∀ e : Nat, e = b1 (stG Ms s g) (szG Ms s g) → wpE (X13_limits_159 o (X13_limits_25 o f') ((bitsS Ms s g + szG Ms s g : Nat) : Int) ((insS Ms s g + b1 (tiG Ms s g) 1 : Nat) : Int) ((inbS Ms s g + b1 (tiG Ms s g) (szG Ms s g) : Nat) : Int) ((outS Ms s g + b1 (toG Ms s g) 1 : Nat) : Int) ((oubS Ms s g + b1 (toG Ms s g) (szG Ms s g) : Nat) : Int) (g : Int) (keptS Ms s g : Int) (e : Int)) σ2 (fun _ σ' => limOK Ms s ∧ DL σ' o Ms s ∧ agr (lF o) σ σ') (fun x σ' => x = (1, 0, 0) ∧ ¬ limOK Ms s ∧ agr (lF o) σ σ') := by
          rintro e rfl
          have q2 : b1 (stG Ms s g) (szG Ms s g) ≤ szG Ms s g := b1_le
          rw [X13_limits_159, w2 _ _ (by omega) (by omega), wpE_bd, wp_pI, wpE_bd, bgI0 (v := (wrdS Ms s g : Int)) (by dsimp only; rw [stA_eq, ups_ne (by decide)]; exact k31), wpE_bd, DV_21 hD (by omega) (by omega), tn, wpE_bd, bgI0 (v := (wrdS Ms s g : Int)) (by dsimp only; rw [stA_ne (by omega), stA_eq, ups_ne (by decide)]; exact k31)]
          have eK : keptS Ms s g + b1 (stG Ms s g) (szG Ms s g) = keptS Ms s (g + 1) := rfl
          rw [eK]
          generalize hS : ((stA _ _ _, _) : St) = σ3
          have v0 : ∀ i, i ≠ 25 → σ3.1 o i = σ2.1 o i := fun i hi => by
            subst hS
            simp (disch := omega) only [stA_ne, stA_eq, ups_ne]
          have v25 : σ3.1 o 25 = (keptS Ms s (g + 1) : Int) := by
            subst hS
            simp (disch := omega) only [stA_ne, stA_eq, ups_eq]
          have v21 : σ3.1 (o + 21) = ups (σ2.1 (o + 21)) g (wrdS Ms s g : Int) := by
            subst hS
            simp (disch := omega) only [stA_ne, stA_eq]
          have vA : ∀ a, a ≠ o → a ≠ o + 21 → σ3.1 a = σ2.1 a := fun a q1 q2 => by
            subst hS
            simp (disch := assumption) only [stA_ne]
          have vr : σ3.2 = σ2.2 := by subst hS; rfl
          clear hS
          have hA3 : agr (lF o) σ σ3 := hA2.trans (fun a i h => by
            unfold lF at h
            refine ⟨?_, by rw [vr], by rw [vr]⟩
            by_cases e : a = o
            · subst e; exact v0 i (by omega)
            · rw [vA a e (by omega)])
          have hX3 := hX.fr hd.1.1 (agr.sub hA3 (fun a i h => by unfold dP at h; unfold lF; omega))
          have h209 : ∀ w : Nat, w = b1 (kdS Ms s g = 4) (wsG Ms s g) → wpE (X13_limits_209 o (X13_limits_25 o f') ((bitsS Ms s g + szG Ms s g : Nat) : Int) ((insS Ms s g + b1 (tiG Ms s g) 1 : Nat) : Int) ((inbS Ms s g + b1 (tiG Ms s g) (szG Ms s g) : Nat) : Int) ((outS Ms s g + b1 (toG Ms s g) 1 : Nat) : Int) ((oubS Ms s g + b1 (toG Ms s g) (szG Ms s g) : Nat) : Int) (g : Int) (wrdS Ms s g : Int) (w : Int)) σ3 (fun _ σ' => limOK Ms s ∧ DL σ' o Ms s ∧ agr (lF o) σ σ') (fun x σ' => x = (1, 0, 0) ∧ ¬ limOK Ms s ∧ agr (lF o) σ σ') := by
            rintro w rfl
            have hw64 : b1 (kdS Ms s g = 4) (wsG Ms s g) ≤ 64 := Nat.le_trans b1_le (hd.sig hgl).2.2.2.2.2.1.2
            rw [X13_limits_209, w2 _ _ (by omega) (by omega), wpE_bd, wp_pI]
            have eW : wrdS Ms s g + b1 (kdS Ms s g = 4) (wsG Ms s g) = wrdS Ms s (g + 1) := rfl
            rw [eW]
            have hA4 : agr (lF o) σ (stA σ3.1 o (ups (σ3.1 o) 31 (wrdS Ms s (g + 1) : Int)), σ3.2) := hA3.u (by unfold lF; omega) _
            have u31 : ((stA σ3.1 o (ups (σ3.1 o) 31 (wrdS Ms s (g + 1) : Int)), σ3.2) : St).1 o 31 = (wrdS Ms s (g + 1) : Int) := by dsimp only; rw [stA_eq, ups_eq]
            have u25 : ((stA σ3.1 o (ups (σ3.1 o) 31 (wrdS Ms s (g + 1) : Int)), σ3.2) : St).1 o 25 = (keptS Ms s (g + 1) : Int) := by dsimp only; rw [stA_eq, ups_ne (by decide)]; exact v25
            have urow : ∀ x, x < g + 1 → ((stA σ3.1 o (ups (σ3.1 o) 31 (wrdS Ms s (g + 1) : Int)), σ3.2) : St).1 (o + 19) x = (keptS Ms s x : Int) ∧ ((stA σ3.1 o (ups (σ3.1 o) 31 (wrdS Ms s (g + 1) : Int)), σ3.2) : St).1 (o + 21) x = (wrdS Ms s x : Int) := fun x hx => by
              dsimp only
              rw [stA_ne (by omega), stA_ne (by omega), vA (o + 19) (by omega) (by omega), v21]
              refine ⟨k19 x hx, ?_⟩
              by_cases e : x = g
              · subst e; rw [ups_eq]
              · rw [ups_ne e]; exact k21 x (by omega)
            generalize ((stA σ3.1 o (ups (σ3.1 o) 31 (wrdS Ms s (g + 1) : Int)), σ3.2) : St) = σ4 at hA4 u31 u25 urow
            have thr : ∀ b : Int, b = 1 → ¬ limOK Ms s → wpE (X13_limits_236 o (X13_limits_25 o f') ((bitsS Ms s g + szG Ms s g : Nat) : Int) ((insS Ms s g + b1 (tiG Ms s g) 1 : Nat) : Int) ((inbS Ms s g + b1 (tiG Ms s g) (szG Ms s g) : Nat) : Int) ((outS Ms s g + b1 (toG Ms s g) 1 : Nat) : Int) ((oubS Ms s g + b1 (toG Ms s g) (szG Ms s g) : Nat) : Int) (g : Int) b) σ4 (fun _ σ' => limOK Ms s ∧ DL σ' o Ms s ∧ agr (lF o) σ σ') (fun x σ' => x = (1, 0, 0) ∧ ¬ limOK Ms s ∧ agr (lF o) σ σ') := by
              rintro b rfl h
              rw [X13_limits_236, wpE_bdE, F_X13_large, wpE_ifn (by decide), wpE_thw]
              exact ⟨rfl, h, hA4⟩
            have eB : bitsS Ms s g + szG Ms s g = bitsS Ms s (g + 1) := rfl
            have mB : bitsS Ms s (g + 1) ≤ bitsS Ms s (lsG s) := smF_mono (by omega)
            have mK : keptS Ms s (g + 1) ≤ keptS Ms s (lsG s) := smF_mono (by omega)
            by_cases c1 : bitsS Ms s (g + 1) ≤ 2000
            · rw [wpE_ifn (by omega), wpE_bd, bgI0 u25]
              by_cases c4 : keptS Ms s (g + 1) ≤ 200
              · rw [wpE_ifp (by omega), X13_limits_236, wpE_bdE, F_X13_large, wpE_ifp rfl, wpE_lE, wp_rt, wpE_lt, w32_i (by omega) (by omega), show (g : Int) + 1 = ((g + 1 : Nat) : Int) by omega]
                exact ih (g + 1) f' σ4 (by omega) (by omega) hA4 ⟨c1, c4⟩ urow u25 u31
              · rw [wpE_ifn (by omega)]; exact thr 1 rfl (fun h => c4 (by have := h.1.2; omega))
            · rw [wpE_ifp (by omega)]; exact thr 1 rfl (fun h => c1 (by have := h.1.1; omega))
          rw [wpE_bd, x_kind hd hD hX3 hgl]
          by_cases k4 : kdS Ms s g = 4
          · rw [wpE_ifp (by omega), wpE_bd, bgI0 (v := (wrdS Ms s g : Int)) (by rw [v0 31 (by decide)]; exact k31), wpE_ifn (by omega), wpE_bd, x_words hd hD hX3 hgl]
            exact h209 _ (b1_y k4).symm
          · rw [wpE_ifn (by omega)]
            exact h209 0 (b1_n k4).symm
        rw [wpE_bd, x_state hd hD hX2 hgl]
        by_cases cs : stG Ms s g
        · rw [b01_y cs, wpE_ifn (by decide)]; exact h159 _ (b1_y cs).symm
        · rw [b01_n cs, wpE_ifp rfl]; exact h159 0 (b1_n cs).symm
      by_cases t1 : tiG Ms s g
      · have t2 : ¬ toG Ms s g := fun h => by have h1 := h.2; have h2 := t1.2; omega
        rw [b01_y t1, wpE_ifn (by decide), X13_limits_69, wpE_lt, w11 _ (by omega), wpE_bd, x_topIn hd hD hX1 hgl, b01_y t1, wpE_ifn (by decide), X13_limits_87, wpE_lt, w2 _ _ (by omega) (by omega), wpE_bd, x_topOut hd hD hX1 hgl, b01_n t2, wpE_ifp rfl, X13_limits_105, wpE_lt, w10 _ (by omega), wpE_bd, x_topOut hd hD hX1 hgl, b01_n t2, wpE_ifp rfl]
        exact rest 1 (szG Ms s g) 0 0 (b1_y t1).symm (b1_y t1).symm (b1_n t2).symm (b1_n t2).symm
      · rw [b01_n t1, wpE_ifp rfl, X13_limits_69, wpE_lt, w10 _ (by omega), wpE_bd, x_topIn hd hD hX1 hgl, b01_n t1, wpE_ifp rfl, X13_limits_87, wpE_lt, w20 _ (by omega), wpE_bd, x_topOut hd hD hX1 hgl]
        by_cases t2 : toG Ms s g
        · rw [b01_y t2, wpE_ifn (by decide), X13_limits_105, wpE_lt, w11 _ (by omega), wpE_bd, x_topOut hd hD hX1 hgl, b01_y t2, wpE_ifn (by decide)]
          exact rest 0 0 1 (szG Ms s g) (b1_n t1).symm (b1_n t1).symm (b1_y t2).symm (b1_y t2).symm
        · rw [b01_n t2, wpE_ifp rfl, X13_limits_105, wpE_lt, w10 _ (by omega), wpE_bd, x_topOut hd hD hX1 hgl, b01_n t2, wpE_ifp rfl]
          exact rest 0 0 0 0 (b1_n t1).symm (b1_n t1).symm (b1_n t2).symm (b1_n t2).symm
  rw [F_X13_limits, wpE_lt, wpE_lt, wpE_lt, wpE_lt, wpE_lt, wpE_bd, wp_pI, wpE_bd, wp_pI, wpE_lt]
  refine key (lsG s) 0 FU _ (by omega) (by omega) ?_ ⟨Nat.zero_le _, Nat.zero_le _⟩ (fun x hx => absurd hx (Nat.not_lt_zero x)) ?_ ?_
  · exact (agr.refl.u (by unfold lF; omega) _).u (by unfold lF; omega) _
  · dsimp only; rw [stA_eq, ups_ne (by decide), stA_eq, ups_eq]; rfl
  · dsimp only; rw [stA_eq, ups_eq]; rfl
end
