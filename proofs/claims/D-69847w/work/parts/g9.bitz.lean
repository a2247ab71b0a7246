set_option maxRecDepth 100000
set_option maxHeartbeats 400000
/-! ===== bits: where the component's bits stand ===== -/
theorem smF_bd {f : Nat → Nat} {c : Nat} : ∀ n, (∀ i, i < n → f i ≤ c) → smF f n ≤ c * n
  | 0, _ => Nat.zero_le _
  | n + 1, h => by
    have h1 := smF_bd n (fun i hi => h i (by omega))
    have h2 := h n (Nat.lt_succ_self n)
    rw [sm_up, Nat.mul_succ]
    omega
section
variable (Ms : Nat → ModV) (s : LYS)
noncomputable def lfS (g : Nat) : Nat := smF (fun g => b1 (¬ stG Ms s g) (wdS Ms s g)) g
def bMn (i n : Nat) : Nat := smF (gW (gI' Ms s i)) n
def bIn (i : Nat) : Nat := smF (fun k => bMn Ms s k (mdN (moI Ms s k))) i
def bNd (i n : Nat) : Nat := bIn Ms s i + bMn Ms s i n
end
section
variable {Ms : Nat → ModV} {top : Nat} {s : LYS} {σ σ' τ : St} {o n i : Nat}
theorem bMn_up {m k : Nat} (h : m < k) : bMn Ms s i m + gW (gI' Ms s i) m ≤ bMn Ms s i k := by
  have := smF_mono (f := gW (gI' Ms s i)) (show m + 1 ≤ k from h)
  rw [sm_up] at this
  exact this
theorem bIn_up {i' : Nat} (h : i < i') : bIn Ms s i + bMn Ms s i (mdN (moI Ms s i)) ≤ bIn Ms s i' := by
  have := smF_mono (f := fun k => bMn Ms s k (mdN (moI Ms s k))) (show i + 1 ≤ i' from h)
  rw [sm_up] at this
  exact this
theorem bMn_le (hd : DP Ms top s) (hi : i < lsI s) {m : Nat} (hm : m ≤ mdN (moI Ms s i)) : bMn Ms s i m ≤ 7680 := by
  have h1 := smF_bd (f := gW (gI' Ms s i)) (c := 32) m (fun k hk => (hd.nod hi (show k < mdN (moI Ms s i) by omega)).1.2.2.1)
  have h2 : mdN (moI Ms s i) ≤ 240 := (hd.inst hi).2.1.2.1
  unfold bMn
  omega
theorem bIn_le (hd : DP Ms top s) : ∀ i, i ≤ lsI s → bIn Ms s i ≤ 7680 * i := fun i hi => smF_bd i (fun k hk => bMn_le hd (by omega) (Nat.le_refl _))
theorem bN_top (hd : DP Ms top s) (hi : i < lsI s) {m : Nat} (hm : m < mdN (moI Ms s i)) : bNd Ms s i m + gW (gI' Ms s i) m ≤ 776000 := by
  have h1 := bMn_up (Ms := Ms) (s := s) (i := i) hm
  have h2 := bMn_le hd hi (Nat.le_refl (mdN (moI Ms s i)))
  have h3 := bIn_le hd i (by omega)
  have h4 := hd.2.1.1.2
  unfold bNd
  omega
theorem bN_up {m k : Nat} (h : m < k) : bNd Ms s i m + gW (gI' Ms s i) m ≤ bNd Ms s i k := by
  have := bMn_up (Ms := Ms) (s := s) (i := i) h
  unfold bNd
  omega
/-- nodes stand apart -/
theorem bN_ne {i' m k a b : Nat} (hm : m < mdN (moI Ms s i)) (hk : k < mdN (moI Ms s i')) (h : ¬ (i = i' ∧ m = k)) (ha : a < gW (gI' Ms s i) m) (hb : b < gW (gI' Ms s i') k) : bNd Ms s i m + a ≠ bNd Ms s i' k + b := by
  have h1 := bMn_up (Ms := Ms) (s := s) (i := i) hm
  have h2 := bMn_up (Ms := Ms) (s := s) (i := i') hk
  rcases Nat.lt_trichotomy i i' with e | e | e
  · have := bIn_up (Ms := Ms) (s := s) e
    unfold bNd; omega
  · subst e
    rcases Nat.lt_trichotomy m k with c | c | c
    · have := bMn_up (Ms := Ms) (s := s) (i := i) c
      unfold bNd; omega
    · exact absurd ⟨rfl, c⟩ h
    · have := bMn_up (Ms := Ms) (s := s) (i := i) c
      unfold bNd; omega
  · have := bIn_up (Ms := Ms) (s := s) e
    unfold bNd; omega
theorem lfS_up {g k : Nat} (h : g < k) (hs : ¬ stG Ms s g) : lfS Ms s g + wdS Ms s g ≤ lfS Ms s k := by
  have := smF_mono (f := fun g => b1 (¬ stG Ms s g) (wdS Ms s g)) (show g + 1 ≤ k from h)
  rw [sm_up, b1_y hs] at this
  exact this
theorem lfS_le (hd : DP Ms top s) (hlim : limOK Ms s) {g : Nat} (hg : g ≤ lsG s) : lfS Ms s g ≤ 2000 := by
  have h1 : lfS Ms s g ≤ bitsS Ms s g := smF_le (fun k hk => by
    have hz := (hd.sig (show k < lsG s by omega)).2.2.2.2.2.1.1
    have : wdS Ms s k ≤ szG Ms s k := Nat.le_mul_of_pos_right _ hz
    exact Nat.le_trans b1_le this)
  have h2 : bitsS Ms s g ≤ bitsS Ms s (lsG s) := smF_mono hg
  have := hlim.1.1
  omega
theorem lfS_top (hd : DP Ms top s) (hlim : limOK Ms s) {g : Nat} (hg : g < lsG s) (hs : ¬ stG Ms s g) : lfS Ms s g + wdS Ms s g ≤ 2000 := Nat.le_trans (lfS_up hg hs) (lfS_le hd hlim (Nat.le_refl _))
theorem lfS_ne {g k a b : Nat} (h : g ≠ k) (hs : ¬ stG Ms s g) (hk : ¬ stG Ms s k) (ha : a < wdS Ms s g) (hb : b < wdS Ms s k) : lfS Ms s g + a ≠ lfS Ms s k + b := by
  rcases Nat.lt_or_gt_of_ne h with c | c
  · have := lfS_up (Ms := Ms) (s := s) c hs; omega
  · have := lfS_up (Ms := Ms) (s := s) c hk; omega
/-- what does not change while bits are made -/
def SBX (Ms : Nat → ModV) (top : Nat) (s : LYS) (o : Nat) (σ : St) : Prop := DX σ o Ms top s ∧ CH σ o Ms s ∧ DL σ o Ms s ∧ σ.2.2 37 1 = some o ∧ (∀ g, g < lsG s → σ.1 40 g = (lfS Ms s g : Int)) ∧ (∀ i, i < lsI s → σ.1 43 i = (bIn Ms s i : Int)) ∧ ∀ i m, i < lsI s → m < mdN (moI Ms s i) → σ.1 44 (240 * lsM s i + m) = (bMn Ms s i m : Int)
/-- what the making of a signal leaves alone -/
def bG (n a k : Nat) : Prop := ¬ (a = 39 ∨ a = 41 ∨ a = 42 ∨ a = 45 ∨ a = 47 ∨ a = n + 1 ∨ a = n + 2 ∨ (a = n ∧ k = 2))
theorem dn_off (hD : isD o) (hn : isN n) {j k : Nat} (hj : j ≤ 326) (hk : k ≤ 5) : o + j ≠ n + k := by rcases hD with e | e | e | e | e <;> rcases hn with e' | e' | e' | e' | e' <;> omega
theorem isD_le (hD : isD o) : 410 ≤ o ∧ o ≤ 1742 := by rcases hD with e | e | e | e | e <;> omega
theorem bG_D (hD : isD o) (hn : isN n) {j k : Nat} (hj : j ≤ 326) : bG n (o + j) k := by
  have h0 := isD_le hD
  have h1 := dn_off hD hn hj (show 0 ≤ 5 by omega)
  have h2 := dn_off hD hn hj (show 1 ≤ 5 by omega)
  have h3 := dn_off hD hn hj (show 2 ≤ 5 by omega)
  unfold bG
  omega
/-- what the making of a net leaves alone -/
def bH (n a k : Nat) : Prop := bG n a k ∧ a ≠ 46 ∧ a ≠ n + 3 ∧ a ≠ n + 4 ∧ a ≠ n + 5 ∧ ¬ (a = n ∧ k = 3)
theorem bH_D (hD : isD o) (hn : isN n) {j k : Nat} (hj : j ≤ 326) : bH n (o + j) k := by
  have h0 := isD_le hD
  have h1 := dn_off hD hn hj (show 0 ≤ 5 by omega)
  have h2 := dn_off hD hn hj (show 3 ≤ 5 by omega)
  have h3 := dn_off hD hn hj (show 4 ≤ 5 by omega)
  have h4 := dn_off hD hn hj (show 5 ≤ 5 by omega)
  exact ⟨bG_D hD hn hj, by omega, by omega, by omega, by omega, by omega⟩
theorem bH_of {a k : Nat} (h : bG n a k) (h2 : a ≠ 46 ∧ a ≠ n + 3 ∧ a ≠ n + 4 ∧ a ≠ n + 5 ∧ a ≠ n) : bH n a k := ⟨h, h2.1, h2.2.1, h2.2.2.1, h2.2.2.2.1, fun q => h2.2.2.2.2 q.1⟩
theorem SBX.fr (h : SBX Ms top s o σ) (hd : DP Ms top s) (hD : isD o) (hn : isN n) (e : agr (bH n) σ σ') : SBX Ms top s o σ' := by
  obtain ⟨h1, h2, ⟨h3, h4, h5⟩, h6, h7, h8, h9⟩ := h
  have hN := isN_le hn
  have r : ∀ j, j ≤ 326 → σ'.1 (o + j) = σ.1 (o + j) := fun j hj => e.row (fun k => bH_D hD hn hj)
  have r' : ∀ a, 40 ≤ a → a ≤ 44 → a ≠ 41 → a ≠ 42 → σ'.1 a = σ.1 a := fun a h1 h2 h3 h4 => e.row (fun k => bH_of (by unfold bG; omega) (by omega))
  refine ⟨h1.fr hd.1.1 (agr.sub e (fun a k q => ?_)), h2.fr (fun a q1 q2 => ?_), ⟨fun g hg => ?_, ?_, ?_⟩, ?_, fun g hg => ?_, fun i hi => ?_, fun i m hi hm => ?_⟩
  · obtain ⟨j, hj, rfl⟩ : ∃ j, j ≤ 326 ∧ a = o + j := ⟨a - o, by unfold dP at q; omega, by unfold dP at q; omega⟩
    exact bH_D hD hn hj
  · obtain ⟨j, hj, rfl⟩ : ∃ j, j ≤ 326 ∧ a = o + j := ⟨a - o, by omega, by omega⟩
    exact r j hj
  · rw [r 19 (by omega), r 21 (by omega)]; exact h3 g hg
  · have := r 0 (by omega)
    rw [Nat.add_zero] at this
    rw [this]; exact h4
  · have := r 0 (by omega)
    rw [Nat.add_zero] at this
    rw [this]; exact h5
  · rw [(e 37 1 (bH_of (by unfold bG; omega) (by omega))).2.2]; exact h6
  · rw [r' 40 (by omega) (by omega) (by omega) (by omega)]; exact h7 g hg
  · rw [r' 43 (by omega) (by omega) (by omega) (by omega)]; exact h8 i hi
  · rw [r' 44 (by omega) (by omega) (by omega) (by omega)]; exact h9 i m hi hm
theorem SBX.frG (h : SBX Ms top s o σ) (hd : DP Ms top s) (hD : isD o) (hn : isN n) (e : agr (bG n) σ σ') : SBX Ms top s o σ' := h.fr hd hD hn (agr.sub e (fun _ _ q => q.1))
theorem FKX.agr (hn : isN n) (h : FKX n σ τ) : agr (bG n) σ τ := by
  intro a k q
  unfold bG at q
  refine ⟨?_, by rw [h.2.2], by rw [h.2.2]⟩
  by_cases e : a = n
  · subst e; exact h.2.1 k (by omega)
  · rw [h.1 a (by omega) e (by omega) (by omega) (by omega) (by omega)]
theorem w240 {m k : Nat} (hm : m < 12) (hk : k < 240) : w32 (w32 (240 * (m : Int)) + (k : Int)) = ((240 * m + k : Nat) : Int) := by rw [w32_i (x := 240 * (m : Int)) (by omega) (by omega), w32_i (by omega) (by omega)]; omega
theorem x_first (hd : DP Ms top s) (hD : isD o) (hS : SBX Ms top s o σ) (hi : i < lsI s) {m : Nat} (hm : m < mdN (moI Ms s i)) {Q : Int → St → Prop} : wp (F_X3_firstOf (i : Int) (m : Int)) σ Q = Q (bNd Ms s i m : Int) σ := by
  have h101 := hd.2.1.1.2
  have h12 := hd.1.1
  obtain ⟨hM, ok⟩ := hd.inst hi
  have n240 : mdN (moI Ms s i) ≤ 240 := ok.1.2.1
  have ht := bN_top hd hi hm
  unfold bNd at ht
  obtain ⟨h1, h2, h3, h6, h7, h8, h9⟩ := hS
  rw [F_X3_firstOf, wp_bd, RI_43 (by omega) (by omega), tn, h8 i hi, wp_bd, wp_gQ, h6, wp_nn, wp_ck, and_t (ly_D hD), wp_bd, DI_2 hD (by omega) (by omega), tn, (h1.1.2.1 _ hi).1, wp_bd, w240 (by omega) (by omega), RI_44 (by omega) (by omega), tn, h9 i m hi hm, wp_rt, wN (by omega)]
  rfl
theorem stL_w {a b c : Nat} (h : a + b + c < 1000000) : w32 (2 * (w32 ((w32 ((w32 ((a : Int) + (b : Int))) + (c : Int))) + 1))) = ((2 * (a + b + c + 1) : Nat) : Int) := by rw [wN (by omega), wN (by omega), wN1 (by omega), w32_i (by omega) (by omega)]; omega
theorem x_stl (hd : DP Ms top s) (hD : isD o) (hn : isN n) (hlim : limOK Ms s) (hS : SBX Ms top s o σ) {B : NB} (hk : mkX σ 38 n (inbS Ms s (lsG s)) (keptS Ms s (lsG s)) B) {g k : Nat} (hg : g < lsG s) (hkk : k < 100000) {Q : Int → St → Prop} : wp (F_X3_stateLiteral (g : Int) (k : Int)) σ Q = Q (stL Ms s g k : Int) σ := by
  have h200 := hd.2.1.2
  obtain ⟨h1, h2, h3, h6, h7, h8, h9⟩ := hS
  have hkp : keptS Ms s g ≤ keptS Ms s (lsG s) := smF_mono (by omega)
  have := hlim.1.2
  have := hlim.2.2.1
  rw [F_X3_stateLiteral, wp_bd, wp_gQ, hk.1, wp_nn, wp_ck, and_t (ly_N hn), wp_bd, wp_gI, hk.2.1.1, wp_bd, wp_gQ, h6, wp_nn, wp_ck, and_t (ly_D hD), wp_bd, DI_19 hD (by omega) (by omega), tn, (h3.1 g hg).1, wp_rt, stL_w (by omega)]
  rfl
/-- the signals' rows -/
def DBX (Ms : Nat → ModV) (s : LYS) (A : Nat → Prop) (st : BST) (σ : St) : Prop := ∀ g, g < lsG s → ¬ stG Ms s g → σ.1 41 g = (if st.2.1 g = true then 1 else 0) ∧ (st.2.1 g = true → ¬ A g → ∀ j, j < wdS Ms s g → σ.1 42 (lfS Ms s g + j) = (st.2.2 g j : Int))
def BXr (Ms : Nat → ModV) (top : Nat) (s : LYS) (o n : Nat) (A : Nat → Prop) (st : BST) (σ : St) : Prop := SBX Ms top s o σ ∧ mkX σ 38 n (inbS Ms s (lsG s)) (keptS Ms s (lsG s)) st.1 ∧ wfS Ms s st ∧ DBX Ms s A st σ
theorem x_bit (hd : DP Ms top s) (hD : isD o) (hn : isN n) (hlim : limOK Ms s) {A : Nat → Prop} {st : BST} (h : BXr Ms top s o n A st σ) {g k : Nat} (hg : g < lsG s) (hk : k < wdS Ms s g) (hm : ¬ stG Ms s g → st.2.1 g = true ∧ ¬ A g) {Q : Int → St → Prop} : wp (F_X3_bitOf (g : Int) (k : Int)) σ Q = Q (bitS Ms s st g k : Int) σ := by
  have h200 := hd.2.1.2
  have w32' := (hd.sig hg).2.2.2.2.1.2
  obtain ⟨hS, hx, hw, hb⟩ := h
  rw [F_X3_bitOf, wp_bd, wp_gQ, hS.2.2.2.1, wp_nn, wp_ck, and_t (ly_D hD), wp_bd, x_state hd hD hS.1 hg]
  unfold bitS
  by_cases c : stG Ms s g
  · rw [if_pos c, b01_y c, wp_ifn (by decide), wp_bd, x_stl hd hD hn hlim hS hx hg (by omega), wp_rt]
  · have ht := lfS_top hd hlim hg c
    rw [if_neg c, b01_n c, wp_ifp rfl, wp_bd, RI_40 (by omega) (by omega), tn, hS.2.2.2.2.1 g hg, wp_bd, wN (by omega), RI_42 (by omega) (by omega), tn, (hb g hg c).2 (hm c).1 (hm c).2 k hk, wp_rt]
end
