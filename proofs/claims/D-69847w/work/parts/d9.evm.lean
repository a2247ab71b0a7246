set_option maxRecDepth 100000
set_option maxHeartbeats 400000
/-! ===== designs: the twin finds the value of an expression ===== -/
section
variable {x y : Int64} {a b w k : Nat}
theorem tvN (h : x.toInt = (a : Int)) : x.toBitVec.toNat = a := by
  have h1 : x.toBitVec.toInt = (a : Int) := h
  rw [BitVec.toInt_eq_toNat_cond] at h1
  have := x.toBitVec.isLt
  split at h1 <;> omega
theorem tvI (h : x.toBitVec.toNat = a) (ha : a < 9223372036854775808) : x.toInt = (a : Int) := by
  show x.toBitVec.toInt = _
  rw [BitVec.toInt_eq_toNat_cond, h]
  rw [if_pos (by omega)]
theorem lshr_bv (hk : k < 64) : (lshr x (k : Int)).toBitVec = x.toBitVec.sshiftRight k := by
  unfold lshr
  rw [Int64.toBitVec_shiftRight]
  unfold BitVec.sshiftRight'
  rw [show (((Int32.ofInt (k : Int)).toInt64 &&& 63).toBitVec.smod 64).toNat = k from sh_amt64 ⟨k, hk⟩]
theorem lshl_bv (hk : k < 64) : (lshl x (k : Int)).toBitVec = x.toBitVec <<< k := by
  unfold lshl
  rw [Int64.toBitVec_shiftLeft]
  show x.toBitVec <<< (((Int32.ofInt (k : Int)).toInt64 &&& 63).toBitVec.smod 64).toNat = _
  rw [show (((Int32.ofInt (k : Int)).toInt64 &&& 63).toBitVec.smod 64).toNat = k from sh_amt64 ⟨k, hk⟩]
theorem msk_N (hw : w ≤ 32) : (lshl 1 (w : Int) - 1).toBitVec.toNat = 2 ^ w - 1 := tvN (lshw ⟨w, by omega⟩)
/-- masked -/
theorem t_msk (hw : w ≤ 32) : (x &&& (lshl 1 (w : Int) - 1)).toInt = ((x.toBitVec.toNat % 2 ^ w : Nat) : Int) := by
  have hp := p32 hw
  have := Nat.mod_lt x.toBitVec.toNat (Nat.two_pow_pos w)
  refine tvI ?_ (by omega)
  rw [Int64.toBitVec_and, BitVec.toNat_and, msk_N hw, Nat.and_two_pow_sub_one_eq_mod]
theorem dvd64 (hw : w ≤ 32) : 2 ^ w ∣ 2 ^ 64 := Nat.pow_dvd_pow 2 (by omega)
theorem t_add (hw : w ≤ 32) (hx : x.toInt = (a : Int)) (hy : y.toInt = (b : Int)) : ((x + y) &&& (lshl 1 (w : Int) - 1)).toInt = (((a + b) % 2 ^ w : Nat) : Int) := by
  rw [t_msk hw, Int64.toBitVec_add, BitVec.toNat_add, tvN hx, tvN hy, Nat.mod_mod_of_dvd _ (dvd64 hw)]
theorem t_mul (hw : w ≤ 32) (hx : x.toInt = (a : Int)) (hy : y.toInt = (b : Int)) : ((x * y) &&& (lshl 1 (w : Int) - 1)).toInt = ((a * b % 2 ^ w : Nat) : Int) := by
  rw [t_msk hw, Int64.toBitVec_mul, BitVec.toNat_mul, tvN hx, tvN hy, Nat.mod_mod_of_dvd _ (dvd64 hw)]
theorem sub_mod {n : Nat} (hw : w ≤ n) (hb : b ≤ 2 ^ w) : (a + (2 ^ n - b)) % 2 ^ w = (a + (2 ^ w - b)) % 2 ^ w := by
  obtain ⟨q, hq⟩ : 2 ^ w ∣ 2 ^ n := Nat.pow_dvd_pow 2 hw
  have h0 := Nat.two_pow_pos w
  have hq0 : 0 < q := by
    rcases Nat.eq_zero_or_pos q with z | z
    · have := Nat.two_pow_pos n
      rw [z, Nat.mul_zero] at hq; omega
    · exact z
  obtain ⟨r, hr⟩ : ∃ r, q = r + 1 := ⟨q - 1, by omega⟩
  rw [hr, Nat.mul_add, Nat.mul_one] at hq
  rw [hq, show a + (2 ^ w * r + 2 ^ w - b) = a + (2 ^ w - b) + 2 ^ w * r by omega, Nat.add_mul_mod_self_left]
theorem t_sub (hw : w ≤ 32) (hx : x.toInt = (a : Int)) (hy : y.toInt = (b : Int)) (hb : b < 2 ^ w) : ((x - y) &&& (lshl 1 (w : Int) - 1)).toInt = (((a + (2 ^ w - b)) % 2 ^ w : Nat) : Int) := by
  rw [t_msk hw, Int64.toBitVec_sub, BitVec.toNat_sub, tvN hx, tvN hy, Nat.mod_mod_of_dvd _ (dvd64 hw), Nat.add_comm (2 ^ 64 - b) a, sub_mod (by omega) (by omega)]
theorem t_neg (hw : w ≤ 32) (hx : x.toInt = (a : Int)) (ha : a < 2 ^ w) : ((-x) &&& (lshl 1 (w : Int) - 1)).toInt = (((2 ^ w - a) % 2 ^ w : Nat) : Int) := by
  have := sub_mod (a := 0) (b := a) (w := w) (n := 64) (by omega) (by omega)
  rw [Nat.zero_add, Nat.zero_add] at this
  rw [t_msk hw, Int64.toBitVec_neg, BitVec.toNat_neg, tvN hx, Nat.mod_mod_of_dvd _ (dvd64 hw), this]
theorem t_not (hw : w ≤ 32) (hx : x.toInt = (a : Int)) (ha : a < 2 ^ w) : ((x ^^^ (-1)) &&& (lshl 1 (w : Int) - 1)).toInt = ((2 ^ w - 1 - a : Nat) : Int) := by
  have e : (x ^^^ (-1)).toBitVec = ~~~ x.toBitVec := by
    rw [Int64.toBitVec_xor, show (-1 : Int64).toBitVec = BitVec.allOnes 64 from rfl, BitVec.xor_allOnes]
  have := sub_mod (a := 0) (b := a + 1) (w := w) (n := 64) (by omega) (by omega)
  rw [Nat.zero_add, Nat.zero_add] at this
  rw [t_msk hw, e, BitVec.toNat_not, tvN hx, show 2 ^ 64 - 1 - a = 2 ^ 64 - (a + 1) by omega, this, Nat.mod_eq_of_lt (by have := Nat.two_pow_pos w; omega), show 2 ^ w - (a + 1) = 2 ^ w - 1 - a by omega]
theorem t_shr (hk : k < 64) (hx : x.toInt = (a : Int)) : (lshr x (k : Int)).toInt = ((a / 2 ^ k : Nat) : Int) := by
  show (lshr x (k : Int)).toBitVec.toInt = _
  rw [lshr_bv hk, BitVec.toInt_sshiftRight, show x.toBitVec.toInt = (a : Int) from hx, Int.shiftRight_eq_div_pow]
  rw [Int.natCast_ediv]
theorem t_shrm (hw : w ≤ 32) (hk : k < 64) (hx : x.toInt = (a : Int)) : ((lshr x (k : Int)) &&& (lshl 1 (w : Int) - 1)).toInt = ((a / 2 ^ k % 2 ^ w : Nat) : Int) := by
  rw [t_msk hw, tvN (t_shr hk hx)]
theorem t_shlm (hw : w ≤ 32) (hk : k < 64) (hx : x.toInt = (a : Int)) : ((lshl x (k : Int)) &&& (lshl 1 (w : Int) - 1)).toInt = ((a * 2 ^ k % 2 ^ w : Nat) : Int) := by
  rw [t_msk hw, lshl_bv hk, BitVec.toNat_shiftLeft, tvN hx, Nat.shiftLeft_eq, Nat.mod_mod_of_dvd _ (dvd64 hw)]
theorem t_join (hk : k < 32) (hx : x.toInt = (a : Int)) (hy : y.toInt = (b : Int)) (ha : a < 4294967296) (hb : b < 2 ^ k) : ((lshl x (k : Int)) ||| y).toInt = ((a * 2 ^ k + b : Nat) : Int) := by
  have hp : 2 ^ k ≤ 2147483648 := by
    have : 2 ^ k ≤ 2 ^ 31 := Nat.pow_le_pow_right (by decide) (by omega)
    omega
  have hm : (a + 1) * 2 ^ k ≤ 4294967296 * 2147483648 := Nat.mul_le_mul (by omega) hp
  rw [Nat.add_mul, Nat.one_mul] at hm
  refine tvI ?_ (by omega)
  rw [Int64.toBitVec_or, BitVec.toNat_or, lshl_bv (by omega), BitVec.toNat_shiftLeft, tvN hx, tvN hy, Nat.shiftLeft_eq, Nat.mod_eq_of_lt (by omega), ← Nat.shiftLeft_eq, ← Nat.shiftLeft_add_eq_or_of_lt hb, Nat.shiftLeft_eq]
theorem t_and (hw : w ≤ 32) (hx : x.toInt = (a : Int)) (hy : y.toInt = (b : Int)) (ha : a < 2 ^ w) (hb : b < 2 ^ w) : (x &&& y).toInt = ((a &&& b : Nat) : Int) := by
  have hp := p32 hw
  have := Nat.and_lt_two_pow a hb
  refine tvI ?_ (by omega)
  rw [Int64.toBitVec_and, BitVec.toNat_and, tvN hx, tvN hy]
theorem t_or (hw : w ≤ 32) (hx : x.toInt = (a : Int)) (hy : y.toInt = (b : Int)) (ha : a < 2 ^ w) (hb : b < 2 ^ w) : (x ||| y).toInt = ((a ||| b : Nat) : Int) := by
  have hp := p32 hw
  have := Nat.or_lt_two_pow ha hb
  refine tvI ?_ (by omega)
  rw [Int64.toBitVec_or, BitVec.toNat_or, tvN hx, tvN hy]
theorem t_xor (hw : w ≤ 32) (hx : x.toInt = (a : Int)) (hy : y.toInt = (b : Int)) (ha : a < 2 ^ w) (hb : b < 2 ^ w) : (x ^^^ y).toInt = ((a ^^^ b : Nat) : Int) := by
  have hp := p32 hw
  have := Nat.xor_lt_two_pow ha hb
  refine tvI ?_ (by omega)
  rw [Int64.toBitVec_xor, BitVec.toNat_xor, tvN hx, tvN hy]
theorem t_eq (hx : x.toInt = (a : Int)) (hy : y.toInt = (b : Int)) : (lcm x y = 0) = (a = b) := by
  rw [lcm_eq]
  apply propext
  rw [← Int64.toInt_inj, hx, hy]
  omega
theorem t_lt (hx : x.toInt = (a : Int)) (hy : y.toInt = (b : Int)) : (lcm x y < 0) = (a < b) := by
  rw [lcm_neg, hx, hy]
  apply propext
  omega
/-- the parity of a word -/
theorem prB_hi {a : Nat} : ∀ m k, a < 2 ^ k → prB a (k + m) = prB a k
  | 0, _, _ => rfl
  | m + 1, k, h => by
    show Bool.xor (prB a (k + m)) (a.testBit (k + m)) = _
    rw [prB_hi m k h, Nat.testBit_lt_two_pow (Nat.lt_of_lt_of_le h (Nat.pow_le_pow_right (by decide) (by omega)))]
    exact Bool.xor_false _
theorem oddM {r : Int → Int → Int → St → Option (Int64 × St)} (ha : a < 4294967296) (hx : x.toInt = (a : Int)) {τ : St} {Q : Int64 → St → Prop} (hQ : Q (if prB a 32 = true then 1 else 0) τ) : wp (X15_valueOf_465 r FU 0 x) τ Q := by
  have hFU := FU_ge
  have key : ∀ d k f (v : Int64), k + d = 32 → d < f → v.toInt = ((a / 2 ^ k : Nat) : Int) → wp (X15_valueOf_465 r f (if prB a k = true then 1 else 0) v) τ Q := by
    intro d
    induction d with
    | zero =>
      intro k f v hk hf hv
      obtain ⟨f', rfl⟩ : ∃ f', f = f' + 1 := ⟨f - 1, by omega⟩
      have ek : k = 32 := by omega
      subst ek
      have : a / 2 ^ 32 = 0 := Nat.div_eq_of_lt (by omega)
      rw [this] at hv
      rw [X15_valueOf_465, wp_ifp (by rw [t_eq hv (b := 0) rfl]), wp_rt]
      exact hQ
    | succ d ih =>
      intro k f v hk hf hv
      obtain ⟨f', rfl⟩ : ∃ f', f = f' + 1 := ⟨f - 1, by omega⟩
      rw [X15_valueOf_465]
      by_cases c : a / 2 ^ k = 0
      · have hlt : a < 2 ^ k := by
          rcases Nat.lt_or_ge a (2 ^ k) with w | w
          · exact w
          · have := Nat.div_pos w (Nat.two_pow_pos k)
            omega
        have := prB_hi (a := a) (32 - k) k hlt
        rw [show k + (32 - k) = 32 by omega] at this
        rw [wp_ifp (by rw [t_eq hv (b := 0) rfl]; exact c), wp_rt, ← this]
        exact hQ
      · have hb : (v &&& 1) = if a.testBit k = true then 1 else 0 := by
          apply Int64.toBitVec_inj.mp
          apply BitVec.eq_of_toNat_eq
          rw [Int64.toBitVec_and, BitVec.toNat_and, tvN hv, show (1 : Int64).toBitVec.toNat = 2 ^ 1 - 1 from rfl, Nat.and_two_pow_sub_one_eq_mod, Nat.testBit_eq_decide_div_mod_eq]
          by_cases z : a / 2 ^ k % 2 = 1
          · rw [decide_eq_true z, if_pos rfl, show 2 ^ 1 = 2 from rfl, z]; rfl
          · rw [decide_eq_false z, if_neg (by decide), show 2 ^ 1 = 2 from rfl]
            have : a / 2 ^ k % 2 = 0 := by omega
            rw [this]; rfl
        have ex : ((if prB a k = true then 1 else 0 : Int64) ^^^ (v &&& 1)) = if prB a (k + 1) = true then 1 else 0 := by
          rw [hb]
          show _ = if Bool.xor (prB a k) (a.testBit k) = true then 1 else 0
          cases prB a k <;> cases a.testBit k <;> rfl
        rw [wp_ifn (by rw [t_eq hv (b := 0) rfl]; exact c), wp_lt, wp_lt, ex]
        refine ih (k + 1) f' _ (by omega) (by omega) ?_
        have := t_shr (k := 1) (by decide) hv
        rw [show ((1 : Nat) : Int) = 1 from rfl] at this
        rw [this, Nat.div_div_eq_div_mul, ← Nat.pow_succ]
  have := key 32 0 FU x (by omega) (by omega) (by rw [hx, Nat.pow_zero, Nat.div_one])
  exact this
end
/-- where the words of a slot's state stand -/
noncomputable def stwS (Ms : Nat → ModV) (s : LYS) (g : Nat) : Nat := smF (fun g => b1 (stG Ms s g) (wsG Ms s g)) g
section
variable {Ms : Nat → ModV} {top : Nat} {s : LYS} {V : Nat → Nat} {W : Nat → Nat → Nat} {τ τ' : St} {S i : Nat}
theorem stw_le (hd : DP Ms top s) {g : Nat} (hg : g ≤ lsG s) : stwS Ms s g ≤ keptS Ms s g := by
  unfold stwS keptS
  refine smF_le (fun i hi => ?_)
  obtain ⟨-, -, -, -, ⟨a1, a2⟩, ⟨a3, a4⟩, -⟩ := hd.sig (show i < lsG s by omega)
  by_cases c : stG Ms s i
  · rw [b1_y c, b1_y c]
    unfold szG
    have := Nat.mul_le_mul a1 (Nat.le_refl (wsG Ms s i))
    omega
  · rw [b1_n c]; exact Nat.zero_le _
theorem stw_in (hd : DP Ms top s) (hlim : limOK Ms s) {g : Nat} (hg : g < lsG s) (hs : stG Ms s g) : stwS Ms s g + wsG Ms s g ≤ stwS Ms s (lsG s) ∧ stwS Ms s (lsG s) ≤ 200 := by
  have h1 : stwS Ms s (g + 1) ≤ stwS Ms s (lsG s) := smF_mono (by omega)
  have h2 : stwS Ms s (g + 1) = stwS Ms s g + b1 (stG Ms s g) (wsG Ms s g) := rfl
  rw [b1_y hs] at h2
  have h3 := stw_le hd (Nat.le_refl (lsG s))
  have h4 := hlim.1.2
  omega
/-- what the twin needs to find values -/
def EMv (Ms : Nat → ModV) (top : Nat) (s : LYS) (W : Nat → Nat → Nat) (S : Nat) (τ : St) : Prop := DM τ S Ms top s ∧ (∀ g, g < lsG s → τ.1 2127 (200 * S + g) = (stwS Ms s g : Int)) ∧ ∀ g j, g < lsG s → kdS Ms s g = 4 → j < wsG Ms s g → (τ.2.1 2130 (200 * S + (stwS Ms s g + j))).toInt = (W g j : Int)
def VRM (s : LYS) (τ : St) (V : Nat → Nat) (P : Nat → Prop) : Prop := ∀ h, h < lsG s → P h → (τ.2.1 2140 h).toInt = (V h : Int)
theorem valM (hd : DP Ms top s) (hlim : limOK Ms s) (hS : S < 5) (hV : ∀ g, g < lsG s → V g < 2 ^ wdS Ms s g) (hWb : ∀ g j, g < lsG s → W g j < 2 ^ wdS Ms s g) (hi : i < lsI s) (hE : EMv Ms top s W S τ) : ∀ u f, u < mdN (moI Ms s i) → u < f → VRM s τ V (fun h => rdE Ms s i u h) → ∀ {Q : Int64 → St → Prop}, (∀ r, r.toInt = (nv Ms s V W i u : Int) → Q r τ) → wp (G_X15_valueOf f (S : Int) (i : Int) (u : Int)) τ Q := by
  have h200 := hd.2.1.2
  have h101 := hd.2.1.1.2
  have h12 := hd.1.1
  have h40 := hd.1.2.1 (lsM s i)
  obtain ⟨hM, hst, hmw⟩ := hE
  obtain ⟨hm, ok⟩ := hd.inst hi
  have n240 : mdN (moI Ms s i) ≤ 240 := ok.1.2.1
  have wlt : ∀ m, m < mdN (moI Ms s i) → nv Ms s V W i m < 2 ^ gW (gI' Ms s i) m ∧ gW (gI' Ms s i) m ≤ 32 := fun m hm => ⟨nv_lt hd hi hV hWb m hm, (hd.nod hi hm).1.2.2.1⟩
  have lt32 : ∀ m, m < mdN (moI Ms s i) → nv Ms s V W i m < 4294967296 := fun m hm => by
    have h1 := (wlt m hm).1
    have h2 := p32 (wlt m hm).2
    omega
  have fl : ∀ m, m < mdN (moI Ms s i) → gF (gI' Ms s i) m ≤ m := fun m hm => (hd.nod hi hm).1.2.2.2
  have e300 : ∀ m : Nat, m < 240 → w32 (w32 (300 * ((12 * S + lsM s i : Nat) : Int)) + (m : Int)) = ((300 * (12 * S + lsM s i) + m : Nat) : Int) := fun m hm => by rw [w32_i (x := 300 * ((12 * S + lsM s i : Nat) : Int)) (by omega) (by omega), w32_i (by omega) (by omega)]; omega
  have e40 : ∀ _ : Unit, w32 (40 * w32 (w32 (101 * (S : Int)) + (i : Int))) = ((40 * (101 * S + i) : Nat) : Int) := fun _ => by rw [w32_i (x := 101 * (S : Int)) (by omega) (by omega), w32_i (x := 101 * (S : Int) + (i : Int)) (by omega) (by omega), w32_i (by omega) (by omega)]; omega
  have eP : ∀ t : Nat, t < 40 → w32 (((40 * (101 * S + i) : Nat) : Int) + (t : Int)) = ((4040 * S + (40 * i + t) : Nat) : Int) := fun t ht => by rw [w32_i (by omega) (by omega)]; omega
  have w92 : ∀ m, m < mdN (moI Ms s i) → τ.1 2092 (300 * (12 * S + lsM s i) + m) = (gW (gI' Ms s i) m : Int) := fun m hmm => ((hM.2 _ hm).2.2.1 m hmm).2
  intro u
  induction u using Nat.strongRecOn with
  | ind u ih =>
    intro f hu hf hVR Q hQ
    obtain ⟨f', rfl⟩ : ∃ f', f = f' + 1 := ⟨f - 1, by omega⟩
    obtain ⟨hnd, -⟩ := (hM.2 _ hm).2.2.1 u hu
    obtain ⟨⟨w1, w2, w3, wf⟩, w4, w5, w6, w7, w8, w9⟩ := hd.nod hi hu
    have hgO : gO (mdG (Ms (lsM s i))) u = gO (gI' Ms s i) u := rfl
    have hnv := nv_eq (V := V) (W := W) hd hi hu
    unfold ndV at hnv
    have r92 := w92 u hu
    have hp := Nat.two_pow_pos (gW (gI' Ms s i) u)
    have rec1 : ∀ (m : Nat), m < u → gF (gI' Ms s i) u ≤ gF (gI' Ms s i) m → ∀ {Q' : Int64 → St → Prop}, (∀ r, r.toInt = (nv Ms s V W i m : Int) → Q' r τ) → wp (G_X15_valueOf f' (S : Int) (i : Int) (m : Int)) τ Q' := fun m hm1 hm2 Q' h => ih m hm1 f' (by omega) (by omega) (fun h' hh ⟨n, n1, n2, n3⟩ => hVR h' hh ⟨n, by omega, by omega, n3⟩) h
    show wp (F_X15_valueOf (G_X15_valueOf f') (S : Int) (i : Int) (u : Int)) τ Q
    rw [F_X15_valueOf, wp_bd, m_store hd hM hS hi, wp_lt, e300 u (by omega), wp_lt, e40 (), wp_bd, RI_2092 (by omega) (by omega), tn, r92, wp_lt, wp_bd, RI_2088 (by omega) (by omega), tn]
    by_cases c0 : gO (gI' Ms s i) u = 0
    · obtain ⟨k0, x, x1, x2, x3⟩ := nd_0 hnd c0
      have x2' : gA (gI' Ms s i) u = sg x := x2
      rw [if_pos c0, x2', sg_un x1] at hnv
      rw [k0, wp_ifn (by decide), wp_ifp (by decide), wp_bd, RI_2093 (by omega) (by omega), tn, wp_rt]
      exact hQ _ (by rw [hnv]; exact x3)
    rw [if_neg c0] at hnv
    by_cases c1 : gO (gI' Ms s i) u = 1
    · obtain ⟨t, t1, t2, t3, t4, -⟩ := hd.rd hi hu c1
      rw [if_pos c1, t1, tn] at hnv
      obtain ⟨kk, kA⟩ := nd_1 hnd c1
      have kA' : τ.1 2089 (300 * (12 * S + lsM s i) + u) = (t : Int) := by rw [kA]; exact t1
      have t2' : t < mdT (Ms (lsM s i)) := t2
      have hl := hM.1.2.2.1 (40 * i + t) ⟨i, t, hi, t2, rfl⟩
      have hval := hVR _ t4 ⟨u, wf, Nat.le_refl u, c1, by rw [t1, tn]⟩
      rw [← hnv] at hval
      have kk' : (gB (gI' Ms s i) u = -1 ∧ τ.1 2088 (300 * (12 * S + lsM s i) + u) = 61) ∨ (0 ≤ gB (gI' Ms s i) u ∧ τ.1 2088 (300 * (12 * S + lsM s i) + u) = 62 ∧ τ.1 2090 (300 * (12 * S + lsM s i) + u) = gB (gI' Ms s i) u) := kk
      rcases kk' with ⟨k1, k2⟩ | ⟨k1, k2, k3⟩
      · rw [k1, sgOf_n] at t4 hval
        rw [k2, wp_ifn (by decide), wp_ifn (by decide), wp_ifp (by decide), wp_bd, RI_2089 (by omega) (by omega), tn, kA', wp_bd, eP t (by omega), RI_2121 (by omega) (by omega), tn, hl, wp_bd, RI_2140 (by omega) (by omega), tn, wp_rt]
        exact hQ _ hval
      · rcases t3 with h | ⟨p, p1, p2, p3⟩
        · omega
        · obtain ⟨b1, b2, b3, b4, b5⟩ := hd.part hi t2 p2
          have p3' : p < mdT (Ms (lsM s (lsL s (40 * i + t)))) := by rw [b5]; exact p3
          have h40' := hd.1.2.1 (lsM s (lsL s (40 * i + t)))
          have hl2 := hM.1.2.2.1 (40 * lsL s (40 * i + t) + p) ⟨_, p, b2, p3', rfl⟩
          have eQ : ∀ _ : Unit, w32 (w32 (40 * w32 (w32 (101 * (S : Int)) + (lsL s (40 * i + t) : Int))) + (p : Int)) = ((4040 * S + (40 * lsL s (40 * i + t) + p) : Nat) : Int) := fun _ => by rw [w32_i (x := 101 * (S : Int)) (by omega) (by omega), w32_i (x := 101 * (S : Int) + (lsL s (40 * i + t) : Int)) (by omega) (by omega), w32_i (x := 40 * (101 * (S : Int) + (lsL s (40 * i + t) : Int))) (by omega) (by omega), w32_i (by omega) (by omega)]; omega
          rw [p1, sgOf_p] at t4 hval
          rw [k2, wp_ifn (by decide), wp_ifn (by decide), wp_ifn (by decide), wp_ifp (by decide), wp_bd, RI_2089 (by omega) (by omega), tn, kA', wp_bd, eP t (by omega), RI_2121 (by omega) (by omega), tn, hl, wp_bd, RI_2090 (by omega) (by omega), tn, k3, p1, wp_bd, eQ (), RI_2121 (by omega) (by omega), tn, hl2, wp_bd, RI_2140 (by omega) (by omega), tn, wp_rt]
          exact hQ _ hval
    rw [if_neg c1] at hnv
    by_cases c2 : gO (gI' Ms s i) u = 2
    · obtain ⟨t, t1, t2, t3, t4, t5, -, t7, t8, t9⟩ := hd.rm hi hu c2
      rw [if_pos c2, t1, t8, tn, tn] at hnv
      obtain ⟨k0, kA, kB⟩ := nd_2 hnd c2
      have kA' : τ.1 2089 (300 * (12 * S + lsM s i) + u) = (t : Int) := by rw [kA]; exact t1
      have kB' : τ.1 2090 (300 * (12 * S + lsM s i) + u) = ((u - 1 : Nat) : Int) := by rw [kB]; exact t8
      have t2' : t < mdT (Ms (lsM s i)) := t2
      have hl := hM.1.2.2.1 (40 * i + t) ⟨i, t, hi, t2, rfl⟩
      have e200' : ∀ _ : Unit, w32 (w32 (200 * (S : Int)) + (lsL s (40 * i + t) : Int)) = ((200 * S + lsL s (40 * i + t) : Nat) : Int) := fun _ => by rw [w32_i (x := 200 * (S : Int)) (by omega) (by omega), w32_i (by omega) (by omega)]; omega
      have hws := (hM.1.2.2.2 _ t4).2.1.2.2
      obtain ⟨-, -, -, -, -, ⟨s1, s2⟩, -⟩ := hd.sig t4
      rw [k0, wp_ifn (by decide), wp_ifn (by decide), wp_ifn (by decide), wp_ifn (by decide), wp_ifp (by decide), wp_bd, RI_2090 (by omega) (by omega), tn, kB', wp_bd]
      refine rec1 (u - 1) (by omega) (by omega) (fun r hr => ?_)
      rw [wp_lt, wp_bd, RI_2089 (by omega) (by omega), tn, kA', wp_bd, eP t (by omega), RI_2121 (by omega) (by omega), tn, hl, wp_lt, e200' (), wp_bd, RI_2124 (by omega) (by omega), tn, hws]
      have hi2 : (i2l (wsG Ms s (lsL s (40 * i + t)) : Int)).toInt = (wsG Ms s (lsL s (40 * i + t)) : Int) := i2l_t (by omega) (by omega)
      have hlt := t_lt hr hi2
      by_cases c : nv Ms s V W i (u - 1) < wsG Ms s (lsL s (40 * i + t))
      · rw [if_pos c] at hnv
        obtain ⟨g1, g2⟩ := stw_in hd hlim t4 (Or.inr t5)
        have hl2 : l2i r = (nv Ms s V W i (u - 1) : Int) := by rw [l2i_t (by omega) (by omega), hr]
        have hneg : ¬ 0 ≤ lcm r (i2l (wsG Ms s (lsL s (40 * i + t)) : Int)) := by
          have : lcm r (i2l (wsG Ms s (lsL s (40 * i + t)) : Int)) < 0 := by rw [hlt]; exact c
          omega
        have eR : ∀ _ : Unit, w32 (w32 (w32 (200 * (S : Int)) + (stwS Ms s (lsL s (40 * i + t)) : Int)) + (nv Ms s V W i (u - 1) : Int)) = ((200 * S + (stwS Ms s (lsL s (40 * i + t)) + nv Ms s V W i (u - 1)) : Nat) : Int) := fun _ => by rw [w32_i (x := 200 * (S : Int)) (by omega) (by omega), w32_i (x := 200 * (S : Int) + (stwS Ms s (lsL s (40 * i + t)) : Int)) (by omega) (by omega), w32_i (by omega) (by omega)]; omega
        rw [wp_ifn hneg, wp_bd, RI_2127 (by omega) (by omega), tn, hst _ t4, hl2, wp_bd, eR (), RI_2130 (by omega) (by omega), tn, wp_rt]
        exact hQ _ (by rw [hnv]; exact hmw _ _ t4 t5 c)
      · rw [if_neg c] at hnv
        have hnn : 0 ≤ lcm r (i2l (wsG Ms s (lsL s (40 * i + t)) : Int)) := by
          have : ¬ lcm r (i2l (wsG Ms s (lsL s (40 * i + t)) : Int)) < 0 := by rw [hlt]; exact c
          omega
        rw [wp_ifp hnn, wp_rt]
        exact hQ _ (by rw [hnv]; rfl)
    rw [if_neg c2] at hnv
    by_cases c19 : gO (gI' Ms s i) u = 19
    · obtain ⟨k0, kA, kB, kC⟩ := nd_q hnd c19
      obtain ⟨a, b, q1, q2, q3, q4, q5, q6, q7, q8, q9, q10⟩ := w9 c19
      have f1 := fl (u - 1) (by omega)
      have f2 := fl b (by omega)
      have f3 := fl a (by omega)
      have kA' : τ.1 2089 (300 * (12 * S + lsM s i) + u) = (a : Int) := by rw [kA]; exact q6
      have kB' : τ.1 2090 (300 * (12 * S + lsM s i) + u) = (b : Int) := by rw [kB]; exact q5
      have kC' : τ.1 2091 (300 * (12 * S + lsM s i) + u) = ((u - 1 : Nat) : Int) := by rw [kC]; exact q2
      have k0' : τ.1 2088 (300 * (12 * S + lsM s i) + u) = 40 := k0
      rw [q2, q5, q6, tn, tn, tn, c19] at hnv
      have hnv' : ∀ _ : Unit, nv Ms s V W i u = if nv Ms s V W i a = 1 then nv Ms s V W i b else nv Ms s V W i (u - 1) := fun _ => hnv
      clear hnv
      rw [k0', wp_ifp rfl, wp_bd, RI_2089 (by omega) (by omega), tn, kA', wp_bd]
      refine rec1 a (by omega) (by omega) (fun r hr => ?_)
      have h1 := t_eq hr (y := 1) (b := 1) rfl
      by_cases c : nv Ms s V W i a = 1
      · rw [wp_ifp (by rw [h1]; exact c), wp_bd, RI_2090 (by omega) (by omega), tn, kB', X15_valueOf_280, wp_bd]
        refine rec1 b (by omega) (by omega) (fun r2 hr2 => ?_)
        rw [wp_rt]
        exact hQ _ (by rw [hnv' (), if_pos c]; exact hr2)
      · rw [wp_ifn (by rw [h1]; exact c), wp_bd, RI_2091 (by omega) (by omega), tn, kC', X15_valueOf_280, wp_bd]
        refine rec1 (u - 1) (by omega) (by omega) (fun r2 hr2 => ?_)
        rw [wp_rt]
        exact hQ _ (by rw [hnv' (), if_neg c]; exact hr2)
    by_cases c8 : gO (gI' Ms s i) u ≤ 8
    · obtain ⟨kA, kk⟩ := nd_un hnd (by omega) (by omega)
      obtain ⟨q1, q2, q3, q4, q5, q6⟩ := w7 (by omega) c8
      have q4u : ∀ _ : Unit, (gO (gI' Ms s i) u ≤ 4 → gW (gI' Ms s i) u = gW (gI' Ms s i) (u - 1)) := fun _ => q4
      have q6u : ∀ _ : Unit, (gO (gI' Ms s i) u = 8 → ∃ lo : Nat, gC (gI' Ms s i) u = (lo : Int) ∧ lo + gW (gI' Ms s i) u ≤ gW (gI' Ms s i) (u - 1)) := fun _ => q6
      clear q4 q5 q6 w4 w5 w6 w7 w8 w9
      have f1 := fl (u - 1) (by omega)
      have kA' : τ.1 2089 (300 * (12 * S + lsM s i) + u) = ((u - 1 : Nat) : Int) := by rw [kA]; exact q2
      obtain ⟨v1, v2⟩ := wlt (u - 1) (by omega)
      have l1 := lt32 (u - 1) (by omega)
      rw [q2, tn] at hnv
      have kk2 : τ.1 2088 (300 * (12 * S + lsM s i) + u) = 19 ∧ gO (gI' Ms s i) u = 5 ∨ τ.1 2088 (300 * (12 * S + lsM s i) + u) = 20 ∧ gO (gI' Ms s i) u = 6 ∨ τ.1 2088 (300 * (12 * S + lsM s i) + u) = 21 ∧ gO (gI' Ms s i) u = 7 ∨ τ.1 2088 (300 * (12 * S + lsM s i) + u) = 53 ∧ gO (gI' Ms s i) u = 3 ∨ τ.1 2088 (300 * (12 * S + lsM s i) + u) = 64 ∧ gO (gI' Ms s i) u = 8 ∧ τ.1 2090 (300 * (12 * S + lsM s i) + u) = gC (gI' Ms s i) u ∨ τ.1 2088 (300 * (12 * S + lsM s i) + u) = 66 ∧ gO (gI' Ms s i) u = 4 := kk
      have k6 : ∀ x : Int, x = τ.1 2088 (300 * (12 * S + lsM s i) + u) → x ≠ 40 ∧ x ≠ 60 ∧ x ≠ 61 ∧ x ≠ 62 ∧ x ≠ 63 := fun x e => by omega
      obtain ⟨n1, n2, n3, n4, n5⟩ := k6 _ rfl
      rw [wp_ifn n1, wp_ifn n2, wp_ifn n3, wp_ifn n4, wp_ifn n5, wp_bd, RI_2089 (by omega) (by omega), tn, kA', wp_bd]
      refine rec1 (u - 1) (by omega) (by omega) (fun r hr => ?_)
      rw [wp_lt, wp_bd, m_store hd hM hS hi, wp_bd, RI_2089 (by omega) (by omega), tn, kA', wp_bd, e300 (u - 1) (by omega), RI_2092 (by omega) (by omega), tn, w92 (u - 1) (by omega), wp_lt, wp_bd, RI_2088 (by omega) (by omega), tn]
      have msk : ∀ {w : Nat} {Q' : Int64 → St → Prop}, wp (F_X15_mask (w : Int)) τ Q' = Q' (lshl 1 (w : Int) - 1) τ := fun {w Q'} => by rw [F_X15_mask, wp_rt]
      rcases kk2 with ⟨e, eo⟩ | ⟨e, eo⟩ | ⟨e, eo⟩ | ⟨e, eo⟩ | ⟨e, eo, eC⟩ | ⟨e, eo⟩
      · rw [eo] at hnv
        have hnv' : ∀ _ : Unit, nv Ms s V W i u = if nv Ms s V W i (u - 1) = 2 ^ gW (gI' Ms s i) (u - 1) - 1 then 1 else 0 := fun _ => hnv
        clear hnv
        have h1 := t_eq hr (y := lshl 1 (gW (gI' Ms s i) (u - 1) : Int) - 1) (b := 2 ^ gW (gI' Ms s i) (u - 1) - 1) (lshw ⟨gW (gI' Ms s i) (u - 1), by omega⟩)
        rw [wp_ifp e, wp_bd, msk]
        by_cases c : nv Ms s V W i (u - 1) = 2 ^ gW (gI' Ms s i) (u - 1) - 1
        · rw [wp_ifp (by rw [h1]; exact c), wp_rt]; exact hQ _ (by rw [hnv' (), if_pos c]; rfl)
        · rw [wp_ifn (by rw [h1]; exact c), wp_rt]; exact hQ _ (by rw [hnv' (), if_neg c]; rfl)
      · rw [eo] at hnv
        have hnv' : ∀ _ : Unit, nv Ms s V W i u = if nv Ms s V W i (u - 1) = 0 then 0 else 1 := fun _ => hnv
        clear hnv
        have h1 := t_eq hr (y := 0) (b := 0) rfl
        rw [wp_ifn (by omega), wp_ifp e]
        by_cases c : nv Ms s V W i (u - 1) = 0
        · rw [wp_ifp (by rw [h1]; exact c), wp_rt]; exact hQ _ (by rw [hnv' (), if_pos c]; rfl)
        · rw [wp_ifn (by rw [h1]; exact c), wp_rt]; exact hQ _ (by rw [hnv' (), if_neg c]; rfl)
      · rw [eo] at hnv
        have hnv' : ∀ _ : Unit, nv Ms s V W i u = if prB (nv Ms s V W i (u - 1)) 32 = true then 1 else 0 := fun _ => hnv
        clear hnv
        rw [wp_ifn (by omega), wp_ifn (by omega), wp_ifp e, wp_lt, wp_lt]
        refine oddM l1 hr (hQ _ ?_)
        rw [hnv' ()]
        by_cases c : prB (nv Ms s V W i (u - 1)) 32 = true
        · rw [if_pos c, if_pos c]; rfl
        · rw [if_neg c, if_neg c]; rfl
      · rw [eo] at hnv
        have q4' := q4u () (by omega)
        rw [wp_ifn (by omega), wp_ifn (by omega), wp_ifn (by omega), wp_ifp e, wp_bd, msk, wp_rt]
        rw [← q4'] at v1
        exact hQ _ (by rw [hnv]; exact t_not w3 hr v1)
      · obtain ⟨lo, x1, x2⟩ := q6u () eo
        rw [eo, x1, tn] at hnv
        rw [wp_ifn (by omega), wp_ifn (by omega), wp_ifn (by omega), wp_ifn (by omega), wp_ifp e, wp_bd, RI_2090 (by omega) (by omega), tn, eC, x1, wp_bd, msk, wp_rt]
        exact hQ _ (by rw [hnv]; exact t_shrm w3 (by omega) hr)
      · rw [eo] at hnv
        have q4' := q4u () (by omega)
        rw [wp_ifn (by omega), wp_ifn (by omega), wp_ifn (by omega), wp_ifn (by omega), wp_ifn (by omega), wp_ifp e, wp_bd, msk, wp_rt]
        rw [← q4'] at v1
        exact hQ _ (by rw [hnv]; exact t_neg w3 hr v1)
    · obtain ⟨kA, kB, kk⟩ := nd_bi hnd (by omega) (by omega)
      obtain ⟨q1, q2, q3, q4, q5, q6, q7, q8, q9⟩ := w8 (by omega) c19
      clear w4 w5 w6 w7 w8 w9
      have f1 := fl (u - 1) (by omega)
      obtain ⟨A, hA⟩ : ∃ A, A = gF (gI' Ms s i) (u - 1) - 1 := ⟨_, rfl⟩
      rw [← hA] at q4 q5 q6 q7 q9
      have f2 := fl A (by omega)
      have kA' : τ.1 2089 (300 * (12 * S + lsM s i) + u) = (A : Int) := by rw [kA]; exact q4
      have kB' : τ.1 2090 (300 * (12 * S + lsM s i) + u) = ((u - 1 : Nat) : Int) := by rw [kB]; exact q2
      obtain ⟨va, va2⟩ := wlt A (by omega)
      obtain ⟨vb, vb2⟩ := wlt (u - 1) (by omega)
      have la := lt32 A (by omega)
      have lb := lt32 (u - 1) (by omega)
      rw [q2, q4, tn, tn] at hnv
      obtain ⟨K, hK⟩ : ∃ K, K = τ.1 2088 (300 * (12 * S + lsM s i) + u) := ⟨_, rfl⟩
      have kk2 : gO (gI' Ms s i) u = 9 ∧ K = 65 ∨ gO (gI' Ms s i) u = 10 ∧ K = 51 ∨ gO (gI' Ms s i) u = 11 ∧ K = 52 ∨ gO (gI' Ms s i) u = 12 ∧ K = 50 ∨ gO (gI' Ms s i) u = 13 ∧ K = 44 ∨ gO (gI' Ms s i) u = 14 ∧ K = 45 ∨ gO (gI' Ms s i) u = 15 ∧ K = 46 ∨ gO (gI' Ms s i) u = 16 ∧ K = 47 ∨ gO (gI' Ms s i) u = 17 ∧ K = 48 ∨ gO (gI' Ms s i) u = 18 ∧ K = 49 ∨ gO (gI' Ms s i) u = 20 ∧ K = 54 ∨ gO (gI' Ms s i) u = 21 ∧ K = 55 := by rw [hK]; exact kk
      have kN : K = 65 ∨ K = 51 ∨ K = 52 ∨ K = 50 ∨ K = 44 ∨ K = 45 ∨ K = 46 ∨ K = 47 ∨ K = 48 ∨ K = 49 ∨ K = 54 ∨ K = 55 := by
        rcases kk2 with h | h | h | h | h | h | h | h | h | h | h | h <;> rw [h.2] <;> decide
      clear kk
      rw [← hK]
      have kne : K ≠ 40 ∧ K ≠ 60 ∧ K ≠ 61 ∧ K ≠ 62 ∧ K ≠ 63 ∧ K ≠ 19 ∧ K ≠ 20 ∧ K ≠ 21 ∧ K ≠ 53 ∧ K ≠ 64 ∧ K ≠ 66 := by
        rcases kN with h | h | h | h | h | h | h | h | h | h | h | h <;> rw [h] <;> decide
      obtain ⟨n1, n2, n3, n4, n5, n6, n7, n8, n9, n10, n11⟩ := kne
      rw [wp_ifn n1, wp_ifn n2, wp_ifn n3, wp_ifn n4, wp_ifn n5, wp_bd, RI_2089 (by omega) (by omega), tn, kA', wp_bd]
      refine rec1 A (by omega) (by omega) (fun ra hra => ?_)
      rw [wp_lt, wp_bd, m_store hd hM hS hi, wp_bd, RI_2089 (by omega) (by omega), tn, kA', wp_bd, e300 A (by omega), RI_2092 (by omega) (by omega), tn, w92 A (by omega), wp_lt, wp_bd, RI_2088 (by omega) (by omega), tn, ← hK, wp_ifn n6, wp_ifn n7, wp_ifn n8, wp_ifn n9, wp_ifn n10, wp_ifn n11, wp_bd, RI_2090 (by omega) (by omega), tn, kB', wp_bd]
      refine rec1 (u - 1) (by omega) (by omega) (fun rb hrb => ?_)
      rw [wp_lt, wp_bd, RI_2088 (by omega) (by omega), tn, ← hK]
      have msk : ∀ {w : Nat} {Q' : Int64 → St → Prop}, wp (F_X15_mask (w : Int)) τ Q' = Q' (lshl 1 (w : Int) - 1) τ := fun {w Q'} => by rw [F_X15_mask, wp_rt]
      have hz := t_eq hra hrb
      have hl := t_lt hra hrb
      have hwi : (i2l (gW (gI' Ms s i) u : Int)).toInt = (gW (gI' Ms s i) u : Int) := i2l_t (by omega) (by omega)
      have hlw := t_lt hrb hwi
      clear kN n1 n2 n3 n4 n5 n6 n7 n8 n9 n10 n11 ih rec1
      rcases kk2 with ⟨eo, e⟩ | ⟨eo, e⟩ | ⟨eo, e⟩ | ⟨eo, e⟩ | ⟨eo, e⟩ | ⟨eo, e⟩ | ⟨eo, e⟩ | ⟨eo, e⟩ | ⟨eo, e⟩ | ⟨eo, e⟩ | ⟨eo, e⟩ | ⟨eo, e⟩ <;> rw [eo] at hnv
      · have hw := q6 eo
        have hnv' : ∀ _ : Unit, nv Ms s V W i u = nv Ms s V W i A * 2 ^ gW (gI' Ms s i) (u - 1) + nv Ms s V W i (u - 1) := fun _ => hnv
        clear hnv
        have := (hd.nod hi (show A < mdN (moI Ms s i) by omega)).1.2.1
        rw [e, wp_ifn (by decide), wp_ifn (by decide), wp_ifn (by decide), wp_ifn (by decide), wp_ifn (by decide), wp_ifn (by decide), wp_ifn (by decide), wp_ifn (by decide), wp_ifn (by decide), wp_ifn (by decide), wp_ifp (by decide), wp_bd, m_store hd hM hS hi, wp_bd, RI_2090 (by omega) (by omega), tn, kB', wp_bd, e300 (u - 1) (by omega), RI_2092 (by omega) (by omega), tn, w92 (u - 1) (by omega), wp_rt]
        exact hQ _ (by rw [hnv' ()]; exact t_join (by omega) hra hrb la vb)
      · have hw := q9 (by omega) (Or.inl (by omega))
        have hw2 := q7 (by omega) (by omega)
        rw [e, wp_ifn (by decide), wp_ifn (by decide), wp_ifn (by decide), wp_ifn (by decide), wp_ifn (by decide), wp_ifn (by decide), wp_ifn (by decide), wp_ifp (by decide), wp_rt]
        exact hQ _ (by rw [hnv]; exact t_or w3 hra hrb (by rw [hw]; exact va) (by rw [hw, hw2]; exact vb))
      · have hw := q9 (by omega) (Or.inl (by omega))
        have hw2 := q7 (by omega) (by omega)
        rw [e, wp_ifn (by decide), wp_ifn (by decide), wp_ifn (by decide), wp_ifn (by decide), wp_ifn (by decide), wp_ifn (by decide), wp_ifn (by decide), wp_ifn (by decide), wp_ifp (by decide), wp_rt]
        exact hQ _ (by rw [hnv]; exact t_xor w3 hra hrb (by rw [hw]; exact va) (by rw [hw, hw2]; exact vb))
      · have hw := q9 (by omega) (Or.inl (by omega))
        have hw2 := q7 (by omega) (by omega)
        rw [e, wp_ifn (by decide), wp_ifn (by decide), wp_ifn (by decide), wp_ifn (by decide), wp_ifn (by decide), wp_ifn (by decide), wp_ifp (by decide), wp_rt]
        exact hQ _ (by rw [hnv]; exact t_and w3 hra hrb (by rw [hw]; exact va) (by rw [hw, hw2]; exact vb))
      · have hnv' : ∀ _ : Unit, nv Ms s V W i u = if nv Ms s V W i A = nv Ms s V W i (u - 1) then 1 else 0 := fun _ => hnv
        rw [e, wp_ifp (by decide)]
        by_cases c : nv Ms s V W i A = nv Ms s V W i (u - 1)
        · rw [wp_ifp (by rw [hz]; exact c), wp_rt]; exact hQ _ (by rw [hnv' (), if_pos c]; rfl)
        · rw [wp_ifn (by rw [hz]; exact c), wp_rt]; exact hQ _ (by rw [hnv' (), if_neg c]; rfl)
      · have hnv' : ∀ _ : Unit, nv Ms s V W i u = if nv Ms s V W i A = nv Ms s V W i (u - 1) then 0 else 1 := fun _ => hnv
        rw [e, wp_ifn (by decide), wp_ifp (by decide)]
        by_cases c : nv Ms s V W i A = nv Ms s V W i (u - 1)
        · rw [wp_ifp (by rw [hz]; exact c), wp_rt]; exact hQ _ (by rw [hnv' (), if_pos c]; rfl)
        · rw [wp_ifn (by rw [hz]; exact c), wp_rt]; exact hQ _ (by rw [hnv' (), if_neg c]; rfl)
      · have hnv' : ∀ _ : Unit, nv Ms s V W i u = if nv Ms s V W i A < nv Ms s V W i (u - 1) then 1 else 0 := fun _ => hnv
        rw [e, wp_ifn (by decide), wp_ifn (by decide), wp_ifp (by decide)]
        by_cases c : nv Ms s V W i A < nv Ms s V W i (u - 1)
        · have : lcm ra rb < 0 := by rw [hl]; exact c
          rw [wp_ifn (by omega), wp_rt]; exact hQ _ (by rw [hnv' (), if_pos c]; rfl)
        · have : ¬ lcm ra rb < 0 := by rw [hl]; exact c
          rw [wp_ifp (by omega), wp_rt]; exact hQ _ (by rw [hnv' (), if_neg c]; rfl)
      · rw [e, wp_ifn (by decide), wp_ifn (by decide), wp_ifn (by decide), wp_ifp (by decide), wp_bd, msk, wp_rt]
        exact hQ _ (by rw [hnv]; exact t_add w3 hra hrb)
      · have hw := q9 (by omega) (Or.inr (by omega))
        have hw2 := q7 (by omega) (by omega)
        rw [e, wp_ifn (by decide), wp_ifn (by decide), wp_ifn (by decide), wp_ifn (by decide), wp_ifp (by decide), wp_bd, msk, wp_rt]
        exact hQ _ (by rw [hnv]; exact t_sub w3 hra hrb (by rw [hw, hw2]; exact vb))
      · rw [e, wp_ifn (by decide), wp_ifn (by decide), wp_ifn (by decide), wp_ifn (by decide), wp_ifn (by decide), wp_ifp (by decide), wp_bd, msk, wp_rt]
        exact hQ _ (by rw [hnv]; exact t_mul w3 hra hrb)
      · have hnv' : ∀ _ : Unit, nv Ms s V W i u = if gW (gI' Ms s i) u ≤ nv Ms s V W i (u - 1) then 0 else nv Ms s V W i A * 2 ^ nv Ms s V W i (u - 1) % 2 ^ gW (gI' Ms s i) u := fun _ => hnv
        rw [e, wp_ifn (by decide), wp_ifn (by decide), wp_ifn (by decide), wp_ifn (by decide), wp_ifn (by decide), wp_ifn (by decide), wp_ifn (by decide), wp_ifn (by decide), wp_ifn (by decide), wp_ifp (by decide)]
        by_cases c : nv Ms s V W i (u - 1) < gW (gI' Ms s i) u
        · have hl2 : l2i rb = (nv Ms s V W i (u - 1) : Int) := by rw [l2i_t (by omega) (by omega), hrb]
          rw [wp_ifp (by rw [hlw]; exact c), wp_bd, msk, wp_rt, hl2]
          exact hQ _ (by rw [hnv' (), if_neg (by omega)]; exact t_shlm w3 (by omega) hra)
        · rw [wp_ifn (by rw [hlw]; exact c), wp_rt]
          exact hQ _ (by rw [hnv' (), if_pos (by omega)]; rfl)
      · have hnv' : ∀ _ : Unit, nv Ms s V W i u = if gW (gI' Ms s i) u ≤ nv Ms s V W i (u - 1) then 0 else nv Ms s V W i A / 2 ^ nv Ms s V W i (u - 1) := fun _ => hnv
        rw [e, wp_ifn (by decide), wp_ifn (by decide), wp_ifn (by decide), wp_ifn (by decide), wp_ifn (by decide), wp_ifn (by decide), wp_ifn (by decide), wp_ifn (by decide), wp_ifn (by decide), wp_ifn (by decide), wp_ifn (by decide)]
        by_cases c : nv Ms s V W i (u - 1) < gW (gI' Ms s i) u
        · have hl2 : l2i rb = (nv Ms s V W i (u - 1) : Int) := by rw [l2i_t (by omega) (by omega), hrb]
          rw [wp_ifp (by rw [hlw]; exact c), wp_rt, hl2]
          exact hQ _ (by rw [hnv' (), if_neg (by omega)]; exact t_shr (by omega) hra)
        · rw [wp_ifn (by rw [hlw]; exact c), wp_rt]
          exact hQ _ (by rw [hnv' (), if_pos (by omega)]; rfl)
end
