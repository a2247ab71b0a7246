set_option maxRecDepth 100000
set_option maxHeartbeats 400000
/-! ===== read: the component's scanner ===== -/
def fg (g g' : Nat → Int) : Prop := ∀ k, (k < 3 ∨ 8 < k) → g' k = g k
theorem fg.refl {g : Nat → Int} : fg g g := fun _ _ => rfl
theorem fg.u {g g' : Nat → Int} (h : fg g g') {k : Nat} (hk : 3 ≤ k ∧ k ≤ 8) {v : Int} : fg g (ups g' k v) := fun j hj => by rw [ups_ne (by omega)]; exact h j hj
section
variable {σ : St} {T : Nat → Int} {n : Nat} {g : Nat → Int} {h : Nat → Int64} {q l : Nat}
theorem wordX (hT : TXc T n σ) (h6 : g 6 = (q : Int)) (h7 : g 7 = (l : Int)) (hl : q + l ≤ n) {Q : Int → St → Prop} (go : Q (wdF T q l 12 0) (cX σ g h)) : wp F_X1_word (cX σ g h) Q := by
  have hf := FU_ge
  have hn := hT.1
  have rq : ∀ {i : Nat} {Q : Option Nat → St → Prop}, i < 12 → wp (rdQ 3 (i : Int)) (cX σ g h) Q = Q (some (1000100 + i)) (cX σ g h) := by
    intro i Q hi
    rw [RI_3 (by omega) (by omega), tn]
    show Q (σ.2.2 3 i) _ = _
    rw [hT.2.2.2.2 i hi]
  rw [F_X1_word, wp_lt]
  refine loopM (L := fun f (x : Int) => X1_word_2 f x) (fun m x τ => ∃ i : Nat, x = (i : Int) ∧ i ≤ 12 ∧ m = 12 - i ∧ τ = cX σ g h ∧ wdF T q l 12 0 = wdF T q l (12 - i) i) ?_ FU 12 0 _ (by omega) ⟨0, rfl, by decide, rfl, rfl, rfl⟩
  rintro f m x τ ⟨i, rfl, hi, rfl, rfl, hw⟩ ih
  show wp (X1_word_2 (f + 1) (i : Int)) _ Q
  rw [X1_word_2]
  by_cases c : i < 12
  · have hr := sl_r ⟨i, by omega⟩
    dsimp only at hr
    have no : ¬ wmP T q l i → wp (X1_word_83 (X1_word_2 f) (i : Int) 0) (cX σ g h) Q := by
      intro hno
      rw [X1_word_83, wp_ifp rfl, wp_lt, w32_i (by omega) (by omega)]
      refine ih (12 - (i + 1)) _ _ (by omega) ⟨i + 1, rfl, by omega, rfl, rfl, ?_⟩
      rw [hw, show 12 - i = (12 - (i + 1)) + 1 by omega, wdF_n hno]
    rw [wp_ifn (by omega), wp_bd, rq c, wp_nn, wp_ckS, and_t (by omega), wp_bd, wlen (by omega), wp_bd, cge h7]
    by_cases c1 : sl (1000100 + i) = (l : Int)
    · rw [wp_ifp c1, X1_word_32, wp_lt, wp_lt]
      refine loopM (L := fun f2 (x : Int × Int) => X1_word_35 (X1_word_2 f) f2 (i : Int) x.1 x.2) (fun m x τ => ∃ k : Nat, x.2 = (k : Int) ∧ k ≤ l ∧ m = l - k ∧ τ = cX σ g h ∧ ((x.1 = 1 ∧ ∀ j, j < k → T (q + j) = sb (1000100 + i) (j : Int)) ∨ (x.1 = 0 ∧ ¬ wmP T q l i))) ?_ FU l (1, 0) _ (by omega) ⟨0, rfl, Nat.zero_le _, rfl, rfl, Or.inl ⟨rfl, fun j hj => absurd hj (Nat.not_lt_zero j)⟩⟩
      rintro f2 m ⟨x1, x2⟩ τ ⟨k, hx, hk, rfl, rfl, hc⟩ ih2
      dsimp only at hx hc
      subst hx
      show wp (X1_word_35 (X1_word_2 f) (f2 + 1) (i : Int) x1 (k : Int)) _ Q
      rw [X1_word_35, wp_bd, cge h7]
      rcases hc with ⟨rfl, hc⟩ | ⟨rfl, hc⟩
      · by_cases c2 : k < l
        · rw [wp_ifn (by omega), wp_ifn (by decide), wp_bd, rq c, wp_nn, wp_ckS, and_t (by omega), wp_bd, wchr (by omega) (by omega), wp_bd, cge h6, wp_bd, w32_i (by omega) (by omega), show (q : Int) + (k : Int) = ((q + k : Nat) : Int) by omega, ctx hT (by omega)]
          by_cases c3 : sb (1000100 + i) (k : Int) = T (q + k)
          · rw [wp_ifp c3, X1_word_76, wp_lt, wp_lt, w32_i (by omega) (by omega)]
            refine ih2 (l - (k + 1)) (1, (k : Int) + 1) _ (by omega) ⟨k + 1, rfl, by omega, rfl, rfl, Or.inl ⟨rfl, fun j hj => ?_⟩⟩
            by_cases e : j = k
            · subst e; exact c3.symm
            · exact hc j (by omega)
          · rw [wp_ifn c3, X1_word_76, wp_lt, wp_lt, w32_i (by omega) (by omega)]
            exact ih2 (l - (k + 1)) (0, (k : Int) + 1) _ (by omega) ⟨k + 1, rfl, by omega, rfl, rfl, Or.inr ⟨rfl, fun hm => c3 (hm.2 k c2).symm⟩⟩
        · obtain rfl : k = l := by omega
          rw [wp_ifp (by omega), X1_word_83, wp_ifn (by decide), X1_word_87, wp_rt, w32_i (by omega) (by omega)]
          rw [hw, show 12 - i = (12 - (i + 1)) + 1 by omega, wdF_y ⟨c1, hc⟩] at go
          exact go
      · by_cases c2 : k < l
        · rw [wp_ifn (by omega), wp_ifp rfl]; exact no hc
        · rw [wp_ifp (by omega)]; exact no hc
    · rw [wp_ifn c1, X1_word_32, wp_lt, wp_lt]
      have hno : ¬ wmP T q l i := fun hm => c1 hm.1
      obtain ⟨f', hf'⟩ := FU_s
      rw [hf', X1_word_35, wp_bd, cge h7]
      by_cases c2 : 0 < l
      · rw [wp_ifn (by omega), wp_ifp rfl]; exact no hno
      · rw [wp_ifp (by omega)]; exact no hno
  · obtain rfl : i = 12 := by omega
    rw [wp_ifp (by omega), wp_rt]
    rw [hw] at go
    exact go
/-- behind the blanks -/
theorem scan39 (hT : TXc T n σ) (h2 : g 2 = (n : Int)) (h3 : g 3 = (q : Int)) (hq : q ≤ n) {Q : Unit → St → Prop} {E : XV → St → Prop} (yes : ∀ g' h', fg g g' → (∀ k, k ≠ 8 → h' k = h k) → g' 3 = (q : Int) → g' 4 = 1 → g' 5 = tkK T n q → g' 6 = (q : Int) → g' 7 = (tkL T n q : Int) → (tkK T n q = 2 → h' 8 = nmV T q (tkL T n q)) → tkK T n q ≠ -1 → Q () (cX σ g' h')) (no : ∀ g' h', fg g g' → (∀ k, k ≠ 8 → h' k = h k) → tkK T n q = -1 → E (0, 1, (q : Int)) (cX σ g' h')) : wpE X1_scan_39 (cX σ g h) Q E := by
  have hf := FU_ge
  have hn := hT.1
  rw [X1_scan_39, wpE_bd, cge h3, wpE_bd, cp, wpE_bd, cp, wpE_bd, cz (by decide) (by decide)]
  have hF : fg g (ups (ups (ups g 6 (q : Int)) 7 0) 4 1) := ((fg.refl.u (by decide)).u (by decide)).u (by decide)
  have g2 : (ups (ups (ups g 6 (q : Int)) 7 0) 4 1) 2 = (n : Int) := by rw [ups_ne (by decide), ups_ne (by decide), ups_ne (by decide), h2]
  have g3 : (ups (ups (ups g 6 (q : Int)) 7 0) 4 1) 3 = (q : Int) := by rw [ups_ne (by decide), ups_ne (by decide), ups_ne (by decide), h3]
  have g4 : (ups (ups (ups g 6 (q : Int)) 7 0) 4 1) 4 = 1 := ups_eq
  have g6 : (ups (ups (ups g 6 (q : Int)) 7 0) 4 1) 6 = (q : Int) := by rw [ups_ne (by decide), ups_ne (by decide), ups_eq]
  have g7 : (ups (ups (ups g 6 (q : Int)) 7 0) 4 1) 7 = 0 := by rw [ups_ne (by decide), ups_eq]
  generalize ups (ups (ups g 6 (q : Int)) 7 0) 4 1 = g1 at hF g2 g3 g4 g6 g7 ⊢
  rw [wpE_bd, cge g3, wpE_bd, sgnX hT g2, wpE_lt]
  by_cases cn : q = n
  · subst cn
    have ec : tsg T q q = -1 := by unfold tsg; rw [if_neg (Nat.lt_irrefl q)]
    rw [ec, wpE_ifn (by decide), wpE_bd, cge g3, wpE_bd, cge g2, wpE_ifp rfl, wpE_bd, cp, wpE_lE, wp_rt]
    have eK : tkK T q q = 0 := by unfold tkK; rw [if_pos rfl]
    have eL : tkL T q q = 0 := by unfold tkL; rw [if_pos rfl]
    refine yes _ h (hF.u (by decide)) (fun _ _ => rfl) ?_ ?_ ?_ ?_ ?_ (fun w => ?_) ?_
    · rw [ups_ne (by decide)]; exact g3
    · rw [ups_ne (by decide)]; exact g4
    · rw [ups_eq, eK]
    · rw [ups_ne (by decide)]; exact g6
    · rw [ups_ne (by decide), eL]; exact g7
    · rw [eK] at w; exact absurd w (by decide)
    · rw [eK]; decide
  · have hqn : q < n := by omega
    have hTq := hT.2.1 q hqn
    have ec : tsg T n q = T q := by unfold tsg; rw [if_pos hqn]
    rw [ec]
    have key : wpE (X1_scan_89 (T q)) (cX σ g1 h) Q E := by
      rw [X1_scan_89, wpE_bd, ltX]
      by_cases c1 : isLt (T q) = true
      · rw [if_pos c1, wpE_ifn (by decide)]
        have eL : tkL T n q = rn (fun k => isNp (T k)) n q := by unfold tkL; rw [if_neg cn, if_pos c1]
        have eK : tkK T n q = if 10 < tkL T n q then -1 else wdF T q (tkL T n q) 12 0 := by unfold tkK; rw [if_neg cn, if_pos c1]
        refine loopE (L := fun f (_ : Unit) => X1_scan_96 f) (fun m _ τ => ∃ (j : Nat) (g' : Nat → Int), q + j ≤ n ∧ m = n - (q + j) ∧ fg g g' ∧ τ = cX σ g' h ∧ (g' 2 = (n : Int) ∧ g' 3 = (q : Int) ∧ g' 4 = 1 ∧ g' 6 = (q : Int) ∧ g' 7 = (j : Int)) ∧ ∀ i, i < j → isNp (T (q + i)) = true) ?_ FU (n - q) () _ (by omega) ⟨0, g1, by omega, rfl, hF, rfl, ⟨g2, g3, g4, g6, g7⟩, fun i hi => absurd hi (Nat.not_lt_zero i)⟩
        rintro f m _ τ ⟨j, g', hj, rfl, hF', rfl, ⟨k2, k3, k4, k6, k7⟩, hP⟩ ih
        show wpE (X1_scan_96 (f + 1)) _ Q E
        rw [X1_scan_96, wpE_bd, cge k6, wpE_bd, cge k7, wpE_bd, w32_i (by omega) (by omega), show (q : Int) + (j : Int) = ((q + j : Nat) : Int) by omega, sgnX hT k2, wpE_bd, npX]
        by_cases c2 : q + j < n ∧ isNp (T (q + j)) = true
        · have e2 : tsg T n (q + j) = T (q + j) := by unfold tsg; rw [if_pos c2.1]
          rw [e2, if_pos c2.2, wpE_ifn (by decide), wpE_bd, cge k7, wpE_bd, cp, w32_i (by omega) (by omega)]
          refine ih (n - (q + (j + 1))) () _ (by omega) ⟨j + 1, _, by omega, rfl, hF'.u (by decide), rfl, ⟨?_, ?_, ?_, ?_, ?_⟩, fun i hi => ?_⟩
          · rw [ups_ne (by decide)]; exact k2
          · rw [ups_ne (by decide)]; exact k3
          · rw [ups_ne (by decide)]; exact k4
          · rw [ups_ne (by decide)]; exact k6
          · rw [ups_eq]; rfl
          · by_cases e : i = j
            · subst e; exact c2.2
            · exact hP i (by omega)
        · have hout : isNp (tsg T n (q + j)) = false := by
            unfold tsg
            by_cases c3 : q + j < n
            · rw [if_pos c3]; exact Bool.eq_false_iff.mpr (fun w => c2 ⟨c3, w⟩)
            · rw [if_neg c3]; rfl
          have hl : tkL T n q = j := by
            rw [eL]
            refine rn_eq j q hP hj ?_
            by_cases c3 : q + j < n
            · right; exact Bool.eq_false_iff.mpr (fun w => c2 ⟨c3, w⟩)
            · left; omega
          rw [hl] at eK yes
          rw [hout, show (if (false : Bool) = true then (1 : Int) else 0) = 0 from rfl, wpE_ifp rfl, X1_scan_129, wpE_bd, cge k7]
          by_cases c3 : 10 < j
          · rw [if_pos c3] at eK
            rw [wpE_ifn (by omega), wpE_bd, cge k6, wpE_thw]
            exact no g' h hF' (fun _ _ => rfl) eK
          · rw [if_neg c3] at eK
            rw [wpE_ifp (by omega), wpE_bd]
            refine wordX hT k6 k7 hj ?_
            rw [wpE_bd, cp, wpE_lE, wp_rt]
            have hr := wdF_r (T := T) (q := q) (l := j) 12 0
            refine yes _ h (hF'.u (by decide)) (fun _ _ => rfl) ?_ ?_ ?_ ?_ ?_ (fun w => ?_) ?_
            · rw [ups_ne (by decide)]; exact k3
            · rw [ups_ne (by decide)]; exact k4
            · rw [ups_eq, eK]
            · rw [ups_ne (by decide)]; exact k6
            · rw [ups_ne (by decide)]; exact k7
            · rw [eK] at w; omega
            · rw [eK]; omega
      · rw [if_neg c1, wpE_ifp rfl, wpE_bd, dgX]
        by_cases c2 : isDd (T q) = true
        · rw [if_pos c2, wpE_ifn (by decide), wpE_bdE, F_X1_scanNumber, wpE_bd, cpL2]
          have eL : tkL T n q = rn (fun k => isDd (T k)) n q := by unfold tkL; rw [if_neg cn, if_neg c1, if_pos c2]
          have eK : tkK T n q = if 10 < tkL T n q then -1 else 2 := by unfold tkK; rw [if_neg cn, if_neg c1, if_pos c2]
          have hle := rn_le (fun k => isDd (T k)) n q hq
          rw [← eL] at hle
          refine loopE (L := fun f (_ : Unit) => X1_scanNumber_5 f) (fun m _ τ => ∃ (j : Nat) (g' : Nat → Int) (h' : Nat → Int64), q + j ≤ n ∧ j ≤ 10 ∧ m = n - (q + j) ∧ fg g g' ∧ (∀ k, k ≠ 8 → h' k = h k) ∧ τ = cX σ g' h' ∧ (g' 2 = (n : Int) ∧ g' 3 = (q : Int) ∧ g' 4 = 1 ∧ g' 6 = (q : Int) ∧ g' 7 = (j : Int)) ∧ h' 8 = nmV T q j ∧ ∀ i, i < j → isDd (T (q + i)) = true) ?_ FU (n - q) () _ (by omega) ⟨0, g1, _, by omega, by omega, rfl, hF, fun k hk => ups_ne hk, rfl, ⟨g2, g3, g4, g6, g7⟩, ups_eq, fun i hi => absurd hi (Nat.not_lt_zero i)⟩
          rintro f m _ τ ⟨j, g', h', hj, hj10, rfl, hF', hH, rfl, ⟨k2, k3, k4, k6, k7⟩, k8, hP⟩ ih
          show wpE (X1_scanNumber_5 (f + 1)) _ _ E
          rw [X1_scanNumber_5, wpE_bd, cge k6, wpE_bd, cge k7, wpE_bd, w32_i (by omega) (by omega), show (q : Int) + (j : Int) = ((q + j : Nat) : Int) by omega, sgnX hT k2, wpE_bd, dgX]
          by_cases c3 : q + j < n ∧ isDd (T (q + j)) = true
          · have e2 : tsg T n (q + j) = T (q + j) := by unfold tsg; rw [if_pos c3.1]
            rw [e2, if_pos c3.2, wpE_ifn (by decide), wpE_bd, cge k7]
            by_cases c4 : j = 10
            · rw [wpE_ifp (by omega), X1_scanNumber_33, wpE_bd, cge k6, wpE_thw]
              refine no g' h' hF' hH ?_
              rw [eK, if_pos ?_]
              rw [eL]
              rcases Nat.lt_or_ge 10 (rn (fun k => isDd (T k)) n q) with w | w
              · exact w
              · rcases rn_out (P := fun k => isDd (T k)) (n := n) q hq with z | z
                · rw [eL] at hle; omega
                · rcases Nat.lt_or_ge (rn (fun k => isDd (T k)) n q) 10 with y | y
                  · rw [hP _ (by omega)] at z; cases z
                  · have y2 : rn (fun k => isDd (T k)) n q = j := by omega
                    rw [y2, c3.2] at z; cases z
            · rw [wpE_ifn (by omega), wpE_bd, cgL, k8, wpE_bd, cge k6, wpE_bd, cge k7, wpE_bd, w32_i (by omega) (by omega), show (q : Int) + (j : Int) = ((q + j : Nat) : Int) by omega, ctx hT c3.1, wpE_bd, cpL2, wpE_bd, cge k7, wpE_bd, cp, w32_i (by omega) (by omega)]
              refine ih (n - (q + (j + 1))) () _ (by omega) ⟨j + 1, _, _, by omega, by omega, rfl, hF'.u (by decide), fun k hk => by rw [ups_ne hk]; exact hH k hk, rfl, ⟨?_, ?_, ?_, ?_, ?_⟩, ups_eq, fun i hi => ?_⟩
              · rw [ups_ne (by decide)]; exact k2
              · rw [ups_ne (by decide)]; exact k3
              · rw [ups_ne (by decide)]; exact k4
              · rw [ups_ne (by decide)]; exact k6
              · rw [ups_eq]; rfl
              · by_cases e : i = j
                · subst e; exact c3.2
                · exact hP i (by omega)
          · have hout : isDd (tsg T n (q + j)) = false := by
              unfold tsg
              by_cases c4 : q + j < n
              · rw [if_pos c4]; exact Bool.eq_false_iff.mpr (fun w => c3 ⟨c4, w⟩)
              · rw [if_neg c4]; rfl
            have hl : tkL T n q = j := by
              rw [eL]
              refine rn_eq j q hP hj ?_
              by_cases c4 : q + j < n
              · right; exact Bool.eq_false_iff.mpr (fun w => c3 ⟨c4, w⟩)
              · left; omega
            rw [hl] at eK yes
            rw [if_neg (by omega)] at eK
            rw [hout, show (if (false : Bool) = true then (1 : Int) else 0) = 0 from rfl, wpE_ifp rfl, X1_scanNumber_91, wpE_bd, cp, wpE_lE, wp_rt, wpE_lE, wp_rt]
            refine yes _ h' (hF'.u (by decide)) hH ?_ ?_ ?_ ?_ ?_ (fun w => k8) ?_
            · rw [ups_ne (by decide)]; exact k3
            · rw [ups_ne (by decide)]; exact k4
            · rw [ups_eq, eK]
            · rw [ups_ne (by decide)]; exact k6
            · rw [ups_ne (by decide)]; exact k7
            · rw [eK]; decide
        · rw [if_neg c2, wpE_ifp rfl, wpE_bd, cge g3, wpE_bd, w32_i (by omega) (by omega), show (q : Int) + 1 = ((q + 1 : Nat) : Int) by omega, sgnX hT g2, wpE_bd, pkX, wpE_lt]
          have eL : tkL T n q = if 0 ≤ pkK (T q) (tsg T n (q + 1)) then 2 else 1 := by unfold tkL; rw [if_neg cn, if_neg c1, if_neg c2]
          have eK : tkK T n q = if 0 ≤ pkK (T q) (tsg T n (q + 1)) then pkK (T q) (tsg T n (q + 1)) else if T q ∈ sgs then T q else -1 := by unfold tkK; rw [if_neg cn, if_neg c1, if_neg c2]
          have pr : pkK (T q) (tsg T n (q + 1)) = -1 ∨ (15 ≤ pkK (T q) (tsg T n (q + 1)) ∧ pkK (T q) (tsg T n (q + 1)) ≤ 19) := by unfold pkK; omega
          by_cases c3 : 0 ≤ pkK (T q) (tsg T n (q + 1))
          · rw [if_pos c3] at eL eK
            rw [wpE_ifp c3, X1_scan_202, wpE_bd, cp, wpE_ifp c3, X1_scan_231, wpE_ifp c3, X1_scan_241, wpE_bd, cp, wpE_lE, wp_rt]
            refine yes _ h ((hF.u (by decide)).u (by decide)) (fun _ _ => rfl) ?_ ?_ ?_ ?_ ?_ (fun w => ?_) ?_
            · rw [ups_ne (by decide), ups_ne (by decide)]; exact g3
            · rw [ups_ne (by decide), ups_ne (by decide)]; exact g4
            · rw [ups_eq, eK]
            · rw [ups_ne (by decide), ups_ne (by decide)]; exact g6
            · rw [ups_ne (by decide), ups_eq, eL]; rfl
            · rw [eK] at w; omega
            · rw [eK]; omega
          · rw [if_neg c3] at eL eK
            rw [wpE_ifn c3, X1_scan_202, wpE_bd, cp, wpE_ifn c3, wpE_bd]
            refine idxX hTq.1 hTq.2 (fun hin x hx => ?_) (fun hin => ?_)
            · have hmin : ∀ x, x ∈ sgs → 38 ≤ x := by decide
              have hm := hmin _ hin
              rw [if_pos hin] at eK
              rw [wpE_ifp hx, X1_scan_231, wpE_ifn c3, X1_scan_241, wpE_bd, cp, wpE_lE, wp_rt]
              refine yes _ h ((hF.u (by decide)).u (by decide)) (fun _ _ => rfl) ?_ ?_ ?_ ?_ ?_ (fun w => ?_) ?_
              · rw [ups_ne (by decide), ups_ne (by decide)]; exact g3
              · rw [ups_ne (by decide), ups_ne (by decide)]; exact g4
              · rw [ups_eq, eK]
              · rw [ups_ne (by decide), ups_ne (by decide)]; exact g6
              · rw [ups_ne (by decide), ups_eq, eL]; rfl
              · rw [eK] at w; omega
              · rw [eK]; omega
            · rw [if_neg hin] at eK
              rw [wpE_ifn (by decide), wpE_bd, cge (x := (q : Int)) (by rw [ups_ne (by decide)]; exact g6), wpE_thw]
              exact no _ h (hF.u (by decide)) (fun _ _ => rfl) eK
    by_cases c0 : 0 ≤ T q
    · rw [wpE_ifp c0]; exact key
    · rw [wpE_ifn c0, wpE_bd, cge g3, wpE_bd, cge g2, wpE_ifn (by omega)]; exact key
theorem scanX {p : Nat} (hT : TXc T n σ) (h2 : g 2 = (n : Int)) (h3 : g 3 = (p : Int)) (hp : p ≤ n) {Q : Unit → St → Prop} {E : XV → St → Prop} (yes : ∀ g' h', fg g g' → (∀ k, k ≠ 8 → h' k = h k) → g' 4 = 1 → g' 5 = tkK T n (tkQ T n p) → g' 6 = (tkQ T n p : Int) → g' 7 = (tkL T n (tkQ T n p) : Int) → (tkK T n (tkQ T n p) = 2 → h' 8 = nmV T (tkQ T n p) (tkL T n (tkQ T n p))) → tkK T n (tkQ T n p) ≠ -1 → Q () (cX σ g' h')) (no : ∀ g' h', fg g g' → (∀ k, k ≠ 8 → h' k = h k) → tkK T n (tkQ T n p) = -1 → E (0, 1, (tkQ T n p : Int)) (cX σ g' h')) : wpE F_X1_scan (cX σ g h) Q E := by
  have hf := FU_ge
  have hn := hT.1
  rw [F_X1_scan]
  refine loopE (L := fun f (_ : Unit) => X1_scan_0 f) (fun m _ τ => ∃ (a : Nat) (g' : Nat → Int), p + a ≤ n ∧ m = n - (p + a) ∧ fg g g' ∧ τ = cX σ g' h ∧ (g' 2 = (n : Int) ∧ g' 3 = ((p + a : Nat) : Int)) ∧ ∀ i, i < a → isBl (T (p + i)) = true) ?_ FU (n - p) () _ (by omega) ⟨0, g, by omega, rfl, fg.refl, rfl, ⟨h2, by rw [h3]; rfl⟩, fun i hi => absurd hi (Nat.not_lt_zero i)⟩
  rintro f m _ τ ⟨a, g', ha, rfl, hF, rfl, ⟨k2, k3⟩, hP⟩ ih
  show wpE (X1_scan_0 (f + 1)) _ Q E
  rw [X1_scan_0, wpE_bd, cge k3, wpE_bd, cge k2]
  have fin : (p + a = n ∨ isBl (T (p + a)) = false) → wpE X1_scan_39 (cX σ g' h) Q E := by
    intro ho
    have hq : tkQ T n p = p + a := by unfold tkQ; rw [rn_eq a p hP ha ho]
    rw [hq] at yes no
    exact scan39 hT k2 k3 ha (fun g2 h2 z1 z2 z3 z4 z5 z6 z7 z8 z9 => yes g2 h2 (fun k hk => (z1 k hk).trans (hF k hk)) z2 z4 z5 z6 z7 z8 z9) (fun g2 h2 z1 z2 z3 => no g2 h2 (fun k hk => (z1 k hk).trans (hF k hk)) z2 z3)
  by_cases c : p + a < n
  · rw [wpE_ifn (by omega), wpE_bd, cge k3, wpE_bd, ctx hT c, wpE_bd, blX]
    by_cases c2 : isBl (T (p + a)) = true
    · rw [if_pos c2, wpE_ifn (by decide), wpE_bd, cge k3, wpE_bd, cp, w32_i (by omega) (by omega)]
      refine ih (n - (p + (a + 1))) () _ (by omega) ⟨a + 1, _, by omega, rfl, hF.u (by decide), rfl, ⟨by rw [ups_ne (by decide)]; exact k2, by rw [ups_eq]; omega⟩, fun i hi => ?_⟩
      by_cases e : i = a
      · subst e; exact c2
      · exact hP i (by omega)
    · rw [if_neg c2, wpE_ifp rfl]
      exact fin (Or.inr (Bool.eq_false_iff.mpr c2))
  · rw [wpE_ifp (by omega)]
    exact fin (Or.inl (by omega))
end
