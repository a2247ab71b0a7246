set_option maxRecDepth 100000
set_option maxHeartbeats 400000
/-! ===== read: whens, the walk ===== -/
/-- the component behind the first block of a when -/
noncomputable def tailX (rb : Int → St → Option ((Unit ⊕ XV) × St)) (rb2 : Int → Int → St → Option ((Unit ⊕ XV) × St)) (r N u w : Int) : St → Option ((Unit ⊕ XV) × St) := bdE (F_X1_look) fun v12 => if v12 = 11 then (bdE (F_X1_nest) fun _ => bd (F_X2_addWhen 5 N u 1 w) fun v13 => bd (pI 2 16 v13) fun _ => bdE (rb2 (w32 (r + 1)) (w32 ((w32 (r + 1)) + 20))) fun _ => X1_when_130 rb rb2 FU r w (w32 (r + 1)) (w32 ((w32 (r + 1)) + 20)) 0) else X1_when_200 rb rb2 w
/-- the twin there -/
noncomputable def tailM (rm : Int → Int → St → Option (Unit × St)) (s : Int) : St → Option (Unit × St) := bd (F_X15_look) fun v2 => if v2 = 18 then (bd (F_X15_opens) fun v3 => if v3 = 0 then (rt ()) else bd (F_X15_take) fun _ => bd (wrB 2113 s 1) fun _ => bd (rm s 1) fun _ => bd (gI 2075 36) fun v4 => bd (pI 2075 36 (w32 (v4 - 1))) fun _ => rt ()) else rt ()
theorem when1_eq {rb : Int → St → Option ((Unit ⊕ XV) × St)} {rb2 : Int → Int → St → Option ((Unit ⊕ XV) × St)} {r : Int} : F_X1_when rb rb2 r = bd (gI 2 6) fun v1 => bdE (F_X1_nest) fun _ => bd (gI 5 13) fun v3 => bdE (R_X1_exp) fun v5 => bd (rdI 18 v5) fun v7 => if v7 = 1 then (bd (gI 2 16) fun v8 => bd (F_X2_addWhen 5 v3 v5 0 v8) fun v11 => bd (pI 2 16 v11) fun _ => bdE (rb (w32 (r + 1))) fun _ => tailX rb rb2 r v3 v5 v8) else thw (0, 7, v1) := by
  rw [F_X1_when]
  unfold tailX
  simp only [lt_eq]
theorem when15_eq {rm : Int → Int → St → Option (Unit × St)} {a e : Int} : F_X15_when rm a e = bd (gI 2075 33) fun v1 => bd (F_X15_opens) fun v3 => if v3 = 0 then (rt ()) else bd (F_X15_take) fun _ => bd (F_X15_statement a e) fun v4 => bd (R_X15_exp) fun v6 => bd (gI 2075 28) fun v8 => if v8 = 0 then (bd (rdI 2105 v6) fun v9 => if v9 = 1 then (X15_when_56 rm v4 v6) else bd (F_X15_fail 7 v1) fun _ => X15_when_56 rm v4 v6) else X15_when_56 rm v4 v6 := by
  rw [F_X15_when]
  simp only [lt_eq]
theorem when56_eq {rm : Int → Int → St → Option (Unit × St)} {s u : Int} : X15_when_56 rm s u = bd (wrI 2110 s u) fun _ => bd (rm s 0) fun _ => bd (gI 2075 36) fun v1 => bd (pI 2075 36 (w32 (v1 - 1))) fun _ => tailM rm s := by
  rw [X15_when_56]
  unfold tailM
  rfl
section
variable {k t : Nat} {kd wd pt : Nat → Nat} {Mt : Nat → Nat} {Mk Mw : Nat → Nat → Nat}
variable {c0 : Nat × Int} {σ0 τ0 : St} {T : Nat → Int} {n op : Nat} {a e : Int} {Lc : List (Nat × Bool)} {γ δ : Type}
theorem FT_tailM {rm : Int → Int → St → Option (Unit × St)} {s : Int} : FTw c0 (fun _ : Unit => True) (tailM rm s) := by
  unfold tailM
  refine FT_bd FT_look (fun y hy => ?_)
  subst hy
  rw [if_neg (by decide)]
  exact FT_rt trivial
theorem FT_56 {sm : Int → Int → St → Option (Unit × St)} {s : Nat} {u : Int} (hs : s < 2100) : FTw c0 (fun _ : Unit => True) (X15_when_56 (fun a e => F_X15_block sm a e) (s : Int) u) := by
  rw [when56_eq]
  refine FT_w 2100 (fun h1 h2 => RV_2110 h1 h2) (by omega) ⟨by decide, by unfold nY; omega⟩ ?_
  exact FT_bd FT_blk (fun _ _ => FT_gI (fun v => FT_pI (by decide) FT_tailM))
end
