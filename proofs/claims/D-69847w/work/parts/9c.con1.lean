set_option maxRecDepth 100000
set_option maxHeartbeats 400000
/-! ===== read: connections, behind the target ===== -/
/-- what statements leave alone -/
def nSX (a k : Nat) : Prop := ¬ ((a = 2 ∧ ((3 ≤ k ∧ k ≤ 9) ∨ k = 16)) ∨ (a = 5 ∧ (k = 13 ∨ k = 14 ∨ k = 22 ∨ k = 27)) ∨ (14 ≤ a ∧ a ≤ 30))
def nSY (a k : Nat) : Prop := ¬ ((a = 2075 ∧ ((30 ≤ k ∧ k ≤ 36) ∨ k = 38 ∨ k = 39 ∨ k = 46 ∨ k = 47 ∨ (55 ≤ k ∧ k ≤ 57))) ∨ (2101 ≤ a ∧ a ≤ 2113))
theorem agr_nSX {σ τ : St} (h : agr nEX σ τ) : agr nSX σ τ := agr.sub h (fun a k q => by unfold nSX at q; unfold nEX; omega)
theorem agr_nSY {σ τ : St} (h : agr nEY σ τ) : agr nSY σ τ := agr.sub h (fun a k q => by unfold nSY at q; unfold nEY; omega)
section
variable {k t : Nat} {kd wd pt : Nat → Nat} {Mt : Nat → Nat} {Mk Mw : Nat → Nat → Nat}
variable {V : St → St → Prop} {RD : Nat → Int → Nat → Prop} {WD : Nat → Nat → Prop} {c0 : Nat × Int} {σ0 τ0 : St} {T : Nat → Int} {n op : Nat} {γ δ : Type}
theorem VE.stS {σ τ σ' τ' : St} (e : agr nSX σ σ') (e' : agr nSY τ τ') (h : VE k t kd wd pt Mt Mk Mw σ τ) : VE k t kd wd pt Mt Mk Mw σ' τ' := by
  obtain ⟨h1, ⟨h2, h3⟩, h4, h5, h6⟩ := h
  have fc : ∀ a, (a = 1 ∨ (7 ≤ a ∧ a ≤ 13) ∨ 110 ≤ a) → σ'.1 a = σ.1 a := fun a ha => funext fun k => (e a k (by unfold nSX; omega)).1
  have ft : ∀ a, a = 2077 ∨ a = 2082 ∨ a = 2083 ∨ a = 2086 ∨ a = 2087 → τ'.1 a = τ.1 a := fun a ha => funext fun k => (e' a k (by unfold nSY; omega)).1
  refine ⟨h1, ⟨by rw [(e 2 11 (by unfold nSX; omega)).1]; exact h2, by rw [(e' 2075 37 (by unfold nSY; omega)).1]; exact h3⟩, h4.fr (e 5 7 (by unfold nSX; omega)).1 (fun a q1 q2 => fc a (by omega)) (fun a q => ft a (by omega)), fun i hi => ?_, fun m hm => ?_⟩
  · rw [fc 9 (by omega), fc 10 (by omega), fc 13 (by omega), ft 2086 (by omega)]; exact h5 i hi
  · obtain ⟨q1, q2, q3⟩ := h6 m hm
    refine ⟨by rw [(e 1 m (by unfold nSX; omega)).2.2]; exact q1, q2.fr (congrFun (fc _ (by omega)) 7) (fun a z1 z2 => fc a (by omega)) (fun a z => ft a (by omega)), fun i hi => ?_⟩
    rw [fc _ (by omega), fc _ (by omega)]; exact q3 i hi
theorem BS.frS {σ τ σ' τ' : St} (h : BS c0 σ0 τ0 T n σ τ) (e : agr nSX σ σ') (e' : agr nSY τ τ') (h28 : τ'.1 2075 28 = 0) : BS c0 σ0 τ0 T n σ' τ' := by
  obtain ⟨⟨a1, a2, a3, a4, a5⟩, ⟨c1, c2, c3, c4⟩, b3, b4, b5, b6⟩ := h
  refine ⟨⟨a1, a2, ?_, fun k hk => ?_, fun i hi => ?_⟩, ⟨c1, c2, ?_, fun k hk => ?_⟩, h28, b4.trans (agr.sub e (fun a k q => by unfold nX at q; unfold nSX; omega)), b5.trans (agr.sub e' (fun a k q => by unfold nY at q; unfold nSY; omega)), by rw [(e' 2075 37 (by unfold nSY; omega)).1]; exact b6⟩
  · rw [(e 2 2 (by unfold nSX; omega)).1]; exact a3
  · rw [(e 4 k (by unfold nSX; omega)).1]; exact a4 k hk
  · rw [(e 3 i (by unfold nSX; omega)).2.2]; exact a5 i hi
  · rw [(e' 2075 2 (by unfold nSY; omega)).1]; exact c3
  · rw [(e' 2076 k (by unfold nSY; omega)).1]; exact c4 k hk
/-- the token at hand is the same -/
theorem TKf.cong {σ τ σ' τ' : St} {p : Nat} (h : TKf T n σ τ p) (e1 : ∀ i, 3 ≤ i → i ≤ 8 → σ'.1 2 i = σ.1 2 i) (e3 : ∀ i, 30 ≤ i → i ≤ 35 → τ'.1 2075 i = τ.1 2075 i) : TKf T n σ' τ' p := by
  obtain ⟨h1, ⟨h2, h2'⟩, h3, h4⟩ := h
  exact ⟨h1, ⟨by rw [e1 4 (by decide) (by decide)]; exact h2, by rw [e1 3 (by decide) (by decide)]; exact h2'⟩, by rw [e3 31 (by decide) (by decide)]; exact h3, by rw [e3 30 (by decide) (by decide)]; exact h4⟩
theorem TKp.cong {σ τ σ' τ' : St} {p : Nat} (h : TKp T n σ τ p) (e1 : ∀ i, 3 ≤ i → i ≤ 8 → σ'.1 2 i = σ.1 2 i) (e2 : σ'.2 = σ.2) (e3 : ∀ i, 30 ≤ i → i ≤ 35 → τ'.1 2075 i = τ.1 2075 i) (e4 : τ'.2 = τ.2) : TKp T n σ' τ' p := by
  obtain ⟨h1, h2, ⟨k1, k2, k3, k4, k5⟩, t1, t2, t3, t4, t5, t6⟩ := h
  refine ⟨h1, h2, ⟨by rw [e1 4 (by decide) (by decide)]; exact k1, by rw [e1 5 (by decide) (by decide)]; exact k2, by rw [e1 6 (by decide) (by decide)]; exact k3, by rw [e1 7 (by decide) (by decide)]; exact k4, by rw [e2]; exact k5⟩, by rw [e3 31 (by decide) (by decide)]; exact t1, by rw [e3 32 (by decide) (by decide)]; exact t2, by rw [e3 33 (by decide) (by decide)]; exact t3, by rw [e3 30 (by decide) (by decide)]; exact t4, fun w1 w2 => by rw [e3 34 (by decide) (by decide)]; exact t5 w1 w2, by rw [e4]; exact t6⟩
theorem TK.cong {σ τ σ' τ' : St} {p : Nat} (h : TK T n σ τ p) (e1 : ∀ i, 3 ≤ i → i ≤ 8 → σ'.1 2 i = σ.1 2 i) (e2 : σ'.2 = σ.2) (e3 : ∀ i, 30 ≤ i → i ≤ 35 → τ'.1 2075 i = τ.1 2075 i) (e4 : τ'.2 = τ.2) : TK T n σ' τ' p := h.imp (fun w => w.cong e1 e3) (fun w => w.cong e1 e2 e3 e4)
theorem EX0.cong {G : NG} {N j p : Nat} {σ τ σ' τ' : St} (h : EX0 V RD WD G N j op p σ τ) (hV : V σ' τ') (e1 : ∀ i, i = 13 ∨ i = 14 → σ'.1 5 i = σ.1 5 i) (e2 : σ'.1 2 9 = σ.1 2 9) (e3 : ∀ a, 14 ≤ a → a ≤ 18 → σ'.1 a = σ.1 a) (f1 : ∀ i, 36 ≤ i → i ≤ 39 → τ'.1 2075 i = τ.1 2075 i) (f2 : ∀ a, 2101 ≤ a → a ≤ 2105 → τ'.1 a = τ.1 a) (f3 : τ'.2 = τ.2) : EX0 V RD WD G N j op p σ' τ' := by
  obtain ⟨h1, ⟨h2, h3⟩, ⟨ct, h4, h5, h6⟩, h7, h8⟩ := h
  refine ⟨hV, ⟨⟨by rw [e1 13 (by decide)]; exact h2.1, by rw [f1 38 (by decide) (by decide)]; exact h2.2⟩, h3⟩, ⟨ct, by rw [f1 39 (by decide) (by decide)]; exact h4, by rw [e1 14 (by decide)]; exact h5, h6⟩, ⟨h7.1, by rw [e2]; exact h7.2.1, by rw [f1 36 (by decide) (by decide)]; exact h7.2.2⟩, fun i hi => ⟨?_, (h8 i hi).2⟩⟩
  unfold ndRel
  rw [e3 14 (by decide) (by decide), e3 15 (by decide) (by decide), e3 16 (by decide) (by decide), e3 17 (by decide) (by decide), e3 18 (by decide) (by decide), f2 2105 (by decide) (by decide), f2 2101 (by decide) (by decide), f2 2102 (by decide) (by decide), f2 2103 (by decide) (by decide), f2 2104 (by decide) (by decide), f3]
  exact (h8 i hi).1
/-- a look at the token at hand, in the twin alone -/
theorem look_t {σ τ : St} {p : Nat} (h28 : τ.1 2075 28 = 0) (hk : TKp T n σ τ p) {Q : Int → St → Prop} : wp F_X15_look τ Q = Q (km (tkK T n p)) τ := by
  obtain ⟨h1, h2, h3, t1, t2, t3, t4, t5, t6⟩ := hk
  rw [F_X15_look, wp_bd, wp_gI, h28, wp_ifp (by decide), wp_bd, wp_gI, t1, wp_ifn (by decide), wp_bd, wp_gI, t2, wp_rt]
theorem FT_117 {a b c d e : Int} (h : 0 ≤ a ∧ a < 2100) : FTw c0 (fun _ : Unit => True) (X15_connection_117 a b c d e) := by
  rw [X15_connection_117]
  dsimp only [lt]
  refine FT_bd (FT_must (by decide)) (fun z hz => ?_)
  refine FT_w 2100 (fun h1 h2 => RV_2107 h1 h2) h ⟨by decide, by unfold nY; omega⟩ ?_
  refine FT_w 2100 (fun h1 h2 => RV_2108 h1 h2) h ⟨by decide, by unfold nY; omega⟩ ?_
  refine FT_w 2100 (fun h1 h2 => RV_2109 h1 h2) h ⟨by decide, by unfold nY; omega⟩ ?_
  refine FT_w 2100 (fun h1 h2 => RV_2110 h1 h2) h ⟨by decide, by unfold nY; omega⟩ ?_
  exact FT_rt trivial
/-- the twin behind the target of a connection -/
noncomputable def tailC (s : Int) : Unit → St → Option (Unit × St) := fun _ => bd (gI 2075 55) fun v4 => bd (gI 2075 56) fun v6 => bd (gI 2075 57) fun v8 => bd (gI 2075 33) fun _ => bd (F_X15_look) fun v12 => if v12 = 43 then (X15_connection_60 s v4 v6 v8 1) else X15_connection_60 s v4 v6 v8 0
theorem FT_tailC {s : Int} {u : Unit} : FTw c0 (fun _ : Unit => True) (tailC s u) := by
  unfold tailC
  refine FT_gI (fun v => FT_gI (fun v' => FT_gI (fun v'' => FT_gI (fun v''' => FT_bd FT_look (fun z hz => ?_)))))
  subst hz
  rw [if_neg (by decide), X15_connection_60]
  dsimp only [lt]
  exact FT_gI (fun v => FT_bd (FT_must (by decide)) (fun z hz => FT_if (fun _ => FT_rt trivial) (fun e => absurd hz e)))
end
