set_option maxRecDepth 100000
set_option maxHeartbeats 400000
/-! ===== bits: the component's mems: words ===== -/
/-- what the words change -/
def bV (n a k : Nat) : Prop := ¬ (a = 39 ∨ a = 47 ∨ a = n + 1 ∨ a = n + 2 ∨ (a = n ∧ k = 2) ∨ a = n + 4 ∨ a = n + 5)
theorem fr3_bV {n : Nat} {σ τ : St} (h : FR3 n (n + 4) σ τ) : agr (bV n) σ τ := by
  intro a k q
  unfold bV at q
  obtain ⟨h1, h2, h3⟩ := h
  refine ⟨?_, by rw [h3], by rw [h3]⟩
  by_cases e : a = n
  · subst e; exact h2 k (by omega)
  · rw [h1 a (by omega) e (by omega) (by omega) (by omega) (by omega)]
theorem bV_T {n : Nat} {σ τ : St} (h : agr (bV n) σ τ) : agr (bTn n) σ τ := agr.sub h (fun a k q => by unfold bTn at q; unfold bV; omega)
theorem CE.thn {c0 c1 c2 : Nat → Int} {to w j j' : Nat} {o o' : Nat → Nat} (h : CE c0 c1 to w j o) (h' : CE c1 c2 to w j' o') : CE c0 c2 to w j' o' := ⟨fun k hk => (h'.1 k hk).trans (h.1 k hk), h'.2⟩
section
variable {Ms : Nat → ModV} {top : Nat} {s : LYS} {σ τ υ : St} {st : BST} {o n g : Nat}
theorem SBX.bv (h : SBX Ms top s o σ) (hd : DP Ms top s) (hD : isD o) (hn : isN n) (e : agr (bV n) σ τ) : SBX Ms top s o τ := h.fr hd hD hn (agr.sub e (fun a k q => by unfold bH bG at q; unfold bV; omega))
/-- one connection upon a word -/
theorem wnX (hd : DP Ms top s) (hD : isD o) (hn : isN n) (hlim : limOK Ms s) (hg : g < lsG s) (h4 : kdS Ms s g = 4) {c q k at' : Nat} {e : MCE} {x : (Nat → Nat) × NB} (hmem : c ∈ conL Ms s g) (hS : SBX Ms top s o σ) (hx : mkX σ 38 n (inbS Ms s (lsG s)) (keptS Ms s (lsG s)) x.2) (hwf : wfB (lvD Ms s) x.2) (hq : q < 6100) (q3 : σ.1 (o + 9) q = (coI Ms s g : Int)) (q4 : σ.1 (o + 10) q = (c : Int)) (hk : k < 64) (he1 : e.2.2.2 = gW (gI' Ms s (coI Ms s g)) (adN Ms s g c)) (he2 : ∀ j, j < e.2.2.2 → σ.1 45 (bNd Ms s (coI Ms s g) (adN Ms s g c) + j) = (e.2.1 j : Int)) (he3 : ∀ j, j < wdS Ms s g → σ.1 45 (bNd Ms s (coI Ms s g) (mdVl (moI Ms s (coI Ms s g)) c) + j) = (e.2.2.1 j : Int)) (hlt : ltE (lvD Ms s) (wdS Ms s g) x.2 e) (hat : at' + wdS Ms s g ≤ 200) (hv : ∀ j, j < wdS Ms s g → σ.1 (n + 4) (at' + j) = (x.1 j : Int)) (hvl : ltA (lvD Ms s) x.2 (wdS Ms s g) x.1) {Q : Unit → St → Prop} {E : XV → St → Prop} (hQ : ∀ τ, KR n (inbS Ms s (lsG s)) (keptS Ms s (lsG s)) (n + 4) σ τ (mw1 (lvD Ms s) (wdS Ms s g) k e x).2 → CE (σ.1 (n + 4)) (τ.1 (n + 4)) at' (wdS Ms s g) (wdS Ms s g) (mw1 (lvD Ms s) (wdS Ms s g) k e x).1 → Q () τ) (hE : ∀ τ, flB (mw1 (lvD Ms s) (wdS Ms s g) k e x).2 → agr (bTn n) σ τ → E (1, 0, 0) τ) : wpE (F_X3_wordNext (g : Int) (q : Int) (e.1 : Int) (k : Int) (n + 4) (at' : Int)) σ Q E := by
  have hF := FU_ge
  have hN := isN_le hn
  have h200 := hd.2.1.2
  have h12 := hd.1.1
  have h101 := hd.2.1.1.2
  have hl : inbS Ms s (lsG s) ≤ 64 ∧ keptS Ms s (lsG s) ≤ 200 := ⟨hlim.2.2.1, hlim.1.2⟩
  obtain ⟨-, -, -, -, ⟨s5, s6⟩, -⟩ := hd.sig hg
  obtain ⟨z1, z2, z3, z4, -⟩ := hd.conL_mem hg hmem
  obtain ⟨d1, d2, d3⟩ := hd.ad hg h4 hmem
  obtain ⟨hM, ok⟩ := hd.inst z2
  have n240 : mdN (moI Ms s (coI Ms s g)) ≤ 240 := ok.1.2.1
  have c60 : mdC (moI Ms s (coI Ms s g)) ≤ 60 := ok.1.2.2.1
  have hMd := isMd_D hD (show lsM s (coI Ms s g) < 12 by omega)
  obtain ⟨⟨m14, m15, m16, m18, m19, m17⟩, mch⟩ := (hS.1.2.2.1 _ hM).2.2.2 c z3
  have m16' : σ.1 (o + 27 + 25 * lsM s (coI Ms s g) + 16) c = (adN Ms s g c : Int) := m16.trans d2
  obtain ⟨-, -, -, -, r13⟩ := row_x hS.1 hd z2 d1
  have bt := bN_top hd z2 d1
  have bv := bN_top hd z2 (hd.root z2 z3)
  rw [(hd.cw hg hmem).1] at bv
  obtain ⟨l1, l2, l3, l4⟩ := hlt
  have ig := isB_go (k := k) hwf l2
  have ag := andB_go ig.1.1 (ig.1.lt l1) ig.2
  have g2 := ig.1.trans ag.1
  rw [← he1] at r13 bt
  rw [F_X3_wordNext, wpE_bd, wp_gQ, hS.2.2.2.1, wpE_nn, wpE_ck, and_t (ly_D hD), wpE_bd, DI_9 hD (by omega) (by omega), tn, q3, wpE_lt, wpE_bd, wp_gQ, hS.2.2.2.1, wpE_nn, wpE_ck, and_t (ly_D hD), wpE_bd, wp_gQ, hS.2.2.2.1, wpE_nn, wpE_ck, and_t (ly_D hD), wpE_bd, DI_2 hD (by omega) (by omega), tn, (hS.1.1.2.1 _ z2).1, wpE_bd, DI_1 hD (by omega) (by omega), tn, hS.1.2.1 _ (by omega), wpE_bd, wp_gQ, hS.2.2.2.1, wpE_nn, wpE_ck, and_t (ly_D hD), wpE_bd, DI_10 hD (by omega) (by omega), tn, q4, wpE_lt, wpE_nn, wpE_ck, and_t (ly_Md hMd), wpE_bd, MI_16 hMd (by omega) (by omega), tn, m16', wpE_lt, wpE_bd, x_first hd hD hS z2 d1, wpE_bd, MI_13 hMd (by omega) (by omega), tn, r13, wpE_bdE]
  refine isAX (σ0 := σ) hn hl ⟨hx, hwf, FKX.refl⟩ l4 hk l2 ⟨by omega, he2⟩ (fun τ y1 y2 => hE τ (fl_mp (fun _ _ h => fl_mux h) (fl_and y1)) (bG_T (FKX.agr hn y2) hn)) (fun τ1 a1 a2 => ?_)
  have hK1 : KR n (inbS Ms s (lsG s)) (keptS Ms s (lsG s)) (n + 4) σ τ1 (isB (lvD Ms s) e.2.2.2 k e.2.1 x.2).2 := ⟨a1.1, a1.2.1, FR3.ofK a1.2.2 a2⟩
  have e4 : τ1.1 (n + 4) = σ.1 (n + 4) := a1.2.2.1 (n + 4) (by omega) (by omega) (by omega) (by omega) (by omega) (by omega)
  refine rAndK hn (Or.inr rfl) hl hK1 (ig.1.lt l1) ig.2 (fun τ y1 y2 => hE τ (fl_mp (fun _ _ h => fl_mux h) y1) (bV_T (fr3_bV y2))) (fun τ2 b1 b2 b3 b4 => ?_)
  have hS2 := hS.bv hd hD hn (fr3_bV b1.2.2)
  obtain ⟨⟨-, -, -, v18, -, -⟩, -⟩ := (hS2.1.2.2.1 _ hM).2.2.2 c z3
  have v18' : τ2.1 (o + 27 + 25 * lsM s (coI Ms s g) + 18) c = (mdVl (moI Ms s (coI Ms s g)) c : Int) := v18
  rw [wpE_lt, wpE_bd, MI_18 hMd (by omega) (by omega), tn, v18', wpE_bd, x_first hd hD hS2 z2 (hd.root z2 z3), wpE_lt, wpE_lt]
  refine lpX (f := fun j o' B => (ups o' j (muxB (lvD Ms s) (andB (lvD Ms s) e.1 (isB (lvD Ms s) e.2.2.2 k e.2.1 x.2).1 (isB (lvD Ms s) e.2.2.2 k e.2.1 x.2).2).1 (e.2.2.1 j) (x.1 j) B).1, (muxB (lvD Ms s) (andB (lvD Ms s) e.1 (isB (lvD Ms s) e.2.2.2 k e.2.1 x.2).1 (isB (lvD Ms s) e.2.2.2 k e.2.1 x.2).2).1 (e.2.2.1 j) (x.1 j) B).2)) (x0 := x.1) (B0 := (andB (lvD Ms s) e.1 (isB (lvD Ms s) e.2.2.2 k e.2.1 x.2).1 (isB (lvD Ms s) e.2.2.2 k e.2.1 x.2).2).2) (w := wdS Ms s g) (L := fun f j _ => X3_wordNext_103 f (g : Int) (n + 4) (at' : Int) ((andB (lvD Ms s) e.1 (isB (lvD Ms s) e.2.2.2 k e.2.1 x.2).1 (isB (lvD Ms s) e.2.2.2 k e.2.1 x.2).2).1 : Int) (bNd Ms s (coI Ms s g) (mdVl (moI Ms s (coI Ms s g)) c) : Int) (j : Int)) (I := fun j o' B υ => KR n (inbS Ms s (lsG s)) (keptS Ms s (lsG s)) (n + 4) σ υ B ∧ goB (lvD Ms s) (andB (lvD Ms s) e.1 (isB (lvD Ms s) e.2.2.2 k e.2.1 x.2).1 (isB (lvD Ms s) e.2.2.2 k e.2.1 x.2).2).2 B ∧ CE (σ.1 (n + 4)) (υ.1 (n + 4)) at' (wdS Ms s g) (wdS Ms s g) o' ∧ ∀ y, j ≤ y → y < wdS Ms s g → o' y = x.1 y) (FR := fun τ => agr (bTn n) σ τ) (fun j _ B hf => fl_mux hf) hE ?_ ?_ (show wdS Ms s g < FU by omega) ⟨b1, goB.refl ag.1.1, ⟨fun _ _ => by rw [b4, e4], fun j hj => by rw [b4, e4]; exact hv j hj⟩, fun _ _ _ => rfl⟩
  · rintro f j o' B υ hj ⟨k1, k2, k3, k5⟩ hE' ih
    show wpE (X3_wordNext_103 (f + 1) (g : Int) (n + 4) (at' : Int) ((andB (lvD Ms s) e.1 (isB (lvD Ms s) e.2.2.2 k e.2.1 x.2).1 (isB (lvD Ms s) e.2.2.2 k e.2.1 x.2).2).1 : Int) (bNd Ms s (coI Ms s g) (mdVl (moI Ms s (coI Ms s g)) c) : Int) (j : Int)) υ Q E
    have hS3 := hS.bv hd hD hn (fr3_bV k1.2.2)
    have e45 : υ.1 45 = σ.1 45 := k1.2.2.1 45 (by omega) (by omega) (by omega) (by omega) (by omega) (by omega)
    rw [X3_wordNext_103, wpE_bd, wp_gQ, hS3.2.2.2.1, wpE_nn, wpE_ck, and_t (ly_D hD), wpE_bd, x_width hd hD hS3.1 hg, wpE_ifn (by omega), wpE_bd, wN (a := bNd Ms s (coI Ms s g) (mdVl (moI Ms s (coI Ms s g)) c)) (by omega), RI_45 (by omega) (by omega), tn, e45, he3 j hj, wpE_bd, wN (a := at') (by omega), NI_4 hn (by omega) (by omega), tn, k3.2 j hj, k5 j (Nat.le_refl j) hj]
    refine rMux hn (Or.inr rfl) hl k1 (k2.lt ag.2) (k2.lt (g2.lt (l3 j hj))) (k2.lt (g2.lt (hvl j hj))) (fun υ2 q1 q2 => hE' υ2 q1 (bV_T (fr3_bV q2))) (fun υ2 c1 c2 c3 c4 => ?_)
    rw [wpE_bd, NV_4 hn (by omega) (by omega), tn, wpE_lt, wN1 (by omega)]
    exact ih _ ⟨c1.w hn (Or.inr rfl), k2.trans c2, by dsimp only; rw [stA_eq, c4]; exact k3.set hj, fun y h1 h2 => by dsimp only; rw [ups_ne (by omega)]; exact k5 y (by omega) h2⟩
  · rintro f υ ⟨k1, k2, k3, -⟩
    show wpE (X3_wordNext_103 (f + 1) (g : Int) (n + 4) (at' : Int) ((andB (lvD Ms s) e.1 (isB (lvD Ms s) e.2.2.2 k e.2.1 x.2).1 (isB (lvD Ms s) e.2.2.2 k e.2.1 x.2).2).1 : Int) (bNd Ms s (coI Ms s g) (mdVl (moI Ms s (coI Ms s g)) c) : Int) (wdS Ms s g : Int)) υ Q E
    have hS3 := hS.bv hd hD hn (fr3_bV k1.2.2)
    rw [X3_wordNext_103, wpE_bd, wp_gQ, hS3.2.2.2.1, wpE_nn, wpE_ck, and_t (ly_D hD), wpE_bd, x_width hd hD hS3.1 hg, wpE_ifp (by omega), wpE_lE, wp_rt]
    exact hQ υ k1 k3
/-- all connections upon a word -/
theorem memEX (hd : DP Ms top s) (hD : isD o) (hn : isN n) (hlim : limOK Ms s) (hg : g < lsG s) (h4 : kdS Ms s g = 4) {k at' : Nat} {rec : Int → Nat → Int → Int → St → Option ((Unit ⊕ XV) × St)} (hk : k < 64) (hat : at' + wdS Ms s g ≤ 200) {Q : Unit → St → Prop} {E : XV → St → Prop} : ∀ (L : List Nat) (Es : List MCE) (l : Int) (x7 f : Nat) (x : (Nat → Nat) × NB) (σ : St), chn (σ.1 (o + 10)) (σ.1 (o + 9)) (σ.1 (o + 11)) (coI Ms s g) 6100 l L → ENX Ms s g σ x7 Es L → (∀ c, c ∈ L → c ∈ conL Ms s g) → (∀ e, e ∈ Es → ltE (lvD Ms s) (wdS Ms s g) x.2 e) → SBX Ms top s o σ → mkX σ 38 n (inbS Ms s (lsG s)) (keptS Ms s (lsG s)) x.2 → wfB (lvD Ms s) x.2 → (∀ j, j < wdS Ms s g → σ.1 (n + 4) (at' + j) = (x.1 j : Int)) → ltA (lvD Ms s) x.2 (wdS Ms s g) x.1 → L.length < f → x7 + L.length ≤ 60 → (∀ τ, KR n (inbS Ms s (lsG s)) (keptS Ms s (lsG s)) (n + 4) σ τ (mwP (lvD Ms s) (wdS Ms s g) k Es x).2 → CE (σ.1 (n + 4)) (τ.1 (n + 4)) at' (wdS Ms s g) (wdS Ms s g) (mwP (lvD Ms s) (wdS Ms s g) k Es x).1 → wpE (X3_nextMem_300 rec (g : Int) n (wdS Ms s g : Int) (k : Int)) τ Q E) → (∀ τ, flB (mwP (lvD Ms s) (wdS Ms s g) k Es x).2 → agr (bTn n) σ τ → E (1, 0, 0) τ) → wpE (X3_nextMem_255 rec f (g : Int) n (wdS Ms s g : Int) (k : Int) (at' : Int) (x7 : Int) l) σ Q E
  | [], [], l, x7, f, x, σ, hcn, hen, hL, hEs, hS, hx, hwf, hv, hvl, hf, h60, hQ, hE => by
    have hf' : 0 < f := hf
    obtain ⟨f', rfl⟩ : ∃ f', f = f' + 1 := ⟨f - 1, by omega⟩
    have e : l = -1 := hcn
    rw [X3_nextMem_255, wpE_ifp (by omega)]
    exact hQ σ ⟨hx, hwf, FR3.refl⟩ ⟨fun _ _ => rfl, hv⟩
  | [], _ :: _, l, x7, f, x, σ, hcn, hen, hL, hEs, hS, hx, hwf, hv, hvl, hf, h60, hQ, hE => hen.elim
  | _ :: _, [], l, x7, f, x, σ, hcn, hen, hL, hEs, hS, hx, hwf, hv, hvl, hf, h60, hQ, hE => hen.elim
  | c :: L, e :: Es, l, x7, f, x, σ, hcn, hen, hL, hEs, hS, hx, hwf, hv, hvl, hf, h60, hQ, hE => by
    have hN := isN_le hn
    have hf2 : L.length + 1 < f := hf
    have hk2 : x7 + (L.length + 1) ≤ 60 := h60
    obtain ⟨f', rfl⟩ : ∃ f', f = f' + 1 := ⟨f - 1, by omega⟩
    obtain ⟨q, q1, q2, q3, q4, q5⟩ := hcn
    subst q1
    obtain ⟨⟨n1, n2, n3, n4⟩, n5⟩ := hen
    have hle := hEs e List.mem_cons_self
    have m1 := mw1_go (k := k) hwf hle.1 hle.2.1 hle.2.2.1 hvl
    rw [X3_nextMem_255, wpE_ifn (by omega), wpE_lt, wN1 (by omega), wpE_bd, RI_46 (by omega) (by omega), tn, n1, wpE_bdE]
    refine wnX (c := c) hd hD hn hlim hg h4 (hL c List.mem_cons_self) hS hx hwf q2 q3 q4 hk n2 n3 n4 hle hat hv hvl (fun τ1 a1 a2 => ?_) (fun τ1 a1 a2 => hE τ1 (fl_mwP Es _ a1) a2)
    have hb := fr3_bV a1.2.2
    have hS1 := hS.bv hd hD hn hb
    have ro : ∀ j, 9 ≤ j → j ≤ 12 → τ1.1 (o + j) = σ.1 (o + j) := fun j h1 h2 => hb.row (fun k => by
      have t0 := isD_le hD
      have t1 := dn_off hD hn (show j ≤ 326 by omega) (show 0 ≤ 5 by decide)
      have t2 := dn_off hD hn (show j ≤ 326 by omega) (show 1 ≤ 5 by decide)
      have t3 := dn_off hD hn (show j ≤ 326 by omega) (show 2 ≤ 5 by decide)
      have t4 := dn_off hD hn (show j ≤ 326 by omega) (show 4 ≤ 5 by decide)
      have t5 := dn_off hD hn (show j ≤ 326 by omega) (show 5 ≤ 5 by decide)
      unfold bV
      omega)
    have e45 : τ1.1 45 = σ.1 45 := hb.row (fun k => by unfold bV; omega)
    have e46 : τ1.1 46 = σ.1 46 := hb.row (fun k => by unfold bV; omega)
    rw [wpE_bd, wp_gQ, hS1.2.2.2.1, wpE_nn, wpE_ck, and_t (ly_D hD), wpE_bd, DI_11 hD (by omega) (by omega), tn, ro 11 (by omega) (by omega), wpE_lt]
    refine memEX hd hD hn hlim hg h4 hk hat L Es (σ.1 (o + 11) q) (x7 + 1) f' (mw1 (lvD Ms s) (wdS Ms s g) k e x) τ1 (by rw [ro 10 (by omega) (by omega), ro 9 (by omega) (by omega), ro 11 (by omega) (by omega)]; exact q5) (n5.fr _ _ _ e45 e46) (fun c' hc' => hL c' (List.mem_cons_of_mem _ hc')) (fun e' he' => (hEs e' (List.mem_cons_of_mem _ he')).go m1.1) hS1 a1.1 a1.2.1 a2.2 m1.2 (by omega) (by omega) (fun τ b1 b2 => hQ τ ⟨b1.1, b1.2.1, a1.2.2.trans b1.2.2⟩ (a2.thn b2)) (fun τ b1 b2 => hE τ b1 ((bV_T hb).trans b2))
/-- the words of a mem -/
theorem mem2X (hd : DP Ms top s) (hD : isD o) (hn : isN n) (hlim : limOK Ms s) (hg : g < lsG s) (h4 : kdS Ms s g = 4) {Es : List MCE} (hB : BXr Ms top s o n (fun _ => False) st σ) (hen : ENX Ms s g σ 0 Es (conL Ms s g)) (hEs : ∀ e, e ∈ Es → ltE (lvD Ms s) (wdS Ms s g) st.1 e) {Q : Unit → St → Prop} {E : XV → St → Prop} (hQ : ∀ τ, BXr Ms top s o n (fun _ => False) ((wsB Ms s g Es (wsG Ms s g) (fun _ => 0, st.1)).2, st.2.1, st.2.2) τ → agr (bTn n) σ τ → (τ.1 n 3 = σ.1 n 3 ∧ τ.1 (n + 3) = σ.1 (n + 3)) → (∀ k, k < keptS Ms s g → τ.1 (n + 4) k = σ.1 (n + 4) k ∧ τ.1 (n + 5) k = σ.1 (n + 5) k) → (∀ j, j < szG Ms s g → τ.1 (n + 4) (keptS Ms s g + j) = ((wsB Ms s g Es (wsG Ms s g) (fun _ => 0, st.1)).1 j : Int) ∧ τ.1 (n + 5) (keptS Ms s g + j) = 0) → Q () τ) (hE : ∀ τ, flB (wsB Ms s g Es (wsG Ms s g) (fun _ => 0, st.1)).2 → agr (bTn n) σ τ → E (1, 0, 0) τ) : wpE (X3_nextMem_161 (g : Int) n (wdS Ms s g : Int)) σ Q E := by
  have hF := FU_ge
  have hN := isN_le hn
  have h200 := hd.2.1.2
  have hs : stG Ms s g := Or.inr h4
  obtain ⟨-, -, -, -, ⟨s5, s6⟩, ⟨s7, s8⟩, -⟩ := hd.sig hg
  obtain ⟨kk1, kk2⟩ := kept_in hlim hg hs
  have ti : ¬ tiG Ms s g := fun h => ti_ns h hs
  have hcl : (conL Ms s g).length ≤ 60 := by
    rw [hd.conL_eq hg ti]
    have := List.length_filter_le (isC Ms s g) (List.range (mdC (moI Ms s (coI Ms s g))))
    rw [List.length_range] at this
    have c60 : mdC (moI Ms s (coI Ms s g)) ≤ 60 := (hd.inst (hd.co hg ti).1).2.1.2.2.1
    omega
  have hsz : wdS Ms s g * wsG Ms s g = szG Ms s g := rfl
  have wgo := fun k (hk : k ≤ wsG Ms s g) => wsB_go (L := Es) (x := (fun _ => 0, st.1)) hd hg h4 hB.2.2.1.1 hEs k hk
  have key : ∀ k2 k f τ, k + k2 = wsG Ms s g → k2 < f → mkX τ 38 n (inbS Ms s (lsG s)) (keptS Ms s (lsG s)) (wsB Ms s g Es k (fun _ => 0, st.1)).2 → agr (bV n) σ τ → (∀ a, a < keptS Ms s g → τ.1 (n + 4) a = σ.1 (n + 4) a ∧ τ.1 (n + 5) a = σ.1 (n + 5) a) → (∀ a, a < wdS Ms s g * k → τ.1 (n + 4) (keptS Ms s g + a) = ((wsB Ms s g Es k (fun _ => 0, st.1)).1 a : Int) ∧ τ.1 (n + 5) (keptS Ms s g + a) = 0) → wpE (X3_nextMem_164 f (g : Int) n (wdS Ms s g : Int) (k : Int)) τ Q E := by
    intro k2
    induction k2 with
    | zero =>
      intro k f τ hk hf b1 b2 b3 b4
      obtain ⟨f', rfl⟩ : ∃ f', f = f' + 1 := ⟨f - 1, by omega⟩
      have ek : k = wsG Ms s g := by omega
      subst ek
      have hS := hB.1.bv hd hD hn b2
      rw [X3_nextMem_164, wpE_bd, wp_gQ, hS.2.2.2.1, wpE_nn, wpE_ck, and_t (ly_D hD), wpE_bd, x_words hd hD hS.1 hg, wpE_ifp (by omega), wpE_lE, wp_rt]
      refine hQ τ ⟨hS, b1, (hB.2.2.1.net (wgo _ (Nat.le_refl _)).1).2, fun x hx hxs => ?_⟩ (bV_T b2) ⟨(b2 n 3 (by unfold bV; omega)).1, b2.row (fun k => by unfold bV; omega)⟩ b3 (fun j hj => b4 j (by omega))
      rw [b2.row (a := 41) (fun k => by unfold bV; omega), b2.row (a := 42) (fun k => by unfold bV; omega)]
      exact hB.2.2.2 x hx hxs
    | succ k2 ih =>
      intro k f τ hk hf b1 b2 b3 b4
      obtain ⟨f', rfl⟩ : ∃ f', f = f' + 1 := ⟨f - 1, by omega⟩
      have hS := hB.1.bv hd hD hn b2
      obtain ⟨w1, w2⟩ := wgo k (by omega)
      have hmul : wdS Ms s g * (k + 1) ≤ wdS Ms s g * wsG Ms s g := Nat.mul_le_mul_left _ (by omega)
      have hmul2 : wdS Ms s g * (k + 1) = wdS Ms s g * k + wdS Ms s g := Nat.mul_succ _ _
      have flN : ∀ {B : NB}, (flB B → flB (wsB Ms s g Es (k + 1) (fun _ => 0, st.1)).2) → flB B → flB (wsB Ms s g Es (wsG Ms s g) (fun _ => 0, st.1)).2 := fun {B} h hb => by
        have := fl_ws (Ms := Ms) (s := s) (g := g) (L := Es) (x := (fun _ => 0, st.1)) (k + 1) k2 (h hb)
        rw [show k + 1 + k2 = wsG Ms s g by omega] at this
        exact this
      rw [X3_nextMem_164, wpE_bd, wp_gQ, hS.2.2.2.1, wpE_nn, wpE_ck, and_t (ly_D hD), wpE_bd, x_words hd hD hS.1 hg, wpE_ifn (by omega), wpE_bd, wp_gQ, hS.2.2.2.1, wpE_nn, wpE_ck, and_t (ly_D hD), wpE_bd, DI_19 hD (by omega) (by omega), tn, (hS.2.2.1.1 g hg).1, wpE_lt, wM (by omega), wN (a := keptS Ms s g) (by omega), wpE_lt]
      refine lpNE (w := wdS Ms s g) (L := fun f j => X3_nextMem_196 (X3_nextMem_164 f') f (g : Int) n (wdS Ms s g : Int) (k : Int) ((keptS Ms s g + wdS Ms s g * k : Nat) : Int) (j : Int)) (I := fun j υ => agr (bO n) τ υ ∧ agr (bV n) τ υ ∧ CE (τ.1 (n + 4)) (υ.1 (n + 4)) (keptS Ms s g + wdS Ms s g * k) (wdS Ms s g) j (fun j => stL Ms s g (wdS Ms s g * k + j)) ∧ CE (τ.1 (n + 5)) (υ.1 (n + 5)) (keptS Ms s g + wdS Ms s g * k) (wdS Ms s g) j (fun _ => 0)) ?_ ?_ (show wdS Ms s g < FU by omega) ⟨agr.refl, agr.refl, CE.init, CE.init⟩
      · rintro f j υ hj ⟨c1, c2, c3, c4⟩ ih2
        show wpE (X3_nextMem_196 (X3_nextMem_164 f') (f + 1) (g : Int) n (wdS Ms s g : Int) (k : Int) ((keptS Ms s g + wdS Ms s g * k : Nat) : Int) (j : Int)) υ Q E
        have hS2 := hS.bv hd hD hn c2
        have hx2 : mkX υ 38 n (inbS Ms s (lsG s)) (keptS Ms s (lsG s)) (wsB Ms s g Es k (fun _ => 0, st.1)).2 := mkX.oth hn b1 c1
        rw [X3_nextMem_196, wpE_ifn (by omega), wpE_bd, wM (by omega), wN (a := wdS Ms s g * k) (by omega), x_stl hd hD hn hlim hS2 hx2 hg (by omega), wpE_bd, wN (a := keptS Ms s g + wdS Ms s g * k) (by omega), NV_4 hn (by omega) (by omega), tn, wpE_bd, NV_5 hn (by omega) (by omega), tn, wpE_lt, wN1 (by omega)]
        refine ih2 _ ⟨(c1.w (fun k hk => ?_)).w (fun k hk => ?_), (c2.w (fun k hk => ?_)).w (fun k hk => ?_), ?_, ?_⟩
        · exfalso; unfold bO at hk; omega
        · exfalso; unfold bO at hk; omega
        · exfalso; unfold bV at hk; omega
        · exfalso; unfold bV at hk; omega
        · dsimp only; rw [stA_ne (by omega), stA_eq]; exact c3.up' (o := fun j => stL Ms s g (wdS Ms s g * k + j)) hj
        · dsimp only; rw [stA_eq, stA_ne (by omega)]; exact c4.up' (o := fun _ => 0) hj
      · rintro f υ ⟨c1, c2, c3, c4⟩
        show wpE (X3_nextMem_196 (X3_nextMem_164 f') (f + 1) (g : Int) n (wdS Ms s g : Int) (k : Int) ((keptS Ms s g + wdS Ms s g * k : Nat) : Int) (wdS Ms s g : Int)) υ Q E
        have hS2 := hS.bv hd hD hn c2
        have t2 := b2.trans c2
        rw [X3_nextMem_196, wpE_ifp (by omega), X3_nextMem_241, wpE_lt, wpE_bd, wp_gQ, hS2.2.2.2.1, wpE_nn, wpE_ck, and_t (ly_D hD), wpE_bd, DI_12 hD (by omega) (by omega), tn, wpE_lt]
        refine memEX (at' := keptS Ms s g + wdS Ms s g * k) hd hD hn hlim hg h4 (by omega) (by omega) (conL Ms s g) Es _ 0 FU (fun j => stL Ms s g (wdS Ms s g * k + j), (wsB Ms s g Es k (fun _ => 0, st.1)).2) υ (hS2.2.1 g hg) (hen.fr _ _ _ (t2.row (fun k => by unfold bV; omega)) (t2.row (fun k => by unfold bV; omega))) (fun _ h => h) (fun e he => (hEs e he).go w1) hS2 (mkX.oth hn b1 c1) w1.1 c3.2 (fun j hj => (stW_lt hd hg h4 (by omega) hj).2) (by omega) (by omega) (fun υ2 d1 d2 => ?_) (fun υ2 d1 d2 => hE υ2 (flN (fun h => h) d1) ((bV_T t2).trans d2))
        have hb := fr3_bV d1.2.2
        have e5 : υ2.1 (n + 5) = υ.1 (n + 5) := d1.2.2.1 (n + 5) (by omega) (by omega) (by omega) (by omega) (by omega) (by omega)
        rw [X3_nextMem_300, wpE_lt, wN1 (by omega)]
        refine ih (k + 1) f' υ2 (by omega) (by omega) d1.1 (t2.trans hb) (fun a ha => ⟨?_, ?_⟩) (fun a ha => ⟨?_, ?_⟩)
        · rw [d2.1 a (Or.inl (by omega)), c3.1 a (Or.inl (by omega))]; exact (b3 a ha).1
        · rw [e5, c4.1 a (Or.inl (by omega))]; exact (b3 a ha).2
        · show _ = (((if wdS Ms s g * k ≤ a then (mwP (lvD Ms s) (wdS Ms s g) k Es (fun j => stL Ms s g (wdS Ms s g * k + j), (wsB Ms s g Es k (fun _ => 0, st.1)).2)).1 (a - wdS Ms s g * k) else (wsB Ms s g Es k (fun _ => 0, st.1)).1 a) : Nat) : Int)
          by_cases c : wdS Ms s g * k ≤ a
          · rw [if_pos c, ← d2.2 (a - wdS Ms s g * k) (by omega), show keptS Ms s g + wdS Ms s g * k + (a - wdS Ms s g * k) = keptS Ms s g + a by omega]
          · rw [if_neg c, d2.1 _ (Or.inl (by omega)), c3.1 _ (Or.inl (by omega))]; exact (b4 a (by omega)).1
        · rw [e5]
          by_cases c : wdS Ms s g * k ≤ a
          · have := c4.2 (a - wdS Ms s g * k) (by omega)
            rw [show keptS Ms s g + wdS Ms s g * k + (a - wdS Ms s g * k) = keptS Ms s g + a by omega] at this
            exact this
          · rw [c4.1 _ (Or.inl (by omega))]; exact (b4 a (by omega)).2
  rw [X3_nextMem_161, wpE_lt]
  exact key (wsG Ms s g) 0 FU σ (by omega) (by omega) hB.2.1 agr.refl (fun _ _ => ⟨rfl, rfl⟩) (fun a ha => absurd ha (by rw [Nat.mul_zero]; exact Nat.not_lt_zero a))
end
