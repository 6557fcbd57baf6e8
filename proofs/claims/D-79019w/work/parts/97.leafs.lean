set_option maxRecDepth 100000
/-! READING: tasks, waits, awaits, assigns -/
theorem pFail.bk2 {R R' : Type} {L N0 M0 rd : Nat} {w w0 : gw} {σ σ0 : TS} {fr : Option (((Nat × Nat) ⊕ R) × gw)} {tr : Option (Int32 × TS)} {fr' : Option (((Nat × Nat) ⊕ R') × gw)} {tr' : Option (Int32 × TS)} (h : pFail L N0 M0 rd w σ fr tr) (hw : wF rd w0 w) (ht : tF σ0 σ) (hf : ∀ q c v, fr = some (.inl (q, c), v) → fr' = some (.inl (q, c), v)) (ht' : ∀ v, tr = some (nI 0, v) → ∃ v', tr' = some (nI 0, v') ∧ v' 0 = v 0 ∧ tF v v') : pFail L N0 M0 rd w0 σ0 fr' tr' := by
  obtain ⟨ea, c, w1, σ1, p, gs, h1, h2, h3, h4, h5, h6, h7, h8, h9, h10⟩ := h
  obtain ⟨σ2, e1, e2, e3⟩ := ht' _ h2
  exact ⟨ea, c, w1, σ2, p, gs, hf _ _ _ h1, e1, hw.tr h3, (ht.tr h4).tr e3, h5, by rw [e2]; exact h6, h7, h8, by rw [e2]; exact h9, h10⟩
/-- a leaf's object and its parts in the rows -/
def lfO (σ1 : TS) (n kd : Nat) (W : gw) (a : Nat) (pl : Int32) : Prop :=
  (kd = 1 ∧ W.1 a = some (.inl (9, [gi pl, gi (rr σ1 n 1), gi (rr σ1 n 2), gi (rr σ1 n 3), gi (rr σ1 n 4)])) ∧ (∃ c, c < 8 ∧ rr σ1 n 1 = nI c) ∧ (∃ r, r ≤ 9 ∧ rr σ1 n 2 = nI r) ∧ (∃ d, d ≤ 999 ∧ rr σ1 n 3 = nI d) ∧ (rr σ1 n 4 = -1 ∨ ∃ u, u < 8 ∧ rr σ1 n 4 = nI u)) ∨
  (kd = 2 ∧ W.1 a = some (.inl (10, [gi pl, gi (rr σ1 n 1)])) ∧ ∃ m, m ≤ 999 ∧ rr σ1 n 1 = nI m) ∨
  (kd = 3 ∧ W.1 a = some (.inl (11, [gi pl, gi (rr σ1 n 1), gi (rr σ1 n 2)])) ∧ (∃ c, c < 8 ∧ rr σ1 n 1 = nI c) ∧ (rr σ1 n 2 = -1 ∨ ∃ m, m ≤ 999 ∧ rr σ1 n 2 = nI m)) ∨
  (kd = 4 ∧ W.1 a = some (.inl (12, [gi pl, gi (rr σ1 n 1), gi (rr σ1 n 2), gi (rr σ1 n 3)])) ∧ (∃ c, c < 4 ∧ rr σ1 n 1 = nI c) ∧ (rr σ1 n 2 = nI 0 ∨ rr σ1 n 2 = nI 1))
def lfR (xa rd L N0 M0 : Nat) (w : gw) (σ : TS) (p o it nd mo n kd : Nat) (pl : Int32) (fr : Option (((Nat × Nat) ⊕ Option Nat) × gw)) (tr : Option (Int32 × TS)) : Prop := pFail L N0 M0 rd w σ fr tr ∨
  ∃ a W σ1 p1, fr = some (.inr (some a), W) ∧ tr = some (nI 1, σ1) ∧ pSt xa rd L N0 M0 W σ1 p1 o it nd mo ∧ p < p1 ∧ wF rd w W ∧ tF σ σ1 ∧ w.2.1 ≤ a ∧ a < W.2.1 ∧ W.2.1 ≤ w.2.1 + 1 ∧ W.2.2.1 ≤ w.2.2.1 + 5 ∧ (∀ m q, m ≠ n ∨ q = 0 ∨ 5 ≤ q → q < 9 → rr σ1 m q = rr σ m q) ∧ lfO σ1 n kd W a pl
section R7
variable {xa rd L N0 M0 p o it nd mo n : Nat} {w : gw} {σ : TS} {pl : Int32}
theorem pSt.cp (h : pSt xa rd L N0 M0 w σ p o it nd mo) {W : gw} {B : Nat} (hB : rd < B) (hb : pBd W) (o1 : ∀ b, b < B → W.1 b = w.1 b) (hK : W.2.2.2 = w.2.2.2) (h0 : W.2.1 ≤ N0 + 400) (h1 : W.2.2.1 ≤ M0 + 9000) : pSt xa rd L N0 M0 W σ p o it nd mo := by
  obtain ⟨g1, ⟨ta, f2, f3, f4, f5, f6, ft, h2, h3, hta, h4⟩, g5, g6, g7, g8, g9, g10, g11, g12, g13, g14, g15, g16, g17, g18, g19, g20, g21, g22, g23, g24⟩ := h
  exact ⟨(o1 _ hB).trans g1, ⟨ta, f2, f3, f4, f5, f6, ft, (o1 _ (by omega)).trans h2, (o1 _ (by omega)).trans h3, hta, h4⟩, g5, g6, g7, g8, g9, g10, g11, g12, g13, hb, g15, g16, g17, g18, g19, g20, h0, h1, by rw [hK]; exact g23, by rw [hK]; exact g24⟩
theorem pSt.rdl (h : pSt xa rd L N0 M0 w σ p o it nd mo) : rd < w.2.1 := h.bd _ _ h.1
theorem pSt.room (h : pSt xa rd L N0 M0 w σ p o it nd mo) : N0 + 1000 ≤ w.2.2.2 0 ∧ M0 + 20000 ≤ w.2.2.2 1 ∧ w.2.1 ≤ N0 + 400 ∧ w.2.2.1 ≤ M0 + 9000 ∧ N0 ≤ rd := by
  obtain ⟨g1, -, g5, g6, g7, g8, g9, g10, g11, g12, g13, g14, g15, g16, g17, g18, g19, g20, g21, g22, g23, g24⟩ := h
  exact ⟨g23, g24, g21, g22, g15⟩
theorem pSt.t12 (h : pSt xa rd L N0 M0 w σ p o it nd mo) : σ 0 12 = nI p := by
  obtain ⟨-, -, -, -, -, h8, -⟩ := h
  exact h8
/-- both one sign on, unasked -/
theorem step1 (h : pSt xa rd L N0 M0 w σ p o it nd mo) (hp : p < L) : ∃ W, gPut w rd 4 0 (gi (nI p + nI 1)) = some W ∧ pOn xa rd L N0 M0 w σ p o it nd mo W (tPut σ 12 (nI (p + 1))) := by
  obtain ⟨W, e, q1, o1, z1, b1⟩ := at_put h
  exact ⟨W, e, h.mv hp q1 o1 z1 b1 (tPut_0 _ _ _) (fun j h1 _ => tPut_ne h1) (tPut_r (by omega)), wF.of o1 z1 b1, tF.rf.put _ (by omega), tPut_r (by omega), z1, hp⟩
/-- a new cell -/
theorem newc (h : pSt xa rd L N0 M0 w σ p o it nd mo) {ci m : Nat} {fs : List gv} (hc : gNs[ci]? = some (m, fs)) (hm : m ≤ 6) (h0 : w.2.1 ≤ N0 + 398) (h1 : w.2.2.1 ≤ M0 + 8990) : ∃ W, gNew w ci = some (w.2.1, W) ∧ W.1 w.2.1 = some (.inl (ci, fs)) ∧ (∀ b, b ≠ w.2.1 → W.1 b = w.1 b) ∧ W.2 = (w.2.1 + 1, w.2.2.1 + m, w.2.2.2) ∧ pSt xa rd L N0 M0 W σ p o it nd mo ∧ wF rd w W := by
  obtain ⟨r0, r1, r2, r3, -⟩ := h.room
  have hrl := h.rdl
  obtain ⟨W, e, q, o1, z, b⟩ := st_new (w := w) hc (by omega) (by omega) h.bd
  refine ⟨W, e, q, o1, z, h.cp hrl b (fun b hb => o1 b (by omega)) (by rw [z]) (by rw [z]; show w.2.1 + 1 ≤ _; omega) (by rw [z]; show w.2.2.1 + m ≤ _; omega), ⟨b, by rw [z]; show w.2.1 ≤ w.2.1 + 1; omega, by rw [z], fun b hb _ => o1 b (by omega)⟩⟩
theorem gZ_1 : gZ (nI 1) = some () := if_pos (Or.inr (by decide))
theorem gZ_0 : gZ (nI 0) = some () := if_pos (Or.inl (by decide))
def fWt (rd : Nat) (x19 : Int32) (w20 : gw) : Option (((Nat × Nat) ⊕ Option Nat) × gw) := gB1 (gI w20 rd 4 0) fun x68 => gB1 (gPut w20 rd 4 0 (gi (x68 + (nI 1)))) fun w69 => gB2 (gNew w69 10) fun a70 w71 => gB1 (gOb w71 rd 4) fun _ => gB2X (f_X4_number rd  w71) (fun q74 n75 w76 => some (.inl (q74, n75), w76)) fun x77 w72 => gB2 (f_X10_init a70 x19 x77 w72) fun _ w78 => some (.inr (some a70), w78)
theorem wait_s (h : pSt xa rd L N0 M0 w σ p o it nd mo) (hp : p < L) (hn : n < 64) (h0 : w.2.1 ≤ N0 + 398) (h1 : w.2.2.1 ≤ M0 + 8990) : lfR xa rd L N0 M0 w σ p o it nd mo n 2 pl (fWt rd pl w) (t_X2_readsWait (nI n) σ) := by
  obtain ⟨W1, e1, hon⟩ := step1 h hp
  obtain ⟨h2, hw2, ht2, hr2, hz2, -⟩ := hon
  obtain ⟨W2, e2, q2, o2, z2, h3, hw3⟩ := newc h2 (ci := 10) (m := 2) (fs := [gi 0, gi 0]) rfl (by omega) (by rw [hz2]; exact h0) (by rw [hz2]; exact h1)
  have hrl := h.rdl
  have hW1 : W1.2.1 = w.2.1 := by rw [hz2]
  have hW11 : W1.2.2.1 = w.2.2.1 := by rw [hz2]
  unfold fWt t_X2_readsWait
  rw [pu_I (k := 0) h.1 rfl, pu_B1, e1, pu_B1, e2, pu_B2, pu_Ob h3.1, pu_B1, pu_Bd, h.t12, nI_add]
  rcases number_s h3 with ⟨v, W3, σ3, p3, v1, f1, f2, f3, f4, f5⟩ | ⟨f1, f2⟩
  · right
    obtain ⟨g1, g2, g3, g4, g5, g6⟩ := f4
    have a3 : W3.1 W1.2.1 = _ := (g2.2.2.2 _ (by rw [z2]; show W1.2.1 < W1.2.1 + 1; omega) (by omega)).trans q2
    obtain ⟨W4, e4, q4, o4, z4, b4⟩ := st_put (k := 0) a3 (by show 0 < 2; omega) g1.bd (gi pl)
    obtain ⟨W5, e5, q5, o5, z5, b5⟩ := st_put (k := 1) q4 (by show 1 < 2; omega) b4 (gi (nI v))
    have hz5 : W5.2 = (W1.2.1 + 1, W1.2.2.1 + 2, W1.2.2.2) := by rw [z5, z4, g5, z2]
    have oo : ∀ b, b < w.2.1 → W5.1 b = W3.1 b := fun b hb => (o5 b (by omega)).trans (o4 b (by omega))
    have hw : wF rd w W5 := ⟨b5, by rw [hz5]; show w.2.1 ≤ W1.2.1 + 1; omega, by rw [hz5]; exact hw2.2.2.1, fun b hb hbn => (oo b hb).trans (((hw2.tr hw3).tr g2).2.2.2 b hb hbn)⟩
    refine ⟨W1.2.1, W5, pX σ3 n 1 (nI v), p3, ?_, ?_, (g1.cp hrl b5 oo (by rw [hz5, g5, z2]) (by rw [hz5]; show W1.2.1 + 1 ≤ _; omega) (by rw [hz5]; show W1.2.2.1 + 2 ≤ _; omega)).pX n 1 _, by omega, hw, ((ht2.tr g3).pX _), by omega, by rw [hz5]; show W1.2.1 < W1.2.1 + 1; omega, by rw [hz5]; show W1.2.1 + 1 ≤ _; omega, by rw [hz5]; show W1.2.2.1 + 2 ≤ _; omega, fun m q hm hq => ?_, Or.inr (Or.inl ⟨rfl, ?_, v, v1, ?_⟩)⟩
    · rw [f1, gB2X_r]
      unfold f_X10_init f_X8_init_c10
      rw [e4, pu_B1, pu_B2, e5, pu_B1, pu_B2]
    · rw [f2, pu_B2, f3, put_t _ hn (by omega), pu_B2, gZ_1, pu_B1]
    · rw [pX_n (by omega) hq (by omega)]
      show σ3 1 _ = σ 1 _
      rw [g4, hr2]
    · rw [pX_s _ _ (by omega)]
      exact q5
    · rw [pX_s _ _ (by omega)]
  · left
    refine pFail.bk2 (fail_need (R := Int32) h3 f1 rfl) (hw2.tr hw3) ht2 (fun q c v hv => ?_) (fun v hv => ?_)
    · rw [hv, gB2X_l]
    · injection hv with hv
      injection hv with _ hv
      subst hv
      rw [f2, pu_B2, put_t _ hn (by omega), pu_B2, gZ_0, pu_B1]
      exact ⟨_, rfl, pX_r (by omega), tF.rf.pX _⟩
def fAw (rd : Nat) (x19 : Int32) (w20 : gw) : Option (((Nat × Nat) ⊕ Option Nat) × gw) := gB1 (gI w20 rd 4 0) fun x22 => gB1 (gPut w20 rd 4 0 (gi (x22 + (nI 1)))) fun w23 => gB1 (gOb w23 rd 4) fun _ => gB2X (f_X4_code rd  w23) (fun q26 n27 w28 => some (.inl (q26, n27), w28)) fun x29 w24 => gB2 (gNew w24 11) fun a30 w31 => gB1 (gOb w31 rd 4) fun _ => gB2 (f_X4_skips rd (nI 44) w31) fun x33 w32 => gBd (fun (r36 : Option Nat) (r37 : Option Nat) (x38 : Int32) (x39 : Int32) (x40 : Int32) (w35 : gw) => gB1 r37 fun a41 => gB2 (f_X11_init a41 x38 x39 x40 w35) fun _ w42 => some (.inr r36, w42)) fun k34 => if x33 = 0 then k34 (some a30) (some a30) x19 x29 (-1) w32 else gB1 (gOb w32 rd 4) fun _ => gB2X (f_X4_number rd  w32) (fun q46 n47 w48 => some (.inl (q46, n47), w48)) fun x49 w44 => k34 (some a30) (some a30) x19 x29 x49 w44
theorem await_s (h : pSt xa rd L N0 M0 w σ p o it nd mo) (hp : p < L) (hn : n < 64) (h0 : w.2.1 ≤ N0 + 398) (h1 : w.2.2.1 ≤ M0 + 8990) (hfr : rr σ n 2 = -1) : lfR xa rd L N0 M0 w σ p o it nd mo n 3 pl (fAw rd pl w) (t_X2_readsSignal (nI n) σ) := by
  obtain ⟨W1, e1, hon⟩ := step1 h hp
  obtain ⟨h2, hw2, ht2, hr2, hz2, -⟩ := hon
  have hrl := h.rdl
  have hz : (nI 0 : Int32) = 0 := by decide
  have hz1 : ¬ (nI 1 : Int32) = 0 := by decide
  unfold fAw t_X2_readsSignal
  rw [pu_I (k := 0) h.1 rfl, pu_B1, e1, pu_B1, pu_Ob h2.1, pu_B1, pu_Bd, h.t12, nI_add]
  rcases code_s h2 with ⟨c, W2, σ2, c1, f1, f2, f3, hon2⟩ | ⟨f1, f2⟩
  · obtain ⟨h3, hw3, ht3, hr3, hz3, -⟩ := hon2
    have hW1 : W2.2.1 = w.2.1 := by rw [hz3, hz2]
    have hW11 : W2.2.2.1 = w.2.2.1 := by rw [hz3, hz2]
    obtain ⟨W3, e3, q3, o3, z3, h4, hw4⟩ := newc h3 (ci := 11) (m := 3) (fs := [gi 0, gi 0, gi 0]) rfl (by omega) (by omega) (by omega)
    have h4' := h4.pX n 1 (nI c)
    rw [f1, gB2X_r, e3, pu_B2, pu_Ob h4.1, pu_B1, f2, pu_B2, if_neg hz1, f3, put_t _ hn (by omega), pu_B2]
    have hfin : ∀ (W : gw) (τ : TS) (p4 : Nat) (x : Int32), pTo xa rd L N0 M0 W3 (pX σ2 n 1 (nI c)) (p + 1 + 1) o it nd mo W τ p4 → (x = -1 ∨ ∃ m, m ≤ 999 ∧ x = nI m) → ∃ W5, f_X11_init W2.2.1 pl (nI c) x W = some ((), W5) ∧ ∀ τ', (∀ j, τ' 0 j = τ 0 j) → τ' 8 = τ 8 → tF τ τ' → rr τ' n 1 = nI c → rr τ' n 2 = x → (∀ m q, m ≠ n ∨ q = 0 ∨ 5 ≤ q → q < 9 → rr τ' m q = rr τ m q) → lfR xa rd L N0 M0 w σ p o it nd mo n 3 pl (some (.inr (some W2.2.1), W5)) (some (nI 1, τ')) := by
      intro W τ p4 x hto hx
      obtain ⟨g1, g2, g3, g4, g5, g6⟩ := hto
      have a3 : W.1 W2.2.1 = _ := (g2.2.2.2 _ (by rw [z3]; show W2.2.1 < W2.2.1 + 1; omega) (by omega)).trans q3
      obtain ⟨W4, e4, q4, o4, z4, b4⟩ := st_put (k := 0) a3 (by show 0 < 3; omega) g1.bd (gi pl)
      obtain ⟨W5, e5, q5, o5, z5, b5⟩ := st_put (k := 1) q4 (by show 1 < 3; omega) b4 (gi (nI c))
      obtain ⟨W6, e6, q6, o6, z6, b6⟩ := st_put (k := 2) q5 (by show 2 < 3; omega) b5 (gi x)
      have hz6 : W6.2 = (W2.2.1 + 1, W2.2.2.1 + 3, W2.2.2.2) := by rw [z6, z5, z4, g5, z3]
      have oo : ∀ b, b < w.2.1 → W6.1 b = W.1 b := fun b hb => (o6 b (by omega)).trans ((o5 b (by omega)).trans (o4 b (by omega)))
      have hK : W2.2.2.2 = w.2.2.2 := by rw [hz3, hz2]
      have hw : wF rd w W6 := ⟨b6, by rw [hz6]; show w.2.1 ≤ W2.2.1 + 1; omega, by rw [hz6]; exact hK, fun b hb hbn => (oo b hb).trans ((((hw2.tr hw3).tr hw4).tr g2).2.2.2 b hb hbn)⟩
      refine ⟨W6, ?_, fun τ' t0 t8 tf t1 t2 trr => Or.inr ⟨W2.2.1, W6, τ', p4, rfl, rfl, (g1.cp hrl b6 oo (by rw [hz6, g5, z3]) (by rw [hz6]; show W2.2.1 + 1 ≤ _; omega) (by rw [hz6]; show W2.2.2.1 + 3 ≤ _; omega)).sg (fun j _ => t0 j) t8, by omega, hw, (((ht2.tr ht3).pX _).tr g3).tr tf, by omega, by rw [hz6]; show W2.2.1 < W2.2.1 + 1; omega, by rw [hz6]; show W2.2.1 + 1 ≤ _; omega, by rw [hz6]; show W2.2.2.1 + 3 ≤ _; omega, fun m q hm hq => ?_, Or.inr (Or.inr (Or.inl ⟨rfl, ?_, ⟨c, c1, t1⟩, ?_⟩))⟩⟩
      · unfold f_X11_init f_X8_init_c11
        rw [e4, pu_B1, pu_B2, e5, pu_B1, e6, pu_B1]
      · rw [trr m q hm hq]
        show τ 1 _ = _
        rw [g4]
        show rr (pX σ2 n 1 (nI c)) m q = _
        rw [pX_n (by omega) hq (by omega)]
        show σ2 1 _ = σ 1 _
        rw [hr3, hr2]
      · rw [t1, t2]
        exact q6
      · rw [t2]
        exact hx
    have r2 : rr (pX σ2 n 1 (nI c)) n 2 = -1 := by
      rw [pX_n (by omega) (by omega) (Or.inr (by omega))]
      show σ2 1 _ = -1
      rw [hr3, hr2]
      exact hfr
    rcases skips_s h4' (c := 44) (by omega) with ⟨-, W4, σ4, s1, s2, hon4⟩ | ⟨-, s1, s2⟩
    · rw [s1, s2, pu_B2, pu_B2, pu_Bd, if_neg hz1, if_neg hz1, pu_Ob hon4.1.1, pu_B1]
      rcases number_s hon4.1 with ⟨v, W5, σ5, p5, v1, n1, n2, n3, n4, n5⟩ | ⟨n1, n2⟩
      · obtain ⟨W6, e6, hres⟩ := hfin W5 σ5 p5 (nI v) (hon4.to.tr n4) (Or.inr ⟨v, v1, rfl⟩)
        rw [n1, gB2X_r]
        try dsimp only
        rw [pu_B1, e6, pu_B2, n2, pu_B2, if_neg hz1, n3, put_t _ hn (by omega), pu_B2]
        refine hres _ (fun j => by rw [pX_r (by omega)]) (pX_r (by omega)) (tF.rf.pX _) ?_ (pX_s _ _ (by omega)) (fun m q hm hq => pX_n (by omega) hq (by omega))
        rw [pX_n (by omega) (by omega) (Or.inr (by omega))]
        show σ5 1 _ = _
        rw [n4.2.2.2.1, hon4.2.2.2.1]
        exact pX_s _ _ (by omega)
      · left
        refine pFail.bk (fail_need (R := Int32) hon4.1 n1 rfl) (((hw2.tr hw3).tr hw4).tr hon4.2.1) (((ht2.tr ht3).pX _).tr hon4.2.2.1) (fun q c v hv => ?_) (fun v hv => ?_)
        · rw [hv, gB2X_l]
        · rw [n2, pu_B2, if_pos hz]
          exact hv
    · rw [s1, s2, pu_B2, pu_B2, pu_Bd, if_pos hz, if_pos hz]
      obtain ⟨W6, e6, hres⟩ := hfin W3 _ _ (-1) (pTo.rf h4') (Or.inl rfl)
      try dsimp only
      rw [pu_B1, e6, pu_B2]
      exact hres _ (fun _ => rfl) rfl tF.rf (pX_s _ _ (by omega)) r2 (fun _ _ _ _ => rfl)
  · left
    refine pFail.bk (fail_need (R := Int32) h2 f1 rfl) hw2 ht2 (fun q c v hv => ?_) (fun v hv => ?_)
    · rw [hv, gB2X_l]
    · rw [f2, pu_B2, if_pos hz]
      exact hv
end R7
