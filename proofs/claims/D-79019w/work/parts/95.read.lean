set_option maxRecDepth 100000
/-! READING: both readers' states; signs -/
/-- the rows of the text that is being read -/
def rr (σ : TS) (n k : Nat) : Int32 := σ 1 ((64 * (16) + n) * 9 + k)
/-- both readers at sign p, o open, it items, nd nodes, at most mo open; N0, M0: cells and slots at the start -/
def pSt (xa rd L N0 M0 : Nat) (w : gw) (σ : TS) (p o it nd mo : Nat) : Prop := w.1 rd = some (.inl (4, [gi (nI p), gi (nI o), gi (nI it), ga (some xa)])) ∧
  (∃ ta f2 f3 f4 f5 f6 ft, w.1 xa = some (.inl (0, [ga (some ta), gi (nI L), f2, f3, f4, f5, f6])) ∧ w.1 ta = some (.inr (1, 80, .inl ft)) ∧ ta < N0 ∧ ∀ j, j < L → ft j = σ 8 j ∧ ∃ c, c < 128 ∧ σ 8 j = nI c) ∧ L ≤ 80 ∧ p ≤ L ∧
  σ 0 9 = nI L ∧ σ 0 12 = nI p ∧ σ 0 13 = nI 1 ∧ σ 0 14 = nI nd ∧ σ 0 15 = nI it ∧ σ 0 16 = nI o ∧ σ 0 17 = nI mo ∧ pBd w ∧ N0 ≤ rd ∧ xa < N0 ∧ it ≤ 24 ∧ o ≤ 4 ∧ mo ≤ 4 ∧ nd ≤ 49 ∧
  w.2.1 ≤ N0 + 400 ∧ w.2.2.1 ≤ M0 + 9000 ∧ N0 + 1000 ≤ w.2.2.2 0 ∧ M0 + 20000 ≤ w.2.2.2 1
/-- what the readers leave alone -/
def wF (rd : Nat) (w w1 : gw) : Prop := pBd w1 ∧ w.2.1 ≤ w1.2.1 ∧ w1.2.2.2 = w.2.2.2 ∧ ∀ b, b < w.2.1 → b ≠ rd → w1.1 b = w.1 b
def tF (σ σ1 : TS) : Prop := (∀ r, 2 ≤ r → σ1 r = σ r) ∧ (∀ j, j < 12 ∨ 18 < j → σ1 0 j = σ 0 j) ∧ ∀ j, j < 9216 → σ1 1 j = σ 1 j
/-- a sign that can't stand there, or one too many -/
def pFail {R : Type} (L N0 M0 rd : Nat) (w : gw) (σ : TS) (fr : Option (((Nat × Nat) ⊕ R) × gw)) (tr : Option (Int32 × TS)) : Prop := ∃ ea c w1 σ1 p gs, fr = some (.inl (ea, c), w1) ∧ tr = some (nI 0, σ1) ∧ wF rd w w1 ∧ tF σ σ1 ∧ p ≤ L ∧ σ1 0 12 = nI p ∧ w1.1 ea = some (.inl (c, gs)) ∧ gs[6]? = some (gi (nI p)) ∧ (c = 6 ∧ σ1 0 13 = nI 1 ∨ c = 7 ∧ σ1 0 13 = nI 2) ∧ N0 ≤ ea ∧ w1.2.1 ≤ N0 + 500 ∧ w1.2.2.1 ≤ M0 + 15000 ∧ ∃ f0 f1 f2 f3, w1.1 rd = some (.inl (4, [f0, gi f1, f2, f3]))
theorem wF.rf {rd : Nat} {w : gw} (h : pBd w) : wF rd w w := ⟨h, Nat.le_refl _, rfl, fun _ _ _ => rfl⟩
theorem wF.tr {rd : Nat} {w w1 w2 : gw} (h : wF rd w w1) (h' : wF rd w1 w2) : wF rd w w2 := ⟨h'.1, Nat.le_trans h.2.1 h'.2.1, h'.2.2.1.trans h.2.2.1, fun b hb hn => (h'.2.2.2 b (Nat.lt_of_lt_of_le hb h.2.1) hn).trans (h.2.2.2 b hb hn)⟩
theorem tF.rf {σ : TS} : tF σ σ := ⟨fun _ _ => rfl, fun _ _ => rfl, fun _ _ => rfl⟩
theorem tF.tr {σ σ1 σ2 : TS} (h : tF σ σ1) (h' : tF σ1 σ2) : tF σ σ2 := ⟨fun r hr => (h'.1 r hr).trans (h.1 r hr), fun j hj => (h'.2.1 j hj).trans (h.2.1 j hj), fun j hj => (h'.2.2 j hj).trans (h.2.2 j hj)⟩
theorem pFail.bk {R R' : Type} {L N0 M0 rd : Nat} {w w0 : gw} {σ σ0 : TS} {fr : Option (((Nat × Nat) ⊕ R) × gw)} {tr : Option (Int32 × TS)} {fr' : Option (((Nat × Nat) ⊕ R') × gw)} {tr' : Option (Int32 × TS)} (h : pFail L N0 M0 rd w σ fr tr) (hw : wF rd w0 w) (ht : tF σ0 σ) (hf : ∀ q c v, fr = some (.inl (q, c), v) → fr' = some (.inl (q, c), v)) (ht' : ∀ v, tr = some (nI 0, v) → tr' = some (nI 0, v)) : pFail L N0 M0 rd w0 σ0 fr' tr' := by
  obtain ⟨ea, c, w1, σ1, p, gs, h1, h2, h3, h4, h5⟩ := h
  exact ⟨ea, c, w1, σ1, p, gs, hf _ _ _ h1, ht' _ h2, hw.tr h3, ht.tr h4, h5⟩
theorem gB2X_l {R β : Type} (q c : Nat) (v : gw) (kx : Nat → Nat → gw → Option β) (k : R → gw → Option β) : gB2X (some (.inl (q, c), v)) kx k = kx q c v := id rfl
theorem gB2X_r {R β : Type} (r : R) (v : gw) (kx : Nat → Nat → gw → Option β) (k : R → gw → Option β) : gB2X (some (.inr r, v)) kx k = k r v := id rfl
theorem tPut_0 (σ : TS) (k : Nat) (x : Int32) : tPut σ k x 0 k = x := if_pos ⟨rfl, rfl⟩
theorem tPut_ne {σ : TS} {k j : Nat} {x : Int32} (h : j ≠ k) : tPut σ k x 0 j = σ 0 j := if_neg (fun z => h z.2)
theorem tPut_r {σ : TS} {k r : Nat} {x : Int32} (h : r ≠ 0) : tPut σ k x r = σ r := by
  funext j
  exact if_neg (fun z => h z.1)
theorem tF.put {σ σ1 : TS} {k : Nat} (x : Int32) (h : tF σ σ1) (hk : 12 ≤ k ∧ k ≤ 18) : tF σ (tPut σ1 k x) := ⟨fun r hr => (tPut_r (by omega)).trans (h.1 r hr), fun j hj => (tPut_ne (by omega)).trans (h.2.1 j hj), fun j hj => by rw [tPut_r (by omega)]; exact h.2.2 j hj⟩
/-- the sign at p -/
def sG (σ : TS) (L p : Nat) : Int32 := if p < L then σ 8 p else -1
section RD
variable {xa rd L N0 M0 p o it nd mo : Nat} {w : gw} {σ : TS}
theorem pSt.ne (h : pSt xa rd L N0 M0 w σ p o it nd mo) : rd ≠ xa := by
  obtain ⟨h0, ⟨ta, f2, f3, f4, f5, f6, ft, h1, -⟩, -⟩ := h
  exact ne_of h0 h1 (by simp)
theorem sign_f (h : pSt xa rd L N0 M0 w σ p o it nd mo) : f_X4_sign rd w = some (sG σ L p, w) := by
  obtain ⟨h1, ⟨ta, f2, f3, f4, f5, f6, ft, h2, h3, hta, h4⟩, h5, h6, -⟩ := h
  unfold f_X4_sign sG
  rw [pu_I (k := 0) h1 rfl, pu_B1, pu_R (k := 3) h1 rfl, pu_B1, pu_B1, pu_I (k := 1) h2 rfl, pu_B1]
  by_cases hp : p < L
  · rw [if_neg (nI_ge hp (by omega)), if_pos hp, pu_B1, pu_B1, pu_R (k := 0) h2 rfl, pu_B1, pu_B1, pu_B1, pu_LdI h3 (by omega) (by omega), pu_B1, (h4 p hp).1]
  · rw [if_pos (nI_le (by omega) (by omega)), if_neg hp]
theorem here_t (h : pSt xa rd L N0 M0 w σ p o it nd mo) : t_X2_here σ = some (sG σ L p, σ) := by
  obtain ⟨h1, -, h5, h6, h7, h8, -⟩ := h
  unfold t_X2_here sG
  rw [h7, h8]
  by_cases hp : p < L
  · rw [if_neg (nI_ge hp (by omega)), if_pos hp]
    unfold tLd
    rw [pu_gIx (n := tLen 8) (by show p < 80; omega) (by decide)]
    rfl
  · rw [if_pos (nI_le (by omega) (by omega)), if_neg hp]
theorem sG_c (h : pSt xa rd L N0 M0 w σ p o it nd mo) {a b : Nat} (hr : nI a ≤ sG σ L p ∧ sG σ L p ≤ nI b) (ha : a < 2 ^ 31) (hb : b < 2 ^ 31) : p < L ∧ ∃ c, a ≤ c ∧ c ≤ b ∧ c < 128 ∧ sG σ L p = nI c := by
  obtain ⟨h1, ⟨ta, f2, f3, f4, f5, f6, ft, h2, h3, hta, h4⟩, h5, h6, -⟩ := h
  by_cases hp : p < L
  · have e : sG σ L p = σ 8 p := if_pos hp
    obtain ⟨-, c, c1, c2⟩ := h4 p hp
    rw [e, c2] at hr ⊢
    exact ⟨hp, c, (nI_leI (by omega) (by omega)).mp hr.1, (nI_leI (by omega) (by omega)).mp hr.2, c1, rfl⟩
  · have e : sG σ L p = -1 := if_neg hp
    rw [e] at hr
    have : (nI 0 : Int32) ≤ -1 := Int32.le_trans (nI_le (Nat.zero_le _) ha) hr.1
    exact absurd this (by decide)
theorem sG_eq (h : pSt xa rd L N0 M0 w σ p o it nd mo) {c : Nat} (hr : sG σ L p = nI c) (hc : c < 128) : p < L := by
  exact (sG_c h (a := c) (b := c) (by rw [hr]; exact ⟨Int32.le_refl _, Int32.le_refl _⟩) (by omega) (by omega)).1
/-- one sign on -/
theorem pSt.mv (h : pSt xa rd L N0 M0 w σ p o it nd mo) (hp : p < L) {W : gw} {σ1 : TS} (q1 : W.1 rd = some (.inl (4, [gi (nI (p + 1)), gi (nI o), gi (nI it), ga (some xa)]))) (o1 : ∀ b, b ≠ rd → W.1 b = w.1 b) (z1 : W.2 = w.2) (b1 : pBd W) (t12 : σ1 0 12 = nI (p + 1)) (t0 : ∀ j, j ≠ 12 → j ≠ 18 → σ1 0 j = σ 0 j) (t8 : σ1 8 = σ 8) : pSt xa rd L N0 M0 W σ1 (p + 1) o it nd mo := by
  have hne := h.ne
  obtain ⟨h1, ⟨ta, f2, f3, f4, f5, f6, ft, h2, h3, hta, h4⟩, h5, h6, h7, h8, h9, h10, h11, h12, h13, h14, h15, h16⟩ := h
  have ht : ta ≠ rd := ne_of h3 h1 (by simp)
  refine ⟨q1, ⟨ta, f2, f3, f4, f5, f6, ft, (o1 _ hne.symm).trans h2, (o1 _ ht).trans h3, hta, by rw [t8]; exact h4⟩, h5, by omega, (t0 _ (by omega) (by omega)).trans h7, t12, (t0 _ (by omega) (by omega)).trans h9, (t0 _ (by omega) (by omega)).trans h10, (t0 _ (by omega) (by omega)).trans h11, (t0 _ (by omega) (by omega)).trans h12, (t0 _ (by omega) (by omega)).trans h13, b1, h15, ?_⟩
  rw [z1]
  exact h16
theorem wF.of {W : gw} (o1 : ∀ b, b ≠ rd → W.1 b = w.1 b) (z1 : W.2 = w.2) (b1 : pBd W) : wF rd w W := ⟨b1, by rw [z1]; exact Nat.le_refl _, by rw [z1], fun b _ hb => o1 b hb⟩
/-- the component's reader one sign on -/
theorem at_put (h : pSt xa rd L N0 M0 w σ p o it nd mo) : ∃ W, gPut w rd 4 0 (gi (nI p + nI 1)) = some W ∧ W.1 rd = some (.inl (4, [gi (nI (p + 1)), gi (nI o), gi (nI it), ga (some xa)])) ∧ (∀ b, b ≠ rd → W.1 b = w.1 b) ∧ W.2 = w.2 ∧ pBd W := by
  obtain ⟨W, e, q, o1, z, b⟩ := st_put (k := 0) h.1 (by show 0 < 4; omega) (by
    obtain ⟨-, -, -, -, -, -, -, -, -, -, -, hb, -⟩ := h
    exact hb) (gi (nI p + nI 1))
  refine ⟨W, e, ?_, o1, z, b⟩
  rw [← nI_add]
  exact q
/-- a thrown BadSign -/
theorem need_0 (h : pSt xa rd L N0 M0 w σ p o it nd mo) : ∃ W gs, f_X4_need rd 0 w = some (.inl (w.2.1, 6), W) ∧ wF rd w W ∧ W.1 w.2.1 = some (.inl (6, gs)) ∧ gs[6]? = some (gi (nI p)) ∧ W.2.1 = w.2.1 + 1 ∧ W.2.2.1 = w.2.2.1 + 7 ∧ W.1 rd = w.1 rd := by
  have hrl : rd < w.2.1 := by
    obtain ⟨h1, -, -, -, -, -, -, -, -, -, -, hb, -⟩ := h
    exact hb _ _ h1
  obtain ⟨h1, -, -, -, -, -, -, -, -, -, -, hb, -, -, -, -, -, hnd, hc, hs', hK0, hK1⟩ := h
  obtain ⟨W1, e1, q1, o1, z1, b1⟩ := st_new (w := w) (ci := 6) (n := 7) (fs := [ga none, ga none, ga none, ga none, ga none, gi 0, gi 0]) rfl (by omega) (by omega) hb
  obtain ⟨W2, e2, q2, o2, z2, b2⟩ := st_put (k := 0) q1 (by show 0 < 7; omega) b1 (ga (some w.2.1))
  obtain ⟨W3, e3, q3, o3, z3, b3⟩ := st_put (k := 1) q2 (by show 1 < 7; omega) b2 (ga (gCo (W2.2.2.2 6)))
  obtain ⟨W4, e4, q4, o4, z4, b4⟩ := st_put (k := 2) q3 (by show 2 < 7; omega) b3 (ga (gCo (W3.2.2.2 7)))
  obtain ⟨W5, e5, q5, o5, z5, b5⟩ := st_put (k := 1) q4 (by show 1 < 7; omega) b4 (ga none)
  obtain ⟨W6, e6, q6, o6, z6, b6⟩ := st_put (k := 3) q5 (by show 3 < 7; omega) b5 (ga none)
  obtain ⟨W7, e7, q7, o7, z7, b7⟩ := st_put (k := 0) q6 (by show 0 < 7; omega) b6 (ga none)
  obtain ⟨W8, e8, q8, o8, z8, b8⟩ := st_put (k := 2) q7 (by show 2 < 7; omega) b7 (ga none)
  obtain ⟨W9, e9, q9, o9, z9, b9⟩ := st_put (k := 6) q8 (by show 6 < 7; omega) b8 (gi (nI p))
  have hz0 : (nI 0 : Int32) = 0 := by decide
  have oo : ∀ b, b ≠ w.2.1 → W9.1 b = w.1 b := fun b hbn => by rw [o9 b hbn, o8 b hbn, o7 b hbn, o6 b hbn, o5 b hbn, o4 b hbn, o3 b hbn, o2 b hbn, o1 b hbn]
  have zz : W9.2 = (w.2.1 + 1, w.2.2.1 + 7, w.2.2.2) := by rw [z9, z8, z7, z6, z5, z4, z3, z2, z1]
  refine ⟨W9, _, ?_, ⟨b9, by rw [zz]; show w.2.1 ≤ w.2.1 + 1; omega, by rw [zz], fun b hbl _ => oo b (by omega)⟩, q9, rfl, by rw [zz], by rw [zz], oo rd (by omega)⟩
  unfold f_X4_need f_X6_init f_J4_init_c6 f_J3_init_2_c6
  rw [if_pos rfl, e1, pu_B2, pu_I (k := 0) ((o1 rd (by omega)).trans h1) rfl, pu_B1, e2, pu_B1, pu_Bd, e3, pu_B1, pu_Bd, e4, pu_B1, if_pos hz0, e5, pu_B1, e6, pu_B1, e7, pu_B1, if_pos hz0, e8, pu_B1, pu_B2, pu_B2, e9, pu_B1, pu_B2]
  unfold gKl
  rw [q9]
  rfl
/-- a thrown TooMuch -/
theorem limits_0 (h : pSt xa rd L N0 M0 w σ p o it nd mo) : ∃ W gs, f_X4_limits rd 0 w = some (.inl (w.2.1, 7), W) ∧ wF rd w W ∧ W.1 w.2.1 = some (.inl (7, gs)) ∧ gs[6]? = some (gi (nI p)) ∧ W.2.1 = w.2.1 + 1 ∧ W.2.2.1 = w.2.2.1 + 7 ∧ W.1 rd = w.1 rd := by
  have hrl : rd < w.2.1 := by
    obtain ⟨h1, -, -, -, -, -, -, -, -, -, -, hb, -⟩ := h
    exact hb _ _ h1
  obtain ⟨h1, -, -, -, -, -, -, -, -, -, -, hb, -, -, -, -, -, hnd, hc, hs', hK0, hK1⟩ := h
  obtain ⟨W1, e1, q1, o1, z1, b1⟩ := st_new (w := w) (ci := 7) (n := 7) (fs := [ga none, ga none, ga none, ga none, ga none, gi 0, gi 0]) rfl (by omega) (by omega) hb
  obtain ⟨W2, e2, q2, o2, z2, b2⟩ := st_put (k := 0) q1 (by show 0 < 7; omega) b1 (ga (some w.2.1))
  obtain ⟨W3, e3, q3, o3, z3, b3⟩ := st_put (k := 1) q2 (by show 1 < 7; omega) b2 (ga (gCo (W2.2.2.2 6)))
  obtain ⟨W4, e4, q4, o4, z4, b4⟩ := st_put (k := 2) q3 (by show 2 < 7; omega) b3 (ga (gCo (W3.2.2.2 7)))
  obtain ⟨W5, e5, q5, o5, z5, b5⟩ := st_put (k := 1) q4 (by show 1 < 7; omega) b4 (ga none)
  obtain ⟨W6, e6, q6, o6, z6, b6⟩ := st_put (k := 3) q5 (by show 3 < 7; omega) b5 (ga none)
  obtain ⟨W7, e7, q7, o7, z7, b7⟩ := st_put (k := 0) q6 (by show 0 < 7; omega) b6 (ga none)
  obtain ⟨W8, e8, q8, o8, z8, b8⟩ := st_put (k := 2) q7 (by show 2 < 7; omega) b7 (ga none)
  obtain ⟨W9, e9, q9, o9, z9, b9⟩ := st_put (k := 6) q8 (by show 6 < 7; omega) b8 (gi (nI p))
  have hz0 : (nI 0 : Int32) = 0 := by decide
  have oo : ∀ b, b ≠ w.2.1 → W9.1 b = w.1 b := fun b hbn => by rw [o9 b hbn, o8 b hbn, o7 b hbn, o6 b hbn, o5 b hbn, o4 b hbn, o3 b hbn, o2 b hbn, o1 b hbn]
  have zz : W9.2 = (w.2.1 + 1, w.2.2.1 + 7, w.2.2.2) := by rw [z9, z8, z7, z6, z5, z4, z3, z2, z1]
  refine ⟨W9, _, ?_, ⟨b9, by rw [zz]; show w.2.1 ≤ w.2.1 + 1; omega, by rw [zz], fun b hbl _ => oo b (by omega)⟩, q9, rfl, by rw [zz], by rw [zz], oo rd (by omega)⟩
  unfold f_X4_limits f_X7_init f_J4_init_c7 f_J3_init_2_c7
  rw [if_pos rfl, e1, pu_B2, pu_I (k := 0) ((o1 rd (by omega)).trans h1) rfl, pu_B1, e2, pu_B1, pu_Bd, e3, pu_B1, pu_Bd, e4, pu_B1, if_pos hz0, e5, pu_B1, e6, pu_B1, e7, pu_B1, if_pos hz0, e8, pu_B1, pu_B2, pu_B2, e9, pu_B1, pu_B2]
  unfold gKl
  rw [q9]
  rfl
theorem need_1 (w : gw) : f_X4_need rd (nI 1) w = some (.inr (), w) := by
  unfold f_X4_need
  rw [if_neg (by decide)]
theorem limits_1 (w : gw) : f_X4_limits rd (nI 1) w = some (.inr (), w) := by
  unfold f_X4_limits
  rw [if_neg (by decide)]
/-- what follows a thrown BadSign -/
theorem fail_need {R : Type} (h : pSt xa rd L N0 M0 w σ p o it nd mo) {fr : Option (((Nat × Nat) ⊕ R) × gw)} {tr : Option (Int32 × TS)} (hf : ∀ v, f_X4_need rd 0 w = some (.inl (w.2.1, 6), v) → fr = some (.inl (w.2.1, 6), v)) (ht : tr = some (nI 0, σ)) : pFail L N0 M0 rd w σ fr tr := by
  obtain ⟨W, gs, e, hw, q1, q2, z1, z2, z3⟩ := need_0 h
  obtain ⟨h1, -, -, h6, -, h8, h9, -, -, -, -, hb, hN, -, -, -, -, hnd, hc, hs', -⟩ := h
  have hrl := hb _ _ h1
  exact ⟨w.2.1, 6, W, σ, p, gs, hf _ e, ht, hw, tF.rf, h6, h8, q1, q2, Or.inl ⟨rfl, h9⟩, by omega, by omega, by omega, _, _, _, _, z3.trans h1⟩
theorem fail_limits {R : Type} (h : pSt xa rd L N0 M0 w σ p o it nd mo) {fr : Option (((Nat × Nat) ⊕ R) × gw)} {tr : Option (Int32 × TS)} (hf : ∀ v, f_X4_limits rd 0 w = some (.inl (w.2.1, 7), v) → fr = some (.inl (w.2.1, 7), v)) (ht : tr = some (nI 0, tPut σ 13 (nI 2))) : pFail L N0 M0 rd w σ fr tr := by
  obtain ⟨W, gs, e, hw, q1, q2, z1, z2, z3⟩ := limits_0 h
  obtain ⟨h1, -, -, h6, -, h8, h9, -, -, -, -, hb, hN, -, -, -, -, hnd, hc, hs', -⟩ := h
  have hrl := hb _ _ h1
  exact ⟨w.2.1, 7, W, _, p, gs, hf _ e, ht, hw, tF.rf.put _ (by omega), h6, (tPut_ne (by omega)).trans h8, q1, q2, Or.inr ⟨rfl, tPut_0 _ _ _⟩, by omega, by omega, by omega, _, _, _, _, z3.trans h1⟩
/-- a sign of a range is taken -/
theorem tk_f (h : pSt xa rd L N0 M0 w σ p o it nd mo) {lo hi : Nat} (hlo : lo < 128) (hhi : hi < 128) : (∃ c W, lo ≤ c ∧ c ≤ hi ∧ p < L ∧ sG σ L p = nI c ∧ c < 128 ∧ f_X4_takes rd (nI lo) (nI hi) w = some (.inr (nI (c - lo)), W) ∧ W.1 rd = some (.inl (4, [gi (nI (p + 1)), gi (nI o), gi (nI it), ga (some xa)])) ∧ (∀ b, b ≠ rd → W.1 b = w.1 b) ∧ W.2 = w.2 ∧ pBd W) ∨
    (¬ (nI lo ≤ sG σ L p ∧ sG σ L p ≤ nI hi) ∧ ∀ v, f_X4_need rd 0 w = some (.inl (w.2.1, 6), v) → f_X4_takes rd (nI lo) (nI hi) w = some (.inl (w.2.1, 6), v)) := by
  have hz1 : ¬ (nI 1 : Int32) = 0 := by decide
  have hz : (nI 0 : Int32) = 0 := by decide
  by_cases hr : nI lo ≤ sG σ L p ∧ sG σ L p ≤ nI hi
  · obtain ⟨hp, c, c1, c2, c3, c4⟩ := sG_c h hr (by omega) (by omega)
    obtain ⟨W, e, q1, o1, z1, b1⟩ := at_put h
    refine Or.inl ⟨c, W, c1, c2, hp, c4, c3, ?_, q1, o1, z1, b1⟩
    have hne := h.ne
    have hsf := sign_f h
    have hsg : sG σ L p = σ 8 p := if_pos hp
    obtain ⟨h1, ⟨ta, f2, f3, f4, f5, f6, ft, h2, h3, hta, h4⟩, h5, -⟩ := h
    have ht : ta ≠ rd := ne_of h3 h1 (by simp)
    unfold f_X4_takes
    rw [pu_Ob h1, pu_B1, hsf, pu_B2, pf_in, if_pos hr, pu_B2, pu_Ob h1, pu_B1, need_1, gB2X_r, pu_I (k := 0) h1 rfl, pu_B1, e, pu_B1, pu_R (k := 3) q1 rfl, pu_B1, pu_B1, pu_R (k := 0) ((o1 _ hne.symm).trans h2) rfl, pu_B1, pu_I (k := 0) q1 rfl, pu_B1, pu_B1, pu_sub (by omega), Nat.add_sub_cancel, pu_LdI ((o1 _ ht).trans h3) (by omega) (by omega), pu_B1, (h4 p hp).1, ← hsg, c4, pu_sub c1]
  · refine Or.inr ⟨hr, fun v hv => ?_⟩
    unfold f_X4_takes
    rw [pu_Ob h.1, pu_B1, sign_f h, pu_B2, pf_in, if_neg hr, pu_B2, pu_Ob h.1, pu_B1, hz, hv, gB2X_l]
/-- the reference one sign on -/
def tOn (σ : TS) (x : Int32) (p : Nat) : TS := tPut (tPut σ 18 x) 12 (nI (p + 1))
theorem tOn_0 (σ : TS) (x : Int32) (p : Nat) : tOn σ x p 0 12 = nI (p + 1) ∧ tOn σ x p 0 18 = x ∧ (∀ j, j ≠ 12 → j ≠ 18 → tOn σ x p 0 j = σ 0 j) ∧ (∀ r, r ≠ 0 → tOn σ x p r = σ r) ∧ tF σ (tOn σ x p) := by
  refine ⟨tPut_0 _ _ _, ?_, fun j h1 h2 => ?_, fun r hr => ?_, (tF.rf.put _ (by omega)).put _ (by omega)⟩
  · show tPut _ _ _ 0 18 = x
    rw [tPut_ne (by omega), tPut_0]
  · show tPut _ _ _ 0 j = _
    rw [tPut_ne h1, tPut_ne h2]
  · show tPut _ _ _ r = _
    rw [tPut_r hr, tPut_r hr]
theorem digit_t (h : pSt xa rd L N0 M0 w σ p o it nd mo) (a b : Nat) : t_X2_takesDigit (nI a) (nI b) σ = if nI (48 + a) ≤ sG σ L p ∧ sG σ L p ≤ nI (48 + b) then some (nI 1, tOn σ (sG σ L p - nI 48) p) else some (nI 0, σ) := by
  have hz : (nI 0 : Int32) = 0 := by decide
  have hz1 : ¬ (nI 1 : Int32) = 0 := by decide
  have h12 : σ 0 12 = nI p := by
    obtain ⟨-, -, -, -, -, h8, -⟩ := h
    exact h8
  unfold t_X2_takesDigit
  rw [here_t h, pu_B2, nI_add, nI_add, pt_isIn, pu_B2]
  by_cases hr : nI (48 + a) ≤ sG σ L p ∧ sG σ L p ≤ nI (48 + b)
  · rw [if_pos hr, if_neg hz1, if_pos hr, here_t h, pu_B2, pu_Bd, pu_Bd, tPut_ne (by omega), h12, nI_add]
    rfl
  · rw [if_neg hr, if_pos hz, if_neg hr]
theorem code_t (h : pSt xa rd L N0 M0 w σ p o it nd mo) : t_X2_takesCode σ = if nI 97 ≤ sG σ L p ∧ sG σ L p ≤ nI 104 then some (nI 1, tOn σ (sG σ L p - nI 97) p) else some (nI 0, σ) := by
  have hz : (nI 0 : Int32) = 0 := by decide
  have hz1 : ¬ (nI 1 : Int32) = 0 := by decide
  have h12 : σ 0 12 = nI p := by
    obtain ⟨-, -, -, -, -, h8, -⟩ := h
    exact h8
  unfold t_X2_takesCode
  rw [here_t h, pu_B2, pt_isIn, pu_B2]
  by_cases hr : nI 97 ≤ sG σ L p ∧ sG σ L p ≤ nI 104
  · rw [if_pos hr, if_neg hz1, if_pos hr, here_t h, pu_B2, pu_Bd, pu_Bd, tPut_ne (by omega), h12, nI_add]
    rfl
  · rw [if_neg hr, if_pos hz, if_neg hr]
theorem takes_t (h : pSt xa rd L N0 M0 w σ p o it nd mo) (c : Int32) : t_X2_takes c σ = if sG σ L p = c then some (nI 1, tPut σ 12 (nI (p + 1))) else some (nI 0, σ) := by
  have h12 : σ 0 12 = nI p := by
    obtain ⟨-, -, -, -, -, h8, -⟩ := h
    exact h8
  unfold t_X2_takes
  rw [here_t h, pu_B2]
  by_cases hr : sG σ L p = c
  · rw [if_pos hr, if_pos hr, pu_Bd, h12, nI_add]
  · rw [if_neg hr, if_neg hr]
/-- a step of both over one sign -/
def pOn (xa rd L N0 M0 : Nat) (w : gw) (σ : TS) (p o it nd mo : Nat) (W : gw) (σ1 : TS) : Prop := pSt xa rd L N0 M0 W σ1 (p + 1) o it nd mo ∧ wF rd w W ∧ tF σ σ1 ∧ σ1 1 = σ 1 ∧ W.2 = w.2 ∧ p < L
theorem skips_s (h : pSt xa rd L N0 M0 w σ p o it nd mo) {c : Nat} (hc : c < 128) : (sG σ L p = nI c ∧ ∃ W σ1, f_X4_skips rd (nI c) w = some (nI 1, W) ∧ t_X2_takes (nI c) σ = some (nI 1, σ1) ∧ pOn xa rd L N0 M0 w σ p o it nd mo W σ1) ∨ (sG σ L p ≠ nI c ∧ f_X4_skips rd (nI c) w = some (nI 0, w) ∧ t_X2_takes (nI c) σ = some (nI 0, σ)) := by
  have hb : pBd w := by
    obtain ⟨-, -, -, -, -, -, -, -, -, -, -, hb, -⟩ := h
    exact hb
  have hg1 : gZ (nI 1) = some () := if_pos (Or.inr (by decide))
  have hg0 : gZ (nI 0) = some () := if_pos (Or.inl (by decide))
  rw [takes_t h]
  by_cases hr : sG σ L p = nI c
  · obtain ⟨W, e, q1, o1, z1, b1⟩ := at_put h
    have hp := sG_eq h hr hc
    refine Or.inl ⟨hr, W, tPut σ 12 (nI (p + 1)), ?_, if_pos hr, h.mv hp q1 o1 z1 b1 (tPut_0 _ _ _) (fun j h1 _ => tPut_ne h1) (tPut_r (by omega)), wF.of o1 z1 b1, tF.rf.put _ (by omega), tPut_r (by omega), z1, hp⟩
    unfold f_X4_skips
    rw [pu_Ob h.1, pu_B1, sign_f h, pu_B2, pu_Bd, if_pos hr]
    try dsimp only
    rw [pu_I (k := 0) h.1 rfl, pu_B1, bit_1, pu_B2, e, pu_B1, hg1, pu_B1]
  · refine Or.inr ⟨hr, ?_, if_neg hr⟩
    have e := pu_Put (k := 0) h.1 (by show 0 < 4; omega) (gi (nI p + nI 0))
    have e2 : hs w rd (.inl (4, ([gi (nI p), gi (nI o), gi (nI it), ga (some xa)] : List gv).set 0 (gi (nI p + nI 0)))) = w := hs_id (by rw [nI_add]; exact h.1)
    rw [e2] at e
    unfold f_X4_skips
    rw [pu_Ob h.1, pu_B1, sign_f h, pu_B2, pu_Bd, if_neg hr]
    try dsimp only
    rw [pu_I (k := 0) h.1 rfl, pu_B1, bit_0, pu_B2, e, pu_B1, hg0, pu_B1]
/-- one certain sign -/
theorem sign_s {R : Type} (h : pSt xa rd L N0 M0 w σ p o it nd mo) {c : Nat} (hc : c < 128) : (∃ W σ1, f_X4_takes rd (nI c) (nI c) w = some (.inr (nI 0), W) ∧ t_X2_takes (nI c) σ = some (nI 1, σ1) ∧ pOn xa rd L N0 M0 w σ p o it nd mo W σ1) ∨ ((∀ v, f_X4_need rd 0 w = some (.inl (w.2.1, 6), v) → f_X4_takes rd (nI c) (nI c) w = some (.inl (w.2.1, 6), v)) ∧ t_X2_takes (nI c) σ = some (nI 0, σ)) := by
  rw [takes_t h]
  rcases tk_f h hc hc with ⟨c', W, c1, c2, hp, c4, c3, e, q1, o1, z1, b1⟩ | ⟨hr, e⟩
  · obtain rfl : c' = c := by omega
    rw [Nat.sub_self] at e
    exact Or.inl ⟨W, tPut σ 12 (nI (p + 1)), e, if_pos c4, h.mv hp q1 o1 z1 b1 (tPut_0 _ _ _) (fun j h1 _ => tPut_ne h1) (tPut_r (by omega)), wF.of o1 z1 b1, tF.rf.put _ (by omega), tPut_r (by omega), z1, hp⟩
  · exact Or.inr ⟨e, if_neg (fun z => hr (by rw [z]; exact ⟨Int32.le_refl _, Int32.le_refl _⟩))⟩
/-- a digit, a code -/
theorem digit_s (h : pSt xa rd L N0 M0 w σ p o it nd mo) {a b : Nat} (hb : b ≤ 9) (ha : a ≤ 9) : (∃ c W σ1, a ≤ c ∧ c ≤ b ∧ f_X4_takes rd (nI (48 + a)) (nI (48 + b)) w = some (.inr (nI (c - a)), W) ∧ t_X2_takesDigit (nI a) (nI b) σ = some (nI 1, σ1) ∧ σ1 0 18 = nI c ∧ pOn xa rd L N0 M0 w σ p o it nd mo W σ1) ∨ ((∀ v, f_X4_need rd 0 w = some (.inl (w.2.1, 6), v) → f_X4_takes rd (nI (48 + a)) (nI (48 + b)) w = some (.inl (w.2.1, 6), v)) ∧ t_X2_takesDigit (nI a) (nI b) σ = some (nI 0, σ)) := by
  rw [digit_t h]
  rcases tk_f h (lo := 48 + a) (hi := 48 + b) (by omega) (by omega) with ⟨c, W, c1, c2, hp, c4, c3, e, q1, o1, z1, b1⟩ | ⟨hr, e⟩
  · obtain ⟨t1, t2, t3, t4, t5⟩ := tOn_0 σ (sG σ L p - nI 48) p
    refine Or.inl ⟨c - 48, W, tOn σ (sG σ L p - nI 48) p, by omega, by omega, by rw [show c - 48 - a = c - (48 + a) by omega]; exact e, if_pos (by rw [c4]; exact ⟨nI_le c1 (by omega), nI_le c2 (by omega)⟩), ?_, h.mv hp q1 o1 z1 b1 t1 t3 (t4 _ (by omega)), wF.of o1 z1 b1, t5, t4 _ (by omega), z1, hp⟩
    rw [t2, c4, pu_sub (by omega)]
  · exact Or.inr ⟨e, if_neg hr⟩
theorem code_s (h : pSt xa rd L N0 M0 w σ p o it nd mo) : (∃ c W σ1, c < 8 ∧ f_X4_code rd w = some (.inr (nI c), W) ∧ t_X2_takesCode σ = some (nI 1, σ1) ∧ σ1 0 18 = nI c ∧ pOn xa rd L N0 M0 w σ p o it nd mo W σ1) ∨ ((∀ v, f_X4_need rd 0 w = some (.inl (w.2.1, 6), v) → f_X4_code rd w = some (.inl (w.2.1, 6), v)) ∧ t_X2_takesCode σ = some (nI 0, σ)) := by
  rw [code_t h]
  rcases tk_f h (lo := 97) (hi := 104) (by omega) (by omega) with ⟨c, W, c1, c2, hp, c4, c3, e, q1, o1, z1, b1⟩ | ⟨hr, e⟩
  · obtain ⟨t1, t2, t3, t4, t5⟩ := tOn_0 σ (sG σ L p - nI 97) p
    refine Or.inl ⟨c - 97, W, tOn σ (sG σ L p - nI 97) p, by omega, ?_, if_pos (by rw [c4]; exact ⟨nI_le c1 (by omega), nI_le c2 (by omega)⟩), ?_, h.mv hp q1 o1 z1 b1 t1 t3 (t4 _ (by omega)), wF.of o1 z1 b1, t5, t4 _ (by omega), z1, hp⟩
    · unfold f_X4_code
      rw [pu_Ob h.1, pu_B1, e, gB2X_r]
    · rw [t2, c4, pu_sub (by omega)]
  · refine Or.inr ⟨fun v hv => ?_, if_neg hr⟩
    unfold f_X4_code
    rw [pu_Ob h.1, pu_B1, e v hv, gB2X_l]
end RD
