set_option maxRecDepth 100000
/-! READING: numbers; the reference's rows; leaves -/
section R6
variable {xa rd L N0 M0 p o it nd mo : Nat} {w : gw} {σ : TS}
/-- both readers went on -/
def pTo (xa rd L N0 M0 : Nat) (w : gw) (σ : TS) (p o it nd mo : Nat) (W : gw) (σ1 : TS) (p1 : Nat) : Prop := pSt xa rd L N0 M0 W σ1 p1 o it nd mo ∧ wF rd w W ∧ tF σ σ1 ∧ σ1 1 = σ 1 ∧ W.2 = w.2 ∧ p ≤ p1
theorem pOn.to {W : gw} {σ1 : TS} (h : pOn xa rd L N0 M0 w σ p o it nd mo W σ1) : pTo xa rd L N0 M0 w σ p o it nd mo W σ1 (p + 1) := by
  obtain ⟨h1, h2, h3, h4, h5, -⟩ := h
  exact ⟨h1, h2, h3, h4, h5, by omega⟩
theorem pTo.tr {W W2 : gw} {σ1 σ2 : TS} {p1 p2 : Nat} (h : pTo xa rd L N0 M0 w σ p o it nd mo W σ1 p1) (h' : pTo xa rd L N0 M0 W σ1 p1 o it nd mo W2 σ2 p2) : pTo xa rd L N0 M0 w σ p o it nd mo W2 σ2 p2 := by
  obtain ⟨a1, a2, a3, a4, a5, a6⟩ := h
  obtain ⟨b1, b2, b3, b4, b5, b6⟩ := h'
  exact ⟨b1, a2.tr b2, a3.tr b3, b4.trans a4, b5.trans a5, by omega⟩
theorem pSt.bd (h : pSt xa rd L N0 M0 w σ p o it nd mo) : pBd w := by
  obtain ⟨-, -, -, -, -, -, -, -, -, -, -, hb, -⟩ := h
  exact hb
theorem pSt.sg {σ1 : TS} (h : pSt xa rd L N0 M0 w σ p o it nd mo) (h0 : ∀ j, j ≠ 18 → σ1 0 j = σ 0 j) (h8 : σ1 8 = σ 8) : pSt xa rd L N0 M0 w σ1 p o it nd mo := by
  obtain ⟨h1, ⟨ta, f2, f3, f4, f5, f6, ft, h2, h3, hta, h4⟩, h5, h6, h7, h8', h9, h10, h11, h12, h13, h14, h15⟩ := h
  exact ⟨h1, ⟨ta, f2, f3, f4, f5, f6, ft, h2, h3, hta, by rw [h8]; exact h4⟩, h5, h6, (h0 _ (by omega)).trans h7, (h0 _ (by omega)).trans h8', (h0 _ (by omega)).trans h9, (h0 _ (by omega)).trans h10, (h0 _ (by omega)).trans h11, (h0 _ (by omega)).trans h12, (h0 _ (by omega)).trans h13, h14, h15⟩
theorem pTo.rf (h : pSt xa rd L N0 M0 w σ p o it nd mo) : pTo xa rd L N0 M0 w σ p o it nd mo w σ p := ⟨h, wF.rf h.bd, tF.rf, rfl, rfl, Nat.le_refl _⟩
theorem pTo.n18 {W : gw} {σ1 : TS} {p1 : Nat} (h : pTo xa rd L N0 M0 w σ p o it nd mo W σ1 p1) (x : Int32) : pTo xa rd L N0 M0 w σ p o it nd mo W (tPut σ1 18 x) p1 := by
  obtain ⟨a1, a2, a3, a4, a5, a6⟩ := h
  exact ⟨a1.sg (fun j hj => tPut_ne hj) (tPut_r (by omega)), a2, a3.put _ (by omega), (tPut_r (by omega)).trans a4, a5, a6⟩
theorem num_loop : ∀ r k (w : gw) (σ : TS) (p v f1 f2 : Nat), k + r = 3 → r < f1 → r < f2 → (k = 1 ∧ v ≤ 9 ∨ k = 2 ∧ v ≤ 99 ∨ k = 3 ∧ v ≤ 999) → pSt xa rd L N0 M0 w σ p o it nd mo →
    ∃ v1 W σ1 p1, v1 ≤ 999 ∧ gL2 (bf_X4_number_1 rd) f1 (nI v) (nI k) w = some (.inr (nI v1), W) ∧ gL2 bt_X2_takesNumber_1 f2 (nI v) (nI k) σ = some (nI 1, σ1) ∧ σ1 0 18 = nI v1 ∧ pTo xa rd L N0 M0 w σ p o it nd mo W σ1 p1 := by
  intro r
  induction r with
  | zero =>
    intro k w σ p v f1 f2 hk hf1 hf2 hv h
    obtain ⟨f1, rfl⟩ : ∃ g, f1 = g + 1 := ⟨f1 - 1, by omega⟩
    obtain ⟨f2, rfl⟩ : ∃ g, f2 = g + 1 := ⟨f2 - 1, by omega⟩
    refine ⟨v, w, tPut σ 18 (nI v), p, by omega, ?_, ?_, tPut_0 _ _ _, (pTo.rf h).n18 _⟩
    · show bf_X4_number_1 rd (gL2 (bf_X4_number_1 rd) f1) _ _ _ = _
      generalize gL2 (bf_X4_number_1 rd) f1 = KK
      unfold bf_X4_number_1
      rw [if_pos (nI_le (by omega) (by omega))]
    · show bt_X2_takesNumber_1 (gL2 bt_X2_takesNumber_1 f2) _ _ _ = _
      generalize gL2 bt_X2_takesNumber_1 f2 = KK
      unfold bt_X2_takesNumber_1
      rw [pu_Bd, if_pos (nI_le (by omega) (by omega))]
      try dsimp only
      rw [pu_Bd]
  | succ r ih =>
    intro k w σ p v f1 f2 hk hf1 hf2 hv h
    obtain ⟨f1, rfl⟩ : ∃ g, f1 = g + 1 := ⟨f1 - 1, by omega⟩
    obtain ⟨f2, rfl⟩ : ∃ g, f2 = g + 1 := ⟨f2 - 1, by omega⟩
    have hz : (nI 0 : Int32) = 0 := by decide
    have hz1 : ¬ (nI 1 : Int32) = 0 := by decide
    have h12 : σ 0 12 = nI p := by
      obtain ⟨-, -, -, -, -, h8, -⟩ := h
      exact h8
    show ∃ v1 W σ1 p1, v1 ≤ 999 ∧ bf_X4_number_1 rd (gL2 (bf_X4_number_1 rd) f1) _ _ _ = _ ∧ bt_X2_takesNumber_1 (gL2 bt_X2_takesNumber_1 f2) _ _ _ = _ ∧ _
    by_cases h0 : v = 0
    · have hle : nI v ≤ 0 := by rw [h0, hz]; exact Int32.le_refl _
      refine ⟨v, w, tPut σ 18 (nI v), p, by omega, ?_, ?_, tPut_0 _ _ _, (pTo.rf h).n18 _⟩
      · generalize gL2 (bf_X4_number_1 rd) f1 = KK
        unfold bf_X4_number_1
        rw [if_neg (nI_ge (by omega) (by omega)), if_pos hle]
      · generalize gL2 bt_X2_takesNumber_1 f2 = KK
        unfold bt_X2_takesNumber_1
        rw [pu_Bd, if_neg (nI_ge (by omega) (by omega)), if_pos hle]
        try dsimp only
        rw [pu_Bd]
    · have hle : ¬ nI v ≤ 0 := fun z => by
        rw [← hz] at z
        have := (nI_leI (by omega) (by omega)).mp z
        omega
      rcases tk_f h (lo := 48) (hi := 57) (by omega) (by omega) with ⟨c, W, c1, c2, hp, c4, c3, e, q1, o1, z1, b1⟩ | ⟨hr, e⟩
      · have hin : nI 48 ≤ sG σ L p ∧ sG σ L p ≤ nI 57 := by
          rw [c4]
          exact ⟨nI_le c1 (by omega), nI_le c2 (by omega)⟩
        have hst : pSt xa rd L N0 M0 W (tPut σ 12 (nI (p + 1))) (p + 1) o it nd mo := h.mv hp q1 o1 z1 b1 (tPut_0 _ _ _) (fun j h1 _ => tPut_ne h1) (tPut_r (by omega))
        obtain ⟨v1, W2, σ2, p2, i1, i2, i3, i4, i5⟩ := ih (k + 1) W (tPut σ 12 (nI (p + 1))) (p + 1) (10 * v + (c - 48)) f1 f2 (by omega) (by omega) (by omega) (by omega) hst
        refine ⟨v1, W2, σ2, p2, i1, ?_, ?_, i4, pTo.tr ⟨hst, wF.of o1 z1 b1, tF.rf.put _ (by omega), tPut_r (by omega), z1, by omega⟩ i5⟩
        · rw [← i2]
          generalize gL2 (bf_X4_number_1 rd) f1 = KK
          unfold bf_X4_number_1
          rw [if_neg (nI_ge (by omega) (by omega)), if_neg hle, pu_Ob h.1, pu_B1, sign_f h, pu_B2, pf_in, if_pos hin, pu_B2, if_neg hz1, pu_Ob h.1, pu_B1, e, gB2X_r, pu_Bd, pu_Bd, pu_mul, nI_add, nI_add]
        · rw [← i3]
          generalize gL2 bt_X2_takesNumber_1 f2 = KK
          unfold bt_X2_takesNumber_1
          rw [pu_Bd, if_neg (nI_ge (by omega) (by omega)), if_neg hle, here_t h, pu_B2, pt_isIn, if_pos hin, pu_B2, if_neg hz1, here_t h, pu_B2, pu_Bd, pu_Bd, pu_Bd, c4, pu_mul, nI_add, pu_sub (by omega), h12, nI_add, nI_add, show 10 * v + c - 48 = 10 * v + (c - 48) by omega]
      · refine ⟨v, w, tPut σ 18 (nI v), p, by omega, ?_, ?_, tPut_0 _ _ _, (pTo.rf h).n18 _⟩
        · generalize gL2 (bf_X4_number_1 rd) f1 = KK
          unfold bf_X4_number_1
          rw [if_neg (nI_ge (by omega) (by omega)), if_neg hle, pu_Ob h.1, pu_B1, sign_f h, pu_B2, pf_in, if_neg hr, pu_B2, if_pos hz]
        · generalize gL2 bt_X2_takesNumber_1 f2 = KK
          unfold bt_X2_takesNumber_1
          rw [pu_Bd, if_neg (nI_ge (by omega) (by omega)), if_neg hle, here_t h, pu_B2, pt_isIn, if_neg hr, pu_B2, if_pos hz]
          try dsimp only
          rw [pu_Bd]
theorem number_s (h : pSt xa rd L N0 M0 w σ p o it nd mo) : (∃ v W σ1 p1, v ≤ 999 ∧ f_X4_number rd w = some (.inr (nI v), W) ∧ t_X2_takesNumber σ = some (nI 1, σ1) ∧ σ1 0 18 = nI v ∧ pTo xa rd L N0 M0 w σ p o it nd mo W σ1 p1 ∧ p < p1) ∨ ((∀ v, f_X4_need rd 0 w = some (.inl (w.2.1, 6), v) → f_X4_number rd w = some (.inl (w.2.1, 6), v)) ∧ t_X2_takesNumber σ = some (nI 0, σ)) := by
  have hz : (nI 0 : Int32) = 0 := by decide
  have hz1 : ¬ (nI 1 : Int32) = 0 := by decide
  rw [f_X4_number_eq, t_X2_takesNumber_eq]
  rcases digit_s h (a := 0) (b := 9) (by omega) (by omega) with ⟨c, W, σ1, c1, c2, e1, e2, e3, hto⟩ | ⟨e1, e2⟩
  · obtain ⟨v1, W2, σ2, p2, i1, i2, i3, i4, i5⟩ := num_loop 2 1 W σ1 (p + 1) c 20000 20000 (by omega) (by omega) (by omega) (by omega) hto.1
    have h5 := i5.2.2.2.2.2
    refine Or.inl ⟨v1, W2, σ2, p2, i1, ?_, ?_, i4, hto.to.tr i5, by omega⟩
    · rw [pu_Ob h.1, pu_B1, show (48 : Nat) = 48 + 0 from rfl, show (57 : Nat) = 48 + 9 from rfl, e1, gB2X_r]
      exact i2
    · rw [e2, pu_B2, if_neg hz1, pu_Bd, e3]
      exact i3
  · refine Or.inr ⟨fun v hv => ?_, ?_⟩
    · rw [pu_Ob h.1, pu_B1, show (48 : Nat) = 48 + 0 from rfl, show (57 : Nat) = 48 + 9 from rfl, e1 v hv, gB2X_l]
    · rw [e2, pu_B2, if_pos hz]
theorem signed_s (h : pSt xa rd L N0 M0 w σ p o it nd mo) : (∃ x W σ1 p1, f_X4_signed rd w = some (.inr x, W) ∧ t_X2_takesSigned σ = some (nI 1, σ1) ∧ σ1 0 18 = x ∧ pTo xa rd L N0 M0 w σ p o it nd mo W σ1 p1 ∧ p < p1) ∨ pFail L N0 M0 rd w σ (f_X4_signed rd w) (t_X2_takesSigned σ) := by
  have hz : (nI 0 : Int32) = 0 := by decide
  have hz1 : ¬ (nI 1 : Int32) = 0 := by decide
  unfold f_X4_signed t_X2_takesSigned
  rw [pu_Ob h.1, pu_B1]
  rcases skips_s h (c := 45) (by omega) with ⟨-, W, σ1, e1, e2, hto⟩ | ⟨-, e1, e2⟩
  · rw [e1, e2, pu_B2, pu_B2, if_neg hz1, pu_Ob hto.1.1, pu_B1]
    rcases number_s hto.1 with ⟨v, W2, σ2, p2, v1, f1, f2, f3, f4, f5⟩ | ⟨f1, f2⟩
    · refine Or.inl ⟨-nI v, W2, tPut σ2 18 (-nI v), p2, ?_, ?_, tPut_0 _ _ _, (hto.to.tr f4).n18 _, by omega⟩
      · rw [f1, gB2X_r]
      · rw [f2, pu_B2, if_neg hz1, pu_Bd, if_neg hz1, f3]
        try dsimp only
        rw [pu_Bd]
    · right
      refine pFail.bk (fail_need (R := Int32) hto.1 f1 rfl) hto.2.1 hto.2.2.1 (fun q c v hv => ?_) (fun v hv => ?_)
      · rw [hv, gB2X_l]
      · rw [f2, pu_B2, if_pos hz]
        exact hv
  · rw [e1, e2, pu_B2, pu_B2, if_pos hz, pu_Ob h.1, pu_B1]
    rcases number_s h with ⟨v, W2, σ2, p2, v1, f1, f2, f3, f4, f5⟩ | ⟨f1, f2⟩
    · refine Or.inl ⟨nI v, W2, tPut σ2 18 (nI v), p2, ?_, ?_, tPut_0 _ _ _, f4.n18 _, by omega⟩
      · rw [f1, gB2X_r]
      · rw [f2, pu_B2, if_neg hz1, pu_Bd, if_pos hz, f3]
        try dsimp only
        rw [pu_Bd]
    · right
      refine fail_need h (fun v hv => ?_) ?_
      · rw [f1 v hv, gB2X_l]
      · rw [f2, pu_B2, if_pos hz]
/-- the reference puts a part -/
def pX (σ : TS) (n k : Nat) (x : Int32) : TS := tUpd σ 1 ((64 * (16) + n) * 9 + k) x
theorem put_t (σ : TS) {n k : Nat} (hn : n < 64) (hk : k < 9) (x : Int32) : t_X2_put (nI n) (nI k) x σ = some ((), pX σ n k x) := by
  unfold t_X2_put
  rw [pt_part, pu_B2, t_st (by show _ < 9792; omega) (by decide), pu_B1]
  rfl
theorem pX_r {σ : TS} {n k r : Nat} {x : Int32} (h : r ≠ 1) : pX σ n k x r = σ r := by
  funext j
  exact if_neg (fun z => h z.1)
theorem pX_rr (σ : TS) (n k m q : Nat) (x : Int32) (hk : k < 9) (hq : q < 9) : rr (pX σ n k x) m q = if m = n ∧ q = k then x else rr σ m q := by
  show (if (1 : Nat) = 1 ∧ ((64 * (16) + m) * 9 + q) = ((64 * (16) + n) * 9 + k) then x else σ 1 ((64 * (16) + m) * 9 + q)) = _
  by_cases h : m = n ∧ q = k
  · rw [if_pos h, if_pos ⟨rfl, by rw [h.1, h.2]⟩]
  · rw [if_neg h, if_neg (fun z => h (by omega))]
    rfl
theorem pX_s (σ : TS) {n k : Nat} (x : Int32) (hk : k < 9) : rr (pX σ n k x) n k = x := by rw [pX_rr _ _ _ _ _ _ hk hk, if_pos ⟨rfl, rfl⟩]
theorem pX_n {σ : TS} {n k m q : Nat} {x : Int32} (hk : k < 9) (hq : q < 9) (h : m ≠ n ∨ q ≠ k) : rr (pX σ n k x) m q = rr σ m q := by rw [pX_rr _ _ _ _ _ _ hk hq, if_neg (fun z => h.elim (fun y => y z.1) (fun y => y z.2))]
theorem tF.pX {σ σ1 : TS} {n k : Nat} (x : Int32) (h : tF σ σ1) : tF σ (pX σ1 n k x) := ⟨fun r hr => (pX_r (by omega)).trans (h.1 r hr), fun j hj => by rw [pX_r (by omega)]; exact h.2.1 j hj, fun j hj => by
  exact (if_neg (fun z => by have := z.2; omega)).trans (h.2.2 j hj)⟩
theorem pSt.pX (h : pSt xa rd L N0 M0 w σ p o it nd mo) (n k : Nat) (x : Int32) : pSt xa rd L N0 M0 w (pX σ n k x) p o it nd mo := h.sg (fun j _ => by rw [pX_r (by omega)]) (pX_r (by omega))
/-- a new node of the reference -/
theorem makes_t (kd ar : Int32) (hnd : σ 0 14 = nI nd) (hp : σ 0 12 = nI p) (h64 : nd < 64) : ∃ σ1, t_X2_makes kd ar σ = some (nI nd, σ1) ∧ σ1 0 14 = nI (nd + 1) ∧ (∀ j, j ≠ 14 → σ1 0 j = σ 0 j) ∧ tF σ σ1 ∧ rr σ1 nd 0 = kd ∧ rr σ1 nd 7 = nI p ∧ rr σ1 nd 8 = ar ∧ (∀ q, q < 9 → q ≠ 0 → q ≠ 7 → q ≠ 8 → rr σ1 nd q = -1) ∧ ∀ m q, m ≠ nd → q < 9 → rr σ1 m q = rr σ m q := by
  rw [t_X2_makes_eq, hnd, pu_Bd, pu_Bd, nI_add]
  have loop : ∀ r k fuel (τ : TS), k + r = 9 → r < fuel → ∃ τ1, gL4 bt_X2_makes_1 fuel kd ar (nI nd) (nI k) τ = (gB2 (t_X2_put (nI nd) (nI 0) kd τ1) fun _ w10 => gB2 (t_X2_put (nI nd) (nI 7) (w10 0 12) w10) fun _ w11 => gB2 (t_X2_put (nI nd) (nI 8) ar w11) fun _ w12 => some (nI nd, w12)) ∧ τ1 0 = τ 0 ∧ tF τ τ1 ∧ (∀ q, k ≤ q → q < 9 → rr τ1 nd q = -1) ∧ (∀ q, q < k → q < 9 → rr τ1 nd q = rr τ nd q) ∧ ∀ m q, m ≠ nd → q < 9 → rr τ1 m q = rr τ m q := by
    intro r
    induction r with
    | zero =>
      intro k fuel τ hk hf
      obtain ⟨fuel, rfl⟩ : ∃ g, fuel = g + 1 := ⟨fuel - 1, by omega⟩
      obtain rfl : k = 9 := by omega
      refine ⟨τ, ?_, rfl, tF.rf, fun q h1 h2 => absurd h2 (by omega), fun _ _ _ => rfl, fun _ _ _ _ => rfl⟩
      show bt_X2_makes_1 (gL4 bt_X2_makes_1 fuel) _ _ _ _ _ = _
      generalize gL4 bt_X2_makes_1 fuel = KK
      unfold bt_X2_makes_1
      rw [if_pos (nI_le (Nat.le_refl _) (by omega))]
    | succ r ih =>
      intro k fuel τ hk hf
      obtain ⟨fuel, rfl⟩ : ∃ g, fuel = g + 1 := ⟨fuel - 1, by omega⟩
      have k9 : k < 9 := by omega
      obtain ⟨τ1, i1, i2, i3, i4, i5, i6⟩ := ih (k + 1) fuel (pX τ nd k (-1)) (by omega) (by omega)
      refine ⟨τ1, ?_, i2.trans (pX_r (by omega)), (tF.rf.pX _).tr i3, fun q h1 h2 => ?_, fun q h1 h2 => ?_, fun m q h1 h2 => ?_⟩
      · rw [← i1]
        show bt_X2_makes_1 (gL4 bt_X2_makes_1 fuel) _ _ _ _ _ = _
        generalize gL4 bt_X2_makes_1 fuel = KK
        unfold bt_X2_makes_1
        rw [if_neg (nI_ge k9 (by omega)), put_t _ h64 k9, pu_B2, pu_Bd, nI_add]
      · by_cases hq : q = k
        · rw [hq, i5 k (by omega) k9, pX_s _ _ k9]
        · exact i4 q (by omega) h2
      · rw [i5 q (by omega) h2, pX_n k9 h2 (Or.inr (by omega))]
      · rw [i6 m q h1 h2, pX_n k9 h2 (Or.inl h1)]
  obtain ⟨τ1, i1, i2, i3, i4, i5, i6⟩ := loop 9 0 20000 (tPut σ 14 (nI (nd + 1))) (by omega) (by omega)
  rw [i1, put_t _ h64 (by omega), pu_B2, put_t _ h64 (by omega), pu_B2, put_t _ h64 (by omega), pu_B2]
  have e12 : pX τ1 nd 0 kd 0 12 = nI p := by rw [pX_r (by omega), i2, tPut_ne (by omega), hp]
  rw [e12]
  refine ⟨_, rfl, ?_, fun j hj => ?_, (((tF.rf.put _ (by omega)).tr i3).pX _).pX _ |>.pX _, ?_, ?_, ?_, fun q h1 h2 h3 h4 => ?_, fun m q h1 h2 => ?_⟩
  · rw [pX_r (by omega), pX_r (by omega), pX_r (by omega), i2, tPut_0]
  · rw [pX_r (by omega), pX_r (by omega), pX_r (by omega), i2, tPut_ne hj]
  · rw [pX_n (by omega) (by omega) (Or.inr (by omega)), pX_n (by omega) (by omega) (Or.inr (by omega)), pX_s _ _ (by omega)]
  · rw [pX_n (by omega) (by omega) (Or.inr (by omega)), pX_s _ _ (by omega)]
  · rw [pX_s _ _ (by omega)]
  · rw [pX_n (by omega) h1 (Or.inr h4), pX_n (by omega) h1 (Or.inr h3), pX_n (by omega) h1 (Or.inr h2)]
    exact i4 q (Nat.zero_le _) h1
  · rw [pX_n (by omega) h2 (Or.inl h1), pX_n (by omega) h2 (Or.inl h1), pX_n (by omega) h2 (Or.inl h1), i6 m q h1 h2]
    show tPut σ 14 _ 1 _ = σ 1 _
    rw [tPut_r (by omega)]
end R6
