set_option maxRecDepth 100000
/-! MAKING CELLS: steps with the heap named -/
/-- cells below n stay, but those that are named -/
theorem st_put {w : gw} {a c k : Nat} {fs : List gv} (ha : w.1 a = some (.inl (c, fs))) (hk : k < fs.length) (hb : pBd w) (v : gv) : ∃ W, gPut w a c k v = some W ∧ W.1 a = some (.inl (c, fs.set k v)) ∧ (∀ b, b ≠ a → W.1 b = w.1 b) ∧ W.2 = w.2 ∧ pBd W :=
  ⟨_, pu_Put ha hk v, hs_self _ _ _, fun b h => hs_ne h, hs_2 _ _ _, (pFr.hs (P := fun _ => True) (tg := fun _ => (0, 0)) hb ha trivial).1⟩
theorem st_newI {w : gw} {t m : Nat} (hm : m < 100000000) (r0 : w.2.1 + 1 ≤ w.2.2.2 0) (r1 : w.2.2.1 + m ≤ w.2.2.2 1) (hb : pBd w) : ∃ W, gNewI w t (nI m) = some (w.2.1, W) ∧ W.1 w.2.1 = some (.inr (t, m, .inl (fun _ => 0))) ∧ (∀ b, b ≠ w.2.1 → W.1 b = w.1 b) ∧ W.2 = (w.2.1 + 1, w.2.2.1 + m, w.2.2.2) ∧ pBd W :=
  ⟨_, pu_NewI hm r0 r1, hn_self _ _ _, fun b h => hn_ne h, hn_2 _ _ _, (pFr.hn (P := fun _ => True) (tg := fun _ => (0, 0)) hb _ _ (0, 0)).1⟩
theorem st_newR {w : gw} {t m : Nat} (hm : m < 100000000) (r0 : w.2.1 + 1 ≤ w.2.2.2 0) (r1 : w.2.2.1 + m ≤ w.2.2.2 1) (hb : pBd w) : ∃ W, gNewR w t (nI m) = some (w.2.1, W) ∧ W.1 w.2.1 = some (.inr (t, m, .inr (fun _ => none))) ∧ (∀ b, b ≠ w.2.1 → W.1 b = w.1 b) ∧ W.2 = (w.2.1 + 1, w.2.2.1 + m, w.2.2.2) ∧ pBd W :=
  ⟨_, pu_NewR hm r0 r1, hn_self _ _ _, fun b h => hn_ne h, hn_2 _ _ _, (pFr.hn (P := fun _ => True) (tg := fun _ => (0, 0)) hb _ _ (0, 0)).1⟩
theorem st_new {w : gw} {ci n : Nat} {fs : List gv} (h : gNs[ci]? = some (n, fs)) (r0 : w.2.1 + 1 ≤ w.2.2.2 0) (r1 : w.2.2.1 + n ≤ w.2.2.2 1) (hb : pBd w) : ∃ W, gNew w ci = some (w.2.1, W) ∧ W.1 w.2.1 = some (.inl (ci, fs)) ∧ (∀ b, b ≠ w.2.1 → W.1 b = w.1 b) ∧ W.2 = (w.2.1 + 1, w.2.2.1 + n, w.2.2.2) ∧ pBd W :=
  ⟨_, pu_New h r0 r1, hn_self _ _ _, fun b h => hn_ne h, hn_2 _ _ _, (pFr.hn (P := fun _ => True) (tg := fun _ => (0, 0)) hb _ _ (0, 0)).1⟩
theorem st_cln {w : gw} {a t n : Nat} {x : (Nat → Int32) ⊕ (Nat → Option Nat)} (ha : w.1 a = some (.inr (t, n, x))) (hk : gKd t x = true) (r0 : w.2.1 + 1 ≤ w.2.2.2 0) (r1 : w.2.2.1 + n ≤ w.2.2.2 1) (hb : pBd w) : ∃ W, gCln w a t = some (w.2.1, W) ∧ W.1 w.2.1 = some (.inr (t, n, x)) ∧ (∀ b, b ≠ w.2.1 → W.1 b = w.1 b) ∧ W.2 = (w.2.1 + 1, w.2.2.1 + n, w.2.2.2) ∧ pBd W := by
  refine ⟨hn w (.inr (t, n, x)) n, ?_, hn_self _ _ _, fun b h => hn_ne h, hn_2 _ _ _, (pFr.hn (P := fun _ => True) (tg := fun _ => (0, 0)) hb _ _ (0, 0)).1⟩
  unfold gCln
  rw [ha]
  exact if_pos ⟨rfl, hk, r0, r1⟩
theorem pu_CkA {w : gw} {a t n : Nat} {x : (Nat → Int32) ⊕ (Nat → Option Nat)} (h : w.1 a = some (.inr (t, n, x))) : gCkA w t (some a) = some (some a) := by
  show (match w.1 a with | some (.inr (t', _, _)) => if t' = t then some (some a) else none | _ => none : Option (Option Nat)) = _
  rw [h]
  exact if_pos rfl
theorem st_cpI {w : gw} {t a0 a1 n : Nat} {f0 f1 : Nat → Int32} (h0 : w.1 a0 = some (.inr (t, n, .inl f0))) (h1 : w.1 a1 = some (.inr (t, n, .inl f1))) (hn : n < 2 ^ 31) (h2 : 0 < n) (hb : pBd w) : ∃ W g, gCpI w t a0 (nI 0) a1 (nI 0) (nI n) = some W ∧ W.1 a1 = some (.inr (t, n, .inl g)) ∧ (∀ j, j < n → g j = f0 j) ∧ (∀ b, b ≠ a1 → W.1 b = w.1 b) ∧ W.2 = w.2 ∧ pBd W := by
  refine ⟨hs w a1 (.inr (t, n, .inl (va_cpy f0 f1 0 0 n))), va_cpy f0 f1 0 0 n, ?_, hs_self _ _ _, fun j hj => ?_, fun b h => hs_ne h, hs_2 _ _ _, (pFr.hs (P := fun _ => True) (tg := fun _ => (0, 0)) hb h1 trivial).1⟩
  · unfold gCpI
    rw [pu_IA h0, pu_IA h1]
    have e0 : (nI 0).toNatClampNeg = 0 := by decide
    have e1 : (nI n).toNatClampNeg = n := nI_clamp hn
    show (if ¬ nI 0 < 0 ∧ ¬ nI 0 < 0 ∧ ¬ nI n < 0 ∧ (nI 0).toNatClampNeg + (nI n).toNatClampNeg ≤ n ∧ (nI 0).toNatClampNeg + (nI n).toNatClampNeg ≤ n ∧ 0 < n then _ else none) = _
    rw [if_pos ⟨by decide, by decide, nI_pos hn, by rw [e0, e1]; omega, by rw [e0, e1]; omega, h2⟩, e0, e1]
    rfl
  · unfold va_cpy
    rw [if_pos ⟨Nat.zero_le _, by omega⟩]
    congr 1
    omega
/-- a new instance -/
theorem pf_init16 {w : gw} {a : Nat} {p1 p2 : Option Nat} {x3 x4 x5 : Int32} {f0 f1 f2 f3 f4 f5 f6 f7 f8 f9 f10 f11 f12 f13 f14 f15 : gv} (ha : w.1 a = some (.inl (16, [f0, f1, f2, f3, f4, f5, f6, f7, f8, f9, f10, f11, f12, f13, f14, f15]))) (hb : pBd w) (r0 : w.2.1 + 4 ≤ w.2.2.2 0) (r1 : w.2.2.1 + 615 ≤ w.2.2.2 1) :
    ∃ w1, f_X16_init a p1 p2 x3 x4 x5 w = some ((), w1) ∧ w1.1 a = some (.inl (16, [ga p2, gi x3, gi x4, gi x5, ga (some w.2.1), ga (some (w.2.1 + 1)), ga (some (w.2.1 + 2)), ga (some (w.2.1 + 3)), f8, f9, gi (-5), f11, f12, f13, f14, ga p1])) ∧
      w1.1 w.2.1 = some (.inr (0, 4, .inl (fun _ => 0))) ∧ w1.1 (w.2.1 + 1) = some (.inr (0, 8, .inl (fun _ => 0))) ∧ w1.1 (w.2.1 + 2) = some (.inl (8, [gi 0, ga (some (w.2.2.2 5)), gi 0])) ∧ w1.1 (w.2.1 + 3) = some (.inr (0, 600, .inl (fun _ => 0))) ∧ (∀ b, b ≠ a → b < w.2.1 → w1.1 b = w.1 b) ∧ w1.2 = (w.2.1 + 4, w.2.2.1 + 615, w.2.2.2) ∧ pBd w1 := by
  have hal := hb _ _ ha
  obtain ⟨W1, e1, c1, o1, z1, b1⟩ := st_put (k := 15) ha (by show 15 < 16; omega) hb (ga p1)
  obtain ⟨W2, e2, c2, o2, z2, b2⟩ := st_newI (w := W1) (t := 0) (m := 4) (by omega) (by rw [z1]; omega) (by rw [z1]; omega) b1
  rw [z1] at e2 c2 o2 z2
  have a2 := (o2 a (by omega)).trans c1
  obtain ⟨W3, e3, c3, o3, z3, b3⟩ := st_put (k := 4) a2 (by show 4 < 16; omega) b2 (ga (some w.2.1))
  rw [z2] at z3
  obtain ⟨W4, e4, c4, o4, z4, b4⟩ := st_newI (w := W3) (t := 0) (m := 8) (by omega) (by rw [z3]; show w.2.1 + 1 + 1 ≤ w.2.2.2 0; omega) (by rw [z3]; show w.2.2.1 + 4 + 8 ≤ w.2.2.2 1; omega) b3
  rw [z3] at e4 c4 o4 z4
  simp only at e4 c4 o4 z4
  have a4 := (o4 a (by omega)).trans c3
  obtain ⟨W5, e5, c5, o5, z5, b5⟩ := st_put (k := 5) a4 (by show 5 < 16; omega) b4 (ga (some (w.2.1 + 1)))
  rw [z4] at z5
  obtain ⟨W6, e6, c6, o6, z6, b6⟩ := st_new (w := W5) (ci := 8) (n := 3) (fs := [gi 0, ga none, gi 0]) rfl (by rw [z5]; show w.2.1 + 1 + 1 + 1 ≤ w.2.2.2 0; omega) (by rw [z5]; show w.2.2.1 + 4 + 8 + 3 ≤ w.2.2.2 1; omega) b5
  rw [z5] at e6 c6 o6 z6
  simp only at e6 c6 o6 z6
  obtain ⟨W7, e7, c7, o7, z7, b7⟩ := st_put (k := 0) c6 (by show 0 < 3; omega) b6 (gi (nI 0))
  obtain ⟨W8, e8, c8, o8, z8, b8⟩ := st_put (k := 1) c7 (by show 1 < 3; omega) b7 (ga (some (W7.2.2.2 5)))
  have a8 := (o8 a (by omega)).trans ((o7 a (by omega)).trans ((o6 a (by omega)).trans c5))
  obtain ⟨W9, e9, c9, o9, z9, b9⟩ := st_put (k := 6) a8 (by show 6 < 16; omega) b8 (ga (some (w.2.1 + 1 + 1)))
  rw [z8, z7, z6] at z9
  obtain ⟨W10, e10, c10, o10, z10, b10⟩ := st_newI (w := W9) (t := 0) (m := 600) (by omega) (by rw [z9]; show w.2.1 + 1 + 1 + 1 + 1 ≤ w.2.2.2 0; omega) (by rw [z9]; show w.2.2.1 + 4 + 8 + 3 + 600 ≤ w.2.2.2 1; omega) b9
  rw [z9] at e10 c10 o10 z10
  simp only at e10 c10 o10 z10
  have a10 := (o10 a (by omega)).trans c9
  obtain ⟨W11, e11, c11, o11, z11, b11⟩ := st_put (k := 7) a10 (by show 7 < 16; omega) b10 (ga (some (w.2.1 + 1 + 1 + 1)))
  obtain ⟨W12, e12, c12, o12, z12, b12⟩ := st_put (k := 10) c11 (by show 10 < 16; omega) b11 (gi (-5))
  obtain ⟨W13, e13, c13, o13, z13, b13⟩ := st_put (k := 0) c12 (by show 0 < 16; omega) b12 (ga p2)
  obtain ⟨W14, e14, c14, o14, z14, b14⟩ := st_put (k := 1) c13 (by show 1 < 16; omega) b13 (gi x3)
  obtain ⟨W15, e15, c15, o15, z15, b15⟩ := st_put (k := 2) c14 (by show 2 < 16; omega) b14 (gi x4)
  obtain ⟨W16, e16, c16, o16, z16, b16⟩ := st_put (k := 3) c15 (by show 3 < 16; omega) b15 (gi x5)
  have oe : ∀ b, b ≠ a → W16.1 b = W10.1 b := fun b h => (o16 b h).trans ((o15 b h).trans ((o14 b h).trans ((o13 b h).trans ((o12 b h).trans (o11 b h)))))
  have hz : (0 : Int32) = nI 0 := by decide
  have hK7 : W7.2.2.2 = w.2.2.2 := by rw [z7, z6]
  refine ⟨W16, ?_, c16, ?_, ?_, ?_, ?_, fun b h1 h2 => ?_, ?_, b16⟩
  · unfold f_X16_init f_J2_init f_J1_init_c8 f_J0_init_c8
    rw [e1, pu_B1, e2, pu_B2, e3, pu_B1, e4, pu_B2, e5, pu_B1, e6, pu_B2, pu_B2, e7, pu_B1, pu_B2, e8, pu_B1, pu_B2, e9, pu_B1, e10, pu_B2, e11, pu_B1, e12, pu_B1, e13, pu_B1, e14, pu_B1, e15, pu_B1, e16, pu_B1]
  · rw [oe _ (by omega), o10 _ (by omega), o9 _ (by omega), o8 _ (by omega), o7 _ (by omega), o6 _ (by omega), o5 _ (by omega), o4 _ (by omega), o3 _ (by omega)]
    exact c2
  · rw [oe _ (by omega), o10 _ (by omega), o9 _ (by omega), o8 _ (by omega), o7 _ (by omega), o6 _ (by omega), o5 _ (by omega)]
    exact c4
  · rw [oe _ (by omega), o10 _ (by omega), o9 _ (by omega), show w.2.1 + 2 = w.2.1 + 1 + 1 from rfl, c8, hK7, ← hz]
    rfl
  · rw [oe _ (by omega)]
    exact c10
  · rw [oe _ h1, o10 _ (by omega), o9 _ h1, o8 _ (by omega), o7 _ (by omega), o6 _ (by omega), o5 _ h1, o4 _ (by omega), o3 _ h1, o2 _ (by omega), o1 _ h1]
  · rw [z16, z15, z14, z13, z12, z11, z10]
