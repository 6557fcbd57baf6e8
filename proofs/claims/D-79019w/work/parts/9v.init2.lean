set_option maxRecDepth 100000
/-! THE START: the reference is made; the invariant holds -/
theorem init_2 {S H : Nat} {K : Nat → Nat} {w : gw} (hw : w.2 = (S, H, K)) (hb : pBd w) (k0 : S + 9 ≤ K 0) (k1 : H + 42600 ≤ K 1) : ∃ w3 w4 f5, gNew w 2 = some (S, w3) ∧ f_X2_init S w3 = some ((), w4) ∧ w4.2 = (S + 9, H + 42600, K) ∧ pBd w4 ∧ (∀ b, b < S → w4.1 b = w.1 b) ∧ w4.1 S = some (.inl (2, [ga (some (S + 1)), ga (some (S + 2)), ga (some (S + 3)), ga (some (S + 4)), ga (some (S + 5)), ga (some (S + 6)), ga (some (S + 7)), gi 0, ga (some (S + 8)), gi 0, gi (-1), gi 0, gi 0, gi 0, gi 0, gi 0, gi 0, gi 0, gi 0, gi 0, gi 0])) ∧ w4.1 (S + 1) = some (.inr (0, 9792, .inl (fun _ => 0))) ∧ w4.1 (S + 2) = some (.inr (0, 9792, .inl (fun _ => 0))) ∧ w4.1 (S + 3) = some (.inr (0, 68, .inl (fun _ => 0))) ∧ w4.1 (S + 4) = some (.inr (0, 68, .inl (fun _ => 0))) ∧ w4.1 (S + 5) = some (.inr (0, 7593, .inl f5)) ∧ (∀ c, f5 c = if 1 ≤ c ∧ c ≤ 8 then nI 1 else 0) ∧ w4.1 (S + 6) = some (.inr (0, 7593, .inl (fun _ => 0))) ∧ w4.1 (S + 7) = some (.inr (0, 7593, .inl (fun _ => 0))) ∧ w4.1 (S + 8) = some (.inr (0, 80, .inl (fun _ => 0))) := by
  have n0 : w.2.1 = S := by rw [hw]
  have m0 : w.2.2.1 = H := by rw [hw]
  have kk0 : w.2.2.2 = K := by rw [hw]
  obtain ⟨W1, e1, q1, o1, z1, b1⟩ := st_new (w := w) (ci := 2) (n := 21) (fs := [ga none, ga none, ga none, ga none, ga none, ga none, ga none, gi 0, ga none, gi 0, gi 0, gi 0, gi 0, gi 0, gi 0, gi 0, gi 0, gi 0, gi 0, gi 0, gi 0]) rfl (by rw [n0, kk0]; omega) (by rw [m0, kk0]; omega) hb
  rw [n0] at e1 q1 o1
  rw [n0, m0, kk0] at z1
  obtain ⟨W2, e2, q2, c2, o2, z2, b2⟩ := in_I (t := 0) (m := 9792) (k := 0) z1 q1 (by show 0 < 21; omega) b1 (by omega) (by omega) (by omega)
  obtain ⟨W3, e3, q3, c3, o3, z3, b3⟩ := in_I (t := 0) (m := 9792) (k := 1) z2 q2 (by show 1 < 21; omega) b2 (by omega) (by omega) (by omega)
  obtain ⟨W4, e4, q4, c4, o4, z4, b4⟩ := in_I (t := 0) (m := 68) (k := 2) z3 q3 (by show 2 < 21; omega) b3 (by omega) (by omega) (by omega)
  obtain ⟨W5, e5, q5, c5, o5, z5, b5⟩ := in_I (t := 0) (m := 68) (k := 3) z4 q4 (by show 3 < 21; omega) b4 (by omega) (by omega) (by omega)
  obtain ⟨W6, e6, q6, c6, o6, z6, b6⟩ := in_I (t := 0) (m := 7593) (k := 4) z5 q5 (by show 4 < 21; omega) b5 (by omega) (by omega) (by omega)
  obtain ⟨W7, e7, q7, c7, o7, z7, b7⟩ := in_I (t := 0) (m := 7593) (k := 5) z6 q6 (by show 5 < 21; omega) b6 (by omega) (by omega) (by omega)
  obtain ⟨W8, e8, q8, c8, o8, z8, b8⟩ := in_I (t := 0) (m := 7593) (k := 6) z7 q7 (by show 6 < 21; omega) b7 (by omega) (by omega) (by omega)
  obtain ⟨W9, e9, q9, c9, o9, z9, b9⟩ := in_I (t := 0) (m := 80) (k := 8) z8 q8 (by show 8 < 21; omega) b8 (by omega) (by omega) (by omega)
  obtain ⟨WA, eA, qA, oA, zA, bA⟩ := st_put (k := 10) q9 (by show 10 < 21; omega) b9 (gi (-1))
  obtain ⟨WB, f5, eB, qB, fB, oB, zB, bB⟩ := in_loop2 (ma := S) (ra := S + 1 + 1 + 1 + 1 + 1) rfl 8 0 20000 WA (fun _ => 0) (by omega) (by omega) bA qA ((oA _ (by omega)).trans ((o9 _ (by omega) (by omega)).trans ((o8 _ (by omega) (by omega)).trans ((o7 _ (by omega) (by omega)).trans c6)))) (fun c => by rw [if_neg (by omega)])
  refine ⟨W1, WB, f5, e1, ?_, zB.trans (zA.trans z9), bB, fun b hbS => ?_, (oB S (by omega)).trans qA, ?_, ?_, ?_, ?_, qB, fB, ?_, ?_, ?_⟩
  · rw [f_X2_init_eq, e2, e3, e4, e5, e6, e7, e8, e9, eA, pu_B1, eB]
  · exact (oB b (by omega)).trans ((oA b (by omega)).trans ((o9 b (by omega) (by omega)).trans ((o8 b (by omega) (by omega)).trans ((o7 b (by omega) (by omega)).trans ((o6 b (by omega) (by omega)).trans ((o5 b (by omega) (by omega)).trans ((o4 b (by omega) (by omega)).trans ((o3 b (by omega) (by omega)).trans ((o2 b (by omega) (by omega)).trans (o1 b (by omega)))))))))))
  · exact (oB _ (by omega)).trans ((oA _ (by omega)).trans ((o9 _ (by omega) (by omega)).trans ((o8 _ (by omega) (by omega)).trans ((o7 _ (by omega) (by omega)).trans ((o6 _ (by omega) (by omega)).trans ((o5 _ (by omega) (by omega)).trans ((o4 _ (by omega) (by omega)).trans ((o3 _ (by omega) (by omega)).trans c2))))))))
  · exact (oB _ (by omega)).trans ((oA _ (by omega)).trans ((o9 _ (by omega) (by omega)).trans ((o8 _ (by omega) (by omega)).trans ((o7 _ (by omega) (by omega)).trans ((o6 _ (by omega) (by omega)).trans ((o5 _ (by omega) (by omega)).trans ((o4 _ (by omega) (by omega)).trans c3)))))))
  · exact (oB _ (by omega)).trans ((oA _ (by omega)).trans ((o9 _ (by omega) (by omega)).trans ((o8 _ (by omega) (by omega)).trans ((o7 _ (by omega) (by omega)).trans ((o6 _ (by omega) (by omega)).trans ((o5 _ (by omega) (by omega)).trans c4))))))
  · exact (oB _ (by omega)).trans ((oA _ (by omega)).trans ((o9 _ (by omega) (by omega)).trans ((o8 _ (by omega) (by omega)).trans ((o7 _ (by omega) (by omega)).trans ((o6 _ (by omega) (by omega)).trans c5)))))
  · exact (oB _ (by omega)).trans ((oA _ (by omega)).trans ((o9 _ (by omega) (by omega)).trans ((o8 _ (by omega) (by omega)).trans c7)))
  · exact (oB _ (by omega)).trans ((oA _ (by omega)).trans ((o9 _ (by omega) (by omega)).trans c8))
  · exact (oB _ (by omega)).trans ((oA _ (by omega)).trans c9)
/-- the tags at the start -/
def tgS (S : Nat) : pT := fun b => if b < S then (0, 100) else if b = S then (S, 64) else if b = S + 1 then (S, 65) else if b = S + 2 then (S, 66) else if b = S + 3 then (S, 67) else if b = S + 4 then (S + 4, 0) else if b = S + 5 then (S + 4, 1) else if b = S + 6 then (S + 4, 2) else if b = S + 7 then (S + 4, 3) else (S, 300)
/-- the reference's rows at the start -/
def sgS (f5 : Nat → Int32) : TS := fun r j => if r = 0 ∧ j = 10 then -1 else if r = 5 then f5 j else 0
theorem start_ok {S H0 : Nat} {K : Nat → Nat} (hk0 : K 0 = S + 601024) (hk1 : K 1 = H0 + 7293034) (h5 : K 5 < S) (h2 : K 2 < S) (h3 : K 3 < S) (h4 : K 4 < S) (d1 : K 2 ≠ K 3) (d2 : K 2 ≠ K 4) (d3 : K 3 ≠ K 4) : ∃ (w1 w2 w3 w4 : gw) (ad : Nat → Nat) (σ : TS), gNew (fun _ => none, S, H0, K) 0 = some (S, w1) ∧ f_X0_init S w1 = some ((), w2) ∧ gNew w2 2 = some (S + 8, w3) ∧ f_X2_init (S + 8) w3 = some ((), w4) ∧ ad 0 = S + 8 ∧ tInj ad ∧ lInv S ad 64 w4 σ := by
  obtain ⟨w1, w2, fd, i1, i2, i3, i4, i5, i6, i7, i8, i9, i10, i11, i12, i13, i14⟩ := init_0 (S := S) (H0 := H0) (K := K) (by omega) (by omega)
  obtain ⟨w3, w4, f5, j1, j2, j3, j4, j5, j6, j7, j8, j9, j10, j11, j12, j13, j14, j15⟩ := init_2 i3 i4 (by omega) (by omega)
  have old : ∀ b, b < S + 8 → w4.1 b = w2.1 b := j5
  have n4 : w4.2.1 = S + 17 := by rw [j3]
  have m4 : w4.2.2.1 = H0 + 134 + 42600 := by rw [j3]
  have k4 : w4.2.2.2 = K := by rw [j3]
  have t0 : ∀ b, b < S → tgS S b = (0, 100) := fun b hb => if_pos hb
  have t1 : tgS S S = (S, 64) := by unfold tgS; rw [if_neg (by omega), if_pos rfl]
  have t2 : tgS S (S + 1) = (S, 65) := by unfold tgS; rw [if_neg (by omega), if_neg (by omega), if_pos rfl]
  have t3 : tgS S (S + 2) = (S, 66) := by unfold tgS; rw [if_neg (by omega), if_neg (by omega), if_neg (by omega), if_pos rfl]
  have t4 : tgS S (S + 3) = (S, 67) := by unfold tgS; rw [if_neg (by omega), if_neg (by omega), if_neg (by omega), if_neg (by omega), if_pos rfl]
  have t5 : tgS S (S + 4) = (S + 4, 0) := by unfold tgS; rw [if_neg (by omega), if_neg (by omega), if_neg (by omega), if_neg (by omega), if_neg (by omega), if_pos rfl]
  have t6 : tgS S (S + 5) = (S + 4, 1) := by unfold tgS; rw [if_neg (by omega), if_neg (by omega), if_neg (by omega), if_neg (by omega), if_neg (by omega), if_neg (by omega), if_pos rfl]
  have t7 : tgS S (S + 6) = (S + 4, 2) := by unfold tgS; rw [if_neg (by omega), if_neg (by omega), if_neg (by omega), if_neg (by omega), if_neg (by omega), if_neg (by omega), if_neg (by omega), if_pos rfl]
  have t8 : tgS S (S + 7) = (S + 4, 3) := by unfold tgS; rw [if_neg (by omega), if_neg (by omega), if_neg (by omega), if_neg (by omega), if_neg (by omega), if_neg (by omega), if_neg (by omega), if_neg (by omega), if_pos rfl]
  have t9 : ∀ b, S + 8 ≤ b → tgS S b = (S, 300) := fun b hb => by unfold tgS; rw [if_neg (by omega), if_neg (by omega), if_neg (by omega), if_neg (by omega), if_neg (by omega), if_neg (by omega), if_neg (by omega), if_neg (by omega), if_neg (by omega)]
  have s0 : ∀ j, j ≠ 10 → sgS f5 0 j = nI 0 := fun j hj => by
    unfold sgS
    rw [if_neg (fun z => hj z.2), if_neg (by omega)]
    rfl
  have s10 : sgS f5 0 10 = -1 := if_pos ⟨rfl, rfl⟩
  have s5 : sgS f5 5 = f5 := by
    funext j
    unfold sgS
    rw [if_neg (by omega), if_pos rfl]
  have sr : ∀ r, r ≠ 0 → r ≠ 5 → sgS f5 r = fun _ => 0 := fun r hr hr5 => by
    funext j
    unfold sgS
    rw [if_neg (fun z => hr z.1), if_neg hr5]
  have f0 : ∀ c, c = 0 ∨ 8 < c → f5 c = nI 0 := fun c hc => by
    rw [j12 c, if_neg (by omega)]
    rfl
  have f1 : ∀ c, c < 8 → f5 (1 + c) = nI 1 := fun c hc => by rw [j12 _, if_pos (by omega)]
  have hne : ∀ j, j < 6 → ¬ f5 (21 + 1262 * (j) + 0) = nI 1 := fun j hj z => by
    rw [f0 _ (by omega)] at z
    exact absurd z (by decide)
  refine ⟨w1, w2, w3, w4, fun i => S + 8 + i, sgS f5, i1, i2, j1, j2, rfl, fun i j _ _ h => by
    have : S + 8 + i = S + 8 + j := h
    omega, tgS S, ⟨S + 4, fun _ => 0, fun _ => (fun _ _ => 0, fun _ _ => 0, fun _ _ => 0), fun _ => 0, 0, fun _ => none, fun _ => 0, none, none, ?_, Or.inl ⟨rfl, s10⟩, ?_, ?_, by omega, Or.inl ⟨rfl, (s0 7 (by omega))⟩, Nat.le_refl _, ?_, ?_, ?_⟩, twOf_eq (fun i hi => ?_), fun i hi => t9 _ (Nat.le_add_right _ _)⟩
  · exact ⟨S + 1, S + 2, S + 3, 0, fun _ => 0, t1, (old S (by omega)).trans i6, t2, (old _ (by omega)).trans i7, t3, (old _ (by omega)).trans i8, t4, (old _ (by omega)).trans i9, by omega, s0 9 (by omega), fun j hj => absurd hj (by omega)⟩
  · intro a ha
    refine ⟨Nat.zero_le _, rfl, ?_, fun b hb => absurd hb (Nat.not_lt_zero _), fun b hb => Or.inl rfl⟩
    rw [s5]
    exact f0 _ (by omega)
  · rw [s5]
    have hc : ∀ q, K q < S → w4.1 (w4.2.2.2 q) = none ∧ tgS S (w4.2.2.2 q) = (0, 100) ∧ w4.2.2.2 q < w4.2.1 := fun q hq => by
      rw [k4, n4]
      exact ⟨(old _ (by omega)).trans (i5 _ hq), t0 _ hq, by omega⟩
    have hmo := (old _ (by omega)).trans i10
    have hz : f5 0 = 0 := (f0 0 (Or.inl rfl)).trans rfl
    refine ⟨⟨j4, fun q q1 q2 => ?_, by rw [k4]; exact d1, by rw [k4]; exact d2, by rw [k4]; exact d3⟩, ⟨S + 5, S + 6, S + 7, fd, fun _ => 0, fun _ => none, t5, by rw [hz]; exact hmo, t6, (old _ (by omega)).trans i11, t7, (old _ (by omega)).trans i13, t8, (old _ (by omega)).trans i14, fun c hc8 => ⟨(i12 c hc8).trans (f1 c hc8).symm, ?_, ⟨1, by omega, f1 c hc8⟩, ⟨0, by omega, f0 _ (by omega)⟩⟩, f0 0 (Or.inl rfl), by omega⟩, ⟨fun _ => none, ⟨S + 7, _, _, _, _, t5, hmo, t8, (old _ (by omega)).trans i14⟩, fun q hq => Or.inl ⟨rfl, f0 _ (by omega)⟩⟩, fun i j hi hj hij p1 p2 => absurd p1 (hne i hi)⟩
    · rcases (show q = 2 ∨ q = 3 ∨ q = 4 ∨ q = 5 by omega) with rfl | rfl | rfl | rfl
      · exact hc 2 h2
      · exact hc 3 h3
      · exact hc 4 h4
      · exact hc 5 h5
    · rw [f0 _ (by omega)]
      rfl
  · rw [n4, k4]; omega
  · rw [m4, k4]; omega
  · rw [s5]
    exact fun j hj hz => absurd hz (hne j hj)
  · rcases (show i = 0 ∨ i = 1 ∨ i = 2 ∨ i = 3 ∨ i = 4 ∨ i = 5 ∨ i = 6 ∨ i = 7 ∨ i = 8 by omega) with rfl | rfl | rfl | rfl | rfl | rfl | rfl | rfl | rfl
    · show w4.1 (S + 8) = some (.inl (2, twFs (fun i => S + 8 + i) (sgS f5)))
      rw [j6]
      rfl
    · show w4.1 (S + 8 + 1) = some (.inr (0, 9792, .inl (sgS f5 1)))
      rw [j7, sr 1 (by omega) (by omega)]
    · show w4.1 (S + 8 + 2) = some (.inr (0, 9792, .inl (sgS f5 2)))
      rw [j8, sr 2 (by omega) (by omega)]
    · show w4.1 (S + 8 + 3) = some (.inr (0, 68, .inl (sgS f5 3)))
      rw [j9, sr 3 (by omega) (by omega)]
    · show w4.1 (S + 8 + 4) = some (.inr (0, 68, .inl (sgS f5 4)))
      rw [j10, sr 4 (by omega) (by omega)]
    · show w4.1 (S + 8 + 5) = some (.inr (0, 7593, .inl (sgS f5 5)))
      rw [j11, s5]
    · show w4.1 (S + 8 + 6) = some (.inr (0, 7593, .inl (sgS f5 6)))
      rw [j13, sr 6 (by omega) (by omega)]
    · show w4.1 (S + 8 + 7) = some (.inr (0, 7593, .inl (sgS f5 7)))
      rw [j14, sr 7 (by omega) (by omega)]
    · show w4.1 (S + 8 + 8) = some (.inr (0, 80, .inl (sgS f5 8)))
      rw [j15, sr 8 (by omega) (by omega)]
