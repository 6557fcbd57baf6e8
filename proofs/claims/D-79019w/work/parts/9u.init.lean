set_option maxRecDepth 100000
/-! THE START: both objects are made -/
def bf_X2_init_1 (a0 : Nat) : (Int32 → gw → Option (Unit × gw)) → Int32 → gw → Option (Unit × gw) := fun k28 (x27 : Int32) (w26 : gw) => if (nI 8) ≤ x27 then some ((), w26) else gB1 (gR w26 a0 2 4) fun r30 => gB1 r30 fun a31 => gB1 (gStI w26 a31 0 ((nI 1) + x27) (nI 1)) fun w32 => gBd (x27 + (nI 1)) fun x33 => k28 x33 w32
theorem f_X2_init_eq (a0 : Nat) (w0 : gw) : f_X2_init a0 w0 = gB2 (gNewI w0 0 (nI 9792)) fun a1 w2 => gB1 (gPut w2 a0 2 0 (ga (some a1))) fun w3 => gB2 (gNewI w3 0 (nI 9792)) fun a4 w5 => gB1 (gPut w5 a0 2 1 (ga (some a4))) fun w6 => gB2 (gNewI w6 0 (nI 68)) fun a7 w8 => gB1 (gPut w8 a0 2 2 (ga (some a7))) fun w9 => gB2 (gNewI w9 0 (nI 68)) fun a10 w11 => gB1 (gPut w11 a0 2 3 (ga (some a10))) fun w12 => gB2 (gNewI w12 0 (nI 7593)) fun a13 w14 => gB1 (gPut w14 a0 2 4 (ga (some a13))) fun w15 => gB2 (gNewI w15 0 (nI 7593)) fun a16 w17 => gB1 (gPut w17 a0 2 5 (ga (some a16))) fun w18 => gB2 (gNewI w18 0 (nI 7593)) fun a19 w20 => gB1 (gPut w20 a0 2 6 (ga (some a19))) fun w21 => gB2 (gNewI w21 0 (nI 80)) fun a22 w23 => gB1 (gPut w23 a0 2 8 (ga (some a22))) fun w24 => gB1 (gPut w24 a0 2 10 (gi (-1))) fun w25 => gL1 (bf_X2_init_1 a0) 20000 (nI 0) w25 := rfl
/-- an array is made and put into an object -/
theorem in_I {w : gw} {a c t m k S0 H : Nat} {K : Nat → Nat} {fs : List gv} (hw : w.2 = (S0, H, K)) (ha : w.1 a = some (.inl (c, fs))) (hk : k < fs.length) (hb : pBd w) (hm : m < 100000000) (r0 : S0 + 1 ≤ K 0) (r1 : H + m ≤ K 1) : ∃ W, (∀ {β : Type} (KK : gw → Option β), (gB2 (gNewI w t (nI m)) fun a1 w2 => gB1 (gPut w2 a c k (ga (some a1))) fun w3 => KK w3) = KK W) ∧ W.1 a = some (.inl (c, fs.set k (ga (some S0)))) ∧ W.1 S0 = some (.inr (t, m, .inl (fun _ => 0))) ∧ (∀ b, b ≠ a → b ≠ S0 → W.1 b = w.1 b) ∧ W.2 = (S0 + 1, H + m, K) ∧ pBd W := by
  have n0 : w.2.1 = S0 := by rw [hw]
  have n1 : w.2.2.1 = H := by rw [hw]
  have n2 : w.2.2.2 = K := by rw [hw]
  obtain ⟨W1, e1, q1, o1, z1, b1⟩ := st_newI (w := w) (t := t) (m := m) hm (by rw [n0, n2]; exact r0) (by rw [n1, n2]; exact r1) hb
  rw [n0] at e1 q1 o1 z1
  rw [n1, n2] at z1
  have hne : a ≠ S0 := by
    have := hb _ _ ha
    omega
  obtain ⟨W2, e2, q2, o2, z2, b2⟩ := st_put (k := k) ((o1 a hne).trans ha) hk b1 (ga (some S0))
  refine ⟨W2, fun KK => by rw [e1, pu_B2, e2, pu_B1], q2, (o2 _ hne.symm).trans q1, fun b hb1 hb2 => (o2 b hb1).trans (o1 b hb2), z2.trans z1, b2⟩
theorem in_R {w : gw} {a c t m k S0 H : Nat} {K : Nat → Nat} {fs : List gv} (hw : w.2 = (S0, H, K)) (ha : w.1 a = some (.inl (c, fs))) (hk : k < fs.length) (hb : pBd w) (hm : m < 100000000) (r0 : S0 + 1 ≤ K 0) (r1 : H + m ≤ K 1) : ∃ W, (∀ {β : Type} (KK : gw → Option β), (gB2 (gNewR w t (nI m)) fun a1 w2 => gB1 (gPut w2 a c k (ga (some a1))) fun w3 => KK w3) = KK W) ∧ W.1 a = some (.inl (c, fs.set k (ga (some S0)))) ∧ W.1 S0 = some (.inr (t, m, .inr (fun _ => none))) ∧ (∀ b, b ≠ a → b ≠ S0 → W.1 b = w.1 b) ∧ W.2 = (S0 + 1, H + m, K) ∧ pBd W := by
  have n0 : w.2.1 = S0 := by rw [hw]
  have n1 : w.2.2.1 = H := by rw [hw]
  have n2 : w.2.2.2 = K := by rw [hw]
  obtain ⟨W1, e1, q1, o1, z1, b1⟩ := st_newR (w := w) (t := t) (m := m) hm (by rw [n0, n2]; exact r0) (by rw [n1, n2]; exact r1) hb
  rw [n0] at e1 q1 o1 z1
  rw [n1, n2] at z1
  have hne : a ≠ S0 := by
    have := hb _ _ ha
    omega
  obtain ⟨W2, e2, q2, o2, z2, b2⟩ := st_put (k := k) ((o1 a hne).trans ha) hk b1 (ga (some S0))
  refine ⟨W2, fun KK => by rw [e1, pu_B2, e2, pu_B1], q2, (o2 _ hne.symm).trans q1, fun b hb1 hb2 => (o2 b hb1).trans (o1 b hb2), z2.trans z1, b2⟩
theorem in_loop0 {xa mo du : Nat} {g0 g1 g2 g3 g4 g5 : gv} {h1 h2 h3 h4 : gv} : ∀ r j fuel (w : gw) (f : Nat → Int32), j + r = 8 → r < fuel → pBd w → w.1 xa = some (.inl (0, [g0, g1, g2, g3, g4, ga (some mo), g5])) → w.1 mo = some (.inl (1, [ga (some du), h1, h2, h3, h4])) → w.1 du = some (.inr (0, 8, .inl f)) → (∀ c, c < j → f c = nI 1) → ∃ W f', gL1 (bf_X0_init_1 xa) fuel (nI j) w = some ((), W) ∧ W.1 du = some (.inr (0, 8, .inl f')) ∧ (∀ c, c < 8 → f' c = nI 1) ∧ (∀ b, b ≠ du → W.1 b = w.1 b) ∧ W.2 = w.2 ∧ pBd W := by
  intro r
  induction r with
  | zero =>
    intro j fuel w f hj hf hb a1 a2 a3 a4
    obtain ⟨fuel, rfl⟩ : ∃ g, fuel = g + 1 := ⟨fuel - 1, by omega⟩
    refine ⟨w, f, ?_, a3, fun c hc => a4 c (by omega), fun _ _ => rfl, rfl, hb⟩
    show bf_X0_init_1 xa (gL1 (bf_X0_init_1 xa) fuel) _ _ = _
    generalize gL1 (bf_X0_init_1 xa) fuel = KK
    unfold bf_X0_init_1
    rw [if_pos (nI_le (by omega) (by omega))]
  | succ r ih =>
    intro j fuel w f hj hf hb a1 a2 a3 a4
    obtain ⟨fuel, rfl⟩ : ∃ g, fuel = g + 1 := ⟨fuel - 1, by omega⟩
    have n1 : xa ≠ du := ne_of a1 a3 (by simp)
    have n2 : mo ≠ du := ne_of a2 a3 (by simp)
    obtain ⟨W1, hW1⟩ : ∃ W1, hs w du (.inr (0, 8, .inl (upd f j (nI 1)))) = W1 := ⟨_, rfl⟩
    have o1 : ∀ b, b ≠ du → W1.1 b = w.1 b := fun b hbd => by rw [← hW1, hs_ne hbd]
    have b1 : pBd W1 := by
      rw [← hW1]
      exact (pFr.hs (P := fun _ => True) (tg := fun _ => (0, 0)) hb a3 trivial).1
    have z1 : W1.2 = w.2 := by rw [← hW1, hs_2]
    obtain ⟨W, f', i1, i2, i3, i4, i5, i6⟩ := ih (j + 1) fuel W1 (upd f j (nI 1)) (by omega) (by omega) b1 ((o1 xa n1).trans a1) ((o1 mo n2).trans a2) (by rw [← hW1, hs_self]) (fun c hc => by
      by_cases hcj : c = j
      · rw [hcj, upd_self]
      · rw [upd_ne hcj]
        exact a4 c (by omega))
    refine ⟨W, f', ?_, i2, i3, fun b hbd => (i4 b hbd).trans (o1 b hbd), i5.trans z1, i6⟩
    rw [← i1]
    show bf_X0_init_1 xa (gL1 (bf_X0_init_1 xa) fuel) _ _ = _
    generalize gL1 (bf_X0_init_1 xa) fuel = KK
    unfold bf_X0_init_1
    rw [if_neg (nI_ge (by omega) (by omega)), pu_R (k := 5) a1 rfl, pu_B1, pu_B1, pu_R (k := 0) a2 rfl, pu_B1, pu_B1, pu_StI a3 (by omega) (by omega), pu_B1, pu_Bd, nI_add, hW1]
theorem in_loop2 {ma ra : Nat} {fs : List gv} (h4 : fs[4]? = some (ga (some ra))) : ∀ r j fuel (w : gw) (f : Nat → Int32), j + r = 8 → r < fuel → pBd w → w.1 ma = some (.inl (2, fs)) → w.1 ra = some (.inr (0, 7593, .inl f)) → (∀ c, f c = if 1 ≤ c ∧ c ≤ j then nI 1 else 0) → ∃ W f', gL1 (bf_X2_init_1 ma) fuel (nI j) w = some ((), W) ∧ W.1 ra = some (.inr (0, 7593, .inl f')) ∧ (∀ c, f' c = if 1 ≤ c ∧ c ≤ 8 then nI 1 else 0) ∧ (∀ b, b ≠ ra → W.1 b = w.1 b) ∧ W.2 = w.2 ∧ pBd W := by
  intro r
  induction r with
  | zero =>
    intro j fuel w f hj hf hb a1 a3 a4
    obtain ⟨fuel, rfl⟩ : ∃ g, fuel = g + 1 := ⟨fuel - 1, by omega⟩
    obtain rfl : j = 8 := by omega
    refine ⟨w, f, ?_, a3, a4, fun _ _ => rfl, rfl, hb⟩
    show bf_X2_init_1 ma (gL1 (bf_X2_init_1 ma) fuel) _ _ = _
    generalize gL1 (bf_X2_init_1 ma) fuel = KK
    unfold bf_X2_init_1
    rw [if_pos (nI_le (by omega) (by omega))]
  | succ r ih =>
    intro j fuel w f hj hf hb a1 a3 a4
    obtain ⟨fuel, rfl⟩ : ∃ g, fuel = g + 1 := ⟨fuel - 1, by omega⟩
    have n1 : ma ≠ ra := ne_of a1 a3 (by simp)
    obtain ⟨W1, hW1⟩ : ∃ W1, hs w ra (.inr (0, 7593, .inl (upd f (1 + j) (nI 1)))) = W1 := ⟨_, rfl⟩
    have o1 : ∀ b, b ≠ ra → W1.1 b = w.1 b := fun b hbd => by rw [← hW1, hs_ne hbd]
    have b1 : pBd W1 := by
      rw [← hW1]
      exact (pFr.hs (P := fun _ => True) (tg := fun _ => (0, 0)) hb a3 trivial).1
    have z1 : W1.2 = w.2 := by rw [← hW1, hs_2]
    obtain ⟨W, f', i1, i2, i3, i4, i5, i6⟩ := ih (j + 1) fuel W1 (upd f (1 + j) (nI 1)) (by omega) (by omega) b1 ((o1 ma n1).trans a1) (by rw [← hW1, hs_self]) (fun c => by
      by_cases hcj : c = 1 + j
      · rw [hcj, upd_self, if_pos (by omega)]
      · rw [upd_ne hcj, a4 c]
        by_cases h : 1 ≤ c ∧ c ≤ j
        · rw [if_pos h, if_pos (by omega)]
        · rw [if_neg h, if_neg (by omega)])
    refine ⟨W, f', ?_, i2, i3, fun b hbd => (i4 b hbd).trans (o1 b hbd), i5.trans z1, i6⟩
    rw [← i1]
    show bf_X2_init_1 ma (gL1 (bf_X2_init_1 ma) fuel) _ _ = _
    generalize gL1 (bf_X2_init_1 ma) fuel = KK
    unfold bf_X2_init_1
    rw [if_neg (nI_ge (by omega) (by omega)), pu_R (k := 4) a1 h4, pu_B1, pu_B1, nI_add, pu_StI a3 (by omega) (by omega), pu_B1, pu_Bd, nI_add, hW1]
/-- the engine is made -/
theorem init_0 {S H0 : Nat} {K : Nat → Nat} (k0 : S + 8 ≤ K 0) (k1 : H0 + 134 ≤ K 1) : ∃ w1 w2 fd, gNew (fun _ => none, S, H0, K) 0 = some (S, w1) ∧ f_X0_init S w1 = some ((), w2) ∧ w2.2 = (S + 8, H0 + 134, K) ∧ pBd w2 ∧ (∀ b, b < S → w2.1 b = none) ∧ w2.1 S = some (.inl (0, [ga (some (S + 1)), gi 0, ga none, ga (some (S + 2)), ga (some (S + 3)), ga (some (S + 4)), ga none])) ∧ w2.1 (S + 1) = some (.inr (1, 80, .inl (fun _ => 0))) ∧ w2.1 (S + 2) = some (.inr (3, 16, .inr (fun _ => none))) ∧ w2.1 (S + 3) = some (.inr (0, 4, .inl (fun _ => 0))) ∧ w2.1 (S + 4) = some (.inl (1, [ga (some (S + 5)), ga (some (S + 6)), ga (some (S + 7)), gi 0, ga (some S)])) ∧ w2.1 (S + 5) = some (.inr (0, 8, .inl fd)) ∧ (∀ c, c < 8 → fd c = nI 1) ∧ w2.1 (S + 6) = some (.inr (0, 8, .inl (fun _ => 0))) ∧ w2.1 (S + 7) = some (.inr (4, 6, .inr (fun _ => none))) := by
  have hb0 : pBd ((fun _ => none, S, H0, K) : gw) := fun a e h => nomatch h
  obtain ⟨W1, e1, q1, o1, z1, b1⟩ := st_new (w := ((fun _ => none, S, H0, K) : gw)) (ci := 0) (n := 7) (fs := [ga none, gi 0, ga none, ga none, ga none, ga none, ga none]) rfl (by show S + 1 ≤ K 0; omega) (by show H0 + 7 ≤ K 1; omega) hb0
  have z1' : W1.2 = (S + 1, H0 + 7, K) := z1
  have q1' : W1.1 S = some (.inl (0, [ga none, gi 0, ga none, ga none, ga none, ga none, ga none])) := q1
  obtain ⟨W2, e2, q2, c2, o2, z2, b2⟩ := in_I (t := 1) (m := 80) (k := 0) z1' q1' (by show 0 < 7; omega) b1 (by omega) (by omega) (by omega)
  obtain ⟨W3, e3, q3, c3, o3, z3, b3⟩ := in_R (t := 3) (m := 16) (k := 3) z2 q2 (by show 3 < 7; omega) b2 (by omega) (by omega) (by omega)
  obtain ⟨W4, e4, q4, c4, o4, z4, b4⟩ := in_I (t := 0) (m := 4) (k := 4) z3 q3 (by show 4 < 7; omega) b3 (by omega) (by omega) (by omega)
  have n4 : W4.2.1 = S + 1 + 1 + 1 + 1 := by rw [z4]
  have m4 : W4.2.2.1 = H0 + 7 + 80 + 16 + 4 := by rw [z4]
  have k4 : W4.2.2.2 = K := by rw [z4]
  obtain ⟨W5, e5, q5, o5, z5, b5⟩ := st_new (w := W4) (ci := 1) (n := 5) (fs := [ga none, ga none, ga none, gi 0, ga none]) rfl (by rw [n4, k4]; omega) (by rw [m4, k4]; omega) b4
  rw [n4] at e5 q5 o5
  rw [n4, m4, k4] at z5
  obtain ⟨W6, e6, q6, o6, z6, b6⟩ := st_put (k := 4) q5 (by show 4 < 5; omega) b5 (ga (some S))
  obtain ⟨W7, e7, q7, c7, o7, z7, b7⟩ := in_I (t := 0) (m := 8) (k := 0) (z6.trans z5) q6 (by show 0 < 5; omega) b6 (by omega) (by omega) (by omega)
  obtain ⟨W8, e8, q8, c8, o8, z8, b8⟩ := in_I (t := 0) (m := 8) (k := 1) z7 q7 (by show 1 < 5; omega) b7 (by omega) (by omega) (by omega)
  obtain ⟨W9, e9, q9, c9, o9, z9, b9⟩ := in_R (t := 4) (m := 6) (k := 2) z8 q8 (by show 2 < 5; omega) b8 (by omega) (by omega) (by omega)
  have hS9 : W9.1 S = some (.inl (0, [ga (some (S + 1)), gi 0, ga none, ga (some (S + 2)), ga (some (S + 3)), ga none, ga none])) := (o9 S (by omega) (by omega)).trans ((o8 S (by omega) (by omega)).trans ((o7 S (by omega) (by omega)).trans ((o6 S (by omega)).trans ((o5 S (by omega)).trans q4))))
  obtain ⟨WA, eA, qA, oA, zA, bA⟩ := st_put (k := 5) hS9 (by show 5 < 7; omega) b9 (ga (some (S + 1 + 1 + 1 + 1)))
  obtain ⟨WB, fd, eB, qB, fB, oB, zB, bB⟩ := in_loop0 (xa := S) (mo := S + 1 + 1 + 1 + 1) (du := S + 1 + 1 + 1 + 1 + 1) 8 0 20000 WA (fun _ => 0) (by omega) (by omega) bA qA ((oA _ (by omega)).trans q9) ((oA _ (by omega)).trans ((o9 _ (by omega) (by omega)).trans ((o8 _ (by omega) (by omega)).trans c7))) (fun c hc => absurd hc (by omega))
  refine ⟨W1, WB, fd, e1, ?_, zB.trans (zA.trans z9), bB, fun b hbS => ?_, (oB S (by omega)).trans qA, ?_, ?_, ?_, (oB _ (by omega)).trans ((oA _ (by omega)).trans q9), qB, fB, ?_, ?_⟩
  · rw [f_X0_init_eq, e2, e3, e4, e5, pu_B2]
    unfold f_X1_init
    rw [e6, pu_B1, e7, e8, e9, pu_B2, eA, pu_B1, eB]
  · exact (oB b (by omega)).trans ((oA b (by omega)).trans ((o9 b (by omega) (by omega)).trans ((o8 b (by omega) (by omega)).trans ((o7 b (by omega) (by omega)).trans ((o6 b (by omega)).trans ((o5 b (by omega)).trans ((o4 b (by omega) (by omega)).trans ((o3 b (by omega) (by omega)).trans ((o2 b (by omega) (by omega)).trans (o1 b (by show b ≠ S; omega)))))))))))
  · exact (oB _ (by omega)).trans ((oA _ (by omega)).trans ((o9 _ (by omega) (by omega)).trans ((o8 _ (by omega) (by omega)).trans ((o7 _ (by omega) (by omega)).trans ((o6 _ (by omega)).trans ((o5 _ (by omega)).trans ((o4 _ (by omega) (by omega)).trans ((o3 _ (by omega) (by omega)).trans c2))))))))
  · exact (oB _ (by omega)).trans ((oA _ (by omega)).trans ((o9 _ (by omega) (by omega)).trans ((o8 _ (by omega) (by omega)).trans ((o7 _ (by omega) (by omega)).trans ((o6 _ (by omega)).trans ((o5 _ (by omega)).trans ((o4 _ (by omega) (by omega)).trans c3)))))))
  · exact (oB _ (by omega)).trans ((oA _ (by omega)).trans ((o9 _ (by omega) (by omega)).trans ((o8 _ (by omega) (by omega)).trans ((o7 _ (by omega) (by omega)).trans ((o6 _ (by omega)).trans ((o5 _ (by omega)).trans c4))))))
  · exact (oB _ (by omega)).trans ((oA _ (by omega)).trans ((o9 _ (by omega) (by omega)).trans c8))
  · exact (oB _ (by omega)).trans ((oA _ (by omega)).trans c9)
