set_option maxRecDepth 100000
/-! DEFINE: the call, both ends -/
section DF
variable {k xa mo T : Nat} {ias : Nat → Nat} {Ss : Nat → SV} {many : Nat → Nat} {fv : Nat → Option Nat} {fm : Nat → Int32} {wr im : Option Nat} {w : gw} {tg : pT} {σ : TS}
/-- the readers begin -/
theorem def_open (h : GRp (k + 1) xa mo ias Ss many T fv fm wr im w tg σ) : ∃ ta va vm p W1 W2 W4 tp, gR w xa 0 4 = some (some vm) ∧ w.1 vm = some (.inr (0, 4, .inl fm)) ∧ w.1 va = some (.inr (3, 16, .inr fv)) ∧ tg xa = (xa, 64) ∧ tg ta = (xa, 65) ∧ tg va = (xa, 66) ∧ tg vm = (xa, 67) ∧ (∃ ft, w.1 ta = some (.inr (1, 80, .inl ft))) ∧ w.1 xa = some (.inl (0, [ga (some ta), gi (nI p), ga wr, ga (some va), ga (some vm), ga (some mo), ga im])) ∧
    gPut w xa 0 2 (ga none) = some W1 ∧ gR W1 xa 0 3 = some (some va) ∧ gNew W1 3 = some (w.2.1, W2) ∧ gOb W2 xa 0 = some () ∧
    f_X0_read xa W2 = gB2X (f_X4_whole (w.2.1 + 1) W4) (fun q6 n7 w8 => if n7 = 6 then gB2 (gNew w8 15) fun a10 w11 => gB2 (f_X15_init a10 (some q6) w11) fun _ w12 => gB1 (gKl w12 a10) fun n13 => some (.inl (a10, n13), w12) else if n7 = 7 then gB2 (gNew w8 15) fun a14 w15 => gB2 (f_X15_init a14 (some q6) w15) fun _ w16 => gB1 (gKl w16 a14) fun n17 => some (.inl (a14, n17), w16) else none) (fun r9 w4 => some (.inr r9, w4)) ∧
    rdC xa (w.2.1 + 1) p w.2.1 w.2.2.1 ((fun _ _ => 0, fun _ _ => 0, fun _ _ => 0) : SV) tp W4 (tPut (tPut (tPut (tPut (tPut (tPut σ 12 (nI 0)) 13 (nI 1)) 14 (nI 0)) 15 (nI 0)) 16 (nI 0)) 17 (nI 0)) 0 0 0 0 0 ∧
    tF σ (tPut (tPut (tPut (tPut (tPut (tPut σ 12 (nI 0)) 13 (nI 1)) 14 (nI 0)) 15 (nI 0)) 16 (nI 0)) 17 (nI 0)) ∧
    W4.1 w.2.1 = some (.inl (3, [ga none, gi 0])) ∧ W4.1 xa = some (.inl (0, [ga (some ta), gi (nI p), ga none, ga (some va), ga (some vm), ga (some mo), ga im])) ∧ (∀ b, b < w.2.1 → b ≠ xa → W4.1 b = w.1 b) ∧ W4.2 = (w.2.1 + 2, w.2.2.1 + 6, w.2.2.2) := by
  have hx := h.1
  obtain ⟨ta, va, vm, p, ft, a1, a2, a3, a4, a5, a6, a7, a8, a9, a10, a11⟩ := hx
  have hco := h.2.2.2.1.1
  have hb := hco.1
  obtain ⟨g8, g9, -⟩ := h.2.2.2.2.2.2.2
  have hxl := hb _ _ a2
  have htl := hb _ _ a4
  have nta : ta ≠ xa := ne_of a4 a2 (by simp)
  obtain ⟨W1, e1, q1, o1, z1, b1⟩ := st_put (k := 2) a2 (by show 2 < 7; omega) hb (ga none)
  have n1 : W1.2.1 = w.2.1 := by rw [z1]
  have m1 : W1.2.2.1 = w.2.2.1 := by rw [z1]
  have k1 : W1.2.2.2 = w.2.2.2 := by rw [z1]
  obtain ⟨W2, e2, q2, o2, z2, b2⟩ := st_new (w := W1) (ci := 3) (n := 2) (fs := [ga none, gi 0]) rfl (by rw [n1, k1]; omega) (by rw [m1, k1]; omega) b1
  rw [n1, m1, k1] at z2
  rw [n1] at e2 q2 o2
  have n2 : W2.2.1 = w.2.1 + 1 := by rw [z2]
  have m2 : W2.2.2.1 = w.2.2.1 + 2 := by rw [z2]
  have k2 : W2.2.2.2 = w.2.2.2 := by rw [z2]
  obtain ⟨W3, e3, q3, o3, z3, b3⟩ := st_new (w := W2) (ci := 4) (n := 4) (fs := [gi 0, gi 0, gi 0, ga none]) rfl (by rw [n2, k2]; omega) (by rw [m2, k2]; omega) b2
  rw [n2, m2, k2] at z3
  rw [n2] at e3 q3 o3
  obtain ⟨W4, e4, q4, o4, z4, b4⟩ := st_put (k := 3) q3 (by show 3 < 4; omega) b3 (ga (some xa))
  have hxa2 : W2.1 xa = some (.inl (0, [ga (some ta), gi (nI p), ga none, ga (some va), ga (some vm), ga (some mo), ga im])) := (o2 xa (by omega)).trans q1
  have hxa4 : W4.1 xa = some (.inl (0, [ga (some ta), gi (nI p), ga none, ga (some va), ga (some vm), ga (some mo), ga im])) := (o4 xa (by omega)).trans ((o3 xa (by omega)).trans hxa2)
  have hold : ∀ b, b < w.2.1 → b ≠ xa → W4.1 b = w.1 b := fun b hb1 hb2 => (o4 b (by omega)).trans ((o3 b (by omega)).trans ((o2 b (by omega)).trans (o1 b hb2)))
  have hz4 : W4.2 = (w.2.1 + 2, w.2.2.1 + 6, w.2.2.2) := z4.trans z3
  have n4 : W4.2.1 = w.2.1 + 2 := by rw [hz4]
  have m4 : W4.2.2.1 = w.2.2.1 + 6 := by rw [hz4]
  have k4 : W4.2.2.2 = w.2.2.2 := by rw [hz4]
  have hz : (0 : Int32) = nI 0 := by decide
  refine ⟨ta, va, vm, p, W1, W2, W4, fun _ => 1000, pu_R a2 rfl, a8, a6, a1, a3, a5, a7, ⟨ft, a4⟩, a2, e1, pu_R q1 rfl, e2, pu_Ob hxa2, ?_, ?_, ?_, (o4 _ (by omega)).trans ((o3 _ (by omega)).trans q2), hxa4, hold, hz4⟩
  · unfold f_X0_read f_X4_init
    rw [e3, pu_B2, e4, pu_B1, pu_B2, pu_Ob q4, pu_B1]
  · refine ⟨⟨?_, ⟨ta, _, _, _, _, _, ft, hxa4, (hold ta htl nta).trans a4, htl, fun j hj => ?_⟩, a9, Nat.zero_le _, ?_, ?_, ?_, ?_, ?_, ?_, ?_, b4, by omega, hxl, by omega, by omega, by omega, by omega, by omega, by omega, by rw [k4]; omega, by rw [k4]; omega⟩, ⟨rfl, ⟨fun n _ hn => absurd hn (by omega), Or.inl rfl⟩, fun _ => 0, fun n hn => absurd hn (by omega), fun n m _ hn => absurd hn (by omega), fun n hn => absurd hn (by omega)⟩, by omega, by omega, ?_, Nat.le_refl _⟩
    · rw [← hz]
      exact q4
    · rw [tPut_r (by omega), tPut_r (by omega), tPut_r (by omega), tPut_r (by omega), tPut_r (by omega), tPut_r (by omega)]
      exact a11 j hj
    · rw [tPut_ne (by omega), tPut_ne (by omega), tPut_ne (by omega), tPut_ne (by omega), tPut_ne (by omega), tPut_ne (by omega), a10]
    · rw [tPut_ne (by omega), tPut_ne (by omega), tPut_ne (by omega), tPut_ne (by omega), tPut_ne (by omega), tPut_0]
    · rw [tPut_ne (by omega), tPut_ne (by omega), tPut_ne (by omega), tPut_ne (by omega), tPut_0]
    · rw [tPut_ne (by omega), tPut_ne (by omega), tPut_ne (by omega), tPut_0]
    · rw [tPut_ne (by omega), tPut_ne (by omega), tPut_0]
    · rw [tPut_ne (by omega), tPut_0]
    · rw [tPut_0]
    · obtain ⟨c1, -, c3⟩ := hco.2.1 5 (by omega) (by omega)
      rw [k4]
      refine ⟨?_, c3⟩
      rw [hold _ c3 (fun z => by rw [z, a2] at c1; cases c1)]
      exact c1
  · exact (((((tF.rf.put _ (by omega)).put _ (by omega)).put _ (by omega)).put _ (by omega)).put _ (by omega)).put _ (by omega)
end DF
