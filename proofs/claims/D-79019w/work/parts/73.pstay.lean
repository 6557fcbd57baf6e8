set_option maxRecDepth 100000
/-! A PARALLEL's RUN: behind the looks, when it goes on -/
section PS
variable {S : SV} {σ : TS} {xa mo ia i ver T : Nat} {bo un : Option Nat}
theorem par_stay_f {n a ba oa q d r : Nat} {ptr ptr1 out out1 : Nat → Option Nat} {w w1 : gw} {tg tg1 : pT} {f0 f1 : gv} {rec : Nat → gw → Option (Option Nat × gw)} (hcc : sCc S n ≤ 4) (hc : pCell S xa ia n a ba oa none ptr out w tg) (hall : f_X22_looksAtAll rec a w = some ((), w1)) (hc1 : pCell S xa ia n a ba oa none ptr1 out1 w1 tg1) (ho : w1.1 (sSa S n) = some (.inl (14, [f0, f1, gi (nI q)]))) (hd : oCount out1 (w1.2.2.2 3) (sCc S n) = d) (hr : oCount out1 (w1.2.2.2 2) (sCc S n) = r) (hdq : d < q) (hqr : q ≤ d + r) (hq : q < 100) (hdr : d + r < 100) : f_X22_looks rec a w = some (some (w1.2.2.2 2), w1) := by
  obtain ⟨-, a2, -, -, -, -⟩ := hc
  obtain ⟨-, b2, -, b4, -, b6⟩ := hc1
  have m1 := pf_many (v := w1.2.2.2 3) b2 b6 (by omega)
  have m2 := pf_many (v := w1.2.2.2 2) b2 b6 (by omega)
  rw [hd] at m1
  rw [hr] at m2
  have y1 : ¬ nI q ≤ nI d := nI_ge hdq (by omega)
  have y2 : nI q ≤ nI (d + r) := nI_le hqr (by omega)
  unfold f_X22_looks
  rw [pu_R (k := 5) a2 rfl, pu_B1, pu_Bd, pu_Nn, pu_Ob a2, pu_B1, hall, pu_B2, pu_Ob b2, pu_B1, m1, pu_B2, pu_R (k := 2) b2 rfl, pu_B1, pu_B1, pu_I (k := 2) ho rfl, pu_B1, pu_Bd, if_neg y1, pu_Ob b2, pu_B1, m2, pu_B2, pu_R (k := 2) b2 rfl, pu_B1, pu_B1, pu_I (k := 2) ho rfl, pu_B1, nI_add, if_pos y2]
  try dsimp only
  rw [pu_R (k := 2) b2 rfl, pu_B1, pu_B1, pu_I (k := 2) ho rfl, pu_B1, if_neg y1]
theorem par_stay_t {n q d r B fu : Nat} {w : gw} {tg : pT} {s : Nat → Int32} {k4 : Int32 → Int32 → TS → Option (Int32 × TS)} {rec : Int32 → Int32 → TS → Option (Int32 × TS)} (hW : pW S σ xa mo ia i ver T w tg s B bo un) (hnn : n < sEn S 0) (hP : sP S n 1 = nI q) (hd : rCount S i s n 2 (sCc S n) = d) (hr : rCount S i s n 1 (sCc S n) = r) (hdq : d < q) (hqr : q ≤ d + r) (hq : q < 100) (hdr : d + r < 100) (hfu : 1 ≤ fu) : gL3 (bt_X2_looksAtParallel_1 k4 rec) fu (nI i) (nI n) (-1) (tS σ s) = some (nI 1, tS σ s) := by
  obtain ⟨g, rfl⟩ : ∃ g, fu = g + 1 := ⟨fu - 1, by omega⟩
  have k1 := hW.np (n := n) (k := 1) hnn (by omega)
  rw [hP] at k1
  have c2 := t_bodiesIn hW hnn (x := 2) (by omega)
  have c1 := t_bodiesIn hW hnn (x := 1) (by omega)
  rw [hd] at c2
  rw [hr] at c1
  have y1 : ¬ nI q ≤ nI d := nI_ge hdq (by omega)
  have y2 : nI q ≤ nI (d + r) := nI_le hqr (by omega)
  show bt_X2_looksAtParallel_1 k4 rec (gL3 (bt_X2_looksAtParallel_1 k4 rec) g) (nI i) (nI n) (-1) (tS σ s) = _
  generalize gL3 (bt_X2_looksAtParallel_1 k4 rec) g = KK
  unfold bt_X2_looksAtParallel_1
  rw [if_pos (by decide), k1, pu_B2, c2, pu_B2, c1, pu_B2, nI_add, if_pos y2, if_neg y1]
end PS
