set_option maxRecDepth 100000
/-! A PARALLEL's RUN: a parallel whose quorum is reached; a look's end in all -/
theorem pf_init26 {w : gw} {ua td ia mo xa : Nat} {f0 f1 f2 f3 f4 f5 g0 b1 b2 b3 b4 b5 b6 b7 b8 b9 b10 b11 b12 b13 b14 b15 d0 d1 d2 d4 : gv} {x t : Int32} (ha : w.1 ua = some (.inl (26, [f0, f1, f2, f3, f4, f5]))) (hT : w.1 td = some (.inl (19, [g0, gi x]))) (hI : w.1 ia = some (.inl (16, [ga (some mo), b1, b2, b3, b4, b5, b6, b7, b8, b9, b10, b11, b12, b13, b14, b15]))) (hM : w.1 mo = some (.inl (1, [d0, d1, d2, gi t, d4]))) :
    f_X26_init ua (some xa) (some ia) (some td) w = some ((), hs w ua (.inl (26, [ga (some ia), ga (some td), gi x, f3, gi t, ga (some xa)]))) := by
  have n1 : td ≠ ua := ne_of hT ha (by simp)
  have n2 : ia ≠ ua := ne_of hI ha (by simp)
  have n3 : mo ≠ ua := ne_of hM ha (by simp)
  unfold f_X26_init
  simp (disch := first | assumption | omega) only [pu_B1, pu_B2, pu_Bd, pu_Nn, pu_Ns, pv_I, pv_R, pv_P, pv_LI, pv_LR, pv_SI, pv_SR, pv_O, pv_C, pvF, pvI, pvR, pvP, pvLI, pvLR, pvSI, pvSR, pvN, pvO, pvC, pv_bs, pv_ms, hs_self, hs_ne, hs_K, hs_2, List.getElem?_cons_succ, List.getElem?_cons_zero, List.set_cons_succ, List.set_cons_zero, Option.isSome_some, if_true, if_false, true_and, and_true, ↓reduceIte, ha, hT, hI, hM, hs_hs]
section PJ
variable {S : SV} {σ : TS} {xa mo ia i ver T : Nat} {bo un : Option Nat}
theorem par_join {n a ba oa l B q d r fu : Nat} {ptr ptr1 out out1 : Nat → Option Nat} {w w1 : gw} {tg tg1 : pT} {s1 : Nat → Int32} {rec : Nat → gw → Option (Option Nat × gw)} {rec2 : Int32 → Int32 → TS → Option (Int32 × TS)} (hl3 : l ≤ 4) (hnn : n < sEn S 0) (hk6 : sKd S n = 6) (hc : pCell S xa ia n a ba oa none ptr out w tg) (hall : f_X22_looksAtAll rec a w = some ((), w1)) (hW : pW S σ xa mo ia i ver T w1 tg1 s1 B bo un) (hB : B + 250 < 2 ^ 31) (hc1 : pCell S xa ia n a ba oa none ptr1 out1 w1 tg1) (hK : ∀ j, j < sCc S n → pKid S xa ia i l w1 tg1 s1 T true n ptr1 out1 j) (hst : s1 (21 + 1262 * (i) + (622 + 10 * (n) + 0)) = nI 1) (h7 : s1 (21 + 1262 * (i) + (622 + 10 * (n) + 7)) = -1) (hP : sP S n 1 = nI q) (hq : q < 100) (hd : rCount S i s1 n 2 (sCc S n) = d) (hr : rCount S i s1 n 1 (sCc S n) = r) (hqd : q ≤ d) (hfu : 1 ≤ fu) (r0 : w1.2.1 + 3 ≤ w1.2.2.2 0) (r1 : w1.2.2.1 + 32 ≤ w1.2.2.2 1) :
    ∃ w2 tg2 s2 o x, f_X22_looks rec a w = some (some o, w2) ∧ gL3 (bt_X2_looksAtParallel_1 kPar rec2) fu (nI i) (nI n) (-1) (tS σ s1) = some (x, tS σ s2) ∧ pW S σ xa mo ia i ver T w2 tg2 s2 (B + 207) bo un ∧ pFr w1 w2 tg1 tg2 (pP mo ia n (sEn S n)) ∧ pQ i n (sEn S n) s1 s2 ∧ pRk 0 i w1 w2 s1 s2 ∧ pPe i s1 s2 ∧ pOut i n w2 s2 o x (rI S xa ia i w2 tg2 s2 T true (l + 1) n a) (sEn S n) := by
  have hS : sWf S := hW.1.2.2.1
  have hNs : sEn S 0 ≤ 64 := hS.1
  have hi : i < 6 := hW.1.2.1
  have hia := hW.1.1
  have hmi := hW.mi
  have hN := hS.2.2.2.2.2 n hnn
  have hNn := hN.1.2.1
  have hl := hN.1.1
  have hn0 : n ≠ 0 := by
    have := hS.2.2.1
    rintro rfl
    omega
  obtain ⟨hcc1, hc4, -, hch⟩ := par_ch hS hnn hk6
  obtain ⟨w2, tg2, s2, out2, L1, f1, td, da, fu1, p1, p2, p3, p4, p5, p6, p7, p8, p9, p10, p11, p12, p13, p14, p15, p16, p17, p18, p19⟩ := can_all hl3 hW (by omega) hnn hk6 hc1 hK (by omega) (by omega) (nI 1)
  have q1 : w2.2.1 = w1.2.1 + 2 := by rw [p5]
  have q2 : w2.2.2.1 = w1.2.2.1 + 26 := by rw [p5]
  have q3 : w2.2.2.2 = w1.2.2.2 := by rw [p5]
  have hb2 := p4.bd
  -- the Undo
  obtain ⟨ua, hua⟩ : ∃ ua, w2.2.1 = ua := ⟨_, rfl⟩
  have e1 : gNew w2 26 = some (ua, hn w2 (.inl (26, [ga none, ga none, gi 0, gi 0, gi 0, ga none])) 6) := by
    rw [← hua]
    exact pu_New (w := w2) (ci := 26) (n := 6) (fs := [ga none, ga none, gi 0, gi 0, gi 0, ga none]) rfl (by rw [q3]; omega) (by rw [q3]; omega)
  obtain ⟨W3, hW3⟩ : ∃ W3, hn w2 (.inl (26, [ga none, ga none, gi 0, gi 0, gi 0, ga none])) 6 = W3 := ⟨_, rfl⟩
  obtain ⟨tg3, htg3⟩ : ∃ tg3, tU tg2 ua (ia, n) = tg3 := ⟨_, rfl⟩
  have d1 : W3.1 ua = some (.inl (26, [ga none, ga none, gi 0, gi 0, gi 0, ga none])) := by rw [← hW3, ← hua, hn_self]
  have d2 : ∀ b, b < ua → W3.1 b = w2.1 b := fun b h => by rw [← hW3, hn_ne (by omega)]
  have d3 : W3.2 = (w1.2.1 + 3, w1.2.2.1 + 32, w1.2.2.2) := by rw [← hW3, hn_2, q1, q2, q3]
  have hPW3 : pW S σ xa mo ia i ver T W3 tg3 s2 (B + 4) bo un := by
    rw [← hW3, ← htg3, ← hua]
    exact p4.hn _ _ _
  have hF3 : pFr w2 W3 tg2 tg3 (fun _ => False) := by
    rw [← hW3, ← htg3, ← hua]
    exact pFr.hn hb2 _ _ _
  have hta : tg3 ua = (ia, n) := by rw [← htg3, tU_self]
  obtain ⟨b1, b2, b3, b4, b5, b6⟩ := p11
  have g2 := hF3.at hb2 b2 id
  have g4 := hF3.at hb2 b4 id
  have g6 := hF3.at hb2 b6 id
  have gtd := hF3.at hb2 p15 id
  have gda := hF3.at hb2 p17 id
  have nau : a ≠ ua := by have := hb2 _ _ b2; omega
  have nbu : ba ≠ ua := by have := hb2 _ _ b4; omega
  have nou : oa ≠ ua := by have := hb2 _ _ b6; omega
  have ntu : td ≠ ua := by have := hb2 _ _ p15; omega
  have ndu : da ≠ ua := by have := hb2 _ _ p17; omega
  obtain ⟨va, fv, f1', f2, f3, f5, f6, f7, f8, f9, f10, f11, f12, f13, f14, f15, c3, -⟩ := hPW3.vars
  obtain ⟨du, fa, ins, va2, pe2, hi2, dl2, f10', f11', f12', c1, -⟩ := hPW3.cells
  have einit := pf_init26 (xa := xa) d1 gtd.1 c3 c1
  obtain ⟨W4, hW4⟩ : ∃ W4, hs W3 ua (.inl (26, [ga (some ia), ga (some td), gi (nI L1.length), gi 0, gi (nI T), ga (some xa)])) = W4 := ⟨_, rfl⟩
  rw [hW4] at einit
  have hPW4 : pW S σ xa mo ia i ver T W4 tg3 s2 (B + 4) bo un := by
    rw [← hW4]
    exact hPW3.put d1 hta (by omega)
  have hF4 : pFr W3 W4 tg3 tg3 (fun t => t = (ia, n)) := by
    rw [← hW4]
    exact pFr.hs hPW3.bd d1 hta
  have a4 : W4.1 a = some (.inl (22, [ga (some ia), ga (some xa), ga (some (sSa S n)), ga (some ba), ga (some oa), ga none, ga (some xa)])) := by rw [← hW4, hs_ne nau]; exact g2.1
  have hat : tg3 a = (ia, n) := g2.2.trans b1
  obtain ⟨W5, hW5⟩ : ∃ W5, hs W4 a (.inl (22, [ga (some ia), ga (some xa), ga (some (sSa S n)), ga (some ba), ga (some oa), ga (some ua), ga (some xa)])) = W5 := ⟨_, rfl⟩
  have hPW5 : pW S σ xa mo ia i ver T W5 tg3 s2 (B + 4) bo un := by
    rw [← hW5]
    exact hPW4.put a4 hat (by omega)
  have hF5 : pFr W4 W5 tg3 tg3 (fun t => t = (ia, n)) := by
    rw [← hW5]
    exact pFr.hs hPW4.bd a4 hat
  have hF25 : pFr w2 W5 tg2 tg3 (fun t => t = (ia, n)) := ((hF3.mono (fun _ z => absurd z id)).tr hF4).tr hF5
  have naba : a ≠ ba := ne_of b2 b4 (by simp)
  have naoa : a ≠ oa := ne_of b2 b6 (by simp)
  have natd : a ≠ td := ne_of b2 p15 (by simp)
  have nada : a ≠ da := ne_of b2 p17 (by simp)
  have h5of : ∀ b, b ≠ a → b ≠ ua → W5.1 b = W3.1 b := fun b h1 h2 => by rw [← hW5, hs_ne h1, ← hW4, hs_ne h2]
  have hc5 : pCell S xa ia n a ba oa (some ua) ptr1 out2 W5 tg3 := ⟨hat, by rw [← hW5, hs_self], g4.2.trans b3, (h5of _ naba.symm nbu).trans g4.1, g6.2.trans b5, (h5of _ naoa.symm nou).trans g6.1⟩
  have hu5 : W5.1 ua = some (.inl (26, [ga (some ia), ga (some td), gi (nI L1.length), gi 0, gi (nI T), ga (some xa)])) := by rw [← hW5, hs_ne nau.symm, ← hW4, hs_self]
  -- rows
  obtain ⟨s3, hs3⟩ : ∃ s3, upd (upd s2 (21 + 1262 * (i) + (622 + 10 * (n) + 0)) (nI 5)) (21 + 1262 * (i) + (622 + 10 * (n) + 7)) (-1) = s3 := ⟨_, rfl⟩
  have hne : ∀ j, j ≠ (21 + 1262 * (i) + (622 + 10 * (n) + 0)) → j ≠ (21 + 1262 * (i) + (622 + 10 * (n) + 7)) → s3 j = s2 j := fun j h1 h2 => by rw [← hs3, upd_ne h2, upd_ne h1]
  have h30 : s3 (21 + 1262 * (i) + (622 + 10 * (n) + 0)) = nI 5 := by rw [← hs3, upd_ne (by omega), upd_self]
  have h37 : s3 (21 + 1262 * (i) + (622 + 10 * (n) + 7)) = -1 := by rw [← hs3, upd_self]
  have hst3 : ∀ m, m ≠ n → s3 (21 + 1262 * (i) + (622 + 10 * (m) + 0)) = s2 (21 + 1262 * (i) + (622 + 10 * (m) + 0)) := fun m hm => hne _ (by omega) (by omega)
  have hPW6 : pW S σ xa mo ia i ver T W5 tg3 s3 (B + 4) bo un := hPW5.rows (fun j hj => hne j (by omega) (by omega)) (fun m hm hk => by
    have hmn : m ≠ n := by rintro rfl; omega
    rw [hne _ (by omega) (by omega), hne _ (by omega) (by omega), hne _ (by omega) (by omega)]
    exact ⟨Iff.rfl, fun _ => ⟨rfl, rfl⟩⟩)
  have hPe3 : pPe i s2 s3 := fun c hc z => (hne _ (by omega) (by omega)).trans z
  have hK3 : ∀ j, j < sCc S n → pKid S xa ia i l W5 tg3 s3 T true n ptr1 out2 j := fun j hj => by
    have hi' := sNode_in hN hj
    exact kid_fr hS hnn hk6 hj (hF25.aW hb2 (fun t ht z => by
      rw [z] at ht
      rcases ht with ht | ht
      · have := ht.2.1
        simp only at this
        omega
      · exact hia (congrArg Prod.fst ht))) hF25.2.2.1 (fun m k h1 h2 h3 => hne _ (by omega) (by omega)) hPe3 rfl (p12 j hj)
  have hst5 : ∀ j, j < sCc S n → s3 (21 + 1262 * (i) + (622 + 10 * (sCh S n j) + 0)) ≠ nI 1 := fun j hj => by
    have hi' := sNode_in hN hj
    rw [hst3 _ (by omega)]
    exact p13 j hj
  have hz : (0 : Int32) = nI 0 := by decide
  have hst : uSt S xa ia i n ua L1 L1.length 0 (nI T) W5 tg3 s3 := by
    refine ⟨⟨hta, td, da, f1, by rw [hu5, hz], gtd.2.trans p14, (h5of _ natd.symm ntu).trans gtd.1, gda.2.trans p16, (h5of _ nada.symm ndu).trans gda.1, p18⟩, ⟨Nat.le_refl _, fun k => ?_, fun j k t h1 h2 => ?_⟩, Or.inl ⟨rfl, h37⟩⟩
    · rw [p19 k]
      constructor
      · rintro ⟨j, j1, j2, k24, t, t1, t2, t3, t4, t5⟩
        have hi' := sNode_in hN j1
        refine ⟨k24, t, ⟨by omega, Or.inr ⟨j, j1, ?_, t1, t2⟩⟩, t3, ?_, ?_⟩
        · rw [hst3 _ (by omega)]
          exact j2
        · rw [hst3 _ (by omega)]
          exact t4
        · rw [hne _ (by omega) (by omega)]
          exact t5
      · rintro ⟨k24, t, ⟨t0, t1⟩, t3, t4, t5⟩
        rcases t1 with t1 | ⟨j, j1, j2, t1, t2⟩
        · exact absurd t1 hn0
        · have hi' := sNode_in hN j1
          rw [hst3 _ (by omega)] at j2 t4
          rw [hne _ (by omega) (by omega)] at t5
          exact ⟨j, j1, j2, k24, t, t1, t2, t3, t4, t5⟩
    · have : L1[j]? = none := List.getElem?_eq_none h1
      rw [this] at h2
      exact absurd h2 (by simp)
  obtain ⟨w6, s6, o, x, z1, z2, z3, z4, z5, z6, z7, z8, z8', z9⟩ := par_tail (l := l) hPW6 (by omega) hnn hk6 hc5 hK3 hst5 h30 hst (by omega)
  obtain ⟨g0, g1, ho⟩ := hW.par hnn hk6
  rw [hP] at ho
  obtain ⟨o1, o2⟩ := kid_count hW.2.1 (sCc S n) hK
  have lr := rCount_le (S := S) (i := i) (s := s1) (n := n) (x := 1) (sCc S n)
  have ld := rCount_le (S := S) (i := i) (s := s1) (n := n) (x := 2) (sCc S n)
  have hpn : ∀ t : Nat × Nat, t = (ia, n) → pP mo ia n (sEn S n) t := fun t z => pP_can hl t (Or.inl z)
  refine ⟨w6, tg3, s6, o, x, ?_, ?_, z3, ((p6.mono (pP_can hl)).tr (hF25.mono hpn)).tr z5, ?_, ?_, fun c hc z => z7 c hc (hPe3 c hc (p8 c hc z)), z9⟩
  · have hcan : f_X22_cancels a (nI 1) w1 = some ((), W5) := by
      rw [p1]
      obtain ⟨g, rfl⟩ : ∃ g, fu1 = g + 1 := ⟨fu1 - 1, by omega⟩
      have hput := pu_Put a4 (k := 5) (by show 5 < 7; omega) (ga (some ua))
      show bf_X22_cancels_1 a (gL3 (bf_X22_cancels_1 a) g) _ _ _ _ = _
      generalize gL3 (bf_X22_cancels_1 a) g = KK
      unfold bf_X22_cancels_1
      rw [pu_R (k := 3) b2 rfl, pu_B1, pu_B1, pu_Len b4, pu_B1, if_pos (nI_le (Nat.le_refl _) (by omega)), if_neg (by decide), e1, pu_B2, hW3, pu_R (k := 6) g2.1 rfl, pu_B1, pu_R (k := 0) g2.1 rfl, pu_B1, einit, pu_B2, hput, pu_B1, ← hW5]
      rfl
    obtain ⟨-, a2, -, -, -, -⟩ := hc
    obtain ⟨-, bb2, -, bb4, -, bb6⟩ := hc1
    have m1 := pf_many (v := w1.2.2.2 3) bb2 bb6 (by omega)
    rw [o2, hd] at m1
    have y1 : nI q ≤ nI d := nI_le hqd (by omega)
    unfold f_X22_looks
    rw [pu_R (k := 5) a2 rfl, pu_B1, pu_Bd, pu_Nn, pu_Ob a2, pu_B1, hall, pu_B2, pu_Ob bb2, pu_B1, m1, pu_B2, pu_R (k := 2) bb2 rfl, pu_B1, pu_B1, pu_I (k := 2) ho rfl, pu_B1, pu_Bd, if_pos y1]
    try dsimp only
    rw [pu_R (k := 2) bb2 rfl, pu_B1, pu_B1, pu_I (k := 2) ho rfl, pu_B1, if_pos y1, pu_Ob bb2, pu_B1, hcan, pu_B2]
    exact z1
  · obtain ⟨g, rfl⟩ : ∃ g, fu = g + 1 := ⟨fu - 1, by omega⟩
    have k1 := hW.np (n := n) (k := 1) hnn (by omega)
    rw [hP] at k1
    have c2 := t_bodiesIn hW hnn (x := 2) (by omega)
    have c1 := t_bodiesIn hW hnn (x := 1) (by omega)
    rw [hd] at c2
    rw [hr] at c1
    have y1 : nI q ≤ nI d := nI_le hqd (by omega)
    have y2 : nI q ≤ nI (d + r) := nI_le (by omega) (by omega)
    have e0 : ∀ w : TS, t_X2_at (nI i) (nI n) (nI 0) w = _ := fun w => pt_at w
    have e7 : ∀ w : TS, t_X2_at (nI i) (nI n) (nI 7) w = _ := fun w => pt_at w
    show bt_X2_looksAtParallel_1 kPar rec2 (gL3 (bt_X2_looksAtParallel_1 kPar rec2) g) (nI i) (nI n) (-1) (tS σ s1) = _
    generalize gL3 (bt_X2_looksAtParallel_1 kPar rec2) g = KK
    unfold bt_X2_looksAtParallel_1
    rw [if_pos (by decide), k1, pu_B2, c2, pu_B2, c1, pu_B2, nI_add, if_pos y2, if_pos y1, p3, pu_B2, e0, pu_B2, pu_st5 (by omega), pu_B1, e7, pu_B2, pu_st5 (by omega), pu_B1, hs3]
    exact z2
  · intro j h1 h2 h3
    rw [z6 j h1 h2 h3, hne j (by omega) (by omega)]
    exact p7 j h1 h2 (by omega)
  · have hp1 := pPh_le (i := i) (s := s1) (s1 := s2) (fun m hm => by
      rcases p9 m hm with z | z
      · exact Or.inl z
      · exact Or.inr (by rw [z]; decide))
    have hp2 := pPh_at (i := i) (n := n) (s := s2) (s1 := s3) (by omega) (fun m _ hm => hst3 m hm)
    have h20 : s2 (21 + 1262 * (i) + (622 + 10 * (n) + 0)) = nI 1 := by rw [p7 _ (by omega) (by omega) (by omega)]; assumption
    rw [h30, h20, if_neg (by decide), if_pos rfl, if_neg (by decide), if_neg (by decide)] at hp2
    have hp3 := pPh_le (i := i) (s := s3) (s1 := s6) (fun m hm => by
      by_cases hmn : m = n
      · refine Or.inr ?_
        rw [hmn]
        rcases z8' with y | y
        · rw [y]; decide
        · rw [y]; decide
      · exact Or.inl (z8 m hm hmn))
    have q4 : w6.2 = (w1.2.1 + 3, w1.2.2.1 + 32, w1.2.2.2) := by rw [z4, ← hW5, hs_2, ← hW4, hs_2, d3]
    have q5 : w6.2.1 = w1.2.1 + 3 := by rw [q4]
    have q6 : w6.2.2.1 = w1.2.2.1 + 32 := by rw [q4]
    constructor
    · omega
    · omega
end PJ
