set_option maxRecDepth 100000
/-! BEGINS: a choice's body, a parallel -/
theorem pf_init18 {w : gw} {a xa ia : Nat} {r : Option Nat} {f0 f1 f2 f3 f4 f5 f6 : gv} (ha : w.1 a = some (.inl (18, [f0, f1, f2, f3, f4, f5, f6]))) (hb : pBd w) (r0 : w.2.1 + 2 ≤ w.2.2.2 0) (r1 : w.2.2.1 + 26 ≤ w.2.2.2 1) :
    ∃ w1, f_X18_init a (some xa) (some ia) r w = some ((), w1) ∧ w1.1 a = some (.inl (18, [ga (some ia), ga (some xa), ga r, f3, f4, ga (some w.2.1), ga (some xa)])) ∧ w1.1 w.2.1 = some (.inl (19, [ga (some (w.2.1 + 1)), gi (nI 0)])) ∧ w1.1 (w.2.1 + 1) = some (.inr (0, 24, .inl (fun _ => 0))) ∧
      (∀ b, b ≠ a → b < w.2.1 → w1.1 b = w.1 b) ∧ w1.2 = (w.2.1 + 2, w.2.2.1 + 26, w.2.2.2) ∧ pBd w1 := by
  have hal := hb _ _ ha
  obtain ⟨W1, hW1⟩ : ∃ W1, hs w a (.inl (18, [ga (some ia), ga (some xa), f2, f3, f4, f5, ga (some xa)])) = W1 := ⟨_, rfl⟩
  have hW12 : W1.2 = w.2 := by rw [← hW1]; rfl
  have b1 : W1.2.1 = w.2.1 := by rw [hW12]
  have e1 : gNew W1 19 = some (w.2.1, hn W1 (.inl (19, [ga none, gi 0])) 2) := by
    have := pu_New (w := W1) (ci := 19) (n := 2) (fs := [ga none, gi 0]) rfl (by rw [hW12]; omega) (by rw [hW12]; omega)
    rw [b1] at this
    exact this
  obtain ⟨W2, hW2⟩ : ∃ W2, hn W1 (.inl (19, [ga none, gi 0])) 2 = W2 := ⟨_, rfl⟩
  have hW22 : W2.2 = (w.2.1 + 1, w.2.2.1 + 2, w.2.2.2) := by rw [← hW2, hn_2, hW12]
  have b2 : W2.2.1 = w.2.1 + 1 := by rw [hW22]
  have e2 : gNewI W2 0 (nI 24) = some (w.2.1 + 1, hn W2 (.inr (0, 24, .inl (fun _ => 0))) 24) := by
    have := pu_NewI (w := W2) (t := 0) (n := 24) (by decide) (by rw [hW22]; show w.2.1 + 1 + 1 ≤ w.2.2.2 0; omega) (by rw [hW22]; show w.2.2.1 + 2 + 24 ≤ w.2.2.2 1; omega)
    rw [b2] at this
    exact this
  obtain ⟨W3, hW3⟩ : ∃ W3, hn W2 (.inr (0, 24, .inl (fun _ => 0))) 24 = W3 := ⟨_, rfl⟩
  have c1 : W1.1 a = some (.inl (18, [ga (some ia), ga (some xa), f2, f3, f4, f5, ga (some xa)])) := by rw [← hW1, hs_self]
  have c2 : W3.1 w.2.1 = some (.inl (19, [ga none, gi 0])) := by
    rw [← hW3, hn_ne (by rw [b2]; omega), ← hW2, ← b1]
    exact hn_self _ _ _
  have c3 : W3.1 a = some (.inl (18, [ga (some ia), ga (some xa), f2, f3, f4, f5, ga (some xa)])) := by
    rw [← hW3, hn_ne (by rw [b2]; omega), ← hW2, hn_ne (by rw [b1]; omega)]
    exact c1
  have c4 : W3.1 (w.2.1 + 1) = some (.inr (0, 24, .inl (fun _ => 0))) := by
    rw [← hW3, ← b2]
    exact hn_self _ _ _
  have c5 : ∀ b, b ≠ a → b < w.2.1 → W3.1 b = w.1 b := fun b h1 h2 => by
    rw [← hW3, hn_ne (by rw [b2]; omega), ← hW2, hn_ne (by rw [b1]; omega), ← hW1, hs_ne h1]
  have hz : (0 : Int32) = nI 0 := by decide
  have n1 : a ≠ w.2.1 := by omega
  have c6 : W3.2 = (w.2.1 + 2, w.2.2.1 + 26, w.2.2.2) := by rw [← hW3, hn_2, hW22]
  refine ⟨hs (hs W3 w.2.1 (.inl (19, [ga (some (w.2.1 + 1)), gi (nI 0)]))) a (.inl (18, [ga (some ia), ga (some xa), ga r, f3, f4, ga (some w.2.1), ga (some xa)])), ?_, hs_self _ _ _, (hs_ne n1.symm).trans (hs_self _ _ _), (hs_ne (by omega)).trans ((hs_ne (by omega)).trans c4), fun b h1 h2 => (hs_ne h1).trans ((hs_ne (by omega)).trans (c5 b h1 h2)), c6, ?_⟩
  · unfold f_X18_init f_X17_init_c18 f_X19_init
    simp (disch := first | assumption | omega) only [pu_B1, pu_B2, pu_Bd, pu_Nn, pu_Ns, pv_I, pv_R, pv_P, pv_LI, pv_LR, pv_SI, pv_SR, pv_O, pv_C, pvF, pvI, pvR, pvP, pvLI, pvLR, pvSI, pvSR, pvN, pvO, pvC, pv_bs, pv_ms, hs_self, hs_ne, hs_K, hs_2, List.getElem?_cons_succ, List.getElem?_cons_zero, List.set_cons_succ, List.set_cons_zero, Option.isSome_some, if_true, if_false, true_and, and_true, ↓reduceIte, ha, hs_hs, hW1]
    rw [← hz]
    simp (disch := first | assumption | omega) only [pu_B1, pu_B2, pu_Bd, pu_Nn, pu_Ns, pv_I, pv_R, pv_P, pv_LI, pv_LR, pv_SI, pv_SR, pv_O, pv_C, pvF, pvI, pvR, pvP, pvLI, pvLR, pvSI, pvSR, pvN, pvO, pvC, pv_bs, pv_ms, hs_self, hs_ne, hs_K, hs_2, List.getElem?_cons_succ, List.getElem?_cons_zero, List.set_cons_succ, List.set_cons_zero, Option.isSome_some, if_true, if_false, true_and, and_true, ↓reduceIte, e1, hW2, e2, hW3, c2, c3, hs_hs]
  · have h1 : pBd W1 := by rw [← hW1]; exact (pFr.hs (P := fun _ => True) (tg := fun _ => (0, 0)) hb ha trivial).1
    have h2 : pBd W2 := by rw [← hW2]; exact (pFr.hn (P := fun _ => True) (tg := fun _ => (0, 0)) h1 _ _ (0, 0)).1
    have h3 : pBd W3 := by rw [← hW3]; exact (pFr.hn (P := fun _ => True) (tg := fun _ => (0, 0)) h2 _ _ (0, 0)).1
    have h4 := (pFr.hs (P := fun _ => True) (tg := fun _ => (0, 0)) (e := .inl (19, [ga (some (w.2.1 + 1)), gi (nI 0)])) h3 c2 trivial).1
    exact (pFr.hs (P := fun _ => True) (tg := fun _ => (0, 0)) h4 ((hs_ne n1).trans c3) trivial).1
section BG
variable {S : SV} {σ : TS} {xa mo ia i ver T : Nat} {bo un : Option Nat}
theorem sim_begins : simBg S σ xa mo ia i ver T bo un := by
  intro n w tg s B hn' hk hW hun r0 r1
  have hS : sWf S := hW.1.2.2.1
  have hNs : sEn S 0 ≤ 64 := hS.1
  have hN := hS.2.2.2.2.2 n hn'
  have hb := hW.bd
  have hk6 : sKd S n ≤ 6 := by
    rcases hN.2 with z | z | z | z | z | z | z <;> omega
  obtain ⟨va, fv, f1, f2, f3, f5, f6, f7, f8, f9, f10, f11, f12, f13, f14, f15, c2, c3, c4, c5, -⟩ := hW.vars
  obtain ⟨du, fa, ins, va', pe', hi', dl', f10', f11', f12', d1, d2, -⟩ := hW.cells
  have hf15 : f15 = ga (some xa) := by
    have h1 := pu_F c2 15
    rw [pu_F d2 15] at h1
    exact (Option.some.inj h1).symm
  subst hf15
  have nia : ia < w.2.1 := hb _ _ c2
  have nva : va < w.2.1 := hb _ _ c4
  by_cases hk4 : sKd S n ≤ 4
  · obtain ⟨a, w1, tg1, p1, p2, p3, p4, p5, p6⟩ := leaf_begins hW hn' (by omega) hk4 (by omega) (by omega)
    exact ⟨a, w1, tg1, p1, p2, p3, by omega, by omega, Or.inl ⟨by omega, hk4, p6⟩⟩
  · obtain ⟨o1, o2⟩ := hW.2.2.1 n hn'
    rcases (show sKd S n = 5 ∨ sKd S n = 6 by omega) with hk | hk
    · -- a choice
      obtain ⟨hcc, ⟨c, hc4, hc⟩, hch⟩ := choice_ch hS hn' hk
      have o3 : w.1 (sSa S n) = some (.inl (13, [gi (sP S n 7), gi (sP S n 1), gi (sP S n 2), ga (some (sSa S (sCh S n 0))), ga (some (sSa S (sCh S n 1)))])) := by
        rcases o2 with z | z | z | z | z | z | z
        · omega
        · omega
        · omega
        · omega
        · omega
        · exact z.2
        · omega
      have no : sSa S n < w.2.1 := hb _ _ o3
      obtain ⟨j, hj, hsel⟩ : ∃ j, j < 2 ∧ (s (21 + 1262 * (i) + (10 + c)) < sP S n 2 ∧ j = 0 ∨ ¬ s (21 + 1262 * (i) + (10 + c)) < sP S n 2 ∧ j = 1) := by
        by_cases h : s (21 + 1262 * (i) + (10 + c)) < sP S n 2
        · exact ⟨0, by omega, Or.inl ⟨h, rfl⟩⟩
        · exact ⟨1, by omega, Or.inr ⟨h, rfl⟩⟩
      have e1 := pu_New (w := w) (ci := 18) (n := 7) (fs := [ga none, ga none, ga none, ga none, gi 0, ga none, ga none]) rfl (by omega) (by omega)
      obtain ⟨W1, hW1⟩ : ∃ W1, hn w (.inl (18, [ga none, ga none, ga none, ga none, gi 0, ga none, ga none])) 7 = W1 := ⟨_, rfl⟩
      have g1 : W1.1 w.2.1 = some (.inl (18, [ga none, ga none, ga none, ga none, gi 0, ga none, ga none])) := by rw [← hW1, hn_self]
      have g2 : ∀ b, b < w.2.1 → W1.1 b = w.1 b := fun b h => by rw [← hW1, hn_ne (by omega)]
      have g3 : W1.2 = (w.2.1 + 1, w.2.2.1 + 7, w.2.2.2) := by rw [← hW1, hn_2]
      have g4 : pBd W1 := by rw [← hW1]; exact (pFr.hn (P := fun _ => True) (tg := fun _ => (0, 0)) hb _ _ (0, 0)).1
      obtain ⟨w1, p1, p2, p3, p4, p5, p6, p7⟩ := pf_init18 (xa := xa) (ia := ia) (r := some (sSa S (sCh S n j))) g1 g4 (by rw [g3]; show w.2.1 + 1 + 2 ≤ w.2.2.2 0; omega) (by rw [g3]; show w.2.2.1 + 7 + 26 ≤ w.2.2.2 1; omega)
      have g5 : W1.2.1 = w.2.1 + 1 := by rw [g3]
      rw [g5] at p2 p3 p4 p5
      have p6' : w1.2 = (w.2.1 + 3, w.2.2.1 + 33, w.2.2.2) := by rw [p6, g3]
      have hfr : pFr w w1 tg (fun a => if a < w.2.1 then tg a else (ia, sCh S n j)) (fun _ => False) := ⟨p7, by rw [p6']; show w.2.1 ≤ w.2.1 + 3; omega, by rw [p6'], fun a ha => if_pos ha, fun a ha _ => (p5 a (by omega) (by omega)).trans (g2 a ha)⟩
      refine ⟨w.2.1, w1, _, ?_, hW.fr hfr id (fun _ => id) (fun _ _ => id), hfr, by rw [p6']; show w.2.1 + 3 ≤ _; omega, by rw [p6']; show w.2.2.1 + 33 ≤ _; omega, Or.inr (Or.inl ⟨hk, j, c, hj, hc4, hc, hsel, if_neg (by omega), w.2.1 + 1, w.2.1 + 1 + 1, fun _ => 0, ?_, if_neg (by omega), p3, if_neg (by omega), p4⟩)⟩
      · have a1 : W1.1 ia = some (.inl (16, [ga (some mo), f1, f2, f3, ga (some va), f5, f6, f7, f8, f9, f10, f11, f12, f13, f14, ga (some xa)])) := (g2 _ nia).trans c2
        have a2 : W1.1 va = some (.inr (0, 4, .inl fv)) := (g2 _ nva).trans c4
        have a3 : W1.1 (sSa S n) = some (.inl (13, [gi (sP S n 7), gi (sP S n 1), gi (sP S n 2), ga (some (sSa S (sCh S n 0))), ga (some (sSa S (sCh S n 1)))])) := (g2 _ no).trans o3
        have a4 := c5 c hc4
        unfold f_Node_begins
        rw [pu_Cls o3, pu_B1, if_neg (by decide), if_neg (by decide), if_neg (by decide), if_neg (by decide), if_pos rfl]
        unfold f_X13_begins f_X16_engine f_J8_requireNonNull
        rcases hsel with ⟨h1, rfl⟩ | ⟨h1, rfl⟩
        · have h2 : ¬ sP S n 2 ≤ s (21 + 1262 * (i) + (10 + c)) := Int32.not_le.mpr h1
          simp (disch := first | assumption | omega) only [pu_B1, pu_B2, pu_Bd, pu_Nn, pu_Ns, pv_I, pv_R, pv_P, pv_LI, pv_LR, pv_SI, pv_SR, pv_O, pv_C, pvF, pvI, pvR, pvP, pvLI, pvLR, pvSI, pvSR, pvN, pvO, pvC, pv_bs, pv_ms, hs_self, hs_ne, hs_K, hs_2, List.getElem?_cons_succ, List.getElem?_cons_zero, List.set_cons_succ, List.set_cons_zero, Option.isSome_some, if_true, if_false, true_and, and_true, ↓reduceIte, e1, hW1, a1, a2, a3, a4, hc, pu_gIx, h2, p1]
        · have h2 : sP S n 2 ≤ s (21 + 1262 * (i) + (10 + c)) := Int32.not_lt.mp h1
          simp (disch := first | assumption | omega) only [pu_B1, pu_B2, pu_Bd, pu_Nn, pu_Ns, pv_I, pv_R, pv_P, pv_LI, pv_LR, pv_SI, pv_SR, pv_O, pv_C, pvF, pvI, pvR, pvP, pvLI, pvLR, pvSI, pvSR, pvN, pvO, pvC, pv_bs, pv_ms, hs_self, hs_ne, hs_K, hs_2, List.getElem?_cons_succ, List.getElem?_cons_zero, List.set_cons_succ, List.set_cons_zero, Option.isSome_some, if_true, if_false, true_and, and_true, ↓reduceIte, e1, hW1, a1, a2, a3, a4, hc, pu_gIx, h2, p1]
      · rw [p2, show (0 : Int32) = nI 0 by decide]
    · -- a parallel
      obtain ⟨hcc1, hcc4⟩ : 1 ≤ sCc S n ∧ sCc S n ≤ 4 := by
        rcases hN.2 with z | z | z | z | z | z | z
        · omega
        · omega
        · omega
        · omega
        · omega
        · omega
        · exact ⟨z.2.1, z.2.2.1⟩
      obtain ⟨la, g, o3, ⟨-, ea, cap, mc, -, o4, o5, o6, o7⟩, -⟩ : ∃ la g, w.1 (sSa S n) = some (.inl (14, [gi (sP S n 7), ga (some la), gi (sP S n 1)])) ∧ pListS w tg la (sCc S n) g ∧ ∀ j, j < sCc S n → g j = some (sSa S (sCh S n j)) := by
        rcases o2 with z | z | z | z | z | z | z
        · omega
        · omega
        · omega
        · omega
        · omega
        · omega
        · exact z.2
      have no : sSa S n < w.2.1 := hb _ _ o3
      have nla : la < w.2.1 := hb _ _ o4
      have e1 := pu_New (w := w) (ci := 22) (n := 7) (fs := [ga none, ga none, ga none, ga none, ga none, ga none, ga none]) rfl (by omega) (by omega)
      obtain ⟨W1, hW1⟩ : ∃ W1, hn w (.inl (22, [ga (some ia), ga (some xa), ga (some (sSa S n)), ga none, ga none, ga none, ga (some xa)])) 7 = W1 := ⟨_, rfl⟩
      have g3 : W1.2 = (w.2.1 + 1, w.2.2.1 + 7, w.2.2.2) := by rw [← hW1, hn_2]
      have g1 : W1.1 w.2.1 = some (.inl (22, [ga (some ia), ga (some xa), ga (some (sSa S n)), ga none, ga none, ga none, ga (some xa)])) := by rw [← hW1, hn_self]
      have g2 : ∀ b, b < w.2.1 → W1.1 b = w.1 b := fun b h => by rw [← hW1, hn_ne (by omega)]
      have e2 := pu_NewR (w := W1) (t := 5) (n := sCc S n) (by omega) (by rw [g3]; show w.2.1 + 1 + 1 ≤ w.2.2.2 0; omega) (by rw [g3]; show w.2.2.1 + 7 + sCc S n ≤ w.2.2.2 1; omega)
      rw [show W1.2.1 = w.2.1 + 1 by rw [g3]] at e2
      obtain ⟨W2, hW2⟩ : ∃ W2, hs (hn W1 (.inr (5, sCc S n, .inr (fun _ => none))) (sCc S n)) w.2.1 (.inl (22, [ga (some ia), ga (some xa), ga (some (sSa S n)), ga (some (w.2.1 + 1)), ga none, ga none, ga (some xa)])) = W2 := ⟨_, rfl⟩
      have g4 : W2.2 = (w.2.1 + 2, w.2.2.1 + 7 + sCc S n, w.2.2.2) := by rw [← hW2, hs_2, hn_2, g3]
      have g5 : W2.1 w.2.1 = some (.inl (22, [ga (some ia), ga (some xa), ga (some (sSa S n)), ga (some (w.2.1 + 1)), ga none, ga none, ga (some xa)])) := by rw [← hW2, hs_self]
      have g6 : W2.1 (w.2.1 + 1) = some (.inr (5, sCc S n, .inr (fun _ => none))) := by
        rw [← hW2, hs_ne (by omega), show w.2.1 + 1 = W1.2.1 by rw [g3]]
        exact hn_self _ _ _
      have g7 : ∀ b, b < w.2.1 → W2.1 b = w.1 b := fun b h => by rw [← hW2, hs_ne (by omega), hn_ne (by rw [g3]; show b ≠ w.2.1 + 1; omega), g2 b h]
      have e3 := pu_NewR (w := W2) (t := 6) (n := sCc S n) (by omega) (by rw [g4]; show w.2.1 + 2 + 1 ≤ w.2.2.2 0; omega) (by rw [g4]; show w.2.2.1 + 7 + sCc S n + sCc S n ≤ w.2.2.2 1; omega)
      rw [show W2.2.1 = w.2.1 + 2 by rw [g4]] at e3
      obtain ⟨w1, hw1⟩ : ∃ w1, hs (hn W2 (.inr (6, sCc S n, .inr (fun _ => none))) (sCc S n)) w.2.1 (.inl (22, [ga (some ia), ga (some xa), ga (some (sSa S n)), ga (some (w.2.1 + 1)), ga (some (w.2.1 + 2)), ga none, ga (some xa)])) = w1 := ⟨_, rfl⟩
      have q1 : w1.2 = (w.2.1 + 3, w.2.2.1 + 7 + sCc S n + sCc S n, w.2.2.2) := by rw [← hw1, hs_2, hn_2, g4]
      have q2 : w1.1 w.2.1 = some (.inl (22, [ga (some ia), ga (some xa), ga (some (sSa S n)), ga (some (w.2.1 + 1)), ga (some (w.2.1 + 2)), ga none, ga (some xa)])) := by rw [← hw1, hs_self]
      have q3 : w1.1 (w.2.1 + 1) = some (.inr (5, sCc S n, .inr (fun _ => none))) := by rw [← hw1, hs_ne (by omega), hn_ne (by rw [g4]; show w.2.1 + 1 ≠ w.2.1 + 2; omega), g6]
      have q4 : w1.1 (w.2.1 + 2) = some (.inr (6, sCc S n, .inr (fun _ => none))) := by
        rw [← hw1, hs_ne (by omega), show w.2.1 + 2 = W2.2.1 by rw [g4]]
        exact hn_self _ _ _
      have q5 : ∀ b, b < w.2.1 → w1.1 b = w.1 b := fun b h => by rw [← hw1, hs_ne (by omega), hn_ne (by rw [g4]; show b ≠ w.2.1 + 2; omega), g7 b h]
      have q6 : pBd w1 := by
        intro b e he
        rw [q1]
        show b < w.2.1 + 3
        by_cases h : b < w.2.1 + 3
        · exact h
        · exfalso
          rw [← hw1, hs_ne (by omega), hn_ne (by rw [g4]; show b ≠ w.2.1 + 2; omega), ← hW2, hs_ne (by omega), hn_ne (by rw [g3]; show b ≠ w.2.1 + 1; omega), ← hW1, hn_ne (by omega)] at he
          have := hb _ _ he
          omega
      have hfr : pFr w w1 tg (fun a => if a < w.2.1 then tg a else (ia, n)) (fun _ => False) := ⟨q6, by rw [q1]; show w.2.1 ≤ w.2.1 + 3; omega, by rw [q1], fun a ha => if_pos ha, fun a ha _ => q5 a ha⟩
      refine ⟨w.2.1, w1, _, ?_, hW.fr hfr id (fun _ => id) (fun _ _ => id), hfr, by rw [q1]; show w.2.1 + 3 ≤ _; omega, by rw [q1]; show w.2.2.1 + 7 + sCc S n + sCc S n ≤ _; omega, Or.inr (Or.inr ⟨hk, if_neg (by omega), w.2.1 + 1, w.2.1 + 2, q2, if_neg (by omega), q3, if_neg (by omega), q4⟩)⟩
      have a1 : ∀ e, (hn w e 7).1 ia = w.1 ia := fun e => hn_ne (by omega)
      have a2 : W1.1 (sSa S n) = some (.inl (14, [gi (sP S n 7), ga (some la), gi (sP S n 1)])) := (g2 _ no).trans o3
      have a3 : W1.1 la = some (.inl (8, [gi mc, ga (some ea), gi (nI (sCc S n))])) := (g2 _ nla).trans o4
      have a4 : (hn W1 (.inr (5, sCc S n, .inr (fun _ => none))) (sCc S n)).1 w.2.1 = some (.inl (22, [ga (some ia), ga (some xa), ga (some (sSa S n)), ga none, ga none, ga none, ga (some xa)])) := (hn_ne (by rw [g3]; show w.2.1 ≠ w.2.1 + 1; omega)).trans g1
      have a5 : (hn W2 (.inr (6, sCc S n, .inr (fun _ => none))) (sCc S n)).1 w.2.1 = some (.inl (22, [ga (some ia), ga (some xa), ga (some (sSa S n)), ga (some (w.2.1 + 1)), ga none, ga none, ga (some xa)])) := (hn_ne (by rw [g4]; show w.2.1 ≠ w.2.1 + 2; omega)).trans g5
      have a6 := pf_size a3
      have a7 : gLen W2 (w.2.1 + 1) 5 = some (nI (sCc S n)) := pu_Len g6
      unfold f_Node_begins
      rw [pu_Cls o3, pu_B1, if_neg (by decide), if_neg (by decide), if_neg (by decide), if_neg (by decide), if_neg (by decide), if_pos rfl]
      unfold f_X14_begins f_X16_engine f_J8_requireNonNull f_X22_init f_X17_init_c22
      simp (disch := first | assumption | omega) only [pu_B1, pu_B2, pu_Bd, pu_Nn, pu_Ns, pv_I, pv_R, pv_P, pv_LI, pv_LR, pv_SI, pv_SR, pv_O, pv_C, pvF, pvI, pvR, pvP, pvLI, pvLR, pvSI, pvSR, pvN, pvO, pvC, pv_bs, pv_ms, hs_self, hs_ne, hs_K, hs_2, List.getElem?_cons_succ, List.getElem?_cons_zero, List.set_cons_succ, List.set_cons_zero, Option.isSome_some, if_true, if_false, true_and, and_true, ↓reduceIte, e1, hn_self, a1, c2, hs_hn, hW1]
      simp (disch := first | assumption | omega) only [pu_B1, pu_B2, pu_Bd, pu_Nn, pu_Ns, pv_I, pv_R, pv_P, pv_LI, pv_LR, pv_SI, pv_SR, pv_O, pv_C, pvF, pvI, pvR, pvP, pvLI, pvLR, pvSI, pvSR, pvN, pvO, pvC, pv_bs, pv_ms, hs_self, hs_ne, hs_K, hs_2, List.getElem?_cons_succ, List.getElem?_cons_zero, List.set_cons_succ, List.set_cons_zero, Option.isSome_some, if_true, if_false, true_and, and_true, ↓reduceIte, a2, a3, a6, e2, a4, hW2, g5, a7, e3, a5, hw1]
end BG
