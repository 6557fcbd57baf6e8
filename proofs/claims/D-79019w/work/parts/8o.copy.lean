set_option maxRecDepth 100000
/-! COPIES of runs -/
/-- where copies are made: the version's objects, the new instance, its moment -/
def cEnv (S : SV) (ib mb : Nat) (w : gw) (tg : pT) : Prop := pBd w ∧ sObjs S w tg ∧ (∃ fs, w.1 ib = some (.inl (16, ga (some mb) :: fs))) ∧ ∃ d0 d1 d2 t d4, w.1 mb = some (.inl (1, [d0, d1, d2, gi t, d4]))
def cpR (R : gw → pT → Nat → Prop) (w : gw) (tg : pT) (c sl : Nat) (res : Option (Option Nat × gw)) : Prop := ∃ a' w1 tg1, res = some (some a', w1) ∧ pFr w w1 tg tg1 (fun _ => False) ∧ w1.2.1 ≤ w.2.1 + c ∧ w1.2.2.1 ≤ w.2.2.1 + sl ∧ R w1 tg1 a'
theorem pFr.old {w w1 : gw} {tg tg1 : pT} (h : pFr w w1 tg tg1 (fun _ => False)) (h0 : pBd w) {a : Nat} {e : gE} (ha : w.1 a = some e) : w1.1 a = some e ∧ tg1 a = tg a := h.at h0 ha id
theorem cEnv.fr {S : SV} {ib mb : Nat} {w w1 : gw} {tg tg1 : pT} (h : cEnv S ib mb w tg) (hF : pFr w w1 tg tg1 (fun _ => False)) : cEnv S ib mb w1 tg1 := by
  obtain ⟨h0, h1, ⟨fs, h2⟩, d0, d1, d2, t, d4, h3⟩ := h
  exact ⟨hF.1, h1.fr (hF.stc h0 id), ⟨fs, (hF.old h0 h2).1⟩, d0, d1, d2, t, d4, (hF.old h0 h3).1⟩
section CP
variable {S : SV} {xa ia ib mb i : Nat} {s : Nat → Int32} {T : Nat} {q : Bool}
theorem cEnv.obj {w : gw} {tg : pT} {n : Nat} (h : cEnv S ib mb w tg) (hn : n < sEn S 0) : (sKd S n = 1 → w.1 (sSa S n) = some (.inl (9, [gi (sP S n 7), gi (sP S n 1), gi (sP S n 2), gi (sP S n 3), gi (sP S n 4)]))) ∧ (sKd S n = 2 → w.1 (sSa S n) = some (.inl (10, [gi (sP S n 7), gi (sP S n 1)]))) ∧ (sKd S n = 3 → w.1 (sSa S n) = some (.inl (11, [gi (sP S n 7), gi (sP S n 1), gi (sP S n 2)]))) ∧ (sKd S n = 4 → w.1 (sSa S n) = some (.inl (12, [gi (sP S n 7), gi (sP S n 1), gi (sP S n 2), gi (sP S n 3)]))) ∧ (sKd S n = 6 → ∃ la mc ea, w.1 (sSa S n) = some (.inl (14, [gi (sP S n 7), ga (some la), gi (sP S n 1)])) ∧ w.1 la = some (.inl (8, [mc, ga (some ea), gi (nI (sCc S n))]))) := by
  obtain ⟨-, h1⟩ := h.2.1 n hn
  rcases h1 with ⟨k, z⟩ | ⟨k, z⟩ | ⟨k, z⟩ | ⟨k, z⟩ | ⟨k, z⟩ | ⟨k, z⟩ | ⟨k, la, g, z, ⟨-, ea, cap, mc, -, z2, -⟩, -⟩
  · exact ⟨fun y => by omega, fun y => by omega, fun y => by omega, fun y => by omega, fun y => by omega⟩
  · exact ⟨fun _ => z, fun y => by omega, fun y => by omega, fun y => by omega, fun y => by omega⟩
  · exact ⟨fun y => by omega, fun _ => z, fun y => by omega, fun y => by omega, fun y => by omega⟩
  · exact ⟨fun y => by omega, fun y => by omega, fun _ => z, fun y => by omega, fun y => by omega⟩
  · exact ⟨fun y => by omega, fun y => by omega, fun y => by omega, fun _ => z, fun y => by omega⟩
  · exact ⟨fun y => by omega, fun y => by omega, fun y => by omega, fun y => by omega, fun y => by omega⟩
  · exact ⟨fun y => by omega, fun y => by omega, fun y => by omega, fun y => by omega, fun _ => ⟨la, _, ea, z, z2⟩⟩
theorem cp_leaf {rB rB1 : Nat → Nat → Prop} {w : gw} {tg : pT} {n a D : Nat} (hE : cEnv S ib mb w tg) (hnn : n < sEn S 0) (hk4 : sKd S n ≤ 4) (h : rItem S xa ia i w tg s T q rB n a) (hD : 1 ≤ D) (r0 : w.2.1 + 1 ≤ w.2.2.2 0) (r1 : w.2.2.1 + 8 ≤ w.2.2.2 1) :
    cpR (fun w1 tg1 a' => rItem S xa ib i w1 tg1 s T q rB1 n a') w tg 1 8 (f_Run_copy D a (some ib) w) := by
  obtain ⟨D, rfl⟩ : ∃ d, D = d + 1 := ⟨D - 1, by omega⟩
  obtain ⟨o1, o2, o3, o4, -⟩ := hE.obj hnn
  obtain ⟨hb, hO, ⟨fs, c2⟩, d0, d1, d2, t, d4, c1⟩ := hE
  have n1 : ib ≠ w.2.1 := by have := hb _ _ c2; omega
  have n2 : mb ≠ w.2.1 := by have := hb _ _ c1; omega
  show cpR _ w tg 1 8 (f_Run_copy_s (f_Run_copy D) a (some ib) w)
  unfold f_Run_copy_s
  rcases h with g | g | g | g | g | g
  · obtain ⟨g1, g2, g3, g4, tr, un, att, nu, g5, g6, g7, g8, g9⟩ := g
    have n3 : a ≠ w.2.1 := by have := hb _ _ g5; omega
    have e1 := pu_New (w := w) (ci := 23) (n := 8) (fs := [ga none, ga none, ga none, gi 0, gi 0, gi 0, gi 0, ga none]) rfl r0 r1
    have hgz : gZ tr = some () := by
      unfold gZ
      rcases g6 with z | z
      · rw [z, if_pos (Or.inl (by decide))]
      · rw [z, if_pos (Or.inr (by decide))]
    refine ⟨w.2.1, hn w (.inl (23, [ga (some ib), ga (some xa), ga (some (sSa S n)), gi tr, gi un, gi att, gi nu, ga (some xa)])) 8, tU tg w.2.1 (ib, n), ?_, pFr.hn hb _ _ _, Nat.le_refl _, Nat.le_refl _, Or.inl ⟨g1, g2, g3, tU_self _ _ _, tr, un, att, nu, hn_self _ _ _, g6, g7, g8, g9⟩⟩
    have a1 : ∀ e, (hn w e 8).1 ib = w.1 ib := fun e => hn_ne n1
    have a2 : ∀ e, (hn w e 8).1 mb = w.1 mb := fun e => hn_ne n2
    have a3 : ∀ e, (hn w e 8).1 a = w.1 a := fun e => hn_ne n3
    rw [pu_Cls g5, pu_B1, if_neg (by decide), if_neg (by decide), if_neg (by decide), if_neg (by decide), if_pos rfl]
    unfold f_X23_copy f_X23_init f_X17_init_c23
    simp (disch := first | assumption | omega) only [pu_B1, pu_B2, pu_Bd, pu_Nn, pu_Ns, pv_I, pv_R, pv_P, pv_LI, pv_LR, pv_SI, pv_SR, pv_O, pv_C, pvF, pvI, pvR, pvP, pvLI, pvLR, pvSI, pvSR, pvN, pvO, pvC, pv_bs, pv_ms, hs_self, hs_ne, hs_K, hs_2, List.getElem?_cons_succ, List.getElem?_cons_zero, List.set_cons_succ, List.set_cons_zero, Option.isSome_some, if_true, if_false, true_and, and_true, ↓reduceIte, e1, hn_self, a1, a2, a3, c1, c2, g5, hs_hn, hgz]
  · obtain ⟨g1, g2, g3, g4, un, g5, g6⟩ := g
    have n3 : a ≠ w.2.1 := by have := hb _ _ g5; omega
    have o := o2 g1
    have n4 : sSa S n ≠ w.2.1 := by have := hb _ _ o; omega
    have e1 := pu_New (w := w) (ci := 24) (n := 5) (fs := [ga none, ga none, ga none, gi 0, ga none]) rfl r0 (by omega)
    refine ⟨w.2.1, hn w (.inl (24, [ga (some ib), ga (some xa), ga (some (sSa S n)), gi un, ga (some xa)])) 5, tU tg w.2.1 (ib, n), ?_, pFr.hn hb _ _ _, Nat.le_refl _, by show w.2.2.1 + 5 ≤ _; omega, Or.inr (Or.inl ⟨g1, g2, g3, tU_self _ _ _, un, hn_self _ _ _, g6⟩)⟩
    have a1 : ∀ e, (hn w e 5).1 ib = w.1 ib := fun e => hn_ne n1
    have a2 : ∀ e, (hn w e 5).1 mb = w.1 mb := fun e => hn_ne n2
    have a3 : ∀ e, (hn w e 5).1 a = w.1 a := fun e => hn_ne n3
    have a4 : ∀ e, (hn w e 5).1 (sSa S n) = w.1 (sSa S n) := fun e => hn_ne n4
    rw [pu_Cls g5, pu_B1, if_neg (by decide), if_neg (by decide), if_neg (by decide), if_neg (by decide), if_neg (by decide), if_pos rfl]
    unfold f_X24_copy f_X24_init f_X17_init_c24
    simp (disch := first | assumption | omega) only [pu_B1, pu_B2, pu_Bd, pu_Nn, pu_Ns, pv_I, pv_R, pv_P, pv_LI, pv_LR, pv_SI, pv_SR, pv_O, pv_C, pvF, pvI, pvR, pvP, pvLI, pvLR, pvSI, pvSR, pvN, pvO, pvC, pv_bs, pv_ms, hs_self, hs_ne, hs_K, hs_2, List.getElem?_cons_succ, List.getElem?_cons_zero, List.set_cons_succ, List.set_cons_zero, Option.isSome_some, if_true, if_false, true_and, and_true, ↓reduceIte, e1, hn_self, a1, a2, a3, a4, o, c1, c2, g5, hs_hn]
  · obtain ⟨g1, g2, g3, g4, un, g5, g6⟩ := g
    have n3 : a ≠ w.2.1 := by have := hb _ _ g5; omega
    have o := o3 g1
    have n4 : sSa S n ≠ w.2.1 := by have := hb _ _ o; omega
    have e1 := pu_New (w := w) (ci := 21) (n := 5) (fs := [ga none, ga none, ga none, gi 0, ga none]) rfl r0 (by omega)
    refine ⟨w.2.1, hn w (.inl (21, [ga (some ib), ga (some xa), ga (some (sSa S n)), gi un, ga (some xa)])) 5, tU tg w.2.1 (ib, n), ?_, pFr.hn hb _ _ _, Nat.le_refl _, by show w.2.2.1 + 5 ≤ _; omega, Or.inr (Or.inr (Or.inl ⟨g1, g2, g3, tU_self _ _ _, un, hn_self _ _ _, g6⟩))⟩
    have a1 : ∀ e, (hn w e 5).1 ib = w.1 ib := fun e => hn_ne n1
    have a2 : ∀ e, (hn w e 5).1 mb = w.1 mb := fun e => hn_ne n2
    have a3 : ∀ e, (hn w e 5).1 a = w.1 a := fun e => hn_ne n3
    have a4 : ∀ e, (hn w e 5).1 (sSa S n) = w.1 (sSa S n) := fun e => hn_ne n4
    rw [pu_Cls g5, pu_B1, if_neg (by decide), if_neg (by decide), if_pos rfl]
    unfold f_X21_copy f_X21_init f_X17_init_c21
    by_cases hm : (0 : Int32) ≤ sP S n 2
    · simp (disch := first | assumption | omega) only [pu_B1, pu_B2, pu_Bd, pu_Nn, pu_Ns, pv_I, pv_R, pv_P, pv_LI, pv_LR, pv_SI, pv_SR, pv_O, pv_C, pvF, pvI, pvR, pvP, pvLI, pvLR, pvSI, pvSR, pvN, pvO, pvC, pv_bs, pv_ms, hs_self, hs_ne, hs_K, hs_2, List.getElem?_cons_succ, List.getElem?_cons_zero, List.set_cons_succ, List.set_cons_zero, Option.isSome_some, if_true, if_false, true_and, and_true, ↓reduceIte, e1, hn_self, a1, a2, a3, a4, o, c1, c2, g5, hs_hn, hm]
    · simp (disch := first | assumption | omega) only [pu_B1, pu_B2, pu_Bd, pu_Nn, pu_Ns, pv_I, pv_R, pv_P, pv_LI, pv_LR, pv_SI, pv_SR, pv_O, pv_C, pvF, pvI, pvR, pvP, pvLI, pvLR, pvSI, pvSR, pvN, pvO, pvC, pv_bs, pv_ms, hs_self, hs_ne, hs_K, hs_2, List.getElem?_cons_succ, List.getElem?_cons_zero, List.set_cons_succ, List.set_cons_zero, Option.isSome_some, if_true, if_false, true_and, and_true, ↓reduceIte, e1, hn_self, a1, a2, a3, a4, o, c1, c2, g5, hs_hn, hm]
  · obtain ⟨g1, g2, g3, g4, g5⟩ := g
    have n3 : a ≠ w.2.1 := by have := hb _ _ g5; omega
    have e1 := pu_New (w := w) (ci := 20) (n := 4) (fs := [ga none, ga none, ga none, ga none]) rfl r0 (by omega)
    refine ⟨w.2.1, hn w (.inl (20, [ga (some ib), ga (some xa), ga (some (sSa S n)), ga (some xa)])) 4, tU tg w.2.1 (ib, n), ?_, pFr.hn hb _ _ _, Nat.le_refl _, by show w.2.2.1 + 4 ≤ _; omega, Or.inr (Or.inr (Or.inr (Or.inl ⟨g1, g2, g3, tU_self _ _ _, hn_self _ _ _⟩)))⟩
    have a3 : ∀ e, (hn w e 4).1 a = w.1 a := fun e => hn_ne n3
    rw [pu_Cls g5, pu_B1, if_neg (by decide), if_pos rfl]
    unfold f_X20_copy f_X20_init f_X17_init_c20
    simp (disch := first | assumption | omega) only [pu_B1, pu_B2, pu_Bd, pu_Nn, pu_Ns, pv_I, pv_R, pv_P, pv_LI, pv_LR, pv_SI, pv_SR, pv_O, pv_C, pvF, pvI, pvR, pvP, pvLI, pvLR, pvSI, pvSR, pvN, pvO, pvC, pv_bs, pv_ms, hs_self, hs_ne, hs_K, hs_2, List.getElem?_cons_succ, List.getElem?_cons_zero, List.set_cons_succ, List.set_cons_zero, Option.isSome_some, if_true, if_false, true_and, and_true, ↓reduceIte, e1, hn_self, a3, g5, hs_hn]
  · exact absurd g.1 (by omega)
  · exact absurd g.1 (by omega)
/-- a list of numbers -/
theorem pf_copy19 {w : gw} {dd da : Nat} {x : Int32} {f : Nat → Int32} (h1 : w.1 dd = some (.inl (19, [ga (some da), gi x]))) (h2 : w.1 da = some (.inr (0, 24, .inl f))) (hb : pBd w) (r0 : w.2.1 + 3 ≤ w.2.2.2 0) (r1 : w.2.2.1 + 50 ≤ w.2.2.2 1) :
    ∃ w1, f_X19_copy dd w = some (some w.2.1, w1) ∧ w1.1 w.2.1 = some (.inl (19, [ga (some (w.2.1 + 2)), gi x])) ∧ w1.1 (w.2.1 + 2) = some (.inr (0, 24, .inl f)) ∧ (∀ b, b < w.2.1 → w1.1 b = w.1 b) ∧ w1.2 = (w.2.1 + 3, w.2.2.1 + 50, w.2.2.2) ∧ pBd w1 := by
  have n1 := hb _ _ h1
  have n2 := hb _ _ h2
  obtain ⟨W1, e1, q1, o1, z1, b1⟩ := st_new (w := w) (ci := 19) (n := 2) (fs := [ga none, gi 0]) rfl (by omega) (by omega) hb
  obtain ⟨W2, e2, q2, o2, z2, b2⟩ := st_newI (w := W1) (t := 0) (m := 24) (by omega) (by rw [z1]; show w.2.1 + 1 + 1 ≤ w.2.2.2 0; omega) (by rw [z1]; show w.2.2.1 + 2 + 24 ≤ w.2.2.2 1; omega) b1
  rw [z1] at e2 q2 o2 z2
  simp only at e2 q2 o2 z2
  obtain ⟨W3, e3, q3, o3, z3, b3⟩ := st_put (k := 0) ((o2 w.2.1 (by omega)).trans q1) (by show 0 < 2; omega) b2 (ga (some (w.2.1 + 1)))
  have d1 : W3.1 dd = _ := (o3 dd (by omega)).trans ((o2 dd (by omega)).trans ((o1 dd (by omega)).trans h1))
  have d2 : W3.1 da = _ := (o3 da (by omega)).trans ((o2 da (by omega)).trans ((o1 da (by omega)).trans h2))
  obtain ⟨W4, e4, q4, o4, z4, b4⟩ := st_cln d2 rfl (by rw [z3, z2]; show w.2.1 + 1 + 1 + 1 ≤ w.2.2.2 0; omega) (by rw [z3, z2]; show w.2.2.1 + 2 + 24 + 24 ≤ w.2.2.2 1; omega) b3
  rw [z3, z2] at e4 q4 o4 z4
  simp only at e4 q4 o4 z4
  have c4 := pu_CkA q4
  obtain ⟨W5, e5, q5, o5, z5, b5⟩ := st_put (k := 0) ((o4 w.2.1 (by omega)).trans q3) (by show 0 < 2; omega) b4 (ga (some (w.2.1 + 1 + 1)))
  have d5 : W5.1 dd = _ := (o5 dd (by omega)).trans ((o4 dd (by omega)).trans d1)
  obtain ⟨W6, e6, q6, o6, z6, b6⟩ := st_put (k := 1) q5 (by show 1 < 2; omega) b5 (gi x)
  refine ⟨W6, ?_, q6, ?_, fun b hbl => ?_, by rw [z6, z5, z4], b6⟩
  · unfold f_X19_copy f_X19_init
    rw [e1, pu_B2, e2, pu_B2, e3, pu_B1, pu_B2, pu_R (k := 0) d1 rfl, pu_B1, pu_B1, e4, pu_B2, c4, pu_B1, e5, pu_B1, pu_I (k := 1) d5 rfl, pu_B1, e6, pu_B1]
  · rw [o6 _ (by omega), o5 _ (by omega)]
    exact q4
  · rw [o6 b (by omega), o5 b (by omega), o4 b (by omega), o3 b (by omega), o2 b (by omega), o1 b (by omega)]
/-- a body's run -/
theorem cp_body {rI rI1 : Nat → Nat → gw → pT → Prop} {rec : Nat → Option Nat → gw → Option (Option Nat × gw)} {w : gw} {tg : pT} {b a : Nat} (hib : ib ≠ 0) (hN : sNode S b) (hE : cEnv S ib mb w tg) (h : rBody S xa ia i w tg s (fun n a => rI n a w tg) b a) (r0 : w.2.1 + 6 * (sEn S b - b) ≤ w.2.2.2 0) (r1 : w.2.2.1 + 83 * (sEn S b - b) ≤ w.2.2.2 1)
    (hfr : ∀ j a' w1 tg1, j < sCc S b → pFr w w1 tg tg1 (fun _ => False) → rI (sCh S b j) a' w tg → rI (sCh S b j) a' w1 tg1)
    (hrec : ∀ j a' w1 tg1, j < sCc S b → cEnv S ib mb w1 tg1 → rI (sCh S b j) a' w1 tg1 → w1.2.1 + 6 * (sEn S (sCh S b j) - sCh S b j) ≤ w1.2.2.2 0 → w1.2.2.1 + 83 * (sEn S (sCh S b j) - sCh S b j) ≤ w1.2.2.2 1 → cpR (fun w2 tg2 a2 => rI1 (sCh S b j) a2 w2 tg2) w1 tg1 (6 * (sEn S (sCh S b j) - sCh S b j)) (83 * (sEn S (sCh S b j) - sCh S b j)) (rec a' (some ib) w1))
    (hfr1 : ∀ j a' w1 tg1 w2 tg2, j < sCc S b → pFr w1 w2 tg1 tg2 (fun t => t = (ib, b)) → pBd w1 → rI1 (sCh S b j) a' w1 tg1 → rI1 (sCh S b j) a' w2 tg2) :
    cpR (fun w1 tg1 a' => rBody S xa ib i w1 tg1 s (fun n a => rI1 n a w1 tg1) b a') w tg (6 * (sEn S b - b)) (83 * (sEn S b - b)) (f_X18_copy rec a (some ib) w) := by
  have hl := hN.1.1
  obtain ⟨h1, idx, cur, dd, da, L, f, h2, h3, h4, h5, h6, h7, h8, h9, h10, h11, h12, h13, h14, h15, h16⟩ := h
  have hb := hE.1
  have na := hb _ _ h2
  have ndd := hb _ _ h4
  have nda := hb _ _ h6
  obtain ⟨W1, e1, q1, o1, z1, b1⟩ := st_new (w := w) (ci := 18) (n := 7) (fs := [ga none, ga none, ga none, ga none, gi 0, ga none, ga none]) rfl (by omega) (by omega) hb
  obtain ⟨W2, e2, q2, q3, q4, o2, z2, b2⟩ := pf_init18 (xa := xa) (ia := ib) (r := some (sSa S b)) q1 b1 (by rw [z1]; show w.2.1 + 1 + 2 ≤ w.2.2.2 0; omega) (by rw [z1]; show w.2.2.1 + 7 + 26 ≤ w.2.2.2 1; omega)
  rw [z1] at q2 q3 q4 o2 z2
  simp only at q2 q3 q4 o2 z2
  have oldA : ∀ c, c < w.2.1 → W2.1 c = w.1 c := fun c hc => (o2 c (by omega) (by omega)).trans (o1 c (by omega))
  obtain ⟨tgA, htA⟩ : ∃ tgA : pT, tgA = fun x => if x < w.2.1 then tg x else (ib, b) := ⟨_, rfl⟩
  have tA1 : ∀ x, x < w.2.1 → tgA x = tg x := fun x hx => by rw [htA]; exact if_pos hx
  have tA2 : ∀ x, ¬ x < w.2.1 → tgA x = (ib, b) := fun x hx => by rw [htA]; exact if_neg hx
  have hF2 : pFr w W2 tg tgA (fun _ => False) := ⟨b2, by rw [z2]; show w.2.1 ≤ w.2.1 + 1 + 2; omega, by rw [z2], tA1, fun c hc _ => oldA c hc⟩
  -- what is under way
  obtain ⟨cur', W3, tgB, e3, hF3, k3, k4, hcur⟩ : ∃ cur' W3 tgB, (gNl cur (some (none, W2)) (fun a23 => gB1 (some cur) fun r24 => gB1 r24 fun a25 => gB2 (rec a25 (some ib) W2) fun r27 w26 => some (r27, w26)) : Option (Option Nat × gw)) = some (cur', W3) ∧ pFr W2 W3 tgA tgB (fun _ => False) ∧ W3.2.1 ≤ w.2.1 + 3 + 6 * (sEn S b - b - 1) ∧ W3.2.2.1 ≤ w.2.2.1 + 33 + 83 * (sEn S b - b - 1) ∧ (match cur with | none => cur' = none | some _ => ∃ a2, cur' = some a2 ∧ rI1 (sCh S b idx) a2 W3 tgB) := by
    cases cur with
    | none =>
      refine ⟨none, W2, tgA, rfl, pFr.rf b2, by rw [z2]; show w.2.1 + 1 + 2 ≤ _; omega, by rw [z2]; show w.2.2.1 + 7 + 26 ≤ _; omega, rfl⟩
    | some a' =>
      obtain ⟨y1, y2, y3⟩ := h12
      have hi' := sNode_in hN y1
      obtain ⟨a2, W3, tgB, x1, x2, x3, x4, x5⟩ := hrec idx a' W2 tgA y1 (hE.fr hF2) (hfr idx a' W2 tgA y1 hF2 y2) (by rw [z2]; show w.2.1 + 1 + 2 + _ ≤ w.2.2.2 0; omega) (by rw [z2]; show w.2.2.1 + 7 + 26 + _ ≤ w.2.2.2 1; omega)
      rw [z2] at x3 x4
      simp only at x3 x4
      refine ⟨some a2, W3, tgB, ?_, x2, by omega, by omega, a2, rfl, x5⟩
      rw [pu_Ns, pu_B1, pu_B1, x1, pu_B2]
  have hK3 : W3.2.2.2 = w.2.2.2 := hF3.2.2.1.trans hF2.2.2.1
  have g2 := hF3.old b2 q2
  obtain ⟨W4, e4, q5, o4, z4, b4⟩ := st_put (k := 3) g2.1 (by show 3 < 7; omega) hF3.1 (ga cur')
  have ha4 : W4.1 a = _ := (o4 a (by omega)).trans ((hF3.old b2 ((oldA a na).trans h2)).1)
  obtain ⟨W5, e5, q6, o5, z5, b5⟩ := st_put (k := 4) q5 (by show 4 < 7; omega) b4 (gi (nI idx))
  have ha5 : W5.1 a = _ := (o5 a (by omega)).trans ha4
  have hdd5 : W5.1 dd = _ := (o5 dd (by omega)).trans ((o4 dd (by omega)).trans ((hF3.old b2 ((oldA dd ndd).trans h4)).1))
  have hda5 : W5.1 da = _ := (o5 da (by omega)).trans ((o4 da (by omega)).trans ((hF3.old b2 ((oldA da nda).trans h6)).1))
  have hz5 : W5.2 = W3.2 := z5.trans z4
  obtain ⟨W6, e6, q7, q8, o6, z6, b6⟩ := pf_copy19 hdd5 hda5 b5 (by rw [hz5, hK3]; omega) (by rw [hz5, hK3]; omega)
  have nw3 : w.2.1 + 3 ≤ W3.2.1 := by have := hF3.2.1; rw [z2] at this; exact this
  obtain ⟨W7, e7, q9, o7, z7, b7⟩ := st_put (k := 5) ((o6 w.2.1 (by rw [hz5]; omega)).trans q6) (by show 5 < 7; omega) b6 (ga (some W5.2.1))
  have hz7 : W7.2 = (W3.2.1 + 3, W3.2.2.1 + 50, w.2.2.2) := by rw [z7, z6, hz5, hK3]
  obtain ⟨tgC, htC⟩ : ∃ tgC : pT, tgC = fun x => if x < W3.2.1 then tgB x else (ib, b) := ⟨_, rfl⟩
  have tC1 : ∀ x, x < W3.2.1 → tgC x = tgB x := fun x hx => by rw [htC]; exact if_pos hx
  have tC2 : ∀ x, ¬ x < W3.2.1 → tgC x = (ib, b) := fun x hx => by rw [htC]; exact if_neg hx
  have tCa : tgC w.2.1 = (ib, b) := by rw [tC1 _ (by omega), g2.2]; exact tA2 _ (by omega)
  have hF7 : pFr W3 W7 tgB tgC (fun t => t = (ib, b)) := ⟨b7, by rw [hz7]; show W3.2.1 ≤ W3.2.1 + 3; omega, by rw [hz7]; exact hK3.symm, tC1, fun c hc hnp => by
    have hca : c ≠ w.2.1 := by
      rintro rfl
      exact hnp (by rw [g2.2]; exact tA2 _ (by omega))
    rw [o7 c hca, o6 c (by rw [hz5]; exact hc), o5 c hca, o4 c hca]⟩
  have hFall : pFr w W7 tg tgC (fun _ => False) := ⟨b7, by rw [hz7]; show w.2.1 ≤ W3.2.1 + 3; omega, by rw [hz7], fun x hx => (tC1 x (by omega)).trans ((hF3.2.2.2.1 x (by rw [z2]; show x < w.2.1 + 1 + 2; omega)).trans (tA1 x hx)), fun c hc _ => by
    rw [o7 c (by omega), o6 c (by rw [hz5]; omega), o5 c (by omega), o4 c (by omega), hF3.2.2.2.2 c (by rw [z2]; show c < w.2.1 + 1 + 2; omega) id, oldA c hc]⟩
  have hz53 : W5.2.1 = W3.2.1 := by rw [hz5]
  refine ⟨w.2.1, W7, tgC, ?_, hFall, by rw [hz7]; show W3.2.1 + 3 ≤ _; omega, by rw [hz7]; show W3.2.2.1 + 50 ≤ _; omega, tCa, idx, cur', W5.2.1, W5.2.1 + 2, L, f, q9, by rw [hz53]; exact tC2 _ (by omega), (o7 _ (by omega)).trans q7, by rw [hz53]; exact tC2 _ (by omega), (o7 _ (by omega)).trans q8, h7, h8, h9, h10, h11, ?_, ?_, ?_, h15, h16⟩
  · have hW1a : W1.1 a = _ := (o1 a (by omega)).trans h2
    have hW2a : W2.1 a = _ := (oldA a na).trans h2
    unfold f_X18_copy
    rw [e1, pu_B2, pu_R (k := 6) hW1a rfl, pu_B1, pu_R (k := 2) hW1a rfl, pu_B1, e2, pu_B2, pu_R (k := 3) hW2a rfl, pu_B1, pu_Bd]
    have htail : ∀ (w26 : gw) (r27 : Option Nat), w26 = W3 → r27 = cur' → (gB1 (some w.2.1) fun a12 => gB1 (gPut w26 a12 18 3 (ga r27)) fun w13 => gB1 (gI w13 a 18 4) fun x14 => gB1 (some w.2.1) fun a15 => gB1 (gPut w13 a15 18 4 (gi x14)) fun w16 => gB1 (gR w16 a 18 5) fun r17 => gB1 r17 fun a18 => gB1 (gOb w16 a18 19) fun _ => gB2 (f_X19_copy a18  w16) fun r20 w19 => gB1 (gPut w19 a15 18 5 (ga r20)) fun w21 => some ((some a15), w21)) = some (some w.2.1, W7) := by
      rintro w26 r27 rfl rfl
      rw [pu_B1, e4, pu_B1, pu_I (k := 4) ha4 rfl, pu_B1, pu_B1, e5, pu_B1, pu_R (k := 5) ha5 rfl, pu_B1, pu_B1, pu_Ob hdd5, pu_B1, e6, pu_B2, e7, pu_B1]
    cases cur with
    | none =>
      rw [pu_Nn] at e3 ⊢
      injection e3 with e3
      injection e3 with e31 e32
      exact htail W2 none e32 e31
    | some a' =>
      rw [pu_Ns, pu_B1, pu_B1] at e3
      rw [pu_Ns, pu_B1, pu_B1]
      cases hc : rec a' (some ib) W2 with
      | none => rw [hc] at e3; exact absurd e3 (by simp [gB2])
      | some rr =>
        obtain ⟨r27, w26⟩ := rr
        rw [hc, pu_B2] at e3
        injection e3 with e3
        injection e3 with e31 e32
        rw [pu_B2]
        exact htail w26 r27 e32 e31
  · cases cur with
    | none =>
      rw [show cur' = none from hcur]
      exact h12
    | some a' =>
      obtain ⟨a2, y1, y2⟩ := hcur
      rw [y1]
      exact ⟨h12.1, hfr1 idx a2 W3 tgB W7 tgC h12.1 hF7 hF3.1 y2, h12.2.2⟩
  · intro z
    obtain ⟨y1, y2⟩ := h13 z
    subst y2
    exact ⟨y1, hcur⟩
  · intro z
    obtain ⟨y1, y2, y3⟩ := h14 z
    refine ⟨?_, y2, y3⟩
    cases cur with
    | none => exact absurd rfl y1
    | some a' =>
      obtain ⟨a2, x1, x2⟩ := hcur
      rw [x1]
      simp
end CP
