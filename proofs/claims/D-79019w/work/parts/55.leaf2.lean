set_option maxRecDepth 100000
/-! THE LEAVES: looks of a signal, an assignment, a task -/
section L2
variable {S : SV} {σ : TS} {xa mo ia i ver T : Nat} {w : gw} {tg : pT} {s : Nat → Int32} {B : Nat} {bo un : Option Nat}
theorem assign_looks {n a l : Nat} (h : pW S σ xa mo ia i ver T w tg s B bo un) (hB : B + 128 < 2 ^ 31) (hn : n < sEn S 0) (hk : sKd S n = 4) (hst : s (21 + 1262 * (i) + (622 + 10 * (n) + 0)) = nI 1) (h7 : s (21 + 1262 * (i) + (622 + 10 * (n) + 7)) = -1) (hta : tg a = (ia, n)) (ha : w.1 a = some (.inl (20, [ga (some ia), ga (some xa), ga (some (sSa S n)), ga (some xa)]))) {D : Nat} {rec : Int32 → Int32 → TS → Option (Int32 × TS)} (hD : 1 ≤ D) :
    pRes 0 S σ xa mo ia i ver T l n a w tg s B bo un (f_Run_looks D a w) (t_X2_looks rec (nI i) (nI n) (tS σ s)) := by
  obtain ⟨⟨hia, hi, hS, hσ⟩, -⟩ := id h
  have hNs : sEn S 0 ≤ 64 := hS.1
  have hen := leaf_en hS hn (by omega) (by omega)
  obtain ⟨D, rfl⟩ : ∃ d, D = d + 1 := ⟨D - 1, by omega⟩
  obtain ⟨va, fv, f1, f2, f3, f5, f6, f7, f8, f9, f10, f11, f12, f13, f14, f15, c2, c3, c4, c5, c6⟩ := h.vars
  have hE := h.2.2.2.2.2.2
  obtain ⟨⟨cc, hcc, hc⟩, hadd⟩ : (∃ c, c < 4 ∧ sP S n 1 = nI c) ∧ (sP S n 2 = nI 0 ∨ sP S n 2 = nI 1) := by
    rcases (hS.2.2.2.2.2 n hn).2 with z | z | z | z | z | z | z
    · omega
    · omega
    · omega
    · omega
    · exact z.2.2
    all_goals omega
  have q1 := c5 cc hcc
  have o3 := (h.obj hn).2.2.2.1 hk
  have k0 : t_X2_nodePart (nI i) (nI n) (nI 0) (tS σ s) = some (nI 4, tS σ s) := by rw [h.np hn (by omega), (hS.2.2.2.2.2 n hn).1.2.2.1, hk]
  have k1 : t_X2_nodePart (nI i) (nI n) (nI 1) (tS σ s) = some (nI cc, tS σ s) := by rw [h.np hn (by omega), hc]
  have k2 : t_X2_nodePart (nI i) (nI n) (nI 2) (tS σ s) = some (sP S n 2, tS σ s) := h.np hn (by omega)
  have k3 : t_X2_nodePart (nI i) (nI n) (nI 3) (tS σ s) = some (sP S n 3, tS σ s) := h.np hn (by omega)
  have eof : ∀ w : TS, t_X2_of (nI i) (nI (10 + cc)) w = _ := fun w => pt_of w
  have hf : f_Run_looks (D + 1) a w = f_X20_looks a w := by
    show f_Run_looks_s (f_Run_looks D) a w = _
    unfold f_Run_looks_s
    rw [pu_Cls ha, pu_B1, if_neg (by decide), if_pos rfl]
  have x1 : ¬ nI 4 = nI 1 := by decide
  have x2 : ¬ nI 4 = nI 2 := by decide
  have x3 : ¬ nI 4 = nI 3 := by decide
  have ht : t_X2_looks rec (nI i) (nI n) (tS σ s) = t_X2_sets (nI i) (nI n) (tS σ s) := by
    unfold t_X2_looks
    simp only [pu_B1, pu_B2, pu_Bd, nI_add, pu_mul, pu_ld5, pu_st5, pu_ld1, pu_ld3, k0, x1, x2, x3, if_true, if_false]
    cases t_X2_sets (nI i) (nI n) (tS σ s) with
    | none => rfl
    | some q => rfl
  rw [hf, ht]
  obtain ⟨nv, hnv⟩ : ∃ nv, (if sP S n 2 = nI 1 then s (21 + 1262 * (i) + (10 + cc)) + sP S n 3 else sP S n 3) = nv := ⟨_, rfl⟩
  have n1 : va ≠ a := ne_of c4 ha (by simp)
  have n2 : ia ≠ va := ne_of c2 c4 (by simp)
  have n3 : sSa S n ≠ va := ne_of o3 c4 (by simp)
  have hW2 := c6 cc nv hcc
  have hfr2 : pFr w (hs w va (.inr (0, 4, .inl (upd fv cc nv)))) tg tg (fun t => t.1 = ia ∧ 64 ≤ t.2) := pFr.hs h.bd c4 (by rw [c3]; exact ⟨rfl, by simp⟩)
  obtain ⟨w1, r1, r2, r3, r4, r5⟩ := sim_notes hW2 (by omega) (nI 8) (nI cc)
  have hE2 := hW2.2.2.2.2.2.2
  have hne : ∀ j, j ≠ (21 + 1262 * (i) + 9) → (j < (21 + 1262 * (i) + 22) ∨ (21 + 1262 * (i) + 622) ≤ j) → j ≠ (21 + 1262 * (i) + (10 + cc)) → uNotes i (nI 8) (nI cc) (upd s (21 + 1262 * (i) + (10 + cc)) nv) j = s j := fun j h1 h2 h3 => by
    rw [uNotes_ne hE2 (by omega) h1 h2, upd_ne h3]
  have ha1 := notes_at hW2.bd r5 ((hs_ne n1.symm).trans ha) hta (by omega)
  have hw1 : w1.2 = w.2 := r4
  have v7 : upd (uNotes i (nI 8) (nI cc) (upd s (21 + 1262 * (i) + (10 + cc)) nv)) (21 + 1262 * (i) + (622 + 10 * (n) + 0)) (nI 2) (21 + 1262 * (i) + (622 + 10 * (n) + 7)) = -1 := by
    rw [upd_ne (by omega), hne _ (by omega) (by omega) (by omega)]
    exact h7
  refine ⟨w1, tg, upd (uNotes i (nI 8) (nI cc) (upd s (21 + 1262 * (i) + (10 + cc)) nv)) (21 + 1262 * (i) + (622 + 10 * (n) + 0)) (nI 2), w.2.2.2 3, nI 2, ?_, ?_, (leaf_st hS hn hi r3 (fun z => by omega)).mono (by omega), (hfr2.mono (fun t z => Or.inl ⟨z.1, Or.inr z.2⟩)).tr (r5.mono (fun t z => pP_notes t z)), ((pQ.upd _ (by omega)).tr (pQ.notes hE2 (by omega))).tr (pQ.upd _ (by omega)), ?_, ?_, Or.inr (Or.inl ⟨by rw [hw1], rfl, upd_self _ _ _, ?_, rI_leaf (by omega) (Or.inr (Or.inr (Or.inr (Or.inl ⟨hk, v7, ?_, hta, ha1⟩))))⟩)⟩
  · unfold f_X20_looks
    rcases hadd with z | z
    · rw [z, if_neg (by decide)] at hnv
      have y1 : nI 0 = 0 := by decide
      have y2 : nI 0 + sP S n 3 = nv := by rw [y1, Int32.zero_add]; exact hnv
      simp (disch := first | assumption | omega | (apply Ne.symm; assumption)) only [pu_B1, pu_B2, pu_Bd, pu_Nn, pu_Ns, pv_I, pv_R, pv_P, pv_LI, pv_LR, pv_SI, pv_SR, pv_O, pv_C, pvF, pvI, pvR, pvP, pvLI, pvLR, pvSI, pvSR, pvN, pvO, pvC, pv_bs, pv_ms, hs_self, hs_ne, hs_K, hs_2, List.getElem?_cons_succ, List.getElem?_cons_zero, List.set_cons_succ, List.set_cons_zero, Option.isSome_some, if_true, if_false, true_and, and_true, ↓reduceIte, ha, c2, c4, o3, hc, pu_gIx, z, eq_true y1, y2, r1, hw1]
    · rw [z, if_pos rfl] at hnv
      have y1 : ¬ nI 1 = 0 := by decide
      simp (disch := first | assumption | omega | (apply Ne.symm; assumption)) only [pu_B1, pu_B2, pu_Bd, pu_Nn, pu_Ns, pv_I, pv_R, pv_P, pv_LI, pv_LR, pv_SI, pv_SR, pv_O, pv_C, pvF, pvI, pvR, pvP, pvLI, pvLR, pvSI, pvSR, pvN, pvO, pvC, pv_bs, pv_ms, hs_self, hs_ne, hs_K, hs_2, List.getElem?_cons_succ, List.getElem?_cons_zero, List.set_cons_succ, List.set_cons_zero, Option.isSome_some, if_true, if_false, true_and, and_true, ↓reduceIte, ha, c2, c4, o3, hc, pu_gIx, z, y1, q1, hnv, r1, hw1]
  · unfold t_X2_sets
    rcases hadd with z | z
    · rw [z, if_neg (by decide)] at hnv
      have y1 : ¬ nI 0 = nI 1 := by decide
      simp (disch := omega) only [pu_B1, pu_B2, pu_Bd, nI_add, pu_mul, pu_ld5, pu_st5, pu_ld1, pu_ld3, k1, k2, k3, eof, z, y1, if_false, hnv, r2, pt_comesTo hi]
    · rw [z, if_pos rfl] at hnv
      simp (disch := omega) only [pu_B1, pu_B2, pu_Bd, nI_add, pu_mul, pu_ld5, pu_st5, pu_ld1, pu_ld3, k1, k2, k3, eof, z, if_true, hnv, r2, pt_comesTo hi]
  · exact pRk.z (leaf_rk (by omega) hw1 hst (by decide) (upd_self _ _ _) (fun m _ hm => by rw [upd_ne (by omega), hne _ (by omega) (by omega) (by omega)])).s
  · intro c' hc' z
    rw [upd_ne (by omega), hne _ (by omega) (by omega) (by omega)]
    exact z
  · intro j h1 h2
    obtain rfl : j = n := by omega
    rw [v7, upd_self]
    exact ⟨rfl, by decide, by decide⟩
  · unfold rLive
    rw [upd_self]
    decide
theorem task_looks {n a l : Nat} {w0 : gw} (h : pW S σ xa mo ia i ver T w tg s B bo un) (hB : B + 128 < 2 ^ 31) (hRm : pRm i w s) (hn : n < sEn S 0) (hk : sKd S n = 1) {R U A tr : Nat} (hR : sP S n 2 = nI R) (hR9 : R ≤ 9) (hst : tSta S xa ia i n a R w tg s tr U A) {D : Nat} {rec : Int32 → Int32 → TS → Option (Int32 × TS)} (hD : 1 ≤ D) :
    pRes 0 S σ xa mo ia i ver T l n a w tg s B bo un (f_Run_looks D a w) (t_X2_looks rec (nI i) (nI n) (tS σ s)) := by
  obtain ⟨⟨hia, hi, hS, hσ⟩, -⟩ := id h
  have hNs : sEn S 0 ≤ 64 := hS.1
  have hen := leaf_en hS hn (by omega) (by omega)
  obtain ⟨D, rfl⟩ : ∃ d, D = d + 1 := ⟨D - 1, by omega⟩
  obtain ⟨⟨c, hc8, hc⟩, d, hd9, hd⟩ : (∃ c, c < 8 ∧ sP S n 1 = nI c) ∧ ∃ d, d ≤ 999 ∧ sP S n 3 = nI d := by
    rcases (hS.2.2.2.2.2 n hn).2 with z | z | z | z | z | z | z
    · omega
    · exact ⟨z.2.2.1, z.2.2.2.2.1⟩
    all_goals omega
  have k0 : t_X2_nodePart (nI i) (nI n) (nI 0) (tS σ s) = some (nI 1, tS σ s) := by rw [h.np hn (by omega), (hS.2.2.2.2.2 n hn).1.2.2.1, hk]
  have k1 : t_X2_nodePart (nI i) (nI n) (nI 1) (tS σ s) = some (nI c, tS σ s) := by rw [h.np hn (by omega), hc]
  have hf : f_Run_looks (D + 1) a w = f_X23_looks a w := by
    show f_Run_looks_s (f_Run_looks D) a w = _
    unfold f_Run_looks_s
    rw [pu_Cls hst.2.1, pu_B1, if_neg (by decide), if_neg (by decide), if_neg (by decide), if_neg (by decide), if_pos rfl]
  have ht : t_X2_looks rec (nI i) (nI n) (tS σ s) = gL3 bt_X2_looksAtTask_1 20000 (nI i) (nI n) (nI c) (tS σ s) := by
    have hlt : t_X2_looksAtTask (nI i) (nI n) (tS σ s) = gL3 bt_X2_looksAtTask_1 20000 (nI i) (nI n) (nI c) (tS σ s) := by
      rw [t_X2_looksAtTask_eq, k1, pu_B2]
    unfold t_X2_looks
    rw [k0, pu_B2, if_pos rfl, hlt]
    cases gL3 bt_X2_looksAtTask_1 20000 (nI i) (nI n) (nI c) (tS σ s) with
    | none => rfl
    | some q => rfl
  rw [hf, ht, f_X23_looks_eq]
  have hA : 1 ≤ A := hst.2.2.2.2.2.2.1
  have htr : tr ≤ 1 := by rcases hst.2.2.2.2.2.2.2.2 with z | z <;> omega
  obtain ⟨w1, tg1, s1, o, x, v1, v2, v3, v4, v5, v6, v7, v8⟩ := task_loop (σ := σ) (xa := xa) (mo := mo) (ia := ia) (i := i) (ver := ver) (T := T) (bo := bo) (un := un) (a := a) l hS hn hk hc hc8 hR hR9 hd hd9 21 w tg s B tr U A 20000 20000 (by omega) (by omega) (by omega) h (by omega) hRm hst
  exact ⟨w1, tg1, s1, o, x, v1, v2, v3.mono (by omega), v4, v5, pRk.z v6, v7, v8⟩

end L2
