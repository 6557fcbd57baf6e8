set_option maxRecDepth 100000
/-! THE LEAVES: looks of a signal -/
section L2
variable {S : SV} {σ : TS} {xa mo ia i ver T : Nat} {w : gw} {tg : pT} {s : Nat → Int32} {B : Nat} {bo un : Option Nat}
theorem await_looks {n a l : Nat} {uu : Int32} (h : pW S σ xa mo ia i ver T w tg s B bo un) (hB : B + 128 < 2 ^ 31) (hn : n < sEn S 0) (hk : sKd S n = 3) (hst : s (21 + 1262 * (i) + (622 + 10 * (n) + 0)) = nI 1) (h7 : s (21 + 1262 * (i) + (622 + 10 * (n) + 7)) = -1) (hta : tg a = (ia, n)) (ha : w.1 a = some (.inl (21, [ga (some ia), ga (some xa), ga (some (sSa S n)), gi uu, ga (some xa)]))) (hU : sP S n 2 < 0 ∧ uu = nI 2147483647 ∨ ¬ sP S n 2 < 0 ∧ ∃ U, uu = nI U ∧ U ≤ 1000000 ∧ s (21 + 1262 * (i) + (622 + 10 * (n) + 1)) + sP S n 2 = uu) {D : Nat} {rec : Int32 → Int32 → TS → Option (Int32 × TS)} (hD : 1 ≤ D) :
    pRes 0 S σ xa mo ia i ver T l n a w tg s B bo un (f_Run_looks D a w) (t_X2_looks rec (nI i) (nI n) (tS σ s)) := by
  obtain ⟨⟨hia, hi, hS, hσ⟩, -⟩ := id h
  have hNs : sEn S 0 ≤ 64 := hS.1
  have hen := leaf_en hS hn (by omega) (by omega)
  obtain ⟨D, rfl⟩ : ∃ d, D = d + 1 := ⟨D - 1, by omega⟩
  obtain ⟨du, fa, ins, va', pe', hi', dl, f10', f11', f12', d1, d2, -⟩ := h.cells
  obtain ⟨pe, fp, f1, f2, f3, f4, f6, f7, f8, f9, f10, f11, f12, f13, f14, f15, c2, c3, c4, c5, c6⟩ := h.pend
  have hV := h.2.2.2.1
  have hE := h.2.2.2.2.2.2
  obtain ⟨-, -, -, -, -, -, -, -, -, -, -, -, -, -, -, m10, m11⟩ := h.2.2.2.2.1
  obtain ⟨cc, hcc, hc⟩ : ∃ c, c < 8 ∧ sP S n 1 = nI c := by
    rcases (hS.2.2.2.2.2 n hn).2 with z | z | z | z | z | z | z
    · omega
    · omega
    · omega
    · exact z.2.2.1
    all_goals omega
  obtain ⟨q1, dd, q2, q3⟩ := c5 cc hcc
  have o3 := (h.obj hn).2.2.1 hk
  have k0 : t_X2_nodePart (nI i) (nI n) (nI 0) (tS σ s) = some (nI 3, tS σ s) := by rw [h.np hn (by omega), (hS.2.2.2.2.2 n hn).1.2.2.1, hk]
  have k1 : t_X2_nodePart (nI i) (nI n) (nI 1) (tS σ s) = some (nI cc, tS σ s) := by rw [h.np hn (by omega), hc]
  have k2 : t_X2_nodePart (nI i) (nI n) (nI 2) (tS σ s) = some (sP S n 2, tS σ s) := h.np hn (by omega)
  have en1 : ∀ w : TS, t_X2_at (nI i) (nI n) (nI 1) w = _ := fun w => pt_at w
  have eof : ∀ w : TS, t_X2_of (nI i) (nI (14 + cc)) w = _ := fun w => pt_of w
  have hf : f_Run_looks (D + 1) a w = f_X21_looks a w := by
    show f_Run_looks_s (f_Run_looks D) a w = _
    unfold f_Run_looks_s
    rw [pu_Cls ha, pu_B1, if_neg (by decide), if_neg (by decide), if_pos rfl]
  have x1 : ¬ nI 3 = nI 1 := by decide
  have x2 : ¬ nI 3 = nI 2 := by decide
  have ht : t_X2_looks rec (nI i) (nI n) (tS σ s) = t_X2_looksAtSignal (nI i) (nI n) (tS σ s) := by
    unfold t_X2_looks
    simp only [pu_B1, pu_B2, pu_Bd, nI_add, pu_mul, pu_ld5, pu_st5, pu_ld1, pu_ld3, k0, x1, x2, if_true, if_false]
    cases t_X2_looksAtSignal (nI i) (nI n) (tS σ s) with
    | none => rfl
    | some q => rfl
  rw [hf, ht]
  have hrelI : ∀ (w1 : gw) (s1 : Nat → Int32), w1.1 a = some (.inl (21, [ga (some ia), ga (some xa), ga (some (sSa S n)), gi uu, ga (some xa)])) → s1 (21 + 1262 * (i) + (622 + 10 * (n) + 7)) = -1 → s1 (21 + 1262 * (i) + (622 + 10 * (n) + 0)) ≠ nI 5 → s1 (21 + 1262 * (i) + (622 + 10 * (n) + 0)) ≠ nI 1 → rI S xa ia i w1 tg s1 T true l n a := fun w1 s1 z1 z2 z3 z4 => rI_leaf (by omega) (Or.inr (Or.inr (Or.inl ⟨hk, z2, z3, hta, uu, z1, fun z => absurd z z4⟩)))
  by_cases hd0 : dd = 0
  · subst hd0
    have p1 : nI 0 ≤ 0 := by decide
    have q4 : fp cc = nI 0 := q1.trans q3
    -- does the time run out?
    have hcmp : (sP S n 2 < 0 ∨ ¬ sP S n 2 < 0 ∧ nI T < s (21 + 1262 * (i) + (622 + 10 * (n) + 1)) + sP S n 2) ∧ ¬ uu ≤ nI T ∨ (¬ sP S n 2 < 0 ∧ ¬ nI T < s (21 + 1262 * (i) + (622 + 10 * (n) + 1)) + sP S n 2) ∧ uu ≤ nI T := by
      rcases hU with ⟨z1, z2⟩ | ⟨z1, U, z2, z3, z4⟩
      · refine Or.inl ⟨Or.inl z1, ?_⟩
        rw [z2]
        exact nI_ge (by omega) (Nat.le_of_ble_eq_true rfl)
      · rw [z4, z2]
        by_cases hTU : T < U
        · exact Or.inl ⟨Or.inr ⟨z1, nI_lt hTU (by omega)⟩, nI_ge hTU (by omega)⟩
        · exact Or.inr ⟨⟨z1, nI_nlt (by omega) (by omega)⟩, nI_le (by omega) (by omega)⟩
    rcases hcmp with ⟨g1, g2⟩ | ⟨⟨g1, g2⟩, g3⟩
    · have hTr : sP S n 2 < 0 ∧ uu = nI 2147483647 ∨ ¬ sP S n 2 < 0 ∧ ∃ U, uu = nI U ∧ T < U ∧ U ≤ 1000000 ∧ s (21 + 1262 * (i) + (622 + 10 * (n) + 1)) + sP S n 2 = uu := by
        rcases hU with z | ⟨z1, U, z2, z3, z4⟩
        · exact Or.inl z
        · refine Or.inr ⟨z1, U, z2, ?_, z3, z4⟩
          rw [z2] at g2
          by_cases hTU : T < U
          · exact hTU
          · exact absurd (nI_le (by omega) (by omega)) g2
      refine ⟨w, tg, s, w.2.2.2 2, nI 1, ?_, ?_, h.mono (by omega), pFr.rf h.bd, pQ.rf, pRk.z (pRs.eq rfl (fun _ _ => rfl)), fun _ _ z => z, Or.inl ⟨rfl, Or.inl rfl, hst, rI_leaf (by omega) (Or.inr (Or.inr (Or.inl ⟨hk, h7, by rw [hst]; decide, hta, uu, ha, fun _ => ⟨hTr, fun _ c hc8 hcc' => ?_⟩⟩)))⟩⟩
      · unfold f_X21_looks
        simp (disch := omega) only [pu_B1, pu_B2, pu_Bd, pu_Nn, pu_Ns, pv_I, pv_R, pv_P, pv_LI, pv_LR, pv_SI, pv_SR, pv_O, pv_C, pvF, pvI, pvR, pvP, pvLI, pvLR, pvSI, pvSR, pvN, pvO, pvC, pv_bs, pv_ms, hs_self, hs_ne, hs_K, hs_2, List.getElem?_cons_succ, List.getElem?_cons_zero, List.set_cons_succ, List.set_cons_zero, Option.isSome_some, if_true, if_false, true_and, and_true, ↓reduceIte, ha, c2, c4, d1, o3, hc, pu_gIx, q4, p1, g2]
      · unfold t_X2_looksAtSignal
        rcases g1 with g1 | ⟨g1, g3⟩
        · simp (disch := omega) only [pu_B1, pu_B2, pu_Bd, nI_add, pu_mul, pu_ld5, pu_st5, pu_ld1, pu_ld3, k1, k2, eof, q3, p1, g1, if_true]
        · simp (disch := omega) only [pu_B1, pu_B2, pu_Bd, nI_add, pu_mul, pu_ld5, pu_st5, pu_ld1, pu_ld3, k1, k2, eof, en1, q3, p1, g1, g3, m10, if_true, if_false]
      · rw [hc] at hcc'
        have := (nI_eq (by omega) (by omega)).mp hcc'
        subst this
        exact q3
    · obtain ⟨w1, r1, r2, r3, r4, r5⟩ := sim_notes h (by omega) (nI 4) (nI cc)
      have hne : ∀ j, j ≠ (21 + 1262 * (i) + 9) → (j < (21 + 1262 * (i) + 22) ∨ (21 + 1262 * (i) + 622) ≤ j) → uNotes i (nI 4) (nI cc) s j = s j := fun j h1 h2 => uNotes_ne hE (by omega) h1 h2
      have ha1 := notes_at h.bd r5 ha hta (by omega)
      have v7 : upd (uNotes i (nI 4) (nI cc) s) (21 + 1262 * (i) + (622 + 10 * (n) + 0)) (nI 3) (21 + 1262 * (i) + (622 + 10 * (n) + 7)) = -1 := by
        rw [upd_ne (by omega), hne _ (by omega) (by omega)]
        exact h7
      refine ⟨w1, tg, upd (uNotes i (nI 4) (nI cc) s) (21 + 1262 * (i) + (622 + 10 * (n) + 0)) (nI 3), w.2.2.2 4, nI 3, ?_, ?_, (leaf_st hS hn hi r3 (fun z => by omega)).mono (by omega), r5.mono (fun t z => pP_notes t z), (pQ.notes hE (by omega)).tr (pQ.upd _ (by omega)), ?_, ?_, Or.inr (Or.inr ⟨by rw [r4], rfl, upd_self _ _ _, ?_, hrelI _ _ ha1 v7 (by rw [upd_self]; decide) (by rw [upd_self]; decide)⟩)⟩
      · unfold f_X21_looks
        simp (disch := omega) only [pu_B1, pu_B2, pu_Bd, pu_Nn, pu_Ns, pv_I, pv_R, pv_P, pv_LI, pv_LR, pv_SI, pv_SR, pv_O, pv_C, pvF, pvI, pvR, pvP, pvLI, pvLR, pvSI, pvSR, pvN, pvO, pvC, pv_bs, pv_ms, hs_self, hs_ne, hs_K, hs_2, List.getElem?_cons_succ, List.getElem?_cons_zero, List.set_cons_succ, List.set_cons_zero, Option.isSome_some, if_true, if_false, true_and, and_true, ↓reduceIte, ha, c2, c4, d1, o3, hc, pu_gIx, q4, p1, g3, r1, r4]
      · unfold t_X2_looksAtSignal
        simp (disch := omega) only [pu_B1, pu_B2, pu_Bd, nI_add, pu_mul, pu_ld5, pu_st5, pu_ld1, pu_ld3, k1, k2, eof, en1, q3, p1, g1, g2, m10, if_true, if_false, r2, pt_comesTo hi]
      · exact pRk.z (leaf_rk (by omega) r4 hst (by decide) (upd_self _ _ _) (fun m _ hm => by rw [upd_ne (by omega), hne _ (by omega) (by omega)])).s
      · intro c' hc' z
        rw [upd_ne (by omega), hne _ (by omega) (by omega)]
        exact z
      · intro j h1 h2
        obtain rfl : j = n := by omega
        rw [v7, upd_self]
        exact ⟨rfl, by decide, by decide⟩
  · have p1 : ¬ nI dd ≤ 0 := nI_nle (by omega) (by omega)
    have q4 : fp cc = nI dd := q1.trans q3
    have q5 : nI dd - nI 1 = nI (dd - 1) := pu_sub (by omega)
    have n1 : pe ≠ a := ne_of c4 ha (by simp)
    have n2 : ia ≠ pe := ne_of c2 c4 (by simp)
    have n3 : sSa S n ≠ pe := ne_of o3 c4 (by simp)
    have hW2 := c6 cc (dd - 1) hcc (by omega)
    have hfr2 : pFr w (hs w pe (.inr (0, 8, .inl (upd fp cc (nI (dd - 1)))))) tg tg (fun t => t.1 = ia ∧ 64 ≤ t.2) := pFr.hs h.bd c4 (by rw [c3]; exact ⟨rfl, by simp⟩)
    obtain ⟨w1, r1, r2, r3, r4, r5⟩ := sim_notes hW2 (by omega) (nI 3) (nI cc)
    have hE2 := hW2.2.2.2.2.2.2
    have hne : ∀ j, j ≠ (21 + 1262 * (i) + 9) → (j < (21 + 1262 * (i) + 22) ∨ (21 + 1262 * (i) + 622) ≤ j) → j ≠ (21 + 1262 * (i) + (14 + cc)) → uNotes i (nI 3) (nI cc) (upd s (21 + 1262 * (i) + (14 + cc)) (nI (dd - 1))) j = s j := fun j h1 h2 h3 => by
      rw [uNotes_ne hE2 (by omega) h1 h2, upd_ne h3]
    have ha1 := notes_at hW2.bd r5 ((hs_ne n1.symm).trans ha) hta (by omega)
    have hw1 : w1.2 = w.2 := r4
    have v7 : upd (uNotes i (nI 3) (nI cc) (upd s (21 + 1262 * (i) + (14 + cc)) (nI (dd - 1)))) (21 + 1262 * (i) + (622 + 10 * (n) + 0)) (nI 2) (21 + 1262 * (i) + (622 + 10 * (n) + 7)) = -1 := by
      rw [upd_ne (by omega), hne _ (by omega) (by omega) (by omega)]
      exact h7
    refine ⟨w1, tg, upd (uNotes i (nI 3) (nI cc) (upd s (21 + 1262 * (i) + (14 + cc)) (nI (dd - 1)))) (21 + 1262 * (i) + (622 + 10 * (n) + 0)) (nI 2), w.2.2.2 3, nI 2, ?_, ?_, (leaf_st hS hn hi r3 (fun z => by omega)).mono (by omega), (hfr2.mono (fun t z => Or.inl ⟨z.1, Or.inr z.2⟩)).tr (r5.mono (fun t z => pP_notes t z)), ((pQ.upd _ (by omega)).tr (pQ.notes hE2 (by omega))).tr (pQ.upd _ (by omega)), ?_, ?_, Or.inr (Or.inl ⟨by rw [hw1], rfl, upd_self _ _ _, ?_, hrelI _ _ ha1 v7 (by rw [upd_self]; decide) (by rw [upd_self]; decide)⟩)⟩
    · unfold f_X21_looks
      simp (disch := first | assumption | omega | (apply Ne.symm; assumption)) only [pu_B1, pu_B2, pu_Bd, pu_Nn, pu_Ns, pv_I, pv_R, pv_P, pv_LI, pv_LR, pv_SI, pv_SR, pv_O, pv_C, pvF, pvI, pvR, pvP, pvLI, pvLR, pvSI, pvSR, pvN, pvO, pvC, pv_bs, pv_ms, hs_self, hs_ne, hs_K, hs_2, List.getElem?_cons_succ, List.getElem?_cons_zero, List.set_cons_succ, List.set_cons_zero, Option.isSome_some, if_true, if_false, true_and, and_true, ↓reduceIte, ha, c2, c4, o3, hc, pu_gIx, q4, q5, p1, r1, hw1]
    · unfold t_X2_looksAtSignal
      simp (disch := omega) only [pu_B1, pu_B2, pu_Bd, nI_add, pu_mul, pu_ld5, pu_st5, pu_ld1, pu_ld3, k1, k2, eof, q3, p1, if_false, q5, r2, pt_comesTo hi]
    · exact pRk.z (leaf_rk (by omega) hw1 hst (by decide) (upd_self _ _ _) (fun m _ hm => by rw [upd_ne (by omega), hne _ (by omega) (by omega) (by omega)])).s
    · intro c' hc' z
      by_cases hcc2 : c' = cc
      · subst hcc2
        rw [q3] at z
        exact absurd ((nI_eq (by omega) (by omega)).mp z) hd0
      · rw [upd_ne (by omega), hne _ (by omega) (by omega) (by omega)]
        exact z
    · intro j h1 h2
      obtain rfl : j = n := by omega
      rw [v7, upd_self]
      exact ⟨rfl, by decide, by decide⟩
end L2
