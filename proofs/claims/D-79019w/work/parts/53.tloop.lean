set_option maxRecDepth 100000
/-! A TASK's LOOKS: the loop -/
theorem pf_over {w : gw} {tg : pT} (h : pCo w tg) : gOver w (w.2.2.2 2) = some 0 ∧ gOver w (w.2.2.2 3) = some 1 ∧ gOver w (w.2.2.2 4) = some 1 := by
  obtain ⟨-, h1, h2, h3, h4⟩ := h
  have a2 := (h1 2 (by omega) (by omega)).1
  have a3 := (h1 3 (by omega) (by omega)).1
  have a4 := (h1 4 (by omega) (by omega)).1
  refine ⟨?_, ?_, ?_⟩
  · unfold gOver gCls
    rw [a2]
    simp
  · unfold gOver gCls
    rw [a3]
    simp [Ne.symm h2]
  · unfold gOver gCls
    rw [a4]
    simp [Ne.symm h3, Ne.symm h4]
theorem pf_shl : ∀ A, A < 10 → ∀ d, d < 1000 → nI d <<< ((nI A) &&& 31) = nI (d * 2 ^ A) ∧ nI d * (nI 1 <<< ((nI A) &&& 31)) = nI (d * 2 ^ A) := by
  have h : ∀ A, A < 10 → (nI A) &&& 31 = nI A ∧ nI 1 <<< nI A = nI (2 ^ A) := by decide +kernel
  have h2 : ∀ A, A < 10 → ∀ d, d < 1000 → nI d <<< nI A = nI (d * 2 ^ A) := by decide +kernel
  intro A hA d hd
  obtain ⟨h3, h4⟩ := h A hA
  rw [h3, h4, h2 A hA d hd, pu_mul]
  exact ⟨rfl, rfl⟩
theorem pPh_ge {i n x : Nat} {s : Nat → Int32} (hn : n < 64) (h : (if s (21 + 1262 * (i) + (622 + 10 * (n) + 0)) = nI 0 then 12 else if s (21 + 1262 * (i) + (622 + 10 * (n) + 0)) = nI 1 then 8 else 0) = x) : x ≤ pPh i s := by
  have h1 := pSum_at (f := fun _ => 0) (g := fun m => if m = n then x else 0) (t := n) 64 hn (fun m _ hm => by simp [hm])
  have h2 := pSum_le (f := fun m => if m = n then x else 0) (g := fun m => if s (21 + 1262 * (i) + (622 + 10 * (m) + 0)) = nI 0 then 12 else if s (21 + 1262 * (i) + (622 + 10 * (m) + 0)) = nI 1 then 8 else 0) 64 (fun m _ => by
    by_cases hm : m = n
    · subst hm
      simp only [if_true]
      rw [h]
      exact Nat.le_refl _
    · simp [hm])
  simp only [if_true] at h1
  unfold pPh
  omega
theorem uFails_ne {c j : Nat} {s : Nat → Int32} (h : j ≠ 9 + c) : uFails c s j = s j := by
  unfold uFails
  split
  · rfl
  · exact upd_ne h
section TL
variable {S : SV} {σ : TS} {xa mo ia i ver T : Nat} {bo un : Option Nat}
def tSta (S : SV) (xa ia i n a R : Nat) (w : gw) (tg : pT) (s : Nat → Int32) (tr U A : Nat) : Prop := tg a = (ia, n) ∧ w.1 a = some (.inl (23, [ga (some ia), ga (some xa), ga (some (sSa S n)), gi (nI tr), gi (nI U), gi (nI A), gi (-1), ga (some xa)])) ∧
  s (21 + 1262 * (i) + (622 + 10 * (n) + 0)) = nI 1 ∧ s (21 + 1262 * (i) + (622 + 10 * (n) + 7)) = -1 ∧ s (21 + 1262 * (i) + (622 + 10 * (n) + 6)) = nI 0 ∧ s (21 + 1262 * (i) + (622 + 10 * (n) + 2)) = nI A ∧ 1 ≤ A ∧ U ≤ 1000000 ∧ (tr = 1 ∧ s (21 + 1262 * (i) + (622 + 10 * (n) + 3)) = nI U ∧ A ≤ R + 1 ∨ tr = 0 ∧ s (21 + 1262 * (i) + (622 + 10 * (n) + 3)) = -1 ∧ s (21 + 1262 * (i) + (622 + 10 * (n) + 4)) = nI U ∧ A ≤ R)
/-- what the loop leaves -/
def tRes (S : SV) (σ : TS) (xa mo ia i ver T l n a : Nat) (w : gw) (tg : pT) (s : Nat → Int32) (B : Nat) (bo un : Option Nat) (fr : Option (Option Nat × gw)) (tr : Option (Int32 × TS)) : Prop :=
  ∃ w1 tg1 s1 o x, fr = some (some o, w1) ∧ tr = some (x, tS σ s1) ∧ pW S σ xa mo ia i ver T w1 tg1 s1 B bo un ∧ pFr w w1 tg tg1 (pP mo ia n (sEn S n)) ∧ pQ i n (sEn S n) s s1 ∧ pRs i w w1 s s1 ∧ pPe i s s1 ∧
    pOut i n w1 s1 o x (rI S xa ia i w1 tg1 s1 T true l n a) (sEn S n)
theorem task_loop {n a c R d : Nat} (l : Nat) (hS : sWf S) (hn : n < sEn S 0) (hk : sKd S n = 1) (hc : sP S n 1 = nI c) (hc8 : c < 8) (hR : sP S n 2 = nI R) (hR9 : R ≤ 9) (hd : sP S n 3 = nI d) (hd9 : d ≤ 999) :
    ∀ (μ : Nat) (w : gw) (tg : pT) (s : Nat → Int32) (B tr U A fuel fuel2 : Nat), 2 * (R + 1 - A) + tr ≤ μ → μ + 2 ≤ fuel → μ + 2 ≤ fuel2 → pW S σ xa mo ia i ver T w tg s B bo un → B + 2 * μ + 2 < 2 ^ 31 → pRm i w s → tSta S xa ia i n a R w tg s tr U A →
      tRes S σ xa mo ia i ver T l n a w tg s (B + 2 * μ + 2) bo un (gL1 (bf_X23_looks_1 a) fuel (some (w.2.2.2 2)) w) (gL3 bt_X2_looksAtTask_1 fuel2 (nI i) (nI n) (nI c) (tS σ s)) := by
  have hNs : sEn S 0 ≤ 64 := hS.1
  have hN := hS.2.2.2.2.2 n hn
  have hl := hN.1.1
  have hen : sEn S n = n + 1 := by
    have h1 := hN.1.2.2.2.2.1
    unfold sCp at h1
    have hcc : sCc S n = 0 := by
      rcases hN.2 with z | z | z | z | z | z | z
      · omega
      · exact z.2.1
      all_goals omega
    rw [if_neg (by omega)] at h1
    exact h1
  -- the run's relation out of the state
  have hrun : ∀ (w : gw) (tg : pT) (s : Nat → Int32) (tr U A : Nat), T < U → tSta S xa ia i n a R w tg s tr U A → rI S xa ia i w tg s T true l n a := by
    intro w tg s tr U A hTU ⟨t1, t2, t3, t4, t6, t7, t8, t9, t10⟩
    have h1 : rItem S xa ia i w tg s T true (fun _ _ => False) n a → rI S xa ia i w tg s T true l n a := by
      intro h
      cases l with
      | zero => exact h
      | succ l =>
        rcases h with h | h | h | h | h | h
        · exact Or.inl h
        all_goals (exfalso; have := h.1; omega)
    refine h1 (Or.inl ⟨hk, t4, by rw [t3]; decide, t1, nI tr, nI U, nI A, -1, t2, ?_, fun _ => ⟨rfl, t6, A, R, U, hR, hR9, rfl, t7, t8, rfl, hTU, t9, ?_⟩, ?_, fun _ => rfl⟩)
    · rcases t10 with z | z
      · exact Or.inr (by rw [z.1])
      · exact Or.inl (by rw [z.1])
    · rcases t10 with z | z
      · exact Or.inl ⟨by rw [z.1], z.2.1, z.2.2⟩
      · exact Or.inr ⟨by rw [z.1], z.2.1, z.2.2.1, z.2.2.2⟩
    · intro h
      rw [t3] at h
      exact absurd h (by decide)
  intro μ
  induction μ with
  | zero => 
    intro w tg s B tr U A fuel fuel2 hμ hf hf2 hW hB hRm hst
    obtain ⟨t1, t2, t3, t4, t6, t7, t8, t9, t10⟩ := hst
    exfalso
    rcases t10 with ⟨z, z1, z2⟩ | ⟨z, z1, z2, z3⟩ <;> omega
  | succ μ ih =>
    intro w tg s B tr U A fuel fuel2 hμ hf hf2 hW hB hRm hst
    have hst0 := hst
    obtain ⟨t1, t2, t3, t4, t6, t7, t8, t9, t10⟩ := hst
    obtain ⟨fu, rfl⟩ : ∃ fu, fuel = fu + 1 := ⟨fuel - 1, by omega⟩
    obtain ⟨fu2, rfl⟩ : ∃ fu2, fuel2 = fu2 + 1 := ⟨fuel2 - 1, by omega⟩
    have hW0 := hW
    obtain ⟨⟨hia, hi, -, hσ⟩, hC, hO, hV, hM, hI, hE⟩ := hW
    obtain ⟨du, fa, ins, fd, ff, fi, m1, m2, m3, m4, m5, m6, m7, m8, m9, m10, m11⟩ := hM
    obtain ⟨va, pe, hi', dl, fv, fp, fh, i1, i2, -⟩ := hI
    have ho := pf_over hC
    have en3 : ∀ w : TS, t_X2_at (nI i) (nI n) (nI 3) w = _ := fun w => pt_at w
    have en4 : ∀ w : TS, t_X2_at (nI i) (nI n) (nI 4) w = _ := fun w => pt_at w
    have hrow9 : A ≤ R + 1 := by rcases t10 with z | z <;> omega
    by_cases hTU : T < U
    · -- nothing is due
      have e1 : nI T < nI U := nI_lt hTU (by omega)
      have e2 : ¬ nI U ≤ nI T := nI_ge hTU (by omega)
      refine ⟨w, tg, s, w.2.2.2 2, nI 1, ?_, ?_, hW0.mono (by omega), pFr.rf hC.1, pQ.rf, pRs.eq rfl (fun _ _ => rfl), fun _ _ h => h, Or.inl ⟨rfl, Or.inl rfl, t3, hrun w tg s tr U A hTU hst0⟩⟩
      · show bf_X23_looks_1 a (gL1 (bf_X23_looks_1 a) fu) (some (w.2.2.2 2)) w = _
        generalize gL1 (bf_X23_looks_1 a) fu = KK
        unfold bf_X23_looks_1
        simp only [pu_B1, pu_B2, pu_Bd, pu_Nn, pu_Ns, pv_I, pv_R, pv_P, pv_LI, pv_LR, pv_SI, pv_SR, pv_O, pv_C, pvF, pvI, pvR, pvP, pvLI, pvLR, pvSI, pvSR, pvN, pvO, pvC, pv_bs, pv_ms, hs_self, hs_ne, hs_K, hs_2, List.getElem?_cons_succ, List.getElem?_cons_zero, List.set_cons_succ, List.set_cons_zero, Option.isSome_some, if_true, if_false, true_and, and_true, ↓reduceIte, t2, i2, m2, ho.1, m10, e1]
      · show bt_X2_looksAtTask_1 (gL3 bt_X2_looksAtTask_1 fu2) (nI i) (nI n) (nI c) (tS σ s) = _
        generalize gL3 bt_X2_looksAtTask_1 fu2 = KK
        unfold bt_X2_looksAtTask_1
        rcases t10 with ⟨z, z1, z2⟩ | ⟨z, z1, z2, z3⟩
        · have e3 : (0 : Int32) ≤ nI U := nI_pos' (by omega)
          simp (disch := omega) only [pu_B1, pu_B2, pu_Bd, nI_add, pu_mul, pu_ld5, pu_st5, pu_ld1, pu_ld3, en3, z1, m10, e2, e3, if_true, if_false]
        · have e3 : ¬ (0 : Int32) ≤ -1 := by decide
          simp (disch := omega) only [pu_B1, pu_B2, pu_Bd, nI_add, pu_mul, pu_ld5, pu_st5, pu_ld1, pu_ld3, en3, en4, z1, z2, m10, e2, e3, if_false]
    · have e1 : ¬ nI T < nI U := nI_nlt (by omega) (by omega)
      have e2 : nI U ≤ nI T := nI_le (by omega) (by omega)
      rcases t10 with ⟨rfl, z1, z2⟩ | ⟨rfl, z1, z2, z3⟩
      · -- the attempt ends
        have hph : 8 ≤ pPh i s := pPh_ge (n := n) (by omega) (by rw [t3, if_neg (by decide), if_pos rfl])
        have hA := hW0.put (e := .inl (23, [ga (some ia), ga (some xa), ga (some (sSa S n)), gi (nI 0), gi (nI U), gi (nI A), gi (-1), ga (some xa)])) t2 t1 (by omega)
        obtain ⟨o1, o2⟩ := hO n hn
        have o3 : w.1 (sSa S n) = some (.inl (9, [gi (sP S n 7), gi (sP S n 1), gi (sP S n 2), gi (sP S n 3), gi (sP S n 4)])) := by
          rcases o2 with z | z | z | z | z | z | z
          · omega
          · exact z.2
          all_goals omega
        have n1 : ia ≠ a := ne_of i2 t2 (by simp)
        have n2 : mo ≠ a := ne_of m2 t2 (by simp)
        have n4 : sSa S n ≠ a := ne_of o3 t2 (by simp)
        obtain ⟨w1, x, hx, r1, r2, r3, r4, r5⟩ := sim_fails hA hc8
        have hP1 : pFr w w1 tg tg (pP mo ia n (sEn S n)) := (pFr.hs hW0.bd t2 (by rw [t1]; exact Or.inl ⟨rfl, Or.inl ⟨Nat.le_refl _, hl⟩⟩)).tr (r5.mono (fun t ht => Or.inr ht))
        have ha1 : w1.1 a = some (.inl (23, [ga (some ia), ga (some xa), ga (some (sSa S n)), gi (nI 0), gi (nI U), gi (nI A), gi (-1), ga (some xa)])) := (r5.2.2.2.2 a (hA.bd _ _ (hs_self _ _ _)) (by
          rw [t1]
          intro z
          have := congrArg Prod.fst z
          exact (ne_of m2 i2 (by simp)) this.symm)).trans (hs_self _ _ _)
        have hst1 : pStc tg (sSa S n) := o1
        have ho1 : w1.1 (sSa S n) = some (.inl (9, [gi (sP S n 7), gi (sP S n 1), gi (sP S n 2), gi (sP S n 3), gi (sP S n 4)])) := (r5.2.2.2.2 _ (hA.bd _ _ ((hs_ne n4).trans o3)) (by
          rw [show tg (sSa S n) = (0, 100) from o1]
          intro z
          exact absurd (congrArg Prod.snd z) (by simp))).trans ((hs_ne n4).trans o3)
        have hI1 : ∃ f1 f2 f3 f4 f5 f6 f7 f8 f9 f10 f11 f12 f13 f14 f15, w1.1 ia = some (.inl (16, [ga (some mo), f1, f2, f3, f4, f5, f6, f7, f8, f9, f10, f11, f12, f13, f14, f15])) := by
          obtain ⟨-, -, -, -, -, ⟨va, pe, hi', dl, fv, fp, fh, j1, j2, -⟩, -⟩ := r3
          exact ⟨_, _, _, _, _, _, _, _, _, _, _, _, _, _, _, j2⟩
        have hK1 : w1.2.2.2 = w.2.2.2 := by rw [r4]; rfl
        have hf1 : ∀ j, 17 ≤ j → uFails c s j = s j := fun j hj => uFails_ne (by omega)
        have hE1 : pE i (uFails c s) B := r3.2.2.2.2.2.2
        have en2 : ∀ w : TS, t_X2_at (nI i) (nI n) (nI 2) w = _ := fun w => pt_at w
        have en5 : ∀ w : TS, t_X2_at (nI i) (nI n) (nI 5) w = _ := fun w => pt_at w
        have eo6 : ∀ w : TS, t_X2_of (nI i) (nI 6) w = _ := fun w => pt_of w
        have e3 : (0 : Int32) ≤ nI U := nI_pos' (by omega)
        rcases hx with ⟨rfl, hx⟩ | ⟨rfl, hx⟩
        · -- it was done
          obtain ⟨w2, tg2, m, q1, q2, q3, q4, q5, q6, q7⟩ := sim_done r3 (by omega) hn hk hc (by rw [hf1 _ (by omega), t3]; decide) (by rw [hf1 _ (by omega)]; exact t6) (by rw [r4]; show w.2.1 + 2 ≤ w.2.2.2 0; have := hRm.1; omega) (by rw [r4]; show w.2.2.1 + 80 ≤ w.2.2.2 1; have := hRm.2; omega)
          have ha2 := q5.at r3.bd ha1 (by rw [t1]; intro z; have := z.2; simp at this; omega)
          have hta2 : tg2 a = (ia, n) := ha2.2.trans t1
          have hK2 : w2.2.2.2 = w.2.2.2 := q5.2.2.1.trans hK1
          have hs1 : ∀ j, j ≠ (21 + 1262 * (i) + (622 + 10 * (n) + 0)) → j ≠ (21 + 1262 * (i) + (622 + 10 * (n) + 5)) → j ≠ (21 + 1262 * (i) + 6) → j ≠ (21 + 1262 * (i) + 9) → (j < (21 + 1262 * (i) + 22) ∨ (21 + 1262 * (i) + 622) ≤ j) → ¬ (9 ≤ j ∧ j < 17) → uDone i n c (uFails c s) j = s j := fun j h1 h2 h3 h4 h5 h6 => by
            unfold uDone
            rw [upd_ne h1, upd_ne h2, upd_ne h3, uNotes_ne hE1 (by omega) h4 h5, uFails_ne (by omega)]
          have hv0 : uDone i n c (uFails c s) (21 + 1262 * (i) + (622 + 10 * (n) + 0)) = nI 2 := upd_self _ _ _
          have hv5 : uDone i n c (uFails c s) (21 + 1262 * (i) + (622 + 10 * (n) + 5)) = nI (m + 1) := by
            unfold uDone
            rw [upd_ne (by omega), upd_self, q1, nI_add]
          have hv7 : uDone i n c (uFails c s) (21 + 1262 * (i) + (622 + 10 * (n) + 7)) = -1 := (hs1 _ (by omega) (by omega) (by omega) (by omega) (by omega) (by omega)).trans t4
          refine ⟨hs w2 a (.inl (23, [ga (some ia), ga (some xa), ga (some (sSa S n)), gi (nI 0), gi (nI U), gi (nI A), gi (nI m), ga (some xa)])), tg2, uDone i n c (uFails c s), w.2.2.2 3, nI 2, ?_, ?_, (q4.put ha2.1 hta2 (by omega)).mono (by omega), (hP1.tr (q5.mono (fun t ht => Or.inl ⟨ht.1, Or.inr ht.2⟩))).tr (pFr.hs q4.bd ha2.1 (by rw [hta2]; exact Or.inl ⟨rfl, Or.inl ⟨Nat.le_refl _, hl⟩⟩)), ?_, ?_, ?_, Or.inr (Or.inl ⟨?_, rfl, hv0, ?_, ?_⟩)⟩
          · obtain ⟨fu', rfl⟩ : ∃ fu', fu = fu' + 1 := ⟨fu - 1, by omega⟩
            have hlast : gL1 (bf_X23_looks_1 a) (fu' + 1) (some (w.2.2.2 3)) (hs w2 a (.inl (23, [ga (some ia), ga (some xa), ga (some (sSa S n)), gi (nI 0), gi (nI U), gi (nI A), gi (nI m), ga (some xa)]))) = some (some (w.2.2.2 3), hs w2 a (.inl (23, [ga (some ia), ga (some xa), ga (some (sSa S n)), gi (nI 0), gi (nI U), gi (nI A), gi (nI m), ga (some xa)]))) := by
              show bf_X23_looks_1 a (gL1 (bf_X23_looks_1 a) fu') (some (w.2.2.2 3)) _ = _
              generalize gL1 (bf_X23_looks_1 a) fu' = KK
              have ho2 := (pf_over (q4.put (e := .inl (23, [ga (some ia), ga (some xa), ga (some (sSa S n)), gi (nI 0), gi (nI U), gi (nI A), gi (nI m), ga (some xa)])) ha2.1 hta2 (by omega)).2.1).2.1
              rw [hs_K, hK2] at ho2
              unfold bf_X23_looks_1
              have e4 : ¬ (1 : Int32) = 0 := by decide
              simp only [pu_B1, pu_B2, pu_Bd, pu_Nn, pu_Ns, pv_I, pv_R, pv_P, pv_LI, pv_LR, pv_SI, pv_SR, pv_O, pv_C, pvF, pvI, pvR, pvP, pvLI, pvLR, pvSI, pvSR, pvN, pvO, pvC, pv_bs, pv_ms, hs_self, hs_ne, hs_K, hs_2, List.getElem?_cons_succ, List.getElem?_cons_zero, List.set_cons_succ, List.set_cons_zero, Option.isSome_some, if_true, if_false, true_and, and_true, ↓reduceIte, ho2, e4]
            show bf_X23_looks_1 a (gL1 (bf_X23_looks_1 a) (fu' + 1)) (some (w.2.2.2 2)) w = _
            generalize gL1 (bf_X23_looks_1 a) (fu' + 1) = KK at hlast ⊢
            obtain ⟨f1, f2, f3, f4, f5, f6, f7, f8, f9, f10, f11, f12, f13, f14, f15, hI1⟩ := hI1
            unfold bf_X23_looks_1 f_X23_ends
            have e4 : ¬ nI 1 = 0 := by decide
            have e5 : nI 0 = 0 := by decide
            simp (disch := first | assumption | omega) only [pu_B1, pu_B2, pu_Bd, pu_Nn, pu_Ns, pv_I, pv_R, pv_P, pv_LI, pv_LR, pv_SI, pv_SR, pv_O, pv_C, pvF, pvI, pvR, pvP, pvLI, pvLR, pvSI, pvSR, pvN, pvO, pvC, pv_bs, pv_ms, hs_self, hs_ne, hs_K, hs_2, List.getElem?_cons_succ, List.getElem?_cons_zero, List.set_cons_succ, List.set_cons_zero, Option.isSome_some, if_true, if_false, true_and, and_true, ↓reduceIte, t2, i2, m2, o3, ho.1, m10, e1, e4, eq_true e5, hc, r1, ha1, hI1, q3, ha2.1, hK2]
            exact hlast
          · show bt_X2_looksAtTask_1 (gL3 bt_X2_looksAtTask_1 fu2) (nI i) (nI n) (nI c) (tS σ s) = _
            generalize gL3 bt_X2_looksAtTask_1 fu2 = KK
            unfold bt_X2_looksAtTask_1 uDone
            have e5 : nI 0 = 0 := by decide
            simp (disch := omega) only [pu_B1, pu_B2, pu_Bd, nI_add, pu_mul, pu_ld5, pu_st5, pu_ld1, pu_ld3, en3, en5, eo6, z1, m10, e2, e3, if_true, r2, eq_true e5, pt_notes' hi hE1 (show B < 2 ^ 31 by omega), uNotes_ne hE1 (show B < 2 ^ 31 by omega), pt_comesTo hi, upd_self]
          · intro j h1 h2 h3
            refine hs1 j ?_ ?_ ?_ ?_ ?_ ?_ <;> omega
          · have hp := pPh_at (i := i) (n := n) (s := s) (s1 := uDone i n c (uFails c s)) (by omega) (fun m hm hmn => hs1 _ (by omega) (by omega) (by omega) (by omega) (by omega) (by omega))
            rw [hv0, t3, if_neg (by decide), if_pos rfl, if_neg (by decide), if_neg (by decide)] at hp
            have hw1 : w1.2 = w.2 := r4
            rw [hw1] at q6 q7
            constructor
            · show w2.2.1 + _ ≤ _
              omega
            · show w2.2.2.1 + _ ≤ _
              omega
          · intro c' hc' h0
            exact (hs1 _ (by omega) (by omega) (by omega) (by omega) (by omega) (by omega)).trans h0
          · rw [hs_K, hK2]
          · intro j hj1 hj2
            obtain rfl : j = n := by omega
            rw [hv7, hv0]
            exact ⟨rfl, by decide, by decide⟩
          · have h1 : rItem S xa ia i (hs w2 a (.inl (23, [ga (some ia), ga (some xa), ga (some (sSa S n)), gi (nI 0), gi (nI U), gi (nI A), gi (nI m), ga (some xa)]))) tg2 (uDone i n c (uFails c s)) T true (fun _ _ => False) n a := Or.inl ⟨hk, hv7, by rw [hv0]; decide, hta2, nI 0, nI U, nI A, nI m, hs_self _ _ _, Or.inl rfl, fun z => absurd (hv0.symm.trans z) (by decide), fun _ => ⟨m, q2, rfl, hv5⟩, fun z => absurd hv0 z⟩
            cases l with
            | zero => exact h1
            | succ l =>
              rcases h1 with h | h | h | h | h | h
              · exact Or.inl h
              all_goals (exfalso; have := h.1; omega)
        · -- it failed
          obtain ⟨w2, q1, q2, q3, q4, q5⟩ := sim_notes r3 (by omega) (nI 1) (nI c)
          have ha2 := q5.at r3.bd ha1 (by
            rw [t1]
            rintro (z | z)
            · have : n = 64 := congrArg Prod.snd z
              omega
            · have : n = 67 := congrArg Prod.snd z
              omega)
          have ho2 := q5.at r3.bd ho1 (by
            rw [show tg (sSa S n) = (0, 100) from o1]
            rintro (z | z)
            · exact hia (congrArg Prod.fst z).symm
            · exact hia (congrArg Prod.fst z).symm)
          have hK2 : w2.2.2.2 = w.2.2.2 := by rw [q4, r4]; rfl
          have hw2 : w2.2 = w.2 := q4.trans r4
          have hP2 : pFr w w2 tg tg (pP mo ia n (sEn S n)) := hP1.tr (q5.mono (fun t ht => pP_notes t ht))
          have hE2 : pE i (uNotes i (nI 1) (nI c) (uFails c s)) (B + 1) := q3.2.2.2.2.2.2
          have hs2 : ∀ j, j ≠ (21 + 1262 * (i) + 9) → (j < (21 + 1262 * (i) + 22) ∨ (21 + 1262 * (i) + 622) ≤ j) → ¬ (9 ≤ j ∧ j < 17) → uNotes i (nI 1) (nI c) (uFails c s) j = s j := fun j h4 h5 h6 => by
            rw [uNotes_ne hE1 (by omega) h4 h5, uFails_ne (by omega)]
          have hI2 : ∃ f1 f2 f3 f4 f5 f6 f7 f8 f9 f10 f11 f12 f13 f14 f15, w2.1 ia = some (.inl (16, [ga (some mo), f1, f2, f3, f4, f5, f6, f7, f8, f9, f10, f11, f12, f13, f14, f15])) := by
            obtain ⟨-, -, -, -, -, ⟨va, pe, hi', dl, fv, fp, fh, j1, j2, -⟩, -⟩ := q3
            exact ⟨_, _, _, _, _, _, _, _, _, _, _, _, _, _, _, j2⟩
          have hnp2 : t_X2_nodePart (nI i) (nI n) (nI 2) (tS σ (uNotes i (nI 1) (nI c) (uFails c s))) = some (nI R, tS σ (uNotes i (nI 1) (nI c) (uFails c s))) := by
            rw [pt_nodePart hi q3.2.2.2.1 (by omega) (by omega), hσ.2.1 n 2 hn (by omega), hR]
          have e4 : ¬ nI 1 = 0 := by decide
          have e5 : nI 0 = 0 := by decide
          by_cases hAR : A ≤ R
          · have e6 : nI A ≤ nI R := nI_le hAR (by omega)
            have hsh := pf_shl (A - 1) (by omega) d (by omega)
            have e7 : nI A - nI 1 = nI (A - 1) := pu_sub (by omega)
            have hdb : d * 2 ^ (A - 1) ≤ 999 * 512 := Nat.mul_le_mul hd9 (by
              have := Nat.pow_le_pow_right (n := 2) (by omega) (show A - 1 ≤ 9 by omega)
              omega)
            have hnp3 : t_X2_nodePart (nI i) (nI n) (nI 3) (tS σ (uNotes i (nI 1) (nI c) (uFails c s))) = some (nI d, tS σ (uNotes i (nI 1) (nI c) (uFails c s))) := by
              rw [pt_nodePart hi q3.2.2.2.1 (by omega) (by omega), hσ.2.1 n 3 hn (by omega), hd]
            obtain ⟨s3, hs3⟩ : ∃ s3, upd (upd (uNotes i (nI 1) (nI c) (uFails c s)) (21 + 1262 * (i) + (622 + 10 * (n) + 4)) (nI (U + d * 2 ^ (A - 1)))) (21 + 1262 * (i) + (622 + 10 * (n) + 3)) (-1) = s3 := ⟨_, rfl⟩
            have hs4 : ∀ j, j ≠ (21 + 1262 * (i) + (622 + 10 * (n) + 3)) → j ≠ (21 + 1262 * (i) + (622 + 10 * (n) + 4)) → j ≠ (21 + 1262 * (i) + 9) → (j < (21 + 1262 * (i) + 22) ∨ (21 + 1262 * (i) + 622) ≤ j) → ¬ (9 ≤ j ∧ j < 17) → s3 j = s j := fun j h1 h2 h4 h5 h6 => by
              rw [← hs3, upd_ne h1, upd_ne h2]
              exact hs2 j h4 h5 h6
            have hW3 : pW S σ xa mo ia i ver T (hs w2 a (.inl (23, [ga (some ia), ga (some xa), ga (some (sSa S n)), gi (nI 0), gi (nI (U + d * 2 ^ (A - 1))), gi (nI A), gi (-1), ga (some xa)]))) tg s3 (B + 1) bo un := by
              refine (q3.put ha2.1 t1 (by omega)).rows (fun j hj => ?_) (fun m _ _ => ⟨?_, fun _ => ⟨?_, ?_⟩⟩)
              · rw [← hs3, upd_ne (by omega), upd_ne (by omega)]
              · rw [← hs3, upd_ne (by omega), upd_ne (by omega)]
              · rw [← hs3, upd_ne (by omega), upd_ne (by omega)]
              · rw [← hs3, upd_ne (by omega), upd_ne (by omega)]
            have hrs : pRs i w (hs w2 a (.inl (23, [ga (some ia), ga (some xa), ga (some (sSa S n)), gi (nI 0), gi (nI (U + d * 2 ^ (A - 1))), gi (nI A), gi (-1), ga (some xa)]))) s s3 := pRs.eq hw2 (fun m hm => hs4 _ (by omega) (by omega) (by omega) (by omega) (by omega))
            have hst3 : tSta S xa ia i n a R (hs w2 a (.inl (23, [ga (some ia), ga (some xa), ga (some (sSa S n)), gi (nI 0), gi (nI (U + d * 2 ^ (A - 1))), gi (nI A), gi (-1), ga (some xa)]))) tg s3 0 (U + d * 2 ^ (A - 1)) A := by
              refine ⟨t1, hs_self _ _ _, (hs4 _ (by omega) (by omega) (by omega) (by omega) (by omega)).trans t3, (hs4 _ (by omega) (by omega) (by omega) (by omega) (by omega)).trans t4, (hs4 _ (by omega) (by omega) (by omega) (by omega) (by omega)).trans t6, (hs4 _ (by omega) (by omega) (by omega) (by omega) (by omega)).trans t7, t8, by omega, Or.inr ⟨rfl, ?_, ?_, hAR⟩⟩
              · rw [← hs3, upd_self]
              · rw [← hs3, upd_ne (by omega), upd_self]
            obtain ⟨w4, tg4, s4, o, x, v1, v2, v3, v4, v5, v6, v7, v8⟩ := ih _ tg s3 (B + 1) 0 (U + d * 2 ^ (A - 1)) A fu fu2 (by omega) (by omega) (by omega) hW3 (by omega) (hRm.tr hrs hK2) hst3
            refine ⟨w4, tg4, s4, o, x, ?_, ?_, v3.mono (by omega), (hP2.tr (pFr.hs q3.bd ha2.1 (by rw [t1]; exact Or.inl ⟨rfl, Or.inl ⟨Nat.le_refl _, hl⟩⟩))).tr v4, ?_, hrs.tr v6, ?_, v8⟩
            · show bf_X23_looks_1 a (gL1 (bf_X23_looks_1 a) fu) (some (w.2.2.2 2)) w = _
              rw [hs_K, hK2] at v1
              generalize gL1 (bf_X23_looks_1 a) fu = KK at v1 ⊢
              obtain ⟨f1, f2, f3, f4, f5, f6, f7, f8, f9, f10, f11, f12, f13, f14, f15, hI1⟩ := hI1
              unfold bf_X23_looks_1 f_X23_ends
              simp (disch := first | assumption | omega) only [pu_B1, pu_B2, pu_Bd, pu_Nn, pu_Ns, pv_I, pv_R, pv_P, pv_LI, pv_LR, pv_SI, pv_SR, pv_O, pv_C, pvF, pvI, pvR, pvP, pvLI, pvLR, pvSI, pvSR, pvN, pvO, pvC, pv_bs, pv_ms, hs_self, hs_ne, hs_K, hs_2, List.getElem?_cons_succ, List.getElem?_cons_zero, List.set_cons_succ, List.set_cons_zero, Option.isSome_some, if_true, if_false, true_and, and_true, ↓reduceIte, t2, i2, m2, o3, ho.1, m10, e1, e4, hc, r1, ha1, hI1, ho1, q1, ha2.1, ho2.1, hR, hd, e6, e7, hsh.1, nI_add, hK2]
              exact v1
            · show bt_X2_looksAtTask_1 (gL3 bt_X2_looksAtTask_1 fu2) (nI i) (nI n) (nI c) (tS σ s) = _
              rw [← hs3] at v2
              generalize gL3 bt_X2_looksAtTask_1 fu2 = KK at v2 ⊢
              unfold bt_X2_looksAtTask_1
              simp (disch := omega) only [pu_B1, pu_B2, pu_Bd, nI_add, pu_mul, pu_ld5, pu_st5, pu_ld1, pu_ld3, en2, en3, en4, z1, m10, e2, e3, if_true, if_false, r2, e4, q2, hs2, t7, hnp2, hnp3, e6, e7, hsh.2]
              exact v2
            · refine pQ.tr (fun j h1 h2 h3 => hs4 j ?_ ?_ ?_ ?_ ?_) v5 <;> omega
            · intro c' hc' h0
              exact v7 c' hc' ((hs4 _ (by omega) (by omega) (by omega) (by omega) (by omega)).trans h0)
          · have e6 : ¬ nI A ≤ nI R := nI_ge (by omega) (by omega)
            obtain ⟨s3, hs3⟩ : ∃ s3, upd (uNotes i (nI 1) (nI c) (uFails c s)) (21 + 1262 * (i) + (622 + 10 * (n) + 0)) (nI 3) = s3 := ⟨_, rfl⟩
            have hs4 : ∀ j, j ≠ (21 + 1262 * (i) + (622 + 10 * (n) + 0)) → j ≠ (21 + 1262 * (i) + 9) → (j < (21 + 1262 * (i) + 22) ∨ (21 + 1262 * (i) + 622) ≤ j) → ¬ (9 ≤ j ∧ j < 17) → s3 j = s j := fun j h1 h4 h5 h6 => by
              rw [← hs3, upd_ne h1]
              exact hs2 j h4 h5 h6
            have hv0 : s3 (21 + 1262 * (i) + (622 + 10 * (n) + 0)) = nI 3 := by rw [← hs3, upd_self]
            have hv7 : s3 (21 + 1262 * (i) + (622 + 10 * (n) + 7)) = -1 := (hs4 _ (by omega) (by omega) (by omega) (by omega)).trans t4
            have hW3 : pW S σ xa mo ia i ver T w2 tg s3 (B + 1) bo un := by
              refine q3.rows (fun j hj => ?_) (fun m _ _ => ⟨?_, fun _ => ⟨?_, ?_⟩⟩)
              · rw [← hs3, upd_ne (by omega)]
              · by_cases hmn : m = n
                · subst hmn
                  rw [hv0, hs2 _ (by omega) (by omega) (by omega), t3]
                  decide
                · rw [← hs3, upd_ne (by omega)]
              · rw [← hs3, upd_ne (by omega)]
              · rw [← hs3, upd_ne (by omega)]
            refine ⟨w2, tg, s3, w.2.2.2 4, nI 3, ?_, ?_, hW3.mono (by omega), hP2, ?_, ?_, ?_, Or.inr (Or.inr ⟨by rw [hK2], rfl, hv0, ?_, ?_⟩)⟩
            · obtain ⟨fu', rfl⟩ : ∃ fu', fu = fu' + 1 := ⟨fu - 1, by omega⟩
              have hlast : gL1 (bf_X23_looks_1 a) (fu' + 1) (some (w.2.2.2 4)) w2 = some (some (w.2.2.2 4), w2) := by
                show bf_X23_looks_1 a (gL1 (bf_X23_looks_1 a) fu') (some (w.2.2.2 4)) _ = _
                generalize gL1 (bf_X23_looks_1 a) fu' = KK
                have ho2 := (pf_over q3.2.1).2.2
                rw [hK2] at ho2
                unfold bf_X23_looks_1
                have e4 : ¬ (1 : Int32) = 0 := by decide
                simp only [pu_B1, pu_B2, pu_Bd, pu_Nn, pu_Ns, pv_I, pv_R, pv_P, pv_LI, pv_LR, pv_SI, pv_SR, pv_O, pv_C, pvF, pvI, pvR, pvP, pvLI, pvLR, pvSI, pvSR, pvN, pvO, pvC, pv_bs, pv_ms, hs_self, hs_ne, hs_K, hs_2, List.getElem?_cons_succ, List.getElem?_cons_zero, List.set_cons_succ, List.set_cons_zero, Option.isSome_some, if_true, if_false, true_and, and_true, ↓reduceIte, ho2, e4]
              show bf_X23_looks_1 a (gL1 (bf_X23_looks_1 a) (fu' + 1)) (some (w.2.2.2 2)) w = _
              generalize gL1 (bf_X23_looks_1 a) (fu' + 1) = KK at hlast ⊢
              obtain ⟨f1, f2, f3, f4, f5, f6, f7, f8, f9, f10, f11, f12, f13, f14, f15, hI1⟩ := hI1
              unfold bf_X23_looks_1 f_X23_ends
              simp (disch := first | assumption | omega) only [pu_B1, pu_B2, pu_Bd, pu_Nn, pu_Ns, pv_I, pv_R, pv_P, pv_LI, pv_LR, pv_SI, pv_SR, pv_O, pv_C, pvF, pvI, pvR, pvP, pvLI, pvLR, pvSI, pvSR, pvN, pvO, pvC, pv_bs, pv_ms, hs_self, hs_ne, hs_K, hs_2, List.getElem?_cons_succ, List.getElem?_cons_zero, List.set_cons_succ, List.set_cons_zero, Option.isSome_some, if_true, if_false, true_and, and_true, ↓reduceIte, t2, i2, m2, o3, ho.1, m10, e1, e4, hc, r1, ha1, hI1, ho1, q1, ha2.1, ho2.1, hR, e6, hK2]
              exact hlast
            · show bt_X2_looksAtTask_1 (gL3 bt_X2_looksAtTask_1 fu2) (nI i) (nI n) (nI c) (tS σ s) = _
              generalize gL3 bt_X2_looksAtTask_1 fu2 = KK
              unfold bt_X2_looksAtTask_1
              rw [← hs3]
              simp (disch := omega) only [pu_B1, pu_B2, pu_Bd, nI_add, pu_mul, pu_ld5, pu_st5, pu_ld1, pu_ld3, en2, en3, z1, m10, e2, e3, if_true, if_false, r2, e4, q2, hs2, t7, hnp2, e6, pt_comesTo hi]
            · intro j h1 h2 h3
              refine hs4 j ?_ ?_ ?_ ?_ <;> omega
            · have hp := pPh_at (i := i) (n := n) (s := s) (s1 := s3) (by omega) (fun m hm hmn => hs4 _ (by omega) (by omega) (by omega) (by omega))
              rw [hv0, t3, if_neg (by decide), if_pos rfl, if_neg (by decide), if_neg (by decide)] at hp
              constructor
              · rw [hw2]
                omega
              · rw [hw2]
                omega
            · intro c' hc' h0
              exact (hs4 _ (by omega) (by omega) (by omega) (by omega)).trans h0
            · intro j hj1 hj2
              obtain rfl : j = n := by omega
              rw [hv7, hv0]
              exact ⟨rfl, by decide, by decide⟩
            · have h1 : rItem S xa ia i w2 tg s3 T true (fun _ _ => False) n a := Or.inl ⟨hk, hv7, by rw [hv0]; decide, t1, nI 0, nI U, nI A, -1, ha2.1, Or.inl rfl, fun z => absurd (hv0.symm.trans z) (by decide), fun z => absurd (hv0.symm.trans z) (by decide), fun _ => rfl⟩
              cases l with
              | zero => exact h1
              | succ l =>
                rcases h1 with h | h | h | h | h | h
                · exact Or.inl h
                all_goals (exfalso; have := h.1; omega)
      · -- a new attempt
        obtain ⟨w1, D, r1, r2, r3, r4, r5, r6, r7, r8⟩ := sim_tries hW0 (by omega) hn hk hc hc8 t2 t1
        have hu : ∀ j, j ≠ (21 + 1262 * (i) + (622 + 10 * (n) + 2)) → j ≠ (21 + 1262 * (i) + (622 + 10 * (n) + 3)) → (j < (21 + 1262 * (i) + 22) ∨ (21 + 1262 * (i) + 622) ≤ j) → j ≠ (21 + 1262 * (i) + 9) → uTries i n c s j = s j := fun j h1 h2 h3 h4 => by
          unfold uTries
          rw [upd_ne h2, upd_ne h1]
          exact uNotes_ne hE (by omega) h4 h3
        have hrs : pRs i w w1 s (uTries i n c s) := pRs.eq r7 (fun m hm => hu _ (by omega) (by omega) (by omega) (by omega))
        have hK : w1.2.2.2 = w.2.2.2 := by rw [r7]
        have hst1 : tSta S xa ia i n a R w1 tg (uTries i n c s) 1 (T + D) (A + 1) := by
          refine ⟨t1, r5, (hu _ (by omega) (by omega) (by omega) (by omega)).trans t3, (hu _ (by omega) (by omega) (by omega) (by omega)).trans t4, (hu _ (by omega) (by omega) (by omega) (by omega)).trans t6, ?_, by omega, by omega, Or.inl ⟨rfl, ?_, by omega⟩⟩
          · unfold uTries
            rw [upd_ne (by omega), upd_self, t7, nI_add]
          · unfold uTries
            rw [upd_self]
            exact r2
        obtain ⟨w2, tg2, s2, o, x, v1, v2, v3, v4, v5, v6, v7, v8⟩ := ih w1 tg (uTries i n c s) (B + 1) 1 (T + D) (A + 1) fu fu2 (by omega) (by omega) (by omega) r6 (by omega) (hRm.tr hrs hK) hst1
        refine ⟨w2, tg2, s2, o, x, ?_, ?_, v3.mono (by omega), r8.tr v4, ?_, hrs.tr v6, ?_, v8⟩
        · show bf_X23_looks_1 a (gL1 (bf_X23_looks_1 a) fu) (some (w.2.2.2 2)) w = _
          rw [hK] at v1
          generalize gL1 (bf_X23_looks_1 a) fu = KK at v1 ⊢
          unfold bf_X23_looks_1
          have e3 : nI 0 = 0 := by decide
          simp only [pu_B1, pu_B2, pu_Bd, pu_Nn, pu_Ns, pv_I, pv_R, pv_P, pv_LI, pv_LR, pv_SI, pv_SR, pv_O, pv_C, pvF, pvI, pvR, pvP, pvLI, pvLR, pvSI, pvSR, pvN, pvO, pvC, pv_bs, pv_ms, hs_self, hs_ne, hs_K, hs_2, List.getElem?_cons_succ, List.getElem?_cons_zero, List.set_cons_succ, List.set_cons_zero, Option.isSome_some, if_true, if_false, true_and, and_true, ↓reduceIte, t2, i2, m2, ho.1, m10, e1, eq_true e3, r3]
          exact v1
        · show bt_X2_looksAtTask_1 (gL3 bt_X2_looksAtTask_1 fu2) (nI i) (nI n) (nI c) (tS σ s) = _
          generalize gL3 bt_X2_looksAtTask_1 fu2 = KK at v2 ⊢
          unfold bt_X2_looksAtTask_1
          have e3 : ¬ (0 : Int32) ≤ -1 := by decide
          simp (disch := omega) only [pu_B1, pu_B2, pu_Bd, nI_add, pu_mul, pu_ld5, pu_st5, pu_ld1, pu_ld3, en3, en4, z1, z2, m10, e2, e3, if_false, if_true, r4]
          exact v2
        · refine pQ.tr (fun j h1 h2 h3 => hu j ?_ ?_ ?_ ?_) v5 <;> omega
        · intro c' hc' h0
          exact v7 c' hc' ((hu _ (by omega) (by omega) (by omega) (by omega)).trans h0)
end TL
