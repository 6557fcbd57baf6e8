set_option maxRecDepth 100000
/-! A PARALLEL's RUN: the first look: it goes on, or the counts say otherwise -/
section PX
variable {S : SV} {σ : TS} {xa mo ia i ver T : Nat} {bo un : Option Nat}
theorem par_first {n a l D d B : Nat} {w : gw} {tg : pT} {s : Nat → Int32} (hld : l + 1 ≤ d) (hsim : simB S σ xa mo ia i ver T bo un l D d) (hnn : n < sEn S 0) (hk6 : sKd S n = 6) (hlv : sLv S n = l + 1) (hW : pW S σ xa mo ia i ver T w tg s B bo un) (hB : B + 256 * (sEn S n - n) < 2 ^ 31) (hRm : pRm i w (upd s (21 + 1262 * (i) + (622 + 10 * (n) + 0)) (nI 1))) (hun : rUn i s n (sEn S n)) (hf : rFr S xa ia i w tg s T n a) :
    pRes 4 S σ xa mo ia i ver T (l + 1) n a w tg s B bo un (f_Run_looks (D + 1) a w) (t_X2_begins (t_X2_looksAtBody d) (nI i) (nI n) (tS σ s)) ∨
    ∃ ba oa ptr1 out1 w1 tg1 s1 fu q0, pCell S xa ia n a ba oa none (fun _ => none) (fun _ => none) w tg ∧ f_X22_looksAtAll (f_Run_looks D) a w = some ((), w1) ∧ 1 ≤ fu ∧ t_X2_begins (t_X2_looksAtBody d) (nI i) (nI n) (tS σ s) = gL3 (bt_X2_looksAtParallel_1 kPar (t_X2_looksAtBody d)) fu (nI i) (nI n) (-1) (tS σ s1) ∧
      pW S σ xa mo ia i ver T w1 tg1 s1 (B + 256 * (sEn S n - (n + 1))) bo un ∧ pFr w w1 tg tg1 (pP mo ia n (sEn S n)) ∧ pQ i n (sEn S n) s s1 ∧ pRk 4 i w w1 s s1 ∧ pPe i s s1 ∧ pCell S xa ia n a ba oa none ptr1 out1 w1 tg1 ∧ (∀ j, j < sCc S n → pKid S xa ia i l w1 tg1 s1 T true n ptr1 out1 j) ∧
      s1 (21 + 1262 * (i) + (622 + 10 * (n) + 0)) = nI 1 ∧ s1 (21 + 1262 * (i) + (622 + 10 * (n) + 7)) = -1 ∧ sP S n 1 = nI q0 ∧ 1 ≤ q0 ∧ q0 ≤ sCc S n ∧ (q0 ≤ rCount S i s1 n 2 (sCc S n) ∨ rCount S i s1 n 2 (sCc S n) + rCount S i s1 n 1 (sCc S n) < q0) := by
  have hS : sWf S := hW.1.2.2.1
  have hNs : sEn S 0 ≤ 64 := hS.1
  have hi : i < 6 := hW.1.2.1
  have hN := hS.2.2.2.2.2 n hnn
  have hl := hN.1.1
  obtain ⟨hc1, hc4, -, hch⟩ := par_ch hS hnn hk6
  obtain ⟨ba, oa, ptr1, out1, w1, tg1, s1, q0, r1, r2, r3, r4, r5, r6, r7, r8, r9, r10, r11, r12, r13, r14, r15⟩ := par_begin hsim hnn hk6 hlv hW hB hRm hun hf
  obtain ⟨fu, hfu, hno⟩ := par_noop_t (k4 := kPar) (rec := t_X2_looksAtBody d) r4 hnn (fun j hj hz => by
    obtain ⟨a', -, y2, -⟩ := r10 j hj
    exact (idem r4 l).1 _ a' d hld (sWf_lt hS hnn hj) (hch j hj).1 hz y2) (sCc S n) 0 20000 (by omega) (by omega)
  have e0 : ∀ w : TS, t_X2_at (nI i) (nI n) (nI 0) w = _ := fun w => pt_at w
  have k5 := r4.np (n := n) (k := 5) hnn (by omega)
  rw [hN.1.2.2.2.1] at k5
  have hid : ∀ r : Option (Int32 × TS), (gB2 r fun x25 w24 => some (x25, w24)) = r := by
    intro r
    cases r with
    | none => rfl
    | some q => rfl
  have ht : t_X2_begins (t_X2_looksAtBody d) (nI i) (nI n) (tS σ s) = gL3 (bt_X2_looksAtParallel_1 kPar (t_X2_looksAtBody d)) fu (nI i) (nI n) (-1) (tS σ s1) := by
    rw [r3]
    unfold kLk
    rw [hid, par_disp_t r4 hnn hk6, t_par_eq, e0, pu_B2, pu_ld5 (by omega), pu_B1, r11, if_neg (by decide), k5, pu_B2]
    exact hno
  by_cases hx : q0 ≤ rCount S i s1 n 2 (sCc S n) ∨ rCount S i s1 n 2 (sCc S n) + rCount S i s1 n 1 (sCc S n) < q0
  · exact Or.inr ⟨ba, oa, ptr1, out1, w1, tg1, s1, fu, q0, r1, r2, hfu, ht, r4, r5, r6, r7, r8, r9, r10, r11, r12, r13, r14, r15, hx⟩
  · refine Or.inl ?_
    have l1 := rCount_le (S := S) (i := i) (s := s1) (n := n) (x := 1) (sCc S n)
    have l2 := rCount_le (S := S) (i := i) (s := s1) (n := n) (x := 2) (sCc S n)
    obtain ⟨c1, c2⟩ := kid_count r4.2.1 (sCc S n) r10
    obtain ⟨f0, f1, ho⟩ := r4.par hnn hk6
    rw [r13] at ho
    refine ⟨w1, tg1, s1, w1.2.2.2 2, nI 1, ?_, ?_, r4.mono (by omega), r5, r6, r7, r8, Or.inl ⟨rfl, Or.inl rfl, r11, par_rI hk6 r9 r10 r11 r12 r13 rfl rfl (by omega) (by omega)⟩⟩
    · rw [par_disp r1]
      exact par_stay_f hc4 r1 r2 r9 ho c2 c1 (by omega) (by omega) (by omega) (by omega)
    · rw [ht]
      exact par_stay_t r4 hnn r13 rfl rfl (by omega) (by omega) (by omega) (by omega) hfu
end PX
