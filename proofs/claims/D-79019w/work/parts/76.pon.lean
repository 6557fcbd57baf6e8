set_option maxRecDepth 100000
/-! A PARALLEL's RUN: a look at one that runs: it goes on, or the counts say otherwise -/
section PO
variable {S : SV} {σ : TS} {xa mo ia i ver T : Nat} {bo un : Option Nat}
theorem pW.par {n B : Nat} {w : gw} {tg : pT} {s : Nat → Int32} (hW : pW S σ xa mo ia i ver T w tg s B bo un) (hnn : n < sEn S 0) (hk6 : sKd S n = 6) : ∃ f0 f1, w.1 (sSa S n) = some (.inl (14, [f0, f1, gi (sP S n 1)])) := by
  obtain ⟨-, o2⟩ := hW.2.2.1 n hnn
  rcases o2 with z | z | z | z | z | z | ⟨-, la, g, z1, -⟩
  · omega
  · omega
  · omega
  · omega
  · omega
  · omega
  · exact ⟨_, _, z1⟩
theorem par_on {n a l D d T0 B : Nat} {q : Bool} {w : gw} {tg : pT} {s : Nat → Int32} (hsim : simB S σ xa mo ia i ver T bo un l D d) (hnn : n < sEn S 0) (hk6 : sKd S n = 6) (hlv : sLv S n = l + 1) (hW : pW S σ xa mo ia i ver T w tg s B bo un) (hB : B + 256 * (sEn S n - n) < 2 ^ 31) (hRm : pRm i w s) (hI : rI S xa ia i w tg s T0 q (l + 1) n a) (hst : s (21 + 1262 * (i) + (622 + 10 * (n) + 0)) = nI 1) :
    pRes 0 S σ xa mo ia i ver T (l + 1) n a w tg s B bo un (f_Run_looks (D + 1) a w) (t_X2_looks (t_X2_looksAtBody d) (nI i) (nI n) (tS σ s)) ∨
    ∃ ba oa ptr out out1 w1 tg1 s1 fu q0, pCell S xa ia n a ba oa none ptr out w tg ∧ f_X22_looksAtAll (f_Run_looks D) a w = some ((), w1) ∧ 1 ≤ fu ∧ t_X2_looksAtParallel (t_X2_looksAtBody d) (nI i) (nI n) (tS σ s) = gL3 (bt_X2_looksAtParallel_1 kPar (t_X2_looksAtBody d)) fu (nI i) (nI n) (-1) (tS σ s1) ∧
      pW S σ xa mo ia i ver T w1 tg1 s1 (B + 256 * (sEn S n - (n + 1))) bo un ∧ pFr w w1 tg tg1 (pP mo ia n (sEn S n)) ∧ pQ i (n + 1) (sEn S n) s s1 ∧ pRk 0 i w w1 s s1 ∧ pPe i s s1 ∧ pCell S xa ia n a ba oa none ptr out1 w1 tg1 ∧ (∀ j, j < sCc S n → pKid S xa ia i l w1 tg1 s1 T true n ptr out1 j) ∧
      s1 (21 + 1262 * (i) + (622 + 10 * (n) + 0)) = nI 1 ∧ s1 (21 + 1262 * (i) + (622 + 10 * (n) + 7)) = -1 ∧ sP S n 1 = nI q0 ∧ 1 ≤ q0 ∧ q0 ≤ sCc S n ∧ (q0 ≤ rCount S i s1 n 2 (sCc S n) ∨ rCount S i s1 n 2 (sCc S n) + rCount S i s1 n 1 (sCc S n) < q0) := by
  have hS : sWf S := hW.1.2.2.1
  obtain ⟨hc1, hc4, -, -⟩ := par_ch hS hnn hk6
  obtain ⟨ba, oa, ptr, out, out1, w1, tg1, s1, fu, q0, r1, r2, r3, r4, r5, r6, r7, r8, r9, r10, r11, r12, r13, r14, r15, r16⟩ := par_run hsim hnn hk6 hlv hW hB hRm hI hst
  by_cases hx : q0 ≤ rCount S i s1 n 2 (sCc S n) ∨ rCount S i s1 n 2 (sCc S n) + rCount S i s1 n 1 (sCc S n) < q0
  · exact Or.inr ⟨ba, oa, ptr, out, out1, w1, tg1, s1, fu, q0, r1, r2, r3, r4, r5, r6, r7, r8, r9, r10, r11, r12, r13, r14, r15, r16, hx⟩
  · refine Or.inl ?_
    have l1 := rCount_le (S := S) (i := i) (s := s1) (n := n) (x := 1) (sCc S n)
    have l2 := rCount_le (S := S) (i := i) (s := s1) (n := n) (x := 2) (sCc S n)
    obtain ⟨c1, c2⟩ := kid_count r5.2.1 (sCc S n) r11
    obtain ⟨f0, f1, ho⟩ := r5.par hnn hk6
    rw [r14] at ho
    refine ⟨w1, tg1, s1, w1.2.2.2 2, nI 1, ?_, ?_, r5.mono (by omega), r6, r7.mono (by omega) (Nat.le_refl _), r8, r9, Or.inl ⟨rfl, Or.inl rfl, r12, par_rI hk6 r10 r11 r12 r13 r14 rfl rfl (by omega) (by omega)⟩⟩
    · rw [par_disp r1]
      exact par_stay_f hc4 r1 r2 r10 ho c2 c1 (by omega) (by omega) (by omega) (by omega)
    · rw [par_disp_t hW hnn hk6, r4]
      exact par_stay_t r5 hnn r14 rfl rfl (by omega) (by omega) (by omega) (by omega) r3
end PO
