set_option maxRecDepth 100000
/-! A PARALLEL's RUN: a look at one that runs, up to the counts -/
section PR
variable {S : SV} {σ : TS} {xa mo ia i ver T : Nat} {bo un : Option Nat}
theorem par_run {n a l D d T0 B : Nat} {q : Bool} {w : gw} {tg : pT} {s : Nat → Int32} (hsim : simB S σ xa mo ia i ver T bo un l D d) (hnn : n < sEn S 0) (hk6 : sKd S n = 6) (hlv : sLv S n = l + 1) (hW : pW S σ xa mo ia i ver T w tg s B bo un) (hB : B + 256 * (sEn S n - n) < 2 ^ 31) (hRm : pRm i w s) (hI : rI S xa ia i w tg s T0 q (l + 1) n a) (hst : s (21 + 1262 * (i) + (622 + 10 * (n) + 0)) = nI 1) :
    ∃ ba oa ptr out out1 w1 tg1 s1 fu q0, pCell S xa ia n a ba oa none ptr out w tg ∧ f_X22_looksAtAll (f_Run_looks D) a w = some ((), w1) ∧ 1 ≤ fu ∧ t_X2_looksAtParallel (t_X2_looksAtBody d) (nI i) (nI n) (tS σ s) = gL3 (bt_X2_looksAtParallel_1 kPar (t_X2_looksAtBody d)) fu (nI i) (nI n) (-1) (tS σ s1) ∧
      pW S σ xa mo ia i ver T w1 tg1 s1 (B + 256 * (sEn S n - (n + 1))) bo un ∧ pFr w w1 tg tg1 (pP mo ia n (sEn S n)) ∧ pQ i (n + 1) (sEn S n) s s1 ∧ pRk 0 i w w1 s s1 ∧ pPe i s s1 ∧ pCell S xa ia n a ba oa none ptr out1 w1 tg1 ∧ (∀ j, j < sCc S n → pKid S xa ia i l w1 tg1 s1 T true n ptr out1 j) ∧
      s1 (21 + 1262 * (i) + (622 + 10 * (n) + 0)) = nI 1 ∧ s1 (21 + 1262 * (i) + (622 + 10 * (n) + 7)) = -1 ∧ sP S n 1 = nI q0 ∧ 1 ≤ q0 ∧ q0 ≤ sCc S n := by
  have hS : sWf S := hW.1.2.2.1
  have hNs : sEn S 0 ≤ 64 := hS.1
  have hi : i < 6 := hW.1.2.1
  have hia := hW.1.1
  have hN := hS.2.2.2.2.2 n hnn
  have hNn := hN.1.2.1
  have hl := hN.1.1
  have hc0 : sCp S n 0 = n + 1 := hN.1.2.2.2.2.1
  obtain ⟨hc1, hc4, ⟨q0, hq1, hq2, hq3⟩, hch⟩ := par_ch hS hnn hk6
  have hmoia : mo ≠ ia := by
    obtain ⟨du, fa, ins, va, pe, hi2, dl, f10, f11, f12, c1, c2, -⟩ := hW.cells
    exact ne_of c1 c2 (by simp)
  have hI' : rItem S xa ia i w tg s T0 q (rB S xa ia i w tg s T0 q l) n a := hI
  rcases hI' with g | g | g | g | g | g
  · exact absurd g.1 (by omega)
  · exact absurd g.1 (by omega)
  · exact absurd g.1 (by omega)
  · exact absurd g.1 (by omega)
  · exact absurd g.1 (by omega)
  · obtain ⟨g1, g2, ba, oa, und, ptr, out, g3, g4, g5, g6, g7, g8, g9, g10, g11, g12, g13⟩ := g
    obtain ⟨rfl, h7, -⟩ := g10 hst
    have hc : pCell S xa ia n a ba oa none ptr out w tg := ⟨g2, g3, g4, g5, g6, g7⟩
    have hK : ∀ j, j < sCc S n → pKid S xa ia i l w tg s T0 q n ptr out j := fun j hj => by
      have z := g9 (Or.inl hst) j hj
      rcases g8 j hj with ⟨y, -, -⟩ | ⟨-, a', y1, y2⟩
      · rcases z with z | z | z
        · rw [y] at z; exact absurd z.1 (by simp)
        · rw [y] at z; exact absurd z.1 (by simp)
        · rw [y] at z; exact absurd z.1 (by simp)
      · exact ⟨a', y1, y2, z⟩
    obtain ⟨w1, tg1, s1, out1, fu, r1, r2, r3, r4, r5, r6, r7, r8, r9, r10⟩ := par_live (a := a) (ba := ba) (oa := oa) (und := none) (ptr := ptr) (T0 := T0) (q := q) hsim hS hnn hk6 hlv hi hmoia hia (sCc S n) 0 20000 20000 (by omega) (by omega) (by omega) w tg s B out hW (by omega) hRm hc (fun j hj => absurd hj (by omega)) (fun j _ hj => hK j hj)
    have e0 : ∀ w : TS, t_X2_at (nI i) (nI n) (nI 0) w = _ := fun w => pt_at w
    have k5 := hW.np (n := n) (k := 5) hnn (by omega)
    rw [hN.1.2.2.2.1] at k5
    refine ⟨ba, oa, ptr, out, out1, w1, tg1, s1, fu, q0, hc, ?_, r2, ?_, by rw [← hc0]; exact r4, r5, r6, r7, r8, r9, r10, ?_, ?_, hq3, hq1, hq2⟩
    · rw [f_X22_looksAtAll_eq]
      exact r1
    · rw [t_par_eq, e0, pu_B2, pu_ld5 (by omega), pu_B1, hst, if_neg (by decide), k5, pu_B2]
      exact r3
    · rw [r6 _ (by omega) (by omega) (by omega)]
      exact hst
    · rw [r6 _ (by omega) (by omega) (by omega)]
      exact h7
end PR
