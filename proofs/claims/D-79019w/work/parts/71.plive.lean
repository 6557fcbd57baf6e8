set_option maxRecDepth 100000
/-! A PARALLEL's RUN: the looks at its bodies, in step -/
section PL
variable {S : SV} {σ : TS} {xa mo ia i ver T : Nat} {bo un : Option Nat}
theorem par_live {n a ba oa l D d : Nat} {und : Option Nat} {ptr : Nat → Option Nat} {T0 : Nat} {q : Bool} (hsim : simB S σ xa mo ia i ver T bo un l D d) (hS : sWf S) (hnn : n < sEn S 0) (hk6 : sKd S n = 6) (hlv : sLv S n = l + 1) (hi : i < 6) (hmoia : mo ≠ ia) (hia : ia ≠ 0) : ∀ (r k f1 f2 : Nat), k + r = sCc S n → r < f1 → r < f2 → ∀ (w : gw) (tg : pT) (s : Nat → Int32) (B : Nat) (out : Nat → Option Nat),
    pW S σ xa mo ia i ver T w tg s B bo un → B + 256 * (sEn S n - sCp S n k) < 2 ^ 31 → pRm i w s → pCell S xa ia n a ba oa und ptr out w tg → (∀ j, j < k → pKid S xa ia i l w tg s T true n ptr out j) → (∀ j, k ≤ j → j < sCc S n → pKid S xa ia i l w tg s T0 q n ptr out j) →
    ∃ w1 tg1 s1 out1 fu, gL1 (bf_X22_looksAtAll_1 a (f_Run_looks D)) f1 (nI k) w = some ((), w1) ∧ 1 ≤ fu ∧ gL3 (bt_X2_looksAtParallel_1 kPar (t_X2_looksAtBody d)) f2 (nI i) (nI n) (sAt S n k) (tS σ s) = gL3 (bt_X2_looksAtParallel_1 kPar (t_X2_looksAtBody d)) fu (nI i) (nI n) (-1) (tS σ s1) ∧
      pW S σ xa mo ia i ver T w1 tg1 s1 (B + 256 * (sEn S n - sCp S n k)) bo un ∧ pFr w w1 tg tg1 (pP mo ia n (sEn S n)) ∧ pQ i (n + 1) (sEn S n) s s1 ∧ pRk 0 i w w1 s s1 ∧ pPe i s s1 ∧ pCell S xa ia n a ba oa und ptr out1 w1 tg1 ∧ ∀ j, j < sCc S n → pKid S xa ia i l w1 tg1 s1 T true n ptr out1 j := by
  have hNs : sEn S 0 ≤ 64 := hS.1
  have hN := hS.2.2.2.2.2 n hnn
  have hl := hN.1.1
  obtain ⟨hc1, hc4, -, hch⟩ := par_ch hS hnn hk6
  intro r
  induction r with
  | zero =>
    intro k f1 f2 hk hf1 hf2 w tg s B out hW hB hRm hc hK1 hK2
    obtain ⟨fu, rfl⟩ : ∃ fu, f1 = fu + 1 := ⟨f1 - 1, by omega⟩
    have e1 : sAt S n k = -1 := by
      unfold sAt
      rw [if_neg (by omega)]
    have e2 : sCp S n k = sEn S n := by
      unfold sCp
      rw [if_neg (by omega)]
    obtain ⟨a1, a2, a3, a4, a5, a6⟩ := id hc
    refine ⟨w, tg, s, out, f2, ?_, by omega, by rw [e1], hW.mono (by omega), pFr.rf hW.bd, pQ.rf, pRk.z ⟨Nat.le_refl _, Nat.le_refl _⟩, fun _ _ z => z, hc, fun j hj => hK1 j (by omega)⟩
    show bf_X22_looksAtAll_1 a (f_Run_looks D) (gL1 (bf_X22_looksAtAll_1 a (f_Run_looks D)) fu) (nI k) w = _
    generalize gL1 (bf_X22_looksAtAll_1 a (f_Run_looks D)) fu = KK
    unfold bf_X22_looksAtAll_1
    rw [pu_R (k := 3) a2 rfl, pu_B1, pu_B1, pu_Len a4, pu_B1, show k = sCc S n by omega, if_pos (Int32.le_refl _)]
  | succ r ih =>
    intro k f1 f2 hk hf1 hf2 w tg s B out hW hB hRm hc hK1 hK2
    obtain ⟨g1, rfl⟩ : ∃ fu, f1 = fu + 1 := ⟨f1 - 1, by omega⟩
    obtain ⟨g2, rfl⟩ : ∃ fu, f2 = fu + 1 := ⟨f2 - 1, by omega⟩
    have hkc : k < sCc S n := by omega
    have hi' := sNode_in hN hkc
    have hcN := sWf_lt hS hnn hkc
    have e1 : sAt S n k = nI (sCh S n k) := by
      unfold sAt
      rw [if_pos hkc]
    have e2 : ¬ nI (sCh S n k) < 0 := nI_pos (by omega)
    have e3 : sEn S (sCh S n k) ≤ sEn S n := hi'.2.1
    have ec0 : ∀ w : TS, t_X2_at (nI i) (nI (sCh S n k)) (nI 0) w = _ := fun w => pt_at w
    have hlk : sLv S (sCh S n k) = l := by have := (hch k hkc).2; omega
    have key : ∃ w1 tg1 s1 out1, bf_X22_looksAtAll_1 a (f_Run_looks D) (gL1 (bf_X22_looksAtAll_1 a (f_Run_looks D)) g1) (nI k) w = gL1 (bf_X22_looksAtAll_1 a (f_Run_looks D)) g1 (nI (k + 1)) w1 ∧
        bt_X2_looksAtParallel_1 kPar (t_X2_looksAtBody d) (gL3 (bt_X2_looksAtParallel_1 kPar (t_X2_looksAtBody d)) g2) (nI i) (nI n) (sAt S n k) (tS σ s) = gL3 (bt_X2_looksAtParallel_1 kPar (t_X2_looksAtBody d)) g2 (nI i) (nI n) (sAt S n (k + 1)) (tS σ s1) ∧
        pW S σ xa mo ia i ver T w1 tg1 s1 (B + 256 * (sEn S (sCh S n k) - sCh S n k)) bo un ∧ pFr w w1 tg tg1 (pPk S mo ia n k) ∧ pQ i (sCh S n k) (sEn S (sCh S n k)) s s1 ∧ pRk 0 i w w1 s s1 ∧ pPe i s s1 ∧ pCell S xa ia n a ba oa und ptr out1 w1 tg1 ∧ (∀ j, j ≠ k → out1 j = out j) ∧ pKid S xa ia i l w1 tg1 s1 T true n ptr out1 k := by
      have k6 : ∀ (w : gw) (tg : pT) (s : Nat → Int32) (B : Nat), pW S σ xa mo ia i ver T w tg s B bo un → t_X2_nodePart (nI i) (nI (sCh S n k)) (nI 6) (tS σ s) = some (sAt S n (k + 1), tS σ s) := fun w tg s B h => by
        have z := h.np (n := sCh S n k) (k := 6) hcN (by omega)
        rw [(hN.1.2.2.2.2.2 k hkc).2.2.1] at z
        exact z
      have hkid := hK2 k (Nat.le_refl _) hkc
      obtain ⟨a', h1, h2, h3⟩ := id hkid
      generalize gL1 (bf_X22_looksAtAll_1 a (f_Run_looks D)) g1 = KK
      generalize gL3 (bt_X2_looksAtParallel_1 kPar (t_X2_looksAtBody d)) g2 = KT
      by_cases hrun : s (21 + 1262 * (i) + (622 + 10 * (sCh S n k) + 0)) = nI 1
      · have ho : out k = some (w.2.2.2 2) := by
          rcases h3 with z | z | z
          · exact z.1
          · exact absurd (hrun.symm.trans z.2) (by decide)
          · rcases z.2 with y | y
            · exact absurd (hrun.symm.trans y) (by decide)
            · exact absurd (hrun.symm.trans y) (by decide)
        have hres := hsim.1 _ a' w tg s B T0 q hcN (hch k hkc).1 hlk hW (by rw [hi'.2.2.2.1] at hB; omega) hRm h2 hrun
        obtain ⟨w1, tg1, s1, x, out1, r1, r2, r3, r4, r5, r6, r7, r8, r9, r10⟩ := kid_look hW hnn hk6 hkc hc h1 ho hres
        refine ⟨w1, tg1, s1, out1, (all_there hc4 hkc hc ho KK).trans (r1 KK), ?_, r3, r4, r5, r6, r7, r8, r9, r10⟩
        unfold bt_X2_looksAtParallel_1
        rw [e1, if_neg e2, ec0, pu_B2, pu_ld5 (by omega), pu_B1, pu_Bd, if_pos hrun, r2, pu_B2]
        try dsimp only
        rw [k6 _ _ _ _ r3, pu_B2]
      · have ho : out k = some (w.2.2.2 3) ∨ out k = some (w.2.2.2 4) := by
          rcases h3 with z | z | z
          · exact absurd z.2 hrun
          · exact Or.inl z.1
          · exact Or.inr z.1
        refine ⟨w, tg, s, out, kid_over hW hc4 hkc hc ho KK, ?_, hW.mono (by omega), pFr.rf hW.bd, pQ.rf, pRk.z ⟨Nat.le_refl _, Nat.le_refl _⟩, fun _ _ z => z, hc, fun _ _ => rfl, kid_up hS hnn hk6 hkc hrun hkid⟩
        unfold bt_X2_looksAtParallel_1
        rw [e1, if_neg e2, ec0, pu_B2, pu_ld5 (by omega), pu_B1, pu_Bd, if_neg hrun]
        try dsimp only
        rw [k6 _ _ _ _ hW, pu_B2]
    obtain ⟨w1, tg1, s1, out1, r1, r2, r3, r4, r5, r6, r7, r8, r9, r10⟩ := key
    have hcp : sCp S n k = sCh S n k := hi'.2.2.2.1
    have hcp1 : sEn S (sCh S n k) = sCp S n (k + 1) := hi'.2.2.2.2
    have hcpe : sCp S n (k + 1) ≤ sEn S n := by omega
    obtain ⟨w2, tg2, s2, out2, fu, q1, q2, q3, q4, q5, q6, q7, q8, q9, q10⟩ := ih (k + 1) g1 g2 (by omega) (by omega) (by omega) w1 tg1 s1 _ out1 r3 (by omega) (hRm.tr r6.s r4.2.2.1) r8 (fun j hj => by
      by_cases hjk : j = k
      · rw [hjk]; exact r10
      · exact kid_keep hS hnn hk6 hkc (by omega) hjk hmoia hia hW.bd r4 r5 r7 (r9 j hjk) (hK1 j (by omega))) (fun j hj hjc => kid_keep hS hnn hk6 hkc hjc (by omega) hmoia hia hW.bd r4 r5 r7 (r9 j (by omega)) (hK2 j (by omega) hjc))
    refine ⟨w2, tg2, s2, out2, fu, r1.trans q1, q2, r2.trans q3, q4.mono (by omega), (r4.mono (fun t z => ?_)).tr q5, (r5.mono (by omega) (by omega)).tr q6, pRk.z (r6.s.tr q7.s), fun c hc z => q8 c hc (r7 c hc z), q9, q10⟩
    rcases z with (z | z) | z
    · refine Or.inl ⟨z.1, ?_⟩
      rcases z.2 with y | y
      · exact Or.inl ⟨by omega, by omega⟩
      · exact Or.inr y
    · exact Or.inr z
    · rw [z]
      exact Or.inl ⟨rfl, Or.inl ⟨Nat.le_refl _, hl⟩⟩
end PL
