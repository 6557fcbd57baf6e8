set_option maxRecDepth 100000
/-! A PARALLEL's RUN: the first looks at its bodies, in step -/
section PF
variable {S : SV} {σ : TS} {xa mo ia i ver T : Nat} {bo un : Option Nat}
theorem par_fresh {n a ba oa l D d : Nat} {und : Option Nat} {k20 : Int32 → Int32 → TS → Option (Int32 × TS)} (hsim : simB S σ xa mo ia i ver T bo un l D d) (hS : sWf S) (hnn : n < sEn S 0) (hk6 : sKd S n = 6) (hlv : sLv S n = l + 1) (hi : i < 6) (hmoia : mo ≠ ia) (hia : ia ≠ 0) : ∀ (r k f1 f2 : Nat), k + r = sCc S n → r < f1 → r < f2 → ∀ (w : gw) (tg : pT) (s : Nat → Int32) (B : Nat) (ptr out : Nat → Option Nat),
    pW S σ xa mo ia i ver T w tg s B bo un → B + 256 * (sEn S n - sCp S n k) < 2 ^ 31 → pRm i w s → pCell S xa ia n a ba oa und ptr out w tg → (∀ j, j < k → pKid S xa ia i l w tg s T true n ptr out j) → (∀ j, k ≤ j → j < sCc S n → out j = none) → rUn i s (sCp S n k) (sEn S n) →
    ∃ w1 tg1 s1 ptr1 out1 fu, gL1 (bf_X22_looksAtAll_1 a (f_Run_looks D)) f1 (nI k) w = some ((), w1) ∧ 1 ≤ fu ∧ gL3 (bt_X2_begins_1 k20 (t_X2_looksAtBody d)) f2 (nI i) (nI n) (sAt S n k) (tS σ s) = gL3 (bt_X2_begins_1 k20 (t_X2_looksAtBody d)) fu (nI i) (nI n) (-1) (tS σ s1) ∧
      pW S σ xa mo ia i ver T w1 tg1 s1 (B + 256 * (sEn S n - sCp S n k)) bo un ∧ pFr w w1 tg tg1 (pP mo ia n (sEn S n)) ∧ pQ i (n + 1) (sEn S n) s s1 ∧ pRk 0 i w w1 s s1 ∧ pPe i s s1 ∧ pCell S xa ia n a ba oa und ptr1 out1 w1 tg1 ∧ ∀ j, j < sCc S n → pKid S xa ia i l w1 tg1 s1 T true n ptr1 out1 j := by
  have hNs : sEn S 0 ≤ 64 := hS.1
  have hN := hS.2.2.2.2.2 n hnn
  have hNn := hN.1.2.1
  have hl := hN.1.1
  obtain ⟨hc1, hc4, -, hch⟩ := par_ch hS hnn hk6
  intro r
  induction r with
  | zero =>
    intro k f1 f2 hk hf1 hf2 w tg s B ptr out hW hB hRm hc hK1 hK2 hU
    obtain ⟨fu, rfl⟩ : ∃ fu, f1 = fu + 1 := ⟨f1 - 1, by omega⟩
    have e1 : sAt S n k = -1 := by
      unfold sAt
      rw [if_neg (by omega)]
    obtain ⟨a1, a2, a3, a4, a5, a6⟩ := id hc
    refine ⟨w, tg, s, ptr, out, f2, ?_, by omega, by rw [e1], hW.mono (by omega), pFr.rf hW.bd, pQ.rf, pRk.z ⟨Nat.le_refl _, Nat.le_refl _⟩, fun _ _ z => z, hc, fun j hj => hK1 j (by omega)⟩
    show bf_X22_looksAtAll_1 a (f_Run_looks D) (gL1 (bf_X22_looksAtAll_1 a (f_Run_looks D)) fu) (nI k) w = _
    generalize gL1 (bf_X22_looksAtAll_1 a (f_Run_looks D)) fu = KK
    unfold bf_X22_looksAtAll_1
    rw [pu_R (k := 3) a2 rfl, pu_B1, pu_B1, pu_Len a4, pu_B1, show k = sCc S n by omega, if_pos (Int32.le_refl _)]
  | succ r ih =>
    intro k f1 f2 hk hf1 hf2 w tg s B ptr out hW hB hRm hc hK1 hK2 hU
    obtain ⟨g1, rfl⟩ : ∃ fu, f1 = fu + 1 := ⟨f1 - 1, by omega⟩
    obtain ⟨g2, rfl⟩ : ∃ fu, f2 = fu + 1 := ⟨f2 - 1, by omega⟩
    have hkc : k < sCc S n := by omega
    have hi' := sNode_in hN hkc
    have hcN := sWf_lt hS hnn hkc
    have hcp : sCp S n k = sCh S n k := hi'.2.2.2.1
    have hcp1 : sEn S (sCh S n k) = sCp S n (k + 1) := hi'.2.2.2.2
    have hcpe : sCp S n (k + 1) ≤ sEn S n := by omega
    have e1 : sAt S n k = nI (sCh S n k) := by
      unfold sAt
      rw [if_pos hkc]
    have e2 : ¬ nI (sCh S n k) < 0 := nI_pos (by omega)
    have hlk : sLv S (sCh S n k) = l := by have := (hch k hkc).2; omega
    have hc0 := (hU (sCh S n k) (by omega) (by omega)).1
    have hp1 := pPh_at (i := i) (n := sCh S n k) (s := s) (s1 := upd s (21 + 1262 * (i) + (622 + 10 * (sCh S n k) + 0)) (nI 1)) (by omega) (fun m _ hm => upd_ne (by omega))
    rw [upd_self, hc0, if_pos rfl, if_neg (by decide), if_pos rfl] at hp1
    have hRm0 := hRm
    unfold pRm at hRm0
    obtain ⟨a', w0, tg0, n1, n2, n3, n4, n5, n6, n7⟩ := kid_new (D := D) hW hnn hk6 hkc hc (hK2 k (Nat.le_refl _) hkc) (by omega) (by omega)
    have hres := hsim.2 (sCh S n k) a' w0 tg0 s B hcN (hch k hkc).1 hlk n2 (by omega) (by
      unfold pRm
      rw [n3.2.2.1]
      constructor <;> omega) (fun m h1 h2 => hU m (by omega) (by omega)) n7
    obtain ⟨w1, tg1, s1, x, out1, r1, r2, r3, r4, r5, r6, r7, r8, r9, r10⟩ := kid_look n2 hnn hk6 hkc n6 (va_up_self _ _ _) (va_up_self _ _ _) hres
    have r4' : pFr w w1 tg tg1 (pPk S mo ia n k) := (n3.mono (fun t z => Or.inr z)).tr r4
    have hrs : pRs i w w1 s s1 := by
      have y1 := r6.1
      have y2 := r6.2
      exact ⟨by omega, by omega⟩
    have k6 : t_X2_nodePart (nI i) (nI (sCh S n k)) (nI 6) (tS σ s1) = some (sAt S n (k + 1), tS σ s1) := by
      have z := r3.np (n := sCh S n k) (k := 6) hcN (by omega)
      rw [(hN.1.2.2.2.2.2 k hkc).2.2.1] at z
      exact z
    have hrow := pQ_aS r5 (c := sCp S n (k + 1)) (e := sEn S n) (by omega) (Or.inr (by omega))
    obtain ⟨w2, tg2, s2, ptr2, out2, fu, q1, q2, q3, q4, q5, q6, q7, q8, q9, q10⟩ := ih (k + 1) g1 g2 (by omega) (by omega) (by omega) w1 tg1 s1 _ (va_up ptr k (some a')) out1 r3 (by omega) (hRm.tr hrs r4'.2.2.1) r8 (fun j hj => by
      by_cases hjk : j = k
      · rw [hjk]; exact r10
      · obtain ⟨z1, z2, z3, z4⟩ := kid_keep (out1 := out1) hS hnn hk6 hkc (by omega) hjk hmoia hia hW.bd r4' r5 r7 ((r9 j hjk).trans (va_up_ne _ _ hjk)) (hK1 j (by omega))
        exact ⟨z1, (va_up_ne _ _ hjk).trans z2, z3, z4⟩) (fun j hj hjc => ((r9 j (by omega)).trans (va_up_ne _ _ (by omega))).trans (hK2 j (by omega) hjc)) (fun m h1 h2 => by
      rw [hrow m 0 h1 h2 (by omega), hrow m 7 h1 h2 (by omega), hrow m 6 h1 h2 (by omega), hrow m 2 h1 h2 (by omega)]
      exact hU m (by omega) h2)
    refine ⟨w2, tg2, s2, ptr2, out2, fu, ?_, q2, ?_, q4.mono (by omega), (r4'.mono (fun t z => ?_)).tr q5, (r5.mono (by omega) (by omega)).tr q6, pRk.z (hrs.tr q7.s), fun c hc z => q8 c hc (r7 c hc z), q9, q10⟩
    · show bf_X22_looksAtAll_1 a (f_Run_looks D) (gL1 (bf_X22_looksAtAll_1 a (f_Run_looks D)) g1) (nI k) w = _
      exact ((n1 _).trans (r1 _)).trans q1
    · show bt_X2_begins_1 k20 (t_X2_looksAtBody d) (gL3 (bt_X2_begins_1 k20 (t_X2_looksAtBody d)) g2) (nI i) (nI n) (sAt S n k) (tS σ s) = _
      rw [← q3]
      generalize gL3 (bt_X2_begins_1 k20 (t_X2_looksAtBody d)) g2 = KT
      unfold bt_X2_begins_1
      rw [e1, if_neg e2, r2, pu_B2, k6, pu_B2]
    · rcases z with (z | z) | z
      · refine Or.inl ⟨z.1, ?_⟩
        rcases z.2 with y | y
        · exact Or.inl ⟨by omega, by omega⟩
        · exact Or.inr y
      · exact Or.inr z
      · rw [z]
        exact Or.inl ⟨rfl, Or.inl ⟨Nat.le_refl _, hl⟩⟩
end PF
