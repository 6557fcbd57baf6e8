set_option maxRecDepth 100000
/-! A PARALLEL's RUN: the first look, up to the counts -/
section PQ
variable {S : SV} {σ : TS} {xa mo ia i ver T : Nat} {bo un : Option Nat}
theorem par_begin {n a l D d B : Nat} {w : gw} {tg : pT} {s : Nat → Int32} (hsim : simB S σ xa mo ia i ver T bo un l D d) (hnn : n < sEn S 0) (hk6 : sKd S n = 6) (hlv : sLv S n = l + 1) (hW : pW S σ xa mo ia i ver T w tg s B bo un) (hB : B + 256 * (sEn S n - n) < 2 ^ 31) (hRm : pRm i w (upd s (21 + 1262 * (i) + (622 + 10 * (n) + 0)) (nI 1))) (hun : rUn i s n (sEn S n)) (hf : rFr S xa ia i w tg s T n a) :
    ∃ ba oa ptr1 out1 w1 tg1 s1 q0, pCell S xa ia n a ba oa none (fun _ => none) (fun _ => none) w tg ∧ f_X22_looksAtAll (f_Run_looks D) a w = some ((), w1) ∧ t_X2_begins (t_X2_looksAtBody d) (nI i) (nI n) (tS σ s) = kLk (t_X2_looksAtBody d) (nI i) (nI n) (tS σ s1) ∧
      pW S σ xa mo ia i ver T w1 tg1 s1 (B + 256 * (sEn S n - (n + 1))) bo un ∧ pFr w w1 tg tg1 (pP mo ia n (sEn S n)) ∧ pQ i n (sEn S n) s s1 ∧ pRk 4 i w w1 s s1 ∧ pPe i s s1 ∧ pCell S xa ia n a ba oa none ptr1 out1 w1 tg1 ∧ (∀ j, j < sCc S n → pKid S xa ia i l w1 tg1 s1 T true n ptr1 out1 j) ∧
      s1 (21 + 1262 * (i) + (622 + 10 * (n) + 0)) = nI 1 ∧ s1 (21 + 1262 * (i) + (622 + 10 * (n) + 7)) = -1 ∧ sP S n 1 = nI q0 ∧ 1 ≤ q0 ∧ q0 ≤ sCc S n := by
  have hS : sWf S := hW.1.2.2.1
  have hNs : sEn S 0 ≤ 64 := hS.1
  have hi : i < 6 := hW.1.2.1
  have hia := hW.1.1
  have hN := hS.2.2.2.2.2 n hnn
  have hNn := hN.1.2.1
  have hl := hN.1.1
  have hc0 : sCp S n 0 = n + 1 := hN.1.2.2.2.2.1
  obtain ⟨u0, u7, u6, u2⟩ := hun n (Nat.le_refl _) hl
  obtain ⟨hc1, hc4, ⟨q0, hq1, hq2, hq3⟩, hch⟩ := par_ch hS hnn hk6
  have hmoia : mo ≠ ia := by
    obtain ⟨du, fa, ins, va, pe, hi2, dl, f10, f11, f12, c1, c2, -⟩ := hW.cells
    exact ne_of c1 c2 (by simp)
  have hWb := hW.beg hnn u0
  have hne : ∀ j, j ≠ (21 + 1262 * (i) + (622 + 10 * (n) + 0)) → j ≠ (21 + 1262 * (i) + (622 + 10 * (n) + 1)) → uBeg i n s j = s j := fun j h1 h2 => uBeg_ne h1 h2
  have hp2 : pPh i (uBeg i n s) = pPh i (upd s (21 + 1262 * (i) + (622 + 10 * (n) + 0)) (nI 1)) := pPh_eq (fun m hm => by
    by_cases hmn : m = n
    · subst hmn
      rw [uBeg_0, upd_self]
    · rw [hne _ (by omega) (by omega), upd_ne (by omega)])
  have hp3 := pPh_at (i := i) (n := n) (s := s) (s1 := upd s (21 + 1262 * (i) + (622 + 10 * (n) + 0)) (nI 1)) (by omega) (fun m _ hm => upd_ne (by omega))
  rw [upd_self, u0, if_pos rfl, if_neg (by decide), if_pos rfl] at hp3
  rcases hf with ⟨k1, k2, -⟩ | ⟨z, -⟩ | ⟨-, a1, ba, oa, a2, a3, a4, a5, a6⟩
  · omega
  · omega
  · have hc : pCell S xa ia n a ba oa none (fun _ => none) (fun _ => none) w tg := ⟨a1, a2, a3, a4, a5, a6⟩
    obtain ⟨w1, tg1, s1, ptr1, out1, fu, r1, r2, r3, r4, r5, r6, r7, r8, r9, r10⟩ := par_fresh (k20 := kLk (t_X2_looksAtBody d)) hsim hS hnn hk6 hlv hi hmoia hia (sCc S n) 0 20000 20000 (by omega) (by omega) (by omega) w tg (uBeg i n s) B _ _ hWb (by omega) (by
      unfold pRm at hRm ⊢
      rw [hp2]
      exact hRm) hc (fun j hj => absurd hj (by omega)) (fun _ _ _ => rfl) (fun m h1 h2 => by
      rw [hne _ (by omega) (by omega), hne _ (by omega) (by omega), hne _ (by omega) (by omega), hne _ (by omega) (by omega)]
      exact hun m (by omega) h2)
    refine ⟨ba, oa, ptr1, out1, w1, tg1, s1, q0, hc, ?_, ?_, by rw [← hc0]; exact r4, r5, fun j z1 z2 z3 => (r6 j z1 z2 (by omega)).trans (hne j (by omega) (by omega)), ?_, fun c hc z => r8 c hc ((hne _ (by omega) (by omega)).trans z), r9, r10, ?_, ?_, hq3, hq1, hq2⟩
    · rw [f_X22_looksAtAll_eq]
      exact r1
    · rw [par_beg_t hW hnn hk6 u0, r3]
      obtain ⟨g, rfl⟩ : ∃ g, fu = g + 1 := ⟨fu - 1, by omega⟩
      show bt_X2_begins_1 (kLk (t_X2_looksAtBody d)) (t_X2_looksAtBody d) (gL3 (bt_X2_begins_1 (kLk (t_X2_looksAtBody d)) (t_X2_looksAtBody d)) g) (nI i) (nI n) (-1) (tS σ s1) = _
      generalize gL3 (bt_X2_begins_1 (kLk (t_X2_looksAtBody d)) (t_X2_looksAtBody d)) g = KK
      unfold bt_X2_begins_1
      rw [if_pos (by decide)]
    · obtain ⟨y1, y2⟩ := r7
      constructor <;> omega
    · rw [r6 _ (by omega) (by omega) (by omega)]
      exact uBeg_0
    · rw [r6 _ (by omega) (by omega) (by omega), hne _ (by omega) (by omega)]
      exact u7
end PQ
