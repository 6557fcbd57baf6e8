set_option maxRecDepth 100000
/-! A PARALLEL's LOOKS, all cases -/
section PL
variable {S : SV} {σ : TS} {xa mo ia i ver T : Nat} {bo un : Option Nat}
theorem par_end {κ n a ba oa l B fu q0 D : Nat} {ptr ptr1 out out1 : Nat → Option Nat} {w w1 : gw} {tg tg1 : pT} {s s1 : Nat → Int32} {rec2 : Int32 → Int32 → TS → Option (Int32 × TS)} (hl3 : l ≤ 4) (hnn : n < sEn S 0) (hk6 : sKd S n = 6) (hB : B + 256 * (sEn S n - n) < 2 ^ 31) (hRm1 : pRm i w1 s1) (r1 : pCell S xa ia n a ba oa none ptr out w tg) (r2 : f_X22_looksAtAll (f_Run_looks D) a w = some ((), w1)) (r3 : 1 ≤ fu) (r5 : pW S σ xa mo ia i ver T w1 tg1 s1 (B + 256 * (sEn S n - (n + 1))) bo un) (r6 : pFr w w1 tg tg1 (pP mo ia n (sEn S n))) (r7 : pQ i n (sEn S n) s s1) (r8 : pRk κ i w w1 s s1) (r9 : pPe i s s1) (r10 : pCell S xa ia n a ba oa none ptr1 out1 w1 tg1) (r11 : ∀ j, j < sCc S n → pKid S xa ia i l w1 tg1 s1 T true n ptr1 out1 j) (r12 : s1 (21 + 1262 * (i) + (622 + 10 * (n) + 0)) = nI 1) (r13 : s1 (21 + 1262 * (i) + (622 + 10 * (n) + 7)) = -1) (r14 : sP S n 1 = nI q0) (r15 : q0 ≤ sCc S n) (hx : q0 ≤ rCount S i s1 n 2 (sCc S n) ∨ rCount S i s1 n 2 (sCc S n) + rCount S i s1 n 1 (sCc S n) < q0) :
    pRes κ S σ xa mo ia i ver T (l + 1) n a w tg s B bo un (f_X22_looks (f_Run_looks D) a w) (gL3 (bt_X2_looksAtParallel_1 kPar rec2) fu (nI i) (nI n) (-1) (tS σ s1)) := by
  have hS : sWf S := r5.1.2.2.1
  have hNs : sEn S 0 ≤ 64 := hS.1
  have hN := hS.2.2.2.2.2 n hnn
  have hNn := hN.1.2.1
  have hl := hN.1.1
  obtain ⟨hcc1, hc4, -, -⟩ := par_ch hS hnn hk6
  have hp := pPh_ge (i := i) (n := n) (x := 8) (s := s1) (by omega) (by rw [r12, if_neg (by decide), if_pos rfl])
  obtain ⟨m1, m2⟩ := hRm1
  rcases hx with hx | hx
  · obtain ⟨w2, tg2, s2, o, x, z1, z2, z3, z4, z5, z6, z7, z8⟩ := par_join (rec := f_Run_looks D) (rec2 := rec2) (fu := fu) hl3 hnn hk6 r1 r2 r5 (by omega) r10 r11 r12 r13 r14 (by omega) rfl rfl hx r3 (by omega) (by omega)
    refine ⟨w2, tg2, s2, o, x, z1, z2, z3.mono (by omega), r6.tr z4, r7.tr z5, ?_, fun c hc z => z7 c hc (r9 c hc z), z8⟩
    obtain ⟨y1, y2⟩ := r8
    obtain ⟨y3, y4⟩ := z6
    constructor <;> omega
  · obtain ⟨w2, tg2, s2, z1, z2, z3, z4, z5, z6, z7, z8, z9, z10⟩ := par_break (rec := f_Run_looks D) (k4 := kPar) (rec2 := rec2) (fu := fu) hl3 hnn hk6 r1 r2 r5 (by omega) r10 r11 r12 r13 r14 (by omega) rfl rfl hx r3 (by omega) (by omega)
    refine ⟨w2, tg2, s2, w2.2.2.2 4, nI 3, z1, z2, z3.mono (by omega), r6.tr z4, r7.tr z5, ?_, fun c hc z => z7 c hc (r9 c hc z), Or.inr (Or.inr ⟨rfl, rfl, z8, z9, z10⟩)⟩
    obtain ⟨y1, y2⟩ := r8
    obtain ⟨y3, y4⟩ := z6
    constructor <;> omega
theorem par_looks {n a l D d T0 B : Nat} {q : Bool} {w : gw} {tg : pT} {s : Nat → Int32} (hl3 : l ≤ 4) (hsim : simB S σ xa mo ia i ver T bo un l D d) (hnn : n < sEn S 0) (hk6 : sKd S n = 6) (hlv : sLv S n = l + 1) (hW : pW S σ xa mo ia i ver T w tg s B bo un) (hB : B + 256 * (sEn S n - n) < 2 ^ 31) (hRm : pRm i w s) (hI : rI S xa ia i w tg s T0 q (l + 1) n a) (hst : rLive i s n) :
    pRes 0 S σ xa mo ia i ver T (l + 1) n a w tg s B bo un (f_Run_looks (D + 1) a w) (t_X2_looks (t_X2_looksAtBody d) (nI i) (nI n) (tS σ s)) := by
  have hS : sWf S := hW.1.2.2.1
  have hNs : sEn S 0 ≤ 64 := hS.1
  have hi : i < 6 := hW.1.2.1
  have hN := hS.2.2.2.2.2 n hnn
  have hNn := hN.1.2.1
  have hl := hN.1.1
  rcases hst with hst | hst
  · rcases par_on hsim hnn hk6 hlv hW hB hRm hI hst with h | ⟨ba, oa, ptr, out, out1, w1, tg1, s1, fu, q0, r1, r2, r3, r4, r5, r6, r7, r8, r9, r10, r11, r12, r13, r14, r15, r16, hx⟩
    · exact h
    · rw [par_disp r1, par_disp_t hW hnn hk6, r4]
      exact par_end hl3 hnn hk6 hB (hRm.tr (pRk.s r8) r6.2.2.1) r1 r2 r3 r5 r6 (r7.mono (by omega) (Nat.le_refl _)) r8 r9 r10 r11 r12 r13 r14 r16 hx
  · have hI' : rItem S xa ia i w tg s T0 q (rB S xa ia i w tg s T0 q l) n a := hI
    rcases hI' with g | g | g | g | g | g
    · exact absurd g.1 (by omega)
    · exact absurd g.1 (by omega)
    · exact absurd g.1 (by omega)
    · exact absurd g.1 (by omega)
    · exact absurd g.1 (by omega)
    · obtain ⟨g1, g2, ba, oa, und, ptr, out, g3, g4, g5, g6, g7, g8, g9, g10, g11, g12, g13⟩ := g
      obtain ⟨hst1, ua, rfl, L, left, tried, til, u1, u2, u3⟩ := g11 hst
      have hc : pCell S xa ia n a ba oa (some ua) ptr out w tg := ⟨g2, g3, g4, g5, g6, g7⟩
      have hK : ∀ j, j < sCc S n → pKid S xa ia i l w tg s T true n ptr out j := fun j hj => by
        have z := g9 (Or.inr hst) j hj
        refine kid_up (T := T0) (q := q) hS hnn hk6 hj (hst1 j hj) ?_
        rcases g8 j hj with ⟨y, -, -⟩ | ⟨-, a', y1, y2⟩
        · rcases z with z | z | z
          · rw [y] at z; exact absurd z.1 (by simp)
          · rw [y] at z; exact absurd z.1 (by simp)
          · rw [y] at z; exact absurd z.1 (by simp)
        · exact ⟨a', y1, y2, z⟩
      have hu : uSt S xa ia i n ua L left tried til w tg s := by
        obtain ⟨v1, v2, v3, v4, v5, v6, U, v7, v8, v9⟩ := u3
        exact ⟨u1, u2, Or.inr ⟨v1, v2, v3, v4, v5, v6, U, v7, v9⟩⟩
      obtain ⟨w1, s1, o, x, z1, z2, z3, z4, z5, z6, z7, z8, z8', z9⟩ := par_tail (l := l) hW (by omega) hnn hk6 hc hK hst1 hst hu u3.2.2.1
      have e0 : ∀ w : TS, t_X2_at (nI i) (nI n) (nI 0) w = _ := fun w => pt_at w
      have hp := pPh_le (i := i) (s := s) (s1 := s1) (fun m hm => by
        by_cases hmn : m = n
        · refine Or.inr ?_
          rw [hmn]
          rcases z8' with y | y
          · rw [y]; decide
          · rw [y]; decide
        · exact Or.inl (z8 m hm hmn))
      refine ⟨w1, tg, s1, o, x, ?_, ?_, z3.mono (by omega), z5, z6, ?_, z7, z9⟩
      · rw [par_disp hc]
        unfold f_X22_looks
        rw [pu_R (k := 5) g3 rfl, pu_B1, pu_Bd, pu_Ns]
        exact z1
      · rw [par_disp_t hW hnn hk6, t_par_eq, e0, pu_B2, pu_ld5 (by omega), pu_B1, hst, if_pos rfl]
        exact z2
      · unfold pRk
        rw [z4]
        constructor <;> omega
theorem par_firsts {n a l D d B : Nat} {w : gw} {tg : pT} {s : Nat → Int32} (hl3 : l ≤ 4) (hld : l + 1 ≤ d) (hsim : simB S σ xa mo ia i ver T bo un l D d) (hnn : n < sEn S 0) (hk6 : sKd S n = 6) (hlv : sLv S n = l + 1) (hW : pW S σ xa mo ia i ver T w tg s B bo un) (hB : B + 256 * (sEn S n - n) < 2 ^ 31) (hRm : pRm i w (upd s (21 + 1262 * (i) + (622 + 10 * (n) + 0)) (nI 1))) (hun : rUn i s n (sEn S n)) (hf : rFr S xa ia i w tg s T n a) :
    pRes 4 S σ xa mo ia i ver T (l + 1) n a w tg s B bo un (f_Run_looks (D + 1) a w) (t_X2_begins (t_X2_looksAtBody d) (nI i) (nI n) (tS σ s)) := by
  have hS : sWf S := hW.1.2.2.1
  have hNs : sEn S 0 ≤ 64 := hS.1
  have hN := hS.2.2.2.2.2 n hnn
  have hNn := hN.1.2.1
  have hl := hN.1.1
  rcases par_first hld hsim hnn hk6 hlv hW hB hRm hun hf with h | ⟨ba, oa, ptr1, out1, w1, tg1, s1, fu, q0, r1, r2, r3, r4, r5, r6, r7, r8, r9, r10, r11, r12, r13, r14, r15, r16, hx⟩
  · exact h
  · rw [par_disp r1, r4]
    have u0 := (hun n (Nat.le_refl _) hl).1
    have hp3 := pPh_at (i := i) (n := n) (s := s) (s1 := upd s (21 + 1262 * (i) + (622 + 10 * (n) + 0)) (nI 1)) (by omega) (fun m _ hm => upd_ne (by omega))
    rw [upd_self, u0, if_pos rfl, if_neg (by decide), if_pos rfl] at hp3
    refine par_end hl3 hnn hk6 hB ?_ r1 r2 r3 r5 r6 r7 r8 r9 r10 r11 r12 r13 r14 r16 hx
    obtain ⟨y1, y2⟩ := hRm
    obtain ⟨y3, y4⟩ := r8
    unfold pRm
    rw [r6.2.2.1]
    constructor <;> omega
end PL
