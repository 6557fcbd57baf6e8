set_option maxRecDepth 100000
/-! START: a new instance's first look -/
section ST
variable {S : SV} {σ : TS} {xa mo ia i ver T : Nat}
theorem look_of {w : gw} {tg : pT} {s : Nat → Int32} {B Bn κ a : Nat} (hW : pW S σ xa mo ia i ver T w tg s B (some a) none) (hB : B + 17000 < 2 ^ 31) (hn0 : 0 < sEn S 0) (hst : s (21 + 1262 * (i) + 1) = nI 0) (h5 : s (21 + 1262 * (i) + 5) = -5) (hBn : Bn ≤ B + 16400) (hres : pResB κ S σ xa mo ia i ver T (sLv S 0) 0 a w tg s Bn (some a) none (f_Run_looks 12 a w) (t_X2_looksAtBody 12 (nI i) (nI 0) (tS σ s))) (r0 : w.2.1 + iPh i s ≤ w.2.2.2 0) (r1 : w.2.2.1 + 12 * iPh i s ≤ w.2.2.2 1) :
    ∃ w1 tg1 s1 bo1 un1, f_X16_looks 3 ia w = some ((), w1) ∧ t_X2_looksAt (nI i) (tS σ s) = some ((), tS σ s1) ∧ pW S σ xa mo ia i ver T w1 tg1 s1 (B + 17000) bo1 un1 ∧ pFr w w1 tg tg1 (pP mo ia 0 64) ∧ iQ i s s1 ∧ iRk i w w1 s s1 ∧ iRun S xa ia i w1 tg1 s1 T true bo1 un1 := by
  have hS : sWf S := hW.1.2.2.1
  have hNs : sEn S 0 ≤ 64 := hS.1
  have hi : i < 6 := hW.1.2.1
  have hia := hW.1.1
  have hk0 := hS.2.2.1
  have hlv : sLv S 0 ≤ 4 := hS.2.2.2.1
  have ef1 : ∀ w : TS, t_X2_of (nI i) (nI 1) w = _ := fun w => pt_of w
  have e7 : ∀ w : TS, t_X2_at (nI i) (nI 0) (nI 7) w = _ := fun w => pt_at w
  obtain ⟨va, pe, dl, hi', own1, -⟩ := hW.own
  have hiP : iPh i s = pPh i s + 4 := by
    unfold iPh
    rw [if_pos hst]
  obtain ⟨w1, tg1, s1, o, x, z1, z2, z3, z4, z5, z6, z7, z8⟩ := hres
  have hF1 : pFr w w1 tg tg1 (pP mo ia 0 64) := z4.mono (fun t z => by
    rcases z with ⟨y1, y2⟩ | z
    · exact Or.inl ⟨y1, by omega⟩
    · exact Or.inr z)
  have hQ1 : iQ i s s1 := z5.i (by omega)
  have hst1 : s1 (21 + 1262 * (i) + 1) = nI 0 := (z5 _ (by omega) (by omega) (by omega)).trans hst
  have h51 : s1 (21 + 1262 * (i) + 5) = -5 := (z5 _ (by omega) (by omega) (by omega)).trans h5
  obtain ⟨va1, pe1, dl1, hi1, own2, -⟩ := z3.own
  obtain ⟨-, -, hc2, hc3, hc4⟩ := z3.2.1
  have hz0 : (nI 0 : Int32) = 0 := by decide
  have hfr : ∀ d, f_X16_looks (d + 1) ia w = (gBd (fun (w23 : gw) => some ((), w23)) fun k22 => if some o = (some (w1.2.2.2 3)) then gB1 (gOb w1 ia 16) fun _ => gB2 (f_X16_turns ia (nI 1) w1) fun _ w27 => k22 w27 else if some o = (some (w1.2.2.2 4)) then gB1 (gOb w1 ia 16) fun _ => gB2 (f_X16_compensates (f_X16_looks d) ia  w1) fun _ w26 => k22 w26 else k22 w1) := fun d => by
    show f_X16_looks_s (f_X16_looks d) ia w = _
    unfold f_X16_looks_s
    rw [pu_I (k := 9) own1 rfl, pu_B1, hst, if_pos hz0, pu_R (k := 13) own1 rfl, pu_B1, pu_B1, z1, pu_B2]
  have htr : t_X2_looksAt (nI i) (tS σ s) = if x = (nI 2) then gB2 (t_X2_becomes (nI i) (nI 1) (tS σ s1)) fun _ w32 => kLook (nI i) w32 else if x = (nI 3) then gB2 (t_X2_at (nI i) (nI 0) (nI 7) (tS σ s1)) fun x29 w28 => gB1 (tSt w28 5 x29 (-1)) fun w30 => gB2 (t_X2_becomes (nI i) (nI 2) w30) fun _ w31 => kLook (nI i) w31 else kLook (nI i) (tS σ s1) := by
    unfold t_X2_looksAt
    rw [ef1, pu_B2, pu_ld5 (by omega), pu_B1, hst, pu_Bd, if_pos hz0, z2, pu_B2]
    rfl
  have hnl : ∀ s' : Nat → Int32, s' (21 + 1262 * (i) + 1) ≠ nI 2 → kLook (nI i) (tS σ s') = some ((), tS σ s') := fun s' hs' => by
    unfold kLook
    rw [ef1, pu_B2, pu_ld5 (by omega), pu_B1, if_neg hs']
  obtain ⟨y1, y2⟩ := z6
  rcases z8 with ⟨rfl, rfl, k1, k2⟩ | ⟨rfl, rfl, k1, k2, k3⟩ | ⟨rfl, rfl, k1, k2, k3⟩
  · -- .. on
    refine ⟨w1, tg1, s1, some a, none, ?_, ?_, z3.mono (by omega), hF1, hQ1, ?_, Or.inl ⟨hst1, rfl, h51, a, rfl, k2, k1⟩⟩
    · rw [hfr 2, pu_Bd, if_neg (fun z => hc2 (Option.some.inj z)), if_neg (fun z => hc3 (Option.some.inj z))]
    · rw [htr, if_neg (by decide), if_neg (by decide)]
      exact hnl s1 (by rw [hst1]; decide)
    · unfold iRk iPh
      rw [if_pos hst1, if_pos hst]
      constructor <;> omega
  · -- .. to its end
    obtain ⟨w2, n1, n2, n3, n4, n5⟩ := sim_turns z3 (by omega) (st := 1) (by omega)
    rw [if_neg (by omega), if_neg (by omega)] at n3
    obtain ⟨q1, q2, q3, q4, -, q6⟩ := uTurn_q (st := 1) z3.2.2.2.2.2.2 (by omega)
    have ms : s1 0 = nI T ∧ T ≤ 100300 := by
      obtain ⟨-, -, -, -, ⟨du, fa, ins, fd, ff, fi, m1, m2, m3, m4, m5, m6, m7, m8, m9, m10, m11⟩, -⟩ := z3
      exact ⟨m10, m11⟩
    have hp : pPh i (uTurn i 1 s1) = pPh i s1 := pPh_eq (fun m _ => q2 m 0 (by omega))
    refine ⟨w2, tg1, uTurn i 1 s1, none, none, ?_, ?_, n3.mono (by omega), hF1.tr (n5.mono (fun t z => pP_notes t z)), hQ1.tr q1, ?_, Or.inr (Or.inr ⟨Or.inl q3, rfl, rfl, fun m h1 h2 => ?_, T, ms.2, (q6 (by omega)).trans ms.1⟩)⟩
    · rw [hfr 2, pu_Bd, if_pos rfl, pu_Ob own2, pu_B1, n1, pu_B2]
    · rw [htr, if_pos rfl, n2, pu_B2]
      exact hnl _ (by rw [q3]; decide)
    · unfold iRk iPh
      rw [hp, n4, if_pos hst, q3, if_neg (by decide)]
      constructor <;> omega
    · rw [q2 m 0 (by omega), q2 m 7 (by omega)]
      exact k2 m h1 h2
  · -- .. it breaks
    obtain ⟨s2, hs2⟩ : ∃ s2, upd s1 (21 + 1262 * (i) + (622 + 10 * (0) + 7)) (-1) = s2 := ⟨_, rfl⟩
    have h07 : s1 (21 + 1262 * (i) + (622 + 10 * (0) + 7)) = -1 := (k2 0 (Nat.le_refl _) hn0).1
    have hs21 : s2 = s1 := by
      rw [← hs2, ← h07]
      exact upd_id _ _
    obtain ⟨w2, tg2, ua, L, c1, c2, c3, c4, c5, c6⟩ := sim_comp z3 (by omega) hn0 hlv k3 h07 (by rw [z4.2.2.1]; omega) (by rw [z4.2.2.1]; omega)
    obtain ⟨q1, q2, q3, q4, q5, -⟩ := uTurn_q (st := 2) z3.2.2.2.2.2.2 (by omega)
    obtain ⟨w3, s3, un3, d1, d2, d3, d4, d5, d6, d7, d8, d9⟩ := sim_itail c3 (by omega) hn0 q3 ((q5 rfl).trans h51) (fun m hm => by
      rw [q2 m 0 (by omega), q2 m 7 (by omega)]
      have := k2 m (Nat.zero_le _) hm
      exact ⟨this.2.1, this.2.2, fun _ => this.1⟩) c6 (by omega)
    have hp : pPh i s3 = pPh i s1 := pPh_eq (fun m hm => (d7 m hm).trans (q2 m 0 (by omega)))
    have hw2 : w3.2 = (w1.2.1 + 3, w1.2.2.1 + 32, w1.2.2.2) := d4.trans c4
    have hw21 : w3.2.1 = w1.2.1 + 3 := by rw [hw2]
    have hw22 : w3.2.2.1 = w1.2.2.1 + 32 := by rw [hw2]
    refine ⟨w3, tg2, s3, none, un3, ?_, ?_, d3.mono (by omega), (hF1.tr (c5.mono (fun t z => pP_notes t z))).tr d5, (hQ1.tr q1).tr d6, ?_, d9⟩
    · rw [hfr 2, pu_Bd, if_neg (fun z => hc4 (Option.some.inj z).symm), if_pos rfl, pu_Ob own2, pu_B1, c1, d1 1, pu_B2, pu_B2]
    · rw [htr, if_neg (by decide), if_pos rfl, e7, pu_B2, pu_st5 (by omega), pu_B1, hs2, hs21, c2, pu_B2]
      exact d2
    · unfold iRk iPh
      rw [hp, if_pos hst, if_neg d8]
      constructor <;> omega
end ST
