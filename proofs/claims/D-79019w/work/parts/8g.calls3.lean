set_option maxRecDepth 100000
/-! CALLS: signal, abort -/
section C3
variable {k xa mo T : Nat} {ias : Nat → Nat} {Ss : Nat → SV} {many : Nat → Nat} {fv : Nat → Option Nat} {fm : Nat → Int32} {wr im : Option Nat} {w : gw} {tg : pT} {σ : TS}
theorem call_signal (p1 p2 : Int32) (h : GRw (k + 1) xa w tg σ) : callOk k xa w tg σ (f_X0_signal xa p1 p2 w) (t_X2_signal p1 p2 σ) := by
  obtain ⟨mo, ias, Ss, many, T, fv, fm, wr, im, h⟩ := h
  obtain ⟨ta, va, vm, pp, du, fa, ins, fd, ff, fi, c1, c2, c3, c4, c5, c6, c7, c8, c9, c10, c11, c12, c13, c14, -⟩ := h.rd
  have hz : (nI 0 : Int32) = 0 := by decide
  have hz1 : ¬ (nI 1 : Int32) = 0 := by decide
  unfold f_X0_signal t_X2_signal
  rw [pu_Ob c1, pu_B1]
  rcases h.isI p1 with ⟨i1, i2⟩ | ⟨j, hj, rfl, hp, i1, i2⟩
  · rw [i1, i2, pu_B2, pu_B2, if_pos hz, if_pos hz]
    exact h.same _
  · rw [i1, i2, pu_B2, pu_B2, if_neg hz1, if_neg hz1, isCode_f, isCode_t, pu_B2, pu_B2]
    by_cases hr : nI 0 ≤ p2 ∧ p2 ≤ nI 7
    · rw [if_pos hr, if_neg hz1, if_neg hz1]
      obtain ⟨c, hc, rfl⟩ := rng (by omega) hr
      have e1 : ∀ w : TS, t_X2_of (nI j) (nI 1) w = _ := fun w => pt_of w
      have e2 : ∀ w : TS, t_X2_of (nI j) (nI 14 + nI c) w = some (nI (21 + 1262 * (j) + (14 + c)), w) := fun w => by rw [nI_add]; exact pt_of w
      obtain ⟨a, b, bo, un, h1, h2, h3, h4, h5, h6, h7, h8, t, h9, h10⟩ := h.2.2.2.1.get hj hp
      obtain ⟨va', pe', dl, hi', own, -⟩ := h7.own
      obtain ⟨pe, fp, g1, g2, g3, g4, g6, g7, g8, g9, g10, g11, g12, g13, g14, g15, d1, d2, d3, d4, d5⟩ := h7.pend
      have hfi : fi j = some (ias j) := by
        rcases c14 j hj with z | z
        · rw [hp] at z; exact absurd z.2 (by decide)
        · exact z.1
      rw [pu_R (k := 5) c1 rfl, pu_B1, pu_B1, pu_R (k := 2) c2 rfl, pu_B1, pu_B1, pu_LdR c3 hj (by omega), pu_B1, hfi, pu_B1, pu_I (k := 9) own rfl, pu_B1, e1, pu_B2, ld5 (by omega), pu_B1]
      by_cases y1 : σ 5 (21 + 1262 * (j) + 1) = 0
      · rw [if_pos y1, if_pos y1, pu_R (k := 5) d1 rfl, pu_B1, pu_B1, pu_LdI d3 (by omega) (by omega), pu_B1, e2, pu_B2, ld5 (by omega), pu_B1, (d4 c (by omega)).1]
        obtain ⟨d, hd, hd2⟩ := (d4 c (by omega)).2
        by_cases y2 : σ 5 (21 + 1262 * (j) + (14 + c)) = nI 9
        · rw [if_pos y2, pu_B1, if_pos y2]
          exact h.same _
        · have hd9 : d + 1 ≤ 9 := by
            by_cases hd9 : d = 9
            · rw [hd9] at hd2
              exact absurd hd2 y2
            · omega
          have hnia : ias j ≠ pe := ne_of d1 d3 (by simp)
          have d1' := d1
          rw [← hs_ne (w := w) (e := .inr (0, 8, .inl (upd fp c (nI (d + 1))))) hnia] at d1'
          have hst : tSt σ 5 (nI (21 + 1262 * (j) + (14 + c))) (nI (d + 1)) = some (tS σ (upd (σ 5) (21 + 1262 * (j) + (14 + c)) (nI (d + 1)))) := st5 (by omega) _
          rw [if_neg y2, pu_B1, pu_B1, if_neg y2, pu_LdI d3 (by omega) (by omega), pu_B1, (d4 c (by omega)).1, hd2, nI_add, pu_StI d3 (by omega) (by omega), pu_B1, pu_R (k := 5) d1' rfl, pu_B1, pu_B1, pu_LdI (hs_self _ _ _) (by omega) (by omega), pu_B1, upd_self, e2, pu_B2, ld5 (by omega), pu_B1, hd2, nI_add, hst, pu_B1, e2, pu_B2, pu_ld5 (by omega), pu_B1, upd_self]
          have hW1 := d5 c (d + 1) (by omega) (by omega)
          have hF : pFr w (hs w pe (.inr (0, 8, .inl (upd fp c (nI (d + 1)))))) tg tg (fun t => t = (ias j, 66)) := pFr.hs h7.bd d3 d2
          have hF2 : pFr w (hs w pe (.inr (0, 8, .inl (upd fp c (nI (d + 1)))))) tg tg (pP mo (ias j) 0 64) := hF.mono (fun t z => by rw [z]; exact Or.inl ⟨rfl, Or.inr (by show 64 ≤ 66; omega)⟩)
          have hne : ∀ q, q ≠ (21 + 1262 * (j) + (14 + c)) → upd (σ 5) (21 + 1262 * (j) + (14 + c)) (nI (d + 1)) q = σ 5 q := fun q hq => upd_ne hq
          have haw : aW w (hs w pe (.inr (0, 8, .inl (upd fp c (nI (d + 1)))))) tg tg (ias j) 0 64 := hF.aW h7.bd (fun t ht z => by
            rw [z] at ht
            rcases ht with ht | ht
            · have := ht.2.2
              simp only at this
              omega
            · exact h7.1.1 (congrArg Prod.fst ht))
          have hR1 : iRun (Ss (4 * a + b)) xa (ias j) j (hs w pe (.inr (0, 8, .inl (upd fp c (nI (d + 1)))))) tg (upd (σ 5) (21 + 1262 * (j) + (14 + c)) (nI (d + 1))) T false bo un := iRun_fr2 (w := w) (w1 := hs w pe (.inr (0, 8, .inl (upd fp c (nI (d + 1)))))) (tg := tg) h6 h7.1.2.2.1 rfl haw (hne _ (by omega)) (hne _ (by omega)) (fun m q _ _ => hne _ (by omega)) h8
          have hm1 := h.2.2.2.1.one hj hp (Nat.le_refl _) ⟨a, b, bo, un, h1, h2, h3, (hne _ (by omega)).trans h4, (hne _ (by omega)).trans h5, h6, hW1, hR1, t, (hne _ (by omega)).trans h9, h10⟩ hF2 (hne _ (by omega)) (fun i q hi hij q1 q2 => hne q (by omega))
          have := h.now (w1 := hs w pe (.inr (0, 8, .inl (upd fp c (nI (d + 1)))))) (tg1 := tg) (s1 := upd (σ 5) (21 + 1262 * (j) + (14 + c)) (nI (d + 1))) (ias1 := ias) (T1 := T) (hm1.mono (by omega)) h.2.2.2.2.1 (hF.mono (fun t z => by rw [z]; exact Or.inr ⟨j, hj, hp, rfl⟩)) (fun q q1 q2 => hne q (by omega)) (fun i hi hy => Or.inl ⟨(hne _ (by omega)).symm.trans hy, rfl⟩) (by show w.2.1 ≤ _; omega) (by show w.2.2.1 ≤ _; omega)
          exact ⟨_, _, tg, _, rfl, rfl, this.1, this.2.1, this.2.2⟩
      · rw [if_neg y1, if_neg y1]
        exact h.same _
    · rw [if_neg hr, if_pos hz, if_pos hz]
      exact h.same _
theorem call_abort (p1 : Int32) (h : GRw (k + 1) xa w tg σ) : callOk k xa w tg σ (f_X0_abort xa p1 w) (t_X2_abort p1 σ) := by
  obtain ⟨mo, ias, Ss, many, T, fv, fm, wr, im, h⟩ := h
  obtain ⟨ta, va, vm, pp, du, fa, ins, fd, ff, fi, c1, c2, c3, c4, c5, c6, c7, c8, c9, c10, c11, c12, c13, c14, -⟩ := h.rd
  have hz : (nI 0 : Int32) = 0 := by decide
  have hz1 : ¬ (nI 1 : Int32) = 0 := by decide
  unfold f_X0_abort t_X2_abort
  rw [pu_Ob c1, pu_B1]
  rcases h.isI p1 with ⟨i1, i2⟩ | ⟨j, hj, rfl, hp, i1, i2⟩
  · rw [i1, i2, pu_B2, pu_B2, if_pos hz, if_pos hz]
    exact h.same _
  · have e1 : ∀ w : TS, t_X2_of (nI j) (nI 1) w = _ := fun w => pt_of w
    obtain ⟨a, b, bo, un, h1, h2, h3, h4, h5, h6, h7, h8, t, h9, h10⟩ := h.2.2.2.1.get hj hp
    obtain ⟨va', pe', dl, hi', own, -⟩ := h7.own
    have hfi : fi j = some (ias j) := by
      rcases c14 j hj with z | z
      · rw [hp] at z; exact absurd z.2 (by decide)
      · exact z.1
    rw [i1, i2, pu_B2, pu_B2, if_neg hz1, if_neg hz1, pu_R (k := 5) c1 rfl, pu_B1, pu_B1, pu_R (k := 2) c2 rfl, pu_B1, pu_B1, pu_LdR c3 hj (by omega), pu_B1, hfi, pu_B1, pu_I (k := 9) own rfl, pu_B1, e1, pu_B2, ld5 (by omega), pu_B1]
    by_cases y1 : σ 5 (21 + 1262 * (j) + 1) = 0
    · rw [if_pos y1, if_pos y1, pu_Ob own, pu_B1]
      rcases h8 with ⟨hst, rfl, hI5, ra, rfl, hR, hr0⟩ | ⟨hst, -⟩ | ⟨hst, -⟩
      · -- it runs
        have hS : sWf (Ss (4 * a + b)) := h7.1.2.2.1
        have hNs : sEn (Ss (4 * a + b)) 0 ≤ 64 := hS.1
        have hlv : sLv (Ss (4 * a + b)) 0 ≤ 4 := hS.2.2.2.1
        have hb := h7.bd
        obtain ⟨sc, t1, t2⟩ := t_cancels hS h7.1.2.1 h7.1.2.2.2 (2 * sLv (Ss (4 * a + b)) 0 + 2) 12 0 (σ 5) (by omega) h6 h7.2.2.2.1 (Or.inl hr0) ((cOK_of hS _).1 0 ra h6 hS.2.2.1 hr0 hR)
        rw [tS_self] at t1
        have hE2 : cE2 j 0 (sEn (Ss (4 * a + b)) 0) (σ 5) sc := t2.2
        have hrow : ∀ q, ¬ ((21 + 1262 * (j) + (622 + 10 * (0) + 0)) ≤ q ∧ q < (21 + 1262 * (j) + (622 + 10 * (64) + 0))) → sc q = σ 5 q := fun q hq => t2.1 q (by omega)
        have hWc : pW (Ss (4 * a + b)) σ xa mo (ias j) j (4 * a + b) T w tg sc ((64 - (k + 1)) * 20500000) (some ra) none := h7.rows (fun q hq => hrow q (by omega)) (fun m hm _ => ⟨hE2.st (Nat.zero_le _) hm (by decide), fun _ => ⟨(hE2 m (Nat.zero_le _) hm).1 5 (by omega) (by omega) (by omega), (hE2 m (Nat.zero_le _) hm).1 6 (by omega) (by omega) (by omega)⟩⟩)
        have hRc := (rB_eff hS _).1 0 ra h6 hS.2.2.1 hE2 hR
        have hp1 : mPh (σ 5) ≤ 4632 := mPh_le _
        have hBk : (64 - (k + 1)) * 20500000 + 20500000 ≤ (64 - k) * 20500000 := by
          have := h.2.2.2.2.2.2.1
          omega
        have hBk2 : (64 - k) * 20500000 ≤ 1312000000 := Nat.le_trans (Nat.mul_le_mul_right 20500000 (Nat.sub_le 64 k)) (by decide)
        obtain ⟨B0, hB0⟩ : ∃ B0, (64 - (k + 1)) * 20500000 = B0 := ⟨_, rfl⟩
        obtain ⟨B9, hB9⟩ : ∃ B9, (64 - k) * 20500000 = B9 := ⟨_, rfl⟩
        rw [hB0] at hBk hWc
        rw [hB9] at hBk hBk2
        have hk1 := h.2.2.2.2.2.2.2
        obtain ⟨w2, tg2, ua, L, q1, q2, q3, q4, q5, q6⟩ := sim_comp hWc (by omega) h6 hlv hRc (hE2 0 (Nat.le_refl _) h6).2.1 (by omega) (by omega)
        obtain ⟨u1, u2, u3, u4, u5, -⟩ := uTurn_q (st := 2) hWc.2.2.2.2.2.2 (by omega)
        obtain ⟨w3, s3, un3, v1, v2, v3, v4, v5, v6, v7, v8, v9⟩ := sim_itail q3 (by omega) h6 u3 ((u5 rfl).trans ((hrow _ (by omega)).trans hI5)) (fun m hm => by
          rw [u2 m 0 (by omega), u2 m 7 (by omega)]
          have z := hE2.ne (Nat.zero_le _) hm
          exact ⟨z.1, z.2, fun _ => (hE2 m (Nat.zero_le _) hm).2.1⟩) q6 (by omega)
        obtain ⟨va3, pe3, dl3, hi3, own3, -⟩ := v3.own
        have hla : t_X2_looksAt (nI j) (tS σ (uTurn j 2 sc)) = some ((), tS σ s3) := by
          have y : ¬ nI 2 = 0 := by decide
          unfold t_X2_looksAt
          rw [e1, pu_B2, pu_ld5 (by omega), pu_B1, u3, pu_Bd, if_neg y]
          exact v2
        rw [show f_X16_compensates_x (ias j) w = some ((), w3) from by
          show f_X16_compensates (f_X16_looks 3) (ias j) w = _
          rw [q1, v1 2, pu_B2], pu_B2, pu_I (k := 9) own3 rfl, pu_B1, t1, pu_B2, q2, pu_B2, hla, pu_B2, e1, pu_B2, pu_ld5 (by omega), pu_B1]
        have hiq : iQ j (σ 5) s3 := fun q z1 z2 z3 => ((v6 q z1 z2 z3).trans (u1 q z1 z2 z3)).trans (hrow q (by omega))
        have hFr : pFr w w3 tg tg2 (pP mo (ias j) 0 64) := (q5.mono (fun t z => pP_notes t z)).tr v5
        have hm1 := h.2.2.2.1.one (B1 := B9) hj hp (by omega) ⟨a, b, none, un3, h1, h2, h3, (hiq _ (by omega) (by omega) (by omega)).trans h4, (hiq _ (by omega) (by omega) (by omega)).trans h5, h6, v3.mono (by omega), iRun_fr h6 hS rfl (fun z => absurd z (by decide)) (fun _ _ h _ => ⟨h, rfl⟩) (fun _ _ _ => rfl) v9, t, (hiq _ (by omega) (by omega) (by omega)).trans h9, h10⟩ hFr (hiq _ (by omega) (by omega) (by omega)) (fun i q hi hij z1 z2 => hiq q (by omega) (by omega) (by omega))
        have hw3 : w3.2 = (w.2.1 + 3, w.2.2.1 + 32, w.2.2.2) := v4.trans q4
        have := h.now (w1 := w3) (tg1 := tg2) (s1 := s3) (ias1 := ias) (T1 := T) (by rw [hB9]; exact hm1) h.2.2.2.2.1 (hFr.mono (fun t z => by
          rcases z with z | z
          · exact Or.inr ⟨j, hj, hp, z.1⟩
          · rw [z]; exact Or.inl ⟨rfl, by show 2 < 4; omega⟩)) (fun q z1 z2 => hiq q (by omega) (by omega) (by omega)) (fun i hi hy => Or.inl ⟨(hiq _ (by omega) (by omega) (by omega)).symm.trans hy, rfl⟩) (by rw [hw3]; show w.2.1 + 3 ≤ _; omega) (by rw [hw3]; show w.2.2.1 + 32 ≤ _; omega)
        exact ⟨_, _, tg2, _, rfl, rfl, this.1, this.2.1, this.2.2⟩
      · rw [hst] at y1; exact absurd y1 (by decide)
      · rcases hst with z | z | z <;> rw [z] at y1 <;> exact absurd y1 (by decide)
    · rw [if_neg y1, if_neg y1]
      exact h.same _
end C3
