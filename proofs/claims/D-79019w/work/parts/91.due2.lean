set_option maxRecDepth 100000
/-! DUE: the reference; the call -/
section DT
variable {S : SV} {i ver : Nat} {s : Nat → Int32} {T : Nat} {σ : TS}
theorem sKd_7 (hS : sWf S) {n : Nat} (hn : n < sEn S 0) : sKd S n < 7 := by
  rcases (hS.2.2.2.2.2 n hn).2 with z | z | z | z | z | z | z <;> omega
theorem runs_t (hS : sWf S) (hi : i < 6) (hv : pVer i ver s) (hsg : pSg S σ ver) {n : Nat} (hn : n < sEn S 0) : t_X2_runs (nI i) (nI n) (tS σ s) = some (if (sKd S n = 1 ∨ sKd S n = 2 ∨ sKd S n = 3) ∧ s (21 + 1262 * (i) + (622 + 10 * (n) + 0)) = nI 1 then nI 1 else nI 0, tS σ s) := by
  have hNs : sEn S 0 ≤ 64 := hS.1
  have hk7 := sKd_7 hS hn
  have hz : (nI 0 : Int32) = 0 := by decide
  have hz1 : ¬ (nI 1 : Int32) = 0 := by decide
  have e0 : ∀ w : TS, t_X2_at (nI i) (nI n) (nI 0) w = _ := fun w => pt_at w
  unfold t_X2_runs
  rw [pt_nodePart hi hv (by omega) (by omega), pu_B2, hsg.2.1 n 0 hn (by omega), (hS.2.2.2.2.2 n hn).1.2.2.1, pt_isIn, pu_B2, pu_Bd]
  by_cases hk : sKd S n = 1 ∨ sKd S n = 2 ∨ sKd S n = 3
  · have hr : nI 1 ≤ nI (sKd S n) ∧ nI (sKd S n) ≤ nI 3 := ⟨nI_le (by omega) (by omega), nI_le (by omega) (by omega)⟩
    rw [if_pos hr, if_neg hz1, e0, pu_B2, pu_ld5 (by omega), pu_B1]
    by_cases hs : s (21 + 1262 * (i) + (622 + 10 * (n) + 0)) = nI 1
    · rw [if_pos hs, if_pos ⟨hk, hs⟩]
    · rw [if_neg hs, if_neg (fun z => hs z.2)]
  · have hr : ¬ (nI 1 ≤ nI (sKd S n) ∧ nI (sKd S n) ≤ nI 3) := fun z => by
      have h1 := (nI_leI (by omega) (by omega)).mp z.1
      have h2 := (nI_leI (by omega) (by omega)).mp z.2
      omega
    rw [if_neg hr, if_pos hz, if_neg (fun z => hk z.1)]
theorem dueAt_t (hS : sWf S) (hi : i < 6) (hv : pVer i ver s) (hsg : pSg S σ ver) {n : Nat} (hn : n < sEn S 0) : t_X2_dueAt (nI i) (nI n) (tS σ s) = some (dA S i s n, tS σ s) := by
  have hNs : sEn S 0 ≤ 64 := hS.1
  have hk7 := sKd_7 hS hn
  have hz : (nI 0 : Int32) = 0 := by decide
  have hz1 : ¬ (nI 1 : Int32) = 0 := by decide
  have ea : ∀ (q : Nat) (w : TS), t_X2_at (nI i) (nI n) (nI q) w = some (nI (21 + 1262 * (i) + (622 + 10 * (n) + q)), w) := fun q w => pt_at w
  have en : ∀ q, q < 9 → t_X2_nodePart (nI i) (nI n) (nI q) (tS σ s) = some (sP S n q, tS σ s) := fun q hq => by
    rw [pt_nodePart hi hv (by omega) hq, hsg.2.1 n q hn hq]
  have hkd : sP S n 0 = nI (sKd S n) := (hS.2.2.2.2.2 n hn).1.2.2.1
  unfold t_X2_dueAt dA
  rw [ea, pu_B2, pu_ld5 (by omega), pu_B1, ea, pu_B2, pu_ld5 (by omega), pu_B1]
  by_cases h7 : s (21 + 1262 * (i) + (622 + 10 * (n) + 7)) < 0
  · rw [if_pos h7, if_pos h7, runs_t hS hi hv hsg hn, pu_B2]
    by_cases hr : (sKd S n = 1 ∨ sKd S n = 2 ∨ sKd S n = 3) ∧ s (21 + 1262 * (i) + (622 + 10 * (n) + 0)) = nI 1
    · rw [if_pos hr, if_neg hz1, if_pos hr, en 0 (by omega), pu_B2, hkd]
      by_cases k1 : sKd S n = 1
      · rw [if_pos k1, if_pos (by rw [k1]), ea, pu_B2, pu_ld5 (by omega), pu_B1]
        by_cases h3 : s (21 + 1262 * (i) + (622 + 10 * (n) + 3)) < 0
        · rw [if_pos h3, if_pos h3, ea, pu_B2, pu_ld5 (by omega), pu_B1]
        · rw [if_neg h3, if_neg h3, ea, pu_B2, pu_ld5 (by omega), pu_B1]
      · rw [if_neg k1, if_neg (fun z => k1 ((nI_eq (by omega) (by omega)).mp z))]
        by_cases k2 : sKd S n = 2
        · rw [if_pos k2, if_pos (by rw [k2]), en 1 (by omega), pu_B2]
        · rw [if_neg k2, if_neg (fun z => k2 ((nI_eq (by omega) (by omega)).mp z)), en 2 (by omega), pu_B2]
          by_cases h2 : 0 ≤ sP S n 2
          · rw [if_pos h2, if_pos h2, en 2 (by omega), pu_B2]
          · rw [if_neg h2, if_neg h2]
    · rw [if_neg hr, if_pos hz, if_neg hr]
  · rw [if_neg h7, if_neg h7, ea, pu_B2, pu_ld5 (by omega), pu_B1]
def lst (v : Nat) : Int32 := if v = 2147483647 then -5 else nI v
theorem due_t (hS : sWf S) (hi : i < 6) (hv : pVer i ver s) (hsg : pSg S σ ver) (hT : s 0 = nI T) (hT2 : T ≤ 100300) {v : Nat} (hm : mIs S i s T v 0 (sEn S 0)) : gL3 bt_X2_due_1 20000 (nI i) (-5) (nI 0) (tS σ s) = some (lst v, tS σ s) := by
  have hNs : sEn S 0 ≤ 64 := hS.1
  have hver := hv.1
  have hz : (nI 0 : Int32) = 0 := by decide
  have loop : ∀ r k fuel u, k + r = sEn S 0 → r < fuel → mIs S i s T u 0 k → ∃ u', gL3 bt_X2_due_1 fuel (nI i) (lst u) (nI k) (tS σ s) = some (lst u', tS σ s) ∧ mIs S i s T u' 0 (sEn S 0) := by
    intro r
    induction r with
    | zero =>
      intro k fuel u hk hf hu
      obtain ⟨fuel, rfl⟩ : ∃ g, fuel = g + 1 := ⟨fuel - 1, by omega⟩
      obtain rfl : k = sEn S 0 := by omega
      refine ⟨u, ?_, hu⟩
      show bt_X2_due_1 (gL3 bt_X2_due_1 fuel) _ _ _ _ = _
      generalize gL3 bt_X2_due_1 fuel = KK
      unfold bt_X2_due_1
      rw [pt_versionOf hi hv, pu_B2, pu_mul]
      unfold tS
      rw [show tLd (fun r j => if r = 5 then s j else σ r j) 3 (nI (4 * ver)) = some (σ 3 (4 * ver)) from by
        have := pu_ld3 (σ := tS σ s) (s := s) (j := 4 * ver) (by omega)
        rw [tS_tS, tS_ne _ _ (by omega)] at this
        exact this, pu_B1, hsg.2.2, if_pos (nI_le (Nat.le_refl _) (by omega))]
    | succ r ih =>
      intro k fuel u hk hf hu
      obtain ⟨fuel, rfl⟩ : ∃ g, fuel = g + 1 := ⟨fuel - 1, by omega⟩
      obtain ⟨x, hx, -⟩ := hm.1 k (Nat.zero_le _) (by omega)
      have hj := hu.join (mIs.one hx) (Nat.zero_le _) (by omega)
      obtain ⟨u', i1, i2⟩ := ih (k + 1) fuel (min u x) (by omega) (by omega) hj
      refine ⟨u', ?_, i2⟩
      rw [← i1]
      show bt_X2_due_1 (gL3 bt_X2_due_1 fuel) _ _ _ _ = _
      generalize gL3 bt_X2_due_1 fuel = KK
      have huv := hu.2.2
      have hxl := dW_le hx
      unfold bt_X2_due_1
      rw [pt_versionOf hi hv, pu_B2, pu_mul, show tLd (tS σ s) 3 (nI (4 * ver)) = some (σ 3 (4 * ver)) from by
        have := pu_ld3 (σ := tS σ s) (s := s) (j := 4 * ver) (by omega)
        rw [tS_tS, tS_ne _ _ (by omega)] at this
        exact this, pu_B1, hsg.2.2, if_neg (nI_ge (by omega) (by omega)), dueAt_t hS hi hv hsg (by omega), pu_B2, pu_ld5 (by omega), pu_B1, hT, pu_Bd]
      rcases hx with ⟨x1, x2⟩ | ⟨x1, x2, x3⟩
      · have hle : (-1 : Int32) ≤ nI T := Int32.le_trans (by decide : (-1 : Int32) ≤ nI 0) (nI_le (Nat.zero_le _) (by omega))
        rw [x2, if_pos hle]
        try dsimp only
        rw [pu_Bd, nI_add, show min u x = u by omega]
      · rw [x1, if_neg (fun z => by
          have := (nI_leI (by omega) (by omega)).mp z
          omega), pu_Bd]
        unfold lst
        by_cases hu1 : u = 2147483647
        · rw [if_pos hu1, if_pos (by decide)]
          try dsimp only
          rw [pu_Bd, nI_add, show min u x = x by omega, if_neg (by omega)]
        · rw [if_neg hu1, if_neg (nI_pos (by omega))]
          by_cases hux : u ≤ x
          · rw [if_pos (nI_le hux (by omega))]
            try dsimp only
            rw [pu_Bd, nI_add, show min u x = u by omega, if_neg hu1]
          · rw [if_neg (fun z => hux ((nI_leI (by omega) (by omega)).mp z))]
            try dsimp only
            rw [pu_Bd, nI_add, show min u x = x by omega, if_neg (by omega)]
  obtain ⟨u', i1, i2⟩ := loop (sEn S 0) 0 20000 2147483647 (by omega) (by omega) (mIs.nil rfl)
  have := mIs.unique i2 hm
  subst this
  exact i1
end DT
section DC
variable {k xa : Nat} {w : gw} {tg : pT} {σ : TS}
theorem call_due (p1 : Int32) (h : GRw (k + 1) xa w tg σ) : callOk k xa w tg σ (f_X0_due xa p1 w) (t_X2_due p1 σ) := by
  obtain ⟨mo, ias, Ss, many, T, fv, fm, wr, im, h⟩ := h
  obtain ⟨ta, va, vm, pp, du, fa, ins, fd, ff, fi, c1, c2, c3, c4, c5, c6, c7, c8, c9, c10, c11, c12, c13, c14, -⟩ := h.rd
  have hz : (nI 0 : Int32) = 0 := by decide
  have hz1 : ¬ (nI 1 : Int32) = 0 := by decide
  unfold f_X0_due
  rw [t_X2_due_eq, pu_Ob c1, pu_B1]
  rcases h.isI p1 with ⟨i1, i2⟩ | ⟨j, hj, rfl, hp, i1, i2⟩
  · rw [i1, i2, pu_B2, pu_B2, if_pos hz, if_pos hz]
    exact h.same _
  · have hfi : fi j = some (ias j) := by
      rcases c14 j hj with z | z
      · rw [hp] at z; exact absurd z.2 (by decide)
      · exact z.1
    obtain ⟨a, b, bo, un, h1, h2, h3, h4, h5, h6, h7, h8, -⟩ := h.2.2.2.1.get hj hp
    obtain ⟨va2, pe2, dl2, hi2, own, -⟩ := h7.own
    have hS : sWf (Ss (4 * a + b)) := h7.1.2.2.1
    have hNs : sEn (Ss (4 * a + b)) 0 ≤ 64 := hS.1
    have hlv : sLv (Ss (4 * a + b)) 0 ≤ 4 := hS.2.2.2.1
    have hT2 := (pM_T h.2.2.2.1.2.1).2
    have hkey : ∃ v, f_X16_due (ias j) w = some (lst v, w) ∧ mIs (Ss (4 * a + b)) j (σ 5) T v 0 (sEn (Ss (4 * a + b)) 0) := by
      unfold f_X16_due
      rcases h8 with ⟨y1, y2, y3, a', y4, y5, y6⟩ | ⟨y1, y2, y3, y4, ua, y5, L, left, tried, til, ⟨t1, td, tda, f, t2, t3⟩, u1, n1, n2, n3, ⟨t, k0, m1, m2, m3, m4, m5⟩, n5, n6, U, n7, n8, n9⟩ | ⟨y1, y2, y3, y4, -⟩
      · subst y2 y4
        obtain ⟨v, e, hm⟩ := (due_run hS h7.2.1 _ hlv).1 12 0 a' (by omega) h6 hS.2.2.1 rfl y5 y6
        refine ⟨v, ?_, hm⟩
        rw [pu_R (k := 13) own rfl, pu_B1, pu_Bd, pu_Ns, pu_B1, pu_B1, e, pu_B2]
        try dsimp only
        have hvl := hm.2.2
        unfold lst
        by_cases hv : v = 2147483647
        · rw [if_pos hv, hv, if_pos rfl]
        · rw [if_neg hv, if_neg (fun z => hv ((nI_eq (by omega) (by omega)).mp z))]
      · subst y2 y5
        rw [n7] at t2 n6
        have htl := m1.1
        refine ⟨U, ?_, ?_⟩
        · rw [pu_R (k := 13) own rfl, pu_B1, pu_Bd, pu_Nn, pu_R (k := 14) own rfl, pu_B1, pu_Ns, pu_B1, pu_B1, pu_I (k := 4) t2 rfl, pu_B1]
          try dsimp only
          unfold lst
          have hU1 : ¬ U = 2147483647 := by omega
          have hU2 : ¬ nI U = nI 2147483647 := fun z => by
            have := (nI_eq (by omega) (by omega)).mp z
            omega
          rw [if_neg hU2, if_neg hU1]
        · have hd : rDead j (σ 5) 1 (sEn (Ss (4 * a + b)) 0) := fun m h1 h2 => by
            obtain ⟨z1, z2, z3⟩ := y4 m h2
            exact ⟨z3 (by omega), z1, z2⟩
          have hj := (mIs.one (S := Ss (4 * a + b)) (i := j) (s := σ 5) (T := T) (n := 0) (u := U) (Or.inr ⟨by
            unfold dA
            rw [m5, if_neg (nI_pos (by omega)), n6], n8, n9⟩)).join (mIs.dead (S := Ss (4 * a + b)) (T := T) hd) (by omega) (by omega)
          rwa [show min U 2147483647 = U by omega] at hj
      · subst y2 y3
        refine ⟨2147483647, ?_, mIs.dead y4⟩
        rw [pu_R (k := 13) own rfl, pu_B1, pu_Bd, pu_Nn, pu_R (k := 14) own rfl, pu_B1, pu_Nn]
        unfold lst
        try dsimp only
        rw [if_pos rfl, if_pos rfl]
    obtain ⟨v, e, hm⟩ := hkey
    have ht := due_t (σ := σ) hS hj h7.2.2.2.1 h7.1.2.2.2 c13 hT2 hm
    rw [tS_self] at ht
    rw [i1, i2, pu_B2, pu_B2, if_neg hz1, if_neg hz1, pu_R (k := 5) c1 rfl, pu_B1, pu_B1, pu_R (k := 2) c2 rfl, pu_B1, pu_B1, pu_LdR c3 hj (by omega), pu_B1, hfi, pu_B1, pu_Ob own, pu_B1, e, pu_B2, ht]
    exact h.same _
end DC
