set_option maxRecDepth 100000
/-! VERSION: the call -/
section VV
variable {k xa : Nat} {w : gw} {tg : pT} {σ : TS}
theorem ver_f {β : Type} {vm : Nat} {p1 p2 p3 M : Int32} (K : Int32 → Int32 → Int32 → gw → Option β) (h1 : gR w xa 0 4 = some (some vm)) (h2 : gLdI w vm 0 p1 = some M) : (gBd K fun k4 => if p2 = (-1) then gB1 (gR w xa 0 4) fun r41 => gB1 r41 fun a42 => gB1 (gLdI w a42 0 p1) fun x43 => k4 p1 p3 (x43 - (nI 1)) w else k4 p1 p3 p2 w) = K p1 p3 (if p2 = -1 then M - nI 1 else p2) w := by
  rw [pu_Bd]
  by_cases h : p2 = -1
  · rw [if_pos h, if_pos h, h1, pu_B1, pu_B1, h2, pu_B1]
  · rw [if_neg h, if_neg h]
theorem ver_t {β : Type} {p1 p2 p3 M : Int32} (K : Int32 → Int32 → Int32 → TS → Option β) (h2 : tLd σ 5 ((nI 17) + p1) = some M) : (gBd K fun k4 => if p2 = (-1) then gB1 (tLd σ 5 ((nI 17) + p1)) fun x29 => k4 p1 p3 (x29 - (nI 1)) σ else k4 p1 p3 p2 σ) = K p1 p3 (if p2 = -1 then M - nI 1 else p2) σ := by
  rw [pu_Bd]
  by_cases h : p2 = -1
  · rw [if_pos h, if_pos h, h2, pu_B1]
  · rw [if_neg h, if_neg h]
theorem ver_tasks {S : SV} {v : Nat} (hS : sWf S) (hP : pSg S σ v) : t_X2_tasksIn (nI v) σ = some (nI (pSum (fTk S) (sEn S 0)), σ) := by
  have hNs := hS.1
  have hP' := hP
  obtain ⟨h1, h2, h3⟩ := hP
  have loop : ∀ r j fuel, j + r = sEn S 0 → r < fuel → gL3 bt_X2_tasksIn_1 fuel (nI v) (nI (pSum (fTk S) j)) (nI j) σ = some (nI (pSum (fTk S) (sEn S 0)), σ) := by
    intro r
    induction r with
    | zero =>
      intro j fuel hj hf
      obtain ⟨fuel, rfl⟩ : ∃ g, fuel = g + 1 := ⟨fuel - 1, by omega⟩
      obtain rfl : j = sEn S 0 := by omega
      show bt_X2_tasksIn_1 (gL3 bt_X2_tasksIn_1 fuel) _ _ _ _ = _
      generalize gL3 bt_X2_tasksIn_1 fuel = KK
      unfold bt_X2_tasksIn_1
      rw [pu_mul, t_ld (by show _ < 68; omega) (by decide), pu_B1, h3, if_pos (nI_le (Nat.le_refl _) (by omega))]
    | succ r ih =>
      intro j fuel hj hf
      obtain ⟨fuel, rfl⟩ : ∃ g, fuel = g + 1 := ⟨fuel - 1, by omega⟩
      have hjl : j < sEn S 0 := by omega
      have i1 := ih (j + 1) fuel (by omega) (by omega)
      have e0 := (hS.2.2.2.2.2 j hjl).1.2.2.1
      have hkd : sKd S j ≤ 6 := by
        rcases (hS.2.2.2.2.2 j hjl).2 with z | z | z | z | z | z | z <;> omega
      have e : pSum (fTk S) (j + 1) = pSum (fTk S) j + fTk S j := rfl
      rw [← i1, e]
      show bt_X2_tasksIn_1 (gL3 bt_X2_tasksIn_1 fuel) _ _ _ _ = _
      generalize gL3 bt_X2_tasksIn_1 fuel = KK
      unfold bt_X2_tasksIn_1
      rw [pu_mul, t_ld (by show _ < 68; omega) (by decide), pu_B1, h3, if_neg (nI_ge hjl (by omega)), tw_kind hP' hNs hjl, pu_B2, e0, pu_Bd]
      by_cases h : sKd S j = 1
      · have hf1 : fTk S j = 1 := if_pos h
        rw [h, if_pos rfl, hf1]
        try dsimp only
        rw [nI_add, pu_Bd, nI_add, pu_Bd]
      · have hf0 : fTk S j = 0 := if_neg h
        have hne : ¬ nI (sKd S j) = nI 1 := fun z => h ((nI_eq (by omega) (by omega)).mp z)
        rw [if_neg hne, hf0]
        try dsimp only
        rw [nI_add, pu_Bd, nI_add, pu_Bd]
  rw [t_X2_tasksIn_eq]
  exact loop (sEn S 0) 0 20000 (by omega) (by omega)
theorem call_version (p1 p2 p3 : Int32) (h : GRw (k + 1) xa w tg σ) : callOk k xa w tg σ (f_X0_version xa p1 p2 p3 w) (t_X2_version p1 p2 p3 σ) := by
  obtain ⟨mo, ias, Ss, many, T, fv, fm, wr, im, h⟩ := h
  obtain ⟨ta, va, vm, pp, du, fa, ins, fd, ff, fi, c1, c2, c3, c4, c5, c6, c7, c8, c9, c10, c11, -⟩ := h.rd
  have hz : (nI 0 : Int32) = 0 := by decide
  have hz1 : ¬ (nI 1 : Int32) = 0 := by decide
  unfold f_X0_version t_X2_version
  rw [isWf_f, isWf_t, pu_B2, pu_B2]
  by_cases hr : nI 0 ≤ p1 ∧ p1 ≤ nI 3
  · obtain ⟨wf, hwf, rfl⟩ := rng (by omega) hr
    obtain ⟨v1, v2, v3, v4, v5⟩ := h.2.2.1 wf (by omega)
    have hl1 : gR w xa 0 4 = some (some vm) := pu_R c1 rfl
    have hl2 : gLdI w vm 0 (nI wf) = some (nI (many wf)) := by rw [pu_LdI c11 (by omega) (by omega), v2]
    have hl3 : tLd σ 5 (nI 17 + nI wf) = some (nI (many wf)) := by rw [nI_add, t_ld (by show _ < 7593; omega) (by decide), v3]
    rw [if_pos hr, if_neg hz1, if_neg hz1, ver_f _ hl1 hl2, pt_isIn, pu_B2]
    generalize hB : (if p2 = -1 then nI (many wf) - nI 1 else p2) = B
    try dsimp only
    rw [hl1, pu_B1, pu_B1, hl2, pu_B1, pf_in, pu_B2]
    by_cases hin : nI 0 ≤ B ∧ B ≤ nI (many wf) - nI 1
    · have hb : ∃ b, b < many wf ∧ B = nI b := by
        obtain ⟨b, b1, b2⟩ := nI_of (x := B) (Int32.not_lt.mpr hin.1)
        by_cases h0 : many wf = 0
        · rw [h0] at hin
          exfalso
          have := Int32.le_trans hin.1 hin.2
          exact absurd this (by decide)
        · refine ⟨b, ?_, b2⟩
          have h2 := hin.2
          rw [b2, pu_sub (by omega)] at h2
          have := (nI_leI b1 (by omega)).mp h2
          omega
      obtain ⟨b, hbn, hBb⟩ := hb
      obtain ⟨hS, hn0, hP, hO, ⟨hi1, ⟨d, hd1, hd2, hd3⟩, -⟩, a, ha1, ha2, ha3⟩ := v4 b hbn
      have hk0 := hS.2.2.1
      have hlv := hS.2.2.2.1
      have hv16 := hP.1
      obtain ⟨-, -, -, -, -, o5, -⟩ := vb_obj hO hn0 hk0
      rw [hBb] at hin ⊢
      have hr0 : gR w a 3 0 = some (some (sSa (Ss (4 * wf + b)) 0)) := pu_R ha3 rfl
      by_cases hp : nI 0 ≤ p3 ∧ p3 ≤ nI 4
      · obtain ⟨q, hq, rfl⟩ := rng (by omega) hp
        rw [if_pos hp, if_neg hz1, ver_t _ hl3, hB, hBb]
        try dsimp only
        rw [hl3, pu_B1, pt_isIn, pu_B2, if_pos hin, if_neg hz1, if_neg hz1, pu_R (k := 3) c1 rfl, pu_B1, pu_B1, pu_mul, nI_add, pu_LdR c10 (by omega) (by omega), ha1, pu_B1, pu_Bd]
        rcases (show q = 0 ∨ q = 1 ∨ q = 2 ∨ q = 3 ∨ q = 4 by omega) with rfl | rfl | rfl | rfl | rfl
        · obtain ⟨z, z1, z2⟩ := items_all hS hO (sLv (Ss (4 * wf + b)) 0) 12 0 (by omega) hn0 hk0 rfl
          have hz2 : z = pSum (fIt (Ss (4 * wf + b))) (sEn (Ss (4 * wf + b)) 0) := by
            have : pSum (fIt (Ss (4 * wf + b))) 0 = 0 := rfl
            omega
          rw [if_pos rfl, if_pos hz, pu_B1, hr0, pu_B1, pu_B1, o5, pu_B1, z1, pu_B2, pu_mul, nI_add, t_ld (by show _ < 68; omega) (by decide), pu_B1, hi1, hz2]
          exact h.same _
        · obtain ⟨z, z1, z2⟩ := tasks_all hS hO (sLv (Ss (4 * wf + b)) 0) 12 0 (by omega) hn0 hk0 rfl
          have hz2 : z = pSum (fTk (Ss (4 * wf + b))) (sEn (Ss (4 * wf + b)) 0) := by
            have : pSum (fTk (Ss (4 * wf + b))) 0 = 0 := rfl
            omega
          rw [if_neg (by decide), if_pos rfl, if_neg (by decide), if_pos rfl, pu_B1, hr0, pu_B1, pu_B1, o5, pu_B1, z1, pu_B2, ver_tasks hS hP, pu_B2, hz2]
          exact h.same _
        · obtain ⟨z, z0, z1, z2⟩ := depth_all hS hO (sLv (Ss (4 * wf + b)) 0) hlv 12 0 (by omega) hn0 hk0 rfl
          have hz2 : z = d := z2.fn hd3
          have z1' : f_X5_depth_x (sSa (Ss (4 * wf + b)) 0) w = some (nI z, w) := z1
          rw [if_neg (by decide), if_neg (by decide), if_pos rfl, if_neg (by decide), if_neg (by decide), if_pos rfl, pu_B1, hr0, pu_B1, pu_B1, o5, pu_B1, z1', pu_B2, pu_mul, nI_add, t_ld (by show _ < 68; omega) (by decide), pu_B1, hd2, hz2]
          exact h.same _
        · rw [if_neg (by decide), if_neg (by decide), if_neg (by decide), if_pos rfl, if_neg (by decide), if_neg (by decide), if_neg (by decide), if_pos rfl, pu_B1, pu_I (k := 1) ha3 rfl, pu_B1, pu_mul, nI_add, t_ld (by show _ < 68; omega) (by decide), pu_B1]
          exact h.same _
        · obtain ⟨z, z0, z1, z2⟩ := width_all hS hO hP (sLv (Ss (4 * wf + b)) 0) hlv 12 12 0 (by omega) (by omega) hn0 hk0 rfl
          have z1' : f_X5_width_x (sSa (Ss (4 * wf + b)) 0) w = some (nI z, w) := z1
          rw [if_neg (by decide), if_neg (by decide), if_neg (by decide), if_neg (by decide), if_pos rfl, if_neg (by decide), if_neg (by decide), if_neg (by decide), if_neg (by decide), pu_B1, hr0, pu_B1, pu_B1, o5, pu_B1, z1', pu_B2, z2, pu_B2]
          exact h.same _
      · rw [if_neg hp, if_pos hz, if_pos hin, if_neg hz1, pu_R (k := 3) c1 rfl, pu_B1, pu_B1, pu_mul, nI_add, pu_LdR c10 (by omega) (by omega), ha1, pu_B1]
        have hq : ∀ q, q ≤ 4 → ¬ p3 = nI q := fun q hq z => hp (by rw [z]; exact rng' hq (by omega))
        rw [if_neg (hq 0 (by omega)), if_neg (hq 1 (by omega)), if_neg (hq 2 (by omega)), if_neg (hq 3 (by omega)), if_neg (hq 4 (by omega))]
        exact h.same _
    · rw [if_neg hin, if_pos hz]
      by_cases hp : nI 0 ≤ p3 ∧ p3 ≤ nI 4
      · rw [if_pos hp, if_neg hz1, ver_t _ hl3, hB]
        try dsimp only
        rw [hl3, pu_B1, pt_isIn, pu_B2, if_neg hin, if_pos hz]
        exact h.same _
      · rw [if_neg hp, if_pos hz]
        exact h.same _
  · rw [if_neg hr, if_pos hz, if_pos hz]
    exact h.same _
end VV
