set_option maxRecDepth 100000
/-! START: the reference's rows of a new instance -/
/-- the rows of a new instance j -/
def nRow (j wf v : Nat) (s s1 : Nat → Int32) : Prop := (∀ q, ¬ ((21 + 1262 * (j) + 0) ≤ q ∧ q < (21 + 1262 * (j) + 1262)) → s1 q = s q) ∧ s1 (21 + 1262 * (j) + 0) = nI 1 ∧ s1 (21 + 1262 * (j) + 2) = nI wf ∧ s1 (21 + 1262 * (j) + 3) = nI v ∧ s1 (21 + 1262 * (j) + 4) = s 0 ∧ s1 (21 + 1262 * (j) + 5) = -5 ∧ (∀ m, m < 64 → s1 (21 + 1262 * (j) + (622 + 10 * (m) + 7)) = -1) ∧
  ∀ q, (21 + 1262 * (j) + 0) ≤ q → q < (21 + 1262 * (j) + 1262) → q ≠ (21 + 1262 * (j) + 0) → q ≠ (21 + 1262 * (j) + 2) → q ≠ (21 + 1262 * (j) + 3) → q ≠ (21 + 1262 * (j) + 4) → q ≠ (21 + 1262 * (j) + 5) → (∀ m, m < 64 → q ≠ (21 + 1262 * (j) + (622 + 10 * (m) + 7))) → s1 q = nI 0
section SR
variable {σ : TS} {s : Nat → Int32} {j wf v : Nat}
theorem start_zero (hj : j < 6) : ∀ r k fuel (s1 : Nat → Int32), k + r = 1262 → r < fuel → (∀ q, ¬ ((21 + 1262 * (j) + 0) ≤ q ∧ q < (21 + 1262 * (j) + 1262)) → s1 q = s q) → (∀ q, (21 + 1262 * (j) + 0) ≤ q → q < (21 + 1262 * (j) + k) → s1 q = nI 0) →
    ∃ s2 fu, 1 ≤ fu ∧ gL3 bt_X2_start_2 fuel (nI wf) (nI j) (nI k) (tS σ s1) = gL3 bt_X2_start_2 fu (nI wf) (nI j) (nI 1262) (tS σ s2) ∧ (∀ q, ¬ ((21 + 1262 * (j) + 0) ≤ q ∧ q < (21 + 1262 * (j) + 1262)) → s2 q = s q) ∧ ∀ q, (21 + 1262 * (j) + 0) ≤ q → q < (21 + 1262 * (j) + 1262) → s2 q = nI 0 := by
  intro r
  induction r with
  | zero =>
    intro k fuel s1 hk hf h1 h2
    obtain rfl : k = 1262 := by omega
    exact ⟨s1, fuel, by omega, rfl, h1, h2⟩
  | succ r ih =>
    intro k fuel s1 hk hf h1 h2
    obtain ⟨fuel, rfl⟩ : ∃ g, fuel = g + 1 := ⟨fuel - 1, by omega⟩
    obtain ⟨s2, fu, e1, e2, e3, e4⟩ := ih (k + 1) fuel (upd s1 (21 + 1262 * (j) + k) (nI 0)) (by omega) (by omega) (fun q hq => by rw [upd_ne (by omega)]; exact h1 q hq) (fun q q1 q2 => by
      by_cases hq : q = (21 + 1262 * (j) + k)
      · rw [hq, upd_self]
      · rw [upd_ne hq]
        exact h2 q q1 (by omega))
    refine ⟨s2, fu, e1, ?_, e3, e4⟩
    rw [← e2]
    show bt_X2_start_2 (gL3 bt_X2_start_2 fuel) _ _ _ _ = _
    generalize gL3 bt_X2_start_2 fuel = KK
    have eo : ∀ w : TS, t_X2_of (nI j) (nI k) w = _ := fun w => pt_of w
    unfold bt_X2_start_2
    rw [if_neg (nI_ge (by omega) (by omega)), eo, pu_B2, pu_st5 (by omega), pu_B1, pu_Bd, nI_add]
theorem start_cur (hj : j < 6) : ∀ r k fuel (s1 : Nat → Int32), k + r = 64 → r < fuel → ∃ s2, gL2 bt_X2_start_1 fuel (nI j) (nI k) (tS σ s1) = (gB2 (t_X2_looksAt (nI j) (tS σ s2)) fun _ w45 => some (nI j, w45)) ∧ (∀ q, (∀ m, k ≤ m → m < 64 → q ≠ (21 + 1262 * (j) + (622 + 10 * (m) + 7))) → s2 q = s1 q) ∧ ∀ m, k ≤ m → m < 64 → s2 (21 + 1262 * (j) + (622 + 10 * (m) + 7)) = -1 := by
  intro r
  induction r with
  | zero =>
    intro k fuel s1 hk hf
    obtain ⟨fuel, rfl⟩ : ∃ g, fuel = g + 1 := ⟨fuel - 1, by omega⟩
    obtain rfl : k = 64 := by omega
    refine ⟨s1, ?_, fun _ _ => rfl, fun m h1 h2 => by omega⟩
    show bt_X2_start_1 (gL2 bt_X2_start_1 fuel) _ _ _ = _
    generalize gL2 bt_X2_start_1 fuel = KK
    unfold bt_X2_start_1
    rw [if_pos (nI_le (Nat.le_refl _) (by omega))]
  | succ r ih =>
    intro k fuel s1 hk hf
    obtain ⟨fuel, rfl⟩ : ∃ g, fuel = g + 1 := ⟨fuel - 1, by omega⟩
    obtain ⟨s2, e1, e2, e3⟩ := ih (k + 1) fuel (upd s1 (21 + 1262 * (j) + (622 + 10 * (k) + 7)) (-1)) (by omega) (by omega)
    refine ⟨s2, ?_, fun q hq => ?_, fun m h1 h2 => ?_⟩
    · rw [← e1]
      show bt_X2_start_1 (gL2 bt_X2_start_1 fuel) _ _ _ = _
      generalize gL2 bt_X2_start_1 fuel = KK
      have eo : ∀ w : TS, t_X2_at (nI j) (nI k) (nI 7) w = _ := fun w => pt_at w
      unfold bt_X2_start_1
      rw [if_neg (nI_ge (by omega) (by omega)), eo, pu_B2, pu_st5 (by omega), pu_B1, pu_Bd, nI_add]
    · rw [e2 q (fun m h1 h2 => hq m (by omega) h2), upd_ne (hq k (Nat.le_refl _) (by omega))]
    · by_cases hm : m = k
      · subst hm
        rw [e2 _ (fun m' h1 h2 => by omega), upd_self]
      · exact e3 m (by omega) h2
theorem start_rows (hj : j < 6) (hwf : wf < 4) (hm : s (17 + wf) = nI (v + 1)) : ∃ s2, gL3 bt_X2_start_2 20000 (nI wf) (nI j) (nI 0) (tS σ s) = (gB2 (t_X2_looksAt (nI j) (tS σ s2)) fun _ w45 => some (nI j, w45)) ∧ nRow j wf v s s2 := by
  obtain ⟨s1, fu, e1, e2, e3, e4⟩ := start_zero (σ := σ) (s := s) (wf := wf) hj 1262 0 20000 s (by omega) (by omega) (fun _ _ => rfl) (fun q q1 q2 => by omega)
  obtain ⟨fu, rfl⟩ : ∃ g, fu = g + 1 := ⟨fu - 1, by omega⟩
  obtain ⟨s3, hs3⟩ : ∃ s3, upd (upd (upd (upd (upd s1 (21 + 1262 * (j) + 0) (nI 1)) (21 + 1262 * (j) + 2) (nI wf)) (21 + 1262 * (j) + 3) (nI v)) (21 + 1262 * (j) + 4) (s 0)) (21 + 1262 * (j) + 5) (-5) = s3 := ⟨_, rfl⟩
  obtain ⟨s2, d1, d2, d3⟩ := start_cur (σ := σ) hj 64 0 20000 s3 (by omega) (by omega)
  have hrow : ∀ q, (∀ m, m < 64 → q ≠ (21 + 1262 * (j) + (622 + 10 * (m) + 7))) → s2 q = s3 q := fun q hq => d2 q (fun m _ h2 => hq m h2)
  refine ⟨s2, ?_, fun q hq => ?_, ?_, ?_, ?_, ?_, ?_, fun m hm => d3 m (Nat.zero_le _) hm, fun q q1 q2 n0 n2 n3 n4 n5 n7 => ?_⟩
  · rw [e2, ← d1]
    show bt_X2_start_2 (gL3 bt_X2_start_2 fu) _ _ _ _ = _
    generalize gL3 bt_X2_start_2 fu = KK
    have eo : ∀ (q : Nat) (w : TS), t_X2_of (nI j) (nI q) w = some (nI (21 + 1262 * (j) + q), w) := fun q w => pt_of w
    have hm1 : upd (upd s1 (21 + 1262 * (j) + 0) (nI 1)) (21 + 1262 * (j) + 2) (nI wf) (17 + wf) = nI (v + 1) := by rw [upd_ne (by omega), upd_ne (by omega), e3 _ (by omega), hm]
    have h0 : upd (upd (upd s1 (21 + 1262 * (j) + 0) (nI 1)) (21 + 1262 * (j) + 2) (nI wf)) (21 + 1262 * (j) + 3) (nI v) 0 = s 0 := by rw [upd_ne (by omega), upd_ne (by omega), upd_ne (by omega), e3 _ (by omega)]
    unfold bt_X2_start_2
    rw [if_pos (nI_le (Nat.le_refl _) (by omega)), eo, pu_B2, pu_st5 (by omega), pu_B1, eo, pu_B2, pu_st5 (by omega), pu_B1, eo, pu_B2, nI_add, pu_ld5 (by omega), pu_B1, hm1, pu_sub (by omega), Nat.add_sub_cancel, pu_st5 (by omega), pu_B1, eo, pu_B2, pu_ld5 (by omega), pu_B1, h0, pu_st5 (by omega), pu_B1, eo, pu_B2, pu_st5 (by omega), pu_B1, hs3]
  · rw [hrow q (fun m hm => by omega), ← hs3, upd_ne (by omega), upd_ne (by omega), upd_ne (by omega), upd_ne (by omega), upd_ne (by omega)]
    exact e3 q hq
  · rw [hrow _ (fun m hm => by omega), ← hs3, upd_ne (by omega), upd_ne (by omega), upd_ne (by omega), upd_ne (by omega), upd_self]
  · rw [hrow _ (fun m hm => by omega), ← hs3, upd_ne (by omega), upd_ne (by omega), upd_ne (by omega), upd_self]
  · rw [hrow _ (fun m hm => by omega), ← hs3, upd_ne (by omega), upd_ne (by omega), upd_self]
  · rw [hrow _ (fun m hm => by omega), ← hs3, upd_ne (by omega), upd_self]
  · rw [hrow _ (fun m hm => by omega), ← hs3, upd_self]
  · rw [hrow q n7, ← hs3, upd_ne n5, upd_ne n4, upd_ne n3, upd_ne n2, upd_ne n0]
    exact e4 q q1 q2
end SR
/-- the first place that is free -/
theorem first_free {P : Nat → Prop} (hP : ∀ j, j < 6 → P j ∨ ¬ P j) : ∃ j, j ≤ 6 ∧ (∀ i, i < j → P i) ∧ (j < 6 → ¬ P j) := by
  have : ∀ n, n ≤ 6 → (∀ i, i < n → P i) ∨ ∃ j, j < n ∧ (∀ i, i < j → P i) ∧ ¬ P j := by
    intro n
    induction n with
    | zero => intro _; exact Or.inl (fun i h => by omega)
    | succ n ih =>
      intro hn
      rcases ih (by omega) with h | ⟨j, h1, h2, h3⟩
      · rcases hP n (by omega) with z | z
        · exact Or.inl (fun i hi => by
            by_cases hin : i = n
            · rw [hin]; exact z
            · exact h i (by omega))
        · exact Or.inr ⟨n, by omega, h, z⟩
      · exact Or.inr ⟨j, by omega, h2, h3⟩
  rcases this 6 (Nat.le_refl _) with h | ⟨j, h1, h2, h3⟩
  · exact ⟨6, Nat.le_refl _, h, fun z => by omega⟩
  · exact ⟨j, by omega, h2, fun _ => h3⟩
