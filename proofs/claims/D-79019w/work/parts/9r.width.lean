set_option maxRecDepth 100000
/-! VERSION: the width, both sides -/
section VW
variable {S : SV} {w : gw} {tg : pT} {σ : TS} {v : Nat}
theorem nI_nn {c : Nat} (h : c < 2 ^ 31) : ¬ nI c < (0 : Int32) := by
  rw [show (0 : Int32) = nI 0 by decide]
  exact fun z => absurd ((nI_ltI h (by omega)).mp z) (by omega)
theorem tw_kind (hP : pSg S σ v) (hN : sEn S 0 ≤ 64) {n : Nat} (hn : n < sEn S 0) : t_X2_kind (nI v) (nI n) σ = some (sP S n 0, σ) := by
  obtain ⟨h1, h2, h3⟩ := hP
  unfold t_X2_kind
  rw [pt_part, pu_B2, t_ld (by show _ < 9792; omega) (by decide), pu_B1, h2 n 0 hn (by omega)]
theorem tw_child (hP : pSg S σ v) (hN : sEn S 0 ≤ 64) {n : Nat} (hn : n < sEn S 0) : t_X2_child (nI v) (nI n) σ = some (sP S n 5, σ) := by
  obtain ⟨h1, h2, h3⟩ := hP
  unfold t_X2_child
  rw [pt_part, pu_B2, t_ld (by show _ < 9792; omega) (by decide), pu_B1, h2 n 5 hn (by omega)]
theorem tw_next (hP : pSg S σ v) (hN : sEn S 0 ≤ 64) {n : Nat} (hn : n < sEn S 0) : t_X2_next (nI v) (nI n) σ = some (sP S n 6, σ) := by
  obtain ⟨h1, h2, h3⟩ := hP
  unfold t_X2_next
  rw [pt_part, pu_B2, t_ld (by show _ < 9792; omega) (by decide), pu_B1, h2 n 6 hn (by omega)]
/-- one step of the reference's loop -/
theorem tw_step {rec : Int32 → Int32 → TS → Option (Int32 × TS)} {n j u mx sm fuel : Nat} {κ : Int32} (hS : sWf S) (hP : pSg S σ v) (hn : n < sEn S 0) (hj : j < sCc S n) (hu : u ≤ 64) (hmx : mx ≤ 64) (hr : rec (nI v) (nI (sCh S n j)) σ = some (nI u, σ)) :
    gL5 (bt_X2_width_s_1 rec) (fuel + 1) (nI v) κ (nI mx) (nI sm) (sAt S n j) σ = gL5 (bt_X2_width_s_1 rec) fuel (nI v) κ (nI (max mx u)) (nI (sm + u)) (sAt S n (j + 1)) σ := by
  have hcl := sWf_lt hS hn hj
  have hN := hS.2.2.2.2.2 n hn
  have hNs := hS.1
  have e : sAt S n j = nI (sCh S n j) := if_pos hj
  have e6 := (hN.1.2.2.2.2.2 j hj).2.2.1
  show bt_X2_width_s_1 rec (gL5 (bt_X2_width_s_1 rec) fuel) _ _ _ _ _ _ = _
  generalize gL5 (bt_X2_width_s_1 rec) fuel = KK
  unfold bt_X2_width_s_1
  rw [e, if_neg (nI_nn (by omega)), hr, pu_B2, max_t (by omega) (by omega), pu_B2, nI_add, pu_Bd, tw_next hP hNs hcl, pu_B2, e6]
theorem tw_end {rec : Int32 → Int32 → TS → Option (Int32 × TS)} {n fuel : Nat} {κ mx sm : Int32} : gL5 (bt_X2_width_s_1 rec) (fuel + 1) (nI v) κ mx sm (sAt S n (sCc S n)) σ = some (if κ = nI 6 then sm else mx, σ) := by
  have e : sAt S n (sCc S n) = -1 := if_neg (by omega)
  show bt_X2_width_s_1 rec (gL5 (bt_X2_width_s_1 rec) fuel) _ _ _ _ _ _ = _
  generalize gL5 (bt_X2_width_s_1 rec) fuel = KK
  unfold bt_X2_width_s_1
  rw [e, if_pos (by decide)]
  by_cases h : κ = nI 6
  · rw [if_pos h, if_pos h]
  · rw [if_neg h, if_neg h]
theorem tw_start {rec : Int32 → Int32 → TS → Option (Int32 × TS)} {n : Nat} (hS : sWf S) (hP : pSg S σ v) (hn : n < sEn S 0) (hk : sKd S n = 0 ∨ sKd S n = 5 ∨ sKd S n = 6) : t_X2_width_s rec (nI v) (nI n) σ = gL5 (bt_X2_width_s_1 rec) 20000 (nI v) (nI (sKd S n)) (nI 0) (nI 0) (sAt S n 0) σ := by
  have hN := hS.2.2.2.2.2 n hn
  have hNs := hS.1
  have e0 := hN.1.2.2.1
  have e5 := hN.1.2.2.2.1
  rw [t_X2_width_s_eq, tw_kind hP hNs hn, pu_B2, e0, pu_Bd]
  rcases hk with z | z | z <;> rw [z]
  · rw [if_pos (by decide)]
    try dsimp only
    rw [tw_child hP hNs hn, pu_B2, e5]
  · rw [if_neg (by decide), if_pos rfl]
    try dsimp only
    rw [tw_child hP hNs hn, pu_B2, e5]
  · rw [if_neg (by decide), if_neg (by decide), if_pos rfl]
    try dsimp only
    rw [tw_child hP hNs hn, pu_B2, e5]
theorem width_body {b : Nat} {rec : Nat → gw → Option (Int32 × gw)} {rec' : Int32 → Int32 → TS → Option (Int32 × TS)} (hS : sWf S) (hO : sObjs S w tg) (hP : pSg S σ v) (hb : b < sEn S 0) (hk : sKd S b = 0) (hr : ∀ j, j < sCc S b → ∃ u, u + sCh S b j ≤ sEn S (sCh S b j) ∧ rec (sSa S (sCh S b j)) w = some (nI u, w) ∧ rec' (nI v) (nI (sCh S b j)) σ = some (nI u, σ)) :
    ∀ r j fuel fuel' x sm, j + r = sCc S b → r < fuel → r < fuel' → x + b ≤ sCp S b j → ∃ z, z + b ≤ sEn S b ∧ gL2 (bf_X5_width_1 (sSa S b) rec) fuel (nI x) (nI j) w = some (nI z, w) ∧ gL5 (bt_X2_width_s_1 rec') fuel' (nI v) (nI 0) (nI x) (nI sm) (sAt S b j) σ = some (nI z, σ) := by
  obtain ⟨la, o1, o2, o3, o4, -, -⟩ := vb_obj hO hb hk
  have hcc := s_cc hS hb
  have hNs := hS.1
  have hEb : sEn S b ≤ sEn S 0 := (hS.2.2.2.2.2 b hb).1.2.1
  intro r
  induction r with
  | zero =>
    intro j fuel fuel' x sm hj hf hf' hx
    obtain ⟨fuel, rfl⟩ : ∃ g, fuel = g + 1 := ⟨fuel - 1, by omega⟩
    obtain ⟨fuel', rfl⟩ : ∃ g, fuel' = g + 1 := ⟨fuel' - 1, by omega⟩
    obtain rfl : j = sCc S b := by omega
    rw [show sCp S b (sCc S b) = sEn S b from if_neg (by omega)] at hx
    refine ⟨x, hx, ?_, ?_⟩
    · show bf_X5_width_1 (sSa S b) rec (gL2 (bf_X5_width_1 (sSa S b) rec) fuel) _ _ _ = _
      generalize gL2 (bf_X5_width_1 (sSa S b) rec) fuel = KK
      unfold bf_X5_width_1
      rw [o1, pu_B1, pu_B1, o2, pu_B1, o3, pu_B2, if_pos (nI_le (by omega) (by omega))]
    · rw [tw_end, if_neg (by decide)]
  | succ r ih =>
    intro j fuel fuel' x sm hj hf hf' hx
    obtain ⟨fuel, rfl⟩ : ∃ g, fuel = g + 1 := ⟨fuel - 1, by omega⟩
    obtain ⟨fuel', rfl⟩ : ∃ g, fuel' = g + 1 := ⟨fuel' - 1, by omega⟩
    have hjc : j < sCc S b := by omega
    have hcl := sWf_lt hS hb hjc
    obtain ⟨n0, n4, n3, n1, n2⟩ := sNode_in (hS.2.2.2.2.2 b hb) hjc
    obtain ⟨kc, lc⟩ := s_kid hS hb hk hjc
    obtain ⟨u, u1, u2, u3⟩ := hr j hjc
    have hck := sItem_ck hO hcl kc
    rw [n1] at hx
    obtain ⟨z, z1, z2, z3⟩ := ih (j + 1) fuel fuel' (max x u) (sm + u) (by omega) (by omega) (by omega) (by omega)
    refine ⟨z, z1, ?_, ?_⟩
    · rw [← z2]
      show bf_X5_width_1 (sSa S b) rec (gL2 (bf_X5_width_1 (sSa S b) rec) fuel) _ _ _ = _
      generalize gL2 (bf_X5_width_1 (sSa S b) rec) fuel = KK
      unfold bf_X5_width_1
      rw [o1, pu_B1, pu_B1, o2, pu_B1, o3, pu_B2, if_neg (nI_ge hjc (by omega)), o1, pu_B1, pu_B1, o2, pu_B1, o4 j hjc, pu_B2, hck, pu_B1, pu_B1, u2, pu_B2, max_f (by omega) (by omega), pu_B2, nI_add, pu_Bd]
    · rw [tw_step hS hP hb hjc (u := u) (by omega) (by omega) u3, z3]
theorem width_par {n : Nat} {rec : Nat → gw → Option (Int32 × gw)} {rec' : Int32 → Int32 → TS → Option (Int32 × TS)} (hS : sWf S) (hO : sObjs S w tg) (hP : pSg S σ v) (hn : n < sEn S 0) (hk : sKd S n = 6) (hr : ∀ j, j < sCc S n → ∃ u, u + sCh S n j ≤ sEn S (sCh S n j) ∧ f_X5_width rec (sSa S (sCh S n j)) w = some (nI u, w) ∧ rec' (nI v) (nI (sCh S n j)) σ = some (nI u, σ)) :
    ∀ r j fuel fuel' x mx, j + r = sCc S n → r < fuel → r < fuel' → x + n ≤ sCp S n j → mx ≤ 64 → ∃ z, z + n ≤ sEn S n ∧ gL2 (bf_X14_width_1 (sSa S n) rec) fuel (nI x) (nI j) w = some (nI z, w) ∧ gL5 (bt_X2_width_s_1 rec') fuel' (nI v) (nI 6) (nI mx) (nI x) (sAt S n j) σ = some (nI z, σ) := by
  obtain ⟨la, o1, o2, o3, o4, -⟩ := vp_obj hO hn hk
  have hcc := s_cc hS hn
  have hNs := hS.1
  have hEb : sEn S n ≤ sEn S 0 := (hS.2.2.2.2.2 n hn).1.2.1
  intro r
  induction r with
  | zero =>
    intro j fuel fuel' x mx hj hf hf' hx hmx
    obtain ⟨fuel, rfl⟩ : ∃ g, fuel = g + 1 := ⟨fuel - 1, by omega⟩
    obtain ⟨fuel', rfl⟩ : ∃ g, fuel' = g + 1 := ⟨fuel' - 1, by omega⟩
    obtain rfl : j = sCc S n := by omega
    rw [show sCp S n (sCc S n) = sEn S n from if_neg (by omega)] at hx
    refine ⟨x, hx, ?_, ?_⟩
    · show bf_X14_width_1 (sSa S n) rec (gL2 (bf_X14_width_1 (sSa S n) rec) fuel) _ _ _ = _
      generalize gL2 (bf_X14_width_1 (sSa S n) rec) fuel = KK
      unfold bf_X14_width_1
      rw [o1, pu_B1, pu_B1, o2, pu_B1, o3, pu_B2, if_pos (nI_le (by omega) (by omega))]
    · rw [tw_end, if_pos rfl]
  | succ r ih =>
    intro j fuel fuel' x mx hj hf hf' hx hmx
    obtain ⟨fuel, rfl⟩ : ∃ g, fuel = g + 1 := ⟨fuel - 1, by omega⟩
    obtain ⟨fuel', rfl⟩ : ∃ g, fuel' = g + 1 := ⟨fuel' - 1, by omega⟩
    have hjc : j < sCc S n := by omega
    have hcl := sWf_lt hS hn hjc
    obtain ⟨n0, n4, n3, n1, n2⟩ := sNode_in (hS.2.2.2.2.2 n hn) hjc
    obtain ⟨-, -, -, q4⟩ := par_ch hS hn hk
    obtain ⟨u, u1, u2, u3⟩ := hr j hjc
    obtain ⟨-, -, -, -, -, p5, p6⟩ := vb_obj hO hcl (q4 j hjc).1
    rw [n1] at hx
    obtain ⟨z, z1, z2, z3⟩ := ih (j + 1) fuel fuel' (x + u) (max mx u) (by omega) (by omega) (by omega) (by omega) (by omega)
    refine ⟨z, z1, ?_, ?_⟩
    · rw [← z2]
      show bf_X14_width_1 (sSa S n) rec (gL2 (bf_X14_width_1 (sSa S n) rec) fuel) _ _ _ = _
      generalize gL2 (bf_X14_width_1 (sSa S n) rec) fuel = KK
      unfold bf_X14_width_1
      rw [o1, pu_B1, pu_B1, o2, pu_B1, o3, pu_B2, if_neg (nI_ge hjc (by omega)), o1, pu_B1, pu_B1, o2, pu_B1, o4 j hjc, pu_B2, p6, pu_B1, pu_B1, p5, pu_B1, u2, pu_B2, nI_add, pu_Bd, nI_add, pu_Bd]
    · rw [tw_step hS hP hn hjc (u := u) (by omega) (by omega) u3, z3]
theorem width_all (hS : sWf S) (hO : sObjs S w tg) (hP : pSg S σ v) : ∀ l, l ≤ 4 → (∀ D E b, l < D → 2 * l + 2 ≤ E → b < sEn S 0 → sKd S b = 0 → sLv S b = l → ∃ u, u + b ≤ sEn S b ∧ f_X5_width (f_Node_width D) (sSa S b) w = some (nI u, w) ∧ t_X2_width E (nI v) (nI b) σ = some (nI u, σ)) := by
  have hNs := hS.1
  have hbody : ∀ l, l ≤ 4 → (∀ D E n, l < D → 2 * l + 1 ≤ E → n < sEn S 0 → sKd S n ≠ 0 → sLv S n = l → ∃ u, u + n ≤ sEn S n ∧ f_Node_width D (sSa S n) w = some (nI u, w) ∧ t_X2_width E (nI v) (nI n) σ = some (nI u, σ)) → (∀ D E b, l < D → 2 * l + 2 ≤ E → b < sEn S 0 → sKd S b = 0 → sLv S b = l → ∃ u, u + b ≤ sEn S b ∧ f_X5_width (f_Node_width D) (sSa S b) w = some (nI u, w) ∧ t_X2_width E (nI v) (nI b) σ = some (nI u, σ)) := by
    intro l hl hI D E b hD hE hb hk hlv
    obtain ⟨E, rfl⟩ : ∃ g, E = g + 1 := ⟨E - 1, by omega⟩
    have hcc := s_cc hS hb
    obtain ⟨z, z1, z2, z3⟩ := width_body (rec := f_Node_width D) (rec' := t_X2_width E) hS hO hP hb hk (fun j hj => hI D E _ hD (by omega) (sWf_lt hS hb hj) (s_kid hS hb hk hj).1 ((s_kid hS hb hk hj).2.trans hlv)) (sCc S b) 0 20000 20000 0 0 (by omega) (by omega) (by omega) (by
      rw [(hS.2.2.2.2.2 b hb).1.2.2.2.2.1]
      omega)
    refine ⟨z, z1, by rw [f_X5_width_eq]; exact z2, ?_⟩
    show t_X2_width_s (t_X2_width E) _ _ σ = _
    rw [tw_start hS hP hb (Or.inl hk), hk]
    exact z3
  have hitem : ∀ l, l ≤ 4 → (∀ m, m + 1 = l → (∀ D E b, m < D → 2 * m + 2 ≤ E → b < sEn S 0 → sKd S b = 0 → sLv S b = m → ∃ u, u + b ≤ sEn S b ∧ f_X5_width (f_Node_width D) (sSa S b) w = some (nI u, w) ∧ t_X2_width E (nI v) (nI b) σ = some (nI u, σ))) → (∀ D E n, l < D → 2 * l + 1 ≤ E → n < sEn S 0 → sKd S n ≠ 0 → sLv S n = l → ∃ u, u + n ≤ sEn S n ∧ f_Node_width D (sSa S n) w = some (nI u, w) ∧ t_X2_width E (nI v) (nI n) σ = some (nI u, σ)) := by
    intro l hl hB D E n hD hE hn hk hlv
    obtain ⟨D, rfl⟩ : ∃ g, D = g + 1 := ⟨D - 1, by omega⟩
    obtain ⟨E, rfl⟩ : ∃ g, E = g + 1 := ⟨E - 1, by omega⟩
    obtain ⟨k1, k2, fs, hc⟩ := vi_cls hO hn hk
    have hN := hS.2.2.2.2.2 n hn
    have hEn : sEn S n ≤ sEn S 0 := hN.1.2.1
    have m5 : sCp S n 0 = n + 1 := hN.1.2.2.2.2.1
    by_cases h5 : sKd S n = 5
    · obtain ⟨q1, -, q3⟩ := choice_ch hS hn h5
      obtain ⟨u1, u2, -⟩ := vc_obj hO hn h5
      obtain ⟨m, hm⟩ : ∃ m, m + 1 = l := ⟨sLv S (sCh S n 0), by rw [(q3 0 (by omega)).2]; exact hlv⟩
      have hc0 := sWf_lt hS hn (j := 0) (by omega)
      have hc1 := sWf_lt hS hn (j := 1) (by omega)
      have l0 := (q3 0 (by omega)).2
      have l1 := (q3 1 (by omega)).2
      obtain ⟨v0, a0, a1, a2⟩ := hB m hm D E _ (by omega) (by omega) hc0 (q3 0 (by omega)).1 (by omega)
      obtain ⟨v1, b0, b1, b2⟩ := hB m hm D E _ (by omega) (by omega) hc1 (q3 1 (by omega)).1 (by omega)
      obtain ⟨-, -, -, -, -, p5, -⟩ := vb_obj hO hc0 (q3 0 (by omega)).1
      obtain ⟨-, -, -, -, -, p5', -⟩ := vb_obj hO hc1 (q3 1 (by omega)).1
      obtain ⟨w1, w2, w3, m1, m2⟩ := sNode_in hN (j := 0) (by omega)
      obtain ⟨x1, x2, w4, m3, m4⟩ := sNode_in hN (j := 1) (by omega)
      refine ⟨max v0 v1, by omega, ?_, ?_⟩
      · show f_Node_width_s (f_Node_width D) _ w = _
        unfold f_Node_width_s f_X13_width
        rw [pu_Cls hc, pu_B1, h5, if_neg (by omega), if_neg (by omega), if_neg (by omega), if_neg (by omega), if_pos rfl, u1, pu_B1, pu_B1, p5, pu_B1, a1, pu_B2, u2, pu_B1, pu_B1, p5', pu_B1, b1, pu_B2, max_f (by omega) (by omega), pu_B2]
      · show t_X2_width_s (t_X2_width E) _ _ σ = _
        rw [tw_start hS hP hn (Or.inr (Or.inl h5)), h5]
        have e2 : sAt S n 2 = sAt S n (sCc S n) := by rw [q1]
        show gL5 _ (19999 + 1) _ _ _ _ _ _ = _
        rw [tw_step hS hP hn (j := 0) (by omega) (u := v0) (by omega) (by omega) a2]
        show gL5 _ (19998 + 1) _ _ _ _ _ _ = _
        rw [tw_step hS hP hn (j := 1) (by omega) (u := v1) (by omega) (by omega) b2]
        show gL5 _ (19997 + 1) _ _ _ _ (sAt S n 2) _ = _
        rw [e2, tw_end, if_neg (by decide), show max (max 0 v0) v1 = max v0 v1 by omega]
    · by_cases h6 : sKd S n = 6
      · obtain ⟨q1, q2, -, q4⟩ := par_ch hS hn h6
        obtain ⟨m, hm⟩ : ∃ m, m + 1 = l := ⟨sLv S (sCh S n 0), by rw [(q4 0 (by omega)).2]; exact hlv⟩
        have hcc := s_cc hS hn
        obtain ⟨z, z1, z2, z3⟩ := width_par (rec := f_Node_width D) (rec' := t_X2_width E) hS hO hP hn h6 (fun j hj => hB m hm D E _ (by omega) (by omega) (sWf_lt hS hn hj) (q4 j hj).1 (by have := (q4 j hj).2; omega)) (sCc S n) 0 20000 20000 0 0 (by omega) (by omega) (by omega) (by omega) (by omega)
        refine ⟨z, z1, ?_, ?_⟩
        · show f_Node_width_s (f_Node_width D) _ w = _
          unfold f_Node_width_s
          rw [pu_Cls hc, pu_B1, h6, if_neg (by omega), if_neg (by omega), if_neg (by omega), if_neg (by omega), if_neg (by omega), if_pos rfl, f_X14_width_eq, z2]
        · show t_X2_width_s (t_X2_width E) _ _ σ = _
          rw [tw_start hS hP hn (Or.inr (Or.inr h6)), h6]
          exact z3
      · refine ⟨1, by rw [s_leafE hS hn hk h5 h6]; omega, ?_, ?_⟩
        · show f_Node_width_s (f_Node_width D) _ w = _
          unfold f_Node_width_s f_X8_width
          rw [pu_Cls hc, pu_B1]
          rcases (show sKd S n = 1 ∨ sKd S n = 2 ∨ sKd S n = 3 ∨ sKd S n = 4 by omega) with z | z | z | z <;> rw [z]
          · rw [if_pos rfl]
          · rw [if_neg (by omega), if_pos rfl]
          · rw [if_neg (by omega), if_neg (by omega), if_pos rfl]
          · rw [if_neg (by omega), if_neg (by omega), if_neg (by omega), if_pos rfl]
        · show t_X2_width_s (t_X2_width E) _ _ σ = _
          rw [t_X2_width_s_eq, tw_kind hP hNs hn, pu_B2, hN.1.2.2.1, pu_Bd]
          rcases (show sKd S n = 1 ∨ sKd S n = 2 ∨ sKd S n = 3 ∨ sKd S n = 4 by omega) with z | z | z | z <;> rw [z, if_neg (by decide), if_neg (by decide), if_neg (by decide)]
  intro l
  induction l with
  | zero =>
    intro h4
    exact hbody 0 h4 (hitem 0 h4 (fun m hm => absurd hm (by omega)))
  | succ l ih =>
    intro h4
    exact hbody (l + 1) h4 (hitem (l + 1) h4 (fun m hm => by
      obtain rfl : m = l := by omega
      exact ih (by omega)))
end VW
