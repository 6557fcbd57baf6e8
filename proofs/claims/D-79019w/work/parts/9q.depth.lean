set_option maxRecDepth 100000
/-! VERSION: the depth, by the component -/
section VD
variable {S : SV} {w : gw} {tg : pT}
theorem max_f {a b : Nat} (ha : a < 2 ^ 31) (hb : b < 2 ^ 31) (w : gw) : f_J6_max (nI a) (nI b) w = some (nI (max a b), w) := by
  unfold f_J6_max
  by_cases h : a < b
  · rw [if_pos ((nI_ltI (by omega) (by omega)).mpr h), Nat.max_eq_right (by omega)]
  · rw [if_neg (fun z => h ((nI_ltI (by omega) (by omega)).mp z)), Nat.max_eq_left (by omega)]
theorem dIs.join {L u v lo mid hi : Nat} (h : dIs S L u lo mid) (h' : dIs S L v mid hi) (h1 : lo ≤ mid) (h2 : mid ≤ hi) : dIs S L (max u v) lo hi := by
  obtain ⟨a1, a2⟩ := h
  obtain ⟨b1, b2⟩ := h'
  refine ⟨fun n n1 n2 nk => ?_, ?_⟩
  · by_cases hm : n < mid
    · have := a1 n n1 hm nk
      omega
    · have := b1 n (by omega) n2 nk
      omega
  · by_cases hu : u ≤ v
    · rw [Nat.max_eq_right hu]
      rcases b2 with z | ⟨n, n1, n2, n3⟩
      · exact Or.inl z
      · exact Or.inr ⟨n, by omega, n2, n3⟩
    · rw [Nat.max_eq_left (by omega)]
      rcases a2 with z | ⟨n, n1, n2, n3⟩
      · exact Or.inl z
      · exact Or.inr ⟨n, n1, by omega, n3⟩
theorem dIs.nil {L n : Nat} : dIs S L 0 n n := ⟨fun m m1 m2 => absurd m1 (by omega), Or.inl rfl⟩
theorem dIs.one {L n : Nat} (h5 : sKd S n ≠ 5) (h6 : sKd S n ≠ 6) : dIs S L 0 n (n + 1) := ⟨fun m m1 m2 mk => by
  obtain rfl : m = n := by omega
  omega, Or.inl rfl⟩
theorem dIs.up {L v n hi : Nat} (h : dIs S L v (n + 1) hi) (hk : sKd S n = 5 ∨ sKd S n = 6) (hl : sLv S n = L + 1) (hn : n < hi) : dIs S (L + 1) (v + 1) n hi := by
  obtain ⟨a1, a2⟩ := h
  refine ⟨fun m m1 m2 mk => ?_, Or.inr ?_⟩
  · by_cases hm : m = n
    · rw [hm]; omega
    · have := a1 m (by omega) m2 mk
      omega
  · rcases a2 with z | ⟨m, m1, m2, m3, m4⟩
    · exact ⟨n, Nat.le_refl _, hn, hk, by omega⟩
    · exact ⟨m, by omega, m2, m3, by omega⟩
theorem dIs.fn {L u v lo hi : Nat} (h : dIs S L u lo hi) (h' : dIs S L v lo hi) : u = v := by
  obtain ⟨a1, a2⟩ := h
  obtain ⟨b1, b2⟩ := h'
  have x1 : u ≤ v := by
    rcases a2 with z | ⟨n, n1, n2, n3, n4⟩
    · omega
    · have := b1 n n1 n2 n3
      omega
  have x2 : v ≤ u := by
    rcases b2 with z | ⟨n, n1, n2, n3, n4⟩
    · omega
    · have := a1 n n1 n2 n3
      omega
  omega
theorem depth_body {b L : Nat} {rec : Nat → gw → Option (Int32 × gw)} (hS : sWf S) (hO : sObjs S w tg) (hL : L ≤ 4) (hb : b < sEn S 0) (hk : sKd S b = 0) (hr : ∀ j, j < sCc S b → ∃ u, u ≤ L ∧ rec (sSa S (sCh S b j)) w = some (nI u, w) ∧ dIs S L u (sCh S b j) (sEn S (sCh S b j))) :
    ∀ r j fuel x, j + r = sCc S b → r < fuel → x ≤ L → dIs S L x b (sCp S b j) → ∃ z, z ≤ L ∧ gL2 (bf_X5_depth_1 (sSa S b) rec) fuel (nI x) (nI j) w = some (nI z, w) ∧ dIs S L z b (sEn S b) := by
  obtain ⟨la, o1, o2, o3, o4, -, -⟩ := vb_obj hO hb hk
  have hcc := s_cc hS hb
  intro r
  induction r with
  | zero =>
    intro j fuel x hj hf hx hd
    obtain ⟨fuel, rfl⟩ : ∃ g, fuel = g + 1 := ⟨fuel - 1, by omega⟩
    rw [show sCp S b j = sEn S b from if_neg (by omega)] at hd
    refine ⟨x, hx, ?_, hd⟩
    show bf_X5_depth_1 (sSa S b) rec (gL2 (bf_X5_depth_1 (sSa S b) rec) fuel) _ _ _ = _
    generalize gL2 (bf_X5_depth_1 (sSa S b) rec) fuel = KK
    unfold bf_X5_depth_1
    rw [o1, pu_B1, pu_B1, o2, pu_B1, o3, pu_B2, if_pos (nI_le (by omega) (by omega))]
  | succ r ih =>
    intro j fuel x hj hf hx hd
    obtain ⟨fuel, rfl⟩ : ∃ g, fuel = g + 1 := ⟨fuel - 1, by omega⟩
    have hjc : j < sCc S b := by omega
    have hcl := sWf_lt hS hb hjc
    obtain ⟨n0, -, n3, n1, n2⟩ := sNode_in (hS.2.2.2.2.2 b hb) hjc
    obtain ⟨kc, lc⟩ := s_kid hS hb hk hjc
    obtain ⟨u, u1, u2, u3⟩ := hr j hjc
    have hck := sItem_ck hO hcl kc
    rw [n1] at hd
    have hd' := hd.join u3 (by omega) (by omega)
    rw [n2] at hd'
    obtain ⟨z, z1, z2, z3⟩ := ih (j + 1) fuel (max x u) (by omega) (by omega) (by omega) hd'
    refine ⟨z, z1, ?_, z3⟩
    rw [← z2]
    show bf_X5_depth_1 (sSa S b) rec (gL2 (bf_X5_depth_1 (sSa S b) rec) fuel) _ _ _ = _
    generalize gL2 (bf_X5_depth_1 (sSa S b) rec) fuel = KK
    unfold bf_X5_depth_1
    rw [o1, pu_B1, pu_B1, o2, pu_B1, o3, pu_B2, if_neg (nI_ge hjc (by omega)), o1, pu_B1, pu_B1, o2, pu_B1, o4 j hjc, pu_B2, hck, pu_B1, pu_B1, u2, pu_B2, max_f (by omega) (by omega), pu_B2, nI_add, pu_Bd]
theorem depth_par {n L : Nat} {rec : Nat → gw → Option (Int32 × gw)} (hS : sWf S) (hO : sObjs S w tg) (hL : L ≤ 4) (hn : n < sEn S 0) (hk : sKd S n = 6) (hr : ∀ j, j < sCc S n → ∃ u, u ≤ L ∧ f_X5_depth rec (sSa S (sCh S n j)) w = some (nI u, w) ∧ dIs S L u (sCh S n j) (sEn S (sCh S n j))) :
    ∀ r j fuel x, j + r = sCc S n → r < fuel → x ≤ L → dIs S L x (n + 1) (sCp S n j) → ∃ z, z ≤ L ∧ gL2 (bf_X14_depth_1 (sSa S n) rec) fuel (nI x) (nI j) w = some (nI 1 + nI z, w) ∧ dIs S L z (n + 1) (sEn S n) := by
  obtain ⟨la, o1, o2, o3, o4, -⟩ := vp_obj hO hn hk
  have hcc := s_cc hS hn
  intro r
  induction r with
  | zero =>
    intro j fuel x hj hf hx hd
    obtain ⟨fuel, rfl⟩ : ∃ g, fuel = g + 1 := ⟨fuel - 1, by omega⟩
    rw [show sCp S n j = sEn S n from if_neg (by omega)] at hd
    refine ⟨x, hx, ?_, hd⟩
    show bf_X14_depth_1 (sSa S n) rec (gL2 (bf_X14_depth_1 (sSa S n) rec) fuel) _ _ _ = _
    generalize gL2 (bf_X14_depth_1 (sSa S n) rec) fuel = KK
    unfold bf_X14_depth_1
    rw [o1, pu_B1, pu_B1, o2, pu_B1, o3, pu_B2, if_pos (nI_le (by omega) (by omega))]
  | succ r ih =>
    intro j fuel x hj hf hx hd
    obtain ⟨fuel, rfl⟩ : ∃ g, fuel = g + 1 := ⟨fuel - 1, by omega⟩
    have hjc : j < sCc S n := by omega
    have hcl := sWf_lt hS hn hjc
    obtain ⟨n0, -, n3, n1, n2⟩ := sNode_in (hS.2.2.2.2.2 n hn) hjc
    obtain ⟨-, -, -, q4⟩ := par_ch hS hn hk
    obtain ⟨u, u1, u2, u3⟩ := hr j hjc
    obtain ⟨-, -, -, -, -, p5, p6⟩ := vb_obj hO hcl (q4 j hjc).1
    rw [n1] at hd
    have hd' := hd.join u3 (by omega) (by omega)
    rw [n2] at hd'
    obtain ⟨z, z1, z2, z3⟩ := ih (j + 1) fuel (max x u) (by omega) (by omega) (by omega) hd'
    refine ⟨z, z1, ?_, z3⟩
    rw [← z2]
    show bf_X14_depth_1 (sSa S n) rec (gL2 (bf_X14_depth_1 (sSa S n) rec) fuel) _ _ _ = _
    generalize gL2 (bf_X14_depth_1 (sSa S n) rec) fuel = KK
    unfold bf_X14_depth_1
    rw [o1, pu_B1, pu_B1, o2, pu_B1, o3, pu_B2, if_neg (nI_ge hjc (by omega)), o1, pu_B1, pu_B1, o2, pu_B1, o4 j hjc, pu_B2, p6, pu_B1, pu_B1, p5, pu_B1, u2, pu_B2, max_f (by omega) (by omega), pu_B2, nI_add, pu_Bd]
theorem depth_all (hS : sWf S) (hO : sObjs S w tg) : ∀ l, l ≤ 4 → (∀ D b, l < D → b < sEn S 0 → sKd S b = 0 → sLv S b = l → ∃ u, u ≤ l ∧ f_X5_depth (f_Node_depth D) (sSa S b) w = some (nI u, w) ∧ dIs S l u b (sEn S b)) := by
  have hbody : ∀ l, l ≤ 4 → (∀ D n, l < D → n < sEn S 0 → sKd S n ≠ 0 → sLv S n = l → ∃ u, u ≤ l ∧ f_Node_depth D (sSa S n) w = some (nI u, w) ∧ dIs S l u n (sEn S n)) → (∀ D b, l < D → b < sEn S 0 → sKd S b = 0 → sLv S b = l → ∃ u, u ≤ l ∧ f_X5_depth (f_Node_depth D) (sSa S b) w = some (nI u, w) ∧ dIs S l u b (sEn S b)) := by
    intro l hl hI D b hD hb hk hlv
    have hcc := s_cc hS hb
    obtain ⟨z, z1, z2, z3⟩ := depth_body (rec := f_Node_depth D) hS hO hl hb hk (fun j hj => hI D _ hD (sWf_lt hS hb hj) (s_kid hS hb hk hj).1 ((s_kid hS hb hk hj).2.trans hlv)) (sCc S b) 0 20000 0 (by omega) (by omega) (by omega) (by
      rw [(hS.2.2.2.2.2 b hb).1.2.2.2.2.1]
      exact dIs.one (by omega) (by omega))
    exact ⟨z, z1, by rw [f_X5_depth_eq]; exact z2, z3⟩
  have hitem : ∀ l, l ≤ 4 → (∀ m, m + 1 = l → (∀ D b, m < D → b < sEn S 0 → sKd S b = 0 → sLv S b = m → ∃ u, u ≤ m ∧ f_X5_depth (f_Node_depth D) (sSa S b) w = some (nI u, w) ∧ dIs S m u b (sEn S b))) → (∀ D n, l < D → n < sEn S 0 → sKd S n ≠ 0 → sLv S n = l → ∃ u, u ≤ l ∧ f_Node_depth D (sSa S n) w = some (nI u, w) ∧ dIs S l u n (sEn S n)) := by
    intro l hl hB D n hD hn hk hlv
    obtain ⟨D, rfl⟩ : ∃ g, D = g + 1 := ⟨D - 1, by omega⟩
    obtain ⟨k1, k2, fs, hc⟩ := vi_cls hO hn hk
    have hN := hS.2.2.2.2.2 n hn
    by_cases h5 : sKd S n = 5
    · obtain ⟨q1, -, q3⟩ := choice_ch hS hn h5
      obtain ⟨u1, u2, -⟩ := vc_obj hO hn h5
      obtain ⟨m, hm⟩ : ∃ m, m + 1 = l := ⟨sLv S (sCh S n 0), by rw [(q3 0 (by omega)).2]; exact hlv⟩
      have hc0 := sWf_lt hS hn (j := 0) (by omega)
      have hc1 := sWf_lt hS hn (j := 1) (by omega)
      have l0 := (q3 0 (by omega)).2
      have l1 := (q3 1 (by omega)).2
      obtain ⟨v0, a0, a1, a2⟩ := hB m hm D _ (by omega) hc0 (q3 0 (by omega)).1 (by omega)
      obtain ⟨v1, b0, b1, b2⟩ := hB m hm D _ (by omega) hc1 (q3 1 (by omega)).1 (by omega)
      obtain ⟨-, -, -, -, -, p5, -⟩ := vb_obj hO hc0 (q3 0 (by omega)).1
      obtain ⟨-, -, -, -, -, p5', -⟩ := vb_obj hO hc1 (q3 1 (by omega)).1
      obtain ⟨w1, -, w3, m1, m2⟩ := sNode_in hN (j := 0) (by omega)
      obtain ⟨-, -, w4, m3, m4⟩ := sNode_in hN (j := 1) (by omega)
      have m5 : sCp S n 0 = n + 1 := hN.1.2.2.2.2.1
      have m6 : sCp S n 2 = sEn S n := if_neg (by omega)
      rw [m5] at m1
      rw [m3] at m2
      rw [m6] at m4
      rw [m2, ← m1] at a2
      rw [m4] at b2
      have hd := a2.join b2 (by omega) (by omega)
      refine ⟨max v0 v1 + 1, by omega, ?_, ?_⟩
      · show f_Node_depth_s (f_Node_depth D) _ w = _
        unfold f_Node_depth_s f_X13_depth
        rw [pu_Cls hc, pu_B1, h5, if_neg (by omega), if_neg (by omega), if_neg (by omega), if_neg (by omega), if_pos rfl, u1, pu_B1, pu_B1, p5, pu_B1, a1, pu_B2, u2, pu_B1, pu_B1, p5', pu_B1, b1, pu_B2, max_f (by omega) (by omega), pu_B2, nI_add, Nat.add_comm]
      · rw [← hm]
        exact hd.up (Or.inl h5) (by omega) (by omega)
    · by_cases h6 : sKd S n = 6
      · obtain ⟨q1, q2, -, q4⟩ := par_ch hS hn h6
        obtain ⟨m, hm⟩ : ∃ m, m + 1 = l := ⟨sLv S (sCh S n 0), by rw [(q4 0 (by omega)).2]; exact hlv⟩
        have hcc := s_cc hS hn
        have m5 : sCp S n 0 = n + 1 := hN.1.2.2.2.2.1
        obtain ⟨z, z1, z2, z3⟩ := depth_par (rec := f_Node_depth D) (L := m) hS hO (by omega) hn h6 (fun j hj => hB m hm D _ (by omega) (sWf_lt hS hn hj) (q4 j hj).1 (by have := (q4 j hj).2; omega)) (sCc S n) 0 20000 0 (by omega) (by omega) (by omega) (by
          rw [m5]
          exact dIs.nil)
        refine ⟨z + 1, by omega, ?_, ?_⟩
        · show f_Node_depth_s (f_Node_depth D) _ w = _
          unfold f_Node_depth_s
          rw [pu_Cls hc, pu_B1, h6, if_neg (by omega), if_neg (by omega), if_neg (by omega), if_neg (by omega), if_neg (by omega), if_pos rfl, f_X14_depth_eq, z2, nI_add, Nat.add_comm]
        · rw [← hm]
          exact z3.up (Or.inr h6) (by omega) hN.1.1
      · refine ⟨0, Nat.zero_le _, ?_, ?_⟩
        · show f_Node_depth_s (f_Node_depth D) _ w = _
          unfold f_Node_depth_s f_X8_depth
          rw [pu_Cls hc, pu_B1]
          rcases (show sKd S n = 1 ∨ sKd S n = 2 ∨ sKd S n = 3 ∨ sKd S n = 4 by omega) with z | z | z | z <;> rw [z]
          · rw [if_pos rfl]
          · rw [if_neg (by omega), if_pos rfl]
          · rw [if_neg (by omega), if_neg (by omega), if_pos rfl]
          · rw [if_neg (by omega), if_neg (by omega), if_neg (by omega), if_pos rfl]
        · rw [s_leafE hS hn hk h5 h6]
          exact dIs.one h5 h6
  intro l
  induction l with
  | zero =>
    intro h4
    exact hbody 0 h4 (hitem 0 h4 (fun m hm => absurd hm (by omega)))
  | succ l ih =>
    intro h4
    exact hbody (l + 1) h4 (hitem (l + 1) h4 (fun m hm => by
      obtain rfl : m = l := by omega
      exact ih (by omega)))
end VD
