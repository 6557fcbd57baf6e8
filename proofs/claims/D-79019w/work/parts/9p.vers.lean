set_option maxRecDepth 100000
/-! VERSION: counts of items and tasks, by the component -/
section VR
variable {S : SV} {w : gw} {tg : pT}
theorem vb_obj {b : Nat} (hO : sObjs S w tg) (hb : b < sEn S 0) (hk : sKd S b = 0) : ∃ la, gR w (sSa S b) 5 0 = some (some la) ∧ gOb w la 8 = some () ∧ f_J2_size la w = some (nI (sCc S b), w) ∧ (∀ j, j < sCc S b → f_J2_get la (nI j) w = some (some (sSa S (sCh S b j)), w)) ∧ gOb w (sSa S b) 5 = some () ∧ gCk w [5] (some (sSa S b)) = some (some (sSa S b)) := by
  obtain ⟨la, g, ea, cap, mc, h1, h2, h3, h4, h5, h6⟩ := sBody hO hb hk
  exact ⟨la, pu_R h1 rfl, pu_Ob h2, pf_size h2, fun j hj => by rw [pf_get h2 h3 hj h4 h5, h6 j hj], pu_Ob h1, by rw [pu_Ck h1]; rfl⟩
theorem vp_obj {b : Nat} (hO : sObjs S w tg) (hb : b < sEn S 0) (hk : sKd S b = 6) : ∃ la, gR w (sSa S b) 14 1 = some (some la) ∧ gOb w la 8 = some () ∧ f_J2_size la w = some (nI (sCc S b), w) ∧ (∀ j, j < sCc S b → f_J2_get la (nI j) w = some (some (sSa S (sCh S b j)), w)) ∧ gCk w [14] (some (sSa S b)) = some (some (sSa S b)) := by
  obtain ⟨-, h⟩ := hO b hb
  rcases h with h | h | h | h | h | h | ⟨h1, la, g, h2, ⟨h3, ea, cap, mc, h4, h5, h6, h7, h8⟩, h9⟩
  iterate 6 (exfalso; have := h.1; omega)
  exact ⟨la, pu_R h2 rfl, pu_Ob h5, pf_size h5, fun j hj => by rw [pf_get h5 h6 hj h7 h8, h9 j hj], by rw [pu_Ck h2]; rfl⟩
theorem vc_obj {b : Nat} (hO : sObjs S w tg) (hb : b < sEn S 0) (hk : sKd S b = 5) : gR w (sSa S b) 13 3 = some (some (sSa S (sCh S b 0))) ∧ gR w (sSa S b) 13 4 = some (some (sSa S (sCh S b 1))) ∧ gCk w [13] (some (sSa S b)) = some (some (sSa S b)) := by
  obtain ⟨-, h⟩ := hO b hb
  rcases h with h | h | h | h | h | ⟨h1, h2⟩ | h
  iterate 5 (exfalso; have := h.1; omega)
  · exact ⟨pu_R h2 rfl, pu_R h2 rfl, by rw [pu_Ck h2]; rfl⟩
  · exfalso; have := h.1; omega
theorem vi_cls {n : Nat} (hO : sObjs S w tg) (hn : n < sEn S 0) (hk : sKd S n ≠ 0) : 1 ≤ sKd S n ∧ sKd S n ≤ 6 ∧ ∃ fs, w.1 (sSa S n) = some (.inl (8 + sKd S n, fs)) := by
  obtain ⟨-, h⟩ := hO n hn
  rcases h with ⟨h1, -⟩ | ⟨h1, h2⟩ | ⟨h1, h2⟩ | ⟨h1, h2⟩ | ⟨h1, h2⟩ | ⟨h1, h2⟩ | ⟨h1, la, g, h2, -⟩
  · exact absurd h1 hk
  all_goals exact ⟨by omega, by omega, _, by rw [h1]; exact h2⟩
theorem vi_is {n : Nat} (hO : sObjs S w tg) (hn : n < sEn S 0) (hk : sKd S n ≠ 0) : gIs w [13] [12, 11, 6, 14, 9, 7, 10, 15] (some (sSa S n)) = some (if sKd S n = 5 then 1 else 0) ∧ gIs w [14] [12, 11, 6, 13, 9, 7, 10, 15] (some (sSa S n)) = some (if sKd S n = 6 then 1 else 0) ∧ gIs w [9] [12, 11, 6, 13, 14, 7, 10, 15] (some (sSa S n)) = some (if sKd S n = 1 then 1 else 0) := by
  obtain ⟨h1, h2, fs, h3⟩ := vi_cls hO hn hk
  rw [pu_Is h3, pu_Is h3, pu_Is h3]
  rcases (show sKd S n = 1 ∨ sKd S n = 2 ∨ sKd S n = 3 ∨ sKd S n = 4 ∨ sKd S n = 5 ∨ sKd S n = 6 by omega) with z | z | z | z | z | z <;> rw [z] <;> exact ⟨rfl, rfl, rfl⟩
theorem s_leafE {n : Nat} (hS : sWf S) (hn : n < sEn S 0) (h0 : sKd S n ≠ 0) (h5 : sKd S n ≠ 5) (h6 : sKd S n ≠ 6) : sEn S n = n + 1 := by
  have hN := hS.2.2.2.2.2 n hn
  have h1 := hN.1.2.2.2.2.1
  have hcc : sCc S n = 0 := by
    rcases hN.2 with z | z | z | z | z | z | z
    · omega
    · exact z.2.1
    · exact z.2.1
    · exact z.2.1
    · exact z.2.1
    · omega
    · omega
  unfold sCp at h1
  rw [if_neg (by omega)] at h1
  exact h1
/-- body's kids -/
theorem s_kid {b j : Nat} (hS : sWf S) (hb : b < sEn S 0) (hk : sKd S b = 0) (hj : j < sCc S b) : sKd S (sCh S b j) ≠ 0 ∧ sLv S (sCh S b j) = sLv S b := by
  rcases (hS.2.2.2.2.2 b hb).2 with h | h | h | h | h | h | h
  · exact h.2.2 j hj
  all_goals omega
def fIt (S : SV) : Nat → Nat := fun n => if sKd S n = 0 then 0 else 1
def fTk (S : SV) : Nat → Nat := fun n => if sKd S n = 1 then 1 else 0
theorem s_cc {n : Nat} (hS : sWf S) (hn : n < sEn S 0) : sCc S n ≤ 64 := by
  have hN := hS.2.2.2.2.2 n hn
  have : ∀ j, j < sCc S n → n + j < sCh S n j := by
    intro j
    induction j with
    | zero =>
      intro hj
      exact (sNode_in hN hj).1
    | succ j ih =>
      intro hj
      have i1 := ih (by omega)
      obtain ⟨-, -, a, -, b⟩ := sNode_in hN (j := j) (by omega)
      obtain ⟨-, -, -, c, -⟩ := sNode_in hN hj
      omega
  by_cases h0 : sCc S n = 0
  · omega
  · have h1 := this (sCc S n - 1) (by omega)
    have h2 := sWf_lt hS hn (j := sCc S n - 1) (by omega)
    have := hS.1
    omega
theorem items_par {n la : Nat} {rec : Nat → gw → Option (Int32 × gw)} {kk : Int32 → Int32 → gw → Option (Int32 × gw)} (hS : sWf S) (hO : sObjs S w tg) (hn : n < sEn S 0) (hk : sKd S n = 6) (hr : ∀ j, j < sCc S n → ∃ v, rec (sSa S (sCh S n j)) w = some (nI v, w) ∧ pSum (fIt S) (sCh S n j) + v = pSum (fIt S) (sEn S (sCh S n j))) (y : Int32) :
    ∀ r j fuel x, j + r = sCc S n → r < fuel → ∃ z, gL4 (bf_X5_items_s_1 kk rec) fuel (nI x) y (some (sSa S n)) (nI j) w = kk (nI z) y w ∧ z + pSum (fIt S) (sCp S n j) = x + pSum (fIt S) (sEn S n) := by
  obtain ⟨la, o1, o2, o3, o4, o5⟩ := vp_obj hO hn hk
  have hcc := s_cc hS hn
  intro r
  induction r with
  | zero =>
    intro j fuel x hj hf
    obtain ⟨fuel, rfl⟩ : ∃ g, fuel = g + 1 := ⟨fuel - 1, by omega⟩
    refine ⟨x, ?_, ?_⟩
    · show bf_X5_items_s_1 kk rec (gL4 (bf_X5_items_s_1 kk rec) fuel) _ _ _ _ _ = _
      generalize gL4 (bf_X5_items_s_1 kk rec) fuel = KK
      unfold bf_X5_items_s_1
      rw [pu_B1, o1, pu_B1, pu_B1, o2, pu_B1, o3, pu_B2, if_pos (nI_le (by omega) (by omega))]
    · rw [show sCp S n j = sEn S n from if_neg (by omega)]
  | succ r ih =>
    intro j fuel x hj hf
    obtain ⟨fuel, rfl⟩ : ∃ g, fuel = g + 1 := ⟨fuel - 1, by omega⟩
    have hjc : j < sCc S n := by omega
    obtain ⟨v, v1, v2⟩ := hr j hjc
    obtain ⟨-, -, -, n1, n2⟩ := sNode_in (hS.2.2.2.2.2 n hn) hjc
    obtain ⟨-, -, -, q4⟩ := par_ch hS hn hk
    obtain ⟨-, -, -, -, -, p5, p6⟩ := vb_obj hO (sWf_lt hS hn hjc) (q4 j hjc).1
    obtain ⟨z, z1, z2⟩ := ih (j + 1) fuel (x + v) (by omega) (by omega)
    refine ⟨z, ?_, ?_⟩
    · rw [← z1]
      show bf_X5_items_s_1 kk rec (gL4 (bf_X5_items_s_1 kk rec) fuel) _ _ _ _ _ = _
      generalize gL4 (bf_X5_items_s_1 kk rec) fuel = KK
      unfold bf_X5_items_s_1
      rw [pu_B1, o1, pu_B1, pu_B1, o2, pu_B1, o3, pu_B2, if_neg (nI_ge hjc (by omega)), o1, pu_B1, pu_B1, o2, pu_B1, o4 j hjc, pu_B2, p6, pu_B1, pu_B1, p5, pu_B1, v1, pu_B2, nI_add, pu_Bd, nI_add, pu_Bd]
    · rw [n1, ← n2] at *
      omega
theorem items_body {b : Nat} {rec : Nat → gw → Option (Int32 × gw)} (hS : sWf S) (hO : sObjs S w tg) (hb : b < sEn S 0) (hk : sKd S b = 0) (hr : ∀ c, c < sEn S 0 → sKd S c = 0 → sLv S c + 1 = sLv S b → ∃ v, rec (sSa S c) w = some (nI v, w) ∧ pSum (fIt S) c + v = pSum (fIt S) (sEn S c)) :
    ∀ r j fuel x, j + r = sCc S b → r < fuel → ∃ z, gL2 (bf_X5_items_s_2 (sSa S b) rec) fuel (nI x) (nI j) w = some (nI z, w) ∧ z + pSum (fIt S) (sCp S b j) = x + pSum (fIt S) (sEn S b) := by
  obtain ⟨la, o1, o2, o3, o4, -, -⟩ := vb_obj hO hb hk
  have hcc := s_cc hS hb
  intro r
  induction r with
  | zero =>
    intro j fuel x hj hf
    obtain ⟨fuel, rfl⟩ : ∃ g, fuel = g + 1 := ⟨fuel - 1, by omega⟩
    refine ⟨x, ?_, ?_⟩
    · show bf_X5_items_s_2 (sSa S b) rec (gL2 (bf_X5_items_s_2 (sSa S b) rec) fuel) _ _ _ = _
      generalize gL2 (bf_X5_items_s_2 (sSa S b) rec) fuel = KK
      unfold bf_X5_items_s_2
      rw [o1, pu_B1, pu_B1, o2, pu_B1, o3, pu_B2, if_pos (nI_le (by omega) (by omega))]
    · rw [show sCp S b j = sEn S b from if_neg (by omega)]
  | succ r ih =>
    intro j fuel x hj hf
    obtain ⟨fuel, rfl⟩ : ∃ g, fuel = g + 1 := ⟨fuel - 1, by omega⟩
    have hjc : j < sCc S b := by omega
    have hcl := sWf_lt hS hb hjc
    obtain ⟨-, -, -, n1, n2⟩ := sNode_in (hS.2.2.2.2.2 b hb) hjc
    obtain ⟨kc, lc⟩ := s_kid hS hb hk hjc
    obtain ⟨i1, i2, i3⟩ := vi_is hO hcl kc
    have hck := sItem_ck hO hcl kc
    have h10 : ¬ (1 : Int32) = 0 := by decide
    have hz10 : (nI 0 : Int32) = 0 := by decide
    have hF1 : ∃ e, e ≤ 1 ∧ pSum (fIt S) (sCh S b j + 1) = pSum (fIt S) (sCh S b j) + e ∧ nI x + nI 1 = nI (x + e) := ⟨1, Nat.le_refl _, by show _ + fIt S (sCh S b j) = _; unfold fIt; rw [if_neg kc], by rw [nI_add]⟩
    obtain ⟨e, e1, e2, e3⟩ := hF1
    have hstep : ∃ x', (∀ KK, bf_X5_items_s_2 (sSa S b) rec KK (nI x) (nI j) w = KK (nI x') (nI (j + 1)) w) ∧ x' + pSum (fIt S) (sCh S b j) = x + pSum (fIt S) (sEn S (sCh S b j)) := by
      by_cases h5 : sKd S (sCh S b j) = 5
      · obtain ⟨q1, -, q3⟩ := choice_ch hS hcl h5
        obtain ⟨u1, u2, u3⟩ := vc_obj hO hcl h5
        have hc0 := sWf_lt hS hcl (j := 0) (by omega)
        have hc1 := sWf_lt hS hcl (j := 1) (by omega)
        obtain ⟨v0, a1, a2⟩ := hr _ hc0 (q3 0 (by omega)).1 (by rw [← lc]; exact (q3 0 (by omega)).2)
        obtain ⟨v1, b1, b2⟩ := hr _ hc1 (q3 1 (by omega)).1 (by rw [← lc]; exact (q3 1 (by omega)).2)
        obtain ⟨-, -, -, -, -, p5, -⟩ := vb_obj hO hc0 (q3 0 (by omega)).1
        obtain ⟨-, -, -, -, -, p5', -⟩ := vb_obj hO hc1 (q3 1 (by omega)).1
        refine ⟨x + e + (v0 + v1), fun KK => ?_, ?_⟩
        · unfold bf_X5_items_s_2
          rw [o1, pu_B1, pu_B1, o2, pu_B1, o3, pu_B2, if_neg (nI_ge hjc (by omega)), o1, pu_B1, pu_B1, o2, pu_B1, o4 j hjc, pu_B2, hck, pu_B1, e3, pu_Bd,  i1, if_pos h5, pu_B1, pu_Bd, if_neg h10, u3, pu_B1, pu_B1, u1, pu_B1, pu_B1, p5, pu_B1, a1, pu_B2, u2, pu_B1, pu_B1, p5', pu_B1, b1, pu_B2, nI_add, nI_add, pu_Bd]
          try dsimp only
          rw [pu_Bd, nI_add]
        · have hN := hS.2.2.2.2.2 _ hcl
          obtain ⟨-, -, -, m1, m2⟩ := sNode_in hN (j := 0) (by omega)
          obtain ⟨-, -, -, m3, m4⟩ := sNode_in hN (j := 1) (by omega)
          have m5 : sCp S (sCh S b j) 0 = sCh S b j + 1 := hN.1.2.2.2.2.1
          have m6 : sCp S (sCh S b j) 2 = sEn S (sCh S b j) := if_neg (by omega)
          rw [m5] at m1
          rw [m3] at m2
          rw [m6] at m4
          rw [m2, ← m1] at a2
          rw [m4] at b2
          omega
      · by_cases h6 : sKd S (sCh S b j) = 6
        · obtain ⟨la', o1', o2', o3', o4', o5'⟩ := vp_obj hO hcl h6
          obtain ⟨-, q2, -, q4⟩ := par_ch hS hcl h6
          have hp := fun kk => items_par (kk := kk) hS hO hcl h6 (rec := rec) (la := la') (fun i hi => hr _ (sWf_lt hS hcl hi) (q4 i hi).1 (by rw [← lc]; exact (q4 i hi).2)) (nI j) (sCc S (sCh S b j)) 0 20000 (x + e) (by omega) (by omega)
          obtain ⟨z, z1, z2⟩ := items_par (kk := fun a c v => some (a, v)) hS hO hcl h6 (rec := rec) (la := la') (fun i hi => hr _ (sWf_lt hS hcl hi) (q4 i hi).1 (by rw [← lc]; exact (q4 i hi).2)) (nI j) (sCc S (sCh S b j)) 0 20000 (x + e) (by omega) (by omega)
          have m5 : sCp S (sCh S b j) 0 = sCh S b j + 1 := (hS.2.2.2.2.2 _ hcl).1.2.2.2.2.1
          rw [m5] at z2
          refine ⟨z, fun KK => ?_, by omega⟩
          unfold bf_X5_items_s_2
          rw [o1, pu_B1, pu_B1, o2, pu_B1, o3, pu_B2, if_neg (nI_ge hjc (by omega)), o1, pu_B1, pu_B1, o2, pu_B1, o4 j hjc, pu_B2, hck, pu_B1, e3, pu_Bd,  i1, if_neg h5, pu_B1, pu_Bd, if_pos rfl, i2, if_pos h6, pu_B1, if_neg h10, o5', pu_B1]
          obtain ⟨z', y1, y2⟩ := hp (fun (x19 : Int32) (x20 : Int32) (w18 : gw) => gBd (x20 + (nI 1)) fun x21 => KK x19 x21 w18)
          rw [m5] at y2
          have hzz : z' = z := by omega
          rw [y1, pu_Bd, nI_add, hzz]
        · refine ⟨x + e, fun KK => ?_, ?_⟩
          · unfold bf_X5_items_s_2
            rw [o1, pu_B1, pu_B1, o2, pu_B1, o3, pu_B2, if_neg (nI_ge hjc (by omega)), o1, pu_B1, pu_B1, o2, pu_B1, o4 j hjc, pu_B2, hck, pu_B1, e3, pu_Bd,  i1, if_neg h5, pu_B1, pu_Bd, if_pos rfl, i2, if_neg h6, pu_B1, if_pos rfl]
            try dsimp only
            rw [pu_Bd, nI_add]
          · rw [s_leafE hS hcl kc h5 h6]
            omega
    obtain ⟨x', s1, s2⟩ := hstep
    obtain ⟨z, z1, z2⟩ := ih (j + 1) fuel x' (by omega) (by omega)
    refine ⟨z, ?_, ?_⟩
    · rw [← z1]
      exact s1 _
    · rw [n1]
      rw [← n2] at z2
      omega
theorem items_all (hS : sWf S) (hO : sObjs S w tg) : ∀ l D b, l < D → b < sEn S 0 → sKd S b = 0 → sLv S b = l → ∃ v, f_X5_items D (sSa S b) w = some (nI v, w) ∧ pSum (fIt S) b + v = pSum (fIt S) (sEn S b) := by
  intro l
  induction l with
  | zero =>
    intro D b hD hb hk hl
    obtain ⟨D, rfl⟩ : ∃ g, D = g + 1 := ⟨D - 1, by omega⟩
    have hcc := s_cc hS hb
    obtain ⟨z, z1, z2⟩ := items_body (rec := f_X5_items D) hS hO hb hk (fun c _ _ hl => absurd hl (by omega)) (sCc S b) 0 20000 0 (by omega) (by omega)
    refine ⟨z, ?_, ?_⟩
    · show f_X5_items_s (f_X5_items D) _ w = _
      rw [f_X5_items_s_eq, z1]
    · rw [(hS.2.2.2.2.2 b hb).1.2.2.2.2.1] at z2
      have e : pSum (fIt S) (b + 1) = pSum (fIt S) b + (fIt S) b := rfl
      have e0 : (fIt S) b = 0 := by
        unfold fIt
        rw [if_pos hk]
      omega
  | succ l ih =>
    intro D b hD hb hk hl
    obtain ⟨D, rfl⟩ : ∃ g, D = g + 1 := ⟨D - 1, by omega⟩
    have hcc := s_cc hS hb
    obtain ⟨z, z1, z2⟩ := items_body (rec := f_X5_items D) hS hO hb hk (fun c c1 c2 c3 => ih D c (by omega) c1 c2 (by omega)) (sCc S b) 0 20000 0 (by omega) (by omega)
    refine ⟨z, ?_, ?_⟩
    · show f_X5_items_s (f_X5_items D) _ w = _
      rw [f_X5_items_s_eq, z1]
    · rw [(hS.2.2.2.2.2 b hb).1.2.2.2.2.1] at z2
      have e : pSum (fIt S) (b + 1) = pSum (fIt S) b + (fIt S) b := rfl
      have e0 : (fIt S) b = 0 := by
        unfold fIt
        rw [if_pos hk]
      omega
theorem tasks_par {n la : Nat} {rec : Nat → gw → Option (Int32 × gw)} {kk : Int32 → Int32 → gw → Option (Int32 × gw)} (hS : sWf S) (hO : sObjs S w tg) (hn : n < sEn S 0) (hk : sKd S n = 6) (hr : ∀ j, j < sCc S n → ∃ v, rec (sSa S (sCh S n j)) w = some (nI v, w) ∧ pSum (fTk S) (sCh S n j) + v = pSum (fTk S) (sEn S (sCh S n j))) (y : Int32) :
    ∀ r j fuel x, j + r = sCc S n → r < fuel → ∃ z, gL4 (bf_X5_tasks_s_1 kk rec) fuel (nI x) y (some (sSa S n)) (nI j) w = kk (nI z) y w ∧ z + pSum (fTk S) (sCp S n j) = x + pSum (fTk S) (sEn S n) := by
  obtain ⟨la, o1, o2, o3, o4, o5⟩ := vp_obj hO hn hk
  have hcc := s_cc hS hn
  intro r
  induction r with
  | zero =>
    intro j fuel x hj hf
    obtain ⟨fuel, rfl⟩ : ∃ g, fuel = g + 1 := ⟨fuel - 1, by omega⟩
    refine ⟨x, ?_, ?_⟩
    · show bf_X5_tasks_s_1 kk rec (gL4 (bf_X5_tasks_s_1 kk rec) fuel) _ _ _ _ _ = _
      generalize gL4 (bf_X5_tasks_s_1 kk rec) fuel = KK
      unfold bf_X5_tasks_s_1
      rw [pu_B1, o1, pu_B1, pu_B1, o2, pu_B1, o3, pu_B2, if_pos (nI_le (by omega) (by omega))]
    · rw [show sCp S n j = sEn S n from if_neg (by omega)]
  | succ r ih =>
    intro j fuel x hj hf
    obtain ⟨fuel, rfl⟩ : ∃ g, fuel = g + 1 := ⟨fuel - 1, by omega⟩
    have hjc : j < sCc S n := by omega
    obtain ⟨v, v1, v2⟩ := hr j hjc
    obtain ⟨-, -, -, n1, n2⟩ := sNode_in (hS.2.2.2.2.2 n hn) hjc
    obtain ⟨-, -, -, q4⟩ := par_ch hS hn hk
    obtain ⟨-, -, -, -, -, p5, p6⟩ := vb_obj hO (sWf_lt hS hn hjc) (q4 j hjc).1
    obtain ⟨z, z1, z2⟩ := ih (j + 1) fuel (x + v) (by omega) (by omega)
    refine ⟨z, ?_, ?_⟩
    · rw [← z1]
      show bf_X5_tasks_s_1 kk rec (gL4 (bf_X5_tasks_s_1 kk rec) fuel) _ _ _ _ _ = _
      generalize gL4 (bf_X5_tasks_s_1 kk rec) fuel = KK
      unfold bf_X5_tasks_s_1
      rw [pu_B1, o1, pu_B1, pu_B1, o2, pu_B1, o3, pu_B2, if_neg (nI_ge hjc (by omega)), o1, pu_B1, pu_B1, o2, pu_B1, o4 j hjc, pu_B2, p6, pu_B1, pu_B1, p5, pu_B1, v1, pu_B2, nI_add, pu_Bd, nI_add, pu_Bd]
    · rw [n1, ← n2] at *
      omega
theorem tasks_body {b : Nat} {rec : Nat → gw → Option (Int32 × gw)} (hS : sWf S) (hO : sObjs S w tg) (hb : b < sEn S 0) (hk : sKd S b = 0) (hr : ∀ c, c < sEn S 0 → sKd S c = 0 → sLv S c + 1 = sLv S b → ∃ v, rec (sSa S c) w = some (nI v, w) ∧ pSum (fTk S) c + v = pSum (fTk S) (sEn S c)) :
    ∀ r j fuel x, j + r = sCc S b → r < fuel → ∃ z, gL2 (bf_X5_tasks_s_2 (sSa S b) rec) fuel (nI x) (nI j) w = some (nI z, w) ∧ z + pSum (fTk S) (sCp S b j) = x + pSum (fTk S) (sEn S b) := by
  obtain ⟨la, o1, o2, o3, o4, -, -⟩ := vb_obj hO hb hk
  have hcc := s_cc hS hb
  intro r
  induction r with
  | zero =>
    intro j fuel x hj hf
    obtain ⟨fuel, rfl⟩ : ∃ g, fuel = g + 1 := ⟨fuel - 1, by omega⟩
    refine ⟨x, ?_, ?_⟩
    · show bf_X5_tasks_s_2 (sSa S b) rec (gL2 (bf_X5_tasks_s_2 (sSa S b) rec) fuel) _ _ _ = _
      generalize gL2 (bf_X5_tasks_s_2 (sSa S b) rec) fuel = KK
      unfold bf_X5_tasks_s_2
      rw [o1, pu_B1, pu_B1, o2, pu_B1, o3, pu_B2, if_pos (nI_le (by omega) (by omega))]
    · rw [show sCp S b j = sEn S b from if_neg (by omega)]
  | succ r ih =>
    intro j fuel x hj hf
    obtain ⟨fuel, rfl⟩ : ∃ g, fuel = g + 1 := ⟨fuel - 1, by omega⟩
    have hjc : j < sCc S b := by omega
    have hcl := sWf_lt hS hb hjc
    obtain ⟨-, -, -, n1, n2⟩ := sNode_in (hS.2.2.2.2.2 b hb) hjc
    obtain ⟨kc, lc⟩ := s_kid hS hb hk hjc
    obtain ⟨i1, i2, i3⟩ := vi_is hO hcl kc
    have hck := sItem_ck hO hcl kc
    have h10 : ¬ (1 : Int32) = 0 := by decide
    have hz10 : (nI 0 : Int32) = 0 := by decide
    have hF1 : ∃ e, e ≤ 1 ∧ pSum (fTk S) (sCh S b j + 1) = pSum (fTk S) (sCh S b j) + e ∧ f_X0_bit (if sKd S (sCh S b j) = 1 then 1 else 0) w = some (nI e, w) := by
      by_cases h1 : sKd S (sCh S b j) = 1
      · refine ⟨1, Nat.le_refl _, by show _ + fTk S (sCh S b j) = _; unfold fTk; rw [if_pos h1], ?_⟩
        unfold f_X0_bit
        rw [if_pos h1, if_neg h10]
      · refine ⟨0, Nat.zero_le _, by show _ + fTk S (sCh S b j) = _; unfold fTk; rw [if_neg h1], ?_⟩
        unfold f_X0_bit
        rw [if_neg h1, if_pos rfl]
    obtain ⟨e, e1, e2, e3⟩ := hF1
    have hstep : ∃ x', (∀ KK, bf_X5_tasks_s_2 (sSa S b) rec KK (nI x) (nI j) w = KK (nI x') (nI (j + 1)) w) ∧ x' + pSum (fTk S) (sCh S b j) = x + pSum (fTk S) (sEn S (sCh S b j)) := by
      by_cases h5 : sKd S (sCh S b j) = 5
      · obtain ⟨q1, -, q3⟩ := choice_ch hS hcl h5
        obtain ⟨u1, u2, u3⟩ := vc_obj hO hcl h5
        have hc0 := sWf_lt hS hcl (j := 0) (by omega)
        have hc1 := sWf_lt hS hcl (j := 1) (by omega)
        obtain ⟨v0, a1, a2⟩ := hr _ hc0 (q3 0 (by omega)).1 (by rw [← lc]; exact (q3 0 (by omega)).2)
        obtain ⟨v1, b1, b2⟩ := hr _ hc1 (q3 1 (by omega)).1 (by rw [← lc]; exact (q3 1 (by omega)).2)
        obtain ⟨-, -, -, -, -, p5, -⟩ := vb_obj hO hc0 (q3 0 (by omega)).1
        obtain ⟨-, -, -, -, -, p5', -⟩ := vb_obj hO hc1 (q3 1 (by omega)).1
        refine ⟨x + e + (v0 + v1), fun KK => ?_, ?_⟩
        · unfold bf_X5_tasks_s_2
          rw [o1, pu_B1, pu_B1, o2, pu_B1, o3, pu_B2, if_neg (nI_ge hjc (by omega)), o1, pu_B1, pu_B1, o2, pu_B1, o4 j hjc, pu_B2, hck, pu_B1, i3, pu_B1, e3, pu_B2, nI_add, pu_Bd,  i1, if_pos h5, pu_B1, pu_Bd, if_neg h10, u3, pu_B1, pu_B1, u1, pu_B1, pu_B1, p5, pu_B1, a1, pu_B2, u2, pu_B1, pu_B1, p5', pu_B1, b1, pu_B2, nI_add, nI_add, pu_Bd]
          try dsimp only
          rw [pu_Bd, nI_add]
        · have hN := hS.2.2.2.2.2 _ hcl
          obtain ⟨-, -, -, m1, m2⟩ := sNode_in hN (j := 0) (by omega)
          obtain ⟨-, -, -, m3, m4⟩ := sNode_in hN (j := 1) (by omega)
          have m5 : sCp S (sCh S b j) 0 = sCh S b j + 1 := hN.1.2.2.2.2.1
          have m6 : sCp S (sCh S b j) 2 = sEn S (sCh S b j) := if_neg (by omega)
          rw [m5] at m1
          rw [m3] at m2
          rw [m6] at m4
          rw [m2, ← m1] at a2
          rw [m4] at b2
          omega
      · by_cases h6 : sKd S (sCh S b j) = 6
        · obtain ⟨la', o1', o2', o3', o4', o5'⟩ := vp_obj hO hcl h6
          obtain ⟨-, q2, -, q4⟩ := par_ch hS hcl h6
          have hp := fun kk => tasks_par (kk := kk) hS hO hcl h6 (rec := rec) (la := la') (fun i hi => hr _ (sWf_lt hS hcl hi) (q4 i hi).1 (by rw [← lc]; exact (q4 i hi).2)) (nI j) (sCc S (sCh S b j)) 0 20000 (x + e) (by omega) (by omega)
          obtain ⟨z, z1, z2⟩ := tasks_par (kk := fun a c v => some (a, v)) hS hO hcl h6 (rec := rec) (la := la') (fun i hi => hr _ (sWf_lt hS hcl hi) (q4 i hi).1 (by rw [← lc]; exact (q4 i hi).2)) (nI j) (sCc S (sCh S b j)) 0 20000 (x + e) (by omega) (by omega)
          have m5 : sCp S (sCh S b j) 0 = sCh S b j + 1 := (hS.2.2.2.2.2 _ hcl).1.2.2.2.2.1
          rw [m5] at z2
          refine ⟨z, fun KK => ?_, by omega⟩
          unfold bf_X5_tasks_s_2
          rw [o1, pu_B1, pu_B1, o2, pu_B1, o3, pu_B2, if_neg (nI_ge hjc (by omega)), o1, pu_B1, pu_B1, o2, pu_B1, o4 j hjc, pu_B2, hck, pu_B1, i3, pu_B1, e3, pu_B2, nI_add, pu_Bd,  i1, if_neg h5, pu_B1, pu_Bd, if_pos rfl, i2, if_pos h6, pu_B1, if_neg h10, o5', pu_B1]
          obtain ⟨z', y1, y2⟩ := hp (fun (x19 : Int32) (x20 : Int32) (w18 : gw) => gBd (x20 + (nI 1)) fun x21 => KK x19 x21 w18)
          rw [m5] at y2
          have hzz : z' = z := by omega
          rw [y1, pu_Bd, nI_add, hzz]
        · refine ⟨x + e, fun KK => ?_, ?_⟩
          · unfold bf_X5_tasks_s_2
            rw [o1, pu_B1, pu_B1, o2, pu_B1, o3, pu_B2, if_neg (nI_ge hjc (by omega)), o1, pu_B1, pu_B1, o2, pu_B1, o4 j hjc, pu_B2, hck, pu_B1, i3, pu_B1, e3, pu_B2, nI_add, pu_Bd,  i1, if_neg h5, pu_B1, pu_Bd, if_pos rfl, i2, if_neg h6, pu_B1, if_pos rfl]
            try dsimp only
            rw [pu_Bd, nI_add]
          · rw [s_leafE hS hcl kc h5 h6]
            omega
    obtain ⟨x', s1, s2⟩ := hstep
    obtain ⟨z, z1, z2⟩ := ih (j + 1) fuel x' (by omega) (by omega)
    refine ⟨z, ?_, ?_⟩
    · rw [← z1]
      exact s1 _
    · rw [n1]
      rw [← n2] at z2
      omega
theorem tasks_all (hS : sWf S) (hO : sObjs S w tg) : ∀ l D b, l < D → b < sEn S 0 → sKd S b = 0 → sLv S b = l → ∃ v, f_X5_tasks D (sSa S b) w = some (nI v, w) ∧ pSum (fTk S) b + v = pSum (fTk S) (sEn S b) := by
  intro l
  induction l with
  | zero =>
    intro D b hD hb hk hl
    obtain ⟨D, rfl⟩ : ∃ g, D = g + 1 := ⟨D - 1, by omega⟩
    have hcc := s_cc hS hb
    obtain ⟨z, z1, z2⟩ := tasks_body (rec := f_X5_tasks D) hS hO hb hk (fun c _ _ hl => absurd hl (by omega)) (sCc S b) 0 20000 0 (by omega) (by omega)
    refine ⟨z, ?_, ?_⟩
    · show f_X5_tasks_s (f_X5_tasks D) _ w = _
      rw [f_X5_tasks_s_eq, z1]
    · rw [(hS.2.2.2.2.2 b hb).1.2.2.2.2.1] at z2
      have e : pSum (fTk S) (b + 1) = pSum (fTk S) b + (fTk S) b := rfl
      have e0 : (fTk S) b = 0 := by
        unfold fTk
        rw [if_neg (by omega)]
      omega
  | succ l ih =>
    intro D b hD hb hk hl
    obtain ⟨D, rfl⟩ : ∃ g, D = g + 1 := ⟨D - 1, by omega⟩
    have hcc := s_cc hS hb
    obtain ⟨z, z1, z2⟩ := tasks_body (rec := f_X5_tasks D) hS hO hb hk (fun c c1 c2 c3 => ih D c (by omega) c1 c2 (by omega)) (sCc S b) 0 20000 0 (by omega) (by omega)
    refine ⟨z, ?_, ?_⟩
    · show f_X5_tasks_s (f_X5_tasks D) _ w = _
      rw [f_X5_tasks_s_eq, z1]
    · rw [(hS.2.2.2.2.2 b hb).1.2.2.2.2.1] at z2
      have e : pSum (fTk S) (b + 1) = pSum (fTk S) b + (fTk S) b := rfl
      have e0 : (fTk S) b = 0 := by
        unfold fTk
        rw [if_neg (by omega)]
      omega
end VR
