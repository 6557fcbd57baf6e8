set_option maxRecDepth 100000
/-! LISTS of the component: add, get, size; sorted numbers -/
theorem hn_K (w : gw) (e : gE) (n : Nat) : (hn w e n).2.2.2 = w.2.2.2 := id rfl
theorem pu_Can {w : gw} {t v c : Nat} {fs : List gv} (h : w.1 v = some (.inl (c, fs))) (ha : gAsg t c = true) : gCan w t (some v) = true := by
  show (match gCls w v with | some c => gAsg t c | none => false) = true
  rw [pu_Cls h]
  exact ha
theorem pu_CpR {w : gw} {t a0 a1 n n0 n1 : Nat} {f0 f1 : Nat → Option Nat} (h0 : w.1 a0 = some (.inr (t, n0, .inr f0))) (h1 : w.1 a1 = some (.inr (t, n1, .inr f1))) (hn : n < 2 ^ 31) (l0 : n ≤ n0) (l1 : n ≤ n1) (l2 : 0 < n1) (hc : ∀ j, j < n → gCan w t (f0 j) = true) :
    gCpR w t a0 (nI 0) a1 (nI 0) (nI n) = some (hs w a1 (.inr (t, n1, .inr (va_cpy f0 f1 0 0 n)))) := by
  unfold gCpR
  rw [pu_RA h0, pu_RA h1]
  have e0 : (nI 0).toNatClampNeg = 0 := by decide
  have e1 : (nI n).toNatClampNeg = n := nI_clamp hn
  have hok : gCpOk w t f0 0 n = true := by
    unfold gCpOk
    rw [List.all_eq_true]
    intro j hj
    have := List.mem_range.mp hj
    rw [Nat.zero_add]
    exact hc j this
  show (if ¬ nI 0 < 0 ∧ ¬ nI 0 < 0 ∧ ¬ nI n < 0 ∧ (nI 0).toNatClampNeg + (nI n).toNatClampNeg ≤ n0 ∧ (nI 0).toNatClampNeg + (nI n).toNatClampNeg ≤ n1 ∧ 0 < n1 ∧ gCpOk w t f0 (nI 0).toNatClampNeg (nI n).toNatClampNeg = true then some ((va_up w.1 a1 (some (.inr (t, n1, .inr (va_cpy f0 f1 (nI 0).toNatClampNeg (nI 0).toNatClampNeg (nI n).toNatClampNeg)))), w.2) : gw) else none) = _
  rw [e0, e1, if_pos ⟨by decide, by decide, nI_pos hn, by omega, by omega, l2, hok⟩]
  rfl
theorem pf_size {w : gw} {la : Nat} {f0 f1 : gv} {x : Int32} (h : w.1 la = some (.inl (8, [f0, f1, gi x]))) : f_J2_size la w = some (x, w) := by
  unfold f_J2_size
  simp only [pu_B1, pu_B2, pu_Bd, pu_Nn, pu_Ns, pv_I, pv_R, pv_P, pv_LI, pv_LR, pv_SI, pv_SR, pv_O, pv_C, pvF, pvI, pvR, pvP, pvLI, pvLR, pvSI, pvSR, pvN, pvO, pvC, pv_bs, pv_ms, hs_self, hs_ne, hs_K, hs_2, List.getElem?_cons_succ, List.getElem?_cons_zero, List.set_cons_succ, List.set_cons_zero, Option.isSome_some, if_true, if_false, true_and, and_true, ↓reduceIte, h]
theorem pf_get {w : gw} {la ea m cap j : Nat} {f0 : gv} {g : Nat → Option Nat} (h : w.1 la = some (.inl (8, [f0, ga (some ea), gi (nI m)]))) (h2 : w.1 ea = some (.inr (2, cap, .inr g))) (hj : j < m) (hm : m ≤ cap) (hc : cap < 1000) : f_J2_get la (nI j) w = some (g j, w) := by
  unfold f_J2_get f_J8_checkIndex f_J9_checkIndex f_J2_elementData
  have e1 : ¬ nI j < 0 := nI_pos (by omega)
  have e2 : nI j < nI m := nI_lt hj (by omega)
  simp (disch := omega) only [pu_B1, pu_B2, pu_Bd, pu_Nn, pu_Ns, pv_I, pv_R, pv_P, pv_LI, pv_LR, pv_SI, pv_SR, pv_O, pv_C, pvF, pvI, pvR, pvP, pvLI, pvLR, pvSI, pvSR, pvN, pvO, pvC, pv_bs, pv_ms, hs_self, hs_ne, hs_K, hs_2, List.getElem?_cons_succ, List.getElem?_cons_zero, List.set_cons_succ, List.set_cons_zero, Option.isSome_some, if_true, if_false, true_and, and_true, ↓reduceIte, h, h2, e1, e2, pu_gIx]
theorem pf_grow0 {w : gw} {la : Nat} {mc : gv} (hla : w.1 la = some (.inl (8, [mc, ga (some (w.2.2.2 5)), gi (nI 0)]))) (hK : w.1 (w.2.2.2 5) = none) (hb : pBd w) (h0 : w.2.1 + 1 ≤ w.2.2.2 0) (h1 : w.2.2.1 + 10 ≤ w.2.2.2 1) :
    f_J2_grow_2 la (nI 0 + nI 1) w = some (some w.2.1, hs (hn w (.inr (2, 10, .inr (fun _ => none))) 10) la (.inl (8, [mc, ga (some w.2.1), gi (nI 0)]))) := by
  unfold f_J2_grow_2 f_J6_max
  have e0 : gLen w (w.2.2.2 5) 2 = some 0 := by
    unfold gLen
    rw [hK]
    exact if_pos ⟨rfl, rfl⟩
  have e1 : ¬ (0 : Int32) < 0 := by decide
  have e2 : ¬ nI 10 < nI 0 + nI 1 := by decide
  have e3 := pu_NewR (w := w) (t := 2) (n := 10) (by decide) h0 h1
  have n1 : la ≠ w.2.1 := by
    have := hb _ _ hla
    omega
  have hla' : (hn w (.inr (2, 10, .inr (fun _ => none))) 10).1 la = some (.inl (8, [mc, ga (some (w.2.2.2 5)), gi (nI 0)])) := (hn_ne n1).trans hla
  simp only [pu_B1, pu_B2, pu_Bd, pu_Nn, pu_Ns, pv_I, pv_R, pv_P, pv_LI, pv_LR, pv_SI, pv_SR, pv_O, pv_C, pvF, pvI, pvR, pvP, pvLI, pvLR, pvSI, pvSR, pvN, pvO, pvC, pv_bs, pv_ms, hs_self, hs_ne, hs_K, hs_2, List.getElem?_cons_succ, List.getElem?_cons_zero, List.set_cons_succ, List.set_cons_zero, Option.isSome_some, if_true, if_false, true_and, and_true, ↓reduceIte, hla, hla', e0, e1, e2, e3]
theorem pf_shr : ∀ m : Nat, m < 64 → (nI m >>> ((nI 1) &&& 31)) = nI (m / 2) := by decide +kernel
theorem pf_grow1 {w : gw} {la ea m : Nat} {mc : gv} {g : Nat → Option Nat} (hla : w.1 la = some (.inl (8, [mc, ga (some ea), gi (nI m)]))) (hea : w.1 ea = some (.inr (2, m, .inr g))) (hm : 1 ≤ m) (hm2 : m < 64) (hg : ∀ j, j < m → ∃ x c fs, g j = some x ∧ w.1 x = some (.inl (c, fs)) ∧ gAsg 2 c = true)
    (hb : pBd w) (h0 : w.2.1 + 1 ≤ w.2.2.2 0) (h1 : w.2.2.1 + (m + max 1 (m / 2)) ≤ w.2.2.2 1) :
    f_J2_grow_2 la (nI m + nI 1) w = some (some w.2.1, hs (hs (hn w (.inr (2, m + max 1 (m / 2), .inr (fun _ => none))) (m + max 1 (m / 2))) w.2.1 (.inr (2, m + max 1 (m / 2), .inr (va_cpy g (fun _ => none) 0 0 m)))) la (.inl (8, [mc, ga (some w.2.1), gi (nI m)]))) := by
  unfold f_J2_grow_2 f_J5_newLength f_J7_copyOf f_J7_copyOf_2 f_J6_max f_J6_min
  have n1 : la ≠ w.2.1 := by
    have := hb _ _ hla
    omega
  have n2 : ea ≠ w.2.1 := by
    have := hb _ _ hea
    omega
  have e0 : gLen w ea 2 = some (nI m) := pu_Len hea
  have e1 : 0 < nI m := by
    have := nI_lt (a := 0) (b := m) (by omega) (by omega)
    exact this
  have e2 : nI (m + 1) - nI m = nI 1 := by
    rw [pu_sub (by omega), Nat.add_sub_cancel_left]
  have e3 : (if nI 1 < nI (m / 2) then some (nI (m / 2), w) else some (nI 1, w)) = some (nI (max 1 (m / 2)), w) := by
    by_cases hh : 1 < m / 2
    · rw [if_pos (nI_lt hh (by omega)), Nat.max_eq_right (by omega)]
    · rw [if_neg (nI_nlt (by omega) (by omega)), Nat.max_eq_left (by omega)]
  have e4 : ¬ nI (m + max 1 (m / 2)) ≤ nI 0 := nI_ge (by omega) (by omega)
  have e5 : ¬ nI 2147483639 < nI (m + max 1 (m / 2)) := nI_nlt (by omega) (by decide)
  have e6 := pu_NewR (w := w) (t := 2) (n := m + max 1 (m / 2)) (by omega) h0 h1
  have e7 : gRA w ea 2 = some (m, g) := pu_RA hea
  have e8 : gLen (hn w (.inr (2, m + max 1 (m / 2), .inr (fun _ => none))) (m + max 1 (m / 2))) ea 2 = some (nI m) := pu_Len ((hn_ne n2).trans hea)
  have e9 : ¬ nI (m + max 1 (m / 2)) < nI m := nI_nlt (by omega) (by omega)
  have e10 := pu_CpR (w := hn w (.inr (2, m + max 1 (m / 2), .inr (fun _ => none))) (m + max 1 (m / 2))) (a0 := ea) (a1 := w.2.1) (n := m) ((hn_ne n2).trans hea) (hn_self w _ _) (by omega) (Nat.le_refl _) (by omega) (by omega) (by
    intro j hj
    obtain ⟨x, c, fs, k1, k2, k3⟩ := hg j hj
    rw [k1]
    refine pu_Can (c := c) (fs := fs) ((hn_ne ?_).trans k2) k3
    have := hb _ _ k2
    omega)
  have hla' : (hn w (.inr (2, m + max 1 (m / 2), .inr (fun _ => none))) (m + max 1 (m / 2))).1 la = some (.inl (8, [mc, ga (some ea), gi (nI m)])) := (hn_ne n1).trans hla
  simp (disch := first | assumption | omega) only [pu_B1, pu_B2, pu_Bd, pu_Nn, pu_Ns, pv_I, pv_R, pv_P, pv_LI, pv_LR, pv_SI, pv_SR, pv_O, pv_C, pvF, pvI, pvR, pvP, pvLI, pvLR, pvSI, pvSR, pvN, pvO, pvC, pv_bs, pv_ms, hs_self, hs_ne, hs_K, hs_2, List.getElem?_cons_succ, List.getElem?_cons_zero, List.set_cons_succ, List.set_cons_zero, Option.isSome_some, if_true, if_false, true_and, and_true, ↓reduceIte, hla, hla', e0, e1, e2, e3, e4, e5, e6, e7, e8, e9, e10, pf_shr, nI_add]
/-- add: what it leaves -/
theorem pf_add {w : gw} {la ea m : Nat} {mc : Int32} {g : Nat → Option Nat} {r : Nat} (hla : w.1 la = some (.inl (8, [gi mc, ga (some ea), gi (nI m)]))) (hm : m < 60)
    (hea : (m = 0 ∧ ea = w.2.2.2 5 ∧ w.1 ea = none) ∨ ∃ cap, m ≤ cap ∧ 1 ≤ cap ∧ cap ≤ 100 ∧ w.1 ea = some (.inr (2, cap, .inr g)))
    (hg : ∀ j, j < m → ∃ x c fs, g j = some x ∧ w.1 x = some (.inl (c, fs)) ∧ gAsg 2 c = true) (hr : ∃ c fs, w.1 r = some (.inl (c, fs)) ∧ gAsg 2 c = true)
    (hb : pBd w) (h0 : w.2.1 + 1 ≤ w.2.2.2 0) (h1 : w.2.2.1 + 10 + m + m ≤ w.2.2.2 1) :
    ∃ w1 ea1 cap1 g1, f_J2_add la (some r) w = some (nI 1, w1) ∧ w1.1 la = some (.inl (8, [gi (mc + nI 1), ga (some ea1), gi (nI (m + 1))])) ∧ w1.1 ea1 = some (.inr (2, cap1, .inr g1)) ∧ m + 1 ≤ cap1 ∧ (∀ j, j < m → g1 j = g j) ∧ g1 m = some r ∧
      (∀ b, b ≠ la → b ≠ ea1 → w1.1 b = w.1 b) ∧ ea1 ≠ la ∧ (ea1 = ea ∧ w1.2 = w.2 ∧ (∃ g0, w.1 ea = some (.inr (2, cap1, .inr g0))) ∨ ea1 = w.2.1 ∧ w1.2 = (w.2.1 + 1, w.2.2.1 + cap1, w.2.2.2) ∧ (cap1 = 10 ∨ cap1 = m + max 1 (m / 2)) ∧ cap1 ≤ 10 + m + m) := by
  have hla2 : (hs w la (.inl (8, [gi (mc + nI 1), ga (some ea), gi (nI m)]))).1 la = some (.inl (8, [gi (mc + nI 1), ga (some ea), gi (nI m)])) := hs_self _ _ _
  have hb2 : pBd (hs w la (.inl (8, [gi (mc + nI 1), ga (some ea), gi (nI m)]))) := (pFr.hs (P := fun _ => True) (tg := fun _ => (0, 0)) hb hla trivial).1
  have hcan : ∀ (W : gw) (x : Nat), (∀ c fs, w.1 x = some (.inl (c, fs)) → gAsg 2 c = true → ∃ fs', W.1 x = some (.inl (c, fs'))) → (∃ c fs, w.1 x = some (.inl (c, fs)) ∧ gAsg 2 c = true) → gCan W 2 (some x) = true := by
    intro W x hW ⟨c, fs, k1, k2⟩
    obtain ⟨fs', k3⟩ := hW c fs k1 k2
    exact pu_Can k3 k2
  rcases hea with ⟨rfl, rfl, hea2⟩ | ⟨cap, c1, c2, c3, hea⟩
  · -- the first element
    have n0 : w.2.2.2 5 ≠ la := fun z => by rw [z, hla] at hea2; cases hea2
    have hK2 : (hs w la (.inl (8, [gi (mc + nI 1), ga (some (w.2.2.2 5)), gi (nI 0)]))).1 (w.2.2.2 5) = none := (hs_ne n0).trans hea2
    have hgr := pf_grow0 hla2 hK2 hb2 h0 (by show w.2.2.1 + 10 ≤ w.2.2.2 1; omega)
    have n1 : w.2.1 ≠ la := fun z => by have := hb _ _ hla; omega
    have e0 : gLen (hs w la (.inl (8, [gi (mc + nI 1), ga (some (w.2.2.2 5)), gi (nI 0)]))) (w.2.2.2 5) 2 = some 0 := by
      unfold gLen
      rw [hK2]
      exact if_pos ⟨rfl, rfl⟩
    have e1 : nI 0 = 0 := by decide
    obtain ⟨w3, hw3⟩ : ∃ w3, hs (hn (hs w la (.inl (8, [gi (mc + nI 1), ga (some (w.2.2.2 5)), gi (nI 0)]))) (.inr (2, 10, .inr (fun _ => none))) 10) la (.inl (8, [gi (mc + nI 1), ga (some w.2.1), gi (nI 0)])) = w3 := ⟨_, rfl⟩
    have hgr' : f_J2_grow_2 la (nI (0 + 1)) (hs w la (.inl (8, [gi (mc + nI 1), ga (some (w.2.2.2 5)), gi (nI 0)]))) = some (some w.2.1, w3) := by
      rw [← hw3, ← nI_add]
      exact hgr
    have hw3a : w3.1 la = some (.inl (8, [gi (mc + nI 1), ga (some w.2.1), gi (nI 0)])) := by rw [← hw3, hs_self]
    have hw3b : w3.1 w.2.1 = some (.inr (2, 10, .inr (fun _ => none))) := by rw [← hw3, hs_ne n1]; exact hn_self _ _ _
    have hw3c : ∀ b, b ≠ la → b ≠ w.2.1 → w3.1 b = w.1 b := fun b h1 h2 => by rw [← hw3, hs_ne h1]; exact (hn_ne (w := hs w la (.inl (8, [gi (mc + nI 1), ga (some (w.2.2.2 5)), gi (nI 0)]))) h2).trans (hs_ne h1)
    have hw3d : w3.2 = (w.2.1 + 1, w.2.2.1 + 10, w.2.2.2) := by rw [← hw3]; rfl
    have hcr : gCan w3 2 (some r) = true := hcan w3 r (fun c fs k1 k2 => by
      by_cases hrl : r = la
      · subst hrl
        rw [hla] at k1
        cases k1
        exact ⟨_, hw3a⟩
      · refine ⟨fs, (hw3c r hrl ?_).trans k1⟩
        have := hb _ _ k1
        omega) hr
    refine ⟨hs (hs w3 w.2.1 (.inr (2, 10, .inr (va_up (fun _ => none) 0 (some r))))) la (.inl (8, [gi (mc + nI 1), ga (some w.2.1), gi (nI (0 + 1))])), w.2.1, 10, _, ?_, hs_self _ _ _, (hs_ne n1).trans (hs_self _ _ _), by omega, fun j hj => absurd hj (by omega), va_up_self _ _ _, ?_, n1, Or.inr ⟨rfl, hw3d, Or.inl rfl, by omega⟩⟩
    · unfold f_J2_add f_J2_add_2 f_J2_grow
      have hst := pu_StR (r := some r) (j := 0) hw3b (by omega) (by decide) hcr
      rw [pv_SR] at hst
      simp (disch := first | assumption | omega | (apply Ne.symm; assumption)) only [pu_B1, pu_B2, pu_Bd, pu_Nn, pu_Ns, pv_I, pv_R, pv_P, pv_LI, pv_LR, pv_SI, pv_SR, pv_O, pv_C, pvF, pvI, pvR, pvP, pvLI, pvLR, pvSI, pvSR, pvN, pvO, pvC, pv_bs, pv_ms, hs_self, hs_ne, hs_K, hs_2, List.getElem?_cons_succ, List.getElem?_cons_zero, List.set_cons_succ, List.set_cons_zero, Option.isSome_some, if_true, if_false, true_and, and_true, ↓reduceIte, hla, e0, eq_true e1, hgr', hst, hw3a, nI_add]
    · intro b h1 h2
      rw [hs_ne h1, hs_ne h2]
      exact hw3c b h1 h2
  · have n2 : ea ≠ la := ne_of hea hla (by simp)
    have hea2 : (hs w la (.inl (8, [gi (mc + nI 1), ga (some ea), gi (nI m)]))).1 ea = some (.inr (2, cap, .inr g)) := (hs_ne n2).trans hea
    have e0 : gLen (hs w la (.inl (8, [gi (mc + nI 1), ga (some ea), gi (nI m)]))) ea 2 = some (nI cap) := pu_Len hea2
    by_cases hcap : m = cap
    · subst hcap
      have n1 : w.2.1 ≠ la := fun z => by have := hb _ _ hla; omega
      have hgr := pf_grow1 hla2 hea2 c2 (by omega) (fun j hj => by
        obtain ⟨x, c, fs, k1, k2, k3⟩ := hg j hj
        by_cases hx : x = la
        · subst hx
          rw [hla] at k2
          cases k2
          exact ⟨x, _, _, k1, hla2, k3⟩
        · exact ⟨x, c, fs, k1, (hs_ne hx).trans k2, k3⟩) hb2 h0 (by show w.2.2.1 + (m + max 1 (m / 2)) ≤ _; show _ ≤ w.2.2.2 1; omega)
      generalize hw3 : hs (hs (hn (hs w la (.inl (8, [gi (mc + nI 1), ga (some ea), gi (nI m)]))) _ _) _ _) la _ = w3 at hgr
      have hw3a : w3.1 la = some (.inl (8, [gi (mc + nI 1), ga (some w.2.1), gi (nI m)])) := by rw [← hw3, hs_self]; rfl
      have hw3b : w3.1 w.2.1 = some (.inr (2, m + max 1 (m / 2), .inr (va_cpy g (fun _ => none) 0 0 m))) := by rw [← hw3, hs_ne n1]; exact hs_self _ _ _
      have hw3c : ∀ b, b ≠ la → b ≠ w.2.1 → w3.1 b = w.1 b := fun b h1 h2 => by rw [← hw3, hs_ne h1]; exact (hs_ne h2).trans ((hn_ne (w := hs w la (.inl (8, [gi (mc + nI 1), ga (some ea), gi (nI m)]))) h2).trans (hs_ne h1))
      have hw3d : w3.2 = (w.2.1 + 1, w.2.2.1 + (m + max 1 (m / 2)), w.2.2.2) := by rw [← hw3]; rfl
      have hcr : gCan w3 2 (some r) = true := hcan w3 r (fun c fs k1 k2 => by
        by_cases hrl : r = la
        · subst hrl
          rw [hla] at k1
          cases k1
          exact ⟨_, hw3a⟩
        · refine ⟨fs, (hw3c r hrl ?_).trans k1⟩
          have := hb _ _ k1
          omega) hr
      refine ⟨hs (hs w3 w.2.1 (.inr (2, m + max 1 (m / 2), .inr (va_up (va_cpy g (fun _ => none) 0 0 m) m (some r))))) la (.inl (8, [gi (mc + nI 1), ga (some w.2.1), gi (nI (m + 1))])), w.2.1, _, _, ?_, hs_self _ _ _, (hs_ne n1).trans (hs_self _ _ _), by omega, ?_, va_up_self _ _ _, ?_, n1, Or.inr ⟨rfl, hw3d, Or.inr rfl, by omega⟩⟩
      · unfold f_J2_add f_J2_add_2 f_J2_grow
        have hst := pu_StR (r := some r) (j := m) hw3b (by omega) (by omega) hcr
        rw [pv_SR] at hst
        have hgr' : f_J2_grow_2 la (nI (m + 1)) (hs w la (.inl (8, [gi (mc + nI 1), ga (some ea), gi (nI m)]))) = some (some w.2.1, w3) := by
          rw [← nI_add]
          exact hgr
        simp (disch := first | assumption | omega | (apply Ne.symm; assumption)) only [pu_B1, pu_B2, pu_Bd, pu_Nn, pu_Ns, pv_I, pv_R, pv_P, pv_LI, pv_LR, pv_SI, pv_SR, pv_O, pv_C, pvF, pvI, pvR, pvP, pvLI, pvLR, pvSI, pvSR, pvN, pvO, pvC, pv_bs, pv_ms, hs_self, hs_ne, hs_K, hs_2, List.getElem?_cons_succ, List.getElem?_cons_zero, List.set_cons_succ, List.set_cons_zero, Option.isSome_some, if_true, if_false, true_and, and_true, ↓reduceIte, hla, e0, hgr', hst, hw3a, nI_add]
      · intro j hj
        rw [va_up_ne _ _ (by omega)]
        unfold va_cpy
        rw [if_pos ⟨by omega, by omega⟩]
        congr 1
        omega
      · intro b h1 h2
        rw [hs_ne h1, hs_ne h2]
        exact hw3c b h1 h2
    · have hcr : gCan (hs w la (.inl (8, [gi (mc + nI 1), ga (some ea), gi (nI m)]))) 2 (some r) = true := hcan _ r (fun c fs k1 k2 => by
        by_cases hrl : r = la
        · subst hrl
          rw [hla] at k1
          cases k1
          exact ⟨_, hla2⟩
        · exact ⟨fs, (hs_ne hrl).trans k1⟩) hr
      have hst := pu_StR (r := some r) (j := m) hea2 (by omega) (by omega) hcr
      rw [pv_SR, hs_ne n2] at hst
      have e3 : ¬ nI m = nI cap := fun z => hcap ((nI_eq (by omega) (by omega)).mp z)
      refine ⟨hs (hs (hs w la (.inl (8, [gi (mc + nI 1), ga (some ea), gi (nI m)]))) ea (.inr (2, cap, .inr (va_up g m (some r))))) la (.inl (8, [gi (mc + nI 1), ga (some ea), gi (nI (m + 1))])), ea, cap, va_up g m (some r), ?_, hs_self _ _ _, (hs_ne n2).trans (hs_self _ _ _), by omega, fun j hj => va_up_ne _ _ (by omega), va_up_self _ _ _, ?_, n2, Or.inl ⟨rfl, rfl, g, hea⟩⟩
      · unfold f_J2_add f_J2_add_2
        simp (disch := first | assumption | omega | (apply Ne.symm; assumption)) only [pu_B1, pu_B2, pu_Bd, pu_Nn, pu_Ns, pv_I, pv_R, pv_P, pv_LI, pv_LR, pv_SI, pv_SR, pv_O, pv_C, pvF, pvI, pvR, pvP, pvLI, pvLR, pvSI, pvSR, pvN, pvO, pvC, pv_bs, pv_ms, hs_self, hs_ne, hs_K, hs_2, List.getElem?_cons_succ, List.getElem?_cons_zero, List.set_cons_succ, List.set_cons_zero, Option.isSome_some, if_true, if_false, true_and, and_true, ↓reduceIte, hla, e0, e3, hst, nI_add]
      · intro b h1 h2
        rw [hs_ne h1, hs_ne h2, hs_ne h1]
