set_option maxRecDepth 100000
/-! WHICH TASK IS COMPENSATED NEXT -/
section SC
variable {S : SV} {σ : TS} {xa mo ia i ver T : Nat} {w : gw} {tg : pT} {s : Nat → Int32} {B : Nat} {bo un : Option Nat}
/-- what the answer is: 3 or 4 at the child around -/
def uFor (S : SV) (i : Nat) (s : Nat → Int32) (n t : Nat) : Prop := ∃ j, j < sCc S n ∧ (s (21 + 1262 * (i) + (622 + 10 * (sCh S n j) + 0)) = nI 3 ∨ s (21 + 1262 * (i) + (622 + 10 * (sCh S n j) + 0)) = nI 4) ∧ sCh S n j ≤ t ∧ t < sEn S (sCh S n j)
theorem isFor_loop {n : Nat} (h : pW S σ xa mo ia i ver T w tg s B bo un) (hn : n < sEn S 0) : ∀ (m fuel : Nat), m < sEn S 0 → m + 3 ≤ fuel →
    ∃ x, gL3 bt_X2_isFor_1 fuel (nI i) (nI n) (nI m) (tS σ s) = some (x, tS σ s) ∧ (x = nI 1 ∧ uFor S i s n m ∨ x = nI 0 ∧ ¬ uFor S i s n m) := by
  have hS : sWf S := h.1.2.2.1
  have hNs : sEn S 0 ≤ 64 := hS.1
  have hi := h.1.2.1
  have hN := hS.2.2.2.2.2 n hn
  intro m
  induction m using Nat.strongRecOn with
  | _ m ih =>
    intro fuel hm hf
    obtain ⟨fu, rfl⟩ : ∃ fu, fuel = fu + 1 := ⟨fuel - 1, by omega⟩
    have e0 : ¬ nI m < 0 := nI_pos (by omega)
    have e0' : (0 : Int32) ≤ nI m := nI_pos' (by omega)
    have e8 : ∀ w : TS, t_X2_at (nI i) (nI m) (nI 0) w = _ := fun w => pt_at w
    have k8 := h.np (n := m) (k := 8) hm (by omega)
    show ∃ x, bt_X2_isFor_1 (gL3 bt_X2_isFor_1 fu) (nI i) (nI n) (nI m) (tS σ s) = some (x, tS σ s) ∧ _
    have hd := sWf_desc hS (sEn S 0) 0 m (by omega) (by omega) (by omega) hm
    have hout : ¬ (n < m ∧ m < sEn S n) → ¬ uFor S i s n m := by
      rintro hno ⟨j, hj, -, h3, h4⟩
      have hi' := sNode_in hN hj
      exact hno ⟨by omega, by omega⟩
    by_cases hpar : sP S m 8 = nI n
    · -- the child around
      have hch : ∃ j, j < sCc S n ∧ sCh S n j = m := by
        rcases hd.2 with he | ⟨p, j, q1, q2, q3, q4, q5⟩
        · exfalso
          rw [he, hS.2.2.2.2.1] at hpar
          exact absurd hpar (by
            intro z
            have := nI_pos (n := n) (by omega)
            rw [← z] at this
            exact this (by decide))
        · have h8 := ((hS.2.2.2.2.2 p q3).1.2.2.2.2.2 j q4).2.2.2
          rw [q5, hpar] at h8
          have := (nI_eq (by omega) (by omega)).mp h8
          subst this
          exact ⟨j, q4, q5⟩
      obtain ⟨j, hj, hjm⟩ := hch
      have hi' := sNode_in hN hj
      have huf : uFor S i s n m ↔ (s (21 + 1262 * (i) + (622 + 10 * (m) + 0)) = nI 3 ∨ s (21 + 1262 * (i) + (622 + 10 * (m) + 0)) = nI 4) := by
        constructor
        · rintro ⟨j', hj', h1, h2, h3⟩
          have hi2 := sNode_in hN hj'
          have : j' = j := by
            by_cases hlt : j' < j
            · have := sNode_lt hN hlt hj
              omega
            · by_cases hlt2 : j < j'
              · have := sNode_lt hN hlt2 hj'
                omega
              · omega
          subst this
          rw [hjm] at h1
          exact h1
        · intro h1
          exact ⟨j, hj, by rw [hjm]; exact h1, by omega, by omega⟩
      generalize gL3 bt_X2_isFor_1 fu = KK
      unfold bt_X2_isFor_1
      by_cases h3 : s (21 + 1262 * (i) + (622 + 10 * (m) + 0)) = nI 3
      · refine ⟨nI 1, ?_, Or.inl ⟨rfl, huf.mpr (Or.inl h3)⟩⟩
        simp (disch := omega) only [pu_B1, pu_B2, pu_Bd, nI_add, pu_mul, pu_ld5, pu_st5, pu_ld1, pu_ld3, e0, e0', e8, k8, hpar, if_true, if_false, h3]
      · by_cases h4 : s (21 + 1262 * (i) + (622 + 10 * (m) + 0)) = nI 4
        · refine ⟨nI 1, ?_, Or.inl ⟨rfl, huf.mpr (Or.inr h4)⟩⟩
          have x43 : ¬ nI 4 = nI 3 := by decide
          simp (disch := omega) only [pu_B1, pu_B2, pu_Bd, nI_add, pu_mul, pu_ld5, pu_st5, pu_ld1, pu_ld3, e0, e0', e8, k8, hpar, if_true, if_false, h4, x43]
        · refine ⟨nI 0, ?_, Or.inr ⟨rfl, fun z => ?_⟩⟩
          · simp (disch := omega) only [pu_B1, pu_B2, pu_Bd, nI_add, pu_mul, pu_ld5, pu_st5, pu_ld1, pu_ld3, e0, e0', e8, k8, hpar, if_true, if_false, h3, h4]
          · rcases huf.mp z with z | z
            · exact h3 z
            · exact h4 z
    · rcases hd.2 with he | ⟨p, j, q1, q2, q3, q4, q5⟩
      · -- the root
        subst he
        refine ⟨nI 0, ?_, Or.inr ⟨rfl, hout (by omega)⟩⟩
        obtain ⟨fu', rfl⟩ : ∃ fu', fu = fu' + 1 := ⟨fu - 1, by omega⟩
        have hlast : gL3 bt_X2_isFor_1 (fu' + 1) (nI i) (nI n) (-1) (tS σ s) = some (nI 0, tS σ s) := by
          show bt_X2_isFor_1 (gL3 bt_X2_isFor_1 fu') (nI i) (nI n) (-1) (tS σ s) = _
          generalize gL3 bt_X2_isFor_1 fu' = KK
          unfold bt_X2_isFor_1
          have x1 : (-1 : Int32) < 0 := by decide
          have x2 : ¬ (0 : Int32) ≤ -1 := by decide
          have x3 : ¬ nI 2 = nI 3 := by decide
          have x4 : ¬ nI 2 = nI 4 := by decide
          simp only [pu_B1, pu_B2, pu_Bd, nI_add, pu_mul, pu_ld5, pu_st5, pu_ld1, pu_ld3, x1, x2, x3, x4, if_true, if_false]
        have h8 := hS.2.2.2.2.1
        have hne : ¬ (-1 : Int32) = nI n := by
          intro z
          have := nI_pos (n := n) (by omega)
          rw [← z] at this
          exact this (by decide)
        generalize gL3 bt_X2_isFor_1 (fu' + 1) = KK at hlast ⊢
        unfold bt_X2_isFor_1
        simp (disch := omega) only [pu_B1, pu_B2, pu_Bd, nI_add, pu_mul, pu_ld5, pu_st5, pu_ld1, pu_ld3, e0, k8, h8, hne, if_false]
        exact hlast
      · have hp8 := ((hS.2.2.2.2.2 p q3).1.2.2.2.2.2 j q4).2.2.2
        rw [q5] at hp8
        have hpn : p ≠ n := by
          rintro rfl
          exact hpar hp8
        have hpN := sNode_in (hS.2.2.2.2.2 p q3) q4
        obtain ⟨x, hx1, hx2⟩ := ih p q2 fu q3 (by omega)
        have huf : uFor S i s n m ↔ uFor S i s n p := by
          constructor
          · rintro ⟨j', hj', h1, h2, h3⟩
            have hi2 := sNode_in hN hj'
            have hcN := sWf_lt hS hn hj'
            have hdd := sWf_desc hS _ (sCh S n j') m (Nat.le_refl _) hcN h2 h3
            rcases hdd.2 with he | ⟨p', j2, r1, r2, r3, r4, r5⟩
            · exfalso
              have h8 := (hN.1.2.2.2.2.2 j' hj').2.2.2
              rw [← he, hp8] at h8
              exact hpn ((nI_eq (by omega) (by omega)).mp h8)
            · have h8 := ((hS.2.2.2.2.2 p' r3).1.2.2.2.2.2 j2 r4).2.2.2
              rw [r5, hp8] at h8
              have := (nI_eq (by omega) (by omega)).mp h8
              subst this
              exact ⟨j', hj', h1, r1, by omega⟩
          · rintro ⟨j', hj', h1, h2, h3⟩
            have hcN := sWf_lt hS hn hj'
            have hdd := sWf_desc hS _ (sCh S n j') p (Nat.le_refl _) hcN h2 h3
            refine ⟨j', hj', h1, by omega, ?_⟩
            omega
        refine ⟨x, ?_, ?_⟩
        · have hne : ¬ nI p = nI n := fun z => hpn ((nI_eq (by omega) (by omega)).mp z)
          generalize gL3 bt_X2_isFor_1 fu = KK at hx1 ⊢
          unfold bt_X2_isFor_1
          simp (disch := omega) only [pu_B1, pu_B2, pu_Bd, nI_add, pu_mul, pu_ld5, pu_st5, pu_ld1, pu_ld3, e0, k8, hp8, hne, if_false]
          exact hx1
        · rw [huf]
          exact hx2
theorem t_isFor {n t : Nat} (h : pW S σ xa mo ia i ver T w tg s B bo un) (hn : n < sEn S 0) (ht : t < sEn S 0) : ∃ x, t_X2_isFor (nI i) (nI t) (nI n) (tS σ s) = some (x, tS σ s) ∧ (x = nI 1 ∧ rFor S i s n t ∨ x = nI 0 ∧ ¬ rFor S i s n t) := by
  have hNs : sEn S 0 ≤ 64 := h.1.2.2.1.1
  rw [t_X2_isFor_eq]
  by_cases h0 : n = 0
  · subst h0
    exact ⟨nI 1, if_pos (by decide), Or.inl ⟨rfl, ht, Or.inl rfl⟩⟩
  · rw [if_neg (nI_ne0 (by omega) (by omega))]
    obtain ⟨x, hx1, hx2⟩ := isFor_loop h hn t 20000 ht (by omega)
    refine ⟨x, hx1, ?_⟩
    have : rFor S i s n t ↔ uFor S i s n t := by
      unfold rFor uFor
      constructor
      · rintro ⟨-, z | z⟩
        · exact absurd z h0
        · exact z
      · exact fun z => ⟨ht, Or.inr z⟩
    rw [this]
    exact hx2
/-- the numbers of the tasks that were done -/
theorem pW.ord {t : Nat} (h : pW S σ xa mo ia i ver T w tg s B bo un) (ht : t < sEn S 0) (hk : sKd S t = 1) (h2 : s (21 + 1262 * (i) + (622 + 10 * (t) + 0)) = nI 2) : ∃ k, k < 24 ∧ s (21 + 1262 * (i) + (622 + 10 * (t) + 5)) = nI (k + 1) := by
  obtain ⟨-, -, -, -, -, ⟨va, pe, hi', dl, fv, fp, fh, i1, i2, i3, i4, i5, i6, i7, i8, i9, i10, i11, m, ea, mc, g, d1, d2, d3, d4, d5, d6, d7, d8, d9⟩, -⟩ := h
  obtain ⟨k, k1, k2⟩ := d8 t ht hk h2
  exact ⟨k, by omega, k2⟩
/-- the last of those that are open for a node, or none -/
def uNext (S : SV) (i : Nat) (s : Nat → Int32) (n m : Nat) (x y : Int32) : Prop :=
  (x = -1 ∧ y = nI 0 ∧ ∀ t, t < m → rOpen S i s t → ¬ rFor S i s n t) ∨
  ∃ t o, x = nI t ∧ y = nI o ∧ t < m ∧ rOpen S i s t ∧ rFor S i s n t ∧ s (21 + 1262 * (i) + (622 + 10 * (t) + 5)) = nI o ∧ o < 100 ∧ ∀ t' o', t' < m → rOpen S i s t' → rFor S i s n t' → s (21 + 1262 * (i) + (622 + 10 * (t') + 5)) = nI o' → o' < 100 → o' ≤ o
theorem next_loop {n : Nat} (h : pW S σ xa mo ia i ver T w tg s B bo un) (hn : n < sEn S 0) : ∀ (d m : Nat) (x y : Int32) (fuel : Nat), m + d = sEn S 0 → d + 1 ≤ fuel → uNext S i s n m x y →
    ∃ x' y', gL5 bt_X2_nextToCompensate_1 fuel (nI i) (nI n) x y (nI m) (tS σ s) = some (x', tS σ s) ∧ uNext S i s n (sEn S 0) x' y' := by
  have hS : sWf S := h.1.2.2.1
  have hNs : sEn S 0 ≤ 64 := hS.1
  have hi := h.1.2.1
  have hver := h.1.2.2.2.1
  have hvo := pt_versionOf (σ := σ) hi h.2.2.2.1
  have hsz := h.1.2.2.2.2.2
  intro d
  induction d with
  | zero =>
    intro m x y fuel hm hf hu
    obtain ⟨fu, rfl⟩ : ∃ fu, fuel = fu + 1 := ⟨fuel - 1, by omega⟩
    obtain rfl : m = sEn S 0 := by omega
    refine ⟨x, y, ?_, hu⟩
    show bt_X2_nextToCompensate_1 (gL5 bt_X2_nextToCompensate_1 fu) (nI i) (nI n) x y (nI (sEn S 0)) (tS σ s) = _
    generalize gL5 bt_X2_nextToCompensate_1 fu = KK
    have e1 : nI (sEn S 0) ≤ nI (sEn S 0) := Int32.le_refl _
    unfold bt_X2_nextToCompensate_1
    rw [hvo, pu_B2, pu_mul, pu_ld3 (by omega), hsz, pu_B1, if_pos e1]
  | succ d ih =>
    intro m x y fuel hm hf hu
    obtain ⟨fu, rfl⟩ : ∃ fu, fuel = fu + 1 := ⟨fuel - 1, by omega⟩
    have hmN : m < sEn S 0 := by omega
    have e1 : ¬ nI (sEn S 0) ≤ nI m := nI_ge (by omega) (by omega)
    have k0 := h.np (n := m) (k := 0) hmN (by omega)
    rw [(hS.2.2.2.2.2 m hmN).1.2.2.1] at k0
    have k4 := h.np (n := m) (k := 4) hmN (by omega)
    have a0 : ∀ w : TS, t_X2_at (nI i) (nI m) (nI 0) w = _ := fun w => pt_at w
    have a5 : ∀ w : TS, t_X2_at (nI i) (nI m) (nI 5) w = _ := fun w => pt_at w
    have a6 : ∀ w : TS, t_X2_at (nI i) (nI m) (nI 6) w = _ := fun w => pt_at w
    have z0 : nI 0 = 0 := by decide
    have z1 : ¬ nI 1 = 0 := by decide
    have hK : (sKd S m ≤ 6) := by
      rcases (hS.2.2.2.2.2 m hmN).2 with z | z | z | z | z | z | z <;> omega
    show ∃ x' y', bt_X2_nextToCompensate_1 (gL5 bt_X2_nextToCompensate_1 fu) (nI i) (nI n) x y (nI m) (tS σ s) = some (x', tS σ s) ∧ _
    -- one that is not open, or not for n, or not later: it is passed by
    have hpass : (∀ o, rOpen S i s m → rFor S i s n m → s (21 + 1262 * (i) + (622 + 10 * (m) + 5)) = nI o → o < 100 → ∃ o', y = nI o' ∧ o ≤ o' ∧ o' < 100 ∧ 1 ≤ o) → uNext S i s n (m + 1) x y := by
      intro hp
      rcases hu with ⟨u1, u2, u3⟩ | ⟨t, o, u1, u2, u3, u4, u5, u6, u7, u8⟩
      · refine Or.inl ⟨u1, u2, fun t ht hto htf => ?_⟩
        by_cases htm : t = m
        · subst htm
          obtain ⟨k, k1, k2⟩ := h.ord hmN hto.1 hto.2.1
          obtain ⟨o', q1, q2, q3, q4⟩ := hp (k + 1) hto htf k2 (by omega)
          rw [u2] at q1
          have := (nI_eq (by omega) (by omega)).mp q1
          omega
        · exact u3 t (by omega) hto htf
      · refine Or.inr ⟨t, o, u1, u2, by omega, u4, u5, u6, u7, fun t' o' ht' hto htf h5 ho' => ?_⟩
        by_cases htm : t' = m
        · subst htm
          obtain ⟨o2, q1, q2, q3, q4⟩ := hp o' hto htf h5 ho'
          rw [u2] at q1
          have := (nI_eq (by omega) (by omega)).mp q1
          omega
        · exact u8 t' o' (by omega) hto htf h5 ho'
    by_cases hop : rOpen S i s m
    · obtain ⟨o1, o2, o3, o4⟩ := hop
      obtain ⟨k, hk1, hk2⟩ := h.ord hmN o1 o2
      have e2 : nI (sKd S m) = nI 1 := by rw [o1]
      by_cases hlt : nI (k + 1) ≤ y
      · obtain ⟨x', y', v1, v2⟩ := ih (m + 1) x y fu (by omega) (by omega) (hpass (fun o _ _ h5 ho => by
          rw [hk2] at h5
          have hko := (nI_eq (by omega) (by omega)).mp h5
          rcases hu with ⟨u1, u2, u3⟩ | ⟨t, o', u1, u2, u3, u4, u5, u6, u7, u8⟩
          · exfalso
            rw [u2] at hlt
            exact nI_ge (show 0 < k + 1 by omega) (by omega) hlt
          · rw [u2] at hlt
            have := (nI_leI (by omega) (by omega)).mp hlt
            exact ⟨o', u2, by omega, u7, by omega⟩))
        refine ⟨x', y', ?_, v2⟩
        generalize gL5 bt_X2_nextToCompensate_1 fu = KK at v1 ⊢
        unfold bt_X2_nextToCompensate_1
        rw [hvo, pu_B2, pu_mul, pu_ld3 (by omega), hsz, pu_B1, if_neg e1, k0, pu_B2, pu_Bd]
        try dsimp only
        rw [pu_Bd]
        try dsimp only
        rw [if_pos e2, a0, pu_B2, pu_ld5 (by omega), pu_B1, if_pos o2, k4, pu_B2, if_neg o4, a6, pu_B2, pu_ld5 (by omega), pu_B1, if_pos (o3.trans z0)]
        try dsimp only
        rw [pu_Bd]
        try dsimp only
        rw [if_neg z1, a5, pu_B2, pu_ld5 (by omega), pu_B1, hk2]
        rw [if_pos hlt]
        try dsimp only
        rw [pu_Bd, nI_add]
        exact v1
      · obtain ⟨xf, f1, f2⟩ := t_isFor h hn hmN
        rcases f2 with ⟨rfl, f2⟩ | ⟨rfl, f2⟩
        · obtain ⟨x', y', v1, v2⟩ := ih (m + 1) (nI m) (nI (k + 1)) fu (by omega) (by omega) (Or.inr ⟨m, k + 1, rfl, rfl, by omega, ⟨o1, o2, o3, o4⟩, f2, hk2, by omega, fun t' o' ht' hto htf h5 ho' => by
            by_cases htm : t' = m
            · subst htm
              rw [hk2] at h5
              have := (nI_eq (by omega) (by omega)).mp h5
              omega
            · rcases hu with ⟨u1, u2, u3⟩ | ⟨t, o, u1, u2, u3, u4, u5, u6, u7, u8⟩
              · exact absurd htf (u3 t' (by omega) hto)
              · have h6 := u8 t' o' (by omega) hto htf h5 ho'
                rw [u2] at hlt
                by_cases hc : k + 1 ≤ o
                · exact absurd (nI_le hc (by omega)) hlt
                · omega⟩)
          refine ⟨x', y', ?_, v2⟩
          generalize gL5 bt_X2_nextToCompensate_1 fu = KK at v1 ⊢
          unfold bt_X2_nextToCompensate_1
          rw [hvo, pu_B2, pu_mul, pu_ld3 (by omega), hsz, pu_B1, if_neg e1, k0, pu_B2, pu_Bd]
          try dsimp only
          rw [pu_Bd]
          try dsimp only
          rw [if_pos e2, a0, pu_B2, pu_ld5 (by omega), pu_B1, if_pos o2, k4, pu_B2, if_neg o4, a6, pu_B2, pu_ld5 (by omega), pu_B1, if_pos (o3.trans z0)]
          try dsimp only
          rw [pu_Bd]
          try dsimp only
          rw [if_neg z1, a5, pu_B2, pu_ld5 (by omega), pu_B1, hk2]
          rw [if_neg hlt, f1, pu_B2, if_neg z1, a5, pu_B2, pu_ld5 (by omega), pu_B1, hk2]
          try dsimp only
          rw [pu_Bd, nI_add]
          exact v1
        · obtain ⟨x', y', v1, v2⟩ := ih (m + 1) x y fu (by omega) (by omega) (hpass (fun o _ hf _ _ => absurd hf f2))
          refine ⟨x', y', ?_, v2⟩
          generalize gL5 bt_X2_nextToCompensate_1 fu = KK at v1 ⊢
          unfold bt_X2_nextToCompensate_1
          rw [hvo, pu_B2, pu_mul, pu_ld3 (by omega), hsz, pu_B1, if_neg e1, k0, pu_B2, pu_Bd]
          try dsimp only
          rw [pu_Bd]
          try dsimp only
          rw [if_pos e2, a0, pu_B2, pu_ld5 (by omega), pu_B1, if_pos o2, k4, pu_B2, if_neg o4, a6, pu_B2, pu_ld5 (by omega), pu_B1, if_pos (o3.trans z0)]
          try dsimp only
          rw [pu_Bd]
          try dsimp only
          rw [if_neg z1, a5, pu_B2, pu_ld5 (by omega), pu_B1, hk2]
          rw [if_neg hlt, f1, pu_B2, if_pos z0]
          try dsimp only
          rw [pu_Bd, nI_add]
          exact v1
    · obtain ⟨x', y', v1, v2⟩ := ih (m + 1) x y fu (by omega) (by omega) (hpass (fun o ho _ _ _ => absurd ho hop))
      refine ⟨x', y', ?_, v2⟩
      generalize gL5 bt_X2_nextToCompensate_1 fu = KK at v1 ⊢
      unfold bt_X2_nextToCompensate_1
      rw [hvo, pu_B2, pu_mul, pu_ld3 (by omega), hsz, pu_B1, if_neg e1, k0, pu_B2, pu_Bd]
      try dsimp only
      rw [pu_Bd]
      try dsimp only
      by_cases o1 : sKd S m = 1
      · have e2 : nI (sKd S m) = nI 1 := by rw [o1]
        rw [if_pos e2, a0, pu_B2, pu_ld5 (by omega), pu_B1]
        by_cases o2 : s (21 + 1262 * (i) + (622 + 10 * (m) + 0)) = nI 2
        · rw [if_pos o2, k4, pu_B2]
          by_cases o4 : sP S m 4 < 0
          · rw [if_pos o4]
            try dsimp only
            rw [pu_Bd]
            try dsimp only
            rw [if_pos z0]
            try dsimp only
            rw [pu_Bd, nI_add]
            exact v1
          · have o3 : ¬ s (21 + 1262 * (i) + (622 + 10 * (m) + 6)) = 0 := fun z => hop ⟨o1, o2, z.trans z0.symm, o4⟩
            rw [if_neg o4, a6, pu_B2, pu_ld5 (by omega), pu_B1, if_neg o3]
            try dsimp only
            rw [pu_Bd]
            try dsimp only
            rw [if_pos z0]
            try dsimp only
            rw [pu_Bd, nI_add]
            exact v1
        · rw [if_neg o2]
          try dsimp only
          rw [pu_Bd]
          try dsimp only
          rw [if_pos z0]
          try dsimp only
          rw [pu_Bd, nI_add]
          exact v1
      · have e2 : ¬ nI (sKd S m) = nI 1 := fun z => o1 ((nI_eq (by omega) (by omega)).mp z)
        rw [if_neg e2]
        try dsimp only
        rw [pu_Bd]
        try dsimp only
        rw [if_pos z0]
        try dsimp only
        rw [pu_Bd, nI_add]
        exact v1
theorem t_next {n : Nat} (h : pW S σ xa mo ia i ver T w tg s B bo un) (hn : n < sEn S 0) : ∃ x y, t_X2_nextToCompensate (nI i) (nI n) (tS σ s) = some (x, tS σ s) ∧ uNext S i s n (sEn S 0) x y := by
  have hNs : sEn S 0 ≤ 64 := h.1.2.2.1.1
  rw [t_X2_nextToCompensate_eq]
  exact next_loop h hn (sEn S 0) 0 (-1) (nI 0) 20000 (by omega) (by omega) (Or.inl ⟨rfl, rfl, fun t ht => absurd ht (by omega)⟩)
end SC
