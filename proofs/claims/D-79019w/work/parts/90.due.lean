set_option maxRecDepth 100000
/-! DUE: when something happens by itself -/
/-- what the reference tells of a node -/
def dA (S : SV) (i : Nat) (s : Nat → Int32) (n : Nat) : Int32 := if s (21 + 1262 * (i) + (622 + 10 * (n) + 7)) < 0 then (if (sKd S n = 1 ∨ sKd S n = 2 ∨ sKd S n = 3) ∧ s (21 + 1262 * (i) + (622 + 10 * (n) + 0)) = nI 1 then (if sKd S n = 1 then (if s (21 + 1262 * (i) + (622 + 10 * (n) + 3)) < 0 then s (21 + 1262 * (i) + (622 + 10 * (n) + 4)) else s (21 + 1262 * (i) + (622 + 10 * (n) + 3))) else if sKd S n = 2 then s (21 + 1262 * (i) + (622 + 10 * (n) + 1)) + sP S n 1 else if 0 ≤ sP S n 2 then s (21 + 1262 * (i) + (622 + 10 * (n) + 1)) + sP S n 2 else -1) else -1) else s (21 + 1262 * (i) + (622 + 10 * (n) + 9))
/-- the minute of a node, or never -/
def dW (S : SV) (i : Nat) (s : Nat → Int32) (T n v : Nat) : Prop := (v = 2147483647 ∧ dA S i s n = -1) ∨ (dA S i s n = nI v ∧ T < v ∧ v ≤ 1000000)
def mIs (S : SV) (i : Nat) (s : Nat → Int32) (T v lo hi : Nat) : Prop := (∀ n, lo ≤ n → n < hi → ∃ u, dW S i s T n u ∧ v ≤ u) ∧ (v = 2147483647 ∨ ∃ n, lo ≤ n ∧ n < hi ∧ dW S i s T n v) ∧ v ≤ 2147483647
section DU
variable {S : SV} {i : Nat} {s : Nat → Int32} {T : Nat}
theorem dW_le {n u : Nat} (h : dW S i s T n u) : u ≤ 2147483647 := by
  rcases h with h | h <;> omega
theorem dW_fn {n u v : Nat} (h : dW S i s T n u) (h' : dW S i s T n v) : u = v := by
  have hm : ∀ x : Nat, x ≤ 1000000 → (nI x : Int32) ≠ -1 := fun x hx z => by
    have h1 : ¬ nI x < 0 := nI_pos (by omega)
    rw [z] at h1
    exact h1 (by decide)
  rcases h with ⟨a1, a2⟩ | ⟨a1, a2, a3⟩
  · rcases h' with ⟨b1, b2⟩ | ⟨b1, b2, b3⟩
    · omega
    · rw [a2] at b1
      exact absurd b1.symm (hm v b3)
  · rcases h' with ⟨b1, b2⟩ | ⟨b1, b2, b3⟩
    · rw [b2] at a1
      exact absurd a1.symm (hm u a3)
    · rw [a1] at b1
      exact (nI_eq (by omega) (by omega)).mp b1
theorem mIs.nil {v lo : Nat} (hv : v = 2147483647) : mIs S i s T v lo lo := ⟨fun n h1 h2 => absurd h2 (by omega), Or.inl hv, by omega⟩
theorem mIs.join {v v' lo mid hi : Nat} (h : mIs S i s T v lo mid) (h' : mIs S i s T v' mid hi) (h1 : lo ≤ mid) (h2 : mid ≤ hi) : mIs S i s T (min v v') lo hi := by
  obtain ⟨a1, a2, a3⟩ := h
  obtain ⟨b1, b2, b3⟩ := h'
  refine ⟨fun n n1 n2 => ?_, ?_, by omega⟩
  · by_cases hn : n < mid
    · obtain ⟨u, u1, u2⟩ := a1 n n1 hn
      exact ⟨u, u1, by omega⟩
    · obtain ⟨u, u1, u2⟩ := b1 n (by omega) n2
      exact ⟨u, u1, by omega⟩
  · by_cases hv : v ≤ v'
    · rw [Nat.min_eq_left hv]
      rcases a2 with z | ⟨n, n1, n2, n3⟩
      · exact Or.inl z
      · exact Or.inr ⟨n, n1, by omega, n3⟩
    · rw [Nat.min_eq_right (by omega)]
      rcases b2 with z | ⟨n, n1, n2, n3⟩
      · exact Or.inl z
      · exact Or.inr ⟨n, by omega, n2, n3⟩
theorem mIs.one {n u : Nat} (h : dW S i s T n u) : mIs S i s T u n (n + 1) := ⟨fun m h1 h2 => by
  obtain rfl : m = n := by omega
  exact ⟨u, h, Nat.le_refl _⟩, Or.inr ⟨n, Nat.le_refl _, by omega, h⟩, dW_le h⟩
theorem mIs.dead {lo hi : Nat} (h : rDead i s lo hi) : mIs S i s T 2147483647 lo hi := ⟨fun n h1 h2 => by
  obtain ⟨a1, a2, a3⟩ := h n h1 h2
  refine ⟨2147483647, Or.inl ⟨rfl, ?_⟩, Nat.le_refl _⟩
  unfold dA
  rw [a1, if_pos (by decide), if_neg (fun z => a2 z.2)], Or.inl rfl, Nat.le_refl _⟩
/-- a node that is none of the leaves -/
theorem mIs.quiet {n : Nat} (hk : sKd S n ≠ 1 ∧ sKd S n ≠ 2 ∧ sKd S n ≠ 3) (h7 : s (21 + 1262 * (i) + (622 + 10 * (n) + 7)) = -1) : mIs S i s T 2147483647 n (n + 1) := mIs.one (Or.inl ⟨rfl, by
  unfold dA
  rw [h7, if_pos (by decide), if_neg (fun z => z.1.elim hk.1 (fun y => y.elim hk.2.1 hk.2.2))]⟩)
theorem mIs.unique {u v lo hi : Nat} (h : mIs S i s T u lo hi) (h' : mIs S i s T v lo hi) : u = v := by
  have : ∀ u v, mIs S i s T u lo hi → mIs S i s T v lo hi → u ≤ v := fun u v h h' => by
    obtain ⟨a1, a2, a3⟩ := h
    obtain ⟨b1, b2, b3⟩ := h'
    rcases b2 with z | ⟨n, n1, n2, n3⟩
    · omega
    · obtain ⟨x, x1, x2⟩ := a1 n n1 n2
      have := dW_fn x1 n3
      omega
  have h1 := this u v h h'
  have h2 := this v u h' h
  omega
end DU
section DV
variable {S : SV} {xa ia i : Nat} {w : gw} {tg : pT} {s : Nat → Int32} {T : Nat} {q : Bool}
theorem min_w {a b : Nat} (ha : a < 2 ^ 31) (hb : b < 2 ^ 31) (w : gw) : f_J6_min (nI a) (nI b) w = some (nI (min a b), w) := by
  unfold f_J6_min
  by_cases h : b < a
  · rw [if_pos ((nI_ltI (by omega) (by omega)).mpr h), Nat.min_eq_right (by omega)]
  · rw [if_neg (fun z => h ((nI_ltI (by omega) (by omega)).mp z)), Nat.min_eq_left (by omega)]
/-- a live run's minute, by the component -/
def dR (S : SV) (i : Nat) (w : gw) (s : Nat → Int32) (T D n a : Nat) : Prop := ∃ v, f_Run_due D a w = some (nI v, w) ∧ mIs S i s T v n (sEn S n)
theorem due_run (hS : sWf S) (hco : pCo w tg) : ∀ l, l ≤ 4 → (∀ D b a, 2 * l + 2 ≤ D → b < sEn S 0 → sKd S b = 0 → sLv S b = l → rB S xa ia i w tg s T q l b a → s (21 + 1262 * (i) + (622 + 10 * (b) + 0)) = nI 1 → dR S i w s T D b a) ∧ (∀ D n a, 2 * l + 1 ≤ D → n < sEn S 0 → sKd S n ≠ 0 → sLv S n = l → rI S xa ia i w tg s T q l n a → rLive i s n → dR S i w s T D n a) := by
  have hleafE : ∀ n, n < sEn S 0 → (sKd S n = 1 ∨ sKd S n = 2 ∨ sKd S n = 3) → sEn S n = n + 1 := fun n hn hk => by
    have hN := hS.2.2.2.2.2 n hn
    have h0 := hN.1.2.2.2.2.1
    have hcc : sCc S n = 0 := by
      rcases hN.2 with z | z | z | z | z | z | z
      · omega
      · exact z.2.1
      · exact z.2.1
      · exact z.2.1
      · omega
      · omega
      · omega
    unfold sCp at h0
    rw [if_neg (by omega)] at h0
    exact h0
  refine live_ind hS hco (dR S i w s T) ?_ ?_ ?_ ?_ ?_
  · intro D b a a' idx g0 g1 g2 g4 g5 g6 hb hk hidx hc h7 hd1 hd2 hR
    obtain ⟨v, e, hm⟩ := hR
    have hN := hS.2.2.2.2.2 b hb
    obtain ⟨x1, x2, x3, x4, x5⟩ := sNode_in hN hidx
    refine ⟨v, ?_, ?_⟩
    · show f_Run_due_s (f_Run_due D) a w = _
      unfold f_Run_due_s f_X18_due
      rw [pu_Cls hc, pu_B1, if_pos rfl, pu_R (k := 3) hc rfl, pu_B1, pu_Ns, pu_B1, pu_B1, e, pu_B2]
    · have h := ((mIs.quiet (T := T) (by omega) h7).join (mIs.dead (S := S) (T := T) hd1) (by omega) (by omega)).join ((hm.join (mIs.dead (S := S) (T := T) hd2) (by omega) x2)) (by omega) (by omega)
      have hv := hm.2.2
      rwa [show min (min 2147483647 2147483647) (min v 2147483647) = v by omega] at h
  · intro D n a hn hk hst hI
    have hE := hleafE n hn hk
    have hN := hS.2.2.2.2.2 n hn
    have hneg : ∀ U, U ≤ 1000000 → ¬ (nI U : Int32) < 0 := fun U hU => nI_pos (by omega)
    have hm1 : ((-1 : Int32) < 0) := by decide
    unfold dR
    rw [hE]
    rcases hI with ⟨g1, g2, g3, g4, tr, un, att, nu, g5, g6, g7, -⟩ | ⟨g1, g2, g3, g4, un, g5, g6⟩ | ⟨g1, g2, g3, g4, un, g5, g6⟩ | g | g | g
    · obtain ⟨-, -, A, R, U, y1, y2, y3, y4, y5, y6, y7, y8, y9⟩ := g7 hst
      refine ⟨U, ?_, mIs.one (Or.inr ⟨?_, y7, y8⟩)⟩
      · show f_Run_due_s (f_Run_due D) a w = _
        unfold f_Run_due_s f_X23_due
        rw [pu_Cls g5, pu_B1, if_neg (by decide), if_neg (by decide), if_neg (by decide), if_neg (by decide), if_pos rfl, pu_I (k := 4) g5 rfl, pu_B1, y6]
      · unfold dA
        rw [g2, if_pos hm1, if_pos ⟨hk, hst⟩, if_pos g1]
        rcases y9 with ⟨-, z, -⟩ | ⟨-, z1, z2, -⟩
        · rw [z, y6, if_neg (hneg U y8)]
        · rw [z1, if_pos hm1, z2, y6]
    · obtain ⟨U, y1, y2, y3, y4⟩ := g6 hst
      refine ⟨U, ?_, mIs.one (Or.inr ⟨?_, y2, y3⟩)⟩
      · show f_Run_due_s (f_Run_due D) a w = _
        unfold f_Run_due_s f_X24_due
        rw [pu_Cls g5, pu_B1, if_neg (by decide), if_neg (by decide), if_neg (by decide), if_neg (by decide), if_neg (by decide), if_pos rfl, pu_I (k := 3) g5 rfl, pu_B1, y1]
      · unfold dA
        rw [g2, if_pos hm1, if_pos ⟨hk, hst⟩, if_neg (by omega), if_pos g1, y4, y1]
    · have hdue : f_Run_due (D + 1) a w = some (un, w) := by
        show f_Run_due_s (f_Run_due D) a w = _
        unfold f_Run_due_s f_X21_due
        rw [pu_Cls g5, pu_B1, if_neg (by decide), if_neg (by decide), if_pos rfl, pu_I (k := 3) g5 rfl, pu_B1]
      rcases (g6 hst).1 with ⟨z1, z2⟩ | ⟨z1, U, z2, z3, z4, z5⟩
      · refine ⟨2147483647, by rw [hdue, z2], mIs.one (Or.inl ⟨rfl, ?_⟩)⟩
        unfold dA
        rw [g2, if_pos hm1, if_pos ⟨hk, hst⟩, if_neg (by omega), if_neg (by omega), if_neg (Int32.not_le.mpr z1)]
      · refine ⟨U, by rw [hdue, z2], mIs.one (Or.inr ⟨?_, z3, z4⟩)⟩
        unfold dA
        rw [g2, if_pos hm1, if_pos ⟨hk, hst⟩, if_neg (by omega), if_neg (by omega), if_pos (Int32.not_lt.mp z1), z5, z2]
    · exact absurd g.1 (by omega)
    · exact absurd g.1 (by omega)
    · exact absurd g.1 (by omega)
  · intro D n a j hn hk hj h7 hd hR
    obtain ⟨v, e, hm⟩ := hR
    have hN := hS.2.2.2.2.2 n hn
    obtain ⟨hcc, -, -⟩ := choice_ch hS hn hk
    obtain ⟨x1, x2, x3, x4, x5⟩ := sNode_in hN (show 0 < sCc S n by omega)
    obtain ⟨y1, y2, y3, y4, y5⟩ := sNode_in hN (show 1 < sCc S n by omega)
    have h0 := hN.1.2.2.2.2.1
    have e2 : sCp S n 2 = sEn S n := if_neg (by omega)
    refine ⟨v, e, ?_⟩
    have hv := hm.2.2
    have e1 : sEn S (sCh S n 0) = sCh S n 1 := x5.trans y4
    have e0 : sCh S n 0 = n + 1 := x4.symm.trans h0
    have e3 : sEn S (sCh S n 1) = sEn S n := y5.trans e2
    have hq := mIs.quiet (S := S) (T := T) (by omega) h7
    rcases (show j = 0 ∨ j = 1 by omega) with rfl | rfl
    · have hd' := mIs.dead (S := S) (T := T) hd
      rw [show 1 - 0 = 1 from rfl, e3] at hd'
      rw [e1] at hm
      rw [← e0] at hq
      have h := hq.join (hm.join hd' (by omega) (by omega)) (by omega) (by omega)
      rwa [show min 2147483647 (min v 2147483647) = v by omega] at h
    · have hd' := mIs.dead (S := S) (T := T) hd
      rw [show 1 - 1 = 0 from rfl, e1] at hd'
      rw [e3] at hm
      rw [← e0] at hq
      have h := hq.join (hd'.join hm (by omega) (by omega)) (by omega) (by omega)
      rwa [show min 2147483647 (min 2147483647 v) = v by omega] at h
  · intro D n a ba oa ptr out g0 g1 g2 g6 hn hk hc hba hoa h7 hkid
    have hN := hS.2.2.2.2.2 n hn
    obtain ⟨hcc1, hcc4, -, -⟩ := par_ch hS hn hk
    have h0 := hN.1.2.2.2.2.1
    have loop : ∀ r k fuel v, k + r = sCc S n → r < fuel → mIs S i s T v n (sCp S n k) → ∃ v', gL2 (bf_X22_due_1 a (f_Run_due D)) fuel (nI v) (nI k) w = some (nI v', w) ∧ mIs S i s T v' n (sEn S n) := by
      intro r
      induction r with
      | zero =>
        intro k fuel v hk' hf hm
        obtain ⟨fuel, rfl⟩ : ∃ g, fuel = g + 1 := ⟨fuel - 1, by omega⟩
        obtain rfl : k = sCc S n := by omega
        have e : sCp S n (sCc S n) = sEn S n := if_neg (by omega)
        rw [e] at hm
        refine ⟨v, ?_, hm⟩
        show bf_X22_due_1 a (f_Run_due D) (gL2 (bf_X22_due_1 a (f_Run_due D)) fuel) _ _ _ = _
        generalize gL2 (bf_X22_due_1 a (f_Run_due D)) fuel = KK
        unfold bf_X22_due_1
        rw [pu_R (k := 3) hc rfl, pu_B1, pu_B1, pu_Len hba, pu_B1, if_pos (nI_le (Nat.le_refl _) (by omega))]
      | succ r ih =>
        intro k fuel v hk' hf hm
        obtain ⟨fuel, rfl⟩ : ∃ g, fuel = g + 1 := ⟨fuel - 1, by omega⟩
        have hkc : k < sCc S n := by omega
        obtain ⟨x1, x2, x3, x4, x5⟩ := sNode_in hN hkc
        have hvm := hm.2.2
        rw [x4] at hm
        show ∃ v', bf_X22_due_1 a (f_Run_due D) (gL2 (bf_X22_due_1 a (f_Run_due D)) fuel) _ _ _ = _ ∧ _
        rcases hkid k hkc with ⟨y1, a', y2, u, y3, y4⟩ | ⟨y1, y2⟩
        · have hj := hm.join y4 (by omega) (by omega)
          rw [x5] at hj
          obtain ⟨v', i1, i2⟩ := ih (k + 1) fuel (min v u) (by omega) (by omega) hj
          refine ⟨v', ?_, i2⟩
          rw [← i1]
          generalize gL2 (bf_X22_due_1 a (f_Run_due D)) fuel = KK
          have hu := y4.2.2
          unfold bf_X22_due_1
          rw [pu_R (k := 3) hc rfl, pu_B1, pu_B1, pu_Len hba, pu_B1, if_neg (nI_ge hkc (by omega)), pu_R (k := 5) hc rfl, pu_B1, pu_Nn, pu_R (k := 4) hc rfl, pu_B1, pu_B1, pu_LdR hoa hkc (by omega), pu_B1, pu_Bd, if_pos y1, pu_B1, pu_B1, pu_LdR hba hkc (by omega), pu_B1, y2, pu_B1, y3, pu_B2, min_w (by omega) (by omega), pu_B2]
          try dsimp only
          rw [pu_Bd, nI_add]
        · have hj := hm.join (mIs.dead (S := S) (T := T) y2) (by omega) (by omega)
          rw [x5, show min v 2147483647 = v by omega] at hj
          obtain ⟨v', i1, i2⟩ := ih (k + 1) fuel v (by omega) (by omega) hj
          refine ⟨v', ?_, i2⟩
          rw [← i1]
          generalize gL2 (bf_X22_due_1 a (f_Run_due D)) fuel = KK
          unfold bf_X22_due_1
          rw [pu_R (k := 3) hc rfl, pu_B1, pu_B1, pu_Len hba, pu_B1, if_neg (nI_ge hkc (by omega)), pu_R (k := 5) hc rfl, pu_B1, pu_Nn, pu_R (k := 4) hc rfl, pu_B1, pu_B1, pu_LdR hoa hkc (by omega), pu_B1, pu_Bd, if_neg y1]
          try dsimp only
          rw [pu_Bd, nI_add]
    obtain ⟨v', i1, i2⟩ := loop (sCc S n) 0 20000 2147483647 (by omega) (by omega) (by rw [h0]; exact mIs.quiet (by omega) h7)
    refine ⟨v', ?_, i2⟩
    show f_Run_due_s (f_Run_due D) a w = _
    unfold f_Run_due_s
    rw [pu_Cls hc, pu_B1, if_neg (by decide), if_neg (by decide), if_neg (by decide), if_pos rfl, f_X22_due_eq, pu_R (k := 5) hc rfl, pu_B1, pu_Bd, pu_Nn]
    exact i1
  · intro D n a ba oa ptr out ua U t g0 g1 g2 g6 h0 h1 h2 h3 h5 hn hk hc hba hoa hua hTU hU h7 ht h9 hd hno
    have hN := hS.2.2.2.2.2 n hn
    obtain ⟨hcc1, hcc4, -, -⟩ := par_ch hS hn hk
    refine ⟨U, ?_, ?_⟩
    · show f_Run_due_s (f_Run_due D) a w = _
      unfold f_Run_due_s
      rw [pu_Cls hc, pu_B1, if_neg (by decide), if_neg (by decide), if_neg (by decide), if_pos rfl, f_X22_due_eq, pu_R (k := 5) hc rfl, pu_B1, pu_Bd, pu_Ns, pu_B1, pu_B1, pu_I (k := 4) hua rfl, pu_B1]
      show bf_X22_due_1 a (f_Run_due D) (gL2 (bf_X22_due_1 a (f_Run_due D)) 19999) _ _ _ = _
      generalize gL2 (bf_X22_due_1 a (f_Run_due D)) 19999 = KK
      unfold bf_X22_due_1
      rw [pu_R (k := 3) hc rfl, pu_B1, pu_B1, pu_Len hba, pu_B1, if_neg (nI_ge (by omega) (by omega)), pu_R (k := 5) hc rfl, pu_B1, pu_Ns]
    · have hl := hN.1.1
      have h := (mIs.one (S := S) (i := i) (s := s) (T := T) (n := n) (u := U) (Or.inr ⟨by
        unfold dA
        rw [h7, if_neg (nI_pos (by omega)), h9], hTU, hU⟩)).join (mIs.dead (S := S) (T := T) hd) (by omega) (by omega)
      rwa [show min U 2147483647 = U by omega] at h
end DV
