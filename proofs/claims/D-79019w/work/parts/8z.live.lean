set_option maxRecDepth 100000
/-! LIVE RUNS: one induction for due and lists -/
theorem rUn.dead {i : Nat} {s : Nat → Int32} {lo hi : Nat} (h : rUn i s lo hi) : rDead i s lo hi := fun n h1 h2 => by
  obtain ⟨a, b, -⟩ := h n h1 h2
  refine ⟨b, ?_, ?_⟩
  · rw [a]; decide
  · rw [a]; decide
theorem rDead.join {i : Nat} {s : Nat → Int32} {lo mid hi : Nat} (h : rDead i s lo mid) (h' : rDead i s mid hi) : rDead i s lo hi := fun n h1 h2 => by
  by_cases hm : n < mid
  · exact h n h1 hm
  · exact h' n (by omega) h2
section LV
variable {S : SV} {xa ia i : Nat} {w : gw} {tg : pT} {s : Nat → Int32} {T : Nat} {q : Bool}
theorem live_ind (hS : sWf S) (hco : pCo w tg) (R : Nat → Nat → Nat → Prop)
    (hB : ∀ D b a a' idx g0 g1 g2 g4 g5 g6, b < sEn S 0 → sKd S b = 0 → idx < sCc S b → w.1 a = some (.inl (18, [g0, g1, g2, ga (some a'), g4, g5, g6])) → s (21 + 1262 * (i) + (622 + 10 * (b) + 7)) = -1 → rDead i s (b + 1) (sCh S b idx) → rDead i s (sEn S (sCh S b idx)) (sEn S b) → R D (sCh S b idx) a' → R (D + 1) b a)
    (hL : ∀ D n a, n < sEn S 0 → (sKd S n = 1 ∨ sKd S n = 2 ∨ sKd S n = 3) → s (21 + 1262 * (i) + (622 + 10 * (n) + 0)) = nI 1 → rItem S xa ia i w tg s T q (fun _ _ => False) n a → R (D + 1) n a)
    (hC : ∀ D n a j, n < sEn S 0 → sKd S n = 5 → j < 2 → s (21 + 1262 * (i) + (622 + 10 * (n) + 7)) = -1 → rDead i s (sCh S n (1 - j)) (sEn S (sCh S n (1 - j))) → R D (sCh S n j) a → R D n a)
    (hP : ∀ D n a ba oa ptr out g0 g1 g2 g6, n < sEn S 0 → sKd S n = 6 → w.1 a = some (.inl (22, [g0, g1, g2, ga (some ba), ga (some oa), ga none, g6])) → w.1 ba = some (.inr (5, sCc S n, .inr ptr)) → w.1 oa = some (.inr (6, sCc S n, .inr out)) → s (21 + 1262 * (i) + (622 + 10 * (n) + 7)) = -1 → (∀ k, k < sCc S n → (out k = some (w.2.2.2 2) ∧ ∃ a', ptr k = some a' ∧ R D (sCh S n k) a') ∨ (out k ≠ some (w.2.2.2 2) ∧ rDead i s (sCh S n k) (sEn S (sCh S n k)))) → R (D + 1) n a)
    (hU : ∀ D n a ba oa ptr out ua U t g0 g1 g2 g6 h0 h1 h2 h3 h5, n < sEn S 0 → sKd S n = 6 → w.1 a = some (.inl (22, [g0, g1, g2, ga (some ba), ga (some oa), ga (some ua), g6])) → w.1 ba = some (.inr (5, sCc S n, .inr ptr)) → w.1 oa = some (.inr (6, sCc S n, .inr out)) → w.1 ua = some (.inl (26, [h0, h1, h2, h3, gi (nI U), h5])) → T < U → U ≤ 1000000 → s (21 + 1262 * (i) + (622 + 10 * (n) + 7)) = nI t → t < 64 → s (21 + 1262 * (i) + (622 + 10 * (n) + 9)) = nI U → rDead i s (n + 1) (sEn S n) → (∀ k, k < sCc S n → out k ≠ some (w.2.2.2 2)) → R (D + 1) n a) :
    ∀ l, l ≤ 4 → (∀ D b a, 2 * l + 2 ≤ D → b < sEn S 0 → sKd S b = 0 → sLv S b = l → rB S xa ia i w tg s T q l b a → s (21 + 1262 * (i) + (622 + 10 * (b) + 0)) = nI 1 → R D b a) ∧ (∀ D n a, 2 * l + 1 ≤ D → n < sEn S 0 → sKd S n ≠ 0 → sLv S n = l → rI S xa ia i w tg s T q l n a → rLive i s n → R D n a) := by
  have hNs : sEn S 0 ≤ 64 := hS.1
  obtain ⟨-, -, hc23, hc24, -⟩ := hco
  have hbody : ∀ l, (∀ D n a, 2 * l + 1 ≤ D → n < sEn S 0 → sKd S n ≠ 0 → sLv S n = l → rI S xa ia i w tg s T q l n a → rLive i s n → R D n a) → ∀ D b a, 2 * l + 2 ≤ D → b < sEn S 0 → sKd S b = 0 → sLv S b = l → rB S xa ia i w tg s T q l b a → s (21 + 1262 * (i) + (622 + 10 * (b) + 0)) = nI 1 → R D b a := by
    intro l hI D b a hD hb hk hlv hB' hst
    obtain ⟨D, rfl⟩ : ∃ d, D = d + 1 := ⟨D - 1, by omega⟩
    have hN := hS.2.2.2.2.2 b hb
    rw [rB_body] at hB'
    obtain ⟨h1, idx, cur, dd, da, L, f, h2, h3, h4, h5, h6, h7, h8, h9, h10, h11, h12, h13, h14, h15⟩ := hB'
    obtain ⟨y1, y2, y3⟩ := h14 hst
    cases cur with
    | none => exact absurd rfl y1
    | some a' =>
      obtain ⟨z1, z2, z3⟩ := h12
      have hcp : sCp S b idx = sCh S b idx := (sNode_in hN z1).2.2.2.1
      rw [hcp] at h11
      have hkids : sKd S (sCh S b idx) ≠ 0 ∧ sLv S (sCh S b idx) = sLv S b := by
        rcases hN.2 with h | h | h | h | h | h | h
        · exact h.2.2 idx z1
        all_goals omega
      exact hB D b a a' idx _ _ _ _ _ _ hb hk z1 h2 h10 h11 z3.dead (hI D _ a' (by omega) (sWf_lt hS hb z1) hkids.1 (hkids.2.trans hlv) z2 y2)
  have hkinds : ∀ n, n < sEn S 0 → sKd S n ≠ 0 → sKd S n ≤ 4 ∨ sKd S n = 5 ∨ sKd S n = 6 := by
    intro n hn hk
    rcases (hS.2.2.2.2.2 n hn).2 with z | z | z | z | z | z | z <;> omega
  have hleaf : ∀ l D n a, 1 ≤ D → n < sEn S 0 → sKd S n ≤ 4 → sKd S n ≠ 0 → rI S xa ia i w tg s T q l n a → rLive i s n → R D n a := by
    intro l D n a hD hn hk4 hk0 hI hlive
    obtain ⟨D, rfl⟩ : ∃ d, D = d + 1 := ⟨D - 1, by omega⟩
    have hI' := rI_leaf' hk4 hI
    have hst : s (21 + 1262 * (i) + (622 + 10 * (n) + 0)) = nI 1 ∧ (sKd S n = 1 ∨ sKd S n = 2 ∨ sKd S n = 3) := by
      rcases hI' with g | g | g | g | g | g
      · exact ⟨hlive.resolve_right g.2.2.1, Or.inl g.1⟩
      · exact ⟨hlive.resolve_right g.2.2.1, Or.inr (Or.inl g.1)⟩
      · exact ⟨hlive.resolve_right g.2.2.1, Or.inr (Or.inr g.1)⟩
      · exact absurd hlive g.2.2.1
      · exact absurd g.1 (by omega)
      · exact absurd g.1 (by omega)
    exact hL D n a hn hst.2 hst.1 hI'
  intro l
  induction l with
  | zero =>
    intro _
    have hI : ∀ D n a, 2 * 0 + 1 ≤ D → n < sEn S 0 → sKd S n ≠ 0 → sLv S n = 0 → rI S xa ia i w tg s T q 0 n a → rLive i s n → R D n a := by
      intro D n a hD hn hk hlv hI hlive
      rcases hkinds n hn hk with z | z | z
      · exact hleaf 0 D n a (by omega) hn z hk hI hlive
      · have := ((choice_ch hS hn z).2.2 0 (by omega)).2
        omega
      · obtain ⟨y1, -, -, y2⟩ := par_ch hS hn z
        have := (y2 0 (by omega)).2
        omega
    exact ⟨hbody 0 hI, hI⟩
  | succ l ih =>
    intro hl4
    obtain ⟨ihB, ihI⟩ := ih (by omega)
    have hI : ∀ D n a, 2 * (l + 1) + 1 ≤ D → n < sEn S 0 → sKd S n ≠ 0 → sLv S n = l + 1 → rI S xa ia i w tg s T q (l + 1) n a → rLive i s n → R D n a := by
      intro D n a hD hn hk hlv hI hlive
      have hN := hS.2.2.2.2.2 n hn
      rcases hkinds n hn hk with z | z | z
      · exact hleaf (l + 1) D n a (by omega) hn z hk hI hlive
      · have hI' : rItem S xa ia i w tg s T q (rB S xa ia i w tg s T q l) n a := hI
        rcases hI' with g | g | g | g | ⟨g1, g2, g3, j, g4, g5, g6, g7, g8, g9⟩ | g
        · exact absurd g.1 (by omega)
        · exact absurd g.1 (by omega)
        · exact absurd g.1 (by omega)
        · exact absurd g.1 (by omega)
        · obtain ⟨hcc, -, hch⟩ := choice_ch hS hn z
          have hjc : j < sCc S n := by omega
          exact hC D n a j hn z g4 g2 g7.dead (ihB D _ a (by omega) (sWf_lt hS hn hjc) (hch j g4).1 (by have := (hch j g4).2; omega) g6 (g8 (hlive.resolve_right g3)))
        · exact absurd g.1 (by omega)
      · obtain ⟨D, rfl⟩ : ∃ d, D = d + 1 := ⟨D - 1, by omega⟩
        have hI' : rItem S xa ia i w tg s T q (rB S xa ia i w tg s T q l) n a := hI
        rcases hI' with g | g | g | g | g | ⟨g1, g2, ba, oa, und, ptr, out, g3, g4, g5, g6, g7, g8, g9, g10, g11, g12, g13⟩
        · exact absurd g.1 (by omega)
        · exact absurd g.1 (by omega)
        · exact absurd g.1 (by omega)
        · exact absurd g.1 (by omega)
        · exact absurd g.1 (by omega)
        obtain ⟨hcc1, hcc4, -, hch⟩ := par_ch hS hn z
        have hkd : ∀ k, k < sCc S n → s (21 + 1262 * (i) + (622 + 10 * (sCh S n k) + 0)) ≠ nI 1 → rDead i s (sCh S n k) (sEn S (sCh S n k)) := fun k hk hns => by
          rcases g8 k hk with y | ⟨-, a', -, y⟩
          · exact y.2.2.dead
          · rw [rB_body] at y
            obtain ⟨h1, idx, cur, dd, da, L, f, h2, h3, h4, h5, h6, h7, h8, h9, h10, h11, h12, h13, h14, h15, h16⟩ := y
            exact h15 hns
        have d1 : ¬ (nI 2 : Int32) = nI 1 := by decide
        have d3 : ¬ (nI 3 : Int32) = nI 1 := by decide
        have d4 : ¬ (nI 4 : Int32) = nI 1 := by decide
        have hout : ∀ k, k < sCc S n → (out k = some (w.2.2.2 2) ∧ s (21 + 1262 * (i) + (622 + 10 * (sCh S n k) + 0)) = nI 1) ∨ (out k ≠ some (w.2.2.2 2) ∧ s (21 + 1262 * (i) + (622 + 10 * (sCh S n k) + 0)) ≠ nI 1) := fun k hk => by
          rcases g9 hlive k hk with y | y | y
          · exact Or.inl y
          · exact Or.inr ⟨fun e => by
              rw [y.1] at e
              exact hc23 (Option.some.inj e).symm, by rw [y.2]; exact d1⟩
          · refine Or.inr ⟨fun e => by
              rw [y.1] at e
              exact hc24 (Option.some.inj e).symm, ?_⟩
            rcases y.2 with e | e
            · rw [e]; exact d3
            · rw [e]; exact d4
        rcases hlive with hst | hst
        · obtain ⟨u1, u2, -⟩ := g10 hst
          subst u1
          refine hP D n a ba oa ptr out _ _ _ _ hn z g3 g5 g7 u2 (fun k hk => ?_)
          rcases hout k hk with y | y
          · refine Or.inl ⟨y.1, ?_⟩
            rcases g8 k hk with v | ⟨-, a', v1, v2⟩
            · rw [v.1] at y
              exact absurd y.1 (by simp)
            · exact ⟨a', v1, ihB D _ a' (by omega) (sWf_lt hS hn hk) (hch k hk).1 (by have := (hch k hk).2; omega) v2 y.2⟩
          · exact Or.inr ⟨y.1, hkd k hk y.2⟩
        · obtain ⟨u1, ua, u2, L, left, tried, til, c1, c2, n1, n2, n3, ⟨t, k0, m1, m2, m3, m4, m5⟩, n5, n6, U, n7, n8, n9⟩ := g11 hst
          subst u2
          obtain ⟨-, td, tda, f, c3, -⟩ := c1
          rw [n7] at c3 n6
          have htl := m1.1
          refine hU D n a ba oa ptr out ua U t _ _ _ _ _ _ _ _ _ hn z g3 g5 g7 c3 n8 n9 m5 (by omega) n6 ?_ (fun k hk => ?_)
          · have : ∀ k, k ≤ sCc S n → rDead i s (n + 1) (sCp S n k) := by
              intro k
              induction k with
              | zero =>
                intro _ m h1 h2
                have := hN.1.2.2.2.2.1
                omega
              | succ k ihk =>
                intro hk
                obtain ⟨x1, x2, x3, x4, x5⟩ := sNode_in hN (show k < sCc S n by omega)
                have hd := hkd k (by omega) (u1 k (by omega))
                rw [x5, ← x4] at hd
                exact (ihk (by omega)).join hd
            have h := this (sCc S n) (Nat.le_refl _)
            have e : sCp S n (sCc S n) = sEn S n := if_neg (by omega)
            rw [e] at h
            exact h
          · rcases hout k hk with y | y
            · exact absurd y.2 (u1 k hk)
            · exact y.1
    exact ⟨hbody (l + 1) hI, hI⟩
end LV
