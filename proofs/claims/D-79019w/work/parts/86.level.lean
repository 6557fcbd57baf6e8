set_option maxRecDepth 100000
/-! ALL LEVELS -/
section LV
variable {S : SV} {σ : TS} {xa mo ia i ver T : Nat} {bo un : Option Nat}
/-- a leaf's look -/
theorem leaf_look {n a l T0 B D : Nat} {q : Bool} {w : gw} {tg : pT} {s : Nat → Int32} {rec : Int32 → Int32 → TS → Option (Int32 × TS)} (hW : pW S σ xa mo ia i ver T w tg s B bo un) (hn : n < sEn S 0) (hk1 : 1 ≤ sKd S n) (hk4 : sKd S n ≤ 4) (hB : B + 128 < 2 ^ 31) (hRm : pRm i w s) (hI : rI S xa ia i w tg s T0 q l n a) (hst : rLive i s n) (hD : 1 ≤ D) :
    pRes 0 S σ xa mo ia i ver T l n a w tg s B bo un (f_Run_looks D a w) (t_X2_looks rec (nI i) (nI n) (tS σ s)) := by
  have hg := rI_leaf' hk4 hI
  rcases hg with g | g | g | g | g | g
  · obtain ⟨g1, g2, g3, g4, tr, un, att, nu, g5, g6, g7, g8, g9⟩ := g
    have h1 : s (21 + 1262 * (i) + (622 + 10 * (n) + 0)) = nI 1 := by
      rcases hst with z | z
      · exact z
      · exact absurd z g3
    obtain ⟨rfl, g10, A, R, U, k1, k2, rfl, k3, k4, rfl, k5, k6, k7⟩ := g7 h1
    have hz : (-1 : Int32) = -1 := rfl
    rcases k7 with ⟨rfl, k8, k9⟩ | ⟨rfl, k8, k9, k10⟩
    · exact task_looks (R := R) (U := U) (A := A) (tr := 1) (w0 := w) hW hB hRm hn g1 k1 k2 ⟨g4, g5, h1, g2, g10, k3, k4, k6, Or.inl ⟨rfl, k8, k9⟩⟩ hD
    · exact task_looks (R := R) (U := U) (A := A) (tr := 0) (w0 := w) hW hB hRm hn g1 k1 k2 ⟨g4, g5, h1, g2, g10, k3, k4, k6, Or.inr ⟨rfl, k8, k9, k10⟩⟩ hD
  · obtain ⟨g1, g2, g3, g4, un, g5, g6⟩ := g
    have h1 : s (21 + 1262 * (i) + (622 + 10 * (n) + 0)) = nI 1 := by
      rcases hst with z | z
      · exact z
      · exact absurd z g3
    obtain ⟨U, rfl, k1, k2, k3⟩ := g6 h1
    exact wait_looks hW hn g1 h1 g2 g4 g5 k3 k2 hD
  · obtain ⟨g1, g2, g3, g4, un, g5, g6⟩ := g
    have h1 : s (21 + 1262 * (i) + (622 + 10 * (n) + 0)) = nI 1 := by
      rcases hst with z | z
      · exact z
      · exact absurd z g3
    obtain ⟨k1, -⟩ := g6 h1
    refine await_looks hW hB hn g1 h1 g2 g4 g5 ?_ hD
    rcases k1 with z | ⟨z1, U, z2, z3, z4, z5⟩
    · exact Or.inl z
    · exact Or.inr ⟨z1, U, z2, z4, z5⟩
  · exact absurd hst g.2.2.1
  · exact absurd g.1 (by omega)
  · exact absurd g.1 (by omega)
theorem level_le (hS : sWf S) {n : Nat} (hn : n < sEn S 0) : sLv S n ≤ 4 := by
  have : ∀ m, m < sEn S 0 → sLv S m ≤ sLv S 0 := by
    intro m
    induction m using Nat.strongRecOn with
    | _ m ih =>
      intro hm
      obtain ⟨-, h⟩ := sWf_desc hS (sEn S 0 - 0) 0 m (by omega) (by omega) (by omega) hm
      rcases h with h | ⟨p, j, p1, p2, p3, p4, p5⟩
      · rw [h]; exact Nat.le_refl _
      · have hp := ih p p2 p3
        have hN := hS.2.2.2.2.2 p p3
        rcases hN.2 with z | z | z | z | z | z | z
        · have := (z.2.2 j p4).2
          rw [p5] at this
          omega
        · omega
        · omega
        · omega
        · omega
        · have := (z.2.2.2 j (by omega)).2
          rw [p5] at this
          omega
        · have := (z.2.2.2.2 j p4).2
          rw [p5] at this
          omega
  have h1 := this n hn
  have := hS.2.2.2.1
  omega
theorem sim_level : ∀ l, l ≤ 4 → ∀ D d, 2 * l + 1 ≤ D → l ≤ d → simLk S σ xa mo ia i ver T bo un l D d ∧ simFr S σ xa mo ia i ver T bo un l D d := by
  have hkinds : ∀ n w tg s B, pW S σ xa mo ia i ver T w tg s B bo un → n < sEn S 0 → sKd S n ≠ 0 → (1 ≤ sKd S n ∧ sKd S n ≤ 4) ∨ (sKd S n = 5 ∧ 1 ≤ sLv S n) ∨ (sKd S n = 6 ∧ 1 ≤ sLv S n) := by
    intro n w tg s B hW hn hk
    have hN := hW.1.2.2.1.2.2.2.2.2 n hn
    rcases hN.2 with z | z | z | z | z | z | z
    · omega
    · omega
    · omega
    · omega
    · omega
    · have := (z.2.2.2 0 (by omega)).2
      exact Or.inr (Or.inl ⟨z.1, by omega⟩)
    · have := (z.2.2.2.2 0 (by omega)).2
      exact Or.inr (Or.inr ⟨z.1, by omega⟩)
  have hleafF : ∀ l D d n a w tg s B, 1 ≤ D → n < sEn S 0 → 1 ≤ sKd S n → sKd S n ≤ 4 → pW S σ xa mo ia i ver T w tg s B bo un → B + 256 * (sEn S n - n) < 2 ^ 31 → pRm i w (upd s (21 + 1262 * (i) + (622 + 10 * (n) + 0)) (nI 1)) → rUn i s n (sEn S n) → rFr S xa ia i w tg s T n a →
      pRes 4 S σ xa mo ia i ver T l n a w tg s B bo un (f_Run_looks D a w) (t_X2_begins (t_X2_looksAtBody d) (nI i) (nI n) (tS σ s)) := by
    intro l D d n a w tg s B hD hn h1 h4 hW hB hRm hun hf
    have hNs := hW.1.2.2.1.1
    have hl := (hW.1.2.2.1.2.2.2.2.2 n hn).1.1
    rcases hf with ⟨-, -, hf⟩ | ⟨z, -⟩ | ⟨z, -⟩
    · refine leaf_fresh hW (by omega) ?_ hn h1 h4 hun hf hD
      unfold pRm at hRm ⊢
      rw [pPh_eq (s := upd s (21 + 1262 * (i) + (622 + 10 * (n) + 0)) (nI 1)) (s1 := uBeg i n s) (fun m hm => by
        by_cases hmn : m = n
        · subst hmn
          rw [uBeg_0, upd_self]
        · rw [uBeg_ne (by omega) (by omega), upd_ne (by omega)])]
      exact hRm
    · omega
    · omega
  intro l
  induction l with
  | zero =>
    intro _ D d hD hd
    refine ⟨fun n a w tg s B T0 q hn hk hlv hW hB hRm hI hst => ?_, fun n a w tg s B hn hk hlv hW hB hRm hun hf => ?_⟩
    · have hl := (hW.1.2.2.1.2.2.2.2.2 n hn).1.1
      rcases hkinds n w tg s B hW hn hk with z | z | z
      · exact leaf_look hW hn z.1 z.2 (by omega) hRm hI hst (by omega)
      · omega
      · omega
    · rcases hkinds n w tg s B hW hn hk with z | z | z
      · exact hleafF 0 D d n a w tg s B (by omega) hn z.1 z.2 hW hB hRm hun hf
      · omega
      · omega
  | succ l ih =>
    intro hl4 D d hD hd
    have hB' : ∀ D' d', 2 * l + 2 ≤ D' → l + 1 ≤ d' → simB S σ xa mo ia i ver T bo un l D' d' := by
      intro D' d' h1 h2
      obtain ⟨D1, rfl⟩ : ∃ D1, D' = D1 + 1 := ⟨D' - 1, by omega⟩
      obtain ⟨d1, rfl⟩ : ∃ d1, d' = d1 + 1 := ⟨d' - 1, by omega⟩
      obtain ⟨z1, z2⟩ := ih (by omega) D1 d1 (by omega) (by omega)
      exact simB_of (by omega) z1 z2 sim_begins
    obtain ⟨D1, rfl⟩ : ∃ D1, D = D1 + 1 := ⟨D - 1, by omega⟩
    refine ⟨fun n a w tg s B T0 q hn hk hlv hW hB hRm hI hst => ?_, fun n a w tg s B hn hk hlv hW hB hRm hun hf => ?_⟩
    · have hS : sWf S := hW.1.2.2.1
      have hNs : sEn S 0 ≤ 64 := hS.1
      have hN := hS.2.2.2.2.2 n hn
      have hl := hN.1.1
      rcases hkinds n w tg s B hW hn hk with z | z | z
      · exact leaf_look hW hn z.1 z.2 (by omega) hRm hI hst (by omega)
      · have hI' : rItem S xa ia i w tg s T0 q (rB S xa ia i w tg s T0 q l) n a := hI
        rcases hI' with g | g | g | g | g | g
        · exact absurd g.1 (by omega)
        · exact absurd g.1 (by omega)
        · exact absurd g.1 (by omega)
        · exact absurd g.1 (by omega)
        · obtain ⟨g1, g2, g3, j, g4, g5, g6, g7, g8, g9⟩ := g
          have h1 : s (21 + 1262 * (i) + (622 + 10 * (n) + 0)) = nI 1 := by
            rcases hst with z | z
            · exact z
            · exact absurd z g3
          obtain ⟨hcc, -, hch⟩ := choice_ch hS hn g1
          have hj := hch j g4
          have hi' := sNode_in hN (j := j) (by omega)
          have hB1 : B + 256 * (sEn S (sCh S n j) - sCh S n j) ≤ B + 256 * (sEn S n - n) := by omega
          exact choice_looks hW hn g1 h1 g2 g4 g5 g7 hB1 ((hB' (D1 + 1) d (by omega) (by omega)).1 _ a w tg s B T0 q (sWf_lt hS hn (by omega)) hj.1 (by omega) hW (by omega) hRm g6 (g8 h1))
        · exact absurd g.1 (by omega)
      · exact par_looks (by omega) (hB' D1 d (by omega) (by omega)) hn z.1 hlv hW hB hRm hI hst
    · rcases hkinds n w tg s B hW hn hk with z | z | z
      · exact hleafF _ _ _ n a w tg s B (by omega) hn z.1 z.2 hW hB hRm hun hf
      · exact choice_fresh (hB' (D1 + 1) d (by omega) (by omega)) hW hB hRm hn z.1 hlv hun hf
      · exact par_firsts (by omega) (by omega) (hB' D1 d (by omega) (by omega)) hn z.1 hlv hW hB hRm hun hf
/-- the root's looks -/
theorem sim_root {l : Nat} (hl : l ≤ 4) : simB S σ xa mo ia i ver T bo un l 12 12 := by
  obtain ⟨z1, z2⟩ := sim_level (S := S) (σ := σ) (xa := xa) (mo := mo) (ia := ia) (i := i) (ver := ver) (T := T) (bo := bo) (un := un) l hl 11 11 (by omega) (by omega)
  exact simB_of hl z1 z2 sim_begins
end LV
