set_option maxRecDepth 100000
/-! COPIES of runs: all levels -/
section CL
variable {S : SV} {xa ia ib mb i : Nat} {s : Nat → Int32} {T : Nat} {q : Bool}
theorem cpR.mono {R : gw → pT → Nat → Prop} {w : gw} {tg : pT} {c sl c' sl' : Nat} {res : Option (Option Nat × gw)} (h : cpR R w tg c sl res) (h1 : c ≤ c') (h2 : sl ≤ sl') : cpR R w tg c' sl' res := by
  obtain ⟨a', w1, tg1, y1, y2, y3, y4, y5⟩ := h
  exact ⟨a', w1, tg1, y1, y2, by omega, by omega, y5⟩
theorem cpR.imp {R R' : gw → pT → Nat → Prop} {w : gw} {tg : pT} {c sl : Nat} {res : Option (Option Nat × gw)} (h : cpR R w tg c sl res) (hR : ∀ w tg a, R w tg a → R' w tg a) : cpR R' w tg c sl res := by
  obtain ⟨a', w1, tg1, y1, y2, y3, y4, y5⟩ := h
  exact ⟨a', w1, tg1, y1, y2, y3, y4, hR _ _ _ y5⟩
theorem cp_run (hS : sWf S) (hib : ib ≠ 0) : ∀ l, l ≤ 4 →
    (∀ D b a w tg, 2 * l + 2 ≤ D → b < sEn S 0 → sKd S b = 0 → sLv S b = l → cEnv S ib mb w tg → pCo w tg → rB S xa ia i w tg s T q l b a → w.2.1 + 6 * (sEn S b - b) ≤ w.2.2.2 0 → w.2.2.1 + 83 * (sEn S b - b) ≤ w.2.2.2 1 → cpR (fun w1 tg1 a' => rB S xa ib i w1 tg1 s T q l b a') w tg (6 * (sEn S b - b)) (83 * (sEn S b - b)) (f_Run_copy D a (some ib) w)) ∧
    (∀ D n a w tg, 2 * l + 1 ≤ D → n < sEn S 0 → sKd S n ≠ 0 → sLv S n = l → cEnv S ib mb w tg → pCo w tg → rI S xa ia i w tg s T q l n a → w.2.1 + 6 * (sEn S n - n) ≤ w.2.2.2 0 → w.2.2.1 + 83 * (sEn S n - n) ≤ w.2.2.2 1 → cpR (fun w1 tg1 a' => rI S xa ib i w1 tg1 s T q l n a') w tg (6 * (sEn S n - n)) (83 * (sEn S n - n)) (f_Run_copy D a (some ib) w)) := by
  have hkb : ∀ n, n < sEn S 0 → sKd S n = 0 → ∀ j, j < sCc S n → sKd S (sCh S n j) ≠ 0 := by
    intro n hn hk j hj
    rcases (hS.2.2.2.2.2 n hn).2 with h | h | h | h | h | h | h
    · exact (h.2.2 j hj).1
    all_goals omega
  have hkl : ∀ n, n < sEn S 0 → sKd S n = 0 → ∀ j, j < sCc S n → sLv S (sCh S n j) = sLv S n := by
    intro n hn hk j hj
    rcases (hS.2.2.2.2.2 n hn).2 with h | h | h | h | h | h | h
    · exact (h.2.2 j hj).2
    all_goals omega
  have hki : ∀ n, n < sEn S 0 → sKd S n ≠ 0 → ∀ j, j < sCc S n → sKd S (sCh S n j) = 0 := by
    intro n hn hk j hj
    rcases (hS.2.2.2.2.2 n hn).2 with h | h | h | h | h | h | h
    · omega
    · omega
    · omega
    · omega
    · omega
    · exact (h.2.2.2 j (by omega)).1
    · exact (h.2.2.2.2 j hj).1
  have hbody : ∀ l, (∀ D n a w tg, 2 * l + 1 ≤ D → n < sEn S 0 → sKd S n ≠ 0 → sLv S n = l → cEnv S ib mb w tg → pCo w tg → rI S xa ia i w tg s T q l n a → w.2.1 + 6 * (sEn S n - n) ≤ w.2.2.2 0 → w.2.2.1 + 83 * (sEn S n - n) ≤ w.2.2.2 1 → cpR (fun w1 tg1 a' => rI S xa ib i w1 tg1 s T q l n a') w tg (6 * (sEn S n - n)) (83 * (sEn S n - n)) (f_Run_copy D a (some ib) w)) →
      ∀ D b a w tg, 2 * l + 2 ≤ D → b < sEn S 0 → sKd S b = 0 → sLv S b = l → cEnv S ib mb w tg → pCo w tg → rB S xa ia i w tg s T q l b a → w.2.1 + 6 * (sEn S b - b) ≤ w.2.2.2 0 → w.2.2.1 + 83 * (sEn S b - b) ≤ w.2.2.2 1 → cpR (fun w1 tg1 a' => rB S xa ib i w1 tg1 s T q l b a') w tg (6 * (sEn S b - b)) (83 * (sEn S b - b)) (f_Run_copy D a (some ib) w) := by
    intro l hI D b a w tg hD hb hk hlv hE hco hB r0 r1
    obtain ⟨d, rfl⟩ : ∃ d, D = d + 1 := ⟨D - 1, by omega⟩
    have hN := hS.2.2.2.2.2 b hb
    rw [rB_body] at hB
    have hcl : gCls w a = some 18 := by
      obtain ⟨h1, idx, cur, dd, da', M, f5, h2, -⟩ := hB
      exact pu_Cls h2
    have hcopy := cp_body (rI := fun n a w tg => rI S xa ia i w tg s T q l n a ∧ pCo w tg) (rI1 := fun n a w tg => rI S xa ib i w tg s T q l n a) (rec := f_Run_copy d) hib hN hE (by
      obtain ⟨h1, idx, cur, dd, da, L, f, h2, h3, h4, h5, h6, h7, h8, h9, h10, h11, h12, h13⟩ := hB
      refine ⟨h1, idx, cur, dd, da, L, f, h2, h3, h4, h5, h6, h7, h8, h9, h10, h11, ?_, h13⟩
      cases cur with
      | none => exact h12
      | some a' => exact ⟨h12.1, ⟨h12.2.1, hco⟩, h12.2.2⟩) r0 r1 (fun j a' w1 tg1 hj hF hz => by
      have hcN := sWf_lt hS hb hj
      exact ⟨(rB_fr (q := q) (q1 := q) (T := T) (T1 := T) hS hF.2.2.1 (fun z => ⟨z, fun _ _ z => z⟩) (Nat.le_refl _) l).2 _ a' hcN (hkb b hb hk j hj) (hF.aW hE.1 (fun _ _ => id)) (aS.aY hS hcN (fun _ _ _ _ _ => rfl)) hz.1, hz.2.fr hF id⟩) (fun j a' w1 tg1 hj hE1 hz y0 y1 => hI d _ a' w1 tg1 (by omega) (sWf_lt hS hb hj) (hkb b hb hk j hj) ((hkl b hb hk j hj).trans hlv) hE1 hz.2 hz.1 y0 y1) (fun j a' w1 tg1 w2 tg2 hj hF hb1 hz => by
      have hcN := sWf_lt hS hb hj
      have hi' := sNode_in hN hj
      exact (rB_fr (q := q) (q1 := q) (T := T) (T1 := T) hS hF.2.2.1 (fun z => ⟨z, fun _ _ z => z⟩) (Nat.le_refl _) l).2 _ a' hcN (hkb b hb hk j hj) (hF.aW hb1 (fun t ht z => by
        rw [z] at ht
        rcases ht with ht | ht
        · have := ht.2.1
          simp only at this
          omega
        · exact hib (congrArg Prod.fst ht))) (aS.aY hS hcN (fun _ _ _ _ _ => rfl)) hz)
    have hd : f_Run_copy (d + 1) a (some ib) w = f_X18_copy (f_Run_copy d) a (some ib) w := by
      show f_Run_copy_s (f_Run_copy d) a (some ib) w = _
      unfold f_Run_copy_s
      rw [hcl, pu_B1, if_pos rfl]
    rw [hd]
    refine hcopy.imp (fun w1 tg1 a' z => ?_)
    rw [rB_body]
    exact z
  have hleaf : ∀ l D n a w tg, 1 ≤ D → n < sEn S 0 → sKd S n ≤ 4 → sKd S n ≠ 0 → cEnv S ib mb w tg → rI S xa ia i w tg s T q l n a → w.2.1 + 6 * (sEn S n - n) ≤ w.2.2.2 0 → w.2.2.1 + 83 * (sEn S n - n) ≤ w.2.2.2 1 → cpR (fun w1 tg1 a' => rI S xa ib i w1 tg1 s T q l n a') w tg (6 * (sEn S n - n)) (83 * (sEn S n - n)) (f_Run_copy D a (some ib) w) := by
    intro l D n a w tg hD hn hk4 hk0 hE hI r0 r1
    have hl := (hS.2.2.2.2.2 n hn).1.1
    have := cp_leaf (ib := ib) (rB1 := fun _ _ => False) hE hn hk4 (rI_leaf' hk4 hI) hD (by omega) (by omega)
    exact (this.mono (by omega) (by omega)).imp (fun w1 tg1 a' z => rI_leaf hk4 z)
  have hkinds : ∀ n, n < sEn S 0 → sKd S n ≠ 0 → sKd S n ≤ 4 ∨ sKd S n = 5 ∨ sKd S n = 6 := by
    intro n hn hk
    rcases (hS.2.2.2.2.2 n hn).2 with z | z | z | z | z | z | z <;> omega
  intro l
  induction l with
  | zero =>
    intro _
    have hI : ∀ D n a w tg, 2 * 0 + 1 ≤ D → n < sEn S 0 → sKd S n ≠ 0 → sLv S n = 0 → cEnv S ib mb w tg → pCo w tg → rI S xa ia i w tg s T q 0 n a → w.2.1 + 6 * (sEn S n - n) ≤ w.2.2.2 0 → w.2.2.1 + 83 * (sEn S n - n) ≤ w.2.2.2 1 → cpR (fun w1 tg1 a' => rI S xa ib i w1 tg1 s T q 0 n a') w tg (6 * (sEn S n - n)) (83 * (sEn S n - n)) (f_Run_copy D a (some ib) w) := by
      intro D n a w tg hD hn hk hlv hE hco hI r0 r1
      rcases hkinds n hn hk with z | z | z
      · exact hleaf 0 D n a w tg (by omega) hn z hk hE hI r0 r1
      · have := ((choice_ch hS hn z).2.2 0 (by omega)).2
        omega
      · obtain ⟨y1, -, -, y2⟩ := par_ch hS hn z
        have := (y2 0 (by omega)).2
        omega
    exact ⟨hbody 0 hI, hI⟩
  | succ l ih =>
    intro hl4
    obtain ⟨ihB, ihI⟩ := ih (by omega)
    have hI : ∀ D n a w tg, 2 * (l + 1) + 1 ≤ D → n < sEn S 0 → sKd S n ≠ 0 → sLv S n = l + 1 → cEnv S ib mb w tg → pCo w tg → rI S xa ia i w tg s T q (l + 1) n a → w.2.1 + 6 * (sEn S n - n) ≤ w.2.2.2 0 → w.2.2.1 + 83 * (sEn S n - n) ≤ w.2.2.2 1 → cpR (fun w1 tg1 a' => rI S xa ib i w1 tg1 s T q (l + 1) n a') w tg (6 * (sEn S n - n)) (83 * (sEn S n - n)) (f_Run_copy D a (some ib) w) := by
      intro D n a w tg hD hn hk hlv hE hco hI r0 r1
      have hN := hS.2.2.2.2.2 n hn
      have hl := hN.1.1
      rcases hkinds n hn hk with z | z | z
      · exact hleaf (l + 1) D n a w tg (by omega) hn z hk hE hI r0 r1
      · have hI' : rItem S xa ia i w tg s T q (rB S xa ia i w tg s T q l) n a := hI
        rcases hI' with g | g | g | g | ⟨g1, g2, g3, j, g4, g5, g6, g7, g8, g9⟩ | g
        · exact absurd g.1 (by omega)
        · exact absurd g.1 (by omega)
        · exact absurd g.1 (by omega)
        · exact absurd g.1 (by omega)
        · obtain ⟨hcc, -, hch⟩ := choice_ch hS hn z
          have hjc : j < sCc S n := by omega
          have hi' := sNode_in hN hjc
          have := ihB D _ a w tg (by omega) (sWf_lt hS hn hjc) (hch j g4).1 (by have := (hch j g4).2; omega) hE hco g6 (by omega) (by omega)
          exact (this.mono (by omega) (by omega)).imp (fun w1 tg1 a' y => Or.inr (Or.inr (Or.inr (Or.inr (Or.inl ⟨g1, g2, g3, j, g4, g5, y, g7, g8, g9⟩)))))
        · exact absurd g.1 (by omega)
      · obtain ⟨d, rfl⟩ : ∃ d, D = d + 1 := ⟨D - 1, by omega⟩
        have hcl : gCls w a = some 22 := by
          have hI' : rItem S xa ia i w tg s T q (rB S xa ia i w tg s T q l) n a := hI
          rcases hI' with g | g | g | g | g | ⟨-, -, ba, oa, und, ptr, out, g3, -⟩
          · exact absurd g.1 (by omega)
          · exact absurd g.1 (by omega)
          · exact absurd g.1 (by omega)
          · exact absurd g.1 (by omega)
          · exact absurd g.1 (by omega)
          · exact pu_Cls g3
        have hd : f_Run_copy (d + 1) a (some ib) w = f_X22_copy (f_Run_copy d) a (some ib) w := by
          show f_Run_copy_s (f_Run_copy d) a (some ib) w = _
          unfold f_Run_copy_s
          rw [hcl, pu_B1, if_neg (by decide), if_neg (by decide), if_neg (by decide), if_pos rfl]
        rw [hd]
        obtain ⟨-, -, -, hch⟩ := par_ch hS hn z
        exact cp_par hS hn z hib hE hco hI r0 r1 (fun j a' w1 tg1 hj hE1 hco1 hz y0 y1 => ihB d _ a' w1 tg1 (by omega) (sWf_lt hS hn hj) (hch j hj).1 (by have := (hch j hj).2; omega) hE1 hco1 hz y0 y1)
    exact ⟨hbody (l + 1) hI, hI⟩
end CL
