set_option maxRecDepth 100000
/-! WHAT IS CANCELLED keeps its relation -/
def cE2 (i lo hi : Nat) (s s1 : Nat → Int32) : Prop := ∀ m, lo ≤ m → m < hi → (∀ k, k < 10 → k ≠ 0 → k ≠ 7 → s1 (21 + 1262 * (i) + (622 + 10 * (m) + k)) = s (21 + 1262 * (i) + (622 + 10 * (m) + k))) ∧ s1 (21 + 1262 * (i) + (622 + 10 * (m) + 7)) = -1 ∧ (rLive i s m → s1 (21 + 1262 * (i) + (622 + 10 * (m) + 0)) = nI 4) ∧ (¬ rLive i s m → s1 (21 + 1262 * (i) + (622 + 10 * (m) + 0)) = s (21 + 1262 * (i) + (622 + 10 * (m) + 0)))
theorem cE2.sub {i lo hi lo' hi' : Nat} {s s1 : Nat → Int32} (h : cE2 i lo hi s s1) (h1 : lo ≤ lo') (h2 : hi' ≤ hi) : cE2 i lo' hi' s s1 := fun m a b => h m (by omega) (by omega)
theorem cE2.ne {i lo hi m : Nat} {s s1 : Nat → Int32} (h : cE2 i lo hi s s1) (h1 : lo ≤ m) (h2 : m < hi) : s1 (21 + 1262 * (i) + (622 + 10 * (m) + 0)) ≠ nI 1 ∧ s1 (21 + 1262 * (i) + (622 + 10 * (m) + 0)) ≠ nI 5 := by
  obtain ⟨-, -, h3, h4⟩ := h m h1 h2
  by_cases hl : rLive i s m
  · rw [h3 hl]
    decide
  · rw [h4 hl]
    exact ⟨fun z => hl (Or.inl z), fun z => hl (Or.inr z)⟩
theorem cE2.dead {i lo hi : Nat} {s s1 : Nat → Int32} (h : cE2 i lo hi s s1) : rDead i s1 lo hi := fun m h1 h2 => ⟨(h m h1 h2).2.1, h.ne h1 h2⟩
theorem cE2.st {i lo hi m : Nat} {x : Int32} {s s1 : Nat → Int32} (h : cE2 i lo hi s s1) (h1 : lo ≤ m) (h2 : m < hi) (hx : x ≠ nI 4 ∧ x ≠ nI 1 ∧ x ≠ nI 5) : s1 (21 + 1262 * (i) + (622 + 10 * (m) + 0)) = x ↔ s (21 + 1262 * (i) + (622 + 10 * (m) + 0)) = x := by
  obtain ⟨-, -, h3, h4⟩ := h m h1 h2
  by_cases hl : rLive i s m
  · rw [h3 hl]
    constructor
    · exact fun z => absurd z.symm hx.1
    · intro z
      rcases hl with hl | hl
      · exact absurd (z.symm.trans hl) hx.2.1
      · exact absurd (z.symm.trans hl) hx.2.2
  · rw [h4 hl]
theorem cE2.un {i lo hi lo' hi' : Nat} {s s1 : Nat → Int32} (h : cE2 i lo hi s s1) (h1 : lo ≤ lo') (h2 : hi' ≤ hi) (hu : rUn i s lo' hi') : rUn i s1 lo' hi' := fun m a b => by
  obtain ⟨u0, u7, u6, u2⟩ := hu m a b
  obtain ⟨e, e7, -, -⟩ := h m (by omega) (by omega)
  exact ⟨(h.st (by omega) (by omega) (by decide)).mpr u0, e7, (e 6 (by omega) (by omega) (by omega)).trans u6, (e 2 (by omega) (by omega) (by omega)).trans u2⟩
section DD
variable {S : SV} {xa ia i : Nat} {w : gw} {tg : pT} {s s1 : Nat → Int32} {T : Nat} {q : Bool}
theorem rBody_eff {rI rI1 : Nat → Nat → Prop} {b a : Nat} (hN : sNode S b) (h : cE2 i b (sEn S b) s s1) (hr : ∀ j a', j < sCc S b → rI (sCh S b j) a' → rI1 (sCh S b j) a') (hB : rBody S xa ia i w tg s rI b a) : rBody S xa ia i w tg s1 rI1 b a := by
  obtain ⟨h1, idx, cur, dd, da, L, f, h2, h3, h4, h5, h6, h7, h8, h9, h10, h11, h12, h13, h14, h15, h16⟩ := hB
  have hl := hN.1.1
  have hcp := sNode_cp hN h8
  have hne := h.ne (Nat.le_refl _) hl
  refine ⟨h1, idx, cur, dd, da, L, f, h2, h3, h4, h5, h6, h7, h8, ?_, (h b (Nat.le_refl _) hl).2.1, (h.sub (by omega) hcp.2).dead, ?_, fun z => h13 ((h.st (Nat.le_refl _) hl (by decide)).mp z), fun z => absurd z hne.1, fun _ => h.dead, hne.2⟩
  · intro k
    rw [h9 k]
    constructor
    · rintro ⟨k0, n, a1, a2, a3, a4, a5⟩
      exact ⟨k0, n, a1, a2, a3, (h.st a1 (by omega) (by decide)).mpr a4, ((h n a1 (by omega)).1 5 (by omega) (by omega) (by omega)).trans a5⟩
    · rintro ⟨k0, n, a1, a2, a3, a4, a5⟩
      exact ⟨k0, n, a1, a2, a3, (h.st a1 (by omega) (by decide)).mp a4, ((h n a1 (by omega)).1 5 (by omega) (by omega) (by omega)).symm.trans a5⟩
  · cases cur with
    | none => exact h.un (by omega) (Nat.le_refl _) h12
    | some a' =>
      obtain ⟨k1, k2, k3⟩ := h12
      have hi := sNode_in hN k1
      exact ⟨k1, hr idx a' k1 k2, h.un (by omega) (Nat.le_refl _) k3⟩
theorem rItem_eff {rB rB1 : Nat → Nat → Prop} {n a : Nat} (hS : sWf S) (hn : n < sEn S 0) (h : cE2 i n (sEn S n) s s1) (hr : ∀ j a', j < sCc S n → rB (sCh S n j) a' → rB1 (sCh S n j) a') (hI : rItem S xa ia i w tg s T q rB n a) : rItem S xa ia i w tg s1 T q rB1 n a := by
  have hN := hS.2.2.2.2.2 n hn
  have hl := hN.1.1
  have hne := h.ne (Nat.le_refl _) hl
  obtain ⟨e, e7, -, -⟩ := h n (Nat.le_refl _) hl
  have h2 : s1 (21 + 1262 * (i) + (622 + 10 * (n) + 0)) = nI 2 ↔ s (21 + 1262 * (i) + (622 + 10 * (n) + 0)) = nI 2 := h.st (Nat.le_refl _) hl (by decide)
  rcases hI with g | g | g | g | g | g
  · obtain ⟨g1, g2, g3, g4, tr, un, att, nu, g5, g6, g7, g8, g9⟩ := g
    refine Or.inl ⟨g1, e7, hne.2, g4, tr, un, att, nu, g5, g6, fun z => absurd z hne.1, fun z => ?_, fun z => ?_⟩
    · obtain ⟨k, k1, k2, k3⟩ := g8 (h2.mp z)
      exact ⟨k, k1, k2, (e 5 (by omega) (by omega) (by omega)).trans k3⟩
    · exact g9 (fun y => z (h2.mpr y))
  · obtain ⟨g1, g2, g3, g4, un, g5, g6⟩ := g
    exact Or.inr (Or.inl ⟨g1, e7, hne.2, g4, un, g5, fun z => absurd z hne.1⟩)
  · obtain ⟨g1, g2, g3, g4, un, g5, g6⟩ := g
    exact Or.inr (Or.inr (Or.inl ⟨g1, e7, hne.2, g4, un, g5, fun z => absurd z hne.1⟩))
  · obtain ⟨g1, g2, g3, g4, g5⟩ := g
    exact Or.inr (Or.inr (Or.inr (Or.inl ⟨g1, e7, fun z => z.elim hne.1 hne.2, g4, g5⟩)))
  · obtain ⟨g1, g2, g3, j, g4, g5, g6, g7, g8, g9⟩ := g
    have hcc := (choice_ch hS hn g1).1
    have hi' := sNode_in hN (j := 1 - j) (by omega)
    exact Or.inr (Or.inr (Or.inr (Or.inr (Or.inl ⟨g1, e7, hne.2, j, g4, (e 2 (by omega) (by omega) (by omega)).trans g5, hr j a (by omega) g6, h.un (by omega) (by omega) g7, fun z => absurd z hne.1, fun _ => h.dead⟩))))
  · obtain ⟨g1, g2, ba, oa, und, ptr, out, g3, g4, g5, g6, g7, g8, g9, g10, g11, g12, g13⟩ := g
    refine Or.inr (Or.inr (Or.inr (Or.inr (Or.inr ⟨g1, g2, ba, oa, und, ptr, out, g3, g4, g5, g6, g7, fun k hk => ?_, fun z => (z.elim hne.1 hne.2).elim, fun z => absurd z hne.1, fun z => absurd z hne.2, g12, fun _ => h.dead⟩))))
    have hi' := sNode_in hN hk
    rcases g8 k hk with ⟨k1, k2, k3⟩ | ⟨k1, a', k2, k3⟩
    · exact Or.inl ⟨k1, k2, h.un (by omega) (by omega) k3⟩
    · exact Or.inr ⟨k1, a', k2, hr k a' hk k3⟩
theorem rB_eff (hS : sWf S) : ∀ l, (∀ b a, b < sEn S 0 → sKd S b = 0 → cE2 i b (sEn S b) s s1 → rB S xa ia i w tg s T q l b a → rB S xa ia i w tg s1 T q l b a) ∧ (∀ n a, n < sEn S 0 → sKd S n ≠ 0 → cE2 i n (sEn S n) s s1 → rI S xa ia i w tg s T q l n a → rI S xa ia i w tg s1 T q l n a) := by
  have hkb : ∀ n, n < sEn S 0 → sKd S n = 0 → ∀ j, j < sCc S n → sKd S (sCh S n j) ≠ 0 := by
    intro n hn hk j hj
    rcases (hS.2.2.2.2.2 n hn).2 with h | h | h | h | h | h | h
    · exact (h.2.2 j hj).1
    all_goals omega
  have hki : ∀ n, n < sEn S 0 → sKd S n ≠ 0 → ∀ j, j < sCc S n → sKd S (sCh S n j) = 0 := by
    intro n hn hk j hj
    rcases (hS.2.2.2.2.2 n hn).2 with h | h | h | h | h | h | h
    · omega
    · omega
    · omega
    · omega
    · omega
    · exact (h.2.2.2 j (by omega)).1
    · exact (h.2.2.2.2 j hj).1
  have hbody : ∀ l, (∀ n a, n < sEn S 0 → sKd S n ≠ 0 → cE2 i n (sEn S n) s s1 → rI S xa ia i w tg s T q l n a → rI S xa ia i w tg s1 T q l n a) → ∀ b a, b < sEn S 0 → sKd S b = 0 → cE2 i b (sEn S b) s s1 → rB S xa ia i w tg s T q l b a → rB S xa ia i w tg s1 T q l b a := by
    intro l hI b a hb hk h hB
    rw [rB_body] at hB ⊢
    refine rBody_eff (hS.2.2.2.2.2 b hb) h (fun j a' hj hr => ?_) hB
    have hi' := sNode_in (hS.2.2.2.2.2 b hb) hj
    exact hI _ a' (sWf_lt hS hb hj) (hkb b hb hk j hj) (h.sub (by omega) (by omega)) hr
  intro l
  induction l with
  | zero =>
    have hI : ∀ n a, n < sEn S 0 → sKd S n ≠ 0 → cE2 i n (sEn S n) s s1 → rI S xa ia i w tg s T q 0 n a → rI S xa ia i w tg s1 T q 0 n a := fun n a hn _ h hr => rItem_eff (rB := fun _ _ => False) (rB1 := fun _ _ => False) hS hn h (fun _ _ _ z => z) hr
    exact ⟨hbody 0 hI, hI⟩
  | succ l ih =>
    have hI : ∀ n a, n < sEn S 0 → sKd S n ≠ 0 → cE2 i n (sEn S n) s s1 → rI S xa ia i w tg s T q (l + 1) n a → rI S xa ia i w tg s1 T q (l + 1) n a := fun n a hn hk h hr => rItem_eff (rB := rB S xa ia i w tg s T q l) (rB1 := rB S xa ia i w tg s1 T q l) hS hn h (fun j a' hj hb => by
      have hi' := sNode_in (hS.2.2.2.2.2 n hn) hj
      exact ih.1 _ a' (sWf_lt hS hn hj) (hki n hn hk j hj) (h.sub (by omega) (by omega)) hb) hr
    exact ⟨hbody (l + 1) hI, hI⟩
/-- what is live in a run is reached by cancels -/
theorem cOK_of (hS : sWf S) : ∀ l, (∀ b a, b < sEn S 0 → sKd S b = 0 → s (21 + 1262 * (i) + (622 + 10 * (b) + 0)) = nI 1 → rB S xa ia i w tg s T q l b a → cOK S i s (2 * l + 2) b) ∧ (∀ n a, n < sEn S 0 → sKd S n ≠ 0 → rLive i s n → rI S xa ia i w tg s T q l n a → cOK S i s (2 * l + 1) n) := by
  have hkb : ∀ n, n < sEn S 0 → sKd S n = 0 → ∀ j, j < sCc S n → sKd S (sCh S n j) ≠ 0 := by
    intro n hn hk j hj
    rcases (hS.2.2.2.2.2 n hn).2 with h | h | h | h | h | h | h
    · exact (h.2.2 j hj).1
    all_goals omega
  have hleaf : ∀ n, n < sEn S 0 → 1 ≤ sKd S n → sKd S n ≤ 4 → ∀ f, cOK S i s (f + 1) n := by
    intro n hn h1 h4 f j hj
    exfalso
    have hi' := sNode_in (hS.2.2.2.2.2 n hn) hj
    have := leaf_en hS hn (by omega) h4
    omega
  have hbody : ∀ l, (∀ n a, n < sEn S 0 → sKd S n ≠ 0 → rLive i s n → rI S xa ia i w tg s T q l n a → cOK S i s (2 * l + 1) n) → ∀ b a, b < sEn S 0 → sKd S b = 0 → s (21 + 1262 * (i) + (622 + 10 * (b) + 0)) = nI 1 → rB S xa ia i w tg s T q l b a → cOK S i s (2 * l + 2) b := by
    intro l hI b a hb hk hst hB
    obtain ⟨h1, idx, cur, dd, da, L, f, h2, h3, h4, h5, h6, h7, h8, h9, h10, h11, h12, h13, h14, h15, h16⟩ := rB_body.mp hB
    obtain ⟨k1, k2, k3⟩ := h14 hst
    have hN := hS.2.2.2.2.2 b hb
    cases cur with
    | none => exact absurd rfl k1
    | some a' =>
      obtain ⟨j1, j2, j3⟩ := h12
      have hix := sNode_in hN j1
      intro j hj
      have hi' := sNode_in hN hj
      by_cases hjx : j = idx
      · subst hjx
        exact Or.inl ⟨k2, hI _ a' (sWf_lt hS hb hj) (hkb b hb hk j hj) k2 j2⟩
      · by_cases hlt : j < idx
        · have hcp := sNode_lt hN hlt j1
          exact Or.inr (fun m a b => h11 m (by omega) (by omega))
        · have hcp := sNode_lt hN (show idx < j by omega) hj
          exact Or.inr (fun m a b => rUn_dead j3 m (by omega) (by omega))
  intro l
  induction l with
  | zero =>
    have hI : ∀ n a, n < sEn S 0 → sKd S n ≠ 0 → rLive i s n → rI S xa ia i w tg s T q 0 n a → cOK S i s (2 * 0 + 1) n := by
      intro n a hn hk hlv hr
      rcases hr with g | g | g | g | g | g
      · exact hleaf n hn (by omega) (by have := g.1; omega) _
      · exact hleaf n hn (by omega) (by have := g.1; omega) _
      · exact hleaf n hn (by omega) (by have := g.1; omega) _
      · exact hleaf n hn (by omega) (by have := g.1; omega) _
      · obtain ⟨-, -, -, j, -, -, hf, -⟩ := g
        exact hf.elim
      · obtain ⟨g1, g2, ba, oa, und, ptr, out, g3, g4, g5, g6, g7, g8, g9, -⟩ := g
        intro j hj
        exfalso
        rcases g8 j hj with ⟨k1, -⟩ | ⟨-, a', -, hf⟩
        · rcases g9 hlv j hj with z | z | z
          · rw [k1] at z; exact absurd z.1 (by simp)
          · rw [k1] at z; exact absurd z.1 (by simp)
          · rw [k1] at z; exact absurd z.1 (by simp)
        · exact hf
    exact ⟨hbody 0 hI, hI⟩
  | succ l ih =>
    have hI : ∀ n a, n < sEn S 0 → sKd S n ≠ 0 → rLive i s n → rI S xa ia i w tg s T q (l + 1) n a → cOK S i s (2 * (l + 1) + 1) n := by
      intro n a hn hk hlv hr
      have hN := hS.2.2.2.2.2 n hn
      rcases hr with g | g | g | g | g | g
      · exact hleaf n hn (by omega) (by have := g.1; omega) _
      · exact hleaf n hn (by omega) (by have := g.1; omega) _
      · exact hleaf n hn (by omega) (by have := g.1; omega) _
      · exact hleaf n hn (by omega) (by have := g.1; omega) _
      · obtain ⟨g1, g2, g3, j, g4, g5, g6, g7, g8, g9⟩ := g
        obtain ⟨hcc, -, hch⟩ := choice_ch hS hn g1
        have hst : s (21 + 1262 * (i) + (622 + 10 * (n) + 0)) = nI 1 := by
          rcases hlv with z | z
          · exact z
          · exact absurd z g3
        intro j' hj'
        by_cases hjj : j' = j
        · subst hjj
          exact Or.inl ⟨Or.inl (g8 hst), ih.1 _ a (sWf_lt hS hn hj') (hch _ g4).1 (g8 hst) g6⟩
        · obtain rfl : j' = 1 - j := by omega
          exact Or.inr (rUn_dead g7)
      · obtain ⟨g1, g2, ba, oa, und, ptr, out, g3, g4, g5, g6, g7, g8, g9, -⟩ := g
        have hki : ∀ j, j < sCc S n → sKd S (sCh S n j) = 0 := by
          rcases hN.2 with z | z | z | z | z | z | z
          · omega
          · omega
          · omega
          · omega
          · omega
          · omega
          · exact fun j hj => (z.2.2.2.2 j hj).1
        intro j hj
        rcases g8 j hj with ⟨-, -, k3⟩ | ⟨-, a', -, hB⟩
        · exact Or.inr (rUn_dead k3)
        · by_cases hst : s (21 + 1262 * (i) + (622 + 10 * (sCh S n j) + 0)) = nI 1
          · exact Or.inl ⟨Or.inl hst, ih.1 _ a' (sWf_lt hS hn hj) (hki j hj) hst hB⟩
          · obtain ⟨-, idx, cur, dd, da, L, f, -, -, -, -, -, -, -, -, -, -, -, -, -, h15, -⟩ := rB_body.mp hB
            exact Or.inr (h15 hst)
    exact ⟨hbody (l + 1) hI, hI⟩
end DD
