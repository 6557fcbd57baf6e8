set_option maxRecDepth 100000
/-! A PARALLEL's RUN: the other bodies under one body's look; the counts -/
section PA
variable {S : SV} {σ : TS} {xa mo ia i ver T : Nat} {bo un : Option Nat}
/-- two bodies of one node lie apart -/
theorem kid_apart {n j k : Nat} (hN : sNode S n) (hj : j < sCc S n) (hk : k < sCc S n) (hjk : j ≠ k) : sEn S (sCh S n j) ≤ sCh S n k ∨ sEn S (sCh S n k) ≤ sCh S n j := by
  by_cases h : j < k
  · exact Or.inl (sNode_lt hN h hk)
  · exact Or.inr (sNode_lt hN (by omega) hj)
/-- rows of one node that a look at an interval apart leaves -/
theorem pQ_aS {lo hi c e : Nat} {s s1 : Nat → Int32} (hQ : pQ i lo hi s s1) (he : e ≤ 64) (hd : e ≤ lo ∨ hi ≤ c) : aS i c e s s1 := fun n k h1 h2 h3 => hQ _ (by omega) (by omega) (by omega)
/-- a body stays as it is while another one is looked at -/
theorem kid_keep {n l k j : Nat} {ptr out out1 : Nat → Option Nat} {w w1 : gw} {tg tg1 : pT} {s s1 : Nat → Int32} {q : Bool} {Tq : Nat} (hS : sWf S) (hnn : n < sEn S 0) (hk6 : sKd S n = 6) (hkc : k < sCc S n) (hjc : j < sCc S n) (hjk : j ≠ k) (hmoia : mo ≠ ia) (hia : ia ≠ 0) (hb : pBd w)
    (hfr : pFr w w1 tg tg1 (pPk S mo ia n k)) (hQ : pQ i (sCh S n k) (sEn S (sCh S n k)) s s1) (hPe : pPe i s s1) (ho : out1 j = out j) (h : pKid S xa ia i l w tg s Tq q n ptr out j) : pKid S xa ia i l w1 tg1 s1 Tq q n ptr out1 j := by
  have hN := hS.2.2.2.2.2 n hnn
  have hNs : sEn S 0 ≤ 64 := hS.1
  have hNn := hN.1.2.1
  obtain ⟨-, -, -, hch⟩ := par_ch hS hnn hk6
  have hi' := sNode_in hN hjc
  have hcN := sWf_lt hS hnn hjc
  have hap := kid_apart hN hjc hkc hjk
  have hK : w1.2.2.2 = w.2.2.2 := hfr.2.2.1
  obtain ⟨a', h1, h2, h3⟩ := h
  have hs := pQ_aS hQ (c := sCh S n j) (e := sEn S (sCh S n j)) (by omega) hap
  have h0 := hs (sCh S n j) 0 (Nat.le_refl _) (by omega) (by omega)
  refine ⟨a', h1, (rB_fr (q := q) (q1 := q) (T := Tq) (T1 := Tq) hS hK (fun z => ⟨z, hPe⟩) (Nat.le_refl _) l).1 _ a' hcN (hch j hjc).1 (hfr.aW hb (fun t ht z => ?_)) (aS.aY hS hcN hs) h2, ?_⟩
  · rcases z with (z | z) | z
    · rcases ht with ht | ht
      · have := ht.2
        have := z.2
        omega
      · rw [ht] at z
        exact hia z.1.symm
    · rcases ht with ht | ht
      · rw [z] at ht
        exact hmoia ht.1
      · rw [ht] at z
        have := congrArg Prod.snd z
        simp only at this
        omega
    · rcases ht with ht | ht
      · rw [z] at ht
        have := ht.2.1
        simp only at this
        omega
      · rw [ht] at z
        exact hia (congrArg Prod.fst z).symm
  · rw [ho, hK, h0]
    exact h3
/-- the component's count of an outcome is the reference's count of a state -/
theorem kid_count {n l : Nat} {ptr out : Nat → Option Nat} {w : gw} {tg : pT} {s : Nat → Int32} {q : Bool} (hco : pCo w tg) : ∀ m, (∀ j, j < m → pKid S xa ia i l w tg s T q n ptr out j) → oCount out (w.2.2.2 2) m = rCount S i s n 1 m ∧ oCount out (w.2.2.2 3) m = rCount S i s n 2 m := by
  obtain ⟨-, -, h1, h2, h3⟩ := hco
  intro m
  induction m with
  | zero => intro _; exact ⟨rfl, rfl⟩
  | succ m ih =>
    intro h
    obtain ⟨e1, e2⟩ := ih (fun j hj => h j (by omega))
    obtain ⟨a', -, -, hk⟩ := h m (by omega)
    have q1 : oCount out (w.2.2.2 2) (m + 1) = oCount out (w.2.2.2 2) m + (if out m = some (w.2.2.2 2) then 1 else 0) := rfl
    have q2 : oCount out (w.2.2.2 3) (m + 1) = oCount out (w.2.2.2 3) m + (if out m = some (w.2.2.2 3) then 1 else 0) := rfl
    have q3 : rCount S i s n 1 (m + 1) = rCount S i s n 1 m + (if s (21 + 1262 * (i) + (622 + 10 * (sCh S n m) + 0)) = nI 1 then 1 else 0) := rfl
    have q4 : rCount S i s n 2 (m + 1) = rCount S i s n 2 m + (if s (21 + 1262 * (i) + (622 + 10 * (sCh S n m) + 0)) = nI 2 then 1 else 0) := rfl
    have d12 : (nI 1 : Int32) ≠ nI 2 := by decide
    have d13 : (nI 3 : Int32) ≠ nI 1 := by decide
    have d14 : (nI 4 : Int32) ≠ nI 1 := by decide
    have d23 : (nI 3 : Int32) ≠ nI 2 := by decide
    have d24 : (nI 4 : Int32) ≠ nI 2 := by decide
    have f : ∀ a b : Nat, a ≠ b → ¬ (some a = some b) := fun a b z y => z (Option.some.inj y)
    rcases hk with ⟨k1, k2⟩ | ⟨k1, k2⟩ | ⟨k1, k2⟩
    · rw [q1, q2, q3, q4, k1, k2, e1, e2, if_pos rfl, if_pos rfl, if_neg (f _ _ h1), if_neg d12]
      exact ⟨rfl, rfl⟩
    · rw [q1, q2, q3, q4, k1, k2, e1, e2, if_pos rfl, if_pos rfl, if_neg (f _ _ (Ne.symm h1)), if_neg (Ne.symm d12)]
      exact ⟨rfl, rfl⟩
    · rw [q1, q2, q3, q4, k1, e1, e2]
      rcases k2 with k2 | k2
      · rw [k2, if_neg (f _ _ (Ne.symm h2)), if_neg (f _ _ (Ne.symm h3)), if_neg d13, if_neg d23]
        exact ⟨rfl, rfl⟩
      · rw [k2, if_neg (f _ _ (Ne.symm h2)), if_neg (f _ _ (Ne.symm h3)), if_neg d14, if_neg d24]
        exact ⟨rfl, rfl⟩
end PA
section UP
variable {S : SV} {xa ia i : Nat} {w : gw} {tg : pT} {s : Nat → Int32} {T T1 : Nat} {q q1 : Bool}
/-- what is dead stands at any minute -/
theorem rItem_up {rB rB1 : Nat → Nat → Prop} {n a : Nat} (hS : sWf S) (hnn : n < sEn S 0) (h : rDead i s n (sEn S n)) (hr : ∀ j a', j < sCc S n → rB (sCh S n j) a' → rB1 (sCh S n j) a') (hI : rItem S xa ia i w tg s T q rB n a) : rItem S xa ia i w tg s T1 q1 rB1 n a := by
  have hN := hS.2.2.2.2.2 n hnn
  have hl := hN.1.1
  have hne := (h n (Nat.le_refl _) hl).2
  rcases hI with g | g | g | g | g | g
  · obtain ⟨g1, g2, g3, g4, tr, un, att, nu, g5, g6, g7, g8, g9⟩ := g
    exact Or.inl ⟨g1, g2, g3, g4, tr, un, att, nu, g5, g6, fun z => absurd z hne.1, g8, g9⟩
  · obtain ⟨g1, g2, g3, g4, un, g5, g6⟩ := g
    exact Or.inr (Or.inl ⟨g1, g2, g3, g4, un, g5, fun z => absurd z hne.1⟩)
  · obtain ⟨g1, g2, g3, g4, un, g5, g6⟩ := g
    exact Or.inr (Or.inr (Or.inl ⟨g1, g2, g3, g4, un, g5, fun z => absurd z hne.1⟩))
  · exact Or.inr (Or.inr (Or.inr (Or.inl g)))
  · obtain ⟨g1, g2, g3, j, g4, g5, g6, g7, g8, g9⟩ := g
    have hcc := (choice_ch hS hnn g1).1
    exact Or.inr (Or.inr (Or.inr (Or.inr (Or.inl ⟨g1, g2, g3, j, g4, g5, hr j a (by omega) g6, g7, g8, g9⟩))))
  · obtain ⟨g1, g2, ba, oa, und, ptr, out, g3, g4, g5, g6, g7, g8, g9, g10, g11, g12, g13⟩ := g
    refine Or.inr (Or.inr (Or.inr (Or.inr (Or.inr ⟨g1, g2, ba, oa, und, ptr, out, g3, g4, g5, g6, g7, fun k hk => ?_, g9, g10, fun z => absurd z hne.2, g12, g13⟩))))
    rcases g8 k hk with k0 | ⟨k1, a', k2, k3⟩
    · exact Or.inl k0
    · exact Or.inr ⟨k1, a', k2, hr k a' hk k3⟩
theorem rDead_sub {lo hi lo' hi' : Nat} (h : rDead i s lo hi) (h1 : lo ≤ lo') (h2 : hi' ≤ hi) : rDead i s lo' hi' := fun n a b => h n (by omega) (by omega)
theorem rB_up (hS : sWf S) : ∀ l, (∀ b a, b < sEn S 0 → sKd S b = 0 → rDead i s b (sEn S b) → rB S xa ia i w tg s T q l b a → rB S xa ia i w tg s T1 q1 l b a) ∧ (∀ n a, n < sEn S 0 → sKd S n ≠ 0 → rDead i s n (sEn S n) → rI S xa ia i w tg s T q l n a → rI S xa ia i w tg s T1 q1 l n a) := by
  have hkb : ∀ n, n < sEn S 0 → sKd S n = 0 → ∀ j, j < sCc S n → sKd S (sCh S n j) ≠ 0 := by
    intro n hn hk j hj
    rcases (hS.2.2.2.2.2 n hn).2 with h | h | h | h | h | h | h
    · exact (h.2.2 j hj).1
    all_goals omega
  have hki : ∀ n, n < sEn S 0 → sKd S n ≠ 0 → ∀ j, j < sCc S n → sKd S (sCh S n j) = 0 := by
    intro n hn hk j hj
    rcases (hS.2.2.2.2.2 n hn).2 with h | h | h | h | h | h | h
    · omega
    · omega
    · omega
    · omega
    · omega
    · exact (h.2.2.2 j (by omega)).1
    · exact (h.2.2.2.2 j hj).1
  have hbody : ∀ l, (∀ n a, n < sEn S 0 → sKd S n ≠ 0 → rDead i s n (sEn S n) → rI S xa ia i w tg s T q l n a → rI S xa ia i w tg s T1 q1 l n a) → ∀ b a, b < sEn S 0 → sKd S b = 0 → rDead i s b (sEn S b) → rB S xa ia i w tg s T q l b a → rB S xa ia i w tg s T1 q1 l b a := by
    intro l hI b a hb hk h hB
    rw [rB_body] at hB ⊢
    obtain ⟨h1, idx, cur, dd, da, L, f, h2, h3, h4, h5, h6, h7, h8, h9, h10, h11, h12, h13⟩ := hB
    refine ⟨h1, idx, cur, dd, da, L, f, h2, h3, h4, h5, h6, h7, h8, h9, h10, h11, ?_, h13⟩
    cases cur with
    | none => exact h12
    | some a' =>
      obtain ⟨k1, k2, k3⟩ := h12
      have hi' := sNode_in (hS.2.2.2.2.2 b hb) k1
      exact ⟨k1, hI _ a' (sWf_lt hS hb k1) (hkb b hb hk idx k1) (rDead_sub h (by omega) (by omega)) k2, k3⟩
  intro l
  induction l with
  | zero =>
    have hI : ∀ n a, n < sEn S 0 → sKd S n ≠ 0 → rDead i s n (sEn S n) → rI S xa ia i w tg s T q 0 n a → rI S xa ia i w tg s T1 q1 0 n a := fun n a hn _ h hr => rItem_up (rB := fun _ _ => False) (rB1 := fun _ _ => False) hS hn h (fun _ _ _ z => z) hr
    exact ⟨hbody 0 hI, hI⟩
  | succ l ih =>
    have hI : ∀ n a, n < sEn S 0 → sKd S n ≠ 0 → rDead i s n (sEn S n) → rI S xa ia i w tg s T q (l + 1) n a → rI S xa ia i w tg s T1 q1 (l + 1) n a := fun n a hn hk h hr => rItem_up (rB := rB S xa ia i w tg s T q l) (rB1 := rB S xa ia i w tg s T1 q1 l) hS hn h (fun j a' hj hb => by
      have hi' := sNode_in (hS.2.2.2.2.2 n hn) hj
      exact ih.1 _ a' (sWf_lt hS hn hj) (hki n hn hk j hj) (rDead_sub h (by omega) (by omega)) hb) hr
    exact ⟨hbody (l + 1) hI, hI⟩
/-- a body that is over stands at any minute -/
theorem kid_up {n l k : Nat} {ptr out : Nat → Option Nat} (hS : sWf S) (hnn : n < sEn S 0) (hk6 : sKd S n = 6) (hkc : k < sCc S n) (hst : s (21 + 1262 * (i) + (622 + 10 * (sCh S n k) + 0)) ≠ nI 1) (h : pKid S xa ia i l w tg s T q n ptr out k) : pKid S xa ia i l w tg s T1 q1 n ptr out k := by
  obtain ⟨-, -, -, hch⟩ := par_ch hS hnn hk6
  obtain ⟨a', h1, h2, h3⟩ := h
  refine ⟨a', h1, (rB_up hS l).1 _ a' (sWf_lt hS hnn hkc) (hch k hkc).1 ?_ h2, h3⟩
  rw [rB_body] at h2
  obtain ⟨-, idx, cur, dd, da, L, f, -, -, -, -, -, -, -, -, -, -, -, -, -, h15, -⟩ := h2
  exact h15 hst
end UP
