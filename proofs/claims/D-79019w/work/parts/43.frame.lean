set_option maxRecDepth 100000
/-! FRAMES: what a run's relation stands on -/
theorem sNode_in {S : SV} {n j : Nat} (h : sNode S n) (hj : j < sCc S n) : n < sCh S n j ∧ sEn S (sCh S n j) ≤ sEn S n ∧ sCh S n j < sEn S (sCh S n j) ∧ sCp S n j = sCh S n j ∧ sEn S (sCh S n j) = sCp S n (j + 1) := by
  obtain ⟨⟨h0, h1, -, -, hc0, hc⟩, -⟩ := h
  have hcp : ∀ j, j < sCc S n → sCp S n j = sCh S n j := fun j hj => by unfold sCp; rw [if_pos hj]
  have hup : ∀ j, j ≤ sCc S n → n + 1 ≤ sCp S n j := by
    intro j
    induction j with
    | zero => intro _; omega
    | succ j ih =>
      intro h
      have h2 := hc j (by omega)
      have h3 := ih (by omega)
      rw [hcp j (by omega)] at h3
      omega
  have hdn : ∀ d j, j + d = sCc S n → sCp S n j ≤ sEn S n := by
    intro d
    induction d with
    | zero =>
      intro j h
      unfold sCp
      rw [if_neg (by omega)]
      exact Nat.le_refl _
    | succ d ih =>
      intro j h
      have h2 := hc j (by omega)
      have h3 := ih (j + 1) (by omega)
      rw [hcp j (by omega)]
      omega
  have h2 := hc j hj
  have h3 := hup j (by omega)
  have h4 := hdn (sCc S n - (j + 1)) (j + 1) (by omega)
  rw [hcp j hj] at h3
  exact ⟨by omega, by omega, h2.1, hcp j hj, h2.2.1⟩
theorem sNode_cp {S : SV} {n j : Nat} (h : sNode S n) (hj : j ≤ sCc S n) : n < sCp S n j ∧ sCp S n j ≤ sEn S n := by
  by_cases h1 : j < sCc S n
  · have h2 := sNode_in h h1
    omega
  · unfold sCp
    rw [if_neg h1]
    exact ⟨h.1.1, Nat.le_refl _⟩
theorem sNode_cpm {S : SV} {n : Nat} (h : sNode S n) : ∀ d j, j + d ≤ sCc S n → sCp S n j ≤ sCp S n (j + d) := by
  intro d
  induction d with
  | zero => intro j _; exact Nat.le_refl _
  | succ d ih =>
    intro j hj
    have h1 := ih j (by omega)
    have h2 := sNode_in h (j := j + d) (by omega)
    have h3 : sCp S n (j + (d + 1)) = sCp S n (j + d + 1) := rfl
    omega
theorem sNode_lt {S : SV} {n j k : Nat} (h : sNode S n) (hj : j < k) (hk : k < sCc S n) : sEn S (sCh S n j) ≤ sCh S n k := by
  have h1 := sNode_in h (j := j) (by omega)
  have h2 := sNode_in h hk
  have h3 := sNode_cpm h (k - (j + 1)) (j + 1) (by omega)
  rw [show j + 1 + (k - (j + 1)) = k by omega] at h3
  omega
/-- a node within c's reach lies in one of its children's -/
theorem sNode_child {S : SV} {n m : Nat} (hN : sNode S n) (h1 : n < m) (h2 : m < sEn S n) : ∃ j, j < sCc S n ∧ sCh S n j ≤ m ∧ m < sEn S (sCh S n j) := by
  have h0 := hN.1.2.2.2.2.1
  have : ∀ d j, j + d = sCc S n → sCp S n j ≤ m → ∃ j, j < sCc S n ∧ sCh S n j ≤ m ∧ m < sEn S (sCh S n j) := by
    intro d
    induction d with
    | zero =>
      intro j hj hm
      exfalso
      unfold sCp at hm
      rw [if_neg (by omega)] at hm
      omega
    | succ d ih =>
      intro j hj hm
      have hi := sNode_in hN (j := j) (by omega)
      by_cases hlt : m < sEn S (sCh S n j)
      · exact ⟨j, by omega, by omega, hlt⟩
      · exact ih (j + 1) (by omega) (by omega)
  exact this (sCc S n) 0 (by omega) (by omega)
theorem sWf_lt {S : SV} (hS : sWf S) {n j : Nat} (hn : n < sEn S 0) (hj : j < sCc S n) : sCh S n j < sEn S 0 := by
  have h1 := hS.2.2.2.2.2 n hn
  have h2 := sNode_in h1 hj
  have h3 := h1.1.2.1
  omega
theorem sWf_desc {S : SV} (hS : sWf S) : ∀ (d c m : Nat), sEn S c - c ≤ d → c < sEn S 0 → c ≤ m → m < sEn S c → sEn S m ≤ sEn S c ∧ (m = c ∨ ∃ p j, c ≤ p ∧ p < m ∧ p < sEn S 0 ∧ j < sCc S p ∧ sCh S p j = m) := by
  intro d
  induction d with
  | zero =>
    intro c m hd hc h1 h2
    exfalso
    omega
  | succ d ih =>
    intro c m hd hc h1 h2
    by_cases he : m = c
    · subst he
      exact ⟨Nat.le_refl _, Or.inl rfl⟩
    · have hN := hS.2.2.2.2.2 c hc
      obtain ⟨j, hj, h3, h4⟩ := sNode_child hN (by omega) h2
      have hi := sNode_in hN hj
      obtain ⟨h5, h6⟩ := ih (sCh S c j) m (by omega) (sWf_lt hS hc hj) h3 h4
      refine ⟨by omega, Or.inr ?_⟩
      rcases h6 with h6 | ⟨p, j', q1, q2, q3, q4, q5⟩
      · exact ⟨c, j, Nat.le_refl _, by omega, hc, hj, h6.symm⟩
      · exact ⟨p, j', by omega, q2, q3, q4, q5⟩
/-- the same cells, for one place of the tags; the same rows of nodes -/
def aW (w w1 : gw) (tg tg1 : pT) (ia lo hi : Nat) : Prop := ∀ a e, w.1 a = some e → ((tg a).1 = ia ∧ lo ≤ (tg a).2 ∧ (tg a).2 < hi ∨ tg a = (0, 100)) → w1.1 a = some e ∧ tg1 a = tg a
def aS (i lo hi : Nat) (s s1 : Nat → Int32) : Prop := ∀ n k, lo ≤ n → n < hi → k < 10 → s1 (21 + 1262 * (i) + (622 + 10 * (n) + k)) = s (21 + 1262 * (i) + (622 + 10 * (n) + k))
theorem aW.at {w w1 : gw} {tg tg1 : pT} {ia lo hi n a : Nat} {e : gE} (h : aW w w1 tg tg1 ia lo hi) (h1 : w.1 a = some e) (ht : tg a = (ia, n)) (hl : lo ≤ n) (hh : n < hi) : w1.1 a = some e ∧ tg1 a = (ia, n) := by
  have h2 := h a e h1 (Or.inl (by rw [ht]; exact ⟨rfl, hl, hh⟩))
  exact ⟨h2.1, h2.2.trans ht⟩
theorem aW.st {w w1 : gw} {tg tg1 : pT} {ia lo hi a : Nat} {e : gE} (h : aW w w1 tg tg1 ia lo hi) (h1 : w.1 a = some e) (ht : pStc tg a) : w1.1 a = some e ∧ pStc tg1 a := by
  have h2 := h a e h1 (Or.inr ht)
  exact ⟨h2.1, h2.2.trans ht⟩
theorem aW.sub {w w1 : gw} {tg tg1 : pT} {ia lo hi lo' hi' : Nat} (h : aW w w1 tg tg1 ia lo hi) (h1 : lo ≤ lo') (h2 : hi' ≤ hi) : aW w w1 tg tg1 ia lo' hi' := fun a e ha ht => h a e ha (by
  rcases ht with ⟨t1, t2, t3⟩ | ht
  · exact Or.inl ⟨t1, by omega, by omega⟩
  · exact Or.inr ht)
/-- .. but how tasks that were done are compensated may change -/
def aZ (i lo hi : Nat) (s s1 : Nat → Int32) : Prop := ∀ n k, lo ≤ n → n < hi → k < 10 → (k ≠ 6 ∨ s (21 + 1262 * (i) + (622 + 10 * (n) + 0)) ≠ nI 2) → s1 (21 + 1262 * (i) + (622 + 10 * (n) + k)) = s (21 + 1262 * (i) + (622 + 10 * (n) + k))
def aY (S : SV) (i lo hi : Nat) (s s1 : Nat → Int32) : Prop := aZ i lo hi s s1 ∧ ∀ n, lo ≤ n → n < hi → s (21 + 1262 * (i) + (622 + 10 * (n) + 0)) = nI 5 → aS i n (sEn S n) s s1
theorem aZ.sub {i lo hi lo' hi' : Nat} {s s1 : Nat → Int32} (h : aZ i lo hi s s1) (h1 : lo ≤ lo') (h2 : hi' ≤ hi) : aZ i lo' hi' s s1 := fun n k a b c d => h n k (by omega) (by omega) c d
theorem aY.sub {S : SV} {i lo hi lo' hi' : Nat} {s s1 : Nat → Int32} (h : aY S i lo hi s s1) (h1 : lo ≤ lo') (h2 : hi' ≤ hi) : aY S i lo' hi' s s1 := ⟨h.1.sub h1 h2, fun n a b c => h.2 n (by omega) (by omega) c⟩
theorem aS.sub {i lo hi lo' hi' : Nat} {s s1 : Nat → Int32} (h : aS i lo hi s s1) (h1 : lo ≤ lo') (h2 : hi' ≤ hi) : aS i lo' hi' s s1 := fun n k a b c => h n k (by omega) (by omega) c
theorem aS.aY {S : SV} (hS : sWf S) {i c : Nat} {s s1 : Nat → Int32} (hc : c < sEn S 0) (h : aS i c (sEn S c) s s1) : aY S i c (sEn S c) s s1 := ⟨fun n k a b d _ => h n k a b d, fun n a b _ => h.sub a (sWf_desc hS _ c n (Nat.le_refl _) hc a b).1⟩
theorem rDone_fr {S : SV} {i lo hi lo' hi' k : Nat} {s s1 : Nat → Int32} (h : aZ i lo hi s s1) (h1 : lo ≤ lo') (h2 : hi' ≤ hi) : rDone S i s1 lo' hi' k ↔ rDone S i s lo' hi' k := by
  constructor
  · rintro ⟨k0, n, a, b, c, d, e⟩
    rw [h n 0 (by omega) (by omega) (by omega) (Or.inl (by decide))] at d
    rw [h n 5 (by omega) (by omega) (by omega) (Or.inl (by decide))] at e
    exact ⟨k0, n, a, b, c, d, e⟩
  · rintro ⟨k0, n, a, b, c, d, e⟩
    rw [← h n 0 (by omega) (by omega) (by omega) (Or.inl (by decide))] at d
    rw [← h n 5 (by omega) (by omega) (by omega) (Or.inl (by decide))] at e
    exact ⟨k0, n, a, b, c, d, e⟩
theorem rUn_fr {i lo hi lo' hi' : Nat} {s s1 : Nat → Int32} (h : aZ i lo hi s s1) (h1 : lo ≤ lo') (h2 : hi' ≤ hi) (hu : rUn i s lo' hi') : rUn i s1 lo' hi' := by
  intro n a b
  rw [h n 0 (by omega) (by omega) (by omega) (Or.inl (by decide)), h n 7 (by omega) (by omega) (by omega) (Or.inl (by decide)), h n 6 (by omega) (by omega) (by omega) (Or.inr (by rw [(hu n a b).1]; decide)), h n 2 (by omega) (by omega) (by omega) (Or.inl (by decide))]
  exact hu n a b
theorem rDead_fr {i lo hi lo' hi' : Nat} {s s1 : Nat → Int32} (h : aZ i lo hi s s1) (h1 : lo ≤ lo') (h2 : hi' ≤ hi) (hu : rDead i s lo' hi') : rDead i s1 lo' hi' := by
  intro n a b
  rw [h n 0 (by omega) (by omega) (by omega) (Or.inl (by decide)), h n 7 (by omega) (by omega) (by omega) (Or.inl (by decide))]
  exact hu n a b
theorem rUn_dead {i lo hi : Nat} {s : Nat → Int32} (h : rUn i s lo hi) : rDead i s lo hi := by
  intro n a b
  obtain ⟨h1, h2, -⟩ := h n a b
  refine ⟨h2, ?_, ?_⟩ <;> rw [h1] <;> decide
theorem rDead_app {i a b c : Nat} {s : Nat → Int32} (h1 : rDead i s a b) (h2 : rDead i s b c) : rDead i s a c := by
  intro n x y
  by_cases h : n < b
  · exact h1 n x h
  · exact h2 n (by omega) y
theorem rCount_fr {S : SV} {i n x : Nat} {s s1 : Nat → Int32} : ∀ m, (∀ j, j < m → s1 (21 + 1262 * (i) + (622 + 10 * (sCh S n j) + 0)) = s (21 + 1262 * (i) + (622 + 10 * (sCh S n j) + 0))) → rCount S i s1 n x m = rCount S i s n x m := by
  intro m
  induction m with
  | zero => intro _; rfl
  | succ m ih =>
    intro h
    unfold rCount
    rw [ih (fun j hj => h j (by omega)), h m (by omega)]
section FR
variable {S : SV} {xa ia i : Nat} {w w1 : gw} {tg tg1 : pT} {s s1 : Nat → Int32} {T T1 : Nat} {q q1 : Bool}
theorem uCell_fr {n ua : Nat} {L : List Nat} {left tried til : Int32} {lo hi : Nat} (hW : aW w w1 tg tg1 ia lo hi) (h1 : lo ≤ n) (h2 : n < hi) (h : uCell xa ia w tg n ua L left tried til) : uCell xa ia w1 tg1 n ua L left tried til := by
  obtain ⟨a1, td, tda, f, a2, a3, a4, a5, a6, a7⟩ := h
  have b1 := hW.at a2 a1 h1 h2
  have b2 := hW.st a4 a3
  have b3 := hW.st a6 a5
  exact ⟨b1.2, td, tda, f, b1.1, b2.2, b2.1, b3.2, b3.1, a7⟩
theorem rFor_fr {n t : Nat} (hn : n ≠ 0) (hN : sNode S n) (hs : aS i n (sEn S n) s s1) : rFor S i s1 n t ↔ rFor S i s n t := by
  unfold rFor
  constructor
  · rintro ⟨h0, h | ⟨j, hj, h1, h2, h3⟩⟩
    · exact absurd h hn
    · have hi := sNode_in hN hj
      rw [hs _ 0 (by omega) (by omega) (by omega)] at h1
      exact ⟨h0, Or.inr ⟨j, hj, h1, h2, h3⟩⟩
  · rintro ⟨h0, h | ⟨j, hj, h1, h2, h3⟩⟩
    · exact absurd h hn
    · have hi := sNode_in hN hj
      rw [← hs _ 0 (by omega) (by omega) (by omega)] at h1
      exact ⟨h0, Or.inr ⟨j, hj, h1, h2, h3⟩⟩
theorem rFor_in {n t : Nat} (hn : n ≠ 0) (hN : sNode S n) (h : rFor S i s n t) : n < t ∧ t < sEn S n := by
  obtain ⟨h0, h | ⟨j, hj, h1, h2, h3⟩⟩ := h
  · exact absurd h hn
  · have hi := sNode_in hN hj
    omega
theorem uLive_fr {n ua : Nat} (hn : n ≠ 0) (hN : sNode S n) (hT : T1 ≤ T) (hW : aW w w1 tg tg1 ia n (sEn S n)) (hs : aS i n (sEn S n) s s1) (h : uLive S xa ia i w tg s T n ua) : uLive S xa ia i w1 tg1 s1 T1 n ua := by
  obtain ⟨L, left, tried, til, h1, ⟨r0, r1, r2⟩, n1, n2, n3, ⟨t, k, u1, u2, u3, u4, u5⟩, n5, n6, U, n7, n8, n9⟩ := h
  have hl := hN.1.1
  have hf : ∀ t, rFor S i s1 n t ↔ rFor S i s n t := fun t => rFor_fr hn hN hs
  have ho : ∀ t, rFor S i s n t → (rOpen S i s1 t ↔ rOpen S i s t) := by
    intro t ht
    have h2 := rFor_in hn hN ht
    unfold rOpen
    rw [hs t 0 (by omega) (by omega) (by omega), hs t 6 (by omega) (by omega) (by omega)]
  refine ⟨L, left, tried, til, uCell_fr hW (Nat.le_refl _) hl h1, ⟨r0, ?_, ?_⟩, n1, n2, n3, ⟨t, k, (hf t).mpr u1, (ho t u1).mpr u2, u3, ?_, ?_⟩, ?_, ?_, U, n7, by omega, n9⟩
  · intro k
    rw [r1 k]
    constructor
    · rintro ⟨k0, t, a, b, c, d⟩
      have h2 := rFor_in hn hN a
      exact ⟨k0, t, (hf t).mpr a, b, (hs t 0 (by omega) (by omega) (by omega)).trans c, (hs t 5 (by omega) (by omega) (by omega)).trans d⟩
    · rintro ⟨k0, t, a, b, c, d⟩
      have a := (hf t).mp a
      have h2 := rFor_in hn hN a
      exact ⟨k0, t, a, b, (hs t 0 (by omega) (by omega) (by omega)).symm.trans c, (hs t 5 (by omega) (by omega) (by omega)).symm.trans d⟩
  · intro j k t a b c d
    have c := (hf t).mp c
    have h2 := rFor_in hn hN c
    rw [ho t c]
    exact r2 j k t a b c ((hs t 5 (by omega) (by omega) (by omega)).symm.trans d)
  · have h2 := rFor_in hn hN u1
    rw [hs t 5 (by omega) (by omega) (by omega)]
    exact u4
  · rw [hs n 7 (by omega) (by omega) (by omega)]
    exact u5
  · rw [hs n 8 (by omega) (by omega) (by omega)]
    exact n5
  · rw [hs n 9 (by omega) (by omega) (by omega)]
    exact n6
theorem rBody_fr {rI rI1 : Nat → Nat → Prop} {b a : Nat} (hN : sNode S b) (hW : aW w w1 tg tg1 ia b (sEn S b)) (hs : aZ i b (sEn S b) s s1) (hr : ∀ j a', j < sCc S b → rI (sCh S b j) a' → rI1 (sCh S b j) a') (h : rBody S xa ia i w tg s rI b a) : rBody S xa ia i w1 tg1 s1 rI1 b a := by
  obtain ⟨h1, idx, cur, dd, da, L, f, h2, h3, h4, h5, h6, h7, h8, h9, h10, h11, h12, h13, h14, h15, h16⟩ := h
  have hl := hN.1.1
  have c1 := hW.at h2 h1 (Nat.le_refl _) hl
  have c2 := hW.at h4 h3 (Nat.le_refl _) hl
  have c3 := hW.at h6 h5 (Nat.le_refl _) hl
  have hcp := sNode_cp hN h8
  have e0 := hs b 0 (Nat.le_refl _) hl (by omega) (Or.inl (by decide))
  have e7 := hs b 7 (Nat.le_refl _) hl (by omega) (Or.inl (by decide))
  refine ⟨c1.2, idx, cur, dd, da, L, f, c1.1, c2.2, c2.1, c3.2, c3.1, h7, h8, ?_, by rw [e7]; exact h10, rDead_fr hs (by omega) (by omega) h11, ?_, by rw [e0]; exact h13, ?_, ?_, by rw [e0]; exact h16⟩
  · intro k
    rw [rDone_fr hs (Nat.le_refl _) (by omega)]
    exact h9 k
  · cases cur with
    | none => exact rUn_fr hs (by omega) (Nat.le_refl _) h12
    | some a' =>
      obtain ⟨k1, k2, k3⟩ := h12
      have hi := sNode_in hN k1
      exact ⟨k1, hr idx a' k1 k2, rUn_fr hs (by omega) (Nat.le_refl _) k3⟩
  · rw [e0]
    intro h
    obtain ⟨k1, k2, k3⟩ := h14 h
    have hidx : idx < sCc S b := by
      cases cur with
      | none => exact absurd rfl k1
      | some a' => exact h12.1
    have hi := sNode_in hN hidx
    refine ⟨k1, ?_, ?_⟩
    · unfold rLive at k2 ⊢
      rw [hs _ 0 (by omega) (by omega) (by omega) (Or.inl (by decide))]
      exact k2
    · intro j hj
      have hi := sNode_in hN (j := j) (by omega)
      rw [hs _ 0 (by omega) (by omega) (by omega) (Or.inl (by decide))]
      exact k3 j hj
  · rw [e0]
    intro h
    exact rDead_fr hs (Nat.le_refl _) (Nat.le_refl _) (h15 h)
theorem rItem_fr {rB rB1 : Nat → Nat → Prop} {n a : Nat} (hN : sNode S n) (hn : n < sEn S 0) (hK : w1.2.2.2 = w.2.2.2) (hq : q1 = true → q = true ∧ ∀ c, c < 8 → s (21 + 1262 * (i) + (14 + c)) = nI 0 → s1 (21 + 1262 * (i) + (14 + c)) = nI 0) (hT : T1 ≤ T) (hk0 : sKd S 0 = 0) (hW : aW w w1 tg tg1 ia n (sEn S n)) (hs : aY S i n (sEn S n) s s1) (hr : ∀ j a', j < sCc S n → rB (sCh S n j) a' → rB1 (sCh S n j) a') (h : rItem S xa ia i w tg s T q rB n a) : rItem S xa ia i w1 tg1 s1 T1 q1 rB1 n a := by
  have hl := hN.1.1
  have e0 := hs.1 n 0 (Nat.le_refl _) hl (by omega) (Or.inl (by decide))
  have e1 := hs.1 n 1 (Nat.le_refl _) hl (by omega) (Or.inl (by decide))
  have e2 := hs.1 n 2 (Nat.le_refl _) hl (by omega) (Or.inl (by decide))
  have e3 := hs.1 n 3 (Nat.le_refl _) hl (by omega) (Or.inl (by decide))
  have e4 := hs.1 n 4 (Nat.le_refl _) hl (by omega) (Or.inl (by decide))
  have e5 := hs.1 n 5 (Nat.le_refl _) hl (by omega) (Or.inl (by decide))
  have e7 := hs.1 n 7 (Nat.le_refl _) hl (by omega) (Or.inl (by decide))
  rcases h with h | h | h | h | h | h
  · obtain ⟨g1, g2, g3, g4, tr, un, att, nu, g5, g6, g7, g8, g9⟩ := h
    have c1 := hW.at g5 g4 (Nat.le_refl _) hl
    refine Or.inl ⟨g1, by rw [e7]; exact g2, by rw [e0]; exact g3, c1.2, tr, un, att, nu, c1.1, g6, ?_, by rw [e0, e5]; exact g8, by rw [e0]; exact g9⟩
    rw [e0]
    intro h
    obtain ⟨k1, k0, A, R, U, k2, k3, k4, k5, k6, k7, k8, k9, k10⟩ := g7 h
    refine ⟨k1, (hs.1 n 6 (Nat.le_refl _) hl (by omega) (Or.inr (by rw [h]; decide))).trans k0, A, R, U, k2, k3, k4, by rw [e2]; exact k5, k6, k7, by omega, k9, ?_⟩
    rw [e3, e4]
    exact k10
  · obtain ⟨g1, g2, g3, g4, un, g5, g6⟩ := h
    have c1 := hW.at g5 g4 (Nat.le_refl _) hl
    refine Or.inr (Or.inl ⟨g1, by rw [e7]; exact g2, by rw [e0]; exact g3, c1.2, un, c1.1, ?_⟩)
    rw [e0, e1]
    intro h
    obtain ⟨U, k1, k2, k3, k4⟩ := g6 h
    exact ⟨U, k1, by omega, k3, k4⟩
  · obtain ⟨g1, g2, g3, g4, un, g5, g6⟩ := h
    have c1 := hW.at g5 g4 (Nat.le_refl _) hl
    refine Or.inr (Or.inr (Or.inl ⟨g1, by rw [e7]; exact g2, by rw [e0]; exact g3, c1.2, un, c1.1, ?_⟩))
    rw [e0, e1]
    intro h
    obtain ⟨k1, k2⟩ := g6 h
    refine ⟨?_, ?_⟩
    · rcases k1 with k1 | ⟨k1, U, k3, k4, k5, k6⟩
      · exact Or.inl k1
      · exact Or.inr ⟨k1, U, k3, by omega, k5, k6⟩
    · intro hq1 c hc8 hc
      obtain ⟨k3, k4⟩ := hq hq1
      exact k4 c hc8 (k2 k3 c hc8 hc)
  · obtain ⟨g1, g2, g3, g4, g5⟩ := h
    have c1 := hW.at g5 g4 (Nat.le_refl _) hl
    refine Or.inr (Or.inr (Or.inr (Or.inl ⟨g1, by rw [e7]; exact g2, ?_, c1.2, c1.1⟩)))
    unfold rLive at g3 ⊢
    rw [e0]
    exact g3
  · obtain ⟨g1, g2, g3, j, g4, g5, g6, g7, g8, g9⟩ := h
    have hcc : sCc S n = 2 := by
      obtain ⟨-, hkk⟩ := hN
      rcases hkk with h | h | h | h | h | h | h
      · omega
      · omega
      · omega
      · omega
      · omega
      · exact h.2.1
      · omega
    have hi := sNode_in hN (j := j) (by omega)
    have hi' := sNode_in hN (j := 1 - j) (by omega)
    refine Or.inr (Or.inr (Or.inr (Or.inr (Or.inl ⟨g1, by rw [e7]; exact g2, by rw [e0]; exact g3, j, g4, by rw [e2]; exact g5, hr j a (by omega) g6, rUn_fr hs.1 (by omega) (by omega) g7, ?_, ?_⟩))))
    · rw [e0, hs.1 _ 0 (by omega) (by omega) (by omega) (Or.inl (by decide))]
      exact g8
    · rw [e0]
      exact fun h => rDead_fr hs.1 (Nat.le_refl _) (Nat.le_refl _) (g9 h)
  · obtain ⟨g1, g2, ba, oa, und, ptr, out, g3, g4, g5, g6, g7, g8, g9, g10, g11, g12, g13⟩ := h
    have c1 := hW.at g3 g2 (Nat.le_refl _) hl
    have c2 := hW.at g5 g4 (Nat.le_refl _) hl
    have c3 := hW.at g7 g6 (Nat.le_refl _) hl
    have n0 : n ≠ 0 := by
      rintro rfl
      omega
    have ec : ∀ k, k < sCc S n → s1 (21 + 1262 * (i) + (622 + 10 * (sCh S n k) + 0)) = s (21 + 1262 * (i) + (622 + 10 * (sCh S n k) + 0)) := fun k hk => by
      have hi := sNode_in hN hk
      exact hs.1 _ 0 (by omega) (by omega) (by omega) (Or.inl (by decide))
    refine Or.inr (Or.inr (Or.inr (Or.inr (Or.inr ⟨g1, c1.2, ba, oa, und, ptr, out, c1.1, c2.2, c2.1, c3.2, c3.1, ?_, ?_, ?_, ?_, ?_, ?_⟩))))
    · intro k hk
      have hi := sNode_in hN hk
      rw [hK]
      rcases g8 k hk with ⟨k1, k2, k3⟩ | ⟨k1, a', k2, k3⟩
      · exact Or.inl ⟨k1, k2, rUn_fr hs.1 (by omega) (by omega) k3⟩
      · exact Or.inr ⟨k1, a', k2, hr k a' hk k3⟩
    · unfold rLive
      rw [e0, hK]
      intro h k hk
      rw [ec k hk]
      exact g9 h k hk
    · rw [e0, e7, rCount_fr (sCc S n) ec, rCount_fr (sCc S n) ec]
      exact g10
    · rw [e0]
      intro h
      obtain ⟨k1, ua, k2, k3⟩ := g11 h
      refine ⟨fun k hk => ?_, ua, k2, uLive_fr n0 hN hT hW (hs.2 n (Nat.le_refl _) hl h) k3⟩
      rw [ec k hk]
      exact k1 k hk
    · intro ua hua
      obtain ⟨L, left, tried, til, h⟩ := g12 ua hua
      exact ⟨L, left, tried, til, uCell_fr hW (Nat.le_refl _) hl h⟩
    · unfold rLive
      rw [e0]
      exact fun h => rDead_fr hs.1 (Nat.le_refl _) (Nat.le_refl _) (g13 h)
theorem rB_fr (hS : sWf S) (hK : w1.2.2.2 = w.2.2.2) (hq : q1 = true → q = true ∧ ∀ c, c < 8 → s (21 + 1262 * (i) + (14 + c)) = nI 0 → s1 (21 + 1262 * (i) + (14 + c)) = nI 0) (hT : T1 ≤ T) : ∀ l, (∀ b a, b < sEn S 0 → sKd S b = 0 → aW w w1 tg tg1 ia b (sEn S b) → aY S i b (sEn S b) s s1 → rB S xa ia i w tg s T q l b a → rB S xa ia i w1 tg1 s1 T1 q1 l b a) ∧ (∀ n a, n < sEn S 0 → sKd S n ≠ 0 → aW w w1 tg tg1 ia n (sEn S n) → aY S i n (sEn S n) s s1 → rI S xa ia i w tg s T q l n a → rI S xa ia i w1 tg1 s1 T1 q1 l n a) := by
  have hb : ∀ n, n < sEn S 0 → ∀ j, j < sCc S n → sCh S n j < sEn S 0 := by
    intro n hn j hj
    have h1 := hS.2.2.2.2.2 n hn
    have h2 := sNode_in h1 hj
    have h3 := h1.1.2.1
    omega
  have hkb : ∀ n, n < sEn S 0 → sKd S n = 0 → ∀ j, j < sCc S n → sKd S (sCh S n j) ≠ 0 := by
    intro n hn hk j hj
    rcases (hS.2.2.2.2.2 n hn).2 with h | h | h | h | h | h | h
    · exact (h.2.2 j hj).1
    all_goals omega
  have hki : ∀ n, n < sEn S 0 → sKd S n ≠ 0 → ∀ j, j < sCc S n → sKd S (sCh S n j) = 0 := by
    intro n hn hk j hj
    rcases (hS.2.2.2.2.2 n hn).2 with h | h | h | h | h | h | h
    · omega
    · omega
    · omega
    · omega
    · omega
    · exact (h.2.2.2 j (by omega)).1
    · exact (h.2.2.2.2 j hj).1
  intro l
  induction l with
  | zero =>
    have hI : ∀ n a, n < sEn S 0 → sKd S n ≠ 0 → aW w w1 tg tg1 ia n (sEn S n) → aY S i n (sEn S n) s s1 → rI S xa ia i w tg s T q 0 n a → rI S xa ia i w1 tg1 s1 T1 q1 0 n a := fun n a hn hk hW hs (h : rItem S xa ia i w tg s T q (fun _ _ => False) n a) => rItem_fr (rB := fun _ _ => False) (rB1 := fun _ _ => False) (hS.2.2.2.2.2 n hn) hn hK hq hT hS.2.2.1 hW hs (fun _ _ _ h => h) h
    refine ⟨fun b a hb1 hk hW hs h => rBody_fr (hS.2.2.2.2.2 b hb1) hW hs.1 (fun j a' hj hr => ?_) h, hI⟩
    have h2 := sNode_in (hS.2.2.2.2.2 b hb1) hj
    exact hI _ _ (hb b hb1 j hj) (hkb b hb1 hk j hj) (hW.sub (by omega) (by omega)) (hs.sub (by omega) (by omega)) hr
  | succ l ih =>
    have hI : ∀ n a, n < sEn S 0 → sKd S n ≠ 0 → aW w w1 tg tg1 ia n (sEn S n) → aY S i n (sEn S n) s s1 → rI S xa ia i w tg s T q (l + 1) n a → rI S xa ia i w1 tg1 s1 T1 q1 (l + 1) n a := by
      intro n a hn hk hW hs h
      refine rItem_fr (rB := rB S xa ia i w tg s T q l) (rB1 := rB S xa ia i w1 tg1 s1 T1 q1 l) (hS.2.2.2.2.2 n hn) hn hK hq hT hS.2.2.1 hW hs (fun j a' hj hr => ?_) h
      have h2 := sNode_in (hS.2.2.2.2.2 n hn) hj
      exact ih.1 _ _ (hb n hn j hj) (hki n hn hk j hj) (hW.sub (by omega) (by omega)) (hs.sub (by omega) (by omega)) hr
    refine ⟨fun b a hb1 hk hW hs h => rBody_fr (hS.2.2.2.2.2 b hb1) hW hs.1 (fun j a' hj hr => ?_) h, hI⟩
    have h2 := sNode_in (hS.2.2.2.2.2 b hb1) hj
    exact hI _ _ (hb b hb1 j hj) (hkb b hb1 hk j hj) (hW.sub (by omega) (by omega)) (hs.sub (by omega) (by omega)) hr
end FR
