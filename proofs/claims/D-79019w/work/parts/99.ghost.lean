set_option maxRecDepth 100000
/-! READING: the nodes that are read, their objects -/
def sSet (S : SV) (n kd cc en sa lv : Nat) (ch : Nat → Nat) : SV := (S.1, fun m j => if m = n then ch j else S.2.1 m j, fun f m => if m = n then (if f = 0 then kd else if f = 1 then cc else if f = 2 then en else if f = 3 then sa else if f = 4 then lv else S.2.2 f m) else S.2.2 f m)
def sEq (S S1 : SV) (m : Nat) : Prop := (∀ j, sCh S1 m j = sCh S m j) ∧ sKd S1 m = sKd S m ∧ sCc S1 m = sCc S m ∧ sEn S1 m = sEn S m ∧ sSa S1 m = sSa S m ∧ sLv S1 m = sLv S m
def agr (S S1 : SV) (lo hi : Nat) : Prop := ∀ m, lo ≤ m → m < hi → sEq S S1 m
/-- a node's parts in the rows r -/
def nFs (S : SV) (r : Nat → Nat → Int32) (n : Nat) : Prop := n < sEn S n ∧ r n 0 = nI (sKd S n) ∧ r n 5 = sAt S n 0 ∧ sCp S n 0 = n + 1 ∧ ∀ j, j < sCc S n → sCh S n j < sEn S (sCh S n j) ∧ sEn S (sCh S n j) = sCp S n (j + 1) ∧ r (sCh S n j) 6 = sAt S n (j + 1) ∧ r (sCh S n j) 8 = nI n
def nKd (S : SV) (r : Nat → Nat → Int32) (n : Nat) : Prop :=
  (sKd S n = 0 ∧ 1 ≤ sCc S n ∧ ∀ j, j < sCc S n → sKd S (sCh S n j) ≠ 0 ∧ sLv S (sCh S n j) = sLv S n) ∨
   (sKd S n = 1 ∧ sCc S n = 0 ∧ (∃ c, c < 8 ∧ r n 1 = nI c) ∧ (∃ e, e ≤ 9 ∧ r n 2 = nI e) ∧ (∃ d, d ≤ 999 ∧ r n 3 = nI d) ∧ (r n 4 = -1 ∨ ∃ u, u < 8 ∧ r n 4 = nI u)) ∨
   (sKd S n = 2 ∧ sCc S n = 0 ∧ ∃ m, m ≤ 999 ∧ r n 1 = nI m) ∨
   (sKd S n = 3 ∧ sCc S n = 0 ∧ (∃ c, c < 8 ∧ r n 1 = nI c) ∧ (r n 2 = -1 ∨ ∃ m, m ≤ 999 ∧ r n 2 = nI m)) ∨
   (sKd S n = 4 ∧ sCc S n = 0 ∧ (∃ c, c < 4 ∧ r n 1 = nI c) ∧ (r n 2 = nI 0 ∨ r n 2 = nI 1)) ∨
   (sKd S n = 5 ∧ sCc S n = 2 ∧ (∃ c, c < 4 ∧ r n 1 = nI c) ∧ ∀ j, j < 2 → sKd S (sCh S n j) = 0 ∧ sLv S (sCh S n j) + 1 = sLv S n) ∨
   (sKd S n = 6 ∧ 1 ≤ sCc S n ∧ sCc S n ≤ 4 ∧ (∃ q, 1 ≤ q ∧ q ≤ sCc S n ∧ r n 1 = nI q) ∧ ∀ j, j < sCc S n → sKd S (sCh S n j) = 0 ∧ sLv S (sCh S n j) + 1 = sLv S n)
/-- whose a cell is that the reader made: node n's -/
def oWn (tp : Nat → Nat) (N0 n a : Nat) : Prop := N0 ≤ a ∧ tp a = n
def pLR (w : gw) (tp : Nat → Nat) (N0 n la m : Nat) (g : Nat → Option Nat) : Prop := oWn tp N0 n la ∧ ∃ ea cap mc, oWn tp N0 n ea ∧ w.1 la = some (.inl (8, [gi mc, ga (some ea), gi (nI m)])) ∧ w.1 ea = some (.inr (2, cap, .inr g)) ∧ m ≤ cap ∧ cap < 1000
def oR (S : SV) (r : Nat → Nat → Int32) (w : gw) (tp : Nat → Nat) (N0 n : Nat) : Prop := oWn tp N0 n (sSa S n) ∧
  ((sKd S n = 0 ∧ ∃ la g, w.1 (sSa S n) = some (.inl (5, [ga (some la)])) ∧ pLR w tp N0 n la (sCc S n) g ∧ ∀ j, j < sCc S n → g j = some (sSa S (sCh S n j))) ∨
   (sKd S n = 1 ∧ w.1 (sSa S n) = some (.inl (9, [gi (r n 7), gi (r n 1), gi (r n 2), gi (r n 3), gi (r n 4)]))) ∨
   (sKd S n = 2 ∧ w.1 (sSa S n) = some (.inl (10, [gi (r n 7), gi (r n 1)]))) ∨
   (sKd S n = 3 ∧ w.1 (sSa S n) = some (.inl (11, [gi (r n 7), gi (r n 1), gi (r n 2)]))) ∨
   (sKd S n = 4 ∧ w.1 (sSa S n) = some (.inl (12, [gi (r n 7), gi (r n 1), gi (r n 2), gi (r n 3)]))) ∨
   (sKd S n = 5 ∧ w.1 (sSa S n) = some (.inl (13, [gi (r n 7), gi (r n 1), gi (r n 2), ga (some (sSa S (sCh S n 0))), ga (some (sSa S (sCh S n 1)))]))) ∨
   (sKd S n = 6 ∧ ∃ la g, w.1 (sSa S n) = some (.inl (14, [gi (r n 7), ga (some la), gi (r n 1)])) ∧ pLR w tp N0 n la (sCc S n) g ∧ ∀ j, j < sCc S n → g j = some (sSa S (sCh S n j))))
/-- a node with all below it -/
def sub (S : SV) (r : Nat → Nat → Int32) (w : gw) (tp : Nat → Nat) (N0 n e : Nat) : Prop := sEn S n = e ∧ n < e ∧ ∀ m, n ≤ m → m < e → sEn S m ≤ e ∧ nFs S r m ∧ nKd S r m ∧ oR S r w tp N0 m
theorem nFs_in {S : SV} {r : Nat → Nat → Int32} {n j : Nat} (h : nFs S r n) (hj : j < sCc S n) : n < sCh S n j ∧ sEn S (sCh S n j) ≤ sEn S n ∧ sCp S n j = sCh S n j := by
  obtain ⟨h1, h2, h3, h4, h5⟩ := h
  have hcp : ∀ j, j < sCc S n → sCp S n j = sCh S n j := fun j hj => if_pos hj
  have hup : ∀ j, j < sCc S n → n < sCh S n j := by
    intro j
    induction j with
    | zero =>
      intro hj
      rw [← hcp 0 hj, h4]
      omega
    | succ j ih =>
      intro hj
      have i1 := ih (by omega)
      obtain ⟨a, b, -⟩ := h5 j (by omega)
      rw [hcp (j + 1) hj] at b
      omega
  have hdn : ∀ d j, j + d + 1 = sCc S n → sEn S (sCh S n j) ≤ sEn S n := by
    intro d
    induction d with
    | zero =>
      intro j hj
      obtain ⟨a, b, -⟩ := h5 j (by omega)
      have e : sCp S n (j + 1) = sEn S n := if_neg (by omega)
      omega
    | succ d ih =>
      intro j hj
      have i1 := ih (j + 1) (by omega)
      obtain ⟨a, b, -⟩ := h5 j (by omega)
      obtain ⟨a', -⟩ := h5 (j + 1) (by omega)
      rw [hcp (j + 1) (by omega)] at b
      omega
  exact ⟨hup j hj, hdn (sCc S n - j - 1) j (by omega), hcp j hj⟩
section GH
variable {S S1 : SV} {r r1 : Nat → Nat → Int32} {w w1 : gw} {tp tp1 : Nat → Nat} {N0 n e : Nat}
theorem sub.in (h : sub S r w tp N0 n e) {m j : Nat} (h1 : n ≤ m) (h2 : m < e) (hj : j < sCc S m) : m < sCh S m j ∧ sCh S m j < e ∧ sEn S (sCh S m j) ≤ sEn S m := by
  obtain ⟨a, b, c, d⟩ := h.2.2 m h1 h2
  obtain ⟨x, y, z⟩ := nFs_in b hj
  have := (b.2.2.2.2 j hj).1
  exact ⟨x, by omega, y⟩
theorem sub.fr (h : sub S r w tp N0 n e) (hS : agr S S1 n e) (hr : ∀ m q, n ≤ m → m < e → q < 9 → (m ≠ n ∨ (q ≠ 6 ∧ q ≠ 8)) → r1 m q = r m q) (hw : ∀ a x, w.1 a = some x → N0 ≤ a → n ≤ tp a → tp a < e → w1.1 a = some x ∧ tp1 a = tp a) : sub S1 r1 w1 tp1 N0 n e := by
  have h' := h
  obtain ⟨h1, h2, h3⟩ := h
  refine ⟨(hS n (Nat.le_refl _) h2).2.2.2.1.trans h1, h2, fun m m1 m2 => ?_⟩
  obtain ⟨a1, a2, a3, a4⟩ := h3 m m1 m2
  obtain ⟨s1, s2, s3, s4, s5, s6⟩ := hS m m1 m2
  have kin : ∀ j, j < sCc S m → m < sCh S m j ∧ sCh S m j < e := fun j hj => by
    obtain ⟨x, y, -⟩ := h'.in m1 m2 hj
    exact ⟨x, y⟩
  have kid : ∀ j, j < sCc S m → sEq S S1 (sCh S m j) := fun j hj => hS _ (by have := (kin j hj).1; omega) (kin j hj).2
  have hr0 : ∀ q, q < 6 ∨ q = 7 → r1 m q = r m q := fun q hq => hr m q m1 m2 (by omega) (Or.inr (by omega))
  have hrk : ∀ j q, j < sCc S m → q < 9 → r1 (sCh S m j) q = r (sCh S m j) q := fun j q hj hq => by
    obtain ⟨x, y⟩ := kin j hj
    exact hr _ q (by omega) y hq (Or.inl (by omega))
  have eAt : ∀ j, sAt S1 m j = sAt S m j := fun j => by
    unfold sAt
    rw [s3, s1]
  have eCp : ∀ j, sCp S1 m j = sCp S m j := fun j => by
    unfold sCp
    rw [s3, s1, s4]
  have own : ∀ a x, w.1 a = some x → oWn tp N0 m a → w1.1 a = some x ∧ oWn tp1 N0 m a := fun a x hx ho => by
    obtain ⟨y1, y2⟩ := hw a x hx ho.1 (by rw [ho.2]; exact m1) (by rw [ho.2]; exact m2)
    exact ⟨y1, ho.1, y2.trans ho.2⟩
  have hpl : ∀ la mm g, pLR w tp N0 m la mm g → pLR w1 tp1 N0 m la mm g := fun la mm g z => by
    obtain ⟨z1, ea, cap, mc, z2, z3, z4, z5⟩ := z
    exact ⟨(own _ _ z3 z1).2, ea, cap, mc, (own _ _ z4 z2).2, (own _ _ z3 z1).1, (own _ _ z4 z2).1, z5⟩
  refine ⟨by rw [s4]; exact a1, ?_, ?_, ?_⟩
  · obtain ⟨b1, b2, b3, b4, b5⟩ := a2
    refine ⟨by rw [s4]; exact b1, by rw [hr0 0 (by omega), s2]; exact b2, by rw [hr0 5 (by omega), eAt]; exact b3, by rw [eCp]; exact b4, fun j hj => ?_⟩
    rw [s3] at hj
    obtain ⟨c1, c2, c3, c4⟩ := b5 j hj
    rw [s1, (kid j hj).2.2.2.1, eCp, eAt, hrk j 6 hj (by omega), hrk j 8 hj (by omega)]
    exact ⟨c1, c2, c3, c4⟩
  · unfold nKd
    rw [s2, s3, s6]
    rcases a3 with z | z | z | z | z | z | z
    · exact Or.inl ⟨z.1, z.2.1, fun j hj => by rw [s1, (kid j hj).2.1, (kid j hj).2.2.2.2.2]; exact z.2.2 j hj⟩
    · refine Or.inr (Or.inl ?_)
      rw [hr0 1 (by omega), hr0 2 (by omega), hr0 3 (by omega), hr0 4 (by omega)]
      exact z
    · refine Or.inr (Or.inr (Or.inl ?_))
      rw [hr0 1 (by omega)]
      exact z
    · refine Or.inr (Or.inr (Or.inr (Or.inl ?_)))
      rw [hr0 1 (by omega), hr0 2 (by omega)]
      exact z
    · refine Or.inr (Or.inr (Or.inr (Or.inr (Or.inl ?_))))
      rw [hr0 1 (by omega), hr0 2 (by omega)]
      exact z
    · refine Or.inr (Or.inr (Or.inr (Or.inr (Or.inr (Or.inl ?_)))))
      rw [hr0 1 (by omega)]
      exact ⟨z.1, z.2.1, z.2.2.1, fun j hj => by rw [s1, (kid j (by omega)).2.1, (kid j (by omega)).2.2.2.2.2]; exact z.2.2.2 j hj⟩
    · refine Or.inr (Or.inr (Or.inr (Or.inr (Or.inr (Or.inr ?_)))))
      rw [hr0 1 (by omega)]
      exact ⟨z.1, z.2.1, z.2.2.1, z.2.2.2.1, fun j hj => by rw [s1, (kid j hj).2.1, (kid j hj).2.2.2.2.2]; exact z.2.2.2.2 j hj⟩
  · obtain ⟨b0, b⟩ := a4
    unfold oR
    rw [s5, s2, s3]
    rcases b with ⟨z0, la, g, z1, z2, z3⟩ | ⟨z0, z⟩ | ⟨z0, z⟩ | ⟨z0, z⟩ | ⟨z0, z⟩ | ⟨z0, z⟩ | ⟨z0, la, g, z1, z2, z3⟩
    · exact ⟨(own _ _ z1 b0).2, Or.inl ⟨z0, la, g, (own _ _ z1 b0).1, hpl _ _ _ z2, fun j hj => by rw [s1, (kid j hj).2.2.2.2.1]; exact z3 j hj⟩⟩
    · refine ⟨(own _ _ z b0).2, Or.inr (Or.inl ⟨z0, ?_⟩)⟩
      rw [hr0 7 (by omega), hr0 1 (by omega), hr0 2 (by omega), hr0 3 (by omega), hr0 4 (by omega)]
      exact (own _ _ z b0).1
    · refine ⟨(own _ _ z b0).2, Or.inr (Or.inr (Or.inl ⟨z0, ?_⟩))⟩
      rw [hr0 7 (by omega), hr0 1 (by omega)]
      exact (own _ _ z b0).1
    · refine ⟨(own _ _ z b0).2, Or.inr (Or.inr (Or.inr (Or.inl ⟨z0, ?_⟩)))⟩
      rw [hr0 7 (by omega), hr0 1 (by omega), hr0 2 (by omega)]
      exact (own _ _ z b0).1
    · refine ⟨(own _ _ z b0).2, Or.inr (Or.inr (Or.inr (Or.inr (Or.inl ⟨z0, ?_⟩))))⟩
      rw [hr0 7 (by omega), hr0 1 (by omega), hr0 2 (by omega), hr0 3 (by omega)]
      exact (own _ _ z b0).1
    · refine ⟨(own _ _ z b0).2, Or.inr (Or.inr (Or.inr (Or.inr (Or.inr (Or.inl ⟨z0, ?_⟩)))))⟩
      have h2c : sCc S m = 2 := by
        rcases a3 with y | y | y | y | y | y | y
        · omega
        · omega
        · omega
        · omega
        · omega
        · exact y.2.1
        · omega
      rw [hr0 7 (by omega), hr0 1 (by omega), hr0 2 (by omega), s1, s1, (kid 0 (by omega)).2.2.2.2.1, (kid 1 (by omega)).2.2.2.2.1]
      exact (own _ _ z b0).1
    · refine ⟨(own _ _ z1 b0).2, Or.inr (Or.inr (Or.inr (Or.inr (Or.inr (Or.inr ⟨z0, la, g, ?_, hpl _ _ _ z2, fun j hj => by rw [s1, (kid j hj).2.2.2.2.1]; exact z3 j hj⟩)))))⟩
      rw [hr0 7 (by omega), hr0 1 (by omega)]
      exact (own _ _ z1 b0).1
/-- the node's object is one that lists hold -/
theorem sub.cls (h : sub S r w tp N0 n e) : ∃ c fs, w.1 (sSa S n) = some (.inl (c, fs)) ∧ gAsg 2 c = true := by
  obtain ⟨-, h2, h3⟩ := h
  obtain ⟨-, -, -, -, b⟩ := h3 n (Nat.le_refl _) h2
  rcases b with ⟨z0, la, g, z1, z2, z3⟩ | ⟨z0, z⟩ | ⟨z0, z⟩ | ⟨z0, z⟩ | ⟨z0, z⟩ | ⟨z0, z⟩ | ⟨z0, la, g, z1, z2, z3⟩
  · exact ⟨_, _, z1, by decide⟩
  · exact ⟨_, _, z, by decide⟩
  · exact ⟨_, _, z, by decide⟩
  · exact ⟨_, _, z, by decide⟩
  · exact ⟨_, _, z, by decide⟩
  · exact ⟨_, _, z, by decide⟩
  · exact ⟨_, _, z1, by decide⟩
theorem sSet_n (S : SV) (n kd cc en sa lv : Nat) (ch : Nat → Nat) : (∀ j, sCh (sSet S n kd cc en sa lv ch) n j = ch j) ∧ sKd (sSet S n kd cc en sa lv ch) n = kd ∧ sCc (sSet S n kd cc en sa lv ch) n = cc ∧ sEn (sSet S n kd cc en sa lv ch) n = en ∧ sSa (sSet S n kd cc en sa lv ch) n = sa ∧ sLv (sSet S n kd cc en sa lv ch) n = lv := by
  unfold sSet sCh sKd sCc sEn sSa sLv
  refine ⟨fun j => if_pos rfl, ?_, ?_, ?_, ?_, ?_⟩ <;> simp
theorem sSet_m (S : SV) {n m : Nat} (kd cc en sa lv : Nat) (ch : Nat → Nat) (h : m ≠ n) : sEq S (sSet S n kd cc en sa lv ch) m := by
  unfold sSet sEq sCh sKd sCc sEn sSa sLv
  refine ⟨fun j => if_neg h, ?_, ?_, ?_, ?_, ?_⟩ <;> simp [h]
theorem sEq.rf {S : SV} {m : Nat} : sEq S S m := ⟨fun _ => rfl, rfl, rfl, rfl, rfl, rfl⟩
theorem sEq.tr {S S1 S2 : SV} {m : Nat} (h : sEq S S1 m) (h' : sEq S1 S2 m) : sEq S S2 m := ⟨fun j => (h'.1 j).trans (h.1 j), h'.2.1.trans h.2.1, h'.2.2.1.trans h.2.2.1, h'.2.2.2.1.trans h.2.2.2.1, h'.2.2.2.2.1.trans h.2.2.2.2.1, h'.2.2.2.2.2.trans h.2.2.2.2.2⟩
theorem agr.tr {S S1 S2 : SV} {lo hi : Nat} (h : agr S S1 lo hi) (h' : agr S1 S2 lo hi) : agr S S2 lo hi := fun m a b => (h m a b).tr (h' m a b)
theorem agr.rf {S : SV} {lo hi : Nat} : agr S S lo hi := fun _ _ _ => sEq.rf
theorem agr.sub {S S1 : SV} {lo hi lo1 hi1 : Nat} (h : agr S S1 lo hi) (h1 : lo ≤ lo1) (h2 : hi1 ≤ hi) : agr S S1 lo1 hi1 := fun m a b => h m (by omega) (by omega)
end GH
