set_option maxRecDepth 100000
/-! A PARALLEL's RUN: counts, one body's look -/
def oCount (out : Nat → Option Nat) (v : Nat) : Nat → Nat
  | 0 => 0
  | m + 1 => oCount out v m + (if out m = some v then 1 else 0)
theorem many_loop {w : gw} {a oa m v : Nat} {f0 f1 f2 f3 f5 f6 : gv} {out : Nat → Option Nat} (ha : w.1 a = some (.inl (22, [f0, f1, f2, f3, ga (some oa), f5, f6]))) (ho : w.1 oa = some (.inr (6, m, .inr out))) (hm : m < 1000) : ∀ (r j fuel : Nat), j + r = m → r < fuel → gL3 (bf_X22_many_1 a) fuel (some v) (nI (oCount out v j)) (nI j) w = some (nI (oCount out v m), w) := by
  intro r
  induction r with
  | zero =>
    intro j fuel hj hf
    obtain ⟨fu, rfl⟩ : ∃ fu, fuel = fu + 1 := ⟨fuel - 1, by omega⟩
    obtain rfl : j = m := by omega
    show bf_X22_many_1 a (gL3 (bf_X22_many_1 a) fu) (some v) (nI (oCount out v j)) (nI j) w = _
    generalize gL3 (bf_X22_many_1 a) fu = KK
    unfold bf_X22_many_1
    rw [pu_R (k := 4) ha rfl, pu_B1, pu_B1, pu_Len ho, pu_B1, if_pos (Int32.le_refl _)]
  | succ r ih =>
    intro j fuel hj hf
    obtain ⟨fu, rfl⟩ : ∃ fu, fuel = fu + 1 := ⟨fuel - 1, by omega⟩
    have h1 := ih (j + 1) fu (by omega) (by omega)
    show bf_X22_many_1 a (gL3 (bf_X22_many_1 a) fu) (some v) (nI (oCount out v j)) (nI j) w = _
    generalize gL3 (bf_X22_many_1 a) fu = KK at h1 ⊢
    unfold bf_X22_many_1
    rw [pu_R (k := 4) ha rfl, pu_B1, pu_B1, pu_Len ho, pu_B1, if_neg (nI_ge (show j < m by omega) (by omega)), pu_B1, pu_B1, pu_LdR ho (show j < m by omega) (by omega), pu_B1, pu_Bd]
    unfold f_X0_bit
    by_cases hc : out j = some v
    · have hr : oCount out v (j + 1) = oCount out v j + 1 := by
        show oCount out v j + (if out j = some v then 1 else 0) = _
        rw [if_pos hc]
      rw [if_pos hc]
      try dsimp only
      rw [if_neg (by decide), pu_B2, pu_Bd, pu_Bd, nI_add, nI_add, ← hr]
      exact h1
    · have hr : oCount out v (j + 1) = oCount out v j := by
        show oCount out v j + (if out j = some v then 1 else 0) = _
        rw [if_neg hc]
        rfl
      rw [if_neg hc]
      try dsimp only
      rw [if_pos (by decide), pu_B2, pu_Bd, pu_Bd, nI_add, nI_add, Nat.add_zero, ← hr]
      exact h1
theorem pf_many {w : gw} {a oa m v : Nat} {f0 f1 f2 f3 f5 f6 : gv} {out : Nat → Option Nat} (ha : w.1 a = some (.inl (22, [f0, f1, f2, f3, ga (some oa), f5, f6]))) (ho : w.1 oa = some (.inr (6, m, .inr out))) (hm : m < 1000) : f_X22_many a (some v) w = some (nI (oCount out v m), w) := by
  rw [f_X22_many_eq]
  exact many_loop ha ho hm m 0 20000 (by omega) (by omega)
theorem can_K {w : gw} {tg : pT} (h : pCo w tg) : gCan w 6 (some (w.2.2.2 2)) = true ∧ gCan w 6 (some (w.2.2.2 3)) = true ∧ gCan w 6 (some (w.2.2.2 4)) = true := by
  obtain ⟨-, h1, h2, h3, h4⟩ := h
  have a2 := (h1 2 (by omega) (by omega)).1
  have a3 := (h1 3 (by omega) (by omega)).1
  have a4 := (h1 4 (by omega) (by omega)).1
  refine ⟨?_, ?_, ?_⟩
  · unfold gCan gCls
    simp only [a2, if_true]
    decide
  · unfold gCan gCls
    simp only [a3, if_neg (Ne.symm h2), if_true]
    decide
  · unfold gCan gCls
    simp only [a4, if_neg (Ne.symm h3), if_neg (Ne.symm h4), if_true]
    decide
/-- a parallel's own cells -/
def pCell (S : SV) (xa ia n a ba oa : Nat) (und : Option Nat) (ptr out : Nat → Option Nat) (w : gw) (tg : pT) : Prop := tg a = (ia, n) ∧ w.1 a = some (.inl (22, [ga (some ia), ga (some xa), ga (some (sSa S n)), ga (some ba), ga (some oa), ga und, ga (some xa)])) ∧
  tg ba = (ia, n) ∧ w.1 ba = some (.inr (5, sCc S n, .inr ptr)) ∧ tg oa = (ia, n) ∧ w.1 oa = some (.inr (6, sCc S n, .inr out))
/-- one body of a parallel -/
def pKid (S : SV) (xa ia i l : Nat) (w : gw) (tg : pT) (s : Nat → Int32) (T : Nat) (q : Bool) (n : Nat) (ptr out : Nat → Option Nat) (k : Nat) : Prop := ∃ a', ptr k = some a' ∧ rB S xa ia i w tg s T q l (sCh S n k) a' ∧
  (out k = some (w.2.2.2 2) ∧ s (21 + 1262 * (i) + (622 + 10 * (sCh S n k) + 0)) = nI 1 ∨ out k = some (w.2.2.2 3) ∧ s (21 + 1262 * (i) + (622 + 10 * (sCh S n k) + 0)) = nI 2 ∨ out k = some (w.2.2.2 4) ∧ (s (21 + 1262 * (i) + (622 + 10 * (sCh S n k) + 0)) = nI 3 ∨ s (21 + 1262 * (i) + (622 + 10 * (sCh S n k) + 0)) = nI 4))
/-- the places that a look at the k-th body may write -/
def pPk (S : SV) (mo ia n k : Nat) : Nat × Nat → Prop := fun t => pP mo ia (sCh S n k) (sEn S (sCh S n k)) t ∨ t = (ia, n)
section PA
variable {S : SV} {σ : TS} {xa mo ia i ver T : Nat} {bo un : Option Nat}
/-- the component's round, the body there -/
def kAll (a0 : Nat) (rec : Nat → gw → Option (Option Nat × gw)) (k3 : Int32 → gw → Option (Unit × gw)) (x13 : Int32) (w12 : gw) : Option (Unit × gw) := gB1 (gR w12 a0 22 4) fun r14 => gB1 r14 fun a15 => gB1 (gLdR w12 a15 6 x13) fun r16 => gB1 r16 fun a17 => gB1 (gOver w12 a17) fun x19 => gBd (fun (x22 : Int32) (w21 : gw) => gBd (x22 + (nI 1)) fun x23 => k3 x23 w21) fun k20 => if x19 = 0 then gB1 (gR w12 a0 22 4) fun r25 => gB1 (gR w12 a0 22 3) fun r26 => gB1 r26 fun a27 => gB1 (gLdR w12 a27 5 x13) fun r28 => gB1 r28 fun a29 => gB2 (rec a29  w12) fun r31 w30 => gB1 r25 fun a32 => gB1 (gStR w30 a32 6 x13 r31) fun w33 => k20 x13 w33 else k20 x13 w12
/-- a body that runs: one look -/
theorem kid_look {n a ba oa l k D κ : Nat} {und : Option Nat} {ptr out : Nat → Option Nat} {w : gw} {tg : pT} {s : Nat → Int32} {B : Nat} {tr : Option (Int32 × TS)} (hW : pW S σ xa mo ia i ver T w tg s B bo un) (hn : n < sEn S 0) (hk6 : sKd S n = 6) (hkc : k < sCc S n)
    (hc : pCell S xa ia n a ba oa und ptr out w tg) {a' : Nat} (hp : ptr k = some a') (ho : out k = some (w.2.2.2 2)) (hres : pResB κ S σ xa mo ia i ver T l (sCh S n k) a' w tg s (B + 256 * (sEn S (sCh S n k) - sCh S n k)) bo un (f_Run_looks D a' w) tr) :
    ∃ w1 tg1 s1 x out1, (∀ KK : Int32 → gw → Option (Unit × gw), kAll a (f_Run_looks D) KK (nI k) w = KK (nI (k + 1)) w1) ∧ tr = some (x, tS σ s1) ∧ pW S σ xa mo ia i ver T w1 tg1 s1 (B + 256 * (sEn S (sCh S n k) - sCh S n k)) bo un ∧
      pFr w w1 tg tg1 (pPk S mo ia n k) ∧ pQ i (sCh S n k) (sEn S (sCh S n k)) s s1 ∧ pRk κ i w w1 s s1 ∧ pPe i s s1 ∧ pCell S xa ia n a ba oa und ptr out1 w1 tg1 ∧ (∀ j, j ≠ k → out1 j = out j) ∧ pKid S xa ia i l w1 tg1 s1 T true n ptr out1 k := by
  have hS : sWf S := hW.1.2.2.1
  have hNs : sEn S 0 ≤ 64 := hS.1
  have hi : i < 6 := hW.1.2.1
  have hia := hW.1.1
  have hN := hS.2.2.2.2.2 n hn
  have hNn := hN.1.2.1
  obtain ⟨hc1, hc4, -, hch⟩ := par_ch hS hn hk6
  have hi' := sNode_in hN hkc
  have hcN := sWf_lt hS hn hkc
  obtain ⟨w1, tg1, s1, o, x, r1, r2, r3, r4, r5, r6, r7, r8⟩ := hres
  obtain ⟨a1, a2, a3, a4, a5, a6⟩ := hc
  have hmoia : mo ≠ ia := by
    obtain ⟨du, fa, ins, va, pe, hi2, dl, f10, f11, f12, c1, c2, -⟩ := hW.cells
    exact ne_of c1 c2 (by simp)
  have hPn : ¬ pP mo ia (sCh S n k) (sEn S (sCh S n k)) (ia, n) := by
    rintro (z | z)
    · have := z.2
      simp only at this
      omega
    · exact hmoia (congrArg Prod.fst z).symm
  have b1 := r4.at hW.bd a2 (by rw [a1]; exact hPn)
  have b2 := r4.at hW.bd a4 (by rw [a3]; exact hPn)
  have b3 := r4.at hW.bd a6 (by rw [a5]; exact hPn)
  have hK : w1.2.2.2 = w.2.2.2 := r4.2.2.1
  have hov := pf_over hW.2.1
  have hcan : gCan w1 6 (some o) = true := by
    obtain ⟨z1, z2, z3⟩ := can_K r3.2.1
    rcases r8 with z | z | z
    · rw [z.1]; exact z1
    · rw [z.1]; exact z2
    · rw [z.1]; exact z3
  have hW2 := r3.put (e := .inr (6, sCc S n, .inr (va_up out k (some o)))) b3.1 (b3.2.trans a5) (by omega)
  have n1 : a ≠ oa := ne_of a2 a6 (by simp)
  have n2 : ba ≠ oa := ne_of a4 a6 (by simp)
  have hf2 : pFr w1 (hs w1 oa (.inr (6, sCc S n, .inr (va_up out k (some o))))) tg1 tg1 (fun t => t = (ia, n)) := pFr.hs r3.bd b3.1 (b3.2.trans a5)
  have hRB : rB S xa ia i w1 tg1 s1 T true l (sCh S n k) a' := by
    rcases r8 with z | z | z
    · exact z.2.2.2
    · exact z.2.2.2.2
    · exact z.2.2.2.2
  have hRB2 := (rB_fr (q := true) (q1 := true) (T := T) (T1 := T) (w := w1) (tg := tg1) (s := s1) hS (w1 := hs w1 oa (.inr (6, sCc S n, .inr (va_up out k (some o))))) (tg1 := tg1) (s1 := s1) rfl (fun _ => ⟨rfl, fun _ _ z => z⟩) (Nat.le_refl _) l).1 _ a' hcN (hch k hkc).1 (hf2.aW r3.bd (fun t ht z => by
    rw [z] at ht
    rcases ht with ht | ht
    · have := ht.2.1
      simp only at this
      omega
    · exact hia (congrArg Prod.fst ht))) (aS.aY hS hcN (fun _ _ _ _ _ => rfl)) hRB
  refine ⟨hs w1 oa (.inr (6, sCc S n, .inr (va_up out k (some o)))), tg1, s1, x, va_up out k (some o), fun KK => ?_, r2, hW2, (r4.mono (fun t z => Or.inl z)).tr (hf2.mono (fun t z => Or.inr z)), r5, r6, r7, ⟨b1.2.trans a1, (hs_ne n1).trans b1.1, b2.2.trans a3, (hs_ne n2).trans b2.1, b3.2.trans a5, hs_self _ _ _⟩, fun j hj => va_up_ne _ _ hj, a', hp, hRB2, ?_⟩
  · unfold kAll
    rw [pu_R (k := 4) a2 rfl, pu_B1, pu_B1, pu_LdR a6 hkc (by omega), pu_B1, ho, pu_B1, hov.1, pu_B1, pu_Bd, if_pos rfl, pu_B1, pu_R (k := 3) a2 rfl, pu_B1, pu_B1, pu_LdR a4 hkc (by omega), pu_B1, hp, pu_B1, r1, pu_B2, pu_B1, pu_StR b3.1 hkc (by omega) hcan, pu_B1]
    try dsimp only
    rw [pu_Bd, nI_add]
  · rw [va_up_self]
    rcases r8 with z | z | z
    · exact Or.inl ⟨by rw [z.1, hs_K], z.2.2.1⟩
    · exact Or.inr (Or.inl ⟨by rw [z.1, hs_K], z.2.2.1⟩)
    · exact Or.inr (Or.inr ⟨by rw [z.1, hs_K], Or.inl z.2.2.1⟩)
theorem all_there {n a ba oa k D : Nat} {und : Option Nat} {ptr out : Nat → Option Nat} {w : gw} {tg : pT} {v : Nat} (hcc : sCc S n ≤ 4) (hkc : k < sCc S n) (hc : pCell S xa ia n a ba oa und ptr out w tg) (ho : out k = some v) (KK : Int32 → gw → Option (Unit × gw)) : bf_X22_looksAtAll_1 a (f_Run_looks D) KK (nI k) w = kAll a (f_Run_looks D) KK (nI k) w := by
  obtain ⟨a1, a2, a3, a4, a5, a6⟩ := hc
  unfold bf_X22_looksAtAll_1
  rw [pu_R (k := 3) a2 rfl, pu_B1, pu_B1, pu_Len a4, pu_B1, if_neg (nI_ge hkc (by omega)), pu_R (k := 4) a2 rfl, pu_B1, pu_B1, pu_LdR a6 hkc (by omega), pu_B1, ho, pu_Bd, pu_Ns]
  rfl
/-- a body that has not begun: its run is made -/
theorem kid_new {n a ba oa k D : Nat} {und : Option Nat} {ptr out : Nat → Option Nat} {w : gw} {tg : pT} {s : Nat → Int32} {B : Nat} (hW : pW S σ xa mo ia i ver T w tg s B bo un) (hnn : n < sEn S 0) (hk6 : sKd S n = 6) (hkc : k < sCc S n) (hc : pCell S xa ia n a ba oa und ptr out w tg) (ho : out k = none) (r0 : w.2.1 + 4 ≤ w.2.2.2 0) (r1 : w.2.2.1 + 48 ≤ w.2.2.2 1) :
    ∃ a' w1 tg1, (∀ KK : Int32 → gw → Option (Unit × gw), bf_X22_looksAtAll_1 a (f_Run_looks D) KK (nI k) w = kAll a (f_Run_looks D) KK (nI k) w1) ∧ pW S σ xa mo ia i ver T w1 tg1 s B bo un ∧ pFr w w1 tg tg1 (fun t => t = (ia, n)) ∧ w1.2.1 ≤ w.2.1 + 4 ∧ w1.2.2.1 ≤ w.2.2.1 + 48 ∧
      pCell S xa ia n a ba oa und (va_up ptr k (some a')) (va_up out k (some (w1.2.2.2 2))) w1 tg1 ∧ rBf S xa ia w1 tg1 (sCh S n k) a' := by
  have hS : sWf S := hW.1.2.2.1
  have hNs : sEn S 0 ≤ 64 := hS.1
  have hia := hW.1.1
  have hb := hW.bd
  have hN := hS.2.2.2.2.2 n hnn
  obtain ⟨hc1, hc4, -, hch⟩ := par_ch hS hnn hk6
  obtain ⟨a1, a2, a3, a4, a5, a6⟩ := hc
  have hmoia : mo ≠ ia := by
    obtain ⟨du, fa, ins, va, pe, hi2, dl, f10, f11, f12, c1, c2, -⟩ := hW.cells
    exact ne_of c1 c2 (by simp)
  obtain ⟨la, g, ea, cap, mc, o3, o4, o5, o6, o7, o8⟩ : ∃ la g ea cap mc, w.1 (sSa S n) = some (.inl (14, [gi (sP S n 7), ga (some la), gi (sP S n 1)])) ∧ w.1 la = some (.inl (8, [gi mc, ga (some ea), gi (nI (sCc S n))])) ∧ w.1 ea = some (.inr (2, cap, .inr g)) ∧ sCc S n ≤ cap ∧ cap < 1000 ∧ ∀ j, j < sCc S n → g j = some (sSa S (sCh S n j)) := by
    obtain ⟨-, o2⟩ := hW.2.2.1 n hnn
    rcases o2 with z | z | z | z | z | z | ⟨-, la, g, z1, ⟨-, ea, cap, mc, -, z2, z3, z4, z5⟩, z6⟩
    · omega
    · omega
    · omega
    · omega
    · omega
    · omega
    · exact ⟨la, g, ea, cap, mc, z1, z2, z3, z4, z5, z6⟩
  have na := hb _ _ a2
  have nba := hb _ _ a4
  have noa := hb _ _ a6
  have nS := hb _ _ o3
  have nla := hb _ _ o4
  have nea := hb _ _ o5
  have e1 := pu_New (w := w) (ci := 18) (n := 7) (fs := [ga none, ga none, ga none, ga none, gi 0, ga none, ga none]) rfl (by omega) (by omega)
  obtain ⟨W1, hW1⟩ : ∃ W1, hn w (.inl (18, [ga none, ga none, ga none, ga none, gi 0, ga none, ga none])) 7 = W1 := ⟨_, rfl⟩
  have g1 : W1.1 w.2.1 = some (.inl (18, [ga none, ga none, ga none, ga none, gi 0, ga none, ga none])) := by rw [← hW1, hn_self]
  have g2 : ∀ b, b < w.2.1 → W1.1 b = w.1 b := fun b h => by rw [← hW1, hn_ne (by omega)]
  have g3 : W1.2 = (w.2.1 + 1, w.2.2.1 + 7, w.2.2.2) := by rw [← hW1, hn_2]
  have g4 : pBd W1 := by rw [← hW1]; exact (pFr.hn (P := fun _ => True) (tg := fun _ => (0, 0)) hb _ _ (0, 0)).1
  obtain ⟨w2, p1, p2, p3, p4, p5, p6, p7⟩ := pf_init18 (xa := xa) (ia := ia) (r := some (sSa S (sCh S n k))) g1 g4 (by rw [g3]; show w.2.1 + 1 + 2 ≤ w.2.2.2 0; omega) (by rw [g3]; show w.2.2.1 + 7 + 26 ≤ w.2.2.2 1; omega)
  have g5 : W1.2.1 = w.2.1 + 1 := by rw [g3]
  rw [g5] at p2 p3 p4 p5
  have p6' : w2.2 = (w.2.1 + 3, w.2.2.1 + 33, w.2.2.2) := by rw [p6, g3]
  have hold : ∀ b, b < w.2.1 → w2.1 b = w.1 b := fun b h => (p5 b (by omega) (by omega)).trans (g2 b h)
  obtain ⟨tg1, htg⟩ : ∃ tg1 : pT, tg1 = fun x => if x < w.2.1 then tg x else (ia, sCh S n k) := ⟨_, rfl⟩
  have t1 : ∀ x, x < w.2.1 → tg1 x = tg x := fun x hx => by rw [htg]; exact if_pos hx
  have t2 : ∀ x, ¬ x < w.2.1 → tg1 x = (ia, sCh S n k) := fun x hx => by rw [htg]; exact if_neg hx
  have hf1 : pFr w w2 tg tg1 (fun t => t = (ia, n)) := ⟨p7, by rw [p6']; show w.2.1 ≤ w.2.1 + 3; omega, by rw [p6'], t1, fun x hx _ => hold x hx⟩
  have hcan5 : gCan w2 5 (some w.2.1) = true := pu_Can p2 (by decide)
  obtain ⟨w3, hw3⟩ : ∃ w3, hs w2 ba (.inr (5, sCc S n, .inr (va_up ptr k (some w.2.1)))) = w3 := ⟨_, rfl⟩
  have b2 : w2.1 ba = some (.inr (5, sCc S n, .inr ptr)) := (hold _ nba).trans a4
  have n1 : a ≠ oa := ne_of a2 a6 (by simp)
  have n2 : ba ≠ oa := ne_of a4 a6 (by simp)
  have n3 : a ≠ ba := ne_of a2 a4 (by simp)
  have hf2 : pFr w2 w3 tg1 tg1 (fun t => t = (ia, n)) := by
    rw [← hw3]
    exact pFr.hs p7 b2 ((t1 _ nba).trans a3)
  have b3 : w3.1 oa = some (.inr (6, sCc S n, .inr out)) := by rw [← hw3, hs_ne n2.symm]; exact (hold _ noa).trans a6
  have b4 : w3.1 a = some (.inl (22, [ga (some ia), ga (some xa), ga (some (sSa S n)), ga (some ba), ga (some oa), ga und, ga (some xa)])) := by rw [← hw3, hs_ne n3]; exact (hold _ na).trans a2
  have hnia : ∀ j, 64 ≤ j → ¬ ((ia, j) = (ia, n)) := fun j hj z => by
    have : j = n := congrArg Prod.snd z
    omega
  have hW3 : pW S σ xa mo ia i ver T w3 tg1 s B bo un := hW.fr (hf1.tr hf2) (fun z => hia (congrArg Prod.fst z).symm) (fun j z => hmoia (congrArg Prod.fst z)) hnia
  have hK3 : w3.2.2.2 = w.2.2.2 := (hf1.tr hf2).2.2.1
  have hcan6 := (can_K hW3.2.1).1
  have hf3 : pFr w3 (hs w3 oa (.inr (6, sCc S n, .inr (va_up out k (some (w3.2.2.2 2)))))) tg1 tg1 (fun t => t = (ia, n)) := pFr.hs hW3.bd b3 ((t1 _ noa).trans a5)
  have hw32 : w3.2 = (w.2.1 + 3, w.2.2.1 + 33, w.2.2.2) := by rw [← hw3]; exact p6'
  have n4 : w.2.1 ≠ ba := by omega
  have n5 : w.2.1 ≠ oa := by omega
  refine ⟨w.2.1, hs w3 oa (.inr (6, sCc S n, .inr (va_up out k (some (w3.2.2.2 2))))), tg1, fun KK => ?_, hW3.put b3 ((t1 _ noa).trans a5) (by omega), (hf1.tr hf2).tr hf3, by rw [hs_2, hw32]; show w.2.1 + 3 ≤ _; omega, by rw [hs_2, hw32]; show w.2.2.1 + 33 ≤ _; omega, ⟨(t1 _ na).trans a1, (hs_ne n1).trans b4, (t1 _ nba).trans a3, (hs_ne n2).trans (by rw [← hw3, hs_self]), (t1 _ noa).trans a5, hs_self _ _ _⟩, t2 _ (by omega), w.2.1 + 1, w.2.1 + 1 + 1, fun _ => 0, ?_, t2 _ (by omega), ?_, t2 _ (by omega), ?_⟩
  · have hget := pf_get (w := W1) (j := k) ((g2 _ nla).trans o4) ((g2 _ nea).trans o5) hkc o6 o7
    rw [o8 k hkc] at hget
    have hck : gCk W1 [5] (some (sSa S (sCh S n k))) = some (some (sSa S (sCh S n k))) := by
      obtain ⟨la2, g2', ea2, cap2, mc2, z1, -⟩ := sBody hW.2.2.1 (sWf_lt hS hnn hkc) (hch k hkc).1
      show (match gCls W1 (sSa S (sCh S n k)) with | some c => if ([5] : List Nat).contains c then some (some (sSa S (sCh S n k))) else none | none => none) = _
      rw [pu_Cls ((g2 _ (hb _ _ z1)).trans z1)]
      rfl
    have c2 := (g2 _ na).trans a2
    have c3 := (g2 _ nS).trans o3
    have c4 := (g2 _ nla).trans o4
    unfold bf_X22_looksAtAll_1
    rw [pu_R (k := 3) a2 rfl, pu_B1, pu_B1, pu_Len a4, pu_B1, if_neg (nI_ge hkc (by omega)), pu_R (k := 4) a2 rfl, pu_B1, pu_B1, pu_LdR a6 hkc (by omega), pu_B1, ho, pu_Bd, pu_Nn, pu_B1, e1, pu_B2, hW1, pu_R (k := 6) c2 rfl, pu_B1, pu_R (k := 0) c2 rfl, pu_B1, pu_R (k := 2) c2 rfl, pu_B1, pu_B1, pu_R (k := 1) c3 rfl, pu_B1, pu_B1, pu_Ob c4, pu_B1, hget, pu_B2, hck, pu_B1, p1, pu_B2, pu_B1, pu_StR b2 hkc (by omega) hcan5, pu_B1, hw3, pu_R (k := 4) b4 rfl, pu_B1, pu_B1, pu_StR b3 hkc (by omega) hcan6, pu_B1]
    rfl
  · rw [hs_ne n5, ← hw3, hs_ne n4, p2, show (0 : Int32) = nI 0 by decide]
  · rw [hs_ne (by omega), ← hw3, hs_ne (by omega), p3]
  · rw [hs_ne (by omega), ← hw3, hs_ne (by omega), p4]
/-- a body that is over: passed by -/
theorem kid_over {n a ba oa k D : Nat} {und : Option Nat} {ptr out : Nat → Option Nat} {w : gw} {tg : pT} {s : Nat → Int32} {B : Nat} (hW : pW S σ xa mo ia i ver T w tg s B bo un) (hcc : sCc S n ≤ 4) (hkc : k < sCc S n) (hc : pCell S xa ia n a ba oa und ptr out w tg) (ho : out k = some (w.2.2.2 3) ∨ out k = some (w.2.2.2 4)) :
    ∀ KK : Int32 → gw → Option (Unit × gw), bf_X22_looksAtAll_1 a (f_Run_looks D) KK (nI k) w = KK (nI (k + 1)) w := by
  intro KK
  obtain ⟨a1, a2, a3, a4, a5, a6⟩ := hc
  have hov := pf_over hW.2.1
  unfold bf_X22_looksAtAll_1
  rcases ho with ho | ho
  · rw [pu_R (k := 3) a2 rfl, pu_B1, pu_B1, pu_Len a4, pu_B1, if_neg (nI_ge hkc (by omega)), pu_R (k := 4) a2 rfl, pu_B1, pu_B1, pu_LdR a6 hkc (by omega), pu_B1, ho, pu_Bd, pu_Ns]
    try dsimp only
    rw [pu_R (k := 4) a2 rfl, pu_B1, pu_B1, pu_LdR a6 hkc (by omega), pu_B1, ho, pu_B1, hov.2.1, pu_B1, pu_Bd, if_neg (by decide)]
    try dsimp only
    rw [pu_Bd, nI_add]
  · rw [pu_R (k := 3) a2 rfl, pu_B1, pu_B1, pu_Len a4, pu_B1, if_neg (nI_ge hkc (by omega)), pu_R (k := 4) a2 rfl, pu_B1, pu_B1, pu_LdR a6 hkc (by omega), pu_B1, ho, pu_Bd, pu_Ns]
    try dsimp only
    rw [pu_R (k := 4) a2 rfl, pu_B1, pu_B1, pu_LdR a6 hkc (by omega), pu_B1, ho, pu_B1, hov.2.2, pu_B1, pu_Bd, if_neg (by decide)]
    try dsimp only
    rw [pu_Bd, nI_add]
end PA
