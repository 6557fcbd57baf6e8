set_option maxRecDepth 100000
/-! A PARALLEL's RUN: the whole of cancels; a parallel that breaks -/
theorem pSum_mem {f : Nat → Nat} : ∀ N a, a < N → f a ≤ pSum f N := by
  intro N
  induction N with
  | zero => intro a h; omega
  | succ N ih =>
    intro a h
    show f a ≤ pSum f N + f N
    by_cases ha : a = N
    · rw [ha]; omega
    · have := ih a (by omega)
      omega
section PD
variable {S : SV} {σ : TS} {xa mo ia i ver T : Nat} {bo un : Option Nat}
theorem can_all {n l a ba oa B : Nat} {ptr out : Nat → Option Nat} {w : gw} {tg : pT} {s : Nat → Int32} (hl3 : l ≤ 4) (hW : pW S σ xa mo ia i ver T w tg s B bo un) (hB : B + 4 < 2 ^ 31) (hnn : n < sEn S 0) (hk6 : sKd S n = 6) (hc : pCell S xa ia n a ba oa none ptr out w tg) (hK : ∀ j, j < sCc S n → pKid S xa ia i l w tg s T true n ptr out j) (r0 : w.2.1 + 2 ≤ w.2.2.2 0) (r1 : w.2.2.1 + 26 ≤ w.2.2.2 1) (x5 : Int32) :
    ∃ w1 tg1 s1 out1 L1 f1 td da fu, f_X22_cancels a x5 w = gL3 (bf_X22_cancels_1 a) fu x5 (some td) (nI (sCc S n)) w1 ∧ 1 ≤ fu ∧ t_X2_cancelsBodies (nI i) (nI n) (tS σ s) = some ((), tS σ s1) ∧ pW S σ xa mo ia i ver T w1 tg1 s1 (B + 4) bo un ∧ w1.2 = (w.2.1 + 2, w.2.2.1 + 26, w.2.2.2) ∧ pFr w w1 tg tg1 (fun t => t = (ia, n) ∨ t = (ia, 64) ∨ t = (ia, 67)) ∧ pQ i (n + 1) (sEn S n) s s1 ∧ pPe i s s1 ∧ (∀ m, m < 64 → s1 (21 + 1262 * (i) + (622 + 10 * (m) + 0)) = s (21 + 1262 * (i) + (622 + 10 * (m) + 0)) ∨ s1 (21 + 1262 * (i) + (622 + 10 * (m) + 0)) = nI 4) ∧ (∀ j, j < sCc S n → s (21 + 1262 * (i) + (622 + 10 * (sCh S n j) + 0)) ≠ nI 1 → s1 (21 + 1262 * (i) + (622 + 10 * (sCh S n j) + 0)) = s (21 + 1262 * (i) + (622 + 10 * (sCh S n j) + 0))) ∧
      pCell S xa ia n a ba oa none ptr out1 w1 tg1 ∧ (∀ j, j < sCc S n → pKid S xa ia i l w1 tg1 s1 T true n ptr out1 j) ∧ (∀ j, j < sCc S n → s1 (21 + 1262 * (i) + (622 + 10 * (sCh S n j) + 0)) ≠ nI 1) ∧ pStc tg1 td ∧ w1.1 td = some (.inl (19, [ga (some da), gi (nI L1.length)])) ∧ pStc tg1 da ∧ w1.1 da = some (.inr (0, 24, .inl f1)) ∧ dL L1 f1 ∧ gK1 S i n s1 L1 (sCc S n) := by
  have hS : sWf S := hW.1.2.2.1
  have hNs : sEn S 0 ≤ 64 := hS.1
  have hi : i < 6 := hW.1.2.1
  have hia := hW.1.1
  have hb := hW.bd
  have hN := hS.2.2.2.2.2 n hnn
  have hNn := hN.1.2.1
  obtain ⟨hc1, hc4, -, hch⟩ := par_ch hS hnn hk6
  -- the new list
  have e1 : gNew w 19 = some (w.2.1, hn w (.inl (19, [ga none, gi 0])) 2) := pu_New (w := w) (ci := 19) (n := 2) (fs := [ga none, gi 0]) rfl (by omega) (by omega)
  obtain ⟨W1, hW1⟩ : ∃ W1, hn w (.inl (19, [ga none, gi 0])) 2 = W1 := ⟨_, rfl⟩
  have hW12 : W1.2 = (w.2.1 + 1, w.2.2.1 + 2, w.2.2.2) := by rw [← hW1, hn_2]
  have b1 : W1.2.1 = w.2.1 + 1 := by rw [hW12]
  have e2 : gNewI W1 0 (nI 24) = some (w.2.1 + 1, hn W1 (.inr (0, 24, .inl (fun _ => 0))) 24) := by
    have := pu_NewI (w := W1) (t := 0) (n := 24) (by decide) (by rw [hW12]; show w.2.1 + 1 + 1 ≤ w.2.2.2 0; omega) (by rw [hW12]; show w.2.2.1 + 2 + 24 ≤ w.2.2.2 1; omega)
    rw [b1] at this
    exact this
  obtain ⟨W2, hW2⟩ : ∃ W2, hn W1 (.inr (0, 24, .inl (fun _ => 0))) 24 = W2 := ⟨_, rfl⟩
  have hW22 : W2.2 = (w.2.1 + 2, w.2.2.1 + 26, w.2.2.2) := by rw [← hW2, hn_2, hW12]
  have c2 : W2.1 w.2.1 = some (.inl (19, [ga none, gi 0])) := by
    rw [← hW2, hn_ne (by rw [b1]; omega), ← hW1]
    exact hn_self _ _ _
  have c3 : W2.1 (w.2.1 + 1) = some (.inr (0, 24, .inl (fun _ => 0))) := by
    rw [← hW2, ← b1]
    exact hn_self _ _ _
  have c4 : ∀ b, b < w.2.1 → W2.1 b = w.1 b := fun b h => by rw [← hW2, hn_ne (by rw [b1]; omega), ← hW1, hn_ne (by omega)]
  have hz : (0 : Int32) = nI 0 := by decide
  obtain ⟨W3, hW3⟩ : ∃ W3, hs W2 w.2.1 (.inl (19, [ga (some (w.2.1 + 1)), gi (nI 0)])) = W3 := ⟨_, rfl⟩
  have einit : f_X19_init w.2.1 W1 = some ((), W3) := by
    have := pu_Put (w := W2) (a := w.2.1) (c := 19) (k := 0) c2 (by show 0 < 2; omega) (ga (some (w.2.1 + 1)))
    unfold f_X19_init
    rw [e2, pu_B2, hW2, this, pu_B1, ← hW3]
    rfl
  have d1 : W3.1 w.2.1 = some (.inl (19, [ga (some (w.2.1 + 1)), gi (nI 0)])) := by rw [← hW3, hs_self]
  have d2 : W3.1 (w.2.1 + 1) = some (.inr (0, 24, .inl (fun _ => 0))) := by rw [← hW3, hs_ne (by omega)]; exact c3
  have d3 : ∀ b, b < w.2.1 → W3.1 b = w.1 b := fun b h => by rw [← hW3, hs_ne (by omega)]; exact c4 b h
  have d4 : W3.2 = (w.2.1 + 2, w.2.2.1 + 26, w.2.2.2) := by rw [← hW3, hs_2, hW22]
  have d5 : pBd W3 := by
    have h1 : pBd W1 := by rw [← hW1]; exact (pFr.hn (P := fun _ => True) (tg := fun _ => (0, 0)) hb _ _ (0, 0)).1
    have h2 : pBd W2 := by rw [← hW2]; exact (pFr.hn (P := fun _ => True) (tg := fun _ => (0, 0)) h1 _ _ (0, 0)).1
    rw [← hW3]
    exact (pFr.hs (P := fun _ => True) (tg := fun _ => (0, 0)) h2 c2 trivial).1
  -- its tag for the loop
  obtain ⟨X, hX⟩ : ∃ X, X = pSum (fun a => (tg a).1) w.2.1 + ia + mo + 1 := ⟨_, rfl⟩
  have hX0 : X ≠ 0 := by omega
  have hXi : X ≠ ia := by omega
  have hXm : X ≠ mo := by omega
  have hXo : ∀ a, a < w.2.1 → tg a ≠ (X, 0) := fun a ha z => by
    have h3 : (tg a).1 ≤ pSum (fun a => (tg a).1) w.2.1 := pSum_mem (f := fun a => (tg a).1) w.2.1 a ha
    have h2 : (tg a).1 = X := by rw [z]
    omega
  obtain ⟨tgL, htL⟩ : ∃ tgL : pT, tgL = fun x => if x < w.2.1 then tg x else (X, 0) := ⟨_, rfl⟩
  obtain ⟨tgE, htE⟩ : ∃ tgE : pT, tgE = fun x => if x < w.2.1 then tg x else (0, 100) := ⟨_, rfl⟩
  have l1 : ∀ x, x < w.2.1 → tgL x = tg x := fun x hx => by rw [htL]; exact if_pos hx
  have l2 : ∀ x, ¬ x < w.2.1 → tgL x = (X, 0) := fun x hx => by rw [htL]; exact if_neg hx
  have m1 : ∀ x, x < w.2.1 → tgE x = tg x := fun x hx => by rw [htE]; exact if_pos hx
  have m2 : ∀ x, ¬ x < w.2.1 → tgE x = (0, 100) := fun x hx => by rw [htE]; exact if_neg hx
  have hf1 : pFr w W3 tg tgL (fun _ => False) := ⟨d5, by rw [d4]; show w.2.1 ≤ w.2.1 + 2; omega, by rw [d4], l1, fun x hx _ => d3 x hx⟩
  have hWL : pW S σ xa mo ia i ver T W3 tgL s B bo un := hW.fr hf1 id (fun _ => id) (fun _ _ => id)
  have hcL : pCell S xa ia n a ba oa none ptr out W3 tgL := by
    obtain ⟨a1, a2, a3, a4, a5, a6⟩ := hc
    have g2 := hf1.at hb a2 id
    have g4 := hf1.at hb a4 id
    have g6 := hf1.at hb a6 id
    exact ⟨g2.2.trans a1, g2.1, g4.2.trans a3, g4.1, g6.2.trans a5, g6.1⟩
  have hKL : ∀ j, j < sCc S n → pKid S xa ia i l W3 tgL s T true n ptr out j := fun j hj => kid_fr hS hnn hk6 hj (hf1.aW hb (fun _ _ => id)) hf1.2.2.1 (fun _ _ _ _ _ => rfl) (fun _ _ z => z) rfl (hK j hj)
  obtain ⟨w1, s1, out1, L1, f1, fu, p1, p2, p3, p4, p5, p6, p7, p8, p9, p10, p11, p12, p13, p14, p15, p16, p17⟩ := can_loop (x5 := x5) (f := fun _ => 0) (td := w.2.1) (da := w.2.1 + 1) hl3 hnn hk6 hX0 hXi hXm (l2 _ (by omega)) (l2 _ (by omega)) (sCc S n) 0 20000 20000 (by omega) (by omega) (by omega) W3 s B out [] hWL (by omega) hcL hKL (fun j hj => absurd hj (by omega)) d1 d2 ⟨List.Pairwise.nil, by simp, fun j k hjk => by simp at hjk⟩ (fun x => ⟨fun z => by simp at z, fun ⟨j, z, _⟩ => absurd z (by omega)⟩)
  have q5 : w1.2 = (w.2.1 + 2, w.2.2.1 + 26, w.2.2.2) := p5.trans d4
  have hold : ∀ x, tgL x ≠ (X, 0) → x < w.2.1 := fun x hx => by
    by_cases hlt : x < w.2.1
    · exact hlt
    · exact absurd (l2 x hlt) hx
  have hLE : ∀ x, tgL x ≠ (X, 0) → tgE x = tgL x := fun x hx => (m1 x (hold x hx)).trans (l1 x (hold x hx)).symm
  have hWE : pW S σ xa mo ia i ver T w1 tgE s1 (B + 4) bo un := (p4.mono (by omega)).retag (X := (X, 0)) (fun z => hX0 (congrArg Prod.fst z)) (fun j _ z => hXi (congrArg Prod.fst z)) (fun j _ z => hXm (congrArg Prod.fst z)) (fun x e _ hx => hLE x hx) (fun x hx hx2 => by
    have h5 : x < w.2.1 + 2 := by
      rw [q5] at hx2
      exact hx2
    have n1 : x ≠ w.2.1 := by
      rintro rfl
      rw [p14] at hx
      exact absurd hx (by simp)
    have n2 : x ≠ w.2.1 + 1 := by
      rintro rfl
      rw [p15] at hx
      exact absurd hx (by simp)
    rw [m1 x (by omega), l1 x (by omega)])
  have hcE : pCell S xa ia n a ba oa none ptr out1 w1 tgE := by
    obtain ⟨a1, a2, a3, a4, a5, a6⟩ := p11
    have hz : (ia, n) ≠ (X, 0) := fun z => hXi (congrArg Prod.fst z).symm
    exact ⟨(hLE a (by rw [a1]; exact hz)).trans a1, a2, (hLE ba (by rw [a3]; exact hz)).trans a3, a4, (hLE oa (by rw [a5]; exact hz)).trans a5, a6⟩
  have hKE : ∀ j, j < sCc S n → pKid S xa ia i l w1 tgE s1 T true n ptr out1 j := fun j hj => kid_fr hS hnn hk6 hj (fun x e hx ht => ⟨hx, hLE x (fun z => by
    rw [z] at ht
    rcases ht with ht | ht
    · exact hXi ht.1
    · exact hX0 (congrArg Prod.fst ht))⟩) rfl (fun _ _ _ _ _ => rfl) (fun _ _ z => z) rfl (p12 j hj)
  refine ⟨w1, tgE, s1, out1, L1, f1, w.2.1, w.2.1 + 1, fu, ?_, p2, ?_, hWE, q5, ?_, p7, p8, p9, p10, hcE, hKE, p13, m2 _ (by omega), p14, m2 _ (by omega), p15, p16, p17⟩
  · rw [f_X22_cancels_eq, e1, pu_B2, hW1, einit, pu_B2]
    exact p1
  · have k5 := hW.np (n := n) (k := 5) hnn (by omega)
    rw [hN.1.2.2.2.1] at k5
    rw [t_X2_cancelsBodies_eq, k5, pu_B2]
    exact p3
  · have hfr := (hf1.mono (P' := fun t => (t = (ia, n) ∨ t = (ia, 64) ∨ t = (ia, 67)) ∨ t = (X, 0)) (fun _ z => absurd z id)).tr p6
    exact ⟨hfr.1, hfr.2.1, hfr.2.2.1, m1, fun x hx hn => hfr.2.2.2.2 x hx (fun z => by
      rcases z with z | z
      · exact hn z
      · exact hXo x hx z)⟩
/-- the place of what a parallel's end may write -/
theorem pP_can {n : Nat} (h : n < sEn S n) : ∀ t : Nat × Nat, (t = (ia, n) ∨ t = (ia, 64) ∨ t = (ia, 67)) → pP mo ia n (sEn S n) t := by
  rintro t (z | z | z)
  · rw [z]; exact Or.inl ⟨rfl, Or.inl ⟨Nat.le_refl _, h⟩⟩
  · rw [z]; exact Or.inl ⟨rfl, Or.inr (by show 64 ≤ 64; omega)⟩
  · rw [z]; exact Or.inl ⟨rfl, Or.inr (by show 64 ≤ 67; omega)⟩
/-- bodies that are over: all of a parallel is dead but itself -/
theorem kids_dead {n l : Nat} {ptr out : Nat → Option Nat} {w : gw} {tg : pT} {s : Nat → Int32} {q : Bool} (hS : sWf S) (hnn : n < sEn S 0) (hK : ∀ j, j < sCc S n → pKid S xa ia i l w tg s T q n ptr out j) (hst : ∀ j, j < sCc S n → s (21 + 1262 * (i) + (622 + 10 * (sCh S n j) + 0)) ≠ nI 1) : rDead i s (n + 1) (sEn S n) := by
  have hN := hS.2.2.2.2.2 n hnn
  intro m h1 h2
  obtain ⟨j, z1, z2, z3⟩ := sNode_child hN (by omega) h2
  obtain ⟨a', -, y2, -⟩ := hK j z1
  rw [rB_body] at y2
  obtain ⟨-, idx, cur, dd, da, L, f, -, -, -, -, -, -, -, -, -, -, -, -, -, h15, -⟩ := y2
  exact h15 (hst j z1) m z2 z3
/-- a parallel's relation when it is over -/
theorem par_rI_over {n a ba oa l : Nat} {und : Option Nat} {ptr out : Nat → Option Nat} {w : gw} {tg : pT} {s : Nat → Int32} (hk6 : sKd S n = 6) (hc : pCell S xa ia n a ba oa und ptr out w tg) (hK : ∀ j, j < sCc S n → pKid S xa ia i l w tg s T true n ptr out j) (hu : ∀ ua, und = some ua → uDead xa ia w tg n ua) (hd : rDead i s n (sEn S n)) (hl : n < sEn S n) : rI S xa ia i w tg s T true (l + 1) n a := by
  obtain ⟨a1, a2, a3, a4, a5, a6⟩ := hc
  obtain ⟨-, n1, n5⟩ := hd n (Nat.le_refl _) hl
  have hnl : ¬ rLive i s n := fun z => by
    rcases z with z | z
    · exact n1 z
    · exact n5 z
  show rItem S xa ia i w tg s T true (rB S xa ia i w tg s T true l) n a
  refine Or.inr (Or.inr (Or.inr (Or.inr (Or.inr ⟨hk6, a1, ba, oa, und, ptr, out, a2, a3, a4, a5, a6, fun k hk => ?_, fun z => absurd z hnl, fun z => absurd z n1, fun z => absurd z n5, hu, fun _ => hd⟩))))
  obtain ⟨a', y1, y2, y3⟩ := hK k hk
  refine Or.inr ⟨?_, a', y1, y2⟩
  rcases y3 with z | z | z
  · exact Or.inl z.1
  · exact Or.inr (Or.inl z.1)
  · exact Or.inr (Or.inr z.1)
/-- the state of the parallel itself changes: its bodies stay -/
theorem kid_top {n l j : Nat} {ptr out : Nat → Option Nat} {w : gw} {tg : pT} {s s1 : Nat → Int32} {q : Bool} (hS : sWf S) (hnn : n < sEn S 0) (hk6 : sKd S n = 6) (hjc : j < sCc S n) (hs : ∀ m k, n < m → m < sEn S n → k < 10 → s1 (21 + 1262 * (i) + (622 + 10 * (m) + k)) = s (21 + 1262 * (i) + (622 + 10 * (m) + k))) (hPe : pPe i s s1) (h : pKid S xa ia i l w tg s T q n ptr out j) : pKid S xa ia i l w tg s1 T q n ptr out j := by
  have hN := hS.2.2.2.2.2 n hnn
  have hi' := sNode_in hN hjc
  exact kid_fr hS hnn hk6 hjc (fun _ _ h _ => ⟨h, rfl⟩) rfl (fun m k h1 h2 h3 => hs m k (by omega) (by omega) h3) hPe rfl h
/-- the tail of a look: the parallel breaks -/
theorem par_break {n a ba oa l B q d r fu : Nat} {ptr ptr1 out out1 : Nat → Option Nat} {w w1 : gw} {tg tg1 : pT} {s1 : Nat → Int32} {rec : Nat → gw → Option (Option Nat × gw)} {k4 rec2 : Int32 → Int32 → TS → Option (Int32 × TS)} (hl3 : l ≤ 4) (hnn : n < sEn S 0) (hk6 : sKd S n = 6) (hc : pCell S xa ia n a ba oa none ptr out w tg) (hall : f_X22_looksAtAll rec a w = some ((), w1)) (hW : pW S σ xa mo ia i ver T w1 tg1 s1 B bo un) (hB : B + 4 < 2 ^ 31) (hc1 : pCell S xa ia n a ba oa none ptr1 out1 w1 tg1) (hK : ∀ j, j < sCc S n → pKid S xa ia i l w1 tg1 s1 T true n ptr1 out1 j) (hst : s1 (21 + 1262 * (i) + (622 + 10 * (n) + 0)) = nI 1) (h7 : s1 (21 + 1262 * (i) + (622 + 10 * (n) + 7)) = -1) (hP : sP S n 1 = nI q) (hq : q < 100) (hd : rCount S i s1 n 2 (sCc S n) = d) (hr : rCount S i s1 n 1 (sCc S n) = r) (hqr : d + r < q) (hfu : 1 ≤ fu) (r0 : w1.2.1 + 2 ≤ w1.2.2.2 0) (r1 : w1.2.2.1 + 26 ≤ w1.2.2.2 1) :
    ∃ w2 tg2 s2, f_X22_looks rec a w = some (some (w2.2.2.2 4), w2) ∧ gL3 (bt_X2_looksAtParallel_1 k4 rec2) fu (nI i) (nI n) (-1) (tS σ s1) = some (nI 3, tS σ s2) ∧ pW S σ xa mo ia i ver T w2 tg2 s2 (B + 4) bo un ∧ pFr w1 w2 tg1 tg2 (pP mo ia n (sEn S n)) ∧ pQ i n (sEn S n) s1 s2 ∧ pRk 0 i w1 w2 s1 s2 ∧ pPe i s1 s2 ∧ s2 (21 + 1262 * (i) + (622 + 10 * (n) + 0)) = nI 3 ∧ rDead i s2 n (sEn S n) ∧ rI S xa ia i w2 tg2 s2 T true (l + 1) n a := by
  have hS : sWf S := hW.1.2.2.1
  have hNs : sEn S 0 ≤ 64 := hS.1
  have hi : i < 6 := hW.1.2.1
  have hia := hW.1.1
  have hN := hS.2.2.2.2.2 n hnn
  have hNn := hN.1.2.1
  have hl := hN.1.1
  obtain ⟨hcc1, hc4, -, hch⟩ := par_ch hS hnn hk6
  obtain ⟨w2, tg2, s2, out2, L1, f1, td, da, fu1, p1, p2, p3, p4, p5, p6, p7, p8, p9, p10, p11, p12, p13, p14, p15, p16, p17, p18, p19⟩ := can_all hl3 hW hB hnn hk6 hc1 hK r0 r1 (nI 0)
  obtain ⟨s3, hs3⟩ : ∃ s3, upd s2 (21 + 1262 * (i) + (622 + 10 * (n) + 0)) (nI 3) = s3 := ⟨_, rfl⟩
  have hne : ∀ j, j ≠ (21 + 1262 * (i) + (622 + 10 * (n) + 0)) → s3 j = s2 j := fun j h => by rw [← hs3, upd_ne h]
  have h30 : s3 (21 + 1262 * (i) + (622 + 10 * (n) + 0)) = nI 3 := by rw [← hs3, upd_self]
  have hW3 : pW S σ xa mo ia i ver T w2 tg2 s3 (B + 4) bo un := p4.rows (fun j hj => hne j (by omega)) (fun m hm hk => by
    have hmn : m ≠ n := by rintro rfl; omega
    rw [hne _ (by omega), hne _ (by omega), hne _ (by omega)]
    exact ⟨Iff.rfl, fun _ => ⟨rfl, rfl⟩⟩)
  have hPe3 : pPe i s2 s3 := fun c hc z => (hne _ (by omega)).trans z
  have hK3 : ∀ j, j < sCc S n → pKid S xa ia i l w2 tg2 s3 T true n ptr1 out2 j := fun j hj => kid_top hS hnn hk6 hj (fun m k h1 h2 h3 => hne _ (by omega)) hPe3 (p12 j hj)
  have hd1 := kids_dead hS hnn p12 p13
  have hd3 : rDead i s3 n (sEn S n) := fun m h1 h2 => by
    by_cases hmn : m = n
    · subst hmn
      rw [h30, hne _ (by omega), p7 _ (by omega) (by omega) (by omega), h7]
      decide
    · rw [hne _ (by omega), hne _ (by omega)]
      exact hd1 m (by omega) h2
  obtain ⟨f0, f1', ho⟩ := hW.par hnn hk6
  rw [hP] at ho
  obtain ⟨o1, o2⟩ := kid_count hW.2.1 (sCc S n) hK
  have lr := rCount_le (S := S) (i := i) (s := s1) (n := n) (x := 1) (sCc S n)
  have ld := rCount_le (S := S) (i := i) (s := s1) (n := n) (x := 2) (sCc S n)
  refine ⟨w2, tg2, s3, ?_, ?_, hW3, p6.mono (pP_can hl), ?_, ?_, fun c hc z => hPe3 c hc (p8 c hc z), h30, hd3, par_rI_over hk6 p11 hK3 (fun ua z => absurd z (by simp)) hd3 hl⟩
  · have hcan : f_X22_cancels a (nI 0) w1 = some ((), w2) := by
      rw [p1]
      obtain ⟨g, rfl⟩ : ∃ g, fu1 = g + 1 := ⟨fu1 - 1, by omega⟩
      obtain ⟨-, b2, -, b4, -, -⟩ := p11
      show bf_X22_cancels_1 a (gL3 (bf_X22_cancels_1 a) g) _ _ _ _ = _
      generalize gL3 (bf_X22_cancels_1 a) g = KK
      unfold bf_X22_cancels_1
      rw [pu_R (k := 3) b2 rfl, pu_B1, pu_B1, pu_Len b4, pu_B1, if_pos (nI_le (Nat.le_refl _) (by omega)), if_pos (by decide)]
    obtain ⟨-, a2, -, -, -, -⟩ := hc
    obtain ⟨-, b2, -, b4, -, b6⟩ := hc1
    have m1 := pf_many (v := w1.2.2.2 3) b2 b6 (by omega)
    have m2 := pf_many (v := w1.2.2.2 2) b2 b6 (by omega)
    rw [o2, hd] at m1
    rw [o1, hr] at m2
    have y1 : ¬ nI q ≤ nI d := nI_ge (by omega) (by omega)
    have y2 : ¬ nI q ≤ nI (d + r) := nI_ge hqr (by omega)
    unfold f_X22_looks
    rw [pu_R (k := 5) a2 rfl, pu_B1, pu_Bd, pu_Nn, pu_Ob a2, pu_B1, hall, pu_B2, pu_Ob b2, pu_B1, m1, pu_B2, pu_R (k := 2) b2 rfl, pu_B1, pu_B1, pu_I (k := 2) ho rfl, pu_B1, pu_Bd, if_neg y1, pu_Ob b2, pu_B1, m2, pu_B2, pu_R (k := 2) b2 rfl, pu_B1, pu_B1, pu_I (k := 2) ho rfl, pu_B1, nI_add, if_neg y2, pu_Ob b2, pu_B1, hcan, pu_B2]
  · obtain ⟨g, rfl⟩ : ∃ g, fu = g + 1 := ⟨fu - 1, by omega⟩
    have k1 := hW.np (n := n) (k := 1) hnn (by omega)
    rw [hP] at k1
    have c2 := t_bodiesIn hW hnn (x := 2) (by omega)
    have c1 := t_bodiesIn hW hnn (x := 1) (by omega)
    rw [hd] at c2
    rw [hr] at c1
    have y2 : ¬ nI q ≤ nI (d + r) := nI_ge hqr (by omega)
    show bt_X2_looksAtParallel_1 k4 rec2 (gL3 (bt_X2_looksAtParallel_1 k4 rec2) g) (nI i) (nI n) (-1) (tS σ s1) = _
    generalize gL3 (bt_X2_looksAtParallel_1 k4 rec2) g = KK
    unfold bt_X2_looksAtParallel_1
    rw [if_pos (by decide), k1, pu_B2, c2, pu_B2, c1, pu_B2, nI_add, if_neg y2, p3, pu_B2, pt_comesTo hi (by omega), pu_B2, hs3]
  · intro j h1 h2 h3
    rw [hne j (by omega)]
    exact p7 j h1 h2 (by omega)
  · have hp1 := pPh_le (i := i) (s := s1) (s1 := s2) (fun m hm => by
      rcases p9 m hm with z | z
      · exact Or.inl z
      · exact Or.inr (by rw [z]; decide))
    have hp2 := pPh_at (i := i) (n := n) (s := s2) (s1 := s3) (by omega) (fun m _ hm => hne _ (by omega))
    have h20 : s2 (21 + 1262 * (i) + (622 + 10 * (n) + 0)) = nI 1 := (p7 _ (by omega) (by omega) (by omega)).trans hst
    rw [h30, h20, if_neg (by decide), if_pos rfl, if_neg (by decide), if_neg (by decide)] at hp2
    have q1 : w2.2.1 = w1.2.1 + 2 := by rw [p5]
    have q2 : w2.2.2.1 = w1.2.2.1 + 26 := by rw [p5]
    constructor
    · omega
    · omega
end PD
