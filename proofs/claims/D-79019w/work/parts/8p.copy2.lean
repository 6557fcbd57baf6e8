set_option maxRecDepth 100000
/-! COPIES of runs: a parallel; all levels -/
section CQ
variable {S : SV} {xa ia ib mb i : Nat} {s : Nat → Int32} {T : Nat} {q : Bool}
theorem pf_copy26 {w : gw} {tg : pT} {ua td : Nat} {g0 : gv} {left tried til x : Int32} (hE : cEnv S ib mb w tg) (h1 : w.1 ua = some (.inl (26, [ga (some ia), ga (some td), gi left, gi tried, gi til, ga (some xa)]))) (h2 : w.1 td = some (.inl (19, [g0, gi x]))) (r0 : w.2.1 + 1 ≤ w.2.2.2 0) (r1 : w.2.2.1 + 6 ≤ w.2.2.2 1) :
    f_X26_copy ua (some ib) w = some (some w.2.1, hn w (.inl (26, [ga (some ib), ga (some td), gi left, gi tried, gi til, ga (some xa)])) 6) := by
  obtain ⟨hb, hO, ⟨fs, c2⟩, d0, d1, d2, t, d4, c1⟩ := hE
  have n1 : ib ≠ w.2.1 := by have := hb _ _ c2; omega
  have n2 : mb ≠ w.2.1 := by have := hb _ _ c1; omega
  have n3 : ua ≠ w.2.1 := by have := hb _ _ h1; omega
  have n4 : td ≠ w.2.1 := by have := hb _ _ h2; omega
  have e1 := pu_New (w := w) (ci := 26) (n := 6) (fs := [ga none, ga none, gi 0, gi 0, gi 0, ga none]) rfl r0 r1
  have a1 : ∀ e, (hn w e 6).1 ib = w.1 ib := fun e => hn_ne n1
  have a2 : ∀ e, (hn w e 6).1 mb = w.1 mb := fun e => hn_ne n2
  have a3 : ∀ e, (hn w e 6).1 ua = w.1 ua := fun e => hn_ne n3
  have a4 : ∀ e, (hn w e 6).1 td = w.1 td := fun e => hn_ne n4
  unfold f_X26_copy f_X26_init
  simp (disch := first | assumption | omega) only [pu_B1, pu_B2, pu_Bd, pu_Nn, pu_Ns, pv_I, pv_R, pv_P, pv_LI, pv_LR, pv_SI, pv_SR, pv_O, pv_C, pvF, pvI, pvR, pvP, pvLI, pvLR, pvSI, pvSR, pvN, pvO, pvC, pv_bs, pv_ms, hs_self, hs_ne, hs_K, hs_2, List.getElem?_cons_succ, List.getElem?_cons_zero, List.set_cons_succ, List.set_cons_zero, Option.isSome_some, if_true, if_false, true_and, and_true, ↓reduceIte, e1, hn_self, a1, a2, a3, a4, c1, c2, h1, h2, hs_hn]
/-- a parallel's run -/
theorem cp_par {rec : Nat → Option Nat → gw → Option (Option Nat × gw)} {l : Nat} {w : gw} {tg : pT} {n a : Nat} (hS : sWf S) (hnn : n < sEn S 0) (hk6 : sKd S n = 6) (hib : ib ≠ 0) (hE : cEnv S ib mb w tg) (hco : pCo w tg) (h : rI S xa ia i w tg s T q (l + 1) n a) (r0 : w.2.1 + 6 * (sEn S n - n) ≤ w.2.2.2 0) (r1 : w.2.2.1 + 83 * (sEn S n - n) ≤ w.2.2.2 1)
    (hrec : ∀ j a' w1 tg1, j < sCc S n → cEnv S ib mb w1 tg1 → pCo w1 tg1 → rB S xa ia i w1 tg1 s T q l (sCh S n j) a' → w1.2.1 + 6 * (sEn S (sCh S n j) - sCh S n j) ≤ w1.2.2.2 0 → w1.2.2.1 + 83 * (sEn S (sCh S n j) - sCh S n j) ≤ w1.2.2.2 1 → cpR (fun w2 tg2 a2 => rB S xa ib i w2 tg2 s T q l (sCh S n j) a2) w1 tg1 (6 * (sEn S (sCh S n j) - sCh S n j)) (83 * (sEn S (sCh S n j) - sCh S n j)) (rec a' (some ib) w1)) :
    cpR (fun w1 tg1 a' => rI S xa ib i w1 tg1 s T q (l + 1) n a') w tg (6 * (sEn S n - n)) (83 * (sEn S n - n)) (f_X22_copy rec a (some ib) w) := by
  have hN := hS.2.2.2.2.2 n hnn
  have hNs : sEn S 0 ≤ 64 := hS.1
  have hNn := hN.1.2.1
  have hl := hN.1.1
  have hc0 : sCp S n 0 = n + 1 := hN.1.2.2.2.2.1
  obtain ⟨hc1, hc4, -, hch⟩ := par_ch hS hnn hk6
  have hb := hE.1
  obtain ⟨la, mc, ea, o1, o2⟩ := (hE.obj hnn).2.2.2.2 hk6
  have hI' : rItem S xa ia i w tg s T q (rB S xa ia i w tg s T q l) n a := h
  rcases hI' with g | g | g | g | g | g
  · exact absurd g.1 (by omega)
  · exact absurd g.1 (by omega)
  · exact absurd g.1 (by omega)
  · exact absurd g.1 (by omega)
  · exact absurd g.1 (by omega)
  · obtain ⟨g1, g2, ba, oa, und, ptr, out, g3, g4, g5, g6, g7, g8, g9, g10, g11, g12, g13⟩ := g
    have na := hb _ _ g3
    have nba := hb _ _ g5
    have noa := hb _ _ g7
    have nS := hb _ _ o1
    have nla := hb _ _ o2
    -- the new run
    obtain ⟨W1, e1, q1, p1, z1, b1⟩ := st_new (w := w) (ci := 22) (n := 7) (fs := [ga none, ga none, ga none, ga none, ga none, ga none, ga none]) rfl (by omega) (by omega) hb
    obtain ⟨W2, e2, q2, p2, z2, b2⟩ := st_put (k := 6) q1 (by show 6 < 7; omega) b1 (ga (some xa))
    obtain ⟨W3, e3, q3, p3, z3, b3⟩ := st_put (k := 1) q2 (by show 1 < 7; omega) b2 (ga (some xa))
    obtain ⟨W4, e4, q4, p4, z4, b4⟩ := st_put (k := 0) q3 (by show 0 < 7; omega) b3 (ga (some ib))
    obtain ⟨W5, e5, q5, p5, z5, b5⟩ := st_put (k := 2) q4 (by show 2 < 7; omega) b4 (ga (some (sSa S n)))
    have hz5 : W5.2 = (w.2.1 + 1, w.2.2.1 + 7, w.2.2.2) := by rw [z5, z4, z3, z2, z1]
    have old5 : ∀ c, c < w.2.1 → W5.1 c = w.1 c := fun c hc => (p5 c (by omega)).trans ((p4 c (by omega)).trans ((p3 c (by omega)).trans ((p2 c (by omega)).trans (p1 c (by omega)))))
    obtain ⟨W6, e6, q6, p6, z6, b6⟩ := st_newR (w := W5) (t := 5) (m := sCc S n) (by omega) (by rw [hz5]; show w.2.1 + 1 + 1 ≤ w.2.2.2 0; omega) (by rw [hz5]; show w.2.2.1 + 7 + sCc S n ≤ w.2.2.2 1; omega) b5
    rw [hz5] at e6 q6 p6 z6
    simp only at e6 q6 p6 z6
    obtain ⟨W7, e7, q7, p7, z7, b7⟩ := st_put (k := 3) ((p6 w.2.1 (by omega)).trans q5) (by show 3 < 7; omega) b6 (ga (some (w.2.1 + 1)))
    obtain ⟨W8, e8, q8, p8, z8, b8⟩ := st_newR (w := W7) (t := 6) (m := sCc S n) (by omega) (by rw [z7, z6]; show w.2.1 + 1 + 1 + 1 ≤ w.2.2.2 0; omega) (by rw [z7, z6]; show w.2.2.1 + 7 + sCc S n + sCc S n ≤ w.2.2.2 1; omega) b7
    rw [z7, z6] at e8 q8 p8 z8
    simp only at e8 q8 p8 z8
    obtain ⟨W9, e9, q9, p9, z9, b9⟩ := st_put (k := 4) ((p8 w.2.1 (by omega)).trans q7) (by show 4 < 7; omega) b8 (ga (some (w.2.1 + 1 + 1)))
    have hz9 : W9.2 = (w.2.1 + 3, w.2.2.1 + 7 + sCc S n + sCc S n, w.2.2.2) := by rw [z9, z8]
    have old9 : ∀ c, c < w.2.1 → W9.1 c = w.1 c := fun c hc => (p9 c (by omega)).trans ((p8 c (by omega)).trans ((p7 c (by omega)).trans ((p6 c (by omega)).trans (old5 c hc))))
    have q9b : W9.1 (w.2.1 + 1) = some (.inr (5, sCc S n, .inr (fun _ => none))) := (p9 _ (by omega)).trans ((p8 _ (by omega)).trans ((p7 _ (by omega)).trans q6))
    have q9o : W9.1 (w.2.1 + 2) = some (.inr (6, sCc S n, .inr (fun _ => none))) := (p9 _ (by omega)).trans q8
    have q9a : W9.1 w.2.1 = some (.inl (22, [ga (some ib), ga (some xa), ga (some (sSa S n)), ga (some (w.2.1 + 1)), ga (some (w.2.1 + 2)), ga none, ga (some xa)])) := q9
    have q7b : W7.1 (w.2.1 + 1) = some (.inr (5, sCc S n, .inr (fun _ => none))) := (p7 _ (by omega)).trans q6
    have einit : f_X22_init w.2.1 (some xa) (some ib) (some (sSa S n)) W1 = some ((), W9) := by
      have o51 := (old5 _ nS).trans o1
      have o52 := (old5 _ nla).trans o2
      have sz := pf_size o52
      unfold f_X22_init f_X17_init_c22
      rw [e2, pu_B1, e3, pu_B1, e4, pu_B1, pu_B2, e5, pu_B1, pu_B1, pu_R (k := 1) o51 rfl, pu_B1, pu_B1, pu_Ob o52, pu_B1, sz, pu_B2, e6, pu_B2, e7, pu_B1, pu_R (k := 3) q7 rfl, pu_B1, pu_B1, pu_Len q7b, pu_B1, e8, pu_B2, e9, pu_B1]
    obtain ⟨tgA, htA⟩ : ∃ tgA : pT, tgA = fun x => if x < w.2.1 then tg x else (ib, n) := ⟨_, rfl⟩
    have tA1 : ∀ x, x < w.2.1 → tgA x = tg x := fun x hx => by rw [htA]; exact if_pos hx
    have tA2 : ∀ x, ¬ x < w.2.1 → tgA x = (ib, n) := fun x hx => by rw [htA]; exact if_neg hx
    have hF9 : pFr w W9 tg tgA (fun _ => False) := ⟨b9, by rw [hz9]; show w.2.1 ≤ w.2.1 + 3; omega, by rw [hz9], tA1, fun c hc _ => old9 c hc⟩
    -- its bodies
    have hloop : ∀ r k fuel (W : gw) (tgW : pT) (ptk ouk : Nat → Option Nat), k + r = sCc S n → r < fuel → pFr w W tg tgW (fun _ => False) → W.2.1 ≤ w.2.1 + 3 + 6 * (sCp S n k - (n + 1)) → W.2.2.1 ≤ w.2.2.1 + 15 + 83 * (sCp S n k - (n + 1)) → w.2.1 + 3 ≤ W.2.1 →
        (tgW w.2.1 = (ib, n) ∧ tgW (w.2.1 + 1) = (ib, n) ∧ tgW (w.2.1 + 2) = (ib, n)) → W.1 w.2.1 = some (.inl (22, [ga (some ib), ga (some xa), ga (some (sSa S n)), ga (some (w.2.1 + 1)), ga (some (w.2.1 + 2)), ga none, ga (some xa)])) → W.1 (w.2.1 + 1) = some (.inr (5, sCc S n, .inr ptk)) → W.1 (w.2.1 + 2) = some (.inr (6, sCc S n, .inr ouk)) →
        (∀ j, j < k → ouk j = out j ∧ (ptr j = none → ptk j = none) ∧ (∀ a', ptr j = some a' → ∃ a2, ptk j = some a2 ∧ rB S xa ib i W tgW s T q l (sCh S n j) a2)) →
        ∃ W' tgW' ptk' ouk' fu, 1 ≤ fu ∧ gL3 (bf_X22_copy_1 a rec) fuel (some ib) (some w.2.1) (nI k) W = gL3 (bf_X22_copy_1 a rec) fu (some ib) (some w.2.1) (nI (sCc S n)) W' ∧ pFr w W' tg tgW' (fun _ => False) ∧ W'.2.1 ≤ w.2.1 + 3 + 6 * (sEn S n - (n + 1)) ∧ W'.2.2.1 ≤ w.2.2.1 + 15 + 83 * (sEn S n - (n + 1)) ∧ w.2.1 + 3 ≤ W'.2.1 ∧
          (tgW' w.2.1 = (ib, n) ∧ tgW' (w.2.1 + 1) = (ib, n) ∧ tgW' (w.2.1 + 2) = (ib, n)) ∧ W'.1 w.2.1 = some (.inl (22, [ga (some ib), ga (some xa), ga (some (sSa S n)), ga (some (w.2.1 + 1)), ga (some (w.2.1 + 2)), ga none, ga (some xa)])) ∧ W'.1 (w.2.1 + 1) = some (.inr (5, sCc S n, .inr ptk')) ∧ W'.1 (w.2.1 + 2) = some (.inr (6, sCc S n, .inr ouk')) ∧
          (∀ j, j < sCc S n → ouk' j = out j ∧ (ptr j = none → ptk' j = none) ∧ (∀ a', ptr j = some a' → ∃ a2, ptk' j = some a2 ∧ rB S xa ib i W' tgW' s T q l (sCh S n j) a2)) := by
      intro r
      induction r with
      | zero =>
        intro k fuel W tgW ptk ouk hk hf hF y0 y1 y2 hT v0 v1 v2 hK
        obtain rfl : k = sCc S n := by omega
        have hcp : sCp S n (sCc S n) = sEn S n := by
          unfold sCp
          rw [if_neg (by omega)]
        rw [hcp] at y0 y1
        exact ⟨W, tgW, ptk, ouk, fuel, by omega, rfl, hF, y0, y1, y2, hT, v0, v1, v2, hK⟩
      | succ r ih =>
        intro k fuel W tgW ptk ouk hk hf hF y0 y1 y2 hT v0 v1 v2 hK
        obtain ⟨fuel, rfl⟩ : ∃ g, fuel = g + 1 := ⟨fuel - 1, by omega⟩
        have hkc : k < sCc S n := by omega
        have hi' := sNode_in hN hkc
        have hcN := sWf_lt hS hnn hkc
        have hcpk : sCp S n k = sCh S n k := hi'.2.2.2.1
        have hcpk1 : sCp S n (k + 1) = sEn S (sCh S n k) := hi'.2.2.2.2.symm
        have hEW := hE.fr hF
        have hcoW : pCo W tgW := hco.fr hF id
        have w3 := (hF.old hb g3).1
        have w5 := (hF.old hb g5).1
        have w7 := (hF.old hb g7).1
        have hKK : W.2.2.2 = w.2.2.2 := hF.2.2.1
        -- one body
        obtain ⟨r41, Wb, tgb, x1, x2, x3, x4, x5⟩ : ∃ r41 Wb tgb, (gNl (ptr k) (some (none, W)) (fun _ => gB1 (ptr k |> some) fun r56 => gB1 r56 fun a57 => gB2 (rec a57 (some ib) W) fun r59 w58 => some (r59, w58)) : Option (Option Nat × gw)) = some (r41, Wb) ∧ pFr W Wb tgW tgb (fun _ => False) ∧ Wb.2.1 ≤ W.2.1 + 6 * (sEn S (sCh S n k) - sCh S n k) ∧ Wb.2.2.1 ≤ W.2.2.1 + 83 * (sEn S (sCh S n k) - sCh S n k) ∧ ((ptr k = none ∧ r41 = none) ∨ ∃ a' a2, ptr k = some a' ∧ r41 = some a2 ∧ rB S xa ib i Wb tgb s T q l (sCh S n k) a2) := by
          cases hp : ptr k with
          | none => exact ⟨none, W, tgW, rfl, pFr.rf hF.1, Nat.le_add_right _ _, Nat.le_add_right _ _, Or.inl ⟨rfl, rfl⟩⟩
          | some a' =>
            have hrB : rB S xa ia i w tg s T q l (sCh S n k) a' := by
              rcases g8 k hkc with z | ⟨-, a'', z1, z2⟩
              · rw [hp] at z; exact absurd z.2.1 (by simp)
              · rw [hp] at z1
                obtain rfl := Option.some.inj z1
                exact z2
            have hrBW := (rB_fr (q := q) (q1 := q) (T := T) (T1 := T) hS hF.2.2.1 (fun z => ⟨z, fun _ _ z => z⟩) (Nat.le_refl _) l).1 _ a' hcN (hch k hkc).1 (hF.aW hb (fun _ _ => id)) (aS.aY hS hcN (fun _ _ _ _ _ => rfl)) hrB
            obtain ⟨a2, Wb, tgb, x1, x2, x3, x4, x5⟩ := hrec k a' W tgW hkc hEW hcoW hrBW (by rw [hKK]; omega) (by rw [hKK]; omega)
            refine ⟨some a2, Wb, tgb, ?_, x2, x3, x4, Or.inr ⟨a', a2, rfl, rfl, x5⟩⟩
            rw [pu_Ns]
            show (gB1 (some (some a')) fun r56 => gB1 r56 fun a57 => gB2 (rec a57 (some ib) W) fun r59 w58 => some (r59, w58)) = _
            rw [pu_B1, pu_B1, x1, pu_B2]
        have c0 := x2.old hF.1 v0
        have c1 := x2.old hF.1 v1
        have c2 := x2.old hF.1 v2
        have d3 := (x2.old hF.1 w3).1
        have d5 := (x2.old hF.1 w5).1
        have d7 := (x2.old hF.1 w7).1
        have hcob : pCo Wb tgb := hcoW.fr x2 id
        have can5 : gCan Wb 5 r41 = true := by
          rcases x5 with ⟨-, z⟩ | ⟨a', a2, -, z, z2⟩
          · rw [z]; rfl
          · rw [z]
            rw [rB_body] at z2
            obtain ⟨-, idx, cur, dd, da, L, f, z3, -⟩ := z2
            exact pu_Can z3 (by decide)
        obtain ⟨Wc, hWc⟩ : ∃ Wc, hs Wb (w.2.1 + 1) (.inr (5, sCc S n, .inr (va_up ptk k r41))) = Wc := ⟨_, rfl⟩
        have f1 : gStR Wb (w.2.1 + 1) 5 (nI k) r41 = some Wc := by rw [pu_StR c1.1 hkc (by omega) can5, hWc]
        have hFc : pFr Wb Wc tgb tgb (fun t => t = (ib, n)) := by
          rw [← hWc]
          exact pFr.hs x2.1 c1.1 (c1.2.trans hT.2.1)
        have hoc : ∀ c, c ≠ w.2.1 + 1 → Wc.1 c = Wb.1 c := fun c hc => by rw [← hWc, hs_ne hc]
        have can6 : gCan Wc 6 (out k) = true := by
          have hK : pCo Wc tgb := hcob.fr hFc (fun z => hib (congrArg Prod.fst z).symm)
          obtain ⟨y3, y4, y5⟩ := can_K hK
          have hKc : Wc.2.2.2 = w.2.2.2 := by rw [← hWc, hs_K]; exact x2.2.2.1.trans hKK
          rw [hKc] at y3 y4 y5
          rcases g8 k hkc with z | ⟨z | z | z, -⟩
          · rw [z.1]; rfl
          · rw [z]; exact y3
          · rw [z]; exact y4
          · rw [z]; exact y5
        have c2c : Wc.1 (w.2.1 + 2) = some (.inr (6, sCc S n, .inr ouk)) := (hoc _ (by omega)).trans c2.1
        have c0c : Wc.1 w.2.1 = some (.inl (22, [ga (some ib), ga (some xa), ga (some (sSa S n)), ga (some (w.2.1 + 1)), ga (some (w.2.1 + 2)), ga none, ga (some xa)])) := (hoc _ (by omega)).trans c0.1
        have d3c : Wc.1 a = _ := (hoc a (by omega)).trans d3
        have d7c : Wc.1 oa = _ := (hoc oa (by omega)).trans d7
        obtain ⟨Wd, hWd⟩ : ∃ Wd, hs Wc (w.2.1 + 2) (.inr (6, sCc S n, .inr (va_up ouk k (out k)))) = Wd := ⟨_, rfl⟩
        have f2 : gStR Wc (w.2.1 + 2) 6 (nI k) (out k) = some Wd := by rw [pu_StR c2c hkc (by omega) can6, hWd]
        have hFd : pFr Wb Wd tgb tgb (fun t => t = (ib, n)) := by
          rw [← hWd]
          exact hFc.tr (pFr.hs hFc.1 c2c (c2.2.trans hT.2.2))
        have hod : ∀ c, c ≠ w.2.1 + 1 → c ≠ w.2.1 + 2 → Wd.1 c = Wb.1 c := fun c h1 h2 => by rw [← hWd, hs_ne h2]; exact hoc c h1
        have hzd : Wd.2 = Wb.2 := by rw [← hWd, hs_2, ← hWc, hs_2]
        have hFk : ∀ j a2, j < sCc S n → rB S xa ib i Wb tgb s T q l (sCh S n j) a2 → rB S xa ib i Wd tgb s T q l (sCh S n j) a2 := fun j a2 hj hz => by
          have hij := sNode_in hN hj
          exact (rB_fr (q := q) (q1 := q) (T := T) (T1 := T) hS hFd.2.2.1 (fun z => ⟨z, fun _ _ z => z⟩) (Nat.le_refl _) l).1 _ a2 (sWf_lt hS hnn hj) (hch j hj).1 (hFd.aW x2.1 (fun t ht z => by
            rw [z] at ht
            rcases ht with ht | ht
            · have := ht.2.1
              simp only at this
              omega
            · exact hib (congrArg Prod.fst ht))) (aS.aY hS (sWf_lt hS hnn hj) (fun _ _ _ _ _ => rfl)) hz
        have hFW : pFr w Wd tg tgb (fun _ => False) := ⟨hFd.1, by rw [hzd]; have := x2.2.1; omega, by rw [hzd]; exact x2.2.2.1.trans hKK, fun c hc => (x2.2.2.2.1 c (by omega)).trans (hF.2.2.2.1 c hc), fun c hc _ => by
          rw [hod c (by omega) (by omega), x2.2.2.2.2 c (by omega) id, hF.2.2.2.2 c hc id]⟩
        have hzb := x2.2.1
        obtain ⟨W', tgW', ptk', ouk', fu, i1, i2, i3⟩ := ih (k + 1) fuel Wd tgb (va_up ptk k r41) (va_up ouk k (out k)) (by omega) (by omega) hFW (by rw [hzd, hcpk1]; rw [hcpk] at y0; omega) (by rw [hzd, hcpk1]; rw [hcpk] at y1; omega) (by rw [hzd]; omega) ⟨c0.2.trans hT.1, c1.2.trans hT.2.1, c2.2.trans hT.2.2⟩ ((hod _ (by omega) (by omega)).trans c0.1) (by rw [← hWd, hs_ne (by omega), ← hWc, hs_self]) (by rw [← hWd, hs_self]) (fun j hj => by
          by_cases hjk : j = k
          · subst hjk
            rw [va_up_self, va_up_self]
            refine ⟨rfl, fun z => ?_, fun a' z => ?_⟩
            · rcases x5 with y | ⟨a1, a2, y, -⟩
              · exact y.2
              · rw [y] at z; exact absurd z (by simp)
            · rcases x5 with y | ⟨a1, a2, y, y', y''⟩
              · rw [y.1] at z; exact absurd z (by simp)
              · exact ⟨a2, y', hFk j a2 hkc y''⟩
          · rw [va_up_ne _ _ hjk, va_up_ne _ _ hjk]
            obtain ⟨z1, z2, z3⟩ := hK j (by omega)
            refine ⟨z1, z2, fun a' z => ?_⟩
            obtain ⟨a2, y, y'⟩ := z3 a' z
            have hij := sNode_in hN (j := j) (by omega)
            exact ⟨a2, y, hFk j a2 (by omega) ((rB_fr (q := q) (q1 := q) (T := T) (T1 := T) hS x2.2.2.1 (fun z => ⟨z, fun _ _ z => z⟩) (Nat.le_refl _) l).1 _ a2 (sWf_lt hS hnn (by omega)) (hch j (by omega)).1 (x2.aW hF.1 (fun _ _ => id)) (aS.aY hS (sWf_lt hS hnn (by omega)) (fun _ _ _ _ _ => rfl)) y')⟩)
        refine ⟨W', tgW', ptk', ouk', fu, i1, ?_, i3⟩
        rw [← i2]
        show bf_X22_copy_1 a rec (gL3 (bf_X22_copy_1 a rec) fuel) _ _ _ _ = _
        generalize gL3 (bf_X22_copy_1 a rec) fuel = KK
        have htail : ∀ (w58 : gw) (r59 : Option Nat), w58 = Wb → r59 = r41 → (gB1 (some (w.2.1 + 1)) fun a42 => gB1 (gStR w58 a42 5 (nI k) r59) fun w43 => gB1 (some w.2.1) fun a44 => gB1 (gR w43 a44 22 4) fun r45 => gB1 (gR w43 a 22 4) fun r46 => gB1 r46 fun a47 => gB1 (gLdR w43 a47 6 (nI k)) fun r48 => gB1 r45 fun a49 => gB1 (gStR w43 a49 6 (nI k) r48) fun w50 => gBd (nI k + (nI 1)) fun x51 => KK (some ib) (some a44) x51 w50) = KK (some ib) (some w.2.1) (nI (k + 1)) Wd := by
          rintro w58 r59 rfl rfl
          rw [pu_B1, f1, pu_B1, pu_B1, pu_R (k := 4) c0c rfl, pu_B1, pu_R (k := 4) d3c rfl, pu_B1, pu_B1, pu_LdR d7c hkc (by omega), pu_B1, pu_B1, f2, pu_B1, pu_Bd, nI_add]
        unfold bf_X22_copy_1
        rw [pu_R (k := 3) w3 rfl, pu_B1, pu_B1, pu_Len w5, pu_B1, if_neg (nI_ge hkc (by omega)), pu_B1, pu_R (k := 3) v0 rfl, pu_B1, pu_B1, pu_B1, pu_LdR w5 hkc (by omega), pu_B1, pu_Bd]
        cases hp : ptr k with
        | none =>
          rw [hp, pu_Nn] at x1
          injection x1 with x1
          injection x1 with x11 x12
          rw [pu_Nn]
          exact htail W none x12 x11
        | some a' =>
          rw [hp, pu_Ns] at x1
          replace x1 : (gB1 (some (some a')) fun r56 => gB1 r56 fun a57 => gB2 (rec a57 (some ib) W) fun r59 w58 => some (r59, w58)) = some (r41, Wb) := x1
          rw [pu_B1, pu_B1] at x1
          rw [pu_Ns, pu_B1, pu_B1, pu_LdR w5 hkc (by omega), pu_B1, hp, pu_B1]
          cases hc : rec a' (some ib) W with
          | none => rw [hc] at x1; exact absurd x1 (by simp [gB2])
          | some rr =>
            obtain ⟨r59, w58⟩ := rr
            rw [hc, pu_B2] at x1
            injection x1 with x1
            injection x1 with x11 x12
            rw [pu_B2]
            exact htail w58 r59 x12 x11
    obtain ⟨W, tgW, ptk, ouk, fu, i1, i2, i3, i4, i5, i6, i7, i8, i9, i10, i11⟩ := hloop (sCc S n) 0 20000 W9 tgA _ _ (by omega) (by omega) hF9 (by rw [hz9]; show w.2.1 + 3 ≤ _; omega) (by rw [hz9]; show w.2.2.1 + 7 + sCc S n + sCc S n ≤ _; omega) (by rw [hz9]; exact Nat.le_refl _) ⟨tA2 _ (by omega), tA2 _ (by omega), tA2 _ (by omega)⟩ q9a q9b q9o (fun j hj => absurd hj (by omega))
    obtain ⟨fu, rfl⟩ : ∃ g, fu = g + 1 := ⟨fu - 1, by omega⟩
    have w3 := (i3.old hb g3).1
    have w5 := (i3.old hb g5).1
    have hKK : W.2.2.2 = w.2.2.2 := i3.2.2.1
    -- what is undone
    obtain ⟨und', Wu, tgu, u1, u2, u3, u4, u5, u6⟩ : ∃ und' Wu tgu, (gNl und (some (none, W)) (fun _ => gB1 (some und) fun r25 => gB1 r25 fun a26 => gB1 (gOb W a26 26) fun _ => gB2 (f_X26_copy a26 (some ib) W) fun r28 w27 => some (r28, w27)) : Option (Option Nat × gw)) = some (und', Wu) ∧ pFr W Wu tgW tgu (fun _ => False) ∧ Wu.2.1 ≤ W.2.1 + 1 ∧ Wu.2.2.1 ≤ W.2.2.1 + 6 ∧ (und = none → und' = none) ∧ (∀ ua, und = some ua → ∃ ub, und' = some ub ∧ (∀ L left tried til, uCell xa ia w tg n ua L left tried til → uCell xa ib Wu tgu n ub L left tried til)) := by
      cases hu : und with
      | none => exact ⟨none, W, tgW, rfl, pFr.rf i3.1, Nat.le_succ _, by omega, fun _ => rfl, fun ua z => absurd z (by simp)⟩
      | some ua =>
        obtain ⟨L, left, tried, til, y1, td, tda, f, y2, y3, y4, y5, y6, y7⟩ := g12 ua hu
        have v2 := (i3.old hb y2).1
        have v4 := (i3.old hb y4).1
        have hcp := pf_copy26 (hE.fr i3) v2 v4 (by rw [hKK]; omega) (by rw [hKK]; omega)
        refine ⟨some W.2.1, hn W (.inl (26, [ga (some ib), ga (some td), gi left, gi tried, gi til, ga (some xa)])) 6, tU tgW W.2.1 (ib, n), ?_, pFr.hn i3.1 _ _ _, Nat.le_refl _, Nat.le_refl _, fun z => absurd z (by simp), fun ua' z => ?_⟩
        · rw [pu_Ns, pu_B1, pu_B1, pu_Ob v2, pu_B1, hcp, pu_B2]
        · obtain rfl := Option.some.inj z
          refine ⟨W.2.1, rfl, fun L' left' tried' til' hz => ?_⟩
          obtain ⟨x1, td', tda', f', x2, x3, x4, x5, x6, x7⟩ := hz
          rw [y2] at x2
          have e1 : td' = td ∧ left' = left ∧ tried' = tried ∧ til' = til := by
            have k1 := pu_R (w := w) (k := 1) y2 rfl
            have x2' : w.1 ua = some (.inl (26, [ga (some ia), ga (some td'), gi left', gi tried', gi til', ga (some xa)])) := y2.trans x2
            have k1' := pu_R (w := w) (k := 1) x2' rfl
            have k2 := pu_I (w := w) (k := 2) y2 rfl
            have k2' := pu_I (w := w) (k := 2) x2' rfl
            have k3 := pu_I (w := w) (k := 3) y2 rfl
            have k3' := pu_I (w := w) (k := 3) x2' rfl
            have k4 := pu_I (w := w) (k := 4) y2 rfl
            have k4' := pu_I (w := w) (k := 4) x2' rfl
            rw [k1] at k1'
            rw [k2] at k2'
            rw [k3] at k3'
            rw [k4] at k4'
            exact ⟨(Option.some.inj (Option.some.inj k1')).symm, (Option.some.inj k2').symm, (Option.some.inj k3').symm, (Option.some.inj k4').symm⟩
          obtain ⟨rfl, rfl, rfl, rfl⟩ := e1
          have hst := (i3.stc hb id)
          have hFn : pFr W (hn W (.inl (26, [ga (some ib), ga (some td'), gi left', gi tried', gi til', ga (some xa)])) 6) tgW (tU tgW W.2.1 (ib, n)) (fun _ => False) := pFr.hn i3.1 _ _ _
          have s1 := hst _ _ x4 x3
          have s2 := hst _ _ x6 x5
          have s1' := hFn.stc i3.1 id _ _ s1.1 s1.2
          have s2' := hFn.stc i3.1 id _ _ s2.1 s2.2
          exact ⟨tU_self _ _ _, td', tda', f', hn_self _ _ _, s1'.2, s1'.1, s2'.2, s2'.1, x7⟩
    have hKu : Wu.2.2.2 = w.2.2.2 := u2.2.2.1.trans hKK
    have c0 := u2.old i3.1 i8
    have c1 := u2.old i3.1 i9
    have c2 := u2.old i3.1 i10
    obtain ⟨Wf, ef, qf, pf, zf, bf⟩ := st_put (k := 5) c0.1 (by show 5 < 7; omega) u2.1 (ga und')
    have hFf : pFr Wu Wf tgu tgu (fun t => t = (ib, n)) := ⟨bf, by rw [zf]; exact Nat.le_refl _, by rw [zf], fun _ _ => rfl, fun c hc hnp => pf c (by rintro rfl; exact hnp (c0.2.trans i7.1))⟩
    have hFall : pFr w Wf tg tgu (fun _ => False) := ⟨bf, by rw [zf]; have := u2.2.1; have := i3.2.1; omega, by rw [zf]; exact hKu, fun c hc => (u2.2.2.2.1 c (by omega)).trans (i3.2.2.2.1 c hc), fun c hc _ => by
      rw [pf c (by omega), u2.2.2.2.2 c (by omega) id, i3.2.2.2.2 c hc id]⟩
    have hKf : Wf.2.2.2 = w.2.2.2 := by rw [zf]; exact hKu
    refine ⟨w.2.1, Wf, tgu, ?_, hFall, by rw [zf]; omega, by rw [zf]; omega, ?_⟩
    · have w1a : W1.1 a = _ := (p1 a (by omega)).trans g3
      rw [f_X22_copy_eq, e1, pu_B2, pu_R (k := 6) w1a rfl, pu_B1, pu_R (k := 2) w1a rfl, pu_B1, einit, pu_B2, i2]
      show bf_X22_copy_1 a rec (gL3 (bf_X22_copy_1 a rec) fu) _ _ _ _ = _
      generalize gL3 (bf_X22_copy_1 a rec) fu = KK
      have htail : ∀ (w27 : gw) (r28 : Option Nat), w27 = Wu → r28 = und' → (gB1 (some w.2.1) fun a21 => gB1 (gPut w27 a21 22 5 (ga r28)) fun w22 => some ((some w.2.1), w22)) = some (some w.2.1, Wf) := by
        rintro w27 r28 rfl rfl
        rw [pu_B1, ef, pu_B1]
      unfold bf_X22_copy_1
      rw [pu_R (k := 3) w3 rfl, pu_B1, pu_B1, pu_Len w5, pu_B1, if_pos (nI_le (Nat.le_refl _) (by omega)), pu_R (k := 5) w3 rfl, pu_B1, pu_Bd]
      cases hu : und with
      | none =>
        rw [hu, pu_Nn] at u1
        injection u1 with u1
        injection u1 with u11 u12
        rw [pu_Nn]
        exact htail W none u12 u11
      | some ua =>
        rw [hu, pu_Ns, pu_B1, pu_B1] at u1
        obtain ⟨L, left, tried, til, y1, td, tda, f, y2, -⟩ := g12 ua hu
        have v2 := (i3.old hb y2).1
        rw [pu_Ob v2, pu_B1] at u1
        rw [pu_Ns, pu_B1, pu_B1, pu_Ob v2, pu_B1]
        cases hc : f_X26_copy ua (some ib) W with
        | none => rw [hc] at u1; exact absurd u1 (by simp [gB2])
        | some rr =>
          obtain ⟨r28, w27⟩ := rr
          rw [hc, pu_B2] at u1
          injection u1 with u1
          injection u1 with u11 u12
          rw [pu_B2]
          exact htail w27 r28 u12 u11
    · show rItem S xa ib i Wf tgu s T q (rB S xa ib i Wf tgu s T q l) n w.2.1
      have hkid : ∀ j a2, j < sCc S n → rB S xa ib i W tgW s T q l (sCh S n j) a2 → rB S xa ib i Wf tgu s T q l (sCh S n j) a2 := fun j a2 hj hz => by
        have hij := sNode_in hN hj
        have h1 := (rB_fr (q := q) (q1 := q) (T := T) (T1 := T) hS u2.2.2.1 (fun z => ⟨z, fun _ _ z => z⟩) (Nat.le_refl _) l).1 _ a2 (sWf_lt hS hnn hj) (hch j hj).1 (u2.aW i3.1 (fun _ _ => id)) (aS.aY hS (sWf_lt hS hnn hj) (fun _ _ _ _ _ => rfl)) hz
        exact (rB_fr (q := q) (q1 := q) (T := T) (T1 := T) hS hFf.2.2.1 (fun z => ⟨z, fun _ _ z => z⟩) (Nat.le_refl _) l).1 _ a2 (sWf_lt hS hnn hj) (hch j hj).1 (hFf.aW u2.1 (fun t ht z => by
          rw [z] at ht
          rcases ht with ht | ht
          · have := ht.2.1
            simp only at this
            omega
          · exact hib (congrArg Prod.fst ht))) (aS.aY hS (sWf_lt hS hnn hj) (fun _ _ _ _ _ => rfl)) h1
      have hcl : ∀ ub L left tried til, uCell xa ib Wu tgu n ub L left tried til → uCell xa ib Wf tgu n ub L left tried til := fun ub L left tried til hz => by
        obtain ⟨x1, td, tda, f, x2, x3, x4, x5, x6, x7⟩ := hz
        have nub : ub ≠ w.2.1 := ne_of x2 c0.1 (by simp)
        have ntd : td ≠ w.2.1 := ne_of x4 c0.1 (by simp)
        have ntda : tda ≠ w.2.1 := ne_of x6 c0.1 (by simp)
        exact ⟨x1, td, tda, f, (pf _ nub).trans x2, x3, (pf _ ntd).trans x4, x5, (pf _ ntda).trans x6, x7⟩
      refine Or.inr (Or.inr (Or.inr (Or.inr (Or.inr ⟨hk6, c0.2.trans i7.1, w.2.1 + 1, w.2.1 + 2, und', ptk, ouk, qf, c1.2.trans i7.2.1, (pf _ (by omega)).trans c1.1, c2.2.trans i7.2.2, (pf _ (by omega)).trans c2.1, fun k hk => ?_, fun z k hk => ?_, fun z => ?_, fun z => ?_, fun ub z => ?_, g13⟩))))
      · obtain ⟨z1, z2, z3⟩ := i11 k hk
        rw [z1, hKf]
        rcases g8 k hk with ⟨y1, y2, y3⟩ | ⟨y1, a', y2, y3⟩
        · exact Or.inl ⟨y1, z2 y2, y3⟩
        · obtain ⟨a2, x1, x2⟩ := z3 a' y2
          exact Or.inr ⟨y1, a2, x1, hkid k a2 hk x2⟩
      · rw [(i11 k hk).1, hKf]
        exact g9 z k hk
      · obtain ⟨y1, y2⟩ := g10 z
        exact ⟨u5 y1, y2⟩
      · obtain ⟨y1, ua, y2, L, left, tried, til, y3, y4⟩ := g11 z
        obtain ⟨ub, x1, x2⟩ := u6 ua y2
        exact ⟨y1, ub, x1, L, left, tried, til, hcl _ _ _ _ _ (x2 _ _ _ _ y3), y4⟩
      · cases hu : und with
        | none =>
          rw [u5 hu] at z
          exact absurd z (by simp)
        | some ua =>
          obtain ⟨ub', x1, x2⟩ := u6 ua hu
          rw [x1] at z
          obtain rfl := Option.some.inj z
          obtain ⟨L, left, tried, til, y1⟩ := g12 ua hu
          exact ⟨L, left, tried, til, hcl _ _ _ _ _ (x2 _ _ _ _ y1)⟩
end CQ
