set_option maxRecDepth 100000
/-! DEFINE: the call -/
section DG
variable {k xa : Nat} {w : gw} {tg : pT} {σ : TS}
theorem def_tail (p1 : Int32) (b : Int32) (σ1 : TS) : ∃ σf, tPut (tPut (tPut σ1 9 (nI 0)) 10 (if b = 0 then σ1 0 12 else -1)) 11 (σ1 0 13) = σf ∧ σf 0 9 = nI 0 ∧ σf 0 10 = (if b = 0 then σ1 0 12 else -1) ∧ σf 0 11 = σ1 0 13 ∧ (∀ j, j ≠ 9 → j ≠ 10 → j ≠ 11 → σf 0 j = σ1 0 j) ∧ ∀ r, r ≠ 0 → σf r = σ1 r := by
  refine ⟨_, rfl, ?_, ?_, ?_, fun j h1 h2 h3 => ?_, fun r hr => ?_⟩
  · rw [tPut_ne (by omega), tPut_ne (by omega), tPut_0]
  · rw [tPut_ne (by omega), tPut_0]
  · rw [tPut_0]
  · rw [tPut_ne h3, tPut_ne h2, tPut_ne h1]
  · rw [tPut_r hr, tPut_r hr, tPut_r hr]
theorem call_define (p1 : Int32) (h : GRw (k + 1) xa w tg σ) : callOk k xa w tg σ (match f_X0_define xa p1 w with | some (.inr r, w1) => some (r, w1) | _ => none) (t_X2_define p1 σ) := by
  obtain ⟨mo, ias, Ss, many, T, fv, fm, wr, im, h⟩ := h
  have hz : (nI 0 : Int32) = 0 := by decide
  have hz1 : ¬ (nI 1 : Int32) = 0 := by decide
  have hco := h.2.2.2.1.1
  have hb := hco.1
  have hk64 : k + 1 ≤ 64 := h.2.2.2.2.2.2.1
  obtain ⟨g8, g9, -⟩ := h.2.2.2.2.2.2.2
  obtain ⟨ta, va, vm, p, W1, W2, W4, tp, c1, a8, a6, t1, t3, t5, t7, ⟨ft, a4⟩, a2, e1, c2, e2, c3, e4, hC, hT, q10, qxa, hold, hz4⟩ := def_open h
  have n4 : W4.2.1 = w.2.1 + 2 := by rw [hz4]
  have m4 : W4.2.2.1 = w.2.2.1 + 6 := by rw [hz4]
  have k4 : W4.2.2.2 = w.2.2.2 := by rw [hz4]
  have hxl := hb _ _ a2
  have htl := hb _ _ a4
  have hval := hb _ _ a6
  have hvml := hb _ _ a8
  have nta : ta ≠ xa := ne_of a4 a2 (by simp)
  have nva : va ≠ xa := ne_of a6 a2 (by simp)
  have nvm : vm ≠ xa := ne_of a8 a2 (by simp)
  have nvv : vm ≠ va := ne_of a8 a6 (by simp)
  have ntv : ta ≠ va := ne_of a4 a6 (by simp)
  have ntm : ta ≠ vm := ne_of a4 a8 (by simp)
  unfold f_X0_define
  rw [t_X2_define_eq, isWf_f, isWf_t, pu_B2, pu_B2]
  by_cases hr : nI 0 ≤ p1 ∧ p1 ≤ nI 3
  · obtain ⟨wf, hwf, rfl⟩ := rng (by omega) hr
    obtain ⟨v1, v2, v3, v4, v5⟩ := h.2.2.1 wf (by omega)
    rw [if_pos hr, if_neg hz1, if_neg hz1, c1, pu_B1, pu_B1, pu_LdI a8 (by omega) (by omega), pu_B1, nI_add, t_ld (by show _ < 7593; omega) (by decide), pu_B1, v2, v3]
    by_cases h4 : many wf = 4
    · rw [h4, if_pos rfl, if_pos rfl]
      exact h.same _
    · have hne : ¬ nI (many wf) = nI 4 := fun z => h4 ((nI_eq (by omega) (by omega)).mp z)
      rw [if_neg hne, if_neg hne, e1, pu_B1, c2, pu_B1, e2, pu_B2, c3, pu_B1, pu_Bd, pu_Bd, pu_Bd, pu_Bd, pu_Bd, pu_Bd, def_dec]
      obtain ⟨n, hn⟩ : ∃ n, many wf = n := ⟨_, rfl⟩
      rw [hn] at v1 v2 v3 v4 h4 ⊢
      generalize hσs : tPut (tPut (tPut (tPut (tPut (tPut σ 12 (nI 0)) 13 (nI 1)) 14 (nI 0)) 15 (nI 0)) 16 (nI 0)) 17 (nI 0) = σs at hC hT ⊢
      rcases whole_s hC with ⟨ea, c, W5, σ1, p', gs, y1, y2, y3, y4, y5, y6, y7, y8, y9, y10, y11, y12, -⟩ | ⟨a, W5, σ1, it1, nd1, mo1, S1, tp1, y1, y2, hP, y3, y4, ndp, hG, htp, hsub, r8, k0, l4, sa⟩
      · -- it can't be read
        obtain ⟨b5, le5, k5, o5⟩ := y3
        rw [n4] at le5 o5
        rw [k4] at k5
        obtain ⟨W6, W7, fs, e6, e7, q7, o7, z7, b7⟩ := wt_new (w := W5) (ea := ea) b5 (by rw [k5]; omega) (by rw [k5]; omega)
        have hea5 := b5 _ _ y7
        have hea7 : W7.1 ea = some (.inl (c, gs)) := (o7 ea (by omega)).trans y7
        have hk7 : gKl W7 W5.2.1 = some 15 := by
          unfold gKl
          rw [q7]
        have hread : f_X0_read xa W2 = some (.inl (W5.2.1, 15), W7) := by
          rw [e4, y1, gB2X_l]
          rcases y9 with ⟨hc, -⟩ | ⟨hc, -⟩
          · rw [if_pos hc, e6, pu_B2, e7, pu_B2, hk7, pu_B1]
          · rw [if_neg (by omega), if_pos hc, e6, pu_B2, e7, pu_B2, hk7, pu_B1]
        have hxa7 := (o7 xa (by omega)).trans ((o5 xa (by omega) (by omega)).trans qxa)
        obtain ⟨W8, e8, q8, o8, z8, b8⟩ := st_put (k := 2) hxa7 (by show 2 < 7; omega) b7 (ga (some W5.2.1))
        have hwt8 : W8.1 W5.2.1 = some (.inl (15, ga (some ea) :: fs)) := (o8 _ (by omega)).trans q7
        have hea8 : W8.1 ea = some (.inl (c, gs)) := (o8 _ (by omega)).trans hea7
        have hpl := place_w hwt8 hea8 y8 (by rcases y9 with y | y <;> omega)
        obtain ⟨W9, e9, q9, o9, z9, b9⟩ := st_put (k := 1) q8 (by show 1 < 7; omega) b8 (gi (nI 0))
        rw [hread, gB2X_l, if_pos rfl, e8, pu_B1, pu_Ob hwt8, pu_B1, hpl, pu_B2, pu_Bd, e9, pu_B1, y2, pu_B2, pu_Bd, pu_Bd, pu_Bd, if_pos hz]
        obtain ⟨σf, s1, s2, s3, s4, s5, s6⟩ := def_tail (nI wf) (nI 0) σ1
        rw [if_pos hz] at s1 s3
        have e12 : tPut σ1 9 (nI 0) 0 12 = σ1 0 12 := tPut_ne (by omega)
        have e13 : tPut (tPut σ1 9 (nI 0)) 10 (σ1 0 12) 0 13 = σ1 0 13 := by rw [tPut_ne (by omega), tPut_ne (by omega)]
        try dsimp only
        rw [pu_Bd, e12, pu_Bd, e13, s1, if_pos hz, s5 12 (by omega) (by omega) (by omega), y6]
        have hW9 : W9.2 = (W5.2.1 + 1, W5.2.2.1 + 6, W5.2.2.2) := z9.trans (z8.trans z7)
        have n9 : W9.2.1 = W5.2.1 + 1 := by rw [hW9]
        have m9 : W9.2.2.1 = W5.2.2.1 + 6 := by rw [hW9]
        have k9 : W9.2.2.2 = w.2.2.2 := by rw [hW9]; exact k5
        have hold9 : ∀ b, b < w.2.1 → b ≠ xa → W9.1 b = w.1 b := fun b b1 b2 => (o9 b b2).trans ((o8 b b2).trans ((o7 b (by omega)).trans ((o5 b (by omega) (by omega)).trans (hold b b1 b2))))
        have hF : pFr w W9 tg (tgN tg w.2.1) (fun t => t.1 = xa ∧ 64 ≤ t.2 ∧ t.2 < 68) := ⟨b9, by omega, k9, fun a ha => tgN_o ha, fun a ha hP => hold9 a ha (fun z => hP (by rw [z, t1]; exact ⟨rfl, Nat.le_refl 64, by show 64 < 68; omega⟩))⟩
        have hstc := hF.stc hb (fun z => by have := z.2.2; simp only at this; omega)
        have r5 : σf 5 = σ 5 := by rw [s6 5 (by omega), y4.1 5 (by omega), hT.1 5 (by omega)]
        have r3 : σf 3 = σ 3 := by rw [s6 3 (by omega), y4.1 3 (by omega), hT.1 3 (by omega)]
        have r1 : ∀ j, j < 9216 → σf 1 j = σ 1 j := fun j hj => by rw [s6 1 (by omega), y4.2.2 j hj, hT.2.2 j hj]
        have r0 : ∀ j, j < 9 ∨ 18 < j → σf 0 j = σ 0 j := fun j hj => by rw [s5 j (by omega) (by omega) (by omega), y4.2.1 j (by omega), hT.2.1 j (by omega)]
        have rr2 : ∀ r, 2 ≤ r → σf r = σ r := fun r hr => by rw [s6 r (by omega), y4.1 r hr, hT.1 r hr]
        have hfin := h.def (W := W9) (tg1 := tgN tg w.2.1) (σ1 := σf) (Ss1 := Ss) (many1 := many) (fv1 := fv) (fm1 := fm) (wr1 := some W5.2.1) hF (by omega) (by omega) ⟨ta, va, vm, 0, ft, (tgN_o hxl).trans t1, q9, (tgN_o htl).trans t3, (hold9 _ htl nta).trans a4, (tgN_o hval).trans t5, (hold9 _ hval nva).trans a6, (tgN_o hvml).trans t7, (hold9 _ hvml nvm).trans a8, by omega, s2, fun j hj => absurd hj (by omega)⟩ (Or.inr ⟨W5.2.1, ea, p', fs, gs, rfl, tgN_n (by omega), tgN_n (by omega), s3.trans y6, by have := hC.1.2.2.1; omega, (o9 _ (by omega)).trans hwt8, y8, by
          have hea9 := (o9 ea (by omega)).trans hea8
          rcases y9 with ⟨rfl, y⟩ | ⟨rfl, y⟩
          · exact Or.inl ⟨s4.trans y, hea9⟩
          · exact Or.inr ⟨s4.trans y, hea9⟩⟩) (by
          rw [r5]
          exact (h.2.2.1.fr hstc (fun _ _ => rfl)).sq r1 r3 (fun _ _ => rfl)) (fun a b h1 h2 h3 => ⟨h2, rfl, fun j j1 j2 => r1 j (by omega), fun q hq => by rw [r3]⟩) (fun j _ _ => by rw [r5]) (rr2 2 (by omega)) (rr2 4 (by omega)) (rr2 6 (by omega)) (r0 7 (by omega)) (r0 19 (by omega)) (r0 20 (by omega))
        exact ⟨_, W9, tgN tg w.2.1, σf, rfl, rfl, hfin⟩
      · -- it is read
        obtain ⟨b5, le5, k5, o5⟩ := y3
        rw [n4] at le5 o5
        rw [k4] at k5
        have hread : f_X0_read xa W2 = some (.inr (some a), W5) := by
          rw [e4, y1, gB2X_r]
        have hPs := hP
        obtain ⟨-, -, l80, -, t9, -, -, t14, t15, -, t17, -, -, -, -, -, -, -, w5a, w5b, -⟩ := hPs
        have hxa5 := (o5 xa (by omega) (by omega)).trans qxa
        have h105 := (o5 w.2.1 (by omega) (by omega)).trans q10
        obtain ⟨W6, e6, q6, o6, z6, b6⟩ := st_put (k := 0) h105 (by show 0 < 2; omega) b5 (ga (some a))
        obtain ⟨W7, e7, q7, o7, z7, b7⟩ := st_put (k := 1) q6 (by show 1 < 2; omega) b6 (gi (nI p))
        have hold7 : ∀ b, b < w.2.1 → b ≠ xa → W7.1 b = w.1 b := fun b b1 b2 => (o7 b (by omega)).trans ((o6 b (by omega)).trans ((o5 b (by omega) (by omega)).trans (hold b b1 b2)))
        have hva7 := (hold7 va hval nva).trans a6
        have hvm7 := (hold7 vm hvml nvm).trans a8
        have hxa7 := (o7 xa (by omega)).trans ((o6 xa (by omega)).trans hxa5)
        have can : gCan W7 3 (some w.2.1) = true := pu_Can q7 (by decide)
        obtain ⟨W8, hW8⟩ : ∃ W8, hs W7 va (.inr (3, 16, .inr (va_up fv (4 * wf + n) (some w.2.1)))) = W8 := ⟨_, rfl⟩
        have e8 : gStR W7 va 3 (nI (4 * wf + n)) (some w.2.1) = some W8 := by rw [pu_StR hva7 (by omega) (by omega) can, hW8]
        have o8 : ∀ b, b ≠ va → W8.1 b = W7.1 b := fun b hbv => by rw [← hW8, hs_ne hbv]
        have b8 : pBd W8 := by
          rw [← hW8]
          exact (pFr.hs (P := fun _ => True) (tg := fun _ => (0, 0)) b7 hva7 trivial).1
        have z8 : W8.2 = W7.2 := by rw [← hW8, hs_2]
        have hxa8 := (o8 xa nva.symm).trans hxa7
        have hvm8 := (o8 vm nvv).trans hvm7
        obtain ⟨W9, hW9⟩ : ∃ W9, hs W8 vm (.inr (0, 4, .inl (upd fm wf (nI (n + 1))))) = W9 := ⟨_, rfl⟩
        have e9 : gStI W8 vm 0 (nI wf) (nI (n + 1)) = some W9 := by rw [pu_StI hvm8 (by omega) (by omega), hW9]
        have o9 : ∀ b, b ≠ vm → W9.1 b = W8.1 b := fun b hbv => by rw [← hW9, hs_ne hbv]
        have b9 : pBd W9 := by
          rw [← hW9]
          exact (pFr.hs (P := fun _ => True) (tg := fun _ => (0, 0)) b8 hvm8 trivial).1
        have z9 : W9.2 = W8.2 := by rw [← hW9, hs_2]
        have hxa9 := (o9 xa nvm.symm).trans hxa8
        obtain ⟨WA, eA, qA, oA, zA, bA⟩ := st_put (k := 1) hxa9 (by show 1 < 7; omega) b9 (gi (nI 0))
        unfold f_X3_init
        rw [hread, gB2X_r, pu_I (k := 1) hxa5 rfl, pu_B1, e6, pu_B1, e7, pu_B1, pu_B2, pu_B1, pu_mul, nI_add, e8, pu_B1, pu_R (k := 4) hxa8 rfl, pu_B1, pu_B1, pu_LdI hvm8 (by omega) (by omega), pu_B1, v2, nI_add, e9, pu_B1, eA, pu_B1, y2, pu_B2, pu_Bd, pu_Bd, pu_Bd, if_neg hz1]
        obtain ⟨σf, s1, s2, s3, s4, s5, s6⟩ := def_tail (nI wf) (nI 1) σ1
        rw [if_neg hz1] at s1 s3
        have e13 : tPut (tPut σ1 9 (nI 0)) 10 (-1) 0 13 = σ1 0 13 := by rw [tPut_ne (by omega), tPut_ne (by omega)]
        try dsimp only
        rw [pu_Bd, pu_Bd, e13, s1, if_neg hz1]
        have r5 : σf 5 = σ 5 := by rw [s6 5 (by omega), y4.1 5 (by omega), hT.1 5 (by omega)]
        have r3 : σf 3 = σ 3 := by rw [s6 3 (by omega), y4.1 3 (by omega), hT.1 3 (by omega)]
        have r1 : ∀ j, j < 9216 → σf 1 j = σ 1 j := fun j hj => by rw [s6 1 (by omega), y4.2.2 j hj, hT.2.2 j hj]
        have r0 : ∀ j, j < 9 ∨ 18 < j → σf 0 j = σ 0 j := fun j hj => by rw [s5 j (by omega) (by omega) (by omega), y4.2.1 j (by omega), hT.2.1 j (by omega)]
        have rr2 : ∀ r, 2 ≤ r → σf r = σ r := fun r hr => by rw [s6 r (by omega), y4.1 r hr, hT.1 r hr]
        obtain ⟨σg, d1, d2, d3, d4, d5, d6, d7, d8, d9, d10, d11⟩ := def_copy (wf := wf) (n := n) (v := 4 * wf + n) (σ1 0 9) (σ := σf) (by omega) (by omega)
        rw [nI_add, t_ld (by show _ < 7593; omega) (by decide), pu_B1, r5, v3, pu_mul, nI_add, pu_Bd, d1]
        rw [r3] at d8
        rw [r5] at d9 d10
        have n7 : WA.2.1 = W5.2.1 := by rw [zA, z9, z8, z7, z6]
        have m7 : WA.2.2.1 = W5.2.2.1 := by rw [zA, z9, z8, z7, z6]
        have k7 : WA.2.2.2 = w.2.2.2 := by rw [zA, z9, z8, z7, z6]; exact k5
        have holdA : ∀ b, b < w.2.1 → b ≠ xa → b ≠ va → b ≠ vm → WA.1 b = w.1 b := fun b b1 b2 b3 b4 => (oA b b2).trans ((o9 b b4).trans ((o8 b b3).trans (hold7 b b1 b2)))
        have hF : pFr w WA tg (tgN tg w.2.1) (fun t => t.1 = xa ∧ 64 ≤ t.2 ∧ t.2 < 68) := ⟨bA, by omega, k7, fun a ha => tgN_o ha, fun a ha hP => holdA a ha (fun z => hP (by rw [z, t1]; exact ⟨rfl, Nat.le_refl 64, by show 64 < 68; omega⟩)) (fun z => hP (by rw [z, t5]; exact ⟨rfl, by show 64 ≤ 66; omega, by show 66 < 68; omega⟩)) (fun z => hP (by rw [z, t7]; exact ⟨rfl, by show 64 ≤ 67; omega, by show 67 < 68; omega⟩))⟩
        have hstc := hF.stc hb (fun z => by have := z.2.2; simp only at this; omega)
        have hvaA : WA.1 va = some (.inr (3, 16, .inr (va_up fv (4 * wf + n) (some w.2.1)))) := (oA va nva).trans ((o9 va nvv.symm).trans (by rw [← hW8, hs_self]))
        have hvmA : WA.1 vm = some (.inr (0, 4, .inl (upd fm wf (nI (n + 1))))) := (oA vm nvm).trans (by rw [← hW9, hs_self])
        have h10A : WA.1 w.2.1 = some (.inl (3, [ga (some a), gi (nI p)])) := (oA _ (by omega)).trans ((o9 _ (by omega)).trans ((o8 _ (by omega)).trans q7))
        have d7' : σg 3 (4 * (4 * wf + n) + 3) = nI p := d7.trans t9
        have hnew : vOk (rr σ1, S1.2) σg WA (tgN tg w.2.1) (4 * wf + n) (some w.2.1) := def_ver (by omega) hP hG hsub r8 k0 l4 (fun b e hbn he hne => by
            have hb10 : b ≠ w.2.1 := fun z => hne _ (by rw [z, h105] at he; exact (Option.some.inj he).symm)
            exact (oA b (by omega)).trans ((o9 b (by omega)).trans ((o8 b (by omega)).trans ((o7 b hb10).trans ((o6 b hb10).trans he))))) (fun b hbn => tgN_n hbn) (fun j hj => (d2 j hj).trans (by rw [s6 1 (by omega)])) (d4.trans (s5 14 (by omega) (by omega) (by omega))) (d5.trans (s5 15 (by omega) (by omega) (by omega))) (d6.trans (s5 17 (by omega) (by omega) (by omega))) (Nat.le_refl _) (by rw [sa, d7']; exact h10A)
        have g11 : ∀ r, r ≠ 1 → r ≠ 3 → r ≠ 5 → σg r = σf r := d11
        have hQ : ∀ j, j ≠ 17 + wf → σg 5 j = σ 5 j := d10
        have hvold : ∀ a b, a < 4 → b < 4 → (a ≠ wf ∨ b < n) → (∀ j, 576 * (4 * a + b) ≤ j → j < 576 * (4 * a + b) + 576 → σg 1 j = σ 1 j) ∧ ∀ q, q < 4 → σg 3 (4 * (4 * a + b) + q) = σ 3 (4 * (4 * a + b) + q) := fun a b ha hb4 hab => ⟨fun j j1 j2 => (d3 j (by omega)).trans (r1 j (by omega)), fun q hq => d8 _ (by omega)⟩
        have hfin := h.def (W := WA) (tg1 := tgN tg w.2.1) (σ1 := σg) (Ss1 := fun v => if v = 4 * wf + n then (rr σ1, S1.2) else Ss v) (many1 := fun a => if a = wf then n + 1 else many a) (fv1 := va_up fv (4 * wf + n) (some w.2.1)) (fm1 := upd fm wf (nI (n + 1))) (wr1 := none) hF (by omega) (by omega) ⟨ta, va, vm, 0, ft, (tgN_o hxl).trans t1, qA, (tgN_o htl).trans t3, (holdA _ htl nta ntv ntm).trans a4, (tgN_o hval).trans t5, hvaA, (tgN_o hvml).trans t7, hvmA, by omega, by rw [g11 0 (by omega) (by omega) (by omega)]; exact s2, fun j hj => absurd hj (by omega)⟩ (Or.inl ⟨rfl, by rw [g11 0 (by omega) (by omega) (by omega)]; exact s3⟩) (fun a ha => by
            obtain ⟨u1, u2, u3, u4, u5⟩ := h.2.2.1 a ha
            have hlast : ∀ b, b < 4 → va_up fv (4 * wf + n) (some w.2.1) (4 * a + b) = none ∨ ∃ x fs, va_up fv (4 * wf + n) (some w.2.1) (4 * a + b) = some x ∧ pStc (tgN tg w.2.1) x ∧ WA.1 x = some (.inl (3, fs)) := fun b hb4 => by
              by_cases hab : 4 * a + b = 4 * wf + n
              · rw [hab, va_up_self]
                exact Or.inr ⟨w.2.1, _, rfl, tgN_n (Nat.le_refl _), h10A⟩
              · rw [va_up_ne _ _ hab]
                rcases u5 b hb4 with z | ⟨x, fs, z1, z2, z3⟩
                · exact Or.inl z
                · exact Or.inr ⟨x, fs, z1, (hstc _ _ z3 z2).2, (hstc _ _ z3 z2).1⟩
            have hone : ∀ b, b < 4 → b < many a → (a ≠ wf ∨ b < n) → vOk (if 4 * a + b = 4 * wf + n then (rr σ1, S1.2) else Ss (4 * a + b)) σg WA (tgN tg w.2.1) (4 * a + b) (va_up fv (4 * wf + n) (some w.2.1) (4 * a + b)) := fun b hb4 hbm hab => by
              have hne : ¬ 4 * a + b = 4 * wf + n := by omega
              rw [if_neg hne, va_up_ne _ _ hne]
              obtain ⟨y1, y2⟩ := hvold a b ha hb4 hab
              exact ((u4 b hbm).fr hstc).sq y1 y2
            by_cases haw : a = wf
            · subst haw
              have e1 : (fun q => if q = a then n + 1 else many q) a = n + 1 := if_pos rfl
              rw [e1]
              refine ⟨by omega, upd_self .., d9.trans (by rw [v3, nI_add]), fun b hbn => ?_, hlast⟩
              by_cases hbe : b = n
              · subst hbe
                show vOk (if 4 * a + b = 4 * a + b then _ else _) _ _ _ _ _
                rw [if_pos rfl, va_up_self]
                exact hnew
              · exact hone b (by omega) (by omega) (Or.inr (by omega))
            · have e1 : (fun q => if q = wf then n + 1 else many q) a = many a := if_neg haw
              rw [e1]
              exact ⟨u1, (upd_ne haw).trans u2, (hQ _ (by omega)).trans u3, fun b hbm => hone b (by omega) hbm (Or.inl haw), hlast⟩) (fun a b h1 h2 h3 => by
            have hab : a ≠ wf ∨ b < n := by
              by_cases haw : a = wf
              · right; rw [haw, hn] at h2; exact h2
              · exact Or.inl haw
            obtain ⟨y1, y2⟩ := hvold a b h1 h3 hab
            refine ⟨?_, if_neg (by omega), y1, y2⟩
            show b < if a = wf then n + 1 else many a
            by_cases haw : a = wf
            · rw [if_pos haw]; omega
            · rw [if_neg haw]; exact h2) (fun j _ hj => hQ j (by omega)) ((g11 2 (by omega) (by omega) (by omega)).trans (rr2 2 (by omega))) ((g11 4 (by omega) (by omega) (by omega)).trans (rr2 4 (by omega))) ((g11 6 (by omega) (by omega) (by omega)).trans (rr2 6 (by omega))) (by rw [g11 0 (by omega) (by omega) (by omega)]; exact r0 7 (by omega)) (by rw [g11 0 (by omega) (by omega) (by omega)]; exact r0 19 (by omega)) (by rw [g11 0 (by omega) (by omega) (by omega)]; exact r0 20 (by omega))
        exact ⟨_, WA, tgN tg w.2.1, σg, rfl, rfl, hfin⟩
  · rw [if_neg hr, if_pos hz, if_pos hz]
    exact h.same _
end DG
