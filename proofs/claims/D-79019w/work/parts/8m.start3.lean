set_option maxRecDepth 100000
/-! START: the component's new instance -/
section SN
variable {k xa mo : Nat} {w : gw} {tg : pT} {σ : TS} {ias : Nat → Nat} {Ss : Nat → SV} {many : Nat → Nat} {T : Nat} {fv : Nat → Option Nat} {fm : Nat → Int32} {wr im : Option Nat}
theorem inst_new (h : GRp (k + 1) xa mo ias Ss many T fv fm wr im w tg σ) {j wf v : Nat} (hj : j < 6) (hwf : wf < 4) (hv : v + 1 = many wf) {s2 : Nat → Int32} (hR : nRow j wf v (σ 5) s2) (KK : Int32 → Int32 → Int32 → gw → Option (Int32 × gw)) (hfree : σ 5 (21 + 1262 * (j) + 0) = nI 0) :
    ∃ w1 tg1 fi, bf_X0_start_1 xa KK (nI wf) (nI v) (nI j) w = (gB2 (f_X16_looks 3 w.2.1 w1) fun _ w41 => some (nI j, w41)) ∧ pW (Ss (4 * wf + v)) σ xa mo w.2.1 j (4 * wf + v) T w1 tg1 s2 0 (some (w.2.1 + 5)) none ∧ rBf (Ss (4 * wf + v)) xa w.2.1 w1 tg1 0 (w.2.1 + 5) ∧ pFr w w1 tg tg1 (fun t => t = (mo, 3)) ∧ w1.2 = (w.2.1 + 8, w.2.2.1 + 664, w.2.2.2) ∧ mIn mo w tg fi ∧ mIn mo w1 tg1 (va_up fi j (some w.2.1)) := by
  obtain ⟨ta, va, vm, pp, du, fa, ins, fd, ff, fi, c1, c2, c3, c4, c5, c6, c7, c8, c9, c10, c11, c12, c13, c14, c15, c16, c17⟩ := h.rd
  have hb := h.2.2.2.1.1.1
  have hco := h.2.2.2.1.1
  have hro := h.2.2.2.2.2.2.2
  obtain ⟨hr0, hr1, hiax⟩ := hro
  have hn4 : v < 4 := by have := (h.2.2.1 wf hwf).1; omega
  obtain ⟨hS, hn0, hsg, hso, hinf, vo, hvo, hvot, hvoc⟩ := (h.2.2.1 wf hwf).2.2.2.1 v (by omega)
  have hNs : sEn (Ss (4 * wf + v)) 0 ≤ 64 := hS.1
  have hxa := hb _ _ c1
  have hmo := hb _ _ c2
  have hins := hb _ _ c3
  have hdu := hb _ _ c4
  have hfa := hb _ _ c5
  have hva := hb _ _ c10
  have hvol := hb _ _ hvoc
  have hz : (0 : Int32) = nI 0 := by decide
  -- the cells, one by one
  obtain ⟨W1, e1, q1, o1, z1, b1⟩ := st_new (w := w) (ci := 16) (n := 16) (fs := [ga none, gi 0, gi 0, gi 0, ga none, ga none, ga none, ga none, gi 0, gi 0, gi 0, gi 0, gi 0, ga none, ga none, ga none]) rfl (by omega) (by omega) hb
  obtain ⟨W2, e2, q2, a1, a2, a3, a4, o2, z2, b2⟩ := pf_init16 (p1 := some xa) (p2 := some mo) (x3 := nI wf) (x4 := nI v) (x5 := nI T) q1 b1 (by rw [z1]; show w.2.1 + 1 + 4 ≤ w.2.2.2 0; omega) (by rw [z1]; show w.2.2.1 + 16 + 615 ≤ w.2.2.2 1; omega)
  rw [z1] at q2 a1 a2 a3 a4 o2 z2
  simp only at q2 a1 a2 a3 a4 o2 z2
  obtain ⟨W3, e3, q3, o3, z3, b3⟩ := st_new (w := W2) (ci := 18) (n := 7) (fs := [ga none, ga none, ga none, ga none, gi 0, ga none, ga none]) rfl (by rw [z2]; show w.2.1 + 1 + 4 + 1 ≤ w.2.2.2 0; omega) (by rw [z2]; show w.2.2.1 + 16 + 615 + 7 ≤ w.2.2.2 1; omega) b2
  rw [z2] at e3 q3 o3 z3
  simp only at e3 q3 o3 z3
  obtain ⟨W4, e4, q4, q5, q6, o4, z4, b4⟩ := pf_init18 (xa := xa) (ia := w.2.1) (r := some (sSa (Ss (4 * wf + v)) 0)) q3 b3 (by rw [z3]; show w.2.1 + 1 + 4 + 1 + 2 ≤ w.2.2.2 0; omega) (by rw [z3]; show w.2.2.1 + 16 + 615 + 7 + 26 ≤ w.2.2.2 1; omega)
  rw [z3] at q4 q5 q6 o4 z4
  simp only at q4 q5 q6 o4 z4
  have hi4 : W4.1 w.2.1 = _ := (o4 w.2.1 (by omega) (by omega)).trans ((o3 w.2.1 (by omega)).trans q2)
  obtain ⟨W5, e5, q7, o5, z5, b5⟩ := st_put (k := 13) hi4 (by show 13 < 16; omega) b4 (ga (some (w.2.1 + 1 + 4)))
  have old : ∀ b, b < w.2.1 → W5.1 b = w.1 b := fun b hbl => (o5 b (by omega)).trans ((o4 b (by omega) (by omega)).trans ((o3 b (by omega)).trans ((o2 b (by omega) (by omega)).trans (o1 b (by omega)))))
  have hcan : gCan W5 4 (some w.2.1) = true := pu_Can q7 (by decide)
  have i5 := (old ins hins).trans c3
  obtain ⟨W6, hW6⟩ : ∃ W6, hs W5 ins (.inr (4, 6, .inr (va_up fi j (some w.2.1)))) = W6 := ⟨_, rfl⟩
  have e6 : gStR W5 ins 4 (nI j) (some w.2.1) = some W6 := by rw [pu_StR i5 hj (by omega) hcan, hW6]
  have o6 : ∀ b, b ≠ ins → W6.1 b = W5.1 b := fun b hbn => by rw [← hW6, hs_ne hbn]
  have i6 : W6.1 ins = some (.inr (4, 6, .inr (va_up fi j (some w.2.1)))) := by rw [← hW6, hs_self]
  have z6 : W6.2 = (w.2.1 + 8, w.2.2.1 + 664, w.2.2.2) := by rw [← hW6, hs_2, z5, z4]
  have b6 : pBd W6 := by rw [← hW6]; exact (pFr.hs (P := fun _ => True) (tg := fun _ => (0, 0)) b5 i5 trivial).1
  obtain ⟨tg1, htg⟩ : ∃ tg1 : pT, tg1 = fun x => if x < w.2.1 then tg x else if x = w.2.1 then (w.2.1, 64) else if x = w.2.1 + 1 then (w.2.1, 65) else if x = w.2.1 + 2 then (w.2.1, 66) else if x = w.2.1 + 3 then (w.2.1, 68) else if x = w.2.1 + 4 then (w.2.1, 67) else (w.2.1, 0) := ⟨_, rfl⟩
  have t0 : ∀ x, x < w.2.1 → tg1 x = tg x := fun x hx => by rw [htg]; exact if_pos hx
  have t1 : tg1 w.2.1 = (w.2.1, 64) := by
    rw [htg]
    dsimp only
    rw [if_neg (by omega), if_pos rfl]
  have t2 : tg1 (w.2.1 + 1) = (w.2.1, 65) := by
    rw [htg]
    dsimp only
    rw [if_neg (by omega), if_neg (by omega), if_pos rfl]
  have t3 : tg1 (w.2.1 + 2) = (w.2.1, 66) := by
    rw [htg]
    dsimp only
    rw [if_neg (by omega), if_neg (by omega), if_neg (by omega), if_pos rfl]
  have t4 : tg1 (w.2.1 + 3) = (w.2.1, 68) := by
    rw [htg]
    dsimp only
    rw [if_neg (by omega), if_neg (by omega), if_neg (by omega), if_neg (by omega), if_pos rfl]
  have t5 : tg1 (w.2.1 + 4) = (w.2.1, 67) := by
    rw [htg]
    dsimp only
    rw [if_neg (by omega), if_neg (by omega), if_neg (by omega), if_neg (by omega), if_neg (by omega), if_pos rfl]
  have t6 : tg1 (w.2.1 + 5) = (w.2.1, 0) := by
    rw [htg]
    dsimp only
    rw [if_neg (by omega), if_neg (by omega), if_neg (by omega), if_neg (by omega), if_neg (by omega), if_neg (by omega)]
  have t7 : tg1 (w.2.1 + 6) = (w.2.1, 0) := by
    rw [htg]
    dsimp only
    rw [if_neg (by omega), if_neg (by omega), if_neg (by omega), if_neg (by omega), if_neg (by omega), if_neg (by omega)]
  have t8 : tg1 (w.2.1 + 7) = (w.2.1, 0) := by
    rw [htg]
    dsimp only
    rw [if_neg (by omega), if_neg (by omega), if_neg (by omega), if_neg (by omega), if_neg (by omega), if_neg (by omega)]
  have hF : pFr w W6 tg tg1 (fun t => t = (mo, 3)) := ⟨b6, by rw [z6]; show w.2.1 ≤ w.2.1 + 8; omega, by rw [z6], t0, fun b hbl hn => by
    rw [o6 b (fun y => hn (by rw [y, c6])), old b hbl]⟩
  have hP0 : ¬ ((0, 100) = (mo, 3)) := fun z => by
    have := congrArg Prod.snd z
    simp only at this
    omega
  have hn3 : ∀ r, r ≠ 3 → ¬ ((mo, r) = (mo, 3)) := fun r hr z => hr (congrArg Prod.snd z)
  obtain ⟨r1, r2, r3, r4, r5, r6, r7, r8⟩ := hR
  have d2 := hF.at hb c2 (by rw [c9]; exact hn3 0 (by omega))
  have d4 := hF.at hb c4 (by rw [c7]; exact hn3 1 (by omega))
  have d5 := hF.at hb c5 (by rw [c8]; exact hn3 2 (by omega))
  have hM1 : pMo xa mo W6 tg1 s2 T := ⟨du, fa, ins, fd, ff, _, d2.2.trans c9, by rw [d2.1, r1 0 (by omega), c13], d4.2.trans c7, d4.1, d5.2.trans c8, d5.1, (t0 ins hins).trans c6, i6, fun q hq => by rw [r1 (1 + q) (by omega), r1 (9 + q) (by omega)]; exact c12 q hq, (r1 0 (by omega)).trans c13, (pM_T h.2.2.2.1.2.1).2⟩
  have hz0 : ∀ q, q < 22 → q ≠ 0 → q ≠ 2 → q ≠ 3 → q ≠ 4 → q ≠ 5 → s2 (21 + 1262 * (j) + q) = nI 0 := fun q h1 h2 h3 h4 h5 h6 => r8 _ (by omega) (by omega) (by omega) (by omega) (by omega) (by omega) (by omega) (fun m hm => by omega)
  have hzh : ∀ q, q < 600 → s2 (21 + 1262 * (j) + (22 + q)) = nI 0 := fun q h1 => r8 _ (by omega) (by omega) (by omega) (by omega) (by omega) (by omega) (by omega) (fun m hm => by omega)
  have hzN : ∀ m q, m < 64 → q < 10 → q ≠ 7 → s2 (21 + 1262 * (j) + (622 + 10 * (m) + q)) = nI 0 := fun m q h1 h2 h3 => r8 _ (by omega) (by omega) (by omega) (by omega) (by omega) (by omega) (by omega) (fun m' hm' => by omega)
  have old2 : ∀ b, w.2.1 ≤ b → W6.1 b = W5.1 b := fun b hbl => o6 b (by omega)
  have u1 : W6.1 w.2.1 = some (.inl (16, [ga (some mo), gi (nI wf), gi (nI v), gi (nI T), ga (some (w.2.1 + 1)), ga (some (w.2.1 + 1 + 1)), ga (some (w.2.1 + 1 + 2)), ga (some (w.2.1 + 1 + 3)), gi 0, gi 0, gi (-5), gi 0, gi 0, ga (some (w.2.1 + 1 + 4)), ga none, ga (some xa)])) := (old2 _ (Nat.le_refl _)).trans q7
  have mid : ∀ b, w.2.1 < b → b < w.2.1 + 5 → W6.1 b = W2.1 b := fun b h1 h2 => by rw [old2 b (by omega), o5 b (by omega), o4 b (by omega) (by omega), o3 b (by omega)]
  have u2 : W6.1 (w.2.1 + 1) = _ := (mid _ (by omega) (by omega)).trans a1
  have u3 : W6.1 (w.2.1 + 1 + 1) = _ := (mid _ (by omega) (by omega)).trans a2
  have u4 : W6.1 (w.2.1 + 1 + 2) = _ := (mid _ (by omega) (by omega)).trans a3
  have u5 : W6.1 (w.2.1 + 1 + 3) = _ := (mid _ (by omega) (by omega)).trans a4
  have u6 : W6.1 (w.2.1 + 5) = some (.inl (18, [ga (some w.2.1), ga (some xa), ga (some (sSa (Ss (4 * wf + v)) 0)), ga none, gi 0, ga (some (w.2.1 + 1 + 4 + 1)), ga (some xa)])) := (old2 _ (by omega)).trans ((o5 _ (by omega)).trans q4)
  have u7 : W6.1 (w.2.1 + 6) = some (.inl (19, [ga (some (w.2.1 + 1 + 4 + 1 + 1)), gi (nI 0)])) := (old2 _ (by omega)).trans ((o5 _ (by omega)).trans q5)
  have u8 : W6.1 (w.2.1 + 7) = some (.inr (0, 24, .inl (fun _ => 0))) := (old2 _ (by omega)).trans ((o5 _ (by omega)).trans q6)
  have hsum0 : pSum (fun n => if sKd (Ss (4 * wf + v)) n = 1 ∧ s2 (21 + 1262 * (j) + (622 + 10 * (n) + 0)) = nI 2 then 1 else 0) (sEn (Ss (4 * wf + v)) 0) = 0 := by
    have : ∀ N, N ≤ 64 → pSum (fun n => if sKd (Ss (4 * wf + v)) n = 1 ∧ s2 (21 + 1262 * (j) + (622 + 10 * (n) + 0)) = nI 2 then 1 else 0) N = 0 := by
      intro N
      induction N with
      | zero => intro _; rfl
      | succ N ih =>
        intro hN
        show pSum _ N + (if sKd (Ss (4 * wf + v)) N = 1 ∧ s2 (21 + 1262 * (j) + (622 + 10 * (N) + 0)) = nI 2 then 1 else 0) = 0
        rw [ih (by omega), if_neg (fun z => by
          rw [hzN N 0 (by omega) (by omega) (by omega)] at z
          exact absurd z.2 (by decide))]
    exact this _ hNs
  have hst02 : ∀ n, n < sEn (Ss (4 * wf + v)) 0 → s2 (21 + 1262 * (j) + (622 + 10 * (n) + 0)) = nI 2 → False := fun n hn z => by
    rw [hzN n 0 (by omega) (by omega) (by omega)] at z
    exact absurd z (by decide)
  have hDn : pDn (Ss (4 * wf + v)) w.2.1 j W6 tg1 s2 (w.2.1 + 3) := by
    refine ⟨0, w.2.2.2 5, 0, fun _ => none, hz0 6 (by omega) (by omega) (by omega) (by omega) (by omega) (by omega), hsum0.symm, by omega, t4, by rw [← hz]; exact u4, Or.inl ⟨rfl, by rw [z6]⟩, fun q hq => by omega, fun t ht _ z => (hst02 t ht z).elim, fun t t' ht _ _ _ z _ _ => (hst02 t ht z).elim⟩
  have hIn : pIn (Ss (4 * wf + v)) xa mo w.2.1 j W6 tg1 s2 (some (w.2.1 + 5)) none := by
    refine ⟨w.2.1 + 1, w.2.1 + 2, w.2.1 + 4, w.2.1 + 3, fun _ => 0, fun _ => 0, fun _ => 0, t1, ?_, t2, u2, t3, u3, t5, u5, fun c hc => ?_, fun c hc => ?_, fun q hq => ?_, hDn⟩
    · rw [u1, r3, r4, r5, r6, c13, hz0 9 (by omega) (by omega) (by omega) (by omega) (by omega) (by omega), hz0 1 (by omega) (by omega) (by omega) (by omega) (by omega) (by omega), hz0 7 (by omega) (by omega) (by omega) (by omega) (by omega) (by omega), hz0 8 (by omega) (by omega) (by omega) (by omega) (by omega) (by omega), ← hz]
    · rw [hz0 (10 + c) (by omega) (by omega) (by omega) (by omega) (by omega) (by omega), ← hz]
    · rw [hz0 (14 + c) (by omega) (by omega) (by omega) (by omega) (by omega) (by omega), ← hz]
      exact ⟨rfl, 0, by omega, hz⟩
    · rw [hzh q hq, ← hz]
  have hPW : pW (Ss (4 * wf + v)) σ xa mo w.2.1 j (4 * wf + v) T W6 tg1 s2 0 (some (w.2.1 + 5)) none := ⟨⟨by omega, hj, hS, hsg⟩, hco.fr hF hP0, hso.fr (hF.stc hb hP0), ⟨by omega, wf, v, hwf, hn4, rfl, r3, r4⟩, hM1, hIn, 0, hz0 9 (by omega) (by omega) (by omega) (by omega) (by omega) (by omega), Nat.le_refl _⟩
  refine ⟨W6, tg1, fi, ?_, hPW, ⟨t6, w.2.1 + 6, w.2.1 + 7, fun _ => 0, by rw [← hz]; exact u6, t7, u7, t8, u8⟩, hF, z6, c15, ⟨ins, _, _, _, _, d2.2.trans c9, d2.1, (t0 ins hins).trans c6, i6⟩⟩
  have hfi : fi j = none := by
    rcases c14 j hj with y | y
    · exact y.1
    · rw [hfree] at y
      exact absurd y.2 (by decide)
  have x1 : W1.1 xa = _ := (o1 xa (by omega)).trans c1
  have x1m : W1.1 mo = _ := (o1 mo (by omega)).trans c2
  have x3 : W3.1 xa = _ := (o3 xa (by omega)).trans ((o2 xa (by omega) (by omega)).trans x1)
  have x3v : W3.1 va = _ := (o3 va (by omega)).trans ((o2 va (by omega) (by omega)).trans ((o1 va (by omega)).trans c10))
  have x3o : W3.1 vo = _ := (o3 vo (by omega)).trans ((o2 vo (by omega) (by omega)).trans ((o1 vo (by omega)).trans hvoc))
  have x5 : W5.1 xa = _ := (old xa hxa).trans c1
  have x5m : W5.1 mo = _ := (old mo hmo).trans c2
  have yj : ¬ nI 6 ≤ nI j := nI_ge hj (by omega)
  have yj2 : ¬ nI j = nI 6 := fun z => by have := (nI_eq (by omega) (by omega)).mp z; omega
  unfold bf_X0_start_1
  rw [pu_Bd, if_neg yj, pu_R (k := 5) c1 rfl, pu_B1, pu_B1, pu_R (k := 2) c2 rfl, pu_B1, pu_B1, pu_LdR c3 hj (by omega), pu_B1, hfi, pu_Nn]
  try dsimp only
  rw [if_neg yj2, e1, pu_B2, pu_R (k := 5) x1 rfl, pu_B1, pu_B1, pu_B1, pu_I (k := 3) x1m rfl, pu_B1, e2, pu_B2, e3, pu_B2, pu_R (k := 3) x3 rfl, pu_B1, pu_B1, pu_mul, nI_add, pu_LdR x3v (by omega) (by omega), pu_B1, hvo, pu_B1, pu_R (k := 0) x3o rfl, pu_B1, e4, pu_B2, e5, pu_B1, pu_R (k := 5) x5 rfl, pu_B1, pu_B1, pu_R (k := 2) x5m rfl, pu_B1, pu_B1, e6, pu_B1, pu_Ob u1, pu_B1]
end SN
