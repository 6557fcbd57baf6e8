set_option maxRecDepth 100000
/-! A MOMENT becomes another -/
/-- a moment's own cells, named -/
def pMc (xa a0 du fa ins : Nat) (fd ff : Nat → Int32) (fi : Nat → Option Nat) (w : gw) (tg : pT) (s : Nat → Int32) (T : Nat) : Prop := tg a0 = (a0, 0) ∧ w.1 a0 = some (.inl (1, [ga (some du), ga (some fa), ga (some ins), gi (s 0), ga (some xa)])) ∧
  tg du = (a0, 1) ∧ w.1 du = some (.inr (0, 8, .inl fd)) ∧ tg fa = (a0, 2) ∧ w.1 fa = some (.inr (0, 8, .inl ff)) ∧ tg ins = (a0, 3) ∧ w.1 ins = some (.inr (4, 6, .inr fi)) ∧
  (∀ c, c < 8 → fd c = s (1 + c) ∧ ff c = s (9 + c) ∧ (∃ d, d ≤ 99 ∧ s (1 + c) = nI d) ∧ ∃ d, d ≤ 99 ∧ s (9 + c) = nI d) ∧ s 0 = nI T ∧ T ≤ 100300
theorem pMc.mo {xa a0 du fa ins T : Nat} {fd ff : Nat → Int32} {fi : Nat → Option Nat} {w : gw} {tg : pT} {s : Nat → Int32} (h : pMc xa a0 du fa ins fd ff fi w tg s T) : pMo xa a0 w tg s T ∧ mIn a0 w tg fi := by
  obtain ⟨h1, h2, h3, h4, h5, h6, h7, h8, h9⟩ := h
  exact ⟨⟨du, fa, ins, fd, ff, fi, h1, h2, h3, h4, h5, h6, h7, h8, h9⟩, ins, _, _, _, _, h1, h2, h7, h8⟩
theorem pMc.fr {xa a0 du fa ins T : Nat} {fd ff : Nat → Int32} {fi : Nat → Option Nat} {w w1 : gw} {tg tg1 : pT} {s : Nat → Int32} (h : pMc xa a0 du fa ins fd ff fi w tg s T) (hb : pBd w) (hF : pFr w w1 tg tg1 (fun _ => False)) : pMc xa a0 du fa ins fd ff fi w1 tg1 s T := by
  obtain ⟨h1, h2, h3, h4, h5, h6, h7, h8, h9⟩ := h
  have g2 := hF.old hb h2
  have g4 := hF.old hb h4
  have g6 := hF.old hb h6
  have g8 := hF.old hb h8
  exact ⟨g2.2.trans h1, g2.1, g4.2.trans h3, g4.1, g6.2.trans h5, g6.1, g8.2.trans h7, g8.1, h9⟩
section BE
variable {Ss : Nat → SV} {many : Nat → Nat} {σ : TS} {xa mo a0 T B du fa ins : Nat} {ias : Nat → Nat} {fd ff : Nat → Int32} {s : Nat → Int32}
theorem becomes_loop {w0 : gw} {tg0 : pT} (hb0 : pBd w0) (hne : a0 ≠ mo) (hni : ∀ k, k < 6 → s (21 + 1262 * (k) + 0) = nI 1 → ias k ≠ a0) (ha0 : a0 < w0.2.1) : ∀ r k fuel (w : gw) (tg : pT) (fi : Nat → Option Nat) (iab : Nat → Nat), k + r = 6 → r < fuel → pFr w0 w tg0 tg (fun t => t.1 = a0 ∧ t.2 < 4) → mOk Ss many σ xa mo ias w tg s T B (fun _ => T) → pMc xa a0 du fa ins fd ff fi w tg s T →
    (∀ j, j < k → (fi j = none ∧ s (21 + 1262 * (j) + 0) = nI 0) ∨ (fi j = some (iab j) ∧ s (21 + 1262 * (j) + 0) = nI 1 ∧ w0.2.1 ≤ iab j ∧ iOk Ss many σ xa a0 (iab j) j w tg s T B T)) → (∀ i j, i < k → j < k → i ≠ j → s (21 + 1262 * (i) + 0) = nI 1 → s (21 + 1262 * (j) + 0) = nI 1 → iab i ≠ iab j) → w.2.1 + 440 * r ≤ w.2.2.2 0 → w.2.2.1 + 8013 * r ≤ w.2.2.2 1 →
    ∃ w1 tg1 iab1, gL2 (bf_X1_becomes_1 a0) fuel (some mo) (nI k) w = some ((), w1) ∧ pFr w0 w1 tg0 tg1 (fun t => t.1 = a0 ∧ t.2 < 4) ∧ mOk Ss many σ xa mo ias w1 tg1 s T B (fun _ => T) ∧ mOk Ss many σ xa a0 iab1 w1 tg1 s T B (fun _ => T) ∧ (∀ j, j < 6 → s (21 + 1262 * (j) + 0) = nI 1 → w0.2.1 ≤ iab1 j) ∧ w1.2.1 ≤ w.2.1 + 440 * r ∧ w1.2.2.1 ≤ w.2.2.1 + 8013 * r := by
  intro r
  induction r with
  | zero =>
    intro k fuel w tg fi iab hk hf hF hO hC hJ hD r0 r1
    obtain ⟨fuel, rfl⟩ : ∃ g, fuel = g + 1 := ⟨fuel - 1, by omega⟩
    obtain rfl : k = 6 := by omega
    refine ⟨w, tg, iab, ?_, hF, hO, ⟨hO.1, hC.mo.1, ⟨fi, hC.mo.2, fun j hj => ?_⟩, fun i j hi hj hij => hD i j hi hj hij⟩, fun j hj hp => ?_, Nat.le_refl _, Nat.le_refl _⟩
    · show bf_X1_becomes_1 a0 (gL2 (bf_X1_becomes_1 a0) fuel) _ _ _ = _
      generalize gL2 (bf_X1_becomes_1 a0) fuel = KK
      unfold bf_X1_becomes_1
      rw [if_pos (nI_le (Nat.le_refl _) (by omega))]
    · rcases hJ j hj with z | ⟨z1, z2, -, z3⟩
      · exact Or.inl z
      · exact Or.inr ⟨z1, z2, z3⟩
    · rcases hJ j hj with z | ⟨z1, z2, z4, z3⟩
      · rw [hp] at z; exact absurd z.2 (by decide)
      · exact z4
  | succ r ih =>
    intro k fuel w tg fi iab hk hf hF hO hC hJ hD r0 r1
    obtain ⟨fuel, rfl⟩ : ∃ g, fuel = g + 1 := ⟨fuel - 1, by omega⟩
    have k6 : k < 6 := by omega
    have hb := hF.1
    have hO' := hO
    obtain ⟨hco, hMo, ⟨fs, ⟨insS, f0, f1, f3, f4, m1, m2, m3, m4⟩, hks⟩, hd⟩ := hO
    have hC' := hC
    obtain ⟨c1, c2, c3, c4, c5, c6, c7, c8, c9⟩ := hC
    have hP0 : ¬ ((0, 100) : Nat × Nat) = (a0, 3) := fun z => by
      have := congrArg Prod.snd z
      simp only at this
      omega
    -- one instance
    obtain ⟨r41, Wb, tgb, iak, x1, x2, x3, x4, x5⟩ : ∃ r41 Wb tgb iak, (gNl (fs k) (some (none, w)) (fun _ => gB1 (some (fs k)) fun r38 => gB1 r38 fun a39 => gB1 (gOb w a39 16) fun _ => gB2 (f_X16_copy a39 (some a0) w) fun r41 w40 => some (r41, w40)) : Option (Option Nat × gw)) = some (r41, Wb) ∧ pFr w Wb tg tgb (fun _ => False) ∧ Wb.2.1 ≤ w.2.1 + 440 ∧ Wb.2.2.1 ≤ w.2.2.1 + 8013 ∧ ((fs k = none ∧ r41 = none ∧ s (21 + 1262 * (k) + 0) = nI 0) ∨ (r41 = some iak ∧ s (21 + 1262 * (k) + 0) = nI 1 ∧ iak = w.2.1 ∧ iak < Wb.2.1 ∧ (∃ gs, Wb.1 iak = some (.inl (16, gs))) ∧ iOk Ss many σ xa a0 iak k Wb tgb s T B T)) := by
      rcases hks k k6 with ⟨z1, z2⟩ | ⟨z1, z2, a, b, bo, un, g1, g2, g3, g4, g5, g6, g7, g8, t, g9, g10⟩
      · rw [z1]
        exact ⟨none, w, tg, 0, rfl, pFr.rf hb, Nat.le_add_right _ _, Nat.le_add_right _ _, Or.inl ⟨rfl, rfl, z2⟩⟩
      · obtain ⟨Wb, tgb, bo1, un1, y1, y2, y3, y4, y5, y6, y7⟩ := cp_inst g7 g8 g6 hC'.mo.1 (by omega) (by omega)
        obtain ⟨va, pe, dl, hi', own, -⟩ := g7.own
        obtain ⟨va2, pe2, dl2, hi2, own2, -⟩ := y6.own
        rw [z1]
        refine ⟨some w.2.1, Wb, tgb, w.2.1, ?_, y2, y3, y4, Or.inr ⟨rfl, z2, rfl, y5, ⟨_, own2⟩, a, b, bo1, un1, g1, g2, g3, g4, g5, g6, y6, y7, t, g9, g10⟩⟩
        rw [pu_Ns, pu_B1, pu_B1, pu_Ob own, pu_B1, y1, pu_B2]
    have hCb := hC'.fr hb x2
    obtain ⟨d1, d2, d3, d4, d5, d6, d7, d8, d9⟩ := hCb
    have can : gCan Wb 4 r41 = true := by
      rcases x5 with ⟨-, z, -⟩ | ⟨z, -, -, -, ⟨gs, z2⟩, -⟩
      · rw [z]; rfl
      · rw [z]; exact pu_Can z2 (by decide)
    obtain ⟨Wc, hWc⟩ : ∃ Wc, hs Wb ins (.inr (4, 6, .inr (va_up fi k r41))) = Wc := ⟨_, rfl⟩
    have hst : gStR Wb ins 4 (nI k) r41 = some Wc := by rw [pu_StR d8 k6 (by omega) can, hWc]
    have hFc : pFr Wb Wc tgb tgb (fun t => t = (a0, 3)) := by
      rw [← hWc]
      exact pFr.hs x2.1 d8 d7
    have hzc : Wc.2 = Wb.2 := by rw [← hWc, hs_2]
    have hKc : Wc.2.2.2 = w.2.2.2 := by rw [hzc]; exact x2.2.2.1
    have nx : a0 ≠ ins := ne_of d2 d8 (by simp)
    have nx1 : du ≠ ins := ne_of d4 d8 (by simp)
    have nx2 : fa ≠ ins := ne_of d6 d8 (by simp)
    have hCc : pMc xa a0 du fa ins fd ff (va_up fi k r41) Wc tgb s T := ⟨d1, by rw [← hWc, hs_ne nx]; exact d2, d3, by rw [← hWc, hs_ne nx1]; exact d4, d5, by rw [← hWc, hs_ne nx2]; exact d6, d7, by rw [← hWc, hs_self], d9⟩
    have hO1 : mOk Ss many σ xa mo ias Wb tgb s T B (fun _ => T) := hO'.fr x2 id (fun _ => id) (fun _ _ _ _ => id)
    have hO2 : mOk Ss many σ xa mo ias Wc tgb s T B (fun _ => T) := hO1.fr hFc hP0 (fun j z => hne (congrArg Prod.fst z).symm) (fun i hi hp j z => hni i hi hp (congrArg Prod.fst z))
    have hFw : pFr w0 Wc tg0 tgb (fun t => t.1 = a0 ∧ t.2 < 4) := (hF.tr (x2.mono (fun _ z => absurd z id))).tr (hFc.mono (fun t z => by rw [z]; exact ⟨rfl, by show 3 < 4; omega⟩))
    have hik : ∀ j ib, w0.2.1 ≤ ib → iOk Ss many σ xa a0 ib j Wb tgb s T B T → iOk Ss many σ xa a0 ib j Wc tgb s T B T := fun j ib hib hz => hz.oth hCc.mo.1 hFc hP0 (fun q z => by
      have : ib = a0 := congrArg Prod.fst z
      omega) (fun _ _ _ => rfl) (Nat.le_refl _) (Nat.le_refl _)
    have hwle : w0.2.1 ≤ w.2.1 := hF.2.1
    obtain ⟨w1, tg1, iab1, i1, i2, i3, i4, i5, i6, i7⟩ := ih (k + 1) fuel Wc tgb (va_up fi k r41) (fun j => if j = k then iak else iab j) (by omega) (by omega) hFw hO2 hCc (fun j hj => by
      by_cases hjk : j = k
      · subst hjk
        rw [va_up_self]
        try dsimp only
        rw [if_pos rfl]
        rcases x5 with ⟨-, z1, z2⟩ | ⟨z1, z2, z3, -, -, z4⟩
        · exact Or.inl ⟨z1, z2⟩
        · exact Or.inr ⟨z1, z2, by omega, hik _ _ (by omega) z4⟩
      · rw [va_up_ne _ _ hjk]
        try dsimp only
        rw [if_neg hjk]
        rcases hJ j (by omega) with z | ⟨z1, z2, z3, z4⟩
        · exact Or.inl z
        · exact Or.inr ⟨z1, z2, z3, hik _ _ z3 (z4.oth (hC'.mo.1.fr x2 hb (fun _ => id) (fun _ _ => rfl)) x2 id (fun _ => id) (fun _ _ _ => rfl) (Nat.le_refl _) (Nat.le_refl _))⟩) (fun i j hi hj hij p1 p2 => by
      have hlt : ∀ q, q < k → s (21 + 1262 * (q) + 0) = nI 1 → iab q < w.2.1 := fun q hq hp => by
        rcases hJ q hq with z | ⟨z1, z2, z3, a, b, bo, un, -, -, -, -, -, -, g7, -⟩
        · rw [hp] at z; exact absurd z.2 (by decide)
        · obtain ⟨va, pe, dl, hi', own, -⟩ := g7.own
          exact hb _ _ own
      show (if i = k then iak else iab i) ≠ (if j = k then iak else iab j)
      have hpk : s (21 + 1262 * (k) + 0) = nI 1 → iak = w.2.1 := fun hp => by
        rcases x5 with ⟨-, -, z2⟩ | ⟨-, -, z3, -⟩
        · rw [hp] at z2; exact absurd z2 (by decide)
        · exact z3
      by_cases hik : i = k
      · by_cases hjk : j = k
        · omega
        · rw [if_pos hik, if_neg hjk]
          have := hlt j (by omega) p2
          have := hpk (by rw [← hik]; exact p1)
          omega
      · by_cases hjk : j = k
        · rw [if_neg hik, if_pos hjk]
          have := hlt i (by omega) p1
          have := hpk (by rw [← hjk]; exact p2)
          omega
        · rw [if_neg hik, if_neg hjk]
          exact hD i j (by omega) (by omega) hij p1 p2) (by rw [hKc, hzc]; omega) (by rw [hKc, hzc]; omega)
    refine ⟨w1, tg1, iab1, ?_, i2, i3, i4, i5, by rw [hzc] at i6; omega, by rw [hzc] at i7; omega⟩
    rw [← i1]
    show bf_X1_becomes_1 a0 (gL2 (bf_X1_becomes_1 a0) fuel) _ _ _ = _
    generalize gL2 (bf_X1_becomes_1 a0) fuel = KK
    have htail : ∀ (w40 : gw) (r41' : Option Nat), w40 = Wb → r41' = r41 → (gB1 (some ins) fun a31 => gB1 (gStR w40 a31 4 (nI k) r41') fun w32 => gBd (nI k + (nI 1)) fun x33 => KK (some mo) x33 w32) = KK (some mo) (nI (k + 1)) Wc := by
      rintro w40 r41' rfl rfl
      rw [pu_B1, hst, pu_B1, pu_Bd, nI_add]
    unfold bf_X1_becomes_1
    rw [if_neg (nI_ge k6 (by omega)), pu_R (k := 2) c2 rfl, pu_B1, pu_B1, pu_R (k := 2) m2 rfl, pu_B1, pu_B1, pu_LdR m4 k6 (by omega), pu_B1, pu_Bd]
    cases hfk : fs k with
    | none =>
      rw [hfk, pu_Nn] at x1
      injection x1 with x1
      injection x1 with x11 x12
      rw [pu_Nn]
      exact htail w none x12 x11
    | some ik =>
      rw [hfk, pu_Ns, pu_B1, pu_B1] at x1
      rw [pu_Ns, pu_B1, pu_B1, pu_LdR m4 k6 (by omega), pu_B1, hfk, pu_B1]
      cases ho : gOb w ik 16 with
      | none => rw [ho] at x1; exact absurd x1 (by simp [gB1])
      | some uu =>
        rw [ho, pu_B1] at x1
        rw [pu_B1]
        cases hc : f_X16_copy ik (some a0) w with
        | none => rw [hc] at x1; exact absurd x1 (by simp [gB2])
        | some rr =>
          obtain ⟨r41', w40⟩ := rr
          rw [hc, pu_B2] at x1
          injection x1 with x1
          injection x1 with x11 x12
          rw [pu_B2]
          exact htail w40 r41' x12 x11
/-- a moment becomes another: its own cells are there, whatever they hold -/
theorem sim_becomes {w : gw} {tg : pT} {fd0 ff0 : Nat → Int32} {fi0 : Nat → Option Nat} {x0 : Int32} (hO : mOk Ss many σ xa mo ias w tg s T B (fun _ => T)) (hne : a0 ≠ mo) (hni : ∀ k, k < 6 → s (21 + 1262 * (k) + 0) = nI 1 → ias k ≠ a0) (h1 : tg a0 = (a0, 0)) (h2 : w.1 a0 = some (.inl (1, [ga (some du), ga (some fa), ga (some ins), gi x0, ga (some xa)]))) (h3 : tg du = (a0, 1)) (h4 : w.1 du = some (.inr (0, 8, .inl fd0))) (h5 : tg fa = (a0, 2)) (h6 : w.1 fa = some (.inr (0, 8, .inl ff0))) (h7 : tg ins = (a0, 3)) (h8 : w.1 ins = some (.inr (4, 6, .inr fi0))) (r0 : w.2.1 + 2640 ≤ w.2.2.2 0) (r1 : w.2.2.1 + 48078 ≤ w.2.2.2 1) :
    ∃ w1 tg1 iab1, f_X1_becomes a0 (some mo) w = some ((), w1) ∧ pFr w w1 tg tg1 (fun t => t.1 = a0 ∧ t.2 < 4) ∧ mOk Ss many σ xa mo ias w1 tg1 s T B (fun _ => T) ∧ mOk Ss many σ xa a0 iab1 w1 tg1 s T B (fun _ => T) ∧ (∀ j, j < 6 → s (21 + 1262 * (j) + 0) = nI 1 → w.2.1 ≤ iab1 j) ∧ w1.2.1 ≤ w.2.1 + 2640 ∧ w1.2.2.1 ≤ w.2.2.1 + 48078 := by
  have hb := hO.1.1
  have hO' := hO
  obtain ⟨hco, ⟨duS, faS, insS, fdS, ffS, fiS, m1, m2, m3, m4, m5, m6, m7, m8, m9, m10, m11⟩, hrest⟩ := hO
  have na0 := hb _ _ h2
  have n1 : mo ≠ a0 := hne.symm
  have ndS : duS ≠ a0 := ne_of m4 h2 (by simp)
  have nfS : faS ≠ a0 := ne_of m6 h2 (by simp)
  have nd : du ≠ a0 := ne_of h4 h2 (by simp)
  have nf : fa ≠ a0 := ne_of h6 h2 (by simp)
  have ni : ins ≠ a0 := ne_of h8 h2 (by simp)
  have tnd : ∀ p q : Nat, p ≠ q → (a0, p) ≠ (a0, q) := fun p q hpq z => hpq (congrArg Prod.snd z)
  have ndd : duS ≠ du := ne_ofT m3 h3 (fun z => hne (congrArg Prod.fst z).symm)
  have nfd : faS ≠ du := ne_ofT m5 h3 (fun z => hne (congrArg Prod.fst z).symm)
  have nff : faS ≠ fa := ne_ofT m5 h5 (fun z => hne (congrArg Prod.fst z).symm)
  have nfadu : fa ≠ du := ne_ofT h5 h3 (tnd 2 1 (by omega))
  have ninsdu : ins ≠ du := ne_ofT h7 h3 (tnd 3 1 (by omega))
  have ninsfa : ins ≠ fa := ne_ofT h7 h5 (tnd 3 2 (by omega))
  have nmodu : mo ≠ du := ne_of m2 h4 (by simp)
  have nmofa : mo ≠ fa := ne_of m2 h6 (by simp)
  obtain ⟨W1, e1, q1, o1, z1, b1⟩ := st_put (k := 3) h2 (by show 3 < 5; omega) hb (gi (s 0))
  have q1' : W1.1 a0 = some (.inl (1, [ga (some du), ga (some fa), ga (some ins), gi (s 0), ga (some xa)])) := q1
  obtain ⟨W2, g2, e2, q2, x2, o2, z2, b2⟩ := st_cpI (n := 8) ((o1 duS ndS).trans m4) ((o1 du nd).trans h4) (by omega) (by omega) b1
  obtain ⟨W3, g3, e3, q3, x3, o3, z3, b3⟩ := st_cpI (n := 8) ((o2 faS nfd).trans ((o1 faS nfS).trans m6)) ((o2 fa nfadu).trans ((o1 fa nf).trans h6)) (by omega) (by omega) b2
  have hz3 : W3.2 = w.2 := by rw [z3, z2, z1]
  have hF3 : pFr w W3 tg tg (fun t => t.1 = a0 ∧ t.2 < 4) := ⟨b3, by rw [hz3]; exact Nat.le_refl _, by rw [hz3], fun _ _ => rfl, fun c hc hnp => by
    rw [o3 c (by rintro rfl; exact hnp (by rw [h5]; exact ⟨rfl, by show 2 < 4; omega⟩)), o2 c (by rintro rfl; exact hnp (by rw [h3]; exact ⟨rfl, by show 1 < 4; omega⟩)), o1 c (by rintro rfl; exact hnp (by rw [h1]; exact ⟨rfl, by show 0 < 4; omega⟩))]⟩
  have hP0 : ¬ (((0, 100) : Nat × Nat).1 = a0 ∧ ((0, 100) : Nat × Nat).2 < 4) := fun z => by
    have := z.2
    simp only at this
    omega
  have hO3 : mOk Ss many σ xa mo ias W3 tg s T B (fun _ => T) := hO'.fr hF3 hP0 (fun j z => hne z.1.symm) (fun i hi hp j z => hni i hi hp z.1)
  have c2 : W3.1 a0 = _ := (o3 a0 nf.symm).trans ((o2 a0 nd.symm).trans q1')
  have hC3 : pMc xa a0 du fa ins g2 g3 fi0 W3 tg s T := ⟨h1, c2, h3, (o3 du nfadu.symm).trans q2, h5, q3, h7, (o3 ins ninsfa).trans ((o2 ins ninsdu).trans ((o1 ins ni).trans h8)), fun c hc => by
    obtain ⟨y1, y2, y3, y4⟩ := m9 c hc
    exact ⟨(x2 c hc).trans y1, (x3 c hc).trans y2, y3, y4⟩, m10, m11⟩
  obtain ⟨w1, tg1, iab1, i1, i2, i3, i4, i5, i6, i7⟩ := becomes_loop (iab := fun _ => 0) hb hne hni na0 6 0 20000 W3 tg fi0 (by omega) (by omega) hF3 hO3 hC3 (fun j hj => absurd hj (by omega)) (fun i j hi => absurd hi (by omega)) (by rw [hz3]; omega) (by rw [hz3]; omega)
  refine ⟨w1, tg1, iab1, ?_, i2, i3, i4, i5, by rw [hz3] at i6; omega, by rw [hz3] at i7; omega⟩
  have mo1 := (o1 mo n1).trans m2
  have mo2 : W2.1 mo = _ := (o2 mo nmodu).trans mo1
  have a02 : W2.1 a0 = _ := (o2 a0 nd.symm).trans q1'
  rw [f_X1_becomes_eq, pu_B1, pu_I (k := 3) m2 rfl, pu_B1, e1, pu_B1, pu_R (k := 0) mo1 rfl, pu_B1, pu_R (k := 0) q1' rfl, pu_B1, pu_B1, pu_B1, e2, pu_B1, pu_R (k := 1) mo2 rfl, pu_B1, pu_R (k := 1) a02 rfl, pu_B1, pu_B1, pu_B1, e3, pu_B1]
  exact i1
end BE
