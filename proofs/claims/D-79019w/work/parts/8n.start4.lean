set_option maxRecDepth 100000
/-! START: the call -/
section SC
variable {k xa mo : Nat} {w : gw} {tg : pT} {σ : TS} {ias : Nat → Nat} {Ss : Nat → SV} {many : Nat → Nat} {T : Nat} {fv : Nat → Option Nat} {fm : Nat → Int32} {wr im : Option Nat}
/-- a moment gets a new instance -/
theorem mOk.add {w1 : gw} {tg1 : pT} {s s1 : Nat → Int32} {B B1 j ia : Nat} {P : Nat × Nat → Prop} {fi : Nat → Option Nat} (h : mOk Ss many σ xa mo ias w tg s T B (fun _ => T)) (hj : j < 6) (hB : B ≤ B1) (hfi : mIn mo w tg fi) (hnew : iOk Ss many σ xa mo ia j w1 tg1 s1 T B1 T) (hF : pFr w w1 tg tg1 P) (hPP : ∀ t, P t → (t.1 = mo ∧ t.2 < 4) ∨ w.2.1 ≤ t.1) (hia : w.2.1 ≤ ia) (hfi1 : mIn mo w1 tg1 (va_up fi j (some ia))) (h0 : s1 (21 + 1262 * (j) + 0) = nI 1) (hQ : ∀ i q, i < 6 → i ≠ j → (21 + 1262 * (i) + 0) ≤ q → q < (21 + 1262 * (i) + 1262) → s1 q = s q) :
    mOk Ss many σ xa mo (fun i => if i = j then ia else ias i) w1 tg1 s1 T B1 (fun _ => T) := by
  have h' := h
  obtain ⟨hC, hM, ⟨fi', hfi', hks⟩, hd⟩ := h
  have hff : fi' = fi := by
    obtain ⟨ins, f0, f1, f3, f4, a1, a2, a3, a4⟩ := hfi
    obtain ⟨ins', f0', f1', f3', f4', b1, b2, b3, b4⟩ := hfi'
    have e1 := pu_R (w := w) (k := 2) a2 rfl
    have e2 := pu_R (w := w) (k := 2) b2 rfl
    rw [e1] at e2
    obtain rfl := Option.some.inj (Option.some.inj e2)
    rw [a4] at b4
    injection b4 with b4
    injection b4 with b4
    injection b4 with _ b4
    injection b4 with _ b4
    injection b4 with b4
    exact b4.symm
  rw [hff] at hks
  have hM1 : pMo xa mo w1 tg1 s1 T ∧ pCo w1 tg1 := by
    obtain ⟨a, b, bo, un, -, -, -, -, -, -, g7, -⟩ := hnew
    exact ⟨g7.2.2.2.2.1, g7.2.1⟩
  have hlt : ∀ i, i < 6 → s (21 + 1262 * (i) + 0) = nI 1 → ias i < w.2.1 := fun i hi hp => by
    obtain ⟨-, -, fs, hfs⟩ := h'.ne hi hp
    exact hC.1 _ _ hfs
  have hP0 : ¬ P (0, 100) := fun hz => by
    rcases hPP _ hz with z | z
    · have := z.2
      simp only at this
      omega
    · simp only at z
      obtain ⟨du, fa, ins, fd, ff, fi2, m1, m2, -⟩ := hM
      have := hC.1 _ _ m2
      omega
  refine ⟨hM1.2, hM1.1, ⟨_, hfi1, fun i hi => ?_⟩, fun i i' hi hi' hii p1 p2 => ?_⟩
  · by_cases hij : i = j
    · subst hij
      refine Or.inr ⟨?_, h0, ?_⟩
      · rw [va_up_self]
        dsimp only
        rw [if_pos rfl]
      · dsimp only
        rw [if_pos rfl]
        exact hnew
    · rw [va_up_ne _ _ hij]
      dsimp only
      rw [if_neg hij]
      rcases hks i hi with z | ⟨y1, y2, y3⟩
      · exact Or.inl ⟨z.1, (hQ i _ hi hij (by omega) (by omega)).trans z.2⟩
      · have hnm := (h'.ne hi y2).2.1
        have hl := hlt i hi y2
        exact Or.inr ⟨y1, (hQ i _ hi hij (by omega) (by omega)).trans y2, y3.oth hM1.1 hF hP0 (fun q z => by
          rcases hPP _ z with z | z
          · exact hnm z.1
          · simp only at z
            omega) (fun q q1 q2 => hQ i q hi hij q1 q2) (Nat.le_refl _) hB⟩
  · show (if i = j then ia else ias i) ≠ (if i' = j then ia else ias i')
    by_cases hij : i = j
    · by_cases hij' : i' = j
      · omega
      · rw [if_pos hij, if_neg hij']
        have := hlt i' hi' ((hQ i' _ hi' hij' (by omega) (by omega)).symm.trans p2)
        omega
    · by_cases hij' : i' = j
      · rw [if_neg hij, if_pos hij']
        have := hlt i hi ((hQ i _ hi hij (by omega) (by omega)).symm.trans p1)
        omega
      · rw [if_neg hij, if_neg hij']
        exact hd i i' hi hi' hii ((hQ i _ hi hij (by omega) (by omega)).symm.trans p1) ((hQ i' _ hi' hij' (by omega) (by omega)).symm.trans p2)
theorem call_start (p1 : Int32) (h : GRw (k + 1) xa w tg σ) : callOk k xa w tg σ (f_X0_start xa p1 w) (t_X2_start p1 σ) := by
  obtain ⟨mo, ias, Ss, many, T, fv, fm, wr, im, h⟩ := h
  obtain ⟨ta, va, vm, pp, du, fa, ins, fd, ff, fi, c1, c2, c3, c4, c5, c6, c7, c8, c9, c10, c11, c12, c13, c14, c15, c16, c17⟩ := h.rd
  have hz : (nI 0 : Int32) = 0 := by decide
  have hz1 : ¬ (nI 1 : Int32) = 0 := by decide
  rw [f_X0_start_eq, t_X2_start_eq, isWf_f, isWf_t, pu_B2, pu_B2]
  by_cases hr : nI 0 ≤ p1 ∧ p1 ≤ nI 3
  · rw [if_pos hr, if_neg hz1, if_neg hz1]
    obtain ⟨wf, hwf, rfl⟩ := rng (by omega) hr
    obtain ⟨hm4, hm1, hm2, hmv, -⟩ := h.2.2.1 wf (by omega)
    rw [pu_R (k := 4) c1 rfl, pu_B1, pu_B1, pu_LdI c11 (by omega) (by omega), pu_B1, hm1, nI_add, ld5 (by omega), pu_B1, hm2, pu_Bd]
    by_cases hm0 : many wf = 0
    · have y1 : ¬ (0 : Int32) ≤ nI 0 - nI 1 := by decide
      rw [hm0, if_neg y1, if_pos hz]
      exact h.same _
    · obtain ⟨v, hv⟩ : ∃ v, v + 1 = many wf := ⟨many wf - 1, by omega⟩
      have y1 : (0 : Int32) ≤ nI v := nI_pos' (by omega)
      have y2 : ¬ nI (v + 1) = 0 := nI_ne0 (by omega) (by omega)
      rw [← hv, pu_sub (by omega), Nat.add_sub_cancel, if_pos y1, if_neg y2, inst_t h.there, pu_B2]
      obtain ⟨j, hj6, hpre, hfree⟩ := first_free (P := fun j => σ 5 (21 + 1262 * (j) + 0) = nI 1) (fun j _ => Decidable.em _)
      have loopF : ∀ r i fuel, i + r = j → r < fuel → ∃ fu, gL3 (bf_X0_start_1 xa) fuel (nI wf) (nI v) (nI i) w = gL3 (bf_X0_start_1 xa) (fu + 1) (nI wf) (nI v) (nI j) w := by
        intro r
        induction r with
        | zero =>
          intro i fuel hi hf
          obtain rfl : i = j := by omega
          exact ⟨fuel - 1, by rw [show fuel - 1 + 1 = fuel by omega]⟩
        | succ r ih =>
          intro i fuel hi hf
          obtain ⟨fuel, rfl⟩ : ∃ g, fuel = g + 1 := ⟨fuel - 1, by omega⟩
          obtain ⟨fu, hfu⟩ := ih (i + 1) fuel (by omega) (by omega)
          refine ⟨fu, ?_⟩
          rw [← hfu]
          show bf_X0_start_1 xa (gL3 (bf_X0_start_1 xa) fuel) _ _ _ _ = _
          generalize gL3 (bf_X0_start_1 xa) fuel = KK
          have hfi : fi i = some (ias i) := by
            rcases c14 i (by omega) with y | y
            · rw [hpre i (by omega)] at y
              exact absurd y.2 (by decide)
            · exact y.1
          unfold bf_X0_start_1
          rw [pu_Bd, if_neg (nI_ge (by omega) (by omega)), pu_R (k := 5) c1 rfl, pu_B1, pu_B1, pu_R (k := 2) c2 rfl, pu_B1, pu_B1, pu_LdR c3 (by omega) (by omega), pu_B1, hfi, pu_Ns, pu_Bd, nI_add]
      obtain ⟨fu, hfu⟩ := loopF j 0 20000 (by omega) (by omega)
      rw [hfu]
      show callOk k xa w tg σ (bf_X0_start_1 xa (gL3 (bf_X0_start_1 xa) fu) (nI wf) (nI v) (nI j) w) _
      generalize gL3 (bf_X0_start_1 xa) fu = KK
      by_cases hj : j = 6
      · have hsum : pSum (fM (σ 5) (-1)) 6 = 6 := by
          rw [pSum_congr (g := fun _ => 1) 6 (fun i hi => by
            unfold fM
            rw [if_pos ⟨hpre i (by omega), Or.inl (by decide)⟩])]
          decide
        rw [hsum, if_pos rfl, hj]
        unfold bf_X0_start_1
        rw [pu_Bd, if_pos (nI_le (Nat.le_refl _) (by omega))]
        try dsimp only
        rw [if_pos rfl]
        exact h.same _
      · have hj' : j < 6 := by omega
        have hno : σ 5 (21 + 1262 * (j) + 0) = nI 0 := by
          rcases h.there j hj' with y | y
          · exact y
          · exact absurd y (hfree hj')
        have hsum : pSum (fM (σ 5) (-1)) 6 ≤ 5 := by
          have h1 : pSum (fM (σ 5) (-1)) 6 ≤ pSum (fun i => if i = j then 0 else 1) 6 := pSum_le 6 (fun i _ => by
            by_cases hij : i = j
            · rw [if_pos hij, hij]
              unfold fM
              rw [if_neg (fun z => hfree hj' z.1)]
              exact Nat.le_refl _
            · rw [if_neg hij]
              exact fM_1 _ _ _)
          have h2 : pSum (fun i => if i = j then 0 else 1) 6 = 5 := by
            have : j = 0 ∨ j = 1 ∨ j = 2 ∨ j = 3 ∨ j = 4 ∨ j = 5 := by omega
            rcases this with rfl | rfl | rfl | rfl | rfl | rfl <;> decide
          omega
        have y6 : ¬ nI (pSum (fM (σ 5) (-1)) 6) = nI 6 := fun z => by
          have := (nI_eq (by omega) (by omega)).mp z
          omega
        rw [if_neg y6]
        have loopT : ∀ r i fuel, i + r = j → r < fuel → gL2 bt_X2_start_3 fuel (nI wf) (nI i) σ = gL3 bt_X2_start_2 20000 (nI wf) (nI j) (nI 0) σ := by
          intro r
          induction r with
          | zero =>
            intro i fuel hi hf
            obtain ⟨fuel, rfl⟩ : ∃ g, fuel = g + 1 := ⟨fuel - 1, by omega⟩
            obtain rfl : i = j := by omega
            show bt_X2_start_3 (gL2 bt_X2_start_3 fuel) _ _ _ = _
            generalize gL2 bt_X2_start_3 fuel = KK
            have e0 : ∀ w : TS, t_X2_of (nI i) (nI 0) w = _ := fun w => pt_of w
            unfold bt_X2_start_3
            rw [e0, pu_B2, ld5 (by omega), pu_B1, hno, if_neg (by decide)]
          | succ r ih =>
            intro i fuel hi hf
            obtain ⟨fuel, rfl⟩ : ∃ g, fuel = g + 1 := ⟨fuel - 1, by omega⟩
            rw [← ih (i + 1) fuel (by omega) (by omega)]
            show bt_X2_start_3 (gL2 bt_X2_start_3 fuel) _ _ _ = _
            generalize gL2 bt_X2_start_3 fuel = KK
            have e0 : ∀ w : TS, t_X2_of (nI i) (nI 0) w = _ := fun w => pt_of w
            unfold bt_X2_start_3
            rw [e0, pu_B2, ld5 (by omega), pu_B1, hpre i (by omega), if_pos rfl, pu_Bd, nI_add]
        rw [loopT j 0 20000 (by omega) (by omega)]
        obtain ⟨s2, t1, hR⟩ := start_rows (σ := σ) (s := σ 5) (wf := wf) (v := v) hj' (by omega) (by rw [hm2, ← hv])
        rw [tS_self] at t1
        rw [t1]
        obtain ⟨w1, tg1, fi', i1, i2, i3, i4, i5, i6, i7⟩ := inst_new h hj' (by omega) hv hR KK hno
        rw [i1]
        obtain ⟨hS, hn0, -⟩ := hmv v (by omega)
        have hlv : sLv (Ss (4 * wf + v)) 0 ≤ 4 := hS.2.2.2.1
        have hNs : sEn (Ss (4 * wf + v)) 0 ≤ 64 := hS.1
        obtain ⟨r1, r2, r3, r4, r5, r6, r7, r8⟩ := hR
        have hz0 : ∀ q, q < 22 → q ≠ 0 → q ≠ 2 → q ≠ 3 → q ≠ 4 → q ≠ 5 → s2 (21 + 1262 * (j) + q) = nI 0 := fun q h1 h2 h3 h4 h5 h6 => r8 _ (by omega) (by omega) (by omega) (by omega) (by omega) (by omega) (by omega) (fun m hm => by omega)
        have hzN : ∀ m q, m < 64 → q < 10 → q ≠ 7 → s2 (21 + 1262 * (j) + (622 + 10 * (m) + q)) = nI 0 := fun m q h1 h2 h3 => r8 _ (by omega) (by omega) (by omega) (by omega) (by omega) (by omega) (by omega) (fun m' hm' => by omega)
        have hw1 : w1.2.1 = w.2.1 + 8 := by rw [i5]
        have hw2 : w1.2.2.1 = w.2.2.1 + 664 := by rw [i5]
        have hw3 : w1.2.2.2 = w.2.2.2 := by rw [i5]
        obtain ⟨g8, g9, g10⟩ := h.2.2.2.2.2.2.2
        have hpp : ∀ s' : Nat → Int32, pPh j s' ≤ 768 := fun s' => by
          have : pPh j s' ≤ pSum (fun _ => 12) 64 := pSum_le _ (fun n _ => by
            show (if s' (21 + 1262 * (j) + (622 + 10 * (n) + 0)) = nI 0 then 12 else if s' (21 + 1262 * (j) + (622 + 10 * (n) + 0)) = nI 1 then 8 else 0) ≤ 12
            by_cases z : s' (21 + 1262 * (j) + (622 + 10 * (n) + 0)) = nI 0
            · rw [if_pos z]; exact Nat.le_refl _
            · rw [if_neg z]
              by_cases z1 : s' (21 + 1262 * (j) + (622 + 10 * (n) + 0)) = nI 1
              · rw [if_pos z1]; omega
              · rw [if_neg z1]; omega)
          have h2 : pSum (fun _ => 12) 64 = 768 := by decide
          omega
        have hip : iPh j s2 ≤ 772 := by
          have := hpp s2
          unfold iPh
          by_cases z : s2 (21 + 1262 * (j) + 1) = nI 0
          · rw [if_pos z]; omega
          · rw [if_neg z]; omega
        have hpu := hpp (upd s2 (21 + 1262 * (j) + (622 + 10 * (0) + 0)) (nI 1))
        have hres := (sim_root (S := Ss (4 * wf + v)) (σ := σ) (xa := xa) (mo := mo) (ia := w.2.1) (i := j) (ver := 4 * wf + v) (T := T) (bo := some (w.2.1 + 5)) (un := none) hlv).2 0 (w.2.1 + 5) w1 tg1 s2 0 hn0 hS.2.2.1 rfl i2 (by omega) ⟨by rw [hw3]; omega, by rw [hw3]; omega⟩ (fun m h1 h2 => ⟨hzN m 0 (by omega) (by omega) (by omega), r7 m (by omega), hzN m 6 (by omega) (by omega) (by omega), hzN m 2 (by omega) (by omega) (by omega)⟩) i3
        obtain ⟨w3, tg3, s3, bo3, un3, d1, d2, d3, d4, d5, d6, d7⟩ := look_of i2 (by omega) hn0 (hz0 1 (by omega) (by omega) (by omega) (by omega) (by omega) (by omega)) r6 (by omega) hres (by rw [hw3]; omega) (by rw [hw3]; omega)
        rw [d1, d2, pu_B2, pu_B2]
        have hB9 : 17000 ≤ (64 - k) * 20500000 := by
          have := h.2.2.2.2.2.2.1
          exact Nat.le_trans (by decide) (Nat.mul_le_mul_right 20500000 (show 1 ≤ 64 - k by omega))
        have hBm : (64 - (k + 1)) * 20500000 ≤ (64 - k) * 20500000 := Nat.mul_le_mul_right _ (by omega)
        have hiqI : ∀ q, q = 0 ∨ q = 2 ∨ q = 3 ∨ q = 4 → s3 (21 + 1262 * (j) + q) = s2 (21 + 1262 * (j) + q) := fun q hq => d5 _ (by omega) (by omega) (by omega)
        have hnew : iOk Ss many σ xa mo w.2.1 j w3 tg3 s3 T ((64 - k) * 20500000) T := ⟨wf, v, bo3, un3, by omega, by omega, by omega, (hiqI 2 (by omega)).trans r3, (hiqI 3 (by omega)).trans r4, hn0, d3.mono (by omega), iRun_fr hn0 hS rfl (fun z => absurd z (by decide)) (fun _ _ h _ => ⟨h, rfl⟩) (fun _ _ _ => rfl) d7, T, (hiqI 4 (by omega)).trans (r5.trans c13), Nat.le_refl _⟩
        have hF : pFr w w3 tg tg3 (fun t => t = (mo, 3) ∨ pP mo w.2.1 0 64 t) := (i4.mono (fun t z => Or.inl z)).tr (d4.mono (fun t z => Or.inr z))
        have hPP : ∀ t : Nat × Nat, (t = (mo, 3) ∨ pP mo w.2.1 0 64 t) → (t.1 = mo ∧ t.2 < 4) ∨ w.2.1 ≤ t.1 := by
          rintro t (z | z | z)
          · rw [z]; exact Or.inl ⟨rfl, by show 3 < 4; omega⟩
          · exact Or.inr (by rw [z.1]; exact Nat.le_refl _)
          · rw [z]; exact Or.inl ⟨rfl, by show 2 < 4; omega⟩
        have hmi := i2.mi
        have hm3 : mIn mo w3 tg3 (va_up fi' j (some w.2.1)) := i7.fr i2.bd d4 (fun z => by
          rcases z with z | z
          · exact hmi z.1
          · exact absurd (congrArg Prod.snd z) (by simp)) (fun z => by
          rcases z with z | z
          · exact hmi z.1
          · exact absurd (congrArg Prod.snd z) (by simp))
        have hother : ∀ q, ¬ (9 ≤ q ∧ q < 17) → ¬ ((21 + 1262 * (j) + 0) ≤ q ∧ q < (21 + 1262 * (j) + 1262)) → s3 q = σ 5 q := fun q q1 q2 => (d5 q q1 (by omega) (by omega)).trans (r1 q q2)
        have hm4' := h.2.2.2.1.add hj' hBm i6 hnew hF hPP (Nat.le_refl _) hm3 ((hiqI 0 (by omega)).trans r2) (fun i q hi hij q1 q2 => hother q (by omega) (by omega))
        obtain ⟨y1, y2⟩ := d6
        have := h.now2 (w1 := w3) (tg1 := tg3) (s1 := s3) (T1 := T) hm4' h.2.2.2.2.1 hF (fun t z => (hPP t z).elim Or.inl (fun y => Or.inr (Or.inr y))) (fun q q1 q2 => hother q (by omega) (by omega)) (fun i hi hy => by
          by_cases hij : i = j
          · rw [if_pos hij]
            exact Or.inr (Nat.le_refl _)
          · rw [if_neg hij]
            exact Or.inl ⟨(hother _ (by omega) (by omega)).symm.trans hy, rfl⟩) (by omega) (by omega)
        exact ⟨_, w3, tg3, _, rfl, rfl, this.1, this.2.1, this.2.2⟩
  · rw [if_neg hr, if_pos hz, if_pos hz]
    exact h.same _
end SC
