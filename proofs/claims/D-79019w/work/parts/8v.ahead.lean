set_option maxRecDepth 100000
/-! AHEAD: the thought moment -/
/-- a moment is made -/
theorem mo_new {xa : Nat} {w : gw} {tg : pT} (hb : pBd w) (r0 : w.2.1 + 4 ≤ w.2.2.2 0) (r1 : w.2.2.1 + 27 ≤ w.2.2.2 1) :
    ∃ W1 W2 tg1, gNew w 1 = some (w.2.1, W1) ∧ (∀ b, b < w.2.1 → W1.1 b = w.1 b) ∧ W1.1 w.2.1 = some (.inl (1, [ga none, ga none, ga none, gi 0, ga none])) ∧ f_X1_init w.2.1 (some xa) W1 = some ((), W2) ∧ W2.2 = (w.2.1 + 4, w.2.2.1 + 27, w.2.2.2) ∧ pFr w W2 tg tg1 (fun _ => False) ∧
      tg1 w.2.1 = (w.2.1, 0) ∧ W2.1 w.2.1 = some (.inl (1, [ga (some (w.2.1 + 1)), ga (some (w.2.1 + 2)), ga (some (w.2.1 + 3)), gi 0, ga (some xa)])) ∧ tg1 (w.2.1 + 1) = (w.2.1, 1) ∧ W2.1 (w.2.1 + 1) = some (.inr (0, 8, .inl (fun _ => 0))) ∧ tg1 (w.2.1 + 2) = (w.2.1, 2) ∧ W2.1 (w.2.1 + 2) = some (.inr (0, 8, .inl (fun _ => 0))) ∧ tg1 (w.2.1 + 3) = (w.2.1, 3) ∧ W2.1 (w.2.1 + 3) = some (.inr (4, 6, .inr (fun _ => none))) := by
  obtain ⟨W1, e1, q1, o1, z1, b1⟩ := st_new (w := w) (ci := 1) (n := 5) (fs := [ga none, ga none, ga none, gi 0, ga none]) rfl (by omega) (by omega) hb
  obtain ⟨W2, e2, q2, q3, q4, q5, o2, z2, b2⟩ := pf_init1 (p1 := some xa) q1 b1 (by rw [z1]; show w.2.1 + 1 + 3 ≤ w.2.2.2 0; omega) (by rw [z1]; show w.2.2.1 + 5 + 22 ≤ w.2.2.2 1; omega)
  rw [z1] at q2 q3 q4 q5 o2 z2
  simp only at q2 q3 q4 q5 o2 z2
  obtain ⟨tg1, htg⟩ : ∃ tg1 : pT, tg1 = fun x => if x < w.2.1 then tg x else (w.2.1, x - w.2.1) := ⟨_, rfl⟩
  have tn : ∀ j, tg1 (w.2.1 + j) = (w.2.1, j) := fun j => by
    rw [htg]
    dsimp only
    rw [if_neg (by omega), Nat.add_sub_cancel_left]
  refine ⟨W1, W2, tg1, e1, fun b hbl => o1 b (by omega), q1, e2, z2, ⟨b2, by rw [z2]; show w.2.1 ≤ w.2.1 + 1 + 3; omega, by rw [z2], fun x hx => by rw [htg]; exact if_pos hx, fun b hbl _ => (o2 b (by omega) (by omega)).trans (o1 b (by omega))⟩, tn 0, q2, tn 1, q3, tn 2, q4, tn 3, q5⟩
section AH
variable {xa a0 : Nat} {ias : Nat → Nat} {Ss : Nat → SV} {many : Nat → Nat} {σ : TS}
theorem ahead_loop {m p : Nat} (hm : m ≤ 1000) (hp : p < 6) : ∀ (r j f1 f2 : Nat), j + r = m → r < f1 → r < f2 → ∀ (w : gw) (tg : pT) (s : Nat → Int32) (T B : Nat), mOk Ss many σ xa a0 ias w tg s T B (fun _ => T) → T + r ≤ 100300 → B + 102000 * r < 2 ^ 31 → w.2.1 + mPh s ≤ w.2.2.2 0 → w.2.2.1 + 12 * mPh s ≤ w.2.2.2 1 → s (21 + 1262 * (p) + 0) = nI 1 →
    ∃ w1 tg1 s1 x, gL4 bf_X0_ahead_1 f1 (nI p) (nI m) (some a0) (nI j) w = some (x, w1) ∧ gL3 bt_X2_ahead_1 f2 (nI p) (nI m) (nI j) (tS σ s) = some (x, tCp (tS σ s1) 7 5 7593) ∧ pFr w w1 tg tg1 (mP a0 ias s) ∧ mRk w w1 s s1 := by
  intro r
  induction r with
  | zero =>
    intro j f1 f2 hj hf1 hf2 w tg s T B h hT hB r0 r1 hsp
    obtain ⟨f1, rfl⟩ : ∃ g, f1 = g + 1 := ⟨f1 - 1, by omega⟩
    obtain ⟨f2, rfl⟩ : ∃ g, f2 = g + 1 := ⟨f2 - 1, by omega⟩
    obtain rfl : j = m := by omega
    obtain ⟨hC, hM, ⟨fi, ⟨ins, x0, x1, x3, x4, n1, n2, n3, n4⟩, hks⟩, hd⟩ := h
    rcases hks p hp with z | ⟨z1, z2, a, b, bo, un, g1, g2, g3, g4, g5, g6, g7, g8⟩
    · rw [hsp] at z
      exact absurd z.2 (by decide)
    obtain ⟨va, pe, dl, hi', own, -⟩ := g7.own
    refine ⟨w, tg, s, s (21 + 1262 * (p) + 1), ?_, ?_, pFr.rf hC.1, Nat.le_refl _, Nat.le_refl _⟩
    · show bf_X0_ahead_1 (gL4 bf_X0_ahead_1 f1) _ _ _ _ w = _
      generalize gL4 bf_X0_ahead_1 f1 = KK
      unfold bf_X0_ahead_1
      rw [if_pos (nI_le (Nat.le_refl _) (by omega)), pu_B1, pu_R (k := 2) n2 rfl, pu_B1, pu_B1, pu_LdR n4 hp (by omega), pu_B1, z1, pu_B1, pu_I (k := 9) own rfl, pu_B1]
    · show bt_X2_ahead_1 (gL3 bt_X2_ahead_1 f2) _ _ _ _ = _
      generalize gL3 bt_X2_ahead_1 f2 = KK
      have e1 : ∀ w : TS, t_X2_of (nI p) (nI 1) w = _ := fun w => pt_of w
      unfold bt_X2_ahead_1
      rw [if_pos (nI_le (Nat.le_refl _) (by omega)), e1, pu_B2, pu_ld5 (by omega), pu_B1, t_copies (by decide) (by decide) (by decide) (by decide) (by decide), pu_B2]
  | succ r ih =>
    intro j f1 f2 hj hf1 hf2 w tg s T B h hT hB r0 r1 hsp
    obtain ⟨f1, rfl⟩ : ∃ g, f1 = g + 1 := ⟨f1 - 1, by omega⟩
    obtain ⟨f2, rfl⟩ : ∃ g, f2 = g + 1 := ⟨f2 - 1, by omega⟩
    have hb := h.1.1
    have t1 : T + 1 ≤ 100300 := by omega
    have em : 102000 * (r + 1) = 102000 * r + 102000 := Nat.mul_add_one _ _
    rw [em] at hB
    obtain ⟨z, hzr⟩ : ∃ z, 102000 * r = z := ⟨_, rfl⟩
    rw [hzr] at hB
    have t2 : B + 102000 < 2 ^ 31 := Nat.lt_of_le_of_lt (Nat.add_le_add_left (Nat.le_add_left _ _) _) hB
    have t3 : B + 102000 + 102000 * r < 2 ^ 31 := by rw [hzr, Nat.add_assoc, Nat.add_comm 102000 z]; exact hB
    obtain ⟨w2, tg2, s2, d1, d2, d3, d4, d5, d6⟩ := sim_steps h t1 t2 r0 r1
    have hM := h.2.1
    obtain ⟨du, fa, ins, fd, ff, fi, m1, m2, -⟩ := hM
    have hK : w2.2.2.2 = w.2.2.2 := d4.2.2.1
    have d6' := d6
    obtain ⟨y1, y2⟩ := d6
    obtain ⟨w1, tg1, s1, x, c1, c2, c4, c6⟩ := ih (j + 1) f1 f2 (by omega) (by omega) (by omega) w2 tg2 s2 (T + 1) (B + 102000) d3 (by omega) t3 (by rw [hK]; omega) (by rw [hK]; omega) ((d5.2.2 p hp).trans hsp)
    have yj : ¬ nI m ≤ nI j := nI_ge (by omega) (by omega)
    refine ⟨w1, tg1, s1, x, ?_, ?_, d4.tr (c4.mono (mP_eq d5)), d6'.tr c6⟩
    · rw [← c1]
      show bf_X0_ahead_1 (gL4 bf_X0_ahead_1 f1) _ _ _ _ w = _
      generalize gL4 bf_X0_ahead_1 f1 = KK
      unfold bf_X0_ahead_1
      rw [if_neg yj, pu_B1, pu_Ob m2, pu_B1, d1, pu_B2, pu_Bd, nI_add]
    · rw [← c2]
      show bt_X2_ahead_1 (gL3 bt_X2_ahead_1 f2) _ _ _ _ = _
      generalize gL3 bt_X2_ahead_1 f2 = KK
      unfold bt_X2_ahead_1
      rw [if_neg yj, d2, pu_B2, pu_Bd, nI_add]
theorem GRw.sp {k xa : Nat} {w : gw} {tg : pT} {σ σ1 : TS} (h0 : σ1 0 = σ 0) (h1 : ∀ j, j < 9792 → σ1 1 j = σ 1 j) (h2 : σ1 2 = σ 2) (h3 : ∀ j, j < 68 → σ1 3 j = σ 3 j) (h4 : σ1 4 = σ 4) (h5 : ∀ j, j < 7593 → σ1 5 j = σ 5 j) (h6 : σ1 6 = σ 6) (h8 : σ1 8 = σ 8) (h : GRw k xa w tg σ) : GRw k xa w tg σ1 := by
  obtain ⟨mo, ias, Ss, many, T, fv, fm, wr, im, h⟩ := h
  exact ⟨mo, ias, Ss, many, T, fv, fm, wr, im, h.sp h0 h1 h2 h3 h4 h5 h6 h8⟩
theorem call_ahead {k : Nat} {w : gw} {tg : pT} (p1 p2 : Int32) (h : GRw (k + 1) xa w tg σ) : callOk k xa w tg σ (f_X0_ahead xa p1 p2 w) (t_X2_ahead p1 p2 σ) := by
  obtain ⟨mo, ias, Ss, many, T, fv, fm, wr, im, h⟩ := h
  obtain ⟨ta, va, vm, pp, du, fa, ins, fd, ff, fi, c1, c2, c3, c4, c5, c6, c7, c8, c9, c10, c11, c12, c13, c14, -⟩ := h.rd
  have hz : (nI 0 : Int32) = 0 := by decide
  have hz1 : ¬ (nI 1 : Int32) = 0 := by decide
  have h' := h
  obtain ⟨g1, g2, g3, g4, g5, g6, g7, g8, g9, g10⟩ := h
  rw [f_X0_ahead_eq, t_X2_ahead_eq, pu_Ob c1, pu_B1]
  rcases h'.isI p1 with ⟨i1, i2⟩ | ⟨p, hp, rfl, hpl, i1, i2⟩
  · rw [i1, i2, pu_B2, pu_B2, if_pos hz, if_pos hz]
    exact h'.same _
  · rw [i1, i2, pu_B2, pu_B2, if_neg hz1, if_neg hz1, pf_in, pt_isIn]
    by_cases hr : nI 1 ≤ p2 ∧ p2 ≤ nI 200
    · rw [if_pos hr, pu_B2, pu_B2, if_neg hz1, if_neg hz1]
      obtain ⟨m, hm, rfl⟩ := rng (M := 200) (by omega) ⟨Int32.le_trans (by decide) hr.1, hr.2⟩
      have hb := g4.1.1
      have hxa := hb _ _ c1
      have hmo := hb _ _ c2
      obtain ⟨W1, W2, tg2, e1, o1, q1, e2, z2, F2, t0, d0, t1, d1, t2, d2, t3, d3⟩ := mo_new (xa := xa) (tg := tg) hb (by omega) (by omega)
      have hz21 : W2.2.1 = w.2.1 + 4 := by rw [z2]
      have hz22 : W2.2.2.1 = w.2.2.1 + 27 := by rw [z2]
      have hz23 : W2.2.2.2 = w.2.2.2 := by rw [z2]
      have hO2 : mOk Ss many σ xa mo ias W2 tg2 (σ 5) T ((64 - (k + 1)) * 20500000) (fun _ => T) := g4.fr F2 id (fun _ => id) (fun _ _ _ _ => id)
      have hil : ∀ j, j < 6 → σ 5 (21 + 1262 * (j) + 0) = nI 1 → ias j < w.2.1 := fun j hj hz => by
        obtain ⟨-, -, fs, hfs⟩ := g4.ne hj hz
        exact hb _ _ hfs
      obtain ⟨W3, tg3, iab, e3, F3, hO3, hT3, hn3, z31, z32⟩ := sim_becomes hO2 (by omega) (fun j hj hz => by have := hil j hj hz; omega) t0 d0 t1 d1 t2 d2 t3 d3 (by rw [hz21, hz23]; omega) (by rw [hz22, hz23]; omega)
      have hK3 : W3.2.2.2 = w.2.2.2 := F3.2.2.1.trans hz23
      have hp3 := mPh_le (σ 5)
      obtain ⟨σ', hσ'⟩ : ∃ σ', tCp σ 5 7 7593 = σ' := ⟨_, rfl⟩
      have hrow : ∀ r, r ≠ 7 → σ' r = σ r := fun r hr => by
        rw [← hσ']
        funext j
        exact if_neg (fun z => hr z.1)
      have h7 : ∀ j, j < 7593 → σ' 7 j = σ 5 j := fun j hj => by
        rw [← hσ']
        exact if_pos ⟨rfl, hj⟩
      obtain ⟨W4, tg4, s4, x, l1, l2, F4, rk⟩ := ahead_loop (σ := σ') (m := m) (p := p) (by omega) hp m 0 20000 20000 (by omega) (by omega) (by omega) W3 tg3 (σ 5) T ((64 - (k + 1)) * 20500000) (hT3.sg (hrow 1 (by omega)) (hrow 3 (by omega))) (by omega) (by omega) (by rw [hK3]; omega) (by rw [hK3]; omega) hpl
      rw [← hrow 5 (by omega), tS_self] at l2
      obtain ⟨y1, y2⟩ := rk
      have F24 : pFr w W4 tg tg4 (fun t => w.2.1 ≤ t.1) := ((F2.mono (fun _ z => z.elim)).tr (F3.mono (fun t z => by
        obtain ⟨z1, -⟩ := z
        show w.2.1 ≤ t.1
        omega))).tr (F4.mono (fun t z => by
        show w.2.1 ≤ t.1
        rcases z with ⟨z1, -⟩ | ⟨j, z1, z2, z3⟩
        · omega
        · have := hn3 j z1 z2
          rw [hz21] at this
          omega))
      have hmow := h'.now2 (w1 := W4) (tg1 := tg4) (s1 := σ 5) (ias1 := ias) (T1 := T) ((g4.fr F24 (fun z => by
        have : w.2.1 ≤ 0 := z
        omega) (fun j z => by
        have : w.2.1 ≤ mo := z
        omega) (fun j hj hz q z => by
        have : w.2.1 ≤ ias j := z
        have := hil j hj hz
        omega)).mono (Nat.mul_le_mul_right _ (by omega))) g5 F24 (fun t z => Or.inr (Or.inr z)) (fun _ _ _ => rfl) (fun j _ hz => Or.inl ⟨hz, rfl⟩) (by omega) (by omega)
      rw [tS_self] at hmow
      have hrow2 : ∀ r, r ≠ 7 → r ≠ 5 → tCp (tS σ' s4) 7 5 7593 r = σ r := fun r h1 h2 => by
        funext j
        have e : tCp (tS σ' s4) 7 5 7593 r j = tS σ' s4 r j := if_neg (fun z => h2 z.1)
        rw [e, tS_ne _ _ h2, hrow r h1]
      have hrow5 : ∀ j, j < 7593 → tCp (tS σ' s4) 7 5 7593 5 j = σ 5 j := fun j hj => by
        have e : tCp (tS σ' s4) 7 5 7593 5 j = tS σ' s4 7 j := if_pos ⟨rfl, hj⟩
        rw [e, tS_ne _ _ (by omega), h7 j hj]
      rw [e1, pu_B2, e2, pu_B2, pu_R (k := 5) ((F2.old hb c1).1) rfl, pu_B1, pu_Ob d0, pu_B1, e3, pu_B2, l1, t_copies (by decide) (by decide) (by decide) (by decide) (by decide), pu_B2, hσ', l2]
      exact ⟨x, W4, tg4, _, rfl, rfl, hmow.1.sp (hrow2 0 (by omega) (by omega)) (fun j _ => by rw [hrow2 1 (by omega) (by omega)]) (hrow2 2 (by omega) (by omega)) (fun j _ => by rw [hrow2 3 (by omega) (by omega)]) (hrow2 4 (by omega) (by omega)) hrow5 (hrow2 6 (by omega) (by omega)) (hrow2 8 (by omega) (by omega)), hmow.2.1, hmow.2.2⟩
    · rw [if_neg hr, pu_B2, pu_B2, if_pos hz, if_pos hz]
      exact h'.same _
end AH
