set_option maxRecDepth 100000
/-! CALLS: wrong, feed, instance, entry -/
theorem pu_Is {w : gw} {a c : Nat} {fs : List gv} (h : w.1 a = some (.inl (c, fs))) (tg nt : List Nat) : gIs w tg nt (some a) = if tg.contains c then some 1 else if nt.contains c then some 0 else none := by
  show (match gCls w a with | some c => if tg.contains c then some 1 else if nt.contains c then some 0 else none | none => none : Option Int32) = _
  rw [pu_Cls h]
theorem pu_Ck {w : gw} {a c : Nat} {fs : List gv} (h : w.1 a = some (.inl (c, fs))) (tg : List Nat) : gCk w tg (some a) = if tg.contains c then some (some a) else none := by
  show (match gCls w a with | some c => if tg.contains c then some (some a) else none | none => none) = _
  rw [pu_Cls h]
section C4
variable {k xa : Nat} {w : gw} {tg : pT} {σ : TS}
theorem call_wrong (p1 : Int32) (h : GRw (k + 1) xa w tg σ) : callOk k xa w tg σ (f_X0_wrong xa p1 w) (t_X2_wrong p1 σ) := by
  obtain ⟨mo, ias, Ss, many, T, fv, fm, wr, im, h⟩ := h
  obtain ⟨ta, va, vm, pp, du, fa, ins, fd, ff, fi, c1, -⟩ := h.rd
  have hz : (nI 0 : Int32) = 0 := by decide
  have hz1 : ¬ (nI 1 : Int32) = 0 := by decide
  unfold f_X0_wrong t_X2_wrong
  rw [pf_in, pt_isIn, pu_B2, pu_B2]
  by_cases hr : nI 0 ≤ p1 ∧ p1 ≤ nI 1
  · rw [if_pos hr, if_neg hz1, if_neg hz1, pu_R (k := 2) c1 rfl, pu_B1]
    rcases h.2.1 with ⟨rfl, z2⟩ | ⟨wa, ca, p, fs, gs, rfl, z2, z3, z4, z5, z6, z7, z8⟩
    · rw [pu_Nn, z2, if_neg (by decide)]
      exact h.same _
    · have hne : ¬ some ca = some wa := by
        intro z
        obtain rfl := Option.some.inj z
        rcases z8 with z8 | z8
        · rw [z8.2] at z6
          injection z6 with z6
          injection z6 with z6
          injection z6 with z6
          exact absurd z6 (by decide)
        · rw [z8.2] at z6
          injection z6 with z6
          injection z6 with z6
          injection z6 with z6
          exact absurd z6 (by decide)
      have hcv : gcv wa (some ca) = some ca := if_neg hne
      have y0 : (0 : Int32) ≤ nI p := nI_pos' (by omega)
      rw [pu_Ns, z4, if_pos y0]
      rcases z8 with ⟨e1, e2⟩ | ⟨e1, e2⟩
      · have i1 : gIs w [7] [12, 11, 6, 13, 14, 9, 10, 15] (some ca) = some 0 := by
          rw [pu_Is e2]
          rfl
        have i2 : gCk w [6] (some ca) = some (some ca) := by
          rw [pu_Ck e2]
          rfl
        have hpl : f_X15_place wa w = some (nI p, w) := by
          unfold f_X15_place
          rw [pu_R (k := 0) z6 rfl, pu_B1, hcv, pu_Bd, i1, pu_B1, if_pos rfl, pu_B1, hcv, pu_Bd, i2, pu_B1, pu_B1, pu_I (k := 6) e2 z7, pu_B1]
        have hre : f_X15_reason wa w = some (nI 1, w) := by
          unfold f_X15_reason
          rw [pu_R (k := 0) z6 rfl, pu_B1, hcv, pu_Bd, i1, pu_B1, if_pos rfl]
        by_cases hp : p1 = 0
        · rw [if_pos hp, pu_B1, pu_B1, pu_Ob z6, pu_B1, hpl, pu_B2, if_pos hp]
          exact h.same _
        · rw [if_neg hp, pu_B1, pu_B1, pu_Ob z6, pu_B1, hre, pu_B2, if_neg hp, e1]
          exact h.same _
      · have i1 : gIs w [7] [12, 11, 6, 13, 14, 9, 10, 15] (some ca) = some 1 := by
          rw [pu_Is e2]
          rfl
        have i2 : gCk w [7] (some ca) = some (some ca) := by
          rw [pu_Ck e2]
          rfl
        have y1 : ¬ (1 : Int32) = 0 := by decide
        have hpl : f_X15_place wa w = some (nI p, w) := by
          unfold f_X15_place
          rw [pu_R (k := 0) z6 rfl, pu_B1, hcv, pu_Bd, i1, pu_B1, if_neg y1, i2, pu_B1, pu_B1, pu_I (k := 6) e2 z7, pu_B1]
        have hre : f_X15_reason wa w = some (nI 2, w) := by
          unfold f_X15_reason
          rw [pu_R (k := 0) z6 rfl, pu_B1, hcv, pu_Bd, i1, pu_B1, if_neg y1]
        by_cases hp : p1 = 0
        · rw [if_pos hp, pu_B1, pu_B1, pu_Ob z6, pu_B1, hpl, pu_B2, if_pos hp]
          exact h.same _
        · rw [if_neg hp, pu_B1, pu_B1, pu_Ob z6, pu_B1, hre, pu_B2, if_neg hp, e1]
          exact h.same _
  · rw [if_neg hr, if_pos hz, if_pos hz]
    exact h.same _
theorem sign_b : ∀ c, c < 128 → (nI c).toInt8.toInt32.toInt8.toInt32 = nI c := by decide +kernel
/-- the component's own cells change, nothing else -/
theorem GRp.own {mo : Nat} {ias : Nat → Nat} {Ss : Nat → SV} {many : Nat → Nat} {T : Nat} {fv : Nat → Option Nat} {fm : Nat → Int32} {wr im : Option Nat} {w1 : gw} {σ1 : TS} (h : GRp (k + 1) xa mo ias Ss many T fv fm wr im w tg σ) (hF : pFr w w1 tg tg (fun t => t.1 = xa ∧ 64 ≤ t.2 ∧ t.2 < 68)) (hx : xOk xa mo w1 tg σ1 fv fm wr im) (hs : ∀ r, 1 ≤ r → r < 8 → σ1 r = σ r) (h0 : ∀ j, j ≠ 9 → σ1 0 j = σ 0 j) (hw : w1.2 = w.2) :
    GRw k xa w1 tg σ1 ∧ w1.2.2.2 = w.2.2.2 ∧ ∀ a e, w.1 a = some e → tg a = (xa, 300) → w1.1 a = some e ∧ tg a = tg a := by
  obtain ⟨g1, g2, g3, g4, g5, g6, g7, g8, g9, g10⟩ := h
  have hb := g4.1.1
  have hP0 : ¬ ((0, 100) : Nat × Nat).1 = xa ∨ True := Or.inr trivial
  have hP : ¬ (fun t : Nat × Nat => t.1 = xa ∧ 64 ≤ t.2 ∧ t.2 < 68) (0, 100) := fun z => by
    have := z.2.2
    simp only at this
    omega
  have hst := hF.stc hb hP
  have hxlt : xa < w.2.1 := by
    obtain ⟨ta, va, vm, p, ft, a1, a2, -⟩ := g1
    exact hb _ _ a2
  refine ⟨⟨mo, ias, Ss, many, T, fv, fm, wr, im, hx, ?_, ?_, ?_, g5, ?_, by omega, ?_, ?_, ?_⟩, by rw [hw], fun a e ha ht => hF.at hb ha (by rw [ht]; intro z; have := z.2.2; simp only at this; omega)⟩
  · rw [h0 10 (by omega), h0 11 (by omega)]
    exact g2.fr hst
  · rw [hs 5 (by omega) (by omega)]
    exact (g3.fr hst (fun _ _ => rfl)).sg (hs 1 (by omega) (by omega)) (hs 3 (by omega) (by omega))
  · rw [hs 5 (by omega) (by omega)]
    exact ((g4.fr hF hP (fun j z => by
      obtain ⟨-, ⟨du, fa, ins, fd, ff, fi', m1, m2, -⟩, -⟩ := g4
      obtain ⟨ta, va, vm, p, ft, a1, a2, -⟩ := g1
      exact (ne_of m2 a2 (by simp)) z.1) (fun i hi hz j z => g10 i hi hz z.1)).sg (hs 1 (by omega) (by omega)) (hs 3 (by omega) (by omega))).mono (by omega)
  · have hO : (fun o => ∃ j, j < 6 ∧ σ1 5 (21 + 1262 * (j) + 0) = nI 1 ∧ o = ias j) = (fun o => ∃ j, j < 6 ∧ σ 5 (21 + 1262 * (j) + 0) = nI 1 ∧ o = ias j) := by rw [hs 5 (by omega) (by omega)]
    rw [hO]
    exact g6.fr hb hF hP (fun o j z => Or.inr (Or.inl z.1)) (fun o z => Or.inl z) (by omega) (hs 2 (by omega) (by omega)) (hs 4 (by omega) (by omega)) (hs 6 (by omega) (by omega)) (h0 7 (by omega)) (h0 19 (by omega)) (h0 20 (by omega))
  · rw [hw]; omega
  · rw [hw]; omega
  · rw [hs 5 (by omega) (by omega)]
    exact g10
theorem call_feed (p1 : Int32) (h : GRw (k + 1) xa w tg σ) : callOk k xa w tg σ (f_X0_feed xa p1 w) (t_X2_feed p1 σ) := by
  obtain ⟨mo, ias, Ss, many, T, fv, fm, wr, im, h⟩ := h
  have hx := h.1
  obtain ⟨ta, va, vm, p, ft, a1, a2, a3, a4, a5, a6, a7, a8, a9, a10, a11⟩ := hx
  have hz : (nI 0 : Int32) = 0 := by decide
  have hz1 : ¬ (nI 1 : Int32) = 0 := by decide
  unfold f_X0_feed t_X2_feed
  rw [pf_in, pt_isIn, pu_B2, pu_B2]
  by_cases hr : nI 0 ≤ p1 ∧ p1 ≤ nI 127
  · rw [if_pos hr, if_neg hz1, if_neg hz1, pu_I (k := 1) a2 rfl, pu_B1, a10]
    by_cases h80 : nI p = nI 80
    · rw [if_pos h80, if_pos h80]
      exact h.same _
    · have hp : p < 80 := by
        by_cases hp : p = 80
        · rw [hp] at h80; exact absurd rfl h80
        · omega
      obtain ⟨c, hc, rfl⟩ := rng (by omega) hr
      have hb := h.2.2.2.1.1.1
      rw [if_neg h80, if_neg h80, sign_b c (by omega), pu_R (k := 0) a2 rfl, pu_B1, pu_B1, pu_B1, pu_StI a4 (by omega) (by omega), pu_B1]
      have n1 : xa ≠ ta := ne_of a2 a4 (by simp)
      have a2' := a2
      rw [← hs_ne (w := w) (e := .inr (1, 80, .inl (upd ft p (nI c)))) n1] at a2'
      obtain ⟨W1, hW1⟩ : ∃ W1, hs w ta (.inr (1, 80, .inl (upd ft p (nI c)))) = W1 := ⟨_, rfl⟩
      rw [hW1] at a2' ⊢
      have hP1 := pu_Put a2' (k := 1) (by show 1 < 7; omega) (gi (nI (p + 1)))
      obtain ⟨W2, hW2⟩ : ∃ W2, hs W1 xa (.inl (0, [ga (some ta), gi (nI (p + 1)), ga wr, ga (some va), ga (some vm), ga (some mo), ga im])) = W2 := ⟨_, rfl⟩
      have hP2 : gPut W1 xa 0 1 (gi (nI (p + 1))) = some W2 := by
        rw [hP1, ← hW2]
        rfl
      have b2 : W2.1 xa = some (.inl (0, [ga (some ta), gi (nI (p + 1)), ga wr, ga (some va), ga (some vm), ga (some mo), ga im])) := by rw [← hW2, hs_self]
      rw [pu_I (k := 1) a2' rfl, pu_B1, nI_add, hP2, pu_B1, pu_I (k := 1) b2 rfl, pu_B1]
      have hst : tSt σ 8 (nI p) (nI c) = some (tUpd σ 8 p (nI c)) := by
        unfold tSt
        rw [show tLen 8 = 80 from rfl, pu_gIx hp (by decide)]
        rfl
      rw [hst, pu_B1, pu_Bd]
      have hpv : tPut (tUpd σ 8 p (nI c)) 9 (tUpd σ 8 p (nI c) 0 9 + nI 1) 0 9 = nI (p + 1) := by
        unfold tPut tUpd
        rw [if_pos ⟨rfl, rfl⟩, if_neg (fun z => absurd z.1 (by omega)), a10, nI_add]
      rw [hpv]
      have nta : ta ≠ xa := n1.symm
      have nva : va ≠ xa := ne_of a6 a2 (by simp)
      have nvm : vm ≠ xa := ne_of a8 a2 (by simp)
      have nva2 : va ≠ ta := ne_of a6 a4 (by simp)
      have nvm2 : vm ≠ ta := ne_of a8 a4 (by simp)
      have hF : pFr w W2 tg tg (fun t => t.1 = xa ∧ 64 ≤ t.2 ∧ t.2 < 68) := by
        have hF1 : pFr w W1 tg tg (fun t => t.1 = xa ∧ 64 ≤ t.2 ∧ t.2 < 68) := by
          rw [← hW1]
          exact pFr.hs hb a4 (by rw [a3]; exact ⟨rfl, by show 64 ≤ 65; omega, by show 65 < 68; omega⟩)
        rw [← hW2]
        exact hF1.tr (pFr.hs hF1.1 a2' (by rw [a1]; exact ⟨rfl, by show 64 ≤ 64; omega, by show 64 < 68; omega⟩))
      have hx2 : xOk xa mo W2 tg (tPut (tUpd σ 8 p (nI c)) 9 (tUpd σ 8 p (nI c) 0 9 + nI 1)) fv fm wr im := by
        refine ⟨ta, va, vm, p + 1, upd ft p (nI c), a1, b2, a3, by rw [← hW2, hs_ne nta, ← hW1, hs_self], a5, by rw [← hW2, hs_ne nva, ← hW1, hs_ne nva2]; exact a6, a7, by rw [← hW2, hs_ne nvm, ← hW1, hs_ne nvm2]; exact a8, by omega, hpv, fun j hj => ?_⟩
        have e8 : tPut (tUpd σ 8 p (nI c)) 9 (tUpd σ 8 p (nI c) 0 9 + nI 1) 8 j = if j = p then nI c else σ 8 j := by
          unfold tPut tUpd
          rw [if_neg (fun z => absurd z.1 (by omega))]
          by_cases hjp : j = p
          · rw [if_pos ⟨rfl, hjp⟩, if_pos hjp]
          · rw [if_neg (fun z => hjp z.2), if_neg hjp]
        rw [e8]
        by_cases hjp : j = p
        · rw [hjp, upd_self, if_pos rfl]
          exact ⟨rfl, c, by omega, rfl⟩
        · rw [upd_ne hjp, if_neg hjp]
          exact a11 j (by omega)
      have := h.own hF hx2 (fun r r1 r2 => by
        funext j
        unfold tPut tUpd
        rw [if_neg (fun z => absurd z.1 (by omega)), if_neg (fun z => absurd z.1 (by omega))]) (fun j hj => by
        unfold tPut tUpd
        rw [if_neg (fun z => hj z.2), if_neg (fun z => absurd z.1 (by omega))]) (by rw [← hW2, hs_2, ← hW1, hs_2])
      exact ⟨_, W2, tg, _, rfl, rfl, this.1, this.2.1, this.2.2⟩
  · rw [if_neg hr, if_pos hz, if_pos hz]
    exact h.same _
theorem min_f (E : Nat) (hE : E < 2 ^ 31) (w : gw) : f_J6_min (nI 200) (nI E) w = some (nI (min 200 E), w) := by
  unfold f_J6_min
  by_cases h : E < 200
  · rw [if_pos ((nI_ltI hE (by omega)).mpr h), Nat.min_eq_right (by omega)]
  · rw [if_neg (fun z => h ((nI_ltI hE (by omega)).mp z)), Nat.min_eq_left (by omega)]
theorem min_t (E : Nat) (hE : E < 2 ^ 31) (w : TS) : t_J6_min (nI 200) (nI E) w = some (nI (min 200 E), w) := by
  unfold t_J6_min
  by_cases h : E < 200
  · rw [if_pos ((nI_ltI hE (by omega)).mpr h), Nat.min_eq_right (by omega)]
  · rw [if_neg (fun z => h ((nI_ltI hE (by omega)).mp z)), Nat.min_eq_left (by omega)]
/-- an instance of the moment, for reading -/
theorem GRp.inst {mo : Nat} {ias : Nat → Nat} {Ss : Nat → SV} {many : Nat → Nat} {T : Nat} {fv : Nat → Option Nat} {fm : Nat → Int32} {wr im : Option Nat} (h : GRp k xa mo ias Ss many T fv fm wr im w tg σ) {j : Nat} (hj : j < 6) (hp : σ 5 (21 + 1262 * (j) + 0) = nI 1) :
    ∃ ia va pe dl hi' bo un fv fp fh E ea mc, w.1 ia = some (.inl (16, [ga (some mo), gi (σ 5 (21 + 1262 * (j) + 2)), gi (σ 5 (21 + 1262 * (j) + 3)), gi (σ 5 (21 + 1262 * (j) + 4)), ga (some va), ga (some pe), ga (some dl), ga (some hi'), gi (nI E), gi (σ 5 (21 + 1262 * (j) + 1)), gi (σ 5 (21 + 1262 * (j) + 5)), gi (σ 5 (21 + 1262 * (j) + 7)), gi (σ 5 (21 + 1262 * (j) + 8)), ga bo, ga un, ga (some xa)])) ∧ ia = ias j ∧
      w.1 va = some (.inr (0, 4, .inl fv)) ∧ w.1 pe = some (.inr (0, 8, .inl fp)) ∧ w.1 hi' = some (.inr (0, 600, .inl fh)) ∧ (∀ c, c < 4 → fv c = σ 5 (21 + 1262 * (j) + (10 + c))) ∧ (∀ c, c < 8 → fp c = σ 5 (21 + 1262 * (j) + (14 + c))) ∧ (∀ q, q < 600 → fh q = σ 5 (21 + 1262 * (j) + (22 + q))) ∧ σ 5 (21 + 1262 * (j) + 9) = nI E ∧ E < 2 ^ 31 ∧ w.1 dl = some (.inl (8, [mc, ga (some ea), gi (σ 5 (21 + 1262 * (j) + 6))])) := by
  obtain ⟨a, b, bo, un, h1, h2, h3, h4, h5, h6, h7, h8⟩ := h.2.2.2.1.get hj hp
  obtain ⟨-, -, -, -, -, ⟨va, pe, hi', dl, fv, fp, fh, i1, i2, i3, i4, i5, i6, i7, i8, i9, i10, i11, m, ea, mc, g, d1, d2, d3, d4, d5, -⟩, E, e1, e2⟩ := h7
  rw [e1] at i2
  have hBk : E < 2 ^ 31 := Nat.lt_of_le_of_lt e2 (Nat.lt_of_le_of_lt (Nat.mul_le_mul_right 20500000 (Nat.sub_le 64 _)) (by decide))
  exact ⟨ias j, va, pe, dl, hi', bo, un, fv, fp, fh, E, ea, _, i2, rfl, i4, i6, i8, i9, fun c hc => (i10 c hc).1, i11, e1, hBk, by rw [d1]; exact d5⟩
theorem call_instance (p1 p2 : Int32) (h : GRw (k + 1) xa w tg σ) : callOk k xa w tg σ (f_X0_instance xa p1 p2 w) (t_X2_instance p1 p2 σ) := by
  obtain ⟨mo, ias, Ss, many, T, fv, fm, wr, im, h⟩ := h
  obtain ⟨ta, va, vm, pp, du, fa, ins, fd, ff, fi, c1, c2, c3, c4, c5, c6, c7, c8, c9, c10, c11, c12, c13, c14, -⟩ := h.rd
  have hz : (nI 0 : Int32) = 0 := by decide
  have hz1 : ¬ (nI 1 : Int32) = 0 := by decide
  unfold f_X0_instance t_X2_instance
  rw [pu_Ob c1, pu_B1]
  rcases h.isI p1 with ⟨i1, i2⟩ | ⟨j, hj, rfl, hp, i1, i2⟩
  · rw [i1, i2, pu_B2, pu_B2, if_pos hz, if_pos hz]
    exact h.same _
  · obtain ⟨ia, va2, pe2, dl2, hi2, bo, un, fv2, fp2, fh2, E, ea, mc, d1, rfl, d2, d3, d4, d5, d6, d7, d8, d9, d10⟩ := h.inst hj hp
    have hfi : fi j = some (ias j) := by
      rcases c14 j hj with z | z
      · rw [hp] at z; exact absurd z.2 (by decide)
      · exact z.1
    rw [i1, i2, pu_B2, pu_B2, if_neg hz1, if_neg hz1, pu_R (k := 5) c1 rfl, pu_B1, pu_B1, pu_R (k := 2) c2 rfl, pu_B1, pu_B1, pu_LdR c3 hj (by omega), pu_B1, hfi, pf_in, pt_isIn, pu_B2, pu_B2]
    have eo : ∀ (q : Nat) (w : TS), t_X2_of (nI j) (nI q) w = some (nI (21 + 1262 * (j) + q), w) := fun q w => pt_of w
    by_cases hr : nI 10 ≤ p2 ∧ p2 ≤ nI 13
    · rw [if_pos hr, if_neg hz1, if_neg hz1]
      obtain ⟨c, hc, rfl⟩ := rng (M := 13) (by omega) ⟨Int32.le_trans (by decide) hr.1, hr.2⟩
      have hc10 : 10 ≤ c := (nI_leI (by omega) (by omega)).mp hr.1
      rw [pu_B1, pu_R (k := 4) d1 rfl, pu_B1, pu_B1, pk_sub hc10, pu_LdI d2 (by omega) (by omega), pu_B1, nI_add, pk_sub (by omega), eo, pu_B2, ld5 (by omega), pu_B1, d5 (c - 10) (by omega), show 10 + c - 10 = 10 + (c - 10) by omega]
      exact h.same _
    · rw [if_neg hr, if_pos hz, if_pos hz, pf_in, pt_isIn, pu_B2, pu_B2]
      by_cases hr2 : nI 20 ≤ p2 ∧ p2 ≤ nI 27
      · rw [if_pos hr2, if_neg hz1, if_neg hz1]
        obtain ⟨c, hc, rfl⟩ := rng (M := 27) (by omega) ⟨Int32.le_trans (by decide) hr2.1, hr2.2⟩
        have hc10 : 20 ≤ c := (nI_leI (by omega) (by omega)).mp hr2.1
        rw [pu_B1, pu_R (k := 5) d1 rfl, pu_B1, pu_B1, pk_sub hc10, pu_LdI d3 (by omega) (by omega), pu_B1, nI_add, pk_sub (by omega), eo, pu_B2, ld5 (by omega), pu_B1, d6 (c - 20) (by omega), show 14 + c - 20 = 14 + (c - 20) by omega]
        exact h.same _
      · rw [if_neg hr2, if_pos hz, if_pos hz, pt_isIn, pu_B2]
        have hfin : ∀ q, (nI q : Int32) = p2 → q ≤ 8 → (gB2 (t_X2_of (nI j) ((nI 1) + p2) σ) fun x14 w13 => gB1 (tLd w13 5 x14) fun x15 => some (x15, w13)) = some (σ 5 (21 + 1262 * (j) + (1 + q)), σ) := fun q hq hq8 => by
          rw [← hq, nI_add, eo, pu_B2, ld5 (by omega), pu_B1]
        by_cases hr3 : nI 0 ≤ p2 ∧ p2 ≤ nI 8
        · rw [if_pos hr3, if_neg hz1]
          obtain ⟨c, hc, rfl⟩ := rng (M := 8) (by omega) hr3
          have hq := hfin c rfl hc
          rw [hq]
          have hcs : c = 0 ∨ c = 1 ∨ c = 2 ∨ c = 3 ∨ c = 4 ∨ c = 5 ∨ c = 6 ∨ c = 7 ∨ c = 8 := by omega
          have sz : f_J2_size dl2 w = some (σ 5 (21 + 1262 * (j) + 6), w) := pf_size d10
          have t1 : ¬ nI 1 = nI 0 := by decide
          rcases hcs with rfl | rfl | rfl | rfl | rfl | rfl | rfl | rfl | rfl
          · rw [if_pos rfl, pu_B1, pu_I (k := 9) d1 rfl, pu_B1]
            exact h.same _
          · rw [if_neg (by decide), if_pos rfl, pu_B1, pu_I (k := 1) d1 rfl, pu_B1]
            exact h.same _
          · rw [if_neg (by decide), if_neg (by decide), if_pos rfl, pu_B1, pu_I (k := 2) d1 rfl, pu_B1]
            exact h.same _
          · rw [if_neg (by decide), if_neg (by decide), if_neg (by decide), if_pos rfl, pu_B1, pu_I (k := 3) d1 rfl, pu_B1]
            exact h.same _
          · rw [if_neg (by decide), if_neg (by decide), if_neg (by decide), if_neg (by decide), if_pos rfl, pu_B1, pu_I (k := 10) d1 rfl, pu_B1]
            exact h.same _
          · rw [if_neg (by decide), if_neg (by decide), if_neg (by decide), if_neg (by decide), if_neg (by decide), if_pos rfl, pu_B1, pu_R (k := 6) d1 rfl, pu_B1, pu_B1, pu_Ob d10, pu_B1, sz, pu_B2]
            exact h.same _
          · rw [if_neg (by decide), if_neg (by decide), if_neg (by decide), if_neg (by decide), if_neg (by decide), if_neg (by decide), if_pos rfl, pu_B1, pu_I (k := 11) d1 rfl, pu_B1]
            exact h.same _
          · rw [if_neg (by decide), if_neg (by decide), if_neg (by decide), if_neg (by decide), if_neg (by decide), if_neg (by decide), if_neg (by decide), if_pos rfl, pu_B1, pu_I (k := 12) d1 rfl, pu_B1]
            exact h.same _
          · rw [if_neg (by decide), if_neg (by decide), if_neg (by decide), if_neg (by decide), if_neg (by decide), if_neg (by decide), if_neg (by decide), if_neg (by decide), if_pos rfl, pu_B1, pu_I (k := 8) d1 rfl, pu_B1, ← d8]
            exact h.same _
        · have hn : ∀ q, q ≤ 8 → ¬ p2 = nI q := fun q hq z => hr3 (by rw [z]; exact rng' hq (by omega))
          rw [if_neg hr3, if_pos hz, if_neg (hn 0 (by omega)), if_neg (hn 1 (by omega)), if_neg (hn 2 (by omega)), if_neg (hn 3 (by omega)), if_neg (hn 4 (by omega)), if_neg (hn 5 (by omega)), if_neg (hn 6 (by omega)), if_neg (hn 7 (by omega)), if_neg (hn 8 (by omega))]
          exact h.same _
theorem call_entry (p1 p2 p3 : Int32) (h : GRw (k + 1) xa w tg σ) : callOk k xa w tg σ (f_X0_entry xa p1 p2 p3 w) (t_X2_entry p1 p2 p3 σ) := by
  obtain ⟨mo, ias, Ss, many, T, fv, fm, wr, im, h⟩ := h
  obtain ⟨ta, va, vm, pp, du, fa, ins, fd, ff, fi, c1, c2, c3, c4, c5, c6, c7, c8, c9, c10, c11, c12, c13, c14, -⟩ := h.rd
  have hz : (nI 0 : Int32) = 0 := by decide
  have hz1 : ¬ (nI 1 : Int32) = 0 := by decide
  unfold f_X0_entry t_X2_entry
  rw [pu_Ob c1, pu_B1]
  rcases h.isI p1 with ⟨i1, i2⟩ | ⟨j, hj, rfl, hp, i1, i2⟩
  · rw [i1, i2, pu_B2, pu_B2, if_pos hz, pu_Bd, if_pos hz]
    exact h.same _
  · obtain ⟨ia, va2, pe2, dl2, hi2, bo, un, fv2, fp2, fh2, E, ea, mc, d1, rfl, d2, d3, d4, d5, d6, d7, d8, d9, d10⟩ := h.inst hj hp
    have hfi : fi j = some (ias j) := by
      rcases c14 j hj with z | z
      · rw [hp] at z; exact absurd z.2 (by decide)
      · exact z.1
    have eo : ∀ (q : Nat) (w : TS), t_X2_of (nI j) (nI q) w = some (nI (21 + 1262 * (j) + q), w) := fun q w => pt_of w
    have hkept : t_X2_keptEntries (nI j) σ = some (nI (min 200 E), σ) := by
      unfold t_X2_keptEntries
      rw [eo, pu_B2, ld5 (by omega), pu_B1, d8, min_t E d9, pu_B2]
    rw [i1, i2, pu_B2, pu_B2, if_neg hz1, pu_Bd, if_neg hz1, pf_in, hkept, pu_B2, pu_B2, pt_isIn, pu_B2]
    by_cases hr3 : nI 0 ≤ p3 ∧ p3 ≤ nI 2
    · rw [if_pos hr3, if_neg hz1, pu_R (k := 5) c1 rfl, pu_B1, pu_B1, pu_R (k := 2) c2 rfl, pu_B1, pu_B1, pu_LdR c3 hj (by omega), pu_B1, hfi, pu_B1, pu_I (k := 8) d1 rfl, pu_B1, min_f E d9, pu_B2, pf_in, pu_B2]
      by_cases hr2 : nI 0 ≤ p2 ∧ p2 ≤ nI (min 200 E) - nI 1
      · obtain ⟨c, hc, rfl⟩ := rng (by omega) hr3
        have hq : ∃ q, q < min 200 E ∧ p2 = nI q := by
          obtain ⟨q, q1, q2⟩ := nI_of (x := p2) (Int32.not_lt.mpr hr2.1)
          rw [q2] at hr2
          by_cases hE0 : E = 0
          · rw [hE0] at hr2
            have hle := hr2.2
            have y : nI (min 200 0) - nI 1 = -1 := by decide
            rw [y] at hle
            have h0 : (0 : Int32) ≤ -1 := Int32.le_trans hr2.1 hle
            exact absurd h0 (by decide)
          · rw [pk_sub (by omega)] at hr2
            have := (nI_leI (by omega) (by omega)).mp hr2.2
            exact ⟨q, by omega, q2⟩
        obtain ⟨q, hq1, rfl⟩ := hq
        rw [if_pos hr2, if_neg hz1, if_neg hz1, pt_isIn, if_pos hr3, pu_B2, if_neg hz1, pu_R (k := 7) d1 rfl, pu_B1, pu_B1, pu_mul, nI_add, pu_LdI d4 (by omega) (by omega), pu_B1, nI_add, nI_add, eo, pu_B2, ld5 (by omega), pu_B1, d7 _ (by omega), show 22 + 3 * q + c = 22 + (3 * q + c) by omega]
        exact h.same _
      · rw [if_neg hr2, if_pos hz, if_pos hz]
        exact h.same _
    · rw [if_neg hr3, if_pos hz]
      by_cases hr2 : nI 0 ≤ p2 ∧ p2 ≤ nI (min 200 E) - nI 1
      · rw [if_pos hr2, if_neg hz1, pt_isIn, if_neg hr3, pu_B2, if_pos hz]
        exact h.same _
      · rw [if_neg hr2, if_pos hz]
        exact h.same _
end C4
