set_option maxRecDepth 100000
/-! THE CALLS: what is owed of one; those that step the moment -/
def callOk (k xa : Nat) (w : gw) (tg : pT) (σ : TS) (fr : Option (Int32 × gw)) (tr : Option (Int32 × TS)) : Prop := ∃ r w1 tg1 σ1, fr = some (r, w1) ∧ tr = some (r, σ1) ∧ GRw k xa w1 tg1 σ1 ∧ w1.2.2.2 = w.2.2.2 ∧ ∀ a e, w.1 a = some e → tg a = (xa, 300) → w1.1 a = some e ∧ tg1 a = tg a
theorem rng {p : Int32} {M : Nat} (hM : M < 2 ^ 31) (h : nI 0 ≤ p ∧ p ≤ nI M) : ∃ k, k ≤ M ∧ p = nI k := by
  obtain ⟨j, h1, h2⟩ := nI_of (x := p) (Int32.not_lt.mpr h.1)
  rw [h2] at h
  exact ⟨j, (nI_leI h1 hM).mp h.2, h2⟩
theorem rng' {k M : Nat} (hk : k ≤ M) (hM : M < 2 ^ 31) : nI 0 ≤ nI k ∧ nI k ≤ nI M := ⟨nI_le (Nat.zero_le _) (by omega), nI_le hk hM⟩
theorem pf_in (p a b : Int32) (w : gw) : f_X0_in p a b w = some (if a ≤ p ∧ p ≤ b then nI 1 else nI 0, w) := by
  unfold f_X0_in
  rw [pu_Bd]
  by_cases h1 : p < a
  · rw [if_pos h1, if_neg (fun h => absurd h.1 (Int32.not_le.mpr h1))]
  · rw [if_neg h1]
    by_cases h2 : b < p
    · rw [if_pos h2, if_neg (fun h => absurd h.2 (Int32.not_le.mpr h2))]
    · rw [if_neg h2, if_pos ⟨Int32.not_lt.mp h1, Int32.not_lt.mp h2⟩]
section GC
variable {k xa mo T : Nat} {ias : Nat → Nat} {Ss : Nat → SV} {many : Nat → Nat} {fv : Nat → Option Nat} {fm : Nat → Int32} {wr im : Option Nat} {w : gw} {tg : pT} {σ : TS}
theorem mOk.ne {s : Nat → Int32} {B : Nat} {Tr : Nat → Nat} (h : mOk Ss many σ xa mo ias w tg s T B Tr) {j : Nat} (hj : j < 6) (hp : s (21 + 1262 * (j) + 0) = nI 1) : ias j ≠ 0 ∧ ias j ≠ mo ∧ ∃ fs, w.1 (ias j) = some (.inl (16, fs)) := by
  obtain ⟨-, -, ⟨fi, -, hks⟩, -⟩ := h
  rcases hks j hj with q | ⟨-, -, a', b', bo', un', -, -, -, -, -, -, g7, -⟩
  · rw [hp] at q
    exact absurd q.2 (by decide)
  · obtain ⟨va, pe, dl, hi', own, -⟩ := g7.own
    exact ⟨g7.1.1, g7.mi.symm, _, own⟩
/-- the moment goes on: the world with it -/
theorem GRp.now2 {w1 : gw} {P : Nat × Nat → Prop} {tg1 : pT} {s1 : Nat → Int32} {ias1 : Nat → Nat} {T1 : Nat} (h : GRp (k + 1) xa mo ias Ss many T fv fm wr im w tg σ) (hm1 : mOk Ss many σ xa mo ias1 w1 tg1 s1 T1 ((64 - k) * 20500000) (fun _ => T1)) (hT1 : T1 ≤ 99999) (hF : pFr w w1 tg tg1 P) (hPP : ∀ t, P t → (t.1 = mo ∧ t.2 < 4) ∨ (∃ j, j < 6 ∧ σ 5 (21 + 1262 * (j) + 0) = nI 1 ∧ t.1 = ias j) ∨ w.2.1 ≤ t.1) (hQ : ∀ j, 17 ≤ j → j < 21 → s1 j = σ 5 j) (hi : ∀ j, j < 6 → s1 (21 + 1262 * (j) + 0) = nI 1 → (σ 5 (21 + 1262 * (j) + 0) = nI 1 ∧ ias1 j = ias j) ∨ w.2.1 ≤ ias1 j) (hc : w1.2.1 ≤ w.2.1 + 9390) (hc2 : w1.2.2.1 ≤ w.2.2.1 + 113000) :
    GRw k xa w1 tg1 (tS σ s1) ∧ w1.2.2.2 = w.2.2.2 ∧ ∀ a e, w.1 a = some e → tg a = (xa, 300) → w1.1 a = some e ∧ tg1 a = tg a := by
  obtain ⟨g1, g2, g3, g4, g5, g6, g7, g8, g9, g10⟩ := h
  have hb : pBd w := g4.1.1
  have hxa : xa < w.2.1 := by
    obtain ⟨ta, va, vm, p, ft, a1, a2, -⟩ := g1
    exact hb _ _ a2
  have hP0 : ¬ P (0, 100) := fun hz => by
    rcases hPP _ hz with z | ⟨j, z1, z2, z3⟩ | z
    · have := z.2
      simp only at this
      omega
    · exact (g4.ne z1 z2).1 z3.symm
    · simp only at z
      omega
  have hPx : ∀ j, 64 ≤ j → ¬ P (xa, j) := fun j hj hz => by
    rcases hPP _ hz with z | ⟨j', z1, z2, z3⟩ | z
    · have := z.2
      simp only at this
      omega
    · exact g10 j' z1 z2 z3.symm
    · simp only at z
      omega
  have hst := hF.stc hb hP0
  have s5 : tS σ s1 5 = s1 := tS_5 _ _
  have e1 : tS σ s1 1 = σ 1 := tS_ne _ _ (by omega)
  have e3 : tS σ s1 3 = σ 3 := tS_ne _ _ (by omega)
  have e0 : tS σ s1 0 = σ 0 := tS_ne _ _ (by omega)
  have e2 : tS σ s1 2 = σ 2 := tS_ne _ _ (by omega)
  have e4 : tS σ s1 4 = σ 4 := tS_ne _ _ (by omega)
  have e6 : tS σ s1 6 = σ 6 := tS_ne _ _ (by omega)
  have e8 : tS σ s1 8 = σ 8 := tS_ne _ _ (by omega)
  refine ⟨⟨mo, ias1, Ss, many, T1, fv, fm, wr, im, g1.fr hb hF (fun j a _ => hPx j a) (by rw [e0]) e8, ?_, ?_, ?_, hT1, ?_, by omega, ?_, ?_, ?_⟩, hF.2.2.1, fun a e ha ht => ?_⟩
  · rw [e0]
    exact g2.fr hst
  · rw [s5]
    exact (g3.fr hst (fun a ha => hQ _ (by omega) (by omega))).sg e1 e3
  · rw [s5]
    exact hm1.sg e1 e3
  · refine g6.fr hb hF hP0 (fun o j z => ?_) (fun o z => ?_) (by omega) e2 e4 e6 (by rw [e0]) (by rw [e0]) (by rw [e0])
    · rcases hPP _ z with z | ⟨j', z1, z2, z3⟩ | z
      · exact Or.inl z.1
      · exact Or.inr (Or.inr (Or.inl ⟨j', z1, z2, z3⟩))
      · exact Or.inr (Or.inr (Or.inr z))
    · obtain ⟨j, z1, z2, z3⟩ := z
      rw [s5] at z2
      rcases hi j z1 z2 with y | y
      · exact Or.inl ⟨j, z1, y.1, z3.trans y.2⟩
      · exact Or.inr (by rw [z3]; exact y)
  · rw [hF.2.2.1]
    omega
  · rw [hF.2.2.1]
    omega
  · intro j hj z
    rw [s5] at z
    rcases hi j hj z with y | y
    · rw [y.2]
      exact g10 j hj y.1
    · omega
  · exact hF.at hb ha (by rw [ht]; exact hPx _ (by omega))
theorem GRp.now {w1 : gw} {tg1 : pT} {s1 : Nat → Int32} {ias1 : Nat → Nat} {T1 : Nat} (h : GRp (k + 1) xa mo ias Ss many T fv fm wr im w tg σ) (hm1 : mOk Ss many σ xa mo ias1 w1 tg1 s1 T1 ((64 - k) * 20500000) (fun _ => T1)) (hT1 : T1 ≤ 99999) (hF : pFr w w1 tg tg1 (mP mo ias (σ 5))) (hQ : ∀ j, 17 ≤ j → j < 21 → s1 j = σ 5 j) (hi : ∀ j, j < 6 → s1 (21 + 1262 * (j) + 0) = nI 1 → (σ 5 (21 + 1262 * (j) + 0) = nI 1 ∧ ias1 j = ias j) ∨ w.2.1 ≤ ias1 j) (hc : w1.2.1 ≤ w.2.1 + 9390) (hc2 : w1.2.2.1 ≤ w.2.2.1 + 113000) :
    GRw k xa w1 tg1 (tS σ s1) ∧ w1.2.2.2 = w.2.2.2 ∧ ∀ a e, w.1 a = some e → tg a = (xa, 300) → w1.1 a = some e ∧ tg1 a = tg a :=
  h.now2 hm1 hT1 hF (fun t z => z.elim Or.inl (fun y => Or.inr (Or.inl y))) hQ hi hc hc2
/-- nothing changes -/
theorem GRp.same (h : GRp (k + 1) xa mo ias Ss many T fv fm wr im w tg σ) (r : Int32) : callOk k xa w tg σ (some (r, w)) (some (r, σ)) := by
  obtain ⟨g1, g2, g3, g4, g5, g6, g7, g8, g9, g10⟩ := h
  have := GRp.now (w1 := w) (tg1 := tg) (s1 := σ 5) (ias1 := ias) (T1 := T) ⟨g1, g2, g3, g4, g5, g6, g7, g8, g9, g10⟩ (g4.mono (by omega)) g5 (pFr.rf g4.1.1) (fun _ _ _ => rfl) (fun j _ hz => Or.inl ⟨hz, rfl⟩) (by omega) (by omega)
  rw [tS_self] at this
  exact ⟨r, w, tg, σ, rfl, rfl, this.1, this.2.1, this.2.2⟩
/-- the moment's cells, for reading -/
theorem GRp.rd (h : GRp k xa mo ias Ss many T fv fm wr im w tg σ) : ∃ ta va vm p du fa ins fd ff fi, w.1 xa = some (.inl (0, [ga (some ta), gi (nI p), ga wr, ga (some va), ga (some vm), ga (some mo), ga im])) ∧ w.1 mo = some (.inl (1, [ga (some du), ga (some fa), ga (some ins), gi (nI T), ga (some xa)])) ∧ w.1 ins = some (.inr (4, 6, .inr fi)) ∧ w.1 du = some (.inr (0, 8, .inl fd)) ∧ w.1 fa = some (.inr (0, 8, .inl ff)) ∧ tg ins = (mo, 3) ∧ tg du = (mo, 1) ∧ tg fa = (mo, 2) ∧ tg mo = (mo, 0) ∧ w.1 va = some (.inr (3, 16, .inr fv)) ∧ w.1 vm = some (.inr (0, 4, .inl fm)) ∧
    (∀ c, c < 8 → fd c = σ 5 (1 + c) ∧ ff c = σ 5 (9 + c) ∧ (∃ d, d ≤ 99 ∧ σ 5 (1 + c) = nI d) ∧ ∃ d, d ≤ 99 ∧ σ 5 (9 + c) = nI d) ∧ σ 5 0 = nI T ∧ (∀ k, k < 6 → (fi k = none ∧ σ 5 (21 + 1262 * (k) + 0) = nI 0) ∨ (fi k = some (ias k) ∧ σ 5 (21 + 1262 * (k) + 0) = nI 1)) ∧ mIn mo w tg fi ∧ σ 0 9 = nI p ∧ p ≤ 80 := by
  obtain ⟨⟨ta, va, vm, p, ft, a1, a2, a3, a4, a5, a6, a7, a8, a9, a10, a11⟩, -, -, ⟨-, ⟨du, fa, ins, fd, ff, fi', m1, m2, m3, m4, m5, m6, m7, m8, m9, m10, m11⟩, ⟨fi, ⟨ins', q0, q1, q3, q4, n1, n2, n3, n4⟩, hks⟩, -⟩, -⟩ := h
  have hi : ins' = ins := by
    have h1 := pu_R (w := w) (k := 2) n2 rfl
    have h2 := pu_R (w := w) (k := 2) m2 rfl
    rw [h1] at h2
    exact Option.some.inj (Option.some.inj h2)
  rw [hi] at n2 n3 n4
  rw [m10] at m2
  exact ⟨ta, va, vm, p, du, fa, ins, fd, ff, fi, a2, m2, n4, m4, m6, m7, m3, m5, m1, a6, a8, m9, m10, fun k hk => by
    rcases hks k hk with z | z
    · exact Or.inl z
    · exact Or.inr ⟨z.1, z.2.1⟩, ⟨ins, _, _, _, _, n1, m2, n3, n4⟩, a10, a9⟩
/-- is there such an instance? both sides -/
theorem GRp.isI (h : GRp k xa mo ias Ss many T fv fm wr im w tg σ) (p : Int32) : (f_X0_isInstance xa p w = some (nI 0, w) ∧ t_X2_isInstance p σ = some (nI 0, σ)) ∨ ∃ j, j < 6 ∧ p = nI j ∧ σ 5 (21 + 1262 * (j) + 0) = nI 1 ∧ f_X0_isInstance xa p w = some (nI 1, w) ∧ t_X2_isInstance p σ = some (nI 1, σ) := by
  obtain ⟨ta, va, vm, pp, du, fa, ins, fd, ff, fi, c1, c2, c3, c4, c5, c6, c7, c8, c9, c10, c11, c12, c13, c14, -⟩ := h.rd
  have hz : (nI 0 : Int32) = 0 := by decide
  have hz1 : ¬ (nI 1 : Int32) = 0 := by decide
  by_cases hr : nI 0 ≤ p ∧ p ≤ nI 5
  · obtain ⟨j, hj, rfl⟩ := rng (by omega) hr
    have e0 : ∀ w : TS, t_X2_of (nI j) (nI 0) w = _ := fun w => pt_of w
    have ht : t_X2_isInstance (nI j) σ = if σ 5 (21 + 1262 * (j) + 0) = nI 1 then some (nI 1, σ) else some (nI 0, σ) := by
      unfold t_X2_isInstance
      rw [pt_isIn, if_pos hr, pu_B2, pu_Bd, if_neg hz1, e0, pu_B2, ← tS_self σ, pu_ld5 (by omega), pu_B1]
      rw [tS_self]
    rcases c14 j (by omega) with ⟨z1, z2⟩ | ⟨z1, z2⟩
    · refine Or.inl ⟨?_, ?_⟩
      · unfold f_X0_isInstance
        rw [pf_in, if_pos hr, pu_B2, pu_Bd, if_neg hz1, pu_R (k := 5) c1 rfl, pu_B1, pu_B1, pu_R (k := 2) c2 rfl, pu_B1, pu_B1, pu_LdR c3 (by omega) (by omega), pu_B1, z1, pu_Nn]
      · rw [ht, z2, if_neg (by decide)]
    · refine Or.inr ⟨j, by omega, rfl, z2, ?_, ?_⟩
      · unfold f_X0_isInstance
        rw [pf_in, if_pos hr, pu_B2, pu_Bd, if_neg hz1, pu_R (k := 5) c1 rfl, pu_B1, pu_B1, pu_R (k := 2) c2 rfl, pu_B1, pu_B1, pu_LdR c3 (by omega) (by omega), pu_B1, z1, pu_Ns]
      · rw [ht, z2, if_pos rfl]
  · refine Or.inl ⟨?_, ?_⟩
    · unfold f_X0_isInstance
      rw [pf_in, if_neg hr, pu_B2, pu_Bd, if_pos hz]
    · unfold t_X2_isInstance
      rw [pt_isIn, if_neg hr, pu_B2, pu_Bd, if_pos hz]
theorem mPh_le (s : Nat → Int32) : mPh s ≤ 4632 := by
  have h1 : ∀ k, iPh k s ≤ 772 := fun k => by
    have : pPh k s ≤ pSum (fun _ => 12) 64 := pSum_le _ (fun n _ => by
      show (if s (21 + 1262 * (k) + (622 + 10 * (n) + 0)) = nI 0 then 12 else if s (21 + 1262 * (k) + (622 + 10 * (n) + 0)) = nI 1 then 8 else 0) ≤ 12
      by_cases z : s (21 + 1262 * (k) + (622 + 10 * (n) + 0)) = nI 0
      · rw [if_pos z]; exact Nat.le_refl _
      · rw [if_neg z]
        by_cases z1 : s (21 + 1262 * (k) + (622 + 10 * (n) + 0)) = nI 1
        · rw [if_pos z1]; omega
        · rw [if_neg z1]; omega)
    have h2 : pSum (fun _ => 12) 64 = 768 := by decide
    unfold iPh
    by_cases z : s (21 + 1262 * (k) + 1) = nI 0
    · rw [if_pos z]; omega
    · rw [if_neg z]; omega
  have h3 : mPh s ≤ pSum (fun _ => 772) 6 := pSum_le _ (fun k _ => by
    show (if s (21 + 1262 * (k) + 0) = nI 1 then iPh k s else 0) ≤ 772
    by_cases z : s (21 + 1262 * (k) + 0) = nI 1
    · rw [if_pos z]; exact h1 k
    · rw [if_neg z]; omega)
  have h4 : pSum (fun _ => 772) 6 = 4632 := by decide
  omega
end GC
section PA
variable {xa mo : Nat} {ias : Nat → Nat} {Ss : Nat → SV} {many : Nat → Nat} {σ : TS}
/-- many steps -/
theorem pass_loop {m : Nat} (hm : m ≤ 1000) : ∀ (r j f1 f2 : Nat), j + r = m → r < f1 → r < f2 → ∀ (w : gw) (tg : pT) (s : Nat → Int32) (T B : Nat), mOk Ss many σ xa mo ias w tg s T B (fun _ => T) → T + r ≤ 100300 → B + 102000 * r < 2 ^ 31 → w.2.1 + mPh s ≤ w.2.2.2 0 → w.2.2.1 + 12 * mPh s ≤ w.2.2.2 1 →
    (∃ f0 f1' f2' f3 f4 f6, w.1 xa = some (.inl (0, [f0, f1', f2', f3, f4, ga (some mo), f6])) ∧ tg xa = (xa, 64)) → (∀ j, j < 6 → s (21 + 1262 * (j) + 0) = nI 1 → ias j ≠ xa) →
    ∃ w1 tg1 s1, gL2 (bf_X0_pass_1 xa) f1 (nI m) (nI j) w = some (nI (T + r), w1) ∧ gL2 bt_X2_pass_1 f2 (nI m) (nI j) (tS σ s) = some (nI (T + r), tS σ s1) ∧ mOk Ss many σ xa mo ias w1 tg1 s1 (T + r) (B + 102000 * r) (fun _ => T + r) ∧ pFr w w1 tg tg1 (mP mo ias s) ∧ mQ s s1 ∧ mRk w w1 s s1 := by
  intro r
  induction r with
  | zero =>
    intro j f1 f2 hj hf1 hf2 w tg s T B h hT hB r0 r1 hx hxi
    obtain ⟨f1, rfl⟩ : ∃ g, f1 = g + 1 := ⟨f1 - 1, by omega⟩
    obtain ⟨f2, rfl⟩ : ∃ g, f2 = g + 1 := ⟨f2 - 1, by omega⟩
    obtain rfl : j = m := by omega
    obtain ⟨x0, x1, x2, x3, x4, x6, hx, -⟩ := hx
    have hM := h.2.1
    obtain ⟨du, fa, ins, fd, ff, fi', m1, m2, m3, m4, m5, m6, m7, m8, m9, m10, m11⟩ := hM
    refine ⟨w, tg, s, ?_, ?_, h, pFr.rf h.1.1, mQ.rf, Nat.le_refl _, Nat.le_refl _⟩
    · show bf_X0_pass_1 xa (gL2 (bf_X0_pass_1 xa) f1) _ _ w = _
      generalize gL2 (bf_X0_pass_1 xa) f1 = KK
      unfold bf_X0_pass_1
      rw [if_pos (nI_le (Nat.le_refl _) (by omega)), pu_R (k := 5) hx rfl, pu_B1, pu_B1, pu_I (k := 3) m2 rfl, pu_B1, m10]
      rfl
    · show bt_X2_pass_1 (gL2 bt_X2_pass_1 f2) _ _ _ = _
      generalize gL2 bt_X2_pass_1 f2 = KK
      unfold bt_X2_pass_1
      rw [if_pos (nI_le (Nat.le_refl _) (by omega)), pu_ld5 (by omega), pu_B1, m10]
      rfl
  | succ r ih =>
    intro j f1 f2 hj hf1 hf2 w tg s T B h hT hB r0 r1 hx hxi
    obtain ⟨f1, rfl⟩ : ∃ g, f1 = g + 1 := ⟨f1 - 1, by omega⟩
    obtain ⟨f2, rfl⟩ : ∃ g, f2 = g + 1 := ⟨f2 - 1, by omega⟩
    have hb := h.1.1
    obtain ⟨x0, x1, x2, x3, x4, x6, hx, hxt⟩ := hx
    have t1 : T + 1 ≤ 100300 := by omega
    have em : 102000 * (r + 1) = 102000 * r + 102000 := Nat.mul_add_one _ _
    rw [em] at hB ⊢
    obtain ⟨z, hzr⟩ : ∃ z, 102000 * r = z := ⟨_, rfl⟩
    rw [hzr] at hB ⊢
    have t2 : B + 102000 < 2 ^ 31 := Nat.lt_of_le_of_lt (Nat.add_le_add_left (Nat.le_add_left _ _) _) hB
    have t3 : B + 102000 + 102000 * r < 2 ^ 31 := by rw [hzr, Nat.add_assoc, Nat.add_comm 102000 z]; exact hB
    obtain ⟨w2, tg2, s2, d1, d2, d3, d4, d5, d6⟩ := sim_steps h t1 t2 r0 r1
    have hM := h.2.1
    obtain ⟨du, fa, ins, fd, ff, fi', m1, m2, -⟩ := hM
    have hK : w2.2.2.2 = w.2.2.2 := d4.2.2.1
    have hPx : ¬ mP mo ias s (xa, 64) := by
      rintro (z | ⟨j', z1, z2, z3⟩)
      · have := z.2
        simp only at this
        omega
      · exact hxi j' z1 z2 z3.symm
    have hx2 := d4.at hb hx (by rw [hxt]; exact hPx)
    have d6' := d6
    obtain ⟨y1, y2⟩ := d6
    obtain ⟨w1, tg1, s1, c1, c2, c3, c4, c5, c6⟩ := ih (j + 1) f1 f2 (by omega) (by omega) (by omega) w2 tg2 s2 (T + 1) (B + 102000) d3 (by omega) t3 (by rw [hK]; omega) (by rw [hK]; omega) ⟨x0, x1, x2, x3, x4, x6, hx2.1, hx2.2.trans hxt⟩ (fun j' z1 z2 => hxi j' z1 ((d5.2.2 j' z1).symm.trans z2))
    have eT : T + 1 + r = T + (r + 1) := by omega
    have eB : B + 102000 + 102000 * r = B + (z + 102000) := by rw [hzr, Nat.add_assoc, Nat.add_comm 102000 z]
    rw [eT] at c1 c2 c3
    rw [eB] at c3
    have yj : ¬ nI m ≤ nI j := nI_ge (by omega) (by omega)
    refine ⟨w1, tg1, s1, ?_, ?_, c3, d4.tr (c4.mono (mP_eq d5)), d5.tr c5, d6'.tr c6⟩
    · rw [← c1]
      show bf_X0_pass_1 xa (gL2 (bf_X0_pass_1 xa) f1) _ _ w = _
      generalize gL2 (bf_X0_pass_1 xa) f1 = KK
      unfold bf_X0_pass_1
      rw [if_neg yj, pu_R (k := 5) hx rfl, pu_B1, pu_B1, pu_Ob m2, pu_B1, d1, pu_B2, pu_Bd, nI_add]
    · rw [← c2]
      show bt_X2_pass_1 (gL2 bt_X2_pass_1 f2) _ _ _ = _
      generalize gL2 bt_X2_pass_1 f2 = KK
      unfold bt_X2_pass_1
      rw [if_neg yj, d2, pu_B2, pu_Bd, nI_add]
theorem call_pass {k : Nat} {w : gw} {tg : pT} (p : Int32) (h : GRw (k + 1) xa w tg σ) : callOk k xa w tg σ (f_X0_pass xa p w) (t_X2_pass p σ) := by
  obtain ⟨mo, ias, Ss, many, T, fv, fm, wr, im, h⟩ := h
  obtain ⟨ta, va, vm, pp, du, fa, ins, fd, ff, fi, c1, c2, c3, c4, c5, c6, c7, c8, c9, c10, c11, c12, c13, c14, -⟩ := h.rd
  have hz : (nI 0 : Int32) = 0 := by decide
  have hz1 : ¬ (nI 1 : Int32) = 0 := by decide
  have h' := h
  obtain ⟨g1, g2, g3, g4, g5, g6, g7, g8, g9, g10⟩ := h
  rw [f_X0_pass_eq, t_X2_pass_eq, pf_in, pt_isIn]
  by_cases hr : nI 1 ≤ p ∧ p ≤ nI 200
  · rw [if_pos hr, pu_B2, pu_B2, if_neg hz1, if_neg hz1]
    obtain ⟨m, hm, rfl⟩ := rng (M := 200) (by omega) ⟨Int32.le_trans (by decide) hr.1, hr.2⟩
    rw [pu_R (k := 5) c1 rfl, pu_B1, pu_B1, pu_I (k := 3) c2 rfl, pu_B1, nI_add]
    have hld : tLd σ 5 (nI 0) = some (nI T) := by
      rw [← tS_self σ, pu_ld5 (by omega), c13]
    rw [hld, pu_B1, nI_add]
    by_cases hT : nI (T + m) ≤ nI 99999
    · rw [if_pos hT, if_pos hT]
      have hT' : T + m ≤ 99999 := (nI_leI (by omega) (by omega)).mp hT
      have hp := mPh_le (σ 5)
      obtain ⟨w1, tg1, s1, q1, q2, q3, q4, q5, q6⟩ := pass_loop (m := m) (by omega) m 0 20000 20000 (by omega) (by omega) (by omega) w tg (σ 5) T ((64 - (k + 1)) * 20500000) g4 (by omega) (by omega) (by omega) (by omega) ⟨_, _, _, _, _, _, c1, by
        obtain ⟨_, _, _, _, _, a1, _⟩ := g1
        exact a1⟩ g10
      rw [tS_self] at q2
      obtain ⟨y1, y2⟩ := q6
      have := h'.now (q3.mono (by omega)) hT' q4 q5.2.1 (fun j hj hz => Or.inl ⟨(q5.2.2 j hj).symm.trans hz, rfl⟩) (by omega) (by omega)
      exact ⟨_, w1, tg1, _, q1, q2, this.1, this.2.1, this.2.2⟩
    · rw [if_neg hT, if_neg hT]
      exact h'.same _
  · rw [if_neg hr, pu_B2, pu_B2, if_pos hz, if_pos hz]
    exact h'.same _
end PA
