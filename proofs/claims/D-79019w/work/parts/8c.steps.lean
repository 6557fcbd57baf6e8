set_option maxRecDepth 100000
/-! A MOMENT's STEPS, both sides -/
theorem mOk.tr {Ss : Nat → SV} {many : Nat → Nat} {σ : TS} {xa mo T : Nat} {ias : Nat → Nat} {w : gw} {tg : pT} {s : Nat → Int32} {B : Nat} {Tr Tr1 : Nat → Nat} (h : mOk Ss many σ xa mo ias w tg s T B Tr) (ht : ∀ k, k < 6 → Tr1 k = Tr k) : mOk Ss many σ xa mo ias w tg s T B Tr1 := by
  obtain ⟨hC, hM, ⟨fi, hfi, hk⟩, hd⟩ := h
  exact ⟨hC, hM, ⟨fi, hfi, fun k k6 => by rw [ht k k6]; exact hk k k6⟩, hd⟩
theorem iPh_eq {k : Nat} {s s1 : Nat → Int32} (h : ∀ j, (21 + 1262 * (k) + 0) ≤ j → j < (21 + 1262 * (k) + 1262) → s1 j = s j) : iPh k s1 = iPh k s := by
  unfold iPh
  rw [pPh_eq (fun m hm => h _ (by omega) (by omega)), h _ (by omega) (by omega)]
theorem mPh_at {k : Nat} {s s1 : Nat → Int32} (hk : k < 6) (hQ : iQ k s s1) : mPh s1 + (if s (21 + 1262 * (k) + 0) = nI 1 then iPh k s else 0) = mPh s + (if s1 (21 + 1262 * (k) + 0) = nI 1 then iPh k s1 else 0) := by
  refine pSum_at (f := fun k => if s1 (21 + 1262 * (k) + 0) = nI 1 then iPh k s1 else 0) (g := fun k => if s (21 + 1262 * (k) + 0) = nI 1 then iPh k s else 0) 6 hk (fun j hj hjk => ?_)
  show (if s1 (21 + 1262 * (j) + 0) = nI 1 then iPh j s1 else 0) = (if s (21 + 1262 * (j) + 0) = nI 1 then iPh j s else 0)
  have h : ∀ q, (21 + 1262 * (j) + 0) ≤ q → q < (21 + 1262 * (j) + 1262) → s1 q = s q := fun q a b => hQ q (by omega) (by omega) (by omega)
  rw [iPh_eq h, h _ (by omega) (by omega)]
theorem mRk.tr {w w1 w2 : gw} {s s1 s2 : Nat → Int32} (h : mRk w w1 s s1) (h' : mRk w1 w2 s1 s2) : mRk w w2 s s2 := ⟨by have := h.1; have := h'.1; omega, by have := h.2; have := h'.2; omega⟩
theorem mQ.tr {s s1 s2 : Nat → Int32} (h : mQ s s1) (h' : mQ s1 s2) : mQ s s2 := ⟨fun j a b => (h'.1 j a b).trans (h.1 j a b), fun j a b => (h'.2.1 j a b).trans (h.2.1 j a b), fun k hk => (h'.2.2 k hk).trans (h.2.2 k hk)⟩
theorem mQ.rf {s : Nat → Int32} : mQ s s := ⟨fun _ _ _ => rfl, fun _ _ _ => rfl, fun _ _ => rfl⟩
theorem iQ.m {k : Nat} {s s1 : Nat → Int32} (h : iQ k s s1) (hk : k < 6) : mQ s s1 := ⟨fun j a b => h j (by omega) (by omega) (by omega), fun j a b => h j (by omega) (by omega) (by omega), fun j hj => h _ (by omega) (by omega) (by omega)⟩
theorem mP_eq {mo : Nat} {ias : Nat → Nat} {s s1 : Nat → Int32} (h : mQ s s1) : ∀ t, mP mo ias s1 t → mP mo ias s t := by
  rintro t (z | ⟨k, z1, z2, z3⟩)
  · exact Or.inl z
  · exact Or.inr ⟨k, z1, (h.2.2 k z1).symm.trans z2, z3⟩
section MS
variable {Ss : Nat → SV} {many : Nat → Nat} {σ : TS} {xa mo T : Nat} {ias : Nat → Nat}
theorem pM_T {w : gw} {tg : pT} {s : Nat → Int32} (h : pMo xa mo w tg s T) : s 0 = nI T ∧ T ≤ 100300 := by
  obtain ⟨du, fa, ins, fd, ff, fi, m1, m2, m3, m4, m5, m6, m7, m8, m9, m10, m11⟩ := h
  exact ⟨m10, m11⟩
/-- a look at one instance of a moment -/
theorem sim_inst {w : gw} {tg : pT} {s : Nat → Int32} {B k : Nat} {Tr : Nat → Nat} (h : mOk Ss many σ xa mo ias w tg s T B Tr) (hk : k < 6) (hp : s (21 + 1262 * (k) + 0) = nI 1) (hB : B + 17000 < 2 ^ 31) (r0 : w.2.1 + mPh s ≤ w.2.2.2 0) (r1 : w.2.2.1 + 12 * mPh s ≤ w.2.2.2 1) :
    ∃ w1 tg1 s1, f_X16_looks 3 (ias k) w = some ((), w1) ∧ t_X2_looksAt (nI k) (tS σ s) = some ((), tS σ s1) ∧ mOk Ss many σ xa mo ias w1 tg1 s1 T (B + 17000) (fun j => if j = k then T else Tr j) ∧ pFr w w1 tg tg1 (pP mo (ias k) 0 64) ∧ iQ k s s1 ∧ mRk w w1 s s1 := by
  obtain ⟨hC, hM, ⟨fi, hfi, hks⟩, hd⟩ := h
  rcases hks k hk with ⟨-, z⟩ | ⟨z1, -, a, b, bo, un, h1, h2, h3, h4, h5, h6, h7, h8, t, h9, h10⟩
  · rw [hp] at z; exact absurd z (by decide)
  have hle : iPh k s ≤ mPh s := by
    have := pSum_mem (f := fun k => if s (21 + 1262 * (k) + 0) = nI 1 then iPh k s else 0) 6 k hk
    simp only [hp, if_true] at this
    exact this
  obtain ⟨w1, tg1, s1, bo1, un1, c1, c2, c3, c4, c5, c6, c7⟩ := sim_look h7 hB h6 h8 (by omega) (by omega)
  have hia := h7.1.1
  have hmi := h7.mi
  have hP0 : ¬ pP mo (ias k) 0 64 (0, 100) := by
    rintro (z | z)
    · exact hia z.1.symm
    · have := congrArg Prod.snd z
      simp only at this
      omega
  have hPm : ∀ j, j ≠ 2 → ¬ pP mo (ias k) 0 64 (mo, j) := fun j hj z => by
    rcases z with z | z
    · exact hmi z.1
    · exact hj (congrArg Prod.snd z)
  have hM1 : pMo xa mo w1 tg1 s1 T := c3.2.2.2.2.1
  have hsI : ∀ j, j < 6 → s1 (21 + 1262 * (j) + 0) = s (21 + 1262 * (j) + 0) := fun j hj => c5 _ (by omega) (by omega) (by omega)
  refine ⟨w1, tg1, s1, c1, c2, ⟨c3.2.1, hM1, ⟨fi, hfi.fr hC.1 c4 (hPm 0 (by omega)) (hPm 3 (by omega)), fun j hj => ?_⟩, fun i j hi hj hij p1 p2 => hd i j hi hj hij ((hsI i hi).symm.trans p1) ((hsI j hj).symm.trans p2)⟩, c4, c5, ?_⟩
  · by_cases hjk : j = k
    · subst hjk
      refine Or.inr ⟨z1, (hsI j hj).trans hp, a, b, bo1, un1, h1, h2, h3, (c5 _ (by omega) (by omega) (by omega)).trans h4, (c5 _ (by omega) (by omega) (by omega)).trans h5, h6, c3, ?_, t, (c5 _ (by omega) (by omega) (by omega)).trans h9, h10⟩
      show iRun _ _ _ _ _ _ _ (if j = j then T else Tr j) false bo1 un1
      rw [if_pos rfl]
      exact iRun_fr h6 c3.1.2.2.1 rfl (fun z => absurd z (by decide)) (fun _ _ h _ => ⟨h, rfl⟩) (fun _ _ _ => rfl) c7
    · show _ ∨ (_ ∧ _ ∧ iOk _ _ _ _ _ _ _ _ _ _ _ _ (if j = k then T else Tr j))
      rw [if_neg hjk]
      rcases hks j hj with z | ⟨y1, y2, y3⟩
      · exact Or.inl ⟨z.1, (hsI j hj).trans z.2⟩
      · have hne := hd j k hj hk hjk y2 hp
        have hmj : mo ≠ ias j := by
          obtain ⟨a', b', bo', un', -, -, -, -, -, -, g7, -⟩ := y3
          exact g7.mi
        exact Or.inr ⟨y1, (hsI j hj).trans y2, y3.oth hM1 c4 hP0 (fun q z => by
          rcases z with z | z
          · exact hne z.1
          · exact hmj (congrArg Prod.fst z).symm) (fun q q1 q2 => c5 q (by omega) (by omega) (by omega)) (Nat.le_refl _) (by omega)⟩
  · have hpa := mPh_at hk c5
    rw [hp, hsI k hk, hp, if_pos rfl, if_pos rfl] at hpa
    obtain ⟨y1, y2⟩ := c6
    constructor <;> omega
theorem steps_loop : ∀ (r k f1 f2 : Nat), k + r = 6 → r < f1 → r < f2 → ∀ (w : gw) (tg : pT) (s : Nat → Int32) (B : Nat) (Tr : Nat → Nat), mOk Ss many σ xa mo ias w tg s T B Tr → B + 17000 * r < 2 ^ 31 → (∀ j, j < k → Tr j = T) → w.2.1 + mPh s ≤ w.2.2.2 0 → w.2.2.1 + 12 * mPh s ≤ w.2.2.2 1 →
    ∃ w1 tg1 s1, gL1 (bf_X1_steps_1 mo) f1 (nI k) w = some ((), w1) ∧ gL1 bt_X2_passes_1 f2 (nI k) (tS σ s) = some ((), tS σ s1) ∧ mOk Ss many σ xa mo ias w1 tg1 s1 T (B + 17000 * r) (fun _ => T) ∧ pFr w w1 tg tg1 (mP mo ias s) ∧ mQ s s1 ∧ mRk w w1 s s1 := by
  intro r
  induction r with
  | zero =>
    intro k f1 f2 hk hf1 hf2 w tg s B Tr h hB hTr r0 r1
    obtain ⟨f1, rfl⟩ : ∃ g, f1 = g + 1 := ⟨f1 - 1, by omega⟩
    obtain ⟨f2, rfl⟩ : ∃ g, f2 = g + 1 := ⟨f2 - 1, by omega⟩
    obtain rfl : k = 6 := by omega
    refine ⟨w, tg, s, ?_, ?_, h.tr (fun j hj => (hTr j hj).symm), pFr.rf h.1.1, mQ.rf, Nat.le_refl _, Nat.le_refl _⟩
    · show bf_X1_steps_1 mo (gL1 (bf_X1_steps_1 mo) f1) _ w = _
      generalize gL1 (bf_X1_steps_1 mo) f1 = KK
      unfold bf_X1_steps_1
      rw [if_pos (nI_le (Nat.le_refl _) (by omega))]
    · show bt_X2_passes_1 (gL1 bt_X2_passes_1 f2) _ _ = _
      generalize gL1 bt_X2_passes_1 f2 = KK
      unfold bt_X2_passes_1
      rw [if_pos (nI_le (Nat.le_refl _) (by omega))]
  | succ r ih =>
    intro k f1 f2 hk hf1 hf2 w tg s B Tr h hB hTr r0 r1
    obtain ⟨f1, rfl⟩ : ∃ g, f1 = g + 1 := ⟨f1 - 1, by omega⟩
    obtain ⟨f2, rfl⟩ : ∃ g, f2 = g + 1 := ⟨f2 - 1, by omega⟩
    have k6 : k < 6 := by omega
    have y6 : ¬ nI 6 ≤ nI k := nI_ge k6 (by omega)
    have e0 : ∀ w : TS, t_X2_of (nI k) (nI 0) w = _ := fun w => pt_of w
    have h' := h
    obtain ⟨hC, hM, ⟨fi, ⟨ins, g0, g1, g3, g4, m1, m2, m3, m4⟩, hks⟩, hd⟩ := h
    rcases hks k k6 with ⟨z1, z2⟩ | ⟨z1, z2, z3⟩
    · obtain ⟨w1, tg1, s1, c1, c2, c3⟩ := ih (k + 1) f1 f2 (by omega) (by omega) (by omega) w tg s B (fun j => if j = k then T else Tr j) ⟨hC, hM, ⟨fi, ⟨ins, g0, g1, g3, g4, m1, m2, m3, m4⟩, fun j hj => by
        by_cases hjk : j = k
        · rw [hjk]
          exact Or.inl ⟨z1, z2⟩
        · show _ ∨ (_ ∧ _ ∧ iOk _ _ _ _ _ _ _ _ _ _ _ _ (if j = k then T else Tr j))
          rw [if_neg hjk]
          exact hks j hj⟩, hd⟩ (by omega) (fun j hj => by
        show (if j = k then T else Tr j) = T
        by_cases hjk : j = k
        · rw [if_pos hjk]
        · rw [if_neg hjk]
          exact hTr j (by omega)) r0 r1
      refine ⟨w1, tg1, s1, ?_, ?_, c3.1.mono (by omega), c3.2⟩
      · rw [← c1]
        show bf_X1_steps_1 mo (gL1 (bf_X1_steps_1 mo) f1) _ w = _
        generalize gL1 (bf_X1_steps_1 mo) f1 = KK
        unfold bf_X1_steps_1
        rw [if_neg y6, pu_R (k := 2) m2 rfl, pu_B1, pu_B1, pu_LdR m4 k6 (by omega), pu_B1, z1, pu_Bd, pu_Nn]
        try dsimp only
        rw [pu_Bd, nI_add]
      · rw [← c2]
        show bt_X2_passes_1 (gL1 bt_X2_passes_1 f2) _ _ = _
        generalize gL1 bt_X2_passes_1 f2 = KK
        unfold bt_X2_passes_1
        have y0 : ¬ nI 0 = nI 1 := by decide
        rw [if_neg y6, e0, pu_B2, pu_ld5 (by omega), pu_B1, z2, pu_Bd, if_neg y0]
        try dsimp only
        rw [pu_Bd, nI_add]
    · obtain ⟨w2, tg2, s2, d1, d2, d3, d4, d5, d6⟩ := sim_inst h' k6 z2 (by omega) r0 r1
      have hK : w2.2.2.2 = w.2.2.2 := d4.2.2.1
      obtain ⟨y1, y2⟩ := d6
      obtain ⟨w1, tg1, s1, c1, c2, c3, c4, c5, c6⟩ := ih (k + 1) f1 f2 (by omega) (by omega) (by omega) w2 tg2 s2 (B + 17000) _ d3 (by omega) (fun j hj => by
        show (if j = k then T else Tr j) = T
        by_cases hjk : j = k
        · rw [if_pos hjk]
        · rw [if_neg hjk]
          exact hTr j (by omega)) (by rw [hK]; omega) (by rw [hK]; omega)
      have hob : ∃ fs, w.1 (ias k) = some (.inl (16, fs)) := by
        obtain ⟨a', b', bo', un', -, -, -, -, -, -, g7, -⟩ := z3
        obtain ⟨va, pe, dl, hi', own, -⟩ := g7.own
        exact ⟨_, own⟩
      obtain ⟨fs, hob⟩ := hob
      refine ⟨w1, tg1, s1, ?_, ?_, c3.mono (by omega), (d4.mono (fun t z => ?_)).tr (c4.mono (mP_eq (d5.m k6))), (d5.m k6).tr c5, mRk.tr ⟨y1, y2⟩ c6⟩
      · rw [← c1]
        show bf_X1_steps_1 mo (gL1 (bf_X1_steps_1 mo) f1) _ w = _
        generalize gL1 (bf_X1_steps_1 mo) f1 = KK
        unfold bf_X1_steps_1
        rw [if_neg y6, pu_R (k := 2) m2 rfl, pu_B1, pu_B1, pu_LdR m4 k6 (by omega), pu_B1, z1, pu_Bd, pu_Ns, pu_B1, pu_B1, pu_LdR m4 k6 (by omega), pu_B1, z1, pu_B1, pu_Ob hob, pu_B1, d1, pu_B2]
        try dsimp only
        rw [pu_Bd, nI_add]
      · rw [← c2]
        show bt_X2_passes_1 (gL1 bt_X2_passes_1 f2) _ _ = _
        generalize gL1 bt_X2_passes_1 f2 = KK
        unfold bt_X2_passes_1
        rw [if_neg y6, e0, pu_B2, pu_ld5 (by omega), pu_B1, z2, pu_Bd, if_pos rfl, d2, pu_B2]
        try dsimp only
        rw [pu_Bd, nI_add]
      · rcases z with z | z
        · exact Or.inr ⟨k, k6, z2, z.1⟩
        · rw [z]
          exact Or.inl ⟨rfl, by show 2 < 4; omega⟩
theorem sim_steps {w : gw} {tg : pT} {s : Nat → Int32} {B : Nat} (h : mOk Ss many σ xa mo ias w tg s T B (fun _ => T)) (hT : T + 1 ≤ 100300) (hB : B + 102000 < 2 ^ 31) (r0 : w.2.1 + mPh s ≤ w.2.2.2 0) (r1 : w.2.2.1 + 12 * mPh s ≤ w.2.2.2 1) :
    ∃ w1 tg1 s1, f_X1_steps mo w = some ((), w1) ∧ t_X2_passes (tS σ s) = some ((), tS σ s1) ∧ mOk Ss many σ xa mo ias w1 tg1 s1 (T + 1) (B + 102000) (fun _ => T + 1) ∧ pFr w w1 tg tg1 (mP mo ias s) ∧ mQ s s1 ∧ mRk w w1 s s1 := by
  obtain ⟨hC, hM, ⟨fi, hfi, hks⟩, hd⟩ := h
  obtain ⟨du, fa, ins, fd, ff, fi2, m1, m2, m3, m4, m5, m6, m7, m8, m9, m10, m11⟩ := hM
  obtain ⟨ins', g0, g1, g3, g4, n1, n2, n3, n4⟩ := hfi
  have hM : pMo xa mo w tg s T := ⟨du, fa, ins, fd, ff, fi2, m1, m2, m3, m4, m5, m6, m7, m8, m9, m10, m11⟩
  obtain ⟨s2, hs2⟩ : ∃ s2, upd s 0 (nI (T + 1)) = s2 := ⟨_, rfl⟩
  have hne : ∀ j, j ≠ 0 → s2 j = s j := fun j hj => by rw [← hs2, upd_ne hj]
  have h20 : s2 0 = nI (T + 1) := by rw [← hs2, upd_self]
  obtain ⟨w2, hw2⟩ : ∃ w2, hs w mo (.inl (1, [ga (some du), ga (some fa), ga (some ins), gi (nI (T + 1)), ga (some xa)])) = w2 := ⟨_, rfl⟩
  have hF : pFr w w2 tg tg (fun t => t = (mo, 0)) := by
    rw [← hw2]
    exact pFr.hs hC.1 m2 m1
  have q2 : w2.1 mo = some (.inl (1, [ga (some du), ga (some fa), ga (some ins), gi (nI (T + 1)), ga (some xa)])) := by rw [← hw2, hs_self]
  have hmj : ∀ j, j ≠ 0 → ¬ ((mo, j) = (mo, 0)) := fun j hj z => hj (congrArg Prod.snd z)
  have q4 := hF.at hC.1 m4 (by rw [m3]; exact hmj _ (by omega))
  have q6 := hF.at hC.1 m6 (by rw [m5]; exact hmj _ (by omega))
  have q8 := hF.at hC.1 m8 (by rw [m7]; exact hmj _ (by omega))
  have hM2 : pMo xa mo w2 tg s2 (T + 1) := ⟨du, fa, ins, fd, ff, fi2, m1, by rw [q2, h20], m3, q4.1, m5, q6.1, m7, q8.1, fun c hc => by
    rw [hne (1 + c) (by omega), hne (9 + c) (by omega)]
    exact m9 c hc, h20, hT⟩
  have h00 : ¬ ((0, 100) = (mo, 0)) := fun z => by
    have := congrArg Prod.snd z
    simp only at this
    omega
  have hi : ins' = ins := by
    rw [n2] at m2
    injection m2 with m2
    injection m2 with m2
    injection m2 with _ m2
    injection m2 with _ m2
    injection m2 with _ m2
    injection m2 with m2
    injection m2 with m2
    injection m2 with m2
    exact Option.some.inj m2
  have hmo2 : mOk Ss many σ xa mo ias w2 tg s2 (T + 1) B (fun _ => T) := by
    refine ⟨hC.fr hF h00, hM2, ⟨fi, ⟨ins, _, _, _, _, m1, q2, m7, ?_⟩, fun k hk => ?_⟩, fun i j hi hj hij p1 p2 => hd i j hi hj hij ((hne _ (by omega)).symm.trans p1) ((hne _ (by omega)).symm.trans p2)⟩
    · rw [hi] at n4
      exact (hF.at hC.1 n4 (by rw [m7]; exact hmj _ (by omega))).1
    · rcases hks k hk with z | ⟨z1, z2, z3⟩
      · exact Or.inl ⟨z.1, (hne _ (by omega)).trans z.2⟩
      · have hmk : mo ≠ ias k := by
          obtain ⟨a', b', bo', un', -, -, -, -, -, -, g7, -⟩ := z3
          exact g7.mi
        exact Or.inr ⟨z1, (hne _ (by omega)).trans z2, z3.oth hM2 hF h00 (fun j z => hmk (congrArg Prod.fst z).symm) (fun j j1 j2 => hne j (by omega)) (by omega) (Nat.le_refl _)⟩
  have hph : mPh s2 = mPh s := pSum_congr _ (fun k hk => by
    show (if s2 (21 + 1262 * (k) + 0) = nI 1 then iPh k s2 else 0) = (if s (21 + 1262 * (k) + 0) = nI 1 then iPh k s else 0)
    rw [hne _ (by omega), iPh_eq (fun j j1 j2 => hne j (by omega))])
  have hw22 : w2.2 = w.2 := by rw [← hw2, hs_2]
  have hQ2 : mQ s s2 := ⟨fun j a b => hne j (by omega), fun j a b => hne j (by omega), fun k hk => hne _ (by omega)⟩
  obtain ⟨w1, tg1, s1, c1, c2, c3, c4, c5, c6⟩ := steps_loop 6 0 20000 20000 (by omega) (by omega) (by omega) w2 tg s2 B (fun _ => T) hmo2 (by omega) (fun j hj => absurd hj (by omega)) (by rw [hph, hw22]; exact r0) (by rw [hph, hw22]; exact r1)
  refine ⟨w1, tg1, s1, ?_, ?_, c3.mono (by omega), (hF.mono (fun t z => ?_)).tr (c4.mono (mP_eq hQ2)), hQ2.tr c5, ?_⟩
  · rw [f_X1_steps_eq, pu_I (k := 3) m2 rfl, pu_B1, pu_Put m2 (by show 3 < 5; omega), pu_B1, m10, nI_add]
    show gL1 (bf_X1_steps_1 mo) 20000 (nI 0) (hs w mo (.inl (1, [ga (some du), ga (some fa), ga (some ins), gi (nI (T + 1)), ga (some xa)]))) = _
    rw [hw2]
    exact c1
  · rw [t_X2_passes_eq, pu_ld5 (by omega), pu_B1, pu_st5 (by omega), pu_B1, m10, nI_add, hs2]
    exact c2
  · rw [z]
    exact Or.inl ⟨rfl, by show 0 < 4; omega⟩
  · obtain ⟨y1, y2⟩ := c6
    rw [hph, hw22] at y1 y2
    exact ⟨y1, y2⟩
end MS
