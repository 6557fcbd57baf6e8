set_option maxRecDepth 100000
/-! RUNNING: the places of what runs -/
def fR (S : SV) (i : Nat) (s : Nat → Int32) (n : Nat) : Nat := if (sKd S n = 1 ∨ sKd S n = 2 ∨ sKd S n = 3) ∧ s (21 + 1262 * (i) + (622 + 10 * (n) + 0)) = nI 1 then 1 else 0
/-- the list's cells when the nodes below n are told -/
def pL (S : SV) (i : Nat) (s : Nat → Int32) (pa aa n : Nat) (W : gw) : Prop := ∃ g, W.1 pa = some (.inl (27, [ga (some aa), gi (nI (pSum (fR S i s) n))])) ∧ W.1 aa = some (.inr (0, 24, .inl g)) ∧ ∀ m, m < n → fR S i s m = 1 → g (pSum (fR S i s) m) = sP S m 7
section LI
variable {S : SV} {xa ia i : Nat} {w : gw} {tg : pT} {s : Nat → Int32} {T : Nat} {q : Bool}
theorem fR_0 {n : Nat} (h : s (21 + 1262 * (i) + (622 + 10 * (n) + 0)) ≠ nI 1) : fR S i s n = 0 := if_neg (fun z => h z.2)
theorem fR_k {n : Nat} (h : sKd S n ≠ 1 ∧ sKd S n ≠ 2 ∧ sKd S n ≠ 3) : fR S i s n = 0 := if_neg (fun z => z.1.elim h.1 (fun y => y.elim h.2.1 h.2.2))
theorem pL.skip {pa aa n : Nat} {W : gw} (h : pL S i s pa aa n W) : ∀ m, n ≤ m → (∀ c, n ≤ c → c < m → fR S i s c = 0) → pL S i s pa aa m W := by
  intro m hm hz
  have hs : ∀ d, n + d ≤ m → pSum (fR S i s) (n + d) = pSum (fR S i s) n := by
    intro d
    induction d with
    | zero => intro _; rfl
    | succ d ih =>
      intro hd
      show pSum (fR S i s) (n + d) + fR S i s (n + d) = _
      rw [ih (by omega), hz (n + d) (by omega) (by omega)]
      rfl
  obtain ⟨g, h1, h2, h3⟩ := h
  have := hs (m - n) (by omega)
  rw [show n + (m - n) = m by omega] at this
  refine ⟨g, by rw [this]; exact h1, h2, fun c hc hf => ?_⟩
  by_cases hcn : c < n
  · exact h3 c hcn hf
  · rw [hz c (by omega) hc] at hf
    exact absurd hf (by decide)
theorem pSum_mono {f : Nat → Nat} {a b : Nat} (h : a ≤ b) : pSum f a ≤ pSum f b := by
  obtain ⟨d, rfl⟩ := Nat.exists_eq_add_of_le h
  clear h
  induction d with
  | zero => exact Nat.le_refl _
  | succ d ih =>
    show pSum f a ≤ pSum f (a + d) + f (a + d)
    omega
/-- the places grow with the nodes -/
def sPl (S : SV) : Prop := ∃ f : Nat → Nat, (∀ n, n < sEn S 0 → sP S n 7 = nI (f n) ∧ f n < 100) ∧ ∀ n m, n < m → m < sEn S 0 → sKd S n ≠ 0 → sKd S m ≠ 0 → f n < f m
theorem fR_kd {n : Nat} (h : fR S i s n = 1) : (sKd S n = 1 ∨ sKd S n = 2 ∨ sKd S n = 3) := by
  unfold fR at h
  by_cases z : (sKd S n = 1 ∨ sKd S n = 2 ∨ sKd S n = 3) ∧ s (21 + 1262 * (i) + (622 + 10 * (n) + 0)) = nI 1
  · exact z.1
  · rw [if_neg z] at h
    exact absurd h (by decide)
theorem fR_1 (n : Nat) : fR S i s n ≤ 1 := by
  unfold fR
  split <;> omega
/-- the last one told, if there is one -/
theorem pL_last : ∀ n, 0 < pSum (fR S i s) n → ∃ m, m < n ∧ fR S i s m = 1 ∧ pSum (fR S i s) m + 1 = pSum (fR S i s) n := by
  intro n
  induction n with
  | zero => intro h; exact absurd h (by simp [pSum])
  | succ n ih =>
    intro h
    have e : pSum (fR S i s) (n + 1) = pSum (fR S i s) n + fR S i s n := rfl
    have h1 := fR_1 (S := S) (i := i) (s := s) n
    by_cases hn : fR S i s n = 1
    · exact ⟨n, by omega, hn, by omega⟩
    · obtain ⟨m, m1, m2, m3⟩ := ih (by omega)
      exact ⟨m, by omega, m2, by omega⟩
/-- a leaf that runs is told -/
theorem pL_add (hpl : sPl S) {pa aa n : Nat} {W : gw} (hb : pBd W) (hn : n < sEn S 0) (hf : fR S i s n = 1) (hlen : pSum (fR S i s) (n + 1) ≤ 24) (h : pL S i s pa aa n W) : ∃ W1, f_X27_adds pa (sP S n 7) W = some ((), W1) ∧ pL S i s pa aa (n + 1) W1 ∧ (∀ b, b ≠ pa → b ≠ aa → W1.1 b = W.1 b) ∧ W1.2 = W.2 ∧ pBd W1 := by
  obtain ⟨g, h1, h2, h3⟩ := h
  have e : pSum (fR S i s) (n + 1) = pSum (fR S i s) n + 1 := by
    show pSum (fR S i s) n + fR S i s n = _
    rw [hf]
  obtain ⟨c, hc⟩ : ∃ c, pSum (fR S i s) n = c := ⟨_, rfl⟩
  rw [e, hc] at hlen
  rw [hc] at h1
  have hne : aa ≠ pa := ne_of h2 h1 (by simp)
  have hz : (nI 0 : Int32) = 0 := by decide
  obtain ⟨W1, e1, q1, o1, z1, b1⟩ := st_StI (j := c) h2 (by omega) (by omega) hb (sP S n 7)
  have p1 : W1.1 pa = _ := (o1 pa hne.symm).trans h1
  obtain ⟨W2, e2, q2, o2, z2, b2⟩ := st_put (k := 1) p1 (by show 1 < 2; omega) b1 (gi (nI c + nI 1))
  refine ⟨W2, ?_, ⟨upd g c (sP S n 7), ?_, (o2 aa hne).trans q1, fun m hm hfm => ?_⟩, fun b x1 x2 => (o2 b x1).trans (o1 b x2), z2.trans z1, b2⟩
  · rw [f_X27_adds_eq, pu_I (k := 1) h1 rfl, pu_B1]
    show bf_X27_adds_1 pa (gL2 (bf_X27_adds_1 pa) 19999) _ _ _ = _
    generalize gL2 (bf_X27_adds_1 pa) 19999 = KK
    unfold bf_X27_adds_1
    rw [pu_Bd]
    by_cases h0 : c = 0
    · have hle : nI c ≤ 0 := by rw [h0, hz]; exact Int32.le_refl _
      rw [if_pos hle]
      try dsimp only
      rw [pu_R (k := 0) h1 rfl, pu_B1, pu_B1, e1, pu_B1, pu_I (k := 1) p1 rfl, pu_B1, e2, pu_B1]
    · have hle : ¬ nI c ≤ 0 := fun z => by
        rw [← hz] at z
        have := (nI_leI (by omega) (by omega)).mp z
        omega
      obtain ⟨m, m1, m2, m3⟩ := pL_last (S := S) (i := i) (s := s) n (by omega)
      obtain ⟨f, f1, f2⟩ := hpl
      have hmk := fR_kd m2
      have hnk := fR_kd hf
      have hlt := f2 m n m1 hn (by omega) (by omega)
      have hg : g (c - 1) = nI (f m) := by
        rw [show c - 1 = pSum (fR S i s) m by omega, h3 m m1 m2]
        exact (f1 m (by omega)).1
      have hP := (f1 n hn).1
      have hfn := (f1 n hn).2
      have hle2 : nI (f m) ≤ sP S n 7 := by
        rw [hP]
        exact nI_le (by omega) (by omega)
      rw [if_neg hle, pu_R (k := 0) h1 rfl, pu_B1, pu_B1, pu_sub (by omega), pu_LdI h2 (by omega) (by omega), pu_B1, hg, if_pos hle2]
      try dsimp only
      rw [pu_R (k := 0) h1 rfl, pu_B1, pu_B1, e1, pu_B1, pu_I (k := 1) p1 rfl, pu_B1, e2, pu_B1]
  · rw [e, hc, ← nI_add]
    exact q2
  · by_cases hmn : m = n
    · rw [hmn, hc, upd_self]
    · have hm' : m < n := by omega
      have : pSum (fR S i s) (m + 1) ≤ pSum (fR S i s) n := pSum_mono (by omega)
      have e' : pSum (fR S i s) (m + 1) = pSum (fR S i s) m + 1 := by
        show pSum (fR S i s) m + fR S i s m = _
        rw [hfm]
      rw [upd_ne (by omega)]
      exact h3 m hm' hfm
/-- a live run tells its leaves -/
def lR (S : SV) (i : Nat) (w : gw) (s : Nat → Int32) (D n a : Nat) : Prop := ∀ W pa aa, pBd W → w.2.1 ≤ pa → w.2.1 ≤ aa → (∀ b, b < w.2.1 → W.1 b = w.1 b) → W.2.2.2 = w.2.2.2 → pL S i s pa aa n W → ∃ W1, f_Run_lists D a (some pa) W = some ((), W1) ∧ pL S i s pa aa (sEn S n) W1 ∧ (∀ b, b ≠ pa → b ≠ aa → W1.1 b = W.1 b) ∧ W1.2 = W.2 ∧ pBd W1
theorem lists_run (hS : sWf S) (hco : pCo w tg) (hso : sObjs S w tg) (hpl : sPl S) (hsum : pSum (fR S i s) (sEn S 0) ≤ 24) : ∀ l, l ≤ 4 → (∀ D b a, 2 * l + 2 ≤ D → b < sEn S 0 → sKd S b = 0 → sLv S b = l → rB S xa ia i w tg s T q l b a → s (21 + 1262 * (i) + (622 + 10 * (b) + 0)) = nI 1 → lR S i w s D b a) ∧ (∀ D n a, 2 * l + 1 ≤ D → n < sEn S 0 → sKd S n ≠ 0 → sLv S n = l → rI S xa ia i w tg s T q l n a → rLive i s n → lR S i w s D n a) := by
  have hb0 : pBd w := hco.1
  have hleafE : ∀ n, n < sEn S 0 → (sKd S n = 1 ∨ sKd S n = 2 ∨ sKd S n = 3) → sEn S n = n + 1 := fun n hn hk => by
    have hN := hS.2.2.2.2.2 n hn
    have h0 := hN.1.2.2.2.2.1
    have hcc : sCc S n = 0 := by
      rcases hN.2 with z | z | z | z | z | z | z
      · omega
      · exact z.2.1
      · exact z.2.1
      · exact z.2.1
      · omega
      · omega
      · omega
    unfold sCp at h0
    rw [if_neg (by omega)] at h0
    exact h0
  have hdz : ∀ lo hi, rDead i s lo hi → ∀ c, lo ≤ c → c < hi → fR S i s c = 0 := fun lo hi hd c h1 h2 => fR_0 (hd c h1 h2).2.1
  refine live_ind hS hco (lR S i w s) ?_ ?_ ?_ ?_ ?_
  · intro D b a a' idx g0 g1 g2 g4 g5 g6 hb hk hidx hc h7 hd1 hd2 hR W pa aa hbW hpa haa hold hK hp
    have hN := hS.2.2.2.2.2 b hb
    obtain ⟨x1, x2, x3, x4, x5⟩ := sNode_in hN hidx
    have hcW := (hold a (hb0 _ _ hc)).trans hc
    have hp1 := hp.skip (sCh S b idx) (by omega) (fun c h1 h2 => by
      by_cases hcb : c = b
      · rw [hcb]
        exact fR_k (by omega)
      · exact hdz _ _ hd1 c (by omega) h2)
    obtain ⟨W1, y1, y2, y3, y4, y5⟩ := hR W pa aa hbW hpa haa hold hK hp1
    refine ⟨W1, ?_, y2.skip _ x2 (hdz _ _ hd2), y3, y4, y5⟩
    show f_Run_lists_s (f_Run_lists D) a (some pa) W = _
    unfold f_Run_lists_s f_X18_lists
    rw [pu_Cls hcW, pu_B1, if_pos rfl, pu_R (k := 3) hcW rfl, pu_B1, pu_Ns, pu_B1, pu_B1, y1, pu_B2]
  · intro D n a hn hk hst hI W pa aa hbW hpa haa hold hK hp
    have hE := hleafE n hn hk
    have hf1 : fR S i s n = 1 := if_pos ⟨hk, hst⟩
    obtain ⟨ob0, ob⟩ := hso n hn
    obtain ⟨W1, y1, y2, y3, y4, y5⟩ := pL_add hpl hbW hn hf1 (Nat.le_trans (pSum_mono (by omega)) hsum) hp
    rw [hE]
    refine ⟨W1, ?_, y2, y3, y4, y5⟩
    obtain ⟨g, hpaW, -⟩ := hp
    show f_Run_lists_s (f_Run_lists D) a (some pa) W = _
    unfold f_Run_lists_s
    rcases hI with ⟨g1, g2, g3, g4, tr, un, att, nu, g5, -⟩ | ⟨g1, g2, g3, g4, un, g5, g6⟩ | ⟨g1, g2, g3, g4, un, g5, g6⟩ | g | g | g
    · have hcW := (hold a (hb0 _ _ g5)).trans g5
      have hob : w.1 (sSa S n) = some (.inl (9, [gi (sP S n 7), gi (sP S n 1), gi (sP S n 2), gi (sP S n 3), gi (sP S n 4)])) := by
        rcases ob with z | z | z | z | z | z | z
        · omega
        · exact z.2
        · omega
        · omega
        · omega
        · omega
        · omega
      have hoW := (hold _ (hb0 _ _ hob)).trans hob
      unfold f_X23_lists
      rw [pu_Cls hcW, pu_B1, if_neg (by decide), if_neg (by decide), if_neg (by decide), if_neg (by decide), if_pos rfl, pu_R (k := 2) hcW rfl, pu_B1, pu_B1, pu_I (k := 0) hoW rfl, pu_B1, pu_B1, pu_Ob hpaW, pu_B1, y1, pu_B2]
    · have hcW := (hold a (hb0 _ _ g5)).trans g5
      have hob : w.1 (sSa S n) = some (.inl (10, [gi (sP S n 7), gi (sP S n 1)])) := by
        rcases ob with z | z | z | z | z | z | z
        · omega
        · omega
        · exact z.2
        · omega
        · omega
        · omega
        · omega
      have hoW := (hold _ (hb0 _ _ hob)).trans hob
      unfold f_X24_lists
      rw [pu_Cls hcW, pu_B1, if_neg (by decide), if_neg (by decide), if_neg (by decide), if_neg (by decide), if_neg (by decide), if_pos rfl, pu_R (k := 2) hcW rfl, pu_B1, pu_B1, pu_I (k := 0) hoW rfl, pu_B1, pu_B1, pu_Ob hpaW, pu_B1, y1, pu_B2]
    · have hcW := (hold a (hb0 _ _ g5)).trans g5
      have hob : w.1 (sSa S n) = some (.inl (11, [gi (sP S n 7), gi (sP S n 1), gi (sP S n 2)])) := by
        rcases ob with z | z | z | z | z | z | z
        · omega
        · omega
        · omega
        · exact z.2
        · omega
        · omega
        · omega
      have hoW := (hold _ (hb0 _ _ hob)).trans hob
      unfold f_X21_lists
      rw [pu_Cls hcW, pu_B1, if_neg (by decide), if_neg (by decide), if_pos rfl, pu_R (k := 2) hcW rfl, pu_B1, pu_B1, pu_I (k := 0) hoW rfl, pu_B1, pu_B1, pu_Ob hpaW, pu_B1, y1, pu_B2]
    · exact absurd g.1 (by omega)
    · exact absurd g.1 (by omega)
    · exact absurd g.1 (by omega)
  · intro D n a j hn hk hj h7 hd hR W pa aa hbW hpa haa hold hK hp
    have hN := hS.2.2.2.2.2 n hn
    obtain ⟨hcc, -, -⟩ := choice_ch hS hn hk
    obtain ⟨x1, x2, x3, x4, x5⟩ := sNode_in hN (show 0 < sCc S n by omega)
    obtain ⟨y1, y2, y3, y4, y5⟩ := sNode_in hN (show 1 < sCc S n by omega)
    have h0 := hN.1.2.2.2.2.1
    have e2 : sCp S n 2 = sEn S n := if_neg (by omega)
    have e1 : sEn S (sCh S n 0) = sCh S n 1 := x5.trans y4
    have e0 : sCh S n 0 = n + 1 := x4.symm.trans h0
    have e3 : sEn S (sCh S n 1) = sEn S n := y5.trans e2
    have hp0 := hp.skip (n + 1) (by omega) (fun c h1 h2 => by
      rw [show c = n by omega]
      exact fR_k (by omega))
    rw [← e0] at hp0
    rcases (show j = 0 ∨ j = 1 by omega) with rfl | rfl
    · obtain ⟨W1, u1, u2, u3, u4, u5⟩ := hR W pa aa hbW hpa haa hold hK hp0
      rw [e1] at u2
      exact ⟨W1, u1, u2.skip _ (by omega) (by
        have := hdz _ _ hd
        rw [show 1 - 0 = 1 from rfl, e3] at this
        exact this), u3, u4, u5⟩
    · have hp1 := hp0.skip (sCh S n 1) (by omega) (by
        have := hdz _ _ hd
        rw [show 1 - 1 = 0 from rfl, e1] at this
        exact this)
      obtain ⟨W1, u1, u2, u3, u4, u5⟩ := hR W pa aa hbW hpa haa hold hK hp1
      rw [e3] at u2
      exact ⟨W1, u1, u2, u3, u4, u5⟩
  · intro D n a ba oa ptr out g0 g1 g2 g6 hn hk hc hba hoa h7 hkid W pa aa hbW hpa haa hold hK hp
    have hN := hS.2.2.2.2.2 n hn
    obtain ⟨hcc1, hcc4, -, -⟩ := par_ch hS hn hk
    have h0 := hN.1.2.2.2.2.1
    have loop : ∀ r k fuel (W : gw), k + r = sCc S n → r < fuel → pBd W → (∀ b, b < w.2.1 → W.1 b = w.1 b) → W.2.2.2 = w.2.2.2 → pL S i s pa aa (sCp S n k) W → ∃ W1, gL2 (bf_X22_lists_1 a (f_Run_lists D)) fuel (some pa) (nI k) W = some ((), W1) ∧ pL S i s pa aa (sEn S n) W1 ∧ (∀ b, b ≠ pa → b ≠ aa → W1.1 b = W.1 b) ∧ W1.2 = W.2 ∧ pBd W1 := by
      intro r
      induction r with
      | zero =>
        intro k fuel W hk' hf hbW hold hK hp
        obtain ⟨fuel, rfl⟩ : ∃ g, fuel = g + 1 := ⟨fuel - 1, by omega⟩
        obtain rfl : k = sCc S n := by omega
        have e : sCp S n (sCc S n) = sEn S n := if_neg (by omega)
        rw [e] at hp
        have cW := (hold a (hb0 _ _ hc)).trans hc
        have bW := (hold ba (hb0 _ _ hba)).trans hba
        refine ⟨W, ?_, hp, fun _ _ _ => rfl, rfl, hbW⟩
        show bf_X22_lists_1 a (f_Run_lists D) (gL2 (bf_X22_lists_1 a (f_Run_lists D)) fuel) _ _ _ = _
        generalize gL2 (bf_X22_lists_1 a (f_Run_lists D)) fuel = KK
        unfold bf_X22_lists_1
        rw [pu_R (k := 3) cW rfl, pu_B1, pu_B1, pu_Len bW, pu_B1, if_pos (nI_le (Nat.le_refl _) (by omega))]
      | succ r ih =>
        intro k fuel W hk' hf hbW hold hK hp
        obtain ⟨fuel, rfl⟩ : ∃ g, fuel = g + 1 := ⟨fuel - 1, by omega⟩
        have hkc : k < sCc S n := by omega
        obtain ⟨x1, x2, x3, x4, x5⟩ := sNode_in hN hkc
        have cW := (hold a (hb0 _ _ hc)).trans hc
        have bW := (hold ba (hb0 _ _ hba)).trans hba
        have oW := (hold oa (hb0 _ _ hoa)).trans hoa
        rw [x4] at hp
        show ∃ W1, bf_X22_lists_1 a (f_Run_lists D) (gL2 (bf_X22_lists_1 a (f_Run_lists D)) fuel) _ _ _ = _ ∧ _
        rcases hkid k hkc with ⟨y1, a', y2, y3⟩ | ⟨y1, y2⟩
        · obtain ⟨W1, u1, u2, u3, u4, u5⟩ := y3 W pa aa hbW hpa haa hold hK hp
          rw [x5] at u2
          obtain ⟨W2, v1, v2, v3, v4, v5⟩ := ih (k + 1) fuel W1 (by omega) (by omega) u5 (fun b hb => (u3 b (by omega) (by omega)).trans (hold b hb)) (by rw [u4]; exact hK) u2
          refine ⟨W2, ?_, v2, fun b c1 c2 => (v3 b c1 c2).trans (u3 b c1 c2), v4.trans u4, v5⟩
          rw [← v1]
          generalize gL2 (bf_X22_lists_1 a (f_Run_lists D)) fuel = KK
          unfold bf_X22_lists_1
          rw [pu_R (k := 3) cW rfl, pu_B1, pu_B1, pu_Len bW, pu_B1, if_neg (nI_ge hkc (by omega)), pu_R (k := 4) cW rfl, pu_B1, pu_B1, pu_LdR oW hkc (by omega), pu_B1, pu_Bd, if_pos (by rw [hK]; exact y1), pu_B1, pu_B1, pu_LdR bW hkc (by omega), pu_B1, y2, pu_B1, u1, pu_B2]
          try dsimp only
          rw [pu_Bd, nI_add]
        · have hp1 := hp.skip _ (by omega) (hdz _ _ y2)
          rw [x5] at hp1
          obtain ⟨W2, v1, v2, v3, v4, v5⟩ := ih (k + 1) fuel W (by omega) (by omega) hbW hold hK hp1
          refine ⟨W2, ?_, v2, v3, v4, v5⟩
          rw [← v1]
          generalize gL2 (bf_X22_lists_1 a (f_Run_lists D)) fuel = KK
          unfold bf_X22_lists_1
          rw [pu_R (k := 3) cW rfl, pu_B1, pu_B1, pu_Len bW, pu_B1, if_neg (nI_ge hkc (by omega)), pu_R (k := 4) cW rfl, pu_B1, pu_B1, pu_LdR oW hkc (by omega), pu_B1, pu_Bd, if_neg (by rw [hK]; exact y1)]
          try dsimp only
          rw [pu_Bd, nI_add]
    have hp0 := hp.skip (n + 1) (by omega) (fun c h1 h2 => by
      rw [show c = n by omega]
      exact fR_k (by omega))
    rw [← h0] at hp0
    obtain ⟨W1, u1, u2, u3, u4, u5⟩ := loop (sCc S n) 0 20000 W (by omega) (by omega) hbW hold hK hp0
    refine ⟨W1, ?_, u2, u3, u4, u5⟩
    have cW := (hold a (hb0 _ _ hc)).trans hc
    show f_Run_lists_s (f_Run_lists D) a (some pa) W = _
    unfold f_Run_lists_s
    rw [pu_Cls cW, pu_B1, if_neg (by decide), if_neg (by decide), if_neg (by decide), if_pos rfl, f_X22_lists_eq]
    exact u1
  · intro D n a ba oa ptr out ua U t g0 g1 g2 g6 h0 h1 h2 h3 h5 hn hk hc hba hoa hua hTU hU h7 ht h9 hd hno W pa aa hbW hpa haa hold hK hp
    obtain ⟨hcc1, hcc4, -, -⟩ := par_ch hS hn hk
    have hl := (hS.2.2.2.2.2 n hn).1.1
    have cW := (hold a (hb0 _ _ hc)).trans hc
    have bW := (hold ba (hb0 _ _ hba)).trans hba
    have oW := (hold oa (hb0 _ _ hoa)).trans hoa
    have loop : ∀ r k fuel, k + r = sCc S n → r < fuel → gL2 (bf_X22_lists_1 a (f_Run_lists D)) fuel (some pa) (nI k) W = some ((), W) := by
      intro r
      induction r with
      | zero =>
        intro k fuel hk' hf
        obtain ⟨fuel, rfl⟩ : ∃ g, fuel = g + 1 := ⟨fuel - 1, by omega⟩
        obtain rfl : k = sCc S n := by omega
        show bf_X22_lists_1 a (f_Run_lists D) (gL2 (bf_X22_lists_1 a (f_Run_lists D)) fuel) _ _ _ = _
        generalize gL2 (bf_X22_lists_1 a (f_Run_lists D)) fuel = KK
        unfold bf_X22_lists_1
        rw [pu_R (k := 3) cW rfl, pu_B1, pu_B1, pu_Len bW, pu_B1, if_pos (nI_le (Nat.le_refl _) (by omega))]
      | succ r ih =>
        intro k fuel hk' hf
        obtain ⟨fuel, rfl⟩ : ∃ g, fuel = g + 1 := ⟨fuel - 1, by omega⟩
        have hkc : k < sCc S n := by omega
        rw [← ih (k + 1) fuel (by omega) (by omega)]
        show bf_X22_lists_1 a (f_Run_lists D) (gL2 (bf_X22_lists_1 a (f_Run_lists D)) fuel) _ _ _ = _
        generalize gL2 (bf_X22_lists_1 a (f_Run_lists D)) fuel = KK
        unfold bf_X22_lists_1
        rw [pu_R (k := 3) cW rfl, pu_B1, pu_B1, pu_Len bW, pu_B1, if_neg (nI_ge hkc (by omega)), pu_R (k := 4) cW rfl, pu_B1, pu_B1, pu_LdR oW hkc (by omega), pu_B1, pu_Bd, if_neg (by rw [hK]; exact hno k hkc)]
        try dsimp only
        rw [pu_Bd, nI_add]
    refine ⟨W, ?_, hp.skip _ (by omega) (fun c h1 h2 => ?_), fun _ _ _ => rfl, rfl, hbW⟩
    · show f_Run_lists_s (f_Run_lists D) a (some pa) W = _
      unfold f_Run_lists_s
      rw [pu_Cls cW, pu_B1, if_neg (by decide), if_neg (by decide), if_neg (by decide), if_pos rfl, f_X22_lists_eq]
      exact loop (sCc S n) 0 20000 (by omega) (by omega)
    · by_cases hcn : c = n
      · rw [hcn]
        exact fR_k (by omega)
      · exact hdz _ _ hd c (by omega) h2
end LI
