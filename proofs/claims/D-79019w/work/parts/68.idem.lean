set_option maxRecDepth 100000
/-! A LOOK at what is settled changes nothing -/
section ID
variable {S : SV} {σ : TS} {xa mo ia i ver T : Nat} {bo un : Option Nat}
theorem par_ch {n : Nat} (hS : sWf S) (hn : n < sEn S 0) (hk : sKd S n = 6) : 1 ≤ sCc S n ∧ sCc S n ≤ 4 ∧ (∃ q, 1 ≤ q ∧ q ≤ sCc S n ∧ sP S n 1 = nI q) ∧ ∀ j, j < sCc S n → sKd S (sCh S n j) = 0 ∧ sLv S (sCh S n j) + 1 = sLv S n := by
  rcases (hS.2.2.2.2.2 n hn).2 with z | z | z | z | z | z | z
  · omega
  · omega
  · omega
  · omega
  · omega
  · omega
  · exact z.2
theorem bodiesIn_loop {w : gw} {tg : pT} {s : Nat → Int32} {B n x : Nat} (hW : pW S σ xa mo ia i ver T w tg s B bo un) (hn : n < sEn S 0) (hcc : sCc S n ≤ 64) (hx : x < 100) : ∀ (r j fuel : Nat), j + r = sCc S n → r < fuel → gL4 bt_X2_bodiesIn_1 fuel (nI i) (nI x) (nI (rCount S i s n x j)) (sAt S n j) (tS σ s) = some (nI (rCount S i s n x (sCc S n)), tS σ s) := by
  have hS : sWf S := hW.1.2.2.1
  have hNs : sEn S 0 ≤ 64 := hS.1
  have hi : i < 6 := hW.1.2.1
  have hN := hS.2.2.2.2.2 n hn
  intro r
  induction r with
  | zero =>
    intro j fuel hj hf
    obtain ⟨fu, rfl⟩ : ∃ fu, fuel = fu + 1 := ⟨fuel - 1, by omega⟩
    have e1 : sAt S n j = -1 := by
      unfold sAt
      rw [if_neg (by omega)]
    show bt_X2_bodiesIn_1 (gL4 bt_X2_bodiesIn_1 fu) (nI i) (nI x) (nI (rCount S i s n x j)) (sAt S n j) (tS σ s) = _
    generalize gL4 bt_X2_bodiesIn_1 fu = KK
    unfold bt_X2_bodiesIn_1
    rw [e1, if_pos (by decide), show j = sCc S n by omega]
  | succ r ih =>
    intro j fuel hj hf
    obtain ⟨fu, rfl⟩ : ∃ fu, fuel = fu + 1 := ⟨fuel - 1, by omega⟩
    have hjc : j < sCc S n := by omega
    have hi' := sNode_in hN hjc
    have hcN := sWf_lt hS hn hjc
    have e1 : sAt S n j = nI (sCh S n j) := by
      unfold sAt
      rw [if_pos hjc]
    have e2 : ¬ nI (sCh S n j) < 0 := nI_pos (by omega)
    have ec0 : ∀ w : TS, t_X2_at (nI i) (nI (sCh S n j)) (nI 0) w = _ := fun w => pt_at w
    have k6 := hW.np (n := sCh S n j) (k := 6) hcN (by omega)
    rw [(hN.1.2.2.2.2.2 j hjc).2.2.1] at k6
    have h1 := ih (j + 1) fu (by omega) (by omega)
    show bt_X2_bodiesIn_1 (gL4 bt_X2_bodiesIn_1 fu) (nI i) (nI x) (nI (rCount S i s n x j)) (sAt S n j) (tS σ s) = _
    generalize gL4 bt_X2_bodiesIn_1 fu = KK at h1 ⊢
    unfold bt_X2_bodiesIn_1
    rw [e1, if_neg e2, ec0, pu_B2, pu_ld5 (by omega), pu_B1, pu_Bd]
    by_cases hc : s (21 + 1262 * (i) + (622 + 10 * (sCh S n j) + 0)) = nI x
    · have hr : rCount S i s n x (j + 1) = rCount S i s n x j + 1 := by
        show rCount S i s n x j + (if s (21 + 1262 * (i) + (622 + 10 * (sCh S n j) + 0)) = nI x then 1 else 0) = _
        rw [if_pos hc]
      rw [if_pos hc]
      try dsimp only
      rw [pu_Bd, nI_add, k6, pu_B2, ← hr]
      exact h1
    · have hr : rCount S i s n x (j + 1) = rCount S i s n x j := by
        show rCount S i s n x j + (if s (21 + 1262 * (i) + (622 + 10 * (sCh S n j) + 0)) = nI x then 1 else 0) = _
        rw [if_neg hc]
        rfl
      rw [if_neg hc]
      try dsimp only
      rw [pu_Bd, nI_add, k6, pu_B2, Nat.add_zero, ← hr]
      exact h1
theorem t_bodiesIn {w : gw} {tg : pT} {s : Nat → Int32} {B n x : Nat} (hW : pW S σ xa mo ia i ver T w tg s B bo un) (hn : n < sEn S 0) (hx : x < 100) : t_X2_bodiesIn (nI i) (nI n) (nI x) (tS σ s) = some (nI (rCount S i s n x (sCc S n)), tS σ s) := by
  have hS : sWf S := hW.1.2.2.1
  have k5 := hW.np (n := n) (k := 5) hn (by omega)
  rw [(hS.2.2.2.2.2 n hn).1.2.2.2.1] at k5
  have hcc := cc_le hS hn
  rw [t_X2_bodiesIn_eq, k5, pu_B2]
  exact bodiesIn_loop hW hn hcc hx (sCc S n) 0 20000 (by omega) (by omega)
theorem rCount_le {s : Nat → Int32} {n x : Nat} : ∀ m, rCount S i s n x m ≤ m := by
  intro m
  induction m with
  | zero => exact Nat.le_refl _
  | succ m ih =>
    unfold rCount
    split <;> omega
/-- the reference's second part of a parallel's look -/
def kPar (x6 x7 : Int32) (w5 : TS) : Option (Int32 × TS) := gB2 (t_X2_compensates x6 x7 w5) fun x9 w8 => if x9 = 0 then some ((nI 5), w8) else gB2 (t_X2_bodiesIn x6 x7 (nI 2) w8) fun x12 w11 => gB2 (t_X2_notes x6 (nI 9) x12 w11) fun _ w13 => gB2 (t_X2_comesTo x6 x7 (nI 2) w13) fun x15 w14 => some (x15, w14)
theorem t_par_eq {rec : Int32 → Int32 → TS → Option (Int32 × TS)} {p1 p2 : Int32} {w0 : TS} : t_X2_looksAtParallel rec p1 p2 w0 = gB2 (t_X2_at p1 p2 (nI 0) w0) fun x2 w1 => gB1 (tLd w1 5 x2) fun x3 => if x3 = (nI 5) then kPar p1 p2 w1 else gB2 (t_X2_nodePart p1 p2 (nI 5) w1) fun x18 w17 => gL3 (bt_X2_looksAtParallel_1 kPar rec) 20000 p1 p2 x18 w17 := rfl
theorem idem {w : gw} {tg : pT} {s : Nat → Int32} {B : Nat} (hW : pW S σ xa mo ia i ver T w tg s B bo un) : ∀ l,
    (∀ b a D, l + 1 ≤ D → b < sEn S 0 → sKd S b = 0 → s (21 + 1262 * (i) + (622 + 10 * (b) + 0)) = nI 1 → rB S xa ia i w tg s T true l b a → t_X2_looksAtBody D (nI i) (nI b) (tS σ s) = some (nI 1, tS σ s)) ∧
    (∀ n a D, l ≤ D → n < sEn S 0 → sKd S n ≠ 0 → rLive i s n → rI S xa ia i w tg s T true l n a → t_X2_looks (t_X2_looksAtBody D) (nI i) (nI n) (tS σ s) = some (s (21 + 1262 * (i) + (622 + 10 * (n) + 0)), tS σ s)) := by
  have hS : sWf S := hW.1.2.2.1
  have hNs : sEn S 0 ≤ 64 := hS.1
  have hi : i < 6 := hW.1.2.1
  obtain ⟨-, -, -, -, -, -, -, -, -, -, -, -, -, -, -, m10, m11⟩ := hW.2.2.2.2.1
  have hkb : ∀ n, n < sEn S 0 → sKd S n = 0 → ∀ j, j < sCc S n → sKd S (sCh S n j) ≠ 0 := by
    intro n hn hk j hj
    rcases (hS.2.2.2.2.2 n hn).2 with h | h | h | h | h | h | h
    · exact (h.2.2 j hj).1
    all_goals omega
  have hk0 : ∀ n, n < sEn S 0 → t_X2_nodePart (nI i) (nI n) (nI 0) (tS σ s) = some (nI (sKd S n), tS σ s) := fun n hn => by rw [hW.np hn (by omega), (hS.2.2.2.2.2 n hn).1.2.2.1]
  have hid : ∀ r : Option (Int32 × TS), (gB2 r fun x25 w24 => some (x25, w24)) = r := by
    intro r
    cases r with
    | none => rfl
    | some q => rfl
  -- leaves
  have hleaf : ∀ n a rec, n < sEn S 0 → sKd S n ≠ 0 → sKd S n ≤ 4 → rLive i s n → rItem S xa ia i w tg s T true (fun _ _ => False) n a → t_X2_looks rec (nI i) (nI n) (tS σ s) = some (s (21 + 1262 * (i) + (622 + 10 * (n) + 0)), tS σ s) := by
    intro n a rec hn hk hk4 hlv hr
    have e1 : ∀ w : TS, t_X2_at (nI i) (nI n) (nI 1) w = _ := fun w => pt_at w
    have e3 : ∀ w : TS, t_X2_at (nI i) (nI n) (nI 3) w = _ := fun w => pt_at w
    have e4 : ∀ w : TS, t_X2_at (nI i) (nI n) (nI 4) w = _ := fun w => pt_at w
    have h0 := hk0 n hn
    have k1 := hW.np (n := n) (k := 1) hn (by omega)
    have k2 := hW.np (n := n) (k := 2) hn (by omega)
    rcases hr with g | g | g | g | g | g
    · obtain ⟨g1, g2, g3, g4, tr, uu, att, nu, g5, g6, g7, g8, g9⟩ := g
      have hst : s (21 + 1262 * (i) + (622 + 10 * (n) + 0)) = nI 1 := by
        rcases hlv with z | z
        · exact z
        · exact absurd z g3
      obtain ⟨-, -, A, R, U, -, -, -, -, -, rfl, hTU, hU6, htr⟩ := g7 hst
      have y2 : ¬ nI U ≤ nI T := nI_ge hTU (by omega)
      rw [g1] at h0
      unfold t_X2_looks
      rw [h0, pu_B2, if_pos rfl, hid, t_X2_looksAtTask_eq, k1, pu_B2, hst]
      show bt_X2_looksAtTask_1 (gL3 bt_X2_looksAtTask_1 19999) (nI i) (nI n) (sP S n 1) (tS σ s) = _
      generalize gL3 bt_X2_looksAtTask_1 19999 = KK
      unfold bt_X2_looksAtTask_1
      rcases htr with ⟨-, z, -⟩ | ⟨-, z, z2, -⟩
      · rw [e3, pu_B2, pu_ld5 (by omega), pu_B1, z, if_pos (nI_pos' (by omega)), pu_ld5 (by omega), pu_B1, m10, if_neg y2]
      · rw [e3, pu_B2, pu_ld5 (by omega), pu_B1, z, if_neg (by decide), e4, pu_B2, pu_ld5 (by omega), pu_B1, z2, pu_ld5 (by omega), pu_B1, m10, if_neg y2]
    · obtain ⟨g1, g2, g3, g4, uu, g5, g6⟩ := g
      have hst : s (21 + 1262 * (i) + (622 + 10 * (n) + 0)) = nI 1 := by
        rcases hlv with z | z
        · exact z
        · exact absurd z g3
      obtain ⟨U, rfl, hTU, hU6, hU⟩ := g6 hst
      rw [g1] at h0
      unfold t_X2_looks
      rw [h0, pu_B2, if_neg (by decide), if_pos rfl, pu_ld5 (by omega), pu_B1, e1, pu_B2, pu_ld5 (by omega), pu_B1, k1, pu_B2, hU, m10, if_pos (nI_lt hTU (by omega)), hst]
    · obtain ⟨g1, g2, g3, g4, uu, g5, g6⟩ := g
      have hst : s (21 + 1262 * (i) + (622 + 10 * (n) + 0)) = nI 1 := by
        rcases hlv with z | z
        · exact z
        · exact absurd z g3
      obtain ⟨h1, h2⟩ := g6 hst
      obtain ⟨c, hc8, hc⟩ : ∃ c, c < 8 ∧ sP S n 1 = nI c := by
        rcases (hS.2.2.2.2.2 n hn).2 with z | z | z | z | z | z | z
        · omega
        · omega
        · omega
        · exact z.2.2.1
        all_goals omega
      have hp := h2 rfl c hc8 hc
      have eof : ∀ w : TS, t_X2_of (nI i) (nI (14 + c)) w = _ := fun w => pt_of w
      rw [hc] at k1
      rw [g1] at h0
      unfold t_X2_looks
      rw [h0, pu_B2, if_neg (by decide), if_neg (by decide), if_pos rfl, hid, hst]
      unfold t_X2_looksAtSignal
      rw [k1, pu_B2, k2, pu_B2, nI_add, eof, pu_B2, pu_ld5 (by omega), pu_B1, hp, if_pos (by decide)]
      rcases h1 with ⟨z, -⟩ | ⟨z, U, rfl, hTU, hU6, hU⟩
      · rw [if_pos z]
      · rw [if_neg z, pu_ld5 (by omega), pu_B1, e1, pu_B2, pu_ld5 (by omega), pu_B1, hU, m10, if_pos (nI_lt hTU (by omega))]
    · exact absurd hlv g.2.2.1
    · omega
    · omega
  have hbody : ∀ l, (∀ n a D, l ≤ D → n < sEn S 0 → sKd S n ≠ 0 → rLive i s n → rI S xa ia i w tg s T true l n a → t_X2_looks (t_X2_looksAtBody D) (nI i) (nI n) (tS σ s) = some (s (21 + 1262 * (i) + (622 + 10 * (n) + 0)), tS σ s)) →
      ∀ b a D, l + 1 ≤ D → b < sEn S 0 → sKd S b = 0 → s (21 + 1262 * (i) + (622 + 10 * (b) + 0)) = nI 1 → rB S xa ia i w tg s T true l b a → t_X2_looksAtBody D (nI i) (nI b) (tS σ s) = some (nI 1, tS σ s) := by
    intro l hI b a D hD hb hk hst hB
    obtain ⟨d, rfl⟩ : ∃ d, D = d + 1 := ⟨D - 1, by omega⟩
    have hN := hS.2.2.2.2.2 b hb
    have hcc := cc_le hS hb
    obtain ⟨h1, idx, cur, dd, da, L, f, h2, h3, h4, h5, h6, h7, h8, h9, h10, h11, h12, h13, h14, h15, h16⟩ := rB_body.mp hB
    obtain ⟨g1, g2, g3⟩ := h14 hst
    cases cur with
    | none => exact absurd rfl g1
    | some a' =>
      obtain ⟨j1, j2, j3⟩ := h12
      have hcN := sWf_lt hS hb j1
      have e0 : ∀ w : TS, t_X2_at (nI i) (nI b) (nI 0) w = _ := fun w => pt_at w
      have ec0 : ∀ w : TS, t_X2_at (nI i) (nI (sCh S b idx)) (nI 0) w = _ := fun w => pt_at w
      have k5 := hW.np (n := b) (k := 5) hb (by omega)
      rw [hN.1.2.2.2.1] at k5
      have hid' : upd s (21 + 1262 * (i) + (622 + 10 * (b) + 0)) (nI 1) = s := by
        rw [← hst]
        exact upd_id _ _
      have hpp := pre_pass (rec := t_X2_looksAtBody d) hW hb h8 g3 idx 0 (20000 - idx) (by omega)
      rw [show 20000 - idx + idx = 20000 by omega] at hpp
      have hlk := hI _ a' d (by omega) hcN (hkb b hb hk idx j1) g2 j2
      obtain ⟨fu, hfu⟩ : ∃ fu, 20000 - idx = fu + 1 := ⟨20000 - idx - 1, by omega⟩
      have eAt : sAt S b idx = nI (sCh S b idx) := by
        unfold sAt
        rw [if_pos j1]
      have e1 : ¬ nI (sCh S b idx) < 0 := nI_pos (by omega)
      show t_X2_looksAtBody_s (t_X2_looksAtBody d) (nI i) (nI b) (tS σ s) = _
      rw [t_X2_looksAtBody_s_eq, e0, pu_B2, pu_st5 (by omega), pu_B1, hid', k5, pu_B2, hpp, hfu]
      show bt_X2_looksAtBody_s_1 (t_X2_looksAtBody d) (gL3 (bt_X2_looksAtBody_s_1 (t_X2_looksAtBody d)) fu) (nI i) (nI b) (sAt S b idx) (tS σ s) = _
      generalize gL3 (bt_X2_looksAtBody_s_1 (t_X2_looksAtBody d)) fu = KK
      unfold bt_X2_looksAtBody_s_1
      rcases g2 with z | z
      · rw [z] at hlk
        rw [eAt, if_neg e1, ec0, pu_B2, pu_ld5 (by omega), pu_B1, z, pu_Bd, if_neg (by decide), pu_Bd, if_pos rfl]
        try dsimp only
        rw [hlk, pu_B2]
        try dsimp only
        rw [if_neg (by decide), if_neg (by decide)]
      · rw [z] at hlk
        rw [eAt, if_neg e1, ec0, pu_B2, pu_ld5 (by omega), pu_B1, z, pu_Bd, if_neg (by decide), pu_Bd, if_neg (by decide), if_pos rfl]
        try dsimp only
        rw [hlk, pu_B2]
        try dsimp only
        rw [if_neg (by decide), if_neg (by decide)]
  intro l
  induction l with
  | zero =>
    have hI : ∀ n a D, 0 ≤ D → n < sEn S 0 → sKd S n ≠ 0 → rLive i s n → rI S xa ia i w tg s T true 0 n a → t_X2_looks (t_X2_looksAtBody D) (nI i) (nI n) (tS σ s) = some (s (21 + 1262 * (i) + (622 + 10 * (n) + 0)), tS σ s) := by
      intro n a D _ hn hk hlv hr
      by_cases hk4 : sKd S n ≤ 4
      · exact hleaf n a _ hn hk hk4 hlv hr
      · exfalso
        rcases hr with g | g | g | g | g | g
        · omega
        · omega
        · omega
        · omega
        · obtain ⟨-, -, -, j, -, -, hf, -⟩ := g
          exact hf
        · obtain ⟨g1, g2, ba, oa, und, ptr, out, g3, g4, g5, g6, g7, g8, g9, -⟩ := g
          have hcc := (par_ch hS hn g1).1
          rcases g8 0 (by omega) with ⟨k1, -⟩ | ⟨-, a', -, hf⟩
          · rcases g9 hlv 0 (by omega) with z | z | z
            · rw [k1] at z; exact absurd z.1 (by simp)
            · rw [k1] at z; exact absurd z.1 (by simp)
            · rw [k1] at z; exact absurd z.1 (by simp)
          · exact hf
    exact ⟨hbody 0 hI, hI⟩
  | succ l ih =>
    have hI : ∀ n a D, l + 1 ≤ D → n < sEn S 0 → sKd S n ≠ 0 → rLive i s n → rI S xa ia i w tg s T true (l + 1) n a → t_X2_looks (t_X2_looksAtBody D) (nI i) (nI n) (tS σ s) = some (s (21 + 1262 * (i) + (622 + 10 * (n) + 0)), tS σ s) := by
      intro n a D hD hn hk hlv hr
      by_cases hk4 : sKd S n ≤ 4
      · exact hleaf n a _ hn hk hk4 hlv (rI_leaf' hk4 hr)
      · have hN := hS.2.2.2.2.2 n hn
        have h0 := hk0 n hn
        rcases hr with g | g | g | g | g | g
        · omega
        · omega
        · omega
        · omega
        · obtain ⟨g1, g2, g3, j, g4, g5, g6, g7, g8, g9⟩ := g
          obtain ⟨hcc, -, hch⟩ := choice_ch hS hn g1
          have hst : s (21 + 1262 * (i) + (622 + 10 * (n) + 0)) = nI 1 := by
            rcases hlv with z | z
            · exact z
            · exact absurd z g3
          have hrec := ih.1 _ a D hD (sWf_lt hS hn (by omega)) (hch j g4).1 (g8 hst) g6
          have e2 : ∀ w : TS, t_X2_at (nI i) (nI n) (nI 2) w = _ := fun w => pt_at w
          have hid' : upd s (21 + 1262 * (i) + (622 + 10 * (n) + 0)) (nI 1) = s := by
            rw [← hst]
            exact upd_id _ _
          rw [g1] at h0
          unfold t_X2_looks
          rw [h0, pu_B2, if_neg (by decide), if_neg (by decide), if_neg (by decide), if_neg (by decide), if_pos rfl, e2, pu_B2, pu_ld5 (by omega), pu_B1, g5, hrec, pu_B2, pt_comesTo hi (by omega), pu_B2, hid', hst]
        · obtain ⟨g1, g2, ba, oa, und, ptr, out, g3, g4, g5, g6, g7, g8, g9, g10, g11, g12, g13⟩ := g
          obtain ⟨hc1, hc4, -, hch⟩ := par_ch hS hn g1
          have e0 : ∀ w : TS, t_X2_at (nI i) (nI n) (nI 0) w = _ := fun w => pt_at w
          rw [g1] at h0
          unfold t_X2_looks
          rw [h0, pu_B2, if_neg (by decide), if_neg (by decide), if_neg (by decide), if_neg (by decide), if_neg (by decide), hid, t_par_eq, e0, pu_B2, pu_ld5 (by omega), pu_B1]
          rcases hlv with hst | hst
          · obtain ⟨-, -, q0, d, r, hq, hd1, hd2, rfl, rfl⟩ := g10 hst
            have hq4 : rCount S i s n 2 (sCc S n) ≤ sCc S n := rCount_le _
            have hq5 : rCount S i s n 1 (sCc S n) ≤ sCc S n := rCount_le _
            have k5 := hW.np (n := n) (k := 5) hn (by omega)
            rw [hN.1.2.2.2.1] at k5
            have k1 := hW.np (n := n) (k := 1) hn (by omega)
            rw [hq] at k1
            rw [hst, if_neg (by decide), k5, pu_B2]
            have hloop : ∀ (r j fuel : Nat), j + r = sCc S n → r < fuel → gL3 (bt_X2_looksAtParallel_1 kPar (t_X2_looksAtBody D)) fuel (nI i) (nI n) (sAt S n j) (tS σ s) = some (nI 1, tS σ s) := by
              intro r
              induction r with
              | zero =>
                intro j fuel hj hf
                obtain ⟨fu, rfl⟩ : ∃ fu, fuel = fu + 1 := ⟨fuel - 1, by omega⟩
                have e1 : sAt S n j = -1 := by
                  unfold sAt
                  rw [if_neg (by omega)]
                show bt_X2_looksAtParallel_1 kPar (t_X2_looksAtBody D) (gL3 (bt_X2_looksAtParallel_1 kPar (t_X2_looksAtBody D)) fu) (nI i) (nI n) (sAt S n j) (tS σ s) = _
                generalize gL3 (bt_X2_looksAtParallel_1 kPar (t_X2_looksAtBody D)) fu = KK
                unfold bt_X2_looksAtParallel_1
                rw [e1, if_pos (by decide), k1, pu_B2, t_bodiesIn hW hn (by omega), pu_B2, t_bodiesIn hW hn (by omega), pu_B2, nI_add, if_pos (nI_le hd2 (by omega)), if_neg (nI_ge hd1 (by omega))]
              | succ r ihr =>
                intro j fuel hj hf
                obtain ⟨fu, rfl⟩ : ∃ fu, fuel = fu + 1 := ⟨fuel - 1, by omega⟩
                have hjc : j < sCc S n := by omega
                have hcN := sWf_lt hS hn hjc
                have e1 : sAt S n j = nI (sCh S n j) := by
                  unfold sAt
                  rw [if_pos hjc]
                have e2 : ¬ nI (sCh S n j) < 0 := nI_pos (by omega)
                have ec0 : ∀ w : TS, t_X2_at (nI i) (nI (sCh S n j)) (nI 0) w = _ := fun w => pt_at w
                have k6 := hW.np (n := sCh S n j) (k := 6) hcN (by omega)
                rw [(hN.1.2.2.2.2.2 j hjc).2.2.1] at k6
                have h1 := ihr (j + 1) fu (by omega) (by omega)
                show bt_X2_looksAtParallel_1 kPar (t_X2_looksAtBody D) (gL3 (bt_X2_looksAtParallel_1 kPar (t_X2_looksAtBody D)) fu) (nI i) (nI n) (sAt S n j) (tS σ s) = _
                generalize gL3 (bt_X2_looksAtParallel_1 kPar (t_X2_looksAtBody D)) fu = KK at h1 ⊢
                unfold bt_X2_looksAtParallel_1
                rw [e1, if_neg e2, ec0, pu_B2, pu_ld5 (by omega), pu_B1, pu_Bd]
                by_cases hsj : s (21 + 1262 * (i) + (622 + 10 * (sCh S n j) + 0)) = nI 1
                · have hB : ∃ a', rB S xa ia i w tg s T true l (sCh S n j) a' := by
                    rcases g8 j hjc with ⟨-, -, k3⟩ | ⟨-, a', -, k3⟩
                    · exfalso
                      have := (k3 _ (Nat.le_refl _) (sNode_in hN hjc).2.2.1).1
                      rw [hsj] at this
                      exact absurd this (by decide)
                    · exact ⟨a', k3⟩
                  obtain ⟨a', hB⟩ := hB
                  rw [if_pos hsj, ih.1 _ a' D hD hcN (hch j hjc).1 hsj hB, pu_B2]
                  try dsimp only
                  rw [k6, pu_B2]
                  exact h1
                · rw [if_neg hsj]
                  try dsimp only
                  rw [k6, pu_B2]
                  exact h1
            exact hloop (sCc S n) 0 20000 (by omega) (by omega)
          · obtain ⟨-, ua, -, L, left, tried, til, -, -, n1, n2, n3, ⟨t, k, hfor, -, -, -, u5⟩, n5, n6, U, rfl, hTU, hU6⟩ := g11 hst
            have ht : t < 64 := by
              have := hfor.1
              omega
            have e7 : ∀ w : TS, t_X2_at (nI i) (nI n) (nI 7) w = _ := fun w => pt_at w
            have e9 : ∀ w : TS, t_X2_at (nI i) (nI n) (nI 9) w = _ := fun w => pt_at w
            have hcomp : t_X2_compensates (nI i) (nI n) (tS σ s) = some (nI 0, tS σ s) := by
              rw [t_comp_eq]
              generalize gL2 bt_X2_compensates_1 20000 = KK
              unfold bt_X2_compensates_1
              rw [e7, pu_B2, pu_ld5 (by omega), pu_B1, u5, pu_Bd, if_pos (nI_pos' (by omega))]
              try dsimp only
              rw [e9, pu_B2, pu_ld5 (by omega), pu_B1, n6, pu_ld5 (by omega), pu_B1, m10, if_neg (nI_ge hTU (by omega))]
            rw [hst, if_pos rfl]
            unfold kPar
            rw [hcomp, pu_B2, if_pos (by decide)]
    exact ⟨hbody (l + 1) hI, hI⟩
end ID
