set_option maxRecDepth 100000
/-! REPLAYED: what the history tells -/
theorem bit_ite (c : Prop) [Decidable c] (w : gw) : f_X0_bit (if c then nI 1 else nI 0) w = some (if c then nI 1 else nI 0, w) := by
  by_cases h : c
  · rw [if_pos h, bit_1]
  · rw [if_neg h, bit_0]
theorem bd_ite8 {α β γ δ ε ζ η ι : Type} {ρ : Type} (F : α → β → γ → δ → ε → ζ → η → Int32 → ι → ρ) (c : Prop) [Decidable c] (a1 : α) (a2 : β) (a3 : γ) (a4 : δ) (a5 : ε) (a6 : ζ) (a7 : η) (w : ι) : (gBd F fun k => if c then k a1 a2 a3 a4 a5 a6 a7 (nI 1) w else k a1 a2 a3 a4 a5 a6 a7 (nI 0) w) = F a1 a2 a3 a4 a5 a6 a7 (if c then nI 1 else nI 0) w := by
  by_cases h : c
  · simp only [gBd, if_pos h]
  · simp only [gBd, if_neg h]
theorem bd_ite7 {α β γ δ ε ζ ι : Type} {ρ : Type} (F : α → β → γ → δ → ε → ζ → Int32 → ι → ρ) (c : Prop) [Decidable c] (a1 : α) (a2 : β) (a3 : γ) (a4 : δ) (a5 : ε) (a6 : ζ) (w : ι) : (gBd F fun k => if c then k a1 a2 a3 a4 a5 a6 (nI 1) w else k a1 a2 a3 a4 a5 a6 (nI 0) w) = F a1 a2 a3 a4 a5 a6 (if c then nI 1 else nI 0) w := by
  by_cases h : c
  · simp only [gBd, if_pos h]
  · simp only [gBd, if_neg h]
theorem bd_or8 {α β γ δ ε ζ η ι : Type} {ρ : Type} (F : α → β → γ → δ → ε → ζ → η → Int32 → ι → ρ) (c d : Prop) [Decidable c] [Decidable d] (a1 : α) (a2 : β) (a3 : γ) (a4 : δ) (a5 : ε) (a6 : ζ) (a7 : η) (w : ι) : (gBd F fun k => gBd (fun (b1 : α) (b2 : β) (b3 : γ) (b4 : δ) (b5 : ε) (b6 : ζ) (b7 : η) (w : ι) => k b1 b2 b3 b4 b5 b6 b7 (nI 1) w) fun k1 => if c then k1 a1 a2 a3 a4 a5 a6 a7 w else if d then k1 a1 a2 a3 a4 a5 a6 a7 w else k a1 a2 a3 a4 a5 a6 a7 (nI 0) w) = F a1 a2 a3 a4 a5 a6 a7 (if c ∨ d then nI 1 else nI 0) w := by
  by_cases h : c
  · simp only [gBd, if_pos h, if_pos (Or.inl h : c ∨ d)]
  · by_cases h2 : d
    · simp only [gBd, if_neg h, if_pos h2, if_pos (Or.inr h2 : c ∨ d)]
    · simp only [gBd, if_neg h, if_neg h2, if_neg (fun z => z.elim h h2 : ¬ (c ∨ d))]
theorem st_StI {w : gw} {a t n j : Nat} {f : Nat → Int32} (h : w.1 a = some (.inr (t, n, .inl f))) (hj : j < n) (hn : n < 2 ^ 31) (hb : pBd w) (x : Int32) : ∃ W, gStI w a t (nI j) x = some W ∧ W.1 a = some (.inr (t, n, .inl (upd f j x))) ∧ (∀ b, b ≠ a → W.1 b = w.1 b) ∧ W.2 = w.2 ∧ pBd W :=
  ⟨_, pu_StI h hj hn x, hs_self _ _ _, fun b hb => hs_ne hb, hs_2 _ _ _, (pFr.hs (P := fun _ => True) (tg := fun _ => (0, 0)) hb h trivial).1⟩
/-- the status that the history tells; how often something is told -/
def hSt (h : Nat → Int32) : Nat → Int32
  | 0 => nI 0
  | k + 1 => if h (3 * k + 1) = nI 11 then h (3 * k + 2) else hSt h k
def hCt (h : Nat → Int32) (x : Nat) (k : Nat) : Nat := pSum (fun j => if h (3 * j + 1) = nI x then 1 else 0) k
theorem hCt_s (h : Nat → Int32) (x k : Nat) : nI (hCt h x (k + 1)) = nI (hCt h x k) + (if h (3 * k + 1) = nI x then nI 1 else nI 0) := by
  have e : hCt h x (k + 1) = hCt h x k + (if h (3 * k + 1) = nI x then 1 else 0) := rfl
  rw [e]
  by_cases c : h (3 * k + 1) = nI x
  · rw [if_pos c, if_pos c, nI_add]
  · rw [if_neg c, if_neg c, nI_add]
def hFd (h f : Nat → Int32) (k : Nat) : Prop := f 0 = hSt h k ∧ f 1 = nI (hCt h 2 k) ∧ f 2 = nI (hCt h 6 k) ∧ f 3 = nI (hCt h 7 k) ∧ f 4 = nI (hCt h 0 k) + nI (hCt h 5 k) ∧ f 5 = nI (hCt h 1 k)
theorem rep_step {w : gw} {ia hi fa E k : Nat} {p : Int32} {f h : Nat → Int32} {g0 g1 g2 g3 g4 g5 g6 g9 g10 g11 g12 g13 g14 g15 : gv} (KK : Int32 → Option Nat → Int32 → gw → Option (Int32 × gw)) (hb : pBd w) (h1 : w.1 ia = some (.inl (16, [g0, g1, g2, g3, g4, g5, g6, ga (some hi), gi (nI E), g9, g10, g11, g12, g13, g14, g15]))) (h2 : w.1 hi = some (.inr (0, 600, .inl h))) (h3 : w.1 fa = some (.inr (0, 6, .inl f))) (hE : E < 2 ^ 31) (hk : k < min 200 E) (hne : fa ≠ hi) (hf : hFd h f k) :
    ∃ W f1, bf_X16_replayed_1 ia KK p (some fa) (nI k) w = KK p (some fa) (nI (k + 1)) W ∧ W.1 fa = some (.inr (0, 6, .inl f1)) ∧ hFd h f1 (k + 1) ∧ (∀ b, b ≠ fa → W.1 b = w.1 b) ∧ W.2 = w.2 ∧ pBd W := by
  have hfi : fa ≠ ia := ne_of h3 h1 (by simp)
  obtain ⟨f0, f1', f2, f3, f4, f5⟩ := hf
  obtain ⟨v, hv⟩ : ∃ v, (if h (3 * k + 1) = nI 11 then h (3 * k + 2) else f 0) = v := ⟨_, rfl⟩
  obtain ⟨W1, e1, q1, o1, z1, b1⟩ := st_StI (j := 0) h3 (by omega) (by omega) hb v
  obtain ⟨W2, e2, q2, o2, z2, b2⟩ := st_StI (j := 1) q1 (by omega) (by omega) b1 (f 1 + (if h (3 * k + 1) = nI 2 then nI 1 else nI 0))
  obtain ⟨W3, e3, q3, o3, z3, b3⟩ := st_StI (j := 2) q2 (by omega) (by omega) b2 (f 2 + (if h (3 * k + 1) = nI 6 then nI 1 else nI 0))
  obtain ⟨W4, e4, q4, o4, z4, b4⟩ := st_StI (j := 3) q3 (by omega) (by omega) b3 (f 3 + (if h (3 * k + 1) = nI 7 then nI 1 else nI 0))
  obtain ⟨W5, e5, q5, o5, z5, b5⟩ := st_StI (j := 4) q4 (by omega) (by omega) b4 (f 4 + (if h (3 * k + 1) = 0 ∨ h (3 * k + 1) = nI 5 then nI 1 else nI 0))
  obtain ⟨W6, e6, q6, o6, z6, b6⟩ := st_StI (j := 5) q5 (by omega) (by omega) b5 (f 5 + (if h (3 * k + 1) = nI 1 then nI 1 else nI 0))
  have hz : (0 : Int32) = nI 0 := by decide
  refine ⟨W6, _, ?_, q6, ⟨?_, ?_, ?_, ?_, ?_, ?_⟩, fun b hbn => (o6 b hbn).trans ((o5 b hbn).trans ((o4 b hbn).trans ((o3 b hbn).trans ((o2 b hbn).trans (o1 b hbn))))), by rw [z6, z5, z4, z3, z2, z1], b6⟩
  · have l1 : (upd f 0 v) 1 = f 1 := upd_ne (by omega)
    have l2 : (upd (upd f 0 v) 1 (f 1 + (if h (3 * k + 1) = nI 2 then nI 1 else nI 0))) 2 = f 2 := by rw [upd_ne (by omega), upd_ne (by omega)]
    have l3 : (upd (upd (upd f 0 v) 1 (f 1 + (if h (3 * k + 1) = nI 2 then nI 1 else nI 0))) 2 (f 2 + (if h (3 * k + 1) = nI 6 then nI 1 else nI 0))) 3 = f 3 := by rw [upd_ne (by omega), upd_ne (by omega), upd_ne (by omega)]
    have m2 := pu_LdI q1 (j := 1) (by omega) (by omega)
    rw [l1] at m2
    have m3 := pu_LdI q2 (j := 2) (by omega) (by omega)
    rw [l2] at m3
    have m4 := pu_LdI q3 (j := 3) (by omega) (by omega)
    rw [l3] at m4
    have m5 := pu_LdI q4 (j := 4) (by omega) (by omega)
    rw [upd_ne (by omega), upd_ne (by omega), upd_ne (by omega), upd_ne (by omega)] at m5
    have m6 := pu_LdI q5 (j := 5) (by omega) (by omega)
    rw [upd_ne (by omega), upd_ne (by omega), upd_ne (by omega), upd_ne (by omega), upd_ne (by omega)] at m6
    unfold bf_X16_replayed_1
    rw [pu_I (k := 8) h1 rfl, pu_B1, min_f E hE, pu_B2, if_neg (nI_ge hk (by omega)), pu_R (k := 7) h1 rfl, pu_B1, pu_B1, pu_mul, nI_add, pu_LdI h2 (by omega) (by omega), pu_B1]
    by_cases c : h (3 * k + 1) = nI 11
    · rw [if_pos c] at hv
      rw [pu_Bd, if_pos c, pu_B1, pu_B1, nI_add, pu_LdI h2 (by omega) (by omega), pu_B1, hv]
      try dsimp only
      rw [pu_B1, e1, pu_B1, pu_B1, m2, pu_B1, bd_ite8, bit_ite, pu_B2, pu_B1, e2, pu_B1, pu_B1, m3, pu_B1, bd_ite8, bit_ite, pu_B2, pu_B1, e3, pu_B1, pu_B1, m4, pu_B1, bd_ite8, bit_ite, pu_B2, pu_B1, e4, pu_B1, pu_B1, m5, pu_B1, bd_or8, bit_ite, pu_B2, pu_B1, e5, pu_B1, pu_B1, m6, pu_B1, bd_ite7, bit_ite, pu_B2, pu_B1, e6, pu_B1, pu_Bd, nI_add]
    · rw [if_neg c] at hv
      rw [pu_Bd, if_neg c, pu_B1, pu_LdI h3 (by omega) (by omega), pu_B1, hv]
      try dsimp only
      rw [pu_B1, e1, pu_B1, pu_B1, m2, pu_B1, bd_ite8, bit_ite, pu_B2, pu_B1, e2, pu_B1, pu_B1, m3, pu_B1, bd_ite8, bit_ite, pu_B2, pu_B1, e3, pu_B1, pu_B1, m4, pu_B1, bd_ite8, bit_ite, pu_B2, pu_B1, e4, pu_B1, pu_B1, m5, pu_B1, bd_or8, bit_ite, pu_B2, pu_B1, e5, pu_B1, pu_B1, m6, pu_B1, bd_ite7, bit_ite, pu_B2, pu_B1, e6, pu_B1, pu_Bd, nI_add]
  · rw [upd_ne (by omega), upd_ne (by omega), upd_ne (by omega), upd_ne (by omega), upd_ne (by omega), upd_self, ← hv, f0]
    rfl
  · rw [upd_ne (by omega), upd_ne (by omega), upd_ne (by omega), upd_ne (by omega), upd_self, hCt_s, f1']
  · rw [upd_ne (by omega), upd_ne (by omega), upd_ne (by omega), upd_self, hCt_s, f2]
  · rw [upd_ne (by omega), upd_ne (by omega), upd_self, hCt_s, f3]
  · rw [upd_ne (by omega), upd_self, f4, hCt_s, hCt_s, ← hz]
    have hz0 : nI 0 = (0 : Int32) := by decide
    by_cases d1 : h (3 * k + 1) = 0
    · have d2 : ¬ h (3 * k + 1) = nI 5 := fun z => by
        rw [d1] at z
        exact absurd z (by decide)
      rw [if_pos (Or.inl d1), if_pos d1, if_neg d2, Int32.add_zero, Int32.add_assoc, Int32.add_assoc, Int32.add_comm (nI 1)]
    · by_cases d2 : h (3 * k + 1) = nI 5
      · rw [if_pos (Or.inr d2), if_neg d1, if_pos d2, Int32.add_zero, Int32.add_assoc]
      · rw [if_neg (fun z => z.elim d1 d2), if_neg d1, if_neg d2, Int32.add_zero, Int32.add_zero, Int32.add_zero]
  · rw [upd_self, hCt_s, f5]
theorem rep_loop {ia hi fa E : Nat} {p : Nat} {h : Nat → Int32} {g0 g1 g2 g3 g4 g5 g6 g9 g10 g11 g12 g13 g14 g15 : gv} (hE : E < 2 ^ 31) (hp : p < 6) : ∀ r k fuel (w : gw) (f : Nat → Int32), k + r = min 200 E → r < fuel → pBd w → w.1 ia = some (.inl (16, [g0, g1, g2, g3, g4, g5, g6, ga (some hi), gi (nI E), g9, g10, g11, g12, g13, g14, g15])) → w.1 hi = some (.inr (0, 600, .inl h)) → w.1 fa = some (.inr (0, 6, .inl f)) → fa ≠ hi → hFd h f k →
    ∃ W f1, gL3 (bf_X16_replayed_1 ia) fuel (nI p) (some fa) (nI k) w = some (f1 p, W) ∧ hFd h f1 (min 200 E) ∧ (∀ b, b ≠ fa → W.1 b = w.1 b) ∧ W.2 = w.2 ∧ pBd W := by
  intro r
  induction r with
  | zero =>
    intro k fuel w f hk hfu hb h1 h2 h3 hne hf
    obtain ⟨fuel, rfl⟩ : ∃ g, fuel = g + 1 := ⟨fuel - 1, by omega⟩
    obtain rfl : k = min 200 E := by omega
    refine ⟨w, f, ?_, hf, fun _ _ => rfl, rfl, hb⟩
    show bf_X16_replayed_1 ia (gL3 (bf_X16_replayed_1 ia) fuel) _ _ _ _ = _
    generalize gL3 (bf_X16_replayed_1 ia) fuel = KK
    unfold bf_X16_replayed_1
    rw [pu_I (k := 8) h1 rfl, pu_B1, min_f E hE, pu_B2, if_pos (nI_le (Nat.le_refl _) (by omega)), pu_B1, pu_LdI h3 hp (by omega), pu_B1]
  | succ r ih =>
    intro k fuel w f hk hfu hb h1 h2 h3 hne hf
    obtain ⟨fuel, rfl⟩ : ∃ g, fuel = g + 1 := ⟨fuel - 1, by omega⟩
    have hfi : fa ≠ ia := ne_of h3 h1 (by simp)
    obtain ⟨W1, f1, e1, q1, q2, o1, z1, b1⟩ := rep_step (p := nI p) (gL3 (bf_X16_replayed_1 ia) fuel) hb h1 h2 h3 hE (by omega) hne hf
    obtain ⟨W, f2, i1, i2, i3, i4, i5⟩ := ih (k + 1) fuel W1 f1 (by omega) (by omega) b1 ((o1 ia hfi.symm).trans h1) ((o1 hi hne.symm).trans h2) q1 hne q2
    exact ⟨W, f2, e1.trans i1, i2, fun b hbn => (i3 b hbn).trans (o1 b hbn), i4.trans z1, i5⟩
section RP
variable {k xa : Nat} {w : gw} {tg : pT} {σ : TS}
/-- the reference: how often, and the status -/
theorem entries_t {j E x : Nat} (hj : j < 6) (hE : E < 2 ^ 31) (h9 : σ 5 (21 + 1262 * (j) + 9) = nI E) : t_X2_entriesOf (nI j) (nI x) σ = some (nI (hCt (fun q => σ 5 (21 + 1262 * (j) + (22 + q))) x (min 200 E)), σ) := by
  have eo : ∀ (q : Nat) (w : TS), t_X2_of (nI j) (nI q) w = some (nI (21 + 1262 * (j) + q), w) := fun q w => pt_of w
  have hkept : t_X2_keptEntries (nI j) σ = some (nI (min 200 E), σ) := by
    unfold t_X2_keptEntries
    rw [eo, pu_B2, ld5 (by omega), pu_B1, h9, min_t E hE, pu_B2]
  rw [t_X2_entriesOf_eq]
  have : ∀ r k fuel, k + r = min 200 E → r < fuel → gL4 bt_X2_entriesOf_1 fuel (nI j) (nI x) (nI (hCt (fun q => σ 5 (21 + 1262 * (j) + (22 + q))) x k)) (nI k) σ = some (nI (hCt (fun q => σ 5 (21 + 1262 * (j) + (22 + q))) x (min 200 E)), σ) := by
    intro r
    induction r with
    | zero =>
      intro k fuel hk hf
      obtain ⟨fuel, rfl⟩ : ∃ g, fuel = g + 1 := ⟨fuel - 1, by omega⟩
      obtain rfl : k = min 200 E := by omega
      show bt_X2_entriesOf_1 (gL4 bt_X2_entriesOf_1 fuel) _ _ _ _ _ = _
      generalize gL4 bt_X2_entriesOf_1 fuel = KK
      unfold bt_X2_entriesOf_1
      rw [hkept, pu_B2, if_pos (nI_le (Nat.le_refl _) (by omega))]
    | succ r ih =>
      intro k fuel hk hf
      obtain ⟨fuel, rfl⟩ : ∃ g, fuel = g + 1 := ⟨fuel - 1, by omega⟩
      have ihk := ih (k + 1) fuel (by omega) (by omega)
      rw [hCt_s] at ihk
      show bt_X2_entriesOf_1 (gL4 bt_X2_entriesOf_1 fuel) _ _ _ _ _ = _
      generalize gL4 bt_X2_entriesOf_1 fuel = KK at ihk ⊢
      unfold bt_X2_entriesOf_1
      rw [hkept, pu_B2, if_neg (nI_ge (by omega) (by omega)), pu_mul, nI_add, nI_add, eo, pu_B2, ld5 (by omega), pu_B1]
      have e3 : 22 + 3 * k + 1 = 22 + (3 * k + 1) := by omega
      rw [e3]
      by_cases c : σ 5 (21 + 1262 * (j) + (22 + (3 * k + 1))) = nI x
      · rw [if_pos c] at ihk
        rw [pu_Bd, if_pos c]
        try dsimp only
        rw [pu_Bd, pu_Bd, nI_add, nI_add]
        rw [nI_add] at ihk
        exact ihk
      · rw [if_neg c] at ihk
        rw [pu_Bd, if_neg c]
        try dsimp only
        rw [pu_Bd, pu_Bd, nI_add, nI_add]
        rw [nI_add] at ihk
        exact ihk
  exact this (min 200 E) 0 20000 (by omega) (by omega)
theorem rep_t {j E p : Nat} (hj : j < 6) (hp : p < 6) (hE : E < 2 ^ 31) (h9 : σ 5 (21 + 1262 * (j) + 9) = nI E) {f : Nat → Int32} (hf : hFd (fun q => σ 5 (21 + 1262 * (j) + (22 + q))) f (min 200 E)) : gL4 bt_X2_replayed_1 20000 (nI j) (nI p) (nI 0) (nI 0) σ = some (f p, σ) := by
  have eo : ∀ (q : Nat) (w : TS), t_X2_of (nI j) (nI q) w = some (nI (21 + 1262 * (j) + q), w) := fun q w => pt_of w
  have hkept : t_X2_keptEntries (nI j) σ = some (nI (min 200 E), σ) := by
    unfold t_X2_keptEntries
    rw [eo, pu_B2, ld5 (by omega), pu_B1, h9, min_t E hE, pu_B2]
  have : ∀ r k fuel, k + r = min 200 E → r < fuel → gL4 bt_X2_replayed_1 fuel (nI j) (nI p) (hSt (fun q => σ 5 (21 + 1262 * (j) + (22 + q))) k) (nI k) σ = some (f p, σ) := by
    intro r
    induction r with
    | zero =>
      intro k fuel hk hfu
      obtain ⟨fuel, rfl⟩ : ∃ g, fuel = g + 1 := ⟨fuel - 1, by omega⟩
      obtain rfl : k = min 200 E := by omega
      show bt_X2_replayed_1 (gL4 bt_X2_replayed_1 fuel) _ _ _ _ _ = _
      generalize gL4 bt_X2_replayed_1 fuel = KK
      unfold bt_X2_replayed_1
      rw [hkept, pu_B2, if_pos (nI_le (Nat.le_refl _) (by omega))]
      obtain ⟨f0, f1, f2, f3, f4, f5⟩ := hf
      have hpp : p = 0 ∨ p = 1 ∨ p = 2 ∨ p = 3 ∨ p = 4 ∨ p = 5 := by omega
      rcases hpp with rfl | rfl | rfl | rfl | rfl | rfl
      · rw [if_pos rfl, f0]
      · rw [if_neg (by decide), if_pos rfl, entries_t hj hE h9, pu_B2, f1]
      · rw [if_neg (by decide), if_neg (by decide), if_pos rfl, entries_t hj hE h9, pu_B2, f2]
      · rw [if_neg (by decide), if_neg (by decide), if_neg (by decide), if_pos rfl, entries_t hj hE h9, pu_B2, f3]
      · rw [if_neg (by decide), if_neg (by decide), if_neg (by decide), if_neg (by decide), if_pos rfl, entries_t hj hE h9, pu_B2, entries_t hj hE h9, pu_B2, f4]
      · rw [if_neg (by decide), if_neg (by decide), if_neg (by decide), if_neg (by decide), if_neg (by decide), entries_t hj hE h9, pu_B2, f5]
    | succ r ih =>
      intro k fuel hk hfu
      obtain ⟨fuel, rfl⟩ : ∃ g, fuel = g + 1 := ⟨fuel - 1, by omega⟩
      have ihk := ih (k + 1) fuel (by omega) (by omega)
      have es : hSt (fun q => σ 5 (21 + 1262 * (j) + (22 + q))) (k + 1) = if σ 5 (21 + 1262 * (j) + (22 + (3 * k + 1))) = nI 11 then σ 5 (21 + 1262 * (j) + (22 + (3 * k + 2))) else hSt (fun q => σ 5 (21 + 1262 * (j) + (22 + q))) k := rfl
      rw [es] at ihk
      show bt_X2_replayed_1 (gL4 bt_X2_replayed_1 fuel) _ _ _ _ _ = _
      generalize gL4 bt_X2_replayed_1 fuel = KK at ihk ⊢
      unfold bt_X2_replayed_1
      have e3 : 22 + 3 * k + 1 = 22 + (3 * k + 1) := by omega
      have e4 : 22 + 3 * k + 2 = 22 + (3 * k + 2) := by omega
      rw [hkept, pu_B2, if_neg (nI_ge (by omega) (by omega)), pu_mul, nI_add, nI_add, eo, pu_B2, ld5 (by omega), pu_B1, e3]
      by_cases c : σ 5 (21 + 1262 * (j) + (22 + (3 * k + 1))) = nI 11
      · rw [if_pos c] at ihk
        rw [pu_Bd, if_pos c, nI_add, eo, pu_B2, ld5 (by omega), pu_B1]
        try dsimp only
        rw [pu_Bd, nI_add, e4]
        exact ihk
      · rw [if_neg c] at ihk
        rw [pu_Bd, if_neg c]
        try dsimp only
        rw [pu_Bd, nI_add]
        exact ihk
  exact this (min 200 E) 0 20000 (by omega) (by omega)
/-- the heap grows, nothing else -/
theorem GRp.grow {mo T : Nat} {ias : Nat → Nat} {Ss : Nat → SV} {many : Nat → Nat} {fv : Nat → Option Nat} {fm : Nat → Int32} {wr im : Option Nat} {w1 : gw} {tg1 : pT} (h : GRp (k + 1) xa mo ias Ss many T fv fm wr im w tg σ) (hF : pFr w w1 tg tg1 (fun _ => False)) (hc : w1.2.1 ≤ w.2.1 + 9390) (hc2 : w1.2.2.1 ≤ w.2.2.1 + 113000) (r : Int32) : callOk k xa w tg σ (some (r, w1)) (some (r, σ)) := by
  have := h.now2 (w1 := w1) (tg1 := tg1) (s1 := σ 5) (ias1 := ias) (T1 := T) ((h.2.2.2.1.fr hF id (fun _ => id) (fun _ _ _ _ => id)).mono (Nat.mul_le_mul_right _ (by omega))) h.2.2.2.2.1 hF (fun t z => z.elim) (fun _ _ _ => rfl) (fun j _ hz => Or.inl ⟨hz, rfl⟩) hc hc2
  rw [tS_self] at this
  exact ⟨r, w1, tg1, σ, rfl, rfl, this.1, this.2.1, this.2.2⟩
theorem call_replayed (p1 p2 : Int32) (h : GRw (k + 1) xa w tg σ) : callOk k xa w tg σ (f_X0_replayed xa p1 p2 w) (t_X2_replayed p1 p2 σ) := by
  obtain ⟨mo, ias, Ss, many, T, fv, fm, wr, im, h⟩ := h
  obtain ⟨ta, va, vm, pp, du, fa, ins, fd, ff, fi, c1, c2, c3, c4, c5, c6, c7, c8, c9, c10, c11, c12, c13, c14, -⟩ := h.rd
  have hz : (nI 0 : Int32) = 0 := by decide
  have hz1 : ¬ (nI 1 : Int32) = 0 := by decide
  have hb := h.2.2.2.1.1.1
  obtain ⟨g8, g9, -⟩ := h.2.2.2.2.2.2.2
  unfold f_X0_replayed
  rw [t_X2_replayed_eq, pu_Ob c1, pu_B1]
  rcases h.isI p1 with ⟨i1, i2⟩ | ⟨j, hj, rfl, hp, i1, i2⟩
  · rw [i1, i2, pu_B2, pu_B2, if_pos hz, pu_Bd, if_pos hz]
    exact h.same _
  · obtain ⟨ia, va2, pe2, dl2, hi2, bo, un, fv2, fp2, fh2, E, ea, mc, d1, rfl, d2, d3, d4, d5, d6, d7, d8, d9, d10⟩ := h.inst hj hp
    have hfi : fi j = some (ias j) := by
      rcases c14 j hj with z | z
      · rw [hp] at z; exact absurd z.2 (by decide)
      · exact z.1
    rw [i1, i2, pu_B2, pu_B2, if_neg hz1, pu_Bd, if_neg hz1, pf_in, pt_isIn]
    by_cases hr : nI 0 ≤ p2 ∧ p2 ≤ nI 5
    · obtain ⟨p, hp5, rfl⟩ := rng (by omega) hr
      rw [if_pos hr, pu_B2, pu_B2, if_neg hz1, if_neg hz1, pu_R (k := 5) c1 rfl, pu_B1, pu_B1, pu_R (k := 2) c2 rfl, pu_B1, pu_B1, pu_LdR c3 hj (by omega), pu_B1, hfi, pu_B1, pu_Ob d1, pu_B1, f_X16_replayed_eq]
      obtain ⟨W1, e1, q1, o1, z1, b1⟩ := st_newI (w := w) (t := 0) (m := 6) (by omega) (by omega) (by omega) hb
      have hial := hb _ _ d1
      have hhil := hb _ _ d4
      obtain ⟨W, f1, l1, l2, l3, l4, l5⟩ := rep_loop (p := p) d9 (by omega) (min 200 E) 0 20000 W1 (fun _ => 0) (by omega) (by omega) b1 ((o1 _ (by omega)).trans d1) ((o1 _ (by omega)).trans d4) q1 (by omega) ⟨rfl, rfl, rfl, rfl, rfl, rfl⟩
      have hfd : hFd (fun q => σ 5 (21 + 1262 * (j) + (22 + q))) f1 (min 200 E) := by
        have e : ∀ k, k ≤ min 200 E → hSt fh2 k = hSt (fun q => σ 5 (21 + 1262 * (j) + (22 + q))) k ∧ ∀ x, hCt fh2 x k = hCt (fun q => σ 5 (21 + 1262 * (j) + (22 + q))) x k := by
          intro k
          induction k with
          | zero => intro _; exact ⟨rfl, fun _ => rfl⟩
          | succ k ih =>
            intro hk
            obtain ⟨i1, i2⟩ := ih (by omega)
            have a1 := d7 (3 * k + 1) (by omega)
            have a2 := d7 (3 * k + 2) (by omega)
            refine ⟨?_, fun x => ?_⟩
            · show (if fh2 (3 * k + 1) = nI 11 then fh2 (3 * k + 2) else hSt fh2 k) = _
              rw [a1, a2, i1]
              rfl
            · show hCt fh2 x k + (if fh2 (3 * k + 1) = nI x then 1 else 0) = _
              rw [i2 x, a1]
              rfl
        obtain ⟨y1, y2⟩ := e _ (Nat.le_refl _)
        unfold hFd at l2 ⊢
        rw [y1, y2, y2, y2, y2, y2, y2] at l2
        exact l2
      rw [e1, pu_B2, l1, pu_B2, rep_t hj (by omega) d9 d8 hfd]
      exact h.grow (tg1 := tg) ⟨l5, by rw [l4, z1]; show w.2.1 ≤ w.2.1 + 1; omega, by rw [l4, z1], fun _ _ => rfl, fun b hbl _ => (l3 b (by omega)).trans (o1 b (by omega))⟩ (by rw [l4, z1]; show w.2.1 + 1 ≤ _; omega) (by rw [l4, z1]; show w.2.2.1 + 6 ≤ _; omega) _
    · rw [if_neg hr, pu_B2, pu_B2, if_pos hz, if_pos hz]
      exact h.same _
end RP
