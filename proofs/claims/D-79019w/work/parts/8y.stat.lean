set_option maxRecDepth 100000
/-! STATISTIC: counts and quotients -/
theorem fp_t : FP.Core.b32.tails = 8388608 := by decide
theorem fp_x : FP.Core.b32.exps = 256 := by decide
theorem fp_m : FP.Core.b32.qmin = -149 := by decide
theorem fp_M : FP.Core.b32.qmax = 104 := by decide
theorem fp_p : FP.Core.b32.p = 24 := rfl
/-- the bits of a number that fits -/
theorem fp_enc {s : Bool} {c : Nat} {q : Int} (hc : c < 16777216) (hq : q ≤ 104) : ∃ e t, FP.Core.encode FP.Core.b32 (.fin s c q) = (s.toNat * 256 + e) * 8388608 + t ∧ e ≤ 254 ∧ (q ≤ 50 → e ≤ 200) ∧ t < 8388608 := by
  unfold FP.Core.encode FP.Core.assemble
  simp only [fp_t, fp_x, fp_m]
  by_cases h : c < 8388608
  · rw [if_pos h]
    exact ⟨0, c, rfl, by omega, by omega, h⟩
  · rw [if_neg h]
    exact ⟨(q - -149).toNat + 1, c - 8388608, rfl, by omega, by omega, by omega⟩
theorem fp_sb (s : Bool) : s.toNat ≤ 1 := by cases s <;> decide
/-- what rounding gives -/
theorem fp_round (s : Bool) (n d : Nat) (e : Int) : FP.Core.roundRatio FP.Core.b32 s n d e = .inf s ∨ ∃ c q, FP.Core.roundRatio FP.Core.b32 s n d e = .fin s c q ∧ c < 16777216 ∧ q ≤ 104 := by
  unfold FP.Core.roundRatio FP.Core.roundAt FP.Core.settle FP.Core.bound
  simp only [fp_t, fp_m, fp_M, fp_p]
  generalize FP.Core.nearest _ _ = c
  generalize FP.Core.quantum _ _ _ _ = q
  by_cases h0 : n = 0
  · rw [if_pos h0]
    exact Or.inr ⟨0, -149, rfl, by omega, by omega⟩
  · rw [if_neg h0]
    by_cases h1 : c < 2 ^ 24
    · rw [if_pos h1]
      by_cases h2 : q ≤ 104
      · rw [if_pos h2]
        exact Or.inr ⟨c, q, rfl, by omega, h2⟩
      · rw [if_neg h2]
        exact Or.inl rfl
    · rw [if_neg h1]
      by_cases h2 : q + 1 ≤ 104
      · rw [if_pos h2]
        exact Or.inr ⟨8388608, q + 1, rfl, by omega, h2⟩
      · rw [if_neg h2]
        exact Or.inl rfl
theorem fp_int (x : Int32) : ∃ s c q, FP.Core.decode FP.Core.b32 (FP.i2f x).toNat = .fin s c q := by
  have hx : x.toInt.natAbs < 2 ^ 32 := by
    have h1 := x.toInt_lt
    have h2 := x.le_toInt
    omega
  have hr : ∃ c q, FP.Core.roundRatio FP.Core.b32 (decide (x.toInt < 0)) x.toInt.natAbs 1 0 = .fin (decide (x.toInt < 0)) c q ∧ c < 16777216 ∧ q ≤ 50 := by
    have hq : FP.Core.quantum FP.Core.b32 x.toInt.natAbs 1 0 ≤ 40 := by
      unfold FP.Core.quantum FP.Core.leading
      simp only [fp_m, fp_p]
      have hl : (x.toInt.natAbs).log2 < 40 := by
        by_cases h0 : x.toInt.natAbs = 0
        · rw [h0]
          decide
        · rw [Nat.log2_lt h0]
          omega
      have h1 : (1 : Nat).log2 = 0 := by decide
      rw [h1]
      split <;> omega
    unfold FP.Core.roundRatio FP.Core.roundAt FP.Core.settle FP.Core.bound
    simp only [fp_t, fp_m, fp_M, fp_p]
    generalize FP.Core.nearest _ _ = c
    generalize FP.Core.quantum _ _ _ _ = q at hq
    by_cases h0 : x.toInt.natAbs = 0
    · rw [if_pos h0]
      exact ⟨0, -149, rfl, by omega, by omega⟩
    · rw [if_neg h0]
      by_cases h1 : c < 2 ^ 24
      · rw [if_pos h1, if_pos (by omega)]
        exact ⟨c, q, rfl, by omega, by omega⟩
      · rw [if_neg h1, if_pos (by omega)]
        exact ⟨8388608, q + 1, rfl, by omega, by omega⟩
  obtain ⟨c, q, h1, h2, h3⟩ := hr
  obtain ⟨e, t, h4, h5, h6, h7⟩ := fp_enc (s := decide (x.toInt < 0)) h2 (show q ≤ 104 by omega)
  have hb := fp_sb (decide (x.toInt < 0))
  have he := h6 h3
  have hn : (FP.i2f x).toNat = ((decide (x.toInt < 0)).toNat * 256 + e) * 8388608 + t := by
    show (UInt32.ofNat (FP.Core.fromInt FP.Core.b32 x.toInt)).toNat = _
    rw [UInt32.toNat_ofNat']
    show FP.Core.encode FP.Core.b32 (FP.Core.roundRatio FP.Core.b32 (decide (x.toInt < 0)) x.toInt.natAbs 1 0) % 2 ^ 32 = _
    rw [h1, h4]
    omega
  rw [hn]
  have hE : FP.Core.fieldE FP.Core.b32 (((decide (x.toInt < 0)).toNat * 256 + e) * 8388608 + t) = e := by
    unfold FP.Core.fieldE
    rw [fp_t, fp_x]
    omega
  unfold FP.Core.decode
  rw [hE, fp_x, if_neg (by omega)]
  split
  · exact ⟨_, _, _, rfl⟩
  · exact ⟨_, _, _, rfl⟩
def fp_nz (d : FP.Core.Datum) : Bool := match d with
  | .fin _ c _ => c != 0
  | _ => false
theorem nn_div {x : Int32} {k : Nat} (h1 : 1 ≤ k) (h6 : k ≤ 6) : gNn (FP.fdiv (FP.i2f x) (FP.i2f (nI k))) = some () := by
  have hy : fp_nz (FP.Core.decode FP.Core.b32 (FP.i2f (nI k)).toNat) = true := by
    have : k = 1 ∨ k = 2 ∨ k = 3 ∨ k = 4 ∨ k = 5 ∨ k = 6 := by omega
    rcases this with rfl | rfl | rfl | rfl | rfl | rfl <;> decide
  obtain ⟨s, c, q, hx⟩ := fp_int x
  obtain ⟨t, d, r, hyd⟩ := fp_int (nI k)
  rw [hyd] at hy
  have hd : d ≠ 0 := by
    intro z
    rw [z] at hy
    exact absurd hy (by simp [fp_nz])
  have hn : (FP.fdiv (FP.i2f x) (FP.i2f (nI k))).toNat = FP.Core.encode FP.Core.b32 (FP.Core.roundRatio FP.Core.b32 (s != t) c d (q - r)) % 2 ^ 32 := by
    show (UInt32.ofNat (FP.Core.div FP.Core.b32 (FP.i2f x).toNat (FP.i2f (nI k)).toNat)).toNat = _
    rw [UInt32.toNat_ofNat']
    unfold FP.Core.div
    rw [hx, hyd]
    show FP.Core.encode FP.Core.b32 (if d = 0 then (if c = 0 then .nan else .inf (s != t)) else FP.Core.roundRatio FP.Core.b32 (s != t) c d (q - r)) % 2 ^ 32 = _
    rw [if_neg hd]
  have hm : (FP.fdiv (FP.i2f x) (FP.i2f (nI k))).toNat % 2 ^ 31 ≤ 2139095040 := by
    rw [hn]
    have hb := fp_sb (s != t)
    rcases fp_round (s != t) c d (q - r) with e | ⟨c', q', e, e1, e2⟩
    · rw [e]
      simp only [FP.Core.encode, FP.Core.assemble, fp_t, fp_x]
      omega
    · obtain ⟨a, b, y1, y2, y3, y4⟩ := fp_enc (s := s != t) e1 e2
      rw [e, y1]
      omega
  unfold gNn
  refine if_pos ?_
  rw [UInt32.le_iff_toNat_le, UInt32.toNat_and]
  have e1 : (0x7fffffff : UInt32).toNat = 2 ^ 31 - 1 := by decide
  have e2 : (0x7f800000 : UInt32).toNat = 2139095040 := by decide
  rw [e1, e2, Nat.and_two_pow_sub_one_eq_mod]
  exact hm
theorem bits_eq (p : UInt32) : ∃ r, (∀ w, f_J10_floatToIntBits p w = some (r, w)) ∧ ∀ w, t_J10_floatToIntBits p w = some (r, w) := by
  have hz : (nI 0 : Int32) = 0 := by decide
  have hz1 : ¬ (nI 1 : Int32) = 0 := by decide
  by_cases h : (Op.cmpValue (FP.fcmp p p) .l) = 0
  · refine ⟨p.toInt32, fun w => ?_, fun w => ?_⟩
    · unfold f_J10_floatToIntBits f_J10_isNaN
      rw [if_pos h, pu_B2, if_pos hz]
    · unfold t_J10_floatToIntBits t_J10_isNaN
      rw [if_pos h, pu_B2, if_pos hz]
  · refine ⟨nI 2143289344, fun w => ?_, fun w => ?_⟩
    · unfold f_J10_floatToIntBits f_J10_isNaN
      rw [if_neg h, pu_B2, if_neg hz1]
    · unfold t_J10_floatToIntBits t_J10_isNaN
      rw [if_neg h, pu_B2, if_neg hz1]
def fE (s : Nat → Int32) (a : Int32) (k : Nat) : Nat := if s (21 + 1262 * (k) + 0) = nI 1 ∧ s (21 + 1262 * (k) + 2) = a ∧ (s (21 + 1262 * (k) + 1) = nI 1 ∨ s (21 + 1262 * (k) + 1) = nI 3 ∨ s (21 + 1262 * (k) + 1) = nI 4) then 1 else 0
def dSm (s : Nat → Int32) (a : Int32) : Nat → Int32
  | 0 => nI 0
  | k + 1 => dSm s a k + (if s (21 + 1262 * (k) + 0) = nI 1 ∧ s (21 + 1262 * (k) + 2) = a ∧ (s (21 + 1262 * (k) + 1) = nI 1 ∨ s (21 + 1262 * (k) + 1) = nI 3 ∨ s (21 + 1262 * (k) + 1) = nI 4) then s (21 + 1262 * (k) + 5) - s (21 + 1262 * (k) + 4) else nI 0)
theorem fE_sum (s : Nat → Int32) (a : Int32) : ∀ n, pSum (fE s a) n = pSum (fW s a (nI 1)) n + pSum (fW s a (nI 3)) n + pSum (fW s a (nI 4)) n := by
  intro n
  induction n with
  | zero => rfl
  | succ n ih =>
    have e : ∀ f : Nat → Nat, pSum f (n + 1) = pSum f n + f n := fun _ => rfl
    rw [e, e, e, e, ih]
    have : fE s a n = fW s a (nI 1) n + fW s a (nI 3) n + fW s a (nI 4) n := by
      have d1 : ¬ (nI 1 : Int32) < 0 := by decide
      have d3 : ¬ (nI 3 : Int32) < 0 := by decide
      have d4 : ¬ (nI 4 : Int32) < 0 := by decide
      have d13 : ¬ (nI 1 : Int32) = nI 3 := by decide
      have d14 : ¬ (nI 1 : Int32) = nI 4 := by decide
      have d34 : ¬ (nI 3 : Int32) = nI 4 := by decide
      unfold fE fW
      by_cases h1 : s (21 + 1262 * (n) + 0) = nI 1
      · by_cases h2 : s (21 + 1262 * (n) + 2) = a
        · by_cases h3 : s (21 + 1262 * (n) + 1) = nI 1
          · rw [if_pos ⟨h1, h2, Or.inl h3⟩, if_pos ⟨h1, h2, Or.inr h3⟩, if_neg (fun z => z.2.2.elim d3 (fun y => d13 (h3.symm.trans y))), if_neg (fun z => z.2.2.elim d4 (fun y => d14 (h3.symm.trans y)))]
          · by_cases h4 : s (21 + 1262 * (n) + 1) = nI 3
            · rw [if_pos ⟨h1, h2, Or.inr (Or.inl h4)⟩, if_neg (fun z => z.2.2.elim d1 h3), if_pos ⟨h1, h2, Or.inr h4⟩, if_neg (fun z => z.2.2.elim d4 (fun y => d34 (h4.symm.trans y)))]
            · by_cases h5 : s (21 + 1262 * (n) + 1) = nI 4
              · rw [if_pos ⟨h1, h2, Or.inr (Or.inr h5)⟩, if_neg (fun z => z.2.2.elim d1 h3), if_neg (fun z => z.2.2.elim d3 h4), if_pos ⟨h1, h2, Or.inr h5⟩]
              · rw [if_neg (fun z => z.2.2.elim h3 (fun y => y.elim h4 h5)), if_neg (fun z => z.2.2.elim d1 h3), if_neg (fun z => z.2.2.elim d3 h4), if_neg (fun z => z.2.2.elim d4 h5)]
        · rw [if_neg (fun z => h2 z.2.1), if_neg (fun z => h2 z.2.1), if_neg (fun z => h2 z.2.1), if_neg (fun z => h2 z.2.1)]
      · rw [if_neg (fun z => h1 z.1), if_neg (fun z => h1 z.1), if_neg (fun z => h1 z.1), if_neg (fun z => h1 z.1)]
    omega
section SX
variable {k xa mo : Nat} {w : gw} {tg : pT} {σ : TS} {ias : Nat → Nat} {Ss : Nat → SV} {many : Nat → Nat} {T : Nat} {fv : Nat → Option Nat} {fm : Nat → Int32} {wr im : Option Nat}
theorem isI_t {j : Nat} (hj : j < 6) : t_X2_isInstance (nI j) σ = some (if σ 5 (21 + 1262 * (j) + 0) = nI 1 then nI 1 else nI 0, σ) := by
  have hz1 : ¬ (nI 1 : Int32) = 0 := by decide
  have e0 : ∀ w : TS, t_X2_of (nI j) (nI 0) w = _ := fun w => pt_of w
  unfold t_X2_isInstance
  rw [pt_isIn, if_pos (rng' (by omega) (by omega)), pu_B2, pu_Bd, if_neg hz1, e0, pu_B2, ld5 (by omega), pu_B1]
  by_cases h : σ 5 (21 + 1262 * (j) + 0) = nI 1
  · rw [if_pos h, if_pos h]
  · rw [if_neg h, if_neg h]
theorem isOf_f (h : GRp k xa mo ias Ss many T fv fm wr im w tg σ) {j : Nat} (hj : j < 6) (a : Int32) : f_X0_isOf xa (nI j) a w = some (if σ 5 (21 + 1262 * (j) + 0) = nI 1 ∧ σ 5 (21 + 1262 * (j) + 2) = a then nI 1 else nI 0, w) := by
  obtain ⟨ta, va, vm, pp, du, fa, ins, fd, ff, fi, c1, c2, c3, c4, c5, c6, c7, c8, c9, c10, c11, c12, c13, c14, -⟩ := h.rd
  unfold f_X0_isOf
  rw [pu_R (k := 5) c1 rfl, pu_B1, pu_B1, pu_R (k := 2) c2 rfl, pu_B1, pu_B1, pu_LdR c3 hj (by omega), pu_B1, pu_Bd]
  rcases c14 j hj with ⟨z1, z2⟩ | ⟨z1, z2⟩
  · rw [z1, pu_Nn, if_neg (fun z => by rw [z2] at z; exact absurd z.1 (by decide))]
  · obtain ⟨ia, va2, pe2, dl2, hi2, bo, un, fv2, fp2, fh2, E, ea, mc, d1, rfl, -⟩ := h.inst hj z2
    rw [z1, pu_Ns, pu_B1, pu_B1, pu_R (k := 2) c2 rfl, pu_B1, pu_B1, pu_LdR c3 hj (by omega), pu_B1, z1, pu_B1, pu_I (k := 1) d1 rfl, pu_B1]
    by_cases ha : σ 5 (21 + 1262 * (j) + 2) = a
    · rw [if_pos ha, if_pos ⟨z2, ha⟩]
    · rw [if_neg ha, if_neg (fun z => ha z.2)]
theorem with_f (h : GRp k xa mo ias Ss many T fv fm wr im w tg σ) (a p : Int32) : f_X0_withStatus xa a p w = some (nI (pSum (fW (σ 5) a p) 6), w) := by
  obtain ⟨ta, va, vm, pp, du, fa, ins, fd, ff, fi, c1, c2, c3, c4, c5, c6, c7, c8, c9, c10, c11, c12, c13, c14, -⟩ := h.rd
  rw [f_X0_withStatus_eq]
  have : ∀ r j fuel, j + r = 6 → r < fuel → gL4 (bf_X0_withStatus_1 xa) fuel a p (nI (pSum (fW (σ 5) a p) j)) (nI j) w = some (nI (pSum (fW (σ 5) a p) 6), w) := by
    intro r
    induction r with
    | zero =>
      intro j fuel hj hf
      obtain ⟨fuel, rfl⟩ : ∃ g, fuel = g + 1 := ⟨fuel - 1, by omega⟩
      obtain rfl : j = 6 := by omega
      show bf_X0_withStatus_1 xa (gL4 (bf_X0_withStatus_1 xa) fuel) _ _ _ _ _ = _
      generalize gL4 (bf_X0_withStatus_1 xa) fuel = KK
      unfold bf_X0_withStatus_1
      rw [if_pos (nI_le (Nat.le_refl _) (by omega))]
    | succ r ih =>
      intro j fuel hj hf
      obtain ⟨fuel, rfl⟩ : ∃ g, fuel = g + 1 := ⟨fuel - 1, by omega⟩
      have ihj := ih (j + 1) fuel (by omega) (by omega)
      have hs : pSum (fW (σ 5) a p) (j + 1) = pSum (fW (σ 5) a p) j + fW (σ 5) a p j := rfl
      rw [hs] at ihj
      show bf_X0_withStatus_1 xa (gL4 (bf_X0_withStatus_1 xa) fuel) _ _ _ _ _ = _
      generalize gL4 (bf_X0_withStatus_1 xa) fuel = KK at ihj ⊢
      have j6 : j < 6 := by omega
      have hz : (nI 0 : Int32) = 0 := by decide
      have hz1 : ¬ (nI 1 : Int32) = 0 := by decide
      have fin0 : fW (σ 5) a p j = 0 → KK a p (nI (pSum (fW (σ 5) a p) j) + nI 0) (nI j + nI 1) w = some (nI (pSum (fW (σ 5) a p) 6), w) := fun hf0 => by
        rw [nI_add, nI_add]
        rw [hf0] at ihj
        exact ihj
      have fin1 : fW (σ 5) a p j = 1 → KK a p (nI (pSum (fW (σ 5) a p) j) + nI 1) (nI j + nI 1) w = some (nI (pSum (fW (σ 5) a p) 6), w) := fun hf0 => by
        rw [nI_add, nI_add]
        rw [hf0] at ihj
        exact ihj
      unfold bf_X0_withStatus_1
      rw [if_neg (nI_ge j6 (by omega)), pu_Ob c1, pu_B1, isOf_f h j6, pu_B2, pu_Bd, pu_Bd]
      by_cases hc : σ 5 (21 + 1262 * (j) + 0) = nI 1 ∧ σ 5 (21 + 1262 * (j) + 2) = a
      · rw [if_pos hc, if_neg hz1, pu_Bd]
        by_cases hp0 : p < 0
        · rw [if_pos hp0]
          try dsimp only
          rw [bit_1, pu_B2, pu_Bd, pu_Bd]
          exact fin1 (by unfold fW; rw [if_pos ⟨hc.1, hc.2, Or.inl hp0⟩])
        · obtain ⟨ia, va2, pe2, dl2, hi2, bo, un, fv2, fp2, fh2, E, ea, mc, d1, rfl, -⟩ := h.inst j6 hc.1
          have hfi : fi j = some (ias j) := by
            rcases c14 j j6 with y | y
            · rw [hc.1] at y; exact absurd y.2 (by decide)
            · exact y.1
          rw [if_neg hp0, pu_R (k := 5) c1 rfl, pu_B1, pu_B1, pu_R (k := 2) c2 rfl, pu_B1, pu_B1, pu_LdR c3 j6 (by omega), pu_B1, hfi, pu_B1, pu_I (k := 9) d1 rfl, pu_B1]
          by_cases hq : σ 5 (21 + 1262 * (j) + 1) = p
          · rw [if_pos hq]
            try dsimp only
            rw [bit_1, pu_B2, pu_Bd, pu_Bd]
            exact fin1 (by unfold fW; rw [if_pos ⟨hc.1, hc.2, Or.inr hq⟩])
          · rw [if_neg hq]
            try dsimp only
            rw [bit_0, pu_B2, pu_Bd, pu_Bd]
            exact fin0 (by unfold fW; rw [if_neg (fun z => z.2.2.elim hp0 hq)])
      · rw [if_neg hc, if_pos hz]
        try dsimp only
        rw [bit_0, pu_B2, pu_Bd, pu_Bd]
        exact fin0 (by unfold fW; rw [if_neg (fun z => hc ⟨z.1, z.2.1⟩)])
  exact this 6 0 20000 (by omega) (by omega)
/-- how an instance stands, by its rows alone -/
theorem GRp.st (h : GRp k xa mo ias Ss many T fv fm wr im w tg σ) {j : Nat} (hj : j < 6) (hp : σ 5 (21 + 1262 * (j) + 0) = nI 1) : ((σ 5 (21 + 1262 * (j) + 1) = nI 0 ∨ σ 5 (21 + 1262 * (j) + 1) = nI 2) ∧ σ 5 (21 + 1262 * (j) + 5) = -5) ∨ ((σ 5 (21 + 1262 * (j) + 1) = nI 1 ∨ σ 5 (21 + 1262 * (j) + 1) = nI 3 ∨ σ 5 (21 + 1262 * (j) + 1) = nI 4) ∧ ∃ t, t ≤ 100300 ∧ σ 5 (21 + 1262 * (j) + 5) = nI t) := by
  obtain ⟨a, b, bo, un, h1, h2, h3, h4, h5, h6, h7, h8, -⟩ := h.2.2.2.1.get hj hp
  rcases h8 with ⟨z1, z2, z3, -⟩ | ⟨z1, z2, z3, -⟩ | ⟨z1, -, -, -, z2⟩
  · exact Or.inl ⟨Or.inl z1, z3⟩
  · exact Or.inl ⟨Or.inr z1, z3⟩
  · exact Or.inr ⟨z1, z2⟩
theorem ratio_f (h : GRp k xa mo ias Ss many T fv fm wr im w tg σ) (a m : Int32) (hm : m = nI 0 ∨ m = nI 1) {r : Int32} (hr : pSum (fE (σ 5) a) 6 ≠ 0 → ∀ w, f_J10_floatToIntBits (FP.fdiv (FP.i2f (if m = nI 1 then dSm (σ 5) a 6 else nI (pSum (fW (σ 5) a (nI 1)) 6))) (FP.i2f (nI (pSum (fE (σ 5) a) 6)))) w = some (r, w)) : f_X0_ratio xa a m w = some (if pSum (fE (σ 5) a) 6 = 0 then -5 else r, w) := by
  obtain ⟨ta, va, vm, pp, du, fa, ins, fd, ff, fi, c1, c2, c3, c4, c5, c6, c7, c8, c9, c10, c11, c12, c13, c14, -⟩ := h.rd
  rw [f_X0_ratio_eq]
  have hz : (nI 0 : Int32) = 0 := by decide
  have hz1 : ¬ (nI 1 : Int32) = 0 := by decide
  have hb6 : pSum (fE (σ 5) a) 6 ≤ 6 := pSum_b (fun k => by unfold fE; split <;> omega) 6
  have : ∀ n j fuel, j + n = 6 → n < fuel → gL5 (bf_X0_ratio_1 xa) fuel a m (nI (pSum (fE (σ 5) a) j)) (dSm (σ 5) a j) (nI j) w = some (if pSum (fE (σ 5) a) 6 = 0 then -5 else r, w) := by
    intro n
    induction n with
    | zero =>
      intro j fuel hj hf
      obtain ⟨fuel, rfl⟩ : ∃ g, fuel = g + 1 := ⟨fuel - 1, by omega⟩
      obtain rfl : j = 6 := by omega
      show bf_X0_ratio_1 xa (gL5 (bf_X0_ratio_1 xa) fuel) _ _ _ _ _ _ = _
      generalize gL5 (bf_X0_ratio_1 xa) fuel = KK
      unfold bf_X0_ratio_1
      rw [if_pos (nI_le (Nat.le_refl _) (by omega))]
      by_cases h0 : pSum (fE (σ 5) a) 6 = 0
      · rw [h0, if_pos hz, if_pos rfl]
      · have hne : ¬ nI (pSum (fE (σ 5) a) 6) = 0 := nI_ne0 (by omega) (by omega)
        rw [if_neg hne, if_neg h0, pu_Bd]
        rcases hm with rfl | rfl
        · rw [if_pos hz, pu_Ob c1, pu_B1, with_f h, pu_B2]
          have := hr h0 w
          rw [if_neg (by decide)] at this
          try dsimp only
          rw [nn_div (by omega) hb6, pu_B1, this, pu_B2]
        · rw [if_neg hz1]
          have := hr h0 w
          rw [if_pos rfl] at this
          try dsimp only
          rw [nn_div (by omega) hb6, pu_B1, this, pu_B2]
    | succ n ih =>
      intro j fuel hj hf
      obtain ⟨fuel, rfl⟩ : ∃ g, fuel = g + 1 := ⟨fuel - 1, by omega⟩
      have ihj := ih (j + 1) fuel (by omega) (by omega)
      have hs : pSum (fE (σ 5) a) (j + 1) = pSum (fE (σ 5) a) j + fE (σ 5) a j := rfl
      have hs2 : dSm (σ 5) a (j + 1) = dSm (σ 5) a j + (if σ 5 (21 + 1262 * (j) + 0) = nI 1 ∧ σ 5 (21 + 1262 * (j) + 2) = a ∧ (σ 5 (21 + 1262 * (j) + 1) = nI 1 ∨ σ 5 (21 + 1262 * (j) + 1) = nI 3 ∨ σ 5 (21 + 1262 * (j) + 1) = nI 4) then σ 5 (21 + 1262 * (j) + 5) - σ 5 (21 + 1262 * (j) + 4) else nI 0) := rfl
      rw [hs, hs2] at ihj
      show bf_X0_ratio_1 xa (gL5 (bf_X0_ratio_1 xa) fuel) _ _ _ _ _ _ = _
      generalize gL5 (bf_X0_ratio_1 xa) fuel = KK at ihj ⊢
      have j6 : j < 6 := by omega
      unfold fE at ihj
      have fin0 : ¬ (σ 5 (21 + 1262 * (j) + 0) = nI 1 ∧ σ 5 (21 + 1262 * (j) + 2) = a ∧ (σ 5 (21 + 1262 * (j) + 1) = nI 1 ∨ σ 5 (21 + 1262 * (j) + 1) = nI 3 ∨ σ 5 (21 + 1262 * (j) + 1) = nI 4)) → KK a m (nI (pSum (fE (σ 5) a) j)) (dSm (σ 5) a j) (nI j + nI 1) w = some (if pSum (fE (σ 5) a) 6 = 0 then -5 else r, w) := fun hc => by
        rw [if_neg hc, if_neg hc, Nat.add_zero, hz, Int32.add_zero] at ihj
        rw [nI_add]
        exact ihj
      unfold bf_X0_ratio_1
      rw [if_neg (nI_ge j6 (by omega)), pu_Ob c1, pu_B1, isOf_f h j6, pu_B2, pu_Bd]
      by_cases hc : σ 5 (21 + 1262 * (j) + 0) = nI 1 ∧ σ 5 (21 + 1262 * (j) + 2) = a
      · obtain ⟨ia, va2, pe2, dl2, hi2, bo, un, fv2, fp2, fh2, E, ea, mc, d1, rfl, -⟩ := h.inst j6 hc.1
        have hfi : fi j = some (ias j) := by
          rcases c14 j j6 with y | y
          · rw [hc.1] at y; exact absurd y.2 (by decide)
          · exact y.1
        rw [if_pos hc, if_neg hz1, pu_R (k := 5) c1 rfl, pu_B1, pu_B1, pu_R (k := 2) c2 rfl, pu_B1, pu_B1, pu_LdR c3 j6 (by omega), pu_B1, hfi, pu_B1, pu_Ob d1, pu_B1]
        unfold f_X16_hasEnded
        rw [pu_I (k := 9) d1 rfl, pu_B1, pu_Bd]
        rcases h.st j6 hc.1 with ⟨z1, z2⟩ | ⟨z1, t, z2, z3⟩
        · have hno : ¬ (σ 5 (21 + 1262 * (j) + 0) = nI 1 ∧ σ 5 (21 + 1262 * (j) + 2) = a ∧ (σ 5 (21 + 1262 * (j) + 1) = nI 1 ∨ σ 5 (21 + 1262 * (j) + 1) = nI 3 ∨ σ 5 (21 + 1262 * (j) + 1) = nI 4)) := fun z => by
            rcases z1 with y | y
            · rw [y] at z
              exact absurd z.2.2 (by decide)
            · rw [y] at z
              exact absurd z.2.2 (by decide)
          rcases z1 with y | y
          · rw [y, if_pos hz, pu_B2, if_pos hz]
            try dsimp only
            rw [pu_Bd]
            exact fin0 hno
          · rw [y, if_neg (by decide), pu_B1, if_pos rfl, pu_B2, if_pos hz]
            try dsimp only
            rw [pu_Bd]
            exact fin0 hno
        · have hyes : σ 5 (21 + 1262 * (j) + 0) = nI 1 ∧ σ 5 (21 + 1262 * (j) + 2) = a ∧ (σ 5 (21 + 1262 * (j) + 1) = nI 1 ∨ σ 5 (21 + 1262 * (j) + 1) = nI 3 ∨ σ 5 (21 + 1262 * (j) + 1) = nI 4) := ⟨hc.1, hc.2, z1⟩
          have n0 : ¬ σ 5 (21 + 1262 * (j) + 1) = 0 := by rcases z1 with y | y | y <;> (rw [y]; decide)
          have n2 : ¬ σ 5 (21 + 1262 * (j) + 1) = nI 2 := by rcases z1 with y | y | y <;> (rw [y]; decide)
          rw [if_neg n0, pu_B1, if_neg n2, pu_B2, if_neg hz1, pu_Bd, pu_R (k := 5) c1 rfl, pu_B1, pu_B1, pu_R (k := 2) c2 rfl, pu_B1, pu_B1, pu_LdR c3 j6 (by omega), pu_B1, hfi, pu_B1, pu_I (k := 10) d1 rfl, pu_B1, pu_B1, pu_B1, pu_R (k := 2) c2 rfl, pu_B1, pu_B1, pu_LdR c3 j6 (by omega), pu_B1, hfi, pu_B1, pu_I (k := 3) d1 rfl, pu_B1, pu_Bd]
          try dsimp only
          rw [pu_Bd, nI_add, nI_add]
          rw [if_pos hyes, if_pos hyes] at ihj
          exact ihj
      · rw [if_neg hc, if_pos hz]
        try dsimp only
        rw [pu_Bd]
        exact fin0 (fun z => hc ⟨z.1, z.2.1⟩)
  exact this 6 0 20000 (by omega) (by omega)
theorem ratio_t (h : GRp (k + 1) xa mo ias Ss many T fv fm wr im w tg σ) (a p : Int32) {X : Nat} {r : Int32} (hX1 : 1 ≤ X) (hX6 : X ≤ 6) (hr : ∀ w, t_J10_floatToIntBits (FP.fdiv (FP.i2f (if p = nI 6 then dSm (σ 5) a 6 else nI (pSum (fW (σ 5) a (nI 1)) 6))) (FP.i2f (nI X))) w = some (r, w)) : gL5 bt_X2_statistic_1 20000 a p (nI X) (nI 0) (nI 0) σ = some (r, σ) := by
  have hz : (nI 0 : Int32) = 0 := by decide
  have hz1 : ¬ (nI 1 : Int32) = 0 := by decide
  have eo : ∀ (j q : Nat) (w : TS), t_X2_of (nI j) (nI q) w = some (nI (21 + 1262 * (j) + q), w) := fun j q w => pt_of w
  have : ∀ n j fuel, j + n = 6 → n < fuel → gL5 bt_X2_statistic_1 fuel a p (nI X) (dSm (σ 5) a j) (nI j) σ = some (r, σ) := by
    intro n
    induction n with
    | zero =>
      intro j fuel hj hf
      obtain ⟨fuel, rfl⟩ : ∃ g, fuel = g + 1 := ⟨fuel - 1, by omega⟩
      obtain rfl : j = 6 := by omega
      show bt_X2_statistic_1 (gL5 bt_X2_statistic_1 fuel) _ _ _ _ _ _ = _
      generalize gL5 bt_X2_statistic_1 fuel = KK
      unfold bt_X2_statistic_1
      rw [if_pos (nI_le (Nat.le_refl _) (by omega)), pu_Bd]
      have := hr σ
      by_cases hp : p = nI 6
      · rw [if_pos hp] at this ⊢
        try dsimp only
        rw [nn_div hX1 hX6, pu_B1, this, pu_B2]
      · rw [if_neg hp] at this ⊢
        rw [of_t h, pu_B2]
        try dsimp only
        rw [nn_div hX1 hX6, pu_B1, this, pu_B2]
    | succ n ih =>
      intro j fuel hj hf
      obtain ⟨fuel, rfl⟩ : ∃ g, fuel = g + 1 := ⟨fuel - 1, by omega⟩
      have ihj := ih (j + 1) fuel (by omega) (by omega)
      have hs2 : dSm (σ 5) a (j + 1) = dSm (σ 5) a j + (if σ 5 (21 + 1262 * (j) + 0) = nI 1 ∧ σ 5 (21 + 1262 * (j) + 2) = a ∧ (σ 5 (21 + 1262 * (j) + 1) = nI 1 ∨ σ 5 (21 + 1262 * (j) + 1) = nI 3 ∨ σ 5 (21 + 1262 * (j) + 1) = nI 4) then σ 5 (21 + 1262 * (j) + 5) - σ 5 (21 + 1262 * (j) + 4) else nI 0) := rfl
      rw [hs2] at ihj
      show bt_X2_statistic_1 (gL5 bt_X2_statistic_1 fuel) _ _ _ _ _ _ = _
      generalize gL5 bt_X2_statistic_1 fuel = KK at ihj ⊢
      have j6 : j < 6 := by omega
      have fin0 : ¬ (σ 5 (21 + 1262 * (j) + 0) = nI 1 ∧ σ 5 (21 + 1262 * (j) + 2) = a ∧ (σ 5 (21 + 1262 * (j) + 1) = nI 1 ∨ σ 5 (21 + 1262 * (j) + 1) = nI 3 ∨ σ 5 (21 + 1262 * (j) + 1) = nI 4)) → KK a p (nI X) (dSm (σ 5) a j + nI 0) (nI j + nI 1) σ = some (r, σ) := fun hc => by
        rw [if_neg hc] at ihj
        rw [nI_add]
        exact ihj
      unfold bt_X2_statistic_1
      rw [if_neg (nI_ge j6 (by omega)), isI_t j6, pu_B2, pu_Bd, pu_Bd]
      by_cases hp : σ 5 (21 + 1262 * (j) + 0) = nI 1
      · rw [if_pos hp, if_neg hz1, eo, pu_B2, ld5 (by omega), pu_B1]
        by_cases ha : σ 5 (21 + 1262 * (j) + 2) = a
        · rw [if_pos ha, eo, pu_B2, ld5 (by omega), pu_B1]
          rcases h.st j6 hp with ⟨z1, z2⟩ | ⟨z1, t, z2, z3⟩
          · have hno : ¬ (σ 5 (21 + 1262 * (j) + 0) = nI 1 ∧ σ 5 (21 + 1262 * (j) + 2) = a ∧ (σ 5 (21 + 1262 * (j) + 1) = nI 1 ∨ σ 5 (21 + 1262 * (j) + 1) = nI 3 ∨ σ 5 (21 + 1262 * (j) + 1) = nI 4)) := fun z => by
              rcases z1 with y | y
              · rw [y] at z
                exact absurd z.2.2 (by decide)
              · rw [y] at z
                exact absurd z.2.2 (by decide)
            rw [z2, if_pos (by decide)]
            try dsimp only
            rw [pu_Bd, if_pos hz]
            try dsimp only
            rw [pu_Bd, pu_Bd]
            exact fin0 hno
          · have hyes : σ 5 (21 + 1262 * (j) + 0) = nI 1 ∧ σ 5 (21 + 1262 * (j) + 2) = a ∧ (σ 5 (21 + 1262 * (j) + 1) = nI 1 ∨ σ 5 (21 + 1262 * (j) + 1) = nI 3 ∨ σ 5 (21 + 1262 * (j) + 1) = nI 4) := ⟨hp, ha, z1⟩
            have hneg : ¬ σ 5 (21 + 1262 * (j) + 5) < 0 := by
              rw [z3]
              exact nI_pos (by omega)
            rw [if_neg hneg]
            try dsimp only
            rw [pu_Bd, if_neg hz1, eo, pu_B2, ld5 (by omega), pu_B1, eo, pu_B2, ld5 (by omega), pu_B1]
            try dsimp only
            rw [pu_Bd, pu_Bd, nI_add]
            rw [if_pos hyes] at ihj
            exact ihj
        · rw [if_neg ha]
          try dsimp only
          rw [pu_Bd, if_pos hz]
          try dsimp only
          rw [pu_Bd, pu_Bd]
          exact fin0 (fun z => ha z.2.1)
      · rw [if_neg hp, if_pos hz]
        try dsimp only
        rw [pu_Bd, if_pos hz]
        try dsimp only
        rw [pu_Bd, pu_Bd]
        exact fin0 (fun z => hp z.1)
  exact this 6 0 20000 (by omega) (by omega)
theorem call_statistic (p1 p2 : Int32) (h : GRw (k + 1) xa w tg σ) : callOk k xa w tg σ (f_X0_statistic xa p1 p2 w) (t_X2_statistic p1 p2 σ) := by
  obtain ⟨mo, ias, Ss, many, T, fv, fm, wr, im, h⟩ := h
  obtain ⟨ta, va, vm, pp, du, fa, ins, fd, ff, fi, c1, c2, c3, c4, c5, c6, c7, c8, c9, c10, c11, c12, c13, c14, -⟩ := h.rd
  have hz : (nI 0 : Int32) = 0 := by decide
  have hz1 : ¬ (nI 1 : Int32) = 0 := by decide
  unfold f_X0_statistic
  rw [t_X2_statistic_eq, isWf_f, isWf_t, pu_B2, pu_B2]
  by_cases hr : nI 0 ≤ p1 ∧ p1 ≤ nI 3
  · rw [if_pos hr, if_neg hz1, if_neg hz1, pf_in, pt_isIn]
    by_cases hr2 : nI 0 ≤ p2 ∧ p2 ≤ nI 7
    · obtain ⟨q, hq, rfl⟩ := rng (by omega) hr2
      rw [if_pos hr2, pu_B2, pu_B2, if_neg hz1, if_neg hz1]
      by_cases h6 : 6 ≤ q
      · rw [if_pos (nI_le h6 (by omega)), if_pos (nI_le h6 (by omega)), of_t h, pu_B2, of_t h, pu_B2, of_t h, pu_B2, nI_add, nI_add, ← fE_sum, pu_Bd]
        have hb6 : pSum (fE (σ 5) p1) 6 ≤ 6 := pSum_b (fun k => by unfold fE; split <;> omega) 6
        obtain ⟨r, hr1, hr2⟩ := bits_eq (FP.fdiv (FP.i2f (if nI q = nI 6 then dSm (σ 5) p1 6 else nI (pSum (fW (σ 5) p1 (nI 1)) 6))) (FP.i2f (nI (pSum (fE (σ 5) p1) 6))))
        have hf : ∀ m : Int32, (m = nI 0 ∨ m = nI 1) → (m = nI 1 ↔ nI q = nI 6) → f_X0_ratio xa p1 m w = some (if pSum (fE (σ 5) p1) 6 = 0 then -5 else r, w) := fun m hm hmq => by
          refine ratio_f h p1 m hm (fun _ w => ?_)
          by_cases hq6 : nI q = nI 6
          · rw [if_pos (hmq.mpr hq6)]
            rw [if_pos hq6] at hr1
            exact hr1 w
          · rw [if_neg (fun z => hq6 (hmq.mp z))]
            rw [if_neg hq6] at hr1
            exact hr1 w
        have hft : ∀ res, res = (if pSum (fE (σ 5) p1) 6 = 0 then (-5 : Int32) else r) → callOk k xa w tg σ (some (res, w)) (if nI (pSum (fE (σ 5) p1) 6) = 0 then some (-5, σ) else gL5 bt_X2_statistic_1 20000 p1 (nI q) (nI (pSum (fE (σ 5) p1) 6)) (nI 0) (nI 0) σ) := fun res hres => by
          by_cases h0 : pSum (fE (σ 5) p1) 6 = 0
          · rw [if_pos h0] at hres
            rw [h0, if_pos hz, hres]
            exact h.same _
          · rw [if_neg h0] at hres
            rw [if_neg (nI_ne0 (by omega) (by omega)), ratio_t h p1 (nI q) (by omega) hb6 hr2, hres]
            exact h.same _
        rw [pu_Bd]
        by_cases hq6 : nI q = nI 6
        · rw [if_pos hq6]
          try dsimp only
          rw [pu_B1, pu_Ob c1, pu_B1, hf (nI 1) (Or.inr rfl) ⟨fun _ => hq6, fun _ => rfl⟩, pu_B2]
          exact hft _ rfl
        · rw [if_neg hq6]
          try dsimp only
          rw [pu_B1, pu_Ob c1, pu_B1, hf (nI 0) (Or.inl rfl) ⟨fun z => absurd z (by decide), fun z => absurd z hq6⟩, pu_B2]
          exact hft _ rfl
      · rw [if_neg (nI_ge (by omega) (by omega)), if_neg (nI_ge (by omega) (by omega)), pu_Bd, pu_Bd]
        by_cases h5 : q = 5
        · subst h5
          rw [if_pos rfl, if_pos (nI_le (Nat.le_refl _) (by omega))]
          try dsimp only
          rw [pu_B1, pu_Ob c1, pu_B1, with_f h, pu_B2, of_t h, pu_B2]
          exact h.same _
        · rw [if_neg (fun z => h5 ((nI_eq (by omega) (by omega)).mp z)), if_neg (nI_ge (by omega) (by omega))]
          try dsimp only
          rw [pu_B1, pu_Ob c1, pu_B1, with_f h, pu_B2, of_t h, pu_B2]
          exact h.same _
    · rw [if_neg hr2, pu_B2, pu_B2, if_pos hz, if_pos hz]
      exact h.same _
  · rw [if_neg hr, if_pos hz, if_pos hz]
    exact h.same _
end SX
