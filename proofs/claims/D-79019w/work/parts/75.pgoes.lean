set_option maxRecDepth 100000
/-! A PARALLEL's RUN: a look at one that runs and goes on -/
section PG
variable {S : SV} {σ : TS} {xa mo ia i ver T : Nat} {bo un : Option Nat}
theorem par_disp {n a ba oa D : Nat} {und : Option Nat} {ptr out : Nat → Option Nat} {w : gw} {tg : pT} (hc : pCell S xa ia n a ba oa und ptr out w tg) : f_Run_looks (D + 1) a w = f_X22_looks (f_Run_looks D) a w := by
  show f_Run_looks_s (f_Run_looks D) a w = _
  unfold f_Run_looks_s
  rw [pu_Cls hc.2.1]
  rfl
theorem par_disp_t {n B : Nat} {w : gw} {tg : pT} {s : Nat → Int32} {rec : Int32 → Int32 → TS → Option (Int32 × TS)} (hW : pW S σ xa mo ia i ver T w tg s B bo un) (hnn : n < sEn S 0) (hk6 : sKd S n = 6) : t_X2_looks rec (nI i) (nI n) (tS σ s) = t_X2_looksAtParallel rec (nI i) (nI n) (tS σ s) := by
  have hid : ∀ r : Option (Int32 × TS), (gB2 r fun x25 w24 => some (x25, w24)) = r := by
    intro r
    cases r with
    | none => rfl
    | some q => rfl
  have h0 : t_X2_nodePart (nI i) (nI n) (nI 0) (tS σ s) = some (nI (sKd S n), tS σ s) := by
    rw [hW.np hnn (by omega), (hW.1.2.2.1.2.2.2.2.2 n hnn).1.2.2.1]
  rw [hk6] at h0
  unfold t_X2_looks
  rw [h0, pu_B2, if_neg (by decide), if_neg (by decide), if_neg (by decide), if_neg (by decide), if_neg (by decide), hid]
/-- a parallel's relation, running, out of its cells and bodies -/
theorem par_rI {n a ba oa l q0 dd rr : Nat} {ptr out : Nat → Option Nat} {w : gw} {tg : pT} {s : Nat → Int32} (hk6 : sKd S n = 6) (hc : pCell S xa ia n a ba oa none ptr out w tg) (hK : ∀ j, j < sCc S n → pKid S xa ia i l w tg s T true n ptr out j) (hst : s (21 + 1262 * (i) + (622 + 10 * (n) + 0)) = nI 1) (h7 : s (21 + 1262 * (i) + (622 + 10 * (n) + 7)) = -1) (hP : sP S n 1 = nI q0) (hd : rCount S i s n 2 (sCc S n) = dd) (hr : rCount S i s n 1 (sCc S n) = rr) (hdq : dd < q0) (hqr : q0 ≤ dd + rr) : rI S xa ia i w tg s T true (l + 1) n a := by
  obtain ⟨a1, a2, a3, a4, a5, a6⟩ := hc
  show rItem S xa ia i w tg s T true (rB S xa ia i w tg s T true l) n a
  refine Or.inr (Or.inr (Or.inr (Or.inr (Or.inr ⟨hk6, a1, ba, oa, none, ptr, out, a2, a3, a4, a5, a6, fun k hk => ?_, fun _ k hk => ?_, fun _ => ⟨rfl, h7, q0, dd, rr, hP, hdq, hqr, hd.symm, hr.symm⟩, fun z => ?_, fun ua z => ?_, fun z => absurd (Or.inl hst) z⟩))))
  · obtain ⟨a', y1, y2, y3⟩ := hK k hk
    refine Or.inr ⟨?_, a', y1, y2⟩
    rcases y3 with z | z | z
    · exact Or.inl z.1
    · exact Or.inr (Or.inl z.1)
    · exact Or.inr (Or.inr z.1)
  · obtain ⟨a', y1, y2, y3⟩ := hK k hk
    exact y3
  · exact absurd (hst.symm.trans z) (by decide)
  · exact absurd z (by simp)
end PG
