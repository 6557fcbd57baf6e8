set_option maxRecDepth 100000
/-! A PARALLEL's RUN: the reference's loop over settled bodies does nothing -/
section PN
variable {S : SV} {σ : TS} {xa mo ia i ver T : Nat} {bo un : Option Nat}
theorem par_noop_t {n B : Nat} {w : gw} {tg : pT} {s : Nat → Int32} {k4 : Int32 → Int32 → TS → Option (Int32 × TS)} {rec : Int32 → Int32 → TS → Option (Int32 × TS)} (hW : pW S σ xa mo ia i ver T w tg s B bo un) (hnn : n < sEn S 0) (hrec : ∀ j, j < sCc S n → s (21 + 1262 * (i) + (622 + 10 * (sCh S n j) + 0)) = nI 1 → rec (nI i) (nI (sCh S n j)) (tS σ s) = some (nI 1, tS σ s)) : ∀ (r k f2 : Nat), k + r = sCc S n → r < f2 → ∃ fu, 1 ≤ fu ∧ gL3 (bt_X2_looksAtParallel_1 k4 rec) f2 (nI i) (nI n) (sAt S n k) (tS σ s) = gL3 (bt_X2_looksAtParallel_1 k4 rec) fu (nI i) (nI n) (-1) (tS σ s) := by
  have hS : sWf S := hW.1.2.2.1
  have hNs : sEn S 0 ≤ 64 := hS.1
  have hi : i < 6 := hW.1.2.1
  have hN := hS.2.2.2.2.2 n hnn
  intro r
  induction r with
  | zero =>
    intro k f2 hk hf2
    have e1 : sAt S n k = -1 := by
      unfold sAt
      rw [if_neg (by omega)]
    exact ⟨f2, by omega, by rw [e1]⟩
  | succ r ih =>
    intro k f2 hk hf2
    obtain ⟨g2, rfl⟩ : ∃ fu, f2 = fu + 1 := ⟨f2 - 1, by omega⟩
    have hkc : k < sCc S n := by omega
    have hi' := sNode_in hN hkc
    have hcN := sWf_lt hS hnn hkc
    have e1 : sAt S n k = nI (sCh S n k) := by
      unfold sAt
      rw [if_pos hkc]
    have e2 : ¬ nI (sCh S n k) < 0 := nI_pos (by omega)
    have ec0 : ∀ w : TS, t_X2_at (nI i) (nI (sCh S n k)) (nI 0) w = _ := fun w => pt_at w
    have k6 := hW.np (n := sCh S n k) (k := 6) hcN (by omega)
    rw [(hN.1.2.2.2.2.2 k hkc).2.2.1] at k6
    obtain ⟨fu, h1, h2⟩ := ih (k + 1) g2 (by omega) (by omega)
    refine ⟨fu, h1, ?_⟩
    rw [← h2]
    show bt_X2_looksAtParallel_1 k4 rec (gL3 (bt_X2_looksAtParallel_1 k4 rec) g2) (nI i) (nI n) (sAt S n k) (tS σ s) = _
    generalize gL3 (bt_X2_looksAtParallel_1 k4 rec) g2 = KT
    unfold bt_X2_looksAtParallel_1
    rw [e1, if_neg e2, ec0, pu_B2, pu_ld5 (by omega), pu_B1, pu_Bd]
    by_cases hrun : s (21 + 1262 * (i) + (622 + 10 * (sCh S n k) + 0)) = nI 1
    · rw [if_pos hrun, hrec k hkc hrun, pu_B2]
      try dsimp only
      rw [k6, pu_B2]
    · rw [if_neg hrun]
      try dsimp only
      rw [k6, pu_B2]
end PN
