set_option maxRecDepth 100000
/-! A BODY's LOOKS -/
theorem pResB.pre {κ : Nat} {S : SV} {σ : TS} {xa mo ia i ver T l b a : Nat} {w : gw} {tg : pT} {s s0 : Nat → Int32} {B : Nat} {bo un : Option Nat} {fr : Option (Option Nat × gw)} {tr : Option (Int32 × TS)} (h : pResB 0 S σ xa mo ia i ver T l b a w tg s0 B bo un fr tr) (hq : pQ i b (sEn S b) s s0) (hr : pRk κ i w w s s0) (hp : pPe i s s0) : pResB κ S σ xa mo ia i ver T l b a w tg s B bo un fr tr := by
  obtain ⟨w1, tg1, s1, o, x, h1, h2, h3, h4, h5, h6, h7, h8⟩ := h
  exact ⟨w1, tg1, s1, o, x, h1, h2, h3, h4, hq.tr h5, pRs.k hr h6.s, fun c hc h0 => h7 c hc (hp c hc h0), h8⟩
theorem pResB.mono {κ : Nat} {S : SV} {σ : TS} {xa mo ia i ver T l b a : Nat} {w : gw} {tg : pT} {s : Nat → Int32} {B B' : Nat} {bo un : Option Nat} {fr : Option (Option Nat × gw)} {tr : Option (Int32 × TS)} (h : pResB κ S σ xa mo ia i ver T l b a w tg s B bo un fr tr) (hb : B ≤ B') : pResB κ S σ xa mo ia i ver T l b a w tg s B' bo un fr tr := by
  obtain ⟨w1, tg1, s1, o, x, h1, h2, h3, h4, h5, h6, h7, h8⟩ := h
  exact ⟨w1, tg1, s1, o, x, h1, h2, h3.mono hb, h4, h5, h6, h7, h8⟩
section BK
variable {S : SV} {σ : TS} {xa mo ia i ver T : Nat} {bo un : Option Nat}
theorem rB_body {w : gw} {tg : pT} {s : Nat → Int32} {q : Bool} {l b a : Nat} : rB S xa ia i w tg s T q l b a ↔ rBody S xa ia i w tg s (rI S xa ia i w tg s T q l) b a := by
  cases l with
  | zero => exact Iff.rfl
  | succ l => exact Iff.rfl
theorem pre_pass {w : gw} {tg : pT} {s : Nat → Int32} {B b idx : Nat} {rec : Int32 → Int32 → TS → Option (Int32 × TS)} (hW : pW S σ xa mo ia i ver T w tg s B bo un) (hb : b < sEn S 0) (hidx : idx ≤ sCc S b) (hd : ∀ j, j < idx → s (21 + 1262 * (i) + (622 + 10 * (sCh S b j) + 0)) = nI 2) :
    ∀ r j fuel, j + r = idx → gL3 (bt_X2_looksAtBody_s_1 rec) (fuel + r) (nI i) (nI b) (sAt S b j) (tS σ s) = gL3 (bt_X2_looksAtBody_s_1 rec) fuel (nI i) (nI b) (sAt S b idx) (tS σ s) := by
  have hS : sWf S := hW.1.2.2.1
  have hNs : sEn S 0 ≤ 64 := hS.1
  have hi : i < 6 := hW.1.2.1
  have hN := hS.2.2.2.2.2 b hb
  intro r
  induction r with
  | zero =>
    intro j fuel hj
    rw [show j = idx by omega]
    rfl
  | succ r ih =>
    intro j fuel hj
    have hlt : j < sCc S b := by omega
    have hi' := sNode_in hN hlt
    have hnN := sWf_lt hS hb hlt
    have eAt : sAt S b j = nI (sCh S b j) := by
      unfold sAt
      rw [if_pos hlt]
    have e1 : ¬ nI (sCh S b j) < 0 := nI_pos (by omega)
    have ea0 : ∀ w : TS, t_X2_at (nI i) (nI (sCh S b j)) (nI 0) w = _ := fun w => pt_at w
    have hst := hd j (by omega)
    have k6 := hW.np (n := sCh S b j) (k := 6) hnN (by omega)
    rw [(hN.1.2.2.2.2.2 j hlt).2.2.1] at k6
    rw [← ih (j + 1) fuel (by omega)]
    show bt_X2_looksAtBody_s_1 rec (gL3 (bt_X2_looksAtBody_s_1 rec) (fuel + r)) (nI i) (nI b) (sAt S b j) (tS σ s) = _
    generalize gL3 (bt_X2_looksAtBody_s_1 rec) (fuel + r) = KK
    have z0 : ¬ nI 2 = 0 := by decide
    have z1 : ¬ nI 2 = nI 1 := by decide
    have z5 : ¬ nI 2 = nI 5 := by decide
    have z3 : ¬ nI 2 = nI 3 := by decide
    unfold bt_X2_looksAtBody_s_1
    rw [eAt, if_neg e1, ea0, pu_B2, pu_ld5 (by omega), pu_B1, hst, pu_Bd, if_neg z0, pu_Bd, if_neg z1, if_neg z5]
    try dsimp only
    rw [if_neg z3, if_pos rfl, k6, pu_B2]
theorem cc_le {b : Nat} (hS : sWf S) (hb : b < sEn S 0) : sCc S b ≤ 64 := by
  have hN := hS.2.2.2.2.2 b hb
  have : ∀ j, j ≤ sCc S b → j ≤ sCp S b j := by
    intro j
    induction j with
    | zero => intro _; omega
    | succ j ih =>
      intro hj
      have h1 := ih (by omega)
      have h2 := sNode_in hN (j := j) (by omega)
      omega
  have h1 := this _ (Nat.le_refl _)
  have h2 := sNode_cp hN (Nat.le_refl _)
  have h3 := hN.1.2.1
  have h4 : sEn S 0 ≤ 64 := hS.1
  omega
theorem simB_of {l D d : Nat} (hl : l ≤ 4) (hLk : simLk S σ xa mo ia i ver T bo un l D d) (hFr : simFr S σ xa mo ia i ver T bo un l D d) (hBg : simBg S σ xa mo ia i ver T bo un) : simB S σ xa mo ia i ver T bo un l (D + 1) (d + 1) := by
  constructor
  · intro b a w tg s B T0 q hb hk hlv hW hB hRm hR hst
    have hS : sWf S := hW.1.2.2.1
    have hNs : sEn S 0 ≤ 64 := hS.1
    have hi : i < 6 := hW.1.2.1
    have hN := hS.2.2.2.2.2 b hb
    have hcc := cc_le hS hb
    obtain ⟨a1, idx, cur, dd, da, L, f, a2, a3, a4, a5, a6, a7, b1, b2, b3, b4, b5, b6, b7, b8, b9⟩ := rB_body.mp hR
    obtain ⟨g1, g2, g3⟩ := b7 hst
    have hcp := sNode_cp hN b1
    cases cur with
    | none => exact absurd rfl g1
    | some a' =>
      obtain ⟨h1, h2, h3⟩ := b5
      have hloop := body_loop hS hb hk hlv hl hLk hFr hBg (sCc S b - idx) idx (some a') dd da L f w tg s B (20000 + 1) (20000 - idx) (by omega) (by omega) (by omega) hW (by omega) hRm ⟨a1, a2, a3, a4, a5, a6, a7⟩ ⟨b1, b2, b3, b4, g3, hst⟩ (Or.inr ⟨a', T0, q, rfl, h1, h2, g2, h3⟩)
      obtain ⟨w1, tg1, s1, o, x, v1, v2, v3, v4⟩ := hloop
      refine ⟨w1, tg1, s1, o, x, ?_, ?_, v3.mono (by omega), v4⟩
      · show f_Run_looks_s (f_Run_looks D) a w = _
        unfold f_Run_looks_s
        rw [pu_Cls a2, pu_B1, if_pos rfl, f_looks18_eq]
        exact v1
      · have e0 : ∀ w : TS, t_X2_at (nI i) (nI b) (nI 0) w = _ := fun w => pt_at w
        have k5 := hW.np (n := b) (k := 5) hb (by omega)
        rw [hN.1.2.2.2.1] at k5
        have hid : upd s (21 + 1262 * (i) + (622 + 10 * (b) + 0)) (nI 1) = s := by
          rw [← hst]
          exact upd_id _ _
        have hpp := pre_pass (rec := t_X2_looksAtBody d) hW hb b1 g3 idx 0 (20000 - idx) (by omega)
        rw [show 20000 - idx + idx = 20000 by omega] at hpp
        show t_X2_looksAtBody_s (t_X2_looksAtBody d) (nI i) (nI b) (tS σ s) = _
        rw [t_X2_looksAtBody_s_eq, e0, pu_B2, pu_st5 (by omega), pu_B1, hid, k5, pu_B2, hpp]
        exact v2
  · intro b a w tg s B hb hk hlv hW hB hRm hun hf
    have hS : sWf S := hW.1.2.2.1
    have hNs : sEn S 0 ≤ 64 := hS.1
    have hi : i < 6 := hW.1.2.1
    have hN := hS.2.2.2.2.2 b hb
    have hl0 := hN.1.1
    have hcc := cc_le hS hb
    have hcp := sNode_cp hN (Nat.zero_le _)
    have hcp0 := hN.1.2.2.2.2.1
    obtain ⟨a1, dd, da, f, a2, a3, a4, a5, a6⟩ := hf
    obtain ⟨u0, u7, u6, u2⟩ := hun b (Nat.le_refl _) hl0
    obtain ⟨s0, hs0⟩ : ∃ s0, upd s (21 + 1262 * (i) + (622 + 10 * (b) + 0)) (nI 1) = s0 := ⟨_, rfl⟩
    have hne : ∀ j, j ≠ (21 + 1262 * (i) + (622 + 10 * (b) + 0)) → s0 j = s j := fun j hj => by rw [← hs0, upd_ne hj]
    have hv : s0 (21 + 1262 * (i) + (622 + 10 * (b) + 0)) = nI 1 := by rw [← hs0, upd_self]
    have hW0 : pW S σ xa mo ia i ver T w tg s0 B bo un := hW.rows (fun j hj => hne j (by omega)) (fun m _ hm => ⟨by rw [hne _ (by have : m ≠ b := (by rintro rfl; omega); omega)], fun _ => ⟨hne _ (by omega), hne _ (by omega)⟩⟩)
    have hun0 : rUn i s0 (sCp S b 0) (sEn S b) := fun m h1 h2 => by
      rw [hne _ (by omega), hne _ (by omega), hne _ (by omega), hne _ (by omega)]
      exact hun m (by omega) h2
    have hrow : bRow S i b 0 [] s0 := ⟨Nat.zero_le _, fun k => ⟨fun z => absurd z List.not_mem_nil, fun z => by
      rw [hcp0] at z
      exact absurd z (rDone_self (by omega))⟩, (hne _ (by omega)).trans u7, fun m h1 h2 => by omega, fun j hj => absurd hj (by omega), hv⟩
    have hpp := pPh_at (i := i) (n := b) (s := s) (s1 := s0) (by omega) (fun m _ hm => hne _ (by omega))
    rw [hv, u0, if_pos rfl, if_neg (by decide), if_pos rfl] at hpp
    rw [hs0] at hRm
    have hloop := body_loop hS hb hk hlv hl hLk hFr hBg (sCc S b) 0 none dd da [] f w tg s0 B (20000 + 1) 20000 (by omega) (by omega) (by omega) hW0 (by omega) hRm ⟨a1, a2, a3, a4, a5, a6, List.Pairwise.nil, by decide, fun j k h => by cases h⟩ hrow (Or.inl ⟨rfl, hun0⟩)
    have hpre : pResB 4 S σ xa mo ia i ver T l b a w tg s (B + 256 * (sEn S b - sCp S b 0)) bo un (gL0 (bf_X18_looks_1 a (f_Run_looks D)) (20000 + 1) w) (gL3 (bt_X2_looksAtBody_s_1 (t_X2_looksAtBody d)) 20000 (nI i) (nI b) (sAt S b 0) (tS σ s0)) := hloop.pre (fun j h1 h2 h3 => hne j (by omega)) (by constructor <;> omega) (fun c hc z => (hne _ (by omega)).trans z)
    obtain ⟨w1, tg1, s1, o, x, v1, v2, v3, v4⟩ := hpre
    refine ⟨w1, tg1, s1, o, x, ?_, ?_, v3.mono (by omega), v4⟩
    · show f_Run_looks_s (f_Run_looks D) a w = _
      unfold f_Run_looks_s
      rw [pu_Cls a2, pu_B1, if_pos rfl, f_looks18_eq]
      exact v1
    · have e0 : ∀ w : TS, t_X2_at (nI i) (nI b) (nI 0) w = _ := fun w => pt_at w
      have k5 := hW0.np (n := b) (k := 5) hb (by omega)
      rw [hN.1.2.2.2.1] at k5
      show t_X2_looksAtBody_s (t_X2_looksAtBody d) (nI i) (nI b) (tS σ s) = _
      rw [t_X2_looksAtBody_s_eq, e0, pu_B2, pu_st5 (by omega), pu_B1, hs0, k5, pu_B2]
      exact v2
end BK
