set_option maxRecDepth 100000
/-! THE REFERENCE's cancels -/
/-- what is live below n is reached from it -/
def cOK (S : SV) (i : Nat) (s : Nat → Int32) : Nat → Nat → Prop
  | 0, _ => False
  | f + 1, n => ∀ j, j < sCc S n → (rLive i s (sCh S n j) ∧ cOK S i s f (sCh S n j)) ∨ rDead i s (sCh S n j) (sEn S (sCh S n j))
/-- what cancels does to the rows lo .. hi -/
def cEff (i lo hi : Nat) (s s1 : Nat → Int32) : Prop := (∀ j, ¬ ((21 + 1262 * (i) + (622 + 10 * (lo) + 0)) ≤ j ∧ j < (21 + 1262 * (i) + (622 + 10 * (hi) + 0))) → s1 j = s j) ∧
  ∀ m, lo ≤ m → m < hi → (∀ k, k < 10 → k ≠ 0 → k ≠ 7 → s1 (21 + 1262 * (i) + (622 + 10 * (m) + k)) = s (21 + 1262 * (i) + (622 + 10 * (m) + k))) ∧ s1 (21 + 1262 * (i) + (622 + 10 * (m) + 7)) = -1 ∧ (rLive i s m → s1 (21 + 1262 * (i) + (622 + 10 * (m) + 0)) = nI 4) ∧ (¬ rLive i s m → s1 (21 + 1262 * (i) + (622 + 10 * (m) + 0)) = s (21 + 1262 * (i) + (622 + 10 * (m) + 0)))
theorem cEff.dead {i lo hi : Nat} {s : Nat → Int32} (h : rDead i s lo hi) : cEff i lo hi s s := ⟨fun _ _ => rfl, fun m h1 h2 => ⟨fun _ _ _ _ => rfl, (h m h1 h2).1, fun z => by
  rcases z with z | z
  · exact absurd z (h m h1 h2).2.1
  · exact absurd z (h m h1 h2).2.2, fun _ => rfl⟩⟩
theorem cEff.app {i a b c : Nat} {s s1 s2 : Nat → Int32} (hab : a ≤ b) (hbc : b ≤ c) (h1 : cEff i a b s s1) (h2 : cEff i b c s1 s2) : cEff i a c s s2 := by
  obtain ⟨a1, a2⟩ := h1
  obtain ⟨b1, b2⟩ := h2
  refine ⟨fun j hj => (b1 j (by omega)).trans (a1 j (by omega)), fun m m1 m2 => ?_⟩
  by_cases hm : m < b
  · obtain ⟨c1, c2, c3, c4⟩ := a2 m m1 hm
    have e : ∀ k, k < 10 → s2 (21 + 1262 * (i) + (622 + 10 * (m) + k)) = s1 (21 + 1262 * (i) + (622 + 10 * (m) + k)) := fun k hk => b1 _ (by omega)
    exact ⟨fun k x y z => (e k x).trans (c1 k x y z), (e 7 (by omega)).trans c2, fun z => (e 0 (by omega)).trans (c3 z), fun z => (e 0 (by omega)).trans (c4 z)⟩
  · obtain ⟨c1, c2, c3, c4⟩ := b2 m (by omega) m2
    have e : ∀ k, k < 10 → s1 (21 + 1262 * (i) + (622 + 10 * (m) + k)) = s (21 + 1262 * (i) + (622 + 10 * (m) + k)) := fun k hk => a1 _ (by omega)
    have hl : rLive i s1 m ↔ rLive i s m := by
      unfold rLive
      rw [e 0 (by omega)]
    exact ⟨fun k x y z => (c1 k x y z).trans (e k x), c2, fun z => c3 (hl.mpr z), fun z => (c4 (fun y => z (hl.mp y))).trans (e 0 (by omega))⟩
theorem cOK.same {S : SV} (hS : sWf S) {i : Nat} {s s1 : Nat → Int32} : ∀ f n, n < sEn S 0 → (∀ m, n < m → m < sEn S n → s1 (21 + 1262 * (i) + (622 + 10 * (m) + 0)) = s (21 + 1262 * (i) + (622 + 10 * (m) + 0)) ∧ s1 (21 + 1262 * (i) + (622 + 10 * (m) + 7)) = s (21 + 1262 * (i) + (622 + 10 * (m) + 7))) → cOK S i s f n → cOK S i s1 f n := by
  intro f
  induction f with
  | zero => intro n _ _ h; exact h
  | succ f ih =>
    intro n hn he h j hj
    have hi' := sNode_in (hS.2.2.2.2.2 n hn) hj
    rcases h j hj with ⟨h1, h2⟩ | h1
    · refine Or.inl ⟨?_, ih _ (sWf_lt hS hn hj) (fun m a b => he m (by omega) (by omega)) h2⟩
      unfold rLive at h1 ⊢
      rw [(he _ (by omega) (by omega)).1]
      exact h1
    · refine Or.inr (fun m a b => ?_)
      rw [(he m (by omega) (by omega)).1, (he m (by omega) (by omega)).2]
      exact h1 m a b
section CN
variable {S : SV} {σ : TS} {i ver : Nat}
theorem np_of {s : Nat → Int32} {n k : Nat} (hS : sWf S) (hi : i < 6) (hσ : pSg S σ ver) (hV : pVer i ver s) (hn : n < sEn S 0) (hk : k < 9) : t_X2_nodePart (nI i) (nI n) (nI k) (tS σ s) = some (sP S n k, tS σ s) := by
  have hNs : sEn S 0 ≤ 64 := hS.1
  rw [pt_nodePart hi hV (by omega) hk, hσ.2.1 n k hn hk]
theorem pVer.same {s s1 : Nat → Int32} (h : pVer i ver s) (h1 : s1 (21 + 1262 * (i) + 2) = s (21 + 1262 * (i) + 2)) (h2 : s1 (21 + 1262 * (i) + 3) = s (21 + 1262 * (i) + 3)) : pVer i ver s1 := by
  obtain ⟨v1, a, b, v2, v3, v4, v5, v6⟩ := h
  exact ⟨v1, a, b, v2, v3, v4, h1.trans v5, h2.trans v6⟩
theorem t_cancels (hS : sWf S) (hi : i < 6) (hσ : pSg S σ ver) : ∀ (f D n : Nat) (s : Nat → Int32), f ≤ D → n < sEn S 0 → pVer i ver s → rLive i s n → cOK S i s f n → ∃ s1, t_X2_cancels D (nI i) (nI n) (tS σ s) = some ((), tS σ s1) ∧ cEff i n (sEn S n) s s1 := by
  have hNs : sEn S 0 ≤ 64 := hS.1
  intro f
  induction f with
  | zero => intro D n s _ _ _ _ h; exact h.elim
  | succ f ih =>
    intro D n s hD hn hV hlive hok
    obtain ⟨D, rfl⟩ : ∃ d, D = d + 1 := ⟨D - 1, by omega⟩
    have hN := hS.2.2.2.2.2 n hn
    have hl := hN.1.1
    have hNn := hN.1.2.1
    have hcc := cc_le hS hn
    have e0 : ∀ w : TS, t_X2_at (nI i) (nI n) (nI 0) w = _ := fun w => pt_at w
    have e7 : ∀ w : TS, t_X2_at (nI i) (nI n) (nI 7) w = _ := fun w => pt_at w
    obtain ⟨s0, hs0⟩ : ∃ s0, upd (upd s (21 + 1262 * (i) + (622 + 10 * (n) + 0)) (nI 4)) (21 + 1262 * (i) + (622 + 10 * (n) + 7)) (-1) = s0 := ⟨_, rfl⟩
    have hne : ∀ j, j ≠ (21 + 1262 * (i) + (622 + 10 * (n) + 0)) → j ≠ (21 + 1262 * (i) + (622 + 10 * (n) + 7)) → s0 j = s j := fun j a b => by rw [← hs0, upd_ne b, upd_ne a]
    have h1 : cEff i n (n + 1) s s0 := ⟨fun j hj => hne j (by omega) (by omega), fun m m1 m2 => by
      obtain rfl : m = n := by omega
      refine ⟨fun k a b c => hne _ (by omega) (by omega), by rw [← hs0, upd_self], fun _ => by rw [← hs0, upd_ne (by omega), upd_self], fun z => absurd hlive z⟩⟩
    have hV0 : pVer i ver s0 := hV.same (hne _ (by omega) (by omega)) (hne _ (by omega) (by omega))
    have hloop : ∀ (r j : Nat) (s1 : Nat → Int32) (fuel : Nat), j + r = sCc S n → r < fuel → pVer i ver s1 → (∀ q, (21 + 1262 * (i) + (622 + 10 * (sCp S n j) + 0)) ≤ q → q < (21 + 1262 * (i) + (622 + 10 * (sEn S n) + 0)) → s1 q = s q) → ∃ s2, gL2 (bt_X2_cancels_s_1 (t_X2_cancels D)) fuel (nI i) (sAt S n j) (tS σ s1) = some ((), tS σ s2) ∧ cEff i (sCp S n j) (sEn S n) s1 s2 := by
      intro r
      induction r with
      | zero =>
        intro j s1 fuel hj hf hV1 hsame
        obtain ⟨fu, rfl⟩ : ∃ fu, fuel = fu + 1 := ⟨fuel - 1, by omega⟩
        have e1 : sAt S n j = -1 := by
          unfold sAt
          rw [if_neg (by omega)]
        have hcp : sCp S n j = sEn S n := by
          unfold sCp
          rw [if_neg (by omega)]
        refine ⟨s1, ?_, by rw [hcp]; exact ⟨fun _ _ => rfl, fun m m1 m2 => by omega⟩⟩
        show bt_X2_cancels_s_1 (t_X2_cancels D) (gL2 (bt_X2_cancels_s_1 (t_X2_cancels D)) fu) (nI i) (sAt S n j) (tS σ s1) = _
        generalize gL2 (bt_X2_cancels_s_1 (t_X2_cancels D)) fu = KK
        unfold bt_X2_cancels_s_1
        rw [e1, if_pos (by decide)]
      | succ r ihr =>
        intro j s1 fuel hj hf hV1 hsame
        obtain ⟨fu, rfl⟩ : ∃ fu, fuel = fu + 1 := ⟨fuel - 1, by omega⟩
        have hjc : j < sCc S n := by omega
        have hi' := sNode_in hN hjc
        have hcp0 : sCp S n j = sCh S n j := hi'.2.2.2.1
        have hcp1 : sCp S n (j + 1) = sEn S (sCh S n j) := hi'.2.2.2.2.symm
        have hcN := sWf_lt hS hn hjc
        have e1 : sAt S n j = nI (sCh S n j) := by
          unfold sAt
          rw [if_pos hjc]
        have e2 : ¬ nI (sCh S n j) < 0 := nI_pos (by omega)
        have ec0 : ∀ w : TS, t_X2_at (nI i) (nI (sCh S n j)) (nI 0) w = _ := fun w => pt_at w
        have hst : s1 (21 + 1262 * (i) + (622 + 10 * (sCh S n j) + 0)) = s (21 + 1262 * (i) + (622 + 10 * (sCh S n j) + 0)) := hsame _ (by omega) (by omega)
        show ∃ s2, bt_X2_cancels_s_1 (t_X2_cancels D) (gL2 (bt_X2_cancels_s_1 (t_X2_cancels D)) fu) (nI i) (sAt S n j) (tS σ s1) = some ((), tS σ s2) ∧ _
        rcases hok j hjc with ⟨g1, g2⟩ | g1
        · have hl1 : rLive i s1 (sCh S n j) := by
            unfold rLive at g1 ⊢
            rw [hst]
            exact g1
          obtain ⟨s2, r1, r2⟩ := ih D (sCh S n j) s1 (by omega) hcN hV1 hl1 (cOK.same hS f _ hcN (fun m a b => ⟨hsame _ (by omega) (by omega), hsame _ (by omega) (by omega)⟩) g2)
          have hV2 : pVer i ver s2 := hV1.same (r2.1 _ (by omega)) (r2.1 _ (by omega))
          obtain ⟨s3, r3, r4⟩ := ihr (j + 1) s2 fu (by omega) (by omega) hV2 (fun q a b => (r2.1 q (by rw [hcp1] at a; omega)).trans (hsame q (by rw [hcp1] at a; omega) b))
          have k6 := np_of (k := 6) hS hi hσ hV2 hcN (by omega)
          rw [(hN.1.2.2.2.2.2 j hjc).2.2.1] at k6
          refine ⟨s3, ?_, by rw [hcp0]; rw [hcp1] at r4; exact cEff.app (by omega) (by omega) r2 r4⟩
          generalize gL2 (bt_X2_cancels_s_1 (t_X2_cancels D)) fu = KK at r3 ⊢
          unfold bt_X2_cancels_s_1
          rcases hl1 with h | h
          · rw [e1, if_neg e2, ec0, pu_B2, pu_ld5 (by omega), pu_B1, h, pu_Bd, pu_Bd, if_pos rfl]
            try dsimp only
            rw [r1, pu_B2, k6, pu_B2]
            exact r3
          · rw [e1, if_neg e2, ec0, pu_B2, pu_ld5 (by omega), pu_B1, h, pu_Bd, pu_Bd, if_neg (by decide), if_pos rfl]
            try dsimp only
            rw [r1, pu_B2, k6, pu_B2]
            exact r3
        · have hd1 : rDead i s1 (sCh S n j) (sEn S (sCh S n j)) := fun m a b => by
            rw [hsame _ (by omega) (by omega), hsame _ (by omega) (by omega)]
            exact g1 m a b
          obtain ⟨s3, r3, r4⟩ := ihr (j + 1) s1 fu (by omega) (by omega) hV1 (fun q a b => hsame q (by rw [hcp1] at a; omega) b)
          have k6 := np_of (k := 6) hS hi hσ hV1 hcN (by omega)
          rw [(hN.1.2.2.2.2.2 j hjc).2.2.1] at k6
          obtain ⟨-, d1, d5⟩ := hd1 _ (Nat.le_refl _) hi'.2.2.1
          refine ⟨s3, ?_, by rw [hcp0]; rw [hcp1] at r4; exact cEff.app (by omega) (by omega) (cEff.dead hd1) r4⟩
          generalize gL2 (bt_X2_cancels_s_1 (t_X2_cancels D)) fu = KK at r3 ⊢
          unfold bt_X2_cancels_s_1
          rw [e1, if_neg e2, ec0, pu_B2, pu_ld5 (by omega), pu_B1, pu_Bd, pu_Bd, if_neg d1, if_neg d5]
          try dsimp only
          rw [k6, pu_B2]
          exact r3
    have hcp0 := hN.1.2.2.2.2.1
    obtain ⟨s2, q1, q2⟩ := hloop (sCc S n) 0 s0 20000 (by omega) (by omega) hV0 (fun q a b => hne q (by rw [hcp0] at a; omega) (by rw [hcp0] at a; omega))
    have k5 := np_of (k := 5) hS hi hσ hV0 hn (by omega)
    rw [hN.1.2.2.2.1] at k5
    refine ⟨s2, ?_, cEff.app (b := n + 1) (by omega) (by omega) h1 (by rw [← hcp0]; exact q2)⟩
    show t_X2_cancels_s (t_X2_cancels D) (nI i) (nI n) (tS σ s) = _
    rw [t_X2_cancels_s_eq, e0, pu_B2, pu_st5 (by omega), pu_B1, e7, pu_B2, pu_st5 (by omega), pu_B1, hs0, k5, pu_B2]
    exact q1
end CN
