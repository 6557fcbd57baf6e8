set_option maxRecDepth 100000
/-! RUNNING: the reference; the call -/
section RU
variable {S : SV} {i ver : Nat} {s : Nat → Int32} {σ : TS}
theorem pL_sur : ∀ n c, c < pSum (fR S i s) n → ∃ m, m < n ∧ fR S i s m = 1 ∧ pSum (fR S i s) m = c := by
  intro n
  induction n with
  | zero => intro c h; exact absurd h (by simp [pSum])
  | succ n ih =>
    intro c h
    have e : pSum (fR S i s) (n + 1) = pSum (fR S i s) n + fR S i s n := rfl
    have h1 := fR_1 (S := S) (i := i) (s := s) n
    by_cases hc : c < pSum (fR S i s) n
    · obtain ⟨m, m1, m2, m3⟩ := ih c hc
      exact ⟨m, by omega, m2, m3⟩
    · exact ⟨n, by omega, by omega, by omega⟩
theorem pL_inj {m n : Nat} (h1 : fR S i s m = 1) (h2 : fR S i s n = 1) (h : pSum (fR S i s) m = pSum (fR S i s) n) : m = n := by
  have : ∀ a b, fR S i s a = 1 → pSum (fR S i s) a = pSum (fR S i s) b → ¬ a < b := fun a b ha hab hlt => by
    have e : pSum (fR S i s) (a + 1) = pSum (fR S i s) a + fR S i s a := rfl
    have := pSum_mono (f := fR S i s) (show a + 1 ≤ b by omega)
    omega
  have h3 := this m n h1 h
  have h4 := this n m h2 h.symm
  omega
theorem run_t (hS : sWf S) (hi : i < 6) (hv : pVer i ver s) (hsg : pSg S σ ver) (hsum : pSum (fR S i s) (sEn S 0) ≤ 24) {p R : Int32} (h1 : p = -1 → R = nI (pSum (fR S i s) (sEn S 0))) (h2 : p ≠ -1 → (∃ m, m < sEn S 0 ∧ fR S i s m = 1 ∧ p = nI (pSum (fR S i s) m) ∧ R = sP S m 7) ∨ ((∀ m, m < sEn S 0 → fR S i s m = 1 → p ≠ nI (pSum (fR S i s) m)) ∧ R = -1)) : gL4 bt_X2_running_1 20000 (nI i) p (nI 0) (nI 0) (tS σ s) = some (R, tS σ s) := by
  have hNs : sEn S 0 ≤ 64 := hS.1
  have hver := hv.1
  have hz : (nI 0 : Int32) = 0 := by decide
  have hz1 : ¬ (nI 1 : Int32) = 0 := by decide
  have h3 : tLd (tS σ s) 3 (nI (4 * ver)) = some (nI (sEn S 0)) := by
    have := pu_ld3 (σ := tS σ s) (s := s) (j := 4 * ver) (by omega)
    rw [tS_tS, tS_ne _ _ (by omega), hsg.2.2] at this
    exact this
  have loop : ∀ r k fuel, k + r = sEn S 0 → r < fuel → (∀ m, m < k → fR S i s m = 1 → p ≠ nI (pSum (fR S i s) m)) → gL4 bt_X2_running_1 fuel (nI i) p (nI (pSum (fR S i s) k)) (nI k) (tS σ s) = some (R, tS σ s) := by
    intro r
    induction r with
    | zero =>
      intro k fuel hk hf hno
      obtain ⟨fuel, rfl⟩ : ∃ g, fuel = g + 1 := ⟨fuel - 1, by omega⟩
      obtain rfl : k = sEn S 0 := by omega
      show bt_X2_running_1 (gL4 bt_X2_running_1 fuel) _ _ _ _ _ = _
      generalize gL4 bt_X2_running_1 fuel = KK
      unfold bt_X2_running_1
      rw [pt_versionOf hi hv, pu_B2, pu_mul, h3, pu_B1, if_pos (nI_le (Nat.le_refl _) (by omega))]
      by_cases hp : p = -1
      · rw [if_pos hp, h1 hp]
      · rw [if_neg hp]
        rcases h2 hp with ⟨m, m1, m2, m3, m4⟩ | ⟨-, m4⟩
        · exact absurd m3 (hno m m1 m2)
        · rw [m4]
    | succ r ih =>
      intro k fuel hk hf hno
      obtain ⟨fuel, rfl⟩ : ∃ g, fuel = g + 1 := ⟨fuel - 1, by omega⟩
      have hkN : k < sEn S 0 := by omega
      have ihk := ih (k + 1) fuel (by omega) (by omega)
      have e : pSum (fR S i s) (k + 1) = pSum (fR S i s) k + fR S i s k := rfl
      have hck : pSum (fR S i s) k ≤ 24 := Nat.le_trans (pSum_mono (by omega)) hsum
      rw [e] at ihk
      show bt_X2_running_1 (gL4 bt_X2_running_1 fuel) _ _ _ _ _ = _
      generalize gL4 bt_X2_running_1 fuel = KK at ihk ⊢
      unfold bt_X2_running_1
      rw [pt_versionOf hi hv, pu_B2, pu_mul, h3, pu_B1, if_neg (nI_ge hkN (by omega)), runs_t hS hi hv hsg hkN, pu_B2, pu_Bd]
      by_cases hr : (sKd S k = 1 ∨ sKd S k = 2 ∨ sKd S k = 3) ∧ s (21 + 1262 * (i) + (622 + 10 * (k) + 0)) = nI 1
      · have hf1 : fR S i s k = 1 := if_pos hr
        rw [if_pos hr, if_neg hz1]
        by_cases hpk : nI (pSum (fR S i s) k) = p
        · rw [if_pos hpk, pt_nodePart hi hv (by omega) (by omega), pu_B2, hsg.2.1 k 7 hkN (by omega)]
          have hpn : p ≠ -1 := fun z => by
            rw [← hpk] at z
            have : ¬ nI (pSum (fR S i s) k) < 0 := nI_pos (by omega)
            rw [z] at this
            exact this (by decide)
          rcases h2 hpn with ⟨m, m1, m2, m3, m4⟩ | ⟨m1, -⟩
          · have hcm : pSum (fR S i s) m ≤ 24 := Nat.le_trans (pSum_mono (by omega)) hsum
            rw [m3] at hpk
            have := pL_inj hf1 m2 ((nI_eq (by omega) (by omega)).mp hpk)
            rw [m4, this]
          · exact absurd hpk.symm (m1 k hkN hf1)
        · rw [if_neg hpk, pu_Bd]
          try dsimp only
          rw [pu_Bd, nI_add, nI_add]
          rw [hf1] at ihk
          exact ihk (fun m hm hfm => by
            by_cases hmk : m = k
            · rw [hmk]
              exact fun z => hpk z.symm
            · exact hno m (by omega) hfm)
      · have hf0 : fR S i s k = 0 := if_neg hr
        rw [if_neg hr, if_pos hz]
        try dsimp only
        rw [pu_Bd, nI_add]
        rw [hf0] at ihk
        exact ihk (fun m hm hfm => by
          by_cases hmk : m = k
          · rw [hmk, hf0] at hfm
            exact absurd hfm (by decide)
          · exact hno m (by omega) hfm)
  exact loop (sEn S 0) 0 20000 (by omega) (by omega) (fun m hm => absurd hm (by omega))
end RU
section RC
variable {k xa : Nat} {w : gw} {tg : pT} {σ : TS}
theorem call_running (p1 p2 : Int32) (h : GRw (k + 1) xa w tg σ) : callOk k xa w tg σ (f_X0_running xa p1 p2 w) (t_X2_running p1 p2 σ) := by
  obtain ⟨mo, ias, Ss, many, T, fv, fm, wr, im, h⟩ := h
  obtain ⟨ta, va, vm, pp, du, fa, ins, fd, ff, fi, c1, c2, c3, c4, c5, c6, c7, c8, c9, c10, c11, c12, c13, c14, -⟩ := h.rd
  have hz : (nI 0 : Int32) = 0 := by decide
  have hz1 : ¬ (nI 1 : Int32) = 0 := by decide
  have hb := h.2.2.2.1.1.1
  obtain ⟨g8, g9, -⟩ := h.2.2.2.2.2.2.2
  unfold f_X0_running
  rw [t_X2_running_eq, pu_Ob c1, pu_B1]
  rcases h.isI p1 with ⟨i1, i2⟩ | ⟨j, hj, rfl, hp, i1, i2⟩
  · rw [i1, i2, pu_B2, pu_B2, if_pos hz, if_pos hz]
    exact h.same _
  · have hfi : fi j = some (ias j) := by
      rcases c14 j hj with z | z
      · rw [hp] at z; exact absurd z.2 (by decide)
      · exact z.1
    obtain ⟨a, b, bo, un, h1, h2, h3, h4, h5, h6, h7, h8, -⟩ := h.2.2.2.1.get hj hp
    obtain ⟨-, -, -, -, hinf, -⟩ := (h.2.2.1 a h1).2.2.2.1 b h2
    obtain ⟨-, -, hpl, hcnt⟩ := hinf
    obtain ⟨va2, pe2, dl2, hi2, own, -⟩ := h7.own
    obtain ⟨S, hSe⟩ : ∃ S, Ss (4 * a + b) = S := ⟨_, rfl⟩
    rw [hSe] at h6 h7 h8 hpl hcnt
    have hS : sWf S := h7.1.2.2.1
    have hNs : sEn S 0 ≤ 64 := hS.1
    have hlv : sLv S 0 ≤ 4 := hS.2.2.2.1
    have hsum : pSum (fR S j (σ 5)) (sEn S 0) ≤ 24 := Nat.le_trans (pSum_le _ (fun n hn => by
      unfold fR
      by_cases hk : (sKd S n = 1 ∨ sKd S n = 2 ∨ sKd S n = 3) ∧ σ 5 (21 + 1262 * (j) + (622 + 10 * (n) + 0)) = nI 1
      · rw [if_pos hk, if_neg (by omega)]
        exact Nat.le_refl _
      · rw [if_neg hk]
        exact Nat.zero_le _)) hcnt
    obtain ⟨W1, e1, q1, o1, z1, b1⟩ := st_new (w := w) (ci := 27) (n := 2) (fs := [ga none, gi 0]) rfl (by omega) (by omega) hb
    obtain ⟨W2, e2, q2, o2, z2, b2⟩ := st_newI (w := W1) (t := 0) (m := 24) (by omega) (by rw [z1]; show w.2.1 + 1 + 1 ≤ w.2.2.2 0; omega) (by rw [z1]; show w.2.2.1 + 2 + 24 ≤ w.2.2.2 1; omega) b1
    rw [z1] at e2 q2 o2 z2
    simp only at e2 q2 o2 z2
    obtain ⟨W3, e3, q3, o3, z3, b3⟩ := st_put (k := 0) ((o2 w.2.1 (by omega)).trans q1) (by show 0 < 2; omega) b2 (ga (some (w.2.1 + 1)))
    have hz3 : W3.2 = (w.2.1 + 1 + 1, w.2.2.1 + 2 + 24, w.2.2.2) := z3.trans z2
    have old : ∀ b, b < w.2.1 → W3.1 b = w.1 b := fun b hbl => (o3 b (by omega)).trans ((o2 b (by omega)).trans (o1 b (by omega)))
    have hp0 : pL S j (σ 5) w.2.1 (w.2.1 + 1) 0 W3 := ⟨fun _ => 0, by
      have e : pSum (fR S j (σ 5)) 0 = 0 := rfl
      rw [e, hz]
      exact q3, (o3 _ (by omega)).trans q2, fun m hm => absurd hm (by omega)⟩
    have hkey : ∃ W, (∀ K : Int32 → Option Nat → gw → Option (Int32 × gw), (gBd K fun k14 => gNl bo (k14 p2 (some w.2.1) W3) (fun a30 => gB2 (f_Run_lists 12 a30 (some w.2.1) W3) fun _ w31 => k14 p2 (some w.2.1) w31)) = K p2 (some w.2.1) W) ∧ pL S j (σ 5) w.2.1 (w.2.1 + 1) (sEn S 0) W ∧ (∀ b, b < w.2.1 → W.1 b = w.1 b) ∧ W.2 = W3.2 ∧ pBd W := by
      rcases h8 with ⟨y1, y2, y3, a', y4, y5, y6⟩ | ⟨y1, y2, y3, y4, -⟩ | ⟨y1, y2, y3, y4, -⟩
      · subst y4
        obtain ⟨W, u1, u2, u3, u4, u5⟩ := (lists_run hS h7.2.1 h7.2.2.1 hpl hsum _ hlv).1 12 0 a' (by omega) h6 hS.2.2.1 rfl y5 y6 W3 w.2.1 (w.2.1 + 1) b3 (Nat.le_refl _) (by omega) old (by rw [hz3]) hp0
        exact ⟨W, fun K => by rw [pu_Bd, pu_Ns, u1, pu_B2], u2, fun b hbl => (u3 b (by omega) (by omega)).trans (old b hbl), u4, u5⟩
      · subst y2
        exact ⟨W3, fun K => rfl, hp0.skip _ (Nat.zero_le _) (fun c _ hc => fR_0 (y4 c hc).1), old, rfl, b3⟩
      · subst y2
        exact ⟨W3, fun K => rfl, hp0.skip _ (Nat.zero_le _) (fun c _ hc => fR_0 (y4 c (Nat.zero_le _) hc).2.1), old, rfl, b3⟩
    obtain ⟨W, hK, ⟨g, p1, p2', p3⟩, oW, zW, bW⟩ := hkey
    obtain ⟨R, hR⟩ : ∃ R : Int32, ((p2 = -1 → R = nI (pSum (fR S j (σ 5)) (sEn S 0))) ∧ (p2 ≠ -1 → (∃ m, m < sEn S 0 ∧ fR S j (σ 5) m = 1 ∧ p2 = nI (pSum (fR S j (σ 5)) m) ∧ R = sP S m 7) ∨ ((∀ m, m < sEn S 0 → fR S j (σ 5) m = 1 → p2 ≠ nI (pSum (fR S j (σ 5)) m)) ∧ R = -1))) ∧ (if p2 = (-1) then gB1 (some w.2.1) fun a27 => gB1 (gI W a27 27 1) fun x28 => some (x28, W) else gB1 (some w.2.1) fun a19 => gB1 (gI W a19 27 1) fun x20 => gB2 (f_X0_in p2 (nI 0) (x20 - (nI 1)) W) fun x22 w21 => if x22 = 0 then some ((-1), w21) else gB1 (gR w21 a19 27 0) fun r24 => gB1 r24 fun a25 => gB1 (gLdI w21 a25 0 p2) fun x26 => some (x26, w21)) = some (R, W) := by
      by_cases hpm : p2 = -1
      · refine ⟨_, ⟨fun _ => rfl, fun z => absurd hpm z⟩, ?_⟩
        rw [if_pos hpm, pu_B1, pu_I (k := 1) p1 rfl, pu_B1]
      · rw [if_neg hpm, pu_B1, pu_I (k := 1) p1 rfl, pu_B1, pf_in]
        by_cases hc : ∃ c, c < pSum (fR S j (σ 5)) (sEn S 0) ∧ p2 = nI c
        · obtain ⟨c, hc1, rfl⟩ := hc
          obtain ⟨m, m1, m2, m3⟩ := pL_sur _ c hc1
          refine ⟨sP S m 7, ⟨fun z => absurd z hpm, fun _ => Or.inl ⟨m, m1, m2, by rw [m3], rfl⟩⟩, ?_⟩
          have hin : nI 0 ≤ nI c ∧ nI c ≤ nI (pSum (fR S j (σ 5)) (sEn S 0)) - nI 1 := by
            rw [pu_sub (by omega)]
            exact ⟨nI_le (Nat.zero_le _) (by omega), nI_le (by omega) (by omega)⟩
          rw [if_pos hin, pu_B2, if_neg hz1, pu_R (k := 0) p1 rfl, pu_B1, pu_B1, pu_LdI p2' (by omega) (by omega), pu_B1, ← m3, p3 m m1 m2]
        · refine ⟨-1, ⟨fun z => absurd z hpm, fun _ => Or.inr ⟨fun m m1 m2 z => hc ⟨_, ?_, z⟩, rfl⟩⟩, ?_⟩
          · have e : pSum (fR S j (σ 5)) (m + 1) = pSum (fR S j (σ 5)) m + fR S j (σ 5) m := rfl
            have := pSum_mono (f := fR S j (σ 5)) (show m + 1 ≤ sEn S 0 by omega)
            omega
          · have hin : ¬ (nI 0 ≤ p2 ∧ p2 ≤ nI (pSum (fR S j (σ 5)) (sEn S 0)) - nI 1) := fun z => by
              obtain ⟨q, q1, q2⟩ := nI_of (x := p2) (Int32.not_lt.mpr z.1)
              by_cases h0 : pSum (fR S j (σ 5)) (sEn S 0) = 0
              · have z2 := z.2
                rw [h0] at z2
                have y : nI 0 - nI 1 = -1 := by decide
                rw [y] at z2
                exact absurd (Int32.le_trans z.1 z2) (by decide)
              · have z2 := z.2
                rw [pu_sub (by omega), q2] at z2
                have := (nI_leI (by omega) (by omega)).mp z2
                exact hc ⟨q, by omega, q2⟩
            rw [if_neg hin, pu_B2, if_pos hz]
    obtain ⟨⟨hR1, hR2⟩, hRe⟩ := hR
    have ht := run_t (σ := σ) hS hj h7.2.2.2.1 h7.1.2.2.2 hsum hR1 hR2
    rw [tS_self] at ht
    unfold f_X27_init
    have hxa := hb _ _ c1
    have hmo := hb _ _ c2
    have hins := hb _ _ c3
    have hial := hb _ _ own
    rw [i1, i2, pu_B2, pu_B2, if_neg hz1, if_neg hz1, e1, pu_B2, e2, pu_B2, e3, pu_B1, pu_B2, pu_R (k := 5) ((old xa hxa).trans c1) rfl, pu_B1, pu_B1, pu_R (k := 2) ((old mo hmo).trans c2) rfl, pu_B1, pu_B1, pu_LdR ((old ins hins).trans c3) hj (by omega), pu_B1, hfi, pu_B1, pu_R (k := 13) ((old _ hial).trans own) rfl, pu_B1, hK, ht]
    try dsimp only
    rw [hRe]
    exact h.grow (tg1 := tg) ⟨bW, by rw [zW, hz3]; show w.2.1 ≤ w.2.1 + 1 + 1; omega, by rw [zW, hz3], fun _ _ => rfl, fun b hbl _ => oW b hbl⟩ (by rw [zW, hz3]; show w.2.1 + 1 + 1 ≤ _; omega) (by rw [zW, hz3]; show w.2.2.1 + 2 + 24 ≤ _; omega) _
end RC
