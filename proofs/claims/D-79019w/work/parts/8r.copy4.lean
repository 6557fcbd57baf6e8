set_option maxRecDepth 100000
/-! COPY of an instance: its tasks that were done -/
section CD
variable {S : SV} {xa ia ib mb i : Nat} {s : Nat → Int32}
/-- the copy's list at k -/
def dCp (ia ib n0 : Nat) (w : gw) (tg : pT) (w0 : gw) (tg0 : pT) (g0 : Nat → Option Nat) (k : Nat) : Prop := (∀ c, c < w0.2.1 → c ≠ n0 + 3 → w.1 c = w0.1 c) ∧ pFr w0 w tg0 tg (fun t => t = (ib, 68)) ∧ w.2.1 ≤ w0.2.1 + 2 * k ∧ w.2.2.1 ≤ w0.2.2.1 + 61 * k ∧ tg (n0 + 3) = (ib, 68) ∧ ∃ (mc : Int32) (ea : Nat) (g : Nat → Option Nat), w.1 (n0 + 3) = some (.inl (8, [gi mc, ga (some ea), gi (nI k)])) ∧
  (k = 0 ∧ ea = w.2.2.2 5 ∧ w.1 ea = none ∨ n0 + 5 ≤ ea ∧ tg ea = (ib, 69) ∧ ∃ cap, k ≤ cap ∧ 1 ≤ cap ∧ cap ≤ 36 ∧ w.1 ea = some (.inr (2, cap, .inr g))) ∧
  ∀ j, j < k → ∃ dk c0 c1 c2 dk', g0 j = some dk ∧ w0.1 dk = some (.inl (25, [gi c0, gi c1, gi c2])) ∧ g j = some dk' ∧ tg dk' = (ib, 70 + j) ∧ w.1 dk' = some (.inl (25, [gi c0, gi c1, gi c2]))
theorem cp_dones {w0 : gw} {tg0 : pT} {a0 n0 dlo eo m cap0 : Nat} {mc0 : gv} {g0 : Nat → Option Nat} {f0 f1 f2 f3 f4 f5 f7 f8 f9 f10 f11 f12 f13 f14 f15 b0 b1 b2 b3 b4 b5 b7 b8 b9 b10 b11 b12 b13 b14 b15 : gv} (hb0 : pBd w0) (hco : pCo w0 tg0) (hn0 : n0 + 5 = w0.2.1) (hib : ib = n0) (ht3 : tg0 (n0 + 3) = (ib, 68)) (ht0 : tg0 n0 = (ib, 64)) (ha : w0.1 a0 = some (.inl (16, [f0, f1, f2, f3, f4, f5, ga (some dlo), f7, f8, f9, f10, f11, f12, f13, f14, f15]))) (haT : tg0 a0 ≠ (ib, 68)) (hdT : tg0 dlo ≠ (ib, 68)) (hd : w0.1 dlo = some (.inl (8, [mc0, ga (some eo), gi (nI m)]))) (hm : m ≤ 24)
    (he : m = 0 ∨ tg0 eo ≠ (ib, 68) ∧ m ≤ cap0 ∧ cap0 < 1000 ∧ w0.1 eo = some (.inr (2, cap0, .inr g0))) (hg : ∀ j, j < m → ∃ dk c0 c1 c2, g0 j = some dk ∧ tg0 dk ≠ (ib, 68) ∧ w0.1 dk = some (.inl (25, [gi c0, gi c1, gi c2])))
    (hn : w0.1 n0 = some (.inl (16, [b0, b1, b2, b3, b4, b5, ga (some (n0 + 3)), b7, b8, b9, b10, b11, b12, b13, b14, b15]))) (hib0 : ib ≠ 0) (r0 : w0.2.1 + 2 * m ≤ w0.2.2.2 0) (r1 : w0.2.2.1 + 61 * m ≤ w0.2.2.2 1) :
    ∀ r k fuel (w : gw) (tg : pT), k + r = m → r < fuel → dCp ia ib n0 w tg w0 tg0 g0 k → ∃ w1 tg1 fu, 1 ≤ fu ∧ gL2 (bf_X16_copy_1 a0) fuel (some n0) (nI k) w = gL2 (bf_X16_copy_1 a0) fu (some n0) (nI m) w1 ∧ dCp ia ib n0 w1 tg1 w0 tg0 g0 m := by
  intro r
  induction r with
  | zero =>
    intro k fuel w tg hk hf h
    obtain rfl : k = m := by omega
    exact ⟨w, tg, fuel, by omega, rfl, h⟩
  | succ r ih =>
    intro k fuel w tg hk hf h
    obtain ⟨fuel, rfl⟩ : ∃ g, fuel = g + 1 := ⟨fuel - 1, by omega⟩
    have hkm : k < m := by omega
    obtain ⟨hun, hF, h1, h2, h3, mc, ea, g, h4, h5, h6⟩ := h
    have hbw := hF.1
    have hsz := hF.2.1
    have hKK : w.2.2.2 = w0.2.2.2 := hF.2.2.1
    obtain ⟨dk, c0, c1, c2, y1, y2, y3⟩ := hg k hkm
    have hem : tg0 eo ≠ (ib, 68) ∧ m ≤ cap0 ∧ cap0 < 1000 ∧ w0.1 eo = some (.inr (2, cap0, .inr g0)) := by
      rcases he with z | z
      · omega
      · exact z
    have wa := (hF.at hb0 ha haT).1
    have wd := (hF.at hb0 hd hdT).1
    have we := (hF.at hb0 hem.2.2.2 hem.1).1
    have wk := (hF.at hb0 y3 y2).1
    have wn := hF.at hb0 hn (by rw [ht0]; intro z; exact absurd (congrArg Prod.snd z) (by simp))
    have na := hbw _ _ wa
    have nk := hbw _ _ wk
    have n3 := hbw _ _ h4
    -- the new record
    obtain ⟨W1, e1, q1, o1, z1, b1⟩ := st_new (w := w) (ci := 25) (n := 3) (fs := [gi 0, gi 0, gi 0]) rfl (by rw [hKK]; omega) (by rw [hKK]; omega) hbw
    obtain ⟨W2, e2, q2, o2, z2, b2⟩ := st_put (k := 0) q1 (by show 0 < 3; omega) b1 (gi c0)
    obtain ⟨W3, e3, q3, o3, z3, b3⟩ := st_put (k := 1) q2 (by show 1 < 3; omega) b2 (gi c1)
    obtain ⟨W4, e4, q4, o4, z4, b4⟩ := st_put (k := 2) q3 (by show 2 < 3; omega) b3 (gi c2)
    have old : ∀ c, c < w.2.1 → W4.1 c = w.1 c := fun c hc => (o4 c (by omega)).trans ((o3 c (by omega)).trans ((o2 c (by omega)).trans (o1 c (by omega))))
    have hz4 : W4.2 = (w.2.1 + 1, w.2.2.1 + 3, w.2.2.2) := by rw [z4, z3, z2, z1]
    have q4' : W4.1 w.2.1 = some (.inl (25, [gi c0, gi c1, gi c2])) := q4
    -- into the list
    have hgW : ∀ j, j < k → ∃ x c fs, g j = some x ∧ W4.1 x = some (.inl (c, fs)) ∧ gAsg 2 c = true := fun j hj => by
      obtain ⟨dk', c0', c1', c2', x, x1, x2, x3, x4, x5⟩ := h6 j hj
      exact ⟨x, 25, _, x3, (old x (hbw _ _ x5)).trans x5, by decide⟩
    have hea4 : (k = 0 ∧ ea = W4.2.2.2 5 ∧ W4.1 ea = none) ∨ ∃ cap, k ≤ cap ∧ 1 ≤ cap ∧ cap ≤ 100 ∧ W4.1 ea = some (.inr (2, cap, .inr g)) := by
      rcases h5 with ⟨x1, x2, x3⟩ | ⟨-, -, cap, x1, x2, x3, x4⟩
      · refine Or.inl ⟨x1, by rw [hz4]; exact x2, ?_⟩
        obtain ⟨-, hk5, -⟩ := hco
        have := (hk5 5 (by omega) (by omega)).2.2
        rw [old ea (by rw [x2, hKK]; omega)]
        exact x3
      · exact Or.inr ⟨cap, x1, x2, by omega, (old ea (hbw _ _ x4)).trans x4⟩
    obtain ⟨w5, ea1, cap1, g1, p1, p2, p3, p4, p5, p7, p6, p8, p9⟩ := pf_add (w := W4) (la := n0 + 3) (r := w.2.1) ((old _ n3).trans h4) (by omega) hea4 hgW ⟨25, _, q4', by decide⟩ b4 (by rw [hz4]; show w.2.1 + 1 + 1 ≤ w.2.2.2 0; rw [hKK]; omega) (by rw [hz4]; show w.2.2.1 + 3 + 10 + k + k ≤ w.2.2.2 1; rw [hKK]; omega)
    have hz5 : w.2.1 + 1 ≤ w5.2.1 ∧ w5.2.1 ≤ w.2.1 + 2 ∧ w5.2.2.1 ≤ w.2.2.1 + 61 ∧ w5.2.2.2 = w.2.2.2 := by
      rcases p9 with ⟨-, x, -⟩ | ⟨-, x, -, x'⟩
      · rw [x, hz4]
        exact ⟨Nat.le_refl _, Nat.le_succ _, by show w.2.2.1 + 3 ≤ _; omega, rfl⟩
      · rw [x, hz4]
        exact ⟨Nat.le_succ _, Nat.le_refl _, by show w.2.2.1 + 3 + cap1 ≤ _; omega, rfl⟩
    obtain ⟨tg5, ht5⟩ : ∃ tg5 : pT, tg5 = fun x => if x < w.2.1 then tg x else if x = w.2.1 then (ib, 70 + k) else (ib, 69) := ⟨_, rfl⟩
    have t1 : ∀ x, x < w.2.1 → tg5 x = tg x := fun x hx => by rw [ht5]; exact if_pos hx
    have t2 : tg5 w.2.1 = (ib, 70 + k) := by
      rw [ht5]
      dsimp only
      rw [if_neg (by omega), if_pos rfl]
    have t3 : ∀ x, w.2.1 < x → tg5 x = (ib, 69) := fun x hx => by
      rw [ht5]
      dsimp only
      rw [if_neg (by omega), if_neg (by omega)]
    have hea1 : ea1 = ea ∧ (n0 + 5 ≤ ea ∧ tg ea = (ib, 69) ∧ cap1 ≤ 36) ∨ ea1 = w.2.1 + 1 ∧ cap1 ≤ 36 := by
      rcases p9 with ⟨x, x', g00, x''⟩ | ⟨x, x', x'', -⟩
      · rcases h5 with ⟨y1, y2, y3⟩ | ⟨y1, y2, cap, y3, y4, y5, y6⟩
        · rw [old ea (by
            obtain ⟨-, hk5, -⟩ := hco
            have := (hk5 5 (by omega) (by omega)).2.2
            rw [y2, hKK]; omega), y3] at x''
          exact absurd x'' (by simp)
        · rw [old ea (hbw _ _ y6), y6] at x''
          injection x'' with x''
          injection x'' with x''
          injection x'' with _ x''
          injection x'' with x'' _
          exact Or.inl ⟨x, y1, y2, by omega⟩
      · refine Or.inr ⟨by rw [x, hz4], ?_⟩
        rcases x'' with x'' | x''
        · omega
        · rw [x'']
          have : max 1 (k / 2) ≤ 12 := by
            rw [Nat.max_le]
            exact ⟨by omega, by omega⟩
          omega
    have b5 : pBd w5 := fun c e hc => by
      by_cases h1 : c = n0 + 3
      · rw [h1]; omega
      · by_cases h2 : c = ea1
        · rcases p9 with ⟨x, x', g00, x''⟩ | ⟨x, x', -⟩
          · have := b4 _ _ x''
            rw [← x, ← h2] at this
            rw [x']
            exact this
          · rw [h2, x, x']
            exact Nat.lt_succ_self _
        · rw [p6 c h1 h2] at hc
          have := b4 _ _ hc
          rw [hz4] at this
          have h3 : c < w.2.1 + 1 := this
          omega
    have hnew : ∀ c, c < w0.2.1 → c ≠ n0 + 3 → w5.1 c = w.1 c := fun c hc h1 => by
      rw [p6 c h1 (by rcases hea1 with ⟨x, x', -⟩ | ⟨x, -⟩ <;> omega), old c (by omega)]
    have hF5 : pFr w0 w5 tg0 tg5 (fun t => t = (ib, 68)) := ⟨b5, by omega, hz5.2.2.2.trans hKK, fun x hx => (t1 x (by omega)).trans (hF.2.2.2.1 x hx), fun c hc hnp => by
      rw [hnew c hc (by rintro rfl; exact hnp ht3), hF.2.2.2.2 c hc hnp]⟩
    have hd5 : dCp ia ib n0 w5 tg5 w0 tg0 g0 (k + 1) := by
      refine ⟨fun c hc h1 => (hnew c hc h1).trans (hun c hc h1), hF5, by omega, by omega, (t1 _ n3).trans h3, _, ea1, g1, p2, Or.inr ⟨?_, ?_, cap1, p4, by omega, ?_, p3⟩, fun j hj => ?_⟩
      · rcases hea1 with ⟨x, x', -⟩ | ⟨x, -⟩ <;> omega
      · rcases hea1 with ⟨x, x', x'', -⟩ | ⟨x, -⟩
        · rcases h5 with ⟨y1, y2, y3⟩ | ⟨y1, y2, cap, y3, y4, y5, y6⟩
          · rw [y2, hKK] at x'
            obtain ⟨-, hk5, -⟩ := hco
            have := (hk5 5 (by omega) (by omega)).2.2
            omega
          · rw [x, t1 _ (hbw _ _ y6)]
            exact y2
        · rw [x]
          exact t3 _ (by omega)
      · rcases hea1 with ⟨-, -, -, x⟩ | ⟨-, x⟩ <;> exact x
      · by_cases hjk : j = k
        · subst hjk
          refine ⟨dk, c0, c1, c2, w.2.1, y1, y3, p7, t2, ?_⟩
          rw [p6 _ (by omega) (by
            rcases hea1 with ⟨x, x', -⟩ | ⟨x, -⟩
            · rcases h5 with ⟨z1, z2, z3⟩ | ⟨-, -, cap, z3, z4, z5, z6⟩
              · obtain ⟨-, hk5, -⟩ := hco
                have := (hk5 5 (by omega) (by omega)).2.2
                rw [x, z2, hKK]; omega
              · have := hbw _ _ z6
                omega
            · omega)]
          exact q4'
        · obtain ⟨dk', c0', c1', c2', x, x1, x2, x3, x4, x5⟩ := h6 j (by omega)
          have nx := hbw _ _ x5
          refine ⟨dk', c0', c1', c2', x, x1, x2, (p5 j (by omega)).trans x3, (t1 _ nx).trans x4, ?_⟩
          rw [p6 x (ne_of x5 h4 (by simp)) (by
            rcases hea1 with ⟨z, -⟩ | ⟨z, -⟩
            · rcases h5 with ⟨z1, -⟩ | ⟨-, -, cap, z3, z4, z5, z6⟩
              · omega
              · rw [z]
                exact ne_of x5 z6 (by simp)
            · omega), old x nx]
          exact x5
    obtain ⟨w1, tg1, fu, i1, i2, i3⟩ := ih (k + 1) fuel w5 tg5 (by omega) (by omega) hd5
    refine ⟨w1, tg1, fu, i1, ?_, i3⟩
    rw [← i2]
    show bf_X16_copy_1 a0 (gL2 (bf_X16_copy_1 a0) fuel) _ _ _ = _
    generalize gL2 (bf_X16_copy_1 a0) fuel = KK
    have sz := pf_size wd
    have gt := pf_get wd we hkm hem.2.1 hem.2.2.1
    rw [y1] at gt
    have ck : gCk w [25] (some dk) = some (some dk) := by
      rw [pu_Ck wk]
      rfl
    have wk1 : W1.1 dk = _ := (o1 dk (by omega)).trans wk
    have x25 : f_X25_init w.2.1 c0 c1 c2 W1 = some ((), W4) := by
      unfold f_X25_init
      rw [e2, pu_B1, e3, pu_B1, e4, pu_B1]
    have w4l : W4.1 (n0 + 3) = _ := (old _ n3).trans h4
    unfold bf_X16_copy_1
    rw [pu_R (k := 6) wa rfl, pu_B1, pu_B1, pu_Ob wd, pu_B1, sz, pu_B2, if_neg (nI_ge hkm (by omega)), pu_R (k := 6) wa rfl, pu_B1, pu_B1, pu_Ob wd, pu_B1, gt, pu_B2, ck, pu_B1, pu_B1, pu_R (k := 6) wn.1 rfl, pu_B1, e1, pu_B2, pu_B1, pu_I (k := 0) wk1 rfl, pu_B1, pu_I (k := 1) wk1 rfl, pu_B1, pu_I (k := 2) wk1 rfl, pu_B1, x25, pu_B2, pu_B1, pu_Ob w4l, pu_B1, p1, pu_B2, pu_Bd, nI_add]
end CD
