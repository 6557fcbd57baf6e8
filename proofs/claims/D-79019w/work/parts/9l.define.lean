set_option maxRecDepth 100000
/-! DEFINE: the call -/
theorem vAll.sq {Ss : Nat → SV} {many : Nat → Nat} {σ σ1 : TS} {w : gw} {tg : pT} {fv : Nat → Option Nat} {fm s s1 : Nat → Int32} (h1 : ∀ j, j < 9216 → σ1 1 j = σ 1 j) (h3 : σ1 3 = σ 3) (hs : ∀ a, a < 4 → s1 (17 + a) = s (17 + a)) (h : vAll Ss many σ w tg fv fm s) : vAll Ss many σ1 w tg fv fm s1 := fun a ha => by
  obtain ⟨g1, g2, g3, g4, g5⟩ := h a ha
  exact ⟨g1, g2, (hs a ha).trans g3, fun b hb => (g4 b hb).sq (fun j j1 j2 => h1 j (by omega)) (fun q hq => by rw [h3]), g5⟩
theorem place_w {w : gw} {wa ca p c : Nat} {fs gs : List gv} (h1 : w.1 wa = some (.inl (15, ga (some ca) :: fs))) (h2 : w.1 ca = some (.inl (c, gs))) (h3 : gs[6]? = some (gi (nI p))) (hc : c = 6 ∨ c = 7) : f_X15_place wa w = some (nI p, w) := by
  have hne : ¬ some ca = some wa := by
    intro z
    obtain rfl := Option.some.inj z
    rw [h1] at h2
    injection h2 with h2
    injection h2 with h2
    injection h2 with h2
    omega
  have hcv : gcv wa (some ca) = some ca := if_neg hne
  have y1 : ¬ (1 : Int32) = 0 := by decide
  unfold f_X15_place
  rcases hc with rfl | rfl
  · have i1 : gIs w [7] [12, 11, 6, 13, 14, 9, 10, 15] (some ca) = some 0 := by
      rw [pu_Is h2]
      rfl
    have i2 : gCk w [6] (some ca) = some (some ca) := by
      rw [pu_Ck h2]
      rfl
    rw [pu_R (k := 0) h1 rfl, pu_B1, hcv, pu_Bd, i1, pu_B1, if_pos rfl, pu_B1, hcv, pu_Bd, i2, pu_B1, pu_B1, pu_I (k := 6) h2 h3, pu_B1]
  · have i1 : gIs w [7] [12, 11, 6, 13, 14, 9, 10, 15] (some ca) = some 1 := by
      rw [pu_Is h2]
      rfl
    have i2 : gCk w [7] (some ca) = some (some ca) := by
      rw [pu_Ck h2]
      rfl
    rw [pu_R (k := 0) h1 rfl, pu_B1, hcv, pu_Bd, i1, pu_B1, if_neg y1, i2, pu_B1, pu_B1, pu_I (k := 6) h2 h3, pu_B1]
/-- the wrong text's object -/
theorem wt_new {w : gw} {ea : Nat} (hb : pBd w) (r0 : w.2.1 + 1 ≤ w.2.2.2 0) (r1 : w.2.2.1 + 6 ≤ w.2.2.2 1) : ∃ W0 W fs, gNew w 15 = some (w.2.1, W0) ∧ f_X15_init w.2.1 (some ea) W0 = some ((), W) ∧ W.1 w.2.1 = some (.inl (15, ga (some ea) :: fs)) ∧ (∀ b, b ≠ w.2.1 → W.1 b = w.1 b) ∧ W.2 = (w.2.1 + 1, w.2.2.1 + 6, w.2.2.2) ∧ pBd W := by
  obtain ⟨W1, e1, q1, o1, z1, b1⟩ := st_new (w := w) (ci := 15) (n := 6) (fs := [ga none, ga none, ga none, ga none, ga none, gi 0]) rfl r0 r1 hb
  obtain ⟨W2, e2, q2, o2, z2, b2⟩ := st_put (k := 0) q1 (by show 0 < 6; omega) b1 (ga (some w.2.1))
  obtain ⟨W3, e3, q3, o3, z3, b3⟩ := st_put (k := 1) q2 (by show 1 < 6; omega) b2 (ga (gCo (W2.2.2.2 6)))
  obtain ⟨W4, e4, q4, o4, z4, b4⟩ := st_put (k := 2) q3 (by show 2 < 6; omega) b3 (ga (gCo (W3.2.2.2 7)))
  obtain ⟨W5, e5, q5, o5, z5, b5⟩ := st_put (k := 1) q4 (by show 1 < 6; omega) b4 (ga none)
  obtain ⟨W6, e6, q6, o6, z6, b6⟩ := st_put (k := 3) q5 (by show 3 < 6; omega) b5 (ga none)
  obtain ⟨W7, e7, q7, o7, z7, b7⟩ := st_put (k := 0) q6 (by show 0 < 6; omega) b6 (ga (some ea))
  obtain ⟨W8, e8, q8, o8, z8, b8⟩ := st_put (k := 2) q7 (by show 2 < 6; omega) b7 (ga none)
  have hz0 : (nI 0 : Int32) = 0 := by decide
  refine ⟨W1, W8, _, e1, ?_, q8, fun b hb => by rw [o8 b hb, o7 b hb, o6 b hb, o5 b hb, o4 b hb, o3 b hb, o2 b hb, o1 b hb], by rw [z8, z7, z6, z5, z4, z3, z2, z1], b8⟩
  unfold f_X15_init f_J4_init_c15 f_J3_init_2_c15
  rw [e2, pu_B1, pu_Bd, e3, pu_B1, pu_Bd, e4, pu_B1, if_pos hz0, e5, pu_B1, e6, pu_B1, e7, pu_B1, if_pos hz0, e8, pu_B1, pu_B2, pu_B2]
/-- whether the text was read -/
def rdB (σ : TS) : Option (Int32 × TS) := gB2 (t_X2_readsBody 12 (-1) (-1) σ) fun x13 w12 => if x13 = 0 then some ((nI 0), w12) else if (w12 0 12) = (w12 0 9) then some ((nI 1), w12) else some ((nI 0), w12)
theorem def_dec {β : Type} (K : Int32 → Int32 → TS → Option β) (p1 : Int32) (σ : TS) : (gB2 (t_X2_readsBody 12 (-1) (-1) σ) fun x13 w12 => gBd K fun k14 => gBd (fun (x55 : Int32) (w54 : TS) => k14 x55 (nI 0) w54) fun k53 => if x13 = 0 then k53 p1 w12 else if (w12 0 12) = (w12 0 9) then k14 p1 (nI 1) w12 else k53 p1 w12) = gB2 (rdB σ) fun b w12 => K p1 b w12 := by
  unfold rdB
  match t_X2_readsBody 12 (-1) (-1) σ with
  | none => rfl
  | some (x, τ) =>
    rw [pu_B2, pu_B2, pu_Bd, pu_Bd]
    by_cases h1 : x = 0
    · rw [if_pos h1, if_pos h1, pu_B2]
    · rw [if_neg h1, if_neg h1]
      by_cases h2 : τ 0 12 = τ 0 9
      · rw [if_pos h2, if_pos h2, pu_B2]
      · rw [if_neg h2, if_neg h2, pu_B2]
/-- the whole text -/
theorem whole_s {xa rd L N0 M0 mo : Nat} {S : SV} {tp : Nat → Nat} {w : gw} {σ : TS} (hC : rdC xa rd L N0 M0 S tp w σ 0 0 0 0 mo) : pFail L N0 M0 rd w σ (f_X4_whole rd w) (rdB σ) ∨
    ∃ a W σ1 it1 nd1 mo1 S1 tp1, f_X4_whole rd w = some (.inr (some a), W) ∧ rdB σ = some (nI 1, σ1) ∧ pSt xa rd L N0 M0 W σ1 L 0 it1 nd1 mo1 ∧ wF rd w W ∧ tF σ σ1 ∧ 0 < nd1 ∧ pG S1 (rr σ1) nd1 it1 mo1 L ∧ (∀ b, b < w.2.1 → tp1 b = tp b) ∧ sub S1 (rr σ1) W tp1 N0 0 nd1 ∧ rr σ1 0 8 = -1 ∧ sKd S1 0 = 0 ∧ sLv S1 0 = 4 ∧ sSa S1 0 = a := by
  have hz : (nI 0 : Int32) = 0 := by decide
  have hz1 : ¬ (nI 1 : Int32) = 0 := by decide
  have h := hC.1
  unfold f_X4_whole rdB
  rw [pu_Ob h.1, pu_B1]
  rcases read_all (xa := xa) (rd := rd) (L := L) (N0 := N0) (M0 := M0) 4 0 12 rfl (by omega) S tp w σ 0 0 0 mo (-1) (-1) (rr σ) hC (by omega) (Or.inl ⟨by decide, by decide, rfl⟩) with hf | ⟨a, W, σ1, p1, it1, nd1, mo1, S1, tp1, i1, i2, h1, i4, w9, t9, i7, i8, i9, i10, i11, i12, i13, i14, i15, i16, i17, i18, i19, i20, i21, i22⟩
  · left
    refine pFail.bk hf (wF.rf h.bd) tF.rf (fun q c v hv => ?_) (fun v hv => ?_)
    · rw [hv, gB2X_l]
    · rw [hv, pu_B2, if_pos hz]
  · have hxa1 : ∃ f0 f2 f3 f4 f5 f6, W.1 xa = some (.inl (0, [f0, gi (nI L), f2, f3, f4, f5, f6])) := by
      obtain ⟨-, ⟨ta, f2, f3, f4, f5, f6, ft, y, -⟩, -⟩ := h1
      exact ⟨_, _, _, _, _, _, y⟩
    obtain ⟨f0, f2, f3, f4, f5, f6, hxa1⟩ := hxa1
    obtain ⟨n1, n2, n3, -⟩ := h1.nums
    rw [i1, gB2X_r, pu_I (k := 0) h1.1 rfl, pu_B1, pu_R (k := 3) h1.1 rfl, pu_B1, pu_B1, pu_I (k := 1) hxa1 rfl, pu_B1, pu_Bd, i2, pu_B2, if_neg hz1, h1.t12, n3]
    by_cases hp : p1 = L
    · subst hp
      rw [if_pos rfl, if_pos rfl]
      try dsimp only
      rw [pu_B1, pu_Ob h1.1, pu_B1, need_1, gB2X_r]
      exact Or.inr ⟨a, W, σ1, it1, nd1, mo1, S1, tp1, rfl, rfl, h1, w9, t9, i7, i11, i13, i15, i17, i18, i19, i20⟩
    · have hne : ¬ nI p1 = nI L := fun z => hp ((nI_eq (by omega) (by omega)).mp z)
      left
      rw [if_neg hne, if_neg hne]
      try dsimp only
      refine pFail.bk (fail_need (R := Option Nat) h1 (fun v hv => ?_) rfl) w9 t9 (fun _ _ _ hv => hv) (fun _ hv => hv)
      rw [pu_B1, pu_Ob h1.1, pu_B1, hz, hv, gB2X_l]
