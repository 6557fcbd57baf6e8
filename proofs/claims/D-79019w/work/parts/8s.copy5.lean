set_option maxRecDepth 100000
/-! COPY of an instance, in whole -/
section CI
variable {S : SV} {σ : TS} {xa mo ia mb i ver T Tr B : Nat} {bo un : Option Nat}
theorem cp_inst {w : gw} {tg : pT} {s : Nat → Int32} (hW : pW S σ xa mo ia i ver T w tg s B bo un) (hR : iRun S xa ia i w tg s Tr false bo un) (hn0 : 0 < sEn S 0) (hMb : pMo xa mb w tg s T) (r0 : w.2.1 + 440 ≤ w.2.2.2 0) (r1 : w.2.2.1 + 8013 ≤ w.2.2.2 1) :
    ∃ w1 tg1 bo1 un1, f_X16_copy ia (some mb) w = some (some w.2.1, w1) ∧ pFr w w1 tg tg1 (fun _ => False) ∧ w1.2.1 ≤ w.2.1 + 440 ∧ w1.2.2.1 ≤ w.2.2.1 + 8013 ∧ w.2.1 < w1.2.1 ∧ pW S σ xa mb w.2.1 i ver T w1 tg1 s B bo1 un1 ∧ iRun S xa w.2.1 i w1 tg1 s Tr false bo1 un1 := by
  have hb := hW.bd
  have hS : sWf S := hW.1.2.2.1
  have hNs : sEn S 0 ≤ 64 := hS.1
  have hia := hW.1.1
  have hi := hW.1.2.1
  have hco := hW.2.1
  have hlv : sLv S 0 ≤ 4 := hS.2.2.2.1
  have hib : w.2.1 ≠ 0 := by
    obtain ⟨du, fa, ins, fd, ff, fi, m1, m2, -⟩ := hMb
    have := hb _ _ m2
    omega
  obtain ⟨va, pe, hi', dl, fv, fp, fh, i1, i2, i3, i4, i5, i6, i7, i8, i9, i10, i11, m, ea, mc, g, d1, d2, d3, d4, d5, d6, d7, d8, d9⟩ := hW.2.2.2.2.2.1
  have nia := hb _ _ i2
  have nva := hb _ _ i4
  have npe := hb _ _ i6
  have nhi := hb _ _ i8
  have ndl := hb _ _ d5
  have hz : (0 : Int32) = nI 0 := by decide
  have hK5 := (hco.2.1 5 (by omega) (by omega))
  -- the new instance
  obtain ⟨W1, e1, q1, o1, z1, b1⟩ := st_new (w := w) (ci := 16) (n := 16) (fs := [ga none, gi 0, gi 0, gi 0, ga none, ga none, ga none, ga none, gi 0, gi 0, gi 0, gi 0, gi 0, ga none, ga none, ga none]) rfl (by omega) (by omega) hb
  obtain ⟨W2, e2, q2, a1, a2, a3, a4, o2, z2, b2⟩ := pf_init16 (p1 := some xa) (p2 := some mb) (x3 := s (21 + 1262 * (i) + 2)) (x4 := s (21 + 1262 * (i) + 3)) (x5 := s (21 + 1262 * (i) + 4)) q1 b1 (by rw [z1]; show w.2.1 + 1 + 4 ≤ w.2.2.2 0; omega) (by rw [z1]; show w.2.2.1 + 16 + 615 ≤ w.2.2.2 1; omega)
  rw [z1] at q2 a1 a2 a3 a4 o2 z2
  simp only at q2 a1 a2 a3 a4 o2 z2
  have old2 : ∀ c, c < w.2.1 → W2.1 c = w.1 c := fun c hc => (o2 c (by omega) (by omega)).trans (o1 c (by omega))
  obtain ⟨W3, gv, e3, q3, x3, o3, z3, b3⟩ := st_cpI (n := 4) ((old2 va nva).trans i4) a1 (by omega) (by omega) b2
  obtain ⟨W4, gp, e4, q4, x4, o4, z4, b4⟩ := st_cpI (n := 8) ((o3 pe (by omega)).trans ((old2 pe npe).trans i6)) ((o3 _ (by omega)).trans a2) (by omega) (by omega) b3
  have old4 : ∀ c, c < w.2.1 → W4.1 c = w.1 c := fun c hc => (o4 c (by omega)).trans ((o3 c (by omega)).trans (old2 c hc))
  have hz4 : W4.2 = (w.2.1 + 5, w.2.2.1 + 631, w.2.2.2) := by rw [z4, z3, z2]
  have r0' : W4.1 w.2.1 = _ := (o4 _ (by omega)).trans ((o3 _ (by omega)).trans q2)
  have r1' : W4.1 (w.2.1 + 1) = _ := (o4 _ (by omega)).trans q3
  have r3' : W4.1 (w.2.1 + 3) = some (.inl (8, [gi 0, ga (some (w.2.2.2 5)), gi 0])) := (o4 _ (by omega)).trans ((o3 _ (by omega)).trans a3)
  obtain ⟨tgA, htA⟩ : ∃ tgA : pT, tgA = fun x => if x < w.2.1 then tg x else if x = w.2.1 then (w.2.1, 64) else if x = w.2.1 + 1 then (w.2.1, 65) else if x = w.2.1 + 2 then (w.2.1, 66) else if x = w.2.1 + 3 then (w.2.1, 68) else (w.2.1, 200) := ⟨_, rfl⟩
  have t0 : ∀ x, x < w.2.1 → tgA x = tg x := fun x hx => by rw [htA]; exact if_pos hx
  have t1 : tgA w.2.1 = (w.2.1, 64) := by
    rw [htA]
    dsimp only
    rw [if_neg (by omega), if_pos rfl]
  have t2 : tgA (w.2.1 + 1) = (w.2.1, 65) := by
    rw [htA]
    dsimp only
    rw [if_neg (by omega), if_neg (by omega), if_pos rfl]
  have t3 : tgA (w.2.1 + 2) = (w.2.1, 66) := by
    rw [htA]
    dsimp only
    rw [if_neg (by omega), if_neg (by omega), if_neg (by omega), if_pos rfl]
  have t4 : tgA (w.2.1 + 3) = (w.2.1, 68) := by
    rw [htA]
    dsimp only
    rw [if_neg (by omega), if_neg (by omega), if_neg (by omega), if_neg (by omega), if_pos rfl]
  have hF4 : pFr w W4 tg tgA (fun _ => False) := ⟨b4, by rw [hz4]; show w.2.1 ≤ w.2.1 + 5; omega, by rw [hz4], t0, fun c hc _ => old4 c hc⟩
  -- the tasks that were done
  have hcoA : pCo W4 tgA := hco.fr hF4 id
  have htne : ∀ j : Nat, (ia, j) ≠ (w.2.1, 68) := fun j z => by
    have : ia = w.2.1 := congrArg Prod.fst z
    omega
  have hd0 : dCp ia w.2.1 w.2.1 W4 tgA W4 tgA g 0 := ⟨fun _ _ _ => rfl, pFr.rf b4, Nat.le_refl _, Nat.le_refl _, t4, 0, w.2.2.2 5, fun _ => none, by rw [← hz]; exact r3', Or.inl ⟨rfl, by rw [hz4], by rw [old4 _ hK5.2.2]; exact hK5.1⟩, fun j hj => absurd hj (by omega)⟩
  obtain ⟨cap0, hcap⟩ : ∃ cap0, m = 0 ∨ (tgA ea ≠ (w.2.1, 68) ∧ m ≤ cap0 ∧ cap0 < 1000 ∧ W4.1 ea = some (.inr (2, cap0, .inr g))) := by
    rcases d6 with z | ⟨z1, cap, z2, z3, z4, z5⟩
    · exact ⟨0, Or.inl z.1⟩
    · have h1 := hF4.old hb z5
      exact ⟨cap, Or.inr ⟨by rw [h1.2, z1]; exact htne _, z2, by omega, h1.1⟩⟩
  have hgk : ∀ j, j < m → ∃ dk c0 c1 c2, g j = some dk ∧ tgA dk ≠ (w.2.1, 68) ∧ W4.1 dk = some (.inl (25, [gi c0, gi c1, gi c2])) := fun j hj => by
    obtain ⟨dk, t, e, y1, y2, y3, y4, y5, y6, y7, y8⟩ := d7 j hj
    have h1 := hF4.old hb y7
    exact ⟨dk, _, _, _, y1, by rw [h1.2, y2]; exact htne _, h1.1⟩
  obtain ⟨W5, tg5, fu, hfu, e5, hun5, hF5, s5, s5', t5l, mc5, ea5, g5, l5, h5, k5⟩ := cp_dones (ia := ia) (a0 := ia) (m := m) b4 hcoA (by rw [hz4]) rfl t4 t1 ((hF4.old hb i2).1) (by rw [(hF4.old hb i2).2, i1]; exact htne _) (by rw [(hF4.old hb d5).2, d4]; exact htne _) ((hF4.old hb d5).1) d3 hcap hgk r0' hib (by rw [hz4]; show w.2.1 + 5 + 2 * m ≤ w.2.2.2 0; omega) (by rw [hz4]; show w.2.2.1 + 631 + 61 * m ≤ w.2.2.2 1; omega) m 0 20000 W4 tgA (by omega) (by omega) hd0
  obtain ⟨fu, rfl⟩ : ∃ g, fu = g + 1 := ⟨fu - 1, by omega⟩
  rw [hz4] at s5 s5'
  simp only at s5 s5'
  have hsz5 : w.2.1 + 5 ≤ W5.2.1 := by have := hF5.2.1; rw [hz4] at this; exact this
  have hK55 : W5.2.2.2 = w.2.2.2 := by rw [hF5.2.2.1, hz4]
  have old5 : ∀ c, c < w.2.1 → W5.1 c = w.1 c := fun c hc => (hun5 c (by rw [hz4]; show c < w.2.1 + 5; omega) (by omega)).trans (old4 c hc)
  have tg5o : ∀ c, c < w.2.1 → tg5 c = tg c := fun c hc => (hF5.2.2.2.1 c (by rw [hz4]; show c < w.2.1 + 5; omega)).trans (t0 c hc)
  have tg5n : ∀ c, w.2.1 ≤ c → c < w.2.1 + 5 → tg5 c = tgA c := fun c _ hc => hF5.2.2.2.1 c (by rw [hz4]; exact hc)
  have n05 : W5.1 w.2.1 = _ := (hun5 w.2.1 (by rw [hz4]; show w.2.1 < w.2.1 + 5; omega) (by omega)).trans r0'
  -- the history and the fields
  have ia5 := (old5 ia nia).trans i2
  have dl5 := (old5 dl ndl).trans d5
  obtain ⟨W6, e6, q6, o6, z6, b6⟩ := st_cln ((old5 hi' nhi).trans i8) rfl (by rw [hK55]; omega) (by rw [hK55]; omega) hF5.1
  have ck6 := pu_CkA q6
  obtain ⟨W7, e7, q7, o7, z7, b7⟩ := st_put (k := 7) ((o6 w.2.1 (by omega)).trans n05) (by show 7 < 16; omega) b6 (ga (some W5.2.1))
  have ia7 : W7.1 ia = _ := (o7 ia (by omega)).trans ((o6 ia (by omega)).trans ia5)
  obtain ⟨W8, e8, q8, o8, z8, b8⟩ := st_put (k := 8) q7 (by show 8 < 16; omega) b7 (gi (s (21 + 1262 * (i) + 9)))
  have ia8 : W8.1 ia = _ := (o8 ia (by omega)).trans ia7
  obtain ⟨W9, e9, q9, o9, z9, b9⟩ := st_put (k := 9) q8 (by show 9 < 16; omega) b8 (gi (s (21 + 1262 * (i) + 1)))
  have ia9 : W9.1 ia = _ := (o9 ia (by omega)).trans ia8
  obtain ⟨W10, e10, q10, o10, z10, b10⟩ := st_put (k := 10) q9 (by show 10 < 16; omega) b9 (gi (s (21 + 1262 * (i) + 5)))
  have ia10 : W10.1 ia = _ := (o10 ia (by omega)).trans ia9
  obtain ⟨W11, e11, q11, o11, z11, b11⟩ := st_put (k := 11) q10 (by show 11 < 16; omega) b10 (gi (s (21 + 1262 * (i) + 7)))
  have ia11 : W11.1 ia = _ := (o11 ia (by omega)).trans ia10
  obtain ⟨W12, e12, q12, o12, z12, b12⟩ := st_put (k := 12) q11 (by show 12 < 16; omega) b11 (gi (s (21 + 1262 * (i) + 8)))
  have ia12 : W12.1 ia = _ := (o12 ia (by omega)).trans ia11
  have hz12 : W12.2 = (W5.2.1 + 1, W5.2.2.1 + 600, w.2.2.2) := by rw [z12, z11, z10, z9, z8, z7, z6, hK55]
  have o512 : ∀ c, c ≠ w.2.1 → c < W5.2.1 → W12.1 c = W5.1 c := fun c h1 h2 => by rw [o12 c h1, o11 c h1, o10 c h1, o9 c h1, o8 c h1, o7 c h1, o6 c (by omega)]
  have hc12 : W12.1 W5.2.1 = some (.inr (0, 600, .inl fh)) := by rw [o12 _ (by omega), o11 _ (by omega), o10 _ (by omega), o9 _ (by omega), o8 _ (by omega), o7 _ (by omega)]; exact q6
  obtain ⟨tg6, ht6⟩ : ∃ tg6 : pT, tg6 = fun x => if x < W5.2.1 then tg5 x else (w.2.1, 67) := ⟨_, rfl⟩
  have t61 : ∀ x, x < W5.2.1 → tg6 x = tg5 x := fun x hx => by rw [ht6]; exact if_pos hx
  have t62 : ∀ x, ¬ x < W5.2.1 → tg6 x = (w.2.1, 67) := fun x hx => by rw [ht6]; exact if_neg hx
  have hF12 : pFr w W12 tg tg6 (fun _ => False) := ⟨b12, by rw [hz12]; show w.2.1 ≤ W5.2.1 + 1; omega, by rw [hz12], fun x hx => (t61 x (by omega)).trans (tg5o x hx), fun c hc _ => (o512 c (by omega) (by omega)).trans (old5 c hc)⟩
  have hE12 : cEnv S w.2.1 mb W12 tg6 := by
    obtain ⟨du, fa, ins, fd, ff, fi, m1, m2, -⟩ := hMb
    exact ⟨b12, hW.2.2.1.fr (hF12.stc hb id), ⟨_, q12⟩, _, _, _, _, _, (hF12.old hb m2).1⟩
  have hco12 : pCo W12 tg6 := hco.fr hF12 id
  have n12t : tg6 w.2.1 = (w.2.1, 64) := (t61 _ (by omega)).trans ((tg5n _ (Nat.le_refl _) (by omega)).trans t1)
  -- what runs
  obtain ⟨bo', W13, tg13, u1, u2, u3, u4, u5, u6⟩ : ∃ bo' W13 tg13, (gNl bo (some (none, W12)) (fun _ => gB1 (some bo) fun r68 => gB1 r68 fun a69 => gB2 (f_Run_copy 12 a69 (some w.2.1) W12) fun r71 w70 => some (r71, w70)) : Option (Option Nat × gw)) = some (bo', W13) ∧ pFr W12 W13 tg6 tg13 (fun _ => False) ∧ W13.2.1 ≤ W12.2.1 + 6 * 64 ∧ W13.2.2.1 ≤ W12.2.2.1 + 83 * 64 ∧ (bo = none → bo' = none) ∧ (∀ a, bo = some a → s (21 + 1262 * (i) + 1) = nI 0 → ∃ a2, bo' = some a2 ∧ rB S xa w.2.1 i W13 tg13 s Tr false (sLv S 0) 0 a2) := by
    cases hbo : bo with
    | none => exact ⟨none, W12, tg6, rfl, pFr.rf b12, Nat.le_add_right _ _, Nat.le_add_right _ _, fun _ => rfl, fun a z => absurd z (by simp)⟩
    | some a =>
      rcases hR with ⟨h1, h2, h3, a', h4, h5', h6⟩ | ⟨h1, h2, -⟩ | ⟨h1, h2, -⟩
      · rw [hbo] at h4
        obtain rfl := Option.some.inj h4
        have hrB := (rB_fr (q := false) (q1 := false) (T := Tr) (T1 := Tr) hS hF12.2.2.1 (fun z => absurd z (by decide)) (Nat.le_refl _) (sLv S 0)).1 0 a hn0 hS.2.2.1 (hF12.aW hb (fun _ _ => id)) (aS.aY hS hn0 (fun _ _ _ _ _ => rfl)) h5'
        obtain ⟨a2, W13, tg13, y1, y2, y3, y4, y5⟩ := (cp_run (ia := ia) (ib := w.2.1) (mb := mb) (s := s) (T := Tr) (q := false) hS hib (sLv S 0) hlv).1 12 0 a W12 tg6 (by omega) hn0 hS.2.2.1 rfl hE12 hco12 hrB (by rw [hz12]; show W5.2.1 + 1 + 6 * (sEn S 0 - 0) ≤ w.2.2.2 0; omega) (by rw [hz12]; show W5.2.2.1 + 600 + 83 * (sEn S 0 - 0) ≤ w.2.2.2 1; omega)
        refine ⟨some a2, W13, tg13, ?_, y2, by omega, by omega, fun z => absurd z (by simp), fun a'' z _ => ⟨a2, rfl, y5⟩⟩
        rw [pu_Ns, pu_B1, pu_B1, y1, pu_B2]
      · rw [hbo] at h2; exact absurd h2 (by simp)
      · rw [hbo] at h2; exact absurd h2 (by simp)
  have hz12a : W12.2.1 = W5.2.1 + 1 := by rw [hz12]
  have hz12b : W12.2.2.1 = W5.2.2.1 + 600 := by rw [hz12]
  have hK13 : W13.2.2.2 = w.2.2.2 := by rw [u2.2.2.1, hz12]
  have hs13 := u2.2.1
  have n13 := u2.old b12 q12
  obtain ⟨W14, e14, q14, o14, z14, b14⟩ := st_put (k := 13) n13.1 (by show 13 < 16; omega) u2.1 (ga bo')
  have ia14 : W14.1 ia = _ := (o14 ia (by omega)).trans ((u2.old b12 ia12).1)
  have hF14 : pFr W13 W14 tg13 tg13 (fun t => t = (w.2.1, 64)) := ⟨b14, by rw [z14]; exact Nat.le_refl _, by rw [z14], fun _ _ => rfl, fun c _ hnp => o14 c (by rintro rfl; exact hnp (n13.2.trans n12t))⟩
  have hFw14 : pFr w W14 tg tg13 (fun _ => False) := ⟨b14, by rw [z14]; omega, by rw [z14]; exact hK13, fun c hc => (u2.2.2.2.1 c (by omega)).trans (hF12.2.2.2.1 c hc), fun c hc _ => by
    rw [o14 c (by omega), u2.2.2.2.2 c (by omega) id, hF12.2.2.2.2 c hc id]⟩
  have hE14 : cEnv S w.2.1 mb W14 tg13 := by
    obtain ⟨du, fa, ins, fd, ff, fi, m1, m2, -⟩ := hMb
    exact ⟨b14, hW.2.2.1.fr (hFw14.stc hb id), ⟨_, q14⟩, _, _, _, _, _, (hFw14.old hb m2).1⟩
  -- what is undone
  obtain ⟨un', W15, tg15, v1, v2, v3, v4, v5, v6⟩ : ∃ un' W15 tg15, (gNl un (some (none, W14)) (fun _ => gB1 (some un) fun r62 => gB1 r62 fun a63 => gB1 (gOb W14 a63 26) fun _ => gB2 (f_X26_copy a63 (some w.2.1) W14) fun r65 w64 => some (r65, w64)) : Option (Option Nat × gw)) = some (un', W15) ∧ pFr W14 W15 tg13 tg15 (fun _ => False) ∧ W15.2.1 ≤ W14.2.1 + 1 ∧ W15.2.2.1 ≤ W14.2.2.1 + 6 ∧ (un = none → un' = none) ∧ (∀ ua, un = some ua → s (21 + 1262 * (i) + 1) = nI 2 → ∃ ub, un' = some ub ∧ uLive S xa w.2.1 i W15 tg15 s Tr 0 ub) := by
    cases hun : un with
    | none => exact ⟨none, W14, tg13, rfl, pFr.rf b14, Nat.le_succ _, by omega, fun _ => rfl, fun a z => absurd z (by simp)⟩
    | some ua =>
      rcases hR with ⟨h1, h2, -⟩ | ⟨h1, h2, h3, h4, ua', h5', L, left, tried, til, ⟨y1, td, tda, f, y2, y3, y4, y5, y6, y7⟩, y8⟩ | ⟨h1, h2, h3, -⟩
      · rw [hun] at h2; exact absurd h2 (by simp)
      · rw [hun] at h5'
        obtain rfl := Option.some.inj h5'
        have x2 := (hFw14.old hb y2).1
        have x4 := (hFw14.old hb y4).1
        have hcp := pf_copy26 hE14 x2 x4 (by rw [z14, hK13]; omega) (by rw [z14, hK13]; omega)
        refine ⟨some W14.2.1, hn W14 (.inl (26, [ga (some w.2.1), ga (some td), gi (nI left), gi (nI tried), gi til, ga (some xa)])) 6, tU tg13 W14.2.1 (w.2.1, 0), ?_, pFr.hn b14 _ _ _, Nat.le_refl _, Nat.le_refl _, fun z => absurd z (by simp), fun ua'' z _ => ?_⟩
        · rw [pu_Ns, pu_B1, pu_B1, pu_Ob x2, pu_B1, hcp, pu_B2]
        · have hst := hFw14.stc hb id
          have hFn : pFr W14 (hn W14 (.inl (26, [ga (some w.2.1), ga (some td), gi (nI left), gi (nI tried), gi til, ga (some xa)])) 6) tg13 (tU tg13 W14.2.1 (w.2.1, 0)) (fun _ => False) := pFr.hn b14 _ _ _
          have s1 := hst _ _ y4 y3
          have s2 := hst _ _ y6 y5
          have s1' := hFn.stc b14 id _ _ s1.1 s1.2
          have s2' := hFn.stc b14 id _ _ s2.1 s2.2
          exact ⟨W14.2.1, rfl, L, left, tried, til, ⟨tU_self _ _ _, td, tda, f, hn_self _ _ _, s1'.2, s1'.1, s2'.2, s2'.1, y7⟩, y8⟩
      · rw [hun] at h3; exact absurd h3 (by simp)
  have hK15 : W15.2.2.2 = w.2.2.2 := by rw [v2.2.2.1, z14]; exact hK13
  have hs15 := v2.2.1
  have hz14a : W14.2.1 = W13.2.1 := by rw [z14]
  have hz14b : W14.2.2.1 = W13.2.2.1 := by rw [z14]
  have n15 := v2.old b14 q14
  obtain ⟨W16, e16, q16, o16, z16, b16⟩ := st_put (k := 14) n15.1 (by show 14 < 16; omega) v2.1 (ga un')
  have n15t : tg15 w.2.1 = (w.2.1, 64) := n15.2.trans (n13.2.trans n12t)
  have hF16 : pFr W15 W16 tg15 tg15 (fun t => t = (w.2.1, 64)) := ⟨b16, by rw [z16]; exact Nat.le_refl _, by rw [z16], fun _ _ => rfl, fun c _ hnp => o16 c (by rintro rfl; exact hnp n15t)⟩
  have hF56 : ∀ c, c < W5.2.1 → c ≠ w.2.1 → W16.1 c = W5.1 c ∧ tg15 c = tg5 c := fun c hc hcn => by
    refine ⟨?_, ?_⟩
    · rw [o16 c hcn, v2.2.2.2.2 c (by omega) id, o14 c hcn, u2.2.2.2.2 c (by omega) id, o512 c hcn hc]
    · rw [v2.2.2.2.1 c (by omega), u2.2.2.2.1 c (by omega), t61 c hc]
  have hFf : pFr w W16 tg tg15 (fun _ => False) := ⟨b16, by rw [z16]; omega, by rw [z16]; exact hK15, fun c hc => (hF56 c (by omega) (by omega)).2.trans (tg5o c hc), fun c hc _ => (hF56 c (by omega) (by omega)).1.trans (old5 c hc)⟩
  have hMf : pMo xa mb W16 tg15 s T := hMb.fr hFf hb (fun _ => id) (fun _ _ => rfl)
  have hKf : W16.2.2.2 = w.2.2.2 := by rw [z16]; exact hK15
  have q16' : W16.1 w.2.1 = some (.inl (16, [ga (some mb), gi (s (21 + 1262 * (i) + 2)), gi (s (21 + 1262 * (i) + 3)), gi (s (21 + 1262 * (i) + 4)), ga (some (w.2.1 + 1)), ga (some (w.2.1 + 1 + 1)), ga (some (w.2.1 + 1 + 2)), ga (some W5.2.1), gi (s (21 + 1262 * (i) + 9)), gi (s (21 + 1262 * (i) + 1)), gi (s (21 + 1262 * (i) + 5)), gi (s (21 + 1262 * (i) + 7)), gi (s (21 + 1262 * (i) + 8)), ga bo', ga un', ga (some xa)])) := q16
  have hg1 : ∀ j, j < 5 → j ≠ 0 → W16.1 (w.2.1 + j) = W5.1 (w.2.1 + j) ∧ tg15 (w.2.1 + j) = tgA (w.2.1 + j) := fun j hj hj0 => by
    have h1 := hF56 (w.2.1 + j) (by omega) (by omega)
    exact ⟨h1.1, h1.2.trans (tg5n _ (by omega) (by omega))⟩
  have w5un : ∀ j, j < 5 → j ≠ 3 → W5.1 (w.2.1 + j) = W4.1 (w.2.1 + j) := fun j hj hj3 => hun5 _ (by rw [hz4]; show w.2.1 + j < w.2.1 + 5; omega) (by omega)
  have hDn : pDn S w.2.1 i W16 tg15 s (w.2.1 + 3) := by
    refine ⟨m, ea5, mc5, g5, d1, d2, d3, (hg1 3 (by omega) (by omega)).2.trans t4, (hg1 3 (by omega) (by omega)).1.trans l5, ?_, fun k hk => ?_, d8, d9⟩
    · rcases h5 with ⟨z1, z2, z3⟩ | ⟨z1, z2, cap, z3, z4, z5', z6'⟩
      · exact Or.inl ⟨z1, by rw [hKf, z2, hK55]⟩
      · have hlt := hF5.1 _ _ z6'
        have h1 := hF56 ea5 hlt (by omega)
        exact Or.inr ⟨h1.2.trans z2, cap, z3, z4, z5', h1.1.trans z6'⟩
    · obtain ⟨dk, t, e, y1, y2, y3, y4, y5, y6, y7, y8⟩ := d7 k hk
      obtain ⟨dk2, c0, c1, c2, dk', x1, x2, x3', x4', x5⟩ := k5 k hk
      rw [y1] at x1
      obtain rfl := Option.some.inj x1
      rw [(hF4.old hb y7).1] at x2
      have hlt := hF5.1 _ _ x5
      have hne : dk' ≠ w.2.1 := ne_of x5 n05 (by simp)
      have h1 := hF56 dk' hlt hne
      have hc : W5.1 dk' = some (.inl (25, [gi (sP S t 1), gi (sP S t 4), gi e])) := x5.trans x2.symm
      exact ⟨dk', t, e, x3', h1.2.trans x4', y3, y4, y5, y6, h1.1.trans hc, y8⟩
  have hIn : pIn S xa mb w.2.1 i W16 tg15 s bo' un' := by
    have c1 := hg1 1 (by omega) (by omega)
    have c2 := hg1 2 (by omega) (by omega)
    have c67 : W16.1 W5.2.1 = some (.inr (0, 600, .inl fh)) ∧ tg15 W5.2.1 = (w.2.1, 67) := by
      have y1 := u2.old b12 hc12
      have y2 : W14.1 W5.2.1 = _ := (o14 _ (by omega)).trans y1.1
      have y3 := v2.old b14 y2
      exact ⟨(o16 _ (by omega)).trans y3.1, y3.2.trans (y1.2.trans (t62 _ (by omega)))⟩
    refine ⟨w.2.1 + 1, w.2.1 + 2, W5.2.1, w.2.1 + 3, gv, gp, fh, n15t, q16', c1.2.trans t2, c1.1.trans ((w5un 1 (by omega) (by omega)).trans r1'), c2.2.trans t3, c2.1.trans ((w5un 2 (by omega) (by omega)).trans q4), c67.2, c67.1, fun c hc => (x3 c hc).trans (i9 c hc), fun c hc => ?_, i11, hDn⟩
    rw [x4 c hc]
    exact i10 c hc
  have hW16 : pW S σ xa mb w.2.1 i ver T W16 tg15 s B bo' un' := ⟨⟨hib, hi, hS, hW.1.2.2.2⟩, hco.fr hFf id, hW.2.2.1.fr (hFf.stc hb id), hW.2.2.2.1, hMf, hIn, hW.2.2.2.2.2.2⟩
  refine ⟨W16, tg15, bo', un', ?_, hFf, by rw [z16]; omega, by rw [z16]; omega, by rw [z16]; omega, hW16, ?_⟩
  · have w1i : W1.1 ia = _ := (o1 ia (by omega)).trans i2
    have w2i : W2.1 ia = _ := (old2 ia nia).trans i2
    have w3i : W3.1 ia = _ := (o3 ia (by omega)).trans w2i
    have w3n : W3.1 w.2.1 = _ := (o3 w.2.1 (by omega)).trans q2
    have sz := pf_size dl5
    rw [f_X16_copy_eq, e1, pu_B2, pu_R (k := 15) w1i rfl, pu_B1, pu_I (k := 1) w1i rfl, pu_B1, pu_I (k := 2) w1i rfl, pu_B1, pu_I (k := 3) w1i rfl, pu_B1, e2, pu_B2, pu_R (k := 4) w2i rfl, pu_B1, pu_R (k := 4) q2 rfl, pu_B1, pu_B1, pu_B1, e3, pu_B1, pu_R (k := 5) w3i rfl, pu_B1, pu_R (k := 5) w3n rfl, pu_B1, pu_B1, pu_B1, e4, pu_B1, e5]
    show bf_X16_copy_1 ia (gL2 (bf_X16_copy_1 ia) fu) _ _ _ = _
    generalize gL2 (bf_X16_copy_1 ia) fu = KK
    have htail2 : ∀ (w64 : gw) (r65 : Option Nat), w64 = W15 → r65 = un' → (gB1 (some w.2.1) fun a58 => gB1 (gPut w64 a58 16 14 (ga r65)) fun w59 => some (some w.2.1, w59)) = some (some w.2.1, W16) := by
      rintro w64 r65 rfl rfl
      rw [pu_B1, e16, pu_B1]
    have htail1 : ∀ (w70 : gw) (r71 : Option Nat), w70 = W13 → r71 = bo' → (gB1 (some w.2.1) fun a50 => gB1 (gPut w70 a50 16 13 (ga r71)) fun w51 => gB1 (gR w51 ia 16 14) fun r52 => gBd (fun (r55 : Option Nat) (r56 : Option Nat) (r57 : Option Nat) (w54 : gw) => gB1 r56 fun a58 => gB1 (gPut w54 a58 16 14 (ga r57)) fun w59 => some (r55, w59)) fun k53 => gNl r52 (k53 (some w.2.1) (some w.2.1) none w51) (fun a61 => gB1 (gR w51 ia 16 14) fun r62 => gB1 r62 fun a63 => gB1 (gOb w51 a63 26) fun _ => gB2 (f_X26_copy a63 (some w.2.1) w51) fun r65 w64 => k53 (some w.2.1) (some w.2.1) r65 w64)) = some (some w.2.1, W16) := by
      rintro w70 r71 rfl rfl
      rw [pu_B1, e14, pu_B1, pu_R (k := 14) ia14 rfl, pu_B1, pu_Bd]
      cases hun : un with
      | none =>
        rw [hun, pu_Nn] at v1
        injection v1 with v1
        injection v1 with v11 v12
        rw [pu_Nn]
        exact htail2 W14 none v12 v11
      | some ua =>
        rw [hun, pu_Ns, pu_B1, pu_B1] at v1
        rw [pu_Ns, pu_B1, pu_B1]
        cases ho : gOb W14 ua 26 with
        | none => rw [ho] at v1; exact absurd v1 (by simp [gB1])
        | some uu =>
          rw [ho, pu_B1] at v1
          rw [pu_B1]
          cases hc : f_X26_copy ua (some w.2.1) W14 with
          | none => rw [hc] at v1; exact absurd v1 (by simp [gB2])
          | some rr =>
            obtain ⟨r65, w64⟩ := rr
            rw [hc, pu_B2] at v1
            injection v1 with v1
            injection v1 with v11 v12
            rw [pu_B2]
            exact htail2 w64 r65 v12 v11
    unfold bf_X16_copy_1
    rw [pu_R (k := 6) ia5 rfl, pu_B1, pu_B1, pu_Ob dl5, pu_B1, sz, pu_B2, if_pos (nI_le (Nat.le_refl _) (by omega)), pu_R (k := 7) ia5 rfl, pu_B1, pu_B1, e6, pu_B2, ck6, pu_B1, pu_B1, e7, pu_B1, pu_I (k := 8) ia7 rfl, pu_B1, e8, pu_B1, pu_I (k := 9) ia8 rfl, pu_B1, e9, pu_B1, pu_I (k := 10) ia9 rfl, pu_B1, e10, pu_B1, pu_I (k := 11) ia10 rfl, pu_B1, e11, pu_B1, pu_I (k := 12) ia11 rfl, pu_B1, e12, pu_B1, pu_R (k := 13) ia12 rfl, pu_B1, pu_Bd]
    cases hbo : bo with
    | none =>
      rw [hbo, pu_Nn] at u1
      injection u1 with u1
      injection u1 with u11 u12
      rw [pu_Nn]
      exact htail1 W12 none u12 u11
    | some a =>
      rw [hbo, pu_Ns, pu_B1, pu_B1] at u1
      rw [pu_Ns, pu_B1, pu_B1]
      cases hc : f_Run_copy 12 a (some w.2.1) W12 with
      | none => rw [hc] at u1; exact absurd u1 (by simp [gB2])
      | some rr =>
        obtain ⟨r71, w70⟩ := rr
        rw [hc, pu_B2] at u1
        injection u1 with u1
        injection u1 with u11 u12
        rw [pu_B2]
        exact htail1 w70 r71 u12 u11
  · rcases hR with ⟨h1, h2, h3, a', h4, h5', h6⟩ | ⟨h1, h2, h3, h4, ua, h5', h6⟩ | ⟨h1, h2, h3, h4, t, h5', h6⟩
    · obtain ⟨a2, y1, y2⟩ := u6 a' h4 h1
      have hlt0 : ∀ t : Nat × Nat, (t.1 = w.2.1 ∧ 0 ≤ t.2 ∧ t.2 < sEn S 0 ∨ t = (0, 100)) → ¬ (t = (w.2.1, 64)) := fun t ht z => by
        rw [z] at ht
        rcases ht with ht | ht
        · have := ht.2.2
          simp only at this
          omega
        · exact hib (congrArg Prod.fst ht)
      have g1 := (rB_fr (q := false) (q1 := false) (T := Tr) (T1 := Tr) hS hF14.2.2.1 (fun z => absurd z (by decide)) (Nat.le_refl _) (sLv S 0)).1 0 a2 hn0 hS.2.2.1 (hF14.aW u2.1 hlt0) (aS.aY hS hn0 (fun _ _ _ _ _ => rfl)) y2
      have g2 := (rB_fr (q := false) (q1 := false) (T := Tr) (T1 := Tr) hS v2.2.2.1 (fun z => absurd z (by decide)) (Nat.le_refl _) (sLv S 0)).1 0 a2 hn0 hS.2.2.1 (v2.aW b14 (fun _ _ => id)) (aS.aY hS hn0 (fun _ _ _ _ _ => rfl)) g1
      have g3 := (rB_fr (q := false) (q1 := false) (T := Tr) (T1 := Tr) hS hF16.2.2.1 (fun z => absurd z (by decide)) (Nat.le_refl _) (sLv S 0)).1 0 a2 hn0 hS.2.2.1 (hF16.aW v2.1 hlt0) (aS.aY hS hn0 (fun _ _ _ _ _ => rfl)) g2
      exact Or.inl ⟨h1, v5 h2, h3, a2, y1, g3, h6⟩
    · obtain ⟨ub, y1, y2⟩ := v6 ua h5' h1
      refine Or.inr (Or.inl ⟨h1, u5 h2, h3, h4, ub, y1, uLive0_fr hn0 hS (hF16.aW v2.1 (fun t ht z => ?_)) (fun _ _ _ _ => rfl) y2⟩)
      rw [z] at ht
      rcases ht with ht | ht
      · have := ht.2.2
        simp only at this
        omega
      · exact hib (congrArg Prod.fst ht)
    · exact Or.inr (Or.inr ⟨h1, u5 h2, v5 h3, h4, t, h5', h6⟩)
end CI
