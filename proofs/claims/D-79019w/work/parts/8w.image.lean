set_option maxRecDepth 100000
/-! THE SNAPSHOT: image, undo -/
theorem st_cpR {w : gw} {t a0 a1 n : Nat} {f0 f1 : Nat → Option Nat} (h0 : w.1 a0 = some (.inr (t, n, .inr f0))) (h1 : w.1 a1 = some (.inr (t, n, .inr f1))) (hn : n < 2 ^ 31) (h2 : 0 < n) (hc : ∀ j, j < n → gCan w t (f0 j) = true) (hb : pBd w) : ∃ W g, gCpR w t a0 (nI 0) a1 (nI 0) (nI n) = some W ∧ W.1 a1 = some (.inr (t, n, .inr g)) ∧ (∀ j, j < n → g j = f0 j) ∧ (∀ b, b ≠ a1 → W.1 b = w.1 b) ∧ W.2 = w.2 ∧ pBd W := by
  refine ⟨hs w a1 (.inr (t, n, .inr (va_cpy f0 f1 0 0 n))), va_cpy f0 f1 0 0 n, ?_, hs_self _ _ _, fun j hj => ?_, fun b h => hs_ne h, hs_2 _ _ _, (pFr.hs (P := fun _ => True) (tg := fun _ => (0, 0)) hb h1 trivial).1⟩
  · unfold gCpR
    rw [pu_RA h0, pu_RA h1]
    have e0 : (nI 0).toNatClampNeg = 0 := by decide
    have e1 : (nI n).toNatClampNeg = n := nI_clamp hn
    have e2 : gCpOk w t f0 0 n = true := by
      unfold gCpOk
      rw [List.all_eq_true]
      intro i hi
      rw [Nat.zero_add]
      exact hc i (List.mem_range.mp hi)
    show (if ¬ nI 0 < 0 ∧ ¬ nI 0 < 0 ∧ ¬ nI n < 0 ∧ (nI 0).toNatClampNeg + (nI n).toNatClampNeg ≤ n ∧ (nI 0).toNatClampNeg + (nI n).toNatClampNeg ≤ n ∧ 0 < n ∧ gCpOk w t f0 (nI 0).toNatClampNeg (nI n).toNatClampNeg = true then _ else none) = _
    rw [if_pos ⟨by decide, by decide, nI_pos hn, by rw [e0, e1]; omega, by rw [e0, e1]; omega, h2, by rw [e0, e1]; exact e2⟩, e0, e1]
    rfl
  · unfold va_cpy
    rw [if_pos ⟨Nat.zero_le _, by omega⟩]
    congr 1
    omega
theorem image_t (σ : TS) : ∃ σ1, t_X2_image σ = (gB2 (t_X2_instances σ1) fun x8 w7 => some (x8, w7)) ∧ σ1 0 19 = σ 0 10 ∧ σ1 0 20 = σ 0 11 ∧ σ1 0 7 = nI 1 ∧ σ1 0 9 = σ 0 9 ∧ σ1 0 10 = σ 0 10 ∧ σ1 0 11 = σ 0 11 ∧ σ1 1 = σ 1 ∧ σ1 3 = σ 3 ∧ σ1 5 = σ 5 ∧ σ1 8 = σ 8 ∧ (∀ j, j < 7593 → σ1 6 j = σ 5 j) ∧ (∀ j, j < 9792 → σ1 2 j = σ 1 j) ∧ ∀ j, j < 68 → σ1 4 j = σ 3 j := by
  obtain ⟨a, ha⟩ : ∃ a, tCp (tCp (tCp σ 5 6 7593) 1 2 9792) 3 4 68 = a := ⟨_, rfl⟩
  have hr : ∀ r, r ≠ 2 → r ≠ 4 → r ≠ 6 → a r = σ r := fun r h1 h2 h3 => by
    rw [← ha]
    funext j
    unfold tCp
    rw [if_neg (fun z => h2 z.1), if_neg (fun z => h1 z.1), if_neg (fun z => h3 z.1)]
  have h6 : ∀ j, j < 7593 → a 6 j = σ 5 j := fun j hj => by
    rw [← ha]
    unfold tCp
    rw [if_neg (fun z => absurd z.1 (by decide)), if_neg (fun z => absurd z.1 (by decide)), if_pos ⟨rfl, hj⟩]
  have h2 : ∀ j, j < 9792 → a 2 j = σ 1 j := fun j hj => by
    rw [← ha]
    unfold tCp
    rw [if_neg (fun z => absurd z.1 (by decide)), if_pos ⟨rfl, hj⟩, if_neg (fun z => absurd z.1 (by decide))]
  have h4 : ∀ j, j < 68 → a 4 j = σ 3 j := fun j hj => by
    rw [← ha]
    unfold tCp
    rw [if_pos ⟨rfl, hj⟩, if_neg (fun z => absurd z.1 (by decide)), if_neg (fun z => absurd z.1 (by decide))]
  have ne0 : ∀ (b : TS) (k : Nat) (x : Int32) (r : Nat), r ≠ 0 → tPut b k x r = b r := fun b k x r h => by
    funext j
    exact if_neg (fun z => h z.1)
  have p0 : ∀ (b : TS) (k : Nat) (x : Int32), tPut b k x 0 k = x := fun b k x => if_pos ⟨rfl, rfl⟩
  have p1 : ∀ (b : TS) (k j : Nat) (x : Int32), j ≠ k → tPut b k x 0 j = b 0 j := fun b k j x h => if_neg (fun z => h z.2)
  refine ⟨tPut (tPut (tPut a 19 (a 0 10)) 20 (tPut a 19 (a 0 10) 0 11)) 7 (nI 1), ?_, ?_, ?_, ?_, ?_, ?_, ?_, ?_, ?_, ?_, ?_, ?_, ?_, ?_⟩
  · unfold t_X2_image
    rw [t_copies (by decide) (by decide) (by decide) (by decide) (by decide), pu_B2, t_copies (by decide) (by decide) (by decide) (by decide) (by decide), pu_B2, t_copies (by decide) (by decide) (by decide) (by decide) (by decide), pu_B2, ha, pu_Bd, pu_Bd, pu_Bd]
  · rw [p1 _ _ _ _ (by decide), p1 _ _ _ _ (by decide), p0, hr 0 (by decide) (by decide) (by decide)]
  · rw [p1 _ _ _ _ (by decide), p0, p1 _ _ _ _ (by decide), hr 0 (by decide) (by decide) (by decide)]
  · rw [p0]
  · rw [p1 _ _ _ _ (by decide), p1 _ _ _ _ (by decide), p1 _ _ _ _ (by decide), hr 0 (by decide) (by decide) (by decide)]
  · rw [p1 _ _ _ _ (by decide), p1 _ _ _ _ (by decide), p1 _ _ _ _ (by decide), hr 0 (by decide) (by decide) (by decide)]
  · rw [p1 _ _ _ _ (by decide), p1 _ _ _ _ (by decide), p1 _ _ _ _ (by decide), hr 0 (by decide) (by decide) (by decide)]
  · rw [ne0 _ _ _ _ (by decide), ne0 _ _ _ _ (by decide), ne0 _ _ _ _ (by decide), hr 1 (by decide) (by decide) (by decide)]
  · rw [ne0 _ _ _ _ (by decide), ne0 _ _ _ _ (by decide), ne0 _ _ _ _ (by decide), hr 3 (by decide) (by decide) (by decide)]
  · rw [ne0 _ _ _ _ (by decide), ne0 _ _ _ _ (by decide), ne0 _ _ _ _ (by decide), hr 5 (by decide) (by decide) (by decide)]
  · rw [ne0 _ _ _ _ (by decide), ne0 _ _ _ _ (by decide), ne0 _ _ _ _ (by decide), hr 8 (by decide) (by decide) (by decide)]
  · rw [ne0 _ _ _ _ (by decide), ne0 _ _ _ _ (by decide), ne0 _ _ _ _ (by decide)]
    exact h6
  · rw [ne0 _ _ _ _ (by decide), ne0 _ _ _ _ (by decide), ne0 _ _ _ _ (by decide)]
    exact h2
  · rw [ne0 _ _ _ _ (by decide), ne0 _ _ _ _ (by decide), ne0 _ _ _ _ (by decide)]
    exact h4
theorem undo_t (σ : TS) (h : ¬ σ 0 7 = 0) : ∃ σ1, t_X2_undo σ = (gB2 (t_X2_instances σ1) fun x8 w7 => some (x8, w7)) ∧ σ1 0 10 = σ 0 19 ∧ σ1 0 11 = σ 0 20 ∧ σ1 0 7 = σ 0 7 ∧ σ1 0 9 = σ 0 9 ∧ σ1 0 19 = σ 0 19 ∧ σ1 0 20 = σ 0 20 ∧ σ1 2 = σ 2 ∧ σ1 4 = σ 4 ∧ σ1 6 = σ 6 ∧ σ1 8 = σ 8 ∧ (∀ j, j < 7593 → σ1 5 j = σ 6 j) ∧ (∀ j, j < 9792 → σ1 1 j = σ 2 j) ∧ ∀ j, j < 68 → σ1 3 j = σ 4 j := by
  obtain ⟨a, ha⟩ : ∃ a, tCp (tCp (tCp σ 6 5 7593) 2 1 9792) 4 3 68 = a := ⟨_, rfl⟩
  have hr : ∀ r, r ≠ 1 → r ≠ 3 → r ≠ 5 → a r = σ r := fun r h1 h2 h3 => by
    rw [← ha]
    funext j
    unfold tCp
    rw [if_neg (fun z => h2 z.1), if_neg (fun z => h1 z.1), if_neg (fun z => h3 z.1)]
  have h6 : ∀ j, j < 7593 → a 5 j = σ 6 j := fun j hj => by
    rw [← ha]
    unfold tCp
    rw [if_neg (fun z => absurd z.1 (by decide)), if_neg (fun z => absurd z.1 (by decide)), if_pos ⟨rfl, hj⟩]
  have h2 : ∀ j, j < 9792 → a 1 j = σ 2 j := fun j hj => by
    rw [← ha]
    unfold tCp
    rw [if_neg (fun z => absurd z.1 (by decide)), if_pos ⟨rfl, hj⟩, if_neg (fun z => absurd z.1 (by decide))]
  have h4 : ∀ j, j < 68 → a 3 j = σ 4 j := fun j hj => by
    rw [← ha]
    unfold tCp
    rw [if_pos ⟨rfl, hj⟩, if_neg (fun z => absurd z.1 (by decide)), if_neg (fun z => absurd z.1 (by decide))]
  have ne0 : ∀ (b : TS) (k : Nat) (x : Int32) (r : Nat), r ≠ 0 → tPut b k x r = b r := fun b k x r h => by
    funext j
    exact if_neg (fun z => h z.1)
  have p0 : ∀ (b : TS) (k : Nat) (x : Int32), tPut b k x 0 k = x := fun b k x => if_pos ⟨rfl, rfl⟩
  have p1 : ∀ (b : TS) (k j : Nat) (x : Int32), j ≠ k → tPut b k x 0 j = b 0 j := fun b k j x h => if_neg (fun z => h z.2)
  refine ⟨tPut (tPut a 10 (a 0 19)) 11 (tPut a 10 (a 0 19) 0 20), ?_, ?_, ?_, ?_, ?_, ?_, ?_, ?_, ?_, ?_, ?_, ?_, ?_, ?_⟩
  · unfold t_X2_undo
    rw [if_neg h, t_copies (by decide) (by decide) (by decide) (by decide) (by decide), pu_B2, t_copies (by decide) (by decide) (by decide) (by decide) (by decide), pu_B2, t_copies (by decide) (by decide) (by decide) (by decide) (by decide), pu_B2, ha, pu_Bd, pu_Bd]
  · rw [p1 _ _ _ _ (by decide), p0, hr 0 (by decide) (by decide) (by decide)]
  · rw [p0, p1 _ _ _ _ (by decide), hr 0 (by decide) (by decide) (by decide)]
  · rw [p1 _ _ _ _ (by decide), p1 _ _ _ _ (by decide), hr 0 (by decide) (by decide) (by decide)]
  · rw [p1 _ _ _ _ (by decide), p1 _ _ _ _ (by decide), hr 0 (by decide) (by decide) (by decide)]
  · rw [p1 _ _ _ _ (by decide), p1 _ _ _ _ (by decide), hr 0 (by decide) (by decide) (by decide)]
  · rw [p1 _ _ _ _ (by decide), p1 _ _ _ _ (by decide), hr 0 (by decide) (by decide) (by decide)]
  · rw [ne0 _ _ _ _ (by decide), ne0 _ _ _ _ (by decide), hr 2 (by decide) (by decide) (by decide)]
  · rw [ne0 _ _ _ _ (by decide), ne0 _ _ _ _ (by decide), hr 4 (by decide) (by decide) (by decide)]
  · rw [ne0 _ _ _ _ (by decide), ne0 _ _ _ _ (by decide), hr 6 (by decide) (by decide) (by decide)]
  · rw [ne0 _ _ _ _ (by decide), ne0 _ _ _ _ (by decide), hr 8 (by decide) (by decide) (by decide)]
  · rw [ne0 _ _ _ _ (by decide), ne0 _ _ _ _ (by decide)]
    exact h6
  · rw [ne0 _ _ _ _ (by decide), ne0 _ _ _ _ (by decide)]
    exact h2
  · rw [ne0 _ _ _ _ (by decide), ne0 _ _ _ _ (by decide)]
    exact h4
section IM
variable {k xa : Nat} {w : gw} {tg : pT} {σ : TS}
theorem call_image (h : GRw (k + 1) xa w tg σ) : callOk k xa w tg σ (f_X0_image xa w) (t_X2_image σ) := by
  obtain ⟨mo, ias, Ss, many, T, fv, fm, wr, im, h⟩ := h
  obtain ⟨g1, g2, g3, g4, g5, g6, g7, g8, g9, g10⟩ := h
  obtain ⟨ta, va, vm, p, ft, x1, x2, x3, x4, x5, x6, x7, x8, x9, x10, x11⟩ := g1
  have hb := g4.1.1
  have hxa := hb _ _ x2
  have hta := hb _ _ x4
  have hva := hb _ _ x6
  have hvm := hb _ _ x8
  have hmo : mo < w.2.1 := by
    obtain ⟨-, ⟨du, fa, ins, fd, ff, fi, m1, m2, -⟩, -⟩ := g4
    exact hb _ _ m2
  have hil : ∀ j, j < 6 → σ 5 (21 + 1262 * (j) + 0) = nI 1 → ias j < w.2.1 := fun j hj hz => by
    obtain ⟨-, -, fs, hfs⟩ := g4.ne hj hz
    exact hb _ _ hfs
  obtain ⟨W1, e1, q1, o1, z1, b1⟩ := st_new (w := w) (ci := 28) (n := 5) (fs := [ga none, ga none, ga none, ga none, ga none]) rfl (by omega) (by omega) hb
  obtain ⟨W2, e2, q2, o2, z2, b2⟩ := st_put (k := 4) q1 (by show 4 < 5; omega) b1 (ga (some xa))
  have hz2 : W2.2 = (w.2.1 + 1, w.2.2.1 + 5, w.2.2.2) := z2.trans z1
  have l2 : ∀ b, b < w.2.1 → W2.1 b = w.1 b := fun b hbl => (o2 b (by omega)).trans (o1 b (by omega))
  obtain ⟨W3, e3, q3, o3, z3, b3⟩ := st_cln ((l2 va hva).trans x6) rfl (by rw [hz2]; show w.2.1 + 1 + 1 ≤ w.2.2.2 0; omega) (by rw [hz2]; show w.2.2.1 + 5 + 16 ≤ w.2.2.2 1; omega) b2
  rw [hz2] at e3 q3 o3 z3
  simp only at e3 q3 o3 z3
  have a3 : W3.1 w.2.1 = _ := (o3 w.2.1 (by omega)).trans q2
  obtain ⟨W4, e4, q4, o4, z4, b4⟩ := st_put (k := 0) a3 (by show 0 < 5; omega) b3 (ga (some (w.2.1 + 1)))
  have hz4 : W4.2 = (w.2.1 + 1 + 1, w.2.2.1 + 5 + 16, w.2.2.2) := z4.trans z3
  have l4 : ∀ b, b < w.2.1 → W4.1 b = w.1 b := fun b hbl => (o4 b (by omega)).trans ((o3 b (by omega)).trans (l2 b hbl))
  obtain ⟨W5, e5, q5, o5, z5, b5⟩ := st_cln ((l4 vm hvm).trans x8) rfl (by rw [hz4]; show w.2.1 + 1 + 1 + 1 ≤ w.2.2.2 0; omega) (by rw [hz4]; show w.2.2.1 + 5 + 16 + 4 ≤ w.2.2.2 1; omega) b4
  rw [hz4] at e5 q5 o5 z5
  simp only at e5 q5 o5 z5
  have a5 : W5.1 w.2.1 = _ := (o5 w.2.1 (by omega)).trans q4
  obtain ⟨W6, e6, q6, o6, z6, b6⟩ := st_put (k := 1) a5 (by show 1 < 5; omega) b5 (ga (some (w.2.1 + 1 + 1)))
  obtain ⟨W7, e7, q7, o7, z7, b7⟩ := st_put (k := 2) q6 (by show 2 < 5; omega) b6 (ga wr)
  have hz7 : W7.2 = (w.2.1 + 1 + 1 + 1, w.2.2.1 + 5 + 16 + 4, w.2.2.2) := z7.trans (z6.trans z5)
  have l6 : ∀ b, b < w.2.1 → W6.1 b = w.1 b := fun b hbl => (o6 b (by omega)).trans ((o5 b (by omega)).trans (l4 b hbl))
  have l7 : ∀ b, b < w.2.1 → W7.1 b = w.1 b := fun b hbl => (o7 b (by omega)).trans (l6 b hbl)
  obtain ⟨tg7, htg⟩ : ∃ tg7 : pT, tg7 = fun x => if x < w.2.1 then tg x else (0, 100) := ⟨_, rfl⟩
  have tn : ∀ x, w.2.1 ≤ x → tg7 x = (0, 100) := fun x hx => by
    rw [htg]
    exact if_neg (by omega)
  have F7 : pFr w W7 tg tg7 (fun _ => False) := ⟨b7, by rw [hz7]; show w.2.1 ≤ w.2.1 + 1 + 1 + 1; omega, by rw [hz7], fun x hx => by rw [htg]; exact if_pos hx, fun b hbl _ => l7 b hbl⟩
  obtain ⟨W8, W9, tg9, e8, o8, q8, e9, z9, F9, t0, d0, t1, d1, t2, d2, t3, d3⟩ := mo_new (xa := xa) (tg := tg7) b7 (by rw [hz7]; show w.2.1 + 1 + 1 + 1 + 4 ≤ w.2.2.2 0; omega) (by rw [hz7]; show w.2.2.1 + 5 + 16 + 4 + 27 ≤ w.2.2.2 1; omega)
  rw [hz7] at e8 o8 q8 e9 z9 t0 d0 t1 d1 t2 d2 t3 d3
  simp only at e8 o8 q8 e9 z9 t0 d0 t1 d1 t2 d2 t3 d3
  have a8 : W8.1 w.2.1 = _ := (o8 w.2.1 (by omega)).trans q7
  have a9 := (F9.old b7 q7).1
  obtain ⟨W10, e10, q10, o10, z10, b10⟩ := st_put (k := 3) a9 (by show 3 < 5; omega) F9.1 (ga (some (w.2.1 + 1 + 1 + 1)))
  have hz10 : W10.2 = (w.2.1 + 1 + 1 + 1 + 4, w.2.2.1 + 5 + 16 + 4 + 27, w.2.2.2) := z10.trans z9
  have l10 : ∀ b, b < w.2.1 → W10.1 b = w.1 b := fun b hbl => (o10 b (by omega)).trans ((F9.2.2.2.2 b (by rw [hz7]; show b < w.2.1 + 1 + 1 + 1; omega) id).trans (l7 b hbl))
  have tt : ∀ b, b < w.2.1 → tg9 b = tg b := fun b hbl => (F9.2.2.2.1 b (by rw [hz7]; show b < w.2.1 + 1 + 1 + 1; omega)).trans (F7.2.2.2.1 b hbl)
  have ts : ∀ b, w.2.1 ≤ b → b < w.2.1 + 3 → tg9 b = (0, 100) := fun b h1 h2 => (F9.2.2.2.1 b (by rw [hz7]; show b < w.2.1 + 1 + 1 + 1; omega)).trans (tn b h1)
  have F10 : pFr w W10 tg tg9 (fun _ => False) := ⟨b10, by rw [hz10]; show w.2.1 ≤ w.2.1 + 1 + 1 + 1 + 4; omega, by rw [hz10], tt, fun b hbl _ => l10 b hbl⟩
  have hO10 : mOk Ss many σ xa mo ias W10 tg9 (σ 5) T ((64 - (k + 1)) * 20500000) (fun _ => T) := g4.fr F10 id (fun _ => id) (fun _ _ _ _ => id)
  obtain ⟨W11, tg11, iab, e11, F11, hO11, hT11, hn11, z111, z112⟩ := sim_becomes hO10 (a0 := w.2.1 + 1 + 1 + 1) (by omega) (fun j hj hz => by have := hil j hj hz; omega) t0 ((o10 _ (by omega)).trans d0) t1 ((o10 _ (by omega)).trans d1) t2 ((o10 _ (by omega)).trans d2) t3 ((o10 _ (by omega)).trans d3) (by rw [hz10]; show w.2.1 + 1 + 1 + 1 + 4 + 2640 ≤ w.2.2.2 0; omega) (by rw [hz10]; show w.2.2.1 + 5 + 16 + 4 + 27 + 48078 ≤ w.2.2.2 1; omega)
  have x10a : W10.1 xa = _ := (l10 xa hxa).trans x2
  have hPn : ∀ t : Nat × Nat, t.1 < w.2.1 → ¬ (t.1 = w.2.1 + 1 + 1 + 1 ∧ t.2 < 4) := fun t ht z => by have := z.1; omega
  have x11a := F11.at b10 x10a (by rw [tt xa hxa, x1]; exact hPn _ hxa)
  obtain ⟨W12, e12, q12, o12, z12, b12⟩ := st_put (k := 6) x11a.1 (by show 6 < 7; omega) F11.1 (ga (some w.2.1))
  have x11t : tg11 xa = (xa, 64) := x11a.2.trans ((tt xa hxa).trans x1)
  have F12 : pFr W11 W12 tg11 tg11 (fun t => t = (xa, 64)) := ⟨b12, by rw [z12]; exact Nat.le_refl _, by rw [z12], fun _ _ => rfl, fun b _ hn => o12 b (by rintro rfl; exact hn x11t)⟩
  have F : pFr w W12 tg tg11 (fun t => t = (xa, 64) ∨ w.2.1 ≤ t.1) := ((F10.mono (fun _ z => z.elim)).tr (F11.mono (fun t z => Or.inr (by have := z.1; omega)))).tr (F12.mono (fun t z => Or.inl z))
  have hx0 : ¬ ((0, 100) : Nat × Nat) = (xa, 64) := fun z => by
    have := congrArg Prod.snd z
    simp only at this
    omega
  have hP0 : ¬ (((0, 100) : Nat × Nat) = (xa, 64) ∨ w.2.1 ≤ ((0, 100) : Nat × Nat).1) := fun z => z.elim hx0 (fun y => by
    simp only at y
    omega)
  have hst := F.stc hb hP0
  have hPx : ∀ j, j ≠ 64 → ¬ (((xa, j) : Nat × Nat) = (xa, 64) ∨ w.2.1 ≤ ((xa, j) : Nat × Nat).1) := fun j hj z => z.elim (fun y => hj (congrArg Prod.snd y)) (fun y => by
    simp only at y
    omega)
  obtain ⟨σ1, e13, r1, r2, r3, r4, r5, r6, r7, r8, r9, r10, r11, r12, r13⟩ := image_t σ
  have st11 : ∀ b e, W10.1 b = some e → tg9 b = (0, 100) → W12.1 b = some e ∧ tg11 b = (0, 100) := fun b e h1 h2 => by
    have y1 := F11.at b10 h1 (by rw [h2]; exact hPn _ (by show 0 < w.2.1; omega))
    have y2 := F12.at F11.1 y1.1 (by rw [y1.2, h2]; exact hx0)
    exact ⟨y2.1, y2.2.trans (y1.2.trans h2)⟩
  have hK : W12.2.2.2 = w.2.2.2 := F.2.2.1
  have hc1 : W12.2.1 ≤ w.2.1 + 9390 := by
    rw [z12]
    rw [hz10] at z111
    simp only at z111
    omega
  have hc2 : W12.2.2.1 ≤ w.2.2.1 + 113000 := by
    rw [z12]
    rw [hz10] at z112
    simp only at z112
    omega
  have hxOk : xOk xa mo W12 tg11 σ1 fv fm wr (some w.2.1) := by
    have y4 := F.at hb x4 (by rw [x3]; exact hPx _ (by omega))
    have y6 := F.at hb x6 (by rw [x5]; exact hPx _ (by omega))
    have y8 := F.at hb x8 (by rw [x7]; exact hPx _ (by omega))
    exact ⟨ta, va, vm, p, ft, x11t, q12, y4.2.trans x3, y4.1, y6.2.trans x5, y6.1, y8.2.trans x7, y8.1, x9, r4.trans x10, by rw [r10]; exact x11⟩
  have hO12 : mOk Ss many σ xa mo ias W12 tg11 (σ 5) T ((64 - k) * 20500000) (fun _ => T) := (hO11.fr F12 hx0 (fun j z => by
    have y : mo = xa := congrArg Prod.fst z
    have := (g4.2.1)
    obtain ⟨du, fa, ins, fd, ff, fi, m1, m2, -⟩ := this
    rw [y, x2] at m2
    exact absurd m2 (by simp)) (fun j hj hz q z => g10 j hj hz (congrArg Prod.fst z))).mono (Nat.mul_le_mul_right _ (by omega))
  have hvA : vAll Ss many σ W12 tg11 fv fm (σ 5) := g3.fr hst (fun _ _ => rfl)
  have hT12 : mOk Ss many σ xa (w.2.1 + 1 + 1 + 1) iab W12 tg11 (σ 5) T ((64 - k) * 20500000) (fun _ => T) := (hT11.fr F12 hx0 (fun j z => by
    have y : w.2.1 + 1 + 1 + 1 = xa := congrArg Prod.fst z
    omega) (fun j hj hz q z => by
    have y : iab j = xa := congrArg Prod.fst z
    have := hn11 j hj hz
    rw [hz10] at this
    simp only at this
    omega)).mono (Nat.mul_le_mul_right _ (by omega))
  have s1 : ∀ j, j < 9792 → sIm σ1 1 j = σ 1 j := r12
  have s3 : ∀ j, j < 68 → sIm σ1 3 j = σ 3 j := r13
  have i1 := st11 _ _ q10 (ts _ (by omega) (by omega))
  have i2 := st11 (w.2.1 + 1) _ ((o10 _ (by omega)).trans ((F9.2.2.2.2 _ (by rw [hz7]; show w.2.1 + 1 < w.2.1 + 1 + 1 + 1; omega) id).trans ((o7 _ (by omega)).trans ((o6 _ (by omega)).trans ((o5 _ (by omega)).trans ((o4 _ (by omega)).trans q3)))))) (ts _ (by omega) (by omega))
  have i3 := st11 (w.2.1 + 1 + 1) _ ((o10 _ (by omega)).trans ((F9.2.2.2.2 _ (by rw [hz7]; show w.2.1 + 1 + 1 < w.2.1 + 1 + 1 + 1; omega) id).trans ((o7 _ (by omega)).trans ((o6 _ (by omega)).trans q5)))) (ts _ (by omega) (by omega))
  have hIm : mIm xa W12 tg11 σ1 (some w.2.1) ((64 - k) * 20500000) mo (fun o => ∃ j, j < 6 ∧ σ1 5 (21 + 1262 * (j) + 0) = nI 1 ∧ o = ias j) := by
    refine Or.inr ⟨w.2.1, Ss, many, w.2.1 + 1 + 1 + 1, iab, T, fv, fm, w.2.1 + 1, w.2.1 + 1 + 1, wr, rfl, r3, i1.2, i1.1, i2.2, i2.1, i3.2, i3.1, hvA.sp s1 s3 (fun _ _ => rfl) (fun _ _ => rfl) (fun a ha => r11 _ (by omega)), ?_, hT12.sp s1 s3 r11, g5, ?_, by omega, by omega, fun j hj hz => ?_⟩
    · rw [r1, r2]
      exact g2.fr hst
    · rintro ⟨j, y1, y2, y3⟩
      rw [r9] at y2
      have := hil j y1 y2
      omega
    · have := hn11 j hj ((r11 _ (by omega)).symm.trans hz)
      rw [hz10] at this
      simp only at this
      refine ⟨?_, by omega, by omega⟩
      rintro ⟨j', y1, y2, y3⟩
      rw [r9] at y2
      have := hil j' y1 y2
      omega
  have hG : GRp k xa mo ias Ss many T fv fm wr (some w.2.1) W12 tg11 σ1 := by
    refine ⟨hxOk, ?_, ?_, ?_, g5, hIm, by omega, ?_, ?_, ?_⟩
    · rw [r5, r6]
      exact g2.fr hst
    · rw [r9]
      exact hvA.sg r7 r8
    · rw [r9]
      exact hO12.sg r7 r8
    · rw [hK]
      omega
    · rw [hK]
      omega
    · intro j hj hz
      rw [r9] at hz
      exact g10 j hj hz
  have hmo12 : ∃ fs, W12.1 mo = some (.inl (1, fs)) := by
    obtain ⟨-, ⟨du, fa, ins, fd, ff, fi, m1, m2, -⟩, -⟩ := hO12
    exact ⟨_, m2⟩
  obtain ⟨mfs, hmo12⟩ := hmo12
  refine ⟨nI (pSum (fM (σ1 5) (-1)) 6), W12, tg11, σ1, ?_, ?_, ⟨mo, ias, Ss, many, T, fv, fm, wr, _, hG⟩, hK, fun a e ha ht => F.at hb ha (by rw [ht]; exact hPx _ (by omega))⟩
  · unfold f_X0_image f_X28_init
    rw [e1, pu_B2, e2, pu_B1, pu_R (k := 4) q2 rfl, pu_B1, pu_B1, pu_R (k := 3) ((l2 xa hxa).trans x2) rfl, pu_B1, pu_B1, e3, pu_B2, pu_CkA q3, pu_B1, e4, pu_B1, pu_R (k := 4) q4 rfl, pu_B1, pu_B1, pu_R (k := 4) ((l4 xa hxa).trans x2) rfl, pu_B1, pu_B1, e5, pu_B2, pu_CkA q5, pu_B1, e6, pu_B1, pu_R (k := 4) q6 rfl, pu_B1, pu_B1, pu_R (k := 2) ((l6 xa hxa).trans x2) rfl, pu_B1, e7, pu_B1, e8, pu_B2, pu_R (k := 4) a8 rfl, pu_B1, e9, pu_B2, e10, pu_B1, pu_R (k := 3) q10 rfl, pu_B1, pu_B1, pu_R (k := 5) x10a rfl, pu_B1, pu_B1, pu_Ob ((o10 _ (by omega)).trans d0), pu_B1, e11, pu_B2, pu_B2, e12, pu_B1, pu_R (k := 5) q12 rfl, pu_B1, pu_B1, pu_Ob hmo12, pu_B1, many_f hG, pu_B2]
  · rw [e13, inst_t hG.there, pu_B2]
theorem call_undo (h : GRw (k + 1) xa w tg σ) : callOk k xa w tg σ (f_X0_undo xa w) (t_X2_undo σ) := by
  obtain ⟨mo, ias, Ss, many, T, fv, fm, wr, im, h⟩ := h
  have h' := h
  obtain ⟨g1, g2, g3, g4, g5, g6, g7, g8, g9, g10⟩ := h
  have g6' := g6
  obtain ⟨ta, va, vm, p, ft, x1, x2, x3, x4, x5, x6, x7, x8, x9, x10, x11⟩ := g1
  have hb := g4.1.1
  have hxa := hb _ _ x2
  rcases g6 with ⟨rfl, z2⟩ | ⟨ia, Ss', many', mo', ias', T', fv', fm', vw, mw, wr', rfl, a2, a3, a4, a5, a6, a7, a8, a9, a10, a11, a12, a13, a14, a15, a16⟩
  · unfold f_X0_undo t_X2_undo
    rw [pu_R (k := 6) x2 rfl, pu_B1, pu_Nn, if_pos z2]
    exact h'.same _
  · have h7 : ¬ σ 0 7 = 0 := by
      rw [a2]
      decide
    obtain ⟨σ1, e13, r1, r2, r3, r4, r5, r6, r7, r8, r9, r10, r11, r12, r13⟩ := undo_t σ h7
    have nvw : vw ≠ va := ne_ofT a5 x5 (fun z => by
      have := congrArg Prod.snd z
      simp only at this
      omega)
    have nxv : xa ≠ va := ne_of x2 x6 (by simp)
    have niv : ia ≠ va := ne_of a4 x6 (by simp)
    have nmv : mw ≠ va := ne_of a8 x6 (by simp)
    have nvv : vm ≠ va := ne_of x8 x6 (by simp)
    have nxm : xa ≠ vm := ne_of x2 x8 (by simp)
    have nim : ia ≠ vm := ne_of a4 x8 (by simp)
    have nix : ia ≠ xa := ne_of a4 x2 (by simp)
    have hcan : ∀ j, j < 16 → gCan w 3 (fv' j) = true := fun j hj => by
      have hj4 : j = 4 * (j / 4) + j % 4 := by omega
      obtain ⟨-, -, -, -, hv⟩ := a9 (j / 4) (by omega)
      rw [hj4]
      rcases hv (j % 4) (by omega) with z | ⟨x, fs, z1, z2, z3⟩
      · rw [z]
        rfl
      · rw [z1]
        exact pu_Can z3 (by decide)
    obtain ⟨W1, gv, e1, q1, u1, o1, z1, b1⟩ := st_cpR (n := 16) a6 x6 (by omega) (by omega) hcan hb
    obtain ⟨W2, gm, e2, q2, u2, o2, z2, b2⟩ := st_cpI (n := 4) ((o1 mw nmv).trans a8) ((o1 vm nvv).trans x8) (by omega) (by omega) b1
    have x2b : W2.1 xa = _ := (o2 xa nxm).trans ((o1 xa nxv).trans x2)
    obtain ⟨W3, e3, q3, o3, z3, b3⟩ := st_put (k := 2) x2b (by show 2 < 7; omega) b2 (ga wr')
    have hz3 : W3.2 = w.2 := z3.trans (z2.trans z1)
    have F3 : pFr w W3 tg tg (fun t => t.1 = xa ∧ 64 ≤ t.2 ∧ t.2 < 68) := ⟨b3, by rw [hz3]; exact Nat.le_refl _, by rw [hz3], fun _ _ => rfl, fun b hbl hn => by
      rw [o3 b (by rintro rfl; exact hn (by rw [x1]; exact ⟨rfl, by show 64 ≤ 64; omega, by show 64 < 68; omega⟩)), o2 b (by rintro rfl; exact hn (by rw [x7]; exact ⟨rfl, by show 64 ≤ 67; omega, by show 67 < 68; omega⟩)), o1 b (by rintro rfl; exact hn (by rw [x5]; exact ⟨rfl, by show 64 ≤ 66; omega, by show 66 < 68; omega⟩))]⟩
    have hP30 : ¬ (((0, 100) : Nat × Nat).1 = xa ∧ 64 ≤ ((0, 100) : Nat × Nat).2 ∧ ((0, 100) : Nat × Nat).2 < 68) := fun z => by
      have := z.2.2
      simp only at this
      omega
    have hO3 : mOk Ss' many' (sIm σ) xa mo' ias' W3 tg (σ 6) T' ((64 - (k + 1)) * 20500000) (fun _ => T') := a11.fr F3 hP30 (fun j z => a15 z.1) (fun j hj hz q z => (a16 j hj hz).2.2 z.1)
    have hmo : mo ≠ xa := by
      obtain ⟨-, ⟨du, fa, ins, fd, ff, fi, m1, m2, -⟩, -⟩ := g4
      exact ne_of m2 x2 (by simp)
    obtain ⟨du, fa, ins, fd, ff, fi, m1, m2, m3, m4, m5, m6, m7, m8, m9, m10, m11⟩ := g4.2.1
    have hPm : ∀ j, ¬ (((mo, j) : Nat × Nat).1 = xa ∧ 64 ≤ ((mo, j) : Nat × Nat).2 ∧ ((mo, j) : Nat × Nat).2 < 68) := fun j z => hmo z.1
    have n2 := F3.at hb m2 (by rw [m1]; exact hPm _)
    have n4 := F3.at hb m4 (by rw [m3]; exact hPm _)
    have n6 := F3.at hb m6 (by rw [m5]; exact hPm _)
    have n8 := F3.at hb m8 (by rw [m7]; exact hPm _)
    obtain ⟨W4, tg4, iab, e4, F4, hO4, hT4, hn4, z41, z42⟩ := sim_becomes hO3 (a0 := mo) (fun z => a14 z.symm) (fun j hj hz => (a16 j hj hz).2.1) m1 n2.1 m3 n4.1 m5 n6.1 m7 n8.1 (by rw [hz3]; omega) (by rw [hz3]; omega)
    have F : pFr w W4 tg tg4 (fun t => (t.1 = xa ∧ 64 ≤ t.2 ∧ t.2 < 68) ∨ (t.1 = mo ∧ t.2 < 4)) := (F3.mono (fun _ z => Or.inl z)).tr (F4.mono (fun _ z => Or.inr z))
    have hP0 : ¬ ((((0, 100) : Nat × Nat).1 = xa ∧ 64 ≤ ((0, 100) : Nat × Nat).2 ∧ ((0, 100) : Nat × Nat).2 < 68) ∨ (((0, 100) : Nat × Nat).1 = mo ∧ ((0, 100) : Nat × Nat).2 < 4)) := fun z => by
      rcases z with z | z
      · exact hP30 z
      · have := z.2
        simp only at this
        omega
    have hst := F.stc hb hP0
    have hPx : ∀ j, ¬ (((xa, j) : Nat × Nat).1 = mo ∧ ((xa, j) : Nat × Nat).2 < 4) := fun j z => hmo z.1.symm
    have hK : W4.2.2.2 = w.2.2.2 := F.2.2.1
    rw [hz3] at z41 z42
    have c0 : W3.1 xa = _ := q3
    have y0 := F4.at b3 c0 (by rw [x1]; exact hPx _)
    have y4 := F4.at b3 ((o3 ta (ne_of x4 x2 (by simp))).trans ((o2 ta (ne_of x4 x8 (by simp))).trans ((o1 ta (ne_of x4 x6 (by simp))).trans x4))) (by rw [x3]; exact hPx _)
    have y6 := F4.at b3 ((o3 va nxv.symm).trans ((o2 va nvv.symm).trans q1)) (by rw [x5]; exact hPx _)
    have y8 := F4.at b3 ((o3 vm nxm.symm).trans q2) (by rw [x7]; exact hPx _)
    have hmo4 : ∃ fs, W4.1 mo = some (.inl (1, fs)) := by
      obtain ⟨-, ⟨du, fa, ins, fd, ff, fi, m1, m2, -⟩, -⟩ := hT4
      exact ⟨_, m2⟩
    obtain ⟨mfs, hmo4⟩ := hmo4
    have hG : GRp k xa mo iab Ss' many' T' gv gm wr' (some ia) W4 tg4 σ1 := by
      refine ⟨⟨ta, va, vm, p, ft, y0.2.trans x1, y0.1, y4.2.trans x3, y4.1, y6.2.trans x5, y6.1, y8.2.trans x7, y8.1, x9, r4.trans x10, by rw [r10]; exact x11⟩, ?_, ?_, ?_, a12, ?_, by omega, ?_, ?_, ?_⟩
      · rw [r1, r2]
        exact a10.fr hst
      · exact (a9.fr hst (fun _ _ => rfl)).sp r12 r13 u1 (fun j hj => u2 j hj) (fun a ha => r11 _ (by omega))
      · exact (hT4.sp r12 r13 r11).mono (Nat.mul_le_mul_right _ (by omega))
      · refine g6'.fr hb F hP0 (fun o j z => ?_) (fun o z => ?_) (Nat.mul_le_mul_right _ (by omega)) r7 r8 r9 r3 r5 r6
        · rcases z with z | z
          · exact Or.inr (Or.inl z.1)
          · exact Or.inl z.1
        · obtain ⟨j, v1, v2, v3⟩ := z
          have := hn4 j v1 ((r11 _ (by omega)).symm.trans v2)
          rw [hz3] at this
          exact Or.inr (by omega)
      · rw [hK]
        omega
      · rw [hK]
        omega
      · intro j hj hz
        have := hn4 j hj ((r11 _ (by omega)).symm.trans hz)
        rw [hz3] at this
        omega
    have i0 : W1.1 ia = _ := (o1 ia niv).trans a4
    have i2 : W2.1 ia = _ := (o2 ia nim).trans i0
    have i3 : W3.1 ia = _ := (o3 ia nix).trans i2
    refine ⟨nI (pSum (fM (σ1 5) (-1)) 6), W4, tg4, σ1, ?_, ?_, ⟨mo, iab, Ss', many', T', gv, gm, wr', _, hG⟩, hK, fun a e ha ht => F.at hb ha (by
      rw [ht]
      rintro (z | z)
      · have := z.2.2
        simp only at this
        omega
      · exact hmo z.1.symm)⟩
    · unfold f_X0_undo f_X28_laysBack
      rw [pu_R (k := 6) x2 rfl, pu_B1, pu_Ns, pu_B1, pu_B1, pu_Ob a4, pu_B1, pu_R (k := 0) a4 rfl, pu_B1, pu_R (k := 4) a4 rfl, pu_B1, pu_B1, pu_R (k := 3) x2 rfl, pu_B1, pu_B1, pu_B1, pu_R (k := 3) x2 rfl, pu_B1, pu_B1, pu_Len x6, pu_B1, pu_B1, pu_B1, e1, pu_B1, pu_R (k := 1) i0 rfl, pu_B1, pu_R (k := 4) i0 rfl, pu_B1, pu_B1, pu_R (k := 4) ((o1 xa nxv).trans x2) rfl, pu_B1, pu_B1, pu_B1, e2, pu_B1, pu_R (k := 4) i2 rfl, pu_B1, pu_R (k := 2) i2 rfl, pu_B1, pu_B1, e3, pu_B1, pu_R (k := 4) i3 rfl, pu_B1, pu_B1, pu_R (k := 5) c0 rfl, pu_B1, pu_R (k := 3) i3 rfl, pu_B1, pu_B1, pu_Ob n2.1, pu_B1, e4, pu_B2, pu_B2, pu_R (k := 5) y0.1 rfl, pu_B1, pu_B1, pu_Ob hmo4, pu_B1, many_f hG, pu_B2]
    · rw [e13, inst_t hG.there, pu_B2]
end IM
