set_option maxRecDepth 100000
/-! AN INSTANCE is compensated: up to the look -/
section IC
variable {S : SV} {σ : TS} {xa mo ia i ver T : Nat}
theorem sim_comp {w : gw} {tg : pT} {s : Nat → Int32} {B l a : Nat} {q : Bool} (hW : pW S σ xa mo ia i ver T w tg s B (some a) none) (hB : B + 1 < 2 ^ 31) (hn0 : 0 < sEn S 0) (hl : l ≤ 4) (hR : rB S xa ia i w tg s T q l 0 a) (h7 : s (21 + 1262 * (i) + (622 + 10 * (0) + 7)) = -1) (r0 : w.2.1 + 3 ≤ w.2.2.2 0) (r1 : w.2.2.1 + 32 ≤ w.2.2.2 1) :
    ∃ w1 tg1 ua L, (∀ rec, f_X16_compensates rec ia w = gB2 (rec ia w1) fun _ w14 => some ((), w14)) ∧ t_X2_becomes (nI i) (nI 2) (tS σ s) = some ((), tS σ (uTurn i 2 s)) ∧ pW S σ xa mo ia i ver T w1 tg1 (uTurn i 2 s) (B + 1) none (some ua) ∧ w1.2 = (w.2.1 + 3, w.2.2.1 + 32, w.2.2.2) ∧ pFr w w1 tg tg1 (fun t => t = (ia, 64) ∨ t = (ia, 67)) ∧ uSt S xa ia i 0 ua L L.length 0 (nI T) w1 tg1 (uTurn i 2 s) := by
  have hS : sWf S := hW.1.2.2.1
  have hNs : sEn S 0 ≤ 64 := hS.1
  have hi : i < 6 := hW.1.2.1
  have hia := hW.1.1
  have hmi := hW.mi
  have hb := hW.bd
  have hk0 := hS.2.2.1
  have hsW := hW.own
  -- the list
  have e1 : gNew w 19 = some (w.2.1, hn w (.inl (19, [ga none, gi 0])) 2) := pu_New (w := w) (ci := 19) (n := 2) (fs := [ga none, gi 0]) rfl (by omega) (by omega)
  obtain ⟨W1, hW1⟩ : ∃ W1, hn w (.inl (19, [ga none, gi 0])) 2 = W1 := ⟨_, rfl⟩
  have hW12 : W1.2 = (w.2.1 + 1, w.2.2.1 + 2, w.2.2.2) := by rw [← hW1, hn_2]
  have b1 : W1.2.1 = w.2.1 + 1 := by rw [hW12]
  have e2 : gNewI W1 0 (nI 24) = some (w.2.1 + 1, hn W1 (.inr (0, 24, .inl (fun _ => 0))) 24) := by
    have := pu_NewI (w := W1) (t := 0) (n := 24) (by decide) (by rw [hW12]; show w.2.1 + 1 + 1 ≤ w.2.2.2 0; omega) (by rw [hW12]; show w.2.2.1 + 2 + 24 ≤ w.2.2.2 1; omega)
    rw [b1] at this
    exact this
  obtain ⟨W2, hW2⟩ : ∃ W2, hn W1 (.inr (0, 24, .inl (fun _ => 0))) 24 = W2 := ⟨_, rfl⟩
  have hW22 : W2.2 = (w.2.1 + 2, w.2.2.1 + 26, w.2.2.2) := by rw [← hW2, hn_2, hW12]
  have c2 : W2.1 w.2.1 = some (.inl (19, [ga none, gi 0])) := by
    rw [← hW2, hn_ne (by rw [b1]; omega), ← hW1]
    exact hn_self _ _ _
  have c3 : W2.1 (w.2.1 + 1) = some (.inr (0, 24, .inl (fun _ => 0))) := by
    rw [← hW2, ← b1]
    exact hn_self _ _ _
  have c4 : ∀ b, b < w.2.1 → W2.1 b = w.1 b := fun b h => by rw [← hW2, hn_ne (by rw [b1]; omega), ← hW1, hn_ne (by omega)]
  have hz : (0 : Int32) = nI 0 := by decide
  obtain ⟨W3, hW3⟩ : ∃ W3, hs W2 w.2.1 (.inl (19, [ga (some (w.2.1 + 1)), gi (nI 0)])) = W3 := ⟨_, rfl⟩
  have einit : f_X19_init w.2.1 W1 = some ((), W3) := by
    have := pu_Put (w := W2) (a := w.2.1) (c := 19) (k := 0) c2 (by show 0 < 2; omega) (ga (some (w.2.1 + 1)))
    unfold f_X19_init
    rw [e2, pu_B2, hW2, this, pu_B1, ← hW3]
    rfl
  have d1 : W3.1 w.2.1 = some (.inl (19, [ga (some (w.2.1 + 1)), gi (nI 0)])) := by rw [← hW3, hs_self]
  have d2 : W3.1 (w.2.1 + 1) = some (.inr (0, 24, .inl (fun _ => 0))) := by rw [← hW3, hs_ne (by omega)]; exact c3
  have d3 : ∀ b, b < w.2.1 → W3.1 b = w.1 b := fun b h => by rw [← hW3, hs_ne (by omega)]; exact c4 b h
  have d4 : W3.2 = (w.2.1 + 2, w.2.2.1 + 26, w.2.2.2) := by rw [← hW3, hs_2, hW22]
  have d5 : pBd W3 := by
    have h1 : pBd W1 := by rw [← hW1]; exact (pFr.hn (P := fun _ => True) (tg := fun _ => (0, 0)) hb _ _ (0, 0)).1
    have h2 : pBd W2 := by rw [← hW2]; exact (pFr.hn (P := fun _ => True) (tg := fun _ => (0, 0)) h1 _ _ (0, 0)).1
    rw [← hW3]
    exact (pFr.hs (P := fun _ => True) (tg := fun _ => (0, 0)) h2 c2 trivial).1
  -- what was done
  obtain ⟨tgL, htL⟩ : ∃ tgL : pT, tgL = fun x => if x < w.2.1 then tg x else (ia, 200) := ⟨_, rfl⟩
  obtain ⟨tgE, htE⟩ : ∃ tgE : pT, tgE = fun x => if x < w.2.1 then tg x else (0, 100) := ⟨_, rfl⟩
  have l1 : ∀ x, x < w.2.1 → tgL x = tg x := fun x hx => by rw [htL]; exact if_pos hx
  have l2 : ∀ x, ¬ x < w.2.1 → tgL x = (ia, 200) := fun x hx => by rw [htL]; exact if_neg hx
  have m1 : ∀ x, x < w.2.1 → tgE x = tg x := fun x hx => by rw [htE]; exact if_pos hx
  have m2 : ∀ x, ¬ x < w.2.1 → tgE x = (0, 100) := fun x hx => by rw [htE]; exact if_neg hx
  have hf1 : pFr w W3 tg tgL (fun _ => False) := ⟨d5, by rw [d4]; show w.2.1 ≤ w.2.1 + 2; omega, by rw [d4], l1, fun x hx _ => d3 x hx⟩
  have hRL : rB S xa ia i W3 tgL s T q l 0 a := (rB_fr (q := q) (q1 := q) (T := T) (T1 := T) hS hf1.2.2.1 (fun z => ⟨z, fun _ _ z => z⟩) (Nat.le_refl _) l).1 0 a hn0 hk0 (hf1.aW hb (fun _ _ => id)) (aS.aY hS hn0 (fun _ _ _ _ _ => rfl)) hR
  have hia2 : (ia, 200) ≠ (0, 100) := fun z => hia (congrArg Prod.fst z)
  have hto : gTo W3 tgL ia 0 (sEn S 0) w.2.1 (w.2.1 + 1) := ⟨⟨_, d1⟩, ⟨_, d2⟩, by rw [l2 _ (by omega)]; exact hia2, by rw [l2 _ (by omega)]; exact hia2, by rw [l2 _ (by omega)]; intro z; have := z.2.2; simp only at this; omega, by rw [l2 _ (by omega)]; intro z; have := z.2.2; simp only at this; omega⟩
  have hg := (gath (q := q) (T := T) (xa := xa) (ia := ia) (tg := tgL) (w := W3) (to := w.2.1) (da := w.2.1 + 1) hS hW.uq l).1 12 0 a (by omega) hn0 hk0 hto hRL [] (fun _ => 0) ⟨List.Pairwise.nil, by simp, fun j k hjk => by simp at hjk⟩ (fun x _ z => by simp at z)
  rw [gL_id d1 d2] at hg
  obtain ⟨f, L, g1, g2, g3⟩ := hg
  obtain ⟨W4, hW4⟩ : ∃ W4, gL W3 w.2.1 (w.2.1 + 1) L f = W4 := ⟨_, rfl⟩
  rw [hW4] at g1
  have k1 : W4.1 w.2.1 = some (.inl (19, [ga (some (w.2.1 + 1)), gi (nI L.length)])) := by rw [← hW4]; exact hs_self _ _ _
  have k2 : W4.1 (w.2.1 + 1) = some (.inr (0, 24, .inl f)) := by rw [← hW4]; exact (hs_ne (by omega)).trans (hs_self _ _ _)
  have k3 : ∀ b, b < w.2.1 → W4.1 b = w.1 b := fun b h => by rw [← hW4]; exact (hs_ne (by omega)).trans ((hs_ne (by omega)).trans (d3 b h))
  have k4 : W4.2 = (w.2.1 + 2, w.2.2.1 + 26, w.2.2.2) := by rw [← hW4]; exact d4
  have k5 : pBd W4 := by
    rw [← hW4]
    exact (gL_fr (X := (ia, 200)) (L0 := []) d5 (l2 _ (by omega)) (l2 _ (by omega)) d1 d2).1
  have hf4 : pFr w W4 tg tgE (fun _ => False) := ⟨k5, by rw [k4]; show w.2.1 ≤ w.2.1 + 2; omega, by rw [k4], m1, fun x hx _ => k3 x hx⟩
  have hP4 : pW S σ xa mo ia i ver T W4 tgE s B (some a) none := hW.fr hf4 id (fun _ => id) (fun _ _ => id)
  obtain ⟨va0, pe0, dl0, hi0, own0, -⟩ := hW.own
  have hbi := hb _ _ own0
  -- body = null
  obtain ⟨va, pe, dl, hi', own1, own2⟩ := hP4.own
  have hP5 := own2 (s (21 + 1262 * (i) + 1)) (s (21 + 1262 * (i) + 5)) none none s (fun _ _ _ => rfl) rfl rfl
  obtain ⟨W5, hW5⟩ : ∃ W5, hs W4 ia (.inl (16, [ga (some mo), gi (s (21 + 1262 * (i) + 2)), gi (s (21 + 1262 * (i) + 3)), gi (s (21 + 1262 * (i) + 4)), ga (some va), ga (some pe), ga (some dl), ga (some hi'), gi (s (21 + 1262 * (i) + 9)), gi (s (21 + 1262 * (i) + 1)), gi (s (21 + 1262 * (i) + 5)), gi (s (21 + 1262 * (i) + 7)), gi (s (21 + 1262 * (i) + 8)), ga none, ga none, ga (some xa)])) = W5 := ⟨_, rfl⟩
  rw [hW5] at hP5
  have hta : tgE ia = (ia, 64) := by
    obtain ⟨-, -, -, -, -, ⟨va, pe, hi', dl, fv, fp, fh, i1, -⟩, -⟩ := hP4
    exact i1
  have hf5 : pFr W4 W5 tgE tgE (fun t => t = (ia, 64) ∨ t = (ia, 67)) := by
    rw [← hW5]
    exact pFr.hs k5 own1 (Or.inl hta)
  have p1 : gPut W4 ia 16 13 (ga none) = some W5 := by
    rw [pu_Put own1 (by show 13 < 16; omega), ← hW5]
    rfl
  have p2 : W5.1 ia = some (.inl (16, [ga (some mo), gi (s (21 + 1262 * (i) + 2)), gi (s (21 + 1262 * (i) + 3)), gi (s (21 + 1262 * (i) + 4)), ga (some va), ga (some pe), ga (some dl), ga (some hi'), gi (s (21 + 1262 * (i) + 9)), gi (s (21 + 1262 * (i) + 1)), gi (s (21 + 1262 * (i) + 5)), gi (s (21 + 1262 * (i) + 7)), gi (s (21 + 1262 * (i) + 8)), ga none, ga none, ga (some xa)])) := by rw [← hW5, hs_self]
  have p3 : W5.2 = (w.2.1 + 2, w.2.2.1 + 26, w.2.2.2) := by rw [← hW5, hs_2, k4]
  have niw : ia ≠ w.2.1 := by omega
  have niw1 : ia ≠ w.2.1 + 1 := by omega
  have p4 : W5.1 w.2.1 = some (.inl (19, [ga (some (w.2.1 + 1)), gi (nI L.length)])) := by rw [← hW5, hs_ne niw.symm]; exact k1
  have p5 : W5.1 (w.2.1 + 1) = some (.inr (0, 24, .inl f)) := by rw [← hW5, hs_ne niw1.symm]; exact k2
  -- the Undo
  have e6 : gNew W5 26 = some (w.2.1 + 2, hn W5 (.inl (26, [ga none, ga none, gi 0, gi 0, gi 0, ga none])) 6) := by
    have := pu_New (w := W5) (ci := 26) (n := 6) (fs := [ga none, ga none, gi 0, gi 0, gi 0, ga none]) rfl (by rw [p3]; show w.2.1 + 2 + 1 ≤ w.2.2.2 0; omega) (by rw [p3]; show w.2.2.1 + 26 + 6 ≤ w.2.2.2 1; omega)
    rw [p3] at this
    exact this
  obtain ⟨W6, hW6⟩ : ∃ W6, hn W5 (.inl (26, [ga none, ga none, gi 0, gi 0, gi 0, ga none])) 6 = W6 := ⟨_, rfl⟩
  have b5 : W5.2.1 = w.2.1 + 2 := by rw [p3]
  obtain ⟨tg6, htg6⟩ : ∃ tg6, tU tgE (w.2.1 + 2) (ia, 0) = tg6 := ⟨_, rfl⟩
  have hP6 : pW S σ xa mo ia i ver T W6 tg6 s B none none := by
    rw [← hW6, ← htg6, ← b5]
    exact hP5.hn _ _ _
  have hf6 : pFr W5 W6 tgE tg6 (fun t => t = (ia, 64) ∨ t = (ia, 67)) := by
    rw [← hW6, ← htg6, ← b5]
    exact pFr.hn hP5.bd _ _ _
  have q1 : W6.1 (w.2.1 + 2) = some (.inl (26, [ga none, ga none, gi 0, gi 0, gi 0, ga none])) := by
    rw [← hW6, ← b5]
    exact hn_self _ _ _
  have q2 : ∀ b, b < w.2.1 + 2 → W6.1 b = W5.1 b := fun b h => by rw [← hW6, hn_ne (by rw [b5]; omega)]
  have q3 : W6.2 = (w.2.1 + 3, w.2.2.1 + 32, w.2.2.2) := by rw [← hW6, hn_2, p3]
  have q4 : W6.1 ia = _ := (q2 ia (by omega)).trans p2
  have q5 := (q2 w.2.1 (by omega)).trans p4
  have q6 := (q2 (w.2.1 + 1) (by omega)).trans p5
  have t6 : tg6 (w.2.1 + 2) = (ia, 0) := by rw [← htg6, tU_self]
  have t6o : ∀ x, x < w.2.1 + 2 → tg6 x = tgE x := fun x hx => by rw [← htg6, tU_ne (by omega)]
  obtain ⟨du, fa, ins, va3, pe3, hi3, dl3, f10, f11, f12, mc, -⟩ := hP6.cells
  have einit2 := pf_init26 (xa := xa) q1 q5 q4 mc
  obtain ⟨W7, hW7⟩ : ∃ W7, hs W6 (w.2.1 + 2) (.inl (26, [ga (some ia), ga (some w.2.1), gi (nI L.length), gi 0, gi (nI T), ga (some xa)])) = W7 := ⟨_, rfl⟩
  rw [hW7] at einit2
  have hP7 : pW S σ xa mo ia i ver T W7 tg6 s B none none := by
    rw [← hW7]
    exact hP6.put q1 t6 (by omega)
  obtain ⟨va7, pe7, dl7, hi7, own7, own7b⟩ := hP7.own
  have hP8 := own7b (s (21 + 1262 * (i) + 1)) (s (21 + 1262 * (i) + 5)) none (some (w.2.1 + 2)) s (fun _ _ _ => rfl) rfl rfl
  obtain ⟨W8, hW8⟩ : ∃ W8, hs W7 ia (.inl (16, [ga (some mo), gi (s (21 + 1262 * (i) + 2)), gi (s (21 + 1262 * (i) + 3)), gi (s (21 + 1262 * (i) + 4)), ga (some va7), ga (some pe7), ga (some dl7), ga (some hi7), gi (s (21 + 1262 * (i) + 9)), gi (s (21 + 1262 * (i) + 1)), gi (s (21 + 1262 * (i) + 5)), gi (s (21 + 1262 * (i) + 7)), gi (s (21 + 1262 * (i) + 8)), ga none, ga (some (w.2.1 + 2)), ga (some xa)])) = W8 := ⟨_, rfl⟩
  rw [hW8] at hP8
  have t6i : tg6 ia = (ia, 64) := (t6o ia (by omega)).trans hta
  have hf8 : pFr W7 W8 tg6 tg6 (fun t => t = (ia, 64) ∨ t = (ia, 67)) := by
    rw [← hW8]
    exact pFr.hs hP7.bd own7 (Or.inl t6i)
  have r8 : gPut W7 ia 16 14 (ga (some (w.2.1 + 2))) = some W8 := by
    rw [pu_Put own7 (by show 14 < 16; omega), ← hW8]
    rfl
  have own8 : W8.1 ia = some (.inl (16, [ga (some mo), gi (s (21 + 1262 * (i) + 2)), gi (s (21 + 1262 * (i) + 3)), gi (s (21 + 1262 * (i) + 4)), ga (some va7), ga (some pe7), ga (some dl7), ga (some hi7), gi (s (21 + 1262 * (i) + 9)), gi (s (21 + 1262 * (i) + 1)), gi (s (21 + 1262 * (i) + 5)), gi (s (21 + 1262 * (i) + 7)), gi (s (21 + 1262 * (i) + 8)), ga none, ga (some (w.2.1 + 2)), ga (some xa)])) := by rw [← hW8, hs_self]
  obtain ⟨w9, n1, n2, n3, n4, n5⟩ := sim_turns hP8 (by omega) (st := 2) (by omega)
  rw [if_pos rfl, if_pos rfl] at n3
  -- the way of the new cells
  have u8 : W8.1 (w.2.1 + 2) = some (.inl (26, [ga (some ia), ga (some w.2.1), gi (nI L.length), gi 0, gi (nI T), ga (some xa)])) := by rw [← hW8, hs_ne (by omega), ← hW7, hs_self]
  have v8 : W8.1 w.2.1 = some (.inl (19, [ga (some (w.2.1 + 1)), gi (nI L.length)])) := by rw [← hW8, hs_ne niw.symm, ← hW7, hs_ne (by omega)]; exact q5
  have x8 : W8.1 (w.2.1 + 1) = some (.inr (0, 24, .inl f)) := by rw [← hW8, hs_ne niw1.symm, ← hW7, hs_ne (by omega)]; exact q6
  have hn9 : ∀ b e x, W8.1 b = some e → tg6 b = x → x ≠ (ia, 64) → x ≠ (ia, 67) → w9.1 b = some e := fun b e x hb ht h1 h2 => (n5.at hP8.bd hb (by
    rw [ht]
    rintro (z | z)
    · exact h1 z
    · exact h2 z)).1
  have h00 : (0, 100) ≠ (ia, 64) := fun z => hia (congrArg Prod.fst z).symm
  have h01 : (0, 100) ≠ (ia, 67) := fun z => hia (congrArg Prod.fst z).symm
  have ttd : tg6 w.2.1 = (0, 100) := (t6o _ (by omega)).trans (m2 _ (by omega))
  have tta : tg6 (w.2.1 + 1) = (0, 100) := (t6o _ (by omega)).trans (m2 _ (by omega))
  have u9 := hn9 _ _ _ u8 t6 (by simp) (by simp)
  have v9 := hn9 _ _ _ v8 ttd h00 h01
  have x9 := hn9 _ _ _ x8 tta h00 h01
  -- rows
  have hE := hW.2.2.2.2.2.2
  have hut : uTurn i 2 s = uNotes i (nI 11) (nI 2) (upd s (21 + 1262 * (i) + 1) (nI 2)) := if_pos rfl
  have hEu : pE i (upd s (21 + 1262 * (i) + 1) (nI 2)) B := by
    obtain ⟨E, y1, y2⟩ := hE
    exact ⟨E, (upd_ne (by omega)).trans y1, y2⟩
  have hrow : ∀ m k, k < 10 → uTurn i 2 s (21 + 1262 * (i) + (622 + 10 * (m) + k)) = s (21 + 1262 * (i) + (622 + 10 * (m) + k)) := fun m k hk => by rw [hut, uNotes_ne hEu (by omega) (by omega) (by omega), upd_ne (by omega)]
  refine ⟨w9, tg6, w.2.1 + 2, L, fun rec => ?_, n2, n3, ?_, ?_, ⟨t6, w.2.1, w.2.1 + 1, f, by rw [u9, hz], ttd, v9, tta, x9, g2⟩, ⟨Nat.le_refl _, fun k => ?_, fun j k t h1 h2 => ?_⟩, Or.inl ⟨rfl, (hrow 0 7 (by omega)).trans h7⟩⟩
  · unfold f_X16_compensates
    have hia3 : W3.1 ia = _ := (d3 ia hbi).trans own0
    rw [e1, pu_B2, hW1, einit, pu_B2, pu_R (k := 13) hia3 rfl, pu_B1, pu_B1, g1, pu_B2, p1, pu_B1, e6, pu_B2, hW6, pu_R (k := 15) q4 rfl, pu_B1, einit2, pu_B2, r8, pu_B1, pu_Ob own8, pu_B1, n1, pu_B2]
    obtain ⟨va9, pe9, dl9, hi9, own9, -⟩ := n3.own
    rw [pu_Ob own9, pu_B1]
  · rw [n4, ← hW8, hs_2, ← hW7, hs_2, q3]
  · refine ⟨n3.bd, by rw [n4, ← hW8, hs_2, ← hW7, hs_2, q3]; show w.2.1 ≤ w.2.1 + 3; omega, by rw [n4, ← hW8, hs_2, ← hW7, hs_2, q3], fun b hbl => (t6o b (by omega)).trans (m1 b hbl), fun b hbl hn => ?_⟩
    have hbt : tg6 b = tg b := (t6o b (by omega)).trans (m1 b hbl)
    have hbi' : b ≠ ia := by
      rintro rfl
      exact hn (Or.inl (hbt.symm.trans t6i))
    rw [n5.2.2.2.2 b (by rw [← hW8, hs_2, ← hW7, hs_2, q3]; show b < w.2.1 + 3; omega) (by rw [hbt]; exact hn), ← hW8, hs_ne hbi', ← hW7, hs_ne (by omega), q2 b (by omega), ← hW5, hs_ne hbi']
    exact k3 b hbl
  · rw [g3 k]
    constructor
    · rintro (⟨k24, t, t1, t2, t3, t4, t5⟩ | z)
      · exact ⟨k24, t, ⟨t2, Or.inl rfl⟩, t3, (hrow t 0 (by omega)).trans t4, (hrow t 5 (by omega)).trans t5⟩
      · simp at z
    · rintro ⟨k24, t, ⟨t2, -⟩, t3, t4, t5⟩
      rw [hrow t 0 (by omega)] at t4
      rw [hrow t 5 (by omega)] at t5
      exact Or.inl ⟨k24, t, Nat.zero_le _, t2, t3, t4, t5⟩
  · have : L[j]? = none := List.getElem?_eq_none h1
    rw [this] at h2
    exact absurd h2 (by simp)
end IC
