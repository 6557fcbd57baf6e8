set_option maxRecDepth 100000
/-! A TASK's COMPENSATION: tries, and how it ends -/
section HD
variable {S : SV} {σ : TS} {xa mo ia i ver T : Nat} {w : gw} {tg : pT} {s : Nat → Int32} {B : Nat} {bo un : Option Nat}
/-- the component's record of a task that was done -/
theorem pW.rec {t k : Nat} (h : pW S σ xa mo ia i ver T w tg s B bo un) (ht : t < sEn S 0) (hk : sKd S t = 1) (h2 : s (21 + 1262 * (i) + (622 + 10 * (t) + 0)) = nI 2) (h5 : s (21 + 1262 * (i) + (622 + 10 * (t) + 5)) = nI (k + 1)) (hk24 : k < 24) :
    ∃ dk e, tg dk = (ia, 70 + k) ∧ w.1 dk = some (.inl (25, [gi (sP S t 1), gi (sP S t 4), gi e])) ∧ (s (21 + 1262 * (i) + (622 + 10 * (t) + 6)) = nI 0 ∧ e = nI 2 ∨ s (21 + 1262 * (i) + (622 + 10 * (t) + 6)) = e ∧ (e = nI 6 ∨ e = nI 7)) ∧ gCk w [25] (some dk) = some (some dk) ∧
      tg ia = (ia, 64) ∧ ∃ dl ea m cap mc g, (∃ f1 f2 f3 f4 f5 f7 f8 f9 f10 f11 f12 f13 f14 f15, w.1 ia = some (.inl (16, [ga (some mo), f1, f2, f3, f4, f5, ga (some dl), f7, f8, f9, f10, f11, f12, f13, f14, f15]))) ∧ w.1 dl = some (.inl (8, [mc, ga (some ea), gi (nI m)])) ∧ w.1 ea = some (.inr (2, cap, .inr g)) ∧ k < m ∧ m ≤ cap ∧ cap < 1000 ∧ g k = some dk ∧ tg dl = (ia, 68) ∧ tg ea = (ia, 69) := by
  obtain ⟨-, hC, -, -, -, ⟨va, pe, hi', dl, fv, fp, fh, i1, i2, i3, i4, i5, i6, i7, i8, i9, i10, i11, m, ea, mc, g, d1, d2, d3, d4, d5, d6, d7, d8, d9⟩, -⟩ := h
  obtain ⟨k', k1, k2⟩ := d8 t ht hk h2
  rw [h5] at k2
  have := (nI_eq (by omega) (by omega)).mp k2
  obtain rfl : k = k' := by omega
  obtain ⟨dk, t', e, q1, q2, q3, q4, q5, q6, q7, q8⟩ := d7 k k1
  have := d9 t t' ht q3 hk q4 h2 q5 (h5.trans q6.symm)
  subst this
  refine ⟨dk, e, q2, q7, q8, ?_, i1, dl, ea, m, ?_⟩
  · show (match gCls w dk with | some c => if [25].contains c then some (some dk) else none | none => none) = _
    rw [pu_Cls q7]
    rfl
  · rcases d6 with ⟨z, -⟩ | ⟨c1, cap, c2, c3, c4, c5⟩
    · omega
    · exact ⟨cap, _, g, ⟨_, _, _, _, _, _, _, _, _, _, _, _, _, _, i2⟩, d5, c5, k1, c2, by omega, q1, d4, c1⟩
/-- a try -/
theorem sim_utries {n ua t u dk td : Nat} {left til e : Int32} {tried : Nat} (h : pW S σ xa mo ia i ver T w tg s B bo un) (hB : B + 1 < 2 ^ 31) (hn : n < sEn S 0) (ht : t < sEn S 0) (hu : sP S t 4 = nI u) (hu8 : u < 8) (h7 : s (21 + 1262 * (i) + (622 + 10 * (n) + 7)) = nI t) (hta : tg ua = (ia, n))
    (ha : w.1 ua = some (.inl (26, [ga (some ia), ga (some td), gi left, gi (nI tried), gi til, ga (some xa)]))) {f0 : gv} (hd : w.1 dk = some (.inl (25, [f0, gi (sP S t 4), gi e]))) :
    ∃ w1 E, E ≤ 99 ∧ f_X26_tries ua (some dk) w = some ((), w1) ∧ t_X2_triesToCompensate (nI i) (nI n) (tS σ s) = some ((), tS σ (upd (uNotes i (nI 5) (nI u) s) (21 + 1262 * (i) + (622 + 10 * (n) + 9)) (nI (T + E)))) ∧
      w1.1 ua = some (.inl (26, [ga (some ia), ga (some td), gi left, gi (nI (tried + 1)), gi (nI (T + E)), ga (some xa)])) ∧ pW S σ xa mo ia i ver T w1 tg (upd (uNotes i (nI 5) (nI u) s) (21 + 1262 * (i) + (622 + 10 * (n) + 9)) (nI (T + E))) (B + 1) bo un ∧ w1.2 = w.2 ∧ pFr w w1 tg tg (pP mo ia n (n + 1)) := by
  have h0 := h
  obtain ⟨⟨hia, hi, hS, hσ⟩, hC, hO, hV, hM, hI, hE⟩ := h
  have hNs : sEn S 0 ≤ 64 := hS.1
  obtain ⟨du, fa, ins, fd, ff, fi, m1, m2, m3, m4, m5, m6, m7, m8, m9, m10, m11⟩ := hM
  obtain ⟨va, pe, hi', dl, fv, fp, fh, i1, i2, i3, i4, i5, i6, i7, i8, i9, i10, i11, i12⟩ := hI
  obtain ⟨q1, -, ⟨E, q2, q3⟩, -⟩ := m9 u hu8
  have e0 : s 0 + s (1 + u) = nI (T + E) := by rw [m10, q3, nI_add]
  have n1 : ia ≠ ua := ne_of i2 ha (by simp)
  have n2 : mo ≠ ua := ne_of m2 ha (by simp)
  have n3 : du ≠ ua := ne_of m4 ha (by simp)
  have n4 : dk ≠ ua := ne_of hd ha (by simp)
  have hA := h0.put (e := .inl (26, [ga (some ia), ga (some td), gi left, gi (nI (tried + 1)), gi (nI (T + E)), ga (some xa)])) ha hta (by omega)
  obtain ⟨w1, r1, r2, r3, r4, r5⟩ := sim_notes hA (by omega) (nI 5) (nI u)
  have hfr : pFr w w1 tg tg (pP mo ia n (n + 1)) := (pFr.hs h0.bd ha (by rw [hta]; exact Or.inl ⟨rfl, Or.inl ⟨Nat.le_refl _, Nat.lt_succ_self _⟩⟩)).tr (r5.mono (fun t ht => pP_notes t ht))
  refine ⟨w1, E, q2, ?_, ?_, ?_, ?_, r4, hfr⟩
  · unfold f_X26_tries
    have q4 : fd u = nI E := q1.trans q3
    have q5 : s 0 + nI E = nI (T + E) := by rw [← q3]; exact e0
    simp (disch := first | assumption | omega) only [pu_B1, pu_B2, pu_Bd, pu_Nn, pu_Ns, pv_I, pv_R, pv_P, pv_LI, pv_LR, pv_SI, pv_SR, pv_O, pv_C, pvF, pvI, pvR, pvP, pvLI, pvLR, pvSI, pvSR, pvN, pvO, pvC, pv_bs, pv_ms, hs_self, hs_ne, hs_K, hs_2, List.getElem?_cons_succ, List.getElem?_cons_zero, List.set_cons_succ, List.set_cons_zero, Option.isSome_some, if_true, if_false, true_and, and_true, ↓reduceIte, ha, i2, m2, m4, hd, hu, pu_gIx, q4, q5, hs_hs, nI_add]
    simp only [pu_B2, r1]
  · have e7 : ∀ w : TS, t_X2_at (nI i) (nI n) (nI 7) w = _ := fun w => pt_at w
    have e9 : ∀ w : TS, t_X2_at (nI i) (nI n) (nI 9) w = _ := fun w => pt_at w
    have k4 := h0.np (n := t) (k := 4) ht (by omega)
    rw [hu] at k4
    unfold t_X2_triesToCompensate
    rw [e7, pu_B2, pu_ld5 (by omega), pu_B1, h7, k4, pu_B2, r2, pu_B2, e9, pu_B2, pu_ld5 (by omega), pu_B1, nI_add, pu_ld5 (by omega), pu_B1, pu_st5 (by omega), pu_B1, uNotes_ne hE (by omega) (by omega) (by omega), uNotes_ne hE (by omega) (by omega) (by omega), e0]
  · exact notes_at hA.bd r5 (hs_self _ _ _) hta (by omega)
  · exact r3.rows (fun j hj => upd_ne (by omega)) (fun m _ _ => ⟨by rw [upd_ne (by omega)], fun _ => ⟨upd_ne (by omega), upd_ne (by omega)⟩⟩)
/-- the reference's rows when a task's compensation has ended: kind 6 or 7 -/
def uHand (i n t kd : Nat) (c : Int32) (s : Nat → Int32) : Nat → Int32 :=
  upd (upd (upd (uNotes i (nI kd) c s) (21 + 1262 * (i) + (622 + 10 * (t) + 6)) (nI kd)) (21 + 1262 * (i) + (kd + 1)) (s (21 + 1262 * (i) + (kd + 1)) + nI 1)) (21 + 1262 * (i) + (622 + 10 * (n) + 7)) (-1)
theorem sim_hand {n t k dk kd : Nat} {e : Int32} (h : pW S σ xa mo ia i ver T w tg s B bo un) (hB : B + 1 < 2 ^ 31) (hkd : kd = 6 ∨ kd = 7) (hn : n < sEn S 0) (hn1 : n ≠ t) (ht : t < sEn S 0) (hk : sKd S t = 1) (h2 : s (21 + 1262 * (i) + (622 + 10 * (t) + 0)) = nI 2) (h5 : s (21 + 1262 * (i) + (622 + 10 * (t) + 5)) = nI (k + 1)) (hk24 : k < 24) (h7 : s (21 + 1262 * (i) + (622 + 10 * (n) + 7)) = nI t)
    (hdl : ∃ dl ea m cap mc g, (∃ f1 f2 f3 f4 f5 f7 f8 f9 f10 f11 f12 f13 f14 f15, w.1 ia = some (.inl (16, [ga (some mo), f1, f2, f3, f4, f5, ga (some dl), f7, f8, f9, f10, f11, f12, f13, f14, f15]))) ∧ w.1 dl = some (.inl (8, [mc, ga (some ea), gi (nI m)])) ∧ w.1 ea = some (.inr (2, cap, .inr g)) ∧ k < m ∧ m ≤ cap ∧ cap < 1000 ∧ g k = some dk) (hdt : tg dk = (ia, 70 + k)) (hd : w.1 dk = some (.inl (25, [gi (sP S t 1), gi (sP S t 4), gi e]))) :
    ∃ w1, f_X16_ends ia (some dk) (hs w dk (.inl (25, [gi (sP S t 1), gi (sP S t 4), gi (nI kd)]))) = some ((), w1) ∧ t_X2_handles (nI i) (nI n) (nI kd) (nI (kd + 1)) (tS σ s) = some ((), tS σ (uHand i n t kd (sP S t 1) s)) ∧
      pW S σ xa mo ia i ver T w1 tg (uHand i n t kd (sP S t 1) s) (B + 1) bo un ∧ w1.2 = w.2 ∧ pFr w w1 tg tg (fun x => x.1 = ia ∧ 64 ≤ x.2) := by
  have h0 := h
  obtain ⟨⟨hia, hi, hS, hσ⟩, hC, hO, hV, hM, hI, hE⟩ := h
  have hNs : sEn S 0 ≤ 64 := hS.1
  have hE0 := hE
  obtain ⟨E, hE1, hE2⟩ := hE
  have hM0 := hM
  obtain ⟨du, fa, ins, fd, ff, fi, m1, m2, m3, m4, m5, m6, m7, m8, m9, m10, m11⟩ := hM
  obtain ⟨va, pe, hi', dl, fv, fp, fh, i1, i2, i3, i4, i5, i6, i7, i8, i9, i10, i11, i12⟩ := hI
  obtain ⟨m, ea, mc, g, d1, d2, d3, d4, d5, d6, d7, d8, d9⟩ := i12
  have n1 : ia ≠ dk := ne_of i2 hd (by simp)
  have n2 : mo ≠ dk := ne_of m2 hd (by simp)
  have n3 : hi' ≠ dk := ne_of i8 hd (by simp)
  have n4 : ia ≠ hi' := ne_of i2 i8 (by simp)
  have n5 : mo ≠ ia := ne_of m2 i2 (by simp)
  rw [hE1] at i2
  have hrun := pf_notes (w := hs w dk (.inl (25, [gi (sP S t 1), gi (sP S t 4), gi (nI kd)]))) (E := E) (kk := nI kd) (vv := sP S t 1) ((hs_ne n1).trans i2) ((hs_ne n2).trans m2) ((hs_ne n3).trans i8) (by omega)
  obtain ⟨w2, hw2⟩ : ∃ w2, hs (hs (hs w dk (.inl (25, [gi (sP S t 1), gi (sP S t 4), gi (nI kd)]))) hi' (.inr (0, 600, .inl (hNotes fh E (s 0) (nI kd) (sP S t 1))))) ia (.inl (16, [ga (some mo), gi (s (21 + 1262 * (i) + 2)), gi (s (21 + 1262 * (i) + 3)), gi (s (21 + 1262 * (i) + 4)), ga (some va), ga (some pe), ga (some dl), ga (some hi'), gi (nI (E + 1)), gi (s (21 + 1262 * (i) + 1)), gi (s (21 + 1262 * (i) + 5)), gi (s (21 + 1262 * (i) + 7)), gi (s (21 + 1262 * (i) + 8)), ga bo, ga un, ga (some xa)])) = w2 := ⟨_, rfl⟩
  rw [hw2] at hrun
  have c2 : w2.1 ia = some (.inl (16, [ga (some mo), gi (s (21 + 1262 * (i) + 2)), gi (s (21 + 1262 * (i) + 3)), gi (s (21 + 1262 * (i) + 4)), ga (some va), ga (some pe), ga (some dl), ga (some hi'), gi (nI (E + 1)), gi (s (21 + 1262 * (i) + 1)), gi (s (21 + 1262 * (i) + 5)), gi (s (21 + 1262 * (i) + 7)), gi (s (21 + 1262 * (i) + 8)), ga bo, ga un, ga (some xa)])) := by rw [← hw2, hs_self]
  have c3 : w2.1 dk = some (.inl (25, [gi (sP S t 1), gi (sP S t 4), gi (nI kd)])) := by rw [← hw2, hs_ne n1.symm, hs_ne n3.symm, hs_self]
  obtain ⟨x7, hx7⟩ : ∃ x, s (21 + 1262 * (i) + 7) + (if kd = 6 then nI 1 else nI 0) = x := ⟨_, rfl⟩
  obtain ⟨x8, hx8⟩ : ∃ x, s (21 + 1262 * (i) + 8) + (if kd = 7 then nI 1 else nI 0) = x := ⟨_, rfl⟩
  obtain ⟨w1, hw1⟩ : ∃ w1, hs w2 ia (.inl (16, [ga (some mo), gi (s (21 + 1262 * (i) + 2)), gi (s (21 + 1262 * (i) + 3)), gi (s (21 + 1262 * (i) + 4)), ga (some va), ga (some pe), ga (some dl), ga (some hi'), gi (nI (E + 1)), gi (s (21 + 1262 * (i) + 1)), gi (s (21 + 1262 * (i) + 5)), gi x7, gi x8, ga bo, ga un, ga (some xa)])) = w1 := ⟨_, rfl⟩
  have D1 : w1.1 ia = some (.inl (16, [ga (some mo), gi (s (21 + 1262 * (i) + 2)), gi (s (21 + 1262 * (i) + 3)), gi (s (21 + 1262 * (i) + 4)), ga (some va), ga (some pe), ga (some dl), ga (some hi'), gi (nI (E + 1)), gi (s (21 + 1262 * (i) + 1)), gi (s (21 + 1262 * (i) + 5)), gi x7, gi x8, ga bo, ga un, ga (some xa)])) := by rw [← hw1, hs_self]
  have D2 : w1.1 hi' = some (.inr (0, 600, .inl (hNotes fh E (s 0) (nI kd) (sP S t 1)))) := by rw [← hw1, hs_ne n4.symm, ← hw2, hs_ne n4.symm, hs_self]
  have D3 : w1.1 dk = some (.inl (25, [gi (sP S t 1), gi (sP S t 4), gi (nI kd)])) := by rw [← hw1, hs_ne n1.symm, c3]
  have D4 : ∀ b, b ≠ ia → b ≠ hi' → b ≠ dk → w1.1 b = w.1 b := fun b h1 h2 h3 => by rw [← hw1, hs_ne h1, ← hw2, hs_ne h1, hs_ne h2, hs_ne h3]
  have D5 : w1.2 = w.2 := by rw [← hw1, ← hw2]; rfl
  have hfr : pFr w w1 tg tg (fun x => x.1 = ia ∧ 64 ≤ x.2) := by
    refine ⟨fun b f hb => ?_, by rw [D5]; exact Nat.le_refl _, by rw [D5], fun _ _ => rfl, fun b _ hnb => D4 b ?_ ?_ ?_⟩
    · rw [D5]
      by_cases z1 : b = ia
      · rw [z1]; exact hC.1 _ _ i2
      · by_cases z2 : b = hi'
        · rw [z2]; exact hC.1 _ _ i8
        · by_cases z3 : b = dk
          · rw [z3]; exact hC.1 _ _ hd
          · rw [D4 b z1 z2 z3] at hb
            exact hC.1 _ _ hb
    · rintro rfl; exact hnb (by rw [i1]; exact ⟨rfl, by simp⟩)
    · rintro rfl; exact hnb (by rw [i7]; exact ⟨rfl, by simp⟩)
    · rintro rfl; exact hnb (by rw [hdt]; exact ⟨rfl, by show 64 ≤ 70 + k; omega⟩)
  have hne : ∀ j, j ≠ (21 + 1262 * (i) + 9) → (j < (21 + 1262 * (i) + 22) ∨ (21 + 1262 * (i) + 622) ≤ j) → uNotes i (nI kd) (sP S t 1) s j = s j := fun j h1 h2 => uNotes_ne hE0 (by omega) h1 h2
  have hs1 : ∀ j, j ≠ (21 + 1262 * (i) + (622 + 10 * (n) + 7)) → j ≠ (21 + 1262 * (i) + (kd + 1)) → j ≠ (21 + 1262 * (i) + (622 + 10 * (t) + 6)) → uHand i n t kd (sP S t 1) s j = uNotes i (nI kd) (sP S t 1) s j := fun j h1 h2 h3 => by
    unfold uHand
    rw [upd_ne h1, upd_ne h2, upd_ne h3]
  have hs2 : ∀ j, j ≠ (21 + 1262 * (i) + 9) → (j < (21 + 1262 * (i) + 22) ∨ (21 + 1262 * (i) + 622) ≤ j) → j ≠ (21 + 1262 * (i) + (622 + 10 * (n) + 7)) → j ≠ (21 + 1262 * (i) + (kd + 1)) → j ≠ (21 + 1262 * (i) + (622 + 10 * (t) + 6)) → uHand i n t kd (sP S t 1) s j = s j := fun j h1 h2 h3 h4 h5 => (hs1 j h3 h4 h5).trans (hne j h1 h2)
  have hv6 : uHand i n t kd (sP S t 1) s (21 + 1262 * (i) + (622 + 10 * (t) + 6)) = nI kd := by
    unfold uHand
    rw [upd_ne (by omega), upd_ne (by rcases hkd with rfl | rfl <;> omega), upd_self]
  have hvc : uHand i n t kd (sP S t 1) s (21 + 1262 * (i) + (kd + 1)) = s (21 + 1262 * (i) + (kd + 1)) + nI 1 := by
    unfold uHand
    rw [upd_ne (by rcases hkd with rfl | rfl <;> omega), upd_self]
  have hv9 : uHand i n t kd (sP S t 1) s (21 + 1262 * (i) + 9) = nI (E + 1) := by
    rw [hs1 _ (by omega) (by rcases hkd with rfl | rfl <;> omega) (by omega)]
    unfold uNotes
    split
    · rw [upd_self, hE1, nI_add]
    · rw [upd_self, hE1, nI_add]
  have hx7' : uHand i n t kd (sP S t 1) s (21 + 1262 * (i) + 7) = x7 := by
    rw [← hx7]
    rcases hkd with rfl | rfl
    · rw [if_pos rfl]
      exact hvc
    · rw [if_neg (by decide), show nI 0 = 0 from by decide, Int32.add_zero]
      exact hs2 _ (by omega) (by omega) (by omega) (by omega) (by omega)
  have hx8' : uHand i n t kd (sP S t 1) s (21 + 1262 * (i) + 8) = x8 := by
    rw [← hx8]
    rcases hkd with rfl | rfl
    · rw [if_neg (by decide), show nI 0 = 0 from by decide, Int32.add_zero]
      exact hs2 _ (by omega) (by omega) (by omega) (by omega) (by omega)
    · rw [if_pos rfl]
      exact hvc
  have hlow : ∀ j, j < 21 ∨ j = (21 + 1262 * (i) + 1) ∨ j = (21 + 1262 * (i) + 2) ∨ j = (21 + 1262 * (i) + 3) ∨ j = (21 + 1262 * (i) + 4) ∨ j = (21 + 1262 * (i) + 5) ∨ j = (21 + 1262 * (i) + 6) ∨ ((21 + 1262 * (i) + 10) ≤ j ∧ j < (21 + 1262 * (i) + 22)) → uHand i n t kd (sP S t 1) s j = s j := fun j hj => hs2 j (by omega) (by omega) (by omega) (by rcases hkd with rfl | rfl <;> omega) (by omega)
  have hrow : ∀ m' k', m' < 64 → k' < 10 → (m' = t → k' ≠ 6) → (m' = n → k' ≠ 7) → uHand i n t kd (sP S t 1) s (21 + 1262 * (i) + (622 + 10 * (m') + k')) = s (21 + 1262 * (i) + (622 + 10 * (m') + k')) := fun m' k' hm hk' h1 h2 => hs2 _ (by omega) (by omega) (by omega) (by rcases hkd with rfl | rfl <;> omega) (by omega)
  refine ⟨w1, ?_, ?_, ⟨⟨hia, hi, hS, hσ⟩, hC.fr hfr (fun z => hia z.1.symm), hO.fr (hfr.stc hC.1 (fun z => hia z.1.symm)), ?_, ?_, ?_, ?_⟩, D5, hfr⟩
  · have g1 : (hs w dk (.inl (25, [gi (sP S t 1), gi (sP S t 4), gi (nI kd)]))).1 ia = w.1 ia := hs_ne n1
    rcases hkd with rfl | rfl
    · have y1 : ¬ nI 6 = nI 7 := by decide
      have y2 : ¬ nI 1 = 0 := by decide
      have y3 : nI 0 = 0 := by decide
      rw [if_pos rfl] at hx7
      rw [if_neg (by decide)] at hx8
      unfold f_X16_ends f_X0_bit
      simp (disch := first | assumption | omega) only [pu_B1, pu_B2, pu_Bd, pu_Nn, pu_Ns, pv_I, pv_R, pv_P, pv_LI, pv_LR, pv_SI, pv_SR, pv_O, pv_C, pvF, pvI, pvR, pvP, pvLI, pvLR, pvSI, pvSR, pvN, pvO, pvC, pv_bs, pv_ms, hs_self, hs_ne, hs_K, hs_2, List.getElem?_cons_succ, List.getElem?_cons_zero, List.set_cons_succ, List.set_cons_zero, Option.isSome_some, if_true, if_false, true_and, and_true, ↓reduceIte, g1, i2, hrun, c2, c3, eq_true y3, y1, y2, hx7, hx8, hs_hs, hw1]
    · have y1 : ¬ nI 7 = nI 6 := by decide
      have y2 : ¬ nI 1 = 0 := by decide
      have y3 : nI 0 = 0 := by decide
      rw [if_neg (by decide)] at hx7
      rw [if_pos rfl] at hx8
      unfold f_X16_ends f_X0_bit
      simp (disch := first | assumption | omega) only [pu_B1, pu_B2, pu_Bd, pu_Nn, pu_Ns, pv_I, pv_R, pv_P, pv_LI, pv_LR, pv_SI, pv_SR, pv_O, pv_C, pvF, pvI, pvR, pvP, pvLI, pvLR, pvSI, pvSR, pvN, pvO, pvC, pv_bs, pv_ms, hs_self, hs_ne, hs_K, hs_2, List.getElem?_cons_succ, List.getElem?_cons_zero, List.set_cons_succ, List.set_cons_zero, Option.isSome_some, if_true, if_false, true_and, and_true, ↓reduceIte, g1, i2, hrun, c2, c3, eq_true y3, y1, y2, hx7, hx8, hs_hs, hw1]
  · have e7 : ∀ w : TS, t_X2_at (nI i) (nI n) (nI 7) w = _ := fun w => pt_at w
    have e6 : ∀ w : TS, t_X2_at (nI i) (nI t) (nI 6) w = _ := fun w => pt_at w
    have eo : ∀ w : TS, t_X2_of (nI i) (nI (kd + 1)) w = _ := fun w => pt_of w
    have k1 := h0.np (n := t) (k := 1) ht (by omega)
    have hcn : uNotes i (nI kd) (sP S t 1) s (21 + 1262 * (i) + (kd + 1)) = s (21 + 1262 * (i) + (kd + 1)) := hne _ (by rcases hkd with rfl | rfl <;> omega) (by rcases hkd with rfl | rfl <;> omega)
    unfold t_X2_handles uHand
    rw [e7, pu_B2, pu_ld5 (by omega), pu_B1, h7, k1, pu_B2, pt_notes' hi hE0 (by omega), pu_B2, e6, pu_B2, pu_st5 (by omega), pu_B1, eo, pu_B2, pu_ld5 (by rcases hkd with rfl | rfl <;> omega), pu_B1, upd_ne (by rcases hkd with rfl | rfl <;> omega), hcn, pu_st5 (by rcases hkd with rfl | rfl <;> omega), pu_B1, e7, pu_B2, pu_st5 (by omega), pu_B1]
  · obtain ⟨v1, a, b, v2, v3, v4, v5, v6⟩ := hV
    exact ⟨v1, a, b, v2, v3, v4, (hlow _ (by omega)).trans v5, (hlow _ (by omega)).trans v6⟩
  · exact hM0.fr hfr hC.1 (fun j z => n5 z.1) (fun j hj => hlow j (by omega))
  · have hat : ∀ a ex j, w.1 a = some ex → tg a = (ia, j) → j ≠ 64 → j ≠ 67 → j ≠ 70 + k → w1.1 a = some ex := by
      intro a ex j ha hta z1 z2 z3
      refine (D4 a ?_ ?_ ?_).trans ha
      · exact ne_ofT hta i1 (fun z => z1 (congrArg Prod.snd z))
      · exact ne_ofT hta i7 (fun z => z2 (congrArg Prod.snd z))
      · exact ne_ofT hta hdt (fun z => z3 (congrArg Prod.snd z))
    refine ⟨va, pe, hi', dl, fv, fp, _, i1, ?_, i3, hat _ _ _ i4 i3 (by omega) (by omega) (by omega), i5, hat _ _ _ i6 i5 (by omega) (by omega) (by omega), i7, D2, ?_, ?_, ?_, ?_⟩
    · rw [D1, hv9, hx7', hx8', hlow (21 + 1262 * (i) + 2) (by omega), hlow (21 + 1262 * (i) + 3) (by omega), hlow (21 + 1262 * (i) + 4) (by omega), hlow (21 + 1262 * (i) + 1) (by omega), hlow (21 + 1262 * (i) + 5) (by omega)]
    · intro c hc
      rw [hlow _ (by omega)]
      exact i9 c hc
    · intro c hc
      rw [hlow _ (by omega)]
      exact i10 c hc
    · intro j hj
      rw [hs1 _ (by omega) (by rcases hkd with rfl | rfl <;> omega) (by omega)]
      exact uNotes_h hE1 (by omega) i11 j hj
    · refine ⟨m, ea, mc, g, (hlow _ (by omega)).trans d1, ?_, d3, d4, hat _ _ _ d5 d4 (by omega) (by omega) (by omega), ?_, ?_, ?_, ?_⟩
      · rw [d2]
        exact pSum_congr _ (fun m' hm' => by rw [hrow m' 0 (by omega) (by omega) (by omega) (by omega)])
      · rcases d6 with z | ⟨z1, cap, z2, z3, z4, z5⟩
        · rw [D5]
          exact Or.inl z
        · exact Or.inr ⟨z1, cap, z2, z3, z4, hat _ _ _ z5 z1 (by omega) (by omega) (by omega)⟩
      · intro k' hk'
        obtain ⟨dk', t', e', q1, q2, q3, q4, q5, q6, q7, q8⟩ := d7 k' hk'
        by_cases hkk : k' = k
        · subst hkk
          have htt := d9 t t' ht q3 hk q4 h2 q5 (h5.trans q6.symm)
          subst htt
          have hdd : dk' = dk := by
            obtain ⟨dl2, ea2, m2', cap2, mc2, g2, ⟨f1, f2, f3, f4, f5, f7, f8, f9, f10, f11, f12, f13, f14, f15, r6⟩, r7, r8, r9, r10, r11, r12⟩ := hdl
            have z1 : dl = dl2 := Option.some.inj (Option.some.inj ((pu_R (k := 6) i2 rfl).symm.trans (pu_R (k := 6) r6 rfl)))
            subst z1
            have z2 : ea = ea2 := Option.some.inj (Option.some.inj ((pu_R (k := 1) d5 rfl).symm.trans (pu_R (k := 1) r7 rfl)))
            subst z2
            rcases d6 with ⟨z3, -⟩ | ⟨z1, cap, z2, z3, z4, z5⟩
            · omega
            · have z6 := Option.some.inj ((pu_RA z5).symm.trans (pu_RA r8))
              have z7 : g = g2 := congrArg Prod.snd z6
              rw [z7, r12] at q1
              exact (Option.some.inj q1).symm
          subst hdd
          exact ⟨dk', t, nI kd, q1, q2, q3, q4, (hrow t 0 (by omega) (by omega) (by omega) (by omega)).trans q5, (hrow t 5 (by omega) (by omega) (by omega) (by omega)).trans q6, D3, Or.inr ⟨hv6, by rcases hkd with rfl | rfl; exact Or.inl rfl; exact Or.inr rfl⟩⟩
        · have htt : t' ≠ t := by
            rintro rfl
            rw [h5] at q6
            have := (nI_eq (by omega) (by omega)).mp q6
            omega
          exact ⟨dk', t', e', q1, q2, q3, q4, (hrow t' 0 (by omega) (by omega) (by omega) (by omega)).trans q5, (hrow t' 5 (by omega) (by omega) (by omega) (by omega)).trans q6, hat _ _ _ q7 q2 (by omega) (by omega) (by omega), by rw [hrow t' 6 (by omega) (by omega) (fun z => absurd z htt) (by omega)]; exact q8⟩
      · intro t' ht' hk' h2'
        rw [hrow t' 0 (by omega) (by omega) (by omega) (by omega)] at h2'
        rw [hrow t' 5 (by omega) (by omega) (by omega) (by omega)]
        exact d8 t' ht' hk' h2'
      · intro t1 t2 ht1 ht2 hk1 hk2 g1 g2 g5
        rw [hrow t1 0 (by omega) (by omega) (by omega) (by omega)] at g1
        rw [hrow t2 0 (by omega) (by omega) (by omega) (by omega)] at g2
        rw [hrow t1 5 (by omega) (by omega) (by omega) (by omega), hrow t2 5 (by omega) (by omega) (by omega) (by omega)] at g5
        exact d9 t1 t2 ht1 ht2 hk1 hk2 g1 g2 g5
  · exact ⟨E + 1, hv9, by omega⟩
end HD
