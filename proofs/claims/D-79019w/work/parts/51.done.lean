set_option maxRecDepth 100000
/-! A TASK THAT WAS DONE -/
theorem pSum_le {f g : Nat → Nat} : ∀ N, (∀ n, n < N → f n ≤ g n) → pSum f N ≤ pSum g N := by
  intro N
  induction N with
  | zero => intro _; exact Nat.le_refl _
  | succ N ih =>
    intro h
    have h1 := ih (fun n hn => h n (by omega))
    have h2 := h N (by omega)
    unfold pSum
    omega
theorem pSum_congr {f g : Nat → Nat} : ∀ N, (∀ n, n < N → f n = g n) → pSum f N = pSum g N := by
  intro N h
  have h1 := pSum_le N (fun n hn => Nat.le_of_eq (h n hn))
  have h2 := pSum_le N (fun n hn => Nat.le_of_eq (h n hn).symm)
  omega
theorem pSum_at {f g : Nat → Nat} {t : Nat} : ∀ N, t < N → (∀ n, n < N → n ≠ t → f n = g n) → pSum f N + g t = pSum g N + f t := by
  intro N
  induction N with
  | zero => intro h; omega
  | succ N ih =>
    intro h1 h2
    unfold pSum
    by_cases ht : t = N
    · subst ht
      have := pSum_congr (f := f) (g := g) t (fun n hn => h2 n (by omega) (by omega))
      omega
    · have h3 := ih (by omega) (fun n hn hne => h2 n (by omega) hne)
      have h4 := h2 N (by omega) (fun z => ht z.symm)
      omega
def uDone (i t c : Nat) (s : Nat → Int32) : Nat → Int32 :=
  upd (upd (upd (uNotes i (nI 2) (nI c) s) (21 + 1262 * (i) + 6) (s (21 + 1262 * (i) + 6) + nI 1)) (21 + 1262 * (i) + (622 + 10 * (t) + 5)) (s (21 + 1262 * (i) + 6) + nI 1)) (21 + 1262 * (i) + (622 + 10 * (t) + 0)) (nI 2)
section DN
variable {S : SV} {σ : TS} {xa mo ia i ver T : Nat} {w : gw} {tg : pT} {s : Nat → Int32} {B : Nat} {bo un : Option Nat}
theorem sim_done (h : pW S σ xa mo ia i ver T w tg s B bo un) (hB : B < 2 ^ 31) {t c : Nat} (ht : t < sEn S 0) (hk : sKd S t = 1) (hc : sP S t 1 = nI c) (hst : s (21 + 1262 * (i) + (622 + 10 * (t) + 0)) ≠ nI 2) (h6 : s (21 + 1262 * (i) + (622 + 10 * (t) + 6)) = nI 0) (r0 : w.2.1 + 2 ≤ w.2.2.2 0) (r1 : w.2.2.1 + 80 ≤ w.2.2.2 1) :
    ∃ w1 tg1 m, s (21 + 1262 * (i) + 6) = nI m ∧ m < 24 ∧ f_X16_done ia (some (sSa S t)) w = some (nI m, w1) ∧ pW S σ xa mo ia i ver T w1 tg1 (uDone i t c s) (B + 1) bo un ∧
      pFr w w1 tg tg1 (fun x => x.1 = ia ∧ 64 ≤ x.2) ∧ w1.2.1 ≤ w.2.1 + 2 ∧ w1.2.2.1 ≤ w.2.2.1 + 39 := by
  obtain ⟨⟨hia, hi, hS, hσ⟩, hC, hO, hV, hM, hI, hE⟩ := h
  have hNs : sEn S 0 ≤ 64 := hS.1
  have hE0 := hE
  obtain ⟨E, hE1, hE2⟩ := hE
  have hM0 := hM
  obtain ⟨du, fa, ins, fd, ff, fi, m1, m2, m3, m4, m5, m6, m7, m8, m9, m10, m11⟩ := hM
  obtain ⟨va, pe, hi', dl, fv, fp, fh, i1, i2, i3, i4, i5, i6, i7, i8, i9, i10, i11, i12⟩ := hI
  obtain ⟨m, ea, mc, g, d1, d2, d3, d4, d5, d6, d7, d8, d9⟩ := i12
  obtain ⟨o1, o2⟩ := hO t ht
  have o3 : w.1 (sSa S t) = some (.inl (9, [gi (sP S t 7), gi (sP S t 1), gi (sP S t 2), gi (sP S t 3), gi (sP S t 4)])) := by
    rcases o2 with z | z | z | z | z | z | z
    · omega
    · exact z.2
    all_goals omega
  -- not all were done
  have hm : m < 24 := by
    have h1 := pSum_at (f := fun n => if sKd S n = 1 ∧ s (21 + 1262 * (i) + (622 + 10 * (n) + 0)) = nI 2 then 1 else 0) (g := fun n => if n = t then 1 else if sKd S n = 1 ∧ s (21 + 1262 * (i) + (622 + 10 * (n) + 0)) = nI 2 then 1 else 0) (t := t) (sEn S 0) ht (fun n _ hn => by simp only [if_neg hn])
    have h2 := pSum_le (f := fun n => if n = t then 1 else if sKd S n = 1 ∧ s (21 + 1262 * (i) + (622 + 10 * (n) + 0)) = nI 2 then 1 else 0) (g := fun n => if sKd S n = 1 then 1 else 0) (sEn S 0) (fun n _ => by
      by_cases hn : n = t
      · subst hn
        simp [hk]
      · by_cases hk1 : sKd S n = 1
        · simp only [hk1, if_neg hn, true_and, if_true]
          split <;> omega
        · simp [hk1, hn])
    have h3 := hS.2.1
    simp only [hk, hst, and_false, if_false, if_true] at h1
    omega
  -- the new object
  have b1 := hC.1 _ _ i2
  obtain ⟨wB, hwB⟩ : ∃ wB, hs (hn w (.inl (25, [gi 0, gi 0, gi 0])) 3) w.2.1 (.inl (25, [gi (sP S t 1), gi (sP S t 4), gi (nI 2)])) = wB := ⟨_, rfl⟩
  have B1 : wB.1 w.2.1 = some (.inl (25, [gi (sP S t 1), gi (sP S t 4), gi (nI 2)])) := by rw [← hwB, hs_self]
  have B2 : ∀ b, b ≠ w.2.1 → wB.1 b = w.1 b := fun b hb => by rw [← hwB, hs_ne hb, hn_ne hb]
  have B3 : wB.2 = (w.2.1 + 1, w.2.2.1 + 3, w.2.2.2) := by rw [← hwB]; rfl
  have B4 : ∀ a e, w.1 a = some e → wB.1 a = some e := fun a e ha => (B2 a (by have := hC.1 a e ha; omega)).trans ha
  have B5 : pBd wB := by
    intro a e ha
    rw [B3]
    by_cases hb : a = w.2.1
    · show a < w.2.1 + 1
      omega
    · rw [B2 a hb] at ha
      have := hC.1 a e ha
      show a < w.2.1 + 1
      omega
  have hK : wB.2.2.2 = w.2.2.2 := by rw [B3]
  have n1 : dl ≠ ia := ne_of d5 i2 (by simp)
  have n2 : dl ≠ mo := ne_of d5 m2 (by simp)
  have n3 : dl ≠ hi' := ne_of d5 i8 (by simp)
  -- add
  obtain ⟨wC, ea1, cap1, g1, c1, c2, c3, c4, c5, c6, c7, c8, c9⟩ := pf_add (w := wB) (la := dl) (ea := ea) (m := m) (mc := mc) (g := g) (r := w.2.1) (B4 _ _ d5) (by omega) (by
      rcases d6 with ⟨k1, k2⟩ | ⟨k1, cap, k2, k3, k4, k5⟩
      · refine Or.inl ⟨k1, by rw [hK]; exact k2, ?_⟩
        obtain ⟨q1, q2, q3⟩ := hC.2.1 5 (by omega) (by omega)
        rw [k2, B2 _ (by omega)]
        exact q1
      · exact Or.inr ⟨cap, k2, k3, by omega, B4 _ _ k5⟩) (fun j hj => by
      obtain ⟨dk, t', e, k1, k2, k3, k4, k5, k6, k7, k8⟩ := d7 j hj
      exact ⟨dk, 25, _, k1, B4 _ _ k7, by decide⟩) ⟨25, _, B1, by decide⟩ B5 (by rw [B3]; show w.2.1 + 1 + 1 ≤ w.2.2.2 0; omega) (by rw [B3]; show w.2.2.1 + 3 + 10 + m + m ≤ w.2.2.2 1; omega)
  have C1 : ∀ a e, w.1 a = some e → a ≠ dl → a ≠ ea1 → wC.1 a = some e := fun a e ha h1 h2 => (c7 a h1 h2).trans (B4 a e ha)
  have hfresh : ea1 = ea ∨ w.2.1 < ea1 := by
    rcases c9 with ⟨k1, -⟩ | ⟨k1, -⟩
    · exact Or.inl k1
    · right
      rw [k1, B3]
      show w.2.1 < w.2.1 + 1
      omega
  have ne_ea : ∀ a e j, w.1 a = some e → tg a = (ia, j) ∨ tg a = (mo, j) ∨ tg a = (0, 100) → j ≠ 69 → a ≠ ea1 := by
    intro a e j ha hta hj
    rcases hfresh with k | k
    · rw [k]
      rcases d6 with ⟨k1, k2⟩ | ⟨k1, -⟩
      · obtain ⟨q1, q2, q3⟩ := hC.2.1 5 (by omega) (by omega)
        rintro rfl
        rw [k2, q1] at ha
        cases ha
      · rintro rfl
        rw [k1] at hta
        rcases hta with z | z | z
        · exact hj (congrArg Prod.snd z).symm
        · have := congrArg Prod.snd z
          exact hj this.symm
        · exact hia (congrArg Prod.fst z)
    · have := hC.1 a e ha
      omega
  have C2 : wC.1 ia = some (.inl (16, [ga (some mo), gi (s (21 + 1262 * (i) + 2)), gi (s (21 + 1262 * (i) + 3)), gi (s (21 + 1262 * (i) + 4)), ga (some va), ga (some pe), ga (some dl), ga (some hi'), gi (nI E), gi (s (21 + 1262 * (i) + 1)), gi (s (21 + 1262 * (i) + 5)), gi (s (21 + 1262 * (i) + 7)), gi (s (21 + 1262 * (i) + 8)), ga bo, ga un, ga (some xa)])) := by
    rw [← hE1]
    exact C1 _ _ i2 n1.symm (ne_ea _ _ 64 i2 (Or.inl i1) (by omega))
  have C3 : wC.1 mo = some (.inl (1, [ga (some du), ga (some fa), ga (some ins), gi (s 0), ga (some xa)])) := C1 _ _ m2 n2.symm (ne_ea _ _ 0 m2 (Or.inr (Or.inl m1)) (by omega))
  have C4 : wC.1 hi' = some (.inr (0, 600, .inl fh)) := C1 _ _ i8 n3.symm (ne_ea _ _ 67 i8 (Or.inl i7) (by omega))
  have C5 : wC.1 w.2.1 = some (.inl (25, [gi (sP S t 1), gi (sP S t 4), gi (nI 2)])) := (c7 _ (by have := hC.1 _ _ d5; omega) (by
    rcases hfresh with k | k
    · rw [k]
      rcases d6 with ⟨k1, k2⟩ | ⟨k1, cap, k2, k3, k4, k5⟩
      · obtain ⟨q1, q2, q3⟩ := hC.2.1 5 (by omega) (by omega)
        omega
      · have := hC.1 _ _ k5
        omega
    · omega)).trans B1
  have C6 : wC.2.2.2 = w.2.2.2 ∧ w.2.1 + 1 ≤ wC.2.1 ∧ wC.2.1 ≤ w.2.1 + 2 ∧ wC.2.2.1 ≤ w.2.2.1 + 3 + 36 ∧ (ea1 < wC.2.1) := by
    rcases c9 with ⟨k1, k2, g0, k3⟩ | ⟨k1, k2, k3, k4⟩
    · rw [k2, B3]
      have := B5 _ _ k3
      rw [B3] at this
      rw [← k1] at this
      exact ⟨rfl, Nat.le_refl _, by show w.2.1 + 1 ≤ w.2.1 + 2; omega, by show w.2.2.1 + 3 ≤ w.2.2.1 + 3 + 36; omega, this⟩
    · rw [k2, k1, B3]
      refine ⟨rfl, by show w.2.1 + 1 ≤ w.2.1 + 1 + 1; omega, by show w.2.1 + 1 + 1 ≤ w.2.1 + 2; omega, ?_, by show w.2.1 + 1 < w.2.1 + 1 + 1; omega⟩
      show w.2.2.1 + 3 + cap1 ≤ w.2.2.1 + 3 + 36
      omega
  -- notes
  have hrun := pf_notes (E := E) (kk := nI 2) (vv := sP S t 1) C2 C3 C4 (by omega)
  obtain ⟨w1, hw1⟩ : ∃ w1, hs (hs wC hi' (.inr (0, 600, .inl (hNotes fh E (s 0) (nI 2) (sP S t 1))))) ia (.inl (16, [ga (some mo), gi (s (21 + 1262 * (i) + 2)), gi (s (21 + 1262 * (i) + 3)), gi (s (21 + 1262 * (i) + 4)), ga (some va), ga (some pe), ga (some dl), ga (some hi'), gi (nI (E + 1)), gi (s (21 + 1262 * (i) + 1)), gi (s (21 + 1262 * (i) + 5)), gi (s (21 + 1262 * (i) + 7)), gi (s (21 + 1262 * (i) + 8)), ga bo, ga un, ga (some xa)])) = w1 := ⟨_, rfl⟩
  rw [hw1] at hrun
  have n4 : ia ≠ hi' := ne_of i2 i8 (by simp)
  have D1 : ∀ a, a ≠ ia → a ≠ hi' → w1.1 a = wC.1 a := fun a h1 h2 => by rw [← hw1, hs_ne h1, hs_ne h2]
  have D2 : w1.2 = wC.2 := by rw [← hw1]; rfl
  have D3 : w1.1 ia = some (.inl (16, [ga (some mo), gi (s (21 + 1262 * (i) + 2)), gi (s (21 + 1262 * (i) + 3)), gi (s (21 + 1262 * (i) + 4)), ga (some va), ga (some pe), ga (some dl), ga (some hi'), gi (nI (E + 1)), gi (s (21 + 1262 * (i) + 1)), gi (s (21 + 1262 * (i) + 5)), gi (s (21 + 1262 * (i) + 7)), gi (s (21 + 1262 * (i) + 8)), ga bo, ga un, ga (some xa)])) := by rw [← hw1, hs_self]
  have D4 : w1.1 hi' = some (.inr (0, 600, .inl (hNotes fh E (s 0) (nI 2) (sP S t 1)))) := by rw [← hw1, hs_ne n4.symm, hs_self]
  have D5 : w1.1 dl = some (.inl (8, [gi (mc + nI 1), ga (some ea1), gi (nI (m + 1))])) := (D1 _ n1 n3).trans c2
  have D6 : w1.1 ea1 = some (.inr (2, cap1, .inr g1)) := (D1 _ (ne_of c3 C2 (by simp)) (ne_of c3 C4 (by simp))).trans c3
  have D7 : ∀ a e, w.1 a = some e → a ≠ ia → a ≠ hi' → a ≠ dl → a ≠ ea1 → w1.1 a = some e := fun a e ha h1 h2 h3 h4 => (D1 a h1 h2).trans (C1 a e ha h3 h4)
  have D8 : w1.1 w.2.1 = some (.inl (25, [gi (sP S t 1), gi (sP S t 4), gi (nI 2)])) := (D1 _ (by omega) (by have := hC.1 _ _ i8; omega)).trans C5
  -- tags
  obtain ⟨tg1, htg⟩ : ∃ tg1 : pT, tg1 = fun a => if a < w.2.1 then tg a else if a = w.2.1 then (ia, 70 + m) else (ia, 69) := ⟨_, rfl⟩
  have T1 : ∀ a, a < w.2.1 → tg1 a = tg a := fun a ha => by rw [htg]; exact if_pos ha
  have T2 : tg1 w.2.1 = (ia, 70 + m) := by
    rw [htg]
    show (if w.2.1 < w.2.1 then _ else if w.2.1 = w.2.1 then _ else _) = _
    rw [if_neg (by omega), if_pos rfl]
  have T3 : tg1 ea1 = (ia, 69) := by
    rcases hfresh with k | k
    · rcases d6 with ⟨k1, k2⟩ | ⟨k1, cap, k2, k3, k4, k5⟩
      · exfalso
        obtain ⟨q1, q2, q3⟩ := hC.2.1 5 (by omega) (by omega)
        rcases c9 with ⟨-, -, g0, k3⟩ | ⟨k3, -⟩
        · rw [k2, B2 _ (by omega), q1] at k3
          cases k3
        · rw [k, k2, B3] at k3
          have k3 : w.2.2.2 5 = w.2.1 + 1 := k3
          omega
      · have := hC.1 _ _ k5
        rw [k, T1 _ this]
        exact k1
    · rw [htg]
      show (if ea1 < w.2.1 then _ else if ea1 = w.2.1 then _ else _) = _
      rw [if_neg (by omega), if_neg (by omega)]
  have hfr : pFr w w1 tg tg1 (fun x => x.1 = ia ∧ 64 ≤ x.2) := by
    refine ⟨?_, by rw [D2]; omega, by rw [D2]; exact C6.1, T1, fun a ha hna => ?_⟩
    · intro a e ha
      rw [D2]
      by_cases z1 : a = ia
      · omega
      · by_cases z2 : a = hi'
        · have := hC.1 _ _ i8
          omega
        · rw [D1 a z1 z2] at ha
          by_cases z3 : a = ea1
          · rw [z3]
            exact C6.2.2.2.2
          · by_cases z4 : a = dl
            · have := hC.1 _ _ d5
              omega
            · rw [c7 a z4 z3] at ha
              have := B5 a e ha
              rw [B3] at this
              have : a < w.2.1 + 1 := this
              omega
    · have z1 : a ≠ ia := by rintro rfl; exact hna (by rw [i1]; exact ⟨rfl, by simp⟩)
      have z2 : a ≠ hi' := by rintro rfl; exact hna (by rw [i7]; exact ⟨rfl, by simp⟩)
      have z3 : a ≠ dl := by rintro rfl; exact hna (by rw [d4]; exact ⟨rfl, by simp⟩)
      have z4 : a ≠ ea1 := by
        rintro rfl
        rw [T1 _ ha] at T3
        exact hna (by rw [T3]; exact ⟨rfl, by simp⟩)
      rw [D1 a z1 z2, c7 a z3 z4]
      exact B2 a (by omega)
  -- rows
  have hs1 : ∀ j, j ≠ (21 + 1262 * (i) + 6) → j ≠ (21 + 1262 * (i) + (622 + 10 * (t) + 5)) → j ≠ (21 + 1262 * (i) + (622 + 10 * (t) + 0)) → uDone i t c s j = uNotes i (nI 2) (nI c) s j := fun j h1 h2 h3 => by
    unfold uDone
    rw [upd_ne h3, upd_ne h2, upd_ne h1]
  have hne : ∀ j, j ≠ (21 + 1262 * (i) + 9) → (j < (21 + 1262 * (i) + 22) ∨ (21 + 1262 * (i) + 622) ≤ j) → uNotes i (nI 2) (nI c) s j = s j := fun j h1 h2 => uNotes_ne hE0 hB h1 h2
  have hs2 : ∀ j, j ≠ (21 + 1262 * (i) + 9) → (j < (21 + 1262 * (i) + 22) ∨ (21 + 1262 * (i) + 622) ≤ j) → j ≠ (21 + 1262 * (i) + 6) → j ≠ (21 + 1262 * (i) + (622 + 10 * (t) + 5)) → j ≠ (21 + 1262 * (i) + (622 + 10 * (t) + 0)) → uDone i t c s j = s j := fun j h1 h2 h3 h4 h5 => (hs1 j h3 h4 h5).trans (hne j h1 h2)
  have hv0 : uDone i t c s (21 + 1262 * (i) + (622 + 10 * (t) + 0)) = nI 2 := upd_self _ _ _
  have hv5 : uDone i t c s (21 + 1262 * (i) + (622 + 10 * (t) + 5)) = nI (m + 1) := by
    unfold uDone
    rw [upd_ne (by omega), upd_self, d1, nI_add]
  have hv6 : uDone i t c s (21 + 1262 * (i) + 6) = nI (m + 1) := by
    unfold uDone
    rw [upd_ne (by omega), upd_ne (by omega), upd_self, d1, nI_add]
  have hv9 : uDone i t c s (21 + 1262 * (i) + 9) = nI (E + 1) := by
    rw [hs1 _ (by omega) (by omega) (by omega)]
    unfold uNotes
    split
    · rw [upd_self, hE1, nI_add]
    · rw [upd_self, hE1, nI_add]
  have hrow : ∀ n k, n < sEn S 0 → k < 10 → (n = t → k ≠ 0 ∧ k ≠ 5) → uDone i t c s (21 + 1262 * (i) + (622 + 10 * (n) + k)) = s (21 + 1262 * (i) + (622 + 10 * (n) + k)) := fun n k hn hk hnt => hs2 _ (by omega) (by omega) (by omega) (by omega) (by omega)
  refine ⟨w1, tg1, m, d1, hm, ?_, ⟨⟨hia, hi, hS, hσ⟩, ?_, ?_, ?_, ?_, ?_, ?_⟩, hfr, by rw [D2]; omega, by rw [D2]; omega⟩
  · have e1 := pu_New (w := w) (ci := 25) (n := 3) (fs := [gi 0, gi 0, gi 0]) rfl (by omega) (by omega)
    have e2 : (hn w (.inl (25, [gi 0, gi 0, gi 0])) 3).1 (sSa S t) = some (.inl (9, [gi (sP S t 7), gi (sP S t 1), gi (sP S t 2), gi (sP S t 3), gi (sP S t 4)])) := (hn_ne (by have := hC.1 _ _ o3; omega)).trans o3
    have e3 : f_X25_init w.2.1 (sP S t 1) (sP S t 4) (nI 2) (hn w (.inl (25, [gi 0, gi 0, gi 0])) 3) = some ((), wB) := by
      unfold f_X25_init
      have e4 := hn_self w (.inl (25, [gi 0, gi 0, gi 0])) 3
      simp only [pu_B1, pu_B2, pu_Bd, pu_Nn, pu_Ns, pv_I, pv_R, pv_P, pv_LI, pv_LR, pv_SI, pv_SR, pv_O, pv_C, pvF, pvI, pvR, pvP, pvLI, pvLR, pvSI, pvSR, pvN, pvO, pvC, pv_bs, pv_ms, hs_self, hs_ne, hs_K, hs_2, List.getElem?_cons_succ, List.getElem?_cons_zero, List.set_cons_succ, List.set_cons_zero, Option.isSome_some, if_true, if_false, true_and, and_true, ↓reduceIte, e4, hs_hs, hwB]
    have e5 := B4 _ _ d5
    have e6 : wC.1 (sSa S t) = some (.inl (9, [gi (sP S t 7), gi (sP S t 1), gi (sP S t 2), gi (sP S t 3), gi (sP S t 4)])) := C1 _ _ o3 (ne_of o3 d5 (by simp)) (ne_ea _ _ 100 o3 (Or.inr (Or.inr o1)) (by omega))
    have e7 := pf_size D5
    have e8 : nI (m + 1) - nI 1 = nI m := by rw [pu_sub (by omega), Nat.add_sub_cancel]
    unfold f_X16_done
    simp only [pu_B1, pu_B2, pu_Bd, pu_Nn, pu_Ns, pv_I, pv_R, pv_P, pv_LI, pv_LR, pv_SI, pv_SR, pv_O, pv_C, pvF, pvI, pvR, pvP, pvLI, pvLR, pvSI, pvSR, pvN, pvO, pvC, pv_bs, pv_ms, hs_self, hs_ne, hs_K, hs_2, List.getElem?_cons_succ, List.getElem?_cons_zero, List.set_cons_succ, List.set_cons_zero, Option.isSome_some, if_true, if_false, true_and, and_true, ↓reduceIte, i2, e1, e2, e3, e5, c1, e6, C2, hrun, D3, D5, e7, e8]
  · exact hC.fr hfr (fun z => hia z.1.symm)
  · exact hO.fr (hfr.stc hC.1 (fun z => hia z.1.symm))
  · obtain ⟨v1, a, b, v2, v3, v4, v5, v6⟩ := hV
    exact ⟨v1, a, b, v2, v3, v4, (hs2 _ (by omega) (by omega) (by omega) (by omega) (by omega)).trans v5, (hs2 _ (by omega) (by omega) (by omega) (by omega) (by omega)).trans v6⟩
  · refine hM0.fr hfr hC.1 (fun j z => ?_) (fun j hj => hs2 j (by omega) (by omega) (by omega) (by omega) (by omega))
    exact (ne_of m2 i2 (by simp)) z.1
  · have hat : ∀ a e j, w.1 a = some e → tg a = (ia, j) → j = 65 ∨ j = 66 → w1.1 a = some e ∧ tg1 a = (ia, j) := by
      intro a e j ha hta hj
      refine ⟨D7 a e ha ?_ ?_ ?_ (ne_ea a e j ha (Or.inl hta) (by omega)), (T1 a (hC.1 a e ha)).trans hta⟩
      · rintro rfl
        rw [i1] at hta
        have hq : 64 = j := congrArg Prod.snd hta
        rw [← hq] at hj
        exact absurd hj (by decide)
      · rintro rfl
        rw [i7] at hta
        have hq : 67 = j := congrArg Prod.snd hta
        rw [← hq] at hj
        exact absurd hj (by decide)
      · rintro rfl
        rw [d4] at hta
        have hq : 68 = j := congrArg Prod.snd hta
        rw [← hq] at hj
        exact absurd hj (by decide)
    have p1 := hat _ _ 65 i4 i3 (by omega)
    have p2 := hat _ _ 66 i6 i5 (by omega)
    refine ⟨va, pe, hi', dl, fv, fp, _, (T1 _ b1).trans i1, ?_, p1.2, p1.1, p2.2, p2.1, (T1 _ (hC.1 _ _ i8)).trans i7, D4, ?_, ?_, ?_, ?_⟩
    · rw [D3, hv9, hs2 (21 + 1262 * (i) + 2) (by omega) (by omega) (by omega) (by omega) (by omega), hs2 (21 + 1262 * (i) + 3) (by omega) (by omega) (by omega) (by omega) (by omega), hs2 (21 + 1262 * (i) + 4) (by omega) (by omega) (by omega) (by omega) (by omega), hs2 (21 + 1262 * (i) + 1) (by omega) (by omega) (by omega) (by omega) (by omega), hs2 (21 + 1262 * (i) + 5) (by omega) (by omega) (by omega) (by omega) (by omega), hs2 (21 + 1262 * (i) + 7) (by omega) (by omega) (by omega) (by omega) (by omega), hs2 (21 + 1262 * (i) + 8) (by omega) (by omega) (by omega) (by omega) (by omega)]
    · intro c' hc'
      rw [hs2 _ (by omega) (by omega) (by omega) (by omega) (by omega)]
      exact i9 c' hc'
    · intro c' hc'
      rw [hs2 _ (by omega) (by omega) (by omega) (by omega) (by omega)]
      exact i10 c' hc'
    · intro j hj
      rw [hs1 _ (by omega) (by omega) (by omega), hc]
      exact uNotes_h hE1 (by omega) i11 j hj
    · refine ⟨m + 1, ea1, mc + nI 1, g1, hv6, ?_, by omega, (T1 _ (hC.1 _ _ d5)).trans d4, D5, Or.inr ⟨T3, cap1, by omega, by omega, ?_, D6⟩, ?_, ?_, ?_⟩
      · rw [d2]
        have := pSum_at (f := fun n => if sKd S n = 1 ∧ s (21 + 1262 * (i) + (622 + 10 * (n) + 0)) = nI 2 then 1 else 0) (g := fun n => if sKd S n = 1 ∧ uDone i t c s (21 + 1262 * (i) + (622 + 10 * (n) + 0)) = nI 2 then 1 else 0) (t := t) (sEn S 0) ht (fun n hn hnt => by
          show (if sKd S n = 1 ∧ s (21 + 1262 * (i) + (622 + 10 * (n) + 0)) = nI 2 then 1 else 0) = (if sKd S n = 1 ∧ uDone i t c s (21 + 1262 * (i) + (622 + 10 * (n) + 0)) = nI 2 then 1 else 0)
          rw [hrow n 0 hn (by omega) (fun z => absurd z hnt)])
        simp only [hk, hst, hv0, and_false, and_true, if_false, if_true] at this
        omega
      · rcases c9 with ⟨k1, k2, g0, k3⟩ | ⟨k1, k2, k3, k4⟩
        · rcases d6 with ⟨q1, q2⟩ | ⟨q1, cap, q2, q3, q4, q5⟩
          · exfalso
            obtain ⟨q3, q4, q5⟩ := hC.2.1 5 (by omega) (by omega)
            rw [q2, B2 _ (by omega), q3] at k3
            cases k3
          · rw [B4 _ _ q5] at k3
            cases k3
            exact q4
        · omega
      · intro k hk'
        by_cases hkm : k = m
        · subst hkm
          exact ⟨w.2.1, t, nI 2, c6, T2, ht, hk, hv0, hv5, D8, Or.inl ⟨(hrow t 6 ht (by omega) (fun _ => by omega)).trans h6, rfl⟩⟩
        · obtain ⟨dk, t', e, k1, k2, k3, k4, k5, k6, k7, k8⟩ := d7 k (by omega)
          have htt : t' ≠ t := by
            rintro rfl
            exact hst k5
          refine ⟨dk, t', e, (c5 k (by omega)).trans k1, (T1 _ (hC.1 _ _ k7)).trans k2, k3, k4, (hrow t' 0 k3 (by omega) (fun z => absurd z htt)).trans k5, (hrow t' 5 k3 (by omega) (fun z => absurd z htt)).trans k6, D7 _ _ k7 (ne_of k7 i2 (by simp)) (ne_of k7 i8 (by simp)) (ne_of k7 d5 (by simp)) (ne_ea _ _ (70 + k) k7 (Or.inl k2) (by omega)), ?_⟩
          rw [hrow t' 6 k3 (by omega) (fun z => absurd z htt)]
          exact k8
      · intro t' ht' hk' h2'
        by_cases htt : t' = t
        · subst htt
          exact ⟨m, by omega, hv5⟩
        · rw [hrow t' 0 ht' (by omega) (fun z => absurd z htt)] at h2'
          obtain ⟨k, k1, k2⟩ := d8 t' ht' hk' h2'
          exact ⟨k, by omega, (hrow t' 5 ht' (by omega) (fun z => absurd z htt)).trans k2⟩
      · intro t1 t2 ht1 ht2 hk1 hk2 h1 h2 h5
        have hold : ∀ t', t' < sEn S 0 → sKd S t' = 1 → t' ≠ t → uDone i t c s (21 + 1262 * (i) + (622 + 10 * (t') + 0)) = nI 2 → ∃ k, k < m ∧ uDone i t c s (21 + 1262 * (i) + (622 + 10 * (t') + 5)) = nI (k + 1) := by
          intro t' ht' hk' htt h2'
          rw [hrow t' 0 ht' (by omega) (fun z => absurd z htt)] at h2'
          obtain ⟨k, k1, k2⟩ := d8 t' ht' hk' h2'
          exact ⟨k, k1, (hrow t' 5 ht' (by omega) (fun z => absurd z htt)).trans k2⟩
        by_cases z1 : t1 = t
        · by_cases z2 : t2 = t
          · rw [z1, z2]
          · exfalso
            obtain ⟨k, k1, k2⟩ := hold t2 ht2 hk2 z2 h2
            rw [z1, hv5, k2] at h5
            have := (nI_eq (by omega) (by omega)).mp h5
            omega
        · by_cases z2 : t2 = t
          · exfalso
            obtain ⟨k, k1, k2⟩ := hold t1 ht1 hk1 z1 h1
            rw [z2, hv5, k2] at h5
            have := (nI_eq (by omega) (by omega)).mp h5
            omega
          · rw [hrow t1 0 ht1 (by omega) (fun z => absurd z z1)] at h1
            rw [hrow t2 0 ht2 (by omega) (fun z => absurd z z2)] at h2
            rw [hrow t1 5 ht1 (by omega) (fun z => absurd z z1), hrow t2 5 ht2 (by omega) (fun z => absurd z z2)] at h5
            exact d9 t1 t2 ht1 ht2 hk1 hk2 h1 h2 h5
  · exact ⟨E + 1, hv9, by omega⟩
end DN
