set_option maxRecDepth 100000
/-! notes, fails, done -/
theorem pP_notes {mo ia lo hi : Nat} : ∀ t : Nat × Nat, (t = (ia, 64) ∨ t = (ia, 67)) → pP mo ia lo hi t := by
  rintro t (rfl | rfl)
  · exact Or.inl ⟨rfl, Or.inr (by simp)⟩
  · exact Or.inl ⟨rfl, Or.inr (by simp)⟩
section NS
variable {S : SV} {σ : TS} {xa mo ia i ver T : Nat} {w : gw} {tg : pT} {s : Nat → Int32} {B : Nat} {bo un : Option Nat}
theorem uNotes_h {k v : Int32} {E : Nat} {fh : Nat → Int32} (h : s (21 + 1262 * (i) + 9) = nI E) (hE : E < 2 ^ 31) (hf : ∀ j, j < 600 → fh j = s (21 + 1262 * (i) + (22 + j))) : ∀ j, j < 600 → hNotes fh E (s 0) k v j = uNotes i k v s (21 + 1262 * (i) + (22 + j)) := by
  intro j hj
  unfold hNotes uNotes
  rw [h]
  by_cases h2 : 200 ≤ E
  · rw [if_pos h2, if_pos (nI_le h2 hE), upd_ne (by omega)]
    exact hf j hj
  · rw [if_neg h2, if_neg (nI_ge (by omega) (by omega)), nI_clamp hE, upd_ne (j := (21 + 1262 * (i) + (22 + j))) (by omega)]
    simp only [upd, show ((21 + 1262 * (i) + (22 + j)) = (21 + 1262 * (i) + (22 + 3 * E + 2))) = (j = 3 * E + 2) from propext ⟨by omega, by omega⟩, show ((21 + 1262 * (i) + (22 + j)) = (21 + 1262 * (i) + (22 + 3 * E + 1))) = (j = 3 * E + 1) from propext ⟨by omega, by omega⟩, show ((21 + 1262 * (i) + (22 + j)) = (21 + 1262 * (i) + (22 + 3 * E))) = (j = 3 * E) from propext ⟨by omega, by omega⟩, hf j hj]
theorem sim_notes (h : pW S σ xa mo ia i ver T w tg s B bo un) (hB : B < 2 ^ 31) (kk vv : Int32) : ∃ w1, f_X16_notes ia kk vv w = some ((), w1) ∧ t_X2_notes (nI i) kk vv (tS σ s) = some ((), tS σ (uNotes i kk vv s)) ∧
    pW S σ xa mo ia i ver T w1 tg (uNotes i kk vv s) (B + 1) bo un ∧ w1.2 = w.2 ∧ pFr w w1 tg tg (fun t => t = (ia, 64) ∨ t = (ia, 67)) := by
  obtain ⟨⟨hia, hi, hS, hσ⟩, hC, hO, hV, hM, hI, hE⟩ := h
  have hne : ∀ j, j ≠ (21 + 1262 * (i) + 9) → (j < (21 + 1262 * (i) + 22) ∨ (21 + 1262 * (i) + 622) ≤ j) → uNotes i kk vv s j = s j := fun j h1 h2 => uNotes_ne hE hB h1 h2
  have hE0 := hE
  obtain ⟨E, hE1, hE2⟩ := hE
  have hM0 := hM
  obtain ⟨du, fa, ins, fd, ff, fi, m1, m2, m3, m4, m5, m6, m7, m8, m9, m10, m11⟩ := hM
  obtain ⟨va, pe, hi', dl, fv, fp, fh, i1, i2, i3, i4, i5, i6, i7, i8, i9, i10, i11, i12⟩ := hI
  rw [hE1] at i2
  have n1 : ia ≠ hi' := ne_of i2 i8 (by simp)
  have n2 : mo ≠ ia := ne_of m2 i2 (by simp)
  have hE9 : uNotes i kk vv s (21 + 1262 * (i) + 9) = nI (E + 1) := by
    unfold uNotes
    split
    · rw [upd_self, hE1, nI_add]
    · rw [upd_self, hE1, nI_add]
  have hrun := pf_notes (E := E) (kk := kk) (vv := vv) i2 m2 i8 (by omega)
  generalize hw1 : hs (hs w hi' (.inr (0, 600, .inl (hNotes fh E (s 0) kk vv)))) ia _ = w1 at hrun
  have c1 : w1.1 ia = some (.inl (16, [ga (some mo), gi (s (21 + 1262 * (i) + 2)), gi (s (21 + 1262 * (i) + 3)), gi (s (21 + 1262 * (i) + 4)), ga (some va), ga (some pe), ga (some dl), ga (some hi'), gi (nI (E + 1)), gi (s (21 + 1262 * (i) + 1)), gi (s (21 + 1262 * (i) + 5)), gi (s (21 + 1262 * (i) + 7)), gi (s (21 + 1262 * (i) + 8)), ga bo, ga un, ga (some xa)])) := by
    rw [← hw1, hs_self]
  have c2 : w1.1 hi' = some (.inr (0, 600, .inl (hNotes fh E (s 0) kk vv))) := by
    rw [← hw1, hs_ne n1.symm, hs_self]
  have c3 : w1.2 = w.2 := by rw [← hw1]; rfl
  have hfr : pFr w w1 tg tg (fun t => t = (ia, 64) ∨ t = (ia, 67)) := by
    rw [← hw1]
    exact (pFr.hs hC.1 i8 (Or.inr i7)).tr (pFr.hs (pFr.hs (P := fun _ => True) (tg := tg) hC.1 i8 trivial).1 (e0 := _) ((hs_ne n1).trans i2) (Or.inl i1))
  have hat : ∀ a e j, w.1 a = some e → tg a = (ia, j) → j ≠ 64 → j ≠ 67 → w1.1 a = some e := fun a e j ha ht h1 h2 => (hfr.at hC.1 ha (by
    rw [ht]
    rintro (z | z)
    · exact h1 (congrArg Prod.snd z)
    · exact h2 (congrArg Prod.snd z))).1
  refine ⟨w1, hrun, pt_notes' hi hE0 hB, ⟨⟨hia, hi, hS, hσ⟩, ?_, ?_, ?_, ?_, ?_, ?_⟩, c3, hfr⟩
  · exact hC.fr hfr (by
      rintro (z | z)
      · exact hia (congrArg Prod.fst z).symm
      · exact hia (congrArg Prod.fst z).symm)
  · exact hO.fr (hfr.stc hC.1 (by
      rintro (z | z)
      · exact hia (congrArg Prod.fst z).symm
      · exact hia (congrArg Prod.fst z).symm))
  · obtain ⟨v1, a, b, v2, v3, v4, v5, v6⟩ := hV
    exact ⟨v1, a, b, v2, v3, v4, (hne _ (by omega) (by omega)).trans v5, (hne _ (by omega) (by omega)).trans v6⟩
  · refine hM0.fr hfr hC.1 (fun j => ?_) (fun j hj => hne j (by omega) (by omega))
    rintro (z | z)
    · exact n2 (congrArg Prod.fst z)
    · exact n2 (congrArg Prod.fst z)
  · refine ⟨va, pe, hi', dl, fv, fp, hNotes fh E (s 0) kk vv, i1, ?_, i3, hat _ _ _ i4 i3 (by omega) (by omega), i5, hat _ _ _ i6 i5 (by omega) (by omega), i7, c2, ?_, ?_, uNotes_h hE1 (by omega) i11, ?_⟩
    · rw [c1, hE9, hne (21 + 1262 * (i) + 2) (by omega) (by omega), hne (21 + 1262 * (i) + 3) (by omega) (by omega), hne (21 + 1262 * (i) + 4) (by omega) (by omega), hne (21 + 1262 * (i) + 1) (by omega) (by omega), hne (21 + 1262 * (i) + 5) (by omega) (by omega), hne (21 + 1262 * (i) + 7) (by omega) (by omega), hne (21 + 1262 * (i) + 8) (by omega) (by omega)]
    · intro c hc
      rw [hne _ (by omega) (by omega)]
      exact i9 c hc
    · intro c hc
      rw [hne _ (by omega) (by omega)]
      exact i10 c hc
    · exact i12.fr (fun a e j ha ht hj => ⟨hat a e j ha ht (by omega) (by omega), rfl⟩) (congrArg (fun z => z.2.2) c3) (hne _ (by omega) (by omega)) (fun n _ _ => ⟨by rw [hne _ (by omega) (by omega)], fun _ => ⟨hne _ (by omega) (by omega), hne _ (by omega) (by omega)⟩⟩)
  · exact ⟨E + 1, hE9, by omega⟩
/-- a task's failing, both sides -/
theorem sim_fails (h : pW S σ xa mo ia i ver T w tg s B bo un) {c : Nat} (hc : c < 8) : ∃ w1 x, (x = nI 0 ∧ s (9 + c) = nI 0 ∨ x = nI 1 ∧ s (9 + c) ≠ nI 0) ∧ f_X1_fails mo (nI c) w = some (x, w1) ∧ t_X2_fails (nI c) (tS σ s) = some (x, tS σ (uFails c s)) ∧
    pW S σ xa mo ia i ver T w1 tg (uFails c s) B bo un ∧ w1.2 = w.2 ∧ pFr w w1 tg tg (fun t => t = (mo, 2)) := by
  obtain ⟨⟨hia, hi, hS, hσ⟩, hC, hO, hV, hM, hI, hE⟩ := h
  obtain ⟨du, fa, ins, fd, ff, fi, m1, m2, m3, m4, m5, m6, m7, m8, m9, m10, m11⟩ := hM
  obtain ⟨q1, q2, q3, d, q4, q5⟩ := m9 c hc
  have n1 : mo ≠ fa := ne_of m2 m6 (by simp)
  have hne : ∀ j, j ≠ 9 + c → uFails c s j = s j := fun j hj => by
    unfold uFails
    split
    · rfl
    · exact upd_ne hj
  have hself : uFails c s (9 + c) = nI (d - 1) := by
    unfold uFails
    by_cases h0 : d = 0
    · subst h0
      rw [if_pos (q5.trans (by decide)), q5]
    · have : ¬ s (9 + c) = 0 := by rw [q5]; exact nI_ne0 (by omega) (by omega)
      rw [if_neg this, upd_self, q5, pu_sub (by omega)]
  have hrun : f_X1_fails mo (nI c) w = some (if d = 0 then nI 0 else nI 1, hs w fa (.inr (0, 8, .inl (upd ff c (nI (d - 1)))))) := by
    unfold f_X1_fails f_X0_bit
    by_cases h0 : d = 0
    · subst h0
      have e1 : nI 0 ≤ 0 := by decide
      have e2 : nI 0 = 0 := by decide
      have e3 : nI 0 - nI 0 = nI 0 := by decide
      have e4 : gZ (nI 0) = some () := by decide
      show _ = some (if 0 = 0 then nI 0 else nI 1, hs w fa (.inr (0, 8, .inl (upd ff c (nI 0)))))
      simp (disch := first | assumption | omega) only [pu_B1, pu_B2, pu_Bd, pu_Nn, pu_Ns, pv_I, pv_R, pv_P, pv_LI, pv_LR, pv_SI, pv_SR, pv_O, pv_C, pvF, pvI, pvR, pvP, pvLI, pvLR, pvSI, pvSR, pvN, pvO, pvC, pv_bs, pv_ms, hs_self, hs_ne, hs_K, hs_2, List.getElem?_cons_succ, List.getElem?_cons_zero, List.set_cons_succ, List.set_cons_zero, Option.isSome_some, if_true, if_false, true_and, and_true, ↓reduceIte, m2, m6, q2, q5, pu_gIx, e1, eq_true e2, e3, e4]
    · have e1 : ¬ nI d ≤ 0 := nI_nle (by omega) (by omega)
      have e2 : ¬ nI 1 = 0 := by decide
      have e4 : gZ (nI 1) = some () := by decide
      simp (disch := first | assumption | omega) only [pu_B1, pu_B2, pu_Bd, pu_Nn, pu_Ns, pv_I, pv_R, pv_P, pv_LI, pv_LR, pv_SI, pv_SR, pv_O, pv_C, pvF, pvI, pvR, pvP, pvLI, pvLR, pvSI, pvSR, pvN, pvO, pvC, pv_bs, pv_ms, hs_self, hs_ne, hs_K, hs_2, List.getElem?_cons_succ, List.getElem?_cons_zero, List.set_cons_succ, List.set_cons_zero, Option.isSome_some, if_true, if_false, true_and, and_true, ↓reduceIte, m2, m6, q2, q5, pu_gIx, e1, e2, e4, h0, pu_sub]
  generalize hw1 : hs w fa (.inr (0, 8, .inl (upd ff c (nI (d - 1))))) = w1 at hrun
  have c1 : w1.1 fa = some (.inr (0, 8, .inl (upd ff c (nI (d - 1))))) := by rw [← hw1, hs_self]
  have c3 : w1.2 = w.2 := by rw [← hw1]; rfl
  have hfr : pFr w w1 tg tg (fun t => t = (mo, 2)) := by
    rw [← hw1]
    exact pFr.hs hC.1 m6 m5
  have n2 : mo ≠ ia := by
    obtain ⟨va, pe, hi', dl, fv, fp, fh, i1, i2, -⟩ := hI
    exact ne_of m2 i2 (by simp)
  have hat : ∀ a e x, w.1 a = some e → tg a = x → x ≠ (mo, 2) → w1.1 a = some e := fun a e x ha ht h1 => (hfr.at hC.1 ha (by rw [ht]; exact h1)).1
  have hs' : ∀ j, 17 ≤ j → uFails c s j = s j := fun j hj => hne j (by omega)
  refine ⟨w1, _, ?_, hrun, ?_, ⟨⟨hia, hi, hS, hσ⟩, ?_, ?_, ?_, ?_, ?_, ?_⟩, c3, hfr⟩
  · by_cases h0 : d = 0
    · subst h0
      exact Or.inl ⟨if_pos rfl, q5⟩
    · exact Or.inr ⟨if_neg h0, by rw [q5]; exact fun z => h0 ((nI_eq (by omega) (by omega)).mp z)⟩
  · rw [pt_fails hc]
    by_cases h0 : d = 0
    · subst h0
      rw [if_pos (q5.trans (by decide)), if_pos rfl]
    · rw [if_neg h0, if_neg (by rw [q5]; exact nI_ne0 (by omega) (by omega))]
  · exact hC.fr hfr (by simp)
  · exact hO.fr (hfr.stc hC.1 (by simp))
  · obtain ⟨v1, a, b, v2, v3, v4, v5, v6⟩ := hV
    exact ⟨v1, a, b, v2, v3, v4, (hs' _ (by omega)).trans v5, (hs' _ (by omega)).trans v6⟩
  · refine ⟨du, fa, ins, fd, _, fi, m1, ?_, m3, hat _ _ _ m4 m3 (by simp), m5, c1, m7, hat _ _ _ m8 m7 (by simp), ?_, ?_, m11⟩
    · rw [hne 0 (by omega)]
      exact hat _ _ _ m2 m1 (by simp)
    · intro k hk
      rw [hne (1 + k) (by omega)]
      obtain ⟨r1, r2, r3, r4⟩ := m9 k hk
      by_cases hkc : k = c
      · subst hkc
        exact ⟨r1, by rw [upd_self, hself], r3, d - 1, by omega, hself⟩
      · rw [hne (9 + k) (by omega), upd_ne hkc]
        exact ⟨r1, r2, r3, r4⟩
    · rw [hne 0 (by omega)]
      exact m10
  · obtain ⟨va, pe, hi', dl, fv, fp, fh, i1, i2, i3, i4, i5, i6, i7, i8, i9, i10, i11, i12⟩ := hI
    have hn : ∀ j, (ia, j) ≠ (mo, 2) := fun j z => n2 (congrArg Prod.fst z).symm
    refine ⟨va, pe, hi', dl, fv, fp, fh, i1, ?_, i3, hat _ _ _ i4 i3 (hn _), i5, hat _ _ _ i6 i5 (hn _), i7, hat _ _ _ i8 i7 (hn _), ?_, ?_, ?_, ?_⟩
    · rw [hat _ _ _ i2 i1 (hn _), hs' _ (by omega), hs' _ (by omega), hs' _ (by omega), hs' _ (by omega), hs' _ (by omega), hs' _ (by omega), hs' _ (by omega), hs' _ (by omega)]
    · intro c hc
      rw [hs' _ (by omega)]
      exact i9 c hc
    · intro c hc
      rw [hs' _ (by omega)]
      exact i10 c hc
    · intro j hj
      rw [hs' _ (by omega)]
      exact i11 j hj
    · exact i12.fr (fun a e j ha ht hj => ⟨hat a e _ ha ht (hn _), rfl⟩) (congrArg (fun z => z.2.2) c3) (hs' _ (by omega)) (fun n _ _ => ⟨by rw [hs' _ (by omega)], fun _ => ⟨hs' _ (by omega), hs' _ (by omega)⟩⟩)
  · obtain ⟨E, h1, h2⟩ := hE
    exact ⟨E, (hs' _ (by omega)).trans h1, h2⟩
end NS
