set_option maxRecDepth 100000
/-! AN INSTANCE's turns -/
section TU
variable {S : SV} {σ : TS} {xa mo ia i ver T : Nat} {w : gw} {tg : pT} {s : Nat → Int32} {B : Nat} {bo un : Option Nat}
/-- an instance's own cell: its fields that turns writes -/
theorem pW.own (h : pW S σ xa mo ia i ver T w tg s B bo un) : ∃ va pe dl hi', w.1 ia = some (.inl (16, [ga (some mo), gi (s (21 + 1262 * (i) + 2)), gi (s (21 + 1262 * (i) + 3)), gi (s (21 + 1262 * (i) + 4)), ga (some va), ga (some pe), ga (some dl), ga (some hi'), gi (s (21 + 1262 * (i) + 9)), gi (s (21 + 1262 * (i) + 1)), gi (s (21 + 1262 * (i) + 5)), gi (s (21 + 1262 * (i) + 7)), gi (s (21 + 1262 * (i) + 8)), ga bo, ga un, ga (some xa)])) ∧
    ∀ (st en : Int32) (bo' un' : Option Nat) (s1 : Nat → Int32), (∀ j, j ≠ (21 + 1262 * (i) + 1) → j ≠ (21 + 1262 * (i) + 5) → s1 j = s j) → s1 (21 + 1262 * (i) + 1) = st → s1 (21 + 1262 * (i) + 5) = en → pW S σ xa mo ia i ver T (hs w ia (.inl (16, [ga (some mo), gi (s (21 + 1262 * (i) + 2)), gi (s (21 + 1262 * (i) + 3)), gi (s (21 + 1262 * (i) + 4)), ga (some va), ga (some pe), ga (some dl), ga (some hi'), gi (s (21 + 1262 * (i) + 9)), gi st, gi en, gi (s (21 + 1262 * (i) + 7)), gi (s (21 + 1262 * (i) + 8)), ga bo', ga un', ga (some xa)]))) tg s1 B bo' un' := by
  obtain ⟨⟨h0, hi, h1, h2⟩, hC, hO, hV, hM, hI, hE⟩ := h
  obtain ⟨va, pe, hi', dl, fv, fp, fh, i1, i2, i3, i4, i5, i6, i7, i8, i9, i10, i11, i12⟩ := hI
  refine ⟨va, pe, dl, hi', i2, fun st en bo' un' s1 hs1 hst hen => ?_⟩
  have hF : pFr w (hs w ia (.inl (16, [ga (some mo), gi (s (21 + 1262 * (i) + 2)), gi (s (21 + 1262 * (i) + 3)), gi (s (21 + 1262 * (i) + 4)), ga (some va), ga (some pe), ga (some dl), ga (some hi'), gi (s (21 + 1262 * (i) + 9)), gi st, gi en, gi (s (21 + 1262 * (i) + 7)), gi (s (21 + 1262 * (i) + 8)), ga bo', ga un', ga (some xa)]))) tg tg (fun t => t = (ia, 64)) := pFr.hs hC.1 i2 i1
  obtain ⟨du, fa, ins, fd, ff, fi, m1, m2, m3, m4⟩ := hM
  have hmi : mo ≠ ia := ne_of m2 i2 (by simp)
  have hM' : pMo xa mo w tg s T := ⟨du, fa, ins, fd, ff, fi, m1, m2, m3, m4⟩
  have hV' : pVer i ver s1 := by
    obtain ⟨v1, a, b, v2, v3, v4, v5, v6⟩ := hV
    exact ⟨v1, a, b, v2, v3, v4, (hs1 _ (by omega) (by omega)).trans v5, (hs1 _ (by omega) (by omega)).trans v6⟩
  have hE' : pE i s1 B := by
    obtain ⟨E, e1, e2⟩ := hE
    exact ⟨E, (hs1 _ (by omega) (by omega)).trans e1, e2⟩
  have n1 : va ≠ ia := ne_of i4 i2 (by simp)
  have n2 : pe ≠ ia := ne_of i6 i2 (by simp)
  have n3 : hi' ≠ ia := ne_of i8 i2 (by simp)
  refine ⟨⟨h0, hi, h1, h2⟩, hC.fr hF (fun z => h0 (congrArg Prod.fst z).symm), hO.fr (hF.stc hC.1 (fun z => h0 (congrArg Prod.fst z).symm)), hV', hM'.fr hF hC.1 (fun j z => hmi (congrArg Prod.fst z)) (fun j hj => hs1 j (by omega) (by omega)), ?_, hE'⟩
  refine ⟨va, pe, hi', dl, fv, fp, fh, i1, ?_, i3, (hs_ne n1).trans i4, i5, (hs_ne n2).trans i6, i7, (hs_ne n3).trans i8, fun c hc => ?_, fun c hc => ?_, fun j hj => ?_, ?_⟩
  · rw [hs_self, hs1 (21 + 1262 * (i) + 2) (by omega) (by omega), hs1 (21 + 1262 * (i) + 3) (by omega) (by omega), hs1 (21 + 1262 * (i) + 4) (by omega) (by omega), hs1 (21 + 1262 * (i) + 9) (by omega) (by omega), hs1 (21 + 1262 * (i) + 7) (by omega) (by omega), hs1 (21 + 1262 * (i) + 8) (by omega) (by omega), hst, hen]
  · rw [hs1 _ (by omega) (by omega)]
    exact i9 c hc
  · rw [hs1 _ (by omega) (by omega)]
    exact i10 c hc
  · rw [hs1 _ (by omega) (by omega)]
    exact i11 j hj
  · refine i12.fr (fun a e j ha hj hl => hF.at hC.1 ha (fun z => ?_)) rfl (hs1 _ (by omega) (by omega)) (fun n hn hk => ?_)
    · rw [hj] at z
      have := congrArg Prod.snd z
      simp only at this
      omega
    · rw [hs1 _ (by omega) (by omega), hs1 _ (by omega) (by omega), hs1 _ (by omega) (by omega)]
      exact ⟨Iff.rfl, fun _ => ⟨rfl, rfl⟩⟩
def uTurn (i st : Nat) (s : Nat → Int32) : Nat → Int32 := if st = 2 then uNotes i (nI 11) (nI st) (upd s (21 + 1262 * (i) + 1) (nI st)) else upd (uNotes i (nI 11) (nI st) (upd s (21 + 1262 * (i) + 1) (nI st))) (21 + 1262 * (i) + 5) (s 0)
theorem sim_turns (h : pW S σ xa mo ia i ver T w tg s B bo un) (hB : B < 2 ^ 31) {st : Nat} (hst : st ≤ 4) : ∃ w1, f_X16_turns ia (nI st) w = some ((), w1) ∧ t_X2_becomes (nI i) (nI st) (tS σ s) = some ((), tS σ (uTurn i st s)) ∧ pW S σ xa mo ia i ver T w1 tg (uTurn i st s) (B + 1) (if st = 2 then bo else none) (if st = 2 then un else none) ∧ w1.2 = w.2 ∧ pFr w w1 tg tg (fun t => t = (ia, 64) ∨ t = (ia, 67)) := by
  have hi : i < 6 := h.1.2.1
  obtain ⟨va, pe, dl, hi', c1, c2⟩ := h.own
  have hta : tg ia = (ia, 64) := by
    obtain ⟨-, -, -, -, -, ⟨va, pe, hi', dl, fv, fp, fh, i1, -⟩, -⟩ := h
    exact i1
  have hW1 := c2 (nI st) (s (21 + 1262 * (i) + 5)) bo un (upd s (21 + 1262 * (i) + 1) (nI st)) (fun j h1 _ => upd_ne h1) (upd_self _ _ _) (upd_ne (by omega))
  obtain ⟨W1, hW1'⟩ : ∃ W1, hs w ia (.inl (16, [ga (some mo), gi (s (21 + 1262 * (i) + 2)), gi (s (21 + 1262 * (i) + 3)), gi (s (21 + 1262 * (i) + 4)), ga (some va), ga (some pe), ga (some dl), ga (some hi'), gi (s (21 + 1262 * (i) + 9)), gi (nI st), gi (s (21 + 1262 * (i) + 5)), gi (s (21 + 1262 * (i) + 7)), gi (s (21 + 1262 * (i) + 8)), ga bo, ga un, ga (some xa)])) = W1 := ⟨_, rfl⟩
  rw [hW1'] at hW1
  have hF1 : pFr w W1 tg tg (fun t => t = (ia, 64) ∨ t = (ia, 67)) := by
    rw [← hW1']
    exact pFr.hs h.bd c1 (Or.inl hta)
  have g1 : W1.1 ia = some (.inl (16, [ga (some mo), gi (s (21 + 1262 * (i) + 2)), gi (s (21 + 1262 * (i) + 3)), gi (s (21 + 1262 * (i) + 4)), ga (some va), ga (some pe), ga (some dl), ga (some hi'), gi (s (21 + 1262 * (i) + 9)), gi (nI st), gi (s (21 + 1262 * (i) + 5)), gi (s (21 + 1262 * (i) + 7)), gi (s (21 + 1262 * (i) + 8)), ga bo, ga un, ga (some xa)])) := by rw [← hW1', hs_self]
  have e1 : gPut w ia 16 9 (gi (nI st)) = some W1 := by
    rw [pu_Put c1 (by show 9 < 16; omega), ← hW1']
    rfl
  obtain ⟨w2, n1, n2, n3, n4, n5⟩ := sim_notes hW1 hB (nI 11) (nI st)
  have hE := hW1.2.2.2.2.2.2
  have ef : ∀ w : TS, t_X2_of (nI i) (nI 1) w = _ := fun w => pt_of w
  have ef5 : ∀ w : TS, t_X2_of (nI i) (nI 5) w = _ := fun w => pt_of w
  have hs0 : uNotes i (nI 11) (nI st) (upd s (21 + 1262 * (i) + 1) (nI st)) 0 = s 0 := by rw [uNotes_ne hE hB (by omega) (by omega), upd_ne (by omega)]
  by_cases h2 : st = 2
  · have hu : uTurn i st s = uNotes i (nI 11) (nI st) (upd s (21 + 1262 * (i) + 1) (nI st)) := if_pos h2
    rw [hu, if_pos h2, if_pos h2]
    have y : nI st = nI 2 := by rw [h2]
    refine ⟨w2, ?_, ?_, n3, n4.trans (by rw [← hW1']; rfl), hF1.tr n5⟩
    · unfold f_X16_turns
      rw [e1, pu_B1, pu_Ob g1, pu_B1, n1, pu_B2, if_pos y]
    · unfold t_X2_becomes
      rw [ef, pu_B2, pu_st5 (by omega), pu_B1, n2, pu_B2, if_pos y]
  · have hu : uTurn i st s = upd (uNotes i (nI 11) (nI st) (upd s (21 + 1262 * (i) + 1) (nI st))) (21 + 1262 * (i) + 5) (s 0) := if_neg h2
    rw [hu, if_neg h2, if_neg h2]
    have y : ¬ nI st = nI 2 := fun z => h2 ((nI_eq (by omega) (by omega)).mp z)
    obtain ⟨va2, pe2, dl2, hi2, d1, d2⟩ := n3.own
    obtain ⟨du, fa, ins, va3, pe3, hi3, dl3, f10, f11, f12, m1, -⟩ := n3.cells
    have ms : s 0 = nI T := by
      obtain ⟨-, -, -, -, ⟨du, fa, ins, fd, ff, fi, m1, m2, m3, m4, m5, m6, m7, m8, m9, m10, -⟩, -⟩ := h
      exact m10
    have hmi : mo ≠ ia := ne_of m1 d1 (by simp)
    refine ⟨_, ?_, ?_, d2 (uNotes i (nI 11) (nI st) (upd s (21 + 1262 * (i) + 1) (nI st)) (21 + 1262 * (i) + 1)) (nI T) none none (upd (uNotes i (nI 11) (nI st) (upd s (21 + 1262 * (i) + 1) (nI st))) (21 + 1262 * (i) + 5) (s 0)) (fun j _ h5 => upd_ne h5) (upd_ne (by omega)) (by rw [upd_self, ms]), n4.trans (by rw [← hW1']; rfl), (hF1.tr n5).tr (pFr.hs n3.bd d1 (Or.inl hta))⟩
    · unfold f_X16_turns
      rw [e1, pu_B1, pu_Ob g1, pu_B1, n1, pu_B2, if_neg y]
      simp (disch := first | assumption | omega) only [pu_B1, pu_B2, pu_Bd, pu_Nn, pu_Ns, pv_I, pv_R, pv_P, pv_LI, pv_LR, pv_SI, pv_SR, pv_O, pv_C, pvF, pvI, pvR, pvP, pvLI, pvLR, pvSI, pvSR, pvN, pvO, pvC, pv_bs, pv_ms, hs_self, hs_ne, hs_K, hs_2, List.getElem?_cons_succ, List.getElem?_cons_zero, List.set_cons_succ, List.set_cons_zero, Option.isSome_some, if_true, if_false, true_and, and_true, ↓reduceIte, d1, m1, hs_hs]
    · unfold t_X2_becomes
      rw [ef, pu_B2, pu_st5 (by omega), pu_B1, n2, pu_B2, if_neg y, ef5, pu_B2, pu_ld5 (by omega), pu_B1, pu_st5 (by omega), pu_B1, hs0]
end TU
