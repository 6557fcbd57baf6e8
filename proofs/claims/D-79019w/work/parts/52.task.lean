set_option maxRecDepth 100000
/-! THE LEAVES' LOOKS -/
theorem pE.mono {i B B' : Nat} {s : Nat → Int32} (h : pE i s B) (hb : B ≤ B') : pE i s B' := by
  obtain ⟨E, h1, h2⟩ := h
  exact ⟨E, h1, by omega⟩
section TK
variable {S : SV} {σ : TS} {xa mo ia i ver T : Nat} {w : gw} {tg : pT} {s : Nat → Int32} {B : Nat} {bo un : Option Nat}
theorem pW.mono {B' : Nat} (h : pW S σ xa mo ia i ver T w tg s B bo un) (hb : B ≤ B') : pW S σ xa mo ia i ver T w tg s B' bo un := ⟨h.1, h.2.1, h.2.2.1, h.2.2.2.1, h.2.2.2.2.1, h.2.2.2.2.2.1, h.2.2.2.2.2.2.mono hb⟩
theorem pW.bd (h : pW S σ xa mo ia i ver T w tg s B bo un) : pBd w := h.2.1.1
theorem pIn.fr {w1 : gw} {tg1 : pT} (h : pIn S xa mo ia i w tg s bo un) (hf : ∀ a e j, w.1 a = some e → tg a = (ia, j) → 64 ≤ j → w1.1 a = some e ∧ tg1 a = tg a) (hK : w1.2.2.2 = w.2.2.2) : pIn S xa mo ia i w1 tg1 s bo un := by
  obtain ⟨va, pe, hi', dl, fv, fp, fh, i1, i2, i3, i4, i5, i6, i7, i8, i9, i10, i11, i12⟩ := h
  have a1 := hf _ _ _ i2 i1 (by omega)
  have a2 := hf _ _ _ i4 i3 (by omega)
  have a3 := hf _ _ _ i6 i5 (by omega)
  have a4 := hf _ _ _ i8 i7 (by omega)
  exact ⟨va, pe, hi', dl, fv, fp, fh, a1.2.trans i1, a1.1, a2.2.trans i3, a2.1, a3.2.trans i5, a3.1, a4.2.trans i7, a4.1, i9, i10, i11, i12.fr (fun a e j ha hj hl => hf a e j ha hj (by omega)) hK rfl (fun _ _ _ => ⟨Iff.rfl, fun _ => ⟨rfl, rfl⟩⟩)⟩
/-- a step that touches nothing of the instance's own -/
theorem pW.fr {w1 : gw} {tg1 : pT} {P : Nat × Nat → Prop} (h : pW S σ xa mo ia i ver T w tg s B bo un) (hf : pFr w w1 tg tg1 P) (h0 : ¬ P (0, 100)) (h1 : ∀ j, ¬ P (mo, j)) (h2 : ∀ j, 64 ≤ j → ¬ P (ia, j)) : pW S σ xa mo ia i ver T w1 tg1 s B bo un := by
  obtain ⟨h3, hC, hO, hV, hM, hI, hE⟩ := h
  refine ⟨h3, hC.fr hf h0, hO.fr (hf.stc hC.1 h0), hV, hM.fr hf hC.1 h1 (fun _ _ => rfl), hI.fr (fun a e j ha hj hl => hf.at hC.1 ha (by rw [hj]; exact h2 j hl)) hf.2.2.1, hE⟩
theorem pW.put {a n : Nat} {e e0 : gE} (h : pW S σ xa mo ia i ver T w tg s B bo un) (ha : w.1 a = some e0) (ht : tg a = (ia, n)) (hn : n < 64) : pW S σ xa mo ia i ver T (hs w a e) tg s B bo un := by
  have hne : mo ≠ ia := by
    obtain ⟨h3, hC, hO, hV, hM, hI, hE⟩ := h
    obtain ⟨du, fa, ins, fd, ff, fi, m1, m2, -⟩ := hM
    obtain ⟨va, pe, hi', dl, fv, fp, fh, i1, i2, -⟩ := hI
    exact ne_of m2 i2 (by simp)
  have hia := h.1.1
  refine h.fr (pFr.hs (P := fun x => x = (ia, n)) h.bd ha ht) ?_ ?_ ?_
  · intro z
    exact hia (congrArg Prod.fst z).symm
  · intro j z
    exact hne (congrArg Prod.fst z)
  · intro j hj z
    have : j = n := congrArg Prod.snd z
    omega
/-- rows of nodes that change -/
theorem pW.rows {s1 : Nat → Int32} (h : pW S σ xa mo ia i ver T w tg s B bo un) (hs : ∀ j, j < (21 + 1262 * (i) + 622) ∨ (21 + 1262 * (i) + 1262) ≤ j → s1 j = s j)
    (ht : ∀ n, n < sEn S 0 → sKd S n = 1 → (s1 (21 + 1262 * (i) + (622 + 10 * (n) + 0)) = nI 2 ↔ s (21 + 1262 * (i) + (622 + 10 * (n) + 0)) = nI 2) ∧ (s (21 + 1262 * (i) + (622 + 10 * (n) + 0)) = nI 2 → s1 (21 + 1262 * (i) + (622 + 10 * (n) + 5)) = s (21 + 1262 * (i) + (622 + 10 * (n) + 5)) ∧ s1 (21 + 1262 * (i) + (622 + 10 * (n) + 6)) = s (21 + 1262 * (i) + (622 + 10 * (n) + 6)))) : pW S σ xa mo ia i ver T w tg s1 B bo un := by
  obtain ⟨h3, hC, hO, hV, hM, hI, hE⟩ := h
  refine ⟨h3, hC, hO, ?_, hM.fr (pFr.rf (P := fun _ => False) hC.1) hC.1 (fun _ => id) (fun j hj => hs j (by omega)), ?_, ?_⟩
  · obtain ⟨v1, a, b, v2, v3, v4, v5, v6⟩ := hV
    exact ⟨v1, a, b, v2, v3, v4, (hs _ (by omega)).trans v5, (hs _ (by omega)).trans v6⟩
  · obtain ⟨va, pe, hi', dl, fv, fp, fh, i1, i2, i3, i4, i5, i6, i7, i8, i9, i10, i11, i12⟩ := hI
    refine ⟨va, pe, hi', dl, fv, fp, fh, i1, ?_, i3, i4, i5, i6, i7, i8, ?_, ?_, ?_, i12.fr (fun a e j ha hj hl => ⟨ha, rfl⟩) rfl (hs _ (by omega)) ht⟩
    · rw [i2, hs (21 + 1262 * (i) + 2) (by omega), hs (21 + 1262 * (i) + 3) (by omega), hs (21 + 1262 * (i) + 4) (by omega), hs (21 + 1262 * (i) + 9) (by omega), hs (21 + 1262 * (i) + 1) (by omega), hs (21 + 1262 * (i) + 5) (by omega), hs (21 + 1262 * (i) + 7) (by omega), hs (21 + 1262 * (i) + 8) (by omega)]
    · intro c hc
      rw [hs _ (by omega)]
      exact i9 c hc
    · intro c hc
      rw [hs _ (by omega)]
      exact i10 c hc
    · intro j hj
      rw [hs _ (by omega)]
      exact i11 j hj
  · obtain ⟨E, e1, e2⟩ := hE
    exact ⟨E, (hs _ (by omega)).trans e1, e2⟩
/-- what a run's step may still take: cells, and slots by twelve -/
def pPh (i : Nat) (s : Nat → Int32) : Nat := pSum (fun n => if s (21 + 1262 * (i) + (622 + 10 * (n) + 0)) = nI 0 then 12 else if s (21 + 1262 * (i) + (622 + 10 * (n) + 0)) = nI 1 then 8 else 0) 64
def pRs (i : Nat) (w w1 : gw) (s s1 : Nat → Int32) : Prop := w1.2.1 + pPh i s1 ≤ w.2.1 + pPh i s ∧ w1.2.2.1 + 12 * pPh i s1 ≤ w.2.2.1 + 12 * pPh i s
/-- .. with credit left over -/
def pRk (κ i : Nat) (w w1 : gw) (s s1 : Nat → Int32) : Prop := w1.2.1 + pPh i s1 + κ ≤ w.2.1 + pPh i s ∧ w1.2.2.1 + 12 * pPh i s1 + 12 * κ ≤ w.2.2.1 + 12 * pPh i s
def pRm (i : Nat) (w : gw) (s : Nat → Int32) : Prop := w.2.1 + pPh i s ≤ w.2.2.2 0 ∧ w.2.2.1 + 12 * pPh i s ≤ w.2.2.2 1
theorem pRs.tr {i : Nat} {w w1 w2 : gw} {s s1 s2 : Nat → Int32} (h : pRs i w w1 s s1) (h' : pRs i w1 w2 s1 s2) : pRs i w w2 s s2 := ⟨by have := h.1; have := h'.1; omega, by have := h.2; have := h'.2; omega⟩
theorem pRm.tr {i : Nat} {w w1 : gw} {s s1 : Nat → Int32} (h : pRm i w s) (h' : pRs i w w1 s s1) (hK : w1.2.2.2 = w.2.2.2) : pRm i w1 s1 := by
  unfold pRm at h ⊢
  rw [hK]
  exact ⟨by have := h.1; have := h'.1; omega, by have := h.2; have := h'.2; omega⟩
theorem pPh_eq {i : Nat} {s s1 : Nat → Int32} (h : ∀ n, n < 64 → s1 (21 + 1262 * (i) + (622 + 10 * (n) + 0)) = s (21 + 1262 * (i) + (622 + 10 * (n) + 0))) : pPh i s1 = pPh i s := pSum_congr _ (fun n hn => by rw [h n hn])
/-- the state of one node changes -/
theorem pPh_at {i n : Nat} {s s1 : Nat → Int32} (hn : n < 64) (h : ∀ m, m < 64 → m ≠ n → s1 (21 + 1262 * (i) + (622 + 10 * (m) + 0)) = s (21 + 1262 * (i) + (622 + 10 * (m) + 0))) : pPh i s1 + (if s (21 + 1262 * (i) + (622 + 10 * (n) + 0)) = nI 0 then 12 else if s (21 + 1262 * (i) + (622 + 10 * (n) + 0)) = nI 1 then 8 else 0) = pPh i s + (if s1 (21 + 1262 * (i) + (622 + 10 * (n) + 0)) = nI 0 then 12 else if s1 (21 + 1262 * (i) + (622 + 10 * (n) + 0)) = nI 1 then 8 else 0) := pSum_at (f := fun n => if s1 (21 + 1262 * (i) + (622 + 10 * (n) + 0)) = nI 0 then 12 else if s1 (21 + 1262 * (i) + (622 + 10 * (n) + 0)) = nI 1 then 8 else 0) (g := fun n => if s (21 + 1262 * (i) + (622 + 10 * (n) + 0)) = nI 0 then 12 else if s (21 + 1262 * (i) + (622 + 10 * (n) + 0)) = nI 1 then 8 else 0) 64 hn (fun m hm hmn => by
  show (if s1 (21 + 1262 * (i) + (622 + 10 * (m) + 0)) = nI 0 then 12 else if s1 (21 + 1262 * (i) + (622 + 10 * (m) + 0)) = nI 1 then 8 else 0) = (if s (21 + 1262 * (i) + (622 + 10 * (m) + 0)) = nI 0 then 12 else if s (21 + 1262 * (i) + (622 + 10 * (m) + 0)) = nI 1 then 8 else 0)
  rw [h m hm hmn])
theorem pRs.eq {i : Nat} {w w1 : gw} {s s1 : Nat → Int32} (hw : w1.2 = w.2) (h : ∀ n, n < 64 → s1 (21 + 1262 * (i) + (622 + 10 * (n) + 0)) = s (21 + 1262 * (i) + (622 + 10 * (n) + 0))) : pRs i w w1 s s1 := by
  unfold pRs
  rw [hw, pPh_eq h]
  exact ⟨Nat.le_refl _, Nat.le_refl _⟩
/-- pending signals only go -/
def pPe (i : Nat) (s s1 : Nat → Int32) : Prop := ∀ c, c < 8 → s (21 + 1262 * (i) + (14 + c)) = nI 0 → s1 (21 + 1262 * (i) + (14 + c)) = nI 0
/-- what a look at node n, whose run is at a, comes to: RUNS, ENDS, BREAKS with the reference's answers -/
def pOut (i n : Nat) (w1 : gw) (s1 : Nat → Int32) (o : Nat) (x : Int32) (R : Prop) (e : Nat) : Prop :=
  o = w1.2.2.2 2 ∧ (x = nI 1 ∨ x = nI 5) ∧ s1 (21 + 1262 * (i) + (622 + 10 * (n) + 0)) = x ∧ R ∨
  o = w1.2.2.2 3 ∧ x = nI 2 ∧ s1 (21 + 1262 * (i) + (622 + 10 * (n) + 0)) = nI 2 ∧ rDead i s1 n e ∧ R ∨
  o = w1.2.2.2 4 ∧ x = nI 3 ∧ s1 (21 + 1262 * (i) + (622 + 10 * (n) + 0)) = nI 3 ∧ rDead i s1 n e ∧ R
def pRes (κ : Nat) (S : SV) (σ : TS) (xa mo ia i ver T l n a : Nat) (w : gw) (tg : pT) (s : Nat → Int32) (B : Nat) (bo un : Option Nat) (fr : Option (Option Nat × gw)) (tr : Option (Int32 × TS)) : Prop :=
  ∃ w1 tg1 s1 o x, fr = some (some o, w1) ∧ tr = some (x, tS σ s1) ∧ pW S σ xa mo ia i ver T w1 tg1 s1 (B + 256 * (sEn S n - n)) bo un ∧ pFr w w1 tg tg1 (pP mo ia n (sEn S n)) ∧ pQ i n (sEn S n) s s1 ∧ pRk κ i w w1 s s1 ∧ pPe i s s1 ∧
    pOut i n w1 s1 o x (rI S xa ia i w1 tg1 s1 T true l n a) (sEn S n)
theorem sim_tries (h : pW S σ xa mo ia i ver T w tg s B bo un) (hB : B < 2 ^ 31) {a n c A : Nat} {tr uu nu : Int32} (hn : n < sEn S 0) (hk : sKd S n = 1) (hc : sP S n 1 = nI c) (hc8 : c < 8) (ha : w.1 a = some (.inl (23, [ga (some ia), ga (some xa), ga (some (sSa S n)), gi tr, gi uu, gi (nI A), gi nu, ga (some xa)]))) (hta : tg a = (ia, n)) :
    ∃ w1 D, D ≤ 99 ∧ s 0 + s (1 + c) = nI (T + D) ∧ f_X23_tries a w = some ((), w1) ∧ t_X2_tries (nI i) (nI n) (tS σ s) = some ((), tS σ (uTries i n c s)) ∧
      w1.1 a = some (.inl (23, [ga (some ia), ga (some xa), ga (some (sSa S n)), gi (nI 1), gi (nI (T + D)), gi (nI (A + 1)), gi nu, ga (some xa)])) ∧ pW S σ xa mo ia i ver T w1 tg (uTries i n c s) (B + 1) bo un ∧ w1.2 = w.2 ∧ pFr w w1 tg tg (pP mo ia n (sEn S n)) := by
  have h0 := h
  have hN := h.1.2.2.1.2.2.2.2.2 n hn
  obtain ⟨⟨hia, hi, hS, hσ⟩, hC, hO, hV, hM, hI, hE⟩ := h
  have hNs : sEn S 0 ≤ 64 := hS.1
  obtain ⟨du, fa, ins, fd, ff, fi, m1, m2, m3, m4, m5, m6, m7, m8, m9, m10, m11⟩ := hM
  obtain ⟨va, pe, hi', dl, fv, fp, fh, i1, i2, i3, i4, i5, i6, i7, i8, i9, i10, i11, i12⟩ := hI
  obtain ⟨o1, o2⟩ := hO n hn
  have o3 : w.1 (sSa S n) = some (.inl (9, [gi (sP S n 7), gi (sP S n 1), gi (sP S n 2), gi (sP S n 3), gi (sP S n 4)])) := by
    rcases o2 with z | z | z | z | z | z | z
    · omega
    · exact z.2
    all_goals omega
  obtain ⟨q1, -, ⟨D, q2, q3⟩, -⟩ := m9 c hc8
  have e0 : s 0 + s (1 + c) = nI (T + D) := by rw [m10, q3, nI_add]
  have n1 : ia ≠ a := ne_of i2 ha (by simp)
  have n2 : mo ≠ a := ne_of m2 ha (by simp)
  have n3 : du ≠ a := ne_of m4 ha (by simp)
  have n4 : sSa S n ≠ a := ne_of o3 ha (by simp)
  have hA := h0.put (e := .inl (23, [ga (some ia), ga (some xa), ga (some (sSa S n)), gi (nI 1), gi (nI (T + D)), gi (nI (A + 1)), gi nu, ga (some xa)])) ha hta (by omega)
  obtain ⟨w1, r1, r2, r3, r4, r5⟩ := sim_notes hA hB (nI 0) (nI c)
  have hfr : pFr w w1 tg tg (pP mo ia n (sEn S n)) := (pFr.hs h0.bd ha (by rw [hta]; exact Or.inl ⟨rfl, Or.inl ⟨Nat.le_refl _, hN.1.1⟩⟩)).tr (r5.mono (fun t ht => pP_notes t ht))
  refine ⟨w1, D, q2, e0, ?_, pt_tries hi hV (by omega) hc8 ((hσ.2.1 n 1 hn (by omega)).trans hc) hE hB, ?_, ?_, r4, hfr⟩
  · unfold f_X23_tries
    have q4 : fd c = nI D := q1.trans q3
    have q5 : s 0 + nI D = nI (T + D) := by rw [← q3]; exact e0
    simp (disch := first | assumption | omega) only [pu_B1, pu_B2, pu_Bd, pu_Nn, pu_Ns, pv_I, pv_R, pv_P, pv_LI, pv_LR, pv_SI, pv_SR, pv_O, pv_C, pvF, pvI, pvR, pvP, pvLI, pvLR, pvSI, pvSR, pvN, pvO, pvC, pv_bs, pv_ms, hs_self, hs_ne, hs_K, hs_2, List.getElem?_cons_succ, List.getElem?_cons_zero, List.set_cons_succ, List.set_cons_zero, Option.isSome_some, if_true, if_false, true_and, and_true, ↓reduceIte, ha, i2, m2, m4, o3, hc, pu_gIx, q4, q5, hs_hs, nI_add]
    simp only [pu_B2, r1]
  · exact (r5.2.2.2.2 a (hA.bd _ _ (hs_self _ _ _)) (by
      rw [hta]
      rintro (z | z)
      · have : n = 64 := congrArg Prod.snd z
        omega
      · have : n = 67 := congrArg Prod.snd z
        omega)).trans (hs_self _ _ _)
  · have hu : ∀ j, j ≠ (21 + 1262 * (i) + (622 + 10 * (n) + 2)) → j ≠ (21 + 1262 * (i) + (622 + 10 * (n) + 3)) → uTries i n c s j = uNotes i (nI 0) (nI c) s j := fun j h1 h2 => by
      unfold uTries
      rw [upd_ne h2, upd_ne h1]
    exact r3.rows (fun j hj => hu j (by omega) (by omega)) (fun m _ _ => ⟨by rw [hu _ (by omega) (by omega)], fun _ => ⟨hu _ (by omega) (by omega), hu _ (by omega) (by omega)⟩⟩)
end TK
