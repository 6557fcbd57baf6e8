set_option maxRecDepth 100000
/-! THE LEAVES: looks and begins -/
theorem pRs.k {κ i : Nat} {w w1 w2 : gw} {s s1 s2 : Nat → Int32} (h : pRk κ i w w1 s s1) (h' : pRs i w1 w2 s1 s2) : pRk κ i w w2 s s2 := ⟨by have := h.1; have := h'.1; omega, by have := h.2; have := h'.2; omega⟩
theorem pRk.z {i : Nat} {w w1 : gw} {s s1 : Nat → Int32} (h : pRs i w w1 s s1) : pRk 0 i w w1 s s1 := ⟨by have := h.1; omega, by have := h.2; omega⟩
theorem pRk.s {i κ : Nat} {w w1 : gw} {s s1 : Nat → Int32} (h : pRk κ i w w1 s s1) : pRs i w w1 s s1 := ⟨by have := h.1; omega, by have := h.2; omega⟩
/-- a step of the rows ahead -/
theorem pRes.pre {κ : Nat} {S : SV} {σ : TS} {xa mo ia i ver T l n a : Nat} {w : gw} {tg : pT} {s s0 : Nat → Int32} {B : Nat} {bo un : Option Nat} {fr : Option (Option Nat × gw)} {tr : Option (Int32 × TS)} (h : pRes 0 S σ xa mo ia i ver T l n a w tg s0 B bo un fr tr) (hq : pQ i n (sEn S n) s s0) (hr : pRk κ i w w s s0) (hp : pPe i s s0) : pRes κ S σ xa mo ia i ver T l n a w tg s B bo un fr tr := by
  obtain ⟨w1, tg1, s1, o, x, h1, h2, h3, h4, h5, h6, h7, h8⟩ := h
  exact ⟨w1, tg1, s1, o, x, h1, h2, h3, h4, hq.tr h5, pRs.k hr h6.s, fun c hc h0 => h7 c hc (hp c hc h0), h8⟩
section LF
variable {S : SV} {σ : TS} {xa mo ia i ver T : Nat} {w : gw} {tg : pT} {s : Nat → Int32} {B : Nat} {bo un : Option Nat}
/-- the cells of an instance, for reading -/
theorem pW.cells (h : pW S σ xa mo ia i ver T w tg s B bo un) : ∃ du fa ins va pe hi' dl f10 f11 f12, w.1 mo = some (.inl (1, [ga (some du), ga (some fa), ga (some ins), gi (nI T), ga (some xa)])) ∧
    w.1 ia = some (.inl (16, [ga (some mo), gi (s (21 + 1262 * (i) + 2)), gi (s (21 + 1262 * (i) + 3)), gi (s (21 + 1262 * (i) + 4)), ga (some va), ga (some pe), ga (some dl), ga (some hi'), gi (s (21 + 1262 * (i) + 9)), gi (s (21 + 1262 * (i) + 1)), f10, f11, f12, ga bo, ga un, ga (some xa)])) ∧ tg ia = (ia, 64) ∧ tg mo = (mo, 0) ∧ f12 = gi (s (21 + 1262 * (i) + 8)) := by
  obtain ⟨-, -, -, -, hM, hI, -⟩ := h
  obtain ⟨du, fa, ins, fd, ff, fi, m1, m2, m3, m4, m5, m6, m7, m8, m9, m10, m11⟩ := hM
  obtain ⟨va, pe, hi', dl, fv, fp, fh, i1, i2, -⟩ := hI
  rw [m10] at m2
  exact ⟨du, fa, ins, va, pe, hi', dl, _, _, _, m2, i2, i1, m1, rfl⟩
/-- the variables -/
theorem pW.vars (h : pW S σ xa mo ia i ver T w tg s B bo un) : ∃ va fv f1 f2 f3 f5 f6 f7 f8 f9 f10 f11 f12 f13 f14 f15, w.1 ia = some (.inl (16, [ga (some mo), f1, f2, f3, ga (some va), f5, f6, f7, f8, f9, f10, f11, f12, f13, f14, f15])) ∧ tg va = (ia, 65) ∧ w.1 va = some (.inr (0, 4, .inl fv)) ∧ (∀ c, c < 4 → fv c = s (21 + 1262 * (i) + (10 + c))) ∧
    ∀ c x, c < 4 → pW S σ xa mo ia i ver T (hs w va (.inr (0, 4, .inl (upd fv c x)))) tg (upd s (21 + 1262 * (i) + (10 + c)) x) B bo un := by
  obtain ⟨⟨hia, hi, hS, hσ⟩, hC, hO, hV, hM, hI, hE⟩ := h
  have hM0 := hM
  obtain ⟨du, fa, ins, fd, ff, fi, m1, m2, -⟩ := hM
  obtain ⟨va, pe, hi', dl, fv, fp, fh, i1, i2, i3, i4, i5, i6, i7, i8, i9, i10, i11, i12⟩ := hI
  refine ⟨va, fv, _, _, _, _, _, _, _, _, _, _, _, _, _, _, i2, i3, i4, i9, fun c x hc => ?_⟩
  have hfr : pFr w (hs w va (.inr (0, 4, .inl (upd fv c x)))) tg tg (fun t => t = (ia, 65)) := pFr.hs hC.1 i4 i3
  have hat : ∀ a e t, w.1 a = some e → tg a = t → t ≠ (ia, 65) → (hs w va (.inr (0, 4, .inl (upd fv c x)))).1 a = some e := fun a e t ha ht h1 => (hfr.at hC.1 ha (by rw [ht]; exact h1)).1
  have hn : ∀ j, j ≠ 65 → (ia, j) ≠ (ia, 65) := fun j hj z => hj (congrArg Prod.snd z)
  have h0 : (0, 100) ≠ (ia, 65) := fun z => hia (congrArg Prod.fst z).symm
  have hs' : ∀ j, j ≠ (21 + 1262 * (i) + (10 + c)) → upd s (21 + 1262 * (i) + (10 + c)) x j = s j := fun j hj => upd_ne hj
  refine ⟨⟨hia, hi, hS, hσ⟩, hC.fr hfr h0, hO.fr (hfr.stc hC.1 h0), ?_, hM0.fr hfr hC.1 (fun j z => (ne_of m2 i2 (by simp)) (congrArg Prod.fst z)) (fun j hj => hs' j (by omega)), ?_, ?_⟩
  · obtain ⟨v1, a, b, v2, v3, v4, v5, v6⟩ := hV
    exact ⟨v1, a, b, v2, v3, v4, (hs' _ (by omega)).trans v5, (hs' _ (by omega)).trans v6⟩
  · refine ⟨va, pe, hi', dl, upd fv c x, fp, fh, i1, ?_, i3, hs_self _ _ _, i5, hat _ _ _ i6 i5 (hn _ (by omega)), i7, hat _ _ _ i8 i7 (hn _ (by omega)), ?_, ?_, ?_, i12.fr (fun a e j ha hj hl => ⟨hat _ _ _ ha hj (hn _ (by omega)), rfl⟩) rfl (hs' _ (by omega)) (fun n _ _ => ⟨by rw [hs' _ (by omega)], fun _ => ⟨hs' _ (by omega), hs' _ (by omega)⟩⟩)⟩
    · rw [hat _ _ _ i2 i1 (hn _ (by omega)), hs' _ (by omega), hs' _ (by omega), hs' _ (by omega), hs' _ (by omega), hs' _ (by omega), hs' _ (by omega), hs' _ (by omega), hs' _ (by omega)]
    · intro c' hc'
      by_cases hcc : c' = c
      · subst hcc
        rw [upd_self, upd_self]
      · rw [upd_ne hcc, hs' _ (by omega)]
        exact i9 c' hc'
    · intro c' hc'
      rw [hs' _ (by omega)]
      exact i10 c' hc'
    · intro j hj
      rw [hs' _ (by omega)]
      exact i11 j hj
  · obtain ⟨E, e1, e2⟩ := hE
    exact ⟨E, (hs' _ (by omega)).trans e1, e2⟩
/-- the pending signals -/
theorem pW.pend (h : pW S σ xa mo ia i ver T w tg s B bo un) : ∃ pe fp f1 f2 f3 f4 f6 f7 f8 f9 f10 f11 f12 f13 f14 f15, w.1 ia = some (.inl (16, [ga (some mo), f1, f2, f3, f4, ga (some pe), f6, f7, f8, f9, f10, f11, f12, f13, f14, f15])) ∧ tg pe = (ia, 66) ∧ w.1 pe = some (.inr (0, 8, .inl fp)) ∧ (∀ c, c < 8 → fp c = s (21 + 1262 * (i) + (14 + c)) ∧ ∃ d, d ≤ 9 ∧ s (21 + 1262 * (i) + (14 + c)) = nI d) ∧
    ∀ c d, c < 8 → d ≤ 9 → pW S σ xa mo ia i ver T (hs w pe (.inr (0, 8, .inl (upd fp c (nI d))))) tg (upd s (21 + 1262 * (i) + (14 + c)) (nI d)) B bo un := by
  obtain ⟨⟨hia, hi, hS, hσ⟩, hC, hO, hV, hM, hI, hE⟩ := h
  have hM0 := hM
  obtain ⟨du, fa, ins, fd, ff, fi, m1, m2, -⟩ := hM
  obtain ⟨va, pe, hi', dl, fv, fp, fh, i1, i2, i3, i4, i5, i6, i7, i8, i9, i10, i11, i12⟩ := hI
  refine ⟨pe, fp, _, _, _, _, _, _, _, _, _, _, _, _, _, _, i2, i5, i6, i10, fun c d hc hd => ?_⟩
  have hfr : pFr w (hs w pe (.inr (0, 8, .inl (upd fp c (nI d))))) tg tg (fun t => t = (ia, 66)) := pFr.hs hC.1 i6 i5
  have hat : ∀ a e t, w.1 a = some e → tg a = t → t ≠ (ia, 66) → (hs w pe (.inr (0, 8, .inl (upd fp c (nI d))))).1 a = some e := fun a e t ha ht h1 => (hfr.at hC.1 ha (by rw [ht]; exact h1)).1
  have hn : ∀ j, j ≠ 66 → (ia, j) ≠ (ia, 66) := fun j hj z => hj (congrArg Prod.snd z)
  have h0 : (0, 100) ≠ (ia, 66) := fun z => hia (congrArg Prod.fst z).symm
  have hs' : ∀ j, j ≠ (21 + 1262 * (i) + (14 + c)) → upd s (21 + 1262 * (i) + (14 + c)) (nI d) j = s j := fun j hj => upd_ne hj
  refine ⟨⟨hia, hi, hS, hσ⟩, hC.fr hfr h0, hO.fr (hfr.stc hC.1 h0), ?_, hM0.fr hfr hC.1 (fun j z => (ne_of m2 i2 (by simp)) (congrArg Prod.fst z)) (fun j hj => hs' j (by omega)), ?_, ?_⟩
  · obtain ⟨v1, a, b, v2, v3, v4, v5, v6⟩ := hV
    exact ⟨v1, a, b, v2, v3, v4, (hs' _ (by omega)).trans v5, (hs' _ (by omega)).trans v6⟩
  · refine ⟨va, pe, hi', dl, fv, upd fp c (nI d), fh, i1, ?_, i3, hat _ _ _ i4 i3 (hn _ (by omega)), i5, hs_self _ _ _, i7, hat _ _ _ i8 i7 (hn _ (by omega)), ?_, ?_, ?_, i12.fr (fun a e j ha hj hl => ⟨hat _ _ _ ha hj (hn _ (by omega)), rfl⟩) rfl (hs' _ (by omega)) (fun n _ _ => ⟨by rw [hs' _ (by omega)], fun _ => ⟨hs' _ (by omega), hs' _ (by omega)⟩⟩)⟩
    · rw [hat _ _ _ i2 i1 (hn _ (by omega)), hs' _ (by omega), hs' _ (by omega), hs' _ (by omega), hs' _ (by omega), hs' _ (by omega), hs' _ (by omega), hs' _ (by omega), hs' _ (by omega)]
    · intro c' hc'
      rw [hs' _ (by omega)]
      exact i9 c' hc'
    · intro c' hc'
      by_cases hcc : c' = c
      · subst hcc
        rw [upd_self, upd_self]
        exact ⟨rfl, d, hd, rfl⟩
      · rw [upd_ne hcc, hs' _ (by omega)]
        exact i10 c' hc'
    · intro j hj
      rw [hs' _ (by omega)]
      exact i11 j hj
  · obtain ⟨E, e1, e2⟩ := hE
    exact ⟨E, (hs' _ (by omega)).trans e1, e2⟩
/-- the kind of a leaf: no children -/
theorem leaf_en {n : Nat} (hS : sWf S) (hn : n < sEn S 0) (h1 : sKd S n ≠ 0) (h2 : sKd S n ≤ 4) : sEn S n = n + 1 := by
  have hN := hS.2.2.2.2.2 n hn
  have h3 := hN.1.2.2.2.2.1
  unfold sCp at h3
  have hcc : sCc S n = 0 := by
    rcases hN.2 with z | z | z | z | z | z | z
    · omega
    · exact z.2.1
    · exact z.2.1
    · exact z.2.1
    · exact z.2.1
    · omega
    · omega
  rw [if_neg (by omega)] at h3
  exact h3
theorem rI_leaf {q : Bool} {n a l : Nat} (hk : sKd S n ≤ 4) (h : rItem S xa ia i w tg s T q (fun _ _ => False) n a) : rI S xa ia i w tg s T q l n a := by
  cases l with
  | zero => exact h
  | succ l =>
    rcases h with h | h | h | h | h | h
    · exact Or.inl h
    · exact Or.inr (Or.inl h)
    · exact Or.inr (Or.inr (Or.inl h))
    · exact Or.inr (Or.inr (Or.inr (Or.inl h)))
    · exfalso
      have := h.1
      omega
    · exfalso
      have := h.1
      omega
theorem rI_leaf' {q : Bool} {n a l : Nat} (hk : sKd S n ≤ 4) (h : rI S xa ia i w tg s T q l n a) : rItem S xa ia i w tg s T q (fun _ _ => False) n a := by
  cases l with
  | zero => exact h
  | succ l =>
    rcases h with h | h | h | h | h | h
    · exact Or.inl h
    · exact Or.inr (Or.inl h)
    · exact Or.inr (Or.inr (Or.inl h))
    · exact Or.inr (Or.inr (Or.inr (Or.inl h)))
    · exfalso
      have := h.1
      omega
    · exfalso
      have := h.1
      omega
/-- a leaf's state changes, nothing else -/
theorem leaf_st {n : Nat} {x : Int32} (hS : sWf S) (hn : n < sEn S 0) (hi : i < 6) (h : pW S σ xa mo ia i ver T w tg s B bo un) (ht : sKd S n = 1 → x ≠ nI 2 ∧ s (21 + 1262 * (i) + (622 + 10 * (n) + 0)) ≠ nI 2) : pW S σ xa mo ia i ver T w tg (upd s (21 + 1262 * (i) + (622 + 10 * (n) + 0)) x) B bo un := by
  have hNs : sEn S 0 ≤ 64 := hS.1
  refine h.rows (fun j hj => upd_ne (by omega)) (fun m hm hk => ⟨?_, fun _ => ⟨upd_ne (by omega), upd_ne (by omega)⟩⟩)
  by_cases hmn : m = n
  · subst hmn
    obtain ⟨h1, h2⟩ := ht hk
    rw [upd_self]
    exact ⟨fun z => absurd z h1, fun z => absurd z h2⟩
  · rw [upd_ne (by omega)]
/-- the credit of a leaf that is over -/
theorem leaf_rk {n : Nat} {x : Int32} {s1 : Nat → Int32} {w1 : gw} (hn : n < 64) (hw : w1.2 = w.2) (h1 : s (21 + 1262 * (i) + (622 + 10 * (n) + 0)) = nI 1) (hx : x ≠ nI 0 ∧ x ≠ nI 1) (hx1 : s1 (21 + 1262 * (i) + (622 + 10 * (n) + 0)) = x) (ho : ∀ m, m < 64 → m ≠ n → s1 (21 + 1262 * (i) + (622 + 10 * (m) + 0)) = s (21 + 1262 * (i) + (622 + 10 * (m) + 0))) : pRk 8 i w w1 s s1 := by
  have hp := pPh_at (i := i) (n := n) (s := s) (s1 := s1) hn ho
  rw [hx1, h1, if_neg (by decide), if_pos rfl, if_neg hx.1, if_neg hx.2] at hp
  unfold pRk
  rw [hw]
  constructor <;> omega
theorem wait_looks {n a U l : Nat} (h : pW S σ xa mo ia i ver T w tg s B bo un) (hn : n < sEn S 0) (hk : sKd S n = 2) (hst : s (21 + 1262 * (i) + (622 + 10 * (n) + 0)) = nI 1) (h7 : s (21 + 1262 * (i) + (622 + 10 * (n) + 7)) = -1) (hta : tg a = (ia, n)) (ha : w.1 a = some (.inl (24, [ga (some ia), ga (some xa), ga (some (sSa S n)), gi (nI U), ga (some xa)]))) (hU : s (21 + 1262 * (i) + (622 + 10 * (n) + 1)) + sP S n 1 = nI U) (hU6 : U ≤ 1000000) {D : Nat} {rec : Int32 → Int32 → TS → Option (Int32 × TS)} (hD : 1 ≤ D) :
    pRes 0 S σ xa mo ia i ver T l n a w tg s B bo un (f_Run_looks D a w) (t_X2_looks rec (nI i) (nI n) (tS σ s)) := by
  obtain ⟨⟨hia, hi, hS, hσ⟩, -⟩ := id h
  have hNs : sEn S 0 ≤ 64 := hS.1
  have hen := leaf_en hS hn (by omega) (by omega)
  obtain ⟨D, rfl⟩ : ∃ d, D = d + 1 := ⟨D - 1, by omega⟩
  obtain ⟨du, fa, ins, va, pe, hi', dl, f10, f11, f12, c1, c2, -⟩ := h.cells
  have hV := h.2.2.2.1
  obtain ⟨-, -, -, -, -, -, -, -, -, -, -, -, -, -, -, m10, m11⟩ := h.2.2.2.2.1
  have k0 : t_X2_nodePart (nI i) (nI n) (nI 0) (tS σ s) = some (nI 2, tS σ s) := by
    rw [pt_nodePart hi hV (by omega) (by omega), hσ.2.1 n 0 hn (by omega), (hS.2.2.2.2.2 n hn).1.2.2.1, hk]
  have k1 : t_X2_nodePart (nI i) (nI n) (nI 1) (tS σ s) = some (sP S n 1, tS σ s) := by
    rw [pt_nodePart hi hV (by omega) (by omega), hσ.2.1 n 1 hn (by omega)]
  have en1 : ∀ w : TS, t_X2_at (nI i) (nI n) (nI 1) w = _ := fun w => pt_at w
  have hf : f_Run_looks (D + 1) a w = f_X24_looks a w := by
    show f_Run_looks_s (f_Run_looks D) a w = _
    unfold f_Run_looks_s
    rw [pu_Cls ha]
    rfl
  have d1 : ¬ nI 2 = nI 1 := by decide
  rw [hf]
  by_cases hTU : T < U
  · have e1 : nI T < nI U := nI_lt hTU (by omega)
    refine ⟨w, tg, s, w.2.2.2 2, nI 1, ?_, ?_, h.mono (by omega), pFr.rf h.bd, pQ.rf, pRk.z (pRs.eq rfl (fun _ _ => rfl)), fun _ _ z => z, Or.inl ⟨rfl, Or.inl rfl, hst, rI_leaf (by omega) (Or.inr (Or.inl ⟨hk, h7, by rw [hst]; decide, hta, nI U, ha, fun _ => ⟨U, rfl, hTU, hU6, hU⟩⟩))⟩⟩
    · unfold f_X24_looks
      simp only [pu_B1, pu_B2, pu_Bd, pu_Nn, pu_Ns, pv_I, pv_R, pv_P, pv_LI, pv_LR, pv_SI, pv_SR, pv_O, pv_C, pvF, pvI, pvR, pvP, pvLI, pvLR, pvSI, pvSR, pvN, pvO, pvC, pv_bs, pv_ms, hs_self, hs_ne, hs_K, hs_2, List.getElem?_cons_succ, List.getElem?_cons_zero, List.set_cons_succ, List.set_cons_zero, Option.isSome_some, if_true, if_false, true_and, and_true, ↓reduceIte, ha, c1, c2, e1]
    · unfold t_X2_looks
      simp (disch := omega) only [pu_B1, pu_B2, pu_Bd, nI_add, pu_mul, pu_ld5, pu_st5, pu_ld1, pu_ld3, k0, k1, d1, if_true, if_false, en1, m10, hU, e1]
  · have e1 : ¬ nI T < nI U := nI_nlt (by omega) (by omega)
    refine ⟨w, tg, upd s (21 + 1262 * (i) + (622 + 10 * (n) + 0)) (nI 2), w.2.2.2 3, nI 2, ?_, ?_, (leaf_st hS hn hi h (fun z => by omega)).mono (by omega), pFr.rf h.bd, pQ.upd _ (by omega), ?_, ?_, Or.inr (Or.inl ⟨rfl, rfl, upd_self _ _ _, ?_, rI_leaf (by omega) (Or.inr (Or.inl ⟨hk, by rw [upd_ne (by omega)]; exact h7, by rw [upd_self]; decide, hta, nI U, ha, fun z => ?_⟩))⟩)⟩
    · unfold f_X24_looks
      simp only [pu_B1, pu_B2, pu_Bd, pu_Nn, pu_Ns, pv_I, pv_R, pv_P, pv_LI, pv_LR, pv_SI, pv_SR, pv_O, pv_C, pvF, pvI, pvR, pvP, pvLI, pvLR, pvSI, pvSR, pvN, pvO, pvC, pv_bs, pv_ms, hs_self, hs_ne, hs_K, hs_2, List.getElem?_cons_succ, List.getElem?_cons_zero, List.set_cons_succ, List.set_cons_zero, Option.isSome_some, if_true, if_false, true_and, and_true, ↓reduceIte, ha, c1, c2, e1]
    · unfold t_X2_looks
      simp (disch := omega) only [pu_B1, pu_B2, pu_Bd, nI_add, pu_mul, pu_ld5, pu_st5, pu_ld1, pu_ld3, k0, k1, d1, if_true, if_false, en1, m10, hU, e1, pt_comesTo hi]
    · exact pRk.z (leaf_rk (by omega) rfl hst (by decide) (upd_self _ _ _) (fun m _ hm => upd_ne (by omega))).s
    · intro c hc z
      rw [upd_ne (by omega)]
      exact z
    · intro j h1 h2
      obtain rfl : j = n := by omega
      rw [upd_self, upd_ne (by omega)]
      exact ⟨h7, by decide, by decide⟩
    · rw [upd_self] at z
      exact absurd z (by decide)
theorem pW.obj {n : Nat} (h : pW S σ xa mo ia i ver T w tg s B bo un) (hn : n < sEn S 0) : (sKd S n = 1 → w.1 (sSa S n) = some (.inl (9, [gi (sP S n 7), gi (sP S n 1), gi (sP S n 2), gi (sP S n 3), gi (sP S n 4)]))) ∧ (sKd S n = 2 → w.1 (sSa S n) = some (.inl (10, [gi (sP S n 7), gi (sP S n 1)]))) ∧ (sKd S n = 3 → w.1 (sSa S n) = some (.inl (11, [gi (sP S n 7), gi (sP S n 1), gi (sP S n 2)]))) ∧ (sKd S n = 4 → w.1 (sSa S n) = some (.inl (12, [gi (sP S n 7), gi (sP S n 1), gi (sP S n 2), gi (sP S n 3)]))) ∧ pStc tg (sSa S n) := by
  obtain ⟨o1, o2⟩ := h.2.2.1 n hn
  refine ⟨fun hk => ?_, fun hk => ?_, fun hk => ?_, fun hk => ?_, o1⟩
  · rcases o2 with z | z | z | z | z | z | z
    · omega
    · exact z.2
    all_goals omega
  · rcases o2 with z | z | z | z | z | z | z
    · omega
    · omega
    · exact z.2
    all_goals omega
  · rcases o2 with z | z | z | z | z | z | z
    · omega
    · omega
    · omega
    · exact z.2
    all_goals omega
  · rcases o2 with z | z | z | z | z | z | z
    · omega
    · omega
    · omega
    · omega
    · exact z.2
    all_goals omega
theorem pW.np {n k : Nat} (h : pW S σ xa mo ia i ver T w tg s B bo un) (hn : n < sEn S 0) (hk : k < 9) : t_X2_nodePart (nI i) (nI n) (nI k) (tS σ s) = some (sP S n k, tS σ s) := by
  have hNs : sEn S 0 ≤ 64 := h.1.2.2.1.1
  rw [pt_nodePart h.1.2.1 h.2.2.2.1 (by omega) hk, h.1.2.2.2.2.1 n k hn hk]
theorem notes_at {w1 : gw} {a n : Nat} {e : gE} (h0 : pBd w) (hf : pFr w w1 tg tg (fun t => t = (ia, 64) ∨ t = (ia, 67))) (ha : w.1 a = some e) (ht : tg a = (ia, n)) (hn : n < 64) : w1.1 a = some e := (hf.at h0 ha (by
  rw [ht]
  rintro (z | z)
  · have : n = 64 := congrArg Prod.snd z
    omega
  · have : n = 67 := congrArg Prod.snd z
    omega)).1
end LF
