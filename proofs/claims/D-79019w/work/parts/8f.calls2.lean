set_option maxRecDepth 100000
/-! CALLS: duration, failures, signal, remove, abort -/
section IR
variable {S : SV} {xa ia i T : Nat}
theorem iRun_fr2 {w w1 : gw} {tg tg1 : pT} {s s1 : Nat → Int32} {q : Bool} {bo un : Option Nat} (hn0 : 0 < sEn S 0) (hS : sWf S) (hK : w1.2.2.2 = w.2.2.2) (hW : aW w w1 tg tg1 ia 0 64) (e1 : s1 (21 + 1262 * (i) + 1) = s (21 + 1262 * (i) + 1)) (e5 : s1 (21 + 1262 * (i) + 5) = s (21 + 1262 * (i) + 5)) (hN : ∀ m k, m < 64 → k < 10 → s1 (21 + 1262 * (i) + (622 + 10 * (m) + k)) = s (21 + 1262 * (i) + (622 + 10 * (m) + k))) (h : iRun S xa ia i w tg s T q bo un) : iRun S xa ia i w1 tg1 s1 T false bo un := by
  have hNs : sEn S 0 ≤ 64 := hS.1
  rcases h with ⟨h1, h2, h3, a, h4, h5, h6⟩ | ⟨h1, h2, h3, h4, ua, h5, h6⟩ | ⟨h1, h2, h3, h4, t, h5, h6⟩
  · refine Or.inl ⟨e1.trans h1, h2, e5.trans h3, a, h4, (rB_fr (q := q) (q1 := false) (T := T) (T1 := T) hS hK (fun z => absurd z (by decide)) (Nat.le_refl _) _).1 0 a hn0 hS.2.2.1 (hW.sub (Nat.le_refl _) hNs) (aS.aY hS hn0 (fun m k _ h2 h3 => hN m k (by omega) h3)) h5, (hN 0 0 (by omega) (by omega)).trans h6⟩
  · refine Or.inr (Or.inl ⟨e1.trans h1, h2, e5.trans h3, fun m hm => ?_, ua, h5, uLive0_fr hn0 hS hW hN h6⟩)
    rw [hN m 0 (by omega) (by omega), hN m 7 (by omega) (by omega)]
    exact h4 m hm
  · refine Or.inr (Or.inr ⟨by rw [e1]; exact h1, h2, h3, fun m h1 h2 => ?_, t, h5, e5.trans h6⟩)
    rw [hN m 0 (by omega) (by omega), hN m 7 (by omega) (by omega)]
    exact h4 m h1 h2
end IR
section C2
variable {k xa mo T : Nat} {ias : Nat → Nat} {Ss : Nat → SV} {many : Nat → Nat} {fv : Nat → Option Nat} {fm : Nat → Int32} {wr im : Option Nat} {w : gw} {tg : pT} {σ : TS}
theorem mOk.get {s : Nat → Int32} {B : Nat} {Tr : Nat → Nat} (h : mOk Ss many σ xa mo ias w tg s T B Tr) {j : Nat} (hj : j < 6) (hp : s (21 + 1262 * (j) + 0) = nI 1) : iOk Ss many σ xa mo (ias j) j w tg s T B (Tr j) := by
  obtain ⟨-, -, ⟨fi, -, hks⟩, -⟩ := h
  rcases hks j hj with q | ⟨-, -, q⟩
  · rw [hp] at q
    exact absurd q.2 (by decide)
  · exact q
/-- one instance goes on -/
theorem mOk.one {w1 : gw} {tg1 : pT} {s s1 : Nat → Int32} {B B1 j : Nat} {Tr : Nat → Nat} (h : mOk Ss many σ xa mo ias w tg s T B Tr) (hj : j < 6) (hp : s (21 + 1262 * (j) + 0) = nI 1) (hB : B ≤ B1) (hnew : iOk Ss many σ xa mo (ias j) j w1 tg1 s1 T B1 (Tr j)) (hF : pFr w w1 tg tg1 (pP mo (ias j) 0 64)) (h0 : s1 (21 + 1262 * (j) + 0) = s (21 + 1262 * (j) + 0)) (hQ : ∀ i q, i < 6 → i ≠ j → (21 + 1262 * (i) + 0) ≤ q → q < (21 + 1262 * (i) + 1262) → s1 q = s q) : mOk Ss many σ xa mo ias w1 tg1 s1 T B1 Tr := by
  have hne := h.ne hj hp
  have h' := h
  obtain ⟨hC, hM, ⟨fi, hfi, hks⟩, hd⟩ := h
  have hM1 : pMo xa mo w1 tg1 s1 T ∧ pCo w1 tg1 := by
    obtain ⟨a, b, bo, un, -, -, -, -, -, -, g7, -⟩ := hnew
    exact ⟨g7.2.2.2.2.1, g7.2.1⟩
  have hP0 : ¬ pP mo (ias j) 0 64 (0, 100) := by
    rintro (z | z)
    · exact hne.1 z.1.symm
    · have := congrArg Prod.snd z
      simp only at this
      omega
  have hPm : ∀ q, q ≠ 2 → ¬ pP mo (ias j) 0 64 (mo, q) := fun q hq z => by
    rcases z with z | z
    · exact hne.2.1 z.1.symm
    · exact hq (congrArg Prod.snd z)
  have hsI : ∀ i, i < 6 → s1 (21 + 1262 * (i) + 0) = s (21 + 1262 * (i) + 0) := fun i hi => by
    by_cases hij : i = j
    · rw [hij]; exact h0
    · exact hQ i _ hi hij (by omega) (by omega)
  refine ⟨hM1.2, hM1.1, ⟨fi, hfi.fr hC.1 hF (hPm 0 (by omega)) (hPm 3 (by omega)), fun i hi => ?_⟩, fun i i' hi hi' hii p1 p2 => hd i i' hi hi' hii ((hsI i hi).symm.trans p1) ((hsI i' hi').symm.trans p2)⟩
  by_cases hij : i = j
  · subst hij
    rcases hks i hi with z | ⟨z1, -, -⟩
    · rw [hp] at z
      exact absurd z.2 (by decide)
    · exact Or.inr ⟨z1, h0.trans hp, hnew⟩
  · rcases hks i hi with z | ⟨y1, y2, y3⟩
    · exact Or.inl ⟨z.1, (hsI i hi).trans z.2⟩
    · have hnei := hd i j hi hj hij y2 hp
      have hnm := (h'.ne hi y2).2.1
      exact Or.inr ⟨y1, (hsI i hi).trans y2, y3.oth hM1.1 hF hP0 (fun q z => by
        rcases z with z | z
        · exact hnei z.1
        · exact hnm (congrArg Prod.fst z)) (fun q q1 q2 => hQ i q hi hij q1 q2) (Nat.le_refl _) hB⟩
/-- the environment changes -/
theorem mOk.env {w1 : gw} {s s1 : Nat → Int32} {B : Nat} {Tr : Nat → Nat} {q : Nat} (h : mOk Ss many σ xa mo ias w tg s T B Tr) (hq : q = 1 ∨ q = 2) (hM1 : pMo xa mo w1 tg s1 T) (hF : pFr w w1 tg tg (fun t => t = (mo, q))) (hs : ∀ j, 17 ≤ j → s1 j = s j) : mOk Ss many σ xa mo ias w1 tg s1 T B Tr := by
  have h' := h
  obtain ⟨hC, hM, ⟨fi, hfi, hks⟩, hd⟩ := h
  have hP0 : ¬ ((0, 100) = (mo, q)) := fun z => by
    have := congrArg Prod.snd z
    simp only at this
    omega
  have hn : ∀ r, r ≠ q → ¬ ((mo, r) = (mo, q)) := fun r hr z => hr (congrArg Prod.snd z)
  refine ⟨hC.fr hF hP0, hM1, ⟨fi, hfi.fr hC.1 hF (hn _ (by omega)) (hn _ (by omega)), fun i hi => ?_⟩, fun i i' hi hi' hii p1 p2 => hd i i' hi hi' hii ((hs _ (by omega)).symm.trans p1) ((hs _ (by omega)).symm.trans p2)⟩
  rcases hks i hi with z | ⟨y1, y2, y3⟩
  · exact Or.inl ⟨z.1, (hs _ (by omega)).trans z.2⟩
  · exact Or.inr ⟨y1, (hs _ (by omega)).trans y2, y3.oth hM1 hF hP0 (fun r z => (h'.ne hi y2).2.1 (congrArg Prod.fst z)) (fun r r1 r2 => hs r (by omega)) (Nat.le_refl _) (Nat.le_refl _)⟩
theorem isCode_f (p : Int32) (w : gw) : f_X0_isCode p w = some (if nI 0 ≤ p ∧ p ≤ nI 7 then nI 1 else nI 0, w) := by
  unfold f_X0_isCode
  rw [pf_in, pu_B2]
  by_cases h : nI 0 ≤ p ∧ p ≤ nI 7
  · rw [if_pos h]; rfl
  · rw [if_neg h]; rfl
theorem isCode_t (p : Int32) (w : TS) : t_X2_isCode p w = some (if nI 0 ≤ p ∧ p ≤ nI 7 then nI 1 else nI 0, w) := by
  unfold t_X2_isCode
  rw [pt_isIn, pu_B2]
  by_cases h : nI 0 ≤ p ∧ p ≤ nI 7
  · rw [if_pos h]; rfl
  · rw [if_neg h]; rfl
theorem isWf_f (p : Int32) (w : gw) : f_X0_isWorkflow p w = some (if nI 0 ≤ p ∧ p ≤ nI 3 then nI 1 else nI 0, w) := by
  unfold f_X0_isWorkflow
  rw [pf_in, pu_B2]
  by_cases h : nI 0 ≤ p ∧ p ≤ nI 3
  · rw [if_pos h]; rfl
  · rw [if_neg h]; rfl
theorem isWf_t (p : Int32) (w : TS) : t_X2_isWorkflow p w = some (if nI 0 ≤ p ∧ p ≤ nI 3 then nI 1 else nI 0, w) := by
  unfold t_X2_isWorkflow
  rw [pt_isIn, pu_B2]
  by_cases h : nI 0 ≤ p ∧ p ≤ nI 3
  · rw [if_pos h]; rfl
  · rw [if_neg h]; rfl
theorem call_duration (p1 p2 : Int32) (h : GRw (k + 1) xa w tg σ) : callOk k xa w tg σ (f_X0_duration xa p1 p2 w) (t_X2_duration p1 p2 σ) := by
  obtain ⟨mo, ias, Ss, many, T, fv, fm, wr, im, h⟩ := h
  obtain ⟨ta, va, vm, pp, du, fa, ins, fd, ff, fi, c1, c2, c3, c4, c5, c6, c7, c8, c9, c10, c11, c12, c13, c14, -⟩ := h.rd
  have hz : (nI 0 : Int32) = 0 := by decide
  have hz1 : ¬ (nI 1 : Int32) = 0 := by decide
  unfold f_X0_duration t_X2_duration
  rw [isCode_f, isCode_t, pu_B2, pu_B2]
  by_cases hr : nI 0 ≤ p1 ∧ p1 ≤ nI 7
  · rw [if_pos hr, if_neg hz1, if_neg hz1, pf_in, pt_isIn, pu_B2, pu_B2]
    by_cases hr2 : nI 0 ≤ p2 ∧ p2 ≤ nI 99
    · rw [if_pos hr2, if_neg hz1, if_neg hz1]
      obtain ⟨c, hc, rfl⟩ := rng (by omega) hr
      obtain ⟨d, hd, rfl⟩ := rng (by omega) hr2
      rw [pu_R (k := 5) c1 rfl, pu_B1, pu_B1, pu_R (k := 0) c2 rfl, pu_B1, pu_B1, pu_LdI c4 (by omega) (by omega), pu_B1, pu_B1, pu_B1, pu_R (k := 0) c2 rfl, pu_B1, pu_B1, pu_StI c4 (by omega) (by omega), pu_B1, nI_add]
      have hld : tLd σ 5 (nI (1 + c)) = some (σ 5 (1 + c)) := by
        rw [← tS_self σ, pu_ld5 (by omega), tS_self]
      have hst : tSt σ 5 (nI (1 + c)) (nI d) = some (tS σ (upd (σ 5) (1 + c) (nI d))) := by
        have := pu_st5 (σ := σ) (s := σ 5) (j := 1 + c) (by omega) (nI d)
        rw [tS_self] at this
        exact this
      rw [hld, pu_B1, hst, pu_B1]
      have hF : pFr w (hs w du (.inr (0, 8, .inl (upd fd c (nI d))))) tg tg (fun t => t = (mo, 1)) := pFr.hs h.2.2.2.1.1.1 c4 c7
      have hne : ∀ j, j ≠ 1 + c → upd (σ 5) (1 + c) (nI d) j = σ 5 j := fun j hj => upd_ne hj
      have hM1 : pMo xa mo (hs w du (.inr (0, 8, .inl (upd fd c (nI d))))) tg (upd (σ 5) (1 + c) (nI d)) T := by
        have n1 : mo ≠ du := ne_of c2 c4 (by simp)
        have n2 : fa ≠ du := ne_ofT c8 c7 (by simp)
        have n3 : ins ≠ du := ne_ofT c6 c7 (by simp)
        refine ⟨du, fa, ins, upd fd c (nI d), ff, fi, c9, ?_, c7, hs_self _ _ _, c8, (hs_ne n2).trans c5, c6, (hs_ne n3).trans c3, fun q hq => ?_, (hne 0 (by omega)).trans c13, (pM_T h.2.2.2.1.2.1).2⟩
        · rw [hs_ne n1, c2, hne 0 (by omega), c13]
        · obtain ⟨z1, z2, z3, z4⟩ := c12 q hq
          rw [hne (9 + q) (by omega)]
          by_cases hqc : q = c
          · subst hqc
            rw [upd_self, upd_self]
            exact ⟨rfl, z2, ⟨d, hd, rfl⟩, z4⟩
          · rw [upd_ne hqc, hne (1 + q) (by omega)]
            exact ⟨z1, z2, z3, z4⟩
      have := h.now (w1 := hs w du (.inr (0, 8, .inl (upd fd c (nI d))))) (tg1 := tg) (s1 := upd (σ 5) (1 + c) (nI d)) (ias1 := ias) (T1 := T) ((h.2.2.2.1.env (Or.inl rfl) hM1 hF (fun j hj => hne j (by omega))).mono (by omega)) h.2.2.2.2.1 (hF.mono (fun t z => by rw [z]; exact Or.inl ⟨rfl, by show 1 < 4; omega⟩)) (fun j j1 j2 => hne j (by omega)) (fun j hj hz => Or.inl ⟨(hne _ (by omega)).symm.trans hz, rfl⟩) (by show w.2.1 ≤ _; omega) (by show w.2.2.1 ≤ _; omega)
      rw [(c12 c (by omega)).1]
      exact ⟨_, _, tg, _, rfl, rfl, this.1, this.2.1, this.2.2⟩
    · rw [if_neg hr2, if_pos hz, if_pos hz]
      exact h.same _
  · rw [if_neg hr, if_pos hz, if_pos hz]
    exact h.same _
theorem call_failures (p1 p2 : Int32) (h : GRw (k + 1) xa w tg σ) : callOk k xa w tg σ (f_X0_failures xa p1 p2 w) (t_X2_failures p1 p2 σ) := by
  obtain ⟨mo, ias, Ss, many, T, fv, fm, wr, im, h⟩ := h
  obtain ⟨ta, va, vm, pp, du, fa, ins, fd, ff, fi, c1, c2, c3, c4, c5, c6, c7, c8, c9, c10, c11, c12, c13, c14, -⟩ := h.rd
  have hz : (nI 0 : Int32) = 0 := by decide
  have hz1 : ¬ (nI 1 : Int32) = 0 := by decide
  unfold f_X0_failures t_X2_failures
  rw [isCode_f, isCode_t, pu_B2, pu_B2]
  by_cases hr : nI 0 ≤ p1 ∧ p1 ≤ nI 7
  · rw [if_pos hr, if_neg hz1, if_neg hz1, pf_in, pt_isIn, pu_B2, pu_B2]
    by_cases hr2 : nI 0 ≤ p2 ∧ p2 ≤ nI 99
    · rw [if_pos hr2, if_neg hz1, if_neg hz1]
      obtain ⟨c, hc, rfl⟩ := rng (by omega) hr
      obtain ⟨d, hd, rfl⟩ := rng (by omega) hr2
      rw [pu_R (k := 5) c1 rfl, pu_B1, pu_B1, pu_R (k := 1) c2 rfl, pu_B1, pu_B1, pu_LdI c5 (by omega) (by omega), pu_B1, pu_B1, pu_B1, pu_R (k := 1) c2 rfl, pu_B1, pu_B1, pu_StI c5 (by omega) (by omega), pu_B1, nI_add]
      have hld : tLd σ 5 (nI (9 + c)) = some (σ 5 (9 + c)) := by
        rw [← tS_self σ, pu_ld5 (by omega), tS_self]
      have hst : tSt σ 5 (nI (9 + c)) (nI d) = some (tS σ (upd (σ 5) (9 + c) (nI d))) := by
        have := pu_st5 (σ := σ) (s := σ 5) (j := 9 + c) (by omega) (nI d)
        rw [tS_self] at this
        exact this
      rw [hld, pu_B1, hst, pu_B1]
      have hF : pFr w (hs w fa (.inr (0, 8, .inl (upd ff c (nI d))))) tg tg (fun t => t = (mo, 2)) := pFr.hs h.2.2.2.1.1.1 c5 c8
      have hne : ∀ j, j ≠ 9 + c → upd (σ 5) (9 + c) (nI d) j = σ 5 j := fun j hj => upd_ne hj
      have hM1 : pMo xa mo (hs w fa (.inr (0, 8, .inl (upd ff c (nI d))))) tg (upd (σ 5) (9 + c) (nI d)) T := by
        have n1 : mo ≠ fa := ne_of c2 c5 (by simp)
        have n2 : du ≠ fa := ne_ofT c7 c8 (by simp)
        have n3 : ins ≠ fa := ne_ofT c6 c8 (by simp)
        refine ⟨du, fa, ins, fd, upd ff c (nI d), fi, c9, ?_, c7, (hs_ne n2).trans c4, c8, hs_self _ _ _, c6, (hs_ne n3).trans c3, fun q hq => ?_, (hne 0 (by omega)).trans c13, (pM_T h.2.2.2.1.2.1).2⟩
        · rw [hs_ne n1, c2, hne 0 (by omega), c13]
        · obtain ⟨z1, z2, z3, z4⟩ := c12 q hq
          rw [hne (1 + q) (by omega)]
          by_cases hqc : q = c
          · subst hqc
            rw [upd_self, upd_self]
            exact ⟨z1, rfl, z3, ⟨d, hd, rfl⟩⟩
          · rw [upd_ne hqc, hne (9 + q) (by omega)]
            exact ⟨z1, z2, z3, z4⟩
      have := h.now (w1 := hs w fa (.inr (0, 8, .inl (upd ff c (nI d))))) (tg1 := tg) (s1 := upd (σ 5) (9 + c) (nI d)) (ias1 := ias) (T1 := T) ((h.2.2.2.1.env (Or.inr rfl) hM1 hF (fun j hj => hne j (by omega))).mono (by omega)) h.2.2.2.2.1 (hF.mono (fun t z => by rw [z]; exact Or.inl ⟨rfl, by show 2 < 4; omega⟩)) (fun j j1 j2 => hne j (by omega)) (fun j hj hz => Or.inl ⟨(hne _ (by omega)).symm.trans hz, rfl⟩) (by show w.2.1 ≤ _; omega) (by show w.2.2.1 ≤ _; omega)
      rw [(c12 c (by omega)).2.1]
      exact ⟨_, _, tg, _, rfl, rfl, this.1, this.2.1, this.2.2⟩
    · rw [if_neg hr2, if_pos hz, if_pos hz]
      exact h.same _
  · rw [if_neg hr, if_pos hz, if_pos hz]
    exact h.same _
theorem ld5 {j : Nat} (h : j < 7593) : tLd σ 5 (nI j) = some (σ 5 j) := by
  rw [← tS_self σ, pu_ld5 h, tS_self]
theorem st5 {j : Nat} (h : j < 7593) (x : Int32) : tSt σ 5 (nI j) x = some (tS σ (upd (σ 5) j x)) := by
  have := pu_st5 (σ := σ) (s := σ 5) (j := j) h x
  rw [tS_self] at this
  exact this
theorem call_remove (p : Int32) (h : GRw (k + 1) xa w tg σ) : callOk k xa w tg σ (f_X0_remove xa p w) (t_X2_remove p σ) := by
  obtain ⟨mo, ias, Ss, many, T, fv, fm, wr, im, h⟩ := h
  obtain ⟨ta, va, vm, pp, du, fa, ins, fd, ff, fi, c1, c2, c3, c4, c5, c6, c7, c8, c9, c10, c11, c12, c13, c14, -⟩ := h.rd
  have hz : (nI 0 : Int32) = 0 := by decide
  have hz1 : ¬ (nI 1 : Int32) = 0 := by decide
  unfold f_X0_remove t_X2_remove
  rw [pu_Ob c1, pu_B1]
  rcases h.isI p with ⟨i1, i2⟩ | ⟨j, hj, rfl, hp, i1, i2⟩
  · rw [i1, i2, pu_B2, pu_B2, if_pos hz, if_pos hz]
    exact h.same _
  · have e1 : ∀ w : TS, t_X2_of (nI j) (nI 1) w = _ := fun w => pt_of w
    have e0 : ∀ w : TS, t_X2_of (nI j) (nI 0) w = _ := fun w => pt_of w
    obtain ⟨a, b, bo, un, h1, h2, h3, h4, h5, h6, h7, h8, h9⟩ := h.2.2.2.1.get hj hp
    obtain ⟨va', pe, dl, hi', own, -⟩ := h7.own
    have hfi : fi j = some (ias j) := by
      rcases c14 j hj with z | z
      · rw [hp] at z; exact absurd z.2 (by decide)
      · exact z.1
    rw [i1, i2, pu_B2, pu_B2, if_neg hz1, if_neg hz1, pu_R (k := 5) c1 rfl, pu_B1, pu_B1, pu_R (k := 2) c2 rfl, pu_B1, pu_B1, pu_LdR c3 hj (by omega), pu_B1, hfi, pu_B1, pu_Ob own, pu_B1, e1, pu_B2, ld5 (by omega), pu_B1]
    have hended : f_X16_hasEnded (ias j) w = some (if σ 5 (21 + 1262 * (j) + 1) = 0 then nI 0 else if σ 5 (21 + 1262 * (j) + 1) = nI 2 then nI 0 else nI 1, w) := by
      unfold f_X16_hasEnded
      rw [pu_I (k := 9) own rfl, pu_B1, pu_Bd]
      by_cases y1 : σ 5 (21 + 1262 * (j) + 1) = 0
      · rw [if_pos y1, if_pos y1]
      · rw [if_neg y1, if_neg y1, pu_B1]
        by_cases y2 : σ 5 (21 + 1262 * (j) + 1) = nI 2
        · rw [if_pos y2, if_pos y2]
        · rw [if_neg y2, if_neg y2]
    rw [hended, pu_B2]
    by_cases y1 : σ 5 (21 + 1262 * (j) + 1) = 0
    · rw [if_pos y1, if_pos y1, if_pos hz]
      exact h.same _
    · rw [if_neg y1, if_neg y1]
      by_cases y2 : σ 5 (21 + 1262 * (j) + 1) = nI 2
      · rw [if_pos y2, if_pos y2, if_pos hz]
        exact h.same _
      · rw [if_neg y2, if_neg y2, if_neg hz1, pu_R (k := 5) c1 rfl, pu_B1, pu_B1, pu_R (k := 2) c2 rfl, pu_B1, pu_B1, e0, pu_B2, st5 (by omega), pu_B1]
        have hcan : gCan w 4 none = true := rfl
        rw [pu_StR c3 hj (by omega) hcan, pu_B1]
        obtain ⟨s1, hs1⟩ : ∃ s1, upd (σ 5) (21 + 1262 * (j) + 0) (nI 0) = s1 := ⟨_, rfl⟩
        obtain ⟨w1, hw1⟩ : ∃ w1, hs w ins (.inr (4, 6, .inr (va_up fi j none))) = w1 := ⟨_, rfl⟩
        have nins : ias j ≠ ins := ne_of own c3 (by simp)
        have own1 := own
        rw [← hs_ne (w := w) (e := .inr (4, 6, .inr (va_up fi j none))) nins, hw1] at own1
        rw [hw1, hs1, pu_I (k := 9) own1 rfl, pu_B1]
        have hF : pFr w w1 tg tg (fun t => t = (mo, 3)) := by
          rw [← hw1]
          exact pFr.hs h.2.2.2.1.1.1 c3 c6
        have hne : ∀ q, q ≠ (21 + 1262 * (j) + 0) → s1 q = σ 5 q := fun q hq => by rw [← hs1, upd_ne hq]
        have hP0 : ¬ ((0, 100) = (mo, 3)) := fun z => by
          have := congrArg Prod.snd z
          simp only at this
          omega
        have hn : ∀ r, r ≠ 3 → ¬ ((mo, r) = (mo, 3)) := fun r hr z => hr (congrArg Prod.snd z)
        have hgm := h.2.2.2.1
        have d2 := (hF.at hgm.1.1 c2 (by rw [c9]; exact hn 0 (by omega))).1
        have d4 := (hF.at hgm.1.1 c4 (by rw [c7]; exact hn 1 (by omega))).1
        have d5 := (hF.at hgm.1.1 c5 (by rw [c8]; exact hn 2 (by omega))).1
        have d3 : w1.1 ins = some (.inr (4, 6, .inr (va_up fi j none))) := by rw [← hw1, hs_self]
        have hM1 : pMo xa mo w1 tg s1 T := ⟨du, fa, ins, fd, ff, _, c9, by rw [d2, hne 0 (by omega), c13], c7, d4, c8, d5, c6, d3, fun q hq => by rw [hne (1 + q) (by omega), hne (9 + q) (by omega)]; exact c12 q hq, (hne 0 (by omega)).trans c13, (pM_T hgm.2.1).2⟩
        have hm1 : mOk Ss many σ xa mo ias w1 tg s1 T ((64 - (k + 1)) * 20500000) (fun _ => T) := by
          refine ⟨hgm.1.fr hF hP0, hM1, ⟨_, ⟨ins, _, _, _, _, c9, d2, c6, d3⟩, fun i hi => ?_⟩, fun i i' hi hi' hii p1 p2 => ?_⟩
          · by_cases hij : i = j
            · rw [hij]
              exact Or.inl ⟨va_up_self _ _ _, by rw [← hs1, upd_self]⟩
            · rw [va_up_ne _ _ hij, hne _ (by omega)]
              rcases c14 i hi with z | z
              · exact Or.inl z
              · exact Or.inr ⟨z.1, z.2, (hgm.get hi z.2).oth hM1 hF hP0 (fun r y => (hgm.ne hi z.2).2.1 (congrArg Prod.fst y)) (fun r r1 r2 => hne r (by omega)) (Nat.le_refl _) (Nat.le_refl _)⟩
          · have hij : i ≠ j := by
              rintro rfl
              rw [← hs1, upd_self] at p1
              exact absurd p1 (by decide)
            have hij' : i' ≠ j := by
              rintro rfl
              rw [← hs1, upd_self] at p2
              exact absurd p2 (by decide)
            exact hgm.2.2.2 i i' hi hi' hii ((hne _ (by omega)).symm.trans p1) ((hne _ (by omega)).symm.trans p2)
        have := h.now (w1 := w1) (tg1 := tg) (s1 := s1) (ias1 := ias) (T1 := T) (hm1.mono (by omega)) h.2.2.2.2.1 (hF.mono (fun t z => by rw [z]; exact Or.inl ⟨rfl, by show 3 < 4; omega⟩)) (fun q q1 q2 => hne q (by omega)) (fun i hi hy => Or.inl ⟨by
          by_cases hij : i = j
          · rw [hij]; exact hp
          · exact (hne _ (by omega)).symm.trans hy, rfl⟩) (by rw [← hw1]; show w.2.1 ≤ _; omega) (by rw [← hw1]; show w.2.2.1 ≤ _; omega)
        exact ⟨_, _, tg, _, rfl, rfl, this.1, this.2.1, this.2.2⟩
end C2
