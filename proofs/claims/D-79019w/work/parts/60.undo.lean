set_option maxRecDepth 100000
/-! UNDOING: Undo.isOver against compensates -/
/-- the rows that an undoing for node n may write -/
def uQ (i n : Nat) (F : Nat → Prop) (s s1 : Nat → Int32) : Prop := ∀ j, ¬ (9 ≤ j ∧ j < 17) → ¬ ((21 + 1262 * (i) + 7) ≤ j ∧ j < (21 + 1262 * (i) + 10)) → ¬ ((21 + 1262 * (i) + 22) ≤ j ∧ j < (21 + 1262 * (i) + 622)) → ¬ ((21 + 1262 * (i) + (622 + 10 * (n) + 7)) ≤ j ∧ j < (21 + 1262 * (i) + (622 + 10 * (n) + 10))) → (∀ t, F t → j ≠ (21 + 1262 * (i) + (622 + 10 * (t) + 6))) → s1 j = s j
theorem uQ.rf {i n : Nat} {F : Nat → Prop} {s : Nat → Int32} : uQ i n F s s := fun _ _ _ _ _ _ => rfl
theorem uQ.tr {i n : Nat} {F : Nat → Prop} {s s1 s2 : Nat → Int32} (h : uQ i n F s s1) (h' : uQ i n F s1 s2) : uQ i n F s s2 := fun j a b c d e => (h' j a b c d e).trans (h j a b c d e)
section UD
variable {S : SV} {σ : TS} {xa mo ia i ver T : Nat} {bo un : Option Nat}
/-- passing a task by -/
def uK43 (ua : Nat) (KK : gw → Option (Int32 × gw)) (w : gw) : Option (Int32 × gw) := gB1 (gI w ua 26 2) fun x45 => gB1 (gPut w ua 26 2 (gi (x45 - (nI 1)))) fun w46 => KK w46
/-- a round of the component's loop, its reads done -/
theorem isOver_step {w : gw} {ua td tda dl dk l : Nat} {KK : gw → Option (Int32 × gw)} {a3 a4 a5 b0 b1 b2 b3 b4 b5 b7 b8 b9 b10 b11 b12 b13 b14 b15 c1 c2 c3 d0 d2 e3 : gv} {f : Nat → Int32} {kx D : Int32} (ha : w.1 ua = some (.inl (26, [ga (some ia), ga (some td), gi (nI (l + 1)), a3, a4, a5])))
    (hi : w.1 ia = some (.inl (16, [b0, b1, b2, b3, b4, b5, ga (some dl), b7, b8, b9, b10, b11, b12, b13, b14, b15]))) (hd1 : w.1 td = some (.inl (19, [ga (some tda), c1]))) (hd2 : w.1 tda = some (.inr (0, 24, .inl f))) (hl : l < 24) (hf : f l = kx) (hdl : w.1 dl = some (.inl (8, [c2, c3, e3]))) (hget : f_J2_get dl kx w = some (some dk, w)) (hck : gCk w [25] (some dk) = some (some dk)) (hdk : w.1 dk = some (.inl (25, [d0, gi D, d2]))) :
    bf_X26_isOver_1 ua KK w = if D < 0 then uK43 ua KK w else gB1 (gI w dk 25 2) fun x48 => if x48 = (nI 2) then gB1 (gI w ua 26 3) fun x50 => if x50 = 0 then gB1 (gOb w ua 26) fun _ => gB2 (f_X26_tries ua (some dk) w) fun _ w60 => KK w60 else gB1 (gI w ua 26 4) fun x52 => gB1 (gR w ua 26 0) fun r53 => gB1 r53 fun a54 => gB1 (gR w a54 16 0) fun r55 => gB1 r55 fun a56 => gB1 (gI w a56 1 3) fun x57 => if x52 ≤ x57 then gB1 (gOb w ua 26) fun _ => gB2 (f_X26_ends ua (some dk) w) fun _ w59 => KK w59 else some ((nI 0), w) else uK43 ua KK w := by
  have y1 : ¬ nI (l + 1) ≤ 0 := nI_nle (by omega) (by omega)
  have y2 : nI (l + 1) - nI 1 = nI l := by rw [pu_sub (by omega), Nat.add_sub_cancel]
  have y3 : gLdI w tda 0 (nI l) = some kx := by rw [pu_LdI hd2 hl (by omega), hf]
  unfold bf_X26_isOver_1
  conv =>
    lhs
    rw [pu_I (k := 2) ha rfl, pu_B1, if_neg y1, pu_R (k := 0) ha rfl, pu_B1, pu_B1, pu_R (k := 6) hi rfl, pu_B1, pu_R (k := 1) ha rfl, pu_B1, pu_B1, pu_R (k := 0) hd1 rfl, pu_B1, pu_B1, pu_B1, y2, y3, pu_B1, pu_B1, pu_Ob hdl, pu_B1, hget, pu_B2, hck, pu_B1, pu_B1, pu_I (k := 1) hdk rfl, pu_B1]
  rfl
/-- the task under way, its end whenever -/
def uNw (S : SV) (i : Nat) (s : Nat → Int32) (n : Nat) (L : List Nat) (left tried : Nat) (til : Int32) : Prop := 1 ≤ left ∧ 1 ≤ tried ∧ tried ≤ 3 ∧
  (∃ t k, rFor S i s n t ∧ rOpen S i s t ∧ L[left - 1]? = some k ∧ s (21 + 1262 * (i) + (622 + 10 * (t) + 5)) = nI (k + 1) ∧ s (21 + 1262 * (i) + (622 + 10 * (n) + 7)) = nI t) ∧ s (21 + 1262 * (i) + (622 + 10 * (n) + 8)) = nI (tried - 1) ∧ s (21 + 1262 * (i) + (622 + 10 * (n) + 9)) = til ∧ ∃ U, til = nI U ∧ U ≤ 1000000
def uSt (S : SV) (xa ia i : Nat) (n ua : Nat) (L : List Nat) (left tried : Nat) (til : Int32) (w : gw) (tg : pT) (s : Nat → Int32) : Prop := uCell xa ia w tg n ua L (nI left) (nI tried) til ∧ uRel S i s n L left ∧ (tried = 0 ∧ s (21 + 1262 * (i) + (622 + 10 * (n) + 7)) = -1 ∨ uNw S i s n L left tried til)
theorem rFor_same {s s1 : Nat → Int32} {n t : Nat} (hS : sWf S) (hn : n < sEn S 0) (h : ∀ m, m < 64 → s1 (21 + 1262 * (i) + (622 + 10 * (m) + 0)) = s (21 + 1262 * (i) + (622 + 10 * (m) + 0))) : rFor S i s1 n t ↔ rFor S i s n t := by
  have hNs : sEn S 0 ≤ 64 := hS.1
  unfold rFor
  constructor
  · rintro ⟨h0, h1 | ⟨j, hj, h1, h2⟩⟩
    · exact ⟨h0, Or.inl h1⟩
    · have := sWf_lt hS hn hj
      rw [h _ (by omega)] at h1
      exact ⟨h0, Or.inr ⟨j, hj, h1, h2⟩⟩
  · rintro ⟨h0, h1 | ⟨j, hj, h1, h2⟩⟩
    · exact ⟨h0, Or.inl h1⟩
    · have := sWf_lt hS hn hj
      rw [← h _ (by omega)] at h1
      exact ⟨h0, Or.inr ⟨j, hj, h1, h2⟩⟩
/-- the relation goes on while states, numbers stay and nothing opens -/
theorem uRel.same {s s1 : Nat → Int32} {n left left' : Nat} {L : List Nat} (hS : sWf S) (hn : n < sEn S 0) (h : uRel S i s n L left) (h0 : ∀ m, m < 64 → s1 (21 + 1262 * (i) + (622 + 10 * (m) + 0)) = s (21 + 1262 * (i) + (622 + 10 * (m) + 0)) ∧ s1 (21 + 1262 * (i) + (622 + 10 * (m) + 5)) = s (21 + 1262 * (i) + (622 + 10 * (m) + 5))) (hl : left' ≤ left)
    (h6 : ∀ t, rOpen S i s1 t → t < 64 → rOpen S i s t) (hnew : ∀ j k t, left' ≤ j → j < left → L[j]? = some k → rFor S i s n t → s (21 + 1262 * (i) + (622 + 10 * (t) + 5)) = nI (k + 1) → ¬ rOpen S i s1 t) : uRel S i s1 n L left' := by
  have hNs : sEn S 0 ≤ 64 := hS.1
  obtain ⟨a1, a2, a3⟩ := h
  have hf : ∀ t, rFor S i s1 n t ↔ rFor S i s n t := fun t => rFor_same hS hn (fun m hm => (h0 m hm).1)
  refine ⟨by omega, fun k => ?_, fun j k t b1 b2 b3 b4 => ?_⟩
  · rw [a2 k]
    constructor
    · rintro ⟨c0, t, c1, c2, c3, c4⟩
      have ht : t < 64 := by have := c1.1; omega
      exact ⟨c0, t, (hf t).mpr c1, c2, (h0 t ht).1.trans c3, (h0 t ht).2.trans c4⟩
    · rintro ⟨c0, t, c1, c2, c3, c4⟩
      have ht : t < 64 := by have := c1.1; omega
      exact ⟨c0, t, (hf t).mp c1, c2, (h0 t ht).1.symm.trans c3, (h0 t ht).2.symm.trans c4⟩
  · have b3 := (hf t).mp b3
    have ht : t < 64 := by have := b3.1; omega
    have b4 := (h0 t ht).2.symm.trans b4
    by_cases hj : j < left
    · exact hnew j k t b1 hj b2 b3 b4
    · exact fun hop => a3 j k t (by omega) b2 b3 b4 (h6 t hop ht)
theorem undo_loop {n ua : Nat} {F : Nat → Prop} (hS : sWf S) (hn : n < sEn S 0) (hkn : sKd S n ≠ 1) {L : List Nat} {tg : pT} : ∀ (μ : Nat) (w : gw) (s : Nat → Int32) (B left tried : Nat) (til : Int32) (fuel fuel2 : Nat), 4 * left + 4 ≤ μ + tried → tried ≤ 3 → μ + 2 ≤ fuel → μ + 2 ≤ fuel2 →
    pW S σ xa mo ia i ver T w tg s B bo un → B + 2 * μ + 2 < 2 ^ 31 → uSt S xa ia i n ua L left tried til w tg s → (∀ t, rFor S i s n t → sKd S t = 1 → s (21 + 1262 * (i) + (622 + 10 * (t) + 0)) = nI 2 → F t) →
    ∃ w1 s1 x, gL0 (bf_X26_isOver_1 ua) fuel w = some (x, w1) ∧ gL2 bt_X2_compensates_1 fuel2 (nI i) (nI n) (tS σ s) = some (x, tS σ s1) ∧ pW S σ xa mo ia i ver T w1 tg s1 (B + 2 * μ + 2) bo un ∧ w1.2 = w.2 ∧ pFr w w1 tg tg (pP mo ia n (n + 1)) ∧ uQ i n F s s1 ∧
      (x = nI 0 ∧ uLive S xa ia i w1 tg s1 T n ua ∨ x = nI 1 ∧ s1 (21 + 1262 * (i) + (622 + 10 * (n) + 7)) = -1 ∧ uDead xa ia w1 tg n ua) := by
  have hNs : sEn S 0 ≤ 64 := hS.1
  intro μ
  induction μ with
  | zero => intro w s B left tried til fuel fuel2 hμ ht3; omega
  | succ μ ih =>
    intro w s B left tried til fuel fuel2 hμ ht3 hf hf2 hW hB hst hF
    obtain ⟨⟨hia, hi, -, hσ⟩, -⟩ := id hW
    have hE := hW.2.2.2.2.2.2
    obtain ⟨fu, rfl⟩ : ∃ fu, fuel = fu + 1 := ⟨fuel - 1, by omega⟩
    obtain ⟨fu2, rfl⟩ : ∃ fu2, fuel2 = fu2 + 1 := ⟨fuel2 - 1, by omega⟩
    obtain ⟨hc, hr, hsa⟩ := hst
    have hc0 := hc
    obtain ⟨hta, td, tda, f, ha, htd, hd1, hte, hd2, hL⟩ := hc
    have hr0 := hr
    obtain ⟨r1, r2, r3⟩ := hr
    have e7 : ∀ w : TS, t_X2_at (nI i) (nI n) (nI 7) w = _ := fun w => pt_at w
    have e8 : ∀ w : TS, t_X2_at (nI i) (nI n) (nI 8) w = _ := fun w => pt_at w
    have e9 : ∀ w : TS, t_X2_at (nI i) (nI n) (nI 9) w = _ := fun w => pt_at w
    have nm : ¬ (0 : Int32) ≤ -1 := by decide
    obtain ⟨-, -, -, -, -, -, -, -, -, -, -, -, -, -, -, m10, m11⟩ := hW.2.2.2.2.1
    have z0 : nI 0 = 0 := by decide
    have z1 : ¬ nI 1 = 0 := by decide
    have huniq : ∀ t t' k, rFor S i s n t → sKd S t = 1 → s (21 + 1262 * (i) + (622 + 10 * (t) + 0)) = nI 2 → s (21 + 1262 * (i) + (622 + 10 * (t) + 5)) = nI (k + 1) → rFor S i s n t' → rOpen S i s t' → s (21 + 1262 * (i) + (622 + 10 * (t') + 5)) = nI (k + 1) → t' = t := by
      intro t t' k a1 a2 a3 a4 b1 b2 b3
      obtain ⟨-, -, -, -, -, ⟨va, pe, hi', dl, fv, fp, fh, i1, i2, i3, i4, i5, i6, i7, i8, i9, i10, i11, m, ea, mc, g, d1, d2, d3, d4, d5, d6, d7, d8, d9⟩, -⟩ := hW
      exact d9 t' t b1.1 a1.1 b2.1 a2 b2.2.1 a3 (b3.trans a4.symm)
    -- the twin's step when nothing is under way
    have hnone : s (21 + 1262 * (i) + (622 + 10 * (n) + 7)) = -1 → ∀ KK : Int32 → Int32 → TS → Option (Int32 × TS), (∀ t, rFor S i s n t → ¬ rOpen S i s t) → bt_X2_compensates_1 KK (nI i) (nI n) (tS σ s) = some (nI 1, tS σ s) := by
      intro h7 KK hno
      obtain ⟨x, y, x1, x2⟩ := t_next hW hn
      rcases x2 with ⟨rfl, -⟩ | ⟨t, o, q1, q2, q3, q4, q5, -⟩
      · unfold bt_X2_compensates_1
        rw [e7, pu_B2, pu_ld5 (by omega), pu_B1, h7, pu_Bd, if_neg nm, x1, pu_B2, if_neg nm]
      · exact absurd q4 (hno t q5)
    cases left with
    | zero =>
      have htr : tried = 0 ∧ s (21 + 1262 * (i) + (622 + 10 * (n) + 7)) = -1 := by
        rcases hsa with h | h
        · exact h
        · have := h.1
          omega
      obtain ⟨rfl, h7⟩ := htr
      have hno : ∀ t, rFor S i s n t → ¬ rOpen S i s t := by
        intro t hf hop
        obtain ⟨k, k1, k2⟩ := hW.ord hf.1 hop.1 hop.2.1
        have hk := (r2 k).mpr ⟨k1, t, hf, hop.1, hop.2.1, k2⟩
        obtain ⟨j, hj⟩ := List.mem_iff_getElem?.mp hk
        exact r3 j k t (Nat.zero_le _) hj hf k2 hop
      refine ⟨hs w ua (.inl (26, [ga (some ia), ga (some td), gi (nI 0), gi (nI 0), gi (nI 2147483647), ga (some xa)])), s, nI 1, ?_, hnone h7 _ hno, (hW.put ha hta (by omega)).mono (by omega), rfl, pFr.hs hW.bd ha (by rw [hta]; exact Or.inl ⟨rfl, Or.inl ⟨Nat.le_refl _, Nat.lt_succ_self _⟩⟩), uQ.rf, Or.inr ⟨rfl, h7, L, nI 0, nI 0, nI 2147483647, hta, td, tda, f, hs_self _ _ _, htd, (hs_ne (ne_of hd1 ha (by simp))).trans hd1, hte, (hs_ne (ne_of hd2 ha (by simp))).trans hd2, hL⟩⟩
      show bf_X26_isOver_1 ua (gL0 (bf_X26_isOver_1 ua) fu) w = _
      generalize gL0 (bf_X26_isOver_1 ua) fu = KK
      have y1 : nI 0 ≤ 0 := by decide
      unfold bf_X26_isOver_1
      simp only [pu_B1, pu_B2, pu_Bd, pu_Nn, pu_Ns, pv_I, pv_R, pv_P, pv_LI, pv_LR, pv_SI, pv_SR, pv_O, pv_C, pvF, pvI, pvR, pvP, pvLI, pvLR, pvSI, pvSR, pvN, pvO, pvC, pv_bs, pv_ms, hs_self, hs_ne, hs_K, hs_2, List.getElem?_cons_succ, List.getElem?_cons_zero, List.set_cons_succ, List.set_cons_zero, Option.isSome_some, if_true, if_false, true_and, and_true, ↓reduceIte, ha, y1]
    | succ l =>
      have hx : L[l]? = some L[l] := List.getElem?_eq_getElem (by omega)
      obtain ⟨hx1, hx2⟩ := hL.2.2 _ _ hx
      have hL24 := hL.2.1
      obtain ⟨-, t, t1, t2, t3, t4⟩ := (r2 L[l]).mp (List.mem_of_getElem? hx)
      have htN := t1.1
      obtain ⟨dk, e, q1, q2, q3, q4, q0, dl, ea, m, cap, mc, g, ⟨f1, f2, f3, f4, f5, f7, f8, f9, f10, f11, f12, f13, f14, f15, q5⟩, q6, q7, q8, q9, q10, q11, q12, q13⟩ := hW.rec htN t2 t3 t4 hx2
      have hdl : ∃ dl ea m cap mc g, (∃ f1 f2 f3 f4 f5 f7 f8 f9 f10 f11 f12 f13 f14 f15, w.1 ia = some (.inl (16, [ga (some mo), f1, f2, f3, f4, f5, ga (some dl), f7, f8, f9, f10, f11, f12, f13, f14, f15]))) ∧ w.1 dl = some (.inl (8, [mc, ga (some ea), gi (nI m)])) ∧ w.1 ea = some (.inr (2, cap, .inr g)) ∧ L[l] < m ∧ m ≤ cap ∧ cap < 1000 ∧ g L[l] = some dk := ⟨dl, ea, m, cap, mc, g, ⟨f1, f2, f3, f4, f5, f7, f8, f9, f10, f11, f12, f13, f14, f15, q5⟩, q6, q7, q8, q9, q10, q11⟩
      have hget := pf_get q6 q7 q8 q9 q10
      rw [q11] at hget
      have hstep : ∀ KK, bf_X26_isOver_1 ua KK w = _ := fun KK => isOver_step (KK := KK) ha q5 hd1 hd2 (by omega) hx1 q6 hget q4 q2
      have y1 : ¬ nI (l + 1) ≤ 0 := nI_nle (by omega) (by omega)
      have y2 : nI (l + 1) - nI 1 = nI l := by rw [pu_sub (by omega), Nat.add_sub_cancel]
      have hnt : n ≠ t := by rintro rfl; exact hkn t2
      have t2k := t2
      have hopen : rOpen S i s t ↔ ¬ sP S t 4 < 0 ∧ e = nI 2 := by
        unfold rOpen
        constructor
        · rintro ⟨-, -, b, c⟩
          refine ⟨c, ?_⟩
          rcases q3 with z | z
          · exact z.2
          · rw [b] at z
            rcases z.2 with y | y <;> (rw [y] at z; exact absurd z.1 (by decide))
        · rintro ⟨c, b⟩
          refine ⟨t2, t3, ?_, c⟩
          rcases q3 with z | z
          · exact z.1
          · rw [b] at z
            rcases z.2 with y | y <;> exact absurd y (by decide)
      rcases hsa with ⟨rfl, h7⟩ | hsa
      · by_cases hop : rOpen S i s t
        · -- tries it
          obtain ⟨hD, rfl⟩ := hopen.mp hop
          obtain ⟨u, hu8, hu⟩ : ∃ u, u < 8 ∧ sP S t 4 = nI u := by
            rcases (hS.2.2.2.2.2 t htN).2 with z | z | z | z | z | z | z
            · omega
            · rcases z.2.2.2.2.2 with y | y
              · rw [y] at hD
                exact absurd (by decide) hD
              · exact y
            all_goals omega
          obtain ⟨x, y, x1, x2⟩ := t_next hW hn
          have hxt : x = nI t := by
            rcases x2 with ⟨-, -, x3⟩ | ⟨t', o, p1, p2, p3, p4, p5, p6, p7, p8⟩
            · exact absurd t1 (x3 t htN hop)
            · obtain ⟨k', k1, k2⟩ := hW.ord p5.1 p4.1 p4.2.1
              have hko : o = k' + 1 := (nI_eq (by omega) (by omega)).mp (p6.symm.trans k2)
              have hmem := (r2 k').mpr ⟨k1, t', p5, p4.1, p4.2.1, k2⟩
              obtain ⟨j, hj⟩ := List.mem_iff_getElem?.mp hmem
              have hmx := p8 t (L[l] + 1) htN hop t1 t4 (by omega)
              have hjl : j = l := by
                by_cases z1 : l < j
                · exact absurd p4 (r3 j k' t' (by omega) hj p5 k2)
                · by_cases z2 : j < l
                  · have := dL_at hL.1 z2 hj hx
                    omega
                  · omega
              subst hjl
              rw [hx] at hj
              cases hj
              rw [p1, huniq t t' _ t1 t2 t3 t4 p5 p4 k2]
          subst hxt
          obtain ⟨s', hs'⟩ : ∃ s', upd (upd s (21 + 1262 * (i) + (622 + 10 * (n) + 7)) (nI t)) (21 + 1262 * (i) + (622 + 10 * (n) + 8)) (nI 0) = s' := ⟨_, rfl⟩
          have hsn : ∀ j, j ≠ (21 + 1262 * (i) + (622 + 10 * (n) + 7)) → j ≠ (21 + 1262 * (i) + (622 + 10 * (n) + 8)) → s' j = s j := fun j a b => by rw [← hs', upd_ne b, upd_ne a]
          have hW' : pW S σ xa mo ia i ver T w tg s' B bo un := hW.rows (fun j hj => hsn j (by omega) (by omega)) (fun m _ _ => ⟨by rw [hsn _ (by omega) (by omega)], fun _ => ⟨hsn _ (by omega) (by omega), hsn _ (by omega) (by omega)⟩⟩)
          have hs7 : s' (21 + 1262 * (i) + (622 + 10 * (n) + 7)) = nI t := by rw [← hs', upd_ne (by omega), upd_self]
          have hs8 : s' (21 + 1262 * (i) + (622 + 10 * (n) + 8)) = nI 0 := by rw [← hs', upd_self]
          obtain ⟨w1, E, v1, v2, v3, v4, v5, v6, v7⟩ := sim_utries hW' (by omega) hn htN hu hu8 hs7 hta ha q2
          have hE' := hW'.2.2.2.2.2.2
          obtain ⟨s1, hs1⟩ : ∃ s1, upd (uNotes i (nI 5) (nI u) s') (21 + 1262 * (i) + (622 + 10 * (n) + 9)) (nI (T + E)) = s1 := ⟨_, rfl⟩
          rw [hs1] at v3 v5
          have hn1 : ∀ j, j ≠ (21 + 1262 * (i) + 9) → (j < (21 + 1262 * (i) + 22) ∨ (21 + 1262 * (i) + 622) ≤ j) → j ≠ (21 + 1262 * (i) + (622 + 10 * (n) + 9)) → s1 j = s' j := fun j a b c => by rw [← hs1, upd_ne c, uNotes_ne hE' (by omega) a b]
          have hn2 : ∀ j, j ≠ (21 + 1262 * (i) + 9) → (j < (21 + 1262 * (i) + 22) ∨ (21 + 1262 * (i) + 622) ≤ j) → j ≠ (21 + 1262 * (i) + (622 + 10 * (n) + 7)) → j ≠ (21 + 1262 * (i) + (622 + 10 * (n) + 8)) → j ≠ (21 + 1262 * (i) + (622 + 10 * (n) + 9)) → s1 j = s j := fun j a b c d e => (hn1 j a b e).trans (hsn j c d)
          have hstat : ∀ a ex, w.1 a = some ex → pStc tg a → w1.1 a = some ex := fun a ex hA hB' => (v7.at hW.bd hA (by
            rw [show tg a = (0, 100) from hB']
            rintro (z | z)
            · exact hia z.1.symm
            · exact absurd (congrArg Prod.snd z) (by simp))).1
          have hrow : ∀ m k, m < 64 → k < 7 → s1 (21 + 1262 * (i) + (622 + 10 * (m) + k)) = s (21 + 1262 * (i) + (622 + 10 * (m) + k)) := fun m k a b => hn2 _ (by omega) (by omega) (by omega) (by omega) (by omega)
          have hfor1 : rFor S i s1 n t := (rFor_same hS hn (fun m hm => hrow m 0 hm (by omega))).mpr t1
          have hop1 : rOpen S i s1 t := by
            unfold rOpen at hop ⊢
            rw [hrow t 0 (by omega) (by omega), hrow t 6 (by omega) (by omega)]
            exact hop
          have h17 : s1 (21 + 1262 * (i) + (622 + 10 * (n) + 7)) = nI t := (hn1 _ (by omega) (by omega) (by omega)).trans hs7
          have h18 : s1 (21 + 1262 * (i) + (622 + 10 * (n) + 8)) = nI (1 - 1) := (hn1 _ (by omega) (by omega) (by omega)).trans hs8
          have h19 : s1 (21 + 1262 * (i) + (622 + 10 * (n) + 9)) = nI (T + E) := by rw [← hs1, upd_self]
          have h15 : s1 (21 + 1262 * (i) + (622 + 10 * (t) + 5)) = nI (L[l] + 1) := (hrow t 5 (by omega) (by omega)).trans t4
          have hrel1 : uRel S i s1 n L (l + 1) := hr0.same hS hn (fun m hm => ⟨hrow m 0 hm (by omega), hrow m 5 hm (by omega)⟩) (Nat.le_refl _) (fun t' hop' ht' => by
              unfold rOpen at hop' ⊢
              rw [hrow t' 0 ht' (by omega), hrow t' 6 ht' (by omega)] at hop'
              exact hop') (fun j k t' z1 z2 => absurd z1 (by omega))
          have hnw1 : uNw S i s1 n L (l + 1) 1 (nI (T + E)) := ⟨by omega, by omega, by omega, ⟨t, L[l], hfor1, hop1, hx, h15, h17⟩, h18, h19, T + E, rfl, by omega⟩
          obtain ⟨w2, s2, x, i1, i2, i3, i4, i5, i6, i7⟩ := ih w1 s1 (B + 1) (l + 1) 1 (nI (T + E)) fu (fu2 + 1) (by omega) (by omega) (by omega) (by omega) v5 (by omega) ⟨⟨hta, td, tda, f, v4, htd, hstat _ _ hd1 htd, hte, hstat _ _ hd2 hte, hL⟩, hrel1, Or.inr hnw1⟩ (fun t' a b c => hF t' ((rFor_same hS hn (fun m hm => hrow m 0 hm (by omega))).mp a) b ((hrow t' 0 (by have := a.1; omega) (by omega)).symm.trans c))
          refine ⟨w2, s2, x, ?_, ?_, i3.mono (by omega), i4.trans v6, v7.tr i5, uQ.tr (fun j a b c d e => hn2 j (by omega) (by omega) (by omega) (by omega) (by omega)) i6, i7⟩
          · show bf_X26_isOver_1 ua (gL0 (bf_X26_isOver_1 ua) fu) w = _
            rw [hstep, if_neg hD, pu_I (k := 2) q2 rfl, pu_B1, if_pos rfl, pu_I (k := 3) ha rfl, pu_B1, if_pos z0, pu_Ob ha, pu_B1, v2, pu_B2]
            exact i1
          · have i2' : bt_X2_compensates_1 (gL2 bt_X2_compensates_1 fu2) (nI i) (nI n) (tS σ s1) = some (x, tS σ s2) := i2
            show bt_X2_compensates_1 (gL2 bt_X2_compensates_1 fu2) (nI i) (nI n) (tS σ s) = _
            generalize gL2 bt_X2_compensates_1 fu2 = KK at i2' ⊢
            have y5 : (0 : Int32) ≤ nI t := nI_pos' (by omega)
            unfold bt_X2_compensates_1 at i2' ⊢
            rw [e7, pu_B2, pu_ld5 (by omega), pu_B1, h17, pu_Bd, if_pos y5] at i2'
            rw [e7, pu_B2, pu_ld5 (by omega), pu_B1, h7, pu_Bd, if_neg nm, x1, pu_B2, if_pos y5, e7, pu_B2, pu_st5 (by omega), pu_B1, e8, pu_B2, pu_st5 (by omega), pu_B1, hs', v3, pu_B2]
            exact i2'
        · -- passes it by
          have hWp := hW.put (e := .inl (26, [ga (some ia), ga (some td), gi (nI l), gi (nI 0), gi til, ga (some xa)])) ha hta (by omega)
          obtain ⟨w2, s2, x, i1, i2, i3, i4, i5, i6, i7⟩ := ih _ s B l 0 til fu (fu2 + 1) (by omega) (by omega) (by omega) (by omega) hWp (by omega) ⟨⟨hta, td, tda, f, hs_self _ _ _, htd, (hs_ne (ne_of hd1 ha (by simp))).trans hd1, hte, (hs_ne (ne_of hd2 ha (by simp))).trans hd2, hL⟩, hr0.same hS hn (fun _ _ => ⟨rfl, rfl⟩) (by omega) (fun _ z _ => z) (fun j k t' z1 z2 z3 z4 z5 z6 => by
            obtain rfl : j = l := by omega
            rw [hx] at z3
            cases z3
            have := huniq t t' _ t1 t2 t3 t4 z4 z6 z5
            subst this
            exact hop z6), Or.inl ⟨rfl, h7⟩⟩ hF
          refine ⟨w2, s2, x, ?_, i2, i3.mono (by omega), i4, (pFr.hs hW.bd ha (by rw [hta]; exact Or.inl ⟨rfl, Or.inl ⟨Nat.le_refl _, Nat.lt_succ_self _⟩⟩)).tr i5, i6, i7⟩
          show bf_X26_isOver_1 ua (gL0 (bf_X26_isOver_1 ua) fu) w = _
          have h43 : uK43 ua (gL0 (bf_X26_isOver_1 ua) fu) w = some (x, w2) := by
            unfold uK43
            rw [pu_I (k := 2) ha rfl, pu_B1, y2, pu_Put ha (by show 2 < 6; omega), pu_B1]
            exact i1
          rw [hstep]
          by_cases hD : sP S t 4 < 0
          · rw [if_pos hD]
            exact h43
          · have he2 : ¬ e = nI 2 := fun z => hop (hopen.mpr ⟨hD, z⟩)
            rw [if_neg hD, pu_I (k := 2) q2 rfl, pu_B1, if_neg he2]
            exact h43
      · -- one is under way
        obtain ⟨c1, c2, c3, ⟨t', k', g1, g2, g3, g4, g5⟩, c6, c7, U, c8, c9⟩ := hsa
        subst c8
        rw [Nat.add_sub_cancel, hx] at g3
        cases g3
        have htt := huniq t t' _ t1 t2 t3 t4 g1 g2 g4
        subst htt
        obtain ⟨hD, rfl⟩ := hopen.mp g2
        obtain ⟨u, hu8, hu⟩ : ∃ u, u < 8 ∧ sP S t' 4 = nI u := by
          rcases (hS.2.2.2.2.2 t' htN).2 with z | z | z | z | z | z | z
          · omega
          · rcases z.2.2.2.2.2 with y | y
            · rw [y] at hD
              exact absurd (by decide) hD
            · exact y
          all_goals omega
        have y3 : ¬ nI tried = 0 := nI_ne0 (by omega) (by omega)
        have y5 : (0 : Int32) ≤ nI t' := nI_pos' (by omega)
        obtain ⟨du, fa, ins, va', pe', hi2, dl', f10', f11', f12', k1, k2, -⟩ := hW.cells
        by_cases hTU : T < U
        · refine ⟨w, s, nI 0, ?_, ?_, hW.mono (by omega), rfl, pFr.rf hW.bd, uQ.rf, Or.inl ⟨rfl, L, l + 1, tried, nI U, hc0, hr0, c1, c2, c3, ⟨t', L[l], g1, g2, by rw [Nat.add_sub_cancel]; exact hx, g4, g5⟩, c6, c7, U, rfl, hTU, c9⟩⟩
          · have y4 : ¬ nI U ≤ nI T := nI_ge hTU (by omega)
            show bf_X26_isOver_1 ua (gL0 (bf_X26_isOver_1 ua) fu) w = _
            rw [hstep, if_neg hD, pu_I (k := 2) q2 rfl, pu_B1, if_pos rfl, pu_I (k := 3) ha rfl, pu_B1, if_neg y3, pu_I (k := 4) ha rfl, pu_B1, pu_R (k := 0) ha rfl, pu_B1, pu_B1, pu_R (k := 0) q5 rfl, pu_B1, pu_B1, pu_I (k := 3) k1 rfl, pu_B1, if_neg y4]
          · have y4 : ¬ nI U ≤ nI T := nI_ge hTU (by omega)
            show bt_X2_compensates_1 (gL2 bt_X2_compensates_1 fu2) (nI i) (nI n) (tS σ s) = _
            generalize gL2 bt_X2_compensates_1 fu2 = KK
            unfold bt_X2_compensates_1
            rw [e7, pu_B2, pu_ld5 (by omega), pu_B1, g5, pu_Bd, if_pos y5]
            try dsimp only
            rw [e9, pu_B2, pu_ld5 (by omega), pu_B1, c7, pu_ld5 (by omega), pu_B1, m10, if_neg y4]
        · have y4 : nI U ≤ nI T := nI_le (by omega) (by omega)
          obtain ⟨w1, x, hxx, v1, v2, v3, v4, v5⟩ := sim_fails hW hu8
          have hf1 : ∀ j, 17 ≤ j → uFails u s j = s j := fun j hj => uFails_ne (by omega)
          have hmoia : mo ≠ ia := ne_of k1 k2 (by simp)
          have hat1 : ∀ a ex y, w.1 a = some ex → tg a = y → y ≠ (mo, 2) → w1.1 a = some ex := fun a ex y hA hB' hC' => (v5.at hW.bd hA (by rw [hB']; exact hC')).1
          have ha1 := hat1 _ _ _ ha hta (fun z => hmoia (congrArg Prod.fst z).symm)
          have hdk1 := hat1 _ _ _ q2 q1 (fun z => hmoia (congrArg Prod.fst z).symm)
          have hP1 : pFr w w1 tg tg (pP mo ia n (n + 1)) := v5.mono (fun t z => Or.inr z)
          have hst1 : ∀ a ex, w.1 a = some ex → pStc tg a → w1.1 a = some ex := fun a ex hA hB' => hat1 a ex _ hA hB' (fun z => absurd (congrArg Prod.snd z) (by simp))
          have hW1 : w1.2 = w.2 := v4
          have k4 : t_X2_nodePart (nI i) (nI t') (nI 4) (tS σ s) = some (nI u, tS σ s) := by rw [hW.np htN (by omega), hu]
          have hI1 : ∃ f1 f2 f3 f4 f5 f6 f7 f8 f9 f10 f11 f12 f13 f14 f15, w1.1 ia = some (.inl (16, [ga (some mo), f1, f2, f3, f4, f5, f6, f7, f8, f9, f10, f11, f12, f13, f14, f15])) := by
            obtain ⟨-, -, -, -, -, ⟨va, pe, hi', dl, fv, fp, fh, j1, j2, -⟩, -⟩ := v3
            exact ⟨_, _, _, _, _, _, _, _, _, _, _, _, _, _, _, j2⟩
          have hE1 := v3.2.2.2.2.2.2
          -- the end of it: kind kd, from the rows s'
          have hend : ∀ kd s', (kd = 6 ∨ kd = 7) → pW S σ xa mo ia i ver T w1 tg s' B bo un → (∀ j, ¬ (9 ≤ j ∧ j < 17) → j ≠ (21 + 1262 * (i) + (622 + 10 * (n) + 8)) → s' j = s j) →
              ∃ w2 s2 y, f_X16_ends ia (some dk) (hs (hs w1 ua (.inl (26, [ga (some ia), ga (some td), gi (nI l), gi (nI 0), gi (nI U), ga (some xa)]))) dk (.inl (25, [gi (sP S t' 1), gi (sP S t' 4), gi (nI kd)]))) = some ((), w2) ∧ t_X2_handles (nI i) (nI n) (nI kd) (nI (kd + 1)) (tS σ s') = some ((), tS σ (uHand i n t' kd (sP S t' 1) s')) ∧
                (∃ w3, gL0 (bf_X26_isOver_1 ua) fu w2 = some (y, w3) ∧ gL2 bt_X2_compensates_1 fu2 (nI i) (nI n) (tS σ (uHand i n t' kd (sP S t' 1) s')) = some (y, tS σ s2) ∧ pW S σ xa mo ia i ver T w3 tg s2 (B + 2 * (μ + 1) + 2) bo un ∧ w3.2 = w.2 ∧ pFr w w3 tg tg (pP mo ia n (n + 1)) ∧ uQ i n F s s2 ∧
                  (y = nI 0 ∧ uLive S xa ia i w3 tg s2 T n ua ∨ y = nI 1 ∧ s2 (21 + 1262 * (i) + (622 + 10 * (n) + 7)) = -1 ∧ uDead xa ia w3 tg n ua)) := by
            intro kd s' hkd hWs hss
            have hWp := hWs.put (e := .inl (26, [ga (some ia), ga (some td), gi (nI l), gi (nI 0), gi (nI U), ga (some xa)])) ha1 hta (by omega)
            have n1 : dk ≠ ua := ne_of hdk1 ha1 (by simp)
            have nmo : ∀ j, (ia, j) ≠ (mo, 2) := fun j z => hmoia (congrArg Prod.fst z).symm
            have p5 : ∃ dl ea m cap mc g, (∃ f1 f2 f3 f4 f5 f7 f8 f9 f10 f11 f12 f13 f14 f15, (hs w1 ua (.inl (26, [ga (some ia), ga (some td), gi (nI l), gi (nI 0), gi (nI U), ga (some xa)]))).1 ia = some (.inl (16, [ga (some mo), f1, f2, f3, f4, f5, ga (some dl), f7, f8, f9, f10, f11, f12, f13, f14, f15]))) ∧ (hs w1 ua (.inl (26, [ga (some ia), ga (some td), gi (nI l), gi (nI 0), gi (nI U), ga (some xa)]))).1 dl = some (.inl (8, [mc, ga (some ea), gi (nI m)])) ∧ (hs w1 ua (.inl (26, [ga (some ia), ga (some td), gi (nI l), gi (nI 0), gi (nI U), ga (some xa)]))).1 ea = some (.inr (2, cap, .inr g)) ∧ L[l] < m ∧ m ≤ cap ∧ cap < 1000 ∧ g L[l] = some dk :=
              ⟨dl, ea, m, cap, mc, g, ⟨f1, f2, f3, f4, f5, f7, f8, f9, f10, f11, f12, f13, f14, f15, (hs_ne (ne_of q5 ha (by simp))).trans (hat1 _ _ _ q5 q0 (nmo _))⟩, (hs_ne (ne_of q6 ha (by simp))).trans (hat1 _ _ _ q6 q12 (nmo _)), (hs_ne (ne_of q7 ha (by simp))).trans (hat1 _ _ _ q7 q13 (nmo _)), q8, q9, q10, q11⟩
            obtain ⟨w2, h1, h2, h3, h4, h5⟩ := sim_hand hWp (by omega) hkd hn hnt htN t2 ((hss _ (by omega) (by omega)).trans t3) ((hss _ (by omega) (by omega)).trans t4) hx2 ((hss _ (by omega) (by omega)).trans g5) p5 q1 ((hs_ne n1).trans hdk1)
            have hEs := hWs.2.2.2.2.2.2
            have hv6 : uHand i n t' kd (sP S t' 1) s' (21 + 1262 * (i) + (622 + 10 * (t') + 6)) = nI kd := by
              unfold uHand
              rw [upd_ne (by omega), upd_ne (by rcases hkd with rfl | rfl <;> omega), upd_self]
            have hv7 : uHand i n t' kd (sP S t' 1) s' (21 + 1262 * (i) + (622 + 10 * (n) + 7)) = -1 := upd_self _ _ _
            have hn2 : ∀ j, ¬ (9 ≤ j ∧ j < 17) → j ≠ (21 + 1262 * (i) + 9) → (j < (21 + 1262 * (i) + 22) ∨ (21 + 1262 * (i) + 622) ≤ j) → j ≠ (21 + 1262 * (i) + 7) → j ≠ (21 + 1262 * (i) + 8) → j ≠ (21 + 1262 * (i) + (622 + 10 * (n) + 7)) → j ≠ (21 + 1262 * (i) + (622 + 10 * (n) + 8)) → j ≠ (21 + 1262 * (i) + (622 + 10 * (t') + 6)) → uHand i n t' kd (sP S t' 1) s' j = s j := fun j a b c d e f' g' h' => by
              unfold uHand
              rw [upd_ne f', upd_ne (by rcases hkd with rfl | rfl <;> omega), upd_ne h', uNotes_ne hEs (by omega) b c, hss j a g']
            have hrow : ∀ m' k', m' < 64 → k' < 7 → (m' = t' → k' ≠ 6) → uHand i n t' kd (sP S t' 1) s' (21 + 1262 * (i) + (622 + 10 * (m') + k')) = s (21 + 1262 * (i) + (622 + 10 * (m') + k')) := fun m' k' a b c => hn2 _ (by omega) (by omega) (by omega) (by omega) (by omega) (by omega) (by omega) (by omega)
            have hua2 : w2.1 ua = some (.inl (26, [ga (some ia), ga (some td), gi (nI l), gi (nI 0), gi (nI U), ga (some xa)])) := (h5.at hWp.bd (hs_self _ _ _) (by rw [hta]; intro z; have := z.2; simp at this; omega)).1
            have hst2 : ∀ a ex, w.1 a = some ex → pStc tg a → a ≠ ua → w2.1 a = some ex := fun a ex hA hB' hC' => (h5.at hWp.bd ((hs_ne hC').trans (hst1 a ex hA hB')) (by rw [show tg a = (0, 100) from hB']; exact fun z => hia z.1.symm)).1
            have hfrr : pFr w w2 tg tg (pP mo ia n (n + 1)) := (hP1.tr (pFr.hs v3.bd ha1 (by rw [hta]; exact Or.inl ⟨rfl, Or.inl ⟨Nat.le_refl _, Nat.lt_succ_self _⟩⟩))).tr (h5.mono (fun t z => Or.inl ⟨z.1, Or.inr z.2⟩))
            have hoold : ∀ t2, rOpen S i (uHand i n t' kd (sP S t' 1) s') t2 → t2 < 64 → t2 ≠ t' ∧ rOpen S i s t2 := by
              intro t2 hop' ht2'
              have hne : t2 ≠ t' := by
                rintro rfl
                have := hop'.2.2.1
                rw [hv6] at this
                rcases hkd with rfl | rfl <;> exact absurd this (by decide)
              refine ⟨hne, ?_⟩
              unfold rOpen at hop' ⊢
              rw [hrow t2 0 ht2' (by omega) (by omega), hrow t2 6 ht2' (by omega) (fun z => absurd z hne)] at hop'
              exact hop'
            obtain ⟨w3, s3, y, i1, i2, i3, i4, i5, i6, i7⟩ := ih w2 (uHand i n t' kd (sP S t' 1) s') (B + 1) l 0 (nI U) fu fu2 (by omega) (by omega) (by omega) (by omega) h3 (by omega) ⟨⟨hta, td, tda, f, hua2, htd, hst2 _ _ hd1 htd (ne_of hd1 ha (by simp)), hte, hst2 _ _ hd2 hte (ne_of hd2 ha (by simp)), hL⟩, hr0.same hS hn (fun m hm => ⟨hrow m 0 hm (by omega) (by omega), hrow m 5 hm (by omega) (by omega)⟩) (by omega) (fun t2 a b => (hoold t2 a b).2) (fun j k t2 z1 z2 z3 z4 z5 z6 => by
                obtain rfl : j = l := by omega
                rw [hx] at z3
                cases z3
                have ht2 : t2 < 64 := by have := z4.1; omega
                obtain ⟨a, b⟩ := hoold t2 z6 ht2
                exact a (huniq t' t2 _ t1 t2k t3 t4 z4 b z5)), Or.inl ⟨rfl, hv7⟩⟩ (fun t2 a b c => hF t2 ((rFor_same hS hn (fun m hm => hrow m 0 hm (by omega) (by omega))).mp a) b ((hrow t2 0 (by have := a.1; omega) (by omega) (by omega)).symm.trans c))
            refine ⟨w2, s3, y, h1, h2, w3, i1, i2, i3.mono (by omega), (i4.trans h4).trans hW1, hfrr.tr i5, uQ.tr (fun j a b c d e => ?_) i6, i7⟩
            exact hn2 j (by omega) (by omega) (by omega) (by omega) (by omega) (by omega) (by omega) (e t' (hF t' t1 t2k t3))
          have h8ld : uFails u s (21 + 1262 * (i) + (622 + 10 * (n) + 8)) = nI (tried - 1) := (hf1 _ (by omega)).trans c6
          have h7ld : uFails u s (21 + 1262 * (i) + (622 + 10 * (n) + 7)) = nI t' := (hf1 _ (by omega)).trans g5
          obtain ⟨f1', f2', f3', f4', f5', f6', f7', f8', f9', f10'', f11'', f12'', f13', f14', f15', hI1⟩ := hI1
          -- the reads ahead of the failing
          have hcomp : ∀ KK : gw → Option (Int32 × gw), bf_X26_isOver_1 ua KK w = gB2 (f_X26_ends ua (some dk) w) fun _ w59 => KK w59 := fun KK => by
            rw [hstep, if_neg hD, pu_I (k := 2) q2 rfl, pu_B1, if_pos rfl, pu_I (k := 3) ha rfl, pu_B1, if_neg y3, pu_I (k := 4) ha rfl, pu_B1, pu_R (k := 0) ha rfl, pu_B1, pu_B1, pu_R (k := 0) q5 rfl, pu_B1, pu_B1, pu_I (k := 3) k1 rfl, pu_B1, if_pos y4, pu_Ob ha, pu_B1]
          have y6 : ¬ nI 1 = 0 := by decide
          -- the component's end, kind kd
          have hcend : ∀ (kd : Nat) (x9 : Int32) w2, (kd = 6 ∧ x = nI 0 ∨ kd = 7 ∧ x = nI 1 ∧ tried = 3) → f_X16_ends ia (some dk) (hs (hs w1 ua (.inl (26, [ga (some ia), ga (some td), gi (nI l), gi (nI 0), gi (nI U), ga (some xa)]))) dk (.inl (25, [gi (sP S t' 1), gi (sP S t' 4), gi (nI kd)]))) = some ((), w2) → f_X26_ends ua (some dk) w = some ((), w2) := by
            intro kd x9 w2 hkd hw2
            have n1 : dk ≠ ua := ne_of hdk1 ha1 (by simp)
            have n2 : ia ≠ ua := ne_of q5 ha (by simp)
            have n3 : ua ≠ dk := n1.symm
            have n4 : ia ≠ dk := ne_of q5 q2 (by simp)
            rw [hu] at hdk1 q2 hw2
            rcases hkd with ⟨rfl, rfl⟩ | ⟨rfl, rfl, rfl⟩
            · unfold f_X26_ends
              rw [pu_R (k := 0) ha rfl, pu_B1, pu_B1, pu_R (k := 0) q5 rfl, pu_B1, pu_B1, pu_I (k := 1) q2 rfl, pu_B1, pu_B1, pu_Ob k1, pu_B1, v1, pu_B2, pu_Bd, if_pos z0]
              try dsimp only
              simp (disch := first | assumption | omega) only [pu_B1, pu_B2, pu_Bd, pu_Nn, pu_Ns, pv_I, pv_R, pv_P, pv_LI, pv_LR, pv_SI, pv_SR, pv_O, pv_C, pvF, pvI, pvR, pvP, pvLI, pvLR, pvSI, pvSR, pvN, pvO, pvC, pv_bs, pv_ms, hs_self, hs_ne, hs_K, hs_2, List.getElem?_cons_succ, List.getElem?_cons_zero, List.set_cons_succ, List.set_cons_zero, Option.isSome_some, if_true, if_false, true_and, and_true, ↓reduceIte, eq_true z0, ha1, hdk1, hs_hs, y2, hI1, hw2]
            · have y7 : nI 3 ≤ nI 3 := Int32.le_refl _
              unfold f_X26_ends
              rw [pu_R (k := 0) ha rfl, pu_B1, pu_B1, pu_R (k := 0) q5 rfl, pu_B1, pu_B1, pu_I (k := 1) q2 rfl, pu_B1, pu_B1, pu_Ob k1, pu_B1, v1, pu_B2, pu_Bd, if_neg y6, pu_I (k := 3) ha1 rfl, pu_B1, if_pos y7]
              try dsimp only
              simp (disch := first | assumption | omega) only [pu_B1, pu_B2, pu_Bd, pu_Nn, pu_Ns, pv_I, pv_R, pv_P, pv_LI, pv_LR, pv_SI, pv_SR, pv_O, pv_C, pvF, pvI, pvR, pvP, pvLI, pvLR, pvSI, pvSR, pvN, pvO, pvC, pv_bs, pv_ms, hs_self, hs_ne, hs_K, hs_2, List.getElem?_cons_succ, List.getElem?_cons_zero, List.set_cons_succ, List.set_cons_zero, Option.isSome_some, if_true, if_false, true_and, and_true, ↓reduceIte, y6, ha1, hdk1, hs_hs, y2, hI1, hw2]
          rcases hxx with ⟨rfl, hxx⟩ | ⟨rfl, hxx⟩
          · -- undone
            obtain ⟨w2, s2, y, h1, h2, w3, i1, i2, i3, i4, i5, i6, i7⟩ := hend 6 (uFails u s) (Or.inl rfl) v3 (fun j a _ => uFails_ne (by omega))
            refine ⟨w3, s2, y, ?_, ?_, i3, i4, i5, i6, i7⟩
            · show bf_X26_isOver_1 ua (gL0 (bf_X26_isOver_1 ua) fu) w = _
              rw [hcomp, hcend 6 0 w2 (Or.inl ⟨rfl, rfl⟩) h1, pu_B2]
              exact i1
            · show bt_X2_compensates_1 (gL2 bt_X2_compensates_1 fu2) (nI i) (nI n) (tS σ s) = _
              generalize gL2 bt_X2_compensates_1 fu2 = KK at i2 ⊢
              unfold bt_X2_compensates_1
              rw [e7, pu_B2, pu_ld5 (by omega), pu_B1, g5, pu_Bd, if_pos y5]
              try dsimp only
              rw [e9, pu_B2, pu_ld5 (by omega), pu_B1, c7, pu_ld5 (by omega), pu_B1, m10, if_pos y4, e7, pu_B2, pu_ld5 (by omega), pu_B1, g5, k4, pu_B2, v2, pu_B2, if_pos z0, h2, pu_B2]
              exact i2
          · obtain ⟨s', hs'⟩ : ∃ s', upd (uFails u s) (21 + 1262 * (i) + (622 + 10 * (n) + 8)) (nI tried) = s' := ⟨_, rfl⟩
            have hss : ∀ j, ¬ (9 ≤ j ∧ j < 17) → j ≠ (21 + 1262 * (i) + (622 + 10 * (n) + 8)) → s' j = s j := fun j a b => by rw [← hs', upd_ne b, uFails_ne (by omega)]
            have hWs : pW S σ xa mo ia i ver T w1 tg s' B bo un := v3.rows (fun j hj => by rw [← hs', upd_ne (by omega)]) (fun m _ _ => ⟨by rw [← hs', upd_ne (by omega)], fun _ => ⟨by rw [← hs', upd_ne (by omega)], by rw [← hs', upd_ne (by omega)]⟩⟩)
            have y8 : nI (tried - 1) + nI 1 = nI tried := by rw [nI_add, Nat.sub_add_cancel c2]
            have hs8 : s' (21 + 1262 * (i) + (622 + 10 * (n) + 8)) = nI tried := by rw [← hs', upd_self]
            by_cases ht : tried = 3
            · -- stuck
              obtain ⟨w2, s2, y, h1, h2, w3, i1, i2, i3, i4, i5, i6, i7⟩ := hend 7 s' (Or.inr rfl) hWs hss
              refine ⟨w3, s2, y, ?_, ?_, i3, i4, i5, i6, i7⟩
              · show bf_X26_isOver_1 ua (gL0 (bf_X26_isOver_1 ua) fu) w = _
                rw [hcomp, hcend 7 0 w2 (Or.inr ⟨rfl, rfl, ht⟩) h1, pu_B2]
                exact i1
              · have y9 : nI tried = nI 3 := by rw [ht]
                show bt_X2_compensates_1 (gL2 bt_X2_compensates_1 fu2) (nI i) (nI n) (tS σ s) = _
                generalize gL2 bt_X2_compensates_1 fu2 = KK at i2 ⊢
                unfold bt_X2_compensates_1
                rw [e7, pu_B2, pu_ld5 (by omega), pu_B1, g5, pu_Bd, if_pos y5]
                try dsimp only
                rw [e9, pu_B2, pu_ld5 (by omega), pu_B1, c7, pu_ld5 (by omega), pu_B1, m10, if_pos y4, e7, pu_B2, pu_ld5 (by omega), pu_B1, g5, k4, pu_B2, v2, pu_B2, if_neg y6, e8, pu_B2, pu_ld5 (by omega), pu_B1, h8ld, y8, pu_st5 (by omega), pu_B1, hs', e8, pu_B2, pu_ld5 (by omega), pu_B1, hs8, if_pos y9, h2, pu_B2]
                exact i2
            · -- once more
              have hs7 : s' (21 + 1262 * (i) + (622 + 10 * (n) + 7)) = nI t' := (hss _ (by omega) (by omega)).trans g5
              obtain ⟨w2, E, p1, p2, p3, p4, p5, p6, p7⟩ := sim_utries hWs (by omega) hn htN hu hu8 hs7 hta ha1 hdk1
              have hE' := hWs.2.2.2.2.2.2
              obtain ⟨s1, hs1⟩ : ∃ s1, upd (uNotes i (nI 5) (nI u) s') (21 + 1262 * (i) + (622 + 10 * (n) + 9)) (nI (T + E)) = s1 := ⟨_, rfl⟩
              rw [hs1] at p3 p5
              have hn1 : ∀ j, j ≠ (21 + 1262 * (i) + 9) → (j < (21 + 1262 * (i) + 22) ∨ (21 + 1262 * (i) + 622) ≤ j) → j ≠ (21 + 1262 * (i) + (622 + 10 * (n) + 9)) → s1 j = s' j := fun j a b c => by rw [← hs1, upd_ne c, uNotes_ne hE' (by omega) a b]
              have hn2 : ∀ j, ¬ (9 ≤ j ∧ j < 17) → j ≠ (21 + 1262 * (i) + 9) → (j < (21 + 1262 * (i) + 22) ∨ (21 + 1262 * (i) + 622) ≤ j) → j ≠ (21 + 1262 * (i) + (622 + 10 * (n) + 8)) → j ≠ (21 + 1262 * (i) + (622 + 10 * (n) + 9)) → s1 j = s j := fun j a b c d e => (hn1 j b c e).trans (hss j a d)
              have hrow : ∀ m k, m < 64 → k < 7 → s1 (21 + 1262 * (i) + (622 + 10 * (m) + k)) = s (21 + 1262 * (i) + (622 + 10 * (m) + k)) := fun m k a b => hn2 _ (by omega) (by omega) (by omega) (by omega) (by omega)
              have hstat : ∀ a ex, w.1 a = some ex → pStc tg a → w2.1 a = some ex := fun a ex hA hB' => (p7.at hWs.bd (hst1 a ex hA hB') (by
                rw [show tg a = (0, 100) from hB']
                rintro (z | z)
                · exact hia z.1.symm
                · exact absurd (congrArg Prod.snd z) (by simp))).1
              have hfor1 : rFor S i s1 n t' := (rFor_same hS hn (fun m hm => hrow m 0 hm (by omega))).mpr t1
              have hop1 : rOpen S i s1 t' := by
                have hop := g2
                unfold rOpen at hop ⊢
                rw [hrow t' 0 (by omega) (by omega), hrow t' 6 (by omega) (by omega)]
                exact hop
              have h17 : s1 (21 + 1262 * (i) + (622 + 10 * (n) + 7)) = nI t' := (hn1 _ (by omega) (by omega) (by omega)).trans hs7
              have h18 : s1 (21 + 1262 * (i) + (622 + 10 * (n) + 8)) = nI (tried + 1 - 1) := (hn1 _ (by omega) (by omega) (by omega)).trans hs8
              have h19 : s1 (21 + 1262 * (i) + (622 + 10 * (n) + 9)) = nI (T + E) := by rw [← hs1, upd_self]
              have h15 : s1 (21 + 1262 * (i) + (622 + 10 * (t') + 5)) = nI (L[l] + 1) := (hrow t' 5 (by omega) (by omega)).trans t4
              have hrel1 : uRel S i s1 n L (l + 1) := hr0.same hS hn (fun m hm => ⟨hrow m 0 hm (by omega), hrow m 5 hm (by omega)⟩) (Nat.le_refl _) (fun t2 hop' ht' => by
                unfold rOpen at hop' ⊢
                rw [hrow t2 0 ht' (by omega), hrow t2 6 ht' (by omega)] at hop'
                exact hop') (fun j k t' z1 z2 => absurd z1 (by omega))
              have hnw1 : uNw S i s1 n L (l + 1) (tried + 1) (nI (T + E)) := ⟨by omega, by omega, by omega, ⟨t', L[l], hfor1, hop1, hx, h15, h17⟩, h18, h19, T + E, rfl, by omega⟩
              obtain ⟨w3, s2, x, i1, i2, i3, i4, i5, i6, i7⟩ := ih w2 s1 (B + 1) (l + 1) (tried + 1) (nI (T + E)) fu fu2 (by omega) (by omega) (by omega) (by omega) p5 (by omega) ⟨⟨hta, td, tda, f, p4, htd, hstat _ _ hd1 htd, hte, hstat _ _ hd2 hte, hL⟩, hrel1, Or.inr hnw1⟩ (fun t2 a b c => hF t2 ((rFor_same hS hn (fun m hm => hrow m 0 hm (by omega))).mp a) b ((hrow t2 0 (by have := a.1; omega) (by omega)).symm.trans c))
              refine ⟨w3, s2, x, ?_, ?_, i3.mono (by omega), (i4.trans p6).trans hW1, (hP1.tr p7).tr i5, uQ.tr (fun j a b c d e => hn2 j (by omega) (by omega) (by omega) (by omega) (by omega)) i6, i7⟩
              · show bf_X26_isOver_1 ua (gL0 (bf_X26_isOver_1 ua) fu) w = _
                have y7 : ¬ nI 3 ≤ nI tried := nI_ge (by omega) (by omega)
                have hends : f_X26_ends ua (some dk) w = some ((), w2) := by
                  rw [hu] at hdk1 q2
                  unfold f_X26_ends
                  rw [pu_R (k := 0) ha rfl, pu_B1, pu_B1, pu_R (k := 0) q5 rfl, pu_B1, pu_B1, pu_I (k := 1) q2 rfl, pu_B1, pu_B1, pu_Ob k1, pu_B1, v1, pu_B2, pu_Bd, if_neg y6, pu_I (k := 3) ha1 rfl, pu_B1, if_neg y7, pu_Ob ha1, pu_B1, p2, pu_B2]
                rw [hcomp, hends, pu_B2]
                exact i1
              · have y9 : ¬ nI tried = nI 3 := fun z => ht ((nI_eq (by omega) (by omega)).mp z)
                show bt_X2_compensates_1 (gL2 bt_X2_compensates_1 fu2) (nI i) (nI n) (tS σ s) = _
                generalize gL2 bt_X2_compensates_1 fu2 = KK at i2 ⊢
                unfold bt_X2_compensates_1
                rw [e7, pu_B2, pu_ld5 (by omega), pu_B1, g5, pu_Bd, if_pos y5]
                try dsimp only
                rw [e9, pu_B2, pu_ld5 (by omega), pu_B1, c7, pu_ld5 (by omega), pu_B1, m10, if_pos y4, e7, pu_B2, pu_ld5 (by omega), pu_B1, g5, k4, pu_B2, v2, pu_B2, if_neg y6, e8, pu_B2, pu_ld5 (by omega), pu_B1, h8ld, y8, pu_st5 (by omega), pu_B1, hs', e8, pu_B2, pu_ld5 (by omega), pu_B1, hs8, if_neg y9, p3, pu_B2]
                exact i2
end UD
