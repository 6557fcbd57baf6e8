set_option maxRecDepth 100000
/-! READING: an item -/
section I2
variable {xa rd L N0 M0 p o it nd mo : Nat} {w : gw} {σ : TS} {S : SV} {tp : Nat → Nat}
/-- the way out of what was opened -/
theorem open_fin {W0 W3 : gw} {σ0 σ3 : TS} {ar : Int32} {mo3 : Nat} {x : Option (((Nat × Nat) ⊕ Option Nat) × gw)} {tr : Option (Int32 × TS)} (hC : rdC xa rd L N0 M0 S tp w σ p o it nd mo) (ho : o < 4) (hw0 : wF rd w W0) (hz0 : W0.2 = w.2) (ht0 : tF σ σ0) (r8 : rr σ0 nd 8 = ar) (r6 : rr σ0 nd 6 = -1) (rm : ∀ m q, m ≠ nd → q < 9 → rr σ0 m q = rr σ m q) (hw3 : wF rd W0 W3) (hz3 : W3.2 = W0.2) (ht3 : tF σ0 σ3) (hr3 : σ3 1 = σ0 1) (h : opR xa rd L N0 M0 S tp p o nd W3 σ3 x tr) :
    rdR xa rd L N0 M0 S tp w σ p o it nd mo (fun k => k ≠ 0) ar (rr σ) (gB2X x (fun q39 n40 w41 => if n40 = 6 then (gB1 (gPut w41 rd 4 2 (gi (nI 0))) fun w24 => gB1 (some q39) fun a25 => gB1 (gKl w24 a25) fun n26 => gB1 (gI w24 rd 4 1) fun x27 => gB1 (gPut w24 rd 4 1 (gi (x27 - (nI 1)))) fun w28 => gB1 (gKl w28 a25) fun n29 => some (.inl (a25, n29), w28)) else if n40 = 7 then (gB1 (gPut w41 rd 4 2 (gi (nI 0))) fun w24 => gB1 (some q39) fun a25 => gB1 (gKl w24 a25) fun n26 => gB1 (gI w24 rd 4 1) fun x27 => gB1 (gPut w24 rd 4 1 (gi (x27 - (nI 1)))) fun w28 => gB1 (gKl w28 a25) fun n29 => some (.inl (a25, n29), w28)) else none) (fun r42 w37 => gB1 (gI w37 rd 4 1) fun x19 => gB1 (gPut w37 rd 4 1 (gi (x19 - (nI 1)))) fun w20 => some (.inr r42, w20))) tr := by
  obtain ⟨c1, c2, c3, c4, c5, c6⟩ := hC
  have hz : W3.2 = w.2 := hz3.trans hz0
  have hrl := c1.rdl
  rcases h with h | ⟨a, Wj, σe, τ, p1, it1, nd1, mo1, S1, tp1, i1, i2, ⟨u1, u2, u3⟩, h1, i4, w9, t9, i7, i8, i9, i10, i11, i12, i13, i14, i15, i16, i17, i18, i19, i20, i21, i22⟩
  · exact Or.inl (open_fail h (hw0.tr hw3) (ht0.tr ht3) c1.room.2.2.2.2 (fun _ hv => hv) _)
  · obtain ⟨n1, n2, n3, n4, n5, n6, n7, n8, n9, n10, n11, n12⟩ := h1.nums
    obtain ⟨Wf, e, q, o1, z, b⟩ := st_put (k := 1) h1.1 (by show 1 < 4; omega) h1.bd (gi (nI (o + 1) - nI 1))
    have hq : nI (o + 1) - nI 1 = nI o := by rw [pu_sub (by omega), Nat.add_sub_cancel]
    rw [hz] at i9 i10 i13 i21
    have hf : pSt xa rd L N0 M0 Wf τ p1 o it1 nd1 mo1 := h1.re (by rw [← hq]; exact q) o1 z b n2 (u3 8 (by omega)) (u2 9 (by omega)) ((u2 12 (by omega)).trans h1.t12) ((u2 13 (by omega)).trans n4) ((u2 14 (by omega)).trans n5) ((u2 15 (by omega)).trans n6) u1 ((u2 17 (by omega)).trans n8) n9 (by omega) n11 n12
    have hrr : rr τ = rr σe := rr_eq (u3 1 (by omega))
    have htp1 : 1000 ≤ tp1 rd := by
      rw [i13 rd hrl]
      exact c6
    refine Or.inr ⟨a, Wf, τ, p1, it1, nd1, mo1, S1, tp1, ?_, i2, hf, i4, ((hw0.tr hw3).tr w9).tr (wF.of o1 z b), ⟨fun r hr => (u3 r (by omega)).trans (((ht0.tr ht3).tr t9).1 r hr), fun j hj => (u2 j (by omega)).trans (((ht0.tr ht3).tr t9).2.1 j hj), fun j hj => by rw [u3 1 (by omega)]; exact ((ht0.tr ht3).tr t9).2.2 j hj⟩, i7, i8, by rw [z]; exact i9, by rw [z]; exact i10, by rw [hrr]; exact i11, i12, i13, fun m q hm hq => ?_, ?_, ?_, ?_, i18, i19, i20, i21, by rw [z]; exact i22⟩
    · rw [i1, gB2X_r, pu_I (k := 1) h1.1 rfl, pu_B1, e, pu_B1]
    · rw [hrr, i14 m q hm hq, rd_eq hr3, rm m q (by omega) hq]
    · rw [hrr]
      refine i15.fr agr.rf (fun _ _ _ _ _ _ => rfl) (fun a' x hx _ _ t2 => ⟨?_, rfl⟩)
      rw [o1 a' (by rintro rfl; omega)]
      exact hx
    · rw [hrr, i16, rd_eq hr3, r6]
    · rw [hrr, i17, rd_eq hr3, r8]
theorem opened_s {W0 : gw} {σ0 : TS} {kd : Nat} {ar : Int32} {rec : Nat → gw → Option (((Nat × Nat) ⊕ Option Nat) × gw)} {rec' : Int32 → Int32 → TS → Option (Int32 × TS)} (hrec : hRec xa rd L N0 M0 (o + 1) rec rec') (hC : rdC xa rd L N0 M0 S tp w σ p o it nd mo) (ho : o < 4) (hkd : kd = 5 ∧ sG σ L p = nI 91 ∨ kd = 6 ∧ sG σ L p = nI 40) (hnd : nd ≤ 2 * it + 1) (h0 : pSt xa rd L N0 M0 W0 σ0 p o (it + 1) (nd + 1) mo) (hw0 : wF rd w W0) (hz0 : W0.2 = w.2) (ht0 : tF σ σ0) (r0 : rr σ0 nd 0 = nI kd) (r7 : rr σ0 nd 7 = nI p) (r8 : rr σ0 nd 8 = ar) (r6 : rr σ0 nd 6 = -1) (rm : ∀ m q, m ≠ nd → q < 9 → rr σ0 m q = rr σ m q) :
    rdR xa rd L N0 M0 S tp w σ p o it nd mo (fun k => k ≠ 0) ar (rr σ) (f_X4_opened rec rd (nI p) W0) (if kd = 5 then t_X2_readsChoice rec' (nI nd) σ0 else t_X2_readsParallel rec' (nI nd) σ0) := by
  have hC' := hC
  obtain ⟨c1, c2, c3, c4, c5, c6⟩ := hC
  have s8 : σ0 8 = σ 8 := ht0.1 8 (by omega)
  have hsg : sG σ0 L p = sG σ L p := by
    unfold sG
    rw [s8]
  have hp : p < L := by
    rcases hkd with z | z
    · exact sG_eq c1 z.2 (by omega)
    · exact sG_eq c1 z.2 (by omega)
  obtain ⟨W, W3, σ3, e1, e2, ⟨f2, e3⟩, e4, e5, h3, w3, z3, t3, s3⟩ := open1 h0 ho hp
  have hW : W3.2.1 = w.2.1 := by rw [z3, hz0]
  have hW2 : W3.2.2.1 = w.2.2.1 := by rw [z3, hz0]
  have hWK : W3.2.2.2 = w.2.2.2 := by rw [z3, hz0]
  obtain ⟨q1, q2, q3, q4, q5, q6⟩ := sSet_n S nd kd 0 0 0 (4 - o) (fun _ => 0)
  have aS : ∀ m, m < nd → sEq S (sSet S nd kd 0 0 0 (4 - o) (fun _ => 0)) m := fun m hm => sSet_m S kd 0 0 0 (4 - o) (fun _ => 0) (by omega)
  have hk56 : kd = 5 ∨ kd = 6 := hkd.elim (fun z => Or.inl z.1) (fun z => Or.inr z.1)
  have hG3 : pG (sSet S nd kd 0 0 0 (4 - o) (fun _ => 0)) (rr σ3) (nd + 1) (it + 1) (max mo (o + 1)) (p + 1) := by
    have hadd := pG.add (S := sSet S nd kd 0 0 0 (4 - o) (fun _ => 0)) (r := rr σ3) (mo1 := max mo (o + 1)) (P1 := p + 1) (c2.fr (fun m hm => ⟨(aS m hm).2.1, (aS m hm).2.2.2.2.2⟩) (fun m hm => by rw [rd_eq s3, rm m 7 (by omega) (by omega)]) (Nat.le_refl _)) (by rw [rd_eq s3]; exact r7) (by omega) (fun _ => by omega) (by
      rw [q2, if_pos hk56, q6, show 5 - (4 - o) = o + 1 by omega]) (by rw [q6]; omega)
    rw [q2, if_neg (by omega)] at hadd
    exact hadd
  have hK5 : W3.1 (W3.2.2.2 5) = none ∧ W3.2.2.2 5 < N0 := by
    rw [hWK]
    exact ⟨((hw0.tr w3).2.2.2 _ (by have := c1.rdl; have := c1.room.2.2.2.2; omega) (by have := c1.room.2.2.2.2; omega)).trans c5.1, c5.2⟩
  have hle : ¬ nI 4 ≤ nI o := nI_ge ho (by omega)
  unfold f_X4_opened
  rw [pu_I (k := 1) h0.1 rfl, pu_B1, pu_Bd, if_neg hle]
  try dsimp only
  rw [pu_B1, pu_Ob h0.1, pu_B1, limits_1, gB2X_r, pu_I (k := 1) h0.1 rfl, pu_B1, e1, pu_B1, pu_Ob e3, pu_B1, e2, pu_B2, pu_Bd, pu_Bd, hsg]
  rcases hkd with ⟨rfl, hs⟩ | ⟨rfl, hs⟩
  · rw [if_pos hs, if_pos rfl, pu_Ob e3, pu_B1]
    try dsimp only
    refine open_fin (mo3 := 0) hC' ho hw0 hz0 ht0 r8 r6 rm w3 z3 t3 s3 ?_
    refine choice_s (w := w) (it := it + 1) (mo := max mo (o + 1)) hrec ho ⟨f2, e3⟩ e4 h3 (by omega) (by omega) (by omega) hK5 c6 (by rw [rd_eq s3]; exact r0) (by rw [rd_eq s3]; exact r7) rfl hG3 rfl ?_
    unfold t_X2_readsChoice
    exact e5 _
  · rw [if_neg (by rw [hs]; decide), if_neg (by omega), pu_Ob e3, pu_B1]
    try dsimp only
    refine open_fin (mo3 := 0) hC' ho hw0 hz0 ht0 r8 r6 rm w3 z3 t3 s3 ?_
    refine par_s (it := it + 1) (mo := max mo (o + 1)) hrec ho ⟨f2, e3⟩ e4 h3 (by omega) (by omega) (by omega) hK5 c6 (by rw [rd_eq s3]; exact r0) (by rw [rd_eq s3]; exact r7) hG3 ?_
    rw [t_X2_readsParallel_eq]
    exact e5 _
theorem item_s {b : Nat} {rec : Nat → gw → Option (((Nat × Nat) ⊕ Option Nat) × gw)} {rec' : Int32 → Int32 → TS → Option (Int32 × TS)} (hrec : o < 4 → hRec xa rd L N0 M0 (o + 1) rec rec') (hC : rdC xa rd L N0 M0 S tp w σ p o it nd mo) (hnd : nd ≤ 2 * it + 1) : rdR xa rd L N0 M0 S tp w σ p o it nd mo (fun k => k ≠ 0) (nI b) (rr σ) (f_X4_item rec rd w) (t_X2_readsItem rec' (nI b) σ) := by
  have hC' := hC
  obtain ⟨c1, c2, c3, c4, c5, c6⟩ := hC
  have hz : (nI 0 : Int32) = 0 := by decide
  have hz1 : ¬ (nI 1 : Int32) = 0 := by decide
  obtain ⟨n1, n2, n3, n4, n5, n6, n7, n8, n9, n10, n11, n12⟩ := c1.nums
  unfold f_X4_item t_X2_readsItem
  rw [pu_Ob c1.1, pu_B1, here_t c1, pu_B2]
  by_cases hi : isIt (sG σ L p)
  rotate_left
  · left
    rw [(isIt_f c1).2 hi, pu_B2, (isIt_t _ σ).2 hi, pu_B2, if_pos hz, pu_Ob c1.1, pu_B1]
    exact fail_need c1 (fun v hv => by rw [hz, hv, gB2X_l]) rfl
  rw [(isIt_f c1).1 hi, pu_B2, (isIt_t _ σ).1 hi, pu_B2, if_neg hz1, pu_Ob c1.1, pu_B1, need_1, gB2X_r, pu_I (k := 2) c1.1 rfl, pu_B1, pu_Bd, pu_Bd, n6]
  have hp : p < L := by
    rcases hi with z | z | z | z | z | z <;> exact sG_eq c1 z (by omega)
  have hmuch : ∀ {β : Type} (K : Int32 → TS → Option β), (gB2 (t_X2_isTooMuch σ) fun x9 w8 => gB1 (gZ x9) fun _ => K x9 w8) = K (nI 0) (tPut σ 13 (nI 2)) := fun K => by
    unfold t_X2_isTooMuch
    rw [pu_Bd, pu_B2, gZ_0, pu_B1]
  by_cases hit : it < 24
  rotate_left
  · obtain rfl : it = 24 := by omega
    left
    rw [if_pos (nI_le (Nat.le_refl _) (by omega)), if_pos rfl]
    try dsimp only
    rw [hmuch, pu_B1, pu_Ob c1.1, pu_B1]
    exact fail_limits c1 (fun v hv => by rw [hz, hv, gB2X_l]) rfl
  rw [if_neg (nI_ge hit (by omega)), if_neg (fun z => by
    have := (nI_eq (by omega) (by omega)).mp z
    omega)]
  try dsimp only
  rw [pu_B1, pu_Ob c1.1, pu_B1, limits_1, gB2X_r, pu_I (k := 2) c1.1 rfl, pu_B1]
  have hni : ∀ kd, ∃ W σ1, gPut w rd 4 2 (gi (nI it + nI 1)) = some W ∧ t_X2_makes (nI kd) (nI b) (tPut σ 15 (σ 0 15 + nI 1)) = some (nI nd, σ1) ∧ pSt xa rd L N0 M0 W σ1 p o (it + 1) (nd + 1) mo ∧ wF rd w W ∧ W.2 = w.2 ∧ tF σ σ1 ∧ rr σ1 nd 0 = nI kd ∧ rr σ1 nd 7 = nI p ∧ rr σ1 nd 8 = nI b ∧ (∀ q, q < 9 → q ≠ 0 → q ≠ 7 → q ≠ 8 → rr σ1 nd q = -1) ∧ ∀ m q, m ≠ nd → q < 9 → rr σ1 m q = rr σ m q := fun kd => new_item c1 hit (by omega) kd (nI b)
  obtain ⟨W, σx, e1, -, hx, w1, z1, -⟩ := hni 1
  have h8x : sG σx L p = sG σ L p := by
    obtain ⟨W', σ', e1', -, hx', -, -, tx, -⟩ := hni 1
    have hs := sign_f hx
    obtain ⟨-, ⟨ta, f2, f3, f4, f5, f6, ft, y2, y3, -, y4⟩, -⟩ := hx
    obtain ⟨-, ⟨ta', f2', f3', f4', f5', f6', ft', y2', y3', -, y4'⟩, -⟩ := hx'
    unfold sG
    rw [if_pos hp, if_pos hp]
    rw [e1] at e1'
    obtain rfl := Option.some.inj e1'
    rw [y2] at y2'
    injection y2' with y2'
    injection y2' with y2'
    injection y2' with _ y2'
    injection y2' with y2' _
    have hta : ta = ta' := by
      injection y2' with y2'
      injection y2' with y2'
      injection y2' with y2'
    rw [← hta, y3] at y3'
    injection y3' with y3'
    injection y3' with y3'
    injection y3' with _ y3'
    injection y3' with _ y3'
    injection y3' with y3'
    rw [← (y4 p hp).1, y3', (y4' p hp).1, tx.1 8 (by omega)]
  rw [e1, pu_B1, pu_I (k := 0) hx.1 rfl, pu_B1, pu_Ob hx.1, pu_B1, sign_f hx, pu_B2, h8x]
  have hW1 : W.2.1 = w.2.1 := by rw [z1]
  have hW2 : W.2.2.1 = w.2.2.1 := by rw [z1]
  have hni2 : ∀ kd, ∃ σ1, t_X2_makes (nI kd) (nI b) (tPut σ 15 (nI it + nI 1)) = some (nI nd, σ1) ∧ pSt xa rd L N0 M0 W σ1 p o (it + 1) (nd + 1) mo ∧ tF σ σ1 ∧ rr σ1 nd 0 = nI kd ∧ rr σ1 nd 7 = nI p ∧ rr σ1 nd 8 = nI b ∧ (∀ q, q < 9 → q ≠ 0 → q ≠ 7 → q ≠ 8 → rr σ1 nd q = -1) ∧ ∀ m q, m ≠ nd → q < 9 → rr σ1 m q = rr σ m q := fun kd => by
    obtain ⟨W', σ', e1', m1, hx', -, -, m2, m3, m4, m5, m6, m7⟩ := hni kd
    rw [e1] at e1'
    obtain rfl := Option.some.inj e1'
    rw [n6] at m1
    exact ⟨σ', m1, hx', m2, m3, m4, m5, m6, m7⟩
  have leafk : ∀ kd fr tr (G : Int32 → TS → Option (Int32 × TS)), (kd = 1 ∨ kd = 2 ∨ kd = 3 ∨ kd = 4) → (∀ σ1, pSt xa rd L N0 M0 W σ1 p o (it + 1) (nd + 1) mo → rr σ1 nd 2 = -1 → rr σ1 nd 4 = -1 → lfR xa rd L N0 M0 W σ1 p o (it + 1) (nd + 1) mo nd kd (nI p) fr (G (nI nd) σ1)) → tr = (gB2 (t_X2_makes (nI kd) (nI b) (tPut σ 15 (nI it + nI 1))) fun x25 w24 => gB2 (G x25 w24) fun x27 w26 => gB1 (gZ x27) fun _ => some (x27, w26)) → rdR xa rd L N0 M0 S tp w σ p o it nd mo (fun k => k ≠ 0) (nI b) (rr σ) fr tr := by
    intro kd fr tr G hkd hl htr
    obtain ⟨σ1, m1, hx', m2, m3, m4, m5, m6, m7⟩ := hni2 kd
    have := hl σ1 hx' (m6 2 (by omega) (by omega) (by omega) (by omega)) (m6 4 (by omega) (by omega) (by omega) (by omega))
    have h2 := leaf_fin hC' n10 hkd hnd w1 z1 m2 m3 m4 m5 (m6 5 (by omega) (by omega) (by omega) (by omega)) (m6 6 (by omega) (by omega) (by omega) (by omega)) m7 this
    rw [htr, m1, pu_B2]
    rcases h2 with ⟨ea, c, v1, τ, p9, gs, y1, y2, y3⟩ | ⟨a, V, τ, p1, it1, nd1, mo1, S1, tp1, y1, y2, y3⟩
    · exact Or.inl ⟨ea, c, v1, τ, p9, gs, y1, gZ_id y2 (Or.inl rfl), y3⟩
    · exact Or.inr ⟨a, V, τ, p1, it1, nd1, mo1, S1, tp1, y1, gZ_id y2 (Or.inr rfl), y3⟩
  have openk : ∀ kd tr (G : Int32 → TS → Option (Int32 × TS)), (kd = 5 ∧ sG σ L p = nI 91 ∨ kd = 6 ∧ sG σ L p = nI 40) → (∀ v τ, G v τ = if kd = 5 then t_X2_readsChoice rec' v τ else t_X2_readsParallel rec' v τ) → tr = (if nI o = nI 4 then (gB2 (t_X2_isTooMuch σ) fun x9 w8 => gB1 (gZ x9) fun _ => some (x9, w8)) else gB2 (t_X2_makes (nI kd) (nI b) (tPut σ 15 (nI it + nI 1))) fun x25 w24 => gB2 (G x25 w24) fun x27 w26 => gB1 (gZ x27) fun _ => some (x27, w26)) → rdR xa rd L N0 M0 S tp w σ p o it nd mo (fun k => k ≠ 0) (nI b) (rr σ) (f_X4_opened rec rd (nI p) W) tr := by
    intro kd tr G hkd hG htr
    obtain ⟨σ1, m1, hx', m2, m3, m4, m5, m6, m7⟩ := hni2 kd
    by_cases ho : o < 4
    · have h2 := opened_s (hrec ho) hC' ho hkd hnd hx' w1 z1 m2 m3 m4 m5 (m6 6 (by omega) (by omega) (by omega) (by omega)) m7
      rw [htr, if_neg (fun z => by
        have := (nI_eq (by omega) (by omega)).mp z
        omega), m1, pu_B2]
      rw [← hG] at h2
      rcases h2 with ⟨ea, c, v1, τ, p9, gs, y1, y2, y3⟩ | ⟨a, V, τ, p1, it1, nd1, mo1, S1, tp1, y1, y2, y3⟩
      · exact Or.inl ⟨ea, c, v1, τ, p9, gs, y1, gZ_id y2 (Or.inl rfl), y3⟩
      · exact Or.inr ⟨a, V, τ, p1, it1, nd1, mo1, S1, tp1, y1, gZ_id y2 (Or.inr rfl), y3⟩
    · obtain rfl : o = 4 := by omega
      left
      rw [htr, if_pos rfl, hmuch]
      refine pFail.bk3 (fail_limits (R := Option Nat) hx' (fun v hv => ?_) rfl) w1 (fun _ _ _ hv => hv) (fun v hv => ?_)
      · unfold f_X4_opened
        rw [pu_I (k := 1) hx'.1 rfl, pu_B1, pu_Bd, if_pos (nI_le (Nat.le_refl _) (by omega))]
        try dsimp only
        rw [pu_B1, pu_Ob hx'.1, pu_B1, hz, hv, gB2X_l]
      · injection hv with hv
        injection hv with _ hv
        subst hv
        exact ⟨_, rfl, by rw [tPut_ne (by omega), tPut_ne (by omega), c1.t12, hx'.t12], by rw [tPut_0, tPut_0], tF.rf.put _ (by omega)⟩
  rcases hi with s | s | s | s | s | s
  · -- t
    rw [s, if_neg (by decide), if_pos rfl, pu_Ob hx.1, pu_B1, idX, pu_Bd, pu_Bd, if_neg (by decide), if_neg (by decide)]
    try dsimp only
    rw [n6, pu_Bd, if_neg (by decide), if_neg (by decide), if_pos rfl]
    exact leafk 1 _ _ (fun v τ => t_X2_readsTask v τ) (Or.inl rfl) (fun σ1 g1 g2 g4 => task_s g1 hp (by omega) (by omega) (by omega) g4) rfl
  · -- w
    rw [s, if_neg (by decide), if_neg (by decide), if_neg (by decide), if_neg (by decide), if_pos rfl, pu_Bd, pu_Bd, if_neg (by decide), if_neg (by decide)]
    try dsimp only
    rw [n6, pu_Bd, if_neg (by decide), if_neg (by decide), if_neg (by decide), if_pos rfl]
    exact leafk 2 _ _ (fun v τ => t_X2_readsWait v τ) (Or.inr (Or.inl rfl)) (fun σ1 g1 g2 g4 => wait_s g1 hp (by omega) (by omega) (by omega)) rfl
  · -- s
    rw [s, if_pos rfl, pu_Bd, pu_Bd, if_neg (by decide), if_neg (by decide)]
    try dsimp only
    rw [n6, pu_Bd, if_neg (by decide), if_pos rfl]
    exact leafk 3 _ _ (fun v τ => t_X2_readsSignal v τ) (Or.inr (Or.inr (Or.inl rfl))) (fun σ1 g1 g2 g4 => await_s g1 hp (by omega) (by omega) (by omega) g2) rfl
  · -- x
    rw [s, if_neg (by decide), if_neg (by decide), if_neg (by decide), if_neg (by decide), if_neg (by decide), if_pos rfl, pu_Ob hx.1, pu_B1, idX, pu_Bd, pu_Bd, if_neg (by decide), if_neg (by decide)]
    try dsimp only
    rw [n6, pu_Bd, if_neg (by decide), if_neg (by decide), if_neg (by decide), if_neg (by decide), if_pos rfl]
    exact leafk 4 _ _ (fun v τ => t_X2_readsSet v τ) (Or.inr (Or.inr (Or.inr rfl))) (fun σ1 g1 g2 g4 => assign_s g1 hp (by omega) (by omega) (by omega)) rfl
  · -- [
    have s' := s
    rw [s, if_neg (by decide), if_neg (by decide), if_neg (by decide), if_neg (by decide), if_neg (by decide), if_neg (by decide), pu_Ob hx.1, pu_B1, idX, pu_Bd, pu_Bd, if_pos rfl]
    try dsimp only
    rw [n7, n6, pu_Bd, if_pos rfl]
    exact openk 5 _ (fun v τ => t_X2_readsChoice rec' v τ) (Or.inl ⟨rfl, s'⟩) (fun v τ => (if_pos rfl).symm) rfl
  · -- (
    have s' := s
    rw [s, if_neg (by decide), if_neg (by decide), if_neg (by decide), if_neg (by decide), if_neg (by decide), if_neg (by decide), pu_Ob hx.1, pu_B1, idX, pu_Bd, pu_Bd, if_neg (by decide), if_pos rfl]
    try dsimp only
    rw [n7, n6, pu_Bd]
    refine openk 6 _ (fun v τ => t_X2_readsParallel rec' v τ) (Or.inr ⟨rfl, s'⟩) (fun v τ => (if_neg (by omega)).symm) ?_
    by_cases h4 : nI o = nI 4
    · rw [if_pos h4, if_pos h4]
    · rw [if_neg h4, if_neg h4, if_neg (by decide), if_neg (by decide), if_neg (by decide), if_neg (by decide), if_neg (by decide)]
end I2
