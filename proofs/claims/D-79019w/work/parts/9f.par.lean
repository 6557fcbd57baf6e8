set_option maxRecDepth 100000
/-! READING: a parallel, its inside -/
theorem pFail.bk3 {R R' : Type} {L N0 M0 rd : Nat} {w w0 : gw} {σ σ0 : TS} {fr : Option (((Nat × Nat) ⊕ R) × gw)} {tr : Option (Int32 × TS)} {fr' : Option (((Nat × Nat) ⊕ R') × gw)} {tr' : Option (Int32 × TS)} (h : pFail L N0 M0 rd w σ fr tr) (hw : wF rd w0 w) (hf : ∀ q c v, fr = some (.inl (q, c), v) → fr' = some (.inl (q, c), v)) (ht' : ∀ v, tr = some (nI 0, v) → ∃ v', tr' = some (nI 0, v') ∧ v' 0 12 = v 0 12 ∧ v' 0 13 = v 0 13 ∧ tF σ0 v') : pFail L N0 M0 rd w0 σ0 fr' tr' := by
  obtain ⟨ea, c, w1, σ1, p, gs, h1, h2, h3, h4, h5, h6, h7, h8, h9, h10⟩ := h
  obtain ⟨σ2, e1, e2, e3, e4⟩ := ht' _ h2
  exact ⟨ea, c, w1, σ2, p, gs, hf _ _ _ h1, e1, hw.tr h3, e4, h5, by rw [e2]; exact h6, h7, h8, by rw [e3]; exact h9, h10⟩
section PR
variable {xa rd L N0 M0 p o nd : Nat} {S : SV} {tp : Nat → Nat} {W3 : gw} {σ3 : TS} {pl : Int32} {la : Nat}
/-- k bodies are read -/
def parT (xa rd L N0 M0 p o nd : Nat) (S : SV) (tp : Nat → Nat) (W3 : gw) (σ3 : TS) (pl : Int32) (la k : Nat) (S1 : SV) (tp1 : Nat → Nat) (W : gw) (σ : TS) (p1 it1 nd1 mo1 : Nat) (chf : Nat → Nat) : Prop :=
  pSt xa rd L N0 M0 W σ p1 (o + 1) it1 nd1 mo1 ∧ p < p1 ∧ wF rd W3 W ∧ tF σ3 σ ∧ nd + 1 ≤ nd1 ∧ nd1 ≤ 2 * it1 ∧ (W.2.1 + 5 ≤ W3.2.1 + 6 * (nd1 - nd) ∧ W.2.2.1 + 117 ≤ W3.2.2.1 + 120 * (nd1 - nd)) ∧ pG S1 (rr σ) nd1 it1 mo1 p1 ∧ agr S S1 0 nd ∧ (sKd S1 nd = 6 ∧ sLv S1 nd = 4 - o) ∧ (∀ b, b < W3.2.1 → tp1 b = tp b) ∧ 1000 ≤ tp1 rd ∧ (W.1 (W.2.2.2 5) = none ∧ W.2.2.2 5 < N0) ∧ (∀ m q, m < nd → q < 9 → rr σ m q = rr σ3 m q) ∧ (rr σ nd 0 = nI 6 ∧ (0 < k → rr σ nd 5 = nI (nd + 1)) ∧ rr σ nd 6 = rr σ3 nd 6 ∧ rr σ nd 7 = pl ∧ rr σ nd 8 = rr σ3 nd 8) ∧ KC S1 (rr σ) W tp1 N0 nd k nd1 chf (fun x => x = 0) (4 - (o + 1)) ∧ LI S1 W tp1 W3.2.1 nd la k chf
theorem par_fin {k q : Nat} {S1 : SV} {tp1 : Nat → Nat} {W V : gw} {σ σv τ : TS} {p1 pv it1 nd1 mo1 : Nat} {chf : Nat → Nat} (hT : parT xa rd L N0 M0 p o nd S tp W3 σ3 pl la k S1 tp1 W σ p1 it1 nd1 mo1 chf) (hk : 1 ≤ k) (hk4 : k ≤ 4) (ho : o < 4) (hnd : nd < 64) (hN3 : N0 ≤ W3.2.1) (hB1 : W3.2.1 ≤ N0 + 6 * nd + 4) (hB2 : W3.2.2.1 ≤ M0 + 120 * nd + 100) (hV : pSt xa rd L N0 M0 V σv pv (o + 1) it1 nd1 mo1) (hpv : p1 ≤ pv) (wV : wF rd W V) (zV : V.2 = W.2) (t8 : σv 8 = σ 8) (tτ : tF σ τ) (t12 : τ 0 12 = nI pv) (t13 : τ 0 13 = nI 1) (t14 : τ 0 14 = nI nd1) (t15 : τ 0 15 = nI it1) (t16 : τ 0 16 = nI o) (t17 : τ 0 17 = nI mo1) (hq : 1 ≤ q ∧ q ≤ k) (r1 : rr τ nd 1 = nI q) (rm : ∀ m c, m ≠ nd ∨ (c ≠ 1 ∧ c ≠ 2) → c < 9 → rr τ m c = rr σ m c) :
    opR xa rd L N0 M0 S tp p o nd W3 σ3 (gB2 (gNew V 14) fun a37 w38 => gB2 (f_X14_init a37 pl (some la) (nI q) w38) fun _ w39 => some (.inr (some a37), w39)) (some (nI 1, τ)) := by
  obtain ⟨h, g1, g2, g3, g4, g5, ⟨g6, g7⟩, g8, g9, ⟨g10, g11⟩, g12, g13, g14, g15, ⟨g16, g17, g18, g19, g20⟩, g21, g22⟩ := hT
  have v1 : V.2.1 = W.2.1 := by rw [zV]
  have v2 : V.2.2.1 = W.2.2.1 := by rw [zV]
  obtain ⟨-, -, -, -, -, -, -, -, n9, n10, n11, n12⟩ := hV.nums
  have hrl := hV.rdl
  have hNr := hV.room.2.2.2.2
  obtain ⟨V0, e0, q0, o0, z0, h0, w0⟩ := newc hV (ci := 14) (m := 3) (fs := [gi 0, ga none, gi 0]) rfl (by omega) (by omega) (by omega)
  obtain ⟨V1, e1, q1, o1, z1, b1⟩ := st_put (k := 0) q0 (by show 0 < 3; omega) h0.bd (gi pl)
  obtain ⟨V2, e2, q2, o2, z2, b2⟩ := st_put (k := 1) q1 (by show 1 < 3; omega) b1 (ga (some la))
  obtain ⟨V3, e3, q3, o3, z3, b3⟩ := st_put (k := 2) q2 (by show 2 < 3; omega) b2 (gi (nI q))
  have zz : V3.2 = (V.2.1 + 1, V.2.2.1 + 3, V.2.2.2) := by rw [z3, z2, z1, z0]
  have oV : ∀ b, b ≠ V.2.1 → V3.1 b = V.1 b := fun b hb => by rw [o3 b hb, o2 b hb, o1 b hb, o0 b hb]
  have hV3 : pSt xa rd L N0 M0 V3 σv pv (o + 1) it1 nd1 mo1 := hV.cp (B := V.2.1) hrl b3 (fun b hb => oV b (by omega)) (by rw [zz]) (by rw [zz]; show V.2.1 + 1 ≤ _; omega) (by rw [zz]; show V.2.2.1 + 3 ≤ _; omega)
  have wV3 : wF rd V V3 := ⟨b3, by rw [zz]; show V.2.1 ≤ V.2.1 + 1; omega, by rw [zz], fun b hb _ => oV b (by omega)⟩
  have hbW := h.bd
  have t9 : τ 0 9 = σv 0 9 := by
    rw [tτ.2.1 9 (by omega), h.nums.2.2.1, hV.nums.2.2.1]
  obtain ⟨tp4, htp4⟩ : ∃ tp4 : Nat → Nat, tp4 = fun x => if x < V.2.1 then tp1 x else nd := ⟨_, rfl⟩
  have tp4o : ∀ b, b < V.2.1 → tp4 b = tp1 b := fun b hb => by rw [htp4]; exact if_pos hb
  have hold : ∀ a x, W.1 a = some x → tp1 a < 1000 → V3.1 a = some x ∧ tp4 a = tp1 a := fun a x hx ht => by
    have ha := hbW _ _ hx
    have har : a ≠ rd := by
      rintro rfl
      omega
    exact ⟨(oV a (by omega)).trans ((wV.2.2.2 a ha har).trans hx), tp4o a (by omega)⟩
  have KC3 := g21.fr (S1 := S1) (r1 := rr τ) (w1 := V3) (tp1 := tp4) agr.rf (fun m c m1 m2 hc => rm m c (Or.inl (by omega)) hc) (fun a x hx _ t1 t2 => hold a x hx (by omega))
  obtain ⟨s1, s2, s3, s4, s5, s6⟩ := sSet_n S1 nd 6 k nd1 V.2.1 (4 - o) chf
  have aF : ∀ m, m ≠ nd → sEq S1 (sSet S1 nd 6 k nd1 V.2.1 (4 - o) chf) m := fun m hm => sSet_m S1 6 k nd1 V.2.1 (4 - o) chf hm
  have x7 : rr τ nd 7 = pl := (rm nd 7 (Or.inr (by omega)) (by omega)).trans g19
  have hsub := sub_of (sa := V.2.1) (lvn := 4 - o) KC3 (by omega) hk ((rm nd 0 (Or.inr (by omega)) (by omega)).trans g16) ((rm nd 5 (Or.inr (by omega)) (by omega)).trans (g17 hk)) (by
    unfold nKd
    rw [s2, s3, s6]
    refine Or.inr (Or.inr (Or.inr (Or.inr (Or.inr (Or.inr ⟨rfl, hk, hk4, ⟨q, hq.1, hq.2, r1⟩, fun j hj => ?_⟩)))))
    obtain ⟨-, -, y3⟩ := KC3
    obtain ⟨c1, c2, c3, c4, c5, c6, c7⟩ := y3 j hj
    obtain ⟨-, u2, -, -, -, u6⟩ := aF (chf j) (by omega)
    rw [s1, u2, u6, c6, c7]
    exact ⟨rfl, by omega⟩) (by
    unfold oR
    rw [s5, s2, s3]
    obtain ⟨l1, mc, ea, l2, l3⟩ := g22
    refine ⟨⟨by omega, by rw [htp4]; exact if_neg (by omega)⟩, Or.inr (Or.inr (Or.inr (Or.inr (Or.inr (Or.inr ?_)))))⟩
    rcases l3 with ⟨z, -⟩ | ⟨l3, cap, g, l4, l5, l6, l7, l8⟩
    · omega
    · have y2 := hold _ _ l2 (by rw [l1.2]; omega)
      have y7 := hold _ _ l7 (by rw [l3.2]; omega)
      refine ⟨rfl, la, g, ?_, ⟨⟨by have := l1.1; omega, y2.2.trans l1.2⟩, ea, cap, mc, ⟨by have := l3.1; omega, y7.2.trans l3.2⟩, y2.1, y7.1, l4, by omega⟩, fun j hj => ?_⟩
      · rw [x7, r1]
        exact q3
      · obtain ⟨-, -, y3⟩ := KC3
        obtain ⟨c1, -⟩ := y3 j hj
        rw [s1, (aF (chf j) (by omega)).2.2.2.2.1]
        exact l8 j hj)
  right
  refine ⟨V.2.1, V3, tPut τ 16 (nI (o + 1)), τ, pv, it1, nd1, mo1, sSet S1 nd 6 k nd1 V.2.1 (4 - o) chf, tp4, ?_, rfl, ⟨t16, fun j hj => (tPut_ne hj).symm, fun c hc => (tPut_r (by omega)).symm⟩, ?_, by omega, (g2.tr wV).tr wV3, (g3.tr tτ).put _ (by omega), by omega, g5, by rw [zz]; show V.2.1 + 1 + 3 ≤ _; omega, by rw [zz]; show V.2.2.1 + 3 + 60 ≤ _; omega, ?_, fun m m1 m2 => (g9 m m1 m2).tr (aF m (by omega)), fun b hb => ?_, fun m c hm hc => ?_, ?_, ?_, ?_, by rw [s2]; omega, s6, s5, by have := g2.2.1; omega, by rw [zz]; show V.2.1 < V.2.1 + 1; omega⟩
  · rw [e0, pu_B2]
    unfold f_X14_init f_X8_init_c14
    rw [e1, pu_B1, pu_B2, e2, pu_B1, e3, pu_B1, pu_B2]
  · exact hV3.re hV3.1 (fun _ _ => rfl) rfl b3 hV.nums.2.1 ((tPut_r (by omega)).trans ((tτ.1 8 (by omega)).trans t8.symm)) ((tPut_ne (by omega)).trans t9) ((tPut_ne (by omega)).trans t12) ((tPut_ne (by omega)).trans t13) ((tPut_ne (by omega)).trans t14) ((tPut_ne (by omega)).trans t15) (tPut_0 _ _ _) ((tPut_ne (by omega)).trans t17) n9 n10 n11 n12
  · rw [rr_eq (tPut_r (by omega))]
    refine g8.fr (fun m hm => ?_) (fun m hm => rm m 7 (Or.inr (by omega)) (by omega)) hpv
    by_cases hmn : m = nd
    · rw [hmn, s2, s6]
      exact ⟨g10.symm, g11.symm⟩
    · exact ⟨(aF m hmn).2.1, (aF m hmn).2.2.2.2.2⟩
  · have := g2.2.1
    rw [tp4o b (by omega), g12 b hb]
  · rw [rd_eq (tPut_r (by omega)), rm m c (Or.inl (by omega)) hc, g15 m c hm hc]
  · rw [rr_eq (tPut_r (by omega))]
    exact hsub
  · rw [rd_eq (tPut_r (by omega)), rm nd 6 (Or.inr (by omega)) (by omega), g18]
  · rw [rd_eq (tPut_r (by omega)), rm nd 8 (Or.inr (by omega)) (by omega), g20]
/-- the reference behind its loop's body, k bodies read -/
def parK (rec' : Int32 → Int32 → TS → Option (Int32 × TS)) (f2 nd k last : Nat) (w10 : TS) : Option (Int32 × TS) := gB2 (t_X2_takes (nI 124) w10) fun x15 w14 => if x15 = 0 then gB2 (t_X2_takes (nI 41) w14) fun x18 w17 => if x18 = 0 then some ((nI 0), w17) else gBd (tPut w17 16 ((w17 0 16) - (nI 1))) fun w20 => gB2 (t_X2_put (nI nd) (nI 1) (nI k) w20) fun _ w21 => gB2 (t_X2_takes (nI 113) w21) fun x23 w22 => gBd (fun (x26 : Int32) (x27 : Int32) (w25 : TS) => gB2 (t_X2_put x26 (nI 2) x27 w25) fun _ w28 => some ((nI 1), w28)) fun k24 => if x23 = 0 then k24 (nI nd) (nI k) w22 else gB2 (t_X2_takesDigit (nI 1) (nI k) w22) fun x31 w30 => if x31 = 0 then some ((nI 0), w30) else gB2 (t_X2_put (nI nd) (nI 1) (w30 0 18) w30) fun _ w33 => k24 (nI nd) (nI k) w33 else gL3 (bt_X2_readsParallel_1 rec') f2 (nI nd) (nI k) (nI last) w14
theorem parq_end {k f1 f2 last : Nat} {rec : Nat → gw → Option (((Nat × Nat) ⊕ Option Nat) × gw)} {rec' : Int32 → Int32 → TS → Option (Int32 × TS)} {S1 : SV} {tp1 : Nat → Nat} {W : gw} {σ : TS} {p1 it1 nd1 mo1 : Nat} {chf : Nat → Nat} (hT : parT xa rd L N0 M0 p o nd S tp W3 σ3 pl la k S1 tp1 W σ p1 it1 nd1 mo1 chf) (hk : 1 ≤ k) (hk4 : k ≤ 4) (ho : o < 4) (hnd : nd < 64) (hN3 : N0 ≤ W3.2.1) (hB1 : W3.2.1 ≤ N0 + 6 * nd + 4) (hB2 : W3.2.2.1 ≤ M0 + 120 * nd + 100) (hs : sG σ L p1 ≠ nI 124) (hf1 : 0 < f1) :
    opR xa rd L N0 M0 S tp p o nd W3 σ3 (gL2 (bf_X4_parallel_1 rd rec) f1 pl (some la) W) (parK rec' f2 nd k last σ) := by
  obtain ⟨f1, rfl⟩ : ∃ g, f1 = g + 1 := ⟨f1 - 1, by omega⟩
  have hT' := hT
  obtain ⟨h, g1, g2, g3, g4, g5, ⟨g6, g7⟩, g8, g9, ⟨g10, g11⟩, g12, g13, g14, g15, ⟨g16, g17, g18, g19, g20⟩, g21, g22⟩ := hT
  have hz : (nI 0 : Int32) = 0 := by decide
  have hz1 : ¬ (nI 1 : Int32) = 0 := by decide
  show opR xa rd L N0 M0 S tp p o nd W3 σ3 (bf_X4_parallel_1 rd rec (gL2 (bf_X4_parallel_1 rd rec) f1) pl (some la) W) _
  generalize gL2 (bf_X4_parallel_1 rd rec) f1 = KK
  rcases skips_s h (c := 124) (by omega) with ⟨z, -⟩ | ⟨-, a1, a2⟩
  · exact absurd z hs
  unfold bf_X4_parallel_1 parK
  rw [pu_Ob h.1, pu_B1, a1, pu_B2, if_pos hz, a2, pu_B2, if_pos hz, pu_Ob h.1, pu_B1]
  rcases sign_s (R := Int32) h (c := 41) (by omega) with ⟨W4, σ4, b1, b2, b3⟩ | ⟨b1, b2⟩
  rotate_left
  · left
    refine pFail.bk (fail_need (R := Int32) h b1 rfl) g2 g3 (fun q c v hv => ?_) (fun v hv => ?_)
    · rw [hv, gB2X_l]
    · rw [b2, pu_B2, if_pos hz]; exact hv
  obtain ⟨h4, w4, t4, s4, z4, -⟩ := b3
  have hla4 : ∃ f0 f1, W4.1 la = some (.inl (8, [f0, f1, gi (nI k)])) := by
    obtain ⟨l1, mc, ea, l2, -⟩ := g22
    have hla := h.bd _ _ l2
    exact ⟨_, _, (w4.2.2.2 la hla (by rintro rfl; have := l1.2; omega)).trans l2⟩
  obtain ⟨lf0, lf1, hla4⟩ := hla4
  obtain ⟨n1, n2, n3, n4, n5, n6, n7, n8, n9, n10, n11, n12⟩ := h4.nums
  -- the reference has closed already
  obtain ⟨σ6, hσ6⟩ : ∃ σ6, pX (tPut σ4 16 (nI o)) nd 1 (nI k) = σ6 := ⟨_, rfl⟩
  have r60 : ∀ j, σ6 0 j = tPut σ4 16 (nI o) 0 j := fun j => by rw [← hσ6, pX_r (by omega)]
  have r68 : σ6 8 = σ4 8 := by rw [← hσ6, pX_r (by omega), tPut_r (by omega)]
  have r6n : ∀ j, j ≠ 16 → σ6 0 j = σ4 0 j := fun j hj => (r60 j).trans (tPut_ne hj)
  have r616 : σ6 0 16 = nI o := (r60 16).trans (tPut_0 _ _ _)
  have r61 : rr σ6 nd 1 = nI k := by rw [← hσ6]; exact pX_s _ _ (by omega)
  have r6m : ∀ m c, m ≠ nd ∨ c ≠ 1 → c < 9 → rr σ6 m c = rr σ m c := fun m c hm hc => by
    rw [← hσ6, pX_n (by omega) hc hm, rd_eq (tPut_r (by omega)), rd_eq s4]
  have t6 : tF σ σ6 := by rw [← hσ6]; exact (t4.put _ (by omega)).pX _
  obtain ⟨W4', -, q4', o4', z4', b4'⟩ := st_put (k := 1) h4.1 (by show 1 < 4; omega) h4.bd (gi (nI o))
  have hB : pSt xa rd L N0 M0 W4' σ6 (p1 + 1) o it1 nd1 mo1 := h4.re q4' o4' z4' b4' n2 r68 (r6n 9 (by omega)) ((r6n 12 (by omega)).trans h4.t12) ((r6n 13 (by omega)).trans n4) ((r6n 14 (by omega)).trans n5) ((r6n 15 (by omega)).trans n6) r616 ((r6n 17 (by omega)).trans n8) n9 (by omega) n11 n12
  have sg6 : sG σ6 L (p1 + 1) = sG σ4 L (p1 + 1) := by
    unfold sG
    rw [r68]
  rw [b1, gB2X_r, pu_B1, pu_Ob hla4, pu_B1, pf_size hla4, pu_B2, b2, pu_B2, if_neg hz1, pu_Bd, n7, pu_sub (by omega), Nat.add_sub_cancel, put_t _ hnd (by omega), pu_B2, hσ6, takes_t hB, sg6, pu_Ob h4.1, pu_B1]
  rcases skips_s h4 (c := 113) (by omega) with ⟨c1, W5, σ5, c2, c3, c4⟩ | ⟨c1, c2, c3⟩
  · obtain ⟨h5, w5, t5, s5, z5, -⟩ := c4
    obtain ⟨m1, m2, m3, m4, m5, m6, m7, m8, m9, m10, m11, m12⟩ := h5.nums
    rw [c2, pu_B2, pu_Bd, if_neg hz1, if_pos c1, pu_B2, pu_Bd, if_neg hz1, pu_Ob h5.1, pu_B1, nI_add]
    -- the reference behind q
    obtain ⟨σ7, hσ7⟩ : ∃ σ7, tPut σ6 12 (nI (p1 + 1 + 1)) = σ7 := ⟨_, rfl⟩
    have r7n : ∀ j, j ≠ 12 → σ7 0 j = σ6 0 j := fun j hj => by rw [← hσ7, tPut_ne hj]
    have r7r : ∀ r, 1 ≤ r → σ7 r = σ6 r := fun r hr => by rw [← hσ7, tPut_r (by omega)]
    obtain ⟨W5', -, q5', o5', z5', b5'⟩ := st_put (k := 1) h5.1 (by show 1 < 4; omega) h5.bd (gi (nI o))
    have h58 : σ5 8 = σ4 8 := t5.1 8 (by omega)
    have hB7 : pSt xa rd L N0 M0 W5' σ7 (p1 + 1 + 1) o it1 nd1 mo1 := h5.re q5' o5' z5' b5' m2 ((r7r 8 (by omega)).trans (r68.trans h58.symm)) (by rw [r7n 9 (by omega), r6n 9 (by omega), n3, m3]) (by rw [← hσ7, tPut_0]) (by rw [r7n 13 (by omega), r6n 13 (by omega), n4]) (by rw [r7n 14 (by omega), r6n 14 (by omega), n5]) (by rw [r7n 15 (by omega), r6n 15 (by omega), n6]) (by rw [r7n 16 (by omega), r616]) (by rw [r7n 17 (by omega), r6n 17 (by omega), n8]) m9 (by omega) m11 m12
    have sg7 : sG σ7 L (p1 + 1 + 1) = sG σ5 L (p1 + 1 + 1) := by
      unfold sG
      rw [r7r 8 (by omega), r68, h58]
    rw [hσ7, digit_t hB7, sg7]
    rcases tk_f h5 (lo := 49) (hi := 48 + k) (by omega) (by omega) with ⟨c, W6, d1, d2, hp, d4, d3, e, q1, o1, z1, bb1⟩ | ⟨hr, e⟩
    · have hin : nI (48 + 1) ≤ sG σ5 L (p1 + 1 + 1) ∧ sG σ5 L (p1 + 1 + 1) ≤ nI (48 + k) := by
        rw [d4]
        exact ⟨nI_le d1 (by omega), nI_le d2 (by omega)⟩
      obtain ⟨y1, y2, y3, y4, y5⟩ := tOn_0 σ7 (sG σ5 L (p1 + 1 + 1) - nI 48) (p1 + 1 + 1)
      rw [e, gB2X_r, pu_Bd, nI_add, if_pos hin, pu_B2, if_neg hz1, y2, d4, pu_sub (by omega), put_t _ hnd (by omega), pu_B2]
      try dsimp only
      rw [put_t _ hnd (by omega), pu_B2]
      have h6 : pSt xa rd L N0 M0 W6 (tPut σ5 12 (nI (p1 + 1 + 1 + 1))) (p1 + 1 + 1 + 1) (o + 1) it1 nd1 mo1 := h5.mv hp q1 o1 z1 bb1 (tPut_0 _ _ _) (fun j hj _ => tPut_ne hj) (tPut_r (by omega))
      rw [show 1 + (c - 49) = c - 48 by omega]
      rw [d4, pu_sub (by omega)] at y1 y2 y3 y4 y5
      obtain ⟨τ, hτ⟩ : ∃ τ, pX (pX (tOn σ7 (nI (c - 48)) (p1 + 1 + 1)) nd 1 (nI (c - 48))) nd 2 (nI k) = τ := ⟨_, rfl⟩
      rw [hτ]
      have tn : ∀ j, j ≠ 12 → j ≠ 18 → τ 0 j = σ7 0 j := fun j j1 j2 => by
        rw [← hτ, pX_r (by omega), pX_r (by omega), y3 j j1 j2]
      refine par_fin hT' hk hk4 ho hnd hN3 hB1 hB2 h6 (by omega) ((w4.tr w5).tr (wF.of o1 z1 bb1)) (by rw [z1, z5, z4]) (by rw [tPut_r (by omega), h58]; exact t4.1 8 (by omega)) (by
        rw [← hτ, ← hσ7] at *
        exact ((((t6.put _ (by omega)).tr y5).pX _).pX _)) (by rw [← hτ, pX_r (by omega), pX_r (by omega), y1]) (by rw [tn 13 (by omega) (by omega), r7n 13 (by omega), r6n 13 (by omega), n4]) (by rw [tn 14 (by omega) (by omega), r7n 14 (by omega), r6n 14 (by omega), n5]) (by rw [tn 15 (by omega) (by omega), r7n 15 (by omega), r6n 15 (by omega), n6]) (by rw [tn 16 (by omega) (by omega), r7n 16 (by omega), r616]) (by rw [tn 17 (by omega) (by omega), r7n 17 (by omega), r6n 17 (by omega), n8]) (by omega) (by rw [← hτ, pX_n (by omega) (by omega) (Or.inr (by omega)), pX_s _ _ (by omega)]) (fun m q hm hq => by
        rw [← hτ, pX_n (by omega) hq (by omega), pX_n (by omega) hq (by omega), rd_eq (y4 1 (by omega)), rd_eq (r7r 1 (by omega)), r6m m q (by omega) hq])
    · left
      rw [if_neg hr, pu_B2, if_pos hz]
      refine pFail.bk3 (fail_need (R := Int32) h5 e rfl) ((g2.tr w4).tr w5) (fun q c v hv => ?_) (fun v hv => ?_)
      · rw [hv, gB2X_l]
      · injection hv with hv
        injection hv with _ hv
        subst hv
        refine ⟨σ7, rfl, ?_, ?_, ?_⟩
        · rw [hB7.t12, h5.t12]
        · rw [hB7.nums.2.2.2.1, m4]
        · rw [← hσ7]
          exact (g3.tr t6).put _ (by omega)
  · rw [c2, pu_B2, pu_Bd, if_pos hz, if_neg c1, pu_B2, pu_Bd, if_pos hz]
    try dsimp only
    rw [put_t _ hnd (by omega), pu_B2]
    refine par_fin hT' hk hk4 ho hnd hN3 hB1 hB2 h4 (by omega) w4 z4 (t4.1 8 (by omega)) (t6.pX _) (by rw [pX_r (by omega), r6n 12 (by omega), h4.t12]) (by rw [pX_r (by omega), r6n 13 (by omega), n4]) (by rw [pX_r (by omega), r6n 14 (by omega), n5]) (by rw [pX_r (by omega), r6n 15 (by omega), n6]) (by rw [pX_r (by omega), r616]) (by rw [pX_r (by omega), r6n 17 (by omega), n8]) (by omega) (by rw [pX_n (by omega) (by omega) (Or.inr (by omega)), r61]) (fun m q hm hq => by
      rw [pX_n (by omega) hq (by omega), r6m m q (by omega) hq])
end PR
