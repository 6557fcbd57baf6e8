set_option maxRecDepth 100000
/-! READING: a body in whole; all levels -/
section B2
variable {xa rd L N0 M0 p o nd : Nat} {S : SV} {tp : Nat → Nat} {w : gw} {σ : TS} {ar : Int32} {rl : Nat → Nat → Int32} {ab la : Nat}
theorem bod_fin {k it mo : Nat} {S1 : SV} {tp1 : Nat → Nat} {W : gw} {σ1 : TS} {p1 it1 nd1 mo1 : Nat} {chf : Nat → Nat} (hT : bodT xa rd L N0 M0 p o nd S tp w σ ar rl ab la k S1 tp1 W σ1 p1 it1 nd1 mo1 chf) (hk : 1 ≤ k) (hN3 : N0 ≤ w.2.1) : rdR xa rd L N0 M0 S tp w σ p o it nd mo (fun x => x = 0) ar rl (some (.inr (some ab), W)) (some (nI 1, σ1)) := by
  obtain ⟨h, g1, g2, g3, g4, g5, ⟨g6, g7⟩, g8, g9, ⟨g10, g11⟩, g12, g13, g14, g15, ⟨g16, g17, g18, g20⟩, ⟨g23, g24, g25⟩, g26, g21, g22⟩ := hT
  rw [if_neg (by omega)] at g5
  obtain ⟨s1, s2, s3, s4, s5, s6⟩ := sSet_n S1 nd 0 k nd1 ab (4 - o) chf
  have aF : ∀ m, m ≠ nd → sEq S1 (sSet S1 nd 0 k nd1 ab (4 - o) chf) m := fun m hm => sSet_m S1 0 k nd1 ab (4 - o) chf hm
  have hsub := sub_of (sa := ab) (lvn := 4 - o) g21 (by omega) hk g16 (g17 hk) (by
    unfold nKd
    rw [s2, s3, s6]
    refine Or.inl ⟨rfl, hk, fun j hj => ?_⟩
    obtain ⟨-, -, y3⟩ := g21
    obtain ⟨c1, c2, c3, c4, c5, c6, c7⟩ := y3 j hj
    obtain ⟨-, u2, -, -, -, u6⟩ := aF (chf j) (by omega)
    rw [s1, u2, u6, c7]
    exact ⟨c6, rfl⟩) (by
    unfold oR
    rw [s5, s2, s3]
    obtain ⟨l1, mc, ea, l2, l3⟩ := g22
    refine ⟨⟨by omega, g24⟩, Or.inl ?_⟩
    rcases l3 with ⟨z, -⟩ | ⟨l3, cap, g, l4, l5, l6, l7, l8⟩
    · omega
    · refine ⟨rfl, la, g, g23, ⟨⟨by have := l1.1; omega, l1.2⟩, ea, cap, mc, ⟨by have := l3.1; omega, l3.2⟩, l2, l7, l4, by omega⟩, fun j hj => ?_⟩
      obtain ⟨-, -, y3⟩ := g21
      obtain ⟨c1, -⟩ := y3 j hj
      rw [s1, (aF (chf j) (by omega)).2.2.2.2.1]
      exact l8 j hj)
  refine Or.inr ⟨ab, W, σ1, p1, it1, nd1, mo1, sSet S1 nd 0 k nd1 ab (4 - o) chf, tp1, rfl, rfl, h, g1 hk, g2, g3, by omega, by omega, by omega, by omega, ?_, fun m m1 m2 => (g9 m m1 m2).tr (aF m (by omega)), g12, g15, hsub, g18, g20, s2, s6, s5, g25, h.bd _ _ g23⟩
  refine g8.fr (fun m hm => ?_) (fun _ _ => rfl) (Nat.le_refl _)
  by_cases hmn : m = nd
  · rw [hmn, s2, s6]
    exact ⟨g10.symm, g11.symm⟩
  · exact ⟨(aF m hmn).2.1, (aF m hmn).2.2.2.2.2⟩
/-- the reference behind an item -/
def bodK (rec' : Int32 → Int32 → TS → Option (Int32 × TS)) (f2 nd last : Nat) (w15 : TS) : Option (Int32 × TS) := gB2 (t_X2_takes (nI 59) w15) fun x19 w18 => if x19 = 0 then some ((nI 1), w18) else gL2 (bt_X2_readsBody_s_1 rec') f2 (nI nd) (nI last) w18
theorem bod_twin {k nd1 : Nat} {rec' : Int32 → Int32 → TS → Option (Int32 × TS)} {f2 : Nat} {last : Int32} {σ1 : TS} {chf : Nat → Nat} (hlast : last = if k = 0 then -1 else nI (chf (k - 1))) (h14 : σ1 0 14 = nI nd1) (hc : 0 < k → chf (k - 1) < 64) (hn : nd < 64) : bt_X2_readsBody_s_1 rec' (gL2 (bt_X2_readsBody_s_1 rec') f2) (nI nd) last σ1 = (gB2 (t_X2_readsItem rec' (nI nd) σ1) fun x12 w11 => if x12 = 0 then some ((nI 0), w11) else bodK rec' f2 nd nd1 (if k = 0 then pX w11 nd 5 (nI nd1) else pX w11 (chf (k - 1)) 6 (nI nd1))) := by
  generalize hKt : gL2 (bt_X2_readsBody_s_1 rec') f2 = KT
  unfold bt_X2_readsBody_s_1
  rw [pu_Bd, h14]
  congr 1
  funext x12 w11
  by_cases hx : x12 = 0
  · rw [if_pos hx, if_pos hx]
  · rw [if_neg hx, if_neg hx, pu_Bd]
    unfold bodK
    rw [hKt]
    by_cases hk : k = 0
    · rw [hlast, if_pos hk, if_neg (by decide), if_pos hk, put_t _ hn (by omega), pu_B2]
    · have hp : (0 : Int32) ≤ nI (chf (k - 1)) := Int32.not_lt.mp (nI_pos (by have := hc (by omega); omega))
      rw [hlast, if_neg hk, if_pos hp, if_neg hk, put_t _ (hc (by omega)) (by omega), pu_B2]
theorem bod_loop {it mo : Nat} {rec : Nat → gw → Option (((Nat × Nat) ⊕ Option Nat) × gw)} {rec' : Int32 → Int32 → TS → Option (Int32 × TS)} (hrec : o < 4 → hRec xa rd L N0 M0 (o + 1) rec rec') (hnd : nd < 64) (hb3 : pBd w) (hrd3 : rd < w.2.1) (hN3 : N0 ≤ w.2.1) (hB1 : w.2.1 ≤ N0 + 6 * nd + 4) (hB2 : w.2.2.1 ≤ M0 + 120 * nd + 100) : ∀ r k (S1 : SV) (tp1 : Nat → Nat) (W : gw) (σ1 : TS) (p1 it1 nd1 mo1 : Nat) (chf : Nat → Nat) (f1 f2 : Nat), L - p1 < r → r < f1 → r < f2 → 1 ≤ k → bodT xa rd L N0 M0 p o nd S tp w σ ar rl ab la k S1 tp1 W σ1 p1 it1 nd1 mo1 chf →
    rdR xa rd L N0 M0 S tp w σ p o it nd mo (fun x => x = 0) ar rl (gL1 (bf_X4_body_s_1 rd rec) f1 (some ab) W) (bodK rec' f2 nd (chf (k - 1)) σ1) := by
  intro r
  induction r with
  | zero => intro k S1 tp1 W σ1 p1 it1 nd1 mo1 chf f1 f2 h1; omega
  | succ r ih =>
    intro k S1 tp1 W σ1 p1 it1 nd1 mo1 chf f1 f2 hr hf1 hf2 hk1 hT
    have hz : (nI 0 : Int32) = 0 := by decide
    have hz1 : ¬ (nI 1 : Int32) = 0 := by decide
    have h := hT.1
    have hp1 := hT.2.1 hk1
    have n12 := h.nums.2.2.2.2.2.2.2.2.2.2.2
    obtain ⟨f1, rfl⟩ : ∃ g, f1 = g + 1 := ⟨f1 - 1, by omega⟩
    show rdR xa rd L N0 M0 S tp w σ p o it nd mo (fun x => x = 0) ar rl (bf_X4_body_s_1 rd rec (gL1 (bf_X4_body_s_1 rd rec) f1) (some ab) W) _
    unfold bodK
    rcases skips_s h (c := 59) (by omega) with ⟨-, W4, σ4, a1, a2, a3⟩ | ⟨a0, a1, a2⟩
    · have hT4 := hT.mv (by omega) (by omega) a3
      have hpL := a3.2.2.2.2.2
      have h4 := hT4.1
      have hab : W4.1 ab = some (.inl (5, [ga (some la)])) := by
        obtain ⟨-, -, -, -, -, -, -, -, -, -, -, -, -, -, -, y, -⟩ := hT4
        exact y.1
      have hlast : nd < chf (k - 1) ∧ chf (k - 1) < nd1 := by
        obtain ⟨-, -, -, -, -, -, -, -, -, -, -, -, -, -, -, -, -, y, -⟩ := hT4
        obtain ⟨y1, y2, -⟩ := y.mem (show k - 1 < k by omega)
        exact ⟨y1, y2⟩
      obtain ⟨f2, rfl⟩ : ∃ g, f2 = g + 1 := ⟨f2 - 1, by omega⟩
      rw [a2, pu_B2, if_neg hz1]
      show rdR xa rd L N0 M0 S tp w σ p o it nd mo (fun x => x = 0) ar rl _ (bt_X2_readsBody_s_1 rec' (gL2 (bt_X2_readsBody_s_1 rec') f2) (nI nd) (nI (chf (k - 1))) σ4)
      rw [bod_twin (k := k) (nd1 := nd1) (chf := chf) (by rw [if_neg (by omega)]) h4.nums.2.2.2.2.1 (fun _ => by omega) hnd]
      generalize hKf : gL1 (bf_X4_body_s_1 rd rec) f1 = KK
      unfold bf_X4_body_s_1
      rw [pu_Ob h.1, pu_B1, a1, pu_B2, if_neg hz1, pu_B1, pu_R (k := 0) hab rfl, pu_B1, pu_Ob h4.1, pu_B1]
      rcases bod_one hrec hT4 hnd (by omega) hrd3 hN3 hB1 hB2 with hf | ⟨a, W9, σ9, W10, S2, tp3, p2, it2, nd2, mo2, l0, l1, l2, i1, i2, i3, i4, i5, hT2⟩
      · left
        refine pFail.bk hf (wF.rf hb3) tF.rf (fun q c v hv => ?_) (fun v hv => ?_)
        · rw [hv, gB2X_l]
        · rw [hv, pu_B2, if_pos hz]
      · rw [i1, gB2X_r, pu_B1, pu_Ob i3, pu_B1, i4, pu_B2, i2, pu_B2, if_neg hz1, ← hKf]
        have := ih (k + 1) S2 tp3 W10 _ p2 it2 nd2 mo2 _ f1 f2 (by omega) (by omega) (by omega) (by omega) hT2
        simp only [Nat.add_sub_cancel, if_true] at this
        exact this
    · generalize gL1 (bf_X4_body_s_1 rd rec) f1 = KK
      rw [a2, pu_B2, if_pos hz]
      unfold bf_X4_body_s_1
      rw [pu_Ob h.1, pu_B1, a1, pu_B2, if_pos hz]
      exact bod_fin hT hk1 hN3
end B2
section B3
variable {xa rd L N0 M0 : Nat}
theorem body_s {o : Nat} {rec : Nat → gw → Option (((Nat × Nat) ⊕ Option Nat) × gw)} {rec' : Int32 → Int32 → TS → Option (Int32 × TS)} (hrec : o < 4 → hRec xa rd L N0 M0 (o + 1) rec rec') : hRec xa rd L N0 M0 o (f_X4_body_s rec) (t_X2_readsBody_s rec') := by
  intro S tp w σ p it nd mo ar bf rl hC hnd hlk
  have hC' := hC
  obtain ⟨c1, c2, c3, c4, c5, c6⟩ := hC
  have hz : (nI 0 : Int32) = 0 := by decide
  have hz1 : ¬ (nI 1 : Int32) = 0 := by decide
  obtain ⟨n1, n2, n3, n4, n5, n6, n7, n8, n9, n10, n11, n12⟩ := c1.nums
  have hNr := c1.room.2.2.2.2
  have hrl := c1.rdl
  -- the reference's node
  obtain ⟨σ1, m1, m2, m3, m4, m5, m6, m7, m8, m9⟩ := makes_t (nI 0) ar n5 c1.t12 (show nd < 64 by omega)
  have hlkt : ∃ σ2, (gBd (fun (x5 : Int32) (w4 : TS) => gL2 (bt_X2_readsBody_s_1 rec') 20000 x5 (-1) w4) fun k3 => if bf < 0 then if ar < 0 then k3 (nI nd) σ1 else gB2 (t_X2_put ar (nI 5) (nI nd) σ1) fun _ w26 => k3 (nI nd) w26 else gB2 (t_X2_put bf (nI 6) (nI nd) σ1) fun _ w27 => k3 (nI nd) w27) = gL2 (bt_X2_readsBody_s_1 rec') 20000 (nI nd) (-1) σ2 ∧ (∀ j, σ2 0 j = σ1 0 j) ∧ tF σ1 σ2 ∧ (∀ q, q < 9 → rr σ2 nd q = rr σ1 nd q) ∧ ∀ m q, m < nd → q < 9 → rr σ2 m q = rl m q := by
    have hrow : ∀ m q, m < nd → q < 9 → rr σ1 m q = rr σ m q := fun m q hm hq => m9 m q (by omega) hq
    rcases hlk with ⟨k1, k2, k3⟩ | ⟨c, k0, rfl, k2, k3⟩ | ⟨c, a, k0, k1, rfl, rfl, k3⟩
    · refine ⟨σ1, ?_, fun _ => rfl, tF.rf, fun _ _ => rfl, fun m q hm hq => by rw [k3]; exact hrow m q hm hq⟩
      rw [pu_Bd, if_pos k2, if_pos k1]
    · refine ⟨pX σ1 c 5 (nI nd), ?_, fun j => by rw [pX_r (by omega)], tF.rf.pX _, fun q hq => pX_n (by omega) hq (by omega), fun m q hm hq => ?_⟩
      · rw [pu_Bd, if_pos k2, if_neg (nI_pos (by omega)), put_t _ (by omega) (by omega), pu_B2]
      · rw [k3, pX_rr _ _ _ _ _ _ (by omega) hq]
        unfold up2
        by_cases hmc : m = c ∧ q = 5
        · rw [if_pos hmc, if_pos hmc]
        · rw [if_neg hmc, if_neg hmc, hrow m q hm hq]
    · refine ⟨pX σ1 c 6 (nI nd), ?_, fun j => by rw [pX_r (by omega)], tF.rf.pX _, fun q hq => pX_n (by omega) hq (by omega), fun m q hm hq => ?_⟩
      · rw [pu_Bd, if_neg (nI_pos (by omega)), put_t _ (by omega) (by omega), pu_B2]
      · rw [k3, pX_rr _ _ _ _ _ _ (by omega) hq]
        unfold up2
        by_cases hmc : m = c ∧ q = 6
        · rw [if_pos hmc, if_pos hmc]
        · rw [if_neg hmc, if_neg hmc, hrow m q hm hq]
  obtain ⟨σ2, k1, k2, k3, k4, k5⟩ := hlkt
  have h2n : ∀ j, j ≠ 14 → σ2 0 j = σ 0 j := fun j hj => (k2 j).trans (m3 j hj)
  have h28 : σ2 8 = σ 8 := (k3.1 8 (by omega)).trans (m4.1 8 (by omega))
  have h2 : pSt xa rd L N0 M0 w σ2 p o it (nd + 1) mo := c1.re c1.1 (fun _ _ => rfl) rfl c1.bd n2 h28 (h2n 9 (by omega)) ((h2n 12 (by omega)).trans c1.t12) ((h2n 13 (by omega)).trans n4) ((k2 14).trans m2) ((h2n 15 (by omega)).trans n6) ((h2n 16 (by omega)).trans n7) ((h2n 17 (by omega)).trans n8) n9 n10 n11 (by omega)
  -- the component's body and its list
  obtain ⟨V0, e0, q0, o0, z0, h0, w0⟩ := newc h2 (ci := 5) (m := 1) (fs := [ga none]) rfl (by omega) (by omega) (by omega)
  obtain ⟨V1, e1, q1, o1, z1, h1, w1⟩ := newc h0 (ci := 8) (m := 3) (fs := [gi 0, ga none, gi 0]) rfl (by omega) (by rw [z0]; show w.2.1 + 1 ≤ _; omega) (by rw [z0]; show w.2.2.1 + 1 ≤ _; omega)
  rw [z0] at e1 q1 o1 z1
  simp only at e1 q1 o1 z1
  obtain ⟨V2, e2, q2, o2, z2, b2⟩ := st_put (k := 0) q1 (by show 0 < 3; omega) h1.bd (gi (nI 0))
  obtain ⟨V3, e3, q3, o3, z3, b3⟩ := st_put (k := 1) q2 (by show 1 < 3; omega) b2 (ga (some (V2.2.2.2 5)))
  have q03 : V3.1 w.2.1 = _ := (o3 _ (by omega)).trans ((o2 _ (by omega)).trans ((o1 _ (by omega)).trans q0))
  obtain ⟨V4, e4, q4, o4, z4, b4⟩ := st_put (k := 0) q03 (by show 0 < 1; omega) b3 (ga (some (w.2.1 + 1)))
  have zz : V4.2 = (w.2.1 + 2, w.2.2.1 + 4, w.2.2.2) := by rw [z4, z3, z2, z1]
  have hK2 : V2.2.2.2 = w.2.2.2 := by rw [z2, z1]
  have oV : ∀ b, b < w.2.1 → V4.1 b = w.1 b := fun b hb => by rw [o4 b (by omega), o3 b (by omega), o2 b (by omega), o1 b (by omega), o0 b (by omega)]
  have hV : pSt xa rd L N0 M0 V4 σ2 p o it (nd + 1) mo := h2.cp (B := w.2.1) hrl b4 oV (by rw [zz]) (by rw [zz]; show w.2.1 + 2 ≤ _; omega) (by rw [zz]; show w.2.2.1 + 4 ≤ _; omega)
  have wV : wF rd w V4 := ⟨b4, by rw [zz]; show w.2.1 ≤ w.2.1 + 2; omega, by rw [zz], fun b hb _ => oV b hb⟩
  have hla : V4.1 (w.2.1 + 1) = some (.inl (8, [gi (nI 0), ga (some (w.2.2.2 5)), gi (nI 0)])) := by
    rw [o4 _ (by omega), q3, hK2, show (0 : Int32) = nI 0 by decide]
    rfl
  obtain ⟨s1, s2, s3, s4, s5, s6⟩ := sSet_n S nd 0 0 0 0 (4 - o) (fun _ => 0)
  have aS : ∀ m, m < nd → sEq S (sSet S nd 0 0 0 0 (4 - o) (fun _ => 0)) m := fun m hm => sSet_m S 0 0 0 0 (4 - o) (fun _ => 0) (by omega)
  have hrow7 : ∀ m, m < nd → rr σ2 m 7 = rr σ m 7 := fun m hm => by
    rw [k5 m 7 hm (by omega)]
    rcases hlk with ⟨-, -, z⟩ | ⟨c, -, -, -, z⟩ | ⟨c, a, -, -, -, -, z⟩
    · rw [z]
    · rw [z]
      exact if_neg (by omega)
    · rw [z]
      exact if_neg (by omega)
  have hG : pG (sSet S nd 0 0 0 0 (4 - o) (fun _ => 0)) (rr σ2) (nd + 1) it mo p := by
    have hadd := pG.add (S := sSet S nd 0 0 0 0 (4 - o) (fun _ => 0)) (r := rr σ2) (mo1 := mo) (P1 := p) (c2.fr (fun m hm => ⟨(aS m hm).2.1, (aS m hm).2.2.2.2.2⟩) hrow7 (Nat.le_refl _)) (by rw [k4 7 (by omega)]; exact m6) (Nat.le_refl _) (fun z => absurd s2 z) (by rw [s2, if_neg (by omega)]) (by rw [s6]; omega)
    rw [s2, if_pos rfl] at hadd
    exact hadd
  have hK5 : V4.1 (w.2.2.2 5) = none := (oV _ (by have := c5.2; omega)).trans c5.1
  have hT : bodT xa rd L N0 M0 p o nd S tp w σ ar rl w.2.1 (w.2.1 + 1) 0 (sSet S nd 0 0 0 0 (4 - o) (fun _ => 0)) (fun x => if x < w.2.1 then tp x else nd) V4 σ2 p it (nd + 1) mo (fun _ => 0) := by
    refine ⟨hV, fun z => absurd z (by omega), wV, m4.tr k3, Nat.le_refl _, by rw [if_pos rfl]; omega, ⟨by rw [zz]; show w.2.1 + 2 + 4 ≤ _; omega, by rw [zz]; show w.2.2.1 + 4 + 116 ≤ _; omega⟩, hG, fun m _ hm => aS m hm, ⟨s2, s6⟩, fun b hb => if_pos hb, ?_, ⟨by rw [zz]; exact hK5, by rw [zz]; exact c5.2⟩, k5, ⟨by rw [k4 0 (by omega), m5], fun z => absurd z (by omega), by rw [k4 6 (by omega), m8 6 (by omega) (by omega) (by omega) (by omega)], by rw [k4 8 (by omega), m7]⟩, ⟨q4, if_neg (by omega), Nat.le_refl _⟩, Nat.zero_le _, ⟨fun _ => rfl, fun z => absurd z (by omega), fun j hj => absurd hj (by omega)⟩, ⟨by omega, if_neg (by omega)⟩, nI 0, w.2.2.2 5, hla, Or.inl ⟨rfl, by rw [zz], hK5⟩⟩
    show 1000 ≤ (if rd < w.2.1 then tp rd else nd)
    rw [if_pos hrl]
    exact c6
  rw [f_X4_body_s_eq, t_X2_readsBody_s_eq, m1, pu_B2, k1, e0, pu_B2]
  have hinit : f_X5_init w.2.1 V0 = some ((), V4) := by
    unfold f_X5_init f_J2_init f_J1_init_c8 f_J0_init_c8
    rw [e1, pu_B2, pu_B2, e2, pu_B1, pu_B2, e3, pu_B1, pu_B2, e4, pu_B1]
  rw [hinit, pu_B2, pu_R (k := 0) q4 rfl, pu_B1, pu_Ob hV.1, pu_B1]
  show rdR xa rd L N0 M0 S tp w σ p o it nd mo (fun x => x = 0) ar rl _ (bt_X2_readsBody_s_1 rec' (gL2 (bt_X2_readsBody_s_1 rec') 19999) (nI nd) (-1) σ2)
  rw [bod_twin (k := 0) (last := -1) (nd1 := nd + 1) (chf := fun _ => 0) (if_pos rfl).symm hV.nums.2.2.2.2.1 (fun z => absurd z (by omega)) (by omega)]
  rcases bod_one hrec hT (by omega) (Nat.le_refl _) hrl (by omega) c3 c4 with hf | ⟨a, W9, σ9, W10, S2, tp3, p2, it2, nd2, mo2, l0, l1, l2, i1, i2, i3, i4, i5, hT2⟩
  · left
    refine pFail.bk hf (wF.rf c1.bd) tF.rf (fun q c v hv => ?_) (fun v hv => ?_)
    · rw [hv, gB2X_l]
    · rw [hv, pu_B2, if_pos hz]
  · rw [i1, gB2X_r, pu_B1, pu_Ob i3, pu_B1, i4, pu_B2, i2, pu_B2, if_neg hz1]
    have := bod_loop (it := it) (mo := mo) hrec (by omega) c1.bd hrl (by omega) c3 c4 (L + 1) (0 + 1) S2 tp3 W10 _ p2 it2 nd2 mo2 _ 20000 19999 (by omega) (by omega) (by omega) (by omega) hT2
    simp only [Nat.add_sub_cancel, if_true] at this
    exact this
theorem read_all : ∀ j o D, o + j = 4 → j < D → hRec xa rd L N0 M0 o (f_X4_body D) (t_X2_readsBody D) := by
  intro j
  induction j with
  | zero =>
    intro o D ho hD
    obtain ⟨D, rfl⟩ : ∃ d, D = d + 1 := ⟨D - 1, by omega⟩
    exact body_s (fun h => absurd h (by omega))
  | succ j ih =>
    intro o D ho hD
    obtain ⟨D, rfl⟩ : ∃ d, D = d + 1 := ⟨D - 1, by omega⟩
    exact body_s (fun _ => ih (o + 1) D (by omega) (by omega))
end B3
