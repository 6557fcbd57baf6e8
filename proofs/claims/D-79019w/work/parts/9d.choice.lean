set_option maxRecDepth 100000
/-! READING: a choice, its inside -/
def lkOk (nd : Nat) (ar bf : Int32) (r rl : Nat → Nat → Int32) : Prop := (ar < 0 ∧ bf < 0 ∧ rl = r) ∨ (∃ c, c < nd ∧ ar = nI c ∧ bf < 0 ∧ rl = up2 r c 5 (nI nd)) ∨ (∃ c a, c < nd ∧ a < nd ∧ ar = nI a ∧ bf = nI c ∧ rl = up2 r c 6 (nI nd))
/-- bodies are read alike -/
def hRec (xa rd L N0 M0 o : Nat) (rec : Nat → gw → Option (((Nat × Nat) ⊕ Option Nat) × gw)) (rec' : Int32 → Int32 → TS → Option (Int32 × TS)) : Prop := ∀ (S : SV) (tp : Nat → Nat) (w : gw) (σ : TS) (p it nd mo : Nat) (ar bf : Int32) (rl : Nat → Nat → Int32), rdC xa rd L N0 M0 S tp w σ p o it nd mo → nd ≤ 2 * it → lkOk nd ar bf (rr σ) rl → rdR xa rd L N0 M0 S tp w σ p o it nd mo (fun k => k = 0) ar rl (rec rd w) (rec' ar bf σ)
/-- what comes of the inside of a choice or a parallel -/
def opR (xa rd L N0 M0 : Nat) (S : SV) (tp : Nat → Nat) (p o nd : Nat) (W3 : gw) (σ3 : TS) (fr : Option (((Nat × Nat) ⊕ Option Nat) × gw)) (tr : Option (Int32 × TS)) : Prop := pFail L N0 M0 rd W3 σ3 fr tr ∨
  ∃ a Wj σe τ p1 it1 nd1 mo1 S1 tp1, fr = some (.inr (some a), Wj) ∧ tr = some (nI 1, τ) ∧ (τ 0 16 = nI o ∧ (∀ j, j ≠ 16 → τ 0 j = σe 0 j) ∧ ∀ r, 1 ≤ r → τ r = σe r) ∧ pSt xa rd L N0 M0 Wj σe p1 (o + 1) it1 nd1 mo1 ∧ p < p1 ∧ wF rd W3 Wj ∧ tF σ3 σe ∧ nd < nd1 ∧ nd1 ≤ 2 * it1 ∧ Wj.2.1 + 3 ≤ W3.2.1 + 6 * (nd1 - nd) ∧ Wj.2.2.1 + 60 ≤ W3.2.2.1 + 120 * (nd1 - nd) ∧ pG S1 (rr σe) nd1 it1 mo1 p1 ∧ agr S S1 0 nd ∧ (∀ b, b < W3.2.1 → tp1 b = tp b) ∧ (∀ m q, m < nd → q < 9 → rr σe m q = rr σ3 m q) ∧ sub S1 (rr σe) Wj tp1 N0 nd nd1 ∧ rr σe nd 6 = rr σ3 nd 6 ∧ rr σe nd 8 = rr σ3 nd 8 ∧ sKd S1 nd ≠ 0 ∧ sLv S1 nd = 4 - o ∧ sSa S1 nd = a ∧ W3.2.1 ≤ a ∧ a < Wj.2.1
section CH
variable {xa rd L N0 M0 p o it nd mo : Nat} {S : SV} {tp : Nat → Nat}
theorem rd_eq {σ σ1 : TS} (h : σ1 1 = σ 1) (m q : Nat) : rr σ1 m q = rr σ m q := by
  show σ1 1 _ = σ 1 _
  rw [h]
theorem rr_eq {σ σ1 : TS} (h : σ1 1 = σ 1) : rr σ1 = rr σ := by
  funext m q
  exact rd_eq h m q
theorem choice_s {w W2 W3 : gw} {σ3 : TS} {pl : Int32} {rec : Nat → gw → Option (((Nat × Nat) ⊕ Option Nat) × gw)} {rec' : Int32 → Int32 → TS → Option (Int32 × TS)} (hrec : hRec xa rd L N0 M0 (o + 1) rec rec') (ho : o < 4) (h2 : ∃ f2, W2.1 rd = some (.inl (4, gi (nI p) :: f2))) (e3 : gPut W2 rd 4 0 (gi (nI p + nI 1)) = some W3) (h3 : pSt xa rd L N0 M0 W3 σ3 (p + 1) (o + 1) it (nd + 1) mo) (hnd : nd + 1 ≤ 2 * it) (hB1 : W3.2.1 ≤ N0 + 6 * nd + 4) (hB2 : W3.2.2.1 ≤ M0 + 120 * nd + 100) (hK5 : W3.1 (W3.2.2.2 5) = none ∧ W3.2.2.2 5 < N0) (htp : 1000 ≤ tp rd) (r0 : rr σ3 nd 0 = nI 5) (r7 : rr σ3 nd 7 = pl) (hpl : pl = nI p) (hG : pG (sSet S nd 5 0 0 0 (4 - o) (fun _ => 0)) (rr σ3) (nd + 1) it mo (p + 1)) {tr : Option (Int32 × TS)} (ht : t_X2_readsChoice rec' (nI nd) = fun τ => gBd (tPut τ 12 ((τ 0 12) + (nI 1))) fun w1 => gB2 (t_X2_opens w1) fun _ w2 => gB2 (t_X2_takes (nI 120) w2) fun x4 w3 => if x4 = 0 then some ((nI 0), w3) else gB2 (t_X2_takesDigit (nI 0) (nI 3) w3) fun x7 w6 => if x7 = 0 then some ((nI 0), w6) else gB2 (t_X2_put (nI nd) (nI 1) (w6 0 18) w6) fun _ w9 => gB2 (t_X2_takes (nI 60) w9) fun x11 w10 => if x11 = 0 then some ((nI 0), w10) else gB2 (t_X2_takesSigned  w10) fun x14 w13 => if x14 = 0 then some ((nI 0), w13) else gB2 (t_X2_put (nI nd) (nI 2) (w13 0 18) w13) fun _ w16 => gB2 (t_X2_takes (nI 58) w16) fun x18 w17 => if x18 = 0 then some ((nI 0), w17) else gBd (w17 0 14) fun x20 => gB2 (rec' (nI nd) (-1) w17) fun x22 w21 => if x22 = 0 then some ((nI 0), w21) else gB2 (t_X2_takes (nI 124) w21) fun x25 w24 => if x25 = 0 then some ((nI 0), w24) else gB2 (rec' (nI nd) x20 w24) fun x28 w27 => if x28 = 0 then some ((nI 0), w27) else gB2 (t_X2_takes (nI 93) w27) fun x31 w30 => if x31 = 0 then some ((nI 0), w30) else gBd (tPut w30 16 ((w30 0 16) - (nI 1))) fun w33 => some ((nI 1), w33)) (htr : tr = gB2 (t_X2_takes (nI 120) σ3) fun x4 w3 => if x4 = 0 then some ((nI 0), w3) else gB2 (t_X2_takesDigit (nI 0) (nI 3) w3) fun x7 w6 => if x7 = 0 then some ((nI 0), w6) else gB2 (t_X2_put (nI nd) (nI 1) (w6 0 18) w6) fun _ w9 => gB2 (t_X2_takes (nI 60) w9) fun x11 w10 => if x11 = 0 then some ((nI 0), w10) else gB2 (t_X2_takesSigned  w10) fun x14 w13 => if x14 = 0 then some ((nI 0), w13) else gB2 (t_X2_put (nI nd) (nI 2) (w13 0 18) w13) fun _ w16 => gB2 (t_X2_takes (nI 58) w16) fun x18 w17 => if x18 = 0 then some ((nI 0), w17) else gBd (w17 0 14) fun x20 => gB2 (rec' (nI nd) (-1) w17) fun x22 w21 => if x22 = 0 then some ((nI 0), w21) else gB2 (t_X2_takes (nI 124) w21) fun x25 w24 => if x25 = 0 then some ((nI 0), w24) else gB2 (rec' (nI nd) x20 w24) fun x28 w27 => if x28 = 0 then some ((nI 0), w27) else gB2 (t_X2_takes (nI 93) w27) fun x31 w30 => if x31 = 0 then some ((nI 0), w30) else gBd (tPut w30 16 ((w30 0 16) - (nI 1))) fun w33 => some ((nI 1), w33)) :
    opR xa rd L N0 M0 S tp p o nd W3 σ3 (f_X4_choice rec rd pl W2) tr := by
  clear ht
  obtain ⟨f2, h2⟩ := h2
  have hz : (nI 0 : Int32) = 0 := by decide
  have hz1 : ¬ (nI 1 : Int32) = 0 := by decide
  obtain ⟨n1, -, -, -, -, -, -, -, n9, -, -, n12⟩ := h3.nums
  have hnd64 : nd < 64 := by omega
  have hNr := h3.room.2.2.2.2
  subst htr
  unfold f_X4_choice
  rw [pu_I (k := 0) h2 rfl, pu_B1, e3, pu_B1, pu_Ob h3.1, pu_B1]
  -- x
  rcases sign_s (R := Int32) h3 (c := 120) (by omega) with ⟨W4, σ4, a1, a2, a3⟩ | ⟨a1, a2⟩
  rotate_left
  · left
    refine pFail.bk (fail_need (R := Int32) h3 a1 rfl) (wF.rf h3.bd) tF.rf (fun q c v hv => ?_) (fun v hv => ?_)
    · rw [hv, gB2X_l]
    · rw [a2, pu_B2, if_pos hz]; exact hv
  obtain ⟨h4, w4, t4, s4, z4, -⟩ := a3
  rw [a1, gB2X_r, a2, pu_B2, if_neg hz1, pu_Ob h4.1, pu_B1]
  -- the variable
  rcases digit_s h4 (a := 0) (b := 3) (by omega) (by omega) with ⟨c, W5, σ5, -, c3, a1', a2', a3', a4'⟩ | ⟨a1', a2'⟩
  rotate_left
  · left
    refine pFail.bk (fail_need (R := Int32) (fr := f_X4_takes rd (nI 48) (nI 51) W4) h4 a1' rfl) w4 t4 (fun q c v hv => ?_) (fun v hv => ?_)
    · rw [hv, gB2X_l]
    · rw [a2', pu_B2, if_pos hz]; exact hv
  obtain ⟨h5, w5, t5, s5, z5, -⟩ := a4'
  have a1'' : f_X4_takes rd (nI 48) (nI 51) W4 = some (.inr (nI c), W5) := a1'
  rw [a1'', gB2X_r, a2', pu_B2, if_neg hz1, a3', put_t _ hnd64 (by omega), pu_B2, pu_Ob h5.1, pu_B1]
  have h5' := h5.pX nd 1 (nI c)
  have tA := (t4.tr t5).pX (n := nd) (k := 1) (nI c)
  have wA := w4.tr w5
  -- <
  rcases sign_s (R := Int32) h5' (c := 60) (by omega) with ⟨W6, σ6, b1, b2, b3⟩ | ⟨b1, b2⟩
  rotate_left
  · left
    refine pFail.bk (fail_need (R := Int32) h5' b1 rfl) wA tA (fun q c v hv => ?_) (fun v hv => ?_)
    · rw [hv, gB2X_l]
    · rw [b2, pu_B2, if_pos hz]; exact hv
  obtain ⟨h6, w6, t6, s6, z6, -⟩ := b3
  rw [b1, gB2X_r, b2, pu_B2, if_neg hz1, pu_Ob h6.1, pu_B1]
  -- the bound
  rcases signed_s h6 with ⟨x, W7, σ7, p7, d1, d2, d3, d4, d5⟩ | hf
  rotate_left
  · left
    refine pFail.bk hf (wA.tr w6) (tA.tr t6) (fun q c v hv => ?_) (fun v hv => ?_)
    · rw [hv, gB2X_l]
    · rw [hv, pu_B2, if_pos hz]
  obtain ⟨h7, w7, t7, s7, z7, -⟩ := d4
  rw [d1, gB2X_r, d2, pu_B2, if_neg hz1, d3, put_t _ hnd64 (by omega), pu_B2, pu_Ob h7.1, pu_B1]
  have h7' := h7.pX nd 2 x
  have tB := ((tA.tr t6).tr t7).pX (n := nd) (k := 2) x
  have wB := (wA.tr w6).tr w7
  -- :
  rcases sign_s (R := Int32) h7' (c := 58) (by omega) with ⟨W8, σ8, g1, g2, g3⟩ | ⟨g1, g2⟩
  rotate_left
  · left
    refine pFail.bk (fail_need (R := Int32) h7' g1 rfl) wB tB (fun q c v hv => ?_) (fun v hv => ?_)
    · rw [hv, gB2X_l]
    · rw [g2, pu_B2, if_pos hz]; exact hv
  obtain ⟨h8, w8, t8, s8, z8, -⟩ := g3
  rw [g1, gB2X_r, g2, pu_B2, if_neg hz1, pu_Bd, pu_Ob h8.1, pu_B1]
  have tC := tB.tr t8
  have wC := wB.tr w8
  have z83 : W8.2 = W3.2 := by rw [z8, z7, z6, z5, z4]
  have hr8 : ∀ m q, m ≠ nd ∨ (q ≠ 1 ∧ q ≠ 2) → q < 9 → rr σ8 m q = rr σ3 m q := fun m q hm hq => by
    rw [rd_eq s8, pX_n (by omega) hq (by omega), rd_eq s7, rd_eq s6, pX_n (by omega) hq (by omega), rd_eq s5, rd_eq s4]
  have hr81 : rr σ8 nd 1 = nI c := by
    rw [rd_eq s8, pX_n (by omega) (by omega) (Or.inr (by omega)), rd_eq s7, rd_eq s6, pX_s _ _ (by omega)]
  have hr82 : rr σ8 nd 2 = x := by
    rw [rd_eq s8, pX_s _ _ (by omega)]
  have n14 := h8.nums.2.2.2.2.1
  -- the first body
  have hC8 : rdC xa rd L N0 M0 (sSet S nd 5 0 0 0 (4 - o) (fun _ => 0)) tp W8 σ8 (p7 + 1) (o + 1) it (nd + 1) mo := ⟨h8, hG.fr (fun _ _ => ⟨rfl, rfl⟩) (fun m hm => hr8 m 7 (by omega) (by omega)) (by omega), by rw [z83]; omega, by rw [z83]; omega, by
    rw [z83]
    exact ⟨(wC.2.2.2 _ (by have := hK5.2; have := h3.rdl; omega) (by have := hK5.2; omega)).trans hK5.1, hK5.2⟩, htp⟩
  rcases hrec _ tp W8 σ8 _ it (nd + 1) mo (nI nd) (-1) (up2 (rr σ8) nd 5 (nI (nd + 1))) hC8 hnd (Or.inr (Or.inl ⟨nd, by omega, rfl, by decide, rfl⟩)) with hf | ⟨a9, W9, σ9, p9, it2, nd2, mo2, S2, tp2, i1, i2, h9, i4, w9, t9, i7, i8, i9, i10, i11, i12, i13, i14, i15, i16, i17, i18, i19, i20, i21, i22⟩
  · left
    refine pFail.bk hf wC tC (fun q c v hv => ?_) (fun v hv => ?_)
    · rw [hv, gB2X_l]
    · rw [hv, pu_B2, if_pos hz]
  rw [i1, gB2X_r, i2, pu_B2, if_neg hz1, pu_Ob h9.1, pu_B1]
  -- |
  rcases sign_s (R := Int32) h9 (c := 124) (by omega) with ⟨W10, σ10, b1', b2', b3'⟩ | ⟨b1', b2'⟩
  rotate_left
  · left
    refine pFail.bk (fail_need (R := Int32) h9 b1' rfl) (wC.tr w9) (tC.tr t9) (fun q c v hv => ?_) (fun v hv => ?_)
    · rw [hv, gB2X_l]
    · rw [b2', pu_B2, if_pos hz]; exact hv
  obtain ⟨h10, w10, t10, s10, z10, -⟩ := b3'
  rw [b1', gB2X_r, b2', pu_B2, if_neg hz1, pu_Ob h10.1, pu_B1, n14]
  have hrd8 : rd < W8.2.1 := h8.rdl
  have htp2 : 1000 ≤ tp2 rd := by
    rw [i13 rd hrd8]
    exact htp
  have hK9 : W9.1 (W9.2.2.2 5) = none ∧ W9.2.2.2 5 < N0 := by
    obtain ⟨-, -, -, -, k1, -⟩ := hC8
    rw [w9.2.2.1]
    exact ⟨(w9.2.2.2 _ (by have := k1.2; omega) (by have := k1.2; omega)).trans k1.1, k1.2⟩
  have hC10 : rdC xa rd L N0 M0 S2 tp2 W10 σ10 (p9 + 1) (o + 1) it2 nd2 mo2 := ⟨h10, i11.fr (fun _ _ => ⟨rfl, rfl⟩) (fun m hm => rd_eq s10 m 7) (by omega), by rw [z10]; rw [z83] at i9; omega, by rw [z10]; rw [z83] at i10; omega, by
    rw [z10]
    exact ⟨(w10.2.2.2 _ (by have := hK9.2; have := h9.rdl; omega) (by have := hK9.2; omega)).trans hK9.1, hK9.2⟩, htp2⟩
  rcases hrec _ tp2 W10 σ10 _ it2 nd2 mo2 (nI nd) (nI (nd + 1)) (up2 (rr σ10) (nd + 1) 6 (nI nd2)) hC10 i8 (Or.inr (Or.inr ⟨nd + 1, nd, by omega, by omega, rfl, rfl, rfl⟩)) with hf | ⟨a11, W11, σ11, p11, it3, nd3, mo3, S3, tp3, j1, j2, h11, j4, w11, t11, j7, j8, j9, j10, j11, j12, j13, j14, j15, j16, j17, j18, j19, j20, j21, j22⟩
  · left
    refine pFail.bk hf ((wC.tr w9).tr w10) ((tC.tr t9).tr t10) (fun q c v hv => ?_) (fun v hv => ?_)
    · rw [hv, gB2X_l]
    · rw [hv, pu_B2, if_pos hz]
  rw [j1, gB2X_r, j2, pu_B2, if_neg hz1, pu_Ob h11.1, pu_B1]
  -- ]
  rcases sign_s (R := Int32) h11 (c := 93) (by omega) with ⟨W12, σ12, k1, k2, k3⟩ | ⟨k1, k2⟩
  rotate_left
  · left
    refine pFail.bk (fail_need (R := Int32) h11 k1 rfl) (((wC.tr w9).tr w10).tr w11) (((tC.tr t9).tr t10).tr t11) (fun q c v hv => ?_) (fun v hv => ?_)
    · rw [hv, gB2X_l]
    · rw [k2, pu_B2, if_pos hz]; exact hv
  obtain ⟨h12, w12, t12, s12, z12, -⟩ := k3
  rw [k1, gB2X_r, k2, pu_B2, if_neg hz1, pu_Bd]
  right
  have wE := (((wC.tr w9).tr w10).tr w11).tr w12
  have tE := (((tC.tr t9).tr t10).tr t11).tr t12
  have nn3 := h12.nums.2.2.2.2.2.2.2.2.2.2.2
  rw [z83] at i9 i10
  rw [z10] at j9 j10
  have q121 : W12.2.1 = W11.2.1 := by rw [z12]
  have q122 : W12.2.2.1 = W11.2.2.1 := by rw [z12]
  obtain ⟨W13, e13, q13, o13, z13, h13, w13⟩ := newc h12 (ci := 13) (m := 5) (fs := [gi 0, gi 0, gi 0, ga none, ga none]) rfl (by omega) (by omega) (by omega)
  obtain ⟨V1, e14, q14, o14, z14, b14⟩ := st_put (k := 0) q13 (by show 0 < 5; omega) h13.bd (gi pl)
  obtain ⟨V2, e15, q15, o15, z15, b15⟩ := st_put (k := 1) q14 (by show 1 < 5; omega) b14 (gi (nI c))
  obtain ⟨V3, e16, q16, o16, z16, b16⟩ := st_put (k := 2) q15 (by show 2 < 5; omega) b15 (gi x)
  obtain ⟨V4, e17, q17, o17, z17, b17⟩ := st_put (k := 3) q16 (by show 3 < 5; omega) b16 (ga (some a9))
  obtain ⟨V5, e18, q18, o18, z18, b18⟩ := st_put (k := 4) q17 (by show 4 < 5; omega) b17 (ga (some a11))
  have zV : V5.2 = (W12.2.1 + 1, W12.2.2.1 + 5, W12.2.2.2) := by rw [z18, z17, z16, z15, z14, z13]
  have oV : ∀ b, b ≠ W12.2.1 → V5.1 b = W12.1 b := fun b hb => by rw [o18 b hb, o17 b hb, o16 b hb, o15 b hb, o14 b hb, o13 b hb]
  have hV : pSt xa rd L N0 M0 V5 σ12 (p11 + 1) (o + 1) it3 nd3 mo3 := h12.cp (B := W12.2.1) h12.rdl b18 (fun b hb => oV b (by omega)) (by rw [zV]) (by rw [zV]; show W12.2.1 + 1 ≤ _; omega) (by rw [zV]; show W12.2.2.1 + 5 ≤ _; omega)
  have wV : wF rd W12 V5 := ⟨b18, by rw [zV]; show W12.2.1 ≤ W12.2.1 + 1; omega, by rw [zV], fun b hb _ => oV b (by omega)⟩
  have n16 := h12.nums.2.2.2.2.2.2.1
  -- the ghost
  have hsn := sSet_n S nd 5 0 0 0 (4 - o) (fun _ => 0)
  have hk2 : sKd S2 nd = 5 ∧ sLv S2 nd = 4 - o := by
    obtain ⟨-, y2, -, -, -, y6⟩ := i12 nd (Nat.zero_le _) (by omega)
    exact ⟨y2.trans hsn.2.1, y6.trans hsn.2.2.2.2.2⟩
  have hk3 : sKd S3 nd = 5 ∧ sLv S3 nd = 4 - o := by
    obtain ⟨-, y2, -, -, -, y6⟩ := j12 nd (Nat.zero_le _) (by omega)
    exact ⟨y2.trans hk2.1, y6.trans hk2.2⟩
  have KC0 : KC (sSet S nd 5 0 0 0 (4 - o) (fun _ => 0)) (rr σ8) W8 tp N0 nd 0 (nd + 1) (fun _ => 0) (fun k => k = 0) (4 - (o + 1)) := ⟨fun _ => rfl, fun z => absurd z (by omega), fun j hj => absurd hj (by omega)⟩
  have KC1 := KC0.ext (S1 := S2) (r1 := rr σ9) (w1 := W9) (tp1 := tp2) (e1 := nd2) (by omega) (fun m m1 m2 => absurd m2 (by omega)) (fun m q m1 m2 => absurd m2 (by omega)) (fun z => absurd z (by omega)) (fun a x _ _ t1 t2 => absurd t2 (by omega)) i15 i16 i17 i18 i19
  have KC2 := KC1.ext (S1 := S3) (r1 := rr σ11) (w1 := W11) (tp1 := tp3) (e1 := nd3) (by omega) (j12.sub (Nat.zero_le _) (Nat.le_refl _)) (fun m q m1 m2 hq hne => by
    rw [j14 m q m2 hq]
    unfold up2
    rw [if_neg (fun z => hne ⟨by omega, z.1, z.2⟩), rd_eq s10]) (fun _ => by
    show rr σ11 (nd + 1) 6 = nI nd2
    rw [j14 (nd + 1) 6 (by omega) (by omega)]
    exact if_pos ⟨rfl, rfl⟩) (fun a x hx hN t1 t2 => by
    have ha := h9.bd _ _ hx
    have har : a ≠ rd := by
      rintro rfl
      omega
    exact ⟨(w11.2.2.2 a (by rw [z10]; exact ha) har).trans ((w10.2.2.2 a ha har).trans hx), j13 a (by rw [z10]; exact ha)⟩) j15 j16 j17 j18 j19
  obtain ⟨tp4, htp4⟩ : ∃ tp4 : Nat → Nat, tp4 = fun x => if x < W12.2.1 then tp3 x else nd := ⟨_, rfl⟩
  have tp4o : ∀ b, b < W12.2.1 → tp4 b = tp3 b := fun b hb => by rw [htp4]; exact if_pos hb
  have htp3 : 1000 ≤ tp3 rd := by
    rw [j13 rd (by rw [z10]; exact h9.rdl)]
    exact htp2
  have KC3 := KC2.fr (S1 := S3) (r1 := rr σ12) (w1 := V5) (tp1 := tp4) agr.rf (fun m q _ _ _ => rd_eq s12 m q) (fun a x hx hN t1 t2 => by
    have ha := h11.bd _ _ hx
    have har : a ≠ rd := by
      rintro rfl
      omega
    exact ⟨(oV a (by omega)).trans ((w12.2.2.2 a ha har).trans hx), tp4o a (by omega)⟩)
  have hx0 : rr σ12 nd 0 = nI 5 := by
    rw [rd_eq s12, j14 nd 0 (by omega) (by omega)]
    unfold up2
    rw [if_neg (by omega), rd_eq s10, i14 nd 0 (by omega) (by omega)]
    unfold up2
    rw [if_neg (by omega), hr8 nd 0 (Or.inr (by omega)) (by omega)]
    exact r0
  have hx5 : rr σ12 nd 5 = nI (nd + 1) := by
    rw [rd_eq s12, j14 nd 5 (by omega) (by omega)]
    unfold up2
    rw [if_neg (by omega), rd_eq s10, i14 nd 5 (by omega) (by omega)]
    exact if_pos ⟨rfl, rfl⟩
  have hxo : ∀ m q, m < nd + 1 → q < 9 → (m = nd → q ≠ 5) → rr σ12 m q = rr σ8 m q := fun m q hm hq hne => by
    rw [rd_eq s12, j14 m q (by omega) hq]
    unfold up2
    rw [if_neg (by omega), rd_eq s10, i14 m q hm hq]
    unfold up2
    rw [if_neg (fun z => hne z.1 z.2)]
  have hx1 : rr σ12 nd 1 = nI c := (hxo nd 1 (by omega) (by omega) (fun _ => by omega)).trans hr81
  have hx2 : rr σ12 nd 2 = x := (hxo nd 2 (by omega) (by omega) (fun _ => by omega)).trans hr82
  have hx7 : rr σ12 nd 7 = pl := (hxo nd 7 (by omega) (by omega) (fun _ => by omega)).trans ((hr8 nd 7 (Or.inr (by omega)) (by omega)).trans r7)
  obtain ⟨chf, hchf⟩ : ∃ chf : Nat → Nat, (fun j => if j = 0 + 1 then nd2 else (fun j => if j = 0 then nd + 1 else (fun _ => 0 : Nat → Nat) j) j) = chf := ⟨_, rfl⟩
  have hc0 : chf 0 = nd + 1 := by rw [← hchf]; rfl
  have hc1 : chf 1 = nd2 := by rw [← hchf]; rfl
  rw [hchf] at KC3
  obtain ⟨q1, q2, q3, q4, q5, q6⟩ := sSet_n S3 nd 5 2 nd3 W12.2.1 (4 - o) chf
  have aF : ∀ m, m ≠ nd → sEq S3 (sSet S3 nd 5 2 nd3 W12.2.1 (4 - o) chf) m := fun m hm => sSet_m S3 5 2 nd3 W12.2.1 (4 - o) chf hm
  have hN12 : N0 ≤ W12.2.1 := by
    have := h12.rdl
    omega
  have hsub := sub_of (sa := W12.2.1) (lvn := 4 - o) KC3 (by omega) (by omega) hx0 hx5 (by
    unfold nKd
    rw [q2, q3, q6]
    refine Or.inr (Or.inr (Or.inr (Or.inr (Or.inr (Or.inl ⟨rfl, rfl, ⟨c, by omega, hx1⟩, fun j hj => ?_⟩)))))
    obtain ⟨-, -, y3⟩ := KC3
    obtain ⟨z1, z2, z3, z4, z5, z6, z7⟩ := y3 j hj
    obtain ⟨-, v2, -, -, -, v6⟩ := aF (chf j) (by omega)
    rw [q1, v2, v6, z6, z7]
    exact ⟨rfl, by omega⟩) (by
    unfold oR
    rw [q5, q2]
    refine ⟨⟨hN12, by rw [htp4]; exact if_neg (by omega)⟩, Or.inr (Or.inr (Or.inr (Or.inr (Or.inr (Or.inl ⟨rfl, ?_⟩)))))⟩
    rw [q1, q1, hc0, hc1, hx7, hx1, hx2, (aF (nd + 1) (by omega)).2.2.2.2.1, (aF nd2 (by omega)).2.2.2.2.1, (j12 (nd + 1) (Nat.zero_le _) (by omega)).2.2.2.2.1, i20, j20]
    exact q18)
  refine ⟨W12.2.1, V5, σ12, tPut σ12 16 (σ12 0 16 - nI 1), p11 + 1, it3, nd3, mo3, sSet S3 nd 5 2 nd3 W12.2.1 (4 - o) chf, tp4, ?_, rfl, ⟨by rw [tPut_0, n16, pu_sub (by omega)]; rfl, fun j hj => tPut_ne hj, fun r hr => tPut_r (by omega)⟩, hV, by omega, wE.tr wV, tE, by omega, j8, by rw [zV]; show W12.2.1 + 1 + 3 ≤ _; omega, by rw [zV]; show W12.2.2.1 + 5 + 60 ≤ _; omega, ?_, ?_, fun b hb => ?_, fun m q hm hq => ?_, hsub, ?_, ?_, by rw [q2]; omega, q6, q5, by have := wE.2.1; omega, by rw [zV]; show W12.2.1 < W12.2.1 + 1; omega⟩
  · rw [e13, pu_B2]
    unfold f_X13_init f_X8_init_c13
    rw [e14, pu_B1, pu_B2, e15, pu_B1, e16, pu_B1, e17, pu_B1, e18, pu_B1, pu_B2]
  · refine j11.fr (fun m hm => ?_) (fun m hm => rd_eq s12 m 7) (by omega)
    by_cases hmn : m = nd
    · rw [hmn, q2, q6]
      exact ⟨hk3.1.symm, hk3.2.symm⟩
    · exact ⟨(aF m hmn).2.1, (aF m hmn).2.2.2.2.2⟩
  · intro m m1 m2
    exact (((sSet_m S 5 0 0 0 (4 - o) (fun _ => 0) (show m ≠ nd by omega)).tr (i12 m m1 (by omega))).tr (j12 m m1 (by omega))).tr (aF m (by omega))
  · have b1 := w9.2.1
    have b2 := w11.2.1
    rw [z83] at b1
    rw [z10] at b2
    rw [tp4o b (by omega), j13 b (by rw [z10]; omega), i13 b (by rw [z83]; omega)]
  · rw [hxo m q (by omega) hq (fun z => by omega), hr8 m q (Or.inl (by omega)) hq]
  · rw [hxo nd 6 (by omega) (by omega) (fun _ => by omega), hr8 nd 6 (Or.inr (by omega)) (by omega)]
  · rw [hxo nd 8 (by omega) (by omega) (fun _ => by omega), hr8 nd 8 (Or.inr (by omega)) (by omega)]
end CH
