set_option maxRecDepth 100000
/-! READING: assigns, tasks -/
theorem bd_ite3 {α β ι : Type} {ρ : Type} (F : α → β → Int32 → ι → ρ) (c : Prop) [Decidable c] (a1 : α) (a2 : β) (w : ι) : (gBd F fun k => if c then k a1 a2 (nI 1) w else k a1 a2 (nI 0) w) = F a1 a2 (if c then nI 1 else nI 0) w := by
  by_cases h : c
  · simp only [gBd, if_pos h]
  · simp only [gBd, if_neg h]
theorem bd_ite4 {α β γ ι : Type} {ρ : Type} (F : α → β → γ → Int32 → ι → ρ) (c : Prop) [Decidable c] (a1 : α) (a2 : β) (a3 : γ) (w : ι) : (gBd F fun k => if c then k a1 a2 a3 (nI 1) w else k a1 a2 a3 (nI 0) w) = F a1 a2 a3 (if c then nI 1 else nI 0) w := by
  by_cases h : c
  · simp only [gBd, if_pos h]
  · simp only [gBd, if_neg h]
section R8
variable {xa rd L N0 M0 p o it nd mo n : Nat} {w : gw} {σ : TS} {pl : Int32}
theorem assign_s (h : pSt xa rd L N0 M0 w σ p o it nd mo) (hp : p < L) (hn : n < 64) (h0 : w.2.1 ≤ N0 + 398) (h1 : w.2.2.1 ≤ M0 + 8990) : lfR xa rd L N0 M0 w σ p o it nd mo n 4 pl (f_X4_assign rd pl w) (t_X2_readsSet (nI n) σ) := by
  obtain ⟨W1, e1, hon⟩ := step1 h hp
  obtain ⟨h2, hw2, ht2, hr2, hz2, -⟩ := hon
  have hrl := h.rdl
  have hz : (nI 0 : Int32) = 0 := by decide
  have hz1 : ¬ (nI 1 : Int32) = 0 := by decide
  unfold f_X4_assign t_X2_readsSet
  rw [pu_I (k := 0) h.1 rfl, pu_B1, e1, pu_B1, pu_Ob h2.1, pu_B1, pu_Bd, h.t12, nI_add]
  rcases digit_s h2 (a := 0) (b := 3) (by omega) (by omega) with ⟨c, W2, σ2, -, c1, f1, f2, f3, hon2⟩ | ⟨f1, f2⟩
  · obtain ⟨h3, hw3, ht3, hr3, hz3, hpL⟩ := hon2
    have h3' := h3.pX n 1 (nI c)
    rw [show (48 : Nat) = 48 + 0 from rfl, show (51 : Nat) = 48 + 3 from rfl, f1, gB2X_r, pu_Ob h3.1, pu_B1, sign_f h3', pu_B2, f2, pu_B2, if_neg hz1, f3, put_t _ hn (by omega), pu_B2, here_t h3', pu_B2, pu_Bd, pu_Bd, pu_Bd, pu_Ob h3.1, pu_B1, sign_f h3', pu_B2, here_t h3', pu_B2]
    rw [Nat.sub_zero]
    -- behind the sign = or +
    have key : ∀ (b : Nat), b ≤ 1 → (sG (pX σ2 n 1 (nI c)) L (p + 1 + 1) = nI 43 ↔ b = 1) → p + 1 + 1 < L → lfR xa rd L N0 M0 w σ p o it nd mo n 4 pl (gB1 (some rd) fun a17 => gB1 (gOb W2 a17 4) fun _ => gB2X (f_X4_need a17 (nI 1) W2) (fun q19 n20 w21 => some (.inl (q19, n20), w21)) fun _ w18 => gB1 (gOb w18 rd 4) fun _ => gB2 (f_X4_sign rd  w18) fun x23 w22 => gBd (fun (x26 : Int32) (x27 : Int32) (x28 : Int32) (w25 : gw) => gB1 (gI w25 rd 4 0) fun x29 => gB1 (gPut w25 rd 4 0 (gi (x29 + (nI 1)))) fun w30 => gB2 (gNew w30 12) fun a31 w32 => gB1 (gOb w32 rd 4) fun _ => gB2X (f_X4_signed rd  w32) (fun q35 n36 w37 => some (.inl (q35, n36), w37)) fun x38 w33 => gB2 (f_X12_init a31 x26 x27 x28 x38 w33) fun _ w39 => some (.inr (some a31), w39)) fun k24 => if x23 = (nI 43) then k24 pl (nI c) (nI 1) w22 else k24 pl (nI c) (nI 0) w22)
      (gB2 (t_X2_here  (pX σ2 n 1 (nI c))) fun x12 w11 => gBd (fun (x15 : Int32) (x16 : Int32) (x17 : Int32) (x18 : Int32) (w14 : TS) => gB2 (t_X2_put x16 x17 x18 w14) fun _ w19 => gBd (tPut w19 12 ((w19 0 12) + (nI 1))) fun w20 => gB2 (t_X2_takesSigned  w20) fun x22 w21 => gB2 (t_X2_put x15 (nI 3) (w21 0 18) w21) fun _ w23 => gB1 (gZ x22) fun _ => some (x22, w23)) fun k13 => if x12 = (nI 43) then k13 (nI n) (nI n) (nI 2) (nI 1) w11 else k13 (nI n) (nI n) (nI 2) (nI 0) w11) := by
      intro b hb hbs hpl
      have hif : (if sG (pX σ2 n 1 (nI c)) L (p + 1 + 1) = nI 43 then nI 1 else nI 0 : Int32) = nI b := by
        by_cases hb1 : b = 1
        · rw [if_pos (hbs.mpr hb1), hb1]
        · rw [if_neg (fun z => hb1 (hbs.mp z)), show b = 0 by omega]
      have h4 := h3'.pX n 2 (nI b)
      obtain ⟨W3, e3, hon3⟩ := step1 h4 hpl
      obtain ⟨h5, hw5, ht5, hr5, hz5, -⟩ := hon3
      have hW3 : W3.2 = w.2 := by rw [hz5, hz3, hz2]
      obtain ⟨W4, e4, q4, o4, z4, h6, hw6⟩ := newc h5 (ci := 12) (m := 4) (fs := [gi 0, gi 0, gi 0, gi 0]) rfl (by omega) (by rw [hW3]; exact h0) (by rw [hW3]; exact h1)
      rw [pu_B1, pu_Ob h3.1, pu_B1, need_1, gB2X_r, pu_Ob h3.1, pu_B1, sign_f h3', pu_B2, bd_ite3, hif, here_t h3', pu_B2, bd_ite4, hif]
      try dsimp only
      rw [pu_I (k := 0) h3.1 rfl, pu_B1, e3, pu_B1, e4, pu_B2, pu_Ob h6.1, pu_B1, put_t _ hn (by omega), pu_B2, pu_Bd, h4.t12, nI_add]
      have hK : W3.2.2.2 = w.2.2.2 := by rw [hW3]
      have hW31 : W3.2.1 = w.2.1 := by rw [hW3]
      have hW32 : W3.2.2.1 = w.2.2.1 := by rw [hW3]
      have hwA := ((hw2.tr hw3).tr hw5).tr hw6
      have htA := (((ht2.tr ht3).pX (n := n) (k := 1) (nI c)).pX (n := n) (k := 2) (nI b)).tr ht5
      rcases signed_s h6 with ⟨x, W5, σ5, p5, s1, s2, s3, s4, s5⟩ | hf
      · right
        obtain ⟨g1, g2, g3, g4, g5, g6⟩ := s4
        have a3 : W5.1 W3.2.1 = _ := (g2.2.2.2 _ (by rw [z4]; show W3.2.1 < W3.2.1 + 1; omega) (by omega)).trans q4
        obtain ⟨W6, e6, q6, o6, z6, b6⟩ := st_put (k := 0) a3 (by show 0 < 4; omega) g1.bd (gi pl)
        obtain ⟨W7, e7, q7, o7, z7, b7⟩ := st_put (k := 1) q6 (by show 1 < 4; omega) b6 (gi (nI c))
        obtain ⟨W8, e8, q8, o8, z8, b8⟩ := st_put (k := 2) q7 (by show 2 < 4; omega) b7 (gi (nI b))
        obtain ⟨W9, e9, q9, o9, z9, b9⟩ := st_put (k := 3) q8 (by show 3 < 4; omega) b8 (gi x)
        have hz9 : W9.2 = (W3.2.1 + 1, W3.2.2.1 + 4, W3.2.2.2) := by rw [z9, z8, z7, z6, g5, z4]
        have oo : ∀ b, b < w.2.1 → W9.1 b = W5.1 b := fun b hb => (o9 b (by omega)).trans ((o8 b (by omega)).trans ((o7 b (by omega)).trans (o6 b (by omega))))
        have hw : wF rd w W9 := ⟨b9, by rw [hz9]; show w.2.1 ≤ W3.2.1 + 1; omega, by rw [hz9]; exact hK, fun b hb hbn => (oo b hb).trans ((hwA.tr g2).2.2.2 b hb hbn)⟩
        have hgb : gZ (nI b) = some () := by
          rcases (show b = 0 ∨ b = 1 by omega) with rfl | rfl
          · exact gZ_0
          · exact gZ_1
        have r1 : rr (pX σ5 n 3 x) n 1 = nI c := by
          rw [pX_n (by omega) (by omega) (Or.inr (by omega))]
          show σ5 1 _ = _
          rw [g4, hr5]
          show rr (pX (pX σ2 n 1 (nI c)) n 2 (nI b)) n 1 = _
          rw [pX_n (by omega) (by omega) (Or.inr (by omega)), pX_s _ _ (by omega)]
        have r2 : rr (pX σ5 n 3 x) n 2 = nI b := by
          rw [pX_n (by omega) (by omega) (Or.inr (by omega))]
          show σ5 1 _ = _
          rw [g4, hr5]
          exact pX_s _ _ (by omega)
        refine ⟨W3.2.1, W9, pX σ5 n 3 x, p5, ?_, ?_, (g1.cp hrl b9 oo (by rw [hz9, g5, z4]) (by rw [hz9]; show W3.2.1 + 1 ≤ _; omega) (by rw [hz9]; show W3.2.2.1 + 4 ≤ _; omega)).pX n 3 _, by omega, hw, (htA.tr g3).pX _, by omega, by rw [hz9]; show W3.2.1 < W3.2.1 + 1; omega, by rw [hz9]; show W3.2.1 + 1 ≤ _; omega, by rw [hz9]; show W3.2.2.1 + 4 ≤ _; omega, fun m q hm hq => ?_, Or.inr (Or.inr (Or.inr ⟨rfl, ?_, ⟨c, by omega, r1⟩, ?_⟩))⟩
        · rw [s1, gB2X_r]
          unfold f_X12_init f_X8_init_c12
          rw [e6, pu_B1, pu_B2, e7, pu_B1, hgb, pu_B1, e8, pu_B1, e9, pu_B1, pu_B2]
        · rw [s2, pu_B2, s3, put_t _ hn (by omega), pu_B2, gZ_1, pu_B1]
        · rw [pX_n (by omega) hq (by omega)]
          show σ5 1 _ = σ 1 _
          rw [g4, hr5]
          show rr (pX (pX σ2 n 1 (nI c)) n 2 (nI b)) m q = _
          rw [pX_n (by omega) hq (by omega), pX_n (by omega) hq (by omega)]
          show σ2 1 _ = σ 1 _
          rw [hr3, hr2]
        · rw [r1, r2, pX_s _ _ (by omega)]
          exact q9
        · rw [r2]
          rcases (show b = 0 ∨ b = 1 by omega) with rfl | rfl
          · exact Or.inl rfl
          · exact Or.inr rfl
      · left
        refine pFail.bk2 hf hwA htA (fun q c v hv => ?_) (fun v hv => ?_)
        · rw [hv, gB2X_l]
        · rw [hv, pu_B2, put_t _ hn (by omega), pu_B2, gZ_0, pu_B1]
          exact ⟨_, rfl, pX_r (by omega), tF.rf.pX _⟩
    by_cases s61 : sG (pX σ2 n 1 (nI c)) L (p + 1 + 1) = nI 61
    · rw [if_pos s61, if_pos s61]
      exact key 0 (by omega) ⟨fun z => by rw [s61] at z; exact absurd z (by decide), fun z => absurd z (by omega)⟩ (sG_eq h3' s61 (by omega))
    · rw [if_neg s61, if_neg s61]
      by_cases s43 : sG (pX σ2 n 1 (nI c)) L (p + 1 + 1) = nI 43
      · rw [if_pos s43, if_pos s43]
        exact key 1 (by omega) ⟨fun _ => rfl, fun _ => s43⟩ (sG_eq h3' s43 (by omega))
      · rw [if_neg s43, if_neg s43]
        left
        refine pFail.bk (fail_need (R := Option Nat) h3' (fun v hv => ?_) rfl) (hw2.tr hw3) ((ht2.tr ht3).pX _) (fun _ _ _ hv => hv) (fun _ hv => hv)
        try dsimp only
        rw [pu_B1, pu_Ob h3.1, pu_B1, hz, hv, gB2X_l]
  · left
    refine pFail.bk (fail_need (R := Int32) (fr := f_X4_takes rd (nI 48) (nI 51) W1) h2 f1 rfl) hw2 ht2 (fun q c v hv => ?_) (fun v hv => ?_)
    · rw [hv, gB2X_l]
    · rw [f2, pu_B2, if_pos hz]
      exact hv
/-- a task's object is made at its end -/
theorem task_s (h : pSt xa rd L N0 M0 w σ p o it nd mo) (hp : p < L) (hn : n < 64) (h0 : w.2.1 ≤ N0 + 398) (h1 : w.2.2.1 ≤ M0 + 8990) (hfr : rr σ n 4 = -1) : lfR xa rd L N0 M0 w σ p o it nd mo n 1 pl (f_X4_task rd pl w) (t_X2_readsTask (nI n) σ) := by
  obtain ⟨W1, e1, hon⟩ := step1 h hp
  obtain ⟨h2, hw2, ht2, hr2, hz2, -⟩ := hon
  have hrl := h.rdl
  have hz : (nI 0 : Int32) = 0 := by decide
  have hz1 : ¬ (nI 1 : Int32) = 0 := by decide
  unfold f_X4_task t_X2_readsTask
  rw [pu_I (k := 0) h.1 rfl, pu_B1, e1, pu_B1, pu_Ob h2.1, pu_B1, pu_Bd, h.t12, nI_add]
  rcases code_s h2 with ⟨c, W2, σ2, c1, f1, f2, f3, hon2⟩ | ⟨f1, f2⟩
  · obtain ⟨h3, hw3, ht3, hr3, hz3, -⟩ := hon2
    -- behind code, retries, delay
    have tail : ∀ (W : gw) (τ : TS) (p4 re de : Nat), pSt xa rd L N0 M0 W τ p4 o it nd mo → p < p4 → wF rd w W → tF σ τ → W.2 = w.2 → re ≤ 9 → de ≤ 999 → rr τ n 1 = nI c → rr τ n 2 = nI re → rr τ n 3 = nI de → rr τ n 4 = -1 → (∀ m q, m ≠ n ∨ q = 0 ∨ 5 ≤ q → q < 9 → rr τ m q = rr σ m q) →
        lfR xa rd L N0 M0 w σ p o it nd mo n 1 pl (gB2 (gNew W 9) fun a17 w18 => gB1 (gOb w18 rd 4) fun _ => gB2 (f_X4_skips rd (nI 99) w18) fun x20 w19 => gBd (fun (r23 : Option Nat) (r24 : Option Nat) (x25 : Int32) (x26 : Int32) (x27 : Int32) (x28 : Int32) (x29 : Int32) (w22 : gw) => gB1 r24 fun a30 => gB2 (f_X9_init a30 x25 x26 x27 x28 x29 w22) fun _ w31 => some (.inr r23, w31)) fun k21 => if x20 = 0 then k21 (some a17) (some a17) pl (nI c) (nI re) (nI de) (-1) w19 else gB1 (gOb w19 rd 4) fun _ => gB2X (f_X4_code rd  w19) (fun q35 n36 w37 => some (.inl (q35, n36), w37)) fun x38 w33 => k21 (some a17) (some a17) pl (nI c) (nI re) (nI de) x38 w33)
          (gB2 (t_X2_takes (nI 99) τ) fun x14 w13 => if x14 = 0 then some ((nI 1), w13) else gB2 (t_X2_takesCode  w13) fun x17 w16 => if x17 = 0 then some ((nI 0), w16) else gB2 (t_X2_put (nI n) (nI 4) (w16 0 18) w16) fun _ w19 => some ((nI 1), w19)) := by
      intro W τ p4 re de g0 gp gwf gt gz hre hde r1 r2 r3 r4 rm
      have hW1 : W.2.1 = w.2.1 := by rw [gz]
      have hW2 : W.2.2.1 = w.2.2.1 := by rw [gz]
      have hK : W.2.2.2 = w.2.2.2 := by rw [gz]
      obtain ⟨W3, e3, q3, o3, z3, h4, hw4⟩ := newc g0 (ci := 9) (m := 5) (fs := [gi 0, gi 0, gi 0, gi 0, gi 0]) rfl (by omega) (by omega) (by omega)
      rw [e3, pu_B2, pu_Ob h4.1, pu_B1]
      have hfin : ∀ (V : gw) (τ1 : TS) (p5 : Nat) (x : Int32), pTo xa rd L N0 M0 W3 τ p4 o it nd mo V τ1 p5 → (x = -1 ∨ ∃ u, u < 8 ∧ x = nI u) → ∃ V5, f_X9_init W.2.1 pl (nI c) (nI re) (nI de) x V = some ((), V5) ∧ ∀ τ', (∀ j, τ' 0 j = τ1 0 j) → τ' 8 = τ1 8 → tF τ1 τ' → (∀ q, q < 4 → rr τ' n q = rr τ n q) → rr τ' n 4 = x → (∀ m q, m ≠ n ∨ q = 0 ∨ 5 ≤ q → q < 9 → rr τ' m q = rr τ1 m q) → lfR xa rd L N0 M0 w σ p o it nd mo n 1 pl (some (.inr (some W.2.1), V5)) (some (nI 1, τ')) := by
        intro V τ1 p5 x hto hx
        obtain ⟨g1, g2, g3, g4, g5, g6⟩ := hto
        have a3 : V.1 W.2.1 = _ := (g2.2.2.2 _ (by rw [z3]; show W.2.1 < W.2.1 + 1; omega) (by omega)).trans q3
        obtain ⟨V1, e4, q4, o4, z4, b4⟩ := st_put (k := 0) a3 (by show 0 < 5; omega) g1.bd (gi pl)
        obtain ⟨V2, e5, q5, o5, z5, b5⟩ := st_put (k := 1) q4 (by show 1 < 5; omega) b4 (gi (nI c))
        obtain ⟨V3, e6, q6, o6, z6, b6⟩ := st_put (k := 2) q5 (by show 2 < 5; omega) b5 (gi (nI re))
        obtain ⟨V4, e7, q7, o7, z7, b7⟩ := st_put (k := 3) q6 (by show 3 < 5; omega) b6 (gi (nI de))
        obtain ⟨V5, e8, q8, o8, z8, b8⟩ := st_put (k := 4) q7 (by show 4 < 5; omega) b7 (gi x)
        have hz8 : V5.2 = (W.2.1 + 1, W.2.2.1 + 5, W.2.2.2) := by rw [z8, z7, z6, z5, z4, g5, z3]
        have oo : ∀ b, b < w.2.1 → V5.1 b = V.1 b := fun b hb => (o8 b (by omega)).trans ((o7 b (by omega)).trans ((o6 b (by omega)).trans ((o5 b (by omega)).trans (o4 b (by omega)))))
        have hw : wF rd w V5 := ⟨b8, by rw [hz8]; show w.2.1 ≤ W.2.1 + 1; omega, by rw [hz8]; exact hK, fun b hb hbn => (oo b hb).trans (((gwf.tr hw4).tr g2).2.2.2 b hb hbn)⟩
        refine ⟨V5, ?_, fun τ' t0 t8 tf t1 t2 trr => Or.inr ⟨W.2.1, V5, τ', p5, rfl, rfl, (g1.cp hrl b8 oo (by rw [hz8, g5, z3]) (by rw [hz8]; show W.2.1 + 1 ≤ _; omega) (by rw [hz8]; show W.2.2.1 + 5 ≤ _; omega)).sg (fun j _ => t0 j) t8, by omega, hw, (gt.tr g3).tr tf, by omega, by rw [hz8]; show W.2.1 < W.2.1 + 1; omega, by rw [hz8]; show W.2.1 + 1 ≤ _; omega, by rw [hz8]; show W.2.2.1 + 5 ≤ _; omega, fun m q hm hq => ?_, Or.inl ⟨rfl, ?_, ⟨c, c1, (t1 1 (by omega)).trans r1⟩, ⟨re, hre, (t1 2 (by omega)).trans r2⟩, ⟨de, hde, (t1 3 (by omega)).trans r3⟩, ?_⟩⟩⟩
        · unfold f_X9_init f_X8_init_c9
          rw [e4, pu_B1, pu_B2, e5, pu_B1, e6, pu_B1, e7, pu_B1, e8, pu_B1]
        · rw [trr m q hm hq, ← rm m q hm hq]
          show τ1 1 _ = _
          rw [g4]
          rfl
        · rw [t1 1 (by omega), t1 2 (by omega), t1 3 (by omega), t2, r1, r2, r3]
          exact q8
        · rw [t2]
          exact hx
      rcases skips_s h4 (c := 99) (by omega) with ⟨-, W4, σ4, s1, s2, hon4⟩ | ⟨-, s1, s2⟩
      · rw [s1, s2, pu_B2, pu_B2, pu_Bd, if_neg hz1, if_neg hz1, pu_Ob hon4.1.1, pu_B1]
        rcases code_s hon4.1 with ⟨u, W5, σ5, u1, n1, n2, n3, n4⟩ | ⟨n1, n2⟩
        · obtain ⟨V5, e6, hres⟩ := hfin W5 σ5 _ (nI u) (hon4.to.tr n4.to) (Or.inr ⟨u, u1, rfl⟩)
          rw [n1, gB2X_r]
          try dsimp only
          rw [pu_B1, e6, pu_B2, n2, pu_B2, if_neg hz1, n3, put_t _ hn (by omega), pu_B2]
          refine hres _ (fun j => by rw [pX_r (by omega)]) (pX_r (by omega)) (tF.rf.pX _) (fun q hq => ?_) (pX_s _ _ (by omega)) (fun m q hm hq => pX_n (by omega) hq (by omega))
          rw [pX_n (by omega) (by omega) (Or.inr (by omega))]
          show σ5 1 _ = _
          rw [n4.2.2.2.1, hon4.2.2.2.1]
          rfl
        · left
          refine pFail.bk (fail_need (R := Int32) hon4.1 n1 rfl) ((gwf.tr hw4).tr hon4.2.1) (gt.tr hon4.2.2.1) (fun q c v hv => ?_) (fun v hv => ?_)
          · rw [hv, gB2X_l]
          · rw [n2, pu_B2, if_pos hz]
            exact hv
      · rw [s1, s2, pu_B2, pu_B2, pu_Bd, if_pos hz, if_pos hz]
        obtain ⟨V5, e6, hres⟩ := hfin W3 _ _ (-1) (pTo.rf h4) (Or.inl rfl)
        try dsimp only
        rw [pu_B1, e6, pu_B2]
        exact hres _ (fun _ => rfl) rfl tF.rf (fun _ _ => rfl) r4 (fun _ _ _ _ => rfl)
    have h3' := ((h3.pX n 1 (nI c)).pX n 2 (nI 0)).pX n 3 (nI 0)
    have hz32 : W2.2 = w.2 := by rw [hz3, hz2]
    have htA := (((ht2.tr ht3).pX (n := n) (k := 1) (nI c)).pX (n := n) (k := 2) (nI 0)).pX (n := n) (k := 3) (nI 0)
    have hwA := hw2.tr hw3
    have e21 : ∀ m q, rr σ2 m q = rr σ m q := fun m q => by
      show σ2 1 _ = σ 1 _
      rw [hr3, hr2]
    obtain ⟨τ, hτ⟩ : ∃ τ, pX (pX (pX σ2 n 1 (nI c)) n 2 (nI 0)) n 3 (nI 0) = τ := ⟨_, rfl⟩
    have r1 : rr τ n 1 = nI c := by
      rw [← hτ, pX_n (by omega) (by omega) (Or.inr (by omega)), pX_n (by omega) (by omega) (Or.inr (by omega)), pX_s _ _ (by omega)]
    have r2 : rr τ n 2 = nI 0 := by
      rw [← hτ, pX_n (by omega) (by omega) (Or.inr (by omega)), pX_s _ _ (by omega)]
    have r3 : rr τ n 3 = nI 0 := by
      rw [← hτ, pX_s _ _ (by omega)]
    have r4 : rr τ n 4 = -1 := by
      rw [← hτ, pX_n (by omega) (by omega) (Or.inr (by omega)), pX_n (by omega) (by omega) (Or.inr (by omega)), pX_n (by omega) (by omega) (Or.inr (by omega)), e21]
      exact hfr
    have rm : ∀ m q, m ≠ n ∨ q = 0 ∨ 5 ≤ q → q < 9 → rr τ m q = rr σ m q := fun m q hm hq => by
      rw [← hτ, pX_n (by omega) hq (by omega), pX_n (by omega) hq (by omega), pX_n (by omega) hq (by omega), e21]
    rw [f1, gB2X_r, pu_Ob h3.1, pu_B1, f2, pu_B2, if_neg hz1, f3, put_t _ hn (by omega), pu_B2, put_t _ hn (by omega), pu_B2, put_t _ hn (by omega), pu_B2]
    rw [hτ] at h3' htA ⊢
    rcases skips_s h3' (c := 114) (by omega) with ⟨-, W3, σ3, s1, s2, hon3⟩ | ⟨-, s1, s2⟩
    · obtain ⟨h5, hw5, ht5, hr5, hz5, -⟩ := hon3
      rw [s1, s2, pu_B2, pu_B2, pu_Bd, pu_Bd, if_neg hz1, if_neg hz1, pu_Ob h5.1, pu_B1]
      rcases digit_s h5 (a := 0) (b := 9) (by omega) (by omega) with ⟨re, W4, σ4, -, d1, d2, d3, d4, hon4⟩ | ⟨d1, d2⟩
      · obtain ⟨h6, hw6, ht6, hr6, hz6, -⟩ := hon4
        have h6' := h6.pX n 2 (nI re)
        obtain ⟨τ2, hτ2⟩ : ∃ τ2, pX σ4 n 2 (nI re) = τ2 := ⟨_, rfl⟩
        have e4 : ∀ m q, rr σ4 m q = rr τ m q := fun m q => by
          show σ4 1 _ = τ 1 _
          rw [hr6, hr5]
        have x1 : rr τ2 n 1 = nI c := by rw [← hτ2, pX_n (by omega) (by omega) (Or.inr (by omega)), e4, r1]
        have x2 : rr τ2 n 2 = nI re := by rw [← hτ2, pX_s _ _ (by omega)]
        have x3 : rr τ2 n 3 = nI 0 := by rw [← hτ2, pX_n (by omega) (by omega) (Or.inr (by omega)), e4, r3]
        have x4 : rr τ2 n 4 = -1 := by rw [← hτ2, pX_n (by omega) (by omega) (Or.inr (by omega)), e4, r4]
        have xm : ∀ m q, m ≠ n ∨ q = 0 ∨ 5 ≤ q → q < 9 → rr τ2 m q = rr σ m q := fun m q hm hq => by
          rw [← hτ2, pX_n (by omega) hq (by omega), e4, rm m q hm hq]
        have htB := ((htA.tr ht5).tr ht6).pX (n := n) (k := 2) (nI re)
        have hwB := (hwA.tr hw5).tr hw6
        have hzB : W4.2 = w.2 := by rw [hz6, hz5, hz32]
        have d2' : f_X4_takes rd (nI 48) (nI 57) W3 = some (.inr (nI re), W4) := d2
        rw [d2', gB2X_r, pu_Ob h6.1, pu_B1, d3, pu_B2, if_neg hz1, d4, put_t _ hn (by omega), pu_B2]
        rw [hτ2] at h6' htB ⊢
        rcases skips_s h6' (c := 43) (by omega) with ⟨-, W5, σ5, t1, t2, hon5⟩ | ⟨-, t1, t2⟩
        · obtain ⟨h7, hw7, ht7, hr7, hz7, -⟩ := hon5
          rw [t1, t2, pu_B2, pu_B2, pu_Bd, if_neg hz1, if_neg hz1, pu_Ob h7.1, pu_B1]
          rcases number_s h7 with ⟨de, W6, σ6, p6, v1, n1, n2, n3, n4, n5⟩ | ⟨n1, n2⟩
          · obtain ⟨m1, m2, m3, m4, m5, m6⟩ := n4
            have e6 : ∀ m q, rr σ6 m q = rr τ2 m q := fun m q => by
              show σ6 1 _ = τ2 1 _
              rw [m4, hr7]
            rw [n1, gB2X_r, n2, pu_B2, if_neg hz1, n3, put_t _ hn (by omega), pu_B2]
            try dsimp only
            exact tail W6 (pX σ6 n 3 (nI de)) p6 re de (m1.pX n 3 _) (by omega) ((hwB.tr hw7).tr m2) (((htB.tr ht7).tr m3).pX _) (by rw [m5, hz7, hzB]) d1 v1 (by rw [pX_n (by omega) (by omega) (Or.inr (by omega)), e6, x1]) (by rw [pX_n (by omega) (by omega) (Or.inr (by omega)), e6, x2]) (pX_s _ _ (by omega)) (by rw [pX_n (by omega) (by omega) (Or.inr (by omega)), e6, x4]) (fun m q hm hq => by rw [pX_n (by omega) hq (by omega), e6, xm m q hm hq])
          · left
            refine pFail.bk (fail_need (R := Int32) h7 n1 rfl) (hwB.tr hw7) (htB.tr ht7) (fun q c v hv => ?_) (fun v hv => ?_)
            · rw [hv, gB2X_l]
            · rw [n2, pu_B2, if_pos hz]
              exact hv
        · rw [t1, t2, pu_B2, pu_B2, pu_Bd, if_pos hz, if_pos hz]
          try dsimp only
          exact tail W4 τ2 (p + 1 + 1 + 1 + 1) re 0 h6' (by omega) hwB htB hzB d1 (by omega) x1 x2 x3 x4 xm
      · left
        refine pFail.bk (fail_need (R := Int32) (fr := f_X4_takes rd (nI 48) (nI 57) W3) h5 d1 rfl) (hwA.tr hw5) (htA.tr ht5) (fun q c v hv => ?_) (fun v hv => ?_)
        · rw [hv, gB2X_l]
        · rw [d2, pu_B2, if_pos hz]
          exact hv
    · rw [s1, s2, pu_B2, pu_B2, pu_Bd, pu_Bd, if_pos hz, if_pos hz]
      try dsimp only
      exact tail W2 τ (p + 1 + 1) 0 0 h3' (by omega) hwA htA hz32 (by omega) (by omega) r1 r2 r3 r4 rm
  · left
    refine pFail.bk (fail_need (R := Int32) h2 f1 rfl) hw2 ht2 (fun q c v hv => ?_) (fun v hv => ?_)
    · rw [hv, gB2X_l]
    · rw [f2, pu_B2, if_pos hz]
      exact hv
end R8
