set_option maxRecDepth 100000
/-! READING: what a read node comes to; leaves; lists -/
def up2 (f : Nat → Nat → Int32) (c q : Nat) (x : Int32) : Nat → Nat → Int32 := fun m k => if m = c ∧ k = q then x else f m k
/-- where both readers stand -/
def rdC (xa rd L N0 M0 : Nat) (S : SV) (tp : Nat → Nat) (w : gw) (σ : TS) (p o it nd mo : Nat) : Prop := pSt xa rd L N0 M0 w σ p o it nd mo ∧ pG S (rr σ) nd it mo p ∧ w.2.1 ≤ N0 + 6 * nd + 4 ∧ w.2.2.1 ≤ M0 + 120 * nd + 100 ∧ (w.1 (w.2.2.2 5) = none ∧ w.2.2.2 5 < N0) ∧ 1000 ≤ tp rd
/-- what comes of a node that is read -/
def rdR (xa rd L N0 M0 : Nat) (S : SV) (tp : Nat → Nat) (w : gw) (σ : TS) (p o it nd mo : Nat) (kp : Nat → Prop) (ar : Int32) (rl : Nat → Nat → Int32) (fr : Option (((Nat × Nat) ⊕ Option Nat) × gw)) (tr : Option (Int32 × TS)) : Prop := pFail L N0 M0 rd w σ fr tr ∨
  ∃ a W σ1 p1 it1 nd1 mo1 S1 tp1, fr = some (.inr (some a), W) ∧ tr = some (nI 1, σ1) ∧ pSt xa rd L N0 M0 W σ1 p1 o it1 nd1 mo1 ∧ p < p1 ∧ wF rd w W ∧ tF σ σ1 ∧ nd < nd1 ∧ nd1 ≤ 2 * it1 ∧ W.2.1 + 3 ≤ w.2.1 + 6 * (nd1 - nd) ∧ W.2.2.1 + 60 ≤ w.2.2.1 + 120 * (nd1 - nd) ∧ pG S1 (rr σ1) nd1 it1 mo1 p1 ∧ agr S S1 0 nd ∧ (∀ b, b < w.2.1 → tp1 b = tp b) ∧ (∀ m q, m < nd → q < 9 → rr σ1 m q = rl m q) ∧ sub S1 (rr σ1) W tp1 N0 nd nd1 ∧ rr σ1 nd 6 = -1 ∧ rr σ1 nd 8 = ar ∧ kp (sKd S1 nd) ∧ sLv S1 nd = 4 - o ∧ sSa S1 nd = a ∧ w.2.1 ≤ a ∧ a < W.2.1
theorem idX {R : Type} (x : Option (((Nat × Nat) ⊕ R) × gw)) : (gB2X x (fun q n w => some (.inl (q, n), w)) fun r w => some (.inr r, w)) = x := by
  match x with
  | some (.inl q, w) => rfl
  | some (.inr r, w) => rfl
  | none => rfl
theorem gZ_id {x : Option (Int32 × TS)} {v : Int32} {τ : TS} (h : x = some (v, τ)) (hv : v = nI 0 ∨ v = nI 1) : (gB2 x fun x27 w26 => gB1 (gZ x27) fun _ => some (x27, w26)) = some (v, τ) := by
  rw [h, pu_B2]
  rcases hv with rfl | rfl
  · rw [gZ_0, pu_B1]
  · rw [gZ_1, pu_B1]
def isIt (x : Int32) : Prop := x = nI 116 ∨ x = nI 119 ∨ x = nI 115 ∨ x = nI 120 ∨ x = nI 91 ∨ x = nI 40
section IT
variable {xa rd L N0 M0 p o it nd mo : Nat} {w : gw} {σ : TS} {S : SV} {tp : Nat → Nat}
theorem isIt_t (x : Int32) (σ : TS) : (isIt x → t_X2_beginsItem x σ = some (nI 1, σ)) ∧ (¬ isIt x → t_X2_beginsItem x σ = some (nI 0, σ)) := by
  unfold t_X2_beginsItem isIt
  simp only [pu_Bd]
  constructor
  · rintro (h | h | h | h | h | h)
    · rw [if_pos h]
    · rw [if_neg (by rw [h]; decide), if_pos h]
    · rw [if_neg (by rw [h]; decide), if_neg (by rw [h]; decide), if_pos h]
    · rw [if_neg (by rw [h]; decide), if_neg (by rw [h]; decide), if_neg (by rw [h]; decide), if_pos h]
    · rw [if_neg (by rw [h]; decide), if_neg (by rw [h]; decide), if_neg (by rw [h]; decide), if_neg (by rw [h]; decide), if_pos h]
    · rw [if_neg (by rw [h]; decide), if_neg (by rw [h]; decide), if_neg (by rw [h]; decide), if_neg (by rw [h]; decide), if_neg (by rw [h]; decide), if_pos h]
  · intro h
    rw [if_neg (fun z => h (Or.inl z)), if_neg (fun z => h (Or.inr (Or.inl z))), if_neg (fun z => h (Or.inr (Or.inr (Or.inl z)))), if_neg (fun z => h (Or.inr (Or.inr (Or.inr (Or.inl z))))), if_neg (fun z => h (Or.inr (Or.inr (Or.inr (Or.inr (Or.inl z)))))), if_neg (fun z => h (Or.inr (Or.inr (Or.inr (Or.inr (Or.inr z))))))]
theorem isIt_f (h : pSt xa rd L N0 M0 w σ p o it nd mo) : (isIt (sG σ L p) → f_X4_isItem rd w = some (nI 1, w)) ∧ (¬ isIt (sG σ L p) → f_X4_isItem rd w = some (nI 0, w)) := by
  unfold f_X4_isItem isIt
  rw [pu_Ob h.1, pu_B1, sign_f h, pu_B2, pu_Bd]
  generalize sG σ L p = x
  constructor
  · rintro (h | h | h | h | h | h)
    · rw [if_pos h]
    · rw [if_neg (by rw [h]; decide), if_pos h]
    · rw [if_neg (by rw [h]; decide), if_neg (by rw [h]; decide), if_pos h]
    · rw [if_neg (by rw [h]; decide), if_neg (by rw [h]; decide), if_neg (by rw [h]; decide), if_pos h]
    · rw [if_neg (by rw [h]; decide), if_neg (by rw [h]; decide), if_neg (by rw [h]; decide), if_neg (by rw [h]; decide), if_pos h]
    · rw [if_neg (by rw [h]; decide), if_neg (by rw [h]; decide), if_neg (by rw [h]; decide), if_neg (by rw [h]; decide), if_neg (by rw [h]; decide), if_pos h]
  · intro h
    rw [if_neg (fun z => h (Or.inl z)), if_neg (fun z => h (Or.inr (Or.inl z))), if_neg (fun z => h (Or.inr (Or.inr (Or.inl z)))), if_neg (fun z => h (Or.inr (Or.inr (Or.inr (Or.inl z))))), if_neg (fun z => h (Or.inr (Or.inr (Or.inr (Or.inr (Or.inl z)))))), if_neg (fun z => h (Or.inr (Or.inr (Or.inr (Or.inr (Or.inr z))))))]
/-- both have a new item -/
theorem new_item (h : pSt xa rd L N0 M0 w σ p o it nd mo) (hit : it < 24) (hnd : nd ≤ 48) (kd : Nat) (ar : Int32) : ∃ W σ1, gPut w rd 4 2 (gi (nI it + nI 1)) = some W ∧ t_X2_makes (nI kd) ar (tPut σ 15 (σ 0 15 + nI 1)) = some (nI nd, σ1) ∧ pSt xa rd L N0 M0 W σ1 p o (it + 1) (nd + 1) mo ∧ wF rd w W ∧ W.2 = w.2 ∧ tF σ σ1 ∧ rr σ1 nd 0 = nI kd ∧ rr σ1 nd 7 = nI p ∧ rr σ1 nd 8 = ar ∧ (∀ q, q < 9 → q ≠ 0 → q ≠ 7 → q ≠ 8 → rr σ1 nd q = -1) ∧ ∀ m q, m ≠ nd → q < 9 → rr σ1 m q = rr σ m q := by
  obtain ⟨W, e, q1, o1, z1, b1⟩ := st_put (k := 2) h.1 (by show 2 < 4; omega) h.bd (gi (nI it + nI 1))
  have hne := h.ne
  have hrm := h.room
  obtain ⟨g1, ⟨ta, f2, f3, f4, f5, f6, ft, h2, h3, hta, h4⟩, g5, g6, g7, g8, g9, g10, g11, g12, g13, g14, g15, g16, g17, g18, g19, g20, g21, g22, g23, g24⟩ := h
  obtain ⟨σ1, m1, m2, m3, m4, m5, m6, m7, m8, m9⟩ := makes_t (σ := tPut σ 15 (σ 0 15 + nI 1)) (nd := nd) (p := p) (nI kd) ar ((tPut_ne (by omega)).trans g10) ((tPut_ne (by omega)).trans g8) (by omega)
  have ht : ta ≠ rd := ne_of h3 g1 (by simp)
  have q0 : ∀ j, j ≠ 14 → j ≠ 15 → σ1 0 j = σ 0 j := fun j j1 j2 => (m3 j j1).trans (tPut_ne j2)
  have q8 : σ1 8 = σ 8 := (m4.1 8 (by omega)).trans (tPut_r (by omega))
  refine ⟨W, σ1, e, m1, ⟨?_, ⟨ta, f2, f3, f4, f5, f6, ft, (o1 _ hne.symm).trans h2, (o1 _ ht).trans h3, hta, by rw [q8]; exact h4⟩, g5, g6, (q0 9 (by omega) (by omega)).trans g7, (q0 12 (by omega) (by omega)).trans g8, (q0 13 (by omega) (by omega)).trans g9, m2, ?_, (q0 16 (by omega) (by omega)).trans g12, (q0 17 (by omega) (by omega)).trans g13, b1, g15, g16, by omega, g18, g19, by omega, by rw [z1]; exact g21, by rw [z1]; exact g22, by rw [z1]; exact g23, by rw [z1]; exact g24⟩, wF.of o1 z1 b1, z1, (tF.rf.put _ (by omega)).tr m4, m5, m6, m7, m8, fun m q h1 h2 => ?_⟩
  · rw [← nI_add]
    exact q1
  · rw [m3 15 (by omega), tPut_0, g11, nI_add]
  · rw [m9 m q h1 h2]
    show tPut σ 15 _ 1 _ = σ 1 _
    rw [tPut_r (by omega)]
/-- a leaf's node -/
theorem leaf_fin {W0 : gw} {σ0 : TS} {kd : Nat} {ar : Int32} {fr : Option (((Nat × Nat) ⊕ Option Nat) × gw)} {tr : Option (Int32 × TS)} (hC : rdC xa rd L N0 M0 S tp w σ p o it nd mo) (ho : o ≤ 4) (hkd : kd = 1 ∨ kd = 2 ∨ kd = 3 ∨ kd = 4) (hnd : nd ≤ 2 * it + 1) (hw0 : wF rd w W0) (hz0 : W0.2 = w.2) (ht0 : tF σ σ0) (r0 : rr σ0 nd 0 = nI kd) (r7 : rr σ0 nd 7 = nI p) (r8 : rr σ0 nd 8 = ar) (r5 : rr σ0 nd 5 = -1) (r6 : rr σ0 nd 6 = -1) (rm : ∀ m q, m ≠ nd → q < 9 → rr σ0 m q = rr σ m q) (h : lfR xa rd L N0 M0 W0 σ0 p o (it + 1) (nd + 1) mo nd kd (nI p) fr tr) : rdR xa rd L N0 M0 S tp w σ p o it nd mo (fun k => k ≠ 0) ar (rr σ) fr tr := by
  rcases h with h | ⟨a, W, σ1, p1, e1, e2, e3, e4, e5, e6, e7, e8, e9, e10, e11, e12⟩
  · exact Or.inl (pFail.bk h hw0 ht0 (fun _ _ _ hv => hv) (fun _ hv => hv))
  · obtain ⟨c1, c2, c3, c4, c5, c6⟩ := hC
    have hW1 : W0.2.1 = w.2.1 := by rw [hz0]
    have hW2 : W0.2.2.1 = w.2.2.1 := by rw [hz0]
    obtain ⟨q1, q2, q3, q4, q5, q6⟩ := sSet_n S nd kd 0 (nd + 1) a (4 - o) (fun _ => 0)
    have aS : agr S (sSet S nd kd 0 (nd + 1) a (4 - o) (fun _ => 0)) 0 nd := fun m _ hm => sSet_m S kd 0 (nd + 1) a (4 - o) (fun _ => 0) (by omega)
    have x0 : rr σ1 nd 0 = nI kd := (e11 nd 0 (Or.inr (Or.inl rfl)) (by omega)).trans r0
    have x5 : rr σ1 nd 5 = -1 := (e11 nd 5 (Or.inr (Or.inr (by omega))) (by omega)).trans r5
    have x6 : rr σ1 nd 6 = -1 := (e11 nd 6 (Or.inr (Or.inr (by omega))) (by omega)).trans r6
    have x7 : rr σ1 nd 7 = nI p := (e11 nd 7 (Or.inr (Or.inr (by omega))) (by omega)).trans r7
    have x8 : rr σ1 nd 8 = ar := (e11 nd 8 (Or.inr (Or.inr (by omega))) (by omega)).trans r8
    have xm : ∀ m q, m < nd → q < 9 → rr σ1 m q = rr σ m q := fun m q h1 h2 => (e11 m q (Or.inl (by omega)) h2).trans (rm m q (by omega) h2)
    have rdl := c1.rdl
    have hNr := c1.room.2.2.2.2
    refine Or.inr ⟨a, W, σ1, p1, it + 1, nd + 1, mo, sSet S nd kd 0 (nd + 1) a (4 - o) (fun _ => 0), fun x => if x < w.2.1 then tp x else nd, e1, e2, e3, e4, hw0.tr e5, ht0.tr e6, by omega, by omega, by omega, by omega, ?_, aS, fun b hb => if_pos hb, xm, sub_leaf x0 x5 ?_ ?_, x6, x8, by rw [q2]; omega, q6, q5, by omega, e8⟩
    · have hadd := pG.add (S := sSet S nd kd 0 (nd + 1) a (4 - o) (fun _ => 0)) (r := rr σ1) (mo1 := mo) (P1 := p1) (c2.fr (fun m hm => ⟨(aS m (Nat.zero_le _) hm).2.1, (aS m (Nat.zero_le _) hm).2.2.2.2.2⟩) (fun m hm => xm m 7 hm (by omega)) (Nat.le_refl _)) x7 (by omega) (fun _ => e4) (by rw [q2, if_neg (by omega)]) (by rw [q6]; omega)
      rw [q2, if_neg (by omega)] at hadd
      exact hadd
    · unfold nKd
      rw [q2, q3]
      rcases e12 with ⟨k1, y1, y2, y3, y4, y5⟩ | ⟨k1, y1, y2⟩ | ⟨k1, y1, y2, y3⟩ | ⟨k1, y1, y2, y3⟩
      · exact Or.inr (Or.inl ⟨k1, rfl, y2, y3, y4, y5⟩)
      · exact Or.inr (Or.inr (Or.inl ⟨k1, rfl, y2⟩))
      · exact Or.inr (Or.inr (Or.inr (Or.inl ⟨k1, rfl, y2, y3⟩)))
      · exact Or.inr (Or.inr (Or.inr (Or.inr (Or.inl ⟨k1, rfl, y2, y3⟩))))
    · unfold oR
      rw [q2, q5, x7]
      refine ⟨⟨by omega, if_neg (by omega)⟩, ?_⟩
      rcases e12 with ⟨k1, y1, y2, y3, y4, y5⟩ | ⟨k1, y1, y2⟩ | ⟨k1, y1, y2, y3⟩ | ⟨k1, y1, y2, y3⟩
      · exact Or.inr (Or.inl ⟨k1, y1⟩)
      · exact Or.inr (Or.inr (Or.inl ⟨k1, y1⟩))
      · exact Or.inr (Or.inr (Or.inr (Or.inl ⟨k1, y1⟩)))
      · exact Or.inr (Or.inr (Or.inr (Or.inr (Or.inl ⟨k1, y1⟩))))
/-- a list gets one more -/
theorem LI.add {n la k a : Nat} {chf : Nat → Nat} (h : LI S w tp N0 n la k chf) (hk : k ≤ 24) (hn : n < 1000) (hg : ∀ j, j < k → ∃ c fs, w.1 (sSa S (chf j)) = some (.inl (c, fs)) ∧ gAsg 2 c = true) (ha : ∃ c fs, w.1 a = some (.inl (c, fs)) ∧ gAsg 2 c = true) (hb : pBd w) (hN : N0 ≤ w.2.1) (h0 : w.2.1 + 1 ≤ w.2.2.2 0) (h1 : w.2.2.1 + 58 ≤ w.2.2.2 1) (hK5 : w.2.2.2 5 < N0) : ∃ W tp1, f_J2_add la (some a) w = some (nI 1, W) ∧ pBd W ∧ W.2.2.2 = w.2.2.2 ∧ w.2.1 ≤ W.2.1 ∧ W.2.1 ≤ w.2.1 + 1 ∧ W.2.2.1 ≤ w.2.2.1 + 58 ∧ (∀ b, b < w.2.1 → tp1 b = tp b) ∧ (∀ b x, w.1 b = some x → ¬ oWn tp N0 n b → W.1 b = some x) ∧ (∀ b, b < N0 → W.1 b = w.1 b) ∧ (∀ b c fs, w.1 b = some (.inl (c, fs)) → c ≠ 8 → W.1 b = some (.inl (c, fs))) ∧ (w.2.1 ≤ w.2.1 → ∀ b, w.2.1 ≤ b → b < W.2.1 → tp1 b = n) ∧ ∀ (S1 : SV) (chf1 : Nat → Nat), (∀ j, j < k → sSa S1 (chf1 j) = sSa S (chf j)) → sSa S1 (chf1 k) = a → LI S1 W tp1 N0 n la (k + 1) chf1 := by
  obtain ⟨l1, mc, ea, l2, l3⟩ := h
  have hlal := hb _ _ l2
  rcases l3 with ⟨rfl, rfl, l4⟩ | ⟨l4, cap, g, l5, l6, l7, l8, l9⟩
  · obtain ⟨W, ea1, cap1, g1, e1, e2, e3, e4, e5, e6, e7, e8, e9⟩ := pf_add (g := fun _ => none) l2 (by omega) (Or.inl ⟨rfl, rfl, l4⟩) (fun j hj => absurd hj (by omega)) ha hb h0 (by omega)
    have hea : ea1 = w.2.1 ∧ W.2 = (w.2.1 + 1, w.2.2.1 + cap1, w.2.2.2) ∧ cap1 ≤ 10 := by
      rcases e9 with ⟨z1, -, g0, z2⟩ | ⟨z1, z2, -, z3⟩
      · rw [l4] at z2
        cases z2
      · exact ⟨z1, z2, by omega⟩
    obtain ⟨y1, y2, y3⟩ := hea
    have hbW : pBd W := fun b x hx => by
      rw [y2]
      show b < w.2.1 + 1
      by_cases h1 : b = la
      · omega
      · by_cases h2 : b = ea1
        · omega
        · rw [e7 b h1 h2] at hx
          have := hb _ _ hx
          omega
    refine ⟨W, fun b => if b < w.2.1 then tp b else n, e1, hbW, by rw [y2], by rw [y2]; show w.2.1 ≤ w.2.1 + 1; omega, by rw [y2]; show w.2.1 + 1 ≤ _; omega, by rw [y2]; show w.2.2.1 + cap1 ≤ _; omega, fun b hb => if_pos hb, fun b x hx ho => ?_, fun b hbN => ?_, fun b c fs hx hc => ?_, fun _ b h1 _ => if_neg (by omega), fun S1 chf1 s1 s2 => ?_⟩
    · rw [e7 b (by rintro rfl; exact ho l1) (by
        rintro rfl
        have := hb _ _ hx
        omega)]
      exact hx
    · exact e7 b (by have := l1.1; omega) (by omega)
    · rw [e7 b (ne_of hx l2 (fun z => by
        injection z with z
        injection z with z _
        exact hc z)) (by
        rintro rfl
        have := hb _ _ hx
        omega)]
      exact hx
    · refine ⟨⟨l1.1, (if_pos hlal).trans l1.2⟩, _, ea1, e2, Or.inr ⟨⟨by omega, if_neg (by omega)⟩, cap1, g1, e4, by omega, by omega, e3, fun j hj => ?_⟩⟩
      obtain rfl : j = 0 := by omega
      rw [s2]
      exact e6
  · obtain ⟨W, ea1, cap1, g1, e1, e2, e3, e4, e5, e6, e7, e8, e9⟩ := pf_add l2 (by omega) (Or.inr ⟨cap, l5, l6, l7, l8⟩) (fun j hj => by
      obtain ⟨c, fs, y1, y2⟩ := hg j hj
      exact ⟨_, c, fs, l9 j hj, y1, y2⟩) ha hb h0 (by omega)
    have heal := hb _ _ l8
    rcases e9 with ⟨y1, y2, g0, y3⟩ | ⟨y1, y2, y4, y5⟩
    · have hc : cap1 = cap := by
        rw [l8] at y3
        injection y3 with y3
        injection y3 with y3
        injection y3 with y3 y4
        injection y4 with y4 y5
        exact y4.symm
      have hbW : pBd W := fun b x hx => by
        rw [y2]
        by_cases h1 : b = la
        · omega
        · by_cases h2 : b = ea1
          · omega
          · rw [e7 b h1 h2] at hx
            exact hb _ _ hx
      refine ⟨W, tp, e1, hbW, by rw [y2], by rw [y2]; exact Nat.le_refl _, by rw [y2]; omega, by rw [y2]; omega, fun _ _ => rfl, fun b x hx ho => ?_, fun b hbN => ?_, fun b c fs hx hc => ?_, fun _ b h1 h2 => by rw [y2] at h2; omega, fun S1 chf1 s1 s2 => ⟨l1, _, ea1, e2, Or.inr ⟨by rw [y1]; exact l4, cap1, g1, e4, by omega, by omega, e3, fun j hj => ?_⟩⟩⟩
      · rw [e7 b (by rintro rfl; exact ho l1) (by rintro rfl; rw [y1] at ho; exact ho l4)]
        exact hx
      · exact e7 b (by have := l1.1; omega) (by have := l4.1; omega)
      · rw [e7 b (ne_of hx l2 (fun z => by
          injection z with z
          injection z with z _
          exact hc z)) (ne_of hx (by rw [y1]; exact l8) (by simp))]
        exact hx
      · by_cases hjk : j = k
        · rw [hjk, s2]
          exact e6
        · rw [e5 j (by omega), l9 j (by omega), s1 j (by omega)]
    · have hbW : pBd W := fun b x hx => by
        rw [y2]
        show b < w.2.1 + 1
        by_cases h1 : b = la
        · omega
        · by_cases h2 : b = ea1
          · omega
          · rw [e7 b h1 h2] at hx
            have := hb _ _ hx
            omega
      have hcap : cap1 ≤ 100 := by
        rcases y4 with z | z
        · omega
        · have : max 1 (k / 2) ≤ 24 := by omega
          omega
      refine ⟨W, fun b => if b < w.2.1 then tp b else n, e1, hbW, by rw [y2], by rw [y2]; show w.2.1 ≤ w.2.1 + 1; omega, by rw [y2]; show w.2.1 + 1 ≤ _; omega, by rw [y2]; show w.2.2.1 + cap1 ≤ _; omega, fun b hb => if_pos hb, fun b x hx ho => ?_, fun b hbN => ?_, fun b c fs hx hc => ?_, fun _ b h1 _ => if_neg (by omega), fun S1 chf1 s1 s2 => ⟨⟨l1.1, (if_pos hlal).trans l1.2⟩, _, ea1, e2, Or.inr ⟨⟨by omega, if_neg (by omega)⟩, cap1, g1, e4, by omega, hcap, e3, fun j hj => ?_⟩⟩⟩
      · rw [e7 b (by rintro rfl; exact ho l1) (by
          rintro rfl
          have := hb _ _ hx
          omega)]
        exact hx
      · exact e7 b (by have := l1.1; omega) (by omega)
      · rw [e7 b (ne_of hx l2 (fun z => by
          injection z with z
          injection z with z _
          exact hc z)) (by
          rintro rfl
          have := hb _ _ hx
          omega)]
        exact hx
      · by_cases hjk : j = k
        · rw [hjk, s2]
          exact e6
        · rw [e5 j (by omega), l9 j (by omega), s1 j (by omega)]
end IT
