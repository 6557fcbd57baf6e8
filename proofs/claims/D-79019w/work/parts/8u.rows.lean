set_option maxRecDepth 100000
/-! ROWS that are copied; what the relation looks at -/
def tCp (σ : TS) (p0 p1 n : Nat) : TS := fun r j => if r = p1 ∧ j < n then σ p0 j else σ r j
theorem t_ld {σ : TS} {r j : Nat} (h : j < tLen r) (h2 : tLen r < 2 ^ 31) : tLd σ r (nI j) = some (σ r j) := by
  unfold tLd
  rw [pu_gIx h h2]
  rfl
theorem t_st {σ : TS} {r j : Nat} (h : j < tLen r) (h2 : tLen r < 2 ^ 31) (x : Int32) : tSt σ r (nI j) x = some (tUpd σ r j x) := by
  unfold tSt
  rw [pu_gIx h h2]
  rfl
theorem t_copies {σ : TS} {p0 p1 n : Nat} (hne : p0 ≠ p1) (h0 : n ≤ tLen p0) (h1 : n ≤ tLen p1) (l0 : tLen p0 < 10000) (l1 : tLen p1 < 10000) : t_X2_copies p0 p1 (nI n) σ = some ((), tCp σ p0 p1 n) := by
  rw [t_X2_copies_eq]
  have hc0 : tCp σ p0 p1 0 = σ := by
    funext r j
    unfold tCp
    rw [if_neg (fun z => by omega)]
  have : ∀ r k fuel, k + r = n → r < fuel → gL4 bt_X2_copies_1 fuel p0 p1 (nI n) (nI k) (tCp σ p0 p1 k) = some ((), tCp σ p0 p1 n) := by
    intro r
    induction r with
    | zero =>
      intro k fuel hk hf
      obtain ⟨fuel, rfl⟩ : ∃ g, fuel = g + 1 := ⟨fuel - 1, by omega⟩
      obtain rfl : k = n := by omega
      show bt_X2_copies_1 (gL4 bt_X2_copies_1 fuel) _ _ _ _ _ = _
      generalize gL4 bt_X2_copies_1 fuel = KK
      unfold bt_X2_copies_1
      rw [if_pos (nI_le (Nat.le_refl _) (by omega))]
    | succ r ih =>
      intro k fuel hk hf
      obtain ⟨fuel, rfl⟩ : ∃ g, fuel = g + 1 := ⟨fuel - 1, by omega⟩
      have hu : tUpd (tCp σ p0 p1 k) p1 k (tCp σ p0 p1 k p0 k) = tCp σ p0 p1 (k + 1) := by
        funext r' j
        unfold tUpd tCp
        by_cases hr : r' = p1
        · by_cases hj : j = k
          · rw [if_pos ⟨hr, hj⟩, if_neg (fun z => hne z.1), if_pos ⟨hr, by omega⟩, hj]
          · rw [if_neg (fun z => hj z.2)]
            by_cases hjk : j < k
            · rw [if_pos ⟨hr, hjk⟩, if_pos ⟨hr, by omega⟩]
            · rw [if_neg (fun z => hjk z.2), if_neg (fun z => by omega)]
        · rw [if_neg (fun z => hr z.1), if_neg (fun z => hr z.1), if_neg (fun z => hr z.1)]
      rw [← ih (k + 1) fuel (by omega) (by omega)]
      show bt_X2_copies_1 (gL4 bt_X2_copies_1 fuel) _ _ _ _ _ = _
      generalize gL4 bt_X2_copies_1 fuel = KK
      unfold bt_X2_copies_1
      rw [if_neg (nI_ge (by omega) (by omega)), t_ld (by omega) (by omega), pu_B1, t_st (by omega) (by omega), pu_B1, pu_Bd, nI_add, hu]
  have h := this n 0 20000 (by omega) (by omega)
  rw [hc0] at h
  exact h
theorem pSg.sp {S : SV} {σ σ1 : TS} {v : Nat} (hN : sEn S 0 ≤ 64) (h1 : ∀ j, j < 9792 → σ1 1 j = σ 1 j) (h3 : ∀ j, j < 68 → σ1 3 j = σ 3 j) (h : pSg S σ v) : pSg S σ1 v := by
  obtain ⟨a, b, c⟩ := h
  exact ⟨a, fun n k hn hk => (h1 _ (by omega)).trans (b n k hn hk), (h3 _ (by omega)).trans c⟩
theorem vOk.sp {S : SV} {σ σ1 : TS} {w : gw} {tg : pT} {v : Nat} {vo : Option Nat} (hv : v < 16) (h1 : ∀ j, j < 9792 → σ1 1 j = σ 1 j) (h3 : ∀ j, j < 68 → σ1 3 j = σ 3 j) (h : vOk S σ w tg v vo) : vOk S σ1 w tg v vo := by
  obtain ⟨a1, a2, a3, a4, ⟨b1, b2, b3⟩, a, a6, a7, a8⟩ := h
  exact ⟨a1, a2, a3.sp a1.1 h1 h3, a4, ⟨(h3 _ (by omega)).trans b1, (by obtain ⟨d, d1, d2, d3⟩ := b2; exact ⟨d, d1, (h3 _ (by omega)).trans d2, d3⟩), b3⟩, a, a6, a7, by rw [h3 _ (by omega)]; exact a8⟩
theorem vAll.sp {Ss : Nat → SV} {many : Nat → Nat} {σ σ1 : TS} {w : gw} {tg : pT} {fv fv1 : Nat → Option Nat} {fm fm1 s s1 : Nat → Int32} (h1 : ∀ j, j < 9792 → σ1 1 j = σ 1 j) (h3 : ∀ j, j < 68 → σ1 3 j = σ 3 j) (hv : ∀ j, j < 16 → fv1 j = fv j) (hm : ∀ j, j < 4 → fm1 j = fm j) (hs : ∀ a, a < 4 → s1 (17 + a) = s (17 + a)) (h : vAll Ss many σ w tg fv fm s) : vAll Ss many σ1 w tg fv1 fm1 s1 := fun a ha => by
  obtain ⟨g1, g2, g3, g4, g5⟩ := h a ha
  exact ⟨g1, (hm a ha).trans g2, (hs a ha).trans g3, fun b hb => by rw [hv _ (by omega)]; exact (g4 b hb).sp (by omega) h1 h3, fun b hb => by rw [hv _ (by omega)]; exact g5 b hb⟩
theorem pW.sp {S : SV} {σ σ1 : TS} {xa mo ia i ver T B : Nat} {w : gw} {tg : pT} {s : Nat → Int32} {bo un : Option Nat} (h1 : ∀ j, j < 9792 → σ1 1 j = σ 1 j) (h3 : ∀ j, j < 68 → σ1 3 j = σ 3 j) (h : pW S σ xa mo ia i ver T w tg s B bo un) : pW S σ1 xa mo ia i ver T w tg s B bo un := by
  obtain ⟨⟨a1, a2, a3, a4⟩, a5⟩ := h
  exact ⟨⟨a1, a2, a3, a4.sp a3.1 h1 h3⟩, a5⟩
theorem mOk.sp {Ss : Nat → SV} {many : Nat → Nat} {σ σ1 : TS} {xa mo T B : Nat} {ias : Nat → Nat} {w : gw} {tg : pT} {s s1 : Nat → Int32} {Tr : Nat → Nat} (h1 : ∀ j, j < 9792 → σ1 1 j = σ 1 j) (h3 : ∀ j, j < 68 → σ1 3 j = σ 3 j) (hs : ∀ j, j < 7593 → s1 j = s j) (h : mOk Ss many σ xa mo ias w tg s T B Tr) : mOk Ss many σ1 xa mo ias w tg s1 T B Tr := by
  obtain ⟨hC, hM, ⟨fi, hfi, hk⟩, hd⟩ := h
  have hF : pFr w w tg tg (fun _ => False) := pFr.rf hC.1
  have hM1 : pMo xa mo w tg s1 T := hM.fr hF hC.1 (fun _ => id) (fun j hj => hs j (by omega))
  refine ⟨hC, hM1, ⟨fi, hfi, fun k k6 => ?_⟩, fun i j hi hj hij p1 p2 => hd i j hi hj hij ((hs _ (by omega)).symm.trans p1) ((hs _ (by omega)).symm.trans p2)⟩
  rcases hk k k6 with z | ⟨z1, z2, z3⟩
  · exact Or.inl ⟨z.1, (hs _ (by omega)).trans z.2⟩
  · refine Or.inr ⟨z1, (hs _ (by omega)).trans z2, ?_⟩
    obtain ⟨a, b, bo, un, g1, g2, g3, g4, g5, g6, g7, g8⟩ := z3.oth hM1 hF id (fun _ => id) (fun j a b => hs j (by omega)) (Nat.le_refl _) (Nat.le_refl _)
    exact ⟨a, b, bo, un, g1, g2, g3, g4, g5, g6, g7.sp h1 h3, g8⟩
theorem mIm.sp {xa : Nat} {w : gw} {tg : pT} {σ σ1 : TS} {im : Option Nat} {B mo : Nat} {Ow Ow1 : Nat → Prop} (hO : ∀ o, Ow1 o → Ow o) (h2 : σ1 2 = σ 2) (h4 : σ1 4 = σ 4) (h6 : σ1 6 = σ 6) (h07 : σ1 0 7 = σ 0 7) (h19 : σ1 0 19 = σ 0 19) (h20 : σ1 0 20 = σ 0 20) (hb : pBd w) (h : mIm xa w tg σ im B mo Ow) : mIm xa w tg σ1 im B mo Ow1 :=
  h.fr hb (pFr.rf (P := fun _ => False) hb) id (fun _ _ z => z.elim) (fun o z => Or.inl (hO o z)) (Nat.le_refl _) h2 h4 h6 h07 h19 h20
/-- the reference's rows where the relation looks -/
theorem GRp.sp {k xa mo T : Nat} {ias : Nat → Nat} {Ss : Nat → SV} {many : Nat → Nat} {fv : Nat → Option Nat} {fm : Nat → Int32} {wr im : Option Nat} {w : gw} {tg : pT} {σ σ1 : TS} (h0 : σ1 0 = σ 0) (h1 : ∀ j, j < 9792 → σ1 1 j = σ 1 j) (h2 : σ1 2 = σ 2) (h3 : ∀ j, j < 68 → σ1 3 j = σ 3 j) (h4 : σ1 4 = σ 4) (h5 : ∀ j, j < 7593 → σ1 5 j = σ 5 j) (h6 : σ1 6 = σ 6) (h8 : σ1 8 = σ 8) (h : GRp k xa mo ias Ss many T fv fm wr im w tg σ) : GRp k xa mo ias Ss many T fv fm wr im w tg σ1 := by
  obtain ⟨g1, g2, g3, g4, g5, g6, g7, g8, g9, g10⟩ := h
  have hb := g4.1.1
  refine ⟨g1.fr (P := fun _ => False) hb (pFr.rf hb) (fun _ _ _ => id) (by rw [h0]) h8, by rw [h0]; exact g2, g3.sp h1 h3 (fun _ _ => rfl) (fun _ _ => rfl) (fun a ha => h5 _ (by omega)), g4.sp h1 h3 h5, g5, g6.sp (fun o z => ?_) h2 h4 h6 (by rw [h0]) (by rw [h0]) (by rw [h0]) hb, g7, g8, g9, fun j hj z => g10 j hj ((h5 _ (by omega)).symm.trans z)⟩
  obtain ⟨j, z1, z2, z3⟩ := z
  exact ⟨j, z1, (h5 _ (by omega)).symm.trans z2, z3⟩
/-- a moment's cells are made -/
theorem pf_init1 {w : gw} {a : Nat} {p1 : Option Nat} {f0 f1 f2 f3 f4 : gv} (ha : w.1 a = some (.inl (1, [f0, f1, f2, f3, f4]))) (hb : pBd w) (r0 : w.2.1 + 3 ≤ w.2.2.2 0) (r1 : w.2.2.1 + 22 ≤ w.2.2.2 1) :
    ∃ w1, f_X1_init a p1 w = some ((), w1) ∧ w1.1 a = some (.inl (1, [ga (some w.2.1), ga (some (w.2.1 + 1)), ga (some (w.2.1 + 2)), f3, ga p1])) ∧ w1.1 w.2.1 = some (.inr (0, 8, .inl (fun _ => 0))) ∧ w1.1 (w.2.1 + 1) = some (.inr (0, 8, .inl (fun _ => 0))) ∧ w1.1 (w.2.1 + 2) = some (.inr (4, 6, .inr (fun _ => none))) ∧ (∀ b, b ≠ a → b < w.2.1 → w1.1 b = w.1 b) ∧ w1.2 = (w.2.1 + 3, w.2.2.1 + 22, w.2.2.2) ∧ pBd w1 := by
  have hal := hb _ _ ha
  obtain ⟨W1, e1, c1, o1, z1, b1⟩ := st_put (k := 4) ha (by show 4 < 5; omega) hb (ga p1)
  obtain ⟨W2, e2, c2, o2, z2, b2⟩ := st_newI (w := W1) (t := 0) (m := 8) (by omega) (by rw [z1]; omega) (by rw [z1]; omega) b1
  rw [z1] at e2 c2 o2 z2
  obtain ⟨W3, e3, c3, o3, z3, b3⟩ := st_put (k := 0) ((o2 a (by omega)).trans c1) (by show 0 < 5; omega) b2 (ga (some w.2.1))
  rw [z2] at z3
  obtain ⟨W4, e4, c4, o4, z4, b4⟩ := st_newI (w := W3) (t := 0) (m := 8) (by omega) (by rw [z3]; show w.2.1 + 1 + 1 ≤ w.2.2.2 0; omega) (by rw [z3]; show w.2.2.1 + 8 + 8 ≤ w.2.2.2 1; omega) b3
  rw [z3] at e4 c4 o4 z4
  simp only at e4 c4 o4 z4
  obtain ⟨W5, e5, c5, o5, z5, b5⟩ := st_put (k := 1) ((o4 a (by omega)).trans c3) (by show 1 < 5; omega) b4 (ga (some (w.2.1 + 1)))
  rw [z4] at z5
  obtain ⟨W6, e6, c6, o6, z6, b6⟩ := st_newR (w := W5) (t := 4) (m := 6) (by omega) (by rw [z5]; show w.2.1 + 1 + 1 + 1 ≤ w.2.2.2 0; omega) (by rw [z5]; show w.2.2.1 + 8 + 8 + 6 ≤ w.2.2.2 1; omega) b5
  rw [z5] at e6 c6 o6 z6
  simp only at e6 c6 o6 z6
  obtain ⟨W7, e7, c7, o7, z7, b7⟩ := st_put (k := 2) ((o6 a (by omega)).trans c5) (by show 2 < 5; omega) b6 (ga (some (w.2.1 + 1 + 1)))
  refine ⟨W7, ?_, c7, ?_, ?_, ?_, fun b h1 h2 => ?_, by rw [z7, z6], b7⟩
  · unfold f_X1_init
    rw [e1, pu_B1, e2, pu_B2, e3, pu_B1, e4, pu_B2, e5, pu_B1, e6, pu_B2, e7, pu_B1]
  · rw [o7 _ (by omega), o6 _ (by omega), o5 _ (by omega), o4 _ (by omega), o3 _ (by omega)]
    exact c2
  · rw [o7 _ (by omega), o6 _ (by omega), o5 _ (by omega)]
    exact c4
  · rw [o7 _ (by omega)]
    exact c6
  · rw [o7 b h1, o6 b (by omega), o5 b h1, o4 b (by omega), o3 b h1, o2 b (by omega), o1 b h1]
