set_option maxRecDepth 100000
/-! DEFINE: the world after it -/
theorem GRp.def {k xa mo T : Nat} {ias : Nat → Nat} {Ss Ss1 : Nat → SV} {many many1 : Nat → Nat} {fv fv1 : Nat → Option Nat} {fm fm1 : Nat → Int32} {wr wr1 im : Option Nat} {w W : gw} {tg tg1 : pT} {σ σ1 : TS} (h : GRp (k + 1) xa mo ias Ss many T fv fm wr im w tg σ)
    (hF : pFr w W tg tg1 (fun t => t.1 = xa ∧ 64 ≤ t.2 ∧ t.2 < 68)) (hc : W.2.1 ≤ w.2.1 + 9390) (hc2 : W.2.2.1 ≤ w.2.2.1 + 113000) (hx : xOk xa mo W tg1 σ1 fv1 fm1 wr1 im) (hrW : rW W tg1 wr1 (σ1 0 10) (σ1 0 11)) (hV : vAll Ss1 many1 σ1 W tg1 fv1 fm1 (σ1 5))
    (hv : ∀ a b, a < 4 → b < many a → b < 4 → b < many1 a ∧ Ss1 (4 * a + b) = Ss (4 * a + b) ∧ (∀ j, 576 * (4 * a + b) ≤ j → j < 576 * (4 * a + b) + 576 → σ1 1 j = σ 1 j) ∧ ∀ q, q < 4 → σ1 3 (4 * (4 * a + b) + q) = σ 3 (4 * (4 * a + b) + q)) (hs : ∀ j, j < 7593 → j < 17 ∨ 21 ≤ j → σ1 5 j = σ 5 j)
    (h2 : σ1 2 = σ 2) (h4 : σ1 4 = σ 4) (h6 : σ1 6 = σ 6) (h07 : σ1 0 7 = σ 0 7) (h19 : σ1 0 19 = σ 0 19) (h20 : σ1 0 20 = σ 0 20) :
    GRw k xa W tg1 σ1 ∧ W.2.2.2 = w.2.2.2 ∧ ∀ a e, w.1 a = some e → tg a = (xa, 300) → W.1 a = some e ∧ tg1 a = tg a := by
  obtain ⟨g1, g2, g3, g4, g5, g6, g7, g8, g9, g10⟩ := h
  have hb := g4.1.1
  have hP : ¬ (fun t : Nat × Nat => t.1 = xa ∧ 64 ≤ t.2 ∧ t.2 < 68) (0, 100) := fun z => by
    have := z.2.2
    simp only at this
    omega
  have hI : ∀ j, j < 6 → σ1 5 (21 + 1262 * (j) + 0) = σ 5 (21 + 1262 * (j) + 0) := fun j hj => hs _ (by omega) (by omega)
  refine ⟨⟨mo, ias, Ss1, many1, T, fv1, fm1, wr1, im, hx, hrW, hV, ?_, g5, ?_, by omega, ?_, ?_, ?_⟩, hF.2.2.1, fun a e ha ht => hF.at hb ha (by rw [ht]; intro z; have := z.2.2; simp only at this; omega)⟩
  · exact ((g4.fr hF hP (fun j z => by
      obtain ⟨-, ⟨du, fa, ins, fd, ff, fi', m1, m2, -⟩, -⟩ := g4
      obtain ⟨ta, va, vm, p, ft, a1, a2, -⟩ := g1
      exact (ne_of m2 a2 (by simp)) z.1) (fun i hi hz j z => g10 i hi hz z.1)).sq hv hs).mono (by omega)
  · exact g6.fr hb hF hP (fun o j z => Or.inr (Or.inl z.1)) (fun o z => Or.inl (by
      obtain ⟨j, z1, z2, z3⟩ := z
      exact ⟨j, z1, (hI j z1).symm.trans z2, z3⟩)) (by omega) h2 h4 h6 h07 h19 h20
  · rw [hF.2.2.1]; omega
  · rw [hF.2.2.1]; omega
  · exact fun j hj hz => g10 j hj ((hI j hj).symm.trans hz)
/-- tags of new cells -/
def tgN (tg : pT) (n : Nat) : pT := fun b => if b < n then tg b else (0, 100)
theorem tgN_o {tg : pT} {n b : Nat} (h : b < n) : tgN tg n b = tg b := if_pos h
theorem tgN_n {tg : pT} {n b : Nat} (h : n ≤ b) : pStc (tgN tg n) b := if_neg (by omega)
/-- the version that was read -/
theorem def_ver {S1 : SV} {σ1 σ2 : TS} {W V : gw} {tg1 : pT} {tp1 : Nat → Nat} {N0 L it mo nd v a10 xa rd M0 : Nat} (hv : v < 16) (h1 : pSt xa rd L N0 M0 W σ1 L 0 it nd mo) (hG : pG S1 (rr σ1) nd it mo L) (hs : sub S1 (rr σ1) W tp1 N0 0 nd) (h8 : rr σ1 0 8 = -1) (hk : sKd S1 0 = 0) (hl : sLv S1 0 = 4)
    (hW : ∀ b e, N0 ≤ b → W.1 b = some e → (∀ fs, e ≠ .inl (3, fs)) → V.1 b = some e) (ht : ∀ b, N0 ≤ b → pStc tg1 b) (c1 : ∀ j, j < 576 → σ2 1 (576 * v + j) = σ1 1 (9216 + j)) (c2 : σ2 3 (4 * v) = σ1 0 14) (c3 : σ2 3 (4 * v + 1) = σ1 0 15) (c4 : σ2 3 (4 * v + 2) = σ1 0 17) (ha : N0 ≤ a10) (h10 : V.1 a10 = some (.inl (3, [ga (some (sSa S1 0)), gi (σ2 3 (4 * v + 3))]))) :
    vOk (rr σ1, S1.2) σ2 V tg1 v (some a10) := by
  obtain ⟨s1, s2, s3⟩ := hs
  obtain ⟨G1, G2, f, f1, f2, f3⟩ := hG
  obtain ⟨n1, n2, n3, n4⟩ := h1.nums
  have hp := h1
  obtain ⟨-, -, l80, -, -, -, -, t14, t15, -, t17, -, -, -, it24, -, mo4, nd49, -⟩ := hp
  have e0 : sEn (rr σ1, S1.2) 0 = nd := s1
  have hle : pSum (fun n => if sKd S1 n = 1 then 1 else 0) nd ≤ pSum (fun n => if sKd S1 n = 0 then 0 else 1) nd := pSum_le nd (fun n _ => by
    show (if sKd S1 n = 1 then 1 else 0) ≤ (if sKd S1 n = 0 then 0 else 1)
    by_cases hn : sKd S1 n = 1
    · rw [if_pos hn, if_neg (by omega)]
      exact Nat.le_refl _
    · rw [if_neg hn]
      exact Nat.zero_le _)
  have hpl : ∀ la m g n, pLR W tp1 N0 n la m g → pListS V tg1 la m g := fun la m g n z => by
    obtain ⟨z1, ea, cap, mc, z2, z3, z4, z5, z6⟩ := z
    exact ⟨ht _ z1.1, ea, cap, mc, ht _ z2.1, hW _ _ z1.1 z3 (fun fs y => by simp at y), hW _ _ z2.1 z4 (fun fs y => by simp at y), z5, z6⟩
  refine ⟨⟨by rw [e0]; omega, by rw [e0]; exact Nat.le_trans hle (by omega), hk, by show sLv S1 0 ≤ 4; omega, h8, fun n hn => ?_⟩, by rw [e0]; exact s2, ⟨hv, fun n q hn hq => ?_, by rw [c2, t14, e0]⟩, fun n hn => ?_, ⟨?_, ⟨mo, mo4, c4.trans t17, ?_⟩, ⟨f, fun n hn => ?_, fun n m h1 h2 h3 h4 => f2 n m h1 (by rw [e0] at h2; exact h2) h3 h4⟩, ?_⟩, a10, rfl, ht _ ha, h10⟩
  · rw [e0] at hn
    obtain ⟨q1, ⟨q2, q3⟩, q4, q5⟩ := s3 n (Nat.zero_le _) hn
    exact ⟨⟨q2, by rw [e0]; exact q1, q3⟩, q4⟩
  · rw [e0] at hn
    rw [show ((64 * (v) + n) * 9 + q) = 576 * v + (9 * n + q) by omega, c1 _ (by omega)]
    show _ = σ1 1 ((64 * (16) + n) * 9 + q)
    rw [show ((64 * (16) + n) * 9 + q) = 9216 + (9 * n + q) by omega]
  · rw [e0] at hn
    obtain ⟨-, -, -, o1, o2⟩ := s3 n (Nat.zero_le _) hn
    have hne : ∀ c fs, c ≠ 3 → W.1 (sSa S1 n) = some (.inl (c, fs)) → V.1 (sSa S1 n) = some (.inl (c, fs)) := fun c fs hc z => hW _ _ o1.1 z (fun gs y => by
      injection y with y
      injection y with y
      exact hc y)
    refine ⟨ht _ o1.1, ?_⟩
    rcases o2 with ⟨z, la, g, z1, z2, z3⟩ | ⟨z, z1⟩ | ⟨z, z1⟩ | ⟨z, z1⟩ | ⟨z, z1⟩ | ⟨z, z1⟩ | ⟨z, la, g, z1, z2, z3⟩
    · exact Or.inl ⟨z, la, g, hne _ _ (by omega) z1, hpl _ _ _ _ z2, z3⟩
    · exact Or.inr (Or.inl ⟨z, hne _ _ (by omega) z1⟩)
    · exact Or.inr (Or.inr (Or.inl ⟨z, hne _ _ (by omega) z1⟩))
    · exact Or.inr (Or.inr (Or.inr (Or.inl ⟨z, hne _ _ (by omega) z1⟩)))
    · exact Or.inr (Or.inr (Or.inr (Or.inr (Or.inl ⟨z, hne _ _ (by omega) z1⟩))))
    · exact Or.inr (Or.inr (Or.inr (Or.inr (Or.inr (Or.inl ⟨z, hne _ _ (by omega) z1⟩)))))
    · exact Or.inr (Or.inr (Or.inr (Or.inr (Or.inr (Or.inr ⟨z, la, g, hne _ _ (by omega) z1, hpl _ _ _ _ z2, z3⟩)))))
  · rw [e0, c3, t15, ← G1]
    rfl
  · rw [e0]
    have hl' : sLv (rr σ1, S1.2) 0 = 4 := hl
    rw [hl']
    exact G2
  · rw [e0] at hn
    obtain ⟨y1, y2⟩ := f1 n hn
    exact ⟨y1, by omega⟩
  · rw [e0]
    show pSum (fun n => if sKd S1 n = 0 then 0 else 1) nd ≤ 24
    rw [G1]
    exact it24
