set_option maxRecDepth 100000
/-! THE WORLD: the component's and the reference's state in whole -/
/-- what was wrong with the last text -/
def rW (w : gw) (tg : pT) (wr : Option Nat) (at' why : Int32) : Prop := (wr = none ∧ at' = -1) ∨
  ∃ wa ca p fs gs, wr = some wa ∧ pStc tg wa ∧ pStc tg ca ∧ at' = nI p ∧ p ≤ 80 ∧ w.1 wa = some (.inl (15, ga (some ca) :: fs)) ∧ gs[6]? = some (gi (nI p)) ∧ (why = nI 1 ∧ w.1 ca = some (.inl (6, gs)) ∨ why = nI 2 ∧ w.1 ca = some (.inl (7, gs)))
/-- how many choices and parallels lie in each other among the nodes, counted from level L down -/
def dIs (S : SV) (L v lo hi : Nat) : Prop := (∀ n, lo ≤ n → n < hi → (sKd S n = 5 ∨ sKd S n = 6) → L + 1 ≤ sLv S n + v) ∧ (v = 0 ∨ ∃ n, lo ≤ n ∧ n < hi ∧ (sKd S n = 5 ∨ sKd S n = 6) ∧ L + 1 = sLv S n + v)
/-- what is told of a version beside its rows -/
def sInf (S : SV) (σ3 : Nat → Int32) (v : Nat) : Prop := σ3 (4 * v + 1) = nI (pSum (fun n => if sKd S n = 0 then 0 else 1) (sEn S 0)) ∧ (∃ d, d ≤ 4 ∧ σ3 (4 * v + 2) = nI d ∧ dIs S (sLv S 0) d 0 (sEn S 0)) ∧ (∃ f : Nat → Nat, (∀ n, n < sEn S 0 → sP S n 7 = nI (f n) ∧ f n < 100) ∧ ∀ n m, n < m → m < sEn S 0 → sKd S n ≠ 0 → sKd S m ≠ 0 → f n < f m) ∧ pSum (fun n => if sKd S n = 0 then 0 else 1) (sEn S 0) ≤ 24
/-- a version that was defined -/
def vOk (S : SV) (σ : TS) (w : gw) (tg : pT) (v : Nat) (vo : Option Nat) : Prop := sWf S ∧ 0 < sEn S 0 ∧ pSg S σ v ∧ sObjs S w tg ∧ sInf S (σ 3) v ∧ ∃ a, vo = some a ∧ pStc tg a ∧ w.1 a = some (.inl (3, [ga (some (sSa S 0)), gi (σ 3 (4 * v + 3))]))
def vAll (Ss : Nat → SV) (many : Nat → Nat) (σ : TS) (w : gw) (tg : pT) (fv : Nat → Option Nat) (fm : Nat → Int32) (s : Nat → Int32) : Prop := ∀ a, a < 4 → many a ≤ 4 ∧ fm a = nI (many a) ∧ s (17 + a) = nI (many a) ∧ (∀ b, b < many a → vOk (Ss (4 * a + b)) σ w tg (4 * a + b) (fv (4 * a + b))) ∧ ∀ b, b < 4 → fv (4 * a + b) = none ∨ ∃ x fs, fv (4 * a + b) = some x ∧ pStc tg x ∧ w.1 x = some (.inl (3, fs))
/-- the rows as they were when the image was made -/
def sIm (σ : TS) : TS := fun r => if r = 1 then σ 2 else if r = 3 then σ 4 else σ r
/-- the component's own cells -/
def xOk (xa mo : Nat) (w : gw) (tg : pT) (σ : TS) (fv : Nat → Option Nat) (fm : Nat → Int32) (wr im : Option Nat) : Prop := ∃ ta va vm p ft, tg xa = (xa, 64) ∧ w.1 xa = some (.inl (0, [ga (some ta), gi (nI p), ga wr, ga (some va), ga (some vm), ga (some mo), ga im])) ∧
  tg ta = (xa, 65) ∧ w.1 ta = some (.inr (1, 80, .inl ft)) ∧ tg va = (xa, 66) ∧ w.1 va = some (.inr (3, 16, .inr fv)) ∧ tg vm = (xa, 67) ∧ w.1 vm = some (.inr (0, 4, .inl fm)) ∧ p ≤ 80 ∧ σ 0 9 = nI p ∧ ∀ j, j < p → ft j = σ 8 j ∧ ∃ c, c < 128 ∧ σ 8 j = nI c
/-- the image -/
def mIm (xa : Nat) (w : gw) (tg : pT) (σ : TS) (im : Option Nat) (B mo : Nat) (Ow : Nat → Prop) : Prop := (im = none ∧ σ 0 7 = 0) ∨
  ∃ ia Ss many mo' ias T fv fm vw mw wr, im = some ia ∧ σ 0 7 = nI 1 ∧ pStc tg ia ∧ w.1 ia = some (.inl (28, [ga (some vw), ga (some mw), ga wr, ga (some mo'), ga (some xa)])) ∧ pStc tg vw ∧ w.1 vw = some (.inr (3, 16, .inr fv)) ∧ pStc tg mw ∧ w.1 mw = some (.inr (0, 4, .inl fm)) ∧
    vAll Ss many (sIm σ) w tg fv fm (σ 6) ∧ rW w tg wr (σ 0 19) (σ 0 20) ∧ mOk Ss many (sIm σ) xa mo' ias w tg (σ 6) T B (fun _ => T) ∧ T ≤ 99999 ∧ ¬ Ow mo' ∧ mo' ≠ mo ∧ mo' ≠ xa ∧ (∀ k, k < 6 → σ 6 (21 + 1262 * (k) + 0) = nI 1 → ¬ Ow (ias k) ∧ ias k ≠ mo ∧ ias k ≠ xa)
/-- all but the reference's own cells -/
def GRp (k xa mo : Nat) (ias : Nat → Nat) (Ss : Nat → SV) (many : Nat → Nat) (T : Nat) (fv : Nat → Option Nat) (fm : Nat → Int32) (wr im : Option Nat) (w : gw) (tg : pT) (σ : TS) : Prop := xOk xa mo w tg σ fv fm wr im ∧ rW w tg wr (σ 0 10) (σ 0 11) ∧ vAll Ss many σ w tg fv fm (σ 5) ∧
  mOk Ss many σ xa mo ias w tg (σ 5) T ((64 - k) * 20500000) (fun _ => T) ∧ T ≤ 99999 ∧ mIm xa w tg σ im ((64 - k) * 20500000) mo (fun o => ∃ j, j < 6 ∧ σ 5 (21 + 1262 * (j) + 0) = nI 1 ∧ o = ias j) ∧
  k ≤ 64 ∧ w.2.1 + 9390 * k ≤ w.2.2.2 0 ∧ w.2.2.1 + 113000 * k ≤ w.2.2.2 1 ∧ (∀ j, j < 6 → σ 5 (21 + 1262 * (j) + 0) = nI 1 → ias j ≠ xa)
def GRw (k xa : Nat) (w : gw) (tg : pT) (σ : TS) : Prop := ∃ mo ias Ss many T fv fm wr im, GRp k xa mo ias Ss many T fv fm wr im w tg σ
/-! frames of its parts -/
section WF
variable {w w1 : gw} {tg tg1 : pT} {P : Nat × Nat → Prop}
theorem rW.fr {wr : Option Nat} {a b : Int32} (hf : ∀ a e, w.1 a = some e → pStc tg a → w1.1 a = some e ∧ pStc tg1 a) (h : rW w tg wr a b) : rW w1 tg1 wr a b := by
  rcases h with h | ⟨wa, ca, p, fs, gs, h1, h2, h3, h4, h5, h6, h7, h8⟩
  · exact Or.inl h
  · refine Or.inr ⟨wa, ca, p, fs, gs, h1, (hf _ _ h6 h2).2, ?_, h4, h5, (hf _ _ h6 h2).1, h7, ?_⟩
    · rcases h8 with h8 | h8
      · exact (hf _ _ h8.2 h3).2
      · exact (hf _ _ h8.2 h3).2
    · rcases h8 with h8 | h8
      · exact Or.inl ⟨h8.1, (hf _ _ h8.2 h3).1⟩
      · exact Or.inr ⟨h8.1, (hf _ _ h8.2 h3).1⟩
theorem vOk.fr {S : SV} {σ : TS} {v : Nat} {vo : Option Nat} (hf : ∀ a e, w.1 a = some e → pStc tg a → w1.1 a = some e ∧ pStc tg1 a) (h : vOk S σ w tg v vo) : vOk S σ w1 tg1 v vo := by
  obtain ⟨h1, h2, h3, h4, h5, a, h6, h7, h8⟩ := h
  exact ⟨h1, h2, h3, h4.fr hf, h5, a, h6, (hf _ _ h8 h7).2, (hf _ _ h8 h7).1⟩
theorem vAll.fr {Ss : Nat → SV} {many : Nat → Nat} {σ : TS} {fv : Nat → Option Nat} {fm s s1 : Nat → Int32} (hf : ∀ a e, w.1 a = some e → pStc tg a → w1.1 a = some e ∧ pStc tg1 a) (hs : ∀ a, a < 4 → s1 (17 + a) = s (17 + a)) (h : vAll Ss many σ w tg fv fm s) : vAll Ss many σ w1 tg1 fv fm s1 := fun a ha => by
  obtain ⟨h1, h2, h3, h4, h5⟩ := h a ha
  refine ⟨h1, h2, (hs a ha).trans h3, fun b hb => (h4 b hb).fr hf, fun b hb => ?_⟩
  rcases h5 b hb with z | ⟨x, fs, z1, z2, z3⟩
  · exact Or.inl z
  · exact Or.inr ⟨x, fs, z1, (hf _ _ z3 z2).2, (hf _ _ z3 z2).1⟩
theorem vOk.sg {S : SV} {σ σ1 : TS} {v : Nat} {vo : Option Nat} (h1 : σ1 1 = σ 1) (h3 : σ1 3 = σ 3) (h : vOk S σ w tg v vo) : vOk S σ1 w tg v vo := by
  obtain ⟨a1, a2, a3, a4, a5, a, a6, a7, a8⟩ := h
  refine ⟨a1, a2, ?_, a4, by rw [h3]; exact a5, a, a6, a7, by rw [h3]; exact a8⟩
  unfold pSg at a3 ⊢
  rw [h1, h3]
  exact a3
theorem vAll.sg {Ss : Nat → SV} {many : Nat → Nat} {σ σ1 : TS} {fv : Nat → Option Nat} {fm s : Nat → Int32} (h1 : σ1 1 = σ 1) (h3 : σ1 3 = σ 3) (h : vAll Ss many σ w tg fv fm s) : vAll Ss many σ1 w tg fv fm s := fun a ha => by
  obtain ⟨g1, g2, g3, g4, g5⟩ := h a ha
  exact ⟨g1, g2, g3, fun b hb => (g4 b hb).sg h1 h3, g5⟩
theorem pW.sg {S : SV} {σ σ1 : TS} {xa mo ia i ver T B : Nat} {s : Nat → Int32} {bo un : Option Nat} (h1 : σ1 1 = σ 1) (h3 : σ1 3 = σ 3) (h : pW S σ xa mo ia i ver T w tg s B bo un) : pW S σ1 xa mo ia i ver T w tg s B bo un := by
  obtain ⟨⟨a1, a2, a3, a4⟩, a5⟩ := h
  refine ⟨⟨a1, a2, a3, ?_⟩, a5⟩
  unfold pSg at a4 ⊢
  rw [h1, h3]
  exact a4
theorem mOk.sg {Ss : Nat → SV} {many : Nat → Nat} {σ σ1 : TS} {xa mo T B : Nat} {ias : Nat → Nat} {s : Nat → Int32} {Tr : Nat → Nat} (h1 : σ1 1 = σ 1) (h3 : σ1 3 = σ 3) (h : mOk Ss many σ xa mo ias w tg s T B Tr) : mOk Ss many σ1 xa mo ias w tg s T B Tr := by
  obtain ⟨hC, hM, ⟨fi, hfi, hk⟩, hd⟩ := h
  refine ⟨hC, hM, ⟨fi, hfi, fun k k6 => ?_⟩, hd⟩
  rcases hk k k6 with z | ⟨z1, z2, a, b, bo, un, g1, g2, g3, g4, g5, g6, g7, g8⟩
  · exact Or.inl z
  · exact Or.inr ⟨z1, z2, a, b, bo, un, g1, g2, g3, g4, g5, g6, g7.sg h1 h3, g8⟩
theorem xOk.fr {xa mo : Nat} {σ σ1 : TS} {fv : Nat → Option Nat} {fm : Nat → Int32} {wr im : Option Nat} (hb : pBd w) (hF : pFr w w1 tg tg1 P) (hP : ∀ j, 64 ≤ j → j < 68 → ¬ P (xa, j)) (h9 : σ1 0 9 = σ 0 9) (h8 : σ1 8 = σ 8) (h : xOk xa mo w tg σ fv fm wr im) : xOk xa mo w1 tg1 σ1 fv fm wr im := by
  obtain ⟨ta, va, vm, p, ft, a1, a2, a3, a4, a5, a6, a7, a8, a9, a10, a11⟩ := h
  have b2 := hF.at hb a2 (by rw [a1]; exact hP _ (by omega) (by omega))
  have b4 := hF.at hb a4 (by rw [a3]; exact hP _ (by omega) (by omega))
  have b6 := hF.at hb a6 (by rw [a5]; exact hP _ (by omega) (by omega))
  have b8 := hF.at hb a8 (by rw [a7]; exact hP _ (by omega) (by omega))
  exact ⟨ta, va, vm, p, ft, b2.2.trans a1, b2.1, b4.2.trans a3, b4.1, b6.2.trans a5, b6.1, b8.2.trans a7, b8.1, a9, h9.trans a10, by rw [h8]; exact a11⟩
theorem mIm.fr {xa : Nat} {σ σ1 : TS} {im : Option Nat} {B B1 mo : Nat} {Ow Ow1 : Nat → Prop} (hb : pBd w) (hF : pFr w w1 tg tg1 P) (h0 : ¬ P (0, 100)) (hP : ∀ o j, P (o, j) → o = mo ∨ o = xa ∨ Ow o ∨ w.2.1 ≤ o) (hO : ∀ o, Ow1 o → Ow o ∨ w.2.1 ≤ o) (hB : B ≤ B1) (h2 : σ1 2 = σ 2) (h4 : σ1 4 = σ 4) (h6 : σ1 6 = σ 6) (h07 : σ1 0 7 = σ 0 7) (h19 : σ1 0 19 = σ 0 19) (h20 : σ1 0 20 = σ 0 20) (h : mIm xa w tg σ im B mo Ow) : mIm xa w1 tg1 σ1 im B1 mo Ow1 := by
  rcases h with ⟨z1, z2⟩ | ⟨ia, Ss, many, mo', ias, T, fv, fm, vw, mw, wr, a1, a2, a3, a4, a5, a6, a7, a8, a9, a10, a11, a12, a13, a14, a15, a16⟩
  · exact Or.inl ⟨z1, h07.trans z2⟩
  · have hst := hF.stc hb h0
    have hi1 : sIm σ1 1 = sIm σ 1 := h2
    have hi3 : sIm σ1 3 = sIm σ 3 := h4
    have hmlt : mo' < w.2.1 := by
      obtain ⟨-, ⟨du, fa, ins, fd, ff, fi, m1, m2, -⟩, -⟩ := a11
      exact hb _ _ m2
    have hilt : ∀ k, k < 6 → σ 6 (21 + 1262 * (k) + 0) = nI 1 → ias k < w.2.1 := fun k hk hz => by
      obtain ⟨-, -, ⟨fi, -, hks⟩, -⟩ := a11
      rcases hks k hk with q | ⟨-, -, a', b', bo', un', -, -, -, -, -, -, g7, -⟩
      · rw [hz] at q
        exact absurd q.2 (by decide)
      · obtain ⟨va, pe, dl, hi', own, -⟩ := g7.own
        exact hb _ _ own
    have hm' : ∀ j, ¬ P (mo', j) := fun j z => by
      rcases hP _ _ z with y | y | y | y
      · exact a14 y
      · exact a15 y
      · exact a13 y
      · omega
    have hi' : ∀ k, k < 6 → σ 6 (21 + 1262 * (k) + 0) = nI 1 → ∀ j, ¬ P (ias k, j) := fun k hk hz j z => by
      obtain ⟨y1, y2, y3⟩ := a16 k hk hz
      have := hilt k hk hz
      rcases hP _ _ z with y | y | y | y
      · exact y2 y
      · exact y3 y
      · exact y1 y
      · omega
    refine Or.inr ⟨ia, Ss, many, mo', ias, T, fv, fm, vw, mw, wr, a1, h07.trans a2, (hst _ _ a4 a3).2, (hst _ _ a4 a3).1, (hst _ _ a6 a5).2, (hst _ _ a6 a5).1, (hst _ _ a8 a7).2, (hst _ _ a8 a7).1, ?_, ?_, ?_, a12, ?_, a14, a15, ?_⟩
    · rw [h6]
      exact (a9.fr hst (fun _ _ => rfl)).sg hi1 hi3
    · rw [h19, h20]
      exact a10.fr hst
    · rw [h6]
      exact ((a11.fr hF h0 hm' hi').sg hi1 hi3).mono hB
    · intro z
      rcases hO _ z with y | y
      · exact a13 y
      · omega
    · rw [h6]
      intro k hk hz
      obtain ⟨y1, y2, y3⟩ := a16 k hk hz
      refine ⟨fun z => ?_, y2, y3⟩
      rcases hO _ z with y | y
      · exact y1 y
      · have hlt := hilt k hk hz
        omega
end WF
