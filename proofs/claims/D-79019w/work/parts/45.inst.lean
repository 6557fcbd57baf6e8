set_option maxRecDepth 100000
/-! THE INSTANCE's OWN METHODS, both sides at once -/
theorem pFr.rf {w : gw} {tg : pT} {P : Nat × Nat → Prop} (h : pBd w) : pFr w w tg tg P := ⟨h, Nat.le_refl _, rfl, fun _ _ => rfl, fun _ _ _ => rfl⟩
theorem pFr.tr {w w1 w2 : gw} {tg tg1 tg2 : pT} {P : Nat × Nat → Prop} (h : pFr w w1 tg tg1 P) (h' : pFr w1 w2 tg1 tg2 P) : pFr w w2 tg tg2 P :=
  ⟨h'.1, Nat.le_trans h.2.1 h'.2.1, h'.2.2.1.trans h.2.2.1, fun a ha => (h'.2.2.2.1 a (Nat.lt_of_lt_of_le ha h.2.1)).trans (h.2.2.2.1 a ha), fun a ha hp => (h'.2.2.2.2 a (Nat.lt_of_lt_of_le ha h.2.1) (by rw [h.2.2.2.1 a ha]; exact hp)).trans (h.2.2.2.2 a ha hp)⟩
theorem pFr.mono {w w1 : gw} {tg tg1 : pT} {P P' : Nat × Nat → Prop} (h : pFr w w1 tg tg1 P) (hp : ∀ t, P t → P' t) : pFr w w1 tg tg1 P' := ⟨h.1, h.2.1, h.2.2.1, h.2.2.2.1, fun a ha hn => h.2.2.2.2 a ha (fun z => hn (hp _ z))⟩
theorem pFr.at {w w1 : gw} {tg tg1 : pT} {P : Nat × Nat → Prop} (h : pFr w w1 tg tg1 P) (h0 : pBd w) {a : Nat} {e : gE} (ha : w.1 a = some e) (hp : ¬ P (tg a)) : w1.1 a = some e ∧ tg1 a = tg a := ⟨(h.2.2.2.2 a (h0 a e ha) hp).trans ha, h.2.2.2.1 a (h0 a e ha)⟩
theorem pFr.hs {w : gw} {tg : pT} {P : Nat × Nat → Prop} (h : pBd w) {a : Nat} {e e0 : gE} (ha : w.1 a = some e0) (hp : P (tg a)) : pFr w (hs w a e) tg tg P := by
  refine ⟨fun b f hb => ?_, Nat.le_refl _, rfl, fun _ _ => rfl, fun b _ hn => hs_ne ?_⟩
  · rw [hs_at] at hb
    by_cases hba : b = a
    · rw [hba]
      exact h a e0 ha
    · rw [if_neg hba] at hb
      exact h b f hb
  · rintro rfl
    exact hn hp
/-- a new cell, its tag -/
def tU (tg : pT) (a : Nat) (x : Nat × Nat) : pT := fun b => if b = a then x else tg b
theorem tU_self (tg : pT) (a : Nat) (x : Nat × Nat) : tU tg a x a = x := if_pos rfl
theorem tU_ne {tg : pT} {a b : Nat} {x : Nat × Nat} (h : b ≠ a) : tU tg a x b = tg b := if_neg h
theorem pFr.hn {w : gw} {tg : pT} {P : Nat × Nat → Prop} (h : pBd w) (e : gE) (n : Nat) (x : Nat × Nat) : pFr w (hn w e n) tg (tU tg w.2.1 x) P := by
  refine ⟨fun b f hb => ?_, Nat.le_succ _, rfl, fun a ha => tU_ne (Nat.ne_of_lt ha), fun b hb _ => hn_ne (Nat.ne_of_lt hb)⟩
  show b < w.2.1 + 1
  rw [hn_at] at hb
  by_cases hba : b = w.2.1
  · omega
  · rw [if_neg hba] at hb
    have := h b f hb
    omega
theorem pFr.aW {w w1 : gw} {tg tg1 : pT} {P : Nat × Nat → Prop} (h : pFr w w1 tg tg1 P) (h0 : pBd w) {ia lo hi : Nat} (hp : ∀ t : Nat × Nat, (t.1 = ia ∧ lo ≤ t.2 ∧ t.2 < hi ∨ t = (0, 100)) → ¬ P t) : aW w w1 tg tg1 ia lo hi := fun _ _ ha ht => h.at h0 ha (hp _ ht)
theorem pCo.fr {w w1 : gw} {tg tg1 : pT} {P : Nat × Nat → Prop} (hc : pCo w tg) (h : pFr w w1 tg tg1 P) (hp : ¬ P (0, 100)) : pCo w1 tg1 := by
  obtain ⟨h0, h1, h2⟩ := hc
  refine ⟨h.1, fun j a b => ?_, by rw [h.2.2.1]; exact h2⟩
  obtain ⟨k1, k2, k3⟩ := h1 j a b
  rw [h.2.2.1]
  exact ⟨(h.2.2.2.2 _ k3 (by rw [k2]; exact hp)).trans k1, (h.2.2.2.1 _ k3).trans k2, Nat.lt_of_lt_of_le k3 h.2.1⟩
theorem pListS.fr {w w1 : gw} {tg tg1 : pT} (hf : ∀ a e, w.1 a = some e → pStc tg a → w1.1 a = some e ∧ pStc tg1 a) {la m : Nat} {g : Nat → Option Nat} (h : pListS w tg la m g) : pListS w1 tg1 la m g := by
  obtain ⟨h1, ea, cap, mc, h2, h3, h4, h5⟩ := h
  exact ⟨(hf _ _ h3 h1).2, ea, cap, mc, (hf _ _ h4 h2).2, (hf _ _ h3 h1).1, (hf _ _ h4 h2).1, h5⟩
theorem sObjs.fr {S : SV} {w w1 : gw} {tg tg1 : pT} (hf : ∀ a e, w.1 a = some e → pStc tg a → w1.1 a = some e ∧ pStc tg1 a) (h : sObjs S w tg) : sObjs S w1 tg1 := by
  intro n hn
  obtain ⟨h0, h⟩ := h n hn
  rcases h with ⟨h1, la, g, h2, h3, h4⟩ | ⟨h1, h2⟩ | ⟨h1, h2⟩ | ⟨h1, h2⟩ | ⟨h1, h2⟩ | ⟨h1, h2⟩ | ⟨h1, la, g, h2, h3, h4⟩
  · exact ⟨(hf _ _ h2 h0).2, Or.inl ⟨h1, la, g, (hf _ _ h2 h0).1, h3.fr hf, h4⟩⟩
  · exact ⟨(hf _ _ h2 h0).2, Or.inr (Or.inl ⟨h1, (hf _ _ h2 h0).1⟩)⟩
  · exact ⟨(hf _ _ h2 h0).2, Or.inr (Or.inr (Or.inl ⟨h1, (hf _ _ h2 h0).1⟩))⟩
  · exact ⟨(hf _ _ h2 h0).2, Or.inr (Or.inr (Or.inr (Or.inl ⟨h1, (hf _ _ h2 h0).1⟩)))⟩
  · exact ⟨(hf _ _ h2 h0).2, Or.inr (Or.inr (Or.inr (Or.inr (Or.inl ⟨h1, (hf _ _ h2 h0).1⟩))))⟩
  · exact ⟨(hf _ _ h2 h0).2, Or.inr (Or.inr (Or.inr (Or.inr (Or.inr (Or.inl ⟨h1, (hf _ _ h2 h0).1⟩)))))⟩
  · exact ⟨(hf _ _ h2 h0).2, Or.inr (Or.inr (Or.inr (Or.inr (Or.inr (Or.inr ⟨h1, la, g, (hf _ _ h2 h0).1, h3.fr hf, h4⟩)))))⟩
theorem pFr.stc {w w1 : gw} {tg tg1 : pT} {P : Nat × Nat → Prop} (h : pFr w w1 tg tg1 P) (h0 : pBd w) (hp : ¬ P (0, 100)) : ∀ a e, w.1 a = some e → pStc tg a → w1.1 a = some e ∧ pStc tg1 a := fun a e ha ht => by
  have h2 := h.at h0 ha (by rw [show tg a = (0, 100) from ht]; exact hp)
  exact ⟨h2.1, h2.2.trans ht⟩
/-- the version in the rows -/
def pSg (S : SV) (σ : TS) (ver : Nat) : Prop := ver < 16 ∧ (∀ n k, n < sEn S 0 → k < 9 → σ 1 ((64 * (ver) + n) * 9 + k) = sP S n k) ∧ σ 3 (4 * ver) = nI (sEn S 0)
/-- all that is known of an instance that runs, but its run -/
def pW (S : SV) (σ : TS) (xa mo ia i ver T : Nat) (w : gw) (tg : pT) (s : Nat → Int32) (B : Nat) (bo un : Option Nat) : Prop :=
  (ia ≠ 0 ∧ i < 6 ∧ sWf S ∧ pSg S σ ver) ∧ pCo w tg ∧ sObjs S w tg ∧ pVer i ver s ∧ pMo xa mo w tg s T ∧ pIn S xa mo ia i w tg s bo un ∧ pE i s B
/-- the places that a step of node n's run may write -/
def pP (mo ia lo hi : Nat) : Nat × Nat → Prop := fun t => t.1 = ia ∧ (lo ≤ t.2 ∧ t.2 < hi ∨ 64 ≤ t.2) ∨ t = (mo, 2)
/-- the rows that it may write -/
def pQ (i lo hi : Nat) (s s1 : Nat → Int32) : Prop := ∀ j, ¬ (9 ≤ j ∧ j < 17) → ¬ ((21 + 1262 * (i) + 6) ≤ j ∧ j < (21 + 1262 * (i) + 622)) → ¬ ((21 + 1262 * (i) + (622 + 10 * (lo) + 0)) ≤ j ∧ j < (21 + 1262 * (i) + (622 + 10 * (hi) + 0))) → s1 j = s j
theorem pQ.rf {i lo hi : Nat} {s : Nat → Int32} : pQ i lo hi s s := fun _ _ _ _ => rfl
theorem pQ.tr {i lo hi : Nat} {s s1 s2 : Nat → Int32} (h : pQ i lo hi s s1) (h' : pQ i lo hi s1 s2) : pQ i lo hi s s2 := fun j a b c => (h' j a b c).trans (h j a b c)
theorem pQ.mono {i lo hi lo' hi' : Nat} {s s1 : Nat → Int32} (h : pQ i lo hi s s1) (h1 : lo' ≤ lo) (h2 : hi ≤ hi') : pQ i lo' hi' s s1 := fun j a b c => h j a b (by omega)
theorem pQ.upd {i lo hi j : Nat} {s : Nat → Int32} (x : Int32) (h : (9 ≤ j ∧ j < 17) ∨ ((21 + 1262 * (i) + 6) ≤ j ∧ j < (21 + 1262 * (i) + 622)) ∨ ((21 + 1262 * (i) + (622 + 10 * (lo) + 0)) ≤ j ∧ j < (21 + 1262 * (i) + (622 + 10 * (hi) + 0)))) : pQ i lo hi s (upd s j x) := fun k a b c => upd_ne (by
  rintro rfl
  rcases h with h | h | h
  · exact a h
  · exact b h
  · exact c h)
theorem pQ.notes {i lo hi B : Nat} {k v : Int32} {s : Nat → Int32} (h : pE i s B) (hb : B < 2 ^ 31) : pQ i lo hi s (uNotes i k v s) := fun j _ b _ => uNotes_ne h hb (by omega) (by omega)
theorem pMo.fr {xa mo T : Nat} {w w1 : gw} {tg tg1 : pT} {s s1 : Nat → Int32} {P : Nat × Nat → Prop} (h : pMo xa mo w tg s T) (hf : pFr w w1 tg tg1 P) (h0 : pBd w) (hP : ∀ j, ¬ P (mo, j)) (hs : ∀ j, j < 17 → s1 j = s j) : pMo xa mo w1 tg1 s1 T := by
  obtain ⟨du, fa, ins, fd, ff, fi, a1, a2, a3, a4, a5, a6, a7, a8, a9, a10, a11⟩ := h
  have b1 := hf.at h0 a2 (by rw [a1]; exact hP _)
  have b2 := hf.at h0 a4 (by rw [a3]; exact hP _)
  have b3 := hf.at h0 a6 (by rw [a5]; exact hP _)
  have b4 := hf.at h0 a8 (by rw [a7]; exact hP _)
  refine ⟨du, fa, ins, fd, ff, fi, b1.2.trans a1, ?_, b2.2.trans a3, b2.1, b3.2.trans a5, b3.1, b4.2.trans a7, b4.1, fun c hc => ?_, ?_, a11⟩
  · rw [hs 0 (by omega)]
    exact b1.1
  · rw [hs (1 + c) (by omega), hs (9 + c) (by omega)]
    exact a9 c hc
  · rw [hs 0 (by omega)]
    exact a10
theorem pDn.fr {S : SV} {ia i dl : Nat} {w w1 : gw} {tg tg1 : pT} {s s1 : Nat → Int32} (h : pDn S ia i w tg s dl) (hf : ∀ a e j, w.1 a = some e → tg a = (ia, j) → 68 ≤ j → w1.1 a = some e ∧ tg1 a = tg a) (hK : w1.2.2.2 = w.2.2.2) (h6 : s1 (21 + 1262 * (i) + 6) = s (21 + 1262 * (i) + 6))
    (hs : ∀ n, n < sEn S 0 → sKd S n = 1 → (s1 (21 + 1262 * (i) + (622 + 10 * (n) + 0)) = nI 2 ↔ s (21 + 1262 * (i) + (622 + 10 * (n) + 0)) = nI 2) ∧ (s (21 + 1262 * (i) + (622 + 10 * (n) + 0)) = nI 2 → s1 (21 + 1262 * (i) + (622 + 10 * (n) + 5)) = s (21 + 1262 * (i) + (622 + 10 * (n) + 5)) ∧ s1 (21 + 1262 * (i) + (622 + 10 * (n) + 6)) = s (21 + 1262 * (i) + (622 + 10 * (n) + 6)))) : pDn S ia i w1 tg1 s1 dl := by
  obtain ⟨m, ea, mc, g, a1, a2, a3, a4, a5, a6, a7, a8, a9⟩ := h
  have b1 := hf _ _ _ a5 a4 (by omega)
  refine ⟨m, ea, mc, g, h6.trans a1, ?_, a3, b1.2.trans a4, b1.1, ?_, ?_, ?_, ?_⟩
  · rw [a2]
    have : ∀ N, N ≤ sEn S 0 → pSum (fun n => if sKd S n = 1 ∧ s (21 + 1262 * (i) + (622 + 10 * (n) + 0)) = nI 2 then 1 else 0) N = pSum (fun n => if sKd S n = 1 ∧ s1 (21 + 1262 * (i) + (622 + 10 * (n) + 0)) = nI 2 then 1 else 0) N := by
      intro N
      induction N with
      | zero => intro _; rfl
      | succ N ih =>
        intro hN
        unfold pSum
        rw [ih (by omega)]
        congr 1
        by_cases hk : sKd S N = 1
        · have := (hs N (by omega) hk).1
          simp only [hk, true_and, this]
        · simp only [hk, false_and]
    exact this _ (Nat.le_refl _)
  · rcases a6 with a6 | ⟨c1, cap, c2, c3, c4, c5⟩
    · rw [hK]
      exact Or.inl a6
    · have b2 := hf _ _ _ c5 c1 (by omega)
      exact Or.inr ⟨b2.2.trans c1, cap, c2, c3, c4, b2.1⟩
  · intro k hk
    obtain ⟨dk, t, e, d1, d2, d3, d4, d5, d6, d7, d8⟩ := a7 k hk
    have b3 := hf _ _ _ d7 d2 (by omega)
    obtain ⟨e1, e2⟩ := hs t d3 d4
    obtain ⟨e3, e4⟩ := e2 d5
    exact ⟨dk, t, e, d1, b3.2.trans d2, d3, d4, e1.mpr d5, e3.trans d6, b3.1, by rw [e4]; exact d8⟩
  · intro t ht hk h2
    obtain ⟨e1, e2⟩ := hs t ht hk
    have h3 := e1.mp h2
    rw [(e2 h3).1]
    exact a8 t ht hk h3
  · intro t t' ht ht' hk hk' h2 h2' h5
    obtain ⟨e1, e2⟩ := hs t ht hk
    obtain ⟨e1', e2'⟩ := hs t' ht' hk'
    have h3 := e1.mp h2
    have h3' := e1'.mp h2'
    rw [(e2 h3).1, (e2' h3').1] at h5
    exact a9 t t' ht ht' hk hk' h3 h3' h5
