set_option maxRecDepth 100000
/-! THE LAW's INVARIANT -/
section LI
variable {k xa : Nat} {w : gw} {tg : pT} {σ : TS}
theorem law_call (n : Nat) (hn : n < 21) (p1 p2 p3 : Int32) (h : GRw (k + 1) xa w tg σ) : callOk k xa w tg σ (lawC xa n p1 p2 p3 w) (lawT n p1 p2 p3 σ) := by
  match n, hn with
  | 0, _ => exact call_feed p1 h
  | 1, _ => exact call_define p1 h
  | 2, _ => exact call_wrong p1 h
  | 3, _ => exact call_version p1 p2 p3 h
  | 4, _ => exact call_duration p1 p2 h
  | 5, _ => exact call_failures p1 p2 h
  | 6, _ => exact call_start p1 h
  | 7, _ => exact call_signal p1 p2 h
  | 8, _ => exact call_abort p1 h
  | 9, _ => exact call_remove p1 h
  | 10, _ => exact call_pass p1 h
  | 11, _ => exact call_instance p1 p2 h
  | 12, _ => exact call_entry p1 p2 p3 h
  | 13, _ => exact call_running p1 p2 h
  | 14, _ => exact call_due p1 h
  | 15, _ => exact call_ahead p1 p2 h
  | 16, _ => exact call_replayed p1 p2 h
  | 17, _ => exact call_statistic p1 p2 h
  | 18, _ => exact call_image h
  | 19, _ => exact call_undo h
  | 20, _ => exact call_count p1 h
  | n + 21, hn => omega
/-- the reference's own cells are none of the relation's -/
theorem GRw.tw {w1 : gw} (hF : pFr w w1 tg tg (fun t => t = (xa, 300))) (h2 : w1.2 = w.2) (h : GRw k xa w tg σ) : GRw k xa w1 tg σ := by
  obtain ⟨mo, ias, Ss, many, T, fv, fm, wr, im, g1, g2, g3, g4, g5, g6, g7, g8, g9, g10⟩ := h
  have hb := g4.1.1
  have hP : ¬ ((0, 100) : Nat × Nat) = (xa, 300) := fun z => by
    have := congrArg Prod.snd z
    simp only at this
    omega
  have hst := hF.stc hb hP
  refine ⟨mo, ias, Ss, many, T, fv, fm, wr, im, g1.fr hb hF (fun j a b z => by
    have := congrArg Prod.snd z
    simp only at this
    omega) rfl rfl, g2.fr hst, g3.fr hst (fun _ _ => rfl), g4.fr hF hP (fun j z => by
      obtain ⟨-, ⟨du, fa, ins, fd, ff, fi', m1, m2, -⟩, -⟩ := g4
      obtain ⟨ta, va, vm, p, ft, a1, a2, -⟩ := g1
      exact (ne_of m2 a2 (by simp)) (congrArg Prod.fst z)) (fun i hi hz j z => g10 i hi hz (congrArg Prod.fst z)), g5, ?_, g7, ?_, ?_, g10⟩
  · exact g6.fr hb hF hP (fun o j z => Or.inr (Or.inl (congrArg Prod.fst z))) (fun o z => Or.inl z) (Nat.le_refl _) rfl rfl rfl rfl rfl rfl
  · rw [h2]; exact g8
  · rw [h2]; exact g9
/-- k calls are still to come -/
def lInv (xa : Nat) (ad : Nat → Nat) (k : Nat) (w : gw) (σ : TS) : Prop := ∃ tg, GRw k xa w tg σ ∧ w = twOf w ad σ ∧ ∀ i, i < 9 → tg (ad i) = (xa, 300)
theorem twOf_eq {ad : Nat → Nat} (h : ∀ i, i < 9 → w.1 (ad i) = some (twCell ad σ i)) : w = twOf w ad σ := by
  refine Prod.ext (funext fun a => ?_) rfl
  show w.1 a = (match tIdx ad a with | some i => some (twCell ad σ i) | none => w.1 a)
  cases e : tIdx ad a with
  | none => rfl
  | some i =>
    obtain ⟨h1, h2⟩ := tIdx_some e
    show w.1 a = some (twCell ad σ i)
    rw [← h2, h i h1]
theorem lInv_law {ad : Nat → Nat} (hinj : tInj ad) : LawInv xa ad (lInv xa ad) := by
  refine ⟨hinj, fun k w σ h => ?_, fun k w σ h => ?_, fun n hn k p1 p2 p3 w σ h => ?_, fun k w σ h => ?_⟩
  · obtain ⟨tg, ⟨mo, ias, Ss, many, T, fv, fm, wr, im, ⟨ta, va, vm, p, ft, a1, a2, -⟩, -⟩, -⟩ := h
    exact pu_Cls a2
  · obtain ⟨tg, -, h, -⟩ := h
    exact h
  · obtain ⟨tg, h1, h2, h3⟩ := h
    obtain ⟨r, w', tg1, σ', c1, c2, c3, c4, c5⟩ := law_call n hn p1 p2 p3 h1
    have hcell : ∀ i, i < 9 → w.1 (ad i) = some (twCell ad σ i) := fun i hi => by
      rw [h2]
      exact twOf_at hinj hi
    have hcell' : ∀ i, i < 9 → w'.1 (ad i) = some (twCell ad σ i) ∧ tg1 (ad i) = (xa, 300) := fun i hi => by
      have := c5 _ _ (hcell i hi) (h3 i hi)
      exact ⟨this.1, this.2.trans (h3 i hi)⟩
    have hb' : pBd w' := by
      obtain ⟨mo, ias, Ss, many, T, fv, fm, wr, im, -, -, -, g4, -⟩ := c3
      exact g4.1.1
    refine ⟨r, w', σ', c1, c2, twOf_eq (fun i hi => (hcell' i hi).1), tg1, GRw.tw (w := w') (w1 := twOf w' ad σ') ⟨fun b e hbe => ?_, Nat.le_refl _, rfl, fun _ _ => rfl, fun b hb hn => ?_⟩ rfl c3, twOf_eq (fun i hi => twOf_at hinj hi), fun i hi => (hcell' i hi).2⟩
    · have hbe' : (match tIdx ad b with | some i => some (twCell ad σ' i) | none => w'.1 b) = some e := hbe
      cases et : tIdx ad b with
      | none =>
        rw [et] at hbe'
        exact hb' _ _ hbe'
      | some i =>
        obtain ⟨y1, y2⟩ := tIdx_some et
        rw [← y2]
        exact hb' _ _ (hcell' i y1).1
    · show (match tIdx ad b with | some i => some (twCell ad σ' i) | none => w'.1 b) = w'.1 b
      cases et : tIdx ad b with
      | none => rfl
      | some i =>
        obtain ⟨y1, y2⟩ := tIdx_some et
        exact absurd (by rw [← y2]; exact (hcell' i y1).2) hn
  · obtain ⟨tg, ⟨mo, ias, Ss, many, T, fv, fm, wr, im, h1⟩, h2, h3⟩ := h
    obtain ⟨r, w', tg1, σ', c1, c2, c3, c4, c5⟩ := h1.same 0
    injection c1 with c1
    injection c1 with c1 c1'
    injection c2 with c2
    injection c2 with c2 c2'
    subst c1' c2'
    have hcell : ∀ i, i < 9 → w.1 (ad i) = some (twCell ad σ i) := fun i hi => by
      rw [h2]
      exact twOf_at hinj hi
    exact ⟨tg1, c3, h2, fun i hi => (c5 _ _ (hcell i hi) (h3 i hi)).2.trans (h3 i hi)⟩
end LI
