set_option maxRecDepth 100000
/-! A LEAF BEGINS -/
theorem hs_hn (w : gw) (e e' : gE) (k : Nat) : hs (hn w e k) w.2.1 e' = hn w e' k := by
  unfold hs hn
  refine Prod.ext (funext fun j => ?_) rfl
  show va_up (va_up w.1 w.2.1 (some e)) w.2.1 (some e') j = va_up w.1 w.2.1 (some e') j
  unfold va_up
  by_cases hj : j = w.2.1 <;> simp [hj]
theorem pW.hn {S : SV} {σ : TS} {xa mo ia i ver T : Nat} {w : gw} {tg : pT} {s : Nat → Int32} {B : Nat} {bo un : Option Nat} (h : pW S σ xa mo ia i ver T w tg s B bo un) (e : gE) (k : Nat) (x : Nat × Nat) : pW S σ xa mo ia i ver T (hn w e k) (tU tg w.2.1 x) s B bo un := h.fr (pFr.hn (P := fun _ => False) h.bd e k x) id (fun _ => id) (fun _ _ => id)
/-- a leaf's new run -/
def rFrL (S : SV) (xa ia : Nat) (w : gw) (tg : pT) (T n a : Nat) : Prop := tg a = (ia, n) ∧
  (sKd S n = 1 ∧ w.1 a = some (.inl (23, [ga (some ia), ga (some xa), ga (some (sSa S n)), gi (nI 0), gi (nI T), gi (nI 0), gi (-1), ga (some xa)])) ∨
   sKd S n = 2 ∧ w.1 a = some (.inl (24, [ga (some ia), ga (some xa), ga (some (sSa S n)), gi (nI T + sP S n 1), ga (some xa)])) ∨
   sKd S n = 3 ∧ w.1 a = some (.inl (21, [ga (some ia), ga (some xa), ga (some (sSa S n)), gi (if sP S n 2 < 0 then nI 2147483647 else nI T + sP S n 2), ga (some xa)])) ∨
   sKd S n = 4 ∧ w.1 a = some (.inl (20, [ga (some ia), ga (some xa), ga (some (sSa S n)), ga (some xa)])))
section FB
variable {S : SV} {σ : TS} {xa mo ia i ver T : Nat} {w : gw} {tg : pT} {s : Nat → Int32} {B : Nat} {bo un : Option Nat}
theorem leaf_begins {n : Nat} (h : pW S σ xa mo ia i ver T w tg s B bo un) (hn' : n < sEn S 0) (hk1 : 1 ≤ sKd S n) (hk4 : sKd S n ≤ 4) (r0 : w.2.1 + 1 ≤ w.2.2.2 0) (r1 : w.2.2.1 + 8 ≤ w.2.2.2 1) :
    ∃ a w1 tg1, f_Node_begins (sSa S n) (some ia) w = some (some a, w1) ∧ pW S σ xa mo ia i ver T w1 tg1 s B bo un ∧ pFr w w1 tg tg1 (fun _ => False) ∧ w1.2.1 = w.2.1 + 1 ∧ w1.2.2.1 ≤ w.2.2.1 + 8 ∧ rFrL S xa ia w1 tg1 T n a := by
  obtain ⟨du, fa, ins, va, pe, hi', dl, f10, f11, f12, c1, c2, c3, c4, -⟩ := h.cells
  have hb := h.bd
  obtain ⟨o1, o2, o3, o4, o5⟩ := h.obj hn'
  have n1 : ia ≠ w.2.1 := by have := hb _ _ c2; omega
  have n2 : mo ≠ w.2.1 := by have := hb _ _ c1; omega
  rcases (show sKd S n = 1 ∨ sKd S n = 2 ∨ sKd S n = 3 ∨ sKd S n = 4 by omega) with hk | hk | hk | hk
  · have o := o1 hk
    have n3 : sSa S n ≠ w.2.1 := by have := hb _ _ o; omega
    have e1 := pu_New (w := w) (ci := 23) (n := 8) (fs := [ga none, ga none, ga none, gi 0, gi 0, gi 0, gi 0, ga none]) rfl r0 r1
    refine ⟨w.2.1, hn w (.inl (23, [ga (some ia), ga (some xa), ga (some (sSa S n)), gi (nI 0), gi (nI T), gi (nI 0), gi (-1), ga (some xa)])) 8, tU tg w.2.1 (ia, n), ?_, h.hn _ _ _, pFr.hn hb _ _ _, rfl, Nat.le_refl _, tU_self _ _ _, Or.inl ⟨hk, hn_self _ _ _⟩⟩
    have a1 : ∀ e, (hn w e 8).1 ia = w.1 ia := fun e => hn_ne n1
    have a2 : ∀ e, (hn w e 8).1 mo = w.1 mo := fun e => hn_ne n2
    have hz : (0 : Int32) = nI 0 := by decide
    unfold f_Node_begins
    rw [pu_Cls o, pu_B1, if_pos rfl]
    unfold f_X9_begins f_X16_engine f_J8_requireNonNull f_X23_init f_X17_init_c23
    simp (disch := first | assumption | omega) only [pu_B1, pu_B2, pu_Bd, pu_Nn, pu_Ns, pv_I, pv_R, pv_P, pv_LI, pv_LR, pv_SI, pv_SR, pv_O, pv_C, pvF, pvI, pvR, pvP, pvLI, pvLR, pvSI, pvSR, pvN, pvO, pvC, pv_bs, pv_ms, hs_self, hs_ne, hs_K, hs_2, List.getElem?_cons_succ, List.getElem?_cons_zero, List.set_cons_succ, List.set_cons_zero, Option.isSome_some, if_true, if_false, true_and, and_true, ↓reduceIte, e1, hn_self, a1, a2, c1, c2, hs_hn, hz]
  · have o := o2 hk
    have n3 : sSa S n ≠ w.2.1 := by have := hb _ _ o; omega
    have e1 := pu_New (w := w) (ci := 24) (n := 5) (fs := [ga none, ga none, ga none, gi 0, ga none]) rfl r0 (by omega)
    refine ⟨w.2.1, hn w (.inl (24, [ga (some ia), ga (some xa), ga (some (sSa S n)), gi (nI T + sP S n 1), ga (some xa)])) 5, tU tg w.2.1 (ia, n), ?_, h.hn _ _ _, pFr.hn hb _ _ _, rfl, by show w.2.2.1 + 5 ≤ _; omega, tU_self _ _ _, Or.inr (Or.inl ⟨hk, hn_self _ _ _⟩)⟩
    have a1 : ∀ e, (hn w e 5).1 ia = w.1 ia := fun e => hn_ne n1
    have a2 : ∀ e, (hn w e 5).1 mo = w.1 mo := fun e => hn_ne n2
    have a3 : ∀ e, (hn w e 5).1 (sSa S n) = w.1 (sSa S n) := fun e => hn_ne n3
    unfold f_Node_begins
    rw [pu_Cls o, pu_B1, if_neg (by decide), if_pos rfl]
    unfold f_X10_begins f_X16_engine f_J8_requireNonNull f_X24_init f_X17_init_c24
    simp (disch := first | assumption | omega) only [pu_B1, pu_B2, pu_Bd, pu_Nn, pu_Ns, pv_I, pv_R, pv_P, pv_LI, pv_LR, pv_SI, pv_SR, pv_O, pv_C, pvF, pvI, pvR, pvP, pvLI, pvLR, pvSI, pvSR, pvN, pvO, pvC, pv_bs, pv_ms, hs_self, hs_ne, hs_K, hs_2, List.getElem?_cons_succ, List.getElem?_cons_zero, List.set_cons_succ, List.set_cons_zero, Option.isSome_some, if_true, if_false, true_and, and_true, ↓reduceIte, e1, hn_self, a1, a2, a3, o, c1, c2, hs_hn]
  · have o := o3 hk
    have n3 : sSa S n ≠ w.2.1 := by have := hb _ _ o; omega
    have e1 := pu_New (w := w) (ci := 21) (n := 5) (fs := [ga none, ga none, ga none, gi 0, ga none]) rfl r0 (by omega)
    refine ⟨w.2.1, hn w (.inl (21, [ga (some ia), ga (some xa), ga (some (sSa S n)), gi (if sP S n 2 < 0 then nI 2147483647 else nI T + sP S n 2), ga (some xa)])) 5, tU tg w.2.1 (ia, n), ?_, h.hn _ _ _, pFr.hn hb _ _ _, rfl, by show w.2.2.1 + 5 ≤ _; omega, tU_self _ _ _, Or.inr (Or.inr (Or.inl ⟨hk, hn_self _ _ _⟩))⟩
    have a1 : ∀ e, (hn w e 5).1 ia = w.1 ia := fun e => hn_ne n1
    have a2 : ∀ e, (hn w e 5).1 mo = w.1 mo := fun e => hn_ne n2
    have a3 : ∀ e, (hn w e 5).1 (sSa S n) = w.1 (sSa S n) := fun e => hn_ne n3
    unfold f_Node_begins
    rw [pu_Cls o, pu_B1, if_neg (by decide), if_neg (by decide), if_pos rfl]
    unfold f_X11_begins f_X16_engine f_J8_requireNonNull f_X21_init f_X17_init_c21
    by_cases hm : sP S n 2 < 0
    · have hm' : ¬ (0 : Int32) ≤ sP S n 2 := Int32.not_le.mpr hm
      simp (disch := first | assumption | omega) only [pu_B1, pu_B2, pu_Bd, pu_Nn, pu_Ns, pv_I, pv_R, pv_P, pv_LI, pv_LR, pv_SI, pv_SR, pv_O, pv_C, pvF, pvI, pvR, pvP, pvLI, pvLR, pvSI, pvSR, pvN, pvO, pvC, pv_bs, pv_ms, hs_self, hs_ne, hs_K, hs_2, List.getElem?_cons_succ, List.getElem?_cons_zero, List.set_cons_succ, List.set_cons_zero, Option.isSome_some, if_true, if_false, true_and, and_true, ↓reduceIte, e1, hn_self, a1, a2, a3, o, c1, c2, hs_hn, hm, hm']
    · have hm' : (0 : Int32) ≤ sP S n 2 := Int32.not_lt.mp hm
      simp (disch := first | assumption | omega) only [pu_B1, pu_B2, pu_Bd, pu_Nn, pu_Ns, pv_I, pv_R, pv_P, pv_LI, pv_LR, pv_SI, pv_SR, pv_O, pv_C, pvF, pvI, pvR, pvP, pvLI, pvLR, pvSI, pvSR, pvN, pvO, pvC, pv_bs, pv_ms, hs_self, hs_ne, hs_K, hs_2, List.getElem?_cons_succ, List.getElem?_cons_zero, List.set_cons_succ, List.set_cons_zero, Option.isSome_some, if_true, if_false, true_and, and_true, ↓reduceIte, e1, hn_self, a1, a2, a3, o, c1, c2, hs_hn, hm, hm']
  · have o := o4 hk
    have n3 : sSa S n ≠ w.2.1 := by have := hb _ _ o; omega
    have e1 := pu_New (w := w) (ci := 20) (n := 4) (fs := [ga none, ga none, ga none, ga none]) rfl r0 (by omega)
    refine ⟨w.2.1, hn w (.inl (20, [ga (some ia), ga (some xa), ga (some (sSa S n)), ga (some xa)])) 4, tU tg w.2.1 (ia, n), ?_, h.hn _ _ _, pFr.hn hb _ _ _, rfl, by show w.2.2.1 + 4 ≤ _; omega, tU_self _ _ _, Or.inr (Or.inr (Or.inr ⟨hk, hn_self _ _ _⟩))⟩
    have a1 : ∀ e, (hn w e 4).1 ia = w.1 ia := fun e => hn_ne n1
    have a2 : ∀ e, (hn w e 4).1 mo = w.1 mo := fun e => hn_ne n2
    unfold f_Node_begins
    rw [pu_Cls o, pu_B1, if_neg (by decide), if_neg (by decide), if_neg (by decide), if_pos rfl]
    unfold f_X12_begins f_X16_engine f_J8_requireNonNull f_X20_init f_X17_init_c20
    simp (disch := first | assumption | omega) only [pu_B1, pu_B2, pu_Bd, pu_Nn, pu_Ns, pv_I, pv_R, pv_P, pv_LI, pv_LR, pv_SI, pv_SR, pv_O, pv_C, pvF, pvI, pvR, pvP, pvLI, pvLR, pvSI, pvSR, pvN, pvO, pvC, pv_bs, pv_ms, hs_self, hs_ne, hs_K, hs_2, List.getElem?_cons_succ, List.getElem?_cons_zero, List.set_cons_succ, List.set_cons_zero, Option.isSome_some, if_true, if_false, true_and, and_true, ↓reduceIte, e1, hn_self, a1, a2, c1, c2, hs_hn]
/-- the reference's begins: the node's state and its minute -/
def uBeg (i n : Nat) (s : Nat → Int32) : Nat → Int32 := upd (upd s (21 + 1262 * (i) + (622 + 10 * (n) + 0)) (nI 1)) (21 + 1262 * (i) + (622 + 10 * (n) + 1)) (s 0)
theorem uBeg_ne {n j : Nat} (h0 : j ≠ (21 + 1262 * (i) + (622 + 10 * (n) + 0))) (h1 : j ≠ (21 + 1262 * (i) + (622 + 10 * (n) + 1))) : uBeg i n s j = s j := by
  unfold uBeg
  rw [upd_ne h1, upd_ne h0]
theorem uBeg_0 {n : Nat} : uBeg i n s (21 + 1262 * (i) + (622 + 10 * (n) + 0)) = nI 1 := by
  unfold uBeg
  rw [upd_ne (by omega), upd_self]
theorem uBeg_1 {n : Nat} : uBeg i n s (21 + 1262 * (i) + (622 + 10 * (n) + 1)) = s 0 := by
  unfold uBeg
  rw [upd_self]
theorem pW.beg {n : Nat} (h : pW S σ xa mo ia i ver T w tg s B bo un) (hn : n < sEn S 0) (hst : s (21 + 1262 * (i) + (622 + 10 * (n) + 0)) = nI 0) : pW S σ xa mo ia i ver T w tg (uBeg i n s) B bo un := by
  have hNs : sEn S 0 ≤ 64 := h.1.2.2.1.1
  refine h.rows (fun j hj => uBeg_ne (by omega) (by omega)) (fun m hm _ => ⟨?_, fun _ => ⟨uBeg_ne (by omega) (by omega), uBeg_ne (by omega) (by omega)⟩⟩)
  by_cases hmn : m = n
  · subst hmn
    rw [uBeg_0, hst]
    decide
  · rw [uBeg_ne (by omega) (by omega)]
theorem beg_rk {n : Nat} (hn : n < 64) (hst : s (21 + 1262 * (i) + (622 + 10 * (n) + 0)) = nI 0) : pRk 4 i w w s (uBeg i n s) := by
  have hp := pPh_at (i := i) (n := n) (s := s) (s1 := uBeg i n s) hn (fun m _ hm => uBeg_ne (by omega) (by omega))
  rw [uBeg_0, hst, if_pos rfl, if_neg (by decide), if_pos rfl] at hp
  constructor <;> omega
/-- what begins does for a node that is neither a choice nor a parallel -/
theorem t_begins_leaf {n : Nat} {rec : Int32 → Int32 → TS → Option (Int32 × TS)} (h : pW S σ xa mo ia i ver T w tg s B bo un) (hn : n < sEn S 0) (hst : s (21 + 1262 * (i) + (622 + 10 * (n) + 0)) = nI 0) (hk1 : 1 ≤ sKd S n) (hk4 : sKd S n ≤ 4) :
    t_X2_begins rec (nI i) (nI n) (tS σ s) = if sKd S n = 1 then gB2 (t_X2_tries (nI i) (nI n) (tS σ (uBeg i n s))) fun _ w72 => t_X2_looks rec (nI i) (nI n) w72 else t_X2_looks rec (nI i) (nI n) (tS σ (uBeg i n s)) := by
  have hNs : sEn S 0 ≤ 64 := h.1.2.2.1.1
  have hi := h.1.2.1
  have k0 : t_X2_nodePart (nI i) (nI n) (nI 0) (tS σ (uBeg i n s)) = some (nI (sKd S n), tS σ (uBeg i n s)) := by rw [(h.beg hn hst).np hn (by omega), (h.1.2.2.1.2.2.2.2.2 n hn).1.2.2.1]
  have en0 : ∀ w : TS, t_X2_at (nI i) (nI n) (nI 0) w = _ := fun w => pt_at w
  have en1 : ∀ w : TS, t_X2_at (nI i) (nI n) (nI 1) w = _ := fun w => pt_at w
  have e5 : ¬ nI (sKd S n) = nI 5 := fun z => by have := (nI_eq (by omega) (by omega)).mp z; omega
  have e6 : ¬ nI (sKd S n) = nI 6 := fun z => by have := (nI_eq (by omega) (by omega)).mp z; omega
  have hu : upd (upd s (21 + 1262 * (i) + (622 + 10 * (n) + 0)) (nI 1)) (21 + 1262 * (i) + (622 + 10 * (n) + 1)) (s 0) = uBeg i n s := rfl
  have hid : ∀ r : Option (Int32 × TS), (gB2 r fun x25 w24 => some (x25, w24)) = r := by
    intro r
    cases r with
    | none => rfl
    | some q => rfl
  unfold t_X2_begins
  by_cases hk : sKd S n = 1
  · have e1 : nI (sKd S n) = nI 1 := by rw [hk]
    rw [if_pos hk]
    rw [en0, pu_B2, pu_st5 (by omega), pu_B1, en1, pu_B2, pu_ld5 (by omega), pu_B1, pu_st5 (by omega), pu_B1, upd_ne (by omega), hu, k0, pu_B2, pu_Bd, if_pos e1]
    cases t_X2_tries (nI i) (nI n) (tS σ (uBeg i n s)) with
    | none => rfl
    | some q =>
      obtain ⟨q1, q2⟩ := q
      rw [pu_B2, pu_B2]
      dsimp only
      rw [pu_Bd, if_neg e5]
      dsimp only
      rw [pu_Bd, if_neg e6]
      dsimp only
      rw [hid]
  · have e1 : ¬ nI (sKd S n) = nI 1 := fun z => hk ((nI_eq (by omega) (by omega)).mp z)
    rw [if_neg hk]
    rw [en0, pu_B2, pu_st5 (by omega), pu_B1, en1, pu_B2, pu_ld5 (by omega), pu_B1, pu_st5 (by omega), pu_B1, upd_ne (by omega), hu, k0, pu_B2, pu_Bd, if_neg e1]
    dsimp only
    rw [pu_Bd, if_neg e5]
    dsimp only
    rw [pu_Bd, if_neg e6]
    dsimp only
    rw [hid]
theorem leaf_fresh {n a l : Nat} (h : pW S σ xa mo ia i ver T w tg s B bo un) (hB : B + 128 < 2 ^ 31) (hRm : pRm i w (uBeg i n s)) (hn : n < sEn S 0) (hk1 : 1 ≤ sKd S n) (hk4 : sKd S n ≤ 4) (hun : rUn i s n (sEn S n)) (hfr : rFrL S xa ia w tg T n a) {D : Nat} {rec : Int32 → Int32 → TS → Option (Int32 × TS)} (hD : 1 ≤ D) :
    pRes 4 S σ xa mo ia i ver T l n a w tg s B bo un (f_Run_looks D a w) (t_X2_begins rec (nI i) (nI n) (tS σ s)) := by
  have hS : sWf S := h.1.2.2.1
  have hNs : sEn S 0 ≤ 64 := hS.1
  have hi := h.1.2.1
  have hen := leaf_en hS hn (by omega) hk4
  obtain ⟨u0, u7, u6, u2⟩ := hun n (Nat.le_refl _) (by omega)
  have hW0 := h.beg hn u0
  have hT := h.2.2.2.2.1
  obtain ⟨-, -, -, -, -, -, -, -, -, -, -, -, -, -, -, m10, m11⟩ := hT
  have v7 : uBeg i n s (21 + 1262 * (i) + (622 + 10 * (n) + 7)) = -1 := (uBeg_ne (by omega) (by omega)).trans u7
  have hpre : ∀ {fr : Option (Option Nat × gw)} {tr : Option (Int32 × TS)}, pRes 0 S σ xa mo ia i ver T l n a w tg (uBeg i n s) B bo un fr tr → pRes 4 S σ xa mo ia i ver T l n a w tg s B bo un fr tr := fun hr => hr.pre (fun j h1 h2 h3 => uBeg_ne (by omega) (by omega)) (beg_rk (by omega) u0) (fun c hc z => (uBeg_ne (by omega) (by omega)).trans z)
  obtain ⟨hta, hfr⟩ := hfr
  rw [t_begins_leaf h hn u0 hk1 hk4]
  rcases hfr with ⟨hk, ha⟩ | ⟨hk, ha⟩ | ⟨hk, ha⟩ | ⟨hk, ha⟩
  · rw [if_pos hk]
    obtain ⟨⟨c, hc8, hc⟩, ⟨R, hR9, hR⟩, ⟨d, hd9, hd⟩, -⟩ : (∃ c, c < 8 ∧ sP S n 1 = nI c) ∧ (∃ r, r ≤ 9 ∧ sP S n 2 = nI r) ∧ (∃ d, d ≤ 999 ∧ sP S n 3 = nI d) ∧ True := by
      rcases (hS.2.2.2.2.2 n hn).2 with z | z | z | z | z | z | z
      · omega
      · exact ⟨z.2.2.1, z.2.2.2.1, z.2.2.2.2.1, trivial⟩
      all_goals omega
    obtain ⟨w1, E, r1, r2, r3, r4, r5, r6, r7, r8⟩ := sim_tries hW0 (by omega) hn hk hc hc8 ha hta
    have hu : ∀ j, j ≠ (21 + 1262 * (i) + (622 + 10 * (n) + 2)) → j ≠ (21 + 1262 * (i) + (622 + 10 * (n) + 3)) → (j < (21 + 1262 * (i) + 22) ∨ (21 + 1262 * (i) + 622) ≤ j) → j ≠ (21 + 1262 * (i) + 9) → uTries i n c (uBeg i n s) j = uBeg i n s j := fun j h1 h2 h3 h4 => by
      unfold uTries
      rw [upd_ne h2, upd_ne h1]
      exact uNotes_ne hW0.2.2.2.2.2.2 (by omega) h4 h3
    have hrs : pRs i w w1 (uBeg i n s) (uTries i n c (uBeg i n s)) := pRs.eq r7 (fun m hm => hu _ (by omega) (by omega) (by omega) (by omega))
    have hK : w1.2.2.2 = w.2.2.2 := by rw [r7]
    have e2u : s (21 + 1262 * (i) + (622 + 10 * (n) + 2)) = nI 0 := u2
    have hst1 : tSta S xa ia i n a R w1 tg (uTries i n c (uBeg i n s)) 1 (T + E) (0 + 1) := by
      refine ⟨hta, r5, (hu _ (by omega) (by omega) (by omega) (by omega)).trans uBeg_0, (hu _ (by omega) (by omega) (by omega) (by omega)).trans v7, ((hu _ (by omega) (by omega) (by omega) (by omega)).trans (uBeg_ne (by omega) (by omega))).trans u6, ?_, by omega, by omega, Or.inl ⟨rfl, ?_, by omega⟩⟩
      · unfold uTries
        rw [upd_ne (by omega), upd_self, uBeg_ne (by omega) (by omega), e2u, nI_add]
      · unfold uTries
        rw [upd_self]
        exact r2
    obtain ⟨D, rfl⟩ : ∃ d, D = d + 1 := ⟨D - 1, by omega⟩
    have hf : f_Run_looks (D + 1) a w = f_X23_looks a w := by
      show f_Run_looks_s (f_Run_looks D) a w = _
      unfold f_Run_looks_s
      rw [pu_Cls ha, pu_B1, if_neg (by decide), if_neg (by decide), if_neg (by decide), if_neg (by decide), if_pos rfl]
    have k0 : t_X2_nodePart (nI i) (nI n) (nI 0) (tS σ (uTries i n c (uBeg i n s))) = some (nI 1, tS σ (uTries i n c (uBeg i n s))) := by rw [r6.np hn (by omega), (hS.2.2.2.2.2 n hn).1.2.2.1, hk]
    have k1 : t_X2_nodePart (nI i) (nI n) (nI 1) (tS σ (uTries i n c (uBeg i n s))) = some (nI c, tS σ (uTries i n c (uBeg i n s))) := by rw [r6.np hn (by omega), hc]
    have hlt : t_X2_looksAtTask (nI i) (nI n) (tS σ (uTries i n c (uBeg i n s))) = gL3 bt_X2_looksAtTask_1 20000 (nI i) (nI n) (nI c) (tS σ (uTries i n c (uBeg i n s))) := by
      rw [t_X2_looksAtTask_eq, k1, pu_B2]
    have ht : t_X2_looks rec (nI i) (nI n) (tS σ (uTries i n c (uBeg i n s))) = gL3 bt_X2_looksAtTask_1 20000 (nI i) (nI n) (nI c) (tS σ (uTries i n c (uBeg i n s))) := by
      unfold t_X2_looks
      rw [k0, pu_B2, if_pos rfl, hlt]
      cases gL3 bt_X2_looksAtTask_1 20000 (nI i) (nI n) (nI c) (tS σ (uTries i n c (uBeg i n s))) with
      | none => rfl
      | some q => rfl
    obtain ⟨w2, tg2, s2, o, x, v1, v2, v3, v4, v5, v6, v7', v8⟩ := task_loop (σ := σ) (xa := xa) (mo := mo) (ia := ia) (i := i) (ver := ver) (T := T) (bo := bo) (un := un) (a := a) l hS hn hk hc hc8 hR hR9 hd hd9 21 w1 tg (uTries i n c (uBeg i n s)) (B + 1) 1 (T + E) (0 + 1) 19999 20000 (by omega) (by omega) (by omega) r6 (by omega) (hRm.tr hrs hK) hst1
    refine hpre ⟨w2, tg2, s2, o, x, ?_, ?_, v3.mono (by omega), r8.tr v4, ?_, pRk.z (hrs.tr v6), ?_, v8⟩
    · rw [hf, f_X23_looks_eq]
      show bf_X23_looks_1 a (gL1 (bf_X23_looks_1 a) 19999) (some (w.2.2.2 2)) w = _
      rw [hK] at v1
      generalize gL1 (bf_X23_looks_1 a) 19999 = KK at v1 ⊢
      obtain ⟨du, fa, ins, va, pe, hi', dl, f10, f11, f12, c1, c2, -⟩ := h.cells
      have ho := pf_over h.2.1
      have e1 : ¬ nI T < nI T := nI_nlt (by omega) (by omega)
      have e3 : nI 0 = 0 := by decide
      unfold bf_X23_looks_1
      simp only [pu_B1, pu_B2, pu_Bd, pu_Nn, pu_Ns, pv_I, pv_R, pv_P, pv_LI, pv_LR, pv_SI, pv_SR, pv_O, pv_C, pvF, pvI, pvR, pvP, pvLI, pvLR, pvSI, pvSR, pvN, pvO, pvC, pv_bs, pv_ms, hs_self, hs_ne, hs_K, hs_2, List.getElem?_cons_succ, List.getElem?_cons_zero, List.set_cons_succ, List.set_cons_zero, Option.isSome_some, if_true, if_false, true_and, and_true, ↓reduceIte, ha, c1, c2, ho.1, e1, eq_true e3, r3]
      exact v1
    · rw [r4, pu_B2, ht]
      exact v2
    · refine pQ.tr (fun j h1 h2 h3 => hu j ?_ ?_ ?_ ?_) v5 <;> omega
    · intro c' hc' h0
      exact v7' c' hc' ((hu _ (by omega) (by omega) (by omega) (by omega)).trans h0)
  · rw [if_neg (by omega)]
    obtain ⟨m, hm, hm1⟩ : ∃ m, m ≤ 999 ∧ sP S n 1 = nI m := by
      rcases (hS.2.2.2.2.2 n hn).2 with z | z | z | z | z | z | z
      · omega
      · omega
      · exact z.2.2
      all_goals omega
    have hU : nI T + sP S n 1 = nI (T + m) := by rw [hm1, nI_add]
    rw [hU] at ha
    refine hpre (wait_looks hW0 hn hk uBeg_0 v7 hta ha ?_ (by omega) hD)
    rw [uBeg_1, m10]
    exact hU
  · rw [if_neg (by omega)]
    refine hpre (await_looks hW0 hB hn hk uBeg_0 v7 hta ha ?_ hD)
    by_cases hm : sP S n 2 < 0
    · exact Or.inl ⟨hm, if_pos hm⟩
    · obtain ⟨m, hm9, hm1⟩ : ∃ m, m ≤ 999 ∧ sP S n 2 = nI m := by
        rcases (hS.2.2.2.2.2 n hn).2 with z | z | z | z | z | z | z
        · omega
        · omega
        · omega
        · rcases z.2.2.2 with y | y
          · rw [y] at hm
            exact absurd (by decide) hm
          · exact y
        all_goals omega
      refine Or.inr ⟨hm, T + m, ?_, by omega, ?_⟩
      · rw [if_neg hm, hm1, nI_add]
      · rw [if_neg hm, uBeg_1, m10]
  · rw [if_neg (by omega)]
    exact hpre (assign_looks hW0 hB hn hk uBeg_0 v7 hta ha hD)
end FB
