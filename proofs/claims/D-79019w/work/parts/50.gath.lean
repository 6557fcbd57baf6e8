set_option maxRecDepth 100000
/-! GATHERS: the numbers of the tasks that were done in a run -/
/-- no two tasks that were done have the same number -/
def pUq (S : SV) (i : Nat) (s : Nat → Int32) : Prop := ∀ t t', t < sEn S 0 → t' < sEn S 0 → sKd S t = 1 → sKd S t' = 1 → s (21 + 1262 * (i) + (622 + 10 * (t) + 0)) = nI 2 → s (21 + 1262 * (i) + (622 + 10 * (t') + 0)) = nI 2 → s (21 + 1262 * (i) + (622 + 10 * (t) + 5)) = s (21 + 1262 * (i) + (622 + 10 * (t') + 5)) → t = t'
theorem rDone_uq {S : SV} {i lo hi lo' hi' k : Nat} {s : Nat → Int32} (hu : pUq S i s) (h1 : hi ≤ sEn S 0) (h1' : hi' ≤ sEn S 0) (h : rDone S i s lo hi k) (h' : rDone S i s lo' hi' k) : ∃ n, lo ≤ n ∧ n < hi ∧ lo' ≤ n ∧ n < hi' := by
  obtain ⟨-, n, a, b, c, d, e⟩ := h
  obtain ⟨-, n', a', b', c', d', e'⟩ := h'
  have := hu n n' (by omega) (by omega) c c' d d' (e.trans e'.symm)
  subst this
  exact ⟨n, a, b, a', b'⟩
theorem rDone_app {S : SV} {i a b c k : Nat} {s : Nat → Int32} (h1 : a ≤ b) (h2 : b ≤ c) : rDone S i s a c k ↔ rDone S i s a b k ∨ rDone S i s b c k := by
  constructor
  · rintro ⟨k0, n, x, y, z⟩
    by_cases h : n < b
    · exact Or.inl ⟨k0, n, x, h, z⟩
    · exact Or.inr ⟨k0, n, by omega, y, z⟩
  · rintro (⟨k0, n, x, y, z⟩ | ⟨k0, n, x, y, z⟩)
    · exact ⟨k0, n, x, by omega, z⟩
    · exact ⟨k0, n, by omega, y, z⟩
theorem rUn_done {S : SV} {i a b k : Nat} {s : Nat → Int32} (h : rUn i s a b) : ¬ rDone S i s a b k := by
  rintro ⟨-, n, x, y, -, z, -⟩
  rw [(h n x y).1] at z
  exact absurd z (by decide)
theorem hs_4 {w : gw} {a b : Nat} {e1 e2 e3 e4 : gE} (h : a ≠ b) : hs (hs (hs (hs w a e1) b e2) a e3) b e4 = hs (hs w a e3) b e4 := by
  unfold hs
  refine Prod.ext (funext fun j => ?_) rfl
  show va_up (va_up (va_up (va_up w.1 a (some e1)) b (some e2)) a (some e3)) b (some e4) j = va_up (va_up w.1 a (some e3)) b (some e4) j
  unfold va_up
  by_cases hb : j = b <;> by_cases ha : j = a <;> simp [ha, hb]
/-- the heap with numbers L in the list at to -/
def gL (w : gw) (to da : Nat) (L : List Nat) (f : Nat → Int32) : gw := hs (hs w da (.inr (0, 24, .inl f))) to (.inl (19, [ga (some da), gi (nI L.length)]))
/-- the list at to lies outside the places lo .. hi -/
def gTo (w : gw) (tg : pT) (ia lo hi to da : Nat) : Prop := (∃ f0, w.1 to = some (.inl (19, [ga (some da), f0]))) ∧ (∃ f1, w.1 da = some (.inr (0, 24, .inl f1))) ∧ tg to ≠ (0, 100) ∧ tg da ≠ (0, 100) ∧ ¬ ((tg to).1 = ia ∧ lo ≤ (tg to).2 ∧ (tg to).2 < hi) ∧ ¬ ((tg da).1 = ia ∧ lo ≤ (tg da).2 ∧ (tg da).2 < hi)
theorem gTo.ne {w : gw} {tg : pT} {ia lo hi to da : Nat} (h : gTo w tg ia lo hi to da) : da ≠ to := by
  obtain ⟨⟨f0, h1⟩, ⟨f1, h2⟩, -⟩ := h
  exact ne_of h2 h1 (by simp)
theorem gTo.sub {w : gw} {tg : pT} {ia lo hi to da lo' hi' : Nat} (h : gTo w tg ia lo hi to da) (h1 : lo ≤ lo') (h2 : hi' ≤ hi) : gTo w tg ia lo' hi' to da := by
  obtain ⟨a, b, c, d, e, f⟩ := h
  exact ⟨a, b, c, d, fun z => e ⟨z.1, by omega, by omega⟩, fun z => f ⟨z.1, by omega, by omega⟩⟩
theorem gTo.aW {w : gw} {tg : pT} {ia lo hi to da : Nat} (h : gTo w tg ia lo hi to da) (L : List Nat) (f : Nat → Int32) : aW w (gL w to da L f) tg tg ia lo hi := by
  obtain ⟨a, b, c, d, e, f'⟩ := h
  intro x ex hx ht
  refine ⟨?_, rfl⟩
  have n1 : x ≠ to := by
    rintro rfl
    rcases ht with ht | ht
    · exact e ht
    · exact c ht
  have n2 : x ≠ da := by
    rintro rfl
    rcases ht with ht | ht
    · exact f' ht
    · exact d ht
  unfold gL
  rw [hs_ne n1, hs_ne n2]
  exact hx
theorem gL_gL {w : gw} {to da : Nat} {L L' : List Nat} {f f' : Nat → Int32} (h : da ≠ to) : gL (gL w to da L f) to da L' f' = gL w to da L' f' := hs_4 h
theorem gTo.gL {w : gw} {tg : pT} {ia lo hi to da : Nat} (h : gTo w tg ia lo hi to da) (L : List Nat) (f : Nat → Int32) : gTo (gL w to da L f) tg ia lo hi to da := by
  have hn := h.ne
  obtain ⟨a, b, c⟩ := h
  exact ⟨⟨_, hs_self _ _ _⟩, ⟨f, (hs_ne hn).trans (hs_self _ _ _)⟩, c⟩
/-- adds on such a heap -/
theorem gL_add {w : gw} {to da k : Nat} {f : Nat → Int32} {L : List Nat} (hne : da ≠ to) (hL : dL L f) (hk : k < 24) (hn : k ∉ L) : ∃ f' L', f_X19_adds to (nI k) (gL w to da L f) = some ((), gL w to da L' f') ∧ dL L' f' ∧ (∀ x, x ∈ L' ↔ x = k ∨ x ∈ L) := by
  obtain ⟨f', L', h1, h2, h3⟩ := pf_adds (w := gL w to da L f) (hs_self _ _ _) ((hs_ne hne).trans (hs_self _ _ _)) hL hk hn
  refine ⟨f', L', ?_, h2, h3⟩
  rw [h1]
  show some ((), gL (gL w to da L f) to da L' f') = _
  rw [gL_gL hne]
section GA
variable {S : SV} {xa ia i : Nat} {tg : pT} {s : Nat → Int32} {T : Nat} {q : Bool}
/-- what gathers does -/
def gRes (S : SV) (i : Nat) (s : Nat → Int32) (w : gw) (n : Nat) (to da : Nat) (L : List Nat) (f : Nat → Int32) (res : Option (Unit × gw)) : Prop := ∃ f' L', res = some ((), gL w to da L' f') ∧ dL L' f' ∧ ∀ x, x ∈ L' ↔ rDone S i s n (sEn S n) x ∨ x ∈ L
theorem gath_leaf {w : gw} {n to da : Nat} {L : List Nat} {f : Nat → Int32} (hL : dL L f) (hno : ∀ x, ¬ rDone S i s n (sEn S n) x) : gRes S i s w n to da L f (some ((), gL w to da L f)) := ⟨f, L, rfl, hL, fun x => by simp [hno x]⟩
/-- the numbers of a body's list, one by one -/
theorem gath_list {w : gw} {tg : pT} {rec : Nat → Option Nat → gw → Option (Unit × gw)} {a dd da' to da lo hi : Nat} {f0 f1 f2 f3 f4 f6 : gv} {f5 : Nat → Int32} {M : List Nat} (hto : gTo w tg ia lo hi to da) (hta : (tg a).1 = ia ∧ lo ≤ (tg a).2 ∧ (tg a).2 < hi) (htd : (tg dd).1 = ia ∧ lo ≤ (tg dd).2 ∧ (tg dd).2 < hi) (hte : (tg da').1 = ia ∧ lo ≤ (tg da').2 ∧ (tg da').2 < hi)
    (ha : w.1 a = some (.inl (18, [f0, f1, f2, f3, f4, ga (some dd), f6]))) (hd : w.1 dd = some (.inl (19, [ga (some da'), gi (nI M.length)]))) (he : w.1 da' = some (.inr (0, 24, .inl f5))) (hM : dL M f5) : ∀ (d j : Nat) (L : List Nat) (f : Nat → Int32) (fuel : Nat), j + d = M.length → d < fuel → dL L f → (∀ j' x, j ≤ j' → M[j']? = some x → x ∉ L) →
      ∃ L' f' fuel', fuel ≤ fuel' + d ∧ 0 < fuel' ∧ dL L' f' ∧ (∀ x, x ∈ L' ↔ (∃ j', j ≤ j' ∧ M[j']? = some x) ∨ x ∈ L) ∧ gL2 (bf_X18_gathers_1 a rec) fuel (some to) (nI j) (gL w to da L f) = gL2 (bf_X18_gathers_1 a rec) fuel' (some to) (nI M.length) (gL w to da L' f') := by
  have haW := fun L f => hto.aW L f
  have hM24 := hM.2.1
  intro d
  induction d with
  | zero =>
    intro j L f fuel hj hf hL hn
    obtain rfl : j = M.length := by omega
    refine ⟨L, f, fuel, by omega, hf, hL, fun x => ?_, rfl⟩
    constructor
    · exact Or.inr
    · rintro (⟨j', h1, h2⟩ | h)
      · obtain ⟨h3, -⟩ := List.getElem?_eq_some_iff.mp h2
        omega
      · exact h
  | succ d ih =>
    intro j L f fuel hj hf hL hn
    obtain ⟨fu, rfl⟩ : ∃ fu, fuel = fu + 1 := ⟨fuel - 1, by omega⟩
    have hx : M[j]? = some M[j] := List.getElem?_eq_getElem (by omega)
    obtain ⟨hx1, hx2⟩ := hM.2.2 _ _ hx
    obtain ⟨f', L', h1, h2, h3⟩ := gL_add (w := w) (to := to) (da := da) hto.ne hL hx2 (hn j _ (Nat.le_refl _) hx)
    obtain ⟨L'', f'', fu', i0, i1, i2, i3, i4⟩ := ih (j + 1) L' f' fu (by omega) (by omega) h2 (fun j' x hj' hjx hm => by
      rcases (h3 x).mp hm with rfl | hm
      · have := dL_at hM.1 (by omega) hx hjx
        omega
      · exact hn j' x (by omega) hjx hm)
    refine ⟨L'', f'', fu', by omega, i1, i2, fun x => ?_, ?_⟩
    · rw [i3 x, h3 x]
      constructor
      · rintro (⟨j', a1, a2⟩ | rfl | a)
        · exact Or.inl ⟨j', by omega, a2⟩
        · exact Or.inl ⟨j, Nat.le_refl _, hx⟩
        · exact Or.inr a
      · rintro (⟨j', a1, a2⟩ | a)
        · by_cases hjj : j' = j
          · subst hjj
            rw [hx] at a2
            cases a2
            exact Or.inr (Or.inl rfl)
          · exact Or.inl ⟨j', by omega, a2⟩
        · exact Or.inr (Or.inr a)
    · rw [← i4]
      have g1 := (haW L f _ _ ha (Or.inl hta)).1
      have g2 := (haW L f _ _ hd (Or.inl htd)).1
      have g3 := (haW L f _ _ he (Or.inl hte)).1
      have g4 : (gL w to da L f).1 to = some (.inl (19, [ga (some da), gi (nI L.length)])) := hs_self _ _ _
      have e1 : ¬ nI M.length ≤ nI j := nI_ge (by omega) (by omega)
      show bf_X18_gathers_1 a rec (gL2 (bf_X18_gathers_1 a rec) fu) (some to) (nI j) (gL w to da L f) = _
      generalize gL2 (bf_X18_gathers_1 a rec) fu = KK
      unfold bf_X18_gathers_1
      simp (disch := omega) only [pu_B1, pu_B2, pu_Bd, pu_Nn, pu_Ns, pv_I, pv_R, pv_P, pv_LI, pv_LR, pv_SI, pv_SR, pv_O, pv_C, pvF, pvI, pvR, pvP, pvLI, pvLR, pvSI, pvSR, pvN, pvO, pvC, pv_bs, pv_ms, hs_self, hs_ne, hs_K, hs_2, List.getElem?_cons_succ, List.getElem?_cons_zero, List.set_cons_succ, List.set_cons_zero, Option.isSome_some, if_true, if_false, true_and, and_true, ↓reduceIte, g1, g2, g3, g4, e1, hx1, pu_gIx, h1, nI_add]
theorem gath_body {w : gw} {rec : Nat → Option Nat → gw → Option (Unit × gw)} {rI : Nat → Nat → Prop} {b a to da : Nat} (hN : sNode S b) (hb : b < sEn S 0) (hk : sKd S b = 0) (hu : pUq S i s) (hto : gTo w tg ia b (sEn S b) to da)
    (hrec : ∀ j a', j < sCc S b → rI (sCh S b j) a' → ∀ L f, dL L f → (∀ x, rDone S i s (sCh S b j) (sEn S (sCh S b j)) x → x ∉ L) → gRes S i s w (sCh S b j) to da L f (rec a' (some to) (gL w to da L f)))
    (h : rBody S xa ia i w tg s rI b a) {L : List Nat} {f : Nat → Int32} (hL : dL L f) (hd : ∀ x, rDone S i s b (sEn S b) x → x ∉ L) : gRes S i s w b to da L f (f_X18_gathers rec a (some to) (gL w to da L f)) := by
  obtain ⟨h1, idx, cur, dd, da', M, f5, h2, h3, h4, h5, h6, h7, h8, h9, h10, h11, h12, -⟩ := h
  have hl := hN.1.1
  have hcp := sNode_cp hN h8
  have hta : (tg a).1 = ia ∧ b ≤ (tg a).2 ∧ (tg a).2 < sEn S b := by rw [h1]; exact ⟨rfl, Nat.le_refl _, hl⟩
  have htd : (tg dd).1 = ia ∧ b ≤ (tg dd).2 ∧ (tg dd).2 < sEn S b := by rw [h3]; exact ⟨rfl, Nat.le_refl _, hl⟩
  have hte : (tg da').1 = ia ∧ b ≤ (tg da').2 ∧ (tg da').2 < sEn S b := by rw [h5]; exact ⟨rfl, Nat.le_refl _, hl⟩
  have hM24 := h7.2.1
  obtain ⟨L', f', fu, i0, i1, i2, i3, i4⟩ := gath_list (rec := rec) hto hta htd hte h2 h4 h6 h7 M.length 0 L f 20000 (by omega) (by omega) hL (fun j' x _ hx hm => hd x ((rDone_app (b := sCp S b idx) (by omega) hcp.2).mpr (Or.inl ((h9 x).mp (List.mem_of_getElem? hx)))) hm)
  have h3' : ∀ x, x ∈ L' ↔ rDone S i s b (sCp S b idx) x ∨ x ∈ L := by
    intro x
    have hm : x ∈ M ↔ ∃ j, M[j]? = some x := List.mem_iff_getElem?
    rw [i3 x, ← h9 x, hm]
    constructor
    · rintro (⟨j, -, hj⟩ | hj)
      · exact Or.inl ⟨j, hj⟩
      · exact Or.inr hj
    · rintro (⟨j, hj⟩ | hj)
      · exact Or.inl ⟨j, Nat.zero_le _, hj⟩
      · exact Or.inr hj
  obtain ⟨fu', rfl⟩ : ∃ fu', fu = fu' + 1 := ⟨fu - 1, by omega⟩
  have g1 := (hto.aW L' f' _ _ h2 (Or.inl hta)).1
  have g2 := (hto.aW L' f' _ _ h4 (Or.inl htd)).1
  have e1 : nI M.length ≤ nI M.length := Int32.le_refl _
  rw [f_X18_gathers_eq, i4]
  cases cur with
  | none =>
    refine ⟨f', L', ?_, i2, fun x => ?_⟩
    · show bf_X18_gathers_1 a rec (gL2 (bf_X18_gathers_1 a rec) fu') (some to) (nI M.length) (gL w to da L' f') = _
      generalize gL2 (bf_X18_gathers_1 a rec) fu' = KK
      unfold bf_X18_gathers_1
      simp only [pu_B1, pu_B2, pu_Bd, pu_Nn, pu_Ns, pv_I, pv_R, pv_P, pv_LI, pv_LR, pv_SI, pv_SR, pv_O, pv_C, pvF, pvI, pvR, pvP, pvLI, pvLR, pvSI, pvSR, pvN, pvO, pvC, pv_bs, pv_ms, hs_self, hs_ne, hs_K, hs_2, List.getElem?_cons_succ, List.getElem?_cons_zero, List.set_cons_succ, List.set_cons_zero, Option.isSome_some, if_true, if_false, true_and, and_true, ↓reduceIte, g1, g2, e1]
    · rw [h3' x, rDone_app (a := b) (b := sCp S b idx) (c := sEn S b) (by omega) hcp.2]
      have := rUn_done (S := S) (k := x) h12
      simp only [this, or_false]
  | some a' =>
    obtain ⟨k1, k2, k3⟩ := h12
    have hi := sNode_in hN k1
    have hN0 := hN.1.2.1
    obtain ⟨f'', L'', j1, j2, j3⟩ := hrec idx a' k1 k2 L' f' i2 (fun x hx hm => by
      rcases (h3' x).mp hm with hm | hm
      · obtain ⟨n, z1, z2, z3, z4⟩ := rDone_uq hu (by omega) (by omega) hx hm
        omega
      · exact hd x ((rDone_app (b := sCh S b idx) (by omega) (by omega)).mpr (Or.inr ((rDone_app (b := sEn S (sCh S b idx)) (by omega) (by omega)).mpr (Or.inl hx)))) hm)
    refine ⟨f'', L'', ?_, j2, fun x => ?_⟩
    · show bf_X18_gathers_1 a rec (gL2 (bf_X18_gathers_1 a rec) fu') (some to) (nI M.length) (gL w to da L' f') = _
      generalize gL2 (bf_X18_gathers_1 a rec) fu' = KK
      unfold bf_X18_gathers_1
      simp only [pu_B1, pu_B2, pu_Bd, pu_Nn, pu_Ns, pv_I, pv_R, pv_P, pv_LI, pv_LR, pv_SI, pv_SR, pv_O, pv_C, pvF, pvI, pvR, pvP, pvLI, pvLR, pvSI, pvSR, pvN, pvO, pvC, pv_bs, pv_ms, hs_self, hs_ne, hs_K, hs_2, List.getElem?_cons_succ, List.getElem?_cons_zero, List.set_cons_succ, List.set_cons_zero, Option.isSome_some, if_true, if_false, true_and, and_true, ↓reduceIte, g1, g2, e1, j1]
    · rw [j3 x, h3' x, hi.2.2.2.1, rDone_app (a := b) (b := sCh S b idx) (c := sEn S b) (by omega) (by omega), rDone_app (a := sCh S b idx) (b := sEn S (sCh S b idx)) (c := sEn S b) (by omega) (by omega)]
      have := rUn_done (S := S) (k := x) k3
      simp only [this, or_false]
      constructor
      · rintro (h | h | h)
        · exact Or.inl (Or.inr h)
        · exact Or.inl (Or.inl h)
        · exact Or.inr h
      · rintro ((h | h) | h)
        · exact Or.inr (Or.inl h)
        · exact Or.inl h
        · exact Or.inr (Or.inr h)
theorem rDone_self {S : SV} {i n x : Nat} {s : Nat → Int32} (h : sKd S n ≠ 1) : ¬ rDone S i s n (n + 1) x := by
  rintro ⟨-, m, a, b, c, -⟩
  obtain rfl : m = n := by omega
  exact h c
theorem gath_pars {w : gw} {rec : Nat → Option Nat → gw → Option (Unit × gw)} {rB : Nat → Nat → Prop} {n a to da ba : Nat} {f0 f1 f2 f4 f5 f6 : gv} {ptr : Nat → Option Nat} (hN : sNode S n) (hn : n < sEn S 0) (hu : pUq S i s) (hto : gTo w tg ia n (sEn S n) to da) (hcc : sCc S n ≤ 4)
    (hta : tg a = (ia, n)) (ha : w.1 a = some (.inl (22, [f0, f1, f2, ga (some ba), f4, f5, f6]))) (htb : tg ba = (ia, n)) (hba : w.1 ba = some (.inr (5, sCc S n, .inr ptr)))
    (hp : ∀ k, k < sCc S n → (ptr k = none ∧ rUn i s (sCh S n k) (sEn S (sCh S n k))) ∨ ∃ a', ptr k = some a' ∧ rB (sCh S n k) a')
    (hrec : ∀ j a', j < sCc S n → rB (sCh S n j) a' → ∀ L f, dL L f → (∀ x, rDone S i s (sCh S n j) (sEn S (sCh S n j)) x → x ∉ L) → gRes S i s w (sCh S n j) to da L f (rec a' (some to) (gL w to da L f))) :
    ∀ (d j : Nat) (L : List Nat) (f : Nat → Int32) (fuel : Nat), j + d = sCc S n → d < fuel → dL L f → (∀ x, rDone S i s (sCp S n j) (sEn S n) x → x ∉ L) →
      ∃ L' f', dL L' f' ∧ (∀ x, x ∈ L' ↔ rDone S i s (sCp S n j) (sEn S n) x ∨ x ∈ L) ∧ gL2 (bf_X22_gathers_1 a rec) fuel (some to) (nI j) (gL w to da L f) = some ((), gL w to da L' f') := by
  have hl := hN.1.1
  have hN0 := hN.1.2.1
  have hga : ∀ L f, (gL w to da L f).1 a = some (.inl (22, [f0, f1, f2, ga (some ba), f4, f5, f6])) := fun L f => (hto.aW L f _ _ ha (Or.inl (by rw [hta]; exact ⟨rfl, Nat.le_refl _, hl⟩))).1
  have hgb : ∀ L f, (gL w to da L f).1 ba = some (.inr (5, sCc S n, .inr ptr)) := fun L f => (hto.aW L f _ _ hba (Or.inl (by rw [htb]; exact ⟨rfl, Nat.le_refl _, hl⟩))).1
  have hlen : ∀ L f, gLen (gL w to da L f) ba 5 = some (nI (sCc S n)) := fun L f => pu_Len (hgb L f)
  intro d
  induction d with
  | zero =>
    intro j L f fuel hj hf hL hd
    obtain rfl : j = sCc S n := by omega
    obtain ⟨fu, rfl⟩ : ∃ fu, fuel = fu + 1 := ⟨fuel - 1, by omega⟩
    refine ⟨L, f, hL, fun x => ?_, ?_⟩
    · constructor
      · exact Or.inr
      · rintro (⟨-, m, a, b, -⟩ | h)
        · unfold sCp at a
          rw [if_neg (by omega)] at a
          omega
        · exact h
    · have e1 : nI (sCc S n) ≤ nI (sCc S n) := Int32.le_refl _
      show bf_X22_gathers_1 a rec (gL2 (bf_X22_gathers_1 a rec) fu) (some to) (nI (sCc S n)) (gL w to da L f) = _
      generalize gL2 (bf_X22_gathers_1 a rec) fu = KK
      unfold bf_X22_gathers_1
      simp only [pu_B1, pu_B2, pu_Bd, pu_Nn, pu_Ns, pv_I, pv_R, pv_P, pv_LI, pv_LR, pv_SI, pv_SR, pv_O, pv_C, pvF, pvI, pvR, pvP, pvLI, pvLR, pvSI, pvSR, pvN, pvO, pvC, pv_bs, pv_ms, hs_self, hs_ne, hs_K, hs_2, List.getElem?_cons_succ, List.getElem?_cons_zero, List.set_cons_succ, List.set_cons_zero, Option.isSome_some, if_true, if_false, true_and, and_true, ↓reduceIte, hga, hlen, e1]
  | succ d ih =>
    intro j L f fuel hj hf hL hd
    obtain ⟨fu, rfl⟩ : ∃ fu, fuel = fu + 1 := ⟨fuel - 1, by omega⟩
    have hjc : j < sCc S n := by omega
    have hi := sNode_in hN hjc
    have hcp1 := sNode_cp hN (j := j + 1) (by omega)
    have e1 : ¬ nI (sCc S n) ≤ nI j := nI_ge (by omega) (by omega)
    have happ : ∀ x, rDone S i s (sCp S n j) (sEn S n) x ↔ rDone S i s (sCh S n j) (sEn S (sCh S n j)) x ∨ rDone S i s (sCp S n (j + 1)) (sEn S n) x := fun x => by
      rw [hi.2.2.2.1, ← hi.2.2.2.2]
      exact rDone_app (by omega) (by omega)
    rcases hp j hjc with ⟨p1, p2⟩ | ⟨a', p1, p2⟩
    · obtain ⟨L', f', i1, i2, i3⟩ := ih (j + 1) L f fu (by omega) (by omega) hL (fun x hx => hd x ((happ x).mpr (Or.inr hx)))
      refine ⟨L', f', i1, fun x => ?_, ?_⟩
      · rw [i2 x, happ x]
        have := rUn_done (S := S) (k := x) p2
        simp only [this, false_or]
      · show bf_X22_gathers_1 a rec (gL2 (bf_X22_gathers_1 a rec) fu) (some to) (nI j) (gL w to da L f) = _
        generalize gL2 (bf_X22_gathers_1 a rec) fu = KK at i3 ⊢
        unfold bf_X22_gathers_1
        simp (disch := omega) only [pu_B1, pu_B2, pu_Bd, pu_Nn, pu_Ns, pv_I, pv_R, pv_P, pv_LI, pv_LR, pv_SI, pv_SR, pv_O, pv_C, pvF, pvI, pvR, pvP, pvLI, pvLR, pvSI, pvSR, pvN, pvO, pvC, pv_bs, pv_ms, hs_self, hs_ne, hs_K, hs_2, List.getElem?_cons_succ, List.getElem?_cons_zero, List.set_cons_succ, List.set_cons_zero, Option.isSome_some, if_true, if_false, true_and, and_true, ↓reduceIte, hga, hgb, hlen, e1, pu_gIx, p1, nI_add]
        exact i3
    · obtain ⟨f1', L1, r1, r2, r3⟩ := hrec j a' hjc p2 L f hL (fun x hx => hd x ((happ x).mpr (Or.inl hx)))
      obtain ⟨L', f', i1, i2, i3⟩ := ih (j + 1) L1 f1' fu (by omega) (by omega) r2 (fun x hx hm => by
        rcases (r3 x).mp hm with hm | hm
        · obtain ⟨m, z1, z2, z3, z4⟩ := rDone_uq hu (by omega) (by omega) hx hm
          have := hi.2.2.2.2
          omega
        · exact hd x ((happ x).mpr (Or.inr hx)) hm)
      refine ⟨L', f', i1, fun x => ?_, ?_⟩
      · rw [i2 x, r3 x, happ x]
        constructor
        · rintro (h | h | h)
          · exact Or.inl (Or.inr h)
          · exact Or.inl (Or.inl h)
          · exact Or.inr h
        · rintro ((h | h) | h)
          · exact Or.inr (Or.inl h)
          · exact Or.inl h
          · exact Or.inr (Or.inr h)
      · show bf_X22_gathers_1 a rec (gL2 (bf_X22_gathers_1 a rec) fu) (some to) (nI j) (gL w to da L f) = _
        generalize gL2 (bf_X22_gathers_1 a rec) fu = KK at i3 ⊢
        unfold bf_X22_gathers_1
        simp (disch := omega) only [pu_B1, pu_B2, pu_Bd, pu_Nn, pu_Ns, pv_I, pv_R, pv_P, pv_LI, pv_LR, pv_SI, pv_SR, pv_O, pv_C, pvF, pvI, pvR, pvP, pvLI, pvLR, pvSI, pvSR, pvN, pvO, pvC, pv_bs, pv_ms, hs_self, hs_ne, hs_K, hs_2, List.getElem?_cons_succ, List.getElem?_cons_zero, List.set_cons_succ, List.set_cons_zero, Option.isSome_some, if_true, if_false, true_and, and_true, ↓reduceIte, hga, hgb, hlen, e1, pu_gIx, p1, r1, nI_add]
        exact i3
theorem gath_item {w : gw} {rB : Nat → Nat → Prop} {n a to da D : Nat} (hS : sWf S) (hn : n < sEn S 0) (hu : pUq S i s) (hto : gTo w tg ia n (sEn S n) to da) (hD : 1 ≤ D)
    (hrec : ∀ j a' D', j < sCc S n → (D' = D ∨ D' = D - 1) → rB (sCh S n j) a' → ∀ L f, dL L f → (∀ x, rDone S i s (sCh S n j) (sEn S (sCh S n j)) x → x ∉ L) → gRes S i s w (sCh S n j) to da L f (f_Run_gathers D' a' (some to) (gL w to da L f)))
    (h : rItem S xa ia i w tg s T q rB n a) {L : List Nat} {f : Nat → Int32} (hL : dL L f) (hd : ∀ x, rDone S i s n (sEn S n) x → x ∉ L) : gRes S i s w n to da L f (f_Run_gathers D a (some to) (gL w to da L f)) := by
  have hN := hS.2.2.2.2.2 n hn
  have hl := hN.1.1
  obtain ⟨d, rfl⟩ : ∃ d, D = d + 1 := ⟨D - 1, by omega⟩
  have hcl : ∀ {c : Nat} {fs : List gv}, w.1 a = some (.inl (c, fs)) → tg a = (ia, n) → (gL w to da L f).1 a = some (.inl (c, fs)) := fun h1 h2 => (hto.aW L f _ _ h1 (Or.inl (by rw [h2]; exact ⟨rfl, Nat.le_refl _, hl⟩))).1
  have hleaf : sCc S n = 0 → sEn S n = n + 1 := by
    intro h
    have h1 := hN.1.2.2.2.2.1
    unfold sCp at h1
    rw [if_neg (by omega)] at h1
    exact h1
  show gRes S i s w n to da L f (f_Run_gathers_s (f_Run_gathers d) a (some to) (gL w to da L f))
  unfold f_Run_gathers_s
  rcases h with h | h | h | h | h | h
  · obtain ⟨g1, g2, g3, g4, tr, un, att, nu, g5, g6, g7, g8, g9⟩ := h
    have hc := hcl g5 g4
    have hcc : sCc S n = 0 := by
      rcases hN.2 with z | z | z | z | z | z | z
      · omega
      · exact z.2.1
      all_goals omega
    have hen := hleaf hcc
    rw [pu_Cls hc]
    show gRes S i s w n to da L f (f_X23_gathers a (some to) (gL w to da L f))
    by_cases h2 : s (21 + 1262 * (i) + (622 + 10 * (n) + 0)) = nI 2
    · obtain ⟨k, k1, k2, k3⟩ := g8 h2
      have hdn : rDone S i s n (sEn S n) k := ⟨k1, n, Nat.le_refl _, hl, g1, h2, k3⟩
      obtain ⟨f', L', r1, r2, r3⟩ := gL_add (w := w) hto.ne hL k1 (hd k hdn)
      have e1 : ¬ nI k < 0 := nI_pos (by omega)
      have g6' : (gL w to da L f).1 to = some (.inl (19, [ga (some da), gi (nI L.length)])) := hs_self _ _ _
      refine ⟨f', L', ?_, r2, fun x => ?_⟩
      · unfold f_X23_gathers
        simp only [pu_B1, pu_B2, pu_Bd, pu_Nn, pu_Ns, pv_I, pv_R, pv_P, pv_LI, pv_LR, pv_SI, pv_SR, pv_O, pv_C, pvF, pvI, pvR, pvP, pvLI, pvLR, pvSI, pvSR, pvN, pvO, pvC, pv_bs, pv_ms, hs_self, hs_ne, hs_K, hs_2, List.getElem?_cons_succ, List.getElem?_cons_zero, List.set_cons_succ, List.set_cons_zero, Option.isSome_some, if_true, if_false, true_and, and_true, ↓reduceIte, hc, k2, e1, g6', r1]
      · rw [r3 x]
        constructor
        · rintro (rfl | h)
          · exact Or.inl hdn
          · exact Or.inr h
        · rintro (⟨x0, m, a1, a2, a3, a4, a5⟩ | h)
          · obtain rfl : m = n := by omega
            rw [k3] at a5
            have := (nI_eq (by omega) (by omega)).mp a5
            exact Or.inl (by omega)
          · exact Or.inr h
    · have k2 := g9 h2
      have e1 : (-1 : Int32) < 0 := by decide
      have hr : f_X23_gathers a (some to) (gL w to da L f) = some ((), gL w to da L f) := by
        unfold f_X23_gathers
        simp only [pu_B1, pu_B2, pu_Bd, pu_Nn, pu_Ns, pv_I, pv_R, pv_P, pv_LI, pv_LR, pv_SI, pv_SR, pv_O, pv_C, pvF, pvI, pvR, pvP, pvLI, pvLR, pvSI, pvSR, pvN, pvO, pvC, pv_bs, pv_ms, hs_self, hs_ne, hs_K, hs_2, List.getElem?_cons_succ, List.getElem?_cons_zero, List.set_cons_succ, List.set_cons_zero, Option.isSome_some, if_true, if_false, true_and, and_true, ↓reduceIte, hc, k2, e1]
      rw [hr]
      refine gath_leaf hL (fun x => ?_)
      rintro ⟨x0, m, a1, a2, a3, a4, a5⟩
      obtain rfl : m = n := by omega
      exact h2 a4
  · obtain ⟨g1, g2, g3, g4, un, g5, g6⟩ := h
    have hc := hcl g5 g4
    have hcc : sCc S n = 0 := by
      rcases hN.2 with z | z | z | z | z | z | z
      · omega
      · omega
      · exact z.2.1
      all_goals omega
    rw [pu_Cls hc]
    refine gath_leaf hL (fun x => ?_)
    rw [hleaf hcc]
    exact rDone_self (by omega)
  · obtain ⟨g1, g2, g3, g4, un, g5, g6⟩ := h
    have hc := hcl g5 g4
    have hcc : sCc S n = 0 := by
      rcases hN.2 with z | z | z | z | z | z | z
      · omega
      · omega
      · omega
      · exact z.2.1
      all_goals omega
    rw [pu_Cls hc]
    refine gath_leaf hL (fun x => ?_)
    rw [hleaf hcc]
    exact rDone_self (by omega)
  · obtain ⟨g1, g2, g3, g4, g5⟩ := h
    have hc := hcl g5 g4
    have hcc : sCc S n = 0 := by
      rcases hN.2 with z | z | z | z | z | z | z
      · omega
      · omega
      · omega
      · omega
      · exact z.2.1
      all_goals omega
    rw [pu_Cls hc]
    refine gath_leaf hL (fun x => ?_)
    rw [hleaf hcc]
    exact rDone_self (by omega)
  · obtain ⟨g1, g2, g3, j, g4, g5, g6, g7, g8, g9⟩ := h
    have hcc : sCc S n = 2 := by
      rcases hN.2 with z | z | z | z | z | z | z
      · omega
      · omega
      · omega
      · omega
      · omega
      · exact z.2.1
      · omega
    have hi0 := sNode_in hN (j := 0) (by omega)
    have hi1 := sNode_in hN (j := 1) (by omega)
    have h0 := hN.1.2.2.2.2.1
    have hc2 : sCp S n (1 + 1) = sEn S n := by
      unfold sCp
      rw [if_neg (by omega)]
    have happ : ∀ x, rDone S i s n (sEn S n) x ↔ rDone S i s (sCh S n 0) (sEn S (sCh S n 0)) x ∨ rDone S i s (sCh S n 1) (sEn S (sCh S n 1)) x := by
      intro x
      have hs := rDone_self (S := S) (i := i) (s := s) (x := x) (n := n) (by omega)
      rw [hi0.2.2.2.1] at h0
      rw [rDone_app (a := n) (b := n + 1) (c := sEn S n) (by omega) (by omega), ← h0, rDone_app (a := sCh S n 0) (b := sEn S (sCh S n 0)) (c := sEn S n) (by omega) (by omega), show sEn S n = sEn S (sCh S n 1) by rw [hi1.2.2.2.2, hc2], show sEn S (sCh S n 0) = sCh S n 1 by rw [hi0.2.2.2.2, hi1.2.2.2.1]]
      rw [← h0] at hs
      simp only [hs, false_or]
    have hfin : ∀ x, rDone S i s n (sEn S n) x ↔ rDone S i s (sCh S n j) (sEn S (sCh S n j)) x := by
      intro x
      rw [happ x]
      have hno := rUn_done (S := S) (k := x) g7
      rcases (show j = 0 ∨ j = 1 by omega) with rfl | rfl
      · simp only [show (1 - 0 : Nat) = 1 from rfl] at hno
        simp only [hno, or_false]
      · simp only [show (1 - 1 : Nat) = 0 from rfl] at hno
        simp only [hno, false_or]
    obtain ⟨f', L', r1, r2, r3⟩ := hrec j a (d + 1) (by omega) (Or.inl rfl) g6 L f hL (fun x hx => hd x ((hfin x).mpr hx))
    exact ⟨f', L', r1, r2, fun x => by rw [r3 x, hfin x]⟩
  · obtain ⟨g1, g2, ba, oa, und, ptr, out, g3, g4, g5, g6, g7, g8, g9, g10, g11, g12, g13⟩ := h
    have hc := hcl g3 g2
    have hcc : sCc S n ≤ 4 := by
      rcases hN.2 with z | z | z | z | z | z | z
      · omega
      · omega
      · omega
      · omega
      · omega
      · omega
      · exact z.2.2.1
    have h0 := hN.1.2.2.2.2.1
    have hcp := sNode_cp hN (j := 0) (by omega)
    have happ : ∀ x, rDone S i s n (sEn S n) x ↔ rDone S i s (sCp S n 0) (sEn S n) x := by
      intro x
      have hs := rDone_self (S := S) (i := i) (s := s) (x := x) (n := n) (by omega)
      rw [rDone_app (a := n) (b := n + 1) (c := sEn S n) (by omega) (by omega), h0]
      simp only [hs, false_or]
    rw [pu_Cls hc]
    obtain ⟨L', f', r1, r2, r3⟩ := gath_pars (rec := f_Run_gathers d) hN hn hu hto hcc g2 g3 g4 g5 (rB := rB) (fun k hk => by
      rcases g8 k hk with ⟨k1, k2, k3⟩ | ⟨k1, a', k2, k3⟩
      · exact Or.inl ⟨k2, k3⟩
      · exact Or.inr ⟨a', k2, k3⟩) (fun j a' hj hb L f hL hdx => hrec j a' d hj (Or.inr rfl) hb L f hL hdx) (sCc S n) 0 L f 20000 (by omega) (by omega) hL (fun x hx => hd x ((happ x).mpr hx))
    refine ⟨f', L', ?_, r1, fun x => by rw [r2 x, happ x]⟩
    show f_X22_gathers (f_Run_gathers d) a (some to) (gL w to da L f) = _
    rw [f_X22_gathers_eq]
    exact r3
/-- gathers, by the level -/
theorem gath {w : gw} {to da : Nat} (hS : sWf S) (hu : pUq S i s) : ∀ l,
    (∀ D b a, 2 * l + 2 ≤ D → b < sEn S 0 → sKd S b = 0 → gTo w tg ia b (sEn S b) to da → rB S xa ia i w tg s T q l b a → ∀ L f, dL L f → (∀ x, rDone S i s b (sEn S b) x → x ∉ L) → gRes S i s w b to da L f (f_Run_gathers D a (some to) (gL w to da L f))) ∧
    (∀ D n a, 2 * l + 1 ≤ D → n < sEn S 0 → sKd S n ≠ 0 → gTo w tg ia n (sEn S n) to da → rI S xa ia i w tg s T q l n a → ∀ L f, dL L f → (∀ x, rDone S i s n (sEn S n) x → x ∉ L) → gRes S i s w n to da L f (f_Run_gathers D a (some to) (gL w to da L f))) := by
  have hch : ∀ n, n < sEn S 0 → ∀ j, j < sCc S n → sCh S n j < sEn S 0 := by
    intro n hn j hj
    have h1 := hS.2.2.2.2.2 n hn
    have h2 := sNode_in h1 hj
    have h3 := h1.1.2.1
    omega
  have hkb : ∀ n, n < sEn S 0 → sKd S n = 0 → ∀ j, j < sCc S n → sKd S (sCh S n j) ≠ 0 := by
    intro n hn hk j hj
    rcases (hS.2.2.2.2.2 n hn).2 with h | h | h | h | h | h | h
    · exact (h.2.2 j hj).1
    all_goals omega
  have hki : ∀ n, n < sEn S 0 → sKd S n ≠ 0 → ∀ j, j < sCc S n → sKd S (sCh S n j) = 0 := by
    intro n hn hk j hj
    rcases (hS.2.2.2.2.2 n hn).2 with h | h | h | h | h | h | h
    · omega
    · omega
    · omega
    · omega
    · omega
    · exact (h.2.2.2 j (by omega)).1
    · exact (h.2.2.2.2 j hj).1
  have hbody : ∀ l, (∀ D n a, 2 * l + 1 ≤ D → n < sEn S 0 → sKd S n ≠ 0 → gTo w tg ia n (sEn S n) to da → rI S xa ia i w tg s T q l n a → ∀ L f, dL L f → (∀ x, rDone S i s n (sEn S n) x → x ∉ L) → gRes S i s w n to da L f (f_Run_gathers D a (some to) (gL w to da L f))) →
      ∀ D b a, 2 * l + 2 ≤ D → b < sEn S 0 → sKd S b = 0 → gTo w tg ia b (sEn S b) to da → rBody S xa ia i w tg s (rI S xa ia i w tg s T q l) b a → ∀ L f, dL L f → (∀ x, rDone S i s b (sEn S b) x → x ∉ L) → gRes S i s w b to da L f (f_Run_gathers D a (some to) (gL w to da L f)) := by
    intro l hI D b a hD hb hk hto h L f hL hd
    have hN := hS.2.2.2.2.2 b hb
    obtain ⟨d, rfl⟩ : ∃ d, D = d + 1 := ⟨D - 1, by omega⟩
    have hc : (gL w to da L f).1 a = w.1 a := by
      obtain ⟨h1, idx, cur, dd, da', M, f5, h2, -⟩ := h
      rw [h2]
      exact (hto.aW L f _ _ h2 (Or.inl (by rw [h1]; exact ⟨rfl, Nat.le_refl _, hN.1.1⟩))).1
    have hcl : gCls (gL w to da L f) a = some 18 := by
      obtain ⟨h1, idx, cur, dd, da', M, f5, h2, -⟩ := h
      exact pu_Cls (hc.trans h2)
    show gRes S i s w b to da L f (f_Run_gathers_s (f_Run_gathers d) a (some to) (gL w to da L f))
    unfold f_Run_gathers_s
    rw [hcl]
    show gRes S i s w b to da L f (f_X18_gathers (f_Run_gathers d) a (some to) (gL w to da L f))
    refine gath_body hN hb hk hu hto (fun j a' hj hr L f hL hdx => ?_) h hL hd
    have hi := sNode_in hN hj
    exact hI d _ a' (by omega) (hch b hb j hj) (hkb b hb hk j hj) (hto.sub (by omega) (by omega)) hr L f hL hdx
  intro l
  induction l with
  | zero =>
    have hI : ∀ D n a, 2 * 0 + 1 ≤ D → n < sEn S 0 → sKd S n ≠ 0 → gTo w tg ia n (sEn S n) to da → rI S xa ia i w tg s T q 0 n a → ∀ L f, dL L f → (∀ x, rDone S i s n (sEn S n) x → x ∉ L) → gRes S i s w n to da L f (f_Run_gathers D a (some to) (gL w to da L f)) := fun D n a hD hn hk hto h L f hL hd => gath_item (rB := fun _ _ => False) hS hn hu hto (by omega) (fun _ _ _ _ _ h => h.elim) h hL hd
    exact ⟨hbody 0 hI, hI⟩
  | succ l ih =>
    have hI : ∀ D n a, 2 * (l + 1) + 1 ≤ D → n < sEn S 0 → sKd S n ≠ 0 → gTo w tg ia n (sEn S n) to da → rI S xa ia i w tg s T q (l + 1) n a → ∀ L f, dL L f → (∀ x, rDone S i s n (sEn S n) x → x ∉ L) → gRes S i s w n to da L f (f_Run_gathers D a (some to) (gL w to da L f)) := by
      intro D n a hD hn hk hto h L f hL hd
      refine gath_item (rB := rB S xa ia i w tg s T q l) hS hn hu hto (by omega) (fun j a' D' hj hD' hr L f hL hdx => ?_) h hL hd
      have hi := sNode_in (hS.2.2.2.2.2 n hn) hj
      exact ih.1 D' _ a' (by omega) (hch n hn j hj) (hki n hn hk j hj) (hto.sub (by omega) (by omega)) hr L f hL hdx
    exact ⟨hbody (l + 1) hI, hI⟩
end GA
