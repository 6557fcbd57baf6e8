set_option maxRecDepth 100000
/-! SORTED NUMBERS: Dones.adds, Places.adds -/
theorem dL_at {L : List Nat} (hs : L.Pairwise (· < ·)) {a b x y : Nat} (h : a < b) (ha : L[a]? = some x) (hb : L[b]? = some y) : x < y := by
  obtain ⟨h1, h2⟩ := List.getElem?_eq_some_iff.mp ha
  obtain ⟨h3, h4⟩ := List.getElem?_eq_some_iff.mp hb
  have := List.pairwise_iff_getElem.mp hs a b h1 h3 h
  rw [h2, h4] at this
  exact this
theorem dL_len {L : List Nat} (hs : L.Pairwise (· < ·)) {n : Nat} (hb : ∀ x, x ∈ L → x < n) : L.length ≤ n := by
  have h1 : ∀ (j x : Nat), L[j]? = some x → j ≤ x := by
    intro j
    induction j with
    | zero => intro x _; omega
    | succ j ih =>
      intro x hx
      obtain ⟨h1, -⟩ := List.getElem?_eq_some_iff.mp hx
      have h2 : L[j]? = some L[j] := List.getElem?_eq_getElem (by omega)
      have h3 := ih _ h2
      have h4 := dL_at hs (Nat.lt_succ_self j) h2 hx
      omega
  by_cases h0 : L.length = 0
  · omega
  · have h2 : L[L.length - 1]? = some L[L.length - 1] := List.getElem?_eq_getElem (by omega)
    have h3 := h1 _ _ h2
    have h4 := hb _ (List.mem_of_getElem? h2)
    omega
/-- put in at its place -/
theorem dL_ins {L : List Nat} (hs : L.Pairwise (· < ·)) {k p : Nat} (hp : p ≤ L.length) (h1 : ∀ j x, j < p → L[j]? = some x → x < k) (h2 : ∀ j x, p ≤ j → L[j]? = some x → k < x) :
    (L.take p ++ k :: L.drop p).Pairwise (· < ·) ∧ (L.take p ++ k :: L.drop p).length = L.length + 1 ∧ (∀ x, x ∈ L.take p ++ k :: L.drop p ↔ x = k ∨ x ∈ L) ∧
    (∀ j, j < p → (L.take p ++ k :: L.drop p)[j]? = L[j]?) ∧ (L.take p ++ k :: L.drop p)[p]? = some k ∧ (∀ j, p < j → (L.take p ++ k :: L.drop p)[j]? = L[j - 1]?) := by
  have hlt : (L.take p).length = p := by rw [List.length_take]; omega
  refine ⟨?_, ?_, ?_, ?_, ?_, ?_⟩
  · rw [List.pairwise_append]
    refine ⟨hs.sublist (List.take_sublist _ _), ?_, ?_⟩
    · rw [List.pairwise_cons]
      refine ⟨fun x hx => ?_, hs.sublist (List.drop_sublist _ _)⟩
      obtain ⟨j, hj⟩ := List.mem_iff_getElem?.mp hx
      rw [List.getElem?_drop] at hj
      exact h2 _ _ (by omega) hj
    · intro x hx y hy
      obtain ⟨j, hj⟩ := List.mem_iff_getElem?.mp hx
      rw [List.getElem?_take] at hj
      split at hj
      · rename_i hjp
        have hxk := h1 _ _ hjp hj
        rcases List.mem_cons.mp hy with rfl | hy
        · exact hxk
        · obtain ⟨j', hj'⟩ := List.mem_iff_getElem?.mp hy
          rw [List.getElem?_drop] at hj'
          have := h2 _ _ (by omega) hj'
          omega
      · cases hj
  · rw [List.length_append, List.length_cons, hlt, List.length_drop]
    omega
  · intro x
    rw [List.mem_append, List.mem_cons]
    constructor
    · rintro (h | rfl | h)
      · exact Or.inr (List.mem_of_mem_take h)
      · exact Or.inl rfl
      · exact Or.inr (List.mem_of_mem_drop h)
    · rintro (rfl | h)
      · exact Or.inr (Or.inl rfl)
      · rw [← List.take_append_drop p L] at h
        rcases List.mem_append.mp h with h | h
        · exact Or.inl h
        · exact Or.inr (Or.inr h)
  · intro j hj
    rw [List.getElem?_append_left (by omega), List.getElem?_take, if_pos hj]
  · rw [List.getElem?_append_right (by omega), hlt, Nat.sub_self]
    rfl
  · intro j hj
    rw [List.getElem?_append_right (by omega), hlt, show j - p = (j - p - 1) + 1 by omega, List.getElem?_cons_succ, List.getElem?_drop]
    congr 1
    omega
theorem adds_loop {w : gw} {to da m k : Nat} {f : Nat → Int32} {L : List Nat} {f0 : Int32} (hto : w.1 to = some (.inl (19, [ga (some da), gi (nI m)]))) (hda : ∃ f1, w.1 da = some (.inr (0, 24, .inl f1))) (hm : m < 24) (hk : k < 24) (hL : L.length = m) (hf : ∀ j x, L[j]? = some x → f j = nI x ∧ x < 24) (hs' : L.Pairwise (· < ·)) (hn : k ∉ L) :
    ∀ (at' : Nat) (g : Nat → Int32) (fuel : Nat), at' ≤ m → at' < fuel → (∀ j, j < at' → g j = f j) → (∀ j, at' < j → j ≤ m → g j = f (j - 1)) → (∀ j x, at' ≤ j → L[j]? = some x → k < x) →
      ∃ p g', gL2 (bf_X19_adds_1 to) fuel (nI k) (nI at') (hs w da (.inr (0, 24, .inl g))) = some ((), hs (hs w da (.inr (0, 24, .inl g'))) to (.inl (19, [ga (some da), gi (nI (m + 1))]))) ∧ p ≤ m ∧ (∀ j, j < p → g' j = f j) ∧ g' p = nI k ∧ (∀ j, p < j → j ≤ m → g' j = f (j - 1)) ∧ (∀ j x, p ≤ j → L[j]? = some x → k < x) ∧ (∀ j x, j < p → L[j]? = some x → x < k) := by
  obtain ⟨f1, hda⟩ := hda
  have n1 : to ≠ da := ne_of hto hda (by simp)
  intro at'
  induction at' with
  | zero =>
    intro g fuel h1 h2 h3 h4 h5
    obtain ⟨fu, rfl⟩ : ∃ fu, fuel = fu + 1 := ⟨fuel - 1, by omega⟩
    refine ⟨0, upd g 0 (nI k), ?_, by omega, fun j hj => absurd hj (by omega), upd_self _ _ _, fun j hj hjm => ?_, h5, fun j x hj => absurd hj (by omega)⟩
    · show bf_X19_adds_1 to (gL2 (bf_X19_adds_1 to) fu) (nI k) (nI 0) (hs w da (.inr (0, 24, .inl g))) = _
      unfold bf_X19_adds_1
      have e1 : nI 0 ≤ 0 := by decide
      simp (disch := first | assumption | omega) only [pu_B1, pu_B2, pu_Bd, pu_Nn, pu_Ns, pv_I, pv_R, pv_P, pv_LI, pv_LR, pv_SI, pv_SR, pv_O, pv_C, pvF, pvI, pvR, pvP, pvLI, pvLR, pvSI, pvSR, pvN, pvO, pvC, pv_bs, pv_ms, hs_self, hs_ne, hs_K, hs_2, List.getElem?_cons_succ, List.getElem?_cons_zero, List.set_cons_succ, List.set_cons_zero, Option.isSome_some, if_true, if_false, true_and, and_true, ↓reduceIte, hto, hda, e1, pu_gIx, nI_add, hs_hs]
    · rw [upd_ne (by omega)]
      exact h4 j hj hjm
  | succ at' ih =>
    intro g fuel h1 h2 h3 h4 h5
    obtain ⟨fu, rfl⟩ : ∃ fu, fuel = fu + 1 := ⟨fuel - 1, by omega⟩
    have e1 : ¬ nI (at' + 1) ≤ 0 := nI_nle (by omega) (by omega)
    have e2 : nI (at' + 1) - nI 1 = nI at' := by rw [pu_sub (by omega), Nat.add_sub_cancel]
    have e3 : nI (at' + 1) + -1 = nI at' := by
      rw [← nI_pred at']
      exact (Int32.sub_eq_add_neg _ _).symm
    have hx : L[at']? = some L[at'] := List.getElem?_eq_getElem (by omega)
    obtain ⟨hx1, hx2⟩ := hf _ _ hx
    have hg := h3 at' (by omega)
    by_cases hc : L[at'] < k
    · have e4 : f at' ≤ nI k := by rw [hx1]; exact nI_le (by omega) (by omega)
      refine ⟨at' + 1, upd g (at' + 1) (nI k), ?_, by omega, fun j hj => ?_, upd_self _ _ _, fun j hj hjm => ?_, h5, fun j x hj hjx => ?_⟩
      · show bf_X19_adds_1 to (gL2 (bf_X19_adds_1 to) fu) (nI k) (nI (at' + 1)) (hs w da (.inr (0, 24, .inl g))) = _
        unfold bf_X19_adds_1
        simp (disch := first | assumption | omega) only [pu_B1, pu_B2, pu_Bd, pu_Nn, pu_Ns, pv_I, pv_R, pv_P, pv_LI, pv_LR, pv_SI, pv_SR, pv_O, pv_C, pvF, pvI, pvR, pvP, pvLI, pvLR, pvSI, pvSR, pvN, pvO, pvC, pv_bs, pv_ms, hs_self, hs_ne, hs_K, hs_2, List.getElem?_cons_succ, List.getElem?_cons_zero, List.set_cons_succ, List.set_cons_zero, Option.isSome_some, if_true, if_false, true_and, and_true, ↓reduceIte, hto, hda, e1, e2, e4, hg, pu_gIx, nI_add, hs_hs]
      · rw [upd_ne (by omega)]
        exact h3 j hj
      · rw [upd_ne (by omega)]
        exact h4 j hj hjm
      · by_cases hja : j = at'
        · subst hja
          rw [hx] at hjx
          cases hjx
          exact hc
        · have := dL_at hs' (by omega) hjx hx
          omega
    · have hne : L[at'] ≠ k := fun z => hn (z ▸ List.getElem_mem _)
      have e4 : ¬ f at' ≤ nI k := by rw [hx1]; exact nI_ge (by omega) (by omega)
      obtain ⟨p, g', i1, i2⟩ := ih (upd g (at' + 1) (f at')) fu (by omega) (by omega) (fun j hj => by rw [upd_ne (by omega)]; exact h3 j (by omega)) (fun j hj hjm => by
        by_cases hja : j = at' + 1
        · subst hja
          rw [upd_self, Nat.add_sub_cancel]
        · rw [upd_ne hja]
          exact h4 j (by omega) hjm) (fun j x hj hjx => by
        by_cases hja : j = at'
        · subst hja
          rw [hx] at hjx
          cases hjx
          omega
        · exact h5 j x (by omega) hjx)
      refine ⟨p, g', ?_, i2⟩
      show bf_X19_adds_1 to (gL2 (bf_X19_adds_1 to) fu) (nI k) (nI (at' + 1)) (hs w da (.inr (0, 24, .inl g))) = _
      generalize gL2 (bf_X19_adds_1 to) fu = KK at i1 ⊢
      unfold bf_X19_adds_1
      simp (disch := first | assumption | omega) only [pu_B1, pu_B2, pu_Bd, pu_Nn, pu_Ns, pv_I, pv_R, pv_P, pv_LI, pv_LR, pv_SI, pv_SR, pv_O, pv_C, pvF, pvI, pvR, pvP, pvLI, pvLR, pvSI, pvSR, pvN, pvO, pvC, pv_bs, pv_ms, hs_self, hs_ne, hs_K, hs_2, List.getElem?_cons_succ, List.getElem?_cons_zero, List.set_cons_succ, List.set_cons_zero, Option.isSome_some, if_true, if_false, true_and, and_true, ↓reduceIte, hto, hda, e1, e2, e3, e4, hg, pu_gIx, nI_add, hs_hs]
      exact i1
theorem pf_adds {w : gw} {to da k : Nat} {f : Nat → Int32} {L : List Nat} (hto : w.1 to = some (.inl (19, [ga (some da), gi (nI L.length)]))) (hda : w.1 da = some (.inr (0, 24, .inl f))) (hL : dL L f) (hk : k < 24) (hn : k ∉ L) :
    ∃ f' L', f_X19_adds to (nI k) w = some ((), hs (hs w da (.inr (0, 24, .inl f'))) to (.inl (19, [ga (some da), gi (nI L'.length)]))) ∧ dL L' f' ∧ (∀ x, x ∈ L' ↔ x = k ∨ x ∈ L) := by
  obtain ⟨h1, h2, h3⟩ := hL
  have hb : ∀ x, x ∈ L → x < 24 := by
    intro x hx
    obtain ⟨j, hj⟩ := List.mem_iff_getElem?.mp hx
    exact (h3 j x hj).2
  -- not full: else k too would be among 24 smaller numbers
  have hlen : L.length < 24 := by
    obtain ⟨p, q1, q2, q3⟩ : ∃ p, p ≤ L.length ∧ (∀ j x, j < p → L[j]? = some x → x < k) ∧ (∀ j x, p ≤ j → L[j]? = some x → k < x) := by
      have : ∀ d p, p + d = L.length → (∀ j x, j < p → L[j]? = some x → x < k) → ∃ p, p ≤ L.length ∧ (∀ j x, j < p → L[j]? = some x → x < k) ∧ (∀ j x, p ≤ j → L[j]? = some x → k < x) := by
        intro d
        induction d with
        | zero =>
          intro p hp h
          refine ⟨p, by omega, h, fun j x hj hx => ?_⟩
          obtain ⟨h6, -⟩ := List.getElem?_eq_some_iff.mp hx
          omega
        | succ d ih =>
          intro p hp h
          have hx : L[p]? = some L[p] := List.getElem?_eq_getElem (by omega)
          by_cases hc : L[p] < k
          · refine ih (p + 1) (by omega) (fun j x hj hjx => ?_)
            by_cases hjp : j = p
            · subst hjp
              rw [hx] at hjx
              cases hjx
              exact hc
            · exact h j x (by omega) hjx
          · have hne : L[p] ≠ k := fun z => hn (z ▸ List.getElem_mem _)
            refine ⟨p, by omega, h, fun j x hj hjx => ?_⟩
            by_cases hjp : j = p
            · subst hjp
              rw [hx] at hjx
              cases hjx
              omega
            · have := dL_at h1 (by omega) hx hjx
              omega
      exact this L.length 0 (by omega) (fun j x hj => absurd hj (by omega))
    obtain ⟨r1, r2, r3, -⟩ := dL_ins h1 q1 q2 q3
    have := dL_len r1 (n := 24) (fun x hx => by
      rcases (r3 x).mp hx with rfl | hx
      · exact hk
      · exact hb x hx)
    omega
  obtain ⟨p, g', i1, i2, i3, i4, i5, i6, i7⟩ := adds_loop (f0 := 0) hto ⟨f, hda⟩ hlen hk rfl h3 h1 hn L.length f 20000 (Nat.le_refl _) (by omega) (fun _ _ => rfl) (fun j hj hjm => absurd hj (by omega)) (fun j x hj hx => by
    obtain ⟨h6, -⟩ := List.getElem?_eq_some_iff.mp hx
    omega)
  obtain ⟨r1, r2, r3, r4, r5, r6⟩ := dL_ins h1 i2 i7 i6
  refine ⟨g', L.take p ++ k :: L.drop p, ?_, ⟨r1, by omega, fun j x hx => ?_⟩, r3⟩
  · rw [f_X19_adds_eq, r2]
    rw [hs_id hda] at i1
    simp only [pu_B1, pu_B2, pu_Bd, pu_Nn, pu_Ns, pv_I, pv_R, pv_P, pv_LI, pv_LR, pv_SI, pv_SR, pv_O, pv_C, pvF, pvI, pvR, pvP, pvLI, pvLR, pvSI, pvSR, pvN, pvO, pvC, pv_bs, pv_ms, hs_self, hs_ne, hs_K, hs_2, List.getElem?_cons_succ, List.getElem?_cons_zero, List.set_cons_succ, List.set_cons_zero, Option.isSome_some, if_true, if_false, true_and, and_true, ↓reduceIte, hto]
    exact i1
  · by_cases hjp : j < p
    · rw [r4 j hjp] at hx
      rw [i3 j hjp]
      exact h3 j x hx
    · by_cases hje : j = p
      · subst hje
        rw [r5] at hx
        cases hx
        exact ⟨i4, hk⟩
      · rw [r6 j (by omega)] at hx
        obtain ⟨h6, -⟩ := List.getElem?_eq_some_iff.mp hx
        rw [i5 j (by omega) (by omega)]
        exact h3 _ x hx
