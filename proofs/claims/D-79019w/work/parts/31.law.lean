set_option maxRecDepth 100000
/-! THE LAW's WALK: every call's two answers agree by a pure invariant, so it comes to its end with true -/
def lawC (xa n : Nat) (p1 p2 p3 : Int32) (w : gw) : Option (Int32 × gw) := match n with
  | 0 => f_X0_feed xa p1 w
  | 1 => match f_X0_define xa p1 w with | some (.inr r, w1) => some (r, w1) | _ => none
  | 2 => f_X0_wrong xa p1 w
  | 3 => f_X0_version xa p1 p2 p3 w
  | 4 => f_X0_duration xa p1 p2 w
  | 5 => f_X0_failures xa p1 p2 w
  | 6 => f_X0_start xa p1 w
  | 7 => f_X0_signal xa p1 p2 w
  | 8 => f_X0_abort xa p1 w
  | 9 => f_X0_remove xa p1 w
  | 10 => f_X0_pass xa p1 w
  | 11 => f_X0_instance xa p1 p2 w
  | 12 => f_X0_entry xa p1 p2 p3 w
  | 13 => f_X0_running xa p1 p2 w
  | 14 => f_X0_due xa p1 w
  | 15 => f_X0_ahead xa p1 p2 w
  | 16 => f_X0_replayed xa p1 p2 w
  | 17 => f_X0_statistic xa p1 p2 w
  | 18 => f_X0_image xa  w
  | 19 => f_X0_undo xa  w
  | 20 => f_X0_count xa p1 w
  | _ => none
def lawT (n : Nat) (p1 p2 p3 : Int32) (σ : TS) : Option (Int32 × TS) := match n with
  | 0 => t_X2_feed p1 σ
  | 1 => t_X2_define p1 σ
  | 2 => t_X2_wrong p1 σ
  | 3 => t_X2_version p1 p2 p3 σ
  | 4 => t_X2_duration p1 p2 σ
  | 5 => t_X2_failures p1 p2 σ
  | 6 => t_X2_start p1 σ
  | 7 => t_X2_signal p1 p2 σ
  | 8 => t_X2_abort p1 σ
  | 9 => t_X2_remove p1 σ
  | 10 => t_X2_pass p1 σ
  | 11 => t_X2_instance p1 p2 σ
  | 12 => t_X2_entry p1 p2 p3 σ
  | 13 => t_X2_running p1 p2 σ
  | 14 => t_X2_due p1 σ
  | 15 => t_X2_ahead p1 p2 σ
  | 16 => t_X2_replayed p1 p2 σ
  | 17 => t_X2_statistic p1 p2 σ
  | 18 => t_X2_image  σ
  | 19 => t_X2_undo  σ
  | 20 => t_X2_count p1 σ
  | _ => none
/-- what the pure part owes: Inv k: k calls are still to come -/
def LawInv (xa : Nat) (ad : Nat → Nat) (Inv : Nat → gw → TS → Prop) : Prop := tInj ad ∧ (∀ k w σ, Inv k w σ → gCls w xa = some 0) ∧ (∀ k w σ, Inv k w σ → w = twOf w ad σ) ∧
  (∀ n, n < 21 → ∀ k p1 p2 p3 w σ, Inv (k + 1) w σ → ∃ r w' σ', lawC xa n p1 p2 p3 w = some (r, w') ∧ lawT n p1 p2 p3 σ = some (r, σ') ∧ w' = twOf w' ad σ ∧ Inv k (twOf w' ad σ') σ') ∧ (∀ k w σ, Inv (k + 1) w σ → Inv k w σ)
theorem j_eqw {D : va_G} {dA : Nat → ClassId} {A : Nat → Prop} {K : Nat → Nat} {p : Program} {l : Launch} {e : Env} {R : Room} {s : State} {m : MethodId} {args : Array Value} {below : List Frame} {meth : Method} {c : Code} {Q : State → Prop} {nL pc : Nat} {lv : List (Nat × gv)} {st : List gv} {w w1 : gw} (h : w = w1) (k : gJ D dA A K p l e R s m args below meth c Q nL pc lv st w1) : gJ D dA A K p l e R s m args below meth c Q nL pc lv st w := by rw [h]; exact k
def dkwL_law_27 : List UInt8 := [29, 4, 96, 46, 182, 0, 100, 159, 0, 5, 3, 172, 132, 3, 4, 167, 253, 68, 4, 172]
abbrev dktL_law_27 : List UInt8 := dkwL_law_27 ++ []
def dkwL_law_26 : List UInt8 := [43, 182, 0, 93, 44, 182, 0, 96, 159, 0, 28, 3, 172, 43, 42, 29, 4, 96, 46, 182, 0, 97, 44, 42]
abbrev dktL_law_26 : List UInt8 := dkwL_law_26 ++ dktL_law_27
def dkwL_law_25 : List UInt8 := [5, 96, 46, 182, 0, 87, 159, 0, 54, 3, 172, 43, 182, 0, 88, 44, 182, 0, 92, 159, 0, 41, 3, 172]
abbrev dktL_law_25 : List UInt8 := dkwL_law_25 ++ dktL_law_26
def dkwL_law_24 : List UInt8 := [3, 172, 43, 42, 29, 4, 96, 46, 42, 29, 5, 96, 46, 182, 0, 84, 44, 42, 29, 4, 96, 46, 42, 29]
abbrev dktL_law_24 : List UInt8 := dkwL_law_24 ++ dktL_law_25
def dkwL_law_23 : List UInt8 := [29, 5, 96, 46, 182, 0, 80, 44, 42, 29, 4, 96, 46, 42, 29, 5, 96, 46, 182, 0, 83, 159, 0, 87]
abbrev dktL_law_23 : List UInt8 := dkwL_law_23 ++ dktL_law_24
def dkwL_law_22 : List UInt8 := [29, 4, 96, 46, 42, 29, 5, 96, 46, 182, 0, 79, 159, 0, 120, 3, 172, 43, 42, 29, 4, 96, 46, 42]
abbrev dktL_law_22 : List UInt8 := dkwL_law_22 ++ dktL_law_23
def dkwL_law_21 : List UInt8 := [182, 0, 75, 159, 0, 153, 3, 172, 43, 42, 29, 4, 96, 46, 42, 29, 5, 96, 46, 182, 0, 76, 44, 42]
abbrev dktL_law_21 : List UInt8 := dkwL_law_21 ++ dktL_law_22
def dkwL_law_20 : List UInt8 := [182, 0, 71, 159, 0, 176, 3, 172, 43, 42, 29, 4, 96, 46, 182, 0, 72, 44, 42, 29, 4, 96, 46]
abbrev dktL_law_20 : List UInt8 := dkwL_law_20 ++ dktL_law_21
def dkwL_law_19 : List UInt8 := [4, 96, 46, 42, 29, 5, 96, 46, 182, 0, 68, 44, 42, 29, 4, 96, 46, 42, 29, 5, 96, 46]
abbrev dktL_law_19 : List UInt8 := dkwL_law_19 ++ dktL_law_20
def dkwL_law_18 : List UInt8 := [4, 96, 46, 42, 29, 5, 96, 46, 42, 29, 6, 96, 46, 182, 0, 67, 159, 0, 209, 3, 172, 43, 42, 29]
abbrev dktL_law_18 : List UInt8 := dkwL_law_18 ++ dktL_law_19
def dkwL_law_17 : List UInt8 := [3, 172, 43, 42, 29, 4, 96, 46, 42, 29, 5, 96, 46, 42, 29, 6, 96, 46, 182, 0, 64, 44, 42, 29]
abbrev dktL_law_17 : List UInt8 := dkwL_law_17 ++ dktL_law_18
def dkwL_law_16 : List UInt8 := [29, 5, 96, 46, 182, 0, 60, 44, 42, 29, 4, 96, 46, 42, 29, 5, 96, 46, 182, 0, 63, 159, 0, 252]
abbrev dktL_law_16 : List UInt8 := dkwL_law_16 ++ dktL_law_17
def dkwL_law_15 : List UInt8 := [182, 0, 56, 44, 42, 29, 4, 96, 46, 182, 0, 59, 159, 1, 29, 3, 172, 43, 42, 29, 4, 96, 46, 42]
abbrev dktL_law_15 : List UInt8 := dkwL_law_15 ++ dktL_law_16
def dkwL_law_14 : List UInt8 := [182, 0, 52, 44, 42, 29, 4, 96, 46, 182, 0, 55, 159, 1, 52, 3, 172, 43, 42, 29, 4, 96, 46]
abbrev dktL_law_14 : List UInt8 := dkwL_law_14 ++ dktL_law_15
def dkwL_law_13 : List UInt8 := [182, 0, 48, 44, 42, 29, 4, 96, 46, 182, 0, 51, 159, 1, 75, 3, 172, 43, 42, 29, 4, 96, 46]
abbrev dktL_law_13 : List UInt8 := dkwL_law_13 ++ dktL_law_14
def dkwL_law_12 : List UInt8 := [42, 29, 4, 96, 46, 42, 29, 5, 96, 46, 182, 0, 47, 159, 1, 98, 3, 172, 43, 42, 29, 4, 96, 46]
abbrev dktL_law_12 : List UInt8 := dkwL_law_12 ++ dktL_law_13
def dkwL_law_11 : List UInt8 := [46, 182, 0, 43, 159, 1, 131, 3, 172, 43, 42, 29, 4, 96, 46, 42, 29, 5, 96, 46, 182, 0, 44, 44]
abbrev dktL_law_11 : List UInt8 := dkwL_law_11 ++ dktL_law_12
def dkwL_law_10 : List UInt8 := [96, 46, 182, 0, 39, 159, 1, 154, 3, 172, 43, 42, 29, 4, 96, 46, 182, 0, 40, 44, 42, 29, 4, 96]
abbrev dktL_law_10 : List UInt8 := dkwL_law_10 ++ dktL_law_11
def dkwL_law_9 : List UInt8 := [172, 43, 42, 29, 4, 96, 46, 42, 29, 5, 96, 46, 182, 0, 36, 44, 42, 29, 4, 96, 46, 42, 29, 5]
abbrev dktL_law_9 : List UInt8 := dkwL_law_9 ++ dktL_law_10
def dkwL_law_8 : List UInt8 := [5, 96, 46, 182, 0, 31, 44, 42, 29, 4, 96, 46, 42, 29, 5, 96, 46, 182, 0, 35, 159, 1, 187, 3]
abbrev dktL_law_8 : List UInt8 := dkwL_law_8 ++ dktL_law_9
def dkwL_law_7 : List UInt8 := [5, 96, 46, 42, 29, 6, 96, 46, 182, 0, 30, 159, 1, 220, 3, 172, 43, 42, 29, 4, 96, 46, 42, 29]
abbrev dktL_law_7 : List UInt8 := dkwL_law_7 ++ dktL_law_8
def dkwL_law_6 : List UInt8 := [4, 96, 46, 42, 29, 5, 96, 46, 42, 29, 6, 96, 46, 182, 0, 26, 44, 42, 29, 4, 96, 46, 42, 29]
abbrev dktL_law_6 : List UInt8 := dkwL_law_6 ++ dktL_law_7
def dkwL_law_5 : List UInt8 := [29, 4, 96, 46, 182, 0, 22, 44, 42, 29, 4, 96, 46, 182, 0, 25, 159, 2, 7, 3, 172, 43, 42, 29]
abbrev dktL_law_5 : List UInt8 := dkwL_law_5 ++ dktL_law_6
def dkwL_law_4 : List UInt8 := [42, 29, 4, 96, 46, 182, 0, 18, 44, 42, 29, 4, 96, 46, 182, 0, 21, 159, 2, 30, 3, 172, 43, 42]
abbrev dktL_law_4 : List UInt8 := dkwL_law_4 ++ dktL_law_5
def dkwL_law_3 : List UInt8 := [43, 42, 29, 4, 96, 46, 182, 0, 13, 44, 42, 29, 4, 96, 46, 182, 0, 17, 159, 2, 53, 3, 172, 43]
abbrev dktL_law_3 : List UInt8 := dkwL_law_3 ++ dktL_law_4
def dkwL_law_2 : List UInt8 := [170, 0, 0, 0, 0, 0, 2, 171, 0, 0, 0, 0, 0, 0, 0, 20, 0, 0, 0, 100, 0, 0, 0, 123, 0, 0, 0, 146, 0, 0, 0, 169, 0, 0, 0, 212, 0, 0, 0, 245, 0, 0, 1, 22, 0, 0, 1, 45, 0, 0, 1, 78, 0, 0, 1, 101, 0, 0, 1, 124, 0, 0, 1, 147, 0, 0, 1, 180, 0, 0, 1, 223, 0, 0, 2, 0, 0, 0, 2, 23, 0, 0, 2, 56, 0, 0, 2, 89, 0, 0, 2, 122, 0, 0, 2, 135, 0, 0, 2, 148]
abbrev dktL_law_2 : List UInt8 := dkwL_law_2 ++ dktL_law_3
def dkwL_law_1 : List UInt8 := [163, 2, 186, 42, 29, 46, 16, 31, 126]
abbrev dktL_law_1 : List UInt8 := dkwL_law_1 ++ dktL_law_2
def dkwL_law_0 : List UInt8 := [187, 0, 7, 89, 183, 0, 9, 76, 187, 0, 10, 89, 183, 0, 12, 77, 3, 62, 29, 42, 190, 7, 100]
abbrev dktL_law_0 : List UInt8 := dkwL_law_0 ++ dktL_law_1
theorem dksL_law_0 : cL_law.data.toList.drop 0 = dktL_law_0 := by decide +kernel
theorem dksL_law_1 : cL_law.data.toList.drop 23 = dktL_law_1 := dk_seg dksL_law_0 23 rfl rfl
theorem dksL_law_2 : cL_law.data.toList.drop 32 = dktL_law_2 := dk_seg dksL_law_1 9 rfl rfl
theorem dksL_law_3 : cL_law.data.toList.drop 132 = dktL_law_3 := dk_seg dksL_law_2 100 rfl rfl
theorem dksL_law_4 : cL_law.data.toList.drop 156 = dktL_law_4 := dk_seg dksL_law_3 24 rfl rfl
theorem dksL_law_5 : cL_law.data.toList.drop 180 = dktL_law_5 := dk_seg dksL_law_4 24 rfl rfl
theorem dksL_law_6 : cL_law.data.toList.drop 204 = dktL_law_6 := dk_seg dksL_law_5 24 rfl rfl
theorem dksL_law_7 : cL_law.data.toList.drop 228 = dktL_law_7 := dk_seg dksL_law_6 24 rfl rfl
theorem dksL_law_8 : cL_law.data.toList.drop 252 = dktL_law_8 := dk_seg dksL_law_7 24 rfl rfl
theorem dksL_law_9 : cL_law.data.toList.drop 276 = dktL_law_9 := dk_seg dksL_law_8 24 rfl rfl
theorem dksL_law_10 : cL_law.data.toList.drop 300 = dktL_law_10 := dk_seg dksL_law_9 24 rfl rfl
theorem dksL_law_11 : cL_law.data.toList.drop 324 = dktL_law_11 := dk_seg dksL_law_10 24 rfl rfl
theorem dksL_law_12 : cL_law.data.toList.drop 348 = dktL_law_12 := dk_seg dksL_law_11 24 rfl rfl
theorem dksL_law_13 : cL_law.data.toList.drop 372 = dktL_law_13 := dk_seg dksL_law_12 24 rfl rfl
theorem dksL_law_14 : cL_law.data.toList.drop 395 = dktL_law_14 := dk_seg dksL_law_13 23 rfl rfl
theorem dksL_law_15 : cL_law.data.toList.drop 418 = dktL_law_15 := dk_seg dksL_law_14 23 rfl rfl
theorem dksL_law_16 : cL_law.data.toList.drop 442 = dktL_law_16 := dk_seg dksL_law_15 24 rfl rfl
theorem dksL_law_17 : cL_law.data.toList.drop 466 = dktL_law_17 := dk_seg dksL_law_16 24 rfl rfl
theorem dksL_law_18 : cL_law.data.toList.drop 490 = dktL_law_18 := dk_seg dksL_law_17 24 rfl rfl
theorem dksL_law_19 : cL_law.data.toList.drop 514 = dktL_law_19 := dk_seg dksL_law_18 24 rfl rfl
theorem dksL_law_20 : cL_law.data.toList.drop 536 = dktL_law_20 := dk_seg dksL_law_19 22 rfl rfl
theorem dksL_law_21 : cL_law.data.toList.drop 559 = dktL_law_21 := dk_seg dksL_law_20 23 rfl rfl
theorem dksL_law_22 : cL_law.data.toList.drop 583 = dktL_law_22 := dk_seg dksL_law_21 24 rfl rfl
theorem dksL_law_23 : cL_law.data.toList.drop 607 = dktL_law_23 := dk_seg dksL_law_22 24 rfl rfl
theorem dksL_law_24 : cL_law.data.toList.drop 631 = dktL_law_24 := dk_seg dksL_law_23 24 rfl rfl
theorem dksL_law_25 : cL_law.data.toList.drop 655 = dktL_law_25 := dk_seg dksL_law_24 24 rfl rfl
theorem dksL_law_26 : cL_law.data.toList.drop 679 = dktL_law_26 := dk_seg dksL_law_25 24 rfl rfl
theorem dksL_law_27 : cL_law.data.toList.drop 703 = dktL_law_27 := dk_seg dksL_law_26 24 rfl rfl
theorem dL_law_0 : decode cL_law 0 = .ok (.new 7, 3) := dk_187 0 7 (dk_at dksL_law_0 0 rfl rfl)
theorem dL_law_3 : decode cL_law 3 = .ok (.dup, 1) := dk_89 (dk_at dksL_law_0 3 rfl rfl)
theorem dL_law_4 : decode cL_law 4 = .ok (.invokespecial 9, 3) := dk_183 0 9 (dk_at dksL_law_0 4 rfl rfl)
theorem dL_law_7 : decode cL_law 7 = .ok (.astore_n 1, 1) := dk_76 (dk_at dksL_law_0 7 rfl rfl)
theorem dL_law_8 : decode cL_law 8 = .ok (.new 10, 3) := dk_187 0 10 (dk_at dksL_law_0 8 rfl rfl)
theorem dL_law_11 : decode cL_law 11 = .ok (.dup, 1) := dk_89 (dk_at dksL_law_0 11 rfl rfl)
theorem dL_law_12 : decode cL_law 12 = .ok (.invokespecial 12, 3) := dk_183 0 12 (dk_at dksL_law_0 12 rfl rfl)
theorem dL_law_15 : decode cL_law 15 = .ok (.astore_n 2, 1) := dk_77 (dk_at dksL_law_0 15 rfl rfl)
theorem dL_law_16 : decode cL_law 16 = .ok (.iconst 0, 1) := dk_3 (dk_at dksL_law_0 16 rfl rfl)
theorem dL_law_17 : decode cL_law 17 = .ok (.istore_n 3, 1) := dk_62 (dk_at dksL_law_0 17 rfl rfl)
theorem dL_law_18 : decode cL_law 18 = .ok (.iload_n 3, 1) := dk_29 (dk_at dksL_law_0 18 rfl rfl)
theorem dL_law_19 : decode cL_law 19 = .ok (.aload_n 0, 1) := dk_42 (dk_at dksL_law_0 19 rfl rfl)
theorem dL_law_20 : decode cL_law 20 = .ok (.arraylength, 1) := dk_190 (dk_at dksL_law_0 20 rfl rfl)
theorem dL_law_21 : decode cL_law 21 = .ok (.iconst 4, 1) := dk_7 (dk_at dksL_law_0 21 rfl rfl)
theorem dL_law_22 : decode cL_law 22 = .ok (.isub, 1) := dk_100 (dk_at dksL_law_0 22 rfl rfl)
theorem dL_law_23 : decode cL_law 23 = .ok (.if_icmp .gt 698, 3) := dk_163 2 186 (dk_at dksL_law_1 0 rfl rfl)
theorem dL_law_26 : decode cL_law 26 = .ok (.aload_n 0, 1) := dk_42 (dk_at dksL_law_1 3 rfl rfl)
theorem dL_law_27 : decode cL_law 27 = .ok (.iload_n 3, 1) := dk_29 (dk_at dksL_law_1 4 rfl rfl)
theorem dL_law_28 : decode cL_law 28 = .ok (.iaload, 1) := dk_46 (dk_at dksL_law_1 5 rfl rfl)
theorem dL_law_29 : decode cL_law 29 = .ok (.bipush 31, 2) := dk_16 31 (dk_at dksL_law_1 6 rfl rfl)
theorem dL_law_31 : decode cL_law 31 = .ok (.iand, 1) := dk_126 (dk_at dksL_law_1 8 rfl rfl)
theorem dL_law_32 : decode cL_law 32 = .ok (.tableswitch 683 0 20 #[100, 123, 146, 169, 212, 245, 278, 301, 334, 357, 380, 403, 436, 479, 512, 535, 568, 601, 634, 647, 660], 100) := by decide +kernel
theorem dL_law_132 : decode cL_law 132 = .ok (.aload_n 1, 1) := dk_43 (dk_at dksL_law_3 0 rfl rfl)
theorem dL_law_133 : decode cL_law 133 = .ok (.aload_n 0, 1) := dk_42 (dk_at dksL_law_3 1 rfl rfl)
theorem dL_law_134 : decode cL_law 134 = .ok (.iload_n 3, 1) := dk_29 (dk_at dksL_law_3 2 rfl rfl)
theorem dL_law_135 : decode cL_law 135 = .ok (.iconst 1, 1) := dk_4 (dk_at dksL_law_3 3 rfl rfl)
theorem dL_law_136 : decode cL_law 136 = .ok (.iadd, 1) := dk_96 (dk_at dksL_law_3 4 rfl rfl)
theorem dL_law_137 : decode cL_law 137 = .ok (.iaload, 1) := dk_46 (dk_at dksL_law_3 5 rfl rfl)
theorem dL_law_138 : decode cL_law 138 = .ok (.invokevirtual 13, 3) := dk_182 0 13 (dk_at dksL_law_3 6 rfl rfl)
theorem dL_law_141 : decode cL_law 141 = .ok (.aload_n 2, 1) := dk_44 (dk_at dksL_law_3 9 rfl rfl)
theorem dL_law_142 : decode cL_law 142 = .ok (.aload_n 0, 1) := dk_42 (dk_at dksL_law_3 10 rfl rfl)
theorem dL_law_143 : decode cL_law 143 = .ok (.iload_n 3, 1) := dk_29 (dk_at dksL_law_3 11 rfl rfl)
theorem dL_law_144 : decode cL_law 144 = .ok (.iconst 1, 1) := dk_4 (dk_at dksL_law_3 12 rfl rfl)
theorem dL_law_145 : decode cL_law 145 = .ok (.iadd, 1) := dk_96 (dk_at dksL_law_3 13 rfl rfl)
theorem dL_law_146 : decode cL_law 146 = .ok (.iaload, 1) := dk_46 (dk_at dksL_law_3 14 rfl rfl)
theorem dL_law_147 : decode cL_law 147 = .ok (.invokevirtual 17, 3) := dk_182 0 17 (dk_at dksL_law_3 15 rfl rfl)
theorem dL_law_150 : decode cL_law 150 = .ok (.if_icmp .eq 565, 3) := dk_159 2 53 (dk_at dksL_law_3 18 rfl rfl)
theorem dL_law_153 : decode cL_law 153 = .ok (.iconst 0, 1) := dk_3 (dk_at dksL_law_3 21 rfl rfl)
theorem dL_law_154 : decode cL_law 154 = .ok (.ireturn, 1) := dk_172 (dk_at dksL_law_3 22 rfl rfl)
theorem dL_law_155 : decode cL_law 155 = .ok (.aload_n 1, 1) := dk_43 (dk_at dksL_law_3 23 rfl rfl)
theorem dL_law_156 : decode cL_law 156 = .ok (.aload_n 0, 1) := dk_42 (dk_at dksL_law_4 0 rfl rfl)
theorem dL_law_157 : decode cL_law 157 = .ok (.iload_n 3, 1) := dk_29 (dk_at dksL_law_4 1 rfl rfl)
theorem dL_law_158 : decode cL_law 158 = .ok (.iconst 1, 1) := dk_4 (dk_at dksL_law_4 2 rfl rfl)
theorem dL_law_159 : decode cL_law 159 = .ok (.iadd, 1) := dk_96 (dk_at dksL_law_4 3 rfl rfl)
theorem dL_law_160 : decode cL_law 160 = .ok (.iaload, 1) := dk_46 (dk_at dksL_law_4 4 rfl rfl)
theorem dL_law_161 : decode cL_law 161 = .ok (.invokevirtual 18, 3) := dk_182 0 18 (dk_at dksL_law_4 5 rfl rfl)
theorem dL_law_164 : decode cL_law 164 = .ok (.aload_n 2, 1) := dk_44 (dk_at dksL_law_4 8 rfl rfl)
theorem dL_law_165 : decode cL_law 165 = .ok (.aload_n 0, 1) := dk_42 (dk_at dksL_law_4 9 rfl rfl)
theorem dL_law_166 : decode cL_law 166 = .ok (.iload_n 3, 1) := dk_29 (dk_at dksL_law_4 10 rfl rfl)
theorem dL_law_167 : decode cL_law 167 = .ok (.iconst 1, 1) := dk_4 (dk_at dksL_law_4 11 rfl rfl)
theorem dL_law_168 : decode cL_law 168 = .ok (.iadd, 1) := dk_96 (dk_at dksL_law_4 12 rfl rfl)
theorem dL_law_169 : decode cL_law 169 = .ok (.iaload, 1) := dk_46 (dk_at dksL_law_4 13 rfl rfl)
theorem dL_law_170 : decode cL_law 170 = .ok (.invokevirtual 21, 3) := dk_182 0 21 (dk_at dksL_law_4 14 rfl rfl)
theorem dL_law_173 : decode cL_law 173 = .ok (.if_icmp .eq 542, 3) := dk_159 2 30 (dk_at dksL_law_4 17 rfl rfl)
theorem dL_law_176 : decode cL_law 176 = .ok (.iconst 0, 1) := dk_3 (dk_at dksL_law_4 20 rfl rfl)
theorem dL_law_177 : decode cL_law 177 = .ok (.ireturn, 1) := dk_172 (dk_at dksL_law_4 21 rfl rfl)
theorem dL_law_178 : decode cL_law 178 = .ok (.aload_n 1, 1) := dk_43 (dk_at dksL_law_4 22 rfl rfl)
theorem dL_law_179 : decode cL_law 179 = .ok (.aload_n 0, 1) := dk_42 (dk_at dksL_law_4 23 rfl rfl)
theorem dL_law_180 : decode cL_law 180 = .ok (.iload_n 3, 1) := dk_29 (dk_at dksL_law_5 0 rfl rfl)
theorem dL_law_181 : decode cL_law 181 = .ok (.iconst 1, 1) := dk_4 (dk_at dksL_law_5 1 rfl rfl)
theorem dL_law_182 : decode cL_law 182 = .ok (.iadd, 1) := dk_96 (dk_at dksL_law_5 2 rfl rfl)
theorem dL_law_183 : decode cL_law 183 = .ok (.iaload, 1) := dk_46 (dk_at dksL_law_5 3 rfl rfl)
theorem dL_law_184 : decode cL_law 184 = .ok (.invokevirtual 22, 3) := dk_182 0 22 (dk_at dksL_law_5 4 rfl rfl)
theorem dL_law_187 : decode cL_law 187 = .ok (.aload_n 2, 1) := dk_44 (dk_at dksL_law_5 7 rfl rfl)
theorem dL_law_188 : decode cL_law 188 = .ok (.aload_n 0, 1) := dk_42 (dk_at dksL_law_5 8 rfl rfl)
theorem dL_law_189 : decode cL_law 189 = .ok (.iload_n 3, 1) := dk_29 (dk_at dksL_law_5 9 rfl rfl)
theorem dL_law_190 : decode cL_law 190 = .ok (.iconst 1, 1) := dk_4 (dk_at dksL_law_5 10 rfl rfl)
theorem dL_law_191 : decode cL_law 191 = .ok (.iadd, 1) := dk_96 (dk_at dksL_law_5 11 rfl rfl)
theorem dL_law_192 : decode cL_law 192 = .ok (.iaload, 1) := dk_46 (dk_at dksL_law_5 12 rfl rfl)
theorem dL_law_193 : decode cL_law 193 = .ok (.invokevirtual 25, 3) := dk_182 0 25 (dk_at dksL_law_5 13 rfl rfl)
theorem dL_law_196 : decode cL_law 196 = .ok (.if_icmp .eq 519, 3) := dk_159 2 7 (dk_at dksL_law_5 16 rfl rfl)
theorem dL_law_199 : decode cL_law 199 = .ok (.iconst 0, 1) := dk_3 (dk_at dksL_law_5 19 rfl rfl)
theorem dL_law_200 : decode cL_law 200 = .ok (.ireturn, 1) := dk_172 (dk_at dksL_law_5 20 rfl rfl)
theorem dL_law_201 : decode cL_law 201 = .ok (.aload_n 1, 1) := dk_43 (dk_at dksL_law_5 21 rfl rfl)
theorem dL_law_202 : decode cL_law 202 = .ok (.aload_n 0, 1) := dk_42 (dk_at dksL_law_5 22 rfl rfl)
theorem dL_law_203 : decode cL_law 203 = .ok (.iload_n 3, 1) := dk_29 (dk_at dksL_law_5 23 rfl rfl)
theorem dL_law_204 : decode cL_law 204 = .ok (.iconst 1, 1) := dk_4 (dk_at dksL_law_6 0 rfl rfl)
theorem dL_law_205 : decode cL_law 205 = .ok (.iadd, 1) := dk_96 (dk_at dksL_law_6 1 rfl rfl)
theorem dL_law_206 : decode cL_law 206 = .ok (.iaload, 1) := dk_46 (dk_at dksL_law_6 2 rfl rfl)
theorem dL_law_207 : decode cL_law 207 = .ok (.aload_n 0, 1) := dk_42 (dk_at dksL_law_6 3 rfl rfl)
theorem dL_law_208 : decode cL_law 208 = .ok (.iload_n 3, 1) := dk_29 (dk_at dksL_law_6 4 rfl rfl)
theorem dL_law_209 : decode cL_law 209 = .ok (.iconst 2, 1) := dk_5 (dk_at dksL_law_6 5 rfl rfl)
theorem dL_law_210 : decode cL_law 210 = .ok (.iadd, 1) := dk_96 (dk_at dksL_law_6 6 rfl rfl)
theorem dL_law_211 : decode cL_law 211 = .ok (.iaload, 1) := dk_46 (dk_at dksL_law_6 7 rfl rfl)
theorem dL_law_212 : decode cL_law 212 = .ok (.aload_n 0, 1) := dk_42 (dk_at dksL_law_6 8 rfl rfl)
theorem dL_law_213 : decode cL_law 213 = .ok (.iload_n 3, 1) := dk_29 (dk_at dksL_law_6 9 rfl rfl)
theorem dL_law_214 : decode cL_law 214 = .ok (.iconst 3, 1) := dk_6 (dk_at dksL_law_6 10 rfl rfl)
theorem dL_law_215 : decode cL_law 215 = .ok (.iadd, 1) := dk_96 (dk_at dksL_law_6 11 rfl rfl)
theorem dL_law_216 : decode cL_law 216 = .ok (.iaload, 1) := dk_46 (dk_at dksL_law_6 12 rfl rfl)
theorem dL_law_217 : decode cL_law 217 = .ok (.invokevirtual 26, 3) := dk_182 0 26 (dk_at dksL_law_6 13 rfl rfl)
theorem dL_law_220 : decode cL_law 220 = .ok (.aload_n 2, 1) := dk_44 (dk_at dksL_law_6 16 rfl rfl)
theorem dL_law_221 : decode cL_law 221 = .ok (.aload_n 0, 1) := dk_42 (dk_at dksL_law_6 17 rfl rfl)
theorem dL_law_222 : decode cL_law 222 = .ok (.iload_n 3, 1) := dk_29 (dk_at dksL_law_6 18 rfl rfl)
theorem dL_law_223 : decode cL_law 223 = .ok (.iconst 1, 1) := dk_4 (dk_at dksL_law_6 19 rfl rfl)
theorem dL_law_224 : decode cL_law 224 = .ok (.iadd, 1) := dk_96 (dk_at dksL_law_6 20 rfl rfl)
theorem dL_law_225 : decode cL_law 225 = .ok (.iaload, 1) := dk_46 (dk_at dksL_law_6 21 rfl rfl)
theorem dL_law_226 : decode cL_law 226 = .ok (.aload_n 0, 1) := dk_42 (dk_at dksL_law_6 22 rfl rfl)
theorem dL_law_227 : decode cL_law 227 = .ok (.iload_n 3, 1) := dk_29 (dk_at dksL_law_6 23 rfl rfl)
theorem dL_law_228 : decode cL_law 228 = .ok (.iconst 2, 1) := dk_5 (dk_at dksL_law_7 0 rfl rfl)
theorem dL_law_229 : decode cL_law 229 = .ok (.iadd, 1) := dk_96 (dk_at dksL_law_7 1 rfl rfl)
theorem dL_law_230 : decode cL_law 230 = .ok (.iaload, 1) := dk_46 (dk_at dksL_law_7 2 rfl rfl)
theorem dL_law_231 : decode cL_law 231 = .ok (.aload_n 0, 1) := dk_42 (dk_at dksL_law_7 3 rfl rfl)
theorem dL_law_232 : decode cL_law 232 = .ok (.iload_n 3, 1) := dk_29 (dk_at dksL_law_7 4 rfl rfl)
theorem dL_law_233 : decode cL_law 233 = .ok (.iconst 3, 1) := dk_6 (dk_at dksL_law_7 5 rfl rfl)
theorem dL_law_234 : decode cL_law 234 = .ok (.iadd, 1) := dk_96 (dk_at dksL_law_7 6 rfl rfl)
theorem dL_law_235 : decode cL_law 235 = .ok (.iaload, 1) := dk_46 (dk_at dksL_law_7 7 rfl rfl)
theorem dL_law_236 : decode cL_law 236 = .ok (.invokevirtual 30, 3) := dk_182 0 30 (dk_at dksL_law_7 8 rfl rfl)
theorem dL_law_239 : decode cL_law 239 = .ok (.if_icmp .eq 476, 3) := dk_159 1 220 (dk_at dksL_law_7 11 rfl rfl)
theorem dL_law_242 : decode cL_law 242 = .ok (.iconst 0, 1) := dk_3 (dk_at dksL_law_7 14 rfl rfl)
theorem dL_law_243 : decode cL_law 243 = .ok (.ireturn, 1) := dk_172 (dk_at dksL_law_7 15 rfl rfl)
theorem dL_law_244 : decode cL_law 244 = .ok (.aload_n 1, 1) := dk_43 (dk_at dksL_law_7 16 rfl rfl)
theorem dL_law_245 : decode cL_law 245 = .ok (.aload_n 0, 1) := dk_42 (dk_at dksL_law_7 17 rfl rfl)
theorem dL_law_246 : decode cL_law 246 = .ok (.iload_n 3, 1) := dk_29 (dk_at dksL_law_7 18 rfl rfl)
theorem dL_law_247 : decode cL_law 247 = .ok (.iconst 1, 1) := dk_4 (dk_at dksL_law_7 19 rfl rfl)
theorem dL_law_248 : decode cL_law 248 = .ok (.iadd, 1) := dk_96 (dk_at dksL_law_7 20 rfl rfl)
theorem dL_law_249 : decode cL_law 249 = .ok (.iaload, 1) := dk_46 (dk_at dksL_law_7 21 rfl rfl)
theorem dL_law_250 : decode cL_law 250 = .ok (.aload_n 0, 1) := dk_42 (dk_at dksL_law_7 22 rfl rfl)
theorem dL_law_251 : decode cL_law 251 = .ok (.iload_n 3, 1) := dk_29 (dk_at dksL_law_7 23 rfl rfl)
theorem dL_law_252 : decode cL_law 252 = .ok (.iconst 2, 1) := dk_5 (dk_at dksL_law_8 0 rfl rfl)
theorem dL_law_253 : decode cL_law 253 = .ok (.iadd, 1) := dk_96 (dk_at dksL_law_8 1 rfl rfl)
theorem dL_law_254 : decode cL_law 254 = .ok (.iaload, 1) := dk_46 (dk_at dksL_law_8 2 rfl rfl)
theorem dL_law_255 : decode cL_law 255 = .ok (.invokevirtual 31, 3) := dk_182 0 31 (dk_at dksL_law_8 3 rfl rfl)
theorem dL_law_258 : decode cL_law 258 = .ok (.aload_n 2, 1) := dk_44 (dk_at dksL_law_8 6 rfl rfl)
theorem dL_law_259 : decode cL_law 259 = .ok (.aload_n 0, 1) := dk_42 (dk_at dksL_law_8 7 rfl rfl)
theorem dL_law_260 : decode cL_law 260 = .ok (.iload_n 3, 1) := dk_29 (dk_at dksL_law_8 8 rfl rfl)
theorem dL_law_261 : decode cL_law 261 = .ok (.iconst 1, 1) := dk_4 (dk_at dksL_law_8 9 rfl rfl)
theorem dL_law_262 : decode cL_law 262 = .ok (.iadd, 1) := dk_96 (dk_at dksL_law_8 10 rfl rfl)
theorem dL_law_263 : decode cL_law 263 = .ok (.iaload, 1) := dk_46 (dk_at dksL_law_8 11 rfl rfl)
theorem dL_law_264 : decode cL_law 264 = .ok (.aload_n 0, 1) := dk_42 (dk_at dksL_law_8 12 rfl rfl)
theorem dL_law_265 : decode cL_law 265 = .ok (.iload_n 3, 1) := dk_29 (dk_at dksL_law_8 13 rfl rfl)
theorem dL_law_266 : decode cL_law 266 = .ok (.iconst 2, 1) := dk_5 (dk_at dksL_law_8 14 rfl rfl)
theorem dL_law_267 : decode cL_law 267 = .ok (.iadd, 1) := dk_96 (dk_at dksL_law_8 15 rfl rfl)
theorem dL_law_268 : decode cL_law 268 = .ok (.iaload, 1) := dk_46 (dk_at dksL_law_8 16 rfl rfl)
theorem dL_law_269 : decode cL_law 269 = .ok (.invokevirtual 35, 3) := dk_182 0 35 (dk_at dksL_law_8 17 rfl rfl)
theorem dL_law_272 : decode cL_law 272 = .ok (.if_icmp .eq 443, 3) := dk_159 1 187 (dk_at dksL_law_8 20 rfl rfl)
theorem dL_law_275 : decode cL_law 275 = .ok (.iconst 0, 1) := dk_3 (dk_at dksL_law_8 23 rfl rfl)
theorem dL_law_276 : decode cL_law 276 = .ok (.ireturn, 1) := dk_172 (dk_at dksL_law_9 0 rfl rfl)
theorem dL_law_277 : decode cL_law 277 = .ok (.aload_n 1, 1) := dk_43 (dk_at dksL_law_9 1 rfl rfl)
theorem dL_law_278 : decode cL_law 278 = .ok (.aload_n 0, 1) := dk_42 (dk_at dksL_law_9 2 rfl rfl)
theorem dL_law_279 : decode cL_law 279 = .ok (.iload_n 3, 1) := dk_29 (dk_at dksL_law_9 3 rfl rfl)
theorem dL_law_280 : decode cL_law 280 = .ok (.iconst 1, 1) := dk_4 (dk_at dksL_law_9 4 rfl rfl)
theorem dL_law_281 : decode cL_law 281 = .ok (.iadd, 1) := dk_96 (dk_at dksL_law_9 5 rfl rfl)
theorem dL_law_282 : decode cL_law 282 = .ok (.iaload, 1) := dk_46 (dk_at dksL_law_9 6 rfl rfl)
theorem dL_law_283 : decode cL_law 283 = .ok (.aload_n 0, 1) := dk_42 (dk_at dksL_law_9 7 rfl rfl)
theorem dL_law_284 : decode cL_law 284 = .ok (.iload_n 3, 1) := dk_29 (dk_at dksL_law_9 8 rfl rfl)
theorem dL_law_285 : decode cL_law 285 = .ok (.iconst 2, 1) := dk_5 (dk_at dksL_law_9 9 rfl rfl)
theorem dL_law_286 : decode cL_law 286 = .ok (.iadd, 1) := dk_96 (dk_at dksL_law_9 10 rfl rfl)
theorem dL_law_287 : decode cL_law 287 = .ok (.iaload, 1) := dk_46 (dk_at dksL_law_9 11 rfl rfl)
theorem dL_law_288 : decode cL_law 288 = .ok (.invokevirtual 36, 3) := dk_182 0 36 (dk_at dksL_law_9 12 rfl rfl)
theorem dL_law_291 : decode cL_law 291 = .ok (.aload_n 2, 1) := dk_44 (dk_at dksL_law_9 15 rfl rfl)
theorem dL_law_292 : decode cL_law 292 = .ok (.aload_n 0, 1) := dk_42 (dk_at dksL_law_9 16 rfl rfl)
theorem dL_law_293 : decode cL_law 293 = .ok (.iload_n 3, 1) := dk_29 (dk_at dksL_law_9 17 rfl rfl)
theorem dL_law_294 : decode cL_law 294 = .ok (.iconst 1, 1) := dk_4 (dk_at dksL_law_9 18 rfl rfl)
theorem dL_law_295 : decode cL_law 295 = .ok (.iadd, 1) := dk_96 (dk_at dksL_law_9 19 rfl rfl)
theorem dL_law_296 : decode cL_law 296 = .ok (.iaload, 1) := dk_46 (dk_at dksL_law_9 20 rfl rfl)
theorem dL_law_297 : decode cL_law 297 = .ok (.aload_n 0, 1) := dk_42 (dk_at dksL_law_9 21 rfl rfl)
theorem dL_law_298 : decode cL_law 298 = .ok (.iload_n 3, 1) := dk_29 (dk_at dksL_law_9 22 rfl rfl)
theorem dL_law_299 : decode cL_law 299 = .ok (.iconst 2, 1) := dk_5 (dk_at dksL_law_9 23 rfl rfl)
theorem dL_law_300 : decode cL_law 300 = .ok (.iadd, 1) := dk_96 (dk_at dksL_law_10 0 rfl rfl)
theorem dL_law_301 : decode cL_law 301 = .ok (.iaload, 1) := dk_46 (dk_at dksL_law_10 1 rfl rfl)
theorem dL_law_302 : decode cL_law 302 = .ok (.invokevirtual 39, 3) := dk_182 0 39 (dk_at dksL_law_10 2 rfl rfl)
theorem dL_law_305 : decode cL_law 305 = .ok (.if_icmp .eq 410, 3) := dk_159 1 154 (dk_at dksL_law_10 5 rfl rfl)
theorem dL_law_308 : decode cL_law 308 = .ok (.iconst 0, 1) := dk_3 (dk_at dksL_law_10 8 rfl rfl)
theorem dL_law_309 : decode cL_law 309 = .ok (.ireturn, 1) := dk_172 (dk_at dksL_law_10 9 rfl rfl)
theorem dL_law_310 : decode cL_law 310 = .ok (.aload_n 1, 1) := dk_43 (dk_at dksL_law_10 10 rfl rfl)
theorem dL_law_311 : decode cL_law 311 = .ok (.aload_n 0, 1) := dk_42 (dk_at dksL_law_10 11 rfl rfl)
theorem dL_law_312 : decode cL_law 312 = .ok (.iload_n 3, 1) := dk_29 (dk_at dksL_law_10 12 rfl rfl)
theorem dL_law_313 : decode cL_law 313 = .ok (.iconst 1, 1) := dk_4 (dk_at dksL_law_10 13 rfl rfl)
theorem dL_law_314 : decode cL_law 314 = .ok (.iadd, 1) := dk_96 (dk_at dksL_law_10 14 rfl rfl)
theorem dL_law_315 : decode cL_law 315 = .ok (.iaload, 1) := dk_46 (dk_at dksL_law_10 15 rfl rfl)
theorem dL_law_316 : decode cL_law 316 = .ok (.invokevirtual 40, 3) := dk_182 0 40 (dk_at dksL_law_10 16 rfl rfl)
theorem dL_law_319 : decode cL_law 319 = .ok (.aload_n 2, 1) := dk_44 (dk_at dksL_law_10 19 rfl rfl)
theorem dL_law_320 : decode cL_law 320 = .ok (.aload_n 0, 1) := dk_42 (dk_at dksL_law_10 20 rfl rfl)
theorem dL_law_321 : decode cL_law 321 = .ok (.iload_n 3, 1) := dk_29 (dk_at dksL_law_10 21 rfl rfl)
theorem dL_law_322 : decode cL_law 322 = .ok (.iconst 1, 1) := dk_4 (dk_at dksL_law_10 22 rfl rfl)
theorem dL_law_323 : decode cL_law 323 = .ok (.iadd, 1) := dk_96 (dk_at dksL_law_10 23 rfl rfl)
theorem dL_law_324 : decode cL_law 324 = .ok (.iaload, 1) := dk_46 (dk_at dksL_law_11 0 rfl rfl)
theorem dL_law_325 : decode cL_law 325 = .ok (.invokevirtual 43, 3) := dk_182 0 43 (dk_at dksL_law_11 1 rfl rfl)
theorem dL_law_328 : decode cL_law 328 = .ok (.if_icmp .eq 387, 3) := dk_159 1 131 (dk_at dksL_law_11 4 rfl rfl)
theorem dL_law_331 : decode cL_law 331 = .ok (.iconst 0, 1) := dk_3 (dk_at dksL_law_11 7 rfl rfl)
theorem dL_law_332 : decode cL_law 332 = .ok (.ireturn, 1) := dk_172 (dk_at dksL_law_11 8 rfl rfl)
theorem dL_law_333 : decode cL_law 333 = .ok (.aload_n 1, 1) := dk_43 (dk_at dksL_law_11 9 rfl rfl)
theorem dL_law_334 : decode cL_law 334 = .ok (.aload_n 0, 1) := dk_42 (dk_at dksL_law_11 10 rfl rfl)
theorem dL_law_335 : decode cL_law 335 = .ok (.iload_n 3, 1) := dk_29 (dk_at dksL_law_11 11 rfl rfl)
theorem dL_law_336 : decode cL_law 336 = .ok (.iconst 1, 1) := dk_4 (dk_at dksL_law_11 12 rfl rfl)
theorem dL_law_337 : decode cL_law 337 = .ok (.iadd, 1) := dk_96 (dk_at dksL_law_11 13 rfl rfl)
theorem dL_law_338 : decode cL_law 338 = .ok (.iaload, 1) := dk_46 (dk_at dksL_law_11 14 rfl rfl)
theorem dL_law_339 : decode cL_law 339 = .ok (.aload_n 0, 1) := dk_42 (dk_at dksL_law_11 15 rfl rfl)
theorem dL_law_340 : decode cL_law 340 = .ok (.iload_n 3, 1) := dk_29 (dk_at dksL_law_11 16 rfl rfl)
theorem dL_law_341 : decode cL_law 341 = .ok (.iconst 2, 1) := dk_5 (dk_at dksL_law_11 17 rfl rfl)
theorem dL_law_342 : decode cL_law 342 = .ok (.iadd, 1) := dk_96 (dk_at dksL_law_11 18 rfl rfl)
theorem dL_law_343 : decode cL_law 343 = .ok (.iaload, 1) := dk_46 (dk_at dksL_law_11 19 rfl rfl)
theorem dL_law_344 : decode cL_law 344 = .ok (.invokevirtual 44, 3) := dk_182 0 44 (dk_at dksL_law_11 20 rfl rfl)
theorem dL_law_347 : decode cL_law 347 = .ok (.aload_n 2, 1) := dk_44 (dk_at dksL_law_11 23 rfl rfl)
theorem dL_law_348 : decode cL_law 348 = .ok (.aload_n 0, 1) := dk_42 (dk_at dksL_law_12 0 rfl rfl)
theorem dL_law_349 : decode cL_law 349 = .ok (.iload_n 3, 1) := dk_29 (dk_at dksL_law_12 1 rfl rfl)
theorem dL_law_350 : decode cL_law 350 = .ok (.iconst 1, 1) := dk_4 (dk_at dksL_law_12 2 rfl rfl)
theorem dL_law_351 : decode cL_law 351 = .ok (.iadd, 1) := dk_96 (dk_at dksL_law_12 3 rfl rfl)
theorem dL_law_352 : decode cL_law 352 = .ok (.iaload, 1) := dk_46 (dk_at dksL_law_12 4 rfl rfl)
theorem dL_law_353 : decode cL_law 353 = .ok (.aload_n 0, 1) := dk_42 (dk_at dksL_law_12 5 rfl rfl)
theorem dL_law_354 : decode cL_law 354 = .ok (.iload_n 3, 1) := dk_29 (dk_at dksL_law_12 6 rfl rfl)
theorem dL_law_355 : decode cL_law 355 = .ok (.iconst 2, 1) := dk_5 (dk_at dksL_law_12 7 rfl rfl)
theorem dL_law_356 : decode cL_law 356 = .ok (.iadd, 1) := dk_96 (dk_at dksL_law_12 8 rfl rfl)
theorem dL_law_357 : decode cL_law 357 = .ok (.iaload, 1) := dk_46 (dk_at dksL_law_12 9 rfl rfl)
theorem dL_law_358 : decode cL_law 358 = .ok (.invokevirtual 47, 3) := dk_182 0 47 (dk_at dksL_law_12 10 rfl rfl)
theorem dL_law_361 : decode cL_law 361 = .ok (.if_icmp .eq 354, 3) := dk_159 1 98 (dk_at dksL_law_12 13 rfl rfl)
theorem dL_law_364 : decode cL_law 364 = .ok (.iconst 0, 1) := dk_3 (dk_at dksL_law_12 16 rfl rfl)
theorem dL_law_365 : decode cL_law 365 = .ok (.ireturn, 1) := dk_172 (dk_at dksL_law_12 17 rfl rfl)
theorem dL_law_366 : decode cL_law 366 = .ok (.aload_n 1, 1) := dk_43 (dk_at dksL_law_12 18 rfl rfl)
theorem dL_law_367 : decode cL_law 367 = .ok (.aload_n 0, 1) := dk_42 (dk_at dksL_law_12 19 rfl rfl)
theorem dL_law_368 : decode cL_law 368 = .ok (.iload_n 3, 1) := dk_29 (dk_at dksL_law_12 20 rfl rfl)
theorem dL_law_369 : decode cL_law 369 = .ok (.iconst 1, 1) := dk_4 (dk_at dksL_law_12 21 rfl rfl)
theorem dL_law_370 : decode cL_law 370 = .ok (.iadd, 1) := dk_96 (dk_at dksL_law_12 22 rfl rfl)
theorem dL_law_371 : decode cL_law 371 = .ok (.iaload, 1) := dk_46 (dk_at dksL_law_12 23 rfl rfl)
theorem dL_law_372 : decode cL_law 372 = .ok (.invokevirtual 48, 3) := dk_182 0 48 (dk_at dksL_law_13 0 rfl rfl)
theorem dL_law_375 : decode cL_law 375 = .ok (.aload_n 2, 1) := dk_44 (dk_at dksL_law_13 3 rfl rfl)
theorem dL_law_376 : decode cL_law 376 = .ok (.aload_n 0, 1) := dk_42 (dk_at dksL_law_13 4 rfl rfl)
theorem dL_law_377 : decode cL_law 377 = .ok (.iload_n 3, 1) := dk_29 (dk_at dksL_law_13 5 rfl rfl)
theorem dL_law_378 : decode cL_law 378 = .ok (.iconst 1, 1) := dk_4 (dk_at dksL_law_13 6 rfl rfl)
theorem dL_law_379 : decode cL_law 379 = .ok (.iadd, 1) := dk_96 (dk_at dksL_law_13 7 rfl rfl)
theorem dL_law_380 : decode cL_law 380 = .ok (.iaload, 1) := dk_46 (dk_at dksL_law_13 8 rfl rfl)
theorem dL_law_381 : decode cL_law 381 = .ok (.invokevirtual 51, 3) := dk_182 0 51 (dk_at dksL_law_13 9 rfl rfl)
theorem dL_law_384 : decode cL_law 384 = .ok (.if_icmp .eq 331, 3) := dk_159 1 75 (dk_at dksL_law_13 12 rfl rfl)
theorem dL_law_387 : decode cL_law 387 = .ok (.iconst 0, 1) := dk_3 (dk_at dksL_law_13 15 rfl rfl)
theorem dL_law_388 : decode cL_law 388 = .ok (.ireturn, 1) := dk_172 (dk_at dksL_law_13 16 rfl rfl)
theorem dL_law_389 : decode cL_law 389 = .ok (.aload_n 1, 1) := dk_43 (dk_at dksL_law_13 17 rfl rfl)
theorem dL_law_390 : decode cL_law 390 = .ok (.aload_n 0, 1) := dk_42 (dk_at dksL_law_13 18 rfl rfl)
theorem dL_law_391 : decode cL_law 391 = .ok (.iload_n 3, 1) := dk_29 (dk_at dksL_law_13 19 rfl rfl)
theorem dL_law_392 : decode cL_law 392 = .ok (.iconst 1, 1) := dk_4 (dk_at dksL_law_13 20 rfl rfl)
theorem dL_law_393 : decode cL_law 393 = .ok (.iadd, 1) := dk_96 (dk_at dksL_law_13 21 rfl rfl)
theorem dL_law_394 : decode cL_law 394 = .ok (.iaload, 1) := dk_46 (dk_at dksL_law_13 22 rfl rfl)
theorem dL_law_395 : decode cL_law 395 = .ok (.invokevirtual 52, 3) := dk_182 0 52 (dk_at dksL_law_14 0 rfl rfl)
theorem dL_law_398 : decode cL_law 398 = .ok (.aload_n 2, 1) := dk_44 (dk_at dksL_law_14 3 rfl rfl)
theorem dL_law_399 : decode cL_law 399 = .ok (.aload_n 0, 1) := dk_42 (dk_at dksL_law_14 4 rfl rfl)
theorem dL_law_400 : decode cL_law 400 = .ok (.iload_n 3, 1) := dk_29 (dk_at dksL_law_14 5 rfl rfl)
theorem dL_law_401 : decode cL_law 401 = .ok (.iconst 1, 1) := dk_4 (dk_at dksL_law_14 6 rfl rfl)
theorem dL_law_402 : decode cL_law 402 = .ok (.iadd, 1) := dk_96 (dk_at dksL_law_14 7 rfl rfl)
theorem dL_law_403 : decode cL_law 403 = .ok (.iaload, 1) := dk_46 (dk_at dksL_law_14 8 rfl rfl)
theorem dL_law_404 : decode cL_law 404 = .ok (.invokevirtual 55, 3) := dk_182 0 55 (dk_at dksL_law_14 9 rfl rfl)
theorem dL_law_407 : decode cL_law 407 = .ok (.if_icmp .eq 308, 3) := dk_159 1 52 (dk_at dksL_law_14 12 rfl rfl)
theorem dL_law_410 : decode cL_law 410 = .ok (.iconst 0, 1) := dk_3 (dk_at dksL_law_14 15 rfl rfl)
theorem dL_law_411 : decode cL_law 411 = .ok (.ireturn, 1) := dk_172 (dk_at dksL_law_14 16 rfl rfl)
theorem dL_law_412 : decode cL_law 412 = .ok (.aload_n 1, 1) := dk_43 (dk_at dksL_law_14 17 rfl rfl)
theorem dL_law_413 : decode cL_law 413 = .ok (.aload_n 0, 1) := dk_42 (dk_at dksL_law_14 18 rfl rfl)
theorem dL_law_414 : decode cL_law 414 = .ok (.iload_n 3, 1) := dk_29 (dk_at dksL_law_14 19 rfl rfl)
theorem dL_law_415 : decode cL_law 415 = .ok (.iconst 1, 1) := dk_4 (dk_at dksL_law_14 20 rfl rfl)
theorem dL_law_416 : decode cL_law 416 = .ok (.iadd, 1) := dk_96 (dk_at dksL_law_14 21 rfl rfl)
theorem dL_law_417 : decode cL_law 417 = .ok (.iaload, 1) := dk_46 (dk_at dksL_law_14 22 rfl rfl)
theorem dL_law_418 : decode cL_law 418 = .ok (.invokevirtual 56, 3) := dk_182 0 56 (dk_at dksL_law_15 0 rfl rfl)
theorem dL_law_421 : decode cL_law 421 = .ok (.aload_n 2, 1) := dk_44 (dk_at dksL_law_15 3 rfl rfl)
theorem dL_law_422 : decode cL_law 422 = .ok (.aload_n 0, 1) := dk_42 (dk_at dksL_law_15 4 rfl rfl)
theorem dL_law_423 : decode cL_law 423 = .ok (.iload_n 3, 1) := dk_29 (dk_at dksL_law_15 5 rfl rfl)
theorem dL_law_424 : decode cL_law 424 = .ok (.iconst 1, 1) := dk_4 (dk_at dksL_law_15 6 rfl rfl)
theorem dL_law_425 : decode cL_law 425 = .ok (.iadd, 1) := dk_96 (dk_at dksL_law_15 7 rfl rfl)
theorem dL_law_426 : decode cL_law 426 = .ok (.iaload, 1) := dk_46 (dk_at dksL_law_15 8 rfl rfl)
theorem dL_law_427 : decode cL_law 427 = .ok (.invokevirtual 59, 3) := dk_182 0 59 (dk_at dksL_law_15 9 rfl rfl)
theorem dL_law_430 : decode cL_law 430 = .ok (.if_icmp .eq 285, 3) := dk_159 1 29 (dk_at dksL_law_15 12 rfl rfl)
theorem dL_law_433 : decode cL_law 433 = .ok (.iconst 0, 1) := dk_3 (dk_at dksL_law_15 15 rfl rfl)
theorem dL_law_434 : decode cL_law 434 = .ok (.ireturn, 1) := dk_172 (dk_at dksL_law_15 16 rfl rfl)
theorem dL_law_435 : decode cL_law 435 = .ok (.aload_n 1, 1) := dk_43 (dk_at dksL_law_15 17 rfl rfl)
theorem dL_law_436 : decode cL_law 436 = .ok (.aload_n 0, 1) := dk_42 (dk_at dksL_law_15 18 rfl rfl)
theorem dL_law_437 : decode cL_law 437 = .ok (.iload_n 3, 1) := dk_29 (dk_at dksL_law_15 19 rfl rfl)
theorem dL_law_438 : decode cL_law 438 = .ok (.iconst 1, 1) := dk_4 (dk_at dksL_law_15 20 rfl rfl)
theorem dL_law_439 : decode cL_law 439 = .ok (.iadd, 1) := dk_96 (dk_at dksL_law_15 21 rfl rfl)
theorem dL_law_440 : decode cL_law 440 = .ok (.iaload, 1) := dk_46 (dk_at dksL_law_15 22 rfl rfl)
theorem dL_law_441 : decode cL_law 441 = .ok (.aload_n 0, 1) := dk_42 (dk_at dksL_law_15 23 rfl rfl)
theorem dL_law_442 : decode cL_law 442 = .ok (.iload_n 3, 1) := dk_29 (dk_at dksL_law_16 0 rfl rfl)
theorem dL_law_443 : decode cL_law 443 = .ok (.iconst 2, 1) := dk_5 (dk_at dksL_law_16 1 rfl rfl)
theorem dL_law_444 : decode cL_law 444 = .ok (.iadd, 1) := dk_96 (dk_at dksL_law_16 2 rfl rfl)
theorem dL_law_445 : decode cL_law 445 = .ok (.iaload, 1) := dk_46 (dk_at dksL_law_16 3 rfl rfl)
theorem dL_law_446 : decode cL_law 446 = .ok (.invokevirtual 60, 3) := dk_182 0 60 (dk_at dksL_law_16 4 rfl rfl)
theorem dL_law_449 : decode cL_law 449 = .ok (.aload_n 2, 1) := dk_44 (dk_at dksL_law_16 7 rfl rfl)
theorem dL_law_450 : decode cL_law 450 = .ok (.aload_n 0, 1) := dk_42 (dk_at dksL_law_16 8 rfl rfl)
theorem dL_law_451 : decode cL_law 451 = .ok (.iload_n 3, 1) := dk_29 (dk_at dksL_law_16 9 rfl rfl)
theorem dL_law_452 : decode cL_law 452 = .ok (.iconst 1, 1) := dk_4 (dk_at dksL_law_16 10 rfl rfl)
theorem dL_law_453 : decode cL_law 453 = .ok (.iadd, 1) := dk_96 (dk_at dksL_law_16 11 rfl rfl)
theorem dL_law_454 : decode cL_law 454 = .ok (.iaload, 1) := dk_46 (dk_at dksL_law_16 12 rfl rfl)
theorem dL_law_455 : decode cL_law 455 = .ok (.aload_n 0, 1) := dk_42 (dk_at dksL_law_16 13 rfl rfl)
theorem dL_law_456 : decode cL_law 456 = .ok (.iload_n 3, 1) := dk_29 (dk_at dksL_law_16 14 rfl rfl)
theorem dL_law_457 : decode cL_law 457 = .ok (.iconst 2, 1) := dk_5 (dk_at dksL_law_16 15 rfl rfl)
theorem dL_law_458 : decode cL_law 458 = .ok (.iadd, 1) := dk_96 (dk_at dksL_law_16 16 rfl rfl)
theorem dL_law_459 : decode cL_law 459 = .ok (.iaload, 1) := dk_46 (dk_at dksL_law_16 17 rfl rfl)
theorem dL_law_460 : decode cL_law 460 = .ok (.invokevirtual 63, 3) := dk_182 0 63 (dk_at dksL_law_16 18 rfl rfl)
theorem dL_law_463 : decode cL_law 463 = .ok (.if_icmp .eq 252, 3) := dk_159 0 252 (dk_at dksL_law_16 21 rfl rfl)
theorem dL_law_466 : decode cL_law 466 = .ok (.iconst 0, 1) := dk_3 (dk_at dksL_law_17 0 rfl rfl)
theorem dL_law_467 : decode cL_law 467 = .ok (.ireturn, 1) := dk_172 (dk_at dksL_law_17 1 rfl rfl)
theorem dL_law_468 : decode cL_law 468 = .ok (.aload_n 1, 1) := dk_43 (dk_at dksL_law_17 2 rfl rfl)
theorem dL_law_469 : decode cL_law 469 = .ok (.aload_n 0, 1) := dk_42 (dk_at dksL_law_17 3 rfl rfl)
theorem dL_law_470 : decode cL_law 470 = .ok (.iload_n 3, 1) := dk_29 (dk_at dksL_law_17 4 rfl rfl)
theorem dL_law_471 : decode cL_law 471 = .ok (.iconst 1, 1) := dk_4 (dk_at dksL_law_17 5 rfl rfl)
theorem dL_law_472 : decode cL_law 472 = .ok (.iadd, 1) := dk_96 (dk_at dksL_law_17 6 rfl rfl)
theorem dL_law_473 : decode cL_law 473 = .ok (.iaload, 1) := dk_46 (dk_at dksL_law_17 7 rfl rfl)
theorem dL_law_474 : decode cL_law 474 = .ok (.aload_n 0, 1) := dk_42 (dk_at dksL_law_17 8 rfl rfl)
theorem dL_law_475 : decode cL_law 475 = .ok (.iload_n 3, 1) := dk_29 (dk_at dksL_law_17 9 rfl rfl)
theorem dL_law_476 : decode cL_law 476 = .ok (.iconst 2, 1) := dk_5 (dk_at dksL_law_17 10 rfl rfl)
theorem dL_law_477 : decode cL_law 477 = .ok (.iadd, 1) := dk_96 (dk_at dksL_law_17 11 rfl rfl)
theorem dL_law_478 : decode cL_law 478 = .ok (.iaload, 1) := dk_46 (dk_at dksL_law_17 12 rfl rfl)
theorem dL_law_479 : decode cL_law 479 = .ok (.aload_n 0, 1) := dk_42 (dk_at dksL_law_17 13 rfl rfl)
theorem dL_law_480 : decode cL_law 480 = .ok (.iload_n 3, 1) := dk_29 (dk_at dksL_law_17 14 rfl rfl)
theorem dL_law_481 : decode cL_law 481 = .ok (.iconst 3, 1) := dk_6 (dk_at dksL_law_17 15 rfl rfl)
theorem dL_law_482 : decode cL_law 482 = .ok (.iadd, 1) := dk_96 (dk_at dksL_law_17 16 rfl rfl)
theorem dL_law_483 : decode cL_law 483 = .ok (.iaload, 1) := dk_46 (dk_at dksL_law_17 17 rfl rfl)
theorem dL_law_484 : decode cL_law 484 = .ok (.invokevirtual 64, 3) := dk_182 0 64 (dk_at dksL_law_17 18 rfl rfl)
theorem dL_law_487 : decode cL_law 487 = .ok (.aload_n 2, 1) := dk_44 (dk_at dksL_law_17 21 rfl rfl)
theorem dL_law_488 : decode cL_law 488 = .ok (.aload_n 0, 1) := dk_42 (dk_at dksL_law_17 22 rfl rfl)
theorem dL_law_489 : decode cL_law 489 = .ok (.iload_n 3, 1) := dk_29 (dk_at dksL_law_17 23 rfl rfl)
theorem dL_law_490 : decode cL_law 490 = .ok (.iconst 1, 1) := dk_4 (dk_at dksL_law_18 0 rfl rfl)
theorem dL_law_491 : decode cL_law 491 = .ok (.iadd, 1) := dk_96 (dk_at dksL_law_18 1 rfl rfl)
theorem dL_law_492 : decode cL_law 492 = .ok (.iaload, 1) := dk_46 (dk_at dksL_law_18 2 rfl rfl)
theorem dL_law_493 : decode cL_law 493 = .ok (.aload_n 0, 1) := dk_42 (dk_at dksL_law_18 3 rfl rfl)
theorem dL_law_494 : decode cL_law 494 = .ok (.iload_n 3, 1) := dk_29 (dk_at dksL_law_18 4 rfl rfl)
theorem dL_law_495 : decode cL_law 495 = .ok (.iconst 2, 1) := dk_5 (dk_at dksL_law_18 5 rfl rfl)
theorem dL_law_496 : decode cL_law 496 = .ok (.iadd, 1) := dk_96 (dk_at dksL_law_18 6 rfl rfl)
theorem dL_law_497 : decode cL_law 497 = .ok (.iaload, 1) := dk_46 (dk_at dksL_law_18 7 rfl rfl)
theorem dL_law_498 : decode cL_law 498 = .ok (.aload_n 0, 1) := dk_42 (dk_at dksL_law_18 8 rfl rfl)
theorem dL_law_499 : decode cL_law 499 = .ok (.iload_n 3, 1) := dk_29 (dk_at dksL_law_18 9 rfl rfl)
theorem dL_law_500 : decode cL_law 500 = .ok (.iconst 3, 1) := dk_6 (dk_at dksL_law_18 10 rfl rfl)
theorem dL_law_501 : decode cL_law 501 = .ok (.iadd, 1) := dk_96 (dk_at dksL_law_18 11 rfl rfl)
theorem dL_law_502 : decode cL_law 502 = .ok (.iaload, 1) := dk_46 (dk_at dksL_law_18 12 rfl rfl)
theorem dL_law_503 : decode cL_law 503 = .ok (.invokevirtual 67, 3) := dk_182 0 67 (dk_at dksL_law_18 13 rfl rfl)
theorem dL_law_506 : decode cL_law 506 = .ok (.if_icmp .eq 209, 3) := dk_159 0 209 (dk_at dksL_law_18 16 rfl rfl)
theorem dL_law_509 : decode cL_law 509 = .ok (.iconst 0, 1) := dk_3 (dk_at dksL_law_18 19 rfl rfl)
theorem dL_law_510 : decode cL_law 510 = .ok (.ireturn, 1) := dk_172 (dk_at dksL_law_18 20 rfl rfl)
theorem dL_law_511 : decode cL_law 511 = .ok (.aload_n 1, 1) := dk_43 (dk_at dksL_law_18 21 rfl rfl)
theorem dL_law_512 : decode cL_law 512 = .ok (.aload_n 0, 1) := dk_42 (dk_at dksL_law_18 22 rfl rfl)
theorem dL_law_513 : decode cL_law 513 = .ok (.iload_n 3, 1) := dk_29 (dk_at dksL_law_18 23 rfl rfl)
theorem dL_law_514 : decode cL_law 514 = .ok (.iconst 1, 1) := dk_4 (dk_at dksL_law_19 0 rfl rfl)
theorem dL_law_515 : decode cL_law 515 = .ok (.iadd, 1) := dk_96 (dk_at dksL_law_19 1 rfl rfl)
theorem dL_law_516 : decode cL_law 516 = .ok (.iaload, 1) := dk_46 (dk_at dksL_law_19 2 rfl rfl)
theorem dL_law_517 : decode cL_law 517 = .ok (.aload_n 0, 1) := dk_42 (dk_at dksL_law_19 3 rfl rfl)
theorem dL_law_518 : decode cL_law 518 = .ok (.iload_n 3, 1) := dk_29 (dk_at dksL_law_19 4 rfl rfl)
theorem dL_law_519 : decode cL_law 519 = .ok (.iconst 2, 1) := dk_5 (dk_at dksL_law_19 5 rfl rfl)
theorem dL_law_520 : decode cL_law 520 = .ok (.iadd, 1) := dk_96 (dk_at dksL_law_19 6 rfl rfl)
theorem dL_law_521 : decode cL_law 521 = .ok (.iaload, 1) := dk_46 (dk_at dksL_law_19 7 rfl rfl)
theorem dL_law_522 : decode cL_law 522 = .ok (.invokevirtual 68, 3) := dk_182 0 68 (dk_at dksL_law_19 8 rfl rfl)
theorem dL_law_525 : decode cL_law 525 = .ok (.aload_n 2, 1) := dk_44 (dk_at dksL_law_19 11 rfl rfl)
theorem dL_law_526 : decode cL_law 526 = .ok (.aload_n 0, 1) := dk_42 (dk_at dksL_law_19 12 rfl rfl)
theorem dL_law_527 : decode cL_law 527 = .ok (.iload_n 3, 1) := dk_29 (dk_at dksL_law_19 13 rfl rfl)
theorem dL_law_528 : decode cL_law 528 = .ok (.iconst 1, 1) := dk_4 (dk_at dksL_law_19 14 rfl rfl)
theorem dL_law_529 : decode cL_law 529 = .ok (.iadd, 1) := dk_96 (dk_at dksL_law_19 15 rfl rfl)
theorem dL_law_530 : decode cL_law 530 = .ok (.iaload, 1) := dk_46 (dk_at dksL_law_19 16 rfl rfl)
theorem dL_law_531 : decode cL_law 531 = .ok (.aload_n 0, 1) := dk_42 (dk_at dksL_law_19 17 rfl rfl)
theorem dL_law_532 : decode cL_law 532 = .ok (.iload_n 3, 1) := dk_29 (dk_at dksL_law_19 18 rfl rfl)
theorem dL_law_533 : decode cL_law 533 = .ok (.iconst 2, 1) := dk_5 (dk_at dksL_law_19 19 rfl rfl)
theorem dL_law_534 : decode cL_law 534 = .ok (.iadd, 1) := dk_96 (dk_at dksL_law_19 20 rfl rfl)
theorem dL_law_535 : decode cL_law 535 = .ok (.iaload, 1) := dk_46 (dk_at dksL_law_19 21 rfl rfl)
theorem dL_law_536 : decode cL_law 536 = .ok (.invokevirtual 71, 3) := dk_182 0 71 (dk_at dksL_law_20 0 rfl rfl)
theorem dL_law_539 : decode cL_law 539 = .ok (.if_icmp .eq 176, 3) := dk_159 0 176 (dk_at dksL_law_20 3 rfl rfl)
theorem dL_law_542 : decode cL_law 542 = .ok (.iconst 0, 1) := dk_3 (dk_at dksL_law_20 6 rfl rfl)
theorem dL_law_543 : decode cL_law 543 = .ok (.ireturn, 1) := dk_172 (dk_at dksL_law_20 7 rfl rfl)
theorem dL_law_544 : decode cL_law 544 = .ok (.aload_n 1, 1) := dk_43 (dk_at dksL_law_20 8 rfl rfl)
theorem dL_law_545 : decode cL_law 545 = .ok (.aload_n 0, 1) := dk_42 (dk_at dksL_law_20 9 rfl rfl)
theorem dL_law_546 : decode cL_law 546 = .ok (.iload_n 3, 1) := dk_29 (dk_at dksL_law_20 10 rfl rfl)
theorem dL_law_547 : decode cL_law 547 = .ok (.iconst 1, 1) := dk_4 (dk_at dksL_law_20 11 rfl rfl)
theorem dL_law_548 : decode cL_law 548 = .ok (.iadd, 1) := dk_96 (dk_at dksL_law_20 12 rfl rfl)
theorem dL_law_549 : decode cL_law 549 = .ok (.iaload, 1) := dk_46 (dk_at dksL_law_20 13 rfl rfl)
theorem dL_law_550 : decode cL_law 550 = .ok (.invokevirtual 72, 3) := dk_182 0 72 (dk_at dksL_law_20 14 rfl rfl)
theorem dL_law_553 : decode cL_law 553 = .ok (.aload_n 2, 1) := dk_44 (dk_at dksL_law_20 17 rfl rfl)
theorem dL_law_554 : decode cL_law 554 = .ok (.aload_n 0, 1) := dk_42 (dk_at dksL_law_20 18 rfl rfl)
theorem dL_law_555 : decode cL_law 555 = .ok (.iload_n 3, 1) := dk_29 (dk_at dksL_law_20 19 rfl rfl)
theorem dL_law_556 : decode cL_law 556 = .ok (.iconst 1, 1) := dk_4 (dk_at dksL_law_20 20 rfl rfl)
theorem dL_law_557 : decode cL_law 557 = .ok (.iadd, 1) := dk_96 (dk_at dksL_law_20 21 rfl rfl)
theorem dL_law_558 : decode cL_law 558 = .ok (.iaload, 1) := dk_46 (dk_at dksL_law_20 22 rfl rfl)
theorem dL_law_559 : decode cL_law 559 = .ok (.invokevirtual 75, 3) := dk_182 0 75 (dk_at dksL_law_21 0 rfl rfl)
theorem dL_law_562 : decode cL_law 562 = .ok (.if_icmp .eq 153, 3) := dk_159 0 153 (dk_at dksL_law_21 3 rfl rfl)
theorem dL_law_565 : decode cL_law 565 = .ok (.iconst 0, 1) := dk_3 (dk_at dksL_law_21 6 rfl rfl)
theorem dL_law_566 : decode cL_law 566 = .ok (.ireturn, 1) := dk_172 (dk_at dksL_law_21 7 rfl rfl)
theorem dL_law_567 : decode cL_law 567 = .ok (.aload_n 1, 1) := dk_43 (dk_at dksL_law_21 8 rfl rfl)
theorem dL_law_568 : decode cL_law 568 = .ok (.aload_n 0, 1) := dk_42 (dk_at dksL_law_21 9 rfl rfl)
theorem dL_law_569 : decode cL_law 569 = .ok (.iload_n 3, 1) := dk_29 (dk_at dksL_law_21 10 rfl rfl)
theorem dL_law_570 : decode cL_law 570 = .ok (.iconst 1, 1) := dk_4 (dk_at dksL_law_21 11 rfl rfl)
theorem dL_law_571 : decode cL_law 571 = .ok (.iadd, 1) := dk_96 (dk_at dksL_law_21 12 rfl rfl)
theorem dL_law_572 : decode cL_law 572 = .ok (.iaload, 1) := dk_46 (dk_at dksL_law_21 13 rfl rfl)
theorem dL_law_573 : decode cL_law 573 = .ok (.aload_n 0, 1) := dk_42 (dk_at dksL_law_21 14 rfl rfl)
theorem dL_law_574 : decode cL_law 574 = .ok (.iload_n 3, 1) := dk_29 (dk_at dksL_law_21 15 rfl rfl)
theorem dL_law_575 : decode cL_law 575 = .ok (.iconst 2, 1) := dk_5 (dk_at dksL_law_21 16 rfl rfl)
theorem dL_law_576 : decode cL_law 576 = .ok (.iadd, 1) := dk_96 (dk_at dksL_law_21 17 rfl rfl)
theorem dL_law_577 : decode cL_law 577 = .ok (.iaload, 1) := dk_46 (dk_at dksL_law_21 18 rfl rfl)
theorem dL_law_578 : decode cL_law 578 = .ok (.invokevirtual 76, 3) := dk_182 0 76 (dk_at dksL_law_21 19 rfl rfl)
theorem dL_law_581 : decode cL_law 581 = .ok (.aload_n 2, 1) := dk_44 (dk_at dksL_law_21 22 rfl rfl)
theorem dL_law_582 : decode cL_law 582 = .ok (.aload_n 0, 1) := dk_42 (dk_at dksL_law_21 23 rfl rfl)
theorem dL_law_583 : decode cL_law 583 = .ok (.iload_n 3, 1) := dk_29 (dk_at dksL_law_22 0 rfl rfl)
theorem dL_law_584 : decode cL_law 584 = .ok (.iconst 1, 1) := dk_4 (dk_at dksL_law_22 1 rfl rfl)
theorem dL_law_585 : decode cL_law 585 = .ok (.iadd, 1) := dk_96 (dk_at dksL_law_22 2 rfl rfl)
theorem dL_law_586 : decode cL_law 586 = .ok (.iaload, 1) := dk_46 (dk_at dksL_law_22 3 rfl rfl)
theorem dL_law_587 : decode cL_law 587 = .ok (.aload_n 0, 1) := dk_42 (dk_at dksL_law_22 4 rfl rfl)
theorem dL_law_588 : decode cL_law 588 = .ok (.iload_n 3, 1) := dk_29 (dk_at dksL_law_22 5 rfl rfl)
theorem dL_law_589 : decode cL_law 589 = .ok (.iconst 2, 1) := dk_5 (dk_at dksL_law_22 6 rfl rfl)
theorem dL_law_590 : decode cL_law 590 = .ok (.iadd, 1) := dk_96 (dk_at dksL_law_22 7 rfl rfl)
theorem dL_law_591 : decode cL_law 591 = .ok (.iaload, 1) := dk_46 (dk_at dksL_law_22 8 rfl rfl)
theorem dL_law_592 : decode cL_law 592 = .ok (.invokevirtual 79, 3) := dk_182 0 79 (dk_at dksL_law_22 9 rfl rfl)
theorem dL_law_595 : decode cL_law 595 = .ok (.if_icmp .eq 120, 3) := dk_159 0 120 (dk_at dksL_law_22 12 rfl rfl)
theorem dL_law_598 : decode cL_law 598 = .ok (.iconst 0, 1) := dk_3 (dk_at dksL_law_22 15 rfl rfl)
theorem dL_law_599 : decode cL_law 599 = .ok (.ireturn, 1) := dk_172 (dk_at dksL_law_22 16 rfl rfl)
theorem dL_law_600 : decode cL_law 600 = .ok (.aload_n 1, 1) := dk_43 (dk_at dksL_law_22 17 rfl rfl)
theorem dL_law_601 : decode cL_law 601 = .ok (.aload_n 0, 1) := dk_42 (dk_at dksL_law_22 18 rfl rfl)
theorem dL_law_602 : decode cL_law 602 = .ok (.iload_n 3, 1) := dk_29 (dk_at dksL_law_22 19 rfl rfl)
theorem dL_law_603 : decode cL_law 603 = .ok (.iconst 1, 1) := dk_4 (dk_at dksL_law_22 20 rfl rfl)
theorem dL_law_604 : decode cL_law 604 = .ok (.iadd, 1) := dk_96 (dk_at dksL_law_22 21 rfl rfl)
theorem dL_law_605 : decode cL_law 605 = .ok (.iaload, 1) := dk_46 (dk_at dksL_law_22 22 rfl rfl)
theorem dL_law_606 : decode cL_law 606 = .ok (.aload_n 0, 1) := dk_42 (dk_at dksL_law_22 23 rfl rfl)
theorem dL_law_607 : decode cL_law 607 = .ok (.iload_n 3, 1) := dk_29 (dk_at dksL_law_23 0 rfl rfl)
theorem dL_law_608 : decode cL_law 608 = .ok (.iconst 2, 1) := dk_5 (dk_at dksL_law_23 1 rfl rfl)
theorem dL_law_609 : decode cL_law 609 = .ok (.iadd, 1) := dk_96 (dk_at dksL_law_23 2 rfl rfl)
theorem dL_law_610 : decode cL_law 610 = .ok (.iaload, 1) := dk_46 (dk_at dksL_law_23 3 rfl rfl)
theorem dL_law_611 : decode cL_law 611 = .ok (.invokevirtual 80, 3) := dk_182 0 80 (dk_at dksL_law_23 4 rfl rfl)
theorem dL_law_614 : decode cL_law 614 = .ok (.aload_n 2, 1) := dk_44 (dk_at dksL_law_23 7 rfl rfl)
theorem dL_law_615 : decode cL_law 615 = .ok (.aload_n 0, 1) := dk_42 (dk_at dksL_law_23 8 rfl rfl)
theorem dL_law_616 : decode cL_law 616 = .ok (.iload_n 3, 1) := dk_29 (dk_at dksL_law_23 9 rfl rfl)
theorem dL_law_617 : decode cL_law 617 = .ok (.iconst 1, 1) := dk_4 (dk_at dksL_law_23 10 rfl rfl)
theorem dL_law_618 : decode cL_law 618 = .ok (.iadd, 1) := dk_96 (dk_at dksL_law_23 11 rfl rfl)
theorem dL_law_619 : decode cL_law 619 = .ok (.iaload, 1) := dk_46 (dk_at dksL_law_23 12 rfl rfl)
theorem dL_law_620 : decode cL_law 620 = .ok (.aload_n 0, 1) := dk_42 (dk_at dksL_law_23 13 rfl rfl)
theorem dL_law_621 : decode cL_law 621 = .ok (.iload_n 3, 1) := dk_29 (dk_at dksL_law_23 14 rfl rfl)
theorem dL_law_622 : decode cL_law 622 = .ok (.iconst 2, 1) := dk_5 (dk_at dksL_law_23 15 rfl rfl)
theorem dL_law_623 : decode cL_law 623 = .ok (.iadd, 1) := dk_96 (dk_at dksL_law_23 16 rfl rfl)
theorem dL_law_624 : decode cL_law 624 = .ok (.iaload, 1) := dk_46 (dk_at dksL_law_23 17 rfl rfl)
theorem dL_law_625 : decode cL_law 625 = .ok (.invokevirtual 83, 3) := dk_182 0 83 (dk_at dksL_law_23 18 rfl rfl)
theorem dL_law_628 : decode cL_law 628 = .ok (.if_icmp .eq 87, 3) := dk_159 0 87 (dk_at dksL_law_23 21 rfl rfl)
theorem dL_law_631 : decode cL_law 631 = .ok (.iconst 0, 1) := dk_3 (dk_at dksL_law_24 0 rfl rfl)
theorem dL_law_632 : decode cL_law 632 = .ok (.ireturn, 1) := dk_172 (dk_at dksL_law_24 1 rfl rfl)
theorem dL_law_633 : decode cL_law 633 = .ok (.aload_n 1, 1) := dk_43 (dk_at dksL_law_24 2 rfl rfl)
theorem dL_law_634 : decode cL_law 634 = .ok (.aload_n 0, 1) := dk_42 (dk_at dksL_law_24 3 rfl rfl)
theorem dL_law_635 : decode cL_law 635 = .ok (.iload_n 3, 1) := dk_29 (dk_at dksL_law_24 4 rfl rfl)
theorem dL_law_636 : decode cL_law 636 = .ok (.iconst 1, 1) := dk_4 (dk_at dksL_law_24 5 rfl rfl)
theorem dL_law_637 : decode cL_law 637 = .ok (.iadd, 1) := dk_96 (dk_at dksL_law_24 6 rfl rfl)
theorem dL_law_638 : decode cL_law 638 = .ok (.iaload, 1) := dk_46 (dk_at dksL_law_24 7 rfl rfl)
theorem dL_law_639 : decode cL_law 639 = .ok (.aload_n 0, 1) := dk_42 (dk_at dksL_law_24 8 rfl rfl)
theorem dL_law_640 : decode cL_law 640 = .ok (.iload_n 3, 1) := dk_29 (dk_at dksL_law_24 9 rfl rfl)
theorem dL_law_641 : decode cL_law 641 = .ok (.iconst 2, 1) := dk_5 (dk_at dksL_law_24 10 rfl rfl)
theorem dL_law_642 : decode cL_law 642 = .ok (.iadd, 1) := dk_96 (dk_at dksL_law_24 11 rfl rfl)
theorem dL_law_643 : decode cL_law 643 = .ok (.iaload, 1) := dk_46 (dk_at dksL_law_24 12 rfl rfl)
theorem dL_law_644 : decode cL_law 644 = .ok (.invokevirtual 84, 3) := dk_182 0 84 (dk_at dksL_law_24 13 rfl rfl)
theorem dL_law_647 : decode cL_law 647 = .ok (.aload_n 2, 1) := dk_44 (dk_at dksL_law_24 16 rfl rfl)
theorem dL_law_648 : decode cL_law 648 = .ok (.aload_n 0, 1) := dk_42 (dk_at dksL_law_24 17 rfl rfl)
theorem dL_law_649 : decode cL_law 649 = .ok (.iload_n 3, 1) := dk_29 (dk_at dksL_law_24 18 rfl rfl)
theorem dL_law_650 : decode cL_law 650 = .ok (.iconst 1, 1) := dk_4 (dk_at dksL_law_24 19 rfl rfl)
theorem dL_law_651 : decode cL_law 651 = .ok (.iadd, 1) := dk_96 (dk_at dksL_law_24 20 rfl rfl)
theorem dL_law_652 : decode cL_law 652 = .ok (.iaload, 1) := dk_46 (dk_at dksL_law_24 21 rfl rfl)
theorem dL_law_653 : decode cL_law 653 = .ok (.aload_n 0, 1) := dk_42 (dk_at dksL_law_24 22 rfl rfl)
theorem dL_law_654 : decode cL_law 654 = .ok (.iload_n 3, 1) := dk_29 (dk_at dksL_law_24 23 rfl rfl)
theorem dL_law_655 : decode cL_law 655 = .ok (.iconst 2, 1) := dk_5 (dk_at dksL_law_25 0 rfl rfl)
theorem dL_law_656 : decode cL_law 656 = .ok (.iadd, 1) := dk_96 (dk_at dksL_law_25 1 rfl rfl)
theorem dL_law_657 : decode cL_law 657 = .ok (.iaload, 1) := dk_46 (dk_at dksL_law_25 2 rfl rfl)
theorem dL_law_658 : decode cL_law 658 = .ok (.invokevirtual 87, 3) := dk_182 0 87 (dk_at dksL_law_25 3 rfl rfl)
theorem dL_law_661 : decode cL_law 661 = .ok (.if_icmp .eq 54, 3) := dk_159 0 54 (dk_at dksL_law_25 6 rfl rfl)
theorem dL_law_664 : decode cL_law 664 = .ok (.iconst 0, 1) := dk_3 (dk_at dksL_law_25 9 rfl rfl)
theorem dL_law_665 : decode cL_law 665 = .ok (.ireturn, 1) := dk_172 (dk_at dksL_law_25 10 rfl rfl)
theorem dL_law_666 : decode cL_law 666 = .ok (.aload_n 1, 1) := dk_43 (dk_at dksL_law_25 11 rfl rfl)
theorem dL_law_667 : decode cL_law 667 = .ok (.invokevirtual 88, 3) := dk_182 0 88 (dk_at dksL_law_25 12 rfl rfl)
theorem dL_law_670 : decode cL_law 670 = .ok (.aload_n 2, 1) := dk_44 (dk_at dksL_law_25 15 rfl rfl)
theorem dL_law_671 : decode cL_law 671 = .ok (.invokevirtual 92, 3) := dk_182 0 92 (dk_at dksL_law_25 16 rfl rfl)
theorem dL_law_674 : decode cL_law 674 = .ok (.if_icmp .eq 41, 3) := dk_159 0 41 (dk_at dksL_law_25 19 rfl rfl)
theorem dL_law_677 : decode cL_law 677 = .ok (.iconst 0, 1) := dk_3 (dk_at dksL_law_25 22 rfl rfl)
theorem dL_law_678 : decode cL_law 678 = .ok (.ireturn, 1) := dk_172 (dk_at dksL_law_25 23 rfl rfl)
theorem dL_law_679 : decode cL_law 679 = .ok (.aload_n 1, 1) := dk_43 (dk_at dksL_law_26 0 rfl rfl)
theorem dL_law_680 : decode cL_law 680 = .ok (.invokevirtual 93, 3) := dk_182 0 93 (dk_at dksL_law_26 1 rfl rfl)
theorem dL_law_683 : decode cL_law 683 = .ok (.aload_n 2, 1) := dk_44 (dk_at dksL_law_26 4 rfl rfl)
theorem dL_law_684 : decode cL_law 684 = .ok (.invokevirtual 96, 3) := dk_182 0 96 (dk_at dksL_law_26 5 rfl rfl)
theorem dL_law_687 : decode cL_law 687 = .ok (.if_icmp .eq 28, 3) := dk_159 0 28 (dk_at dksL_law_26 8 rfl rfl)
theorem dL_law_690 : decode cL_law 690 = .ok (.iconst 0, 1) := dk_3 (dk_at dksL_law_26 11 rfl rfl)
theorem dL_law_691 : decode cL_law 691 = .ok (.ireturn, 1) := dk_172 (dk_at dksL_law_26 12 rfl rfl)
theorem dL_law_692 : decode cL_law 692 = .ok (.aload_n 1, 1) := dk_43 (dk_at dksL_law_26 13 rfl rfl)
theorem dL_law_693 : decode cL_law 693 = .ok (.aload_n 0, 1) := dk_42 (dk_at dksL_law_26 14 rfl rfl)
theorem dL_law_694 : decode cL_law 694 = .ok (.iload_n 3, 1) := dk_29 (dk_at dksL_law_26 15 rfl rfl)
theorem dL_law_695 : decode cL_law 695 = .ok (.iconst 1, 1) := dk_4 (dk_at dksL_law_26 16 rfl rfl)
theorem dL_law_696 : decode cL_law 696 = .ok (.iadd, 1) := dk_96 (dk_at dksL_law_26 17 rfl rfl)
theorem dL_law_697 : decode cL_law 697 = .ok (.iaload, 1) := dk_46 (dk_at dksL_law_26 18 rfl rfl)
theorem dL_law_698 : decode cL_law 698 = .ok (.invokevirtual 97, 3) := dk_182 0 97 (dk_at dksL_law_26 19 rfl rfl)
theorem dL_law_701 : decode cL_law 701 = .ok (.aload_n 2, 1) := dk_44 (dk_at dksL_law_26 22 rfl rfl)
theorem dL_law_702 : decode cL_law 702 = .ok (.aload_n 0, 1) := dk_42 (dk_at dksL_law_26 23 rfl rfl)
theorem dL_law_703 : decode cL_law 703 = .ok (.iload_n 3, 1) := dk_29 (dk_at dksL_law_27 0 rfl rfl)
theorem dL_law_704 : decode cL_law 704 = .ok (.iconst 1, 1) := dk_4 (dk_at dksL_law_27 1 rfl rfl)
theorem dL_law_705 : decode cL_law 705 = .ok (.iadd, 1) := dk_96 (dk_at dksL_law_27 2 rfl rfl)
theorem dL_law_706 : decode cL_law 706 = .ok (.iaload, 1) := dk_46 (dk_at dksL_law_27 3 rfl rfl)
theorem dL_law_707 : decode cL_law 707 = .ok (.invokevirtual 100, 3) := dk_182 0 100 (dk_at dksL_law_27 4 rfl rfl)
theorem dL_law_710 : decode cL_law 710 = .ok (.if_icmp .eq 5, 3) := dk_159 0 5 (dk_at dksL_law_27 7 rfl rfl)
theorem dL_law_713 : decode cL_law 713 = .ok (.iconst 0, 1) := dk_3 (dk_at dksL_law_27 10 rfl rfl)
theorem dL_law_714 : decode cL_law 714 = .ok (.ireturn, 1) := dk_172 (dk_at dksL_law_27 11 rfl rfl)
theorem dL_law_715 : decode cL_law 715 = .ok (.iinc 3 4, 3) := dk_132 3 4 (dk_at dksL_law_27 12 rfl rfl)
theorem dL_law_718 : decode cL_law 718 = .ok (.goto (-700), 3) := dk_167 253 68 (dk_at dksL_law_27 15 rfl rfl)
theorem dL_law_721 : decode cL_law 721 = .ok (.iconst 1, 1) := dk_4 (dk_at dksL_law_27 18 rfl rfl)
theorem dL_law_722 : decode cL_law 722 = .ok (.ireturn, 1) := dk_172 (dk_at dksL_law_27 19 rfl rfl)
section LAWW
variable {D : va_G} {dA : Nat → ClassId} {K : Nat → Nat} {p : Program} {l : Launch} {e : Env} {s : State} {m : MethodId} {below : List Frame} {meth : Method} {c : Code} {Q : State → Prop} {b L xa : Nat} {xs : Nat → Int32} {ad : Nat → Nat} {Inv : Nat → gw → TS → Prop} {k pc : Nat} {w : gw} {σ : TS} {i : Int32} {lv : List (Nat × gv)} {st : List gv}
abbrev lA (s : State) : Nat → Prop := fun q => s.heap.size ≤ q
theorem j_sld (C : gC D dA (lA s) K p room_1 s m #[.ref b] meth c cL_law 4 "WorkflowEngineLaw" 200) (hX : va_X b L xs s s.heap) (hbl : b < s.heap.size) {j : Int32} (hin : vp_in j L) (d : decode cL_law pc = .ok (.iaload, 1)) (kk : gJ D dA (lA s) K p l e room_1 s m #[.ref b] below meth c Q 4 (pc + 1) lv (gi (xs j.toNatClampNeg) :: st) w) : gJ D dA (lA s) K p l e room_1 s m #[.ref b] below meth c Q 4 pc lv (gi j :: ga (some b) :: st) w :=
  fun H locs ls h1 h2 h3 h4 cells slots => va_sld C.1 C.2.1 hX hbl (Nat.not_le_of_lt hbl) h2 hin d (kk H locs ls h1 h2 h3 h4 cells slots)
theorem j_slen (C : gC D dA (lA s) K p room_1 s m #[.ref b] meth c cL_law 4 "WorkflowEngineLaw" 200) (hX : va_X b L xs s s.heap) (hbl : b < s.heap.size) (d : decode cL_law pc = .ok (.arraylength, 1)) (kk : gJ D dA (lA s) K p l e room_1 s m #[.ref b] below meth c Q 4 (pc + 1) lv (gi (Int32.ofNat L) :: st) w) : gJ D dA (lA s) K p l e room_1 s m #[.ref b] below meth c Q 4 pc lv (ga (some b) :: st) w :=
  fun H locs ls h1 h2 h3 h4 cells slots => va_slen C.1 C.2.1 hX hbl (Nat.not_le_of_lt hbl) h2 d (kk H locs ls h1 h2 h3 h4 cells slots)
theorem hl_X0_feed : (parseMethodDescriptor yX0_feed.desc).map (fun d => d.parameters.length) = some 1 := by decide +kernel
theorem hl_X2_feed : (parseMethodDescriptor yX2_feed.desc).map (fun d => d.parameters.length) = some 1 := by decide +kernel
theorem law_case_0 (C : gC D dA (lA s) K p room_1 s m #[.ref b] meth c cL_law 4 "WorkflowEngineLaw" 200) (hI : LawInv xa ad Inv) (hX : va_X b L xs s s.heap) (hbl : b < s.heap.size) (hinv : Inv (k + 1) w σ) (hi : ∀ a : Nat, a < 4 → vp_in (i + nI a) L) (kk : ∀ w1 σ1, Inv k w1 σ1 → gJ D dA (lA s) K p l e room_1 s m #[.ref b] below meth c Q 4 715 [(3, gi i), (2, ga (some (ad 0))), (1, ga (some xa)), (0, ga (some b))] [] w1) : gJ D dA (lA s) K p l e room_1 s m #[.ref b] below meth c Q 4 132 [(3, gi i), (2, ga (some (ad 0))), (1, ga (some xa)), (0, ga (some b))] [] w := by
  obtain ⟨r, w', σ', hc, ht, hw', hinv'⟩ := hI.2.2.2.1 0 (by decide) k (xs (i + nI 1).toNatClampNeg) (xs (i + nI 2).toNatClampNeg) (xs (i + nI 3).toNatClampNeg) w σ hinv
  have he := hI.2.1 _ _ _ hinv
  have hc : f_X0_feed xa (xs (i + nI 1).toNatClampNeg) w = some (r, w') := hc
  have ht : t_X2_feed (xs (i + nI 1).toNatClampNeg) σ = some (r, σ') := ht
  refine j_aload_n C dL_law_132 rfl ?_
  refine j_aload_n C dL_law_133 rfl ?_
  refine j_iload_n C dL_law_134 rfl ?_
  refine j_iconst (v := nI 1) C dL_law_135 (by decide) ?_
  refine j_iadd C dL_law_136 ?_
  refine j_sld C hX hbl (hi 1 (by decide)) dL_law_137 ?_
  refine j_callV (As := [(gi (xs (i + nI 1).toNatClampNeg))]) (rest := []) (v := some (gi r)) C (by decide) (k_X0_feed (by decide) hc) he rfl q134 q135 q136 q91 q137 ⟨rfl, by decide +kernel, by decide +kernel, hl_X0_feed⟩ (by decide) rfl (Nat.le_of_ble_eq_true rfl) dL_law_138 ?_
  refine j_eqw hw' ?_
  refine j_aload_n C dL_law_141 rfl ?_
  refine j_aload_n C dL_law_142 rfl ?_
  refine j_iload_n C dL_law_143 rfl ?_
  refine j_iconst (v := nI 1) C dL_law_144 (by decide) ?_
  refine j_iadd C dL_law_145 ?_
  refine j_sld C hX hbl (hi 1 (by decide)) dL_law_146 ?_
  refine j_callV (As := [(gi (xs (i + nI 1).toNatClampNeg))]) (rest := [gi r]) (v := some (gi r)) C (by decide) (kt_X2_feed hI.1 (by decide) ht) (tw_cls hI.1) rfl q1658 q1659 q1660 q93 q1661 ⟨rfl, by decide +kernel, by decide +kernel, hl_X2_feed⟩ (by decide) rfl (Nat.le_of_ble_eq_true rfl) dL_law_147 ?_
  exact j_icmp_eq (tgt := 715) C dL_law_150 (by decide) (fun _ => kk _ _ hinv') (fun z => absurd rfl z)
theorem hl_X0_define : (parseMethodDescriptor yX0_define.desc).map (fun d => d.parameters.length) = some 1 := by decide +kernel
theorem hl_X2_define : (parseMethodDescriptor yX2_define.desc).map (fun d => d.parameters.length) = some 1 := by decide +kernel
theorem law_case_1 (C : gC D dA (lA s) K p room_1 s m #[.ref b] meth c cL_law 4 "WorkflowEngineLaw" 200) (hI : LawInv xa ad Inv) (hX : va_X b L xs s s.heap) (hbl : b < s.heap.size) (hinv : Inv (k + 1) w σ) (hi : ∀ a : Nat, a < 4 → vp_in (i + nI a) L) (kk : ∀ w1 σ1, Inv k w1 σ1 → gJ D dA (lA s) K p l e room_1 s m #[.ref b] below meth c Q 4 715 [(3, gi i), (2, ga (some (ad 0))), (1, ga (some xa)), (0, ga (some b))] [] w1) : gJ D dA (lA s) K p l e room_1 s m #[.ref b] below meth c Q 4 155 [(3, gi i), (2, ga (some (ad 0))), (1, ga (some xa)), (0, ga (some b))] [] w := by
  obtain ⟨r, w', σ', hc, ht, hw', hinv'⟩ := hI.2.2.2.1 1 (by decide) k (xs (i + nI 1).toNatClampNeg) (xs (i + nI 2).toNatClampNeg) (xs (i + nI 3).toNatClampNeg) w σ hinv
  have he := hI.2.1 _ _ _ hinv
  have hc : f_X0_define xa (xs (i + nI 1).toNatClampNeg) w = some (.inr r, w') := by
    have h9 : (match f_X0_define xa (xs (i + nI 1).toNatClampNeg) w with | some (.inr r, w1) => some (r, w1) | _ => none) = some (r, w') := hc
    split at h9
    · rename_i r0 w0 e0
      obtain ⟨rfl, rfl⟩ := gSome h9
      exact e0
    · cases h9
  have ht : t_X2_define (xs (i + nI 1).toNatClampNeg) σ = some (r, σ') := ht
  refine j_aload_n C dL_law_155 rfl ?_
  refine j_aload_n C dL_law_156 rfl ?_
  refine j_iload_n C dL_law_157 rfl ?_
  refine j_iconst (v := nI 1) C dL_law_158 (by decide) ?_
  refine j_iadd C dL_law_159 ?_
  refine j_sld C hX hbl (hi 1 (by decide)) dL_law_160 ?_
  refine x_callW_r (As := [(gi (xs (i + nI 1).toNatClampNeg))]) (rest := []) (v := some (gi r)) C (by decide) (k_X0_define (by decide) hc) he rfl q141 q142 q143 q91 q144 ⟨rfl, by decide +kernel, by decide +kernel, hl_X0_define⟩ (by decide) rfl (Nat.le_of_ble_eq_true rfl) dL_law_161 ?_
  refine j_eqw hw' ?_
  refine j_aload_n C dL_law_164 rfl ?_
  refine j_aload_n C dL_law_165 rfl ?_
  refine j_iload_n C dL_law_166 rfl ?_
  refine j_iconst (v := nI 1) C dL_law_167 (by decide) ?_
  refine j_iadd C dL_law_168 ?_
  refine j_sld C hX hbl (hi 1 (by decide)) dL_law_169 ?_
  refine j_callV (As := [(gi (xs (i + nI 1).toNatClampNeg))]) (rest := [gi r]) (v := some (gi r)) C (by decide) (kt_X2_define hI.1 (by decide) ht) (tw_cls hI.1) rfl q1665 q1666 q1667 q93 q1668 ⟨rfl, by decide +kernel, by decide +kernel, hl_X2_define⟩ (by decide) rfl (Nat.le_of_ble_eq_true rfl) dL_law_170 ?_
  exact j_icmp_eq (tgt := 715) C dL_law_173 (by decide) (fun _ => kk _ _ hinv') (fun z => absurd rfl z)
theorem hl_X0_wrong : (parseMethodDescriptor yX0_wrong.desc).map (fun d => d.parameters.length) = some 1 := by decide +kernel
theorem hl_X2_wrong : (parseMethodDescriptor yX2_wrong.desc).map (fun d => d.parameters.length) = some 1 := by decide +kernel
theorem law_case_2 (C : gC D dA (lA s) K p room_1 s m #[.ref b] meth c cL_law 4 "WorkflowEngineLaw" 200) (hI : LawInv xa ad Inv) (hX : va_X b L xs s s.heap) (hbl : b < s.heap.size) (hinv : Inv (k + 1) w σ) (hi : ∀ a : Nat, a < 4 → vp_in (i + nI a) L) (kk : ∀ w1 σ1, Inv k w1 σ1 → gJ D dA (lA s) K p l e room_1 s m #[.ref b] below meth c Q 4 715 [(3, gi i), (2, ga (some (ad 0))), (1, ga (some xa)), (0, ga (some b))] [] w1) : gJ D dA (lA s) K p l e room_1 s m #[.ref b] below meth c Q 4 178 [(3, gi i), (2, ga (some (ad 0))), (1, ga (some xa)), (0, ga (some b))] [] w := by
  obtain ⟨r, w', σ', hc, ht, hw', hinv'⟩ := hI.2.2.2.1 2 (by decide) k (xs (i + nI 1).toNatClampNeg) (xs (i + nI 2).toNatClampNeg) (xs (i + nI 3).toNatClampNeg) w σ hinv
  have he := hI.2.1 _ _ _ hinv
  have hc : f_X0_wrong xa (xs (i + nI 1).toNatClampNeg) w = some (r, w') := hc
  have ht : t_X2_wrong (xs (i + nI 1).toNatClampNeg) σ = some (r, σ') := ht
  refine j_aload_n C dL_law_178 rfl ?_
  refine j_aload_n C dL_law_179 rfl ?_
  refine j_iload_n C dL_law_180 rfl ?_
  refine j_iconst (v := nI 1) C dL_law_181 (by decide) ?_
  refine j_iadd C dL_law_182 ?_
  refine j_sld C hX hbl (hi 1 (by decide)) dL_law_183 ?_
  refine j_callV (As := [(gi (xs (i + nI 1).toNatClampNeg))]) (rest := []) (v := some (gi r)) C (by decide) (k_X0_wrong (by decide) hc) he rfl q619 q620 q621 q91 q622 ⟨rfl, by decide +kernel, by decide +kernel, hl_X0_wrong⟩ (by decide) rfl (Nat.le_of_ble_eq_true rfl) dL_law_184 ?_
  refine j_eqw hw' ?_
  refine j_aload_n C dL_law_187 rfl ?_
  refine j_aload_n C dL_law_188 rfl ?_
  refine j_iload_n C dL_law_189 rfl ?_
  refine j_iconst (v := nI 1) C dL_law_190 (by decide) ?_
  refine j_iadd C dL_law_191 ?_
  refine j_sld C hX hbl (hi 1 (by decide)) dL_law_192 ?_
  refine j_callV (As := [(gi (xs (i + nI 1).toNatClampNeg))]) (rest := [gi r]) (v := some (gi r)) C (by decide) (kt_X2_wrong hI.1 (by decide) ht) (tw_cls hI.1) rfl q1751 q1752 q1753 q93 q1754 ⟨rfl, by decide +kernel, by decide +kernel, hl_X2_wrong⟩ (by decide) rfl (Nat.le_of_ble_eq_true rfl) dL_law_193 ?_
  exact j_icmp_eq (tgt := 715) C dL_law_196 (by decide) (fun _ => kk _ _ hinv') (fun z => absurd rfl z)
theorem hl_X0_version : (parseMethodDescriptor yX0_version.desc).map (fun d => d.parameters.length) = some 3 := by decide +kernel
theorem hl_X2_version : (parseMethodDescriptor yX2_version.desc).map (fun d => d.parameters.length) = some 3 := by decide +kernel
theorem law_case_3 (C : gC D dA (lA s) K p room_1 s m #[.ref b] meth c cL_law 4 "WorkflowEngineLaw" 200) (hI : LawInv xa ad Inv) (hX : va_X b L xs s s.heap) (hbl : b < s.heap.size) (hinv : Inv (k + 1) w σ) (hi : ∀ a : Nat, a < 4 → vp_in (i + nI a) L) (kk : ∀ w1 σ1, Inv k w1 σ1 → gJ D dA (lA s) K p l e room_1 s m #[.ref b] below meth c Q 4 715 [(3, gi i), (2, ga (some (ad 0))), (1, ga (some xa)), (0, ga (some b))] [] w1) : gJ D dA (lA s) K p l e room_1 s m #[.ref b] below meth c Q 4 201 [(3, gi i), (2, ga (some (ad 0))), (1, ga (some xa)), (0, ga (some b))] [] w := by
  obtain ⟨r, w', σ', hc, ht, hw', hinv'⟩ := hI.2.2.2.1 3 (by decide) k (xs (i + nI 1).toNatClampNeg) (xs (i + nI 2).toNatClampNeg) (xs (i + nI 3).toNatClampNeg) w σ hinv
  have he := hI.2.1 _ _ _ hinv
  have hc : f_X0_version xa (xs (i + nI 1).toNatClampNeg) (xs (i + nI 2).toNatClampNeg) (xs (i + nI 3).toNatClampNeg) w = some (r, w') := hc
  have ht : t_X2_version (xs (i + nI 1).toNatClampNeg) (xs (i + nI 2).toNatClampNeg) (xs (i + nI 3).toNatClampNeg) σ = some (r, σ') := ht
  refine j_aload_n C dL_law_201 rfl ?_
  refine j_aload_n C dL_law_202 rfl ?_
  refine j_iload_n C dL_law_203 rfl ?_
  refine j_iconst (v := nI 1) C dL_law_204 (by decide) ?_
  refine j_iadd C dL_law_205 ?_
  refine j_sld C hX hbl (hi 1 (by decide)) dL_law_206 ?_
  refine j_aload_n C dL_law_207 rfl ?_
  refine j_iload_n C dL_law_208 rfl ?_
  refine j_iconst (v := nI 2) C dL_law_209 (by decide) ?_
  refine j_iadd C dL_law_210 ?_
  refine j_sld C hX hbl (hi 2 (by decide)) dL_law_211 ?_
  refine j_aload_n C dL_law_212 rfl ?_
  refine j_iload_n C dL_law_213 rfl ?_
  refine j_iconst (v := nI 3) C dL_law_214 (by decide) ?_
  refine j_iadd C dL_law_215 ?_
  refine j_sld C hX hbl (hi 3 (by decide)) dL_law_216 ?_
  refine j_callV (As := [(gi (xs (i + nI 1).toNatClampNeg)), (gi (xs (i + nI 2).toNatClampNeg)), (gi (xs (i + nI 3).toNatClampNeg))]) (rest := []) (v := some (gi r)) C (by decide) (k_X0_version (by decide) hc) he rfl q627 q628 q629 q91 q630 ⟨rfl, by decide +kernel, by decide +kernel, hl_X0_version⟩ (by decide) rfl (Nat.le_of_ble_eq_true rfl) dL_law_217 ?_
  refine j_eqw hw' ?_
  refine j_aload_n C dL_law_220 rfl ?_
  refine j_aload_n C dL_law_221 rfl ?_
  refine j_iload_n C dL_law_222 rfl ?_
  refine j_iconst (v := nI 1) C dL_law_223 (by decide) ?_
  refine j_iadd C dL_law_224 ?_
  refine j_sld C hX hbl (hi 1 (by decide)) dL_law_225 ?_
  refine j_aload_n C dL_law_226 rfl ?_
  refine j_iload_n C dL_law_227 rfl ?_
  refine j_iconst (v := nI 2) C dL_law_228 (by decide) ?_
  refine j_iadd C dL_law_229 ?_
  refine j_sld C hX hbl (hi 2 (by decide)) dL_law_230 ?_
  refine j_aload_n C dL_law_231 rfl ?_
  refine j_iload_n C dL_law_232 rfl ?_
  refine j_iconst (v := nI 3) C dL_law_233 (by decide) ?_
  refine j_iadd C dL_law_234 ?_
  refine j_sld C hX hbl (hi 3 (by decide)) dL_law_235 ?_
  refine j_callV (As := [(gi (xs (i + nI 1).toNatClampNeg)), (gi (xs (i + nI 2).toNatClampNeg)), (gi (xs (i + nI 3).toNatClampNeg))]) (rest := [gi r]) (v := some (gi r)) C (by decide) (kt_X2_version hI.1 (by decide) ht) (tw_cls hI.1) rfl q1755 q1756 q1757 q93 q1758 ⟨rfl, by decide +kernel, by decide +kernel, hl_X2_version⟩ (by decide) rfl (Nat.le_of_ble_eq_true rfl) dL_law_236 ?_
  exact j_icmp_eq (tgt := 715) C dL_law_239 (by decide) (fun _ => kk _ _ hinv') (fun z => absurd rfl z)
theorem hl_X0_duration : (parseMethodDescriptor yX0_duration.desc).map (fun d => d.parameters.length) = some 2 := by decide +kernel
theorem hl_X2_duration : (parseMethodDescriptor yX2_duration.desc).map (fun d => d.parameters.length) = some 2 := by decide +kernel
theorem law_case_4 (C : gC D dA (lA s) K p room_1 s m #[.ref b] meth c cL_law 4 "WorkflowEngineLaw" 200) (hI : LawInv xa ad Inv) (hX : va_X b L xs s s.heap) (hbl : b < s.heap.size) (hinv : Inv (k + 1) w σ) (hi : ∀ a : Nat, a < 4 → vp_in (i + nI a) L) (kk : ∀ w1 σ1, Inv k w1 σ1 → gJ D dA (lA s) K p l e room_1 s m #[.ref b] below meth c Q 4 715 [(3, gi i), (2, ga (some (ad 0))), (1, ga (some xa)), (0, ga (some b))] [] w1) : gJ D dA (lA s) K p l e room_1 s m #[.ref b] below meth c Q 4 244 [(3, gi i), (2, ga (some (ad 0))), (1, ga (some xa)), (0, ga (some b))] [] w := by
  obtain ⟨r, w', σ', hc, ht, hw', hinv'⟩ := hI.2.2.2.1 4 (by decide) k (xs (i + nI 1).toNatClampNeg) (xs (i + nI 2).toNatClampNeg) (xs (i + nI 3).toNatClampNeg) w σ hinv
  have he := hI.2.1 _ _ _ hinv
  have hc : f_X0_duration xa (xs (i + nI 1).toNatClampNeg) (xs (i + nI 2).toNatClampNeg) w = some (r, w') := hc
  have ht : t_X2_duration (xs (i + nI 1).toNatClampNeg) (xs (i + nI 2).toNatClampNeg) σ = some (r, σ') := ht
  refine j_aload_n C dL_law_244 rfl ?_
  refine j_aload_n C dL_law_245 rfl ?_
  refine j_iload_n C dL_law_246 rfl ?_
  refine j_iconst (v := nI 1) C dL_law_247 (by decide) ?_
  refine j_iadd C dL_law_248 ?_
  refine j_sld C hX hbl (hi 1 (by decide)) dL_law_249 ?_
  refine j_aload_n C dL_law_250 rfl ?_
  refine j_iload_n C dL_law_251 rfl ?_
  refine j_iconst (v := nI 2) C dL_law_252 (by decide) ?_
  refine j_iadd C dL_law_253 ?_
  refine j_sld C hX hbl (hi 2 (by decide)) dL_law_254 ?_
  refine j_callV (As := [(gi (xs (i + nI 1).toNatClampNeg)), (gi (xs (i + nI 2).toNatClampNeg))]) (rest := []) (v := some (gi r)) C (by decide) (k_X0_duration (by decide) hc) he rfl q708 q709 q710 q91 q711 ⟨rfl, by decide +kernel, by decide +kernel, hl_X0_duration⟩ (by decide) rfl (Nat.le_of_ble_eq_true rfl) dL_law_255 ?_
  refine j_eqw hw' ?_
  refine j_aload_n C dL_law_258 rfl ?_
  refine j_aload_n C dL_law_259 rfl ?_
  refine j_iload_n C dL_law_260 rfl ?_
  refine j_iconst (v := nI 1) C dL_law_261 (by decide) ?_
  refine j_iadd C dL_law_262 ?_
  refine j_sld C hX hbl (hi 1 (by decide)) dL_law_263 ?_
  refine j_aload_n C dL_law_264 rfl ?_
  refine j_iload_n C dL_law_265 rfl ?_
  refine j_iconst (v := nI 2) C dL_law_266 (by decide) ?_
  refine j_iadd C dL_law_267 ?_
  refine j_sld C hX hbl (hi 2 (by decide)) dL_law_268 ?_
  refine j_callV (As := [(gi (xs (i + nI 1).toNatClampNeg)), (gi (xs (i + nI 2).toNatClampNeg))]) (rest := [gi r]) (v := some (gi r)) C (by decide) (kt_X2_duration hI.1 (by decide) ht) (tw_cls hI.1) rfl q1779 q1780 q1781 q93 q1782 ⟨rfl, by decide +kernel, by decide +kernel, hl_X2_duration⟩ (by decide) rfl (Nat.le_of_ble_eq_true rfl) dL_law_269 ?_
  exact j_icmp_eq (tgt := 715) C dL_law_272 (by decide) (fun _ => kk _ _ hinv') (fun z => absurd rfl z)
theorem hl_X0_failures : (parseMethodDescriptor yX0_failures.desc).map (fun d => d.parameters.length) = some 2 := by decide +kernel
theorem hl_X2_failures : (parseMethodDescriptor yX2_failures.desc).map (fun d => d.parameters.length) = some 2 := by decide +kernel
theorem law_case_5 (C : gC D dA (lA s) K p room_1 s m #[.ref b] meth c cL_law 4 "WorkflowEngineLaw" 200) (hI : LawInv xa ad Inv) (hX : va_X b L xs s s.heap) (hbl : b < s.heap.size) (hinv : Inv (k + 1) w σ) (hi : ∀ a : Nat, a < 4 → vp_in (i + nI a) L) (kk : ∀ w1 σ1, Inv k w1 σ1 → gJ D dA (lA s) K p l e room_1 s m #[.ref b] below meth c Q 4 715 [(3, gi i), (2, ga (some (ad 0))), (1, ga (some xa)), (0, ga (some b))] [] w1) : gJ D dA (lA s) K p l e room_1 s m #[.ref b] below meth c Q 4 277 [(3, gi i), (2, ga (some (ad 0))), (1, ga (some xa)), (0, ga (some b))] [] w := by
  obtain ⟨r, w', σ', hc, ht, hw', hinv'⟩ := hI.2.2.2.1 5 (by decide) k (xs (i + nI 1).toNatClampNeg) (xs (i + nI 2).toNatClampNeg) (xs (i + nI 3).toNatClampNeg) w σ hinv
  have he := hI.2.1 _ _ _ hinv
  have hc : f_X0_failures xa (xs (i + nI 1).toNatClampNeg) (xs (i + nI 2).toNatClampNeg) w = some (r, w') := hc
  have ht : t_X2_failures (xs (i + nI 1).toNatClampNeg) (xs (i + nI 2).toNatClampNeg) σ = some (r, σ') := ht
  refine j_aload_n C dL_law_277 rfl ?_
  refine j_aload_n C dL_law_278 rfl ?_
  refine j_iload_n C dL_law_279 rfl ?_
  refine j_iconst (v := nI 1) C dL_law_280 (by decide) ?_
  refine j_iadd C dL_law_281 ?_
  refine j_sld C hX hbl (hi 1 (by decide)) dL_law_282 ?_
  refine j_aload_n C dL_law_283 rfl ?_
  refine j_iload_n C dL_law_284 rfl ?_
  refine j_iconst (v := nI 2) C dL_law_285 (by decide) ?_
  refine j_iadd C dL_law_286 ?_
  refine j_sld C hX hbl (hi 2 (by decide)) dL_law_287 ?_
  refine j_callV (As := [(gi (xs (i + nI 1).toNatClampNeg)), (gi (xs (i + nI 2).toNatClampNeg))]) (rest := []) (v := some (gi r)) C (by decide) (k_X0_failures (by decide) hc) he rfl q715 q716 q717 q91 q718 ⟨rfl, by decide +kernel, by decide +kernel, hl_X0_failures⟩ (by decide) rfl (Nat.le_of_ble_eq_true rfl) dL_law_288 ?_
  refine j_eqw hw' ?_
  refine j_aload_n C dL_law_291 rfl ?_
  refine j_aload_n C dL_law_292 rfl ?_
  refine j_iload_n C dL_law_293 rfl ?_
  refine j_iconst (v := nI 1) C dL_law_294 (by decide) ?_
  refine j_iadd C dL_law_295 ?_
  refine j_sld C hX hbl (hi 1 (by decide)) dL_law_296 ?_
  refine j_aload_n C dL_law_297 rfl ?_
  refine j_iload_n C dL_law_298 rfl ?_
  refine j_iconst (v := nI 2) C dL_law_299 (by decide) ?_
  refine j_iadd C dL_law_300 ?_
  refine j_sld C hX hbl (hi 2 (by decide)) dL_law_301 ?_
  refine j_callV (As := [(gi (xs (i + nI 1).toNatClampNeg)), (gi (xs (i + nI 2).toNatClampNeg))]) (rest := [gi r]) (v := some (gi r)) C (by decide) (kt_X2_failures hI.1 (by decide) ht) (tw_cls hI.1) rfl q1786 q1787 q1788 q93 q1789 ⟨rfl, by decide +kernel, by decide +kernel, hl_X2_failures⟩ (by decide) rfl (Nat.le_of_ble_eq_true rfl) dL_law_302 ?_
  exact j_icmp_eq (tgt := 715) C dL_law_305 (by decide) (fun _ => kk _ _ hinv') (fun z => absurd rfl z)
theorem hl_X0_start : (parseMethodDescriptor yX0_start.desc).map (fun d => d.parameters.length) = some 1 := by decide +kernel
theorem hl_X2_start : (parseMethodDescriptor yX2_start.desc).map (fun d => d.parameters.length) = some 1 := by decide +kernel
theorem law_case_6 (C : gC D dA (lA s) K p room_1 s m #[.ref b] meth c cL_law 4 "WorkflowEngineLaw" 200) (hI : LawInv xa ad Inv) (hX : va_X b L xs s s.heap) (hbl : b < s.heap.size) (hinv : Inv (k + 1) w σ) (hi : ∀ a : Nat, a < 4 → vp_in (i + nI a) L) (kk : ∀ w1 σ1, Inv k w1 σ1 → gJ D dA (lA s) K p l e room_1 s m #[.ref b] below meth c Q 4 715 [(3, gi i), (2, ga (some (ad 0))), (1, ga (some xa)), (0, ga (some b))] [] w1) : gJ D dA (lA s) K p l e room_1 s m #[.ref b] below meth c Q 4 310 [(3, gi i), (2, ga (some (ad 0))), (1, ga (some xa)), (0, ga (some b))] [] w := by
  obtain ⟨r, w', σ', hc, ht, hw', hinv'⟩ := hI.2.2.2.1 6 (by decide) k (xs (i + nI 1).toNatClampNeg) (xs (i + nI 2).toNatClampNeg) (xs (i + nI 3).toNatClampNeg) w σ hinv
  have he := hI.2.1 _ _ _ hinv
  have hc : f_X0_start xa (xs (i + nI 1).toNatClampNeg) w = some (r, w') := hc
  have ht : t_X2_start (xs (i + nI 1).toNatClampNeg) σ = some (r, σ') := ht
  refine j_aload_n C dL_law_310 rfl ?_
  refine j_aload_n C dL_law_311 rfl ?_
  refine j_iload_n C dL_law_312 rfl ?_
  refine j_iconst (v := nI 1) C dL_law_313 (by decide) ?_
  refine j_iadd C dL_law_314 ?_
  refine j_sld C hX hbl (hi 1 (by decide)) dL_law_315 ?_
  refine j_callV (As := [(gi (xs (i + nI 1).toNatClampNeg))]) (rest := []) (v := some (gi r)) C (by decide) (k_X0_start (by decide) hc) he rfl q790 q791 q792 q91 q793 ⟨rfl, by decide +kernel, by decide +kernel, hl_X0_start⟩ (by decide) rfl (Nat.le_of_ble_eq_true rfl) dL_law_316 ?_
  refine j_eqw hw' ?_
  refine j_aload_n C dL_law_319 rfl ?_
  refine j_aload_n C dL_law_320 rfl ?_
  refine j_iload_n C dL_law_321 rfl ?_
  refine j_iconst (v := nI 1) C dL_law_322 (by decide) ?_
  refine j_iadd C dL_law_323 ?_
  refine j_sld C hX hbl (hi 1 (by decide)) dL_law_324 ?_
  refine j_callV (As := [(gi (xs (i + nI 1).toNatClampNeg))]) (rest := [gi r]) (v := some (gi r)) C (by decide) (kt_X2_start hI.1 (by decide) ht) (tw_cls hI.1) rfl q1790 q1791 q1792 q93 q1793 ⟨rfl, by decide +kernel, by decide +kernel, hl_X2_start⟩ (by decide) rfl (Nat.le_of_ble_eq_true rfl) dL_law_325 ?_
  exact j_icmp_eq (tgt := 715) C dL_law_328 (by decide) (fun _ => kk _ _ hinv') (fun z => absurd rfl z)
theorem hl_X0_signal : (parseMethodDescriptor yX0_signal.desc).map (fun d => d.parameters.length) = some 2 := by decide +kernel
theorem hl_X2_signal : (parseMethodDescriptor yX2_signal.desc).map (fun d => d.parameters.length) = some 2 := by decide +kernel
theorem law_case_7 (C : gC D dA (lA s) K p room_1 s m #[.ref b] meth c cL_law 4 "WorkflowEngineLaw" 200) (hI : LawInv xa ad Inv) (hX : va_X b L xs s s.heap) (hbl : b < s.heap.size) (hinv : Inv (k + 1) w σ) (hi : ∀ a : Nat, a < 4 → vp_in (i + nI a) L) (kk : ∀ w1 σ1, Inv k w1 σ1 → gJ D dA (lA s) K p l e room_1 s m #[.ref b] below meth c Q 4 715 [(3, gi i), (2, ga (some (ad 0))), (1, ga (some xa)), (0, ga (some b))] [] w1) : gJ D dA (lA s) K p l e room_1 s m #[.ref b] below meth c Q 4 333 [(3, gi i), (2, ga (some (ad 0))), (1, ga (some xa)), (0, ga (some b))] [] w := by
  obtain ⟨r, w', σ', hc, ht, hw', hinv'⟩ := hI.2.2.2.1 7 (by decide) k (xs (i + nI 1).toNatClampNeg) (xs (i + nI 2).toNatClampNeg) (xs (i + nI 3).toNatClampNeg) w σ hinv
  have he := hI.2.1 _ _ _ hinv
  have hc : f_X0_signal xa (xs (i + nI 1).toNatClampNeg) (xs (i + nI 2).toNatClampNeg) w = some (r, w') := hc
  have ht : t_X2_signal (xs (i + nI 1).toNatClampNeg) (xs (i + nI 2).toNatClampNeg) σ = some (r, σ') := ht
  refine j_aload_n C dL_law_333 rfl ?_
  refine j_aload_n C dL_law_334 rfl ?_
  refine j_iload_n C dL_law_335 rfl ?_
  refine j_iconst (v := nI 1) C dL_law_336 (by decide) ?_
  refine j_iadd C dL_law_337 ?_
  refine j_sld C hX hbl (hi 1 (by decide)) dL_law_338 ?_
  refine j_aload_n C dL_law_339 rfl ?_
  refine j_iload_n C dL_law_340 rfl ?_
  refine j_iconst (v := nI 2) C dL_law_341 (by decide) ?_
  refine j_iadd C dL_law_342 ?_
  refine j_sld C hX hbl (hi 2 (by decide)) dL_law_343 ?_
  refine j_callV (As := [(gi (xs (i + nI 1).toNatClampNeg)), (gi (xs (i + nI 2).toNatClampNeg))]) (rest := []) (v := some (gi r)) C (by decide) (k_X0_signal (by decide) hc) he rfl q1297 q1298 q1299 q91 q1300 ⟨rfl, by decide +kernel, by decide +kernel, hl_X0_signal⟩ (by decide) rfl (Nat.le_of_ble_eq_true rfl) dL_law_344 ?_
  refine j_eqw hw' ?_
  refine j_aload_n C dL_law_347 rfl ?_
  refine j_aload_n C dL_law_348 rfl ?_
  refine j_iload_n C dL_law_349 rfl ?_
  refine j_iconst (v := nI 1) C dL_law_350 (by decide) ?_
  refine j_iadd C dL_law_351 ?_
  refine j_sld C hX hbl (hi 1 (by decide)) dL_law_352 ?_
  refine j_aload_n C dL_law_353 rfl ?_
  refine j_iload_n C dL_law_354 rfl ?_
  refine j_iconst (v := nI 2) C dL_law_355 (by decide) ?_
  refine j_iadd C dL_law_356 ?_
  refine j_sld C hX hbl (hi 2 (by decide)) dL_law_357 ?_
  refine j_callV (As := [(gi (xs (i + nI 1).toNatClampNeg)), (gi (xs (i + nI 2).toNatClampNeg))]) (rest := [gi r]) (v := some (gi r)) C (by decide) (kt_X2_signal hI.1 (by decide) ht) (tw_cls hI.1) rfl q1896 q1897 q1898 q93 q1899 ⟨rfl, by decide +kernel, by decide +kernel, hl_X2_signal⟩ (by decide) rfl (Nat.le_of_ble_eq_true rfl) dL_law_358 ?_
  exact j_icmp_eq (tgt := 715) C dL_law_361 (by decide) (fun _ => kk _ _ hinv') (fun z => absurd rfl z)
theorem hl_X0_abort : (parseMethodDescriptor yX0_abort.desc).map (fun d => d.parameters.length) = some 1 := by decide +kernel
theorem hl_X2_abort : (parseMethodDescriptor yX2_abort.desc).map (fun d => d.parameters.length) = some 1 := by decide +kernel
theorem law_case_8 (C : gC D dA (lA s) K p room_1 s m #[.ref b] meth c cL_law 4 "WorkflowEngineLaw" 200) (hI : LawInv xa ad Inv) (hX : va_X b L xs s s.heap) (hbl : b < s.heap.size) (hinv : Inv (k + 1) w σ) (hi : ∀ a : Nat, a < 4 → vp_in (i + nI a) L) (kk : ∀ w1 σ1, Inv k w1 σ1 → gJ D dA (lA s) K p l e room_1 s m #[.ref b] below meth c Q 4 715 [(3, gi i), (2, ga (some (ad 0))), (1, ga (some xa)), (0, ga (some b))] [] w1) : gJ D dA (lA s) K p l e room_1 s m #[.ref b] below meth c Q 4 366 [(3, gi i), (2, ga (some (ad 0))), (1, ga (some xa)), (0, ga (some b))] [] w := by
  obtain ⟨r, w', σ', hc, ht, hw', hinv'⟩ := hI.2.2.2.1 8 (by decide) k (xs (i + nI 1).toNatClampNeg) (xs (i + nI 2).toNatClampNeg) (xs (i + nI 3).toNatClampNeg) w σ hinv
  have he := hI.2.1 _ _ _ hinv
  have hc : f_X0_abort xa (xs (i + nI 1).toNatClampNeg) w = some (r, w') := hc
  have ht : t_X2_abort (xs (i + nI 1).toNatClampNeg) σ = some (r, σ') := ht
  refine j_aload_n C dL_law_366 rfl ?_
  refine j_aload_n C dL_law_367 rfl ?_
  refine j_iload_n C dL_law_368 rfl ?_
  refine j_iconst (v := nI 1) C dL_law_369 (by decide) ?_
  refine j_iadd C dL_law_370 ?_
  refine j_sld C hX hbl (hi 1 (by decide)) dL_law_371 ?_
  refine j_callV (As := [(gi (xs (i + nI 1).toNatClampNeg))]) (rest := []) (v := some (gi r)) C (by decide) (k_X0_abort (by decide) hc) he rfl q1305 q1306 q1307 q91 q1308 ⟨rfl, by decide +kernel, by decide +kernel, hl_X0_abort⟩ (by decide) rfl (Nat.le_of_ble_eq_true rfl) dL_law_372 ?_
  refine j_eqw hw' ?_
  refine j_aload_n C dL_law_375 rfl ?_
  refine j_aload_n C dL_law_376 rfl ?_
  refine j_iload_n C dL_law_377 rfl ?_
  refine j_iconst (v := nI 1) C dL_law_378 (by decide) ?_
  refine j_iadd C dL_law_379 ?_
  refine j_sld C hX hbl (hi 1 (by decide)) dL_law_380 ?_
  refine j_callV (As := [(gi (xs (i + nI 1).toNatClampNeg))]) (rest := [gi r]) (v := some (gi r)) C (by decide) (kt_X2_abort hI.1 (by decide) ht) (tw_cls hI.1) rfl q1904 q1905 q1906 q93 q1907 ⟨rfl, by decide +kernel, by decide +kernel, hl_X2_abort⟩ (by decide) rfl (Nat.le_of_ble_eq_true rfl) dL_law_381 ?_
  exact j_icmp_eq (tgt := 715) C dL_law_384 (by decide) (fun _ => kk _ _ hinv') (fun z => absurd rfl z)
theorem hl_X0_remove : (parseMethodDescriptor yX0_remove.desc).map (fun d => d.parameters.length) = some 1 := by decide +kernel
theorem hl_X2_remove : (parseMethodDescriptor yX2_remove.desc).map (fun d => d.parameters.length) = some 1 := by decide +kernel
theorem law_case_9 (C : gC D dA (lA s) K p room_1 s m #[.ref b] meth c cL_law 4 "WorkflowEngineLaw" 200) (hI : LawInv xa ad Inv) (hX : va_X b L xs s s.heap) (hbl : b < s.heap.size) (hinv : Inv (k + 1) w σ) (hi : ∀ a : Nat, a < 4 → vp_in (i + nI a) L) (kk : ∀ w1 σ1, Inv k w1 σ1 → gJ D dA (lA s) K p l e room_1 s m #[.ref b] below meth c Q 4 715 [(3, gi i), (2, ga (some (ad 0))), (1, ga (some xa)), (0, ga (some b))] [] w1) : gJ D dA (lA s) K p l e room_1 s m #[.ref b] below meth c Q 4 389 [(3, gi i), (2, ga (some (ad 0))), (1, ga (some xa)), (0, ga (some b))] [] w := by
  obtain ⟨r, w', σ', hc, ht, hw', hinv'⟩ := hI.2.2.2.1 9 (by decide) k (xs (i + nI 1).toNatClampNeg) (xs (i + nI 2).toNatClampNeg) (xs (i + nI 3).toNatClampNeg) w σ hinv
  have he := hI.2.1 _ _ _ hinv
  have hc : f_X0_remove xa (xs (i + nI 1).toNatClampNeg) w = some (r, w') := hc
  have ht : t_X2_remove (xs (i + nI 1).toNatClampNeg) σ = some (r, σ') := ht
  refine j_aload_n C dL_law_389 rfl ?_
  refine j_aload_n C dL_law_390 rfl ?_
  refine j_iload_n C dL_law_391 rfl ?_
  refine j_iconst (v := nI 1) C dL_law_392 (by decide) ?_
  refine j_iadd C dL_law_393 ?_
  refine j_sld C hX hbl (hi 1 (by decide)) dL_law_394 ?_
  refine j_callV (As := [(gi (xs (i + nI 1).toNatClampNeg))]) (rest := []) (v := some (gi r)) C (by decide) (k_X0_remove (by decide) hc) he rfl q1310 q1311 q1312 q91 q1313 ⟨rfl, by decide +kernel, by decide +kernel, hl_X0_remove⟩ (by decide) rfl (Nat.le_of_ble_eq_true rfl) dL_law_395 ?_
  refine j_eqw hw' ?_
  refine j_aload_n C dL_law_398 rfl ?_
  refine j_aload_n C dL_law_399 rfl ?_
  refine j_iload_n C dL_law_400 rfl ?_
  refine j_iconst (v := nI 1) C dL_law_401 (by decide) ?_
  refine j_iadd C dL_law_402 ?_
  refine j_sld C hX hbl (hi 1 (by decide)) dL_law_403 ?_
  refine j_callV (As := [(gi (xs (i + nI 1).toNatClampNeg))]) (rest := [gi r]) (v := some (gi r)) C (by decide) (kt_X2_remove hI.1 (by decide) ht) (tw_cls hI.1) rfl q1908 q1909 q1910 q93 q1911 ⟨rfl, by decide +kernel, by decide +kernel, hl_X2_remove⟩ (by decide) rfl (Nat.le_of_ble_eq_true rfl) dL_law_404 ?_
  exact j_icmp_eq (tgt := 715) C dL_law_407 (by decide) (fun _ => kk _ _ hinv') (fun z => absurd rfl z)
theorem hl_X0_pass : (parseMethodDescriptor yX0_pass.desc).map (fun d => d.parameters.length) = some 1 := by decide +kernel
theorem hl_X2_pass : (parseMethodDescriptor yX2_pass.desc).map (fun d => d.parameters.length) = some 1 := by decide +kernel
theorem law_case_10 (C : gC D dA (lA s) K p room_1 s m #[.ref b] meth c cL_law 4 "WorkflowEngineLaw" 200) (hI : LawInv xa ad Inv) (hX : va_X b L xs s s.heap) (hbl : b < s.heap.size) (hinv : Inv (k + 1) w σ) (hi : ∀ a : Nat, a < 4 → vp_in (i + nI a) L) (kk : ∀ w1 σ1, Inv k w1 σ1 → gJ D dA (lA s) K p l e room_1 s m #[.ref b] below meth c Q 4 715 [(3, gi i), (2, ga (some (ad 0))), (1, ga (some xa)), (0, ga (some b))] [] w1) : gJ D dA (lA s) K p l e room_1 s m #[.ref b] below meth c Q 4 412 [(3, gi i), (2, ga (some (ad 0))), (1, ga (some xa)), (0, ga (some b))] [] w := by
  obtain ⟨r, w', σ', hc, ht, hw', hinv'⟩ := hI.2.2.2.1 10 (by decide) k (xs (i + nI 1).toNatClampNeg) (xs (i + nI 2).toNatClampNeg) (xs (i + nI 3).toNatClampNeg) w σ hinv
  have he := hI.2.1 _ _ _ hinv
  have hc : f_X0_pass xa (xs (i + nI 1).toNatClampNeg) w = some (r, w') := hc
  have ht : t_X2_pass (xs (i + nI 1).toNatClampNeg) σ = some (r, σ') := ht
  refine j_aload_n C dL_law_412 rfl ?_
  refine j_aload_n C dL_law_413 rfl ?_
  refine j_iload_n C dL_law_414 rfl ?_
  refine j_iconst (v := nI 1) C dL_law_415 (by decide) ?_
  refine j_iadd C dL_law_416 ?_
  refine j_sld C hX hbl (hi 1 (by decide)) dL_law_417 ?_
  refine j_callV (As := [(gi (xs (i + nI 1).toNatClampNeg))]) (rest := []) (v := some (gi r)) C (by decide) (k_X0_pass (by decide) hc) he rfl q1318 q1319 q1320 q91 q1321 ⟨rfl, by decide +kernel, by decide +kernel, hl_X0_pass⟩ (by decide) rfl (Nat.le_of_ble_eq_true rfl) dL_law_418 ?_
  refine j_eqw hw' ?_
  refine j_aload_n C dL_law_421 rfl ?_
  refine j_aload_n C dL_law_422 rfl ?_
  refine j_iload_n C dL_law_423 rfl ?_
  refine j_iconst (v := nI 1) C dL_law_424 (by decide) ?_
  refine j_iadd C dL_law_425 ?_
  refine j_sld C hX hbl (hi 1 (by decide)) dL_law_426 ?_
  refine j_callV (As := [(gi (xs (i + nI 1).toNatClampNeg))]) (rest := [gi r]) (v := some (gi r)) C (by decide) (kt_X2_pass hI.1 (by decide) ht) (tw_cls hI.1) rfl q1912 q1913 q1914 q93 q1915 ⟨rfl, by decide +kernel, by decide +kernel, hl_X2_pass⟩ (by decide) rfl (Nat.le_of_ble_eq_true rfl) dL_law_427 ?_
  exact j_icmp_eq (tgt := 715) C dL_law_430 (by decide) (fun _ => kk _ _ hinv') (fun z => absurd rfl z)
theorem hl_X0_instance : (parseMethodDescriptor yX0_instance.desc).map (fun d => d.parameters.length) = some 2 := by decide +kernel
theorem hl_X2_instance : (parseMethodDescriptor yX2_instance.desc).map (fun d => d.parameters.length) = some 2 := by decide +kernel
theorem law_case_11 (C : gC D dA (lA s) K p room_1 s m #[.ref b] meth c cL_law 4 "WorkflowEngineLaw" 200) (hI : LawInv xa ad Inv) (hX : va_X b L xs s s.heap) (hbl : b < s.heap.size) (hinv : Inv (k + 1) w σ) (hi : ∀ a : Nat, a < 4 → vp_in (i + nI a) L) (kk : ∀ w1 σ1, Inv k w1 σ1 → gJ D dA (lA s) K p l e room_1 s m #[.ref b] below meth c Q 4 715 [(3, gi i), (2, ga (some (ad 0))), (1, ga (some xa)), (0, ga (some b))] [] w1) : gJ D dA (lA s) K p l e room_1 s m #[.ref b] below meth c Q 4 435 [(3, gi i), (2, ga (some (ad 0))), (1, ga (some xa)), (0, ga (some b))] [] w := by
  obtain ⟨r, w', σ', hc, ht, hw', hinv'⟩ := hI.2.2.2.1 11 (by decide) k (xs (i + nI 1).toNatClampNeg) (xs (i + nI 2).toNatClampNeg) (xs (i + nI 3).toNatClampNeg) w σ hinv
  have he := hI.2.1 _ _ _ hinv
  have hc : f_X0_instance xa (xs (i + nI 1).toNatClampNeg) (xs (i + nI 2).toNatClampNeg) w = some (r, w') := hc
  have ht : t_X2_instance (xs (i + nI 1).toNatClampNeg) (xs (i + nI 2).toNatClampNeg) σ = some (r, σ') := ht
  refine j_aload_n C dL_law_435 rfl ?_
  refine j_aload_n C dL_law_436 rfl ?_
  refine j_iload_n C dL_law_437 rfl ?_
  refine j_iconst (v := nI 1) C dL_law_438 (by decide) ?_
  refine j_iadd C dL_law_439 ?_
  refine j_sld C hX hbl (hi 1 (by decide)) dL_law_440 ?_
  refine j_aload_n C dL_law_441 rfl ?_
  refine j_iload_n C dL_law_442 rfl ?_
  refine j_iconst (v := nI 2) C dL_law_443 (by decide) ?_
  refine j_iadd C dL_law_444 ?_
  refine j_sld C hX hbl (hi 2 (by decide)) dL_law_445 ?_
  refine j_callV (As := [(gi (xs (i + nI 1).toNatClampNeg)), (gi (xs (i + nI 2).toNatClampNeg))]) (rest := []) (v := some (gi r)) C (by decide) (k_X0_instance (by decide) hc) he rfl q1328 q1329 q1330 q91 q1331 ⟨rfl, by decide +kernel, by decide +kernel, hl_X0_instance⟩ (by decide) rfl (Nat.le_of_ble_eq_true rfl) dL_law_446 ?_
  refine j_eqw hw' ?_
  refine j_aload_n C dL_law_449 rfl ?_
  refine j_aload_n C dL_law_450 rfl ?_
  refine j_iload_n C dL_law_451 rfl ?_
  refine j_iconst (v := nI 1) C dL_law_452 (by decide) ?_
  refine j_iadd C dL_law_453 ?_
  refine j_sld C hX hbl (hi 1 (by decide)) dL_law_454 ?_
  refine j_aload_n C dL_law_455 rfl ?_
  refine j_iload_n C dL_law_456 rfl ?_
  refine j_iconst (v := nI 2) C dL_law_457 (by decide) ?_
  refine j_iadd C dL_law_458 ?_
  refine j_sld C hX hbl (hi 2 (by decide)) dL_law_459 ?_
  refine j_callV (As := [(gi (xs (i + nI 1).toNatClampNeg)), (gi (xs (i + nI 2).toNatClampNeg))]) (rest := [gi r]) (v := some (gi r)) C (by decide) (kt_X2_instance hI.1 (by decide) ht) (tw_cls hI.1) rfl q1921 q1922 q1923 q93 q1924 ⟨rfl, by decide +kernel, by decide +kernel, hl_X2_instance⟩ (by decide) rfl (Nat.le_of_ble_eq_true rfl) dL_law_460 ?_
  exact j_icmp_eq (tgt := 715) C dL_law_463 (by decide) (fun _ => kk _ _ hinv') (fun z => absurd rfl z)
theorem hl_X0_entry : (parseMethodDescriptor yX0_entry.desc).map (fun d => d.parameters.length) = some 3 := by decide +kernel
theorem hl_X2_entry : (parseMethodDescriptor yX2_entry.desc).map (fun d => d.parameters.length) = some 3 := by decide +kernel
theorem law_case_12 (C : gC D dA (lA s) K p room_1 s m #[.ref b] meth c cL_law 4 "WorkflowEngineLaw" 200) (hI : LawInv xa ad Inv) (hX : va_X b L xs s s.heap) (hbl : b < s.heap.size) (hinv : Inv (k + 1) w σ) (hi : ∀ a : Nat, a < 4 → vp_in (i + nI a) L) (kk : ∀ w1 σ1, Inv k w1 σ1 → gJ D dA (lA s) K p l e room_1 s m #[.ref b] below meth c Q 4 715 [(3, gi i), (2, ga (some (ad 0))), (1, ga (some xa)), (0, ga (some b))] [] w1) : gJ D dA (lA s) K p l e room_1 s m #[.ref b] below meth c Q 4 468 [(3, gi i), (2, ga (some (ad 0))), (1, ga (some xa)), (0, ga (some b))] [] w := by
  obtain ⟨r, w', σ', hc, ht, hw', hinv'⟩ := hI.2.2.2.1 12 (by decide) k (xs (i + nI 1).toNatClampNeg) (xs (i + nI 2).toNatClampNeg) (xs (i + nI 3).toNatClampNeg) w σ hinv
  have he := hI.2.1 _ _ _ hinv
  have hc : f_X0_entry xa (xs (i + nI 1).toNatClampNeg) (xs (i + nI 2).toNatClampNeg) (xs (i + nI 3).toNatClampNeg) w = some (r, w') := hc
  have ht : t_X2_entry (xs (i + nI 1).toNatClampNeg) (xs (i + nI 2).toNatClampNeg) (xs (i + nI 3).toNatClampNeg) σ = some (r, σ') := ht
  refine j_aload_n C dL_law_468 rfl ?_
  refine j_aload_n C dL_law_469 rfl ?_
  refine j_iload_n C dL_law_470 rfl ?_
  refine j_iconst (v := nI 1) C dL_law_471 (by decide) ?_
  refine j_iadd C dL_law_472 ?_
  refine j_sld C hX hbl (hi 1 (by decide)) dL_law_473 ?_
  refine j_aload_n C dL_law_474 rfl ?_
  refine j_iload_n C dL_law_475 rfl ?_
  refine j_iconst (v := nI 2) C dL_law_476 (by decide) ?_
  refine j_iadd C dL_law_477 ?_
  refine j_sld C hX hbl (hi 2 (by decide)) dL_law_478 ?_
  refine j_aload_n C dL_law_479 rfl ?_
  refine j_iload_n C dL_law_480 rfl ?_
  refine j_iconst (v := nI 3) C dL_law_481 (by decide) ?_
  refine j_iadd C dL_law_482 ?_
  refine j_sld C hX hbl (hi 3 (by decide)) dL_law_483 ?_
  refine j_callV (As := [(gi (xs (i + nI 1).toNatClampNeg)), (gi (xs (i + nI 2).toNatClampNeg)), (gi (xs (i + nI 3).toNatClampNeg))]) (rest := []) (v := some (gi r)) C (by decide) (k_X0_entry (by decide) hc) he rfl q1333 q1334 q1335 q91 q1336 ⟨rfl, by decide +kernel, by decide +kernel, hl_X0_entry⟩ (by decide) rfl (Nat.le_of_ble_eq_true rfl) dL_law_484 ?_
  refine j_eqw hw' ?_
  refine j_aload_n C dL_law_487 rfl ?_
  refine j_aload_n C dL_law_488 rfl ?_
  refine j_iload_n C dL_law_489 rfl ?_
  refine j_iconst (v := nI 1) C dL_law_490 (by decide) ?_
  refine j_iadd C dL_law_491 ?_
  refine j_sld C hX hbl (hi 1 (by decide)) dL_law_492 ?_
  refine j_aload_n C dL_law_493 rfl ?_
  refine j_iload_n C dL_law_494 rfl ?_
  refine j_iconst (v := nI 2) C dL_law_495 (by decide) ?_
  refine j_iadd C dL_law_496 ?_
  refine j_sld C hX hbl (hi 2 (by decide)) dL_law_497 ?_
  refine j_aload_n C dL_law_498 rfl ?_
  refine j_iload_n C dL_law_499 rfl ?_
  refine j_iconst (v := nI 3) C dL_law_500 (by decide) ?_
  refine j_iadd C dL_law_501 ?_
  refine j_sld C hX hbl (hi 3 (by decide)) dL_law_502 ?_
  refine j_callV (As := [(gi (xs (i + nI 1).toNatClampNeg)), (gi (xs (i + nI 2).toNatClampNeg)), (gi (xs (i + nI 3).toNatClampNeg))]) (rest := [gi r]) (v := some (gi r)) C (by decide) (kt_X2_entry hI.1 (by decide) ht) (tw_cls hI.1) rfl q1925 q1926 q1927 q93 q1928 ⟨rfl, by decide +kernel, by decide +kernel, hl_X2_entry⟩ (by decide) rfl (Nat.le_of_ble_eq_true rfl) dL_law_503 ?_
  exact j_icmp_eq (tgt := 715) C dL_law_506 (by decide) (fun _ => kk _ _ hinv') (fun z => absurd rfl z)
theorem hl_X0_running : (parseMethodDescriptor yX0_running.desc).map (fun d => d.parameters.length) = some 2 := by decide +kernel
theorem hl_X2_running : (parseMethodDescriptor yX2_running.desc).map (fun d => d.parameters.length) = some 2 := by decide +kernel
theorem law_case_13 (C : gC D dA (lA s) K p room_1 s m #[.ref b] meth c cL_law 4 "WorkflowEngineLaw" 200) (hI : LawInv xa ad Inv) (hX : va_X b L xs s s.heap) (hbl : b < s.heap.size) (hinv : Inv (k + 1) w σ) (hi : ∀ a : Nat, a < 4 → vp_in (i + nI a) L) (kk : ∀ w1 σ1, Inv k w1 σ1 → gJ D dA (lA s) K p l e room_1 s m #[.ref b] below meth c Q 4 715 [(3, gi i), (2, ga (some (ad 0))), (1, ga (some xa)), (0, ga (some b))] [] w1) : gJ D dA (lA s) K p l e room_1 s m #[.ref b] below meth c Q 4 511 [(3, gi i), (2, ga (some (ad 0))), (1, ga (some xa)), (0, ga (some b))] [] w := by
  obtain ⟨r, w', σ', hc, ht, hw', hinv'⟩ := hI.2.2.2.1 13 (by decide) k (xs (i + nI 1).toNatClampNeg) (xs (i + nI 2).toNatClampNeg) (xs (i + nI 3).toNatClampNeg) w σ hinv
  have he := hI.2.1 _ _ _ hinv
  have hc : f_X0_running xa (xs (i + nI 1).toNatClampNeg) (xs (i + nI 2).toNatClampNeg) w = some (r, w') := hc
  have ht : t_X2_running (xs (i + nI 1).toNatClampNeg) (xs (i + nI 2).toNatClampNeg) σ = some (r, σ') := ht
  refine j_aload_n C dL_law_511 rfl ?_
  refine j_aload_n C dL_law_512 rfl ?_
  refine j_iload_n C dL_law_513 rfl ?_
  refine j_iconst (v := nI 1) C dL_law_514 (by decide) ?_
  refine j_iadd C dL_law_515 ?_
  refine j_sld C hX hbl (hi 1 (by decide)) dL_law_516 ?_
  refine j_aload_n C dL_law_517 rfl ?_
  refine j_iload_n C dL_law_518 rfl ?_
  refine j_iconst (v := nI 2) C dL_law_519 (by decide) ?_
  refine j_iadd C dL_law_520 ?_
  refine j_sld C hX hbl (hi 2 (by decide)) dL_law_521 ?_
  refine j_callV (As := [(gi (xs (i + nI 1).toNatClampNeg)), (gi (xs (i + nI 2).toNatClampNeg))]) (rest := []) (v := some (gi r)) C (by decide) (k_X0_running (by decide) hc) he rfl q1338 q1339 q1340 q91 q1341 ⟨rfl, by decide +kernel, by decide +kernel, hl_X0_running⟩ (by decide) rfl (Nat.le_of_ble_eq_true rfl) dL_law_522 ?_
  refine j_eqw hw' ?_
  refine j_aload_n C dL_law_525 rfl ?_
  refine j_aload_n C dL_law_526 rfl ?_
  refine j_iload_n C dL_law_527 rfl ?_
  refine j_iconst (v := nI 1) C dL_law_528 (by decide) ?_
  refine j_iadd C dL_law_529 ?_
  refine j_sld C hX hbl (hi 1 (by decide)) dL_law_530 ?_
  refine j_aload_n C dL_law_531 rfl ?_
  refine j_iload_n C dL_law_532 rfl ?_
  refine j_iconst (v := nI 2) C dL_law_533 (by decide) ?_
  refine j_iadd C dL_law_534 ?_
  refine j_sld C hX hbl (hi 2 (by decide)) dL_law_535 ?_
  refine j_callV (As := [(gi (xs (i + nI 1).toNatClampNeg)), (gi (xs (i + nI 2).toNatClampNeg))]) (rest := [gi r]) (v := some (gi r)) C (by decide) (kt_X2_running hI.1 (by decide) ht) (tw_cls hI.1) rfl q1934 q1935 q1936 q93 q1937 ⟨rfl, by decide +kernel, by decide +kernel, hl_X2_running⟩ (by decide) rfl (Nat.le_of_ble_eq_true rfl) dL_law_536 ?_
  exact j_icmp_eq (tgt := 715) C dL_law_539 (by decide) (fun _ => kk _ _ hinv') (fun z => absurd rfl z)
theorem hl_X0_due : (parseMethodDescriptor yX0_due.desc).map (fun d => d.parameters.length) = some 1 := by decide +kernel
theorem hl_X2_due : (parseMethodDescriptor yX2_due.desc).map (fun d => d.parameters.length) = some 1 := by decide +kernel
theorem law_case_14 (C : gC D dA (lA s) K p room_1 s m #[.ref b] meth c cL_law 4 "WorkflowEngineLaw" 200) (hI : LawInv xa ad Inv) (hX : va_X b L xs s s.heap) (hbl : b < s.heap.size) (hinv : Inv (k + 1) w σ) (hi : ∀ a : Nat, a < 4 → vp_in (i + nI a) L) (kk : ∀ w1 σ1, Inv k w1 σ1 → gJ D dA (lA s) K p l e room_1 s m #[.ref b] below meth c Q 4 715 [(3, gi i), (2, ga (some (ad 0))), (1, ga (some xa)), (0, ga (some b))] [] w1) : gJ D dA (lA s) K p l e room_1 s m #[.ref b] below meth c Q 4 544 [(3, gi i), (2, ga (some (ad 0))), (1, ga (some xa)), (0, ga (some b))] [] w := by
  obtain ⟨r, w', σ', hc, ht, hw', hinv'⟩ := hI.2.2.2.1 14 (by decide) k (xs (i + nI 1).toNatClampNeg) (xs (i + nI 2).toNatClampNeg) (xs (i + nI 3).toNatClampNeg) w σ hinv
  have he := hI.2.1 _ _ _ hinv
  have hc : f_X0_due xa (xs (i + nI 1).toNatClampNeg) w = some (r, w') := hc
  have ht : t_X2_due (xs (i + nI 1).toNatClampNeg) σ = some (r, σ') := ht
  refine j_aload_n C dL_law_544 rfl ?_
  refine j_aload_n C dL_law_545 rfl ?_
  refine j_iload_n C dL_law_546 rfl ?_
  refine j_iconst (v := nI 1) C dL_law_547 (by decide) ?_
  refine j_iadd C dL_law_548 ?_
  refine j_sld C hX hbl (hi 1 (by decide)) dL_law_549 ?_
  refine j_callV (As := [(gi (xs (i + nI 1).toNatClampNeg))]) (rest := []) (v := some (gi r)) C (by decide) (k_X0_due (by decide) hc) he rfl q1385 q1386 q1387 q91 q1388 ⟨rfl, by decide +kernel, by decide +kernel, hl_X0_due⟩ (by decide) rfl (Nat.le_of_ble_eq_true rfl) dL_law_550 ?_
  refine j_eqw hw' ?_
  refine j_aload_n C dL_law_553 rfl ?_
  refine j_aload_n C dL_law_554 rfl ?_
  refine j_iload_n C dL_law_555 rfl ?_
  refine j_iconst (v := nI 1) C dL_law_556 (by decide) ?_
  refine j_iadd C dL_law_557 ?_
  refine j_sld C hX hbl (hi 1 (by decide)) dL_law_558 ?_
  refine j_callV (As := [(gi (xs (i + nI 1).toNatClampNeg))]) (rest := [gi r]) (v := some (gi r)) C (by decide) (kt_X2_due hI.1 (by decide) ht) (tw_cls hI.1) rfl q1942 q1943 q1944 q93 q1945 ⟨rfl, by decide +kernel, by decide +kernel, hl_X2_due⟩ (by decide) rfl (Nat.le_of_ble_eq_true rfl) dL_law_559 ?_
  exact j_icmp_eq (tgt := 715) C dL_law_562 (by decide) (fun _ => kk _ _ hinv') (fun z => absurd rfl z)
theorem hl_X0_ahead : (parseMethodDescriptor yX0_ahead.desc).map (fun d => d.parameters.length) = some 2 := by decide +kernel
theorem hl_X2_ahead : (parseMethodDescriptor yX2_ahead.desc).map (fun d => d.parameters.length) = some 2 := by decide +kernel
theorem law_case_15 (C : gC D dA (lA s) K p room_1 s m #[.ref b] meth c cL_law 4 "WorkflowEngineLaw" 200) (hI : LawInv xa ad Inv) (hX : va_X b L xs s s.heap) (hbl : b < s.heap.size) (hinv : Inv (k + 1) w σ) (hi : ∀ a : Nat, a < 4 → vp_in (i + nI a) L) (kk : ∀ w1 σ1, Inv k w1 σ1 → gJ D dA (lA s) K p l e room_1 s m #[.ref b] below meth c Q 4 715 [(3, gi i), (2, ga (some (ad 0))), (1, ga (some xa)), (0, ga (some b))] [] w1) : gJ D dA (lA s) K p l e room_1 s m #[.ref b] below meth c Q 4 567 [(3, gi i), (2, ga (some (ad 0))), (1, ga (some xa)), (0, ga (some b))] [] w := by
  obtain ⟨r, w', σ', hc, ht, hw', hinv'⟩ := hI.2.2.2.1 15 (by decide) k (xs (i + nI 1).toNatClampNeg) (xs (i + nI 2).toNatClampNeg) (xs (i + nI 3).toNatClampNeg) w σ hinv
  have he := hI.2.1 _ _ _ hinv
  have hc : f_X0_ahead xa (xs (i + nI 1).toNatClampNeg) (xs (i + nI 2).toNatClampNeg) w = some (r, w') := hc
  have ht : t_X2_ahead (xs (i + nI 1).toNatClampNeg) (xs (i + nI 2).toNatClampNeg) σ = some (r, σ') := ht
  refine j_aload_n C dL_law_567 rfl ?_
  refine j_aload_n C dL_law_568 rfl ?_
  refine j_iload_n C dL_law_569 rfl ?_
  refine j_iconst (v := nI 1) C dL_law_570 (by decide) ?_
  refine j_iadd C dL_law_571 ?_
  refine j_sld C hX hbl (hi 1 (by decide)) dL_law_572 ?_
  refine j_aload_n C dL_law_573 rfl ?_
  refine j_iload_n C dL_law_574 rfl ?_
  refine j_iconst (v := nI 2) C dL_law_575 (by decide) ?_
  refine j_iadd C dL_law_576 ?_
  refine j_sld C hX hbl (hi 2 (by decide)) dL_law_577 ?_
  refine j_callV (As := [(gi (xs (i + nI 1).toNatClampNeg)), (gi (xs (i + nI 2).toNatClampNeg))]) (rest := []) (v := some (gi r)) C (by decide) (k_X0_ahead (by decide) hc) he rfl q1421 q1422 q1423 q91 q1424 ⟨rfl, by decide +kernel, by decide +kernel, hl_X0_ahead⟩ (by decide) rfl (Nat.le_of_ble_eq_true rfl) dL_law_578 ?_
  refine j_eqw hw' ?_
  refine j_aload_n C dL_law_581 rfl ?_
  refine j_aload_n C dL_law_582 rfl ?_
  refine j_iload_n C dL_law_583 rfl ?_
  refine j_iconst (v := nI 1) C dL_law_584 (by decide) ?_
  refine j_iadd C dL_law_585 ?_
  refine j_sld C hX hbl (hi 1 (by decide)) dL_law_586 ?_
  refine j_aload_n C dL_law_587 rfl ?_
  refine j_iload_n C dL_law_588 rfl ?_
  refine j_iconst (v := nI 2) C dL_law_589 (by decide) ?_
  refine j_iadd C dL_law_590 ?_
  refine j_sld C hX hbl (hi 2 (by decide)) dL_law_591 ?_
  refine j_callV (As := [(gi (xs (i + nI 1).toNatClampNeg)), (gi (xs (i + nI 2).toNatClampNeg))]) (rest := [gi r]) (v := some (gi r)) C (by decide) (kt_X2_ahead hI.1 (by decide) ht) (tw_cls hI.1) rfl q1950 q1951 q1952 q93 q1953 ⟨rfl, by decide +kernel, by decide +kernel, hl_X2_ahead⟩ (by decide) rfl (Nat.le_of_ble_eq_true rfl) dL_law_592 ?_
  exact j_icmp_eq (tgt := 715) C dL_law_595 (by decide) (fun _ => kk _ _ hinv') (fun z => absurd rfl z)
theorem hl_X0_replayed : (parseMethodDescriptor yX0_replayed.desc).map (fun d => d.parameters.length) = some 2 := by decide +kernel
theorem hl_X2_replayed : (parseMethodDescriptor yX2_replayed.desc).map (fun d => d.parameters.length) = some 2 := by decide +kernel
theorem law_case_16 (C : gC D dA (lA s) K p room_1 s m #[.ref b] meth c cL_law 4 "WorkflowEngineLaw" 200) (hI : LawInv xa ad Inv) (hX : va_X b L xs s s.heap) (hbl : b < s.heap.size) (hinv : Inv (k + 1) w σ) (hi : ∀ a : Nat, a < 4 → vp_in (i + nI a) L) (kk : ∀ w1 σ1, Inv k w1 σ1 → gJ D dA (lA s) K p l e room_1 s m #[.ref b] below meth c Q 4 715 [(3, gi i), (2, ga (some (ad 0))), (1, ga (some xa)), (0, ga (some b))] [] w1) : gJ D dA (lA s) K p l e room_1 s m #[.ref b] below meth c Q 4 600 [(3, gi i), (2, ga (some (ad 0))), (1, ga (some xa)), (0, ga (some b))] [] w := by
  obtain ⟨r, w', σ', hc, ht, hw', hinv'⟩ := hI.2.2.2.1 16 (by decide) k (xs (i + nI 1).toNatClampNeg) (xs (i + nI 2).toNatClampNeg) (xs (i + nI 3).toNatClampNeg) w σ hinv
  have he := hI.2.1 _ _ _ hinv
  have hc : f_X0_replayed xa (xs (i + nI 1).toNatClampNeg) (xs (i + nI 2).toNatClampNeg) w = some (r, w') := hc
  have ht : t_X2_replayed (xs (i + nI 1).toNatClampNeg) (xs (i + nI 2).toNatClampNeg) σ = some (r, σ') := ht
  refine j_aload_n C dL_law_600 rfl ?_
  refine j_aload_n C dL_law_601 rfl ?_
  refine j_iload_n C dL_law_602 rfl ?_
  refine j_iconst (v := nI 1) C dL_law_603 (by decide) ?_
  refine j_iadd C dL_law_604 ?_
  refine j_sld C hX hbl (hi 1 (by decide)) dL_law_605 ?_
  refine j_aload_n C dL_law_606 rfl ?_
  refine j_iload_n C dL_law_607 rfl ?_
  refine j_iconst (v := nI 2) C dL_law_608 (by decide) ?_
  refine j_iadd C dL_law_609 ?_
  refine j_sld C hX hbl (hi 2 (by decide)) dL_law_610 ?_
  refine j_callV (As := [(gi (xs (i + nI 1).toNatClampNeg)), (gi (xs (i + nI 2).toNatClampNeg))]) (rest := []) (v := some (gi r)) C (by decide) (k_X0_replayed (by decide) hc) he rfl q1495 q1496 q1497 q91 q1498 ⟨rfl, by decide +kernel, by decide +kernel, hl_X0_replayed⟩ (by decide) rfl (Nat.le_of_ble_eq_true rfl) dL_law_611 ?_
  refine j_eqw hw' ?_
  refine j_aload_n C dL_law_614 rfl ?_
  refine j_aload_n C dL_law_615 rfl ?_
  refine j_iload_n C dL_law_616 rfl ?_
  refine j_iconst (v := nI 1) C dL_law_617 (by decide) ?_
  refine j_iadd C dL_law_618 ?_
  refine j_sld C hX hbl (hi 1 (by decide)) dL_law_619 ?_
  refine j_aload_n C dL_law_620 rfl ?_
  refine j_iload_n C dL_law_621 rfl ?_
  refine j_iconst (v := nI 2) C dL_law_622 (by decide) ?_
  refine j_iadd C dL_law_623 ?_
  refine j_sld C hX hbl (hi 2 (by decide)) dL_law_624 ?_
  refine j_callV (As := [(gi (xs (i + nI 1).toNatClampNeg)), (gi (xs (i + nI 2).toNatClampNeg))]) (rest := [gi r]) (v := some (gi r)) C (by decide) (kt_X2_replayed hI.1 (by decide) ht) (tw_cls hI.1) rfl q1957 q1958 q1959 q93 q1960 ⟨rfl, by decide +kernel, by decide +kernel, hl_X2_replayed⟩ (by decide) rfl (Nat.le_of_ble_eq_true rfl) dL_law_625 ?_
  exact j_icmp_eq (tgt := 715) C dL_law_628 (by decide) (fun _ => kk _ _ hinv') (fun z => absurd rfl z)
theorem hl_X0_statistic : (parseMethodDescriptor yX0_statistic.desc).map (fun d => d.parameters.length) = some 2 := by decide +kernel
theorem hl_X2_statistic : (parseMethodDescriptor yX2_statistic.desc).map (fun d => d.parameters.length) = some 2 := by decide +kernel
theorem law_case_17 (C : gC D dA (lA s) K p room_1 s m #[.ref b] meth c cL_law 4 "WorkflowEngineLaw" 200) (hI : LawInv xa ad Inv) (hX : va_X b L xs s s.heap) (hbl : b < s.heap.size) (hinv : Inv (k + 1) w σ) (hi : ∀ a : Nat, a < 4 → vp_in (i + nI a) L) (kk : ∀ w1 σ1, Inv k w1 σ1 → gJ D dA (lA s) K p l e room_1 s m #[.ref b] below meth c Q 4 715 [(3, gi i), (2, ga (some (ad 0))), (1, ga (some xa)), (0, ga (some b))] [] w1) : gJ D dA (lA s) K p l e room_1 s m #[.ref b] below meth c Q 4 633 [(3, gi i), (2, ga (some (ad 0))), (1, ga (some xa)), (0, ga (some b))] [] w := by
  obtain ⟨r, w', σ', hc, ht, hw', hinv'⟩ := hI.2.2.2.1 17 (by decide) k (xs (i + nI 1).toNatClampNeg) (xs (i + nI 2).toNatClampNeg) (xs (i + nI 3).toNatClampNeg) w σ hinv
  have he := hI.2.1 _ _ _ hinv
  have hc : f_X0_statistic xa (xs (i + nI 1).toNatClampNeg) (xs (i + nI 2).toNatClampNeg) w = some (r, w') := hc
  have ht : t_X2_statistic (xs (i + nI 1).toNatClampNeg) (xs (i + nI 2).toNatClampNeg) σ = some (r, σ') := ht
  refine j_aload_n C dL_law_633 rfl ?_
  refine j_aload_n C dL_law_634 rfl ?_
  refine j_iload_n C dL_law_635 rfl ?_
  refine j_iconst (v := nI 1) C dL_law_636 (by decide) ?_
  refine j_iadd C dL_law_637 ?_
  refine j_sld C hX hbl (hi 1 (by decide)) dL_law_638 ?_
  refine j_aload_n C dL_law_639 rfl ?_
  refine j_iload_n C dL_law_640 rfl ?_
  refine j_iconst (v := nI 2) C dL_law_641 (by decide) ?_
  refine j_iadd C dL_law_642 ?_
  refine j_sld C hX hbl (hi 2 (by decide)) dL_law_643 ?_
  refine j_callV (As := [(gi (xs (i + nI 1).toNatClampNeg)), (gi (xs (i + nI 2).toNatClampNeg))]) (rest := []) (v := some (gi r)) C (by decide) (k_X0_statistic (by decide) hc) he rfl q1504 q1505 q1506 q91 q1507 ⟨rfl, by decide +kernel, by decide +kernel, hl_X0_statistic⟩ (by decide) rfl (Nat.le_of_ble_eq_true rfl) dL_law_644 ?_
  refine j_eqw hw' ?_
  refine j_aload_n C dL_law_647 rfl ?_
  refine j_aload_n C dL_law_648 rfl ?_
  refine j_iload_n C dL_law_649 rfl ?_
  refine j_iconst (v := nI 1) C dL_law_650 (by decide) ?_
  refine j_iadd C dL_law_651 ?_
  refine j_sld C hX hbl (hi 1 (by decide)) dL_law_652 ?_
  refine j_aload_n C dL_law_653 rfl ?_
  refine j_iload_n C dL_law_654 rfl ?_
  refine j_iconst (v := nI 2) C dL_law_655 (by decide) ?_
  refine j_iadd C dL_law_656 ?_
  refine j_sld C hX hbl (hi 2 (by decide)) dL_law_657 ?_
  refine j_callV (As := [(gi (xs (i + nI 1).toNatClampNeg)), (gi (xs (i + nI 2).toNatClampNeg))]) (rest := [gi r]) (v := some (gi r)) C (by decide) (kt_X2_statistic hI.1 (by decide) ht) (tw_cls hI.1) rfl q1965 q1966 q1967 q93 q1968 ⟨rfl, by decide +kernel, by decide +kernel, hl_X2_statistic⟩ (by decide) rfl (Nat.le_of_ble_eq_true rfl) dL_law_658 ?_
  exact j_icmp_eq (tgt := 715) C dL_law_661 (by decide) (fun _ => kk _ _ hinv') (fun z => absurd rfl z)
theorem hl_X0_image : (parseMethodDescriptor yX0_image.desc).map (fun d => d.parameters.length) = some 0 := by decide +kernel
theorem hl_X2_image : (parseMethodDescriptor yX2_image.desc).map (fun d => d.parameters.length) = some 0 := by decide +kernel
theorem law_case_18 (C : gC D dA (lA s) K p room_1 s m #[.ref b] meth c cL_law 4 "WorkflowEngineLaw" 200) (hI : LawInv xa ad Inv) (hX : va_X b L xs s s.heap) (hbl : b < s.heap.size) (hinv : Inv (k + 1) w σ) (hi : ∀ a : Nat, a < 4 → vp_in (i + nI a) L) (kk : ∀ w1 σ1, Inv k w1 σ1 → gJ D dA (lA s) K p l e room_1 s m #[.ref b] below meth c Q 4 715 [(3, gi i), (2, ga (some (ad 0))), (1, ga (some xa)), (0, ga (some b))] [] w1) : gJ D dA (lA s) K p l e room_1 s m #[.ref b] below meth c Q 4 666 [(3, gi i), (2, ga (some (ad 0))), (1, ga (some xa)), (0, ga (some b))] [] w := by
  obtain ⟨r, w', σ', hc, ht, hw', hinv'⟩ := hI.2.2.2.1 18 (by decide) k (xs (i + nI 1).toNatClampNeg) (xs (i + nI 2).toNatClampNeg) (xs (i + nI 3).toNatClampNeg) w σ hinv
  have he := hI.2.1 _ _ _ hinv
  have hc : f_X0_image xa  w = some (r, w') := hc
  have ht : t_X2_image  σ = some (r, σ') := ht
  refine j_aload_n C dL_law_666 rfl ?_
  refine j_callV (As := []) (rest := []) (v := some (gi r)) C (by decide) (k_X0_image (by decide) hc) he rfl q1531 q1532 q1533 q91 q1534 ⟨rfl, by decide +kernel, by decide +kernel, hl_X0_image⟩ (by decide) rfl (Nat.le_of_ble_eq_true rfl) dL_law_667 ?_
  refine j_eqw hw' ?_
  refine j_aload_n C dL_law_670 rfl ?_
  refine j_callV (As := []) (rest := [gi r]) (v := some (gi r)) C (by decide) (kt_X2_image hI.1 (by decide) ht) (tw_cls hI.1) rfl q1974 q1975 q1976 q93 q1977 ⟨rfl, by decide +kernel, by decide +kernel, hl_X2_image⟩ (by decide) rfl (Nat.le_of_ble_eq_true rfl) dL_law_671 ?_
  exact j_icmp_eq (tgt := 715) C dL_law_674 (by decide) (fun _ => kk _ _ hinv') (fun z => absurd rfl z)
theorem hl_X0_undo : (parseMethodDescriptor yX0_undo.desc).map (fun d => d.parameters.length) = some 0 := by decide +kernel
theorem hl_X2_undo : (parseMethodDescriptor yX2_undo.desc).map (fun d => d.parameters.length) = some 0 := by decide +kernel
theorem law_case_19 (C : gC D dA (lA s) K p room_1 s m #[.ref b] meth c cL_law 4 "WorkflowEngineLaw" 200) (hI : LawInv xa ad Inv) (hX : va_X b L xs s s.heap) (hbl : b < s.heap.size) (hinv : Inv (k + 1) w σ) (hi : ∀ a : Nat, a < 4 → vp_in (i + nI a) L) (kk : ∀ w1 σ1, Inv k w1 σ1 → gJ D dA (lA s) K p l e room_1 s m #[.ref b] below meth c Q 4 715 [(3, gi i), (2, ga (some (ad 0))), (1, ga (some xa)), (0, ga (some b))] [] w1) : gJ D dA (lA s) K p l e room_1 s m #[.ref b] below meth c Q 4 679 [(3, gi i), (2, ga (some (ad 0))), (1, ga (some xa)), (0, ga (some b))] [] w := by
  obtain ⟨r, w', σ', hc, ht, hw', hinv'⟩ := hI.2.2.2.1 19 (by decide) k (xs (i + nI 1).toNatClampNeg) (xs (i + nI 2).toNatClampNeg) (xs (i + nI 3).toNatClampNeg) w σ hinv
  have he := hI.2.1 _ _ _ hinv
  have hc : f_X0_undo xa  w = some (r, w') := hc
  have ht : t_X2_undo  σ = some (r, σ') := ht
  refine j_aload_n C dL_law_679 rfl ?_
  refine j_callV (As := []) (rest := []) (v := some (gi r)) C (by decide) (k_X0_undo (by decide) hc) he rfl q1571 q1572 q1573 q91 q1574 ⟨rfl, by decide +kernel, by decide +kernel, hl_X0_undo⟩ (by decide) rfl (Nat.le_of_ble_eq_true rfl) dL_law_680 ?_
  refine j_eqw hw' ?_
  refine j_aload_n C dL_law_683 rfl ?_
  refine j_callV (As := []) (rest := [gi r]) (v := some (gi r)) C (by decide) (kt_X2_undo hI.1 (by decide) ht) (tw_cls hI.1) rfl q1978 q1979 q1980 q93 q1981 ⟨rfl, by decide +kernel, by decide +kernel, hl_X2_undo⟩ (by decide) rfl (Nat.le_of_ble_eq_true rfl) dL_law_684 ?_
  exact j_icmp_eq (tgt := 715) C dL_law_687 (by decide) (fun _ => kk _ _ hinv') (fun z => absurd rfl z)
theorem hl_X0_count : (parseMethodDescriptor yX0_count.desc).map (fun d => d.parameters.length) = some 1 := by decide +kernel
theorem hl_X2_count : (parseMethodDescriptor yX2_count.desc).map (fun d => d.parameters.length) = some 1 := by decide +kernel
theorem law_case_20 (C : gC D dA (lA s) K p room_1 s m #[.ref b] meth c cL_law 4 "WorkflowEngineLaw" 200) (hI : LawInv xa ad Inv) (hX : va_X b L xs s s.heap) (hbl : b < s.heap.size) (hinv : Inv (k + 1) w σ) (hi : ∀ a : Nat, a < 4 → vp_in (i + nI a) L) (kk : ∀ w1 σ1, Inv k w1 σ1 → gJ D dA (lA s) K p l e room_1 s m #[.ref b] below meth c Q 4 715 [(3, gi i), (2, ga (some (ad 0))), (1, ga (some xa)), (0, ga (some b))] [] w1) : gJ D dA (lA s) K p l e room_1 s m #[.ref b] below meth c Q 4 692 [(3, gi i), (2, ga (some (ad 0))), (1, ga (some xa)), (0, ga (some b))] [] w := by
  obtain ⟨r, w', σ', hc, ht, hw', hinv'⟩ := hI.2.2.2.1 20 (by decide) k (xs (i + nI 1).toNatClampNeg) (xs (i + nI 2).toNatClampNeg) (xs (i + nI 3).toNatClampNeg) w σ hinv
  have he := hI.2.1 _ _ _ hinv
  have hc : f_X0_count xa (xs (i + nI 1).toNatClampNeg) w = some (r, w') := hc
  have ht : t_X2_count (xs (i + nI 1).toNatClampNeg) σ = some (r, σ') := ht
  refine j_aload_n C dL_law_692 rfl ?_
  refine j_aload_n C dL_law_693 rfl ?_
  refine j_iload_n C dL_law_694 rfl ?_
  refine j_iconst (v := nI 1) C dL_law_695 (by decide) ?_
  refine j_iadd C dL_law_696 ?_
  refine j_sld C hX hbl (hi 1 (by decide)) dL_law_697 ?_
  refine j_callV (As := [(gi (xs (i + nI 1).toNatClampNeg))]) (rest := []) (v := some (gi r)) C (by decide) (k_X0_count (by decide) hc) he rfl q1580 q1581 q1582 q91 q1583 ⟨rfl, by decide +kernel, by decide +kernel, hl_X0_count⟩ (by decide) rfl (Nat.le_of_ble_eq_true rfl) dL_law_698 ?_
  refine j_eqw hw' ?_
  refine j_aload_n C dL_law_701 rfl ?_
  refine j_aload_n C dL_law_702 rfl ?_
  refine j_iload_n C dL_law_703 rfl ?_
  refine j_iconst (v := nI 1) C dL_law_704 (by decide) ?_
  refine j_iadd C dL_law_705 ?_
  refine j_sld C hX hbl (hi 1 (by decide)) dL_law_706 ?_
  refine j_callV (As := [(gi (xs (i + nI 1).toNatClampNeg))]) (rest := [gi r]) (v := some (gi r)) C (by decide) (kt_X2_count hI.1 (by decide) ht) (tw_cls hI.1) rfl q1982 q1983 q1984 q93 q1985 ⟨rfl, by decide +kernel, by decide +kernel, hl_X2_count⟩ (by decide) rfl (Nat.le_of_ble_eq_true rfl) dL_law_707 ?_
  exact j_icmp_eq (tgt := 715) C dL_law_710 (by decide) (fun _ => kk _ _ hinv') (fun z => absurd rfl z)
theorem law_ar {L j : Nat} (hL : L ≤ 256) (hj : j ≤ 64) : (Int32.ofNat L - nI 4 < Int32.ofNat (4 * j)) ↔ L < 4 * j + 4 := by
  have e1 : (Int32.ofNat L).toInt = (L : Int) := nI_toInt (n := L) (by omega)
  have e2 : (Int32.ofNat (4 * j)).toInt = ((4 * j : Nat) : Int) := nI_toInt (n := 4 * j) (by omega)
  have e3 : (nI 4).toInt = ((4 : Nat) : Int) := nI_toInt (by omega)
  rw [Int32.lt_iff_toInt_lt, Int32.toInt_sub, e1, e2, e3, Int.bmod_eq_of_le (by omega) (by omega)]
  omega
theorem law_in {L j a : Nat} (hL : L ≤ 256) (ha : a < 4) (h : 4 * j + 4 ≤ L) : vp_in (Int32.ofNat (4 * j) + nI a) L := by
  have e : Int32.ofNat (4 * j) + nI a = Int32.ofNat (4 * j + a) := by rw [Int32.ofNat_add]; rfl
  have e2 : (Int32.ofNat (4 * j + a)).toInt = ((4 * j + a : Nat) : Int) := nI_toInt (n := 4 * j + a) (by omega)
  rw [e]
  intro hh
  rcases hh with h1 | h1
  · rw [Int32.lt_iff_toInt_lt, e2] at h1
    have : (0 : Int32).toInt = 0 := by decide
    omega
  · have e3 : (Int32.ofNat (4 * j + a)).toNatClampNeg = 4 * j + a := by
      show (Int32.ofNat (4 * j + a)).toInt.toNat = _
      rw [e2]
      omega
    rw [e3] at h1
    omega
theorem law_loop (C : gC D dA (lA s) K p room_1 s m #[.ref b] meth c cL_law 4 "WorkflowEngineLaw" 200) (hI : LawInv xa ad Inv) (hX : va_X b L xs s s.heap) (hbl : b < s.heap.size) (hL : L ≤ 256) (hend : ∀ (i : Int32) (w : gw), gJ D dA (lA s) K p l e room_1 s m #[.ref b] below meth c Q 4 721 [(3, gi i), (2, ga (some (ad 0))), (1, ga (some xa)), (0, ga (some b))] [] w) : ∀ (k j : Nat) (i : Int32) (w : gw) (σ : TS), i = Int32.ofNat (4 * j) → Inv k w σ → 4 * (j + k) ≤ L → L < 4 * (j + k) + 4 → gJ D dA (lA s) K p l e room_1 s m #[.ref b] below meth c Q 4 18 [(3, gi i), (2, ga (some (ad 0))), (1, ga (some xa)), (0, ga (some b))] [] w := by
  intro k
  induction k with
  | zero =>
    intro j i w σ hij hinv h1 h2
    refine j_iload_n C dL_law_18 rfl ?_
    refine j_aload_n C dL_law_19 rfl ?_
    refine j_slen C hX hbl dL_law_20 ?_
    refine j_iconst (v := nI 4) C dL_law_21 (by decide) ?_
    refine j_isub C dL_law_22 ?_
    refine j_icmp_gt (tgt := 721) C dL_law_23 (by decide) (fun _ => hend _ _) (fun z => ?_)
    rw [hij] at z
    exact absurd ((law_ar hL (by omega)).mpr (by omega)) z
  | succ k ih =>
    intro j i w σ hij hinv h1 h2
    have hi : ∀ a : Nat, a < 4 → vp_in (i + nI a) L := fun a ha => by rw [hij]; exact law_in hL ha (by omega)
    have hnext : ∀ w1 σ1, Inv k w1 σ1 → gJ D dA (lA s) K p l e room_1 s m #[.ref b] below meth c Q 4 715 [(3, gi i), (2, ga (some (ad 0))), (1, ga (some xa)), (0, ga (some b))] [] w1 := by
      intro w1 σ1 hv
      have hi2 : i + nI 4 = Int32.ofNat (4 * (j + 1)) := by rw [hij, show 4 * (j + 1) = 4 * j + 4 from by omega, Int32.ofNat_add]; rfl
      refine j_iinc (v := i + nI 4) (lv' := [(3, gi (i + nI 4)), (2, ga (some (ad 0))), (1, ga (some xa)), (0, ga (some b))]) C dL_law_715 rfl rfl (by decide) rfl ?_
      refine j_goto (tgt := 18) C dL_law_718 (by decide) ?_
      exact ih (j + 1) _ w1 σ1 hi2 hv (by omega) (by omega)
    refine j_iload_n C dL_law_18 rfl ?_
    refine j_aload_n C dL_law_19 rfl ?_
    refine j_slen C hX hbl dL_law_20 ?_
    refine j_iconst (v := nI 4) C dL_law_21 (by decide) ?_
    refine j_isub C dL_law_22 ?_
    refine j_icmp_gt (tgt := 721) C dL_law_23 (by decide) (fun z => ?_) (fun _ => ?_)
    · rw [hij] at z
      exact absurd ((law_ar hL (by omega)).mp z) (by omega)
    refine j_aload_n C dL_law_26 rfl ?_
    refine j_iload_n C dL_law_27 rfl ?_
    refine j_sld C hX hbl (by have h9 := hi 0 (by decide); rw [show i + nI 0 = i from Int32.add_zero i] at h9; exact h9) dL_law_28 ?_
    refine j_bipush (v := nI 31) C dL_law_29 (by decide) ?_
    refine j_iand C dL_law_31 ?_
    generalize xs i.toNatClampNeg &&& nI 31 = x
    by_cases n0 : x = nI 0
    · refine j_tableIn (off := 100) (tgt := 132) C dL_law_32 (by rw [n0]; decide) (by rw [n0]; decide) (by rw [n0]; decide) (by decide) ?_
      exact law_case_0 C hI hX hbl hinv hi hnext
    by_cases n1 : x = nI 1
    · refine j_tableIn (off := 123) (tgt := 155) C dL_law_32 (by rw [n1]; decide) (by rw [n1]; decide) (by rw [n1]; decide) (by decide) ?_
      exact law_case_1 C hI hX hbl hinv hi hnext
    by_cases n2 : x = nI 2
    · refine j_tableIn (off := 146) (tgt := 178) C dL_law_32 (by rw [n2]; decide) (by rw [n2]; decide) (by rw [n2]; decide) (by decide) ?_
      exact law_case_2 C hI hX hbl hinv hi hnext
    by_cases n3 : x = nI 3
    · refine j_tableIn (off := 169) (tgt := 201) C dL_law_32 (by rw [n3]; decide) (by rw [n3]; decide) (by rw [n3]; decide) (by decide) ?_
      exact law_case_3 C hI hX hbl hinv hi hnext
    by_cases n4 : x = nI 4
    · refine j_tableIn (off := 212) (tgt := 244) C dL_law_32 (by rw [n4]; decide) (by rw [n4]; decide) (by rw [n4]; decide) (by decide) ?_
      exact law_case_4 C hI hX hbl hinv hi hnext
    by_cases n5 : x = nI 5
    · refine j_tableIn (off := 245) (tgt := 277) C dL_law_32 (by rw [n5]; decide) (by rw [n5]; decide) (by rw [n5]; decide) (by decide) ?_
      exact law_case_5 C hI hX hbl hinv hi hnext
    by_cases n6 : x = nI 6
    · refine j_tableIn (off := 278) (tgt := 310) C dL_law_32 (by rw [n6]; decide) (by rw [n6]; decide) (by rw [n6]; decide) (by decide) ?_
      exact law_case_6 C hI hX hbl hinv hi hnext
    by_cases n7 : x = nI 7
    · refine j_tableIn (off := 301) (tgt := 333) C dL_law_32 (by rw [n7]; decide) (by rw [n7]; decide) (by rw [n7]; decide) (by decide) ?_
      exact law_case_7 C hI hX hbl hinv hi hnext
    by_cases n8 : x = nI 8
    · refine j_tableIn (off := 334) (tgt := 366) C dL_law_32 (by rw [n8]; decide) (by rw [n8]; decide) (by rw [n8]; decide) (by decide) ?_
      exact law_case_8 C hI hX hbl hinv hi hnext
    by_cases n9 : x = nI 9
    · refine j_tableIn (off := 357) (tgt := 389) C dL_law_32 (by rw [n9]; decide) (by rw [n9]; decide) (by rw [n9]; decide) (by decide) ?_
      exact law_case_9 C hI hX hbl hinv hi hnext
    by_cases n10 : x = nI 10
    · refine j_tableIn (off := 380) (tgt := 412) C dL_law_32 (by rw [n10]; decide) (by rw [n10]; decide) (by rw [n10]; decide) (by decide) ?_
      exact law_case_10 C hI hX hbl hinv hi hnext
    by_cases n11 : x = nI 11
    · refine j_tableIn (off := 403) (tgt := 435) C dL_law_32 (by rw [n11]; decide) (by rw [n11]; decide) (by rw [n11]; decide) (by decide) ?_
      exact law_case_11 C hI hX hbl hinv hi hnext
    by_cases n12 : x = nI 12
    · refine j_tableIn (off := 436) (tgt := 468) C dL_law_32 (by rw [n12]; decide) (by rw [n12]; decide) (by rw [n12]; decide) (by decide) ?_
      exact law_case_12 C hI hX hbl hinv hi hnext
    by_cases n13 : x = nI 13
    · refine j_tableIn (off := 479) (tgt := 511) C dL_law_32 (by rw [n13]; decide) (by rw [n13]; decide) (by rw [n13]; decide) (by decide) ?_
      exact law_case_13 C hI hX hbl hinv hi hnext
    by_cases n14 : x = nI 14
    · refine j_tableIn (off := 512) (tgt := 544) C dL_law_32 (by rw [n14]; decide) (by rw [n14]; decide) (by rw [n14]; decide) (by decide) ?_
      exact law_case_14 C hI hX hbl hinv hi hnext
    by_cases n15 : x = nI 15
    · refine j_tableIn (off := 535) (tgt := 567) C dL_law_32 (by rw [n15]; decide) (by rw [n15]; decide) (by rw [n15]; decide) (by decide) ?_
      exact law_case_15 C hI hX hbl hinv hi hnext
    by_cases n16 : x = nI 16
    · refine j_tableIn (off := 568) (tgt := 600) C dL_law_32 (by rw [n16]; decide) (by rw [n16]; decide) (by rw [n16]; decide) (by decide) ?_
      exact law_case_16 C hI hX hbl hinv hi hnext
    by_cases n17 : x = nI 17
    · refine j_tableIn (off := 601) (tgt := 633) C dL_law_32 (by rw [n17]; decide) (by rw [n17]; decide) (by rw [n17]; decide) (by decide) ?_
      exact law_case_17 C hI hX hbl hinv hi hnext
    by_cases n18 : x = nI 18
    · refine j_tableIn (off := 634) (tgt := 666) C dL_law_32 (by rw [n18]; decide) (by rw [n18]; decide) (by rw [n18]; decide) (by decide) ?_
      exact law_case_18 C hI hX hbl hinv hi hnext
    by_cases n19 : x = nI 19
    · refine j_tableIn (off := 647) (tgt := 679) C dL_law_32 (by rw [n19]; decide) (by rw [n19]; decide) (by rw [n19]; decide) (by decide) ?_
      exact law_case_19 C hI hX hbl hinv hi hnext
    by_cases n20 : x = nI 20
    · refine j_tableIn (off := 660) (tgt := 692) C dL_law_32 (by rw [n20]; decide) (by rw [n20]; decide) (by rw [n20]; decide) (by decide) ?_
      exact law_case_20 C hI hX hbl hinv hi hnext
    refine j_tableOut (tgt := 715) C dL_law_32 (g_out21 (a := 0) (by decide) n0 n1 n2 n3 n4 n5 n6 n7 n8 n9 n10 n11 n12 n13 n14 n15 n16 n17 n18 n19 n20) (by decide) ?_
    exact hnext w σ (hI.2.2.2.2 _ _ _ hinv)
end LAWW
