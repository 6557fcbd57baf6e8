set_option maxRecDepth 100000
theorem fl_X8_7_10 : gFL RX8 7 10 0 := gFL.mk (Cn := RX10) (T := TX10) (N := 2) (ref := "WorkflowEngine$Node") rfl in_X10 (by decide) q371 rfl rfl (Or.inl rfl)
theorem nm_10 : gNm TX10 2 := by
  unfold gNm
  decide +kernel
theorem tb_10 : gTb 10 := fun Cn T N h => by
  have h : (RX10, TX10, 2) = (Cn, T, N) := Option.some.inj h
  cases h
  exact ⟨nm_10, tyX10, tyX10_ok⟩
theorem fk_10_0 : gFk 10 0 "I" true "WorkflowEngine$Node" := fun Cn T N h => by
  have h : (RX10, TX10, 2) = (Cn, T, N) := Option.some.inj h
  cases h
  exact ⟨rfl, rfl, rfl⟩
def f_X8_init_c10 (a0 : Nat) (p1 : Int32) (w0 : gw) : Option (Unit × gw) := gB1 (gPut w0 a0 10 0 (gi p1)) fun w1 => some ((), w1)
set_option maxHeartbeats 4000000 in
set_option maxRecDepth 100000 in
theorem k_X8_init_c10 {D : va_G} {dA : Nat → ClassId} {A : Nat → Prop} {K : Nat → Nat} {l : Launch} {h : Nat} (hh : 1 ≤ h) {a0 : Nat} {p1 : Int32} {w0 ww : gw} {rr : Unit} (hf : f_X8_init_c10 a0 p1 w0 = some (rr, ww)) : gMet D dA A K l yX8_init (ws_ yX8_init cX8_init 2 none) h [(ga (some a0)), (gi p1)] none w0 ww := by
  refine j_start (own := RX8) (by decide +kernel) rfl (Nat.le_of_ble_eq_true rfl) ?_
  intro p e R s m args below meth c C hr hin hw
  unfold f_X8_init_c10 at hf
  show gJ D dA A K p l e R s m args below meth c (gEnd D dA A K below args s w0 none ww) 2 0 [(0, (ga (some a0))), (1, (gi p1))] [] w0
  refine j_aload_n C dX8_init_0 rfl ?_
  refine j_objInit C (by omega) q361 q164 q165 (by decide) dX8_init_1 ?_
  refine j_aload_n C dX8_init_4 rfl ?_
  refine j_iload_n C dX8_init_5 rfl ?_
  replace hf := gB1_e hf
  obtain ⟨w1, ew1, hf⟩ := hf
  refine j_putF C fl_X8_7_10 tb_10 hin ew1 fk_10_0 rfl (fit_I p1) dX8_init_6 ?_
  obtain ⟨rfl, rfl⟩ := gSome hf
  exact j_vret C hr hw dX8_init_9
theorem fl_X8_7_11 : gFL RX8 7 11 0 := gFL.mk (Cn := RX11) (T := TX11) (N := 3) (ref := "WorkflowEngine$Node") rfl in_X11 (by decide) q371 rfl rfl (Or.inl rfl)
theorem nm_11 : gNm TX11 3 := by
  unfold gNm
  decide +kernel
theorem tb_11 : gTb 11 := fun Cn T N h => by
  have h : (RX11, TX11, 3) = (Cn, T, N) := Option.some.inj h
  cases h
  exact ⟨nm_11, tyX11, tyX11_ok⟩
theorem fk_11_0 : gFk 11 0 "I" true "WorkflowEngine$Node" := fun Cn T N h => by
  have h : (RX11, TX11, 3) = (Cn, T, N) := Option.some.inj h
  cases h
  exact ⟨rfl, rfl, rfl⟩
def f_X8_init_c11 (a0 : Nat) (p1 : Int32) (w0 : gw) : Option (Unit × gw) := gB1 (gPut w0 a0 11 0 (gi p1)) fun w1 => some ((), w1)
set_option maxHeartbeats 4000000 in
set_option maxRecDepth 100000 in
theorem k_X8_init_c11 {D : va_G} {dA : Nat → ClassId} {A : Nat → Prop} {K : Nat → Nat} {l : Launch} {h : Nat} (hh : 1 ≤ h) {a0 : Nat} {p1 : Int32} {w0 ww : gw} {rr : Unit} (hf : f_X8_init_c11 a0 p1 w0 = some (rr, ww)) : gMet D dA A K l yX8_init (ws_ yX8_init cX8_init 2 none) h [(ga (some a0)), (gi p1)] none w0 ww := by
  refine j_start (own := RX8) (by decide +kernel) rfl (Nat.le_of_ble_eq_true rfl) ?_
  intro p e R s m args below meth c C hr hin hw
  unfold f_X8_init_c11 at hf
  show gJ D dA A K p l e R s m args below meth c (gEnd D dA A K below args s w0 none ww) 2 0 [(0, (ga (some a0))), (1, (gi p1))] [] w0
  refine j_aload_n C dX8_init_0 rfl ?_
  refine j_objInit C (by omega) q361 q164 q165 (by decide) dX8_init_1 ?_
  refine j_aload_n C dX8_init_4 rfl ?_
  refine j_iload_n C dX8_init_5 rfl ?_
  replace hf := gB1_e hf
  obtain ⟨w1, ew1, hf⟩ := hf
  refine j_putF C fl_X8_7_11 tb_11 hin ew1 fk_11_0 rfl (fit_I p1) dX8_init_6 ?_
  obtain ⟨rfl, rfl⟩ := gSome hf
  exact j_vret C hr hw dX8_init_9
theorem fl_X8_7_12 : gFL RX8 7 12 0 := gFL.mk (Cn := RX12) (T := TX12) (N := 4) (ref := "WorkflowEngine$Node") rfl in_X12 (by decide) q371 rfl rfl (Or.inl rfl)
theorem nm_12 : gNm TX12 4 := by
  unfold gNm
  decide +kernel
theorem tb_12 : gTb 12 := fun Cn T N h => by
  have h : (RX12, TX12, 4) = (Cn, T, N) := Option.some.inj h
  cases h
  exact ⟨nm_12, tyX12, tyX12_ok⟩
theorem fk_12_0 : gFk 12 0 "I" true "WorkflowEngine$Node" := fun Cn T N h => by
  have h : (RX12, TX12, 4) = (Cn, T, N) := Option.some.inj h
  cases h
  exact ⟨rfl, rfl, rfl⟩
def f_X8_init_c12 (a0 : Nat) (p1 : Int32) (w0 : gw) : Option (Unit × gw) := gB1 (gPut w0 a0 12 0 (gi p1)) fun w1 => some ((), w1)
set_option maxHeartbeats 4000000 in
set_option maxRecDepth 100000 in
theorem k_X8_init_c12 {D : va_G} {dA : Nat → ClassId} {A : Nat → Prop} {K : Nat → Nat} {l : Launch} {h : Nat} (hh : 1 ≤ h) {a0 : Nat} {p1 : Int32} {w0 ww : gw} {rr : Unit} (hf : f_X8_init_c12 a0 p1 w0 = some (rr, ww)) : gMet D dA A K l yX8_init (ws_ yX8_init cX8_init 2 none) h [(ga (some a0)), (gi p1)] none w0 ww := by
  refine j_start (own := RX8) (by decide +kernel) rfl (Nat.le_of_ble_eq_true rfl) ?_
  intro p e R s m args below meth c C hr hin hw
  unfold f_X8_init_c12 at hf
  show gJ D dA A K p l e R s m args below meth c (gEnd D dA A K below args s w0 none ww) 2 0 [(0, (ga (some a0))), (1, (gi p1))] [] w0
  refine j_aload_n C dX8_init_0 rfl ?_
  refine j_objInit C (by omega) q361 q164 q165 (by decide) dX8_init_1 ?_
  refine j_aload_n C dX8_init_4 rfl ?_
  refine j_iload_n C dX8_init_5 rfl ?_
  replace hf := gB1_e hf
  obtain ⟨w1, ew1, hf⟩ := hf
  refine j_putF C fl_X8_7_12 tb_12 hin ew1 fk_12_0 rfl (fit_I p1) dX8_init_6 ?_
  obtain ⟨rfl, rfl⟩ := gSome hf
  exact j_vret C hr hw dX8_init_9
theorem fl_X8_7_13 : gFL RX8 7 13 0 := gFL.mk (Cn := RX13) (T := TX13) (N := 5) (ref := "WorkflowEngine$Node") rfl in_X13 (by decide) q371 rfl rfl (Or.inl rfl)
theorem nm_13 : gNm TX13 5 := by
  unfold gNm
  decide +kernel
theorem tb_13 : gTb 13 := fun Cn T N h => by
  have h : (RX13, TX13, 5) = (Cn, T, N) := Option.some.inj h
  cases h
  exact ⟨nm_13, tyX13, tyX13_ok⟩
theorem fk_13_0 : gFk 13 0 "I" true "WorkflowEngine$Node" := fun Cn T N h => by
  have h : (RX13, TX13, 5) = (Cn, T, N) := Option.some.inj h
  cases h
  exact ⟨rfl, rfl, rfl⟩
def f_X8_init_c13 (a0 : Nat) (p1 : Int32) (w0 : gw) : Option (Unit × gw) := gB1 (gPut w0 a0 13 0 (gi p1)) fun w1 => some ((), w1)
set_option maxHeartbeats 4000000 in
set_option maxRecDepth 100000 in
theorem k_X8_init_c13 {D : va_G} {dA : Nat → ClassId} {A : Nat → Prop} {K : Nat → Nat} {l : Launch} {h : Nat} (hh : 1 ≤ h) {a0 : Nat} {p1 : Int32} {w0 ww : gw} {rr : Unit} (hf : f_X8_init_c13 a0 p1 w0 = some (rr, ww)) : gMet D dA A K l yX8_init (ws_ yX8_init cX8_init 2 none) h [(ga (some a0)), (gi p1)] none w0 ww := by
  refine j_start (own := RX8) (by decide +kernel) rfl (Nat.le_of_ble_eq_true rfl) ?_
  intro p e R s m args below meth c C hr hin hw
  unfold f_X8_init_c13 at hf
  show gJ D dA A K p l e R s m args below meth c (gEnd D dA A K below args s w0 none ww) 2 0 [(0, (ga (some a0))), (1, (gi p1))] [] w0
  refine j_aload_n C dX8_init_0 rfl ?_
  refine j_objInit C (by omega) q361 q164 q165 (by decide) dX8_init_1 ?_
  refine j_aload_n C dX8_init_4 rfl ?_
  refine j_iload_n C dX8_init_5 rfl ?_
  replace hf := gB1_e hf
  obtain ⟨w1, ew1, hf⟩ := hf
  refine j_putF C fl_X8_7_13 tb_13 hin ew1 fk_13_0 rfl (fit_I p1) dX8_init_6 ?_
  obtain ⟨rfl, rfl⟩ := gSome hf
  exact j_vret C hr hw dX8_init_9
theorem fl_X8_7_14 : gFL RX8 7 14 0 := gFL.mk (Cn := RX14) (T := TX14) (N := 3) (ref := "WorkflowEngine$Node") rfl in_X14 (by decide) q371 rfl rfl (Or.inl rfl)
theorem nm_14 : gNm TX14 3 := by
  unfold gNm
  decide +kernel
theorem tb_14 : gTb 14 := fun Cn T N h => by
  have h : (RX14, TX14, 3) = (Cn, T, N) := Option.some.inj h
  cases h
  exact ⟨nm_14, tyX14, tyX14_ok⟩
theorem fk_14_0 : gFk 14 0 "I" true "WorkflowEngine$Node" := fun Cn T N h => by
  have h : (RX14, TX14, 3) = (Cn, T, N) := Option.some.inj h
  cases h
  exact ⟨rfl, rfl, rfl⟩
def f_X8_init_c14 (a0 : Nat) (p1 : Int32) (w0 : gw) : Option (Unit × gw) := gB1 (gPut w0 a0 14 0 (gi p1)) fun w1 => some ((), w1)
set_option maxHeartbeats 4000000 in
set_option maxRecDepth 100000 in
theorem k_X8_init_c14 {D : va_G} {dA : Nat → ClassId} {A : Nat → Prop} {K : Nat → Nat} {l : Launch} {h : Nat} (hh : 1 ≤ h) {a0 : Nat} {p1 : Int32} {w0 ww : gw} {rr : Unit} (hf : f_X8_init_c14 a0 p1 w0 = some (rr, ww)) : gMet D dA A K l yX8_init (ws_ yX8_init cX8_init 2 none) h [(ga (some a0)), (gi p1)] none w0 ww := by
  refine j_start (own := RX8) (by decide +kernel) rfl (Nat.le_of_ble_eq_true rfl) ?_
  intro p e R s m args below meth c C hr hin hw
  unfold f_X8_init_c14 at hf
  show gJ D dA A K p l e R s m args below meth c (gEnd D dA A K below args s w0 none ww) 2 0 [(0, (ga (some a0))), (1, (gi p1))] [] w0
  refine j_aload_n C dX8_init_0 rfl ?_
  refine j_objInit C (by omega) q361 q164 q165 (by decide) dX8_init_1 ?_
  refine j_aload_n C dX8_init_4 rfl ?_
  refine j_iload_n C dX8_init_5 rfl ?_
  replace hf := gB1_e hf
  obtain ⟨w1, ew1, hf⟩ := hf
  refine j_putF C fl_X8_7_14 tb_14 hin ew1 fk_14_0 rfl (fit_I p1) dX8_init_6 ?_
  obtain ⟨rfl, rfl⟩ := gSome hf
  exact j_vret C hr hw dX8_init_9
theorem dJ0_init_0 : decode cJ0_init 0 = .ok (.aload_n 0, 1) := by decide +kernel
theorem dJ0_init_1 : decode cJ0_init 1 = .ok (.invokespecial 1, 3) := by decide +kernel
theorem dJ0_init_4 : decode cJ0_init 4 = .ok (.return_, 1) := by decide +kernel
def f_J0_init_c8 (a0 : Nat) (w0 : gw) : Option (Unit × gw) := some ((), w0)
set_option maxHeartbeats 4000000 in
set_option maxRecDepth 100000 in
theorem k_J0_init_c8 {D : va_G} {dA : Nat → ClassId} {A : Nat → Prop} {K : Nat → Nat} {l : Launch} {h : Nat} (hh : 1 ≤ h) {a0 : Nat} {w0 ww : gw} {rr : Unit} (hf : f_J0_init_c8 a0 w0 = some (rr, ww)) : gMet D dA A K l yJ0_init (ws_ yJ0_init cJ0_init 1 none) h [(ga (some a0))] none w0 ww := by
  refine j_start (own := RJ0) (by decide +kernel) rfl (Nat.le_of_ble_eq_true rfl) ?_
  intro p e R s m args below meth c C hr hin hw
  unfold f_J0_init_c8 at hf
  show gJ D dA A K p l e R s m args below meth c (gEnd D dA A K below args s w0 none ww) 1 0 [(0, (ga (some a0)))] [] w0
  refine j_aload_n C dJ0_init_0 rfl ?_
  refine j_objInit C (by omega) q204 q164 q165 (by decide) dJ0_init_1 ?_
  obtain ⟨rfl, rfl⟩ := gSome hf
  exact j_vret C hr hw dJ0_init_4
def dkwJ3_init_2_2 : List UInt8 := [44, 181, 0, 7, 29, 154, 0, 8, 42, 1, 181, 0, 24, 177]
abbrev dktJ3_init_2_2 : List UInt8 := dkwJ3_init_2_2 ++ []
def dkwJ3_init_2_1 : List UInt8 := [21, 4, 153, 0, 11, 42, 182, 0, 27, 87, 167, 0, 8, 42, 1, 181, 0, 17, 42, 43, 181, 0, 31, 42]
abbrev dktJ3_init_2_1 : List UInt8 := dkwJ3_init_2_1 ++ dktJ3_init_2_2
def dkwJ3_init_2_0 : List UInt8 := [42, 183, 0, 1, 42, 42, 181, 0, 7, 42, 178, 0, 13, 181, 0, 17, 42, 178, 0, 20, 181, 0, 24]
abbrev dktJ3_init_2_0 : List UInt8 := dkwJ3_init_2_0 ++ dktJ3_init_2_1
theorem dksJ3_init_2_0 : cJ3_init_2.data.toList.drop 0 = dktJ3_init_2_0 := by decide +kernel
theorem dksJ3_init_2_1 : cJ3_init_2.data.toList.drop 23 = dktJ3_init_2_1 := dk_seg dksJ3_init_2_0 23 rfl rfl
theorem dksJ3_init_2_2 : cJ3_init_2.data.toList.drop 47 = dktJ3_init_2_2 := dk_seg dksJ3_init_2_1 24 rfl rfl
theorem dJ3_init_2_0 : decode cJ3_init_2 0 = .ok (.aload_n 0, 1) := dk_42 (dk_at dksJ3_init_2_0 0 rfl rfl)
theorem dJ3_init_2_1 : decode cJ3_init_2 1 = .ok (.invokespecial 1, 3) := dk_183 0 1 (dk_at dksJ3_init_2_0 1 rfl rfl)
theorem dJ3_init_2_4 : decode cJ3_init_2 4 = .ok (.aload_n 0, 1) := dk_42 (dk_at dksJ3_init_2_0 4 rfl rfl)
theorem dJ3_init_2_5 : decode cJ3_init_2 5 = .ok (.aload_n 0, 1) := dk_42 (dk_at dksJ3_init_2_0 5 rfl rfl)
theorem dJ3_init_2_6 : decode cJ3_init_2 6 = .ok (.putfield 7, 3) := dk_181 0 7 (dk_at dksJ3_init_2_0 6 rfl rfl)
theorem dJ3_init_2_9 : decode cJ3_init_2 9 = .ok (.aload_n 0, 1) := dk_42 (dk_at dksJ3_init_2_0 9 rfl rfl)
theorem dJ3_init_2_10 : decode cJ3_init_2 10 = .ok (.getstatic 13, 3) := dk_178 0 13 (dk_at dksJ3_init_2_0 10 rfl rfl)
theorem dJ3_init_2_13 : decode cJ3_init_2 13 = .ok (.putfield 17, 3) := dk_181 0 17 (dk_at dksJ3_init_2_0 13 rfl rfl)
theorem dJ3_init_2_16 : decode cJ3_init_2 16 = .ok (.aload_n 0, 1) := dk_42 (dk_at dksJ3_init_2_0 16 rfl rfl)
theorem dJ3_init_2_17 : decode cJ3_init_2 17 = .ok (.getstatic 20, 3) := dk_178 0 20 (dk_at dksJ3_init_2_0 17 rfl rfl)
theorem dJ3_init_2_20 : decode cJ3_init_2 20 = .ok (.putfield 24, 3) := dk_181 0 24 (dk_at dksJ3_init_2_0 20 rfl rfl)
theorem dJ3_init_2_23 : decode cJ3_init_2 23 = .ok (.iload 4, 2) := dk_21 4 (dk_at dksJ3_init_2_1 0 rfl rfl)
theorem dJ3_init_2_25 : decode cJ3_init_2 25 = .ok (.ifCond .eq 11, 3) := dk_153 0 11 (dk_at dksJ3_init_2_1 2 rfl rfl)
theorem dJ3_init_2_28 : decode cJ3_init_2 28 = .ok (.aload_n 0, 1) := dk_42 (dk_at dksJ3_init_2_1 5 rfl rfl)
theorem dJ3_init_2_29 : decode cJ3_init_2 29 = .ok (.invokevirtual 27, 3) := dk_182 0 27 (dk_at dksJ3_init_2_1 6 rfl rfl)
theorem dJ3_init_2_32 : decode cJ3_init_2 32 = .ok (.pop, 1) := dk_87 (dk_at dksJ3_init_2_1 9 rfl rfl)
theorem dJ3_init_2_33 : decode cJ3_init_2 33 = .ok (.goto 8, 3) := dk_167 0 8 (dk_at dksJ3_init_2_1 10 rfl rfl)
theorem dJ3_init_2_36 : decode cJ3_init_2 36 = .ok (.aload_n 0, 1) := dk_42 (dk_at dksJ3_init_2_1 13 rfl rfl)
theorem dJ3_init_2_37 : decode cJ3_init_2 37 = .ok (.aconst_null, 1) := dk_1 (dk_at dksJ3_init_2_1 14 rfl rfl)
theorem dJ3_init_2_38 : decode cJ3_init_2 38 = .ok (.putfield 17, 3) := dk_181 0 17 (dk_at dksJ3_init_2_1 15 rfl rfl)
theorem dJ3_init_2_41 : decode cJ3_init_2 41 = .ok (.aload_n 0, 1) := dk_42 (dk_at dksJ3_init_2_1 18 rfl rfl)
theorem dJ3_init_2_42 : decode cJ3_init_2 42 = .ok (.aload_n 1, 1) := dk_43 (dk_at dksJ3_init_2_1 19 rfl rfl)
theorem dJ3_init_2_43 : decode cJ3_init_2 43 = .ok (.putfield 31, 3) := dk_181 0 31 (dk_at dksJ3_init_2_1 20 rfl rfl)
theorem dJ3_init_2_46 : decode cJ3_init_2 46 = .ok (.aload_n 0, 1) := dk_42 (dk_at dksJ3_init_2_1 23 rfl rfl)
theorem dJ3_init_2_47 : decode cJ3_init_2 47 = .ok (.aload_n 2, 1) := dk_44 (dk_at dksJ3_init_2_2 0 rfl rfl)
theorem dJ3_init_2_48 : decode cJ3_init_2 48 = .ok (.putfield 7, 3) := dk_181 0 7 (dk_at dksJ3_init_2_2 1 rfl rfl)
theorem dJ3_init_2_51 : decode cJ3_init_2 51 = .ok (.iload_n 3, 1) := dk_29 (dk_at dksJ3_init_2_2 4 rfl rfl)
theorem dJ3_init_2_52 : decode cJ3_init_2 52 = .ok (.ifCond .ne 8, 3) := dk_154 0 8 (dk_at dksJ3_init_2_2 5 rfl rfl)
theorem dJ3_init_2_55 : decode cJ3_init_2 55 = .ok (.aload_n 0, 1) := dk_42 (dk_at dksJ3_init_2_2 8 rfl rfl)
theorem dJ3_init_2_56 : decode cJ3_init_2 56 = .ok (.aconst_null, 1) := dk_1 (dk_at dksJ3_init_2_2 9 rfl rfl)
theorem dJ3_init_2_57 : decode cJ3_init_2 57 = .ok (.putfield 24, 3) := dk_181 0 24 (dk_at dksJ3_init_2_2 10 rfl rfl)
theorem dJ3_init_2_60 : decode cJ3_init_2 60 = .ok (.return_, 1) := dk_177 (dk_at dksJ3_init_2_2 13 rfl rfl)
theorem fl_J3_7_6 : gFL RJ3 7 6 0 := gFL.mk (Cn := RX6) (T := TX6) (N := 7) (ref := "java/lang/Throwable") rfl in_X6 (by decide) q293 rfl rfl (Or.inl rfl)
theorem ft_Ljava_lang_Throwable_ (r : Option Nat) : gFit "Ljava/lang/Throwable;" (ga r) := ⟨.object "java/lang/Throwable", by decide +kernel, by cases r <;> rfl, by cases r <;> rfl⟩
theorem nm_6 : gNm TX6 7 := by
  unfold gNm
  decide +kernel
theorem tb_6 : gTb 6 := fun Cn T N h => by
  have h : (RX6, TX6, 7) = (Cn, T, N) := Option.some.inj h
  cases h
  exact ⟨nm_6, tyX6, tyX6_ok⟩
theorem fk_6_0 : gFk 6 0 "Ljava/lang/Throwable;" false "java/lang/Throwable" := fun Cn T N h => by
  have h : (RX6, TX6, 7) = (Cn, T, N) := Option.some.inj h
  cases h
  exact ⟨rfl, rfl, rfl⟩
theorem fl_J3_17_6 : gFL RJ3 17 6 1 := gFL.mk (Cn := RX6) (T := TX6) (N := 7) (ref := "java/lang/Throwable") rfl in_X6 (by decide) q294 rfl rfl (Or.inl rfl)
theorem ft__Ljava_lang_StackTraceElement_ (r : Option Nat) : gFit "[Ljava/lang/StackTraceElement;" (ga r) := ⟨.array (.object "java/lang/StackTraceElement"), by decide +kernel, by cases r <;> rfl, by cases r <;> rfl⟩
theorem fk_6_1 : gFk 6 1 "[Ljava/lang/StackTraceElement;" false "java/lang/Throwable" := fun Cn T N h => by
  have h : (RX6, TX6, 7) = (Cn, T, N) := Option.some.inj h
  cases h
  exact ⟨rfl, rfl, rfl⟩
theorem fl_J3_24_6 : gFL RJ3 24 6 2 := gFL.mk (Cn := RX6) (T := TX6) (N := 7) (ref := "java/lang/Throwable") rfl in_X6 (by decide) q295 rfl rfl (Or.inl rfl)
theorem ft_Ljava_util_List_ (r : Option Nat) : gFit "Ljava/util/List;" (ga r) := ⟨.object "java/util/List", by decide +kernel, by cases r <;> rfl, by cases r <;> rfl⟩
theorem fk_6_2 : gFk 6 2 "Ljava/util/List;" false "java/lang/Throwable" := fun Cn T N h => by
  have h : (RX6, TX6, 7) = (Cn, T, N) := Option.some.inj h
  cases h
  exact ⟨rfl, rfl, rfl⟩
theorem fl_J3_31_6 : gFL RJ3 31 6 3 := gFL.mk (Cn := RX6) (T := TX6) (N := 7) (ref := "java/lang/Throwable") rfl in_X6 (by decide) q292 rfl rfl (Or.inl rfl)
theorem ft_Ljava_lang_String_ (r : Option Nat) : gFit "Ljava/lang/String;" (ga r) := ⟨.object "java/lang/String", by decide +kernel, by cases r <;> rfl, by cases r <;> rfl⟩
theorem fk_6_3 : gFk 6 3 "Ljava/lang/String;" false "java/lang/Throwable" := fun Cn T N h => by
  have h : (RX6, TX6, 7) = (Cn, T, N) := Option.some.inj h
  cases h
  exact ⟨rfl, rfl, rfl⟩
def f_J3_init_2_c6 (a0 : Nat) (p1 : Option Nat) (p2 : Option Nat) (p3 : Int32) (p4 : Int32) (w0 : gw) : Option (Unit × gw) := gB1 (gPut w0 a0 6 0 (ga (some a0))) fun w1 => gBd (gCo (w1.2.2.2 6)) fun r2 => gB1 (gPut w1 a0 6 1 (ga r2)) fun w3 => gBd (gCo (w3.2.2.2 7)) fun r4 => gB1 (gPut w3 a0 6 2 (ga r4)) fun w5 => if p4 = 0 then gB1 (gPut w5 a0 6 1 (ga none)) fun w7 => gB1 (gPut w7 a0 6 3 (ga p1)) fun w8 => gB1 (gPut w8 a0 6 0 (ga p2)) fun w9 => if p3 = 0 then gB1 (gPut w9 a0 6 2 (ga none)) fun w11 => some ((), w11) else some ((), w9) else none
set_option maxHeartbeats 4000000 in
set_option maxRecDepth 100000 in
theorem k_J3_init_2_c6 {D : va_G} {dA : Nat → ClassId} {A : Nat → Prop} {K : Nat → Nat} {l : Launch} {h : Nat} (hh : 1 ≤ h) {a0 : Nat} {p1 : Option Nat} {p2 : Option Nat} {p3 : Int32} {p4 : Int32} {w0 ww : gw} {rr : Unit} (hf : f_J3_init_2_c6 a0 p1 p2 p3 p4 w0 = some (rr, ww)) : gMet D dA A K l yJ3_init_2 (ws_ yJ3_init_2 cJ3_init_2 5 none) h [(ga (some a0)), (ga p1), (ga p2), (gi p3), (gi p4)] none w0 ww := by
  refine j_start (own := RJ3) (by decide +kernel) rfl (Nat.le_of_ble_eq_true rfl) ?_
  intro p e R s m args below meth c C hr hin hw
  unfold f_J3_init_2_c6 at hf
  show gJ D dA A K p l e R s m args below meth c (gEnd D dA A K below args s w0 none ww) 5 0 [(0, (ga (some a0))), (1, (ga p1)), (2, (ga p2)), (3, (gi p3)), (4, (gi p4))] [] w0
  refine j_aload_n C dJ3_init_2_0 rfl ?_
  refine j_objInit C (by omega) q264 q164 q165 (by decide) dJ3_init_2_1 ?_
  refine j_aload_n C dJ3_init_2_4 rfl ?_
  refine j_aload_n C dJ3_init_2_5 rfl ?_
  replace hf := gB1_e hf
  obtain ⟨w1, ew1, hf⟩ := hf
  refine j_put C fl_J3_7_6 tb_6 ew1 fk_6_0 (ft_Ljava_lang_Throwable_ (some a0)) dJ3_init_2_6 ?_
  refine j_aload_n C dJ3_init_2_9 rfl ?_
  replace hf := gBd_x hf
  obtain ⟨r2, er2, hf⟩ := hf
  refine j_getsO (i := 6) C C.2.2.2.2.2.1.2.2.2.2.1.2.2.2.2.1 q265 dJ3_init_2_10 ?_
  refine j_nmr er2 ?_
  replace hf := gB1_e hf
  obtain ⟨w3, ew3, hf⟩ := hf
  refine j_put C fl_J3_17_6 tb_6 ew3 fk_6_1 (ft__Ljava_lang_StackTraceElement_ r2) dJ3_init_2_13 ?_
  refine j_aload_n C dJ3_init_2_16 rfl ?_
  replace hf := gBd_x hf
  obtain ⟨r4, er4, hf⟩ := hf
  refine j_getsO (i := 7) C C.2.2.2.2.2.1.2.2.2.2.1.2.2.2.2.2 q267 dJ3_init_2_17 ?_
  refine j_nmr er4 ?_
  replace hf := gB1_e hf
  obtain ⟨w5, ew5, hf⟩ := hf
  refine j_put C fl_J3_24_6 tb_6 ew5 fk_6_2 (ft_Ljava_util_List_ r4) dJ3_init_2_20 ?_
  refine j_iload C dJ3_init_2_23 rfl ?_
  refine j_if_eq (tgt := 36) C dJ3_init_2_25 (by decide) (fun c6 => ?_) (fun c6 => ?_)
  · replace hf := gIf_t hf c6
    refine j_aload_n C dJ3_init_2_36 rfl ?_
    refine j_null C dJ3_init_2_37 ?_
    replace hf := gB1_e hf
    obtain ⟨w7, ew7, hf⟩ := hf
    refine j_put C fl_J3_17_6 tb_6 ew7 fk_6_1 (ft__Ljava_lang_StackTraceElement_ none) dJ3_init_2_38 ?_
    refine j_aload_n C dJ3_init_2_41 rfl ?_
    refine j_aload_n C dJ3_init_2_42 rfl ?_
    replace hf := gB1_e hf
    obtain ⟨w8, ew8, hf⟩ := hf
    refine j_put C fl_J3_31_6 tb_6 ew8 fk_6_3 (ft_Ljava_lang_String_ p1) dJ3_init_2_43 ?_
    refine j_aload_n C dJ3_init_2_46 rfl ?_
    refine j_aload_n C dJ3_init_2_47 rfl ?_
    replace hf := gB1_e hf
    obtain ⟨w9, ew9, hf⟩ := hf
    refine j_put C fl_J3_7_6 tb_6 ew9 fk_6_0 (ft_Ljava_lang_Throwable_ p2) dJ3_init_2_48 ?_
    refine j_iload_n C dJ3_init_2_51 rfl ?_
    refine j_if_ne (tgt := 60) C dJ3_init_2_52 (by decide) (fun c10 => ?_) (fun c10 => ?_)
    · replace hf := gIf_f hf c10
      obtain ⟨rfl, rfl⟩ := gSome hf
      exact j_vret C hr hw dJ3_init_2_60
    · replace hf := gIf_t hf c10
      refine j_aload_n C dJ3_init_2_55 rfl ?_
      refine j_null C dJ3_init_2_56 ?_
      replace hf := gB1_e hf
      obtain ⟨w11, ew11, hf⟩ := hf
      refine j_put C fl_J3_24_6 tb_6 ew11 fk_6_2 (ft_Ljava_util_List_ none) dJ3_init_2_57 ?_
      obtain ⟨rfl, rfl⟩ := gSome hf
      exact j_vret C hr hw dJ3_init_2_60
  · replace hf := gIf_f hf c6
    refine j_aload_n C dJ3_init_2_28 rfl ?_
    cases hf
theorem fl_J3_7_7 : gFL RJ3 7 7 0 := gFL.mk (Cn := RX7) (T := TX7) (N := 7) (ref := "java/lang/Throwable") rfl in_X7 (by decide) q293 rfl rfl (Or.inl rfl)
theorem nm_7 : gNm TX7 7 := by
  unfold gNm
  decide +kernel
theorem tb_7 : gTb 7 := fun Cn T N h => by
  have h : (RX7, TX7, 7) = (Cn, T, N) := Option.some.inj h
  cases h
  exact ⟨nm_7, tyX7, tyX7_ok⟩
theorem fk_7_0 : gFk 7 0 "Ljava/lang/Throwable;" false "java/lang/Throwable" := fun Cn T N h => by
  have h : (RX7, TX7, 7) = (Cn, T, N) := Option.some.inj h
  cases h
  exact ⟨rfl, rfl, rfl⟩
theorem fl_J3_17_7 : gFL RJ3 17 7 1 := gFL.mk (Cn := RX7) (T := TX7) (N := 7) (ref := "java/lang/Throwable") rfl in_X7 (by decide) q294 rfl rfl (Or.inl rfl)
theorem fk_7_1 : gFk 7 1 "[Ljava/lang/StackTraceElement;" false "java/lang/Throwable" := fun Cn T N h => by
  have h : (RX7, TX7, 7) = (Cn, T, N) := Option.some.inj h
  cases h
  exact ⟨rfl, rfl, rfl⟩
theorem fl_J3_24_7 : gFL RJ3 24 7 2 := gFL.mk (Cn := RX7) (T := TX7) (N := 7) (ref := "java/lang/Throwable") rfl in_X7 (by decide) q295 rfl rfl (Or.inl rfl)
theorem fk_7_2 : gFk 7 2 "Ljava/util/List;" false "java/lang/Throwable" := fun Cn T N h => by
  have h : (RX7, TX7, 7) = (Cn, T, N) := Option.some.inj h
  cases h
  exact ⟨rfl, rfl, rfl⟩
theorem fl_J3_31_7 : gFL RJ3 31 7 3 := gFL.mk (Cn := RX7) (T := TX7) (N := 7) (ref := "java/lang/Throwable") rfl in_X7 (by decide) q292 rfl rfl (Or.inl rfl)
theorem fk_7_3 : gFk 7 3 "Ljava/lang/String;" false "java/lang/Throwable" := fun Cn T N h => by
  have h : (RX7, TX7, 7) = (Cn, T, N) := Option.some.inj h
  cases h
  exact ⟨rfl, rfl, rfl⟩
def f_J3_init_2_c7 (a0 : Nat) (p1 : Option Nat) (p2 : Option Nat) (p3 : Int32) (p4 : Int32) (w0 : gw) : Option (Unit × gw) := gB1 (gPut w0 a0 7 0 (ga (some a0))) fun w1 => gBd (gCo (w1.2.2.2 6)) fun r2 => gB1 (gPut w1 a0 7 1 (ga r2)) fun w3 => gBd (gCo (w3.2.2.2 7)) fun r4 => gB1 (gPut w3 a0 7 2 (ga r4)) fun w5 => if p4 = 0 then gB1 (gPut w5 a0 7 1 (ga none)) fun w7 => gB1 (gPut w7 a0 7 3 (ga p1)) fun w8 => gB1 (gPut w8 a0 7 0 (ga p2)) fun w9 => if p3 = 0 then gB1 (gPut w9 a0 7 2 (ga none)) fun w11 => some ((), w11) else some ((), w9) else none
set_option maxHeartbeats 4000000 in
set_option maxRecDepth 100000 in
theorem k_J3_init_2_c7 {D : va_G} {dA : Nat → ClassId} {A : Nat → Prop} {K : Nat → Nat} {l : Launch} {h : Nat} (hh : 1 ≤ h) {a0 : Nat} {p1 : Option Nat} {p2 : Option Nat} {p3 : Int32} {p4 : Int32} {w0 ww : gw} {rr : Unit} (hf : f_J3_init_2_c7 a0 p1 p2 p3 p4 w0 = some (rr, ww)) : gMet D dA A K l yJ3_init_2 (ws_ yJ3_init_2 cJ3_init_2 5 none) h [(ga (some a0)), (ga p1), (ga p2), (gi p3), (gi p4)] none w0 ww := by
  refine j_start (own := RJ3) (by decide +kernel) rfl (Nat.le_of_ble_eq_true rfl) ?_
  intro p e R s m args below meth c C hr hin hw
  unfold f_J3_init_2_c7 at hf
  show gJ D dA A K p l e R s m args below meth c (gEnd D dA A K below args s w0 none ww) 5 0 [(0, (ga (some a0))), (1, (ga p1)), (2, (ga p2)), (3, (gi p3)), (4, (gi p4))] [] w0
  refine j_aload_n C dJ3_init_2_0 rfl ?_
  refine j_objInit C (by omega) q264 q164 q165 (by decide) dJ3_init_2_1 ?_
  refine j_aload_n C dJ3_init_2_4 rfl ?_
  refine j_aload_n C dJ3_init_2_5 rfl ?_
  replace hf := gB1_e hf
  obtain ⟨w1, ew1, hf⟩ := hf
  refine j_put C fl_J3_7_7 tb_7 ew1 fk_7_0 (ft_Ljava_lang_Throwable_ (some a0)) dJ3_init_2_6 ?_
  refine j_aload_n C dJ3_init_2_9 rfl ?_
  replace hf := gBd_x hf
  obtain ⟨r2, er2, hf⟩ := hf
  refine j_getsO (i := 6) C C.2.2.2.2.2.1.2.2.2.2.1.2.2.2.2.1 q265 dJ3_init_2_10 ?_
  refine j_nmr er2 ?_
  replace hf := gB1_e hf
  obtain ⟨w3, ew3, hf⟩ := hf
  refine j_put C fl_J3_17_7 tb_7 ew3 fk_7_1 (ft__Ljava_lang_StackTraceElement_ r2) dJ3_init_2_13 ?_
  refine j_aload_n C dJ3_init_2_16 rfl ?_
  replace hf := gBd_x hf
  obtain ⟨r4, er4, hf⟩ := hf
  refine j_getsO (i := 7) C C.2.2.2.2.2.1.2.2.2.2.1.2.2.2.2.2 q267 dJ3_init_2_17 ?_
  refine j_nmr er4 ?_
  replace hf := gB1_e hf
  obtain ⟨w5, ew5, hf⟩ := hf
  refine j_put C fl_J3_24_7 tb_7 ew5 fk_7_2 (ft_Ljava_util_List_ r4) dJ3_init_2_20 ?_
  refine j_iload C dJ3_init_2_23 rfl ?_
  refine j_if_eq (tgt := 36) C dJ3_init_2_25 (by decide) (fun c6 => ?_) (fun c6 => ?_)
  · replace hf := gIf_t hf c6
    refine j_aload_n C dJ3_init_2_36 rfl ?_
    refine j_null C dJ3_init_2_37 ?_
    replace hf := gB1_e hf
    obtain ⟨w7, ew7, hf⟩ := hf
    refine j_put C fl_J3_17_7 tb_7 ew7 fk_7_1 (ft__Ljava_lang_StackTraceElement_ none) dJ3_init_2_38 ?_
    refine j_aload_n C dJ3_init_2_41 rfl ?_
    refine j_aload_n C dJ3_init_2_42 rfl ?_
    replace hf := gB1_e hf
    obtain ⟨w8, ew8, hf⟩ := hf
    refine j_put C fl_J3_31_7 tb_7 ew8 fk_7_3 (ft_Ljava_lang_String_ p1) dJ3_init_2_43 ?_
    refine j_aload_n C dJ3_init_2_46 rfl ?_
    refine j_aload_n C dJ3_init_2_47 rfl ?_
    replace hf := gB1_e hf
    obtain ⟨w9, ew9, hf⟩ := hf
    refine j_put C fl_J3_7_7 tb_7 ew9 fk_7_0 (ft_Ljava_lang_Throwable_ p2) dJ3_init_2_48 ?_
    refine j_iload_n C dJ3_init_2_51 rfl ?_
    refine j_if_ne (tgt := 60) C dJ3_init_2_52 (by decide) (fun c10 => ?_) (fun c10 => ?_)
    · replace hf := gIf_f hf c10
      obtain ⟨rfl, rfl⟩ := gSome hf
      exact j_vret C hr hw dJ3_init_2_60
    · replace hf := gIf_t hf c10
      refine j_aload_n C dJ3_init_2_55 rfl ?_
      refine j_null C dJ3_init_2_56 ?_
      replace hf := gB1_e hf
      obtain ⟨w11, ew11, hf⟩ := hf
      refine j_put C fl_J3_24_7 tb_7 ew11 fk_7_2 (ft_Ljava_util_List_ none) dJ3_init_2_57 ?_
      obtain ⟨rfl, rfl⟩ := gSome hf
      exact j_vret C hr hw dJ3_init_2_60
  · replace hf := gIf_f hf c6
    refine j_aload_n C dJ3_init_2_28 rfl ?_
    cases hf
theorem fl_J3_7_15 : gFL RJ3 7 15 0 := gFL.mk (Cn := RX15) (T := TX15) (N := 6) (ref := "java/lang/Throwable") rfl in_X15 (by decide) q293 rfl rfl (Or.inl rfl)
theorem nm_15 : gNm TX15 6 := by
  unfold gNm
  decide +kernel
theorem tb_15 : gTb 15 := fun Cn T N h => by
  have h : (RX15, TX15, 6) = (Cn, T, N) := Option.some.inj h
  cases h
  exact ⟨nm_15, tyX15, tyX15_ok⟩
theorem fk_15_0 : gFk 15 0 "Ljava/lang/Throwable;" false "java/lang/Throwable" := fun Cn T N h => by
  have h : (RX15, TX15, 6) = (Cn, T, N) := Option.some.inj h
  cases h
  exact ⟨rfl, rfl, rfl⟩
theorem fl_J3_17_15 : gFL RJ3 17 15 1 := gFL.mk (Cn := RX15) (T := TX15) (N := 6) (ref := "java/lang/Throwable") rfl in_X15 (by decide) q294 rfl rfl (Or.inl rfl)
theorem fk_15_1 : gFk 15 1 "[Ljava/lang/StackTraceElement;" false "java/lang/Throwable" := fun Cn T N h => by
  have h : (RX15, TX15, 6) = (Cn, T, N) := Option.some.inj h
  cases h
  exact ⟨rfl, rfl, rfl⟩
theorem fl_J3_24_15 : gFL RJ3 24 15 2 := gFL.mk (Cn := RX15) (T := TX15) (N := 6) (ref := "java/lang/Throwable") rfl in_X15 (by decide) q295 rfl rfl (Or.inl rfl)
theorem fk_15_2 : gFk 15 2 "Ljava/util/List;" false "java/lang/Throwable" := fun Cn T N h => by
  have h : (RX15, TX15, 6) = (Cn, T, N) := Option.some.inj h
  cases h
  exact ⟨rfl, rfl, rfl⟩
theorem fl_J3_31_15 : gFL RJ3 31 15 3 := gFL.mk (Cn := RX15) (T := TX15) (N := 6) (ref := "java/lang/Throwable") rfl in_X15 (by decide) q292 rfl rfl (Or.inl rfl)
theorem fk_15_3 : gFk 15 3 "Ljava/lang/String;" false "java/lang/Throwable" := fun Cn T N h => by
  have h : (RX15, TX15, 6) = (Cn, T, N) := Option.some.inj h
  cases h
  exact ⟨rfl, rfl, rfl⟩
def f_J3_init_2_c15 (a0 : Nat) (p1 : Option Nat) (p2 : Option Nat) (p3 : Int32) (p4 : Int32) (w0 : gw) : Option (Unit × gw) := gB1 (gPut w0 a0 15 0 (ga (some a0))) fun w1 => gBd (gCo (w1.2.2.2 6)) fun r2 => gB1 (gPut w1 a0 15 1 (ga r2)) fun w3 => gBd (gCo (w3.2.2.2 7)) fun r4 => gB1 (gPut w3 a0 15 2 (ga r4)) fun w5 => if p4 = 0 then gB1 (gPut w5 a0 15 1 (ga none)) fun w7 => gB1 (gPut w7 a0 15 3 (ga p1)) fun w8 => gB1 (gPut w8 a0 15 0 (ga p2)) fun w9 => if p3 = 0 then gB1 (gPut w9 a0 15 2 (ga none)) fun w11 => some ((), w11) else some ((), w9) else none
set_option maxHeartbeats 4000000 in
set_option maxRecDepth 100000 in
theorem k_J3_init_2_c15 {D : va_G} {dA : Nat → ClassId} {A : Nat → Prop} {K : Nat → Nat} {l : Launch} {h : Nat} (hh : 1 ≤ h) {a0 : Nat} {p1 : Option Nat} {p2 : Option Nat} {p3 : Int32} {p4 : Int32} {w0 ww : gw} {rr : Unit} (hf : f_J3_init_2_c15 a0 p1 p2 p3 p4 w0 = some (rr, ww)) : gMet D dA A K l yJ3_init_2 (ws_ yJ3_init_2 cJ3_init_2 5 none) h [(ga (some a0)), (ga p1), (ga p2), (gi p3), (gi p4)] none w0 ww := by
  refine j_start (own := RJ3) (by decide +kernel) rfl (Nat.le_of_ble_eq_true rfl) ?_
  intro p e R s m args below meth c C hr hin hw
  unfold f_J3_init_2_c15 at hf
  show gJ D dA A K p l e R s m args below meth c (gEnd D dA A K below args s w0 none ww) 5 0 [(0, (ga (some a0))), (1, (ga p1)), (2, (ga p2)), (3, (gi p3)), (4, (gi p4))] [] w0
  refine j_aload_n C dJ3_init_2_0 rfl ?_
  refine j_objInit C (by omega) q264 q164 q165 (by decide) dJ3_init_2_1 ?_
  refine j_aload_n C dJ3_init_2_4 rfl ?_
  refine j_aload_n C dJ3_init_2_5 rfl ?_
  replace hf := gB1_e hf
  obtain ⟨w1, ew1, hf⟩ := hf
  refine j_put C fl_J3_7_15 tb_15 ew1 fk_15_0 (ft_Ljava_lang_Throwable_ (some a0)) dJ3_init_2_6 ?_
  refine j_aload_n C dJ3_init_2_9 rfl ?_
  replace hf := gBd_x hf
  obtain ⟨r2, er2, hf⟩ := hf
  refine j_getsO (i := 6) C C.2.2.2.2.2.1.2.2.2.2.1.2.2.2.2.1 q265 dJ3_init_2_10 ?_
  refine j_nmr er2 ?_
  replace hf := gB1_e hf
  obtain ⟨w3, ew3, hf⟩ := hf
  refine j_put C fl_J3_17_15 tb_15 ew3 fk_15_1 (ft__Ljava_lang_StackTraceElement_ r2) dJ3_init_2_13 ?_
  refine j_aload_n C dJ3_init_2_16 rfl ?_
  replace hf := gBd_x hf
  obtain ⟨r4, er4, hf⟩ := hf
  refine j_getsO (i := 7) C C.2.2.2.2.2.1.2.2.2.2.1.2.2.2.2.2 q267 dJ3_init_2_17 ?_
  refine j_nmr er4 ?_
  replace hf := gB1_e hf
  obtain ⟨w5, ew5, hf⟩ := hf
  refine j_put C fl_J3_24_15 tb_15 ew5 fk_15_2 (ft_Ljava_util_List_ r4) dJ3_init_2_20 ?_
  refine j_iload C dJ3_init_2_23 rfl ?_
  refine j_if_eq (tgt := 36) C dJ3_init_2_25 (by decide) (fun c6 => ?_) (fun c6 => ?_)
  · replace hf := gIf_t hf c6
    refine j_aload_n C dJ3_init_2_36 rfl ?_
    refine j_null C dJ3_init_2_37 ?_
    replace hf := gB1_e hf
    obtain ⟨w7, ew7, hf⟩ := hf
    refine j_put C fl_J3_17_15 tb_15 ew7 fk_15_1 (ft__Ljava_lang_StackTraceElement_ none) dJ3_init_2_38 ?_
    refine j_aload_n C dJ3_init_2_41 rfl ?_
    refine j_aload_n C dJ3_init_2_42 rfl ?_
    replace hf := gB1_e hf
    obtain ⟨w8, ew8, hf⟩ := hf
    refine j_put C fl_J3_31_15 tb_15 ew8 fk_15_3 (ft_Ljava_lang_String_ p1) dJ3_init_2_43 ?_
    refine j_aload_n C dJ3_init_2_46 rfl ?_
    refine j_aload_n C dJ3_init_2_47 rfl ?_
    replace hf := gB1_e hf
    obtain ⟨w9, ew9, hf⟩ := hf
    refine j_put C fl_J3_7_15 tb_15 ew9 fk_15_0 (ft_Ljava_lang_Throwable_ p2) dJ3_init_2_48 ?_
    refine j_iload_n C dJ3_init_2_51 rfl ?_
    refine j_if_ne (tgt := 60) C dJ3_init_2_52 (by decide) (fun c10 => ?_) (fun c10 => ?_)
    · replace hf := gIf_f hf c10
      obtain ⟨rfl, rfl⟩ := gSome hf
      exact j_vret C hr hw dJ3_init_2_60
    · replace hf := gIf_t hf c10
      refine j_aload_n C dJ3_init_2_55 rfl ?_
      refine j_null C dJ3_init_2_56 ?_
      replace hf := gB1_e hf
      obtain ⟨w11, ew11, hf⟩ := hf
      refine j_put C fl_J3_24_15 tb_15 ew11 fk_15_2 (ft_Ljava_util_List_ none) dJ3_init_2_57 ?_
      obtain ⟨rfl, rfl⟩ := gSome hf
      exact j_vret C hr hw dJ3_init_2_60
  · replace hf := gIf_f hf c6
    refine j_aload_n C dJ3_init_2_28 rfl ?_
    cases hf
def dkwJ4_init_0 : List UInt8 := [42, 43, 44, 29, 21, 4, 183, 0, 16, 177]
abbrev dktJ4_init_0 : List UInt8 := dkwJ4_init_0 ++ []
theorem dksJ4_init_0 : cJ4_init.data.toList.drop 0 = dktJ4_init_0 := by decide +kernel
theorem dJ4_init_0 : decode cJ4_init 0 = .ok (.aload_n 0, 1) := dk_42 (dk_at dksJ4_init_0 0 rfl rfl)
theorem dJ4_init_1 : decode cJ4_init 1 = .ok (.aload_n 1, 1) := dk_43 (dk_at dksJ4_init_0 1 rfl rfl)
theorem dJ4_init_2 : decode cJ4_init 2 = .ok (.aload_n 2, 1) := dk_44 (dk_at dksJ4_init_0 2 rfl rfl)
theorem dJ4_init_3 : decode cJ4_init 3 = .ok (.iload_n 3, 1) := dk_29 (dk_at dksJ4_init_0 3 rfl rfl)
theorem dJ4_init_4 : decode cJ4_init 4 = .ok (.iload 4, 2) := dk_21 4 (dk_at dksJ4_init_0 4 rfl rfl)
theorem dJ4_init_6 : decode cJ4_init 6 = .ok (.invokespecial 16, 3) := dk_183 0 16 (dk_at dksJ4_init_0 6 rfl rfl)
theorem dJ4_init_9 : decode cJ4_init 9 = .ok (.return_, 1) := dk_177 (dk_at dksJ4_init_0 9 rfl rfl)
theorem hd_J3_init_2 : (yJ3_init_2.cls ≠ "java/lang/invoke/MethodHandle" ∧ yJ3_init_2.cls ≠ "java/lang/invoke/VarHandle" ∧ (parseMethodDescriptor yJ3_init_2.desc).map (fun d => d.parameters.length) = some 4) := ⟨by decide +kernel, by decide +kernel, by decide +kernel⟩
def f_J4_init_c6 (a0 : Nat) (p1 : Option Nat) (p2 : Option Nat) (p3 : Int32) (p4 : Int32) (w0 : gw) : Option (Unit × gw) := gB2 (f_J3_init_2_c6 a0 p1 p2 p3 p4 w0) fun _ w1 => some ((), w1)
set_option maxHeartbeats 4000000 in
set_option maxRecDepth 100000 in
theorem k_J4_init_c6 {D : va_G} {dA : Nat → ClassId} {A : Nat → Prop} {K : Nat → Nat} {l : Launch} {h : Nat} (hh : 2 ≤ h) {a0 : Nat} {p1 : Option Nat} {p2 : Option Nat} {p3 : Int32} {p4 : Int32} {w0 ww : gw} {rr : Unit} (hf : f_J4_init_c6 a0 p1 p2 p3 p4 w0 = some (rr, ww)) : gMet D dA A K l yJ4_init (ws_ yJ4_init cJ4_init 5 none) h [(ga (some a0)), (ga p1), (ga p2), (gi p3), (gi p4)] none w0 ww := by
  refine j_start (own := RJ4) (by decide +kernel) rfl (Nat.le_of_ble_eq_true rfl) ?_
  intro p e R s m args below meth c C hr hin hw
  unfold f_J4_init_c6 at hf
  show gJ D dA A K p l e R s m args below meth c (gEnd D dA A K below args s w0 none ww) 5 0 [(0, (ga (some a0))), (1, (ga p1)), (2, (ga p2)), (3, (gi p3)), (4, (gi p4))] [] w0
  refine j_aload_n C dJ4_init_0 rfl ?_
  refine j_aload_n C dJ4_init_1 rfl ?_
  refine j_aload_n C dJ4_init_2 rfl ?_
  refine j_iload_n C dJ4_init_3 rfl ?_
  refine j_iload C dJ4_init_4 rfl ?_
  replace hf := gB2_e hf
  obtain ⟨_, w1, ew1, hf⟩ := hf
  refine j_callI (As := [(ga p1), (ga p2), (gi p3), (gi p4)]) (rest := []) C (by omega) (k_J3_init_2_c6 (by omega) ew1) rfl q286 q287 q100 q288 hd_J3_init_2 (by decide) rfl (Nat.le_of_ble_eq_true rfl) dJ4_init_6 ?_
  obtain ⟨rfl, rfl⟩ := gSome hf
  exact j_vret C hr hw dJ4_init_9
def f_J4_init_c7 (a0 : Nat) (p1 : Option Nat) (p2 : Option Nat) (p3 : Int32) (p4 : Int32) (w0 : gw) : Option (Unit × gw) := gB2 (f_J3_init_2_c7 a0 p1 p2 p3 p4 w0) fun _ w1 => some ((), w1)
set_option maxHeartbeats 4000000 in
set_option maxRecDepth 100000 in
theorem k_J4_init_c7 {D : va_G} {dA : Nat → ClassId} {A : Nat → Prop} {K : Nat → Nat} {l : Launch} {h : Nat} (hh : 2 ≤ h) {a0 : Nat} {p1 : Option Nat} {p2 : Option Nat} {p3 : Int32} {p4 : Int32} {w0 ww : gw} {rr : Unit} (hf : f_J4_init_c7 a0 p1 p2 p3 p4 w0 = some (rr, ww)) : gMet D dA A K l yJ4_init (ws_ yJ4_init cJ4_init 5 none) h [(ga (some a0)), (ga p1), (ga p2), (gi p3), (gi p4)] none w0 ww := by
  refine j_start (own := RJ4) (by decide +kernel) rfl (Nat.le_of_ble_eq_true rfl) ?_
  intro p e R s m args below meth c C hr hin hw
  unfold f_J4_init_c7 at hf
  show gJ D dA A K p l e R s m args below meth c (gEnd D dA A K below args s w0 none ww) 5 0 [(0, (ga (some a0))), (1, (ga p1)), (2, (ga p2)), (3, (gi p3)), (4, (gi p4))] [] w0
  refine j_aload_n C dJ4_init_0 rfl ?_
  refine j_aload_n C dJ4_init_1 rfl ?_
  refine j_aload_n C dJ4_init_2 rfl ?_
  refine j_iload_n C dJ4_init_3 rfl ?_
  refine j_iload C dJ4_init_4 rfl ?_
  replace hf := gB2_e hf
  obtain ⟨_, w1, ew1, hf⟩ := hf
  refine j_callI (As := [(ga p1), (ga p2), (gi p3), (gi p4)]) (rest := []) C (by omega) (k_J3_init_2_c7 (by omega) ew1) rfl q286 q287 q100 q288 hd_J3_init_2 (by decide) rfl (Nat.le_of_ble_eq_true rfl) dJ4_init_6 ?_
  obtain ⟨rfl, rfl⟩ := gSome hf
  exact j_vret C hr hw dJ4_init_9
def f_J4_init_c15 (a0 : Nat) (p1 : Option Nat) (p2 : Option Nat) (p3 : Int32) (p4 : Int32) (w0 : gw) : Option (Unit × gw) := gB2 (f_J3_init_2_c15 a0 p1 p2 p3 p4 w0) fun _ w1 => some ((), w1)
set_option maxHeartbeats 4000000 in
set_option maxRecDepth 100000 in
theorem k_J4_init_c15 {D : va_G} {dA : Nat → ClassId} {A : Nat → Prop} {K : Nat → Nat} {l : Launch} {h : Nat} (hh : 2 ≤ h) {a0 : Nat} {p1 : Option Nat} {p2 : Option Nat} {p3 : Int32} {p4 : Int32} {w0 ww : gw} {rr : Unit} (hf : f_J4_init_c15 a0 p1 p2 p3 p4 w0 = some (rr, ww)) : gMet D dA A K l yJ4_init (ws_ yJ4_init cJ4_init 5 none) h [(ga (some a0)), (ga p1), (ga p2), (gi p3), (gi p4)] none w0 ww := by
  refine j_start (own := RJ4) (by decide +kernel) rfl (Nat.le_of_ble_eq_true rfl) ?_
  intro p e R s m args below meth c C hr hin hw
  unfold f_J4_init_c15 at hf
  show gJ D dA A K p l e R s m args below meth c (gEnd D dA A K below args s w0 none ww) 5 0 [(0, (ga (some a0))), (1, (ga p1)), (2, (ga p2)), (3, (gi p3)), (4, (gi p4))] [] w0
  refine j_aload_n C dJ4_init_0 rfl ?_
  refine j_aload_n C dJ4_init_1 rfl ?_
  refine j_aload_n C dJ4_init_2 rfl ?_
  refine j_iload_n C dJ4_init_3 rfl ?_
  refine j_iload C dJ4_init_4 rfl ?_
  replace hf := gB2_e hf
  obtain ⟨_, w1, ew1, hf⟩ := hf
  refine j_callI (As := [(ga p1), (ga p2), (gi p3), (gi p4)]) (rest := []) C (by omega) (k_J3_init_2_c15 (by omega) ew1) rfl q286 q287 q100 q288 hd_J3_init_2 (by decide) rfl (Nat.le_of_ble_eq_true rfl) dJ4_init_6 ?_
  obtain ⟨rfl, rfl⟩ := gSome hf
  exact j_vret C hr hw dJ4_init_9
def dkwJ10_floatToIntBits_0 : List UInt8 := [34, 184, 0, 59, 154, 0, 8, 34, 184, 0, 74, 172, 18, 77, 172]
abbrev dktJ10_floatToIntBits_0 : List UInt8 := dkwJ10_floatToIntBits_0 ++ []
theorem dksJ10_floatToIntBits_0 : cJ10_floatToIntBits.data.toList.drop 0 = dktJ10_floatToIntBits_0 := by decide +kernel
theorem dJ10_floatToIntBits_0 : decode cJ10_floatToIntBits 0 = .ok (.fload_n 0, 1) := dk_34 (dk_at dksJ10_floatToIntBits_0 0 rfl rfl)
theorem dJ10_floatToIntBits_1 : decode cJ10_floatToIntBits 1 = .ok (.invokestatic 59, 3) := dk_184 0 59 (dk_at dksJ10_floatToIntBits_0 1 rfl rfl)
theorem dJ10_floatToIntBits_4 : decode cJ10_floatToIntBits 4 = .ok (.ifCond .ne 8, 3) := dk_154 0 8 (dk_at dksJ10_floatToIntBits_0 4 rfl rfl)
theorem dJ10_floatToIntBits_7 : decode cJ10_floatToIntBits 7 = .ok (.fload_n 0, 1) := dk_34 (dk_at dksJ10_floatToIntBits_0 7 rfl rfl)
theorem dJ10_floatToIntBits_8 : decode cJ10_floatToIntBits 8 = .ok (.invokestatic 74, 3) := dk_184 0 74 (dk_at dksJ10_floatToIntBits_0 8 rfl rfl)
theorem dJ10_floatToIntBits_11 : decode cJ10_floatToIntBits 11 = .ok (.ireturn, 1) := dk_172 (dk_at dksJ10_floatToIntBits_0 11 rfl rfl)
theorem dJ10_floatToIntBits_12 : decode cJ10_floatToIntBits 12 = .ok (.ldc 77, 2) := dk_18 77 (dk_at dksJ10_floatToIntBits_0 12 rfl rfl)
theorem dJ10_floatToIntBits_14 : decode cJ10_floatToIntBits 14 = .ok (.ireturn, 1) := dk_172 (dk_at dksJ10_floatToIntBits_0 14 rfl rfl)
theorem hd_J10_isNaN : (yJ10_isNaN.cls ≠ "java/lang/invoke/MethodHandle" ∧ yJ10_isNaN.cls ≠ "java/lang/invoke/VarHandle" ∧ (parseMethodDescriptor yJ10_isNaN.desc).map (fun d => d.parameters.length) = some 1) := ⟨by decide +kernel, by decide +kernel, by decide +kernel⟩
def f_J10_floatToIntBits (p0 : UInt32) (w0 : gw) : Option (Int32 × gw) := gB2 (f_J10_isNaN p0 w0) fun x2 w1 => if x2 = 0 then some (p0.toInt32, w1) else some ((nI 2143289344), w1)
set_option maxHeartbeats 4000000 in
set_option maxRecDepth 100000 in
theorem k_J10_floatToIntBits {D : va_G} {dA : Nat → ClassId} {A : Nat → Prop} {K : Nat → Nat} {l : Launch} {h : Nat} (hh : 1 ≤ h) {p0 : UInt32} {w0 ww : gw} {rr : Int32} (hf : f_J10_floatToIntBits p0 w0 = some (rr, ww)) : gMet D dA A K l yJ10_floatToIntBits (ws_ yJ10_floatToIntBits cJ10_floatToIntBits 1 (some .int)) h [(gfl p0)] (some (gi rr)) w0 ww := by
  refine j_start (own := RJ10) (by decide +kernel) rfl (Nat.le_of_ble_eq_true rfl) ?_
  intro p e R s m args below meth c C hr hin hw
  unfold f_J10_floatToIntBits at hf
  show gJ D dA A K p l e R s m args below meth c (gEnd D dA A K below args s w0 (some (gi rr)) ww) 1 0 [(0, (gfl p0))] [] w0
  refine j_fload_n C dJ10_floatToIntBits_0 rfl ?_
  replace hf := gB2_e hf
  obtain ⟨x2, w1, ew1, hf⟩ := hf
  refine j_callS (As := [(gfl p0)]) (rest := []) (v := (some (gi x2))) C (by omega) (k_J10_isNaN (by omega) ew1) q1524 q1525 q132 q1526 hd_J10_isNaN (by decide) rfl (Nat.le_of_ble_eq_true rfl) dJ10_floatToIntBits_1 ?_
  refine j_if_ne (tgt := 12) C dJ10_floatToIntBits_4 (by decide) (fun c3 => ?_) (fun c3 => ?_)
  · replace hf := gIf_f hf c3
    refine j_ldc (v := (nI 2143289344)) C q1530 dJ10_floatToIntBits_12 ?_
    obtain ⟨rfl, rfl⟩ := gSome hf
    exact j_iret C hr hw dJ10_floatToIntBits_14
  · replace hf := gIf_t hf c3
    refine j_fload_n C dJ10_floatToIntBits_7 rfl ?_
    refine j_f2i C (by omega) q1527 q1529 q1528 q132 (Nat.le_of_ble_eq_true rfl) dJ10_floatToIntBits_8 ?_
    obtain ⟨rfl, rfl⟩ := gSome hf
    exact j_iret C hr hw dJ10_floatToIntBits_11
def dkwJ5_newLength_1 : List UInt8 := [184, 0, 201, 172]
abbrev dktJ5_newLength_1 : List UInt8 := dkwJ5_newLength_1 ++ []
def dkwJ5_newLength_0 : List UInt8 := [26, 27, 28, 184, 0, 194, 96, 62, 3, 29, 162, 0, 11, 29, 18, 200, 163, 0, 5, 29, 172, 26, 27]
abbrev dktJ5_newLength_0 : List UInt8 := dkwJ5_newLength_0 ++ dktJ5_newLength_1
theorem dksJ5_newLength_0 : cJ5_newLength.data.toList.drop 0 = dktJ5_newLength_0 := by decide +kernel
theorem dksJ5_newLength_1 : cJ5_newLength.data.toList.drop 23 = dktJ5_newLength_1 := dk_seg dksJ5_newLength_0 23 rfl rfl
theorem dJ5_newLength_0 : decode cJ5_newLength 0 = .ok (.iload_n 0, 1) := dk_26 (dk_at dksJ5_newLength_0 0 rfl rfl)
theorem dJ5_newLength_1 : decode cJ5_newLength 1 = .ok (.iload_n 1, 1) := dk_27 (dk_at dksJ5_newLength_0 1 rfl rfl)
theorem dJ5_newLength_2 : decode cJ5_newLength 2 = .ok (.iload_n 2, 1) := dk_28 (dk_at dksJ5_newLength_0 2 rfl rfl)
theorem dJ5_newLength_3 : decode cJ5_newLength 3 = .ok (.invokestatic 194, 3) := dk_184 0 194 (dk_at dksJ5_newLength_0 3 rfl rfl)
theorem dJ5_newLength_6 : decode cJ5_newLength 6 = .ok (.iadd, 1) := dk_96 (dk_at dksJ5_newLength_0 6 rfl rfl)
theorem dJ5_newLength_7 : decode cJ5_newLength 7 = .ok (.istore_n 3, 1) := dk_62 (dk_at dksJ5_newLength_0 7 rfl rfl)
theorem dJ5_newLength_8 : decode cJ5_newLength 8 = .ok (.iconst 0, 1) := dk_3 (dk_at dksJ5_newLength_0 8 rfl rfl)
theorem dJ5_newLength_9 : decode cJ5_newLength 9 = .ok (.iload_n 3, 1) := dk_29 (dk_at dksJ5_newLength_0 9 rfl rfl)
theorem dJ5_newLength_10 : decode cJ5_newLength 10 = .ok (.if_icmp .ge 11, 3) := dk_162 0 11 (dk_at dksJ5_newLength_0 10 rfl rfl)
theorem dJ5_newLength_13 : decode cJ5_newLength 13 = .ok (.iload_n 3, 1) := dk_29 (dk_at dksJ5_newLength_0 13 rfl rfl)
theorem dJ5_newLength_14 : decode cJ5_newLength 14 = .ok (.ldc 200, 2) := dk_18 200 (dk_at dksJ5_newLength_0 14 rfl rfl)
theorem dJ5_newLength_16 : decode cJ5_newLength 16 = .ok (.if_icmp .gt 5, 3) := dk_163 0 5 (dk_at dksJ5_newLength_0 16 rfl rfl)
theorem dJ5_newLength_19 : decode cJ5_newLength 19 = .ok (.iload_n 3, 1) := dk_29 (dk_at dksJ5_newLength_0 19 rfl rfl)
theorem dJ5_newLength_20 : decode cJ5_newLength 20 = .ok (.ireturn, 1) := dk_172 (dk_at dksJ5_newLength_0 20 rfl rfl)
theorem dJ5_newLength_21 : decode cJ5_newLength 21 = .ok (.iload_n 0, 1) := dk_26 (dk_at dksJ5_newLength_0 21 rfl rfl)
theorem dJ5_newLength_22 : decode cJ5_newLength 22 = .ok (.iload_n 1, 1) := dk_27 (dk_at dksJ5_newLength_0 22 rfl rfl)
theorem dJ5_newLength_23 : decode cJ5_newLength 23 = .ok (.invokestatic 201, 3) := dk_184 0 201 (dk_at dksJ5_newLength_1 0 rfl rfl)
theorem dJ5_newLength_26 : decode cJ5_newLength 26 = .ok (.ireturn, 1) := dk_172 (dk_at dksJ5_newLength_1 3 rfl rfl)
theorem hd_J6_max : (yJ6_max.cls ≠ "java/lang/invoke/MethodHandle" ∧ yJ6_max.cls ≠ "java/lang/invoke/VarHandle" ∧ (parseMethodDescriptor yJ6_max.desc).map (fun d => d.parameters.length) = some 2) := ⟨by decide +kernel, by decide +kernel, by decide +kernel⟩
theorem hd_J5_hugeLength : (yJ5_hugeLength.cls ≠ "java/lang/invoke/MethodHandle" ∧ yJ5_hugeLength.cls ≠ "java/lang/invoke/VarHandle" ∧ (parseMethodDescriptor yJ5_hugeLength.desc).map (fun d => d.parameters.length) = some 2) := ⟨by decide +kernel, by decide +kernel, by decide +kernel⟩
def f_J5_newLength (p0 : Int32) (p1 : Int32) (p2 : Int32) (w0 : gw) : Option (Int32 × gw) := gB2 (f_J6_max p1 p2 w0) fun x2 w1 => gBd (p0 + x2) fun x3 => gBd (fun (x6 : Int32) (x7 : Int32) (w5 : gw) => gB2 (f_J5_hugeLength x6 x7 w5) fun x9 w8 => some (x9, w8)) fun k4 => if x3 ≤ (nI 0) then k4 p0 p1 w1 else if (nI 2147483639) < x3 then k4 p0 p1 w1 else some (x3, w1)
set_option maxHeartbeats 4000000 in
set_option maxRecDepth 100000 in
theorem k_J5_newLength {D : va_G} {dA : Nat → ClassId} {A : Nat → Prop} {K : Nat → Nat} {l : Launch} {h : Nat} (hh : 1 ≤ h) {p0 : Int32} {p1 : Int32} {p2 : Int32} {w0 ww : gw} {rr : Int32} (hf : f_J5_newLength p0 p1 p2 w0 = some (rr, ww)) : gMet D dA A K l yJ5_newLength (ws_ yJ5_newLength cJ5_newLength 4 (some .int)) h [(gi p0), (gi p1), (gi p2)] (some (gi rr)) w0 ww := by
  refine j_start (own := RJ5) (by decide +kernel) rfl (Nat.le_of_ble_eq_true rfl) ?_
  intro p e R s m args below meth c C hr hin hw
  unfold f_J5_newLength at hf
  show gJ D dA A K p l e R s m args below meth c (gEnd D dA A K below args s w0 (some (gi rr)) ww) 4 0 [(0, (gi p0)), (1, (gi p1)), (2, (gi p2))] [] w0
  refine j_iload_n C dJ5_newLength_0 rfl ?_
  refine j_iload_n C dJ5_newLength_1 rfl ?_
  refine j_iload_n C dJ5_newLength_2 rfl ?_
  replace hf := gB2_e hf
  obtain ⟨x2, w1, ew1, hf⟩ := hf
  refine j_callS (As := [(gi p1), (gi p2)]) (rest := [(gi p0)]) (v := (some (gi x2))) C (by omega) (k_J6_max (by omega) ew1) q500 q501 q111 q502 hd_J6_max (by decide) rfl (Nat.le_of_ble_eq_true rfl) dJ5_newLength_3 ?_
  refine j_iadd C dJ5_newLength_6 ?_
  replace hf := gBd_x hf
  obtain ⟨x3, ex3, hf⟩ := hf
  refine j_nm ex3 ?_
  refine j_istore_n (lv' := [(3, (gi x3)), (0, (gi p0)), (1, (gi p1)), (2, (gi p2))]) C dJ5_newLength_7 (by decide) rfl ?_
  refine j_iconst (v := (nI 0)) C dJ5_newLength_8 (by decide) ?_
  refine j_iload_n C dJ5_newLength_9 rfl ?_
  replace hf := gBd_x hf
  obtain ⟨k4, ek4, hf⟩ := hf
  have jk4 : ∀ (x6 : Int32) (x7 : Int32) (w5 : gw), k4 x6 x7 w5 = some (rr, ww) → gJ D dA A K p l e R s m args below meth c (gEnd D dA A K below args s w0 (some (gi rr)) ww) 4 21 [(0, (gi x6)), (1, (gi x7))] [] w5 := by
    intro x6 x7 w5 hf
    rw [ek4] at hf
    dsimp only at hf
    refine j_iload_n C dJ5_newLength_21 rfl ?_
    refine j_iload_n C dJ5_newLength_22 rfl ?_
    replace hf := gB2_e hf
    obtain ⟨x9, w8, ew8, hf⟩ := hf
    refine j_callS (As := [(gi x6), (gi x7)]) (rest := []) (v := (some (gi x9))) C (by omega) (k_J5_hugeLength (by omega) ew8) q504 q505 q110 q506 hd_J5_hugeLength (by decide) rfl (Nat.le_of_ble_eq_true rfl) dJ5_newLength_23 ?_
    obtain ⟨rfl, rfl⟩ := gSome hf
    exact j_iret C hr hw dJ5_newLength_26
  clear ek4
  refine j_icmp_ge (tgt := 21) C dJ5_newLength_10 (by decide) (fun c10 => ?_) (fun c10 => ?_)
  · replace hf := gIf_t hf c10
    refine j_sub (lv' := [(0, (gi p0)), (1, (gi p1))]) (gL_cons rfl (gL_cons rfl (gL_nil))) ?_
    exact jk4 _ _ _ hf
  · replace hf := gIf_f hf c10
    refine j_iload_n C dJ5_newLength_13 rfl ?_
    refine j_ldc (v := (nI 2147483639)) C q503 dJ5_newLength_14 ?_
    refine j_icmp_gt (tgt := 21) C dJ5_newLength_16 (by decide) (fun c11 => ?_) (fun c11 => ?_)
    · replace hf := gIf_t hf c11
      refine j_sub (lv' := [(0, (gi p0)), (1, (gi p1))]) (gL_cons rfl (gL_cons rfl (gL_nil))) ?_
      exact jk4 _ _ _ hf
    · replace hf := gIf_f hf c11
      refine j_iload_n C dJ5_newLength_19 rfl ?_
      obtain ⟨rfl, rfl⟩ := gSome hf
      exact j_iret C hr hw dJ5_newLength_20
def dkwJ7_copyOf_0 : List UInt8 := [42, 27, 42, 182, 0, 86, 184, 1, 44, 176]
abbrev dktJ7_copyOf_0 : List UInt8 := dkwJ7_copyOf_0 ++ []
theorem dksJ7_copyOf_0 : cJ7_copyOf.data.toList.drop 0 = dktJ7_copyOf_0 := by decide +kernel
theorem dJ7_copyOf_0 : decode cJ7_copyOf 0 = .ok (.aload_n 0, 1) := dk_42 (dk_at dksJ7_copyOf_0 0 rfl rfl)
theorem dJ7_copyOf_1 : decode cJ7_copyOf 1 = .ok (.iload_n 1, 1) := dk_27 (dk_at dksJ7_copyOf_0 1 rfl rfl)
theorem dJ7_copyOf_2 : decode cJ7_copyOf 2 = .ok (.aload_n 0, 1) := dk_42 (dk_at dksJ7_copyOf_0 2 rfl rfl)
theorem dJ7_copyOf_3 : decode cJ7_copyOf 3 = .ok (.invokevirtual 86, 3) := dk_182 0 86 (dk_at dksJ7_copyOf_0 3 rfl rfl)
theorem dJ7_copyOf_6 : decode cJ7_copyOf 6 = .ok (.invokestatic 300, 3) := dk_184 1 44 (dk_at dksJ7_copyOf_0 6 rfl rfl)
theorem dJ7_copyOf_9 : decode cJ7_copyOf 9 = .ok (.areturn, 1) := dk_176 (dk_at dksJ7_copyOf_0 9 rfl rfl)
theorem hd_J7_copyOf_2 : (yJ7_copyOf_2.cls ≠ "java/lang/invoke/MethodHandle" ∧ yJ7_copyOf_2.cls ≠ "java/lang/invoke/VarHandle" ∧ (parseMethodDescriptor yJ7_copyOf_2.desc).map (fun d => d.parameters.length) = some 3) := ⟨by decide +kernel, by decide +kernel, by decide +kernel⟩
def f_J7_copyOf (p0 : Option Nat) (p1 : Int32) (w0 : gw) : Option (Option Nat × gw) := gB1 p0 fun a1 => gB2 (gRA w0 a1 2) fun n4 f5 => gB2 (f_J7_copyOf_2 (some a1) p1 (some (w0.2.2.2 8)) w0) fun r7 w6 => some (r7, w6)
set_option maxHeartbeats 4000000 in
set_option maxRecDepth 100000 in
theorem k_J7_copyOf {D : va_G} {dA : Nat → ClassId} {A : Nat → Prop} {K : Nat → Nat} {l : Launch} {h : Nat} (hh : 2 ≤ h) {p0 : Option Nat} {p1 : Int32} {w0 ww : gw} {rr : Option Nat} (hf : f_J7_copyOf p0 p1 w0 = some (rr, ww)) : gMet D dA A K l yJ7_copyOf (ws_ yJ7_copyOf cJ7_copyOf 2 (some (.array (.object "java/lang/Object")))) h [(ga p0), (gi p1)] (some (ga rr)) w0 ww := by
  refine j_start (own := RJ7) (by decide +kernel) rfl (Nat.le_of_ble_eq_true rfl) ?_
  intro p e R s m args below meth c C hr hin hw
  unfold f_J7_copyOf at hf
  show gJ D dA A K p l e R s m args below meth c (gEnd D dA A K below args s w0 (some (ga rr)) ww) 2 0 [(0, (ga p0)), (1, (gi p1))] [] w0
  refine j_aload_n C dJ7_copyOf_0 rfl ?_
  refine j_iload_n C dJ7_copyOf_1 rfl ?_
  refine j_aload_n C dJ7_copyOf_2 rfl ?_
  replace hf := gB1_e hf
  obtain ⟨a1, ea1, hf⟩ := hf
  subst ea1
  replace hf := gB2_e hf
  obtain ⟨n4, f5, en4, hf⟩ := hf
  refine j_getClass C (by omega) q510 nq2047 q2046 q511 q544 en4 (Nat.le_of_ble_eq_true rfl) dJ7_copyOf_3 ?_
  replace hf := gB2_e hf
  obtain ⟨r7, w6, ew6, hf⟩ := hf
  refine j_callS (As := [(ga (some a1)), (gi p1), (ga (some (w0.2.2.2 8)))]) (rest := []) (v := (some (ga r7))) C (by omega) (k_J7_copyOf_2 (by omega) ew6) q545 q546 q112 q547 hd_J7_copyOf_2 (by decide) rfl (Nat.le_of_ble_eq_true rfl) dJ7_copyOf_6 ?_
  obtain ⟨rfl, rfl⟩ := gSome hf
  exact j_aret C hr (Or.inr ⟨_, rfl⟩) hw dJ7_copyOf_9
def dkwJ8_checkIndex_0 : List UInt8 := [26, 27, 1, 184, 0, 105, 172]
abbrev dktJ8_checkIndex_0 : List UInt8 := dkwJ8_checkIndex_0 ++ []
theorem dksJ8_checkIndex_0 : cJ8_checkIndex.data.toList.drop 0 = dktJ8_checkIndex_0 := by decide +kernel
theorem dJ8_checkIndex_0 : decode cJ8_checkIndex 0 = .ok (.iload_n 0, 1) := dk_26 (dk_at dksJ8_checkIndex_0 0 rfl rfl)
theorem dJ8_checkIndex_1 : decode cJ8_checkIndex 1 = .ok (.iload_n 1, 1) := dk_27 (dk_at dksJ8_checkIndex_0 1 rfl rfl)
theorem dJ8_checkIndex_2 : decode cJ8_checkIndex 2 = .ok (.aconst_null, 1) := dk_1 (dk_at dksJ8_checkIndex_0 2 rfl rfl)
theorem dJ8_checkIndex_3 : decode cJ8_checkIndex 3 = .ok (.invokestatic 105, 3) := dk_184 0 105 (dk_at dksJ8_checkIndex_0 3 rfl rfl)
theorem dJ8_checkIndex_6 : decode cJ8_checkIndex 6 = .ok (.ireturn, 1) := dk_172 (dk_at dksJ8_checkIndex_0 6 rfl rfl)
theorem hd_J9_checkIndex : (yJ9_checkIndex.cls ≠ "java/lang/invoke/MethodHandle" ∧ yJ9_checkIndex.cls ≠ "java/lang/invoke/VarHandle" ∧ (parseMethodDescriptor yJ9_checkIndex.desc).map (fun d => d.parameters.length) = some 3) := ⟨by decide +kernel, by decide +kernel, by decide +kernel⟩
def f_J8_checkIndex (p0 : Int32) (p1 : Int32) (w0 : gw) : Option (Int32 × gw) := gB2 (f_J9_checkIndex p0 p1 none w0) fun x2 w1 => some (x2, w1)
set_option maxHeartbeats 4000000 in
set_option maxRecDepth 100000 in
theorem k_J8_checkIndex {D : va_G} {dA : Nat → ClassId} {A : Nat → Prop} {K : Nat → Nat} {l : Launch} {h : Nat} (hh : 1 ≤ h) {p0 : Int32} {p1 : Int32} {w0 ww : gw} {rr : Int32} (hf : f_J8_checkIndex p0 p1 w0 = some (rr, ww)) : gMet D dA A K l yJ8_checkIndex (ws_ yJ8_checkIndex cJ8_checkIndex 2 (some .int)) h [(gi p0), (gi p1)] (some (gi rr)) w0 ww := by
  refine j_start (own := RJ8) (by decide +kernel) rfl (Nat.le_of_ble_eq_true rfl) ?_
  intro p e R s m args below meth c C hr hin hw
  unfold f_J8_checkIndex at hf
  show gJ D dA A K p l e R s m args below meth c (gEnd D dA A K below args s w0 (some (gi rr)) ww) 2 0 [(0, (gi p0)), (1, (gi p1))] [] w0
  refine j_iload_n C dJ8_checkIndex_0 rfl ?_
  refine j_iload_n C dJ8_checkIndex_1 rfl ?_
  refine j_null C dJ8_checkIndex_2 ?_
  replace hf := gB2_e hf
  obtain ⟨x2, w1, ew1, hf⟩ := hf
  refine j_callS (As := [(gi p0), (gi p1), (ga none)]) (rest := []) (v := (some (gi x2))) C (by omega) (k_J9_checkIndex (by omega) ew1) q643 q644 q117 q645 hd_J9_checkIndex (by decide) rfl (Nat.le_of_ble_eq_true rfl) dJ8_checkIndex_3 ?_
  obtain ⟨rfl, rfl⟩ := gSome hf
  exact j_iret C hr hw dJ8_checkIndex_6
def dkwX0_feed_2 : List UInt8 := [180, 0, 9, 172]
abbrev dktX0_feed_2 : List UInt8 := dkwX0_feed_2 ++ []
def dkwX0_feed_1 : List UInt8 := [172, 42, 180, 0, 13, 42, 180, 0, 9, 27, 145, 84, 42, 89, 180, 0, 9, 4, 96, 181, 0, 9, 42]
abbrev dktX0_feed_1 : List UInt8 := dkwX0_feed_1 ++ dktX0_feed_2
def dkwX0_feed_0 : List UInt8 := [27, 3, 16, 127, 184, 0, 5, 154, 0, 6, 16, 254, 172, 42, 180, 0, 9, 16, 80, 160, 0, 6, 16, 252]
abbrev dktX0_feed_0 : List UInt8 := dkwX0_feed_0 ++ dktX0_feed_1
theorem dksX0_feed_0 : cX0_feed.data.toList.drop 0 = dktX0_feed_0 := by decide +kernel
theorem dksX0_feed_1 : cX0_feed.data.toList.drop 24 = dktX0_feed_1 := dk_seg dksX0_feed_0 24 rfl rfl
theorem dksX0_feed_2 : cX0_feed.data.toList.drop 47 = dktX0_feed_2 := dk_seg dksX0_feed_1 23 rfl rfl
theorem dX0_feed_0 : decode cX0_feed 0 = .ok (.iload_n 1, 1) := dk_27 (dk_at dksX0_feed_0 0 rfl rfl)
theorem dX0_feed_1 : decode cX0_feed 1 = .ok (.iconst 0, 1) := dk_3 (dk_at dksX0_feed_0 1 rfl rfl)
theorem dX0_feed_2 : decode cX0_feed 2 = .ok (.bipush 127, 2) := dk_16 127 (dk_at dksX0_feed_0 2 rfl rfl)
theorem dX0_feed_4 : decode cX0_feed 4 = .ok (.invokestatic 5, 3) := dk_184 0 5 (dk_at dksX0_feed_0 4 rfl rfl)
theorem dX0_feed_7 : decode cX0_feed 7 = .ok (.ifCond .ne 6, 3) := dk_154 0 6 (dk_at dksX0_feed_0 7 rfl rfl)
theorem dX0_feed_10 : decode cX0_feed 10 = .ok (.bipush (-2), 2) := dk_16 254 (dk_at dksX0_feed_0 10 rfl rfl)
theorem dX0_feed_12 : decode cX0_feed 12 = .ok (.ireturn, 1) := dk_172 (dk_at dksX0_feed_0 12 rfl rfl)
theorem dX0_feed_13 : decode cX0_feed 13 = .ok (.aload_n 0, 1) := dk_42 (dk_at dksX0_feed_0 13 rfl rfl)
theorem dX0_feed_14 : decode cX0_feed 14 = .ok (.getfield 9, 3) := dk_180 0 9 (dk_at dksX0_feed_0 14 rfl rfl)
theorem dX0_feed_17 : decode cX0_feed 17 = .ok (.bipush 80, 2) := dk_16 80 (dk_at dksX0_feed_0 17 rfl rfl)
theorem dX0_feed_19 : decode cX0_feed 19 = .ok (.if_icmp .ne 6, 3) := dk_160 0 6 (dk_at dksX0_feed_0 19 rfl rfl)
theorem dX0_feed_22 : decode cX0_feed 22 = .ok (.bipush (-4), 2) := dk_16 252 (dk_at dksX0_feed_0 22 rfl rfl)
theorem dX0_feed_24 : decode cX0_feed 24 = .ok (.ireturn, 1) := dk_172 (dk_at dksX0_feed_1 0 rfl rfl)
theorem dX0_feed_25 : decode cX0_feed 25 = .ok (.aload_n 0, 1) := dk_42 (dk_at dksX0_feed_1 1 rfl rfl)
theorem dX0_feed_26 : decode cX0_feed 26 = .ok (.getfield 13, 3) := dk_180 0 13 (dk_at dksX0_feed_1 2 rfl rfl)
theorem dX0_feed_29 : decode cX0_feed 29 = .ok (.aload_n 0, 1) := dk_42 (dk_at dksX0_feed_1 5 rfl rfl)
theorem dX0_feed_30 : decode cX0_feed 30 = .ok (.getfield 9, 3) := dk_180 0 9 (dk_at dksX0_feed_1 6 rfl rfl)
theorem dX0_feed_33 : decode cX0_feed 33 = .ok (.iload_n 1, 1) := dk_27 (dk_at dksX0_feed_1 9 rfl rfl)
theorem dX0_feed_34 : decode cX0_feed 34 = .ok (.i2b, 1) := dk_145 (dk_at dksX0_feed_1 10 rfl rfl)
theorem dX0_feed_35 : decode cX0_feed 35 = .ok (.bastore, 1) := dk_84 (dk_at dksX0_feed_1 11 rfl rfl)
theorem dX0_feed_36 : decode cX0_feed 36 = .ok (.aload_n 0, 1) := dk_42 (dk_at dksX0_feed_1 12 rfl rfl)
theorem dX0_feed_37 : decode cX0_feed 37 = .ok (.dup, 1) := dk_89 (dk_at dksX0_feed_1 13 rfl rfl)
theorem dX0_feed_38 : decode cX0_feed 38 = .ok (.getfield 9, 3) := dk_180 0 9 (dk_at dksX0_feed_1 14 rfl rfl)
theorem dX0_feed_41 : decode cX0_feed 41 = .ok (.iconst 1, 1) := dk_4 (dk_at dksX0_feed_1 17 rfl rfl)
theorem dX0_feed_42 : decode cX0_feed 42 = .ok (.iadd, 1) := dk_96 (dk_at dksX0_feed_1 18 rfl rfl)
theorem dX0_feed_43 : decode cX0_feed 43 = .ok (.putfield 9, 3) := dk_181 0 9 (dk_at dksX0_feed_1 19 rfl rfl)
theorem dX0_feed_46 : decode cX0_feed 46 = .ok (.aload_n 0, 1) := dk_42 (dk_at dksX0_feed_1 22 rfl rfl)
theorem dX0_feed_47 : decode cX0_feed 47 = .ok (.getfield 9, 3) := dk_180 0 9 (dk_at dksX0_feed_2 0 rfl rfl)
theorem dX0_feed_50 : decode cX0_feed 50 = .ok (.ireturn, 1) := dk_172 (dk_at dksX0_feed_2 3 rfl rfl)
theorem fl_X0_9_0 : gFL RX0 9 0 1 := gFL.mk (Cn := RX0) (T := TX0) (N := 7) (ref := "WorkflowEngine") rfl in_X0 (by decide) q765 rfl rfl (Or.inl rfl)
theorem fl_X0_13_0 : gFL RX0 13 0 0 := gFL.mk (Cn := RX0) (T := TX0) (N := 7) (ref := "WorkflowEngine") rfl in_X0 (by decide) q763 rfl rfl (Or.inl rfl)
theorem nm_0 : gNm TX0 7 := by
  unfold gNm
  decide +kernel
theorem tb_0 : gTb 0 := fun Cn T N h => by
  have h : (RX0, TX0, 7) = (Cn, T, N) := Option.some.inj h
  cases h
  exact ⟨nm_0, tyX0, tyX0_ok⟩
theorem fk_0_1 : gFk 0 1 "I" false "WorkflowEngine" := fun Cn T N h => by
  have h : (RX0, TX0, 7) = (Cn, T, N) := Option.some.inj h
  cases h
  exact ⟨rfl, rfl, rfl⟩
def f_X0_feed (a0 : Nat) (p1 : Int32) (w0 : gw) : Option (Int32 × gw) := gB2 (f_X0_in p1 (nI 0) (nI 127) w0) fun x2 w1 => if x2 = 0 then some ((-2), w1) else gB1 (gI w1 a0 0 1) fun x4 => if x4 = (nI 80) then some ((-4), w1) else gB1 (gR w1 a0 0 0) fun r6 => gB1 (gI w1 a0 0 1) fun x7 => gB1 r6 fun a8 => gB1 (gStI w1 a8 1 x7 p1.toInt8.toInt32.toInt8.toInt32) fun w9 => gB1 (gI w9 a0 0 1) fun x10 => gB1 (gPut w9 a0 0 1 (gi (x10 + (nI 1)))) fun w11 => gB1 (gI w11 a0 0 1) fun x12 => some (x12, w11)
set_option maxHeartbeats 4000000 in
set_option maxRecDepth 100000 in
theorem k_X0_feed {D : va_G} {dA : Nat → ClassId} {A : Nat → Prop} {K : Nat → Nat} {l : Launch} {h : Nat} (hh : 1 ≤ h) {a0 : Nat} {p1 : Int32} {w0 ww : gw} {rr : Int32} (hf : f_X0_feed a0 p1 w0 = some (rr, ww)) : gMet D dA A K l yX0_feed (ws_ yX0_feed cX0_feed 2 (some .int)) h [(ga (some a0)), (gi p1)] (some (gi rr)) w0 ww := by
  refine j_start (own := RX0) (by decide +kernel) rfl (Nat.le_of_ble_eq_true rfl) ?_
  intro p e R s m args below meth c C hr hin hw
  unfold f_X0_feed at hf
  show gJ D dA A K p l e R s m args below meth c (gEnd D dA A K below args s w0 (some (gi rr)) ww) 2 0 [(0, (ga (some a0))), (1, (gi p1))] [] w0
  refine j_iload_n C dX0_feed_0 rfl ?_
  refine j_iconst (v := (nI 0)) C dX0_feed_1 (by decide) ?_
  refine j_bipush (v := (nI 127)) C dX0_feed_2 (by decide) ?_
  replace hf := gB2_e hf
  obtain ⟨x2, w1, ew1, hf⟩ := hf
  refine j_callS (As := [(gi p1), (gi (nI 0)), (gi (nI 127))]) (rest := []) (v := (some (gi x2))) C (by omega) (k_X0_in (by omega) ew1) q138 q139 q91 q140 hd_X0_in (by decide) rfl (Nat.le_of_ble_eq_true rfl) dX0_feed_4 ?_
  refine j_if_ne (tgt := 13) C dX0_feed_7 (by decide) (fun c3 => ?_) (fun c3 => ?_)
  · replace hf := gIf_f hf c3
    refine j_aload_n C dX0_feed_13 rfl ?_
    replace hf := gB1_e hf
    obtain ⟨x4, ex4, hf⟩ := hf
    refine j_get C fl_X0_9_0 dX0_feed_14 (gI_F ex4) ?_
    refine j_bipush (v := (nI 80)) C dX0_feed_17 (by decide) ?_
    refine j_icmp_ne (tgt := 25) C dX0_feed_19 (by decide) (fun c5 => ?_) (fun c5 => ?_)
    · replace hf := gIf_f hf c5
      refine j_aload_n C dX0_feed_25 rfl ?_
      replace hf := gB1_e hf
      obtain ⟨r6, er6, hf⟩ := hf
      refine j_get C fl_X0_13_0 dX0_feed_26 (gR_F er6) ?_
      refine j_aload_n C dX0_feed_29 rfl ?_
      replace hf := gB1_e hf
      obtain ⟨x7, ex7, hf⟩ := hf
      refine j_get C fl_X0_9_0 dX0_feed_30 (gI_F ex7) ?_
      refine j_iload_n C dX0_feed_33 rfl ?_
      refine j_i2b C dX0_feed_34 ?_
      replace hf := gB1_e hf
      obtain ⟨a8, ea8, hf⟩ := hf
      subst ea8
      replace hf := gB1_e hf
      obtain ⟨w9, ew9, hf⟩ := hf
      refine j_bast C ew9 dX0_feed_35 ?_
      refine j_aload_n C dX0_feed_36 rfl ?_
      refine j_dup C dX0_feed_37 ?_
      replace hf := gB1_e hf
      obtain ⟨x10, ex10, hf⟩ := hf
      refine j_get C fl_X0_9_0 dX0_feed_38 (gI_F ex10) ?_
      refine j_iconst (v := (nI 1)) C dX0_feed_41 (by decide) ?_
      refine j_iadd C dX0_feed_42 ?_
      replace hf := gB1_e hf
      obtain ⟨w11, ew11, hf⟩ := hf
      refine j_put C fl_X0_9_0 tb_0 ew11 fk_0_1 (fit_I (x10 + (nI 1))) dX0_feed_43 ?_
      refine j_aload_n C dX0_feed_46 rfl ?_
      replace hf := gB1_e hf
      obtain ⟨x12, ex12, hf⟩ := hf
      refine j_get C fl_X0_9_0 dX0_feed_47 (gI_F ex12) ?_
      obtain ⟨rfl, rfl⟩ := gSome hf
      exact j_iret C hr hw dX0_feed_50
    · replace hf := gIf_t hf c5
      refine j_bipush (v := (-4)) C dX0_feed_22 (by decide) ?_
      obtain ⟨rfl, rfl⟩ := gSome hf
      exact j_iret C hr hw dX0_feed_24
  · replace hf := gIf_t hf c3
    refine j_bipush (v := (-2)) C dX0_feed_10 (by decide) ?_
    obtain ⟨rfl, rfl⟩ := gSome hf
    exact j_iret C hr hw dX0_feed_12
def dkwX0_duration_1 : List UInt8 := [180, 0, 91, 180, 0, 95, 27, 46, 62, 42, 180, 0, 91, 180, 0, 95, 27, 28, 79, 29, 172]
abbrev dktX0_duration_1 : List UInt8 := dkwX0_duration_1 ++ []
def dkwX0_duration_0 : List UInt8 := [27, 184, 0, 88, 154, 0, 5, 2, 172, 28, 3, 16, 99, 184, 0, 5, 154, 0, 6, 16, 254, 172, 42]
abbrev dktX0_duration_0 : List UInt8 := dkwX0_duration_0 ++ dktX0_duration_1
theorem dksX0_duration_0 : cX0_duration.data.toList.drop 0 = dktX0_duration_0 := by decide +kernel
theorem dksX0_duration_1 : cX0_duration.data.toList.drop 23 = dktX0_duration_1 := dk_seg dksX0_duration_0 23 rfl rfl
theorem dX0_duration_0 : decode cX0_duration 0 = .ok (.iload_n 1, 1) := dk_27 (dk_at dksX0_duration_0 0 rfl rfl)
theorem dX0_duration_1 : decode cX0_duration 1 = .ok (.invokestatic 88, 3) := dk_184 0 88 (dk_at dksX0_duration_0 1 rfl rfl)
theorem dX0_duration_4 : decode cX0_duration 4 = .ok (.ifCond .ne 5, 3) := dk_154 0 5 (dk_at dksX0_duration_0 4 rfl rfl)
theorem dX0_duration_7 : decode cX0_duration 7 = .ok (.iconst (-1), 1) := dk_2 (dk_at dksX0_duration_0 7 rfl rfl)
theorem dX0_duration_8 : decode cX0_duration 8 = .ok (.ireturn, 1) := dk_172 (dk_at dksX0_duration_0 8 rfl rfl)
theorem dX0_duration_9 : decode cX0_duration 9 = .ok (.iload_n 2, 1) := dk_28 (dk_at dksX0_duration_0 9 rfl rfl)
theorem dX0_duration_10 : decode cX0_duration 10 = .ok (.iconst 0, 1) := dk_3 (dk_at dksX0_duration_0 10 rfl rfl)
theorem dX0_duration_11 : decode cX0_duration 11 = .ok (.bipush 99, 2) := dk_16 99 (dk_at dksX0_duration_0 11 rfl rfl)
theorem dX0_duration_13 : decode cX0_duration 13 = .ok (.invokestatic 5, 3) := dk_184 0 5 (dk_at dksX0_duration_0 13 rfl rfl)
theorem dX0_duration_16 : decode cX0_duration 16 = .ok (.ifCond .ne 6, 3) := dk_154 0 6 (dk_at dksX0_duration_0 16 rfl rfl)
theorem dX0_duration_19 : decode cX0_duration 19 = .ok (.bipush (-2), 2) := dk_16 254 (dk_at dksX0_duration_0 19 rfl rfl)
theorem dX0_duration_21 : decode cX0_duration 21 = .ok (.ireturn, 1) := dk_172 (dk_at dksX0_duration_0 21 rfl rfl)
theorem dX0_duration_22 : decode cX0_duration 22 = .ok (.aload_n 0, 1) := dk_42 (dk_at dksX0_duration_0 22 rfl rfl)
theorem dX0_duration_23 : decode cX0_duration 23 = .ok (.getfield 91, 3) := dk_180 0 91 (dk_at dksX0_duration_1 0 rfl rfl)
theorem dX0_duration_26 : decode cX0_duration 26 = .ok (.getfield 95, 3) := dk_180 0 95 (dk_at dksX0_duration_1 3 rfl rfl)
theorem dX0_duration_29 : decode cX0_duration 29 = .ok (.iload_n 1, 1) := dk_27 (dk_at dksX0_duration_1 6 rfl rfl)
theorem dX0_duration_30 : decode cX0_duration 30 = .ok (.iaload, 1) := dk_46 (dk_at dksX0_duration_1 7 rfl rfl)
theorem dX0_duration_31 : decode cX0_duration 31 = .ok (.istore_n 3, 1) := dk_62 (dk_at dksX0_duration_1 8 rfl rfl)
theorem dX0_duration_32 : decode cX0_duration 32 = .ok (.aload_n 0, 1) := dk_42 (dk_at dksX0_duration_1 9 rfl rfl)
theorem dX0_duration_33 : decode cX0_duration 33 = .ok (.getfield 91, 3) := dk_180 0 91 (dk_at dksX0_duration_1 10 rfl rfl)
theorem dX0_duration_36 : decode cX0_duration 36 = .ok (.getfield 95, 3) := dk_180 0 95 (dk_at dksX0_duration_1 13 rfl rfl)
theorem dX0_duration_39 : decode cX0_duration 39 = .ok (.iload_n 1, 1) := dk_27 (dk_at dksX0_duration_1 16 rfl rfl)
theorem dX0_duration_40 : decode cX0_duration 40 = .ok (.iload_n 2, 1) := dk_28 (dk_at dksX0_duration_1 17 rfl rfl)
theorem dX0_duration_41 : decode cX0_duration 41 = .ok (.iastore, 1) := dk_79 (dk_at dksX0_duration_1 18 rfl rfl)
theorem dX0_duration_42 : decode cX0_duration 42 = .ok (.iload_n 3, 1) := dk_29 (dk_at dksX0_duration_1 19 rfl rfl)
theorem dX0_duration_43 : decode cX0_duration 43 = .ok (.ireturn, 1) := dk_172 (dk_at dksX0_duration_1 20 rfl rfl)
theorem fl_X0_95_1 : gFL RX0 95 1 0 := gFL.mkN (Cn := RX1) (T := TX1) (N := 5) (ref := "WorkflowEngine$Moment") rfl in_X1 (by decide) nq736 rfl rfl (Or.inl rfl)
def f_X0_duration (a0 : Nat) (p1 : Int32) (p2 : Int32) (w0 : gw) : Option (Int32 × gw) := gB2 (f_X0_isCode p1 w0) fun x2 w1 => if x2 = 0 then some ((-1), w1) else gB2 (f_X0_in p2 (nI 0) (nI 99) w1) fun x5 w4 => if x5 = 0 then some ((-2), w4) else gB1 (gR w4 a0 0 5) fun r7 => gB1 r7 fun a8 => gB1 (gR w4 a8 1 0) fun r9 => gB1 r9 fun a10 => gB1 (gLdI w4 a10 0 p1) fun x11 => gB1 (gR w4 a0 0 5) fun r12 => gB1 r12 fun a13 => gB1 (gR w4 a13 1 0) fun r14 => gB1 r14 fun a15 => gB1 (gStI w4 a15 0 p1 p2) fun w16 => some (x11, w16)
set_option maxHeartbeats 4000000 in
set_option maxRecDepth 100000 in
theorem k_X0_duration {D : va_G} {dA : Nat → ClassId} {A : Nat → Prop} {K : Nat → Nat} {l : Launch} {h : Nat} (hh : 2 ≤ h) {a0 : Nat} {p1 : Int32} {p2 : Int32} {w0 ww : gw} {rr : Int32} (hf : f_X0_duration a0 p1 p2 w0 = some (rr, ww)) : gMet D dA A K l yX0_duration (ws_ yX0_duration cX0_duration 4 (some .int)) h [(ga (some a0)), (gi p1), (gi p2)] (some (gi rr)) w0 ww := by
  refine j_start (own := RX0) (by decide +kernel) rfl (Nat.le_of_ble_eq_true rfl) ?_
  intro p e R s m args below meth c C hr hin hw
  unfold f_X0_duration at hf
  show gJ D dA A K p l e R s m args below meth c (gEnd D dA A K below args s w0 (some (gi rr)) ww) 4 0 [(0, (ga (some a0))), (1, (gi p1)), (2, (gi p2))] [] w0
  refine j_iload_n C dX0_duration_0 rfl ?_
  replace hf := gB2_e hf
  obtain ⟨x2, w1, ew1, hf⟩ := hf
  refine j_callS (As := [(gi p1)]) (rest := []) (v := (some (gi x2))) C (by omega) (k_X0_isCode (by omega) ew1) q712 q713 q91 q714 hd_X0_isCode (by decide) rfl (Nat.le_of_ble_eq_true rfl) dX0_duration_1 ?_
  refine j_if_ne (tgt := 9) C dX0_duration_4 (by decide) (fun c3 => ?_) (fun c3 => ?_)
  · replace hf := gIf_f hf c3
    refine j_iload_n C dX0_duration_9 rfl ?_
    refine j_iconst (v := (nI 0)) C dX0_duration_10 (by decide) ?_
    refine j_bipush (v := (nI 99)) C dX0_duration_11 (by decide) ?_
    replace hf := gB2_e hf
    obtain ⟨x5, w4, ew4, hf⟩ := hf
    refine j_callS (As := [(gi p2), (gi (nI 0)), (gi (nI 99))]) (rest := []) (v := (some (gi x5))) C (by omega) (k_X0_in (by omega) ew4) q138 q139 q91 q140 hd_X0_in (by decide) rfl (Nat.le_of_ble_eq_true rfl) dX0_duration_13 ?_
    refine j_if_ne (tgt := 22) C dX0_duration_16 (by decide) (fun c6 => ?_) (fun c6 => ?_)
    · replace hf := gIf_f hf c6
      refine j_aload_n C dX0_duration_22 rfl ?_
      replace hf := gB1_e hf
      obtain ⟨r7, er7, hf⟩ := hf
      refine j_get C fl_X0_91_0 dX0_duration_23 (gR_F er7) ?_
      replace hf := gB1_e hf
      obtain ⟨a8, ea8, hf⟩ := hf
      subst ea8
      replace hf := gB1_e hf
      obtain ⟨r9, er9, hf⟩ := hf
      refine j_get C fl_X0_95_1 dX0_duration_26 (gR_F er9) ?_
      refine j_iload_n C dX0_duration_29 rfl ?_
      replace hf := gB1_e hf
      obtain ⟨a10, ea10, hf⟩ := hf
      subst ea10
      replace hf := gB1_e hf
      obtain ⟨x11, ex11, hf⟩ := hf
      refine j_iald C ex11 dX0_duration_30 ?_
      refine j_istore_n (lv' := [(3, (gi x11)), (0, (ga (some a0))), (1, (gi p1)), (2, (gi p2))]) C dX0_duration_31 (by decide) rfl ?_
      refine j_aload_n C dX0_duration_32 rfl ?_
      replace hf := gB1_e hf
      obtain ⟨r12, er12, hf⟩ := hf
      refine j_get C fl_X0_91_0 dX0_duration_33 (gR_F er12) ?_
      replace hf := gB1_e hf
      obtain ⟨a13, ea13, hf⟩ := hf
      subst ea13
      replace hf := gB1_e hf
      obtain ⟨r14, er14, hf⟩ := hf
      refine j_get C fl_X0_95_1 dX0_duration_36 (gR_F er14) ?_
      refine j_iload_n C dX0_duration_39 rfl ?_
      refine j_iload_n C dX0_duration_40 rfl ?_
      replace hf := gB1_e hf
      obtain ⟨a15, ea15, hf⟩ := hf
      subst ea15
      replace hf := gB1_e hf
      obtain ⟨w16, ew16, hf⟩ := hf
      refine j_iast C ew16 dX0_duration_41 ?_
      refine j_iload_n C dX0_duration_42 rfl ?_
      obtain ⟨rfl, rfl⟩ := gSome hf
      exact j_iret C hr hw dX0_duration_43
    · replace hf := gIf_t hf c6
      refine j_bipush (v := (-2)) C dX0_duration_19 (by decide) ?_
      obtain ⟨rfl, rfl⟩ := gSome hf
      exact j_iret C hr hw dX0_duration_21
  · replace hf := gIf_t hf c3
    refine j_iconst (v := (-1)) C dX0_duration_7 (by decide) ?_
    obtain ⟨rfl, rfl⟩ := gSome hf
    exact j_iret C hr hw dX0_duration_8
def dkwX0_init_2 : List UInt8 := [162, 0, 19, 42, 180, 0, 91, 180, 0, 95, 27, 4, 79, 132, 1, 1, 167, 255, 237, 177]
abbrev dktX0_init_2 : List UInt8 := dkwX0_init_2 ++ []
def dkwX0_init_1 : List UInt8 := [188, 10, 181, 0, 40, 42, 187, 0, 96, 89, 42, 183, 0, 108, 181, 0, 91, 3, 60, 27, 16, 8]
abbrev dktX0_init_1 : List UInt8 := dkwX0_init_1 ++ dktX0_init_2
def dkwX0_init_0 : List UInt8 := [42, 183, 0, 103, 42, 16, 80, 188, 8, 181, 0, 13, 42, 16, 16, 189, 0, 52, 181, 0, 48, 42, 7]
abbrev dktX0_init_0 : List UInt8 := dkwX0_init_0 ++ dktX0_init_1
theorem dksX0_init_0 : cX0_init.data.toList.drop 0 = dktX0_init_0 := by decide +kernel
theorem dksX0_init_1 : cX0_init.data.toList.drop 23 = dktX0_init_1 := dk_seg dksX0_init_0 23 rfl rfl
theorem dksX0_init_2 : cX0_init.data.toList.drop 45 = dktX0_init_2 := dk_seg dksX0_init_1 22 rfl rfl
theorem dX0_init_0 : decode cX0_init 0 = .ok (.aload_n 0, 1) := dk_42 (dk_at dksX0_init_0 0 rfl rfl)
theorem dX0_init_1 : decode cX0_init 1 = .ok (.invokespecial 103, 3) := dk_183 0 103 (dk_at dksX0_init_0 1 rfl rfl)
theorem dX0_init_4 : decode cX0_init 4 = .ok (.aload_n 0, 1) := dk_42 (dk_at dksX0_init_0 4 rfl rfl)
theorem dX0_init_5 : decode cX0_init 5 = .ok (.bipush 80, 2) := dk_16 80 (dk_at dksX0_init_0 5 rfl rfl)
theorem dX0_init_7 : decode cX0_init 7 = .ok (.newarray .byte, 2) := dk_188_8 (dk_at dksX0_init_0 7 rfl rfl)
theorem dX0_init_9 : decode cX0_init 9 = .ok (.putfield 13, 3) := dk_181 0 13 (dk_at dksX0_init_0 9 rfl rfl)
theorem dX0_init_12 : decode cX0_init 12 = .ok (.aload_n 0, 1) := dk_42 (dk_at dksX0_init_0 12 rfl rfl)
theorem dX0_init_13 : decode cX0_init 13 = .ok (.bipush 16, 2) := dk_16 16 (dk_at dksX0_init_0 13 rfl rfl)
theorem dX0_init_15 : decode cX0_init 15 = .ok (.anewarray 52, 3) := dk_189 0 52 (dk_at dksX0_init_0 15 rfl rfl)
theorem dX0_init_18 : decode cX0_init 18 = .ok (.putfield 48, 3) := dk_181 0 48 (dk_at dksX0_init_0 18 rfl rfl)
theorem dX0_init_21 : decode cX0_init 21 = .ok (.aload_n 0, 1) := dk_42 (dk_at dksX0_init_0 21 rfl rfl)
theorem dX0_init_22 : decode cX0_init 22 = .ok (.iconst 4, 1) := dk_7 (dk_at dksX0_init_0 22 rfl rfl)
theorem dX0_init_23 : decode cX0_init 23 = .ok (.newarray .int, 2) := dk_188_10 (dk_at dksX0_init_1 0 rfl rfl)
theorem dX0_init_25 : decode cX0_init 25 = .ok (.putfield 40, 3) := dk_181 0 40 (dk_at dksX0_init_1 2 rfl rfl)
theorem dX0_init_28 : decode cX0_init 28 = .ok (.aload_n 0, 1) := dk_42 (dk_at dksX0_init_1 5 rfl rfl)
theorem dX0_init_29 : decode cX0_init 29 = .ok (.new 96, 3) := dk_187 0 96 (dk_at dksX0_init_1 6 rfl rfl)
theorem dX0_init_32 : decode cX0_init 32 = .ok (.dup, 1) := dk_89 (dk_at dksX0_init_1 9 rfl rfl)
theorem dX0_init_33 : decode cX0_init 33 = .ok (.aload_n 0, 1) := dk_42 (dk_at dksX0_init_1 10 rfl rfl)
theorem dX0_init_34 : decode cX0_init 34 = .ok (.invokespecial 108, 3) := dk_183 0 108 (dk_at dksX0_init_1 11 rfl rfl)
theorem dX0_init_37 : decode cX0_init 37 = .ok (.putfield 91, 3) := dk_181 0 91 (dk_at dksX0_init_1 14 rfl rfl)
theorem dX0_init_40 : decode cX0_init 40 = .ok (.iconst 0, 1) := dk_3 (dk_at dksX0_init_1 17 rfl rfl)
theorem dX0_init_41 : decode cX0_init 41 = .ok (.istore_n 1, 1) := dk_60 (dk_at dksX0_init_1 18 rfl rfl)
theorem dX0_init_42 : decode cX0_init 42 = .ok (.iload_n 1, 1) := dk_27 (dk_at dksX0_init_1 19 rfl rfl)
theorem dX0_init_43 : decode cX0_init 43 = .ok (.bipush 8, 2) := dk_16 8 (dk_at dksX0_init_1 20 rfl rfl)
theorem dX0_init_45 : decode cX0_init 45 = .ok (.if_icmp .ge 19, 3) := dk_162 0 19 (dk_at dksX0_init_2 0 rfl rfl)
theorem dX0_init_48 : decode cX0_init 48 = .ok (.aload_n 0, 1) := dk_42 (dk_at dksX0_init_2 3 rfl rfl)
theorem dX0_init_49 : decode cX0_init 49 = .ok (.getfield 91, 3) := dk_180 0 91 (dk_at dksX0_init_2 4 rfl rfl)
theorem dX0_init_52 : decode cX0_init 52 = .ok (.getfield 95, 3) := dk_180 0 95 (dk_at dksX0_init_2 7 rfl rfl)
theorem dX0_init_55 : decode cX0_init 55 = .ok (.iload_n 1, 1) := dk_27 (dk_at dksX0_init_2 10 rfl rfl)
theorem dX0_init_56 : decode cX0_init 56 = .ok (.iconst 1, 1) := dk_4 (dk_at dksX0_init_2 11 rfl rfl)
theorem dX0_init_57 : decode cX0_init 57 = .ok (.iastore, 1) := dk_79 (dk_at dksX0_init_2 12 rfl rfl)
theorem dX0_init_58 : decode cX0_init 58 = .ok (.iinc 1 1, 3) := dk_132 1 1 (dk_at dksX0_init_2 13 rfl rfl)
theorem dX0_init_61 : decode cX0_init 61 = .ok (.goto (-19), 3) := dk_167 255 237 (dk_at dksX0_init_2 16 rfl rfl)
theorem dX0_init_64 : decode cX0_init 64 = .ok (.return_, 1) := dk_177 (dk_at dksX0_init_2 19 rfl rfl)
theorem ft__B (r : Option Nat) : gFit "[B" (ga r) := ⟨.array .byte, by decide +kernel, by cases r <;> rfl, by cases r <;> rfl⟩
theorem fk_0_0 : gFk 0 0 "[B" true "WorkflowEngine" := fun Cn T N h => by
  have h : (RX0, TX0, 7) = (Cn, T, N) := Option.some.inj h
  cases h
  exact ⟨rfl, rfl, rfl⟩
theorem fl_X0_48_0 : gFL RX0 48 0 3 := gFL.mk (Cn := RX0) (T := TX0) (N := 7) (ref := "WorkflowEngine") rfl in_X0 (by decide) q769 rfl rfl (Or.inl rfl)
theorem ft__LWorkflowEngine_Version_ (r : Option Nat) : gFit "[LWorkflowEngine$Version;" (ga r) := ⟨.array (.object "WorkflowEngine$Version"), by decide +kernel, by cases r <;> rfl, by cases r <;> rfl⟩
theorem fk_0_3 : gFk 0 3 "[LWorkflowEngine$Version;" true "WorkflowEngine" := fun Cn T N h => by
  have h : (RX0, TX0, 7) = (Cn, T, N) := Option.some.inj h
  cases h
  exact ⟨rfl, rfl, rfl⟩
theorem fk_0_4 : gFk 0 4 "[I" true "WorkflowEngine" := fun Cn T N h => by
  have h : (RX0, TX0, 7) = (Cn, T, N) := Option.some.inj h
  cases h
  exact ⟨rfl, rfl, rfl⟩
theorem nl_X0_96 : gNL RX0 96 1 := ⟨RX1, TX1, 5, 5, tyX1, _, rfl, rfl, in_X1, tyX1_ok, q725, q726, q92, fun j hj => by rcases (show j = 0 ∨ j = 1 ∨ j = 2 ∨ j = 3 ∨ j = 4 by omega) with rfl | rfl | rfl | rfl | rfl <;> rfl⟩
theorem hd_X1_init : (yX1_init.cls ≠ "java/lang/invoke/MethodHandle" ∧ yX1_init.cls ≠ "java/lang/invoke/VarHandle" ∧ (parseMethodDescriptor yX1_init.desc).map (fun d => d.parameters.length) = some 1) := ⟨by decide +kernel, by decide +kernel, by decide +kernel⟩
theorem ft_LWorkflowEngine_Moment_ (r : Option Nat) : gFit "LWorkflowEngine$Moment;" (ga r) := ⟨.object "WorkflowEngine$Moment", by decide +kernel, by cases r <;> rfl, by cases r <;> rfl⟩
theorem fk_0_5 : gFk 0 5 "LWorkflowEngine$Moment;" true "WorkflowEngine" := fun Cn T N h => by
  have h : (RX0, TX0, 7) = (Cn, T, N) := Option.some.inj h
  cases h
  exact ⟨rfl, rfl, rfl⟩
def f_X0_init (a0 : Nat) (w0 : gw) : Option (Unit × gw) := gB2 (gNewI w0 1 (nI 80)) fun a1 w2 => gB1 (gPut w2 a0 0 0 (ga (some a1))) fun w3 => gB2 (gNewR w3 3 (nI 16)) fun a4 w5 => gB1 (gPut w5 a0 0 3 (ga (some a4))) fun w6 => gB2 (gNewI w6 0 (nI 4)) fun a7 w8 => gB1 (gPut w8 a0 0 4 (ga (some a7))) fun w9 => gB2 (gNew w9 1) fun a10 w11 => gB2 (f_X1_init a10 (some a0) w11) fun _ w12 => gB1 (gPut w12 a0 0 5 (ga (some a10))) fun w13 => gL1 (fun k16 (x15 : Int32) (w14 : gw) => if (nI 8) ≤ x15 then some ((), w14) else gB1 (gR w14 a0 0 5) fun r18 => gB1 r18 fun a19 => gB1 (gR w14 a19 1 0) fun r20 => gB1 r20 fun a21 => gB1 (gStI w14 a21 0 x15 (nI 1)) fun w22 => gBd (x15 + (nI 1)) fun x23 => k16 x23 w22) 20000 (nI 0) w13
set_option maxHeartbeats 4000000 in
set_option maxRecDepth 100000 in
theorem k_X0_init {D : va_G} {dA : Nat → ClassId} {A : Nat → Prop} {K : Nat → Nat} {l : Launch} {h : Nat} (hh : 2 ≤ h) {a0 : Nat} {w0 ww : gw} {rr : Unit} (hf : f_X0_init a0 w0 = some (rr, ww)) : gMet D dA A K l yX0_init (ws_ yX0_init cX0_init 2 none) h [(ga (some a0))] none w0 ww := by
  refine j_start (own := RX0) (by decide +kernel) rfl (Nat.le_of_ble_eq_true rfl) ?_
  intro p e R s m args below meth c C hr hin hw
  unfold f_X0_init at hf
  show gJ D dA A K p l e R s m args below meth c (gEnd D dA A K below args s w0 none ww) 2 0 [(0, (ga (some a0)))] [] w0
  refine j_aload_n C dX0_init_0 rfl ?_
  refine j_objInit C (by omega) q723 q164 q165 (by decide) dX0_init_1 ?_
  refine j_aload_n C dX0_init_4 rfl ?_
  refine j_bipush (v := (nI 80)) C dX0_init_5 (by decide) ?_
  replace hf := gB2_e hf
  obtain ⟨a1, w2, ew2, hf⟩ := hf
  refine j_newi C (t := 1) (atype := .byte) rfl (by decide) rfl rfl q760 ew2 dX0_init_7 ?_
  replace hf := gB1_e hf
  obtain ⟨w3, ew3, hf⟩ := hf
  refine j_putF C fl_X0_13_0 tb_0 hin ew3 fk_0_0 rfl (ft__B (some a1)) dX0_init_9 ?_
  refine j_aload_n C dX0_init_12 rfl ?_
  refine j_bipush (v := (nI 16)) C dX0_init_13 (by decide) ?_
  replace hf := gB2_e hf
  obtain ⟨a4, w5, ew5, hf⟩ := hf
  refine j_newr C (t := 3) rfl (by decide) q149 ew5 dX0_init_15 ?_
  replace hf := gB1_e hf
  obtain ⟨w6, ew6, hf⟩ := hf
  refine j_putF C fl_X0_48_0 tb_0 hin ew6 fk_0_3 rfl (ft__LWorkflowEngine_Version_ (some a4)) dX0_init_18 ?_
  refine j_aload_n C dX0_init_21 rfl ?_
  refine j_iconst (v := (nI 4)) C dX0_init_22 (by decide) ?_
  replace hf := gB2_e hf
  obtain ⟨a7, w8, ew8, hf⟩ := hf
  refine j_newi C (t := 0) (atype := .int) rfl (by decide) rfl rfl q761 ew8 dX0_init_23 ?_
  replace hf := gB1_e hf
  obtain ⟨w9, ew9, hf⟩ := hf
  refine j_putF C fl_X0_40_0 tb_0 hin ew9 fk_0_4 rfl (ft__I (some a7)) dX0_init_25 ?_
  refine j_aload_n C dX0_init_28 rfl ?_
  replace hf := gB2_e hf
  obtain ⟨a10, w11, ew11, hf⟩ := hf
  refine j_new C nl_X0_96 ew11 dX0_init_29 ?_
  refine j_dup C dX0_init_32 ?_
  refine j_aload_n C dX0_init_33 rfl ?_
  replace hf := gB2_e hf
  obtain ⟨_, w12, ew12, hf⟩ := hf
  refine j_callIN (As := [(ga (some a0))]) (rest := [(ga (some a10)), (ga (some a0))]) C (by omega) (k_X1_init (by omega) ew12) rfl nq727 q728 q92 q729 hd_X1_init (by decide) rfl (Nat.le_of_ble_eq_true rfl) dX0_init_34 ?_
  replace hf := gB1_e hf
  obtain ⟨w13, ew13, hf⟩ := hf
  refine j_putF C fl_X0_91_0 tb_0 hin ew13 fk_0_5 rfl (ft_LWorkflowEngine_Moment_ (some a10)) dX0_init_37 ?_
  refine j_iconst (v := (nI 0)) C dX0_init_40 (by decide) ?_
  refine j_istore_n (lv' := [(1, (gi (nI 0))), (0, (ga (some a0)))]) C dX0_init_41 (by decide) rfl ?_
  refine j_sub (lv' := [(0, (ga (some a0))), (1, (gi (nI 0)))]) (gL_cons rfl (gL_cons rfl (gL_nil))) ?_
  refine gL1_e (fun (x15 : Int32) (w14 : gw) => gJ D dA A K p l e R s m args below meth c (gEnd D dA A K below args s w0 none ww) 2 42 [(0, (ga (some a0))), (1, (gi x15))] [] w14) ?_ _ _ _ hf
  intro k16 jk16 x15 w14 hf
  refine j_iload_n C dX0_init_42 rfl ?_
  refine j_bipush (v := (nI 8)) C dX0_init_43 (by decide) ?_
  refine j_icmp_ge (tgt := 64) C dX0_init_45 (by decide) (fun c17 => ?_) (fun c17 => ?_)
  · replace hf := gIf_t hf c17
    obtain ⟨rfl, rfl⟩ := gSome hf
    exact j_vret C hr hw dX0_init_64
  · replace hf := gIf_f hf c17
    refine j_aload_n C dX0_init_48 rfl ?_
    replace hf := gB1_e hf
    obtain ⟨r18, er18, hf⟩ := hf
    refine j_get C fl_X0_91_0 dX0_init_49 (gR_F er18) ?_
    replace hf := gB1_e hf
    obtain ⟨a19, ea19, hf⟩ := hf
    subst ea19
    replace hf := gB1_e hf
    obtain ⟨r20, er20, hf⟩ := hf
    refine j_get C fl_X0_95_1 dX0_init_52 (gR_F er20) ?_
    refine j_iload_n C dX0_init_55 rfl ?_
    refine j_iconst (v := (nI 1)) C dX0_init_56 (by decide) ?_
    replace hf := gB1_e hf
    obtain ⟨a21, ea21, hf⟩ := hf
    subst ea21
    replace hf := gB1_e hf
    obtain ⟨w22, ew22, hf⟩ := hf
    refine j_iast C ew22 dX0_init_57 ?_
    replace hf := gBd_x hf
    obtain ⟨x23, ex23, hf⟩ := hf
    refine j_iinc (v := x23) (lv' := [(1, (gi x23)), (0, (ga (some a0)))]) C dX0_init_58 rfl (by rw [ex23]; rfl) (by decide) rfl ?_
    refine j_goto (tgt := 42) C dX0_init_61 (by decide) ?_
    refine j_sub (lv' := [(0, (ga (some a0))), (1, (gi x23))]) (gL_cons rfl (gL_cons rfl (gL_nil))) ?_
    exact jk16 _ _ hf
def dkwX0_signal_2 : List UInt8 := [16, 252, 172, 45, 180, 0, 138, 28, 92, 46, 4, 96, 79, 45, 180, 0, 138, 28, 46, 172]
abbrev dktX0_signal_2 : List UInt8 := dkwX0_signal_2 ++ []
def dkwX0_signal_1 : List UInt8 := [27, 50, 78, 45, 180, 0, 135, 153, 0, 6, 16, 253, 172, 45, 180, 0, 138, 28, 46, 16, 9, 160, 0, 6]
abbrev dktX0_signal_1 : List UInt8 := dkwX0_signal_1 ++ dktX0_signal_2
def dkwX0_signal_0 : List UInt8 := [42, 27, 182, 0, 132, 153, 0, 10, 28, 184, 0, 88, 154, 0, 5, 2, 172, 42, 180, 0, 91, 180, 0, 109]
abbrev dktX0_signal_0 : List UInt8 := dkwX0_signal_0 ++ dktX0_signal_1
theorem dksX0_signal_0 : cX0_signal.data.toList.drop 0 = dktX0_signal_0 := by decide +kernel
theorem dksX0_signal_1 : cX0_signal.data.toList.drop 24 = dktX0_signal_1 := dk_seg dksX0_signal_0 24 rfl rfl
theorem dksX0_signal_2 : cX0_signal.data.toList.drop 48 = dktX0_signal_2 := dk_seg dksX0_signal_1 24 rfl rfl
theorem dX0_signal_0 : decode cX0_signal 0 = .ok (.aload_n 0, 1) := dk_42 (dk_at dksX0_signal_0 0 rfl rfl)
theorem dX0_signal_1 : decode cX0_signal 1 = .ok (.iload_n 1, 1) := dk_27 (dk_at dksX0_signal_0 1 rfl rfl)
theorem dX0_signal_2 : decode cX0_signal 2 = .ok (.invokevirtual 132, 3) := dk_182 0 132 (dk_at dksX0_signal_0 2 rfl rfl)
theorem dX0_signal_5 : decode cX0_signal 5 = .ok (.ifCond .eq 10, 3) := dk_153 0 10 (dk_at dksX0_signal_0 5 rfl rfl)
theorem dX0_signal_8 : decode cX0_signal 8 = .ok (.iload_n 2, 1) := dk_28 (dk_at dksX0_signal_0 8 rfl rfl)
theorem dX0_signal_9 : decode cX0_signal 9 = .ok (.invokestatic 88, 3) := dk_184 0 88 (dk_at dksX0_signal_0 9 rfl rfl)
theorem dX0_signal_12 : decode cX0_signal 12 = .ok (.ifCond .ne 5, 3) := dk_154 0 5 (dk_at dksX0_signal_0 12 rfl rfl)
theorem dX0_signal_15 : decode cX0_signal 15 = .ok (.iconst (-1), 1) := dk_2 (dk_at dksX0_signal_0 15 rfl rfl)
theorem dX0_signal_16 : decode cX0_signal 16 = .ok (.ireturn, 1) := dk_172 (dk_at dksX0_signal_0 16 rfl rfl)
theorem dX0_signal_17 : decode cX0_signal 17 = .ok (.aload_n 0, 1) := dk_42 (dk_at dksX0_signal_0 17 rfl rfl)
theorem dX0_signal_18 : decode cX0_signal 18 = .ok (.getfield 91, 3) := dk_180 0 91 (dk_at dksX0_signal_0 18 rfl rfl)
theorem dX0_signal_21 : decode cX0_signal 21 = .ok (.getfield 109, 3) := dk_180 0 109 (dk_at dksX0_signal_0 21 rfl rfl)
theorem dX0_signal_24 : decode cX0_signal 24 = .ok (.iload_n 1, 1) := dk_27 (dk_at dksX0_signal_1 0 rfl rfl)
theorem dX0_signal_25 : decode cX0_signal 25 = .ok (.aaload, 1) := dk_50 (dk_at dksX0_signal_1 1 rfl rfl)
theorem dX0_signal_26 : decode cX0_signal 26 = .ok (.astore_n 3, 1) := dk_78 (dk_at dksX0_signal_1 2 rfl rfl)
theorem dX0_signal_27 : decode cX0_signal 27 = .ok (.aload_n 3, 1) := dk_45 (dk_at dksX0_signal_1 3 rfl rfl)
theorem dX0_signal_28 : decode cX0_signal 28 = .ok (.getfield 135, 3) := dk_180 0 135 (dk_at dksX0_signal_1 4 rfl rfl)
theorem dX0_signal_31 : decode cX0_signal 31 = .ok (.ifCond .eq 6, 3) := dk_153 0 6 (dk_at dksX0_signal_1 7 rfl rfl)
theorem dX0_signal_34 : decode cX0_signal 34 = .ok (.bipush (-3), 2) := dk_16 253 (dk_at dksX0_signal_1 10 rfl rfl)
theorem dX0_signal_36 : decode cX0_signal 36 = .ok (.ireturn, 1) := dk_172 (dk_at dksX0_signal_1 12 rfl rfl)
theorem dX0_signal_37 : decode cX0_signal 37 = .ok (.aload_n 3, 1) := dk_45 (dk_at dksX0_signal_1 13 rfl rfl)
theorem dX0_signal_38 : decode cX0_signal 38 = .ok (.getfield 138, 3) := dk_180 0 138 (dk_at dksX0_signal_1 14 rfl rfl)
theorem dX0_signal_41 : decode cX0_signal 41 = .ok (.iload_n 2, 1) := dk_28 (dk_at dksX0_signal_1 17 rfl rfl)
theorem dX0_signal_42 : decode cX0_signal 42 = .ok (.iaload, 1) := dk_46 (dk_at dksX0_signal_1 18 rfl rfl)
theorem dX0_signal_43 : decode cX0_signal 43 = .ok (.bipush 9, 2) := dk_16 9 (dk_at dksX0_signal_1 19 rfl rfl)
theorem dX0_signal_45 : decode cX0_signal 45 = .ok (.if_icmp .ne 6, 3) := dk_160 0 6 (dk_at dksX0_signal_1 21 rfl rfl)
theorem dX0_signal_48 : decode cX0_signal 48 = .ok (.bipush (-4), 2) := dk_16 252 (dk_at dksX0_signal_2 0 rfl rfl)
theorem dX0_signal_50 : decode cX0_signal 50 = .ok (.ireturn, 1) := dk_172 (dk_at dksX0_signal_2 2 rfl rfl)
theorem dX0_signal_51 : decode cX0_signal 51 = .ok (.aload_n 3, 1) := dk_45 (dk_at dksX0_signal_2 3 rfl rfl)
theorem dX0_signal_52 : decode cX0_signal 52 = .ok (.getfield 138, 3) := dk_180 0 138 (dk_at dksX0_signal_2 4 rfl rfl)
theorem dX0_signal_55 : decode cX0_signal 55 = .ok (.iload_n 2, 1) := dk_28 (dk_at dksX0_signal_2 7 rfl rfl)
theorem dX0_signal_56 : decode cX0_signal 56 = .ok (.dup2, 1) := dk_92 (dk_at dksX0_signal_2 8 rfl rfl)
theorem dX0_signal_57 : decode cX0_signal 57 = .ok (.iaload, 1) := dk_46 (dk_at dksX0_signal_2 9 rfl rfl)
theorem dX0_signal_58 : decode cX0_signal 58 = .ok (.iconst 1, 1) := dk_4 (dk_at dksX0_signal_2 10 rfl rfl)
theorem dX0_signal_59 : decode cX0_signal 59 = .ok (.iadd, 1) := dk_96 (dk_at dksX0_signal_2 11 rfl rfl)
theorem dX0_signal_60 : decode cX0_signal 60 = .ok (.iastore, 1) := dk_79 (dk_at dksX0_signal_2 12 rfl rfl)
theorem dX0_signal_61 : decode cX0_signal 61 = .ok (.aload_n 3, 1) := dk_45 (dk_at dksX0_signal_2 13 rfl rfl)
theorem dX0_signal_62 : decode cX0_signal 62 = .ok (.getfield 138, 3) := dk_180 0 138 (dk_at dksX0_signal_2 14 rfl rfl)
theorem dX0_signal_65 : decode cX0_signal 65 = .ok (.iload_n 2, 1) := dk_28 (dk_at dksX0_signal_2 17 rfl rfl)
theorem dX0_signal_66 : decode cX0_signal 66 = .ok (.iaload, 1) := dk_46 (dk_at dksX0_signal_2 18 rfl rfl)
theorem dX0_signal_67 : decode cX0_signal 67 = .ok (.ireturn, 1) := dk_172 (dk_at dksX0_signal_2 19 rfl rfl)
def f_X0_signal (a0 : Nat) (p1 : Int32) (p2 : Int32) (w0 : gw) : Option (Int32 × gw) := gB1 (gOb w0 a0 0) fun _ => gB2 (f_X0_isInstance a0 p1 w0) fun x2 w1 => if x2 = 0 then some ((-1), w1) else gB2 (f_X0_isCode p2 w1) fun x5 w4 => if x5 = 0 then some ((-1), w4) else gB1 (gR w4 a0 0 5) fun r7 => gB1 r7 fun a8 => gB1 (gR w4 a8 1 2) fun r9 => gB1 r9 fun a10 => gB1 (gLdR w4 a10 4 p1) fun r11 => gB1 r11 fun a12 => gB1 (gI w4 a12 16 9) fun x13 => if x13 = 0 then gB1 (gR w4 a12 16 5) fun r15 => gB1 r15 fun a16 => gB1 (gLdI w4 a16 0 p2) fun x17 => if x17 = (nI 9) then some ((-4), w4) else gB1 (gR w4 a12 16 5) fun r19 => gB1 r19 fun a20 => gB1 (gLdI w4 a20 0 p2) fun x21 => gB1 (gStI w4 a20 0 p2 (x21 + (nI 1))) fun w22 => gB1 (gR w22 a12 16 5) fun r23 => gB1 r23 fun a24 => gB1 (gLdI w22 a24 0 p2) fun x25 => some (x25, w22) else some ((-3), w4)
set_option maxHeartbeats 4000000 in
set_option maxRecDepth 100000 in
theorem k_X0_signal {D : va_G} {dA : Nat → ClassId} {A : Nat → Prop} {K : Nat → Nat} {l : Launch} {h : Nat} (hh : 2 ≤ h) {a0 : Nat} {p1 : Int32} {p2 : Int32} {w0 ww : gw} {rr : Int32} (hf : f_X0_signal a0 p1 p2 w0 = some (rr, ww)) : gMet D dA A K l yX0_signal (ws_ yX0_signal cX0_signal 4 (some .int)) h [(ga (some a0)), (gi p1), (gi p2)] (some (gi rr)) w0 ww := by
  refine j_start (own := RX0) (by decide +kernel) rfl (Nat.le_of_ble_eq_true rfl) ?_
  intro p e R s m args below meth c C hr hin hw
  unfold f_X0_signal at hf
  show gJ D dA A K p l e R s m args below meth c (gEnd D dA A K below args s w0 (some (gi rr)) ww) 4 0 [(0, (ga (some a0))), (1, (gi p1)), (2, (gi p2))] [] w0
  refine j_aload_n C dX0_signal_0 rfl ?_
  refine j_iload_n C dX0_signal_1 rfl ?_
  replace hf := gB1_e hf
  obtain ⟨_, eo, hf⟩ := hf
  replace hf := gB2_e hf
  obtain ⟨x2, w1, ew1, hf⟩ := hf
  refine j_callV (As := [(gi p1)]) (rest := []) (v := (some (gi x2))) C (by omega) (k_X0_isInstance (by omega) ew1) (gOb_e eo) rfl q1301 q1303 qs29 q91 q1304 ⟨rfl, hd_X0_isInstance⟩ (by decide) rfl (Nat.le_of_ble_eq_true rfl) dX0_signal_2 ?_
  refine j_if_eq (tgt := 15) C dX0_signal_5 (by decide) (fun c3 => ?_) (fun c3 => ?_)
  · replace hf := gIf_t hf c3
    refine j_iconst (v := (-1)) C dX0_signal_15 (by decide) ?_
    obtain ⟨rfl, rfl⟩ := gSome hf
    exact j_iret C hr hw dX0_signal_16
  · replace hf := gIf_f hf c3
    refine j_iload_n C dX0_signal_8 rfl ?_
    replace hf := gB2_e hf
    obtain ⟨x5, w4, ew4, hf⟩ := hf
    refine j_callS (As := [(gi p2)]) (rest := []) (v := (some (gi x5))) C (by omega) (k_X0_isCode (by omega) ew4) q712 q713 q91 q714 hd_X0_isCode (by decide) rfl (Nat.le_of_ble_eq_true rfl) dX0_signal_9 ?_
    refine j_if_ne (tgt := 17) C dX0_signal_12 (by decide) (fun c6 => ?_) (fun c6 => ?_)
    · replace hf := gIf_f hf c6
      refine j_aload_n C dX0_signal_17 rfl ?_
      replace hf := gB1_e hf
      obtain ⟨r7, er7, hf⟩ := hf
      refine j_get C fl_X0_91_0 dX0_signal_18 (gR_F er7) ?_
      replace hf := gB1_e hf
      obtain ⟨a8, ea8, hf⟩ := hf
      subst ea8
      replace hf := gB1_e hf
      obtain ⟨r9, er9, hf⟩ := hf
      refine j_get C fl_X0_109_1 dX0_signal_21 (gR_F er9) ?_
      refine j_iload_n C dX0_signal_24 rfl ?_
      replace hf := gB1_e hf
      obtain ⟨a10, ea10, hf⟩ := hf
      subst ea10
      replace hf := gB1_e hf
      obtain ⟨r11, er11, hf⟩ := hf
      refine j_aald C (t := 4) rfl er11 dX0_signal_25 ?_
      refine j_astore_n (lv' := [(3, (ga r11)), (0, (ga (some a0))), (1, (gi p1)), (2, (gi p2))]) C dX0_signal_26 (by decide) rfl ?_
      refine j_aload_n C dX0_signal_27 rfl ?_
      replace hf := gB1_e hf
      obtain ⟨a12, ea12, hf⟩ := hf
      subst ea12
      replace hf := gB1_e hf
      obtain ⟨x13, ex13, hf⟩ := hf
      refine j_get C fl_X0_135_16 dX0_signal_28 (gI_F ex13) ?_
      refine j_if_eq (tgt := 37) C dX0_signal_31 (by decide) (fun c14 => ?_) (fun c14 => ?_)
      · replace hf := gIf_t hf c14
        refine j_aload_n C dX0_signal_37 rfl ?_
        replace hf := gB1_e hf
        obtain ⟨r15, er15, hf⟩ := hf
        refine j_get C fl_X0_138_16 dX0_signal_38 (gR_F er15) ?_
        refine j_iload_n C dX0_signal_41 rfl ?_
        replace hf := gB1_e hf
        obtain ⟨a16, ea16, hf⟩ := hf
        subst ea16
        replace hf := gB1_e hf
        obtain ⟨x17, ex17, hf⟩ := hf
        refine j_iald C ex17 dX0_signal_42 ?_
        refine j_bipush (v := (nI 9)) C dX0_signal_43 (by decide) ?_
        refine j_icmp_ne (tgt := 51) C dX0_signal_45 (by decide) (fun c18 => ?_) (fun c18 => ?_)
        · replace hf := gIf_f hf c18
          refine j_aload_n C dX0_signal_51 rfl ?_
          replace hf := gB1_e hf
          obtain ⟨r19, er19, hf⟩ := hf
          refine j_get C fl_X0_138_16 dX0_signal_52 (gR_F er19) ?_
          refine j_iload_n C dX0_signal_55 rfl ?_
          refine j_dup2 C dX0_signal_56 ?_
          replace hf := gB1_e hf
          obtain ⟨a20, ea20, hf⟩ := hf
          subst ea20
          replace hf := gB1_e hf
          obtain ⟨x21, ex21, hf⟩ := hf
          refine j_iald C ex21 dX0_signal_57 ?_
          refine j_iconst (v := (nI 1)) C dX0_signal_58 (by decide) ?_
          refine j_iadd C dX0_signal_59 ?_
          replace hf := gB1_e hf
          obtain ⟨w22, ew22, hf⟩ := hf
          refine j_iast C ew22 dX0_signal_60 ?_
          refine j_aload_n C dX0_signal_61 rfl ?_
          replace hf := gB1_e hf
          obtain ⟨r23, er23, hf⟩ := hf
          refine j_get C fl_X0_138_16 dX0_signal_62 (gR_F er23) ?_
          refine j_iload_n C dX0_signal_65 rfl ?_
          replace hf := gB1_e hf
          obtain ⟨a24, ea24, hf⟩ := hf
          subst ea24
          replace hf := gB1_e hf
          obtain ⟨x25, ex25, hf⟩ := hf
          refine j_iald C ex25 dX0_signal_66 ?_
          obtain ⟨rfl, rfl⟩ := gSome hf
          exact j_iret C hr hw dX0_signal_67
        · replace hf := gIf_t hf c18
          refine j_bipush (v := (-4)) C dX0_signal_48 (by decide) ?_
          obtain ⟨rfl, rfl⟩ := gSome hf
          exact j_iret C hr hw dX0_signal_50
      · replace hf := gIf_f hf c14
        refine j_bipush (v := (-3)) C dX0_signal_34 (by decide) ?_
        obtain ⟨rfl, rfl⟩ := gSome hf
        exact j_iret C hr hw dX0_signal_36
    · replace hf := gIf_t hf c6
      refine j_iconst (v := (-1)) C dX0_signal_15 (by decide) ?_
      obtain ⟨rfl, rfl⟩ := gSome hf
      exact j_iret C hr hw dX0_signal_16
def dkwX0_remove_1 : List UInt8 := [154, 0, 6, 16, 253, 172, 42, 180, 0, 91, 180, 0, 109, 27, 1, 83, 44, 180, 0, 135, 172]
abbrev dktX0_remove_1 : List UInt8 := dkwX0_remove_1 ++ []
def dkwX0_remove_0 : List UInt8 := [42, 27, 182, 0, 132, 154, 0, 5, 2, 172, 42, 180, 0, 91, 180, 0, 109, 27, 50, 77, 44, 182, 0, 144]
abbrev dktX0_remove_0 : List UInt8 := dkwX0_remove_0 ++ dktX0_remove_1
theorem dksX0_remove_0 : cX0_remove.data.toList.drop 0 = dktX0_remove_0 := by decide +kernel
theorem dksX0_remove_1 : cX0_remove.data.toList.drop 24 = dktX0_remove_1 := dk_seg dksX0_remove_0 24 rfl rfl
theorem dX0_remove_0 : decode cX0_remove 0 = .ok (.aload_n 0, 1) := dk_42 (dk_at dksX0_remove_0 0 rfl rfl)
theorem dX0_remove_1 : decode cX0_remove 1 = .ok (.iload_n 1, 1) := dk_27 (dk_at dksX0_remove_0 1 rfl rfl)
theorem dX0_remove_2 : decode cX0_remove 2 = .ok (.invokevirtual 132, 3) := dk_182 0 132 (dk_at dksX0_remove_0 2 rfl rfl)
theorem dX0_remove_5 : decode cX0_remove 5 = .ok (.ifCond .ne 5, 3) := dk_154 0 5 (dk_at dksX0_remove_0 5 rfl rfl)
theorem dX0_remove_8 : decode cX0_remove 8 = .ok (.iconst (-1), 1) := dk_2 (dk_at dksX0_remove_0 8 rfl rfl)
theorem dX0_remove_9 : decode cX0_remove 9 = .ok (.ireturn, 1) := dk_172 (dk_at dksX0_remove_0 9 rfl rfl)
theorem dX0_remove_10 : decode cX0_remove 10 = .ok (.aload_n 0, 1) := dk_42 (dk_at dksX0_remove_0 10 rfl rfl)
theorem dX0_remove_11 : decode cX0_remove 11 = .ok (.getfield 91, 3) := dk_180 0 91 (dk_at dksX0_remove_0 11 rfl rfl)
theorem dX0_remove_14 : decode cX0_remove 14 = .ok (.getfield 109, 3) := dk_180 0 109 (dk_at dksX0_remove_0 14 rfl rfl)
theorem dX0_remove_17 : decode cX0_remove 17 = .ok (.iload_n 1, 1) := dk_27 (dk_at dksX0_remove_0 17 rfl rfl)
theorem dX0_remove_18 : decode cX0_remove 18 = .ok (.aaload, 1) := dk_50 (dk_at dksX0_remove_0 18 rfl rfl)
theorem dX0_remove_19 : decode cX0_remove 19 = .ok (.astore_n 2, 1) := dk_77 (dk_at dksX0_remove_0 19 rfl rfl)
theorem dX0_remove_20 : decode cX0_remove 20 = .ok (.aload_n 2, 1) := dk_44 (dk_at dksX0_remove_0 20 rfl rfl)
theorem dX0_remove_21 : decode cX0_remove 21 = .ok (.invokevirtual 144, 3) := dk_182 0 144 (dk_at dksX0_remove_0 21 rfl rfl)
theorem dX0_remove_24 : decode cX0_remove 24 = .ok (.ifCond .ne 6, 3) := dk_154 0 6 (dk_at dksX0_remove_1 0 rfl rfl)
theorem dX0_remove_27 : decode cX0_remove 27 = .ok (.bipush (-3), 2) := dk_16 253 (dk_at dksX0_remove_1 3 rfl rfl)
theorem dX0_remove_29 : decode cX0_remove 29 = .ok (.ireturn, 1) := dk_172 (dk_at dksX0_remove_1 5 rfl rfl)
theorem dX0_remove_30 : decode cX0_remove 30 = .ok (.aload_n 0, 1) := dk_42 (dk_at dksX0_remove_1 6 rfl rfl)
theorem dX0_remove_31 : decode cX0_remove 31 = .ok (.getfield 91, 3) := dk_180 0 91 (dk_at dksX0_remove_1 7 rfl rfl)
theorem dX0_remove_34 : decode cX0_remove 34 = .ok (.getfield 109, 3) := dk_180 0 109 (dk_at dksX0_remove_1 10 rfl rfl)
theorem dX0_remove_37 : decode cX0_remove 37 = .ok (.iload_n 1, 1) := dk_27 (dk_at dksX0_remove_1 13 rfl rfl)
theorem dX0_remove_38 : decode cX0_remove 38 = .ok (.aconst_null, 1) := dk_1 (dk_at dksX0_remove_1 14 rfl rfl)
theorem dX0_remove_39 : decode cX0_remove 39 = .ok (.aastore, 1) := dk_83 (dk_at dksX0_remove_1 15 rfl rfl)
theorem dX0_remove_40 : decode cX0_remove 40 = .ok (.aload_n 2, 1) := dk_44 (dk_at dksX0_remove_1 16 rfl rfl)
theorem dX0_remove_41 : decode cX0_remove 41 = .ok (.getfield 135, 3) := dk_180 0 135 (dk_at dksX0_remove_1 17 rfl rfl)
theorem dX0_remove_44 : decode cX0_remove 44 = .ok (.ireturn, 1) := dk_172 (dk_at dksX0_remove_1 20 rfl rfl)
theorem hd_X16_hasEnded : (yX16_hasEnded.cls ≠ "java/lang/invoke/MethodHandle" ∧ yX16_hasEnded.cls ≠ "java/lang/invoke/VarHandle" ∧ (parseMethodDescriptor yX16_hasEnded.desc).map (fun d => d.parameters.length) = some 0) := ⟨by decide +kernel, by decide +kernel, by decide +kernel⟩
def f_X0_remove (a0 : Nat) (p1 : Int32) (w0 : gw) : Option (Int32 × gw) := gB1 (gOb w0 a0 0) fun _ => gB2 (f_X0_isInstance a0 p1 w0) fun x2 w1 => if x2 = 0 then some ((-1), w1) else gB1 (gR w1 a0 0 5) fun r4 => gB1 r4 fun a5 => gB1 (gR w1 a5 1 2) fun r6 => gB1 r6 fun a7 => gB1 (gLdR w1 a7 4 p1) fun r8 => gB1 r8 fun a9 => gB1 (gOb w1 a9 16) fun _ => gB2 (f_X16_hasEnded a9  w1) fun x11 w10 => if x11 = 0 then some ((-3), w10) else gB1 (gR w10 a0 0 5) fun r13 => gB1 r13 fun a14 => gB1 (gR w10 a14 1 2) fun r15 => gB1 r15 fun a16 => gB1 (gStR w10 a16 4 p1 none) fun w17 => gB1 (gI w17 a9 16 9) fun x18 => some (x18, w17)
set_option maxHeartbeats 4000000 in
set_option maxRecDepth 100000 in
theorem k_X0_remove {D : va_G} {dA : Nat → ClassId} {A : Nat → Prop} {K : Nat → Nat} {l : Launch} {h : Nat} (hh : 2 ≤ h) {a0 : Nat} {p1 : Int32} {w0 ww : gw} {rr : Int32} (hf : f_X0_remove a0 p1 w0 = some (rr, ww)) : gMet D dA A K l yX0_remove (ws_ yX0_remove cX0_remove 3 (some .int)) h [(ga (some a0)), (gi p1)] (some (gi rr)) w0 ww := by
  refine j_start (own := RX0) (by decide +kernel) rfl (Nat.le_of_ble_eq_true rfl) ?_
  intro p e R s m args below meth c C hr hin hw
  unfold f_X0_remove at hf
  show gJ D dA A K p l e R s m args below meth c (gEnd D dA A K below args s w0 (some (gi rr)) ww) 3 0 [(0, (ga (some a0))), (1, (gi p1))] [] w0
  refine j_aload_n C dX0_remove_0 rfl ?_
  refine j_iload_n C dX0_remove_1 rfl ?_
  replace hf := gB1_e hf
  obtain ⟨_, eo, hf⟩ := hf
  replace hf := gB2_e hf
  obtain ⟨x2, w1, ew1, hf⟩ := hf
  refine j_callV (As := [(gi p1)]) (rest := []) (v := (some (gi x2))) C (by omega) (k_X0_isInstance (by omega) ew1) (gOb_e eo) rfl q1301 q1303 qs29 q91 q1304 ⟨rfl, hd_X0_isInstance⟩ (by decide) rfl (Nat.le_of_ble_eq_true rfl) dX0_remove_2 ?_
  refine j_if_ne (tgt := 10) C dX0_remove_5 (by decide) (fun c3 => ?_) (fun c3 => ?_)
  · replace hf := gIf_f hf c3
    refine j_aload_n C dX0_remove_10 rfl ?_
    replace hf := gB1_e hf
    obtain ⟨r4, er4, hf⟩ := hf
    refine j_get C fl_X0_91_0 dX0_remove_11 (gR_F er4) ?_
    replace hf := gB1_e hf
    obtain ⟨a5, ea5, hf⟩ := hf
    subst ea5
    replace hf := gB1_e hf
    obtain ⟨r6, er6, hf⟩ := hf
    refine j_get C fl_X0_109_1 dX0_remove_14 (gR_F er6) ?_
    refine j_iload_n C dX0_remove_17 rfl ?_
    replace hf := gB1_e hf
    obtain ⟨a7, ea7, hf⟩ := hf
    subst ea7
    replace hf := gB1_e hf
    obtain ⟨r8, er8, hf⟩ := hf
    refine j_aald C (t := 4) rfl er8 dX0_remove_18 ?_
    refine j_astore_n (lv' := [(2, (ga r8)), (0, (ga (some a0))), (1, (gi p1))]) C dX0_remove_19 (by decide) rfl ?_
    refine j_aload_n C dX0_remove_20 rfl ?_
    replace hf := gB1_e hf
    obtain ⟨a9, ea9, hf⟩ := hf
    subst ea9
    replace hf := gB1_e hf
    obtain ⟨_, eo, hf⟩ := hf
    replace hf := gB2_e hf
    obtain ⟨x11, w10, ew10, hf⟩ := hf
    refine j_callV (As := []) (rest := []) (v := (some (gi x11))) C (by omega) (k_X16_hasEnded (by omega) ew10) (gOb_e eo) rfl q1314 q1315 q1316 q118 q1317 ⟨rfl, hd_X16_hasEnded⟩ (by decide) rfl (Nat.le_of_ble_eq_true rfl) dX0_remove_21 ?_
    refine j_if_ne (tgt := 30) C dX0_remove_24 (by decide) (fun c12 => ?_) (fun c12 => ?_)
    · replace hf := gIf_f hf c12
      refine j_aload_n C dX0_remove_30 rfl ?_
      replace hf := gB1_e hf
      obtain ⟨r13, er13, hf⟩ := hf
      refine j_get C fl_X0_91_0 dX0_remove_31 (gR_F er13) ?_
      replace hf := gB1_e hf
      obtain ⟨a14, ea14, hf⟩ := hf
      subst ea14
      replace hf := gB1_e hf
      obtain ⟨r15, er15, hf⟩ := hf
      refine j_get C fl_X0_109_1 dX0_remove_34 (gR_F er15) ?_
      refine j_iload_n C dX0_remove_37 rfl ?_
      refine j_null C dX0_remove_38 ?_
      replace hf := gB1_e hf
      obtain ⟨a16, ea16, hf⟩ := hf
      subst ea16
      replace hf := gB1_e hf
      obtain ⟨w17, ew17, hf⟩ := hf
      refine j_aast C (t := 4) rfl gAsg_4 ew17 dX0_remove_39 ?_
      refine j_aload_n C dX0_remove_40 rfl ?_
      replace hf := gB1_e hf
      obtain ⟨x18, ex18, hf⟩ := hf
      refine j_get C fl_X0_135_16 dX0_remove_41 (gI_F ex18) ?_
      obtain ⟨rfl, rfl⟩ := gSome hf
      exact j_iret C hr hw dX0_remove_44
    · replace hf := gIf_t hf c12
      refine j_bipush (v := (-3)) C dX0_remove_27 (by decide) ?_
      obtain ⟨rfl, rfl⟩ := gSome hf
      exact j_iret C hr hw dX0_remove_29
  · replace hf := gIf_t hf c3
    refine j_iconst (v := (-1)) C dX0_remove_8 (by decide) ?_
    obtain ⟨rfl, rfl⟩ := gSome hf
    exact j_iret C hr hw dX0_remove_9
def dkwX0_replayed_1 : List UInt8 := [27, 50, 28, 182, 0, 216, 167, 0, 4, 2, 172]
abbrev dktX0_replayed_1 : List UInt8 := dkwX0_replayed_1 ++ []
def dkwX0_replayed_0 : List UInt8 := [42, 27, 182, 0, 132, 153, 0, 28, 28, 3, 8, 184, 0, 5, 153, 0, 19, 42, 180, 0, 91, 180, 0, 109]
abbrev dktX0_replayed_0 : List UInt8 := dkwX0_replayed_0 ++ dktX0_replayed_1
theorem dksX0_replayed_0 : cX0_replayed.data.toList.drop 0 = dktX0_replayed_0 := by decide +kernel
theorem dksX0_replayed_1 : cX0_replayed.data.toList.drop 24 = dktX0_replayed_1 := dk_seg dksX0_replayed_0 24 rfl rfl
theorem dX0_replayed_0 : decode cX0_replayed 0 = .ok (.aload_n 0, 1) := dk_42 (dk_at dksX0_replayed_0 0 rfl rfl)
theorem dX0_replayed_1 : decode cX0_replayed 1 = .ok (.iload_n 1, 1) := dk_27 (dk_at dksX0_replayed_0 1 rfl rfl)
theorem dX0_replayed_2 : decode cX0_replayed 2 = .ok (.invokevirtual 132, 3) := dk_182 0 132 (dk_at dksX0_replayed_0 2 rfl rfl)
theorem dX0_replayed_5 : decode cX0_replayed 5 = .ok (.ifCond .eq 28, 3) := dk_153 0 28 (dk_at dksX0_replayed_0 5 rfl rfl)
theorem dX0_replayed_8 : decode cX0_replayed 8 = .ok (.iload_n 2, 1) := dk_28 (dk_at dksX0_replayed_0 8 rfl rfl)
theorem dX0_replayed_9 : decode cX0_replayed 9 = .ok (.iconst 0, 1) := dk_3 (dk_at dksX0_replayed_0 9 rfl rfl)
theorem dX0_replayed_10 : decode cX0_replayed 10 = .ok (.iconst 5, 1) := dk_8 (dk_at dksX0_replayed_0 10 rfl rfl)
theorem dX0_replayed_11 : decode cX0_replayed 11 = .ok (.invokestatic 5, 3) := dk_184 0 5 (dk_at dksX0_replayed_0 11 rfl rfl)
theorem dX0_replayed_14 : decode cX0_replayed 14 = .ok (.ifCond .eq 19, 3) := dk_153 0 19 (dk_at dksX0_replayed_0 14 rfl rfl)
theorem dX0_replayed_17 : decode cX0_replayed 17 = .ok (.aload_n 0, 1) := dk_42 (dk_at dksX0_replayed_0 17 rfl rfl)
theorem dX0_replayed_18 : decode cX0_replayed 18 = .ok (.getfield 91, 3) := dk_180 0 91 (dk_at dksX0_replayed_0 18 rfl rfl)
theorem dX0_replayed_21 : decode cX0_replayed 21 = .ok (.getfield 109, 3) := dk_180 0 109 (dk_at dksX0_replayed_0 21 rfl rfl)
theorem dX0_replayed_24 : decode cX0_replayed 24 = .ok (.iload_n 1, 1) := dk_27 (dk_at dksX0_replayed_1 0 rfl rfl)
theorem dX0_replayed_25 : decode cX0_replayed 25 = .ok (.aaload, 1) := dk_50 (dk_at dksX0_replayed_1 1 rfl rfl)
theorem dX0_replayed_26 : decode cX0_replayed 26 = .ok (.iload_n 2, 1) := dk_28 (dk_at dksX0_replayed_1 2 rfl rfl)
theorem dX0_replayed_27 : decode cX0_replayed 27 = .ok (.invokevirtual 216, 3) := dk_182 0 216 (dk_at dksX0_replayed_1 3 rfl rfl)
theorem dX0_replayed_30 : decode cX0_replayed 30 = .ok (.goto 4, 3) := dk_167 0 4 (dk_at dksX0_replayed_1 6 rfl rfl)
theorem dX0_replayed_33 : decode cX0_replayed 33 = .ok (.iconst (-1), 1) := dk_2 (dk_at dksX0_replayed_1 9 rfl rfl)
theorem dX0_replayed_34 : decode cX0_replayed 34 = .ok (.ireturn, 1) := dk_172 (dk_at dksX0_replayed_1 10 rfl rfl)
theorem hd_X16_replayed : (yX16_replayed.cls ≠ "java/lang/invoke/MethodHandle" ∧ yX16_replayed.cls ≠ "java/lang/invoke/VarHandle" ∧ (parseMethodDescriptor yX16_replayed.desc).map (fun d => d.parameters.length) = some 1) := ⟨by decide +kernel, by decide +kernel, by decide +kernel⟩
def f_X0_replayed (a0 : Nat) (p1 : Int32) (p2 : Int32) (w0 : gw) : Option (Int32 × gw) := gB1 (gOb w0 a0 0) fun _ => gB2 (f_X0_isInstance a0 p1 w0) fun x2 w1 => gBd (fun (w4 : gw) => some ((-1), w4)) fun k3 => if x2 = 0 then k3 w1 else gB2 (f_X0_in p2 (nI 0) (nI 5) w1) fun x7 w6 => if x7 = 0 then k3 w6 else gB1 (gR w6 a0 0 5) fun r9 => gB1 r9 fun a10 => gB1 (gR w6 a10 1 2) fun r11 => gB1 r11 fun a12 => gB1 (gLdR w6 a12 4 p1) fun r13 => gB1 r13 fun a14 => gB1 (gOb w6 a14 16) fun _ => gB2 (f_X16_replayed a14 p2 w6) fun x16 w15 => some (x16, w15)
set_option maxHeartbeats 4000000 in
set_option maxRecDepth 100000 in
theorem k_X0_replayed {D : va_G} {dA : Nat → ClassId} {A : Nat → Prop} {K : Nat → Nat} {l : Launch} {h : Nat} (hh : 2 ≤ h) {a0 : Nat} {p1 : Int32} {p2 : Int32} {w0 ww : gw} {rr : Int32} (hf : f_X0_replayed a0 p1 p2 w0 = some (rr, ww)) : gMet D dA A K l yX0_replayed (ws_ yX0_replayed cX0_replayed 3 (some .int)) h [(ga (some a0)), (gi p1), (gi p2)] (some (gi rr)) w0 ww := by
  refine j_start (own := RX0) (by decide +kernel) rfl (Nat.le_of_ble_eq_true rfl) ?_
  intro p e R s m args below meth c C hr hin hw
  unfold f_X0_replayed at hf
  show gJ D dA A K p l e R s m args below meth c (gEnd D dA A K below args s w0 (some (gi rr)) ww) 3 0 [(0, (ga (some a0))), (1, (gi p1)), (2, (gi p2))] [] w0
  refine j_aload_n C dX0_replayed_0 rfl ?_
  refine j_iload_n C dX0_replayed_1 rfl ?_
  replace hf := gB1_e hf
  obtain ⟨_, eo, hf⟩ := hf
  replace hf := gB2_e hf
  obtain ⟨x2, w1, ew1, hf⟩ := hf
  refine j_callV (As := [(gi p1)]) (rest := []) (v := (some (gi x2))) C (by omega) (k_X0_isInstance (by omega) ew1) (gOb_e eo) rfl q1301 q1303 qs29 q91 q1304 ⟨rfl, hd_X0_isInstance⟩ (by decide) rfl (Nat.le_of_ble_eq_true rfl) dX0_replayed_2 ?_
  replace hf := gBd_x hf
  obtain ⟨k3, ek3, hf⟩ := hf
  have jk3 : ∀ (w4 : gw), k3 w4 = some (rr, ww) → gJ D dA A K p l e R s m args below meth c (gEnd D dA A K below args s w0 (some (gi rr)) ww) 3 33 [] [] w4 := by
    intro w4 hf
    rw [ek3] at hf
    dsimp only at hf
    refine j_iconst (v := (-1)) C dX0_replayed_33 (by decide) ?_
    obtain ⟨rfl, rfl⟩ := gSome hf
    exact j_iret C hr hw dX0_replayed_34
  clear ek3
  refine j_if_eq (tgt := 33) C dX0_replayed_5 (by decide) (fun c5 => ?_) (fun c5 => ?_)
  · replace hf := gIf_t hf c5
    refine j_sub (lv' := []) (gL_nil) ?_
    exact jk3 _ hf
  · replace hf := gIf_f hf c5
    refine j_iload_n C dX0_replayed_8 rfl ?_
    refine j_iconst (v := (nI 0)) C dX0_replayed_9 (by decide) ?_
    refine j_iconst (v := (nI 5)) C dX0_replayed_10 (by decide) ?_
    replace hf := gB2_e hf
    obtain ⟨x7, w6, ew6, hf⟩ := hf
    refine j_callS (As := [(gi p2), (gi (nI 0)), (gi (nI 5))]) (rest := []) (v := (some (gi x7))) C (by omega) (k_X0_in (by omega) ew6) q138 q139 q91 q140 hd_X0_in (by decide) rfl (Nat.le_of_ble_eq_true rfl) dX0_replayed_11 ?_
    refine j_if_eq (tgt := 33) C dX0_replayed_14 (by decide) (fun c8 => ?_) (fun c8 => ?_)
    · replace hf := gIf_t hf c8
      refine j_sub (lv' := []) (gL_nil) ?_
      exact jk3 _ hf
    · replace hf := gIf_f hf c8
      refine j_aload_n C dX0_replayed_17 rfl ?_
      replace hf := gB1_e hf
      obtain ⟨r9, er9, hf⟩ := hf
      refine j_get C fl_X0_91_0 dX0_replayed_18 (gR_F er9) ?_
      replace hf := gB1_e hf
      obtain ⟨a10, ea10, hf⟩ := hf
      subst ea10
      replace hf := gB1_e hf
      obtain ⟨r11, er11, hf⟩ := hf
      refine j_get C fl_X0_109_1 dX0_replayed_21 (gR_F er11) ?_
      refine j_iload_n C dX0_replayed_24 rfl ?_
      replace hf := gB1_e hf
      obtain ⟨a12, ea12, hf⟩ := hf
      subst ea12
      replace hf := gB1_e hf
      obtain ⟨r13, er13, hf⟩ := hf
      refine j_aald C (t := 4) rfl er13 dX0_replayed_25 ?_
      refine j_iload_n C dX0_replayed_26 rfl ?_
      replace hf := gB1_e hf
      obtain ⟨a14, ea14, hf⟩ := hf
      subst ea14
      replace hf := gB1_e hf
      obtain ⟨_, eo, hf⟩ := hf
      replace hf := gB2_e hf
      obtain ⟨x16, w15, ew15, hf⟩ := hf
      refine j_callV (As := [(gi p2)]) (rest := []) (v := (some (gi x16))) C (by omega) (k_X16_replayed (by omega) ew15) (gOb_e eo) rfl q1499 q1500 q1501 q118 q1502 ⟨rfl, hd_X16_replayed⟩ (by decide) rfl (Nat.le_of_ble_eq_true rfl) dX0_replayed_27 ?_
      refine j_goto (tgt := 34) C dX0_replayed_30 (by decide) ?_
      obtain ⟨rfl, rfl⟩ := gSome hf
      exact j_iret C hr hw dX0_replayed_34
def dkwX0_withStatus_2 : List UInt8 := [3, 184, 0, 224, 96, 62, 132, 4, 1, 167, 255, 204, 29, 172]
abbrev dktX0_withStatus_2 : List UInt8 := dkwX0_withStatus_2 ++ []
def dkwX0_withStatus_1 : List UInt8 := [155, 0, 20, 42, 180, 0, 91, 180, 0, 109, 21, 4, 50, 180, 0, 135, 28, 160, 0, 7, 4, 167, 0, 4]
abbrev dktX0_withStatus_1 : List UInt8 := dkwX0_withStatus_1 ++ dktX0_withStatus_2
def dkwX0_withStatus_0 : List UInt8 := [3, 62, 3, 54, 4, 21, 4, 16, 6, 162, 0, 51, 29, 42, 21, 4, 27, 182, 0, 220, 153, 0, 28, 28]
abbrev dktX0_withStatus_0 : List UInt8 := dkwX0_withStatus_0 ++ dktX0_withStatus_1
theorem dksX0_withStatus_0 : cX0_withStatus.data.toList.drop 0 = dktX0_withStatus_0 := by decide +kernel
theorem dksX0_withStatus_1 : cX0_withStatus.data.toList.drop 24 = dktX0_withStatus_1 := dk_seg dksX0_withStatus_0 24 rfl rfl
theorem dksX0_withStatus_2 : cX0_withStatus.data.toList.drop 48 = dktX0_withStatus_2 := dk_seg dksX0_withStatus_1 24 rfl rfl
theorem dX0_withStatus_0 : decode cX0_withStatus 0 = .ok (.iconst 0, 1) := dk_3 (dk_at dksX0_withStatus_0 0 rfl rfl)
theorem dX0_withStatus_1 : decode cX0_withStatus 1 = .ok (.istore_n 3, 1) := dk_62 (dk_at dksX0_withStatus_0 1 rfl rfl)
theorem dX0_withStatus_2 : decode cX0_withStatus 2 = .ok (.iconst 0, 1) := dk_3 (dk_at dksX0_withStatus_0 2 rfl rfl)
theorem dX0_withStatus_3 : decode cX0_withStatus 3 = .ok (.istore 4, 2) := dk_54 4 (dk_at dksX0_withStatus_0 3 rfl rfl)
theorem dX0_withStatus_5 : decode cX0_withStatus 5 = .ok (.iload 4, 2) := dk_21 4 (dk_at dksX0_withStatus_0 5 rfl rfl)
theorem dX0_withStatus_7 : decode cX0_withStatus 7 = .ok (.bipush 6, 2) := dk_16 6 (dk_at dksX0_withStatus_0 7 rfl rfl)
theorem dX0_withStatus_9 : decode cX0_withStatus 9 = .ok (.if_icmp .ge 51, 3) := dk_162 0 51 (dk_at dksX0_withStatus_0 9 rfl rfl)
theorem dX0_withStatus_12 : decode cX0_withStatus 12 = .ok (.iload_n 3, 1) := dk_29 (dk_at dksX0_withStatus_0 12 rfl rfl)
theorem dX0_withStatus_13 : decode cX0_withStatus 13 = .ok (.aload_n 0, 1) := dk_42 (dk_at dksX0_withStatus_0 13 rfl rfl)
theorem dX0_withStatus_14 : decode cX0_withStatus 14 = .ok (.iload 4, 2) := dk_21 4 (dk_at dksX0_withStatus_0 14 rfl rfl)
theorem dX0_withStatus_16 : decode cX0_withStatus 16 = .ok (.iload_n 1, 1) := dk_27 (dk_at dksX0_withStatus_0 16 rfl rfl)
theorem dX0_withStatus_17 : decode cX0_withStatus 17 = .ok (.invokevirtual 220, 3) := dk_182 0 220 (dk_at dksX0_withStatus_0 17 rfl rfl)
theorem dX0_withStatus_20 : decode cX0_withStatus 20 = .ok (.ifCond .eq 28, 3) := dk_153 0 28 (dk_at dksX0_withStatus_0 20 rfl rfl)
theorem dX0_withStatus_23 : decode cX0_withStatus 23 = .ok (.iload_n 2, 1) := dk_28 (dk_at dksX0_withStatus_0 23 rfl rfl)
theorem dX0_withStatus_24 : decode cX0_withStatus 24 = .ok (.ifCond .lt 20, 3) := dk_155 0 20 (dk_at dksX0_withStatus_1 0 rfl rfl)
theorem dX0_withStatus_27 : decode cX0_withStatus 27 = .ok (.aload_n 0, 1) := dk_42 (dk_at dksX0_withStatus_1 3 rfl rfl)
theorem dX0_withStatus_28 : decode cX0_withStatus 28 = .ok (.getfield 91, 3) := dk_180 0 91 (dk_at dksX0_withStatus_1 4 rfl rfl)
theorem dX0_withStatus_31 : decode cX0_withStatus 31 = .ok (.getfield 109, 3) := dk_180 0 109 (dk_at dksX0_withStatus_1 7 rfl rfl)
theorem dX0_withStatus_34 : decode cX0_withStatus 34 = .ok (.iload 4, 2) := dk_21 4 (dk_at dksX0_withStatus_1 10 rfl rfl)
theorem dX0_withStatus_36 : decode cX0_withStatus 36 = .ok (.aaload, 1) := dk_50 (dk_at dksX0_withStatus_1 12 rfl rfl)
theorem dX0_withStatus_37 : decode cX0_withStatus 37 = .ok (.getfield 135, 3) := dk_180 0 135 (dk_at dksX0_withStatus_1 13 rfl rfl)
theorem dX0_withStatus_40 : decode cX0_withStatus 40 = .ok (.iload_n 2, 1) := dk_28 (dk_at dksX0_withStatus_1 16 rfl rfl)
theorem dX0_withStatus_41 : decode cX0_withStatus 41 = .ok (.if_icmp .ne 7, 3) := dk_160 0 7 (dk_at dksX0_withStatus_1 17 rfl rfl)
theorem dX0_withStatus_44 : decode cX0_withStatus 44 = .ok (.iconst 1, 1) := dk_4 (dk_at dksX0_withStatus_1 20 rfl rfl)
theorem dX0_withStatus_45 : decode cX0_withStatus 45 = .ok (.goto 4, 3) := dk_167 0 4 (dk_at dksX0_withStatus_1 21 rfl rfl)
theorem dX0_withStatus_48 : decode cX0_withStatus 48 = .ok (.iconst 0, 1) := dk_3 (dk_at dksX0_withStatus_2 0 rfl rfl)
theorem dX0_withStatus_49 : decode cX0_withStatus 49 = .ok (.invokestatic 224, 3) := dk_184 0 224 (dk_at dksX0_withStatus_2 1 rfl rfl)
theorem dX0_withStatus_52 : decode cX0_withStatus 52 = .ok (.iadd, 1) := dk_96 (dk_at dksX0_withStatus_2 4 rfl rfl)
theorem dX0_withStatus_53 : decode cX0_withStatus 53 = .ok (.istore_n 3, 1) := dk_62 (dk_at dksX0_withStatus_2 5 rfl rfl)
theorem dX0_withStatus_54 : decode cX0_withStatus 54 = .ok (.iinc 4 1, 3) := dk_132 4 1 (dk_at dksX0_withStatus_2 6 rfl rfl)
theorem dX0_withStatus_57 : decode cX0_withStatus 57 = .ok (.goto (-52), 3) := dk_167 255 204 (dk_at dksX0_withStatus_2 9 rfl rfl)
theorem dX0_withStatus_60 : decode cX0_withStatus 60 = .ok (.iload_n 3, 1) := dk_29 (dk_at dksX0_withStatus_2 12 rfl rfl)
theorem dX0_withStatus_61 : decode cX0_withStatus 61 = .ok (.ireturn, 1) := dk_172 (dk_at dksX0_withStatus_2 13 rfl rfl)
theorem hd_X0_isOf : (yX0_isOf.cls ≠ "java/lang/invoke/MethodHandle" ∧ yX0_isOf.cls ≠ "java/lang/invoke/VarHandle" ∧ (parseMethodDescriptor yX0_isOf.desc).map (fun d => d.parameters.length) = some 2) := ⟨by decide +kernel, by decide +kernel, by decide +kernel⟩
def f_X0_withStatus (a0 : Nat) (p1 : Int32) (p2 : Int32) (w0 : gw) : Option (Int32 × gw) := gL4 (fun k6 (x2 : Int32) (x3 : Int32) (x4 : Int32) (x5 : Int32) (w1 : gw) => if (nI 6) ≤ x5 then some (x4, w1) else gB1 (gOb w1 a0 0) fun _ => gB2 (f_X0_isOf a0 x5 x2 w1) fun x9 w8 => gBd (fun (x12 : Int32) (x13 : Int32) (x14 : Int32) (x15 : Int32) (x16 : Int32) (w11 : gw) => gB2 (f_X0_bit x16 w11) fun x18 w17 => gBd (x15 + x18) fun x19 => gBd (x14 + (nI 1)) fun x20 => k6 x12 x13 x19 x20 w17) fun k10 => gBd (fun (x23 : Int32) (x24 : Int32) (x25 : Int32) (x26 : Int32) (w22 : gw) => k10 x23 x24 x25 x26 (nI 0) w22) fun k21 => if x9 = 0 then k21 x2 x3 x5 x4 w8 else gBd (fun (x30 : Int32) (x31 : Int32) (x32 : Int32) (x33 : Int32) (w29 : gw) => k10 x30 x31 x32 x33 (nI 1) w29) fun k28 => if x3 < 0 then k28 x2 x3 x5 x4 w8 else gB1 (gR w8 a0 0 5) fun r35 => gB1 r35 fun a36 => gB1 (gR w8 a36 1 2) fun r37 => gB1 r37 fun a38 => gB1 (gLdR w8 a38 4 x5) fun r39 => gB1 r39 fun a40 => gB1 (gI w8 a40 16 9) fun x41 => if x41 = x3 then k28 x2 x3 x5 x4 w8 else k21 x2 x3 x5 x4 w8) 20000 p1 p2 (nI 0) (nI 0) w0
set_option maxHeartbeats 4000000 in
set_option maxRecDepth 100000 in
theorem k_X0_withStatus {D : va_G} {dA : Nat → ClassId} {A : Nat → Prop} {K : Nat → Nat} {l : Launch} {h : Nat} (hh : 1 ≤ h) {a0 : Nat} {p1 : Int32} {p2 : Int32} {w0 ww : gw} {rr : Int32} (hf : f_X0_withStatus a0 p1 p2 w0 = some (rr, ww)) : gMet D dA A K l yX0_withStatus (ws_ yX0_withStatus cX0_withStatus 5 (some .int)) h [(ga (some a0)), (gi p1), (gi p2)] (some (gi rr)) w0 ww := by
  refine j_start (own := RX0) (by decide +kernel) rfl (Nat.le_of_ble_eq_true rfl) ?_
  intro p e R s m args below meth c C hr hin hw
  unfold f_X0_withStatus at hf
  show gJ D dA A K p l e R s m args below meth c (gEnd D dA A K below args s w0 (some (gi rr)) ww) 5 0 [(0, (ga (some a0))), (1, (gi p1)), (2, (gi p2))] [] w0
  refine j_iconst (v := (nI 0)) C dX0_withStatus_0 (by decide) ?_
  refine j_istore_n (lv' := [(3, (gi (nI 0))), (0, (ga (some a0))), (1, (gi p1)), (2, (gi p2))]) C dX0_withStatus_1 (by decide) rfl ?_
  refine j_iconst (v := (nI 0)) C dX0_withStatus_2 (by decide) ?_
  refine j_istore (lv' := [(4, (gi (nI 0))), (3, (gi (nI 0))), (0, (ga (some a0))), (1, (gi p1)), (2, (gi p2))]) C dX0_withStatus_3 (by decide) rfl ?_
  refine j_sub (lv' := [(0, (ga (some a0))), (1, (gi p1)), (2, (gi p2)), (3, (gi (nI 0))), (4, (gi (nI 0)))]) (gL_cons rfl (gL_cons rfl (gL_cons rfl (gL_cons rfl (gL_cons rfl (gL_nil)))))) ?_
  refine gL4_e (fun (x2 : Int32) (x3 : Int32) (x4 : Int32) (x5 : Int32) (w1 : gw) => gJ D dA A K p l e R s m args below meth c (gEnd D dA A K below args s w0 (some (gi rr)) ww) 5 5 [(0, (ga (some a0))), (1, (gi x2)), (2, (gi x3)), (3, (gi x4)), (4, (gi x5))] [] w1) ?_ _ _ _ _ _ _ hf
  intro k6 jk6 x2 x3 x4 x5 w1 hf
  refine j_iload C dX0_withStatus_5 rfl ?_
  refine j_bipush (v := (nI 6)) C dX0_withStatus_7 (by decide) ?_
  refine j_icmp_ge (tgt := 60) C dX0_withStatus_9 (by decide) (fun c7 => ?_) (fun c7 => ?_)
  · replace hf := gIf_t hf c7
    refine j_iload_n C dX0_withStatus_60 rfl ?_
    obtain ⟨rfl, rfl⟩ := gSome hf
    exact j_iret C hr hw dX0_withStatus_61
  · replace hf := gIf_f hf c7
    refine j_iload_n C dX0_withStatus_12 rfl ?_
    refine j_aload_n C dX0_withStatus_13 rfl ?_
    refine j_iload C dX0_withStatus_14 rfl ?_
    refine j_iload_n C dX0_withStatus_16 rfl ?_
    replace hf := gB1_e hf
    obtain ⟨_, eo, hf⟩ := hf
    replace hf := gB2_e hf
    obtain ⟨x9, w8, ew8, hf⟩ := hf
    refine j_callV (As := [(gi x5), (gi x2)]) (rest := [(gi x4)]) (v := (some (gi x9))) C (by omega) (k_X0_isOf (by omega) ew8) (gOb_e eo) rfl q1512 q1514 qs31 q91 q1515 ⟨rfl, hd_X0_isOf⟩ (by decide) rfl (Nat.le_of_ble_eq_true rfl) dX0_withStatus_17 ?_
    replace hf := gBd_x hf
    obtain ⟨k10, ek10, hf⟩ := hf
    have jk10 : ∀ (x12 : Int32) (x13 : Int32) (x14 : Int32) (x15 : Int32) (x16 : Int32) (w11 : gw), k10 x12 x13 x14 x15 x16 w11 = some (rr, ww) → gJ D dA A K p l e R s m args below meth c (gEnd D dA A K below args s w0 (some (gi rr)) ww) 5 49 [(0, (ga (some a0))), (1, (gi x12)), (2, (gi x13)), (4, (gi x14))] [(gi x16), (gi x15)] w11 := by
      intro x12 x13 x14 x15 x16 w11 hf
      rw [ek10] at hf
      dsimp only at hf
      replace hf := gB2_e hf
      obtain ⟨x18, w17, ew17, hf⟩ := hf
      refine j_callS (As := [(gi x16)]) (rest := [(gi x15)]) (v := (some (gi x18))) C (by omega) (k_X0_bit (by omega) ew17) q1516 q347 q91 q348 hd_X0_bit (by decide) rfl (Nat.le_of_ble_eq_true rfl) dX0_withStatus_49 ?_
      refine j_iadd C dX0_withStatus_52 ?_
      replace hf := gBd_x hf
      obtain ⟨x19, ex19, hf⟩ := hf
      refine j_nm ex19 ?_
      refine j_istore_n (lv' := [(3, (gi x19)), (0, (ga (some a0))), (1, (gi x12)), (2, (gi x13)), (4, (gi x14))]) C dX0_withStatus_53 (by decide) rfl ?_
      replace hf := gBd_x hf
      obtain ⟨x20, ex20, hf⟩ := hf
      refine j_iinc (v := x20) (lv' := [(4, (gi x20)), (3, (gi x19)), (0, (ga (some a0))), (1, (gi x12)), (2, (gi x13))]) C dX0_withStatus_54 rfl (by rw [ex20]; rfl) (by decide) rfl ?_
      refine j_goto (tgt := 5) C dX0_withStatus_57 (by decide) ?_
      refine j_sub (lv' := [(0, (ga (some a0))), (1, (gi x12)), (2, (gi x13)), (3, (gi x19)), (4, (gi x20))]) (gL_cons rfl (gL_cons rfl (gL_cons rfl (gL_cons rfl (gL_cons rfl (gL_nil)))))) ?_
      exact jk6 _ _ _ _ _ hf
    clear ek10
    replace hf := gBd_x hf
    obtain ⟨k21, ek21, hf⟩ := hf
    have jk21 : ∀ (x23 : Int32) (x24 : Int32) (x25 : Int32) (x26 : Int32) (w22 : gw), k21 x23 x24 x25 x26 w22 = some (rr, ww) → gJ D dA A K p l e R s m args below meth c (gEnd D dA A K below args s w0 (some (gi rr)) ww) 5 48 [(0, (ga (some a0))), (1, (gi x23)), (2, (gi x24)), (4, (gi x25))] [(gi x26)] w22 := by
      intro x23 x24 x25 x26 w22 hf
      rw [ek21] at hf
      dsimp only at hf
      refine j_iconst (v := (nI 0)) C dX0_withStatus_48 (by decide) ?_
      exact jk10 _ _ _ _ _ _ hf
    clear ek21
    refine j_if_eq (tgt := 48) C dX0_withStatus_20 (by decide) (fun c27 => ?_) (fun c27 => ?_)
    · replace hf := gIf_t hf c27
      refine j_sub (lv' := [(0, (ga (some a0))), (1, (gi x2)), (2, (gi x3)), (4, (gi x5))]) (gL_cons rfl (gL_cons rfl (gL_cons rfl (gL_cons rfl (gL_nil))))) ?_
      exact jk21 _ _ _ _ _ hf
    · replace hf := gIf_f hf c27
      refine j_iload_n C dX0_withStatus_23 rfl ?_
      replace hf := gBd_x hf
      obtain ⟨k28, ek28, hf⟩ := hf
      have jk28 : ∀ (x30 : Int32) (x31 : Int32) (x32 : Int32) (x33 : Int32) (w29 : gw), k28 x30 x31 x32 x33 w29 = some (rr, ww) → gJ D dA A K p l e R s m args below meth c (gEnd D dA A K below args s w0 (some (gi rr)) ww) 5 44 [(0, (ga (some a0))), (1, (gi x30)), (2, (gi x31)), (4, (gi x32))] [(gi x33)] w29 := by
        intro x30 x31 x32 x33 w29 hf
        rw [ek28] at hf
        dsimp only at hf
        refine j_iconst (v := (nI 1)) C dX0_withStatus_44 (by decide) ?_
        refine j_goto (tgt := 49) C dX0_withStatus_45 (by decide) ?_
        exact jk10 _ _ _ _ _ _ hf
      clear ek28
      refine j_if_lt (tgt := 44) C dX0_withStatus_24 (by decide) (fun c34 => ?_) (fun c34 => ?_)
      · replace hf := gIf_t hf c34
        refine j_sub (lv' := [(0, (ga (some a0))), (1, (gi x2)), (2, (gi x3)), (4, (gi x5))]) (gL_cons rfl (gL_cons rfl (gL_cons rfl (gL_cons rfl (gL_nil))))) ?_
        exact jk28 _ _ _ _ _ hf
      · replace hf := gIf_f hf c34
        refine j_aload_n C dX0_withStatus_27 rfl ?_
        replace hf := gB1_e hf
        obtain ⟨r35, er35, hf⟩ := hf
        refine j_get C fl_X0_91_0 dX0_withStatus_28 (gR_F er35) ?_
        replace hf := gB1_e hf
        obtain ⟨a36, ea36, hf⟩ := hf
        subst ea36
        replace hf := gB1_e hf
        obtain ⟨r37, er37, hf⟩ := hf
        refine j_get C fl_X0_109_1 dX0_withStatus_31 (gR_F er37) ?_
        refine j_iload C dX0_withStatus_34 rfl ?_
        replace hf := gB1_e hf
        obtain ⟨a38, ea38, hf⟩ := hf
        subst ea38
        replace hf := gB1_e hf
        obtain ⟨r39, er39, hf⟩ := hf
        refine j_aald C (t := 4) rfl er39 dX0_withStatus_36 ?_
        replace hf := gB1_e hf
        obtain ⟨a40, ea40, hf⟩ := hf
        subst ea40
        replace hf := gB1_e hf
        obtain ⟨x41, ex41, hf⟩ := hf
        refine j_get C fl_X0_135_16 dX0_withStatus_37 (gI_F ex41) ?_
        refine j_iload_n C dX0_withStatus_40 rfl ?_
        refine j_icmp_ne (tgt := 48) C dX0_withStatus_41 (by decide) (fun c42 => ?_) (fun c42 => ?_)
        · replace hf := gIf_f hf c42
          refine j_sub (lv' := [(0, (ga (some a0))), (1, (gi x2)), (2, (gi x3)), (4, (gi x5))]) (gL_cons rfl (gL_cons rfl (gL_cons rfl (gL_cons rfl (gL_nil))))) ?_
          exact jk21 _ _ _ _ _ hf
        · replace hf := gIf_t hf c42
          refine j_sub (lv' := [(0, (ga (some a0))), (1, (gi x2)), (2, (gi x3)), (4, (gi x5))]) (gL_cons rfl (gL_cons rfl (gL_cons rfl (gL_cons rfl (gL_nil))))) ?_
          exact jk28 _ _ _ _ _ hf
def dkwX0_ratio_4 : List UInt8 := [21, 4, 167, 0, 9, 42, 27, 4, 182, 0, 228, 54, 5, 21, 5, 134, 29, 134, 110, 184, 0, 231, 172]
abbrev dktX0_ratio_4 : List UInt8 := dkwX0_ratio_4 ++ []
def dkwX0_ratio_3 : List UInt8 := [180, 0, 161, 100, 96, 54, 4, 132, 5, 1, 167, 255, 185, 29, 154, 0, 6, 16, 251, 172, 28, 153, 0, 8]
abbrev dktX0_ratio_3 : List UInt8 := dkwX0_ratio_3 ++ dktX0_ratio_4
def dkwX0_ratio_2 : List UInt8 := [42, 180, 0, 91, 180, 0, 109, 21, 5, 50, 180, 0, 164, 42, 180, 0, 91, 180, 0, 109, 21, 5, 50]
abbrev dktX0_ratio_2 : List UInt8 := dkwX0_ratio_2 ++ dktX0_ratio_3
def dkwX0_ratio_1 : List UInt8 := [153, 0, 54, 42, 180, 0, 91, 180, 0, 109, 21, 5, 50, 182, 0, 144, 153, 0, 38, 132, 3, 1, 21, 4]
abbrev dktX0_ratio_1 : List UInt8 := dkwX0_ratio_1 ++ dktX0_ratio_2
def dkwX0_ratio_0 : List UInt8 := [3, 62, 3, 54, 4, 3, 54, 5, 21, 5, 16, 6, 162, 0, 70, 42, 21, 5, 27, 182, 0, 220]
abbrev dktX0_ratio_0 : List UInt8 := dkwX0_ratio_0 ++ dktX0_ratio_1
theorem dksX0_ratio_0 : cX0_ratio.data.toList.drop 0 = dktX0_ratio_0 := by decide +kernel
theorem dksX0_ratio_1 : cX0_ratio.data.toList.drop 22 = dktX0_ratio_1 := dk_seg dksX0_ratio_0 22 rfl rfl
theorem dksX0_ratio_2 : cX0_ratio.data.toList.drop 46 = dktX0_ratio_2 := dk_seg dksX0_ratio_1 24 rfl rfl
theorem dksX0_ratio_3 : cX0_ratio.data.toList.drop 69 = dktX0_ratio_3 := dk_seg dksX0_ratio_2 23 rfl rfl
theorem dksX0_ratio_4 : cX0_ratio.data.toList.drop 93 = dktX0_ratio_4 := dk_seg dksX0_ratio_3 24 rfl rfl
theorem dX0_ratio_0 : decode cX0_ratio 0 = .ok (.iconst 0, 1) := dk_3 (dk_at dksX0_ratio_0 0 rfl rfl)
theorem dX0_ratio_1 : decode cX0_ratio 1 = .ok (.istore_n 3, 1) := dk_62 (dk_at dksX0_ratio_0 1 rfl rfl)
theorem dX0_ratio_2 : decode cX0_ratio 2 = .ok (.iconst 0, 1) := dk_3 (dk_at dksX0_ratio_0 2 rfl rfl)
theorem dX0_ratio_3 : decode cX0_ratio 3 = .ok (.istore 4, 2) := dk_54 4 (dk_at dksX0_ratio_0 3 rfl rfl)
theorem dX0_ratio_5 : decode cX0_ratio 5 = .ok (.iconst 0, 1) := dk_3 (dk_at dksX0_ratio_0 5 rfl rfl)
theorem dX0_ratio_6 : decode cX0_ratio 6 = .ok (.istore 5, 2) := dk_54 5 (dk_at dksX0_ratio_0 6 rfl rfl)
theorem dX0_ratio_8 : decode cX0_ratio 8 = .ok (.iload 5, 2) := dk_21 5 (dk_at dksX0_ratio_0 8 rfl rfl)
theorem dX0_ratio_10 : decode cX0_ratio 10 = .ok (.bipush 6, 2) := dk_16 6 (dk_at dksX0_ratio_0 10 rfl rfl)
theorem dX0_ratio_12 : decode cX0_ratio 12 = .ok (.if_icmp .ge 70, 3) := dk_162 0 70 (dk_at dksX0_ratio_0 12 rfl rfl)
theorem dX0_ratio_15 : decode cX0_ratio 15 = .ok (.aload_n 0, 1) := dk_42 (dk_at dksX0_ratio_0 15 rfl rfl)
theorem dX0_ratio_16 : decode cX0_ratio 16 = .ok (.iload 5, 2) := dk_21 5 (dk_at dksX0_ratio_0 16 rfl rfl)
theorem dX0_ratio_18 : decode cX0_ratio 18 = .ok (.iload_n 1, 1) := dk_27 (dk_at dksX0_ratio_0 18 rfl rfl)
theorem dX0_ratio_19 : decode cX0_ratio 19 = .ok (.invokevirtual 220, 3) := dk_182 0 220 (dk_at dksX0_ratio_0 19 rfl rfl)
theorem dX0_ratio_22 : decode cX0_ratio 22 = .ok (.ifCond .eq 54, 3) := dk_153 0 54 (dk_at dksX0_ratio_1 0 rfl rfl)
theorem dX0_ratio_25 : decode cX0_ratio 25 = .ok (.aload_n 0, 1) := dk_42 (dk_at dksX0_ratio_1 3 rfl rfl)
theorem dX0_ratio_26 : decode cX0_ratio 26 = .ok (.getfield 91, 3) := dk_180 0 91 (dk_at dksX0_ratio_1 4 rfl rfl)
theorem dX0_ratio_29 : decode cX0_ratio 29 = .ok (.getfield 109, 3) := dk_180 0 109 (dk_at dksX0_ratio_1 7 rfl rfl)
theorem dX0_ratio_32 : decode cX0_ratio 32 = .ok (.iload 5, 2) := dk_21 5 (dk_at dksX0_ratio_1 10 rfl rfl)
theorem dX0_ratio_34 : decode cX0_ratio 34 = .ok (.aaload, 1) := dk_50 (dk_at dksX0_ratio_1 12 rfl rfl)
theorem dX0_ratio_35 : decode cX0_ratio 35 = .ok (.invokevirtual 144, 3) := dk_182 0 144 (dk_at dksX0_ratio_1 13 rfl rfl)
theorem dX0_ratio_38 : decode cX0_ratio 38 = .ok (.ifCond .eq 38, 3) := dk_153 0 38 (dk_at dksX0_ratio_1 16 rfl rfl)
theorem dX0_ratio_41 : decode cX0_ratio 41 = .ok (.iinc 3 1, 3) := dk_132 3 1 (dk_at dksX0_ratio_1 19 rfl rfl)
theorem dX0_ratio_44 : decode cX0_ratio 44 = .ok (.iload 4, 2) := dk_21 4 (dk_at dksX0_ratio_1 22 rfl rfl)
theorem dX0_ratio_46 : decode cX0_ratio 46 = .ok (.aload_n 0, 1) := dk_42 (dk_at dksX0_ratio_2 0 rfl rfl)
theorem dX0_ratio_47 : decode cX0_ratio 47 = .ok (.getfield 91, 3) := dk_180 0 91 (dk_at dksX0_ratio_2 1 rfl rfl)
theorem dX0_ratio_50 : decode cX0_ratio 50 = .ok (.getfield 109, 3) := dk_180 0 109 (dk_at dksX0_ratio_2 4 rfl rfl)
theorem dX0_ratio_53 : decode cX0_ratio 53 = .ok (.iload 5, 2) := dk_21 5 (dk_at dksX0_ratio_2 7 rfl rfl)
theorem dX0_ratio_55 : decode cX0_ratio 55 = .ok (.aaload, 1) := dk_50 (dk_at dksX0_ratio_2 9 rfl rfl)
theorem dX0_ratio_56 : decode cX0_ratio 56 = .ok (.getfield 164, 3) := dk_180 0 164 (dk_at dksX0_ratio_2 10 rfl rfl)
theorem dX0_ratio_59 : decode cX0_ratio 59 = .ok (.aload_n 0, 1) := dk_42 (dk_at dksX0_ratio_2 13 rfl rfl)
theorem dX0_ratio_60 : decode cX0_ratio 60 = .ok (.getfield 91, 3) := dk_180 0 91 (dk_at dksX0_ratio_2 14 rfl rfl)
theorem dX0_ratio_63 : decode cX0_ratio 63 = .ok (.getfield 109, 3) := dk_180 0 109 (dk_at dksX0_ratio_2 17 rfl rfl)
theorem dX0_ratio_66 : decode cX0_ratio 66 = .ok (.iload 5, 2) := dk_21 5 (dk_at dksX0_ratio_2 20 rfl rfl)
theorem dX0_ratio_68 : decode cX0_ratio 68 = .ok (.aaload, 1) := dk_50 (dk_at dksX0_ratio_2 22 rfl rfl)
theorem dX0_ratio_69 : decode cX0_ratio 69 = .ok (.getfield 161, 3) := dk_180 0 161 (dk_at dksX0_ratio_3 0 rfl rfl)
theorem dX0_ratio_72 : decode cX0_ratio 72 = .ok (.isub, 1) := dk_100 (dk_at dksX0_ratio_3 3 rfl rfl)
theorem dX0_ratio_73 : decode cX0_ratio 73 = .ok (.iadd, 1) := dk_96 (dk_at dksX0_ratio_3 4 rfl rfl)
theorem dX0_ratio_74 : decode cX0_ratio 74 = .ok (.istore 4, 2) := dk_54 4 (dk_at dksX0_ratio_3 5 rfl rfl)
theorem dX0_ratio_76 : decode cX0_ratio 76 = .ok (.iinc 5 1, 3) := dk_132 5 1 (dk_at dksX0_ratio_3 7 rfl rfl)
theorem dX0_ratio_79 : decode cX0_ratio 79 = .ok (.goto (-71), 3) := dk_167 255 185 (dk_at dksX0_ratio_3 10 rfl rfl)
theorem dX0_ratio_82 : decode cX0_ratio 82 = .ok (.iload_n 3, 1) := dk_29 (dk_at dksX0_ratio_3 13 rfl rfl)
theorem dX0_ratio_83 : decode cX0_ratio 83 = .ok (.ifCond .ne 6, 3) := dk_154 0 6 (dk_at dksX0_ratio_3 14 rfl rfl)
theorem dX0_ratio_86 : decode cX0_ratio 86 = .ok (.bipush (-5), 2) := dk_16 251 (dk_at dksX0_ratio_3 17 rfl rfl)
theorem dX0_ratio_88 : decode cX0_ratio 88 = .ok (.ireturn, 1) := dk_172 (dk_at dksX0_ratio_3 19 rfl rfl)
theorem dX0_ratio_89 : decode cX0_ratio 89 = .ok (.iload_n 2, 1) := dk_28 (dk_at dksX0_ratio_3 20 rfl rfl)
theorem dX0_ratio_90 : decode cX0_ratio 90 = .ok (.ifCond .eq 8, 3) := dk_153 0 8 (dk_at dksX0_ratio_3 21 rfl rfl)
theorem dX0_ratio_93 : decode cX0_ratio 93 = .ok (.iload 4, 2) := dk_21 4 (dk_at dksX0_ratio_4 0 rfl rfl)
theorem dX0_ratio_95 : decode cX0_ratio 95 = .ok (.goto 9, 3) := dk_167 0 9 (dk_at dksX0_ratio_4 2 rfl rfl)
theorem dX0_ratio_98 : decode cX0_ratio 98 = .ok (.aload_n 0, 1) := dk_42 (dk_at dksX0_ratio_4 5 rfl rfl)
theorem dX0_ratio_99 : decode cX0_ratio 99 = .ok (.iload_n 1, 1) := dk_27 (dk_at dksX0_ratio_4 6 rfl rfl)
theorem dX0_ratio_100 : decode cX0_ratio 100 = .ok (.iconst 1, 1) := dk_4 (dk_at dksX0_ratio_4 7 rfl rfl)
theorem dX0_ratio_101 : decode cX0_ratio 101 = .ok (.invokevirtual 228, 3) := dk_182 0 228 (dk_at dksX0_ratio_4 8 rfl rfl)
theorem dX0_ratio_104 : decode cX0_ratio 104 = .ok (.istore 5, 2) := dk_54 5 (dk_at dksX0_ratio_4 11 rfl rfl)
theorem dX0_ratio_106 : decode cX0_ratio 106 = .ok (.iload 5, 2) := dk_21 5 (dk_at dksX0_ratio_4 13 rfl rfl)
theorem dX0_ratio_108 : decode cX0_ratio 108 = .ok (.i2f, 1) := dk_134 (dk_at dksX0_ratio_4 15 rfl rfl)
theorem dX0_ratio_109 : decode cX0_ratio 109 = .ok (.iload_n 3, 1) := dk_29 (dk_at dksX0_ratio_4 16 rfl rfl)
theorem dX0_ratio_110 : decode cX0_ratio 110 = .ok (.i2f, 1) := dk_134 (dk_at dksX0_ratio_4 17 rfl rfl)
theorem dX0_ratio_111 : decode cX0_ratio 111 = .ok (.fdiv, 1) := dk_110 (dk_at dksX0_ratio_4 18 rfl rfl)
theorem dX0_ratio_112 : decode cX0_ratio 112 = .ok (.invokestatic 231, 3) := dk_184 0 231 (dk_at dksX0_ratio_4 19 rfl rfl)
theorem dX0_ratio_115 : decode cX0_ratio 115 = .ok (.ireturn, 1) := dk_172 (dk_at dksX0_ratio_4 22 rfl rfl)
theorem hd_J10_floatToIntBits : (yJ10_floatToIntBits.cls ≠ "java/lang/invoke/MethodHandle" ∧ yJ10_floatToIntBits.cls ≠ "java/lang/invoke/VarHandle" ∧ (parseMethodDescriptor yJ10_floatToIntBits.desc).map (fun d => d.parameters.length) = some 1) := ⟨by decide +kernel, by decide +kernel, by decide +kernel⟩
theorem hd_X0_withStatus : (yX0_withStatus.cls ≠ "java/lang/invoke/MethodHandle" ∧ yX0_withStatus.cls ≠ "java/lang/invoke/VarHandle" ∧ (parseMethodDescriptor yX0_withStatus.desc).map (fun d => d.parameters.length) = some 2) := ⟨by decide +kernel, by decide +kernel, by decide +kernel⟩
def f_X0_ratio (a0 : Nat) (p1 : Int32) (p2 : Int32) (w0 : gw) : Option (Int32 × gw) := gL5 (fun k7 (x2 : Int32) (x3 : Int32) (x4 : Int32) (x5 : Int32) (x6 : Int32) (w1 : gw) => if (nI 6) ≤ x6 then if x4 = 0 then some ((-5), w1) else gBd (fun (x12 : Int32) (x13 : Int32) (w11 : gw) => gB1 (gNn (FP.fdiv (FP.i2f x13) (FP.i2f x12))) fun _ => gB2 (f_J10_floatToIntBits (FP.fdiv (FP.i2f x13) (FP.i2f x12)) w11) fun x15 w14 => some (x15, w14)) fun k10 => if x3 = 0 then gB1 (gOb w1 a0 0) fun _ => gB2 (f_X0_withStatus a0 x2 (nI 1) w1) fun x18 w17 => k10 x4 x18 w17 else k10 x4 x5 w1 else gB1 (gOb w1 a0 0) fun _ => gB2 (f_X0_isOf a0 x6 x2 w1) fun x20 w19 => gBd (fun (x23 : Int32) (x24 : Int32) (x25 : Int32) (x26 : Int32) (x27 : Int32) (w22 : gw) => gBd (x27 + (nI 1)) fun x28 => k7 x23 x24 x25 x26 x28 w22) fun k21 => if x20 = 0 then k21 x2 x3 x4 x5 x6 w19 else gB1 (gR w19 a0 0 5) fun r30 => gB1 r30 fun a31 => gB1 (gR w19 a31 1 2) fun r32 => gB1 r32 fun a33 => gB1 (gLdR w19 a33 4 x6) fun r34 => gB1 r34 fun a35 => gB1 (gOb w19 a35 16) fun _ => gB2 (f_X16_hasEnded a35  w19) fun x37 w36 => if x37 = 0 then k21 x2 x3 x4 x5 x6 w36 else gBd (x4 + (nI 1)) fun x39 => gB1 (gR w36 a0 0 5) fun r40 => gB1 r40 fun a41 => gB1 (gR w36 a41 1 2) fun r42 => gB1 r42 fun a43 => gB1 (gLdR w36 a43 4 x6) fun r44 => gB1 r44 fun a45 => gB1 (gI w36 a45 16 10) fun x46 => gB1 (gR w36 a0 0 5) fun r47 => gB1 r47 fun a48 => gB1 (gR w36 a48 1 2) fun r49 => gB1 r49 fun a50 => gB1 (gLdR w36 a50 4 x6) fun r51 => gB1 r51 fun a52 => gB1 (gI w36 a52 16 3) fun x53 => gBd (x5 + (x46 - x53)) fun x54 => k21 x2 x3 x39 x54 x6 w36) 20000 p1 p2 (nI 0) (nI 0) (nI 0) w0
set_option maxHeartbeats 4000000 in
set_option maxRecDepth 100000 in
theorem k_X0_ratio {D : va_G} {dA : Nat → ClassId} {A : Nat → Prop} {K : Nat → Nat} {l : Launch} {h : Nat} (hh : 2 ≤ h) {a0 : Nat} {p1 : Int32} {p2 : Int32} {w0 ww : gw} {rr : Int32} (hf : f_X0_ratio a0 p1 p2 w0 = some (rr, ww)) : gMet D dA A K l yX0_ratio (ws_ yX0_ratio cX0_ratio 6 (some .int)) h [(ga (some a0)), (gi p1), (gi p2)] (some (gi rr)) w0 ww := by
  refine j_start (own := RX0) (by decide +kernel) rfl (Nat.le_of_ble_eq_true rfl) ?_
  intro p e R s m args below meth c C hr hin hw
  unfold f_X0_ratio at hf
  show gJ D dA A K p l e R s m args below meth c (gEnd D dA A K below args s w0 (some (gi rr)) ww) 6 0 [(0, (ga (some a0))), (1, (gi p1)), (2, (gi p2))] [] w0
  refine j_iconst (v := (nI 0)) C dX0_ratio_0 (by decide) ?_
  refine j_istore_n (lv' := [(3, (gi (nI 0))), (0, (ga (some a0))), (1, (gi p1)), (2, (gi p2))]) C dX0_ratio_1 (by decide) rfl ?_
  refine j_iconst (v := (nI 0)) C dX0_ratio_2 (by decide) ?_
  refine j_istore (lv' := [(4, (gi (nI 0))), (3, (gi (nI 0))), (0, (ga (some a0))), (1, (gi p1)), (2, (gi p2))]) C dX0_ratio_3 (by decide) rfl ?_
  refine j_iconst (v := (nI 0)) C dX0_ratio_5 (by decide) ?_
  refine j_istore (lv' := [(5, (gi (nI 0))), (4, (gi (nI 0))), (3, (gi (nI 0))), (0, (ga (some a0))), (1, (gi p1)), (2, (gi p2))]) C dX0_ratio_6 (by decide) rfl ?_
  refine j_sub (lv' := [(0, (ga (some a0))), (1, (gi p1)), (2, (gi p2)), (3, (gi (nI 0))), (4, (gi (nI 0))), (5, (gi (nI 0)))]) (gL_cons rfl (gL_cons rfl (gL_cons rfl (gL_cons rfl (gL_cons rfl (gL_cons rfl (gL_nil))))))) ?_
  refine gL5_e (fun (x2 : Int32) (x3 : Int32) (x4 : Int32) (x5 : Int32) (x6 : Int32) (w1 : gw) => gJ D dA A K p l e R s m args below meth c (gEnd D dA A K below args s w0 (some (gi rr)) ww) 6 8 [(0, (ga (some a0))), (1, (gi x2)), (2, (gi x3)), (3, (gi x4)), (4, (gi x5)), (5, (gi x6))] [] w1) ?_ _ _ _ _ _ _ _ hf
  intro k7 jk7 x2 x3 x4 x5 x6 w1 hf
  refine j_iload C dX0_ratio_8 rfl ?_
  refine j_bipush (v := (nI 6)) C dX0_ratio_10 (by decide) ?_
  refine j_icmp_ge (tgt := 82) C dX0_ratio_12 (by decide) (fun c8 => ?_) (fun c8 => ?_)
  · replace hf := gIf_t hf c8
    refine j_iload_n C dX0_ratio_82 rfl ?_
    refine j_if_ne (tgt := 89) C dX0_ratio_83 (by decide) (fun c9 => ?_) (fun c9 => ?_)
    · replace hf := gIf_f hf c9
      refine j_iload_n C dX0_ratio_89 rfl ?_
      replace hf := gBd_x hf
      obtain ⟨k10, ek10, hf⟩ := hf
      have jk10 : ∀ (x12 : Int32) (x13 : Int32) (w11 : gw), k10 x12 x13 w11 = some (rr, ww) → gJ D dA A K p l e R s m args below meth c (gEnd D dA A K below args s w0 (some (gi rr)) ww) 6 104 [(3, (gi x12))] [(gi x13)] w11 := by
        intro x12 x13 w11 hf
        rw [ek10] at hf
        dsimp only at hf
        refine j_istore (lv' := [(5, (gi x13)), (3, (gi x12))]) C dX0_ratio_104 (by decide) rfl ?_
        refine j_iload C dX0_ratio_106 rfl ?_
        refine j_i2f C dX0_ratio_108 ?_
        refine j_iload_n C dX0_ratio_109 rfl ?_
        refine j_i2f C dX0_ratio_110 ?_
        replace hf := gB1_e hf
        obtain ⟨_, en, hf⟩ := hf
        refine j_fdiv C dX0_ratio_111 (gNn_e en) ?_
        replace hf := gB2_e hf
        obtain ⟨x15, w14, ew14, hf⟩ := hf
        refine j_callS (As := [(gfl (FP.fdiv (FP.i2f x13) (FP.i2f x12)))]) (rest := []) (v := (some (gi x15))) C (by omega) (k_J10_floatToIntBits (by omega) ew14) q1521 q1522 q132 q1523 hd_J10_floatToIntBits (by decide) rfl (Nat.le_of_ble_eq_true rfl) dX0_ratio_112 ?_
        obtain ⟨rfl, rfl⟩ := gSome hf
        exact j_iret C hr hw dX0_ratio_115
      clear ek10
      refine j_if_eq (tgt := 98) C dX0_ratio_90 (by decide) (fun c16 => ?_) (fun c16 => ?_)
      · replace hf := gIf_t hf c16
        refine j_aload_n C dX0_ratio_98 rfl ?_
        refine j_iload_n C dX0_ratio_99 rfl ?_
        refine j_iconst (v := (nI 1)) C dX0_ratio_100 (by decide) ?_
        replace hf := gB1_e hf
        obtain ⟨_, eo, hf⟩ := hf
        replace hf := gB2_e hf
        obtain ⟨x18, w17, ew17, hf⟩ := hf
        refine j_callV (As := [(gi x2), (gi (nI 1))]) (rest := []) (v := (some (gi x18))) C (by omega) (k_X0_withStatus (by omega) ew17) (gOb_e eo) rfl q1508 q1510 qs30 q91 q1511 ⟨rfl, hd_X0_withStatus⟩ (by decide) rfl (Nat.le_of_ble_eq_true rfl) dX0_ratio_101 ?_
        refine j_sub (lv' := [(3, (gi x4))]) (gL_cons rfl (gL_nil)) ?_
        exact jk10 _ _ _ hf
      · replace hf := gIf_f hf c16
        refine j_iload C dX0_ratio_93 rfl ?_
        refine j_goto (tgt := 104) C dX0_ratio_95 (by decide) ?_
        refine j_sub (lv' := [(3, (gi x4))]) (gL_cons rfl (gL_nil)) ?_
        exact jk10 _ _ _ hf
    · replace hf := gIf_t hf c9
      refine j_bipush (v := (-5)) C dX0_ratio_86 (by decide) ?_
      obtain ⟨rfl, rfl⟩ := gSome hf
      exact j_iret C hr hw dX0_ratio_88
  · replace hf := gIf_f hf c8
    refine j_aload_n C dX0_ratio_15 rfl ?_
    refine j_iload C dX0_ratio_16 rfl ?_
    refine j_iload_n C dX0_ratio_18 rfl ?_
    replace hf := gB1_e hf
    obtain ⟨_, eo, hf⟩ := hf
    replace hf := gB2_e hf
    obtain ⟨x20, w19, ew19, hf⟩ := hf
    refine j_callV (As := [(gi x6), (gi x2)]) (rest := []) (v := (some (gi x20))) C (by omega) (k_X0_isOf (by omega) ew19) (gOb_e eo) rfl q1512 q1514 qs31 q91 q1515 ⟨rfl, hd_X0_isOf⟩ (by decide) rfl (Nat.le_of_ble_eq_true rfl) dX0_ratio_19 ?_
    replace hf := gBd_x hf
    obtain ⟨k21, ek21, hf⟩ := hf
    have jk21 : ∀ (x23 : Int32) (x24 : Int32) (x25 : Int32) (x26 : Int32) (x27 : Int32) (w22 : gw), k21 x23 x24 x25 x26 x27 w22 = some (rr, ww) → gJ D dA A K p l e R s m args below meth c (gEnd D dA A K below args s w0 (some (gi rr)) ww) 6 76 [(0, (ga (some a0))), (1, (gi x23)), (2, (gi x24)), (3, (gi x25)), (4, (gi x26)), (5, (gi x27))] [] w22 := by
      intro x23 x24 x25 x26 x27 w22 hf
      rw [ek21] at hf
      dsimp only at hf
      replace hf := gBd_x hf
      obtain ⟨x28, ex28, hf⟩ := hf
      refine j_iinc (v := x28) (lv' := [(5, (gi x28)), (0, (ga (some a0))), (1, (gi x23)), (2, (gi x24)), (3, (gi x25)), (4, (gi x26))]) C dX0_ratio_76 rfl (by rw [ex28]; rfl) (by decide) rfl ?_
      refine j_goto (tgt := 8) C dX0_ratio_79 (by decide) ?_
      refine j_sub (lv' := [(0, (ga (some a0))), (1, (gi x23)), (2, (gi x24)), (3, (gi x25)), (4, (gi x26)), (5, (gi x28))]) (gL_cons rfl (gL_cons rfl (gL_cons rfl (gL_cons rfl (gL_cons rfl (gL_cons rfl (gL_nil))))))) ?_
      exact jk7 _ _ _ _ _ _ hf
    clear ek21
    refine j_if_eq (tgt := 76) C dX0_ratio_22 (by decide) (fun c29 => ?_) (fun c29 => ?_)
    · replace hf := gIf_t hf c29
      exact jk21 _ _ _ _ _ _ hf
    · replace hf := gIf_f hf c29
      refine j_aload_n C dX0_ratio_25 rfl ?_
      replace hf := gB1_e hf
      obtain ⟨r30, er30, hf⟩ := hf
      refine j_get C fl_X0_91_0 dX0_ratio_26 (gR_F er30) ?_
      replace hf := gB1_e hf
      obtain ⟨a31, ea31, hf⟩ := hf
      subst ea31
      replace hf := gB1_e hf
      obtain ⟨r32, er32, hf⟩ := hf
      refine j_get C fl_X0_109_1 dX0_ratio_29 (gR_F er32) ?_
      refine j_iload C dX0_ratio_32 rfl ?_
      replace hf := gB1_e hf
      obtain ⟨a33, ea33, hf⟩ := hf
      subst ea33
      replace hf := gB1_e hf
      obtain ⟨r34, er34, hf⟩ := hf
      refine j_aald C (t := 4) rfl er34 dX0_ratio_34 ?_
      replace hf := gB1_e hf
      obtain ⟨a35, ea35, hf⟩ := hf
      subst ea35
      replace hf := gB1_e hf
      obtain ⟨_, eo, hf⟩ := hf
      replace hf := gB2_e hf
      obtain ⟨x37, w36, ew36, hf⟩ := hf
      refine j_callV (As := []) (rest := []) (v := (some (gi x37))) C (by omega) (k_X16_hasEnded (by omega) ew36) (gOb_e eo) rfl q1314 q1315 q1316 q118 q1317 ⟨rfl, hd_X16_hasEnded⟩ (by decide) rfl (Nat.le_of_ble_eq_true rfl) dX0_ratio_35 ?_
      refine j_if_eq (tgt := 76) C dX0_ratio_38 (by decide) (fun c38 => ?_) (fun c38 => ?_)
      · replace hf := gIf_t hf c38
        exact jk21 _ _ _ _ _ _ hf
      · replace hf := gIf_f hf c38
        replace hf := gBd_x hf
        obtain ⟨x39, ex39, hf⟩ := hf
        refine j_iinc (v := x39) (lv' := [(3, (gi x39)), (0, (ga (some a0))), (1, (gi x2)), (2, (gi x3)), (4, (gi x5)), (5, (gi x6))]) C dX0_ratio_41 rfl (by rw [ex39]; rfl) (by decide) rfl ?_
        refine j_iload C dX0_ratio_44 rfl ?_
        refine j_aload_n C dX0_ratio_46 rfl ?_
        replace hf := gB1_e hf
        obtain ⟨r40, er40, hf⟩ := hf
        refine j_get C fl_X0_91_0 dX0_ratio_47 (gR_F er40) ?_
        replace hf := gB1_e hf
        obtain ⟨a41, ea41, hf⟩ := hf
        subst ea41
        replace hf := gB1_e hf
        obtain ⟨r42, er42, hf⟩ := hf
        refine j_get C fl_X0_109_1 dX0_ratio_50 (gR_F er42) ?_
        refine j_iload C dX0_ratio_53 rfl ?_
        replace hf := gB1_e hf
        obtain ⟨a43, ea43, hf⟩ := hf
        subst ea43
        replace hf := gB1_e hf
        obtain ⟨r44, er44, hf⟩ := hf
        refine j_aald C (t := 4) rfl er44 dX0_ratio_55 ?_
        replace hf := gB1_e hf
        obtain ⟨a45, ea45, hf⟩ := hf
        subst ea45
        replace hf := gB1_e hf
        obtain ⟨x46, ex46, hf⟩ := hf
        refine j_get C fl_X0_164_16 dX0_ratio_56 (gI_F ex46) ?_
        refine j_aload_n C dX0_ratio_59 rfl ?_
        replace hf := gB1_e hf
        obtain ⟨r47, er47, hf⟩ := hf
        refine j_get C fl_X0_91_0 dX0_ratio_60 (gR_F er47) ?_
        replace hf := gB1_e hf
        obtain ⟨a48, ea48, hf⟩ := hf
        subst ea48
        replace hf := gB1_e hf
        obtain ⟨r49, er49, hf⟩ := hf
        refine j_get C fl_X0_109_1 dX0_ratio_63 (gR_F er49) ?_
        refine j_iload C dX0_ratio_66 rfl ?_
        replace hf := gB1_e hf
        obtain ⟨a50, ea50, hf⟩ := hf
        subst ea50
        replace hf := gB1_e hf
        obtain ⟨r51, er51, hf⟩ := hf
        refine j_aald C (t := 4) rfl er51 dX0_ratio_68 ?_
        replace hf := gB1_e hf
        obtain ⟨a52, ea52, hf⟩ := hf
        subst ea52
        replace hf := gB1_e hf
        obtain ⟨x53, ex53, hf⟩ := hf
        refine j_get C fl_X0_161_16 dX0_ratio_69 (gI_F ex53) ?_
        refine j_isub C dX0_ratio_72 ?_
        refine j_iadd C dX0_ratio_73 ?_
        replace hf := gBd_x hf
        obtain ⟨x54, ex54, hf⟩ := hf
        refine j_nm ex54 ?_
        refine j_istore (lv' := [(4, (gi x54)), (3, (gi x39)), (0, (ga (some a0))), (1, (gi x2)), (2, (gi x3)), (5, (gi x6))]) C dX0_ratio_74 (by decide) rfl ?_
        refine j_sub (lv' := [(0, (ga (some a0))), (1, (gi x2)), (2, (gi x3)), (3, (gi x39)), (4, (gi x54)), (5, (gi x6))]) (gL_cons rfl (gL_cons rfl (gL_cons rfl (gL_cons rfl (gL_cons rfl (gL_cons rfl (gL_nil))))))) ?_
        exact jk21 _ _ _ _ _ _ hf
def dkwX0_count_6 : List UInt8 := [180, 0, 9, 167, 0, 11, 42, 182, 0, 253, 167, 0, 4, 2, 172]
abbrev dktX0_count_6 : List UInt8 := dkwX0_count_6 ++ []
def dkwX0_count_5 : List UInt8 := [180, 0, 91, 3, 182, 0, 248, 167, 0, 29, 42, 180, 0, 91, 5, 182, 0, 248, 167, 0, 18, 42]
abbrev dktX0_count_5 : List UInt8 := dkwX0_count_5 ++ dktX0_count_6
def dkwX0_count_4 : List UInt8 := [42, 180, 0, 91, 180, 0, 115, 167, 0, 51, 42, 180, 0, 91, 2, 182, 0, 248, 167, 0, 40, 42]
abbrev dktX0_count_4 : List UInt8 := dkwX0_count_4 ++ dktX0_count_5
def dkwX0_count_3 : List UInt8 := [170, 0, 0, 0, 0, 0, 96, 0, 0, 0, 0, 0, 0, 0, 5, 0, 0, 0, 39, 0, 0, 0, 49, 0, 0, 0, 60, 0, 0, 0, 71, 0, 0, 0, 82, 0, 0, 0, 89]
abbrev dktX0_count_3 : List UInt8 := dkwX0_count_3 ++ dktX0_count_4
def dkwX0_count_2 : List UInt8 := [27]
abbrev dktX0_count_2 : List UInt8 := dkwX0_count_2 ++ dktX0_count_3
def dkwX0_count_1 : List UInt8 := [27, 16, 20, 16, 27, 184, 0, 5, 153, 0, 16, 42, 180, 0, 91, 180, 0, 100, 27, 16, 20, 100, 46, 172]
abbrev dktX0_count_1 : List UInt8 := dkwX0_count_1 ++ dktX0_count_2
def dkwX0_count_0 : List UInt8 := [27, 16, 10, 16, 17, 184, 0, 5, 153, 0, 16, 42, 180, 0, 91, 180, 0, 95, 27, 16, 10, 100, 46, 172]
abbrev dktX0_count_0 : List UInt8 := dkwX0_count_0 ++ dktX0_count_1
theorem dksX0_count_0 : cX0_count.data.toList.drop 0 = dktX0_count_0 := by decide +kernel
theorem dksX0_count_1 : cX0_count.data.toList.drop 24 = dktX0_count_1 := dk_seg dksX0_count_0 24 rfl rfl
theorem dksX0_count_2 : cX0_count.data.toList.drop 48 = dktX0_count_2 := dk_seg dksX0_count_1 24 rfl rfl
theorem dksX0_count_3 : cX0_count.data.toList.drop 49 = dktX0_count_3 := dk_seg dksX0_count_2 1 rfl rfl
theorem dksX0_count_4 : cX0_count.data.toList.drop 88 = dktX0_count_4 := dk_seg dksX0_count_3 39 rfl rfl
theorem dksX0_count_5 : cX0_count.data.toList.drop 110 = dktX0_count_5 := dk_seg dksX0_count_4 22 rfl rfl
theorem dksX0_count_6 : cX0_count.data.toList.drop 132 = dktX0_count_6 := dk_seg dksX0_count_5 22 rfl rfl
theorem dX0_count_0 : decode cX0_count 0 = .ok (.iload_n 1, 1) := dk_27 (dk_at dksX0_count_0 0 rfl rfl)
theorem dX0_count_1 : decode cX0_count 1 = .ok (.bipush 10, 2) := dk_16 10 (dk_at dksX0_count_0 1 rfl rfl)
theorem dX0_count_3 : decode cX0_count 3 = .ok (.bipush 17, 2) := dk_16 17 (dk_at dksX0_count_0 3 rfl rfl)
theorem dX0_count_5 : decode cX0_count 5 = .ok (.invokestatic 5, 3) := dk_184 0 5 (dk_at dksX0_count_0 5 rfl rfl)
theorem dX0_count_8 : decode cX0_count 8 = .ok (.ifCond .eq 16, 3) := dk_153 0 16 (dk_at dksX0_count_0 8 rfl rfl)
theorem dX0_count_11 : decode cX0_count 11 = .ok (.aload_n 0, 1) := dk_42 (dk_at dksX0_count_0 11 rfl rfl)
theorem dX0_count_12 : decode cX0_count 12 = .ok (.getfield 91, 3) := dk_180 0 91 (dk_at dksX0_count_0 12 rfl rfl)
theorem dX0_count_15 : decode cX0_count 15 = .ok (.getfield 95, 3) := dk_180 0 95 (dk_at dksX0_count_0 15 rfl rfl)
theorem dX0_count_18 : decode cX0_count 18 = .ok (.iload_n 1, 1) := dk_27 (dk_at dksX0_count_0 18 rfl rfl)
theorem dX0_count_19 : decode cX0_count 19 = .ok (.bipush 10, 2) := dk_16 10 (dk_at dksX0_count_0 19 rfl rfl)
theorem dX0_count_21 : decode cX0_count 21 = .ok (.isub, 1) := dk_100 (dk_at dksX0_count_0 21 rfl rfl)
theorem dX0_count_22 : decode cX0_count 22 = .ok (.iaload, 1) := dk_46 (dk_at dksX0_count_0 22 rfl rfl)
theorem dX0_count_23 : decode cX0_count 23 = .ok (.ireturn, 1) := dk_172 (dk_at dksX0_count_0 23 rfl rfl)
theorem dX0_count_24 : decode cX0_count 24 = .ok (.iload_n 1, 1) := dk_27 (dk_at dksX0_count_1 0 rfl rfl)
theorem dX0_count_25 : decode cX0_count 25 = .ok (.bipush 20, 2) := dk_16 20 (dk_at dksX0_count_1 1 rfl rfl)
theorem dX0_count_27 : decode cX0_count 27 = .ok (.bipush 27, 2) := dk_16 27 (dk_at dksX0_count_1 3 rfl rfl)
theorem dX0_count_29 : decode cX0_count 29 = .ok (.invokestatic 5, 3) := dk_184 0 5 (dk_at dksX0_count_1 5 rfl rfl)
theorem dX0_count_32 : decode cX0_count 32 = .ok (.ifCond .eq 16, 3) := dk_153 0 16 (dk_at dksX0_count_1 8 rfl rfl)
theorem dX0_count_35 : decode cX0_count 35 = .ok (.aload_n 0, 1) := dk_42 (dk_at dksX0_count_1 11 rfl rfl)
theorem dX0_count_36 : decode cX0_count 36 = .ok (.getfield 91, 3) := dk_180 0 91 (dk_at dksX0_count_1 12 rfl rfl)
theorem dX0_count_39 : decode cX0_count 39 = .ok (.getfield 100, 3) := dk_180 0 100 (dk_at dksX0_count_1 15 rfl rfl)
theorem dX0_count_42 : decode cX0_count 42 = .ok (.iload_n 1, 1) := dk_27 (dk_at dksX0_count_1 18 rfl rfl)
theorem dX0_count_43 : decode cX0_count 43 = .ok (.bipush 20, 2) := dk_16 20 (dk_at dksX0_count_1 19 rfl rfl)
theorem dX0_count_45 : decode cX0_count 45 = .ok (.isub, 1) := dk_100 (dk_at dksX0_count_1 21 rfl rfl)
theorem dX0_count_46 : decode cX0_count 46 = .ok (.iaload, 1) := dk_46 (dk_at dksX0_count_1 22 rfl rfl)
theorem dX0_count_47 : decode cX0_count 47 = .ok (.ireturn, 1) := dk_172 (dk_at dksX0_count_1 23 rfl rfl)
theorem dX0_count_48 : decode cX0_count 48 = .ok (.iload_n 1, 1) := dk_27 (dk_at dksX0_count_2 0 rfl rfl)
theorem dX0_count_49 : decode cX0_count 49 = .ok (.tableswitch 96 0 5 #[39, 49, 60, 71, 82, 89], 39) := by decide +kernel
theorem dX0_count_88 : decode cX0_count 88 = .ok (.aload_n 0, 1) := dk_42 (dk_at dksX0_count_4 0 rfl rfl)
theorem dX0_count_89 : decode cX0_count 89 = .ok (.getfield 91, 3) := dk_180 0 91 (dk_at dksX0_count_4 1 rfl rfl)
theorem dX0_count_92 : decode cX0_count 92 = .ok (.getfield 115, 3) := dk_180 0 115 (dk_at dksX0_count_4 4 rfl rfl)
theorem dX0_count_95 : decode cX0_count 95 = .ok (.goto 51, 3) := dk_167 0 51 (dk_at dksX0_count_4 7 rfl rfl)
theorem dX0_count_98 : decode cX0_count 98 = .ok (.aload_n 0, 1) := dk_42 (dk_at dksX0_count_4 10 rfl rfl)
theorem dX0_count_99 : decode cX0_count 99 = .ok (.getfield 91, 3) := dk_180 0 91 (dk_at dksX0_count_4 11 rfl rfl)
theorem dX0_count_102 : decode cX0_count 102 = .ok (.iconst (-1), 1) := dk_2 (dk_at dksX0_count_4 14 rfl rfl)
theorem dX0_count_103 : decode cX0_count 103 = .ok (.invokevirtual 248, 3) := dk_182 0 248 (dk_at dksX0_count_4 15 rfl rfl)
theorem dX0_count_106 : decode cX0_count 106 = .ok (.goto 40, 3) := dk_167 0 40 (dk_at dksX0_count_4 18 rfl rfl)
theorem dX0_count_109 : decode cX0_count 109 = .ok (.aload_n 0, 1) := dk_42 (dk_at dksX0_count_4 21 rfl rfl)
theorem dX0_count_110 : decode cX0_count 110 = .ok (.getfield 91, 3) := dk_180 0 91 (dk_at dksX0_count_5 0 rfl rfl)
theorem dX0_count_113 : decode cX0_count 113 = .ok (.iconst 0, 1) := dk_3 (dk_at dksX0_count_5 3 rfl rfl)
theorem dX0_count_114 : decode cX0_count 114 = .ok (.invokevirtual 248, 3) := dk_182 0 248 (dk_at dksX0_count_5 4 rfl rfl)
theorem dX0_count_117 : decode cX0_count 117 = .ok (.goto 29, 3) := dk_167 0 29 (dk_at dksX0_count_5 7 rfl rfl)
theorem dX0_count_120 : decode cX0_count 120 = .ok (.aload_n 0, 1) := dk_42 (dk_at dksX0_count_5 10 rfl rfl)
theorem dX0_count_121 : decode cX0_count 121 = .ok (.getfield 91, 3) := dk_180 0 91 (dk_at dksX0_count_5 11 rfl rfl)
theorem dX0_count_124 : decode cX0_count 124 = .ok (.iconst 2, 1) := dk_5 (dk_at dksX0_count_5 14 rfl rfl)
theorem dX0_count_125 : decode cX0_count 125 = .ok (.invokevirtual 248, 3) := dk_182 0 248 (dk_at dksX0_count_5 15 rfl rfl)
theorem dX0_count_128 : decode cX0_count 128 = .ok (.goto 18, 3) := dk_167 0 18 (dk_at dksX0_count_5 18 rfl rfl)
theorem dX0_count_131 : decode cX0_count 131 = .ok (.aload_n 0, 1) := dk_42 (dk_at dksX0_count_5 21 rfl rfl)
theorem dX0_count_132 : decode cX0_count 132 = .ok (.getfield 9, 3) := dk_180 0 9 (dk_at dksX0_count_6 0 rfl rfl)
theorem dX0_count_135 : decode cX0_count 135 = .ok (.goto 11, 3) := dk_167 0 11 (dk_at dksX0_count_6 3 rfl rfl)
theorem dX0_count_138 : decode cX0_count 138 = .ok (.aload_n 0, 1) := dk_42 (dk_at dksX0_count_6 6 rfl rfl)
theorem dX0_count_139 : decode cX0_count 139 = .ok (.invokevirtual 253, 3) := dk_182 0 253 (dk_at dksX0_count_6 7 rfl rfl)
theorem dX0_count_142 : decode cX0_count 142 = .ok (.goto 4, 3) := dk_167 0 4 (dk_at dksX0_count_6 10 rfl rfl)
theorem dX0_count_145 : decode cX0_count 145 = .ok (.iconst (-1), 1) := dk_2 (dk_at dksX0_count_6 13 rfl rfl)
theorem dX0_count_146 : decode cX0_count 146 = .ok (.ireturn, 1) := dk_172 (dk_at dksX0_count_6 14 rfl rfl)
theorem fl_X0_115_1 : gFL RX0 115 1 3 := gFL.mkN (Cn := RX1) (T := TX1) (N := 5) (ref := "WorkflowEngine$Moment") rfl in_X1 (by decide) nq747 rfl rfl (Or.inl rfl)
theorem hd_X1_many : (yX1_many.cls ≠ "java/lang/invoke/MethodHandle" ∧ yX1_many.cls ≠ "java/lang/invoke/VarHandle" ∧ (parseMethodDescriptor yX1_many.desc).map (fun d => d.parameters.length) = some 1) := ⟨by decide +kernel, by decide +kernel, by decide +kernel⟩
theorem hd_X0_allVersions : (yX0_allVersions.cls ≠ "java/lang/invoke/MethodHandle" ∧ yX0_allVersions.cls ≠ "java/lang/invoke/VarHandle" ∧ (parseMethodDescriptor yX0_allVersions.desc).map (fun d => d.parameters.length) = some 0) := ⟨by decide +kernel, by decide +kernel, by decide +kernel⟩
def f_X0_count (a0 : Nat) (p1 : Int32) (w0 : gw) : Option (Int32 × gw) := gB2 (f_X0_in p1 (nI 10) (nI 17) w0) fun x2 w1 => if x2 = 0 then gB2 (f_X0_in p1 (nI 20) (nI 27) w1) fun x5 w4 => if x5 = 0 then if p1 = (nI 0) then gB1 (gR w4 a0 0 5) fun r7 => gB1 r7 fun a8 => gB1 (gI w4 a8 1 3) fun x9 => some (x9, w4) else if p1 = (nI 1) then gB1 (gR w4 a0 0 5) fun r10 => gB1 r10 fun a11 => gB1 (gOb w4 a11 1) fun _ => gB2 (f_X1_many a11 (-1) w4) fun x13 w12 => some (x13, w12) else if p1 = (nI 2) then gB1 (gR w4 a0 0 5) fun r14 => gB1 r14 fun a15 => gB1 (gOb w4 a15 1) fun _ => gB2 (f_X1_many a15 (nI 0) w4) fun x17 w16 => some (x17, w16) else if p1 = (nI 3) then gB1 (gR w4 a0 0 5) fun r18 => gB1 r18 fun a19 => gB1 (gOb w4 a19 1) fun _ => gB2 (f_X1_many a19 (nI 2) w4) fun x21 w20 => some (x21, w20) else if p1 = (nI 4) then gB1 (gI w4 a0 0 1) fun x22 => some (x22, w4) else if p1 = (nI 5) then gB1 (gOb w4 a0 0) fun _ => gB2 (f_X0_allVersions a0  w4) fun x24 w23 => some (x24, w23) else some ((-1), w4) else gB1 (gR w4 a0 0 5) fun r25 => gB1 r25 fun a26 => gB1 (gR w4 a26 1 1) fun r27 => gB1 r27 fun a28 => gB1 (gLdI w4 a28 0 (p1 - (nI 20))) fun x29 => some (x29, w4) else gB1 (gR w1 a0 0 5) fun r30 => gB1 r30 fun a31 => gB1 (gR w1 a31 1 0) fun r32 => gB1 r32 fun a33 => gB1 (gLdI w1 a33 0 (p1 - (nI 10))) fun x34 => some (x34, w1)
set_option maxHeartbeats 4000000 in
set_option maxRecDepth 100000 in
theorem k_X0_count {D : va_G} {dA : Nat → ClassId} {A : Nat → Prop} {K : Nat → Nat} {l : Launch} {h : Nat} (hh : 2 ≤ h) {a0 : Nat} {p1 : Int32} {w0 ww : gw} {rr : Int32} (hf : f_X0_count a0 p1 w0 = some (rr, ww)) : gMet D dA A K l yX0_count (ws_ yX0_count cX0_count 2 (some .int)) h [(ga (some a0)), (gi p1)] (some (gi rr)) w0 ww := by
  refine j_start (own := RX0) (by decide +kernel) rfl (Nat.le_of_ble_eq_true rfl) ?_
  intro p e R s m args below meth c C hr hin hw
  unfold f_X0_count at hf
  show gJ D dA A K p l e R s m args below meth c (gEnd D dA A K below args s w0 (some (gi rr)) ww) 2 0 [(0, (ga (some a0))), (1, (gi p1))] [] w0
  refine j_iload_n C dX0_count_0 rfl ?_
  refine j_bipush (v := (nI 10)) C dX0_count_1 (by decide) ?_
  refine j_bipush (v := (nI 17)) C dX0_count_3 (by decide) ?_
  replace hf := gB2_e hf
  obtain ⟨x2, w1, ew1, hf⟩ := hf
  refine j_callS (As := [(gi p1), (gi (nI 10)), (gi (nI 17))]) (rest := []) (v := (some (gi x2))) C (by omega) (k_X0_in (by omega) ew1) q138 q139 q91 q140 hd_X0_in (by decide) rfl (Nat.le_of_ble_eq_true rfl) dX0_count_5 ?_
  refine j_if_eq (tgt := 24) C dX0_count_8 (by decide) (fun c3 => ?_) (fun c3 => ?_)
  · replace hf := gIf_t hf c3
    refine j_iload_n C dX0_count_24 rfl ?_
    refine j_bipush (v := (nI 20)) C dX0_count_25 (by decide) ?_
    refine j_bipush (v := (nI 27)) C dX0_count_27 (by decide) ?_
    replace hf := gB2_e hf
    obtain ⟨x5, w4, ew4, hf⟩ := hf
    refine j_callS (As := [(gi p1), (gi (nI 20)), (gi (nI 27))]) (rest := []) (v := (some (gi x5))) C (by omega) (k_X0_in (by omega) ew4) q138 q139 q91 q140 hd_X0_in (by decide) rfl (Nat.le_of_ble_eq_true rfl) dX0_count_29 ?_
    refine j_if_eq (tgt := 48) C dX0_count_32 (by decide) (fun c6 => ?_) (fun c6 => ?_)
    · replace hf := gIf_t hf c6
      refine j_iload_n C dX0_count_48 rfl ?_
      by_cases n49_0 : p1 = (nI 0)
      · replace hf := gIf_t hf n49_0
        refine j_tableIn (off := 39) (tgt := 88) C dX0_count_49 (by rw [n49_0]; decide) (by rw [n49_0]; decide) (by rw [n49_0]; decide) (by decide) ?_
        refine j_aload_n C dX0_count_88 rfl ?_
        replace hf := gB1_e hf
        obtain ⟨r7, er7, hf⟩ := hf
        refine j_get C fl_X0_91_0 dX0_count_89 (gR_F er7) ?_
        replace hf := gB1_e hf
        obtain ⟨a8, ea8, hf⟩ := hf
        subst ea8
        replace hf := gB1_e hf
        obtain ⟨x9, ex9, hf⟩ := hf
        refine j_get C fl_X0_115_1 dX0_count_92 (gI_F ex9) ?_
        refine j_goto (tgt := 146) C dX0_count_95 (by decide) ?_
        obtain ⟨rfl, rfl⟩ := gSome hf
        exact j_iret C hr hw dX0_count_146
      · replace hf := gIf_f hf n49_0
        by_cases n49_1 : p1 = (nI 1)
        · replace hf := gIf_t hf n49_1
          refine j_tableIn (off := 49) (tgt := 98) C dX0_count_49 (by rw [n49_1]; decide) (by rw [n49_1]; decide) (by rw [n49_1]; decide) (by decide) ?_
          refine j_aload_n C dX0_count_98 rfl ?_
          replace hf := gB1_e hf
          obtain ⟨r10, er10, hf⟩ := hf
          refine j_get C fl_X0_91_0 dX0_count_99 (gR_F er10) ?_
          refine j_iconst (v := (-1)) C dX0_count_102 (by decide) ?_
          replace hf := gB1_e hf
          obtain ⟨a11, ea11, hf⟩ := hf
          subst ea11
          replace hf := gB1_e hf
          obtain ⟨_, eo, hf⟩ := hf
          replace hf := gB2_e hf
          obtain ⟨x13, w12, ew12, hf⟩ := hf
          refine j_callV (As := [(gi (-1))]) (rest := []) (v := (some (gi x13))) C (by omega) (k_X1_many (by omega) ew12) (gOb_e eo) rfl q1567 q1568 q1569 q92 q1570 ⟨rfl, hd_X1_many⟩ (by decide) rfl (Nat.le_of_ble_eq_true rfl) dX0_count_103 ?_
          refine j_goto (tgt := 146) C dX0_count_106 (by decide) ?_
          obtain ⟨rfl, rfl⟩ := gSome hf
          exact j_iret C hr hw dX0_count_146
        · replace hf := gIf_f hf n49_1
          by_cases n49_2 : p1 = (nI 2)
          · replace hf := gIf_t hf n49_2
            refine j_tableIn (off := 60) (tgt := 109) C dX0_count_49 (by rw [n49_2]; decide) (by rw [n49_2]; decide) (by rw [n49_2]; decide) (by decide) ?_
            refine j_aload_n C dX0_count_109 rfl ?_
            replace hf := gB1_e hf
            obtain ⟨r14, er14, hf⟩ := hf
            refine j_get C fl_X0_91_0 dX0_count_110 (gR_F er14) ?_
            refine j_iconst (v := (nI 0)) C dX0_count_113 (by decide) ?_
            replace hf := gB1_e hf
            obtain ⟨a15, ea15, hf⟩ := hf
            subst ea15
            replace hf := gB1_e hf
            obtain ⟨_, eo, hf⟩ := hf
            replace hf := gB2_e hf
            obtain ⟨x17, w16, ew16, hf⟩ := hf
            refine j_callV (As := [(gi (nI 0))]) (rest := []) (v := (some (gi x17))) C (by omega) (k_X1_many (by omega) ew16) (gOb_e eo) rfl q1567 q1568 q1569 q92 q1570 ⟨rfl, hd_X1_many⟩ (by decide) rfl (Nat.le_of_ble_eq_true rfl) dX0_count_114 ?_
            refine j_goto (tgt := 146) C dX0_count_117 (by decide) ?_
            obtain ⟨rfl, rfl⟩ := gSome hf
            exact j_iret C hr hw dX0_count_146
          · replace hf := gIf_f hf n49_2
            by_cases n49_3 : p1 = (nI 3)
            · replace hf := gIf_t hf n49_3
              refine j_tableIn (off := 71) (tgt := 120) C dX0_count_49 (by rw [n49_3]; decide) (by rw [n49_3]; decide) (by rw [n49_3]; decide) (by decide) ?_
              refine j_aload_n C dX0_count_120 rfl ?_
              replace hf := gB1_e hf
              obtain ⟨r18, er18, hf⟩ := hf
              refine j_get C fl_X0_91_0 dX0_count_121 (gR_F er18) ?_
              refine j_iconst (v := (nI 2)) C dX0_count_124 (by decide) ?_
              replace hf := gB1_e hf
              obtain ⟨a19, ea19, hf⟩ := hf
              subst ea19
              replace hf := gB1_e hf
              obtain ⟨_, eo, hf⟩ := hf
              replace hf := gB2_e hf
              obtain ⟨x21, w20, ew20, hf⟩ := hf
              refine j_callV (As := [(gi (nI 2))]) (rest := []) (v := (some (gi x21))) C (by omega) (k_X1_many (by omega) ew20) (gOb_e eo) rfl q1567 q1568 q1569 q92 q1570 ⟨rfl, hd_X1_many⟩ (by decide) rfl (Nat.le_of_ble_eq_true rfl) dX0_count_125 ?_
              refine j_goto (tgt := 146) C dX0_count_128 (by decide) ?_
              obtain ⟨rfl, rfl⟩ := gSome hf
              exact j_iret C hr hw dX0_count_146
            · replace hf := gIf_f hf n49_3
              by_cases n49_4 : p1 = (nI 4)
              · replace hf := gIf_t hf n49_4
                refine j_tableIn (off := 82) (tgt := 131) C dX0_count_49 (by rw [n49_4]; decide) (by rw [n49_4]; decide) (by rw [n49_4]; decide) (by decide) ?_
                refine j_aload_n C dX0_count_131 rfl ?_
                replace hf := gB1_e hf
                obtain ⟨x22, ex22, hf⟩ := hf
                refine j_get C fl_X0_9_0 dX0_count_132 (gI_F ex22) ?_
                refine j_goto (tgt := 146) C dX0_count_135 (by decide) ?_
                obtain ⟨rfl, rfl⟩ := gSome hf
                exact j_iret C hr hw dX0_count_146
              · replace hf := gIf_f hf n49_4
                by_cases n49_5 : p1 = (nI 5)
                · replace hf := gIf_t hf n49_5
                  refine j_tableIn (off := 89) (tgt := 138) C dX0_count_49 (by rw [n49_5]; decide) (by rw [n49_5]; decide) (by rw [n49_5]; decide) (by decide) ?_
                  refine j_aload_n C dX0_count_138 rfl ?_
                  replace hf := gB1_e hf
                  obtain ⟨_, eo, hf⟩ := hf
                  replace hf := gB2_e hf
                  obtain ⟨x24, w23, ew23, hf⟩ := hf
                  refine j_callV (As := []) (rest := []) (v := (some (gi x24))) C (by omega) (k_X0_allVersions (by omega) ew23) (gOb_e eo) rfl q1584 q1586 qs33 q91 q1587 ⟨rfl, hd_X0_allVersions⟩ (by decide) rfl (Nat.le_of_ble_eq_true rfl) dX0_count_139 ?_
                  refine j_goto (tgt := 146) C dX0_count_142 (by decide) ?_
                  obtain ⟨rfl, rfl⟩ := gSome hf
                  exact j_iret C hr hw dX0_count_146
                · replace hf := gIf_f hf n49_5
                  refine j_tableOut (tgt := 145) C dX0_count_49 (g_out6 (a := 0) (by decide) n49_0 n49_1 n49_2 n49_3 n49_4 n49_5) (by decide) ?_
                  refine j_iconst (v := (-1)) C dX0_count_145 (by decide) ?_
                  obtain ⟨rfl, rfl⟩ := gSome hf
                  exact j_iret C hr hw dX0_count_146
    · replace hf := gIf_f hf c6
      refine j_aload_n C dX0_count_35 rfl ?_
      replace hf := gB1_e hf
      obtain ⟨r25, er25, hf⟩ := hf
      refine j_get C fl_X0_91_0 dX0_count_36 (gR_F er25) ?_
      replace hf := gB1_e hf
      obtain ⟨a26, ea26, hf⟩ := hf
      subst ea26
      replace hf := gB1_e hf
      obtain ⟨r27, er27, hf⟩ := hf
      refine j_get C fl_X0_100_1 dX0_count_39 (gR_F er27) ?_
      refine j_iload_n C dX0_count_42 rfl ?_
      refine j_bipush (v := (nI 20)) C dX0_count_43 (by decide) ?_
      refine j_isub C dX0_count_45 ?_
      replace hf := gB1_e hf
      obtain ⟨a28, ea28, hf⟩ := hf
      subst ea28
      replace hf := gB1_e hf
      obtain ⟨x29, ex29, hf⟩ := hf
      refine j_iald C ex29 dX0_count_46 ?_
      obtain ⟨rfl, rfl⟩ := gSome hf
      exact j_iret C hr hw dX0_count_47
  · replace hf := gIf_f hf c3
    refine j_aload_n C dX0_count_11 rfl ?_
    replace hf := gB1_e hf
    obtain ⟨r30, er30, hf⟩ := hf
    refine j_get C fl_X0_91_0 dX0_count_12 (gR_F er30) ?_
    replace hf := gB1_e hf
    obtain ⟨a31, ea31, hf⟩ := hf
    subst ea31
    replace hf := gB1_e hf
    obtain ⟨r32, er32, hf⟩ := hf
    refine j_get C fl_X0_95_1 dX0_count_15 (gR_F er32) ?_
    refine j_iload_n C dX0_count_18 rfl ?_
    refine j_bipush (v := (nI 10)) C dX0_count_19 (by decide) ?_
    refine j_isub C dX0_count_21 ?_
    replace hf := gB1_e hf
    obtain ⟨a33, ea33, hf⟩ := hf
    subst ea33
    replace hf := gB1_e hf
    obtain ⟨x34, ex34, hf⟩ := hf
    refine j_iald C ex34 dX0_count_22 ?_
    obtain ⟨rfl, rfl⟩ := gSome hf
    exact j_iret C hr hw dX0_count_23
def dkwX10_init_0 : List UInt8 := [42, 27, 183, 0, 1, 42, 28, 181, 0, 7, 177]
abbrev dktX10_init_0 : List UInt8 := dkwX10_init_0 ++ []
theorem dksX10_init_0 : cX10_init.data.toList.drop 0 = dktX10_init_0 := by decide +kernel
theorem dX10_init_0 : decode cX10_init 0 = .ok (.aload_n 0, 1) := dk_42 (dk_at dksX10_init_0 0 rfl rfl)
theorem dX10_init_1 : decode cX10_init 1 = .ok (.iload_n 1, 1) := dk_27 (dk_at dksX10_init_0 1 rfl rfl)
theorem dX10_init_2 : decode cX10_init 2 = .ok (.invokespecial 1, 3) := dk_183 0 1 (dk_at dksX10_init_0 2 rfl rfl)
theorem dX10_init_5 : decode cX10_init 5 = .ok (.aload_n 0, 1) := dk_42 (dk_at dksX10_init_0 5 rfl rfl)
theorem dX10_init_6 : decode cX10_init 6 = .ok (.iload_n 2, 1) := dk_28 (dk_at dksX10_init_0 6 rfl rfl)
theorem dX10_init_7 : decode cX10_init 7 = .ok (.putfield 7, 3) := dk_181 0 7 (dk_at dksX10_init_0 7 rfl rfl)
theorem dX10_init_10 : decode cX10_init 10 = .ok (.return_, 1) := dk_177 (dk_at dksX10_init_0 10 rfl rfl)
theorem hd_X8_init : (yX8_init.cls ≠ "java/lang/invoke/MethodHandle" ∧ yX8_init.cls ≠ "java/lang/invoke/VarHandle" ∧ (parseMethodDescriptor yX8_init.desc).map (fun d => d.parameters.length) = some 1) := ⟨by decide +kernel, by decide +kernel, by decide +kernel⟩
theorem fl_X10_7_10 : gFL RX10 7 10 1 := gFL.mk (Cn := RX10) (T := TX10) (N := 2) (ref := "WorkflowEngine$Wait") rfl in_X10 (by decide) q395 rfl rfl (Or.inl rfl)
theorem fk_10_1 : gFk 10 1 "I" true "WorkflowEngine$Wait" := fun Cn T N h => by
  have h : (RX10, TX10, 2) = (Cn, T, N) := Option.some.inj h
  cases h
  exact ⟨rfl, rfl, rfl⟩
def f_X10_init (a0 : Nat) (p1 : Int32) (p2 : Int32) (w0 : gw) : Option (Unit × gw) := gB2 (f_X8_init_c10 a0 p1 w0) fun _ w1 => gB1 (gPut w1 a0 10 1 (gi p2)) fun w2 => some ((), w2)
set_option maxHeartbeats 4000000 in
set_option maxRecDepth 100000 in
theorem k_X10_init {D : va_G} {dA : Nat → ClassId} {A : Nat → Prop} {K : Nat → Nat} {l : Launch} {h : Nat} (hh : 2 ≤ h) {a0 : Nat} {p1 : Int32} {p2 : Int32} {w0 ww : gw} {rr : Unit} (hf : f_X10_init a0 p1 p2 w0 = some (rr, ww)) : gMet D dA A K l yX10_init (ws_ yX10_init cX10_init 3 none) h [(ga (some a0)), (gi p1), (gi p2)] none w0 ww := by
  refine j_start (own := RX10) (by decide +kernel) rfl (Nat.le_of_ble_eq_true rfl) ?_
  intro p e R s m args below meth c C hr hin hw
  unfold f_X10_init at hf
  show gJ D dA A K p l e R s m args below meth c (gEnd D dA A K below args s w0 none ww) 3 0 [(0, (ga (some a0))), (1, (gi p1)), (2, (gi p2))] [] w0
  refine j_aload_n C dX10_init_0 rfl ?_
  refine j_iload_n C dX10_init_1 rfl ?_
  replace hf := gB2_e hf
  obtain ⟨_, w1, ew1, hf⟩ := hf
  refine j_callI (As := [(gi p1)]) (rest := []) C (by omega) (k_X8_init_c10 (by omega) ew1) rfl q394 q359 q104 q360 hd_X8_init (by decide) rfl (Nat.le_of_ble_eq_true rfl) dX10_init_2 ?_
  refine j_aload_n C dX10_init_5 rfl ?_
  refine j_iload_n C dX10_init_6 rfl ?_
  replace hf := gB1_e hf
  obtain ⟨w2, ew2, hf⟩ := hf
  refine j_putF C fl_X10_7_10 tb_10 hin ew2 fk_10_1 rfl (fit_I p2) dX10_init_7 ?_
  obtain ⟨rfl, rfl⟩ := gSome hf
  exact j_vret C hr hw dX10_init_10
def dkwX11_init_0 : List UInt8 := [42, 27, 183, 0, 1, 42, 28, 181, 0, 7, 42, 29, 181, 0, 13, 177]
abbrev dktX11_init_0 : List UInt8 := dkwX11_init_0 ++ []
theorem dksX11_init_0 : cX11_init.data.toList.drop 0 = dktX11_init_0 := by decide +kernel
theorem dX11_init_0 : decode cX11_init 0 = .ok (.aload_n 0, 1) := dk_42 (dk_at dksX11_init_0 0 rfl rfl)
theorem dX11_init_1 : decode cX11_init 1 = .ok (.iload_n 1, 1) := dk_27 (dk_at dksX11_init_0 1 rfl rfl)
theorem dX11_init_2 : decode cX11_init 2 = .ok (.invokespecial 1, 3) := dk_183 0 1 (dk_at dksX11_init_0 2 rfl rfl)
theorem dX11_init_5 : decode cX11_init 5 = .ok (.aload_n 0, 1) := dk_42 (dk_at dksX11_init_0 5 rfl rfl)
theorem dX11_init_6 : decode cX11_init 6 = .ok (.iload_n 2, 1) := dk_28 (dk_at dksX11_init_0 6 rfl rfl)
theorem dX11_init_7 : decode cX11_init 7 = .ok (.putfield 7, 3) := dk_181 0 7 (dk_at dksX11_init_0 7 rfl rfl)
theorem dX11_init_10 : decode cX11_init 10 = .ok (.aload_n 0, 1) := dk_42 (dk_at dksX11_init_0 10 rfl rfl)
theorem dX11_init_11 : decode cX11_init 11 = .ok (.iload_n 3, 1) := dk_29 (dk_at dksX11_init_0 11 rfl rfl)
theorem dX11_init_12 : decode cX11_init 12 = .ok (.putfield 13, 3) := dk_181 0 13 (dk_at dksX11_init_0 12 rfl rfl)
theorem dX11_init_15 : decode cX11_init 15 = .ok (.return_, 1) := dk_177 (dk_at dksX11_init_0 15 rfl rfl)
theorem fl_X11_7_11 : gFL RX11 7 11 1 := gFL.mk (Cn := RX11) (T := TX11) (N := 3) (ref := "WorkflowEngine$Await") rfl in_X11 (by decide) q407 rfl rfl (Or.inl rfl)
theorem fk_11_1 : gFk 11 1 "I" true "WorkflowEngine$Await" := fun Cn T N h => by
  have h : (RX11, TX11, 3) = (Cn, T, N) := Option.some.inj h
  cases h
  exact ⟨rfl, rfl, rfl⟩
theorem fl_X11_13_11 : gFL RX11 13 11 2 := gFL.mk (Cn := RX11) (T := TX11) (N := 3) (ref := "WorkflowEngine$Await") rfl in_X11 (by decide) q409 rfl rfl (Or.inl rfl)
theorem fk_11_2 : gFk 11 2 "I" true "WorkflowEngine$Await" := fun Cn T N h => by
  have h : (RX11, TX11, 3) = (Cn, T, N) := Option.some.inj h
  cases h
  exact ⟨rfl, rfl, rfl⟩
def f_X11_init (a0 : Nat) (p1 : Int32) (p2 : Int32) (p3 : Int32) (w0 : gw) : Option (Unit × gw) := gB2 (f_X8_init_c11 a0 p1 w0) fun _ w1 => gB1 (gPut w1 a0 11 1 (gi p2)) fun w2 => gB1 (gPut w2 a0 11 2 (gi p3)) fun w3 => some ((), w3)
set_option maxHeartbeats 4000000 in
set_option maxRecDepth 100000 in
theorem k_X11_init {D : va_G} {dA : Nat → ClassId} {A : Nat → Prop} {K : Nat → Nat} {l : Launch} {h : Nat} (hh : 2 ≤ h) {a0 : Nat} {p1 : Int32} {p2 : Int32} {p3 : Int32} {w0 ww : gw} {rr : Unit} (hf : f_X11_init a0 p1 p2 p3 w0 = some (rr, ww)) : gMet D dA A K l yX11_init (ws_ yX11_init cX11_init 4 none) h [(ga (some a0)), (gi p1), (gi p2), (gi p3)] none w0 ww := by
  refine j_start (own := RX11) (by decide +kernel) rfl (Nat.le_of_ble_eq_true rfl) ?_
  intro p e R s m args below meth c C hr hin hw
  unfold f_X11_init at hf
  show gJ D dA A K p l e R s m args below meth c (gEnd D dA A K below args s w0 none ww) 4 0 [(0, (ga (some a0))), (1, (gi p1)), (2, (gi p2)), (3, (gi p3))] [] w0
  refine j_aload_n C dX11_init_0 rfl ?_
  refine j_iload_n C dX11_init_1 rfl ?_
  replace hf := gB2_e hf
  obtain ⟨_, w1, ew1, hf⟩ := hf
  refine j_callI (As := [(gi p1)]) (rest := []) C (by omega) (k_X8_init_c11 (by omega) ew1) rfl q406 q359 q104 q360 hd_X8_init (by decide) rfl (Nat.le_of_ble_eq_true rfl) dX11_init_2 ?_
  refine j_aload_n C dX11_init_5 rfl ?_
  refine j_iload_n C dX11_init_6 rfl ?_
  replace hf := gB1_e hf
  obtain ⟨w2, ew2, hf⟩ := hf
  refine j_putF C fl_X11_7_11 tb_11 hin ew2 fk_11_1 rfl (fit_I p2) dX11_init_7 ?_
  refine j_aload_n C dX11_init_10 rfl ?_
  refine j_iload_n C dX11_init_11 rfl ?_
  replace hf := gB1_e hf
  obtain ⟨w3, ew3, hf⟩ := hf
  refine j_putF C fl_X11_13_11 tb_11 hin ew3 fk_11_2 rfl (fit_I p3) dX11_init_12 ?_
  obtain ⟨rfl, rfl⟩ := gSome hf
  exact j_vret C hr hw dX11_init_15
def dkwX12_init_0 : List UInt8 := [42, 27, 183, 0, 1, 42, 28, 181, 0, 7, 42, 29, 181, 0, 13, 42, 21, 4, 181, 0, 17, 177]
abbrev dktX12_init_0 : List UInt8 := dkwX12_init_0 ++ []
theorem dksX12_init_0 : cX12_init.data.toList.drop 0 = dktX12_init_0 := by decide +kernel
theorem dX12_init_0 : decode cX12_init 0 = .ok (.aload_n 0, 1) := dk_42 (dk_at dksX12_init_0 0 rfl rfl)
theorem dX12_init_1 : decode cX12_init 1 = .ok (.iload_n 1, 1) := dk_27 (dk_at dksX12_init_0 1 rfl rfl)
theorem dX12_init_2 : decode cX12_init 2 = .ok (.invokespecial 1, 3) := dk_183 0 1 (dk_at dksX12_init_0 2 rfl rfl)
theorem dX12_init_5 : decode cX12_init 5 = .ok (.aload_n 0, 1) := dk_42 (dk_at dksX12_init_0 5 rfl rfl)
theorem dX12_init_6 : decode cX12_init 6 = .ok (.iload_n 2, 1) := dk_28 (dk_at dksX12_init_0 6 rfl rfl)
theorem dX12_init_7 : decode cX12_init 7 = .ok (.putfield 7, 3) := dk_181 0 7 (dk_at dksX12_init_0 7 rfl rfl)
theorem dX12_init_10 : decode cX12_init 10 = .ok (.aload_n 0, 1) := dk_42 (dk_at dksX12_init_0 10 rfl rfl)
theorem dX12_init_11 : decode cX12_init 11 = .ok (.iload_n 3, 1) := dk_29 (dk_at dksX12_init_0 11 rfl rfl)
theorem dX12_init_12 : decode cX12_init 12 = .ok (.putfield 13, 3) := dk_181 0 13 (dk_at dksX12_init_0 12 rfl rfl)
theorem dX12_init_15 : decode cX12_init 15 = .ok (.aload_n 0, 1) := dk_42 (dk_at dksX12_init_0 15 rfl rfl)
theorem dX12_init_16 : decode cX12_init 16 = .ok (.iload 4, 2) := dk_21 4 (dk_at dksX12_init_0 16 rfl rfl)
theorem dX12_init_18 : decode cX12_init 18 = .ok (.putfield 17, 3) := dk_181 0 17 (dk_at dksX12_init_0 18 rfl rfl)
theorem dX12_init_21 : decode cX12_init 21 = .ok (.return_, 1) := dk_177 (dk_at dksX12_init_0 21 rfl rfl)
theorem fl_X12_7_12 : gFL RX12 7 12 1 := gFL.mk (Cn := RX12) (T := TX12) (N := 4) (ref := "WorkflowEngine$Assign") rfl in_X12 (by decide) q431 rfl rfl (Or.inl rfl)
theorem fk_12_1 : gFk 12 1 "I" true "WorkflowEngine$Assign" := fun Cn T N h => by
  have h : (RX12, TX12, 4) = (Cn, T, N) := Option.some.inj h
  cases h
  exact ⟨rfl, rfl, rfl⟩
theorem fl_X12_13_12 : gFL RX12 13 12 2 := gFL.mk (Cn := RX12) (T := TX12) (N := 4) (ref := "WorkflowEngine$Assign") rfl in_X12 (by decide) q433 rfl rfl (Or.inl rfl)
theorem fk_12_2 : gFk 12 2 "Z" true "WorkflowEngine$Assign" := fun Cn T N h => by
  have h : (RX12, TX12, 4) = (Cn, T, N) := Option.some.inj h
  cases h
  exact ⟨rfl, rfl, rfl⟩
theorem fl_X12_17_12 : gFL RX12 17 12 3 := gFL.mk (Cn := RX12) (T := TX12) (N := 4) (ref := "WorkflowEngine$Assign") rfl in_X12 (by decide) q435 rfl rfl (Or.inl rfl)
theorem fk_12_3 : gFk 12 3 "I" true "WorkflowEngine$Assign" := fun Cn T N h => by
  have h : (RX12, TX12, 4) = (Cn, T, N) := Option.some.inj h
  cases h
  exact ⟨rfl, rfl, rfl⟩
def f_X12_init (a0 : Nat) (p1 : Int32) (p2 : Int32) (p3 : Int32) (p4 : Int32) (w0 : gw) : Option (Unit × gw) := gB2 (f_X8_init_c12 a0 p1 w0) fun _ w1 => gB1 (gPut w1 a0 12 1 (gi p2)) fun w2 => gB1 (gZ p3) fun _ => gB1 (gPut w2 a0 12 2 (gi p3)) fun w3 => gB1 (gPut w3 a0 12 3 (gi p4)) fun w4 => some ((), w4)
set_option maxHeartbeats 4000000 in
set_option maxRecDepth 100000 in
theorem k_X12_init {D : va_G} {dA : Nat → ClassId} {A : Nat → Prop} {K : Nat → Nat} {l : Launch} {h : Nat} (hh : 2 ≤ h) {a0 : Nat} {p1 : Int32} {p2 : Int32} {p3 : Int32} {p4 : Int32} {w0 ww : gw} {rr : Unit} (hf : f_X12_init a0 p1 p2 p3 p4 w0 = some (rr, ww)) : gMet D dA A K l yX12_init (ws_ yX12_init cX12_init 5 none) h [(ga (some a0)), (gi p1), (gi p2), (gi p3), (gi p4)] none w0 ww := by
  refine j_start (own := RX12) (by decide +kernel) rfl (Nat.le_of_ble_eq_true rfl) ?_
  intro p e R s m args below meth c C hr hin hw
  unfold f_X12_init at hf
  show gJ D dA A K p l e R s m args below meth c (gEnd D dA A K below args s w0 none ww) 5 0 [(0, (ga (some a0))), (1, (gi p1)), (2, (gi p2)), (3, (gi p3)), (4, (gi p4))] [] w0
  refine j_aload_n C dX12_init_0 rfl ?_
  refine j_iload_n C dX12_init_1 rfl ?_
  replace hf := gB2_e hf
  obtain ⟨_, w1, ew1, hf⟩ := hf
  refine j_callI (As := [(gi p1)]) (rest := []) C (by omega) (k_X8_init_c12 (by omega) ew1) rfl q430 q359 q104 q360 hd_X8_init (by decide) rfl (Nat.le_of_ble_eq_true rfl) dX12_init_2 ?_
  refine j_aload_n C dX12_init_5 rfl ?_
  refine j_iload_n C dX12_init_6 rfl ?_
  replace hf := gB1_e hf
  obtain ⟨w2, ew2, hf⟩ := hf
  refine j_putF C fl_X12_7_12 tb_12 hin ew2 fk_12_1 rfl (fit_I p2) dX12_init_7 ?_
  refine j_aload_n C dX12_init_10 rfl ?_
  refine j_iload_n C dX12_init_11 rfl ?_
  replace hf := gB1_e hf
  obtain ⟨_, ez, hf⟩ := hf
  replace hf := gB1_e hf
  obtain ⟨w3, ew3, hf⟩ := hf
  refine j_putF C fl_X12_13_12 tb_12 hin ew3 fk_12_2 rfl (fit_Z (gZ_e ez)) dX12_init_12 ?_
  refine j_aload_n C dX12_init_15 rfl ?_
  refine j_iload C dX12_init_16 rfl ?_
  replace hf := gB1_e hf
  obtain ⟨w4, ew4, hf⟩ := hf
  refine j_putF C fl_X12_17_12 tb_12 hin ew4 fk_12_3 rfl (fit_I p4) dX12_init_18 ?_
  obtain ⟨rfl, rfl⟩ := gSome hf
  exact j_vret C hr hw dX12_init_21
def dkwX13_init_1 : List UInt8 := [181, 0, 20, 177]
abbrev dktX13_init_1 : List UInt8 := dkwX13_init_1 ++ []
def dkwX13_init_0 : List UInt8 := [42, 27, 183, 0, 1, 42, 28, 181, 0, 7, 42, 29, 181, 0, 13, 42, 25, 4, 181, 0, 16, 42, 25, 5]
abbrev dktX13_init_0 : List UInt8 := dkwX13_init_0 ++ dktX13_init_1
theorem dksX13_init_0 : cX13_init.data.toList.drop 0 = dktX13_init_0 := by decide +kernel
theorem dksX13_init_1 : cX13_init.data.toList.drop 24 = dktX13_init_1 := dk_seg dksX13_init_0 24 rfl rfl
theorem dX13_init_0 : decode cX13_init 0 = .ok (.aload_n 0, 1) := dk_42 (dk_at dksX13_init_0 0 rfl rfl)
theorem dX13_init_1 : decode cX13_init 1 = .ok (.iload_n 1, 1) := dk_27 (dk_at dksX13_init_0 1 rfl rfl)
theorem dX13_init_2 : decode cX13_init 2 = .ok (.invokespecial 1, 3) := dk_183 0 1 (dk_at dksX13_init_0 2 rfl rfl)
theorem dX13_init_5 : decode cX13_init 5 = .ok (.aload_n 0, 1) := dk_42 (dk_at dksX13_init_0 5 rfl rfl)
theorem dX13_init_6 : decode cX13_init 6 = .ok (.iload_n 2, 1) := dk_28 (dk_at dksX13_init_0 6 rfl rfl)
theorem dX13_init_7 : decode cX13_init 7 = .ok (.putfield 7, 3) := dk_181 0 7 (dk_at dksX13_init_0 7 rfl rfl)
theorem dX13_init_10 : decode cX13_init 10 = .ok (.aload_n 0, 1) := dk_42 (dk_at dksX13_init_0 10 rfl rfl)
theorem dX13_init_11 : decode cX13_init 11 = .ok (.iload_n 3, 1) := dk_29 (dk_at dksX13_init_0 11 rfl rfl)
theorem dX13_init_12 : decode cX13_init 12 = .ok (.putfield 13, 3) := dk_181 0 13 (dk_at dksX13_init_0 12 rfl rfl)
theorem dX13_init_15 : decode cX13_init 15 = .ok (.aload_n 0, 1) := dk_42 (dk_at dksX13_init_0 15 rfl rfl)
theorem dX13_init_16 : decode cX13_init 16 = .ok (.aload 4, 2) := dk_25 4 (dk_at dksX13_init_0 16 rfl rfl)
theorem dX13_init_18 : decode cX13_init 18 = .ok (.putfield 16, 3) := dk_181 0 16 (dk_at dksX13_init_0 18 rfl rfl)
theorem dX13_init_21 : decode cX13_init 21 = .ok (.aload_n 0, 1) := dk_42 (dk_at dksX13_init_0 21 rfl rfl)
theorem dX13_init_22 : decode cX13_init 22 = .ok (.aload 5, 2) := dk_25 5 (dk_at dksX13_init_0 22 rfl rfl)
theorem dX13_init_24 : decode cX13_init 24 = .ok (.putfield 20, 3) := dk_181 0 20 (dk_at dksX13_init_1 0 rfl rfl)
theorem dX13_init_27 : decode cX13_init 27 = .ok (.return_, 1) := dk_177 (dk_at dksX13_init_1 3 rfl rfl)
theorem fl_X13_7_13 : gFL RX13 7 13 1 := gFL.mk (Cn := RX13) (T := TX13) (N := 5) (ref := "WorkflowEngine$Choice") rfl in_X13 (by decide) q459 rfl rfl (Or.inl rfl)
theorem fk_13_1 : gFk 13 1 "I" true "WorkflowEngine$Choice" := fun Cn T N h => by
  have h : (RX13, TX13, 5) = (Cn, T, N) := Option.some.inj h
  cases h
  exact ⟨rfl, rfl, rfl⟩
theorem fl_X13_13_13 : gFL RX13 13 13 2 := gFL.mk (Cn := RX13) (T := TX13) (N := 5) (ref := "WorkflowEngine$Choice") rfl in_X13 (by decide) q460 rfl rfl (Or.inl rfl)
theorem fk_13_2 : gFk 13 2 "I" true "WorkflowEngine$Choice" := fun Cn T N h => by
  have h : (RX13, TX13, 5) = (Cn, T, N) := Option.some.inj h
  cases h
  exact ⟨rfl, rfl, rfl⟩
theorem fl_X13_16_13 : gFL RX13 16 13 3 := gFL.mk (Cn := RX13) (T := TX13) (N := 5) (ref := "WorkflowEngine$Choice") rfl in_X13 (by decide) q461 rfl rfl (Or.inl rfl)
theorem fk_13_3 : gFk 13 3 "LWorkflowEngine$Body;" true "WorkflowEngine$Choice" := fun Cn T N h => by
  have h : (RX13, TX13, 5) = (Cn, T, N) := Option.some.inj h
  cases h
  exact ⟨rfl, rfl, rfl⟩
theorem fl_X13_20_13 : gFL RX13 20 13 4 := gFL.mk (Cn := RX13) (T := TX13) (N := 5) (ref := "WorkflowEngine$Choice") rfl in_X13 (by decide) q463 rfl rfl (Or.inl rfl)
theorem fk_13_4 : gFk 13 4 "LWorkflowEngine$Body;" true "WorkflowEngine$Choice" := fun Cn T N h => by
  have h : (RX13, TX13, 5) = (Cn, T, N) := Option.some.inj h
  cases h
  exact ⟨rfl, rfl, rfl⟩
def f_X13_init (a0 : Nat) (p1 : Int32) (p2 : Int32) (p3 : Int32) (p4 : Option Nat) (p5 : Option Nat) (w0 : gw) : Option (Unit × gw) := gB2 (f_X8_init_c13 a0 p1 w0) fun _ w1 => gB1 (gPut w1 a0 13 1 (gi p2)) fun w2 => gB1 (gPut w2 a0 13 2 (gi p3)) fun w3 => gB1 (gPut w3 a0 13 3 (ga p4)) fun w4 => gB1 (gPut w4 a0 13 4 (ga p5)) fun w5 => some ((), w5)
set_option maxHeartbeats 4000000 in
set_option maxRecDepth 100000 in
theorem k_X13_init {D : va_G} {dA : Nat → ClassId} {A : Nat → Prop} {K : Nat → Nat} {l : Launch} {h : Nat} (hh : 2 ≤ h) {a0 : Nat} {p1 : Int32} {p2 : Int32} {p3 : Int32} {p4 : Option Nat} {p5 : Option Nat} {w0 ww : gw} {rr : Unit} (hf : f_X13_init a0 p1 p2 p3 p4 p5 w0 = some (rr, ww)) : gMet D dA A K l yX13_init (ws_ yX13_init cX13_init 6 none) h [(ga (some a0)), (gi p1), (gi p2), (gi p3), (ga p4), (ga p5)] none w0 ww := by
  refine j_start (own := RX13) (by decide +kernel) rfl (Nat.le_of_ble_eq_true rfl) ?_
  intro p e R s m args below meth c C hr hin hw
  unfold f_X13_init at hf
  show gJ D dA A K p l e R s m args below meth c (gEnd D dA A K below args s w0 none ww) 6 0 [(0, (ga (some a0))), (1, (gi p1)), (2, (gi p2)), (3, (gi p3)), (4, (ga p4)), (5, (ga p5))] [] w0
  refine j_aload_n C dX13_init_0 rfl ?_
  refine j_iload_n C dX13_init_1 rfl ?_
  replace hf := gB2_e hf
  obtain ⟨_, w1, ew1, hf⟩ := hf
  refine j_callI (As := [(gi p1)]) (rest := []) C (by omega) (k_X8_init_c13 (by omega) ew1) rfl q458 q359 q104 q360 hd_X8_init (by decide) rfl (Nat.le_of_ble_eq_true rfl) dX13_init_2 ?_
  refine j_aload_n C dX13_init_5 rfl ?_
  refine j_iload_n C dX13_init_6 rfl ?_
  replace hf := gB1_e hf
  obtain ⟨w2, ew2, hf⟩ := hf
  refine j_putF C fl_X13_7_13 tb_13 hin ew2 fk_13_1 rfl (fit_I p2) dX13_init_7 ?_
  refine j_aload_n C dX13_init_10 rfl ?_
  refine j_iload_n C dX13_init_11 rfl ?_
  replace hf := gB1_e hf
  obtain ⟨w3, ew3, hf⟩ := hf
  refine j_putF C fl_X13_13_13 tb_13 hin ew3 fk_13_2 rfl (fit_I p3) dX13_init_12 ?_
  refine j_aload_n C dX13_init_15 rfl ?_
  refine j_aload C dX13_init_16 rfl ?_
  replace hf := gB1_e hf
  obtain ⟨w4, ew4, hf⟩ := hf
  refine j_putF C fl_X13_16_13 tb_13 hin ew4 fk_13_3 rfl (ft_LWorkflowEngine_Body_ p4) dX13_init_18 ?_
  refine j_aload_n C dX13_init_21 rfl ?_
  refine j_aload C dX13_init_22 rfl ?_
  replace hf := gB1_e hf
  obtain ⟨w5, ew5, hf⟩ := hf
  refine j_putF C fl_X13_20_13 tb_13 hin ew5 fk_13_4 rfl (ft_LWorkflowEngine_Body_ p5) dX13_init_24 ?_
  obtain ⟨rfl, rfl⟩ := gSome hf
  exact j_vret C hr hw dX13_init_27
def dkwX14_init_0 : List UInt8 := [42, 27, 183, 0, 1, 42, 44, 181, 0, 7, 42, 29, 181, 0, 13, 177]
abbrev dktX14_init_0 : List UInt8 := dkwX14_init_0 ++ []
theorem dksX14_init_0 : cX14_init.data.toList.drop 0 = dktX14_init_0 := by decide +kernel
theorem dX14_init_0 : decode cX14_init 0 = .ok (.aload_n 0, 1) := dk_42 (dk_at dksX14_init_0 0 rfl rfl)
theorem dX14_init_1 : decode cX14_init 1 = .ok (.iload_n 1, 1) := dk_27 (dk_at dksX14_init_0 1 rfl rfl)
theorem dX14_init_2 : decode cX14_init 2 = .ok (.invokespecial 1, 3) := dk_183 0 1 (dk_at dksX14_init_0 2 rfl rfl)
theorem dX14_init_5 : decode cX14_init 5 = .ok (.aload_n 0, 1) := dk_42 (dk_at dksX14_init_0 5 rfl rfl)
theorem dX14_init_6 : decode cX14_init 6 = .ok (.aload_n 2, 1) := dk_44 (dk_at dksX14_init_0 6 rfl rfl)
theorem dX14_init_7 : decode cX14_init 7 = .ok (.putfield 7, 3) := dk_181 0 7 (dk_at dksX14_init_0 7 rfl rfl)
theorem dX14_init_10 : decode cX14_init 10 = .ok (.aload_n 0, 1) := dk_42 (dk_at dksX14_init_0 10 rfl rfl)
theorem dX14_init_11 : decode cX14_init 11 = .ok (.iload_n 3, 1) := dk_29 (dk_at dksX14_init_0 11 rfl rfl)
theorem dX14_init_12 : decode cX14_init 12 = .ok (.putfield 13, 3) := dk_181 0 13 (dk_at dksX14_init_0 12 rfl rfl)
theorem dX14_init_15 : decode cX14_init 15 = .ok (.return_, 1) := dk_177 (dk_at dksX14_init_0 15 rfl rfl)
theorem fl_X14_7_14 : gFL RX14 7 14 1 := gFL.mk (Cn := RX14) (T := TX14) (N := 3) (ref := "WorkflowEngine$Parallel") rfl in_X14 (by decide) q569 rfl rfl (Or.inl rfl)
theorem ft_Ljava_util_ArrayList_ (r : Option Nat) : gFit "Ljava/util/ArrayList;" (ga r) := ⟨.object "java/util/ArrayList", by decide +kernel, by cases r <;> rfl, by cases r <;> rfl⟩
theorem fk_14_1 : gFk 14 1 "Ljava/util/ArrayList;" true "WorkflowEngine$Parallel" := fun Cn T N h => by
  have h : (RX14, TX14, 3) = (Cn, T, N) := Option.some.inj h
  cases h
  exact ⟨rfl, rfl, rfl⟩
theorem fl_X14_13_14 : gFL RX14 13 14 2 := gFL.mk (Cn := RX14) (T := TX14) (N := 3) (ref := "WorkflowEngine$Parallel") rfl in_X14 (by decide) q572 rfl rfl (Or.inl rfl)
theorem fk_14_2 : gFk 14 2 "I" true "WorkflowEngine$Parallel" := fun Cn T N h => by
  have h : (RX14, TX14, 3) = (Cn, T, N) := Option.some.inj h
  cases h
  exact ⟨rfl, rfl, rfl⟩
def f_X14_init (a0 : Nat) (p1 : Int32) (p2 : Option Nat) (p3 : Int32) (w0 : gw) : Option (Unit × gw) := gB2 (f_X8_init_c14 a0 p1 w0) fun _ w1 => gB1 (gPut w1 a0 14 1 (ga p2)) fun w2 => gB1 (gPut w2 a0 14 2 (gi p3)) fun w3 => some ((), w3)
set_option maxHeartbeats 4000000 in
set_option maxRecDepth 100000 in
theorem k_X14_init {D : va_G} {dA : Nat → ClassId} {A : Nat → Prop} {K : Nat → Nat} {l : Launch} {h : Nat} (hh : 2 ≤ h) {a0 : Nat} {p1 : Int32} {p2 : Option Nat} {p3 : Int32} {w0 ww : gw} {rr : Unit} (hf : f_X14_init a0 p1 p2 p3 w0 = some (rr, ww)) : gMet D dA A K l yX14_init (ws_ yX14_init cX14_init 4 none) h [(ga (some a0)), (gi p1), (ga p2), (gi p3)] none w0 ww := by
  refine j_start (own := RX14) (by decide +kernel) rfl (Nat.le_of_ble_eq_true rfl) ?_
  intro p e R s m args below meth c C hr hin hw
  unfold f_X14_init at hf
  show gJ D dA A K p l e R s m args below meth c (gEnd D dA A K below args s w0 none ww) 4 0 [(0, (ga (some a0))), (1, (gi p1)), (2, (ga p2)), (3, (gi p3))] [] w0
  refine j_aload_n C dX14_init_0 rfl ?_
  refine j_iload_n C dX14_init_1 rfl ?_
  replace hf := gB2_e hf
  obtain ⟨_, w1, ew1, hf⟩ := hf
  refine j_callI (As := [(gi p1)]) (rest := []) C (by omega) (k_X8_init_c14 (by omega) ew1) rfl q568 q359 q104 q360 hd_X8_init (by decide) rfl (Nat.le_of_ble_eq_true rfl) dX14_init_2 ?_
  refine j_aload_n C dX14_init_5 rfl ?_
  refine j_aload_n C dX14_init_6 rfl ?_
  replace hf := gB1_e hf
  obtain ⟨w2, ew2, hf⟩ := hf
  refine j_putF C fl_X14_7_14 tb_14 hin ew2 fk_14_1 rfl (ft_Ljava_util_ArrayList_ p2) dX14_init_7 ?_
  refine j_aload_n C dX14_init_10 rfl ?_
  refine j_iload_n C dX14_init_11 rfl ?_
  replace hf := gB1_e hf
  obtain ⟨w3, ew3, hf⟩ := hf
  refine j_putF C fl_X14_13_14 tb_14 hin ew3 fk_14_2 rfl (fit_I p3) dX14_init_12 ?_
  obtain ⟨rfl, rfl⟩ := gSome hf
  exact j_vret C hr hw dX14_init_15
def dkwX15_init_0 : List UInt8 := [42, 1, 43, 3, 3, 183, 0, 1, 177]
abbrev dktX15_init_0 : List UInt8 := dkwX15_init_0 ++ []
theorem dksX15_init_0 : cX15_init.data.toList.drop 0 = dktX15_init_0 := by decide +kernel
theorem dX15_init_0 : decode cX15_init 0 = .ok (.aload_n 0, 1) := dk_42 (dk_at dksX15_init_0 0 rfl rfl)
theorem dX15_init_1 : decode cX15_init 1 = .ok (.aconst_null, 1) := dk_1 (dk_at dksX15_init_0 1 rfl rfl)
theorem dX15_init_2 : decode cX15_init 2 = .ok (.aload_n 1, 1) := dk_43 (dk_at dksX15_init_0 2 rfl rfl)
theorem dX15_init_3 : decode cX15_init 3 = .ok (.iconst 0, 1) := dk_3 (dk_at dksX15_init_0 3 rfl rfl)
theorem dX15_init_4 : decode cX15_init 4 = .ok (.iconst 0, 1) := dk_3 (dk_at dksX15_init_0 4 rfl rfl)
theorem dX15_init_5 : decode cX15_init 5 = .ok (.invokespecial 1, 3) := dk_183 0 1 (dk_at dksX15_init_0 5 rfl rfl)
theorem dX15_init_8 : decode cX15_init 8 = .ok (.return_, 1) := dk_177 (dk_at dksX15_init_0 8 rfl rfl)
theorem hd_J4_init : (yJ4_init.cls ≠ "java/lang/invoke/MethodHandle" ∧ yJ4_init.cls ≠ "java/lang/invoke/VarHandle" ∧ (parseMethodDescriptor yJ4_init.desc).map (fun d => d.parameters.length) = some 4) := ⟨by decide +kernel, by decide +kernel, by decide +kernel⟩
def f_X15_init (a0 : Nat) (p1 : Option Nat) (w0 : gw) : Option (Unit × gw) := gB2 (f_J4_init_c15 a0 none p1 (nI 0) (nI 0) w0) fun _ w1 => some ((), w1)
set_option maxHeartbeats 4000000 in
set_option maxRecDepth 100000 in
theorem k_X15_init {D : va_G} {dA : Nat → ClassId} {A : Nat → Prop} {K : Nat → Nat} {l : Launch} {h : Nat} (hh : 3 ≤ h) {a0 : Nat} {p1 : Option Nat} {w0 ww : gw} {rr : Unit} (hf : f_X15_init a0 p1 w0 = some (rr, ww)) : gMet D dA A K l yX15_init (ws_ yX15_init cX15_init 2 none) h [(ga (some a0)), (ga p1)] none w0 ww := by
  refine j_start (own := RX15) (by decide +kernel) rfl (Nat.le_of_ble_eq_true rfl) ?_
  intro p e R s m args below meth c C hr hin hw
  unfold f_X15_init at hf
  show gJ D dA A K p l e R s m args below meth c (gEnd D dA A K below args s w0 none ww) 2 0 [(0, (ga (some a0))), (1, (ga p1))] [] w0
  refine j_aload_n C dX15_init_0 rfl ?_
  refine j_null C dX15_init_1 ?_
  refine j_aload_n C dX15_init_2 rfl ?_
  refine j_iconst (v := (nI 0)) C dX15_init_3 (by decide) ?_
  refine j_iconst (v := (nI 0)) C dX15_init_4 (by decide) ?_
  replace hf := gB2_e hf
  obtain ⟨_, w1, ew1, hf⟩ := hf
  refine j_callI (As := [(ga none), (ga p1), (gi (nI 0)), (gi (nI 0))]) (rest := []) C (by omega) (k_J4_init_c15 (by omega) ew1) rfl q591 q284 q101 q285 hd_J4_init (by decide) rfl (Nat.le_of_ble_eq_true rfl) dX15_init_5 ?_
  obtain ⟨rfl, rfl⟩ := gSome hf
  exact j_vret C hr hw dX15_init_8
def dkwX18_init_1 : List UInt8 := [181, 0, 24, 177]
abbrev dktX18_init_1 : List UInt8 := dkwX18_init_1 ++ []
def dkwX18_init_0 : List UInt8 := [42, 43, 181, 0, 3, 42, 43, 44, 183, 0, 9, 42, 187, 0, 15, 89, 183, 0, 17, 181, 0, 20, 42, 45]
abbrev dktX18_init_0 : List UInt8 := dkwX18_init_0 ++ dktX18_init_1
theorem dksX18_init_0 : cX18_init.data.toList.drop 0 = dktX18_init_0 := by decide +kernel
theorem dksX18_init_1 : cX18_init.data.toList.drop 24 = dktX18_init_1 := dk_seg dksX18_init_0 24 rfl rfl
theorem dX18_init_0 : decode cX18_init 0 = .ok (.aload_n 0, 1) := dk_42 (dk_at dksX18_init_0 0 rfl rfl)
theorem dX18_init_1 : decode cX18_init 1 = .ok (.aload_n 1, 1) := dk_43 (dk_at dksX18_init_0 1 rfl rfl)
theorem dX18_init_2 : decode cX18_init 2 = .ok (.putfield 3, 3) := dk_181 0 3 (dk_at dksX18_init_0 2 rfl rfl)
theorem dX18_init_5 : decode cX18_init 5 = .ok (.aload_n 0, 1) := dk_42 (dk_at dksX18_init_0 5 rfl rfl)
theorem dX18_init_6 : decode cX18_init 6 = .ok (.aload_n 1, 1) := dk_43 (dk_at dksX18_init_0 6 rfl rfl)
theorem dX18_init_7 : decode cX18_init 7 = .ok (.aload_n 2, 1) := dk_44 (dk_at dksX18_init_0 7 rfl rfl)
theorem dX18_init_8 : decode cX18_init 8 = .ok (.invokespecial 9, 3) := dk_183 0 9 (dk_at dksX18_init_0 8 rfl rfl)
theorem dX18_init_11 : decode cX18_init 11 = .ok (.aload_n 0, 1) := dk_42 (dk_at dksX18_init_0 11 rfl rfl)
theorem dX18_init_12 : decode cX18_init 12 = .ok (.new 15, 3) := dk_187 0 15 (dk_at dksX18_init_0 12 rfl rfl)
theorem dX18_init_15 : decode cX18_init 15 = .ok (.dup, 1) := dk_89 (dk_at dksX18_init_0 15 rfl rfl)
theorem dX18_init_16 : decode cX18_init 16 = .ok (.invokespecial 17, 3) := dk_183 0 17 (dk_at dksX18_init_0 16 rfl rfl)
theorem dX18_init_19 : decode cX18_init 19 = .ok (.putfield 20, 3) := dk_181 0 20 (dk_at dksX18_init_0 19 rfl rfl)
theorem dX18_init_22 : decode cX18_init 22 = .ok (.aload_n 0, 1) := dk_42 (dk_at dksX18_init_0 22 rfl rfl)
theorem dX18_init_23 : decode cX18_init 23 = .ok (.aload_n 3, 1) := dk_45 (dk_at dksX18_init_0 23 rfl rfl)
theorem dX18_init_24 : decode cX18_init 24 = .ok (.putfield 24, 3) := dk_181 0 24 (dk_at dksX18_init_1 0 rfl rfl)
theorem dX18_init_27 : decode cX18_init 27 = .ok (.return_, 1) := dk_177 (dk_at dksX18_init_1 3 rfl rfl)
theorem fl_X18_3_18 : gFL RX18 3 18 6 := gFL.mk (Cn := RX18) (T := TX18) (N := 7) (ref := "WorkflowEngine$BodyRun") rfl in_X18 (by decide) q903 rfl rfl (Or.inl rfl)
theorem fk_18_6 : gFk 18 6 "LWorkflowEngine;" true "WorkflowEngine$BodyRun" := fun Cn T N h => by
  have h : (RX18, TX18, 7) = (Cn, T, N) := Option.some.inj h
  cases h
  exact ⟨rfl, rfl, rfl⟩
theorem hd_X17_init : (yX17_init.cls ≠ "java/lang/invoke/MethodHandle" ∧ yX17_init.cls ≠ "java/lang/invoke/VarHandle" ∧ (parseMethodDescriptor yX17_init.desc).map (fun d => d.parameters.length) = some 2) := ⟨by decide +kernel, by decide +kernel, by decide +kernel⟩
theorem nl_X18_15 : gNL RX18 15 19 := ⟨RX19, TX19, 2, 2, tyX19, _, rfl, rfl, in_X19, tyX19_ok, q882, q883, q121, fun j hj => by rcases (show j = 0 ∨ j = 1 by omega) with rfl | rfl <;> rfl⟩
theorem fl_X18_20_18 : gFL RX18 20 18 5 := gFL.mk (Cn := RX18) (T := TX18) (N := 7) (ref := "WorkflowEngine$BodyRun") rfl in_X18 (by decide) q902 rfl rfl (Or.inl rfl)
theorem fk_18_5 : gFk 18 5 "LWorkflowEngine$Dones;" false "WorkflowEngine$BodyRun" := fun Cn T N h => by
  have h : (RX18, TX18, 7) = (Cn, T, N) := Option.some.inj h
  cases h
  exact ⟨rfl, rfl, rfl⟩
theorem fl_X18_24_18 : gFL RX18 24 18 2 := gFL.mk (Cn := RX18) (T := TX18) (N := 7) (ref := "WorkflowEngine$BodyRun") rfl in_X18 (by decide) q899 rfl rfl (Or.inl rfl)
theorem fk_18_2 : gFk 18 2 "LWorkflowEngine$Body;" true "WorkflowEngine$BodyRun" := fun Cn T N h => by
  have h : (RX18, TX18, 7) = (Cn, T, N) := Option.some.inj h
  cases h
  exact ⟨rfl, rfl, rfl⟩
def f_X18_init (a0 : Nat) (p1 : Option Nat) (p2 : Option Nat) (p3 : Option Nat) (w0 : gw) : Option (Unit × gw) := gB1 (gPut w0 a0 18 6 (ga p1)) fun w1 => gB2 (f_X17_init_c18 a0 p1 p2 w1) fun _ w2 => gB2 (gNew w2 19) fun a3 w4 => gB2 (f_X19_init a3  w4) fun _ w5 => gB1 (gPut w5 a0 18 5 (ga (some a3))) fun w6 => gB1 (gPut w6 a0 18 2 (ga p3)) fun w7 => some ((), w7)
set_option maxHeartbeats 4000000 in
set_option maxRecDepth 100000 in
theorem k_X18_init {D : va_G} {dA : Nat → ClassId} {A : Nat → Prop} {K : Nat → Nat} {l : Launch} {h : Nat} (hh : 2 ≤ h) {a0 : Nat} {p1 : Option Nat} {p2 : Option Nat} {p3 : Option Nat} {w0 ww : gw} {rr : Unit} (hf : f_X18_init a0 p1 p2 p3 w0 = some (rr, ww)) : gMet D dA A K l yX18_init (ws_ yX18_init cX18_init 4 none) h [(ga (some a0)), (ga p1), (ga p2), (ga p3)] none w0 ww := by
  refine j_start (own := RX18) (by decide +kernel) rfl (Nat.le_of_ble_eq_true rfl) ?_
  intro p e R s m args below meth c C hr hin hw
  unfold f_X18_init at hf
  show gJ D dA A K p l e R s m args below meth c (gEnd D dA A K below args s w0 none ww) 4 0 [(0, (ga (some a0))), (1, (ga p1)), (2, (ga p2)), (3, (ga p3))] [] w0
  refine j_aload_n C dX18_init_0 rfl ?_
  refine j_aload_n C dX18_init_1 rfl ?_
  replace hf := gB1_e hf
  obtain ⟨w1, ew1, hf⟩ := hf
  refine j_putF C fl_X18_3_18 tb_18 hin ew1 fk_18_6 rfl (ft_LWorkflowEngine_ p1) dX18_init_2 ?_
  refine j_aload_n C dX18_init_5 rfl ?_
  refine j_aload_n C dX18_init_6 rfl ?_
  refine j_aload_n C dX18_init_7 rfl ?_
  replace hf := gB2_e hf
  obtain ⟨_, w2, ew2, hf⟩ := hf
  refine j_callI (As := [(ga p1), (ga p2)]) (rest := []) C (by omega) (k_X17_init_c18 (by omega) ew2) rfl q878 q879 q119 q880 hd_X17_init (by decide) rfl (Nat.le_of_ble_eq_true rfl) dX18_init_8 ?_
  refine j_aload_n C dX18_init_11 rfl ?_
  replace hf := gB2_e hf
  obtain ⟨a3, w4, ew4, hf⟩ := hf
  refine j_new C nl_X18_15 ew4 dX18_init_12 ?_
  refine j_dup C dX18_init_15 ?_
  replace hf := gB2_e hf
  obtain ⟨_, w5, ew5, hf⟩ := hf
  refine j_callIN (As := []) (rest := [(ga (some a3)), (ga (some a0))]) C (by omega) (k_X19_init (by omega) ew5) rfl nq884 q885 q121 q886 hd_X19_init (by decide) rfl (Nat.le_of_ble_eq_true rfl) dX18_init_16 ?_
  replace hf := gB1_e hf
  obtain ⟨w6, ew6, hf⟩ := hf
  refine j_put C fl_X18_20_18 tb_18 ew6 fk_18_5 (ft_LWorkflowEngine_Dones_ (some a3)) dX18_init_19 ?_
  refine j_aload_n C dX18_init_22 rfl ?_
  refine j_aload_n C dX18_init_23 rfl ?_
  replace hf := gB1_e hf
  obtain ⟨w7, ew7, hf⟩ := hf
  refine j_putF C fl_X18_24_18 tb_18 hin ew7 fk_18_2 rfl (ft_LWorkflowEngine_Body_ p3) dX18_init_24 ?_
  obtain ⟨rfl, rfl⟩ := gSome hf
  exact j_vret C hr hw dX18_init_27
def dkwX20_init_0 : List UInt8 := [42, 43, 181, 0, 3, 42, 43, 44, 183, 0, 9, 42, 45, 181, 0, 15, 177]
abbrev dktX20_init_0 : List UInt8 := dkwX20_init_0 ++ []
theorem dksX20_init_0 : cX20_init.data.toList.drop 0 = dktX20_init_0 := by decide +kernel
theorem dX20_init_0 : decode cX20_init 0 = .ok (.aload_n 0, 1) := dk_42 (dk_at dksX20_init_0 0 rfl rfl)
theorem dX20_init_1 : decode cX20_init 1 = .ok (.aload_n 1, 1) := dk_43 (dk_at dksX20_init_0 1 rfl rfl)
theorem dX20_init_2 : decode cX20_init 2 = .ok (.putfield 3, 3) := dk_181 0 3 (dk_at dksX20_init_0 2 rfl rfl)
theorem dX20_init_5 : decode cX20_init 5 = .ok (.aload_n 0, 1) := dk_42 (dk_at dksX20_init_0 5 rfl rfl)
theorem dX20_init_6 : decode cX20_init 6 = .ok (.aload_n 1, 1) := dk_43 (dk_at dksX20_init_0 6 rfl rfl)
theorem dX20_init_7 : decode cX20_init 7 = .ok (.aload_n 2, 1) := dk_44 (dk_at dksX20_init_0 7 rfl rfl)
theorem dX20_init_8 : decode cX20_init 8 = .ok (.invokespecial 9, 3) := dk_183 0 9 (dk_at dksX20_init_0 8 rfl rfl)
theorem dX20_init_11 : decode cX20_init 11 = .ok (.aload_n 0, 1) := dk_42 (dk_at dksX20_init_0 11 rfl rfl)
theorem dX20_init_12 : decode cX20_init 12 = .ok (.aload_n 3, 1) := dk_45 (dk_at dksX20_init_0 12 rfl rfl)
theorem dX20_init_13 : decode cX20_init 13 = .ok (.putfield 15, 3) := dk_181 0 15 (dk_at dksX20_init_0 13 rfl rfl)
theorem dX20_init_16 : decode cX20_init 16 = .ok (.return_, 1) := dk_177 (dk_at dksX20_init_0 16 rfl rfl)
theorem fl_X20_3_20 : gFL RX20 3 20 3 := gFL.mk (Cn := RX20) (T := TX20) (N := 4) (ref := "WorkflowEngine$AssignRun") rfl in_X20 (by decide) q984 rfl rfl (Or.inl rfl)
theorem fk_20_3 : gFk 20 3 "LWorkflowEngine;" true "WorkflowEngine$AssignRun" := fun Cn T N h => by
  have h : (RX20, TX20, 4) = (Cn, T, N) := Option.some.inj h
  cases h
  exact ⟨rfl, rfl, rfl⟩
theorem ft_LWorkflowEngine_Assign_ (r : Option Nat) : gFit "LWorkflowEngine$Assign;" (ga r) := ⟨.object "WorkflowEngine$Assign", by decide +kernel, by cases r <;> rfl, by cases r <;> rfl⟩
theorem fk_20_2 : gFk 20 2 "LWorkflowEngine$Assign;" true "WorkflowEngine$AssignRun" := fun Cn T N h => by
  have h : (RX20, TX20, 4) = (Cn, T, N) := Option.some.inj h
  cases h
  exact ⟨rfl, rfl, rfl⟩
def f_X20_init (a0 : Nat) (p1 : Option Nat) (p2 : Option Nat) (p3 : Option Nat) (w0 : gw) : Option (Unit × gw) := gB1 (gPut w0 a0 20 3 (ga p1)) fun w1 => gB2 (f_X17_init_c20 a0 p1 p2 w1) fun _ w2 => gB1 (gPut w2 a0 20 2 (ga p3)) fun w3 => some ((), w3)
set_option maxHeartbeats 4000000 in
set_option maxRecDepth 100000 in
theorem k_X20_init {D : va_G} {dA : Nat → ClassId} {A : Nat → Prop} {K : Nat → Nat} {l : Launch} {h : Nat} (hh : 2 ≤ h) {a0 : Nat} {p1 : Option Nat} {p2 : Option Nat} {p3 : Option Nat} {w0 ww : gw} {rr : Unit} (hf : f_X20_init a0 p1 p2 p3 w0 = some (rr, ww)) : gMet D dA A K l yX20_init (ws_ yX20_init cX20_init 4 none) h [(ga (some a0)), (ga p1), (ga p2), (ga p3)] none w0 ww := by
  refine j_start (own := RX20) (by decide +kernel) rfl (Nat.le_of_ble_eq_true rfl) ?_
  intro p e R s m args below meth c C hr hin hw
  unfold f_X20_init at hf
  show gJ D dA A K p l e R s m args below meth c (gEnd D dA A K below args s w0 none ww) 4 0 [(0, (ga (some a0))), (1, (ga p1)), (2, (ga p2)), (3, (ga p3))] [] w0
  refine j_aload_n C dX20_init_0 rfl ?_
  refine j_aload_n C dX20_init_1 rfl ?_
  replace hf := gB1_e hf
  obtain ⟨w1, ew1, hf⟩ := hf
  refine j_putF C fl_X20_3_20 tb_20 hin ew1 fk_20_3 rfl (ft_LWorkflowEngine_ p1) dX20_init_2 ?_
  refine j_aload_n C dX20_init_5 rfl ?_
  refine j_aload_n C dX20_init_6 rfl ?_
  refine j_aload_n C dX20_init_7 rfl ?_
  replace hf := gB2_e hf
  obtain ⟨_, w2, ew2, hf⟩ := hf
  refine j_callI (As := [(ga p1), (ga p2)]) (rest := []) C (by omega) (k_X17_init_c20 (by omega) ew2) rfl q982 q879 q119 q880 hd_X17_init (by decide) rfl (Nat.le_of_ble_eq_true rfl) dX20_init_8 ?_
  refine j_aload_n C dX20_init_11 rfl ?_
  refine j_aload_n C dX20_init_12 rfl ?_
  replace hf := gB1_e hf
  obtain ⟨w3, ew3, hf⟩ := hf
  refine j_putF C fl_X20_15_20 tb_20 hin ew3 fk_20_2 rfl (ft_LWorkflowEngine_Assign_ p3) dX20_init_13 ?_
  obtain ⟨rfl, rfl⟩ := gSome hf
  exact j_vret C hr hw dX20_init_16
def dkwX20_copy_0 : List UInt8 := [187, 0, 4, 89, 42, 180, 0, 3, 43, 42, 180, 0, 15, 183, 0, 52, 176]
abbrev dktX20_copy_0 : List UInt8 := dkwX20_copy_0 ++ []
theorem dksX20_copy_0 : cX20_copy.data.toList.drop 0 = dktX20_copy_0 := by decide +kernel
theorem dX20_copy_0 : decode cX20_copy 0 = .ok (.new 4, 3) := dk_187 0 4 (dk_at dksX20_copy_0 0 rfl rfl)
theorem dX20_copy_3 : decode cX20_copy 3 = .ok (.dup, 1) := dk_89 (dk_at dksX20_copy_0 3 rfl rfl)
theorem dX20_copy_4 : decode cX20_copy 4 = .ok (.aload_n 0, 1) := dk_42 (dk_at dksX20_copy_0 4 rfl rfl)
theorem dX20_copy_5 : decode cX20_copy 5 = .ok (.getfield 3, 3) := dk_180 0 3 (dk_at dksX20_copy_0 5 rfl rfl)
theorem dX20_copy_8 : decode cX20_copy 8 = .ok (.aload_n 1, 1) := dk_43 (dk_at dksX20_copy_0 8 rfl rfl)
theorem dX20_copy_9 : decode cX20_copy 9 = .ok (.aload_n 0, 1) := dk_42 (dk_at dksX20_copy_0 9 rfl rfl)
theorem dX20_copy_10 : decode cX20_copy 10 = .ok (.getfield 15, 3) := dk_180 0 15 (dk_at dksX20_copy_0 10 rfl rfl)
theorem dX20_copy_13 : decode cX20_copy 13 = .ok (.invokespecial 52, 3) := dk_183 0 52 (dk_at dksX20_copy_0 13 rfl rfl)
theorem dX20_copy_16 : decode cX20_copy 16 = .ok (.areturn, 1) := dk_176 (dk_at dksX20_copy_0 16 rfl rfl)
theorem nl_X20_4 : gNL RX20 4 20 := ⟨RX20, TX20, 4, 4, tyX20, _, rfl, rfl, in_X20, tyX20_ok, q1451, q971, q124, fun j hj => by rcases (show j = 0 ∨ j = 1 ∨ j = 2 ∨ j = 3 by omega) with rfl | rfl | rfl | rfl <;> rfl⟩
theorem hd_X20_init : (yX20_init.cls ≠ "java/lang/invoke/MethodHandle" ∧ yX20_init.cls ≠ "java/lang/invoke/VarHandle" ∧ (parseMethodDescriptor yX20_init.desc).map (fun d => d.parameters.length) = some 3) := ⟨by decide +kernel, by decide +kernel, by decide +kernel⟩
def f_X20_copy (a0 : Nat) (p1 : Option Nat) (w0 : gw) : Option (Option Nat × gw) := gB2 (gNew w0 20) fun a1 w2 => gB1 (gR w2 a0 20 3) fun r3 => gB1 (gR w2 a0 20 2) fun r4 => gB2 (f_X20_init a1 r3 p1 r4 w2) fun _ w5 => some ((some a1), w5)
set_option maxHeartbeats 4000000 in
set_option maxRecDepth 100000 in
theorem k_X20_copy {D : va_G} {dA : Nat → ClassId} {A : Nat → Prop} {K : Nat → Nat} {l : Launch} {h : Nat} (hh : 3 ≤ h) {a0 : Nat} {p1 : Option Nat} {w0 ww : gw} {rr : Option Nat} (hf : f_X20_copy a0 p1 w0 = some (rr, ww)) : gMet D dA A K l yX20_copy (ws_ yX20_copy cX20_copy 2 (some (.object "WorkflowEngine$Run"))) h [(ga (some a0)), (ga p1)] (some (ga rr)) w0 ww := by
  refine j_start (own := RX20) (by decide +kernel) rfl (Nat.le_of_ble_eq_true rfl) ?_
  intro p e R s m args below meth c C hr hin hw
  unfold f_X20_copy at hf
  show gJ D dA A K p l e R s m args below meth c (gEnd D dA A K below args s w0 (some (ga rr)) ww) 2 0 [(0, (ga (some a0))), (1, (ga p1))] [] w0
  replace hf := gB2_e hf
  obtain ⟨a1, w2, ew2, hf⟩ := hf
  refine j_new C nl_X20_4 ew2 dX20_copy_0 ?_
  refine j_dup C dX20_copy_3 ?_
  refine j_aload_n C dX20_copy_4 rfl ?_
  replace hf := gB1_e hf
  obtain ⟨r3, er3, hf⟩ := hf
  refine j_get C fl_X20_3_20 dX20_copy_5 (gR_F er3) ?_
  refine j_aload_n C dX20_copy_8 rfl ?_
  refine j_aload_n C dX20_copy_9 rfl ?_
  replace hf := gB1_e hf
  obtain ⟨r4, er4, hf⟩ := hf
  refine j_get C fl_X20_15_20 dX20_copy_10 (gR_F er4) ?_
  replace hf := gB2_e hf
  obtain ⟨_, w5, ew5, hf⟩ := hf
  refine j_callI (As := [(ga r3), (ga p1), (ga r4)]) (rest := [(ga (some a1))]) C (by omega) (k_X20_init (by omega) ew5) rfl q1452 q980 q124 q981 hd_X20_init (by decide) rfl (Nat.le_of_ble_eq_true rfl) dX20_copy_13 ?_
  obtain ⟨rfl, rfl⟩ := gSome hf
  exact j_aret C hr (Or.inl ⟨_, rfl⟩) hw dX20_copy_16
def dkwX21_init_1 : List UInt8 := [18, 25, 167, 0, 15, 44, 180, 0, 26, 180, 0, 32, 45, 180, 0, 19, 96, 181, 0, 37, 177]
abbrev dktX21_init_1 : List UInt8 := dkwX21_init_1 ++ []
def dkwX21_init_0 : List UInt8 := [42, 43, 181, 0, 3, 42, 43, 44, 183, 0, 9, 42, 45, 181, 0, 15, 42, 45, 180, 0, 19, 156, 0, 8]
abbrev dktX21_init_0 : List UInt8 := dkwX21_init_0 ++ dktX21_init_1
theorem dksX21_init_0 : cX21_init.data.toList.drop 0 = dktX21_init_0 := by decide +kernel
theorem dksX21_init_1 : cX21_init.data.toList.drop 24 = dktX21_init_1 := dk_seg dksX21_init_0 24 rfl rfl
theorem dX21_init_0 : decode cX21_init 0 = .ok (.aload_n 0, 1) := dk_42 (dk_at dksX21_init_0 0 rfl rfl)
theorem dX21_init_1 : decode cX21_init 1 = .ok (.aload_n 1, 1) := dk_43 (dk_at dksX21_init_0 1 rfl rfl)
theorem dX21_init_2 : decode cX21_init 2 = .ok (.putfield 3, 3) := dk_181 0 3 (dk_at dksX21_init_0 2 rfl rfl)
theorem dX21_init_5 : decode cX21_init 5 = .ok (.aload_n 0, 1) := dk_42 (dk_at dksX21_init_0 5 rfl rfl)
theorem dX21_init_6 : decode cX21_init 6 = .ok (.aload_n 1, 1) := dk_43 (dk_at dksX21_init_0 6 rfl rfl)
theorem dX21_init_7 : decode cX21_init 7 = .ok (.aload_n 2, 1) := dk_44 (dk_at dksX21_init_0 7 rfl rfl)
theorem dX21_init_8 : decode cX21_init 8 = .ok (.invokespecial 9, 3) := dk_183 0 9 (dk_at dksX21_init_0 8 rfl rfl)
theorem dX21_init_11 : decode cX21_init 11 = .ok (.aload_n 0, 1) := dk_42 (dk_at dksX21_init_0 11 rfl rfl)
theorem dX21_init_12 : decode cX21_init 12 = .ok (.aload_n 3, 1) := dk_45 (dk_at dksX21_init_0 12 rfl rfl)
theorem dX21_init_13 : decode cX21_init 13 = .ok (.putfield 15, 3) := dk_181 0 15 (dk_at dksX21_init_0 13 rfl rfl)
theorem dX21_init_16 : decode cX21_init 16 = .ok (.aload_n 0, 1) := dk_42 (dk_at dksX21_init_0 16 rfl rfl)
theorem dX21_init_17 : decode cX21_init 17 = .ok (.aload_n 3, 1) := dk_45 (dk_at dksX21_init_0 17 rfl rfl)
theorem dX21_init_18 : decode cX21_init 18 = .ok (.getfield 19, 3) := dk_180 0 19 (dk_at dksX21_init_0 18 rfl rfl)
theorem dX21_init_21 : decode cX21_init 21 = .ok (.ifCond .ge 8, 3) := dk_156 0 8 (dk_at dksX21_init_0 21 rfl rfl)
theorem dX21_init_24 : decode cX21_init 24 = .ok (.ldc 25, 2) := dk_18 25 (dk_at dksX21_init_1 0 rfl rfl)
theorem dX21_init_26 : decode cX21_init 26 = .ok (.goto 15, 3) := dk_167 0 15 (dk_at dksX21_init_1 2 rfl rfl)
theorem dX21_init_29 : decode cX21_init 29 = .ok (.aload_n 2, 1) := dk_44 (dk_at dksX21_init_1 5 rfl rfl)
theorem dX21_init_30 : decode cX21_init 30 = .ok (.getfield 26, 3) := dk_180 0 26 (dk_at dksX21_init_1 6 rfl rfl)
theorem dX21_init_33 : decode cX21_init 33 = .ok (.getfield 32, 3) := dk_180 0 32 (dk_at dksX21_init_1 9 rfl rfl)
theorem dX21_init_36 : decode cX21_init 36 = .ok (.aload_n 3, 1) := dk_45 (dk_at dksX21_init_1 12 rfl rfl)
theorem dX21_init_37 : decode cX21_init 37 = .ok (.getfield 19, 3) := dk_180 0 19 (dk_at dksX21_init_1 13 rfl rfl)
theorem dX21_init_40 : decode cX21_init 40 = .ok (.iadd, 1) := dk_96 (dk_at dksX21_init_1 16 rfl rfl)
theorem dX21_init_41 : decode cX21_init 41 = .ok (.putfield 37, 3) := dk_181 0 37 (dk_at dksX21_init_1 17 rfl rfl)
theorem dX21_init_44 : decode cX21_init 44 = .ok (.return_, 1) := dk_177 (dk_at dksX21_init_1 20 rfl rfl)
theorem fl_X21_3_21 : gFL RX21 3 21 4 := gFL.mk (Cn := RX21) (T := TX21) (N := 5) (ref := "WorkflowEngine$AwaitRun") rfl in_X21 (by decide) q1006 rfl rfl (Or.inl rfl)
theorem fk_21_4 : gFk 21 4 "LWorkflowEngine;" true "WorkflowEngine$AwaitRun" := fun Cn T N h => by
  have h : (RX21, TX21, 5) = (Cn, T, N) := Option.some.inj h
  cases h
  exact ⟨rfl, rfl, rfl⟩
theorem ft_LWorkflowEngine_Await_ (r : Option Nat) : gFit "LWorkflowEngine$Await;" (ga r) := ⟨.object "WorkflowEngine$Await", by decide +kernel, by cases r <;> rfl, by cases r <;> rfl⟩
theorem fk_21_2 : gFk 21 2 "LWorkflowEngine$Await;" true "WorkflowEngine$AwaitRun" := fun Cn T N h => by
  have h : (RX21, TX21, 5) = (Cn, T, N) := Option.some.inj h
  cases h
  exact ⟨rfl, rfl, rfl⟩
theorem fl_X21_19_11 : gFL RX21 19 11 2 := gFL.mkN (Cn := RX11) (T := TX11) (N := 3) (ref := "WorkflowEngine$Await") rfl in_X11 (by decide) nq410 rfl rfl (Or.inl rfl)
theorem fk_21_3 : gFk 21 3 "I" false "WorkflowEngine$AwaitRun" := fun Cn T N h => by
  have h : (RX21, TX21, 5) = (Cn, T, N) := Option.some.inj h
  cases h
  exact ⟨rfl, rfl, rfl⟩
def f_X21_init (a0 : Nat) (p1 : Option Nat) (p2 : Option Nat) (p3 : Option Nat) (w0 : gw) : Option (Unit × gw) := gB1 (gPut w0 a0 21 4 (ga p1)) fun w1 => gB2 (f_X17_init_c21 a0 p1 p2 w1) fun _ w2 => gB1 (gPut w2 a0 21 2 (ga p3)) fun w3 => gB1 p3 fun a4 => gB1 (gI w3 a4 11 2) fun x5 => gBd (fun (r8 : Option Nat) (x9 : Int32) (w7 : gw) => gB1 r8 fun a10 => gB1 (gPut w7 a10 21 3 (gi x9)) fun w11 => some ((), w11)) fun k6 => if 0 ≤ x5 then gB1 p2 fun a13 => gB1 (gR w3 a13 16 0) fun r14 => gB1 r14 fun a15 => gB1 (gI w3 a15 1 3) fun x16 => gB1 (gI w3 a4 11 2) fun x17 => k6 (some a0) (x16 + x17) w3 else k6 (some a0) (nI 2147483647) w3
set_option maxHeartbeats 4000000 in
set_option maxRecDepth 100000 in
theorem k_X21_init {D : va_G} {dA : Nat → ClassId} {A : Nat → Prop} {K : Nat → Nat} {l : Launch} {h : Nat} (hh : 2 ≤ h) {a0 : Nat} {p1 : Option Nat} {p2 : Option Nat} {p3 : Option Nat} {w0 ww : gw} {rr : Unit} (hf : f_X21_init a0 p1 p2 p3 w0 = some (rr, ww)) : gMet D dA A K l yX21_init (ws_ yX21_init cX21_init 4 none) h [(ga (some a0)), (ga p1), (ga p2), (ga p3)] none w0 ww := by
  refine j_start (own := RX21) (by decide +kernel) rfl (Nat.le_of_ble_eq_true rfl) ?_
  intro p e R s m args below meth c C hr hin hw
  unfold f_X21_init at hf
  show gJ D dA A K p l e R s m args below meth c (gEnd D dA A K below args s w0 none ww) 4 0 [(0, (ga (some a0))), (1, (ga p1)), (2, (ga p2)), (3, (ga p3))] [] w0
  refine j_aload_n C dX21_init_0 rfl ?_
  refine j_aload_n C dX21_init_1 rfl ?_
  replace hf := gB1_e hf
  obtain ⟨w1, ew1, hf⟩ := hf
  refine j_putF C fl_X21_3_21 tb_21 hin ew1 fk_21_4 rfl (ft_LWorkflowEngine_ p1) dX21_init_2 ?_
  refine j_aload_n C dX21_init_5 rfl ?_
  refine j_aload_n C dX21_init_6 rfl ?_
  refine j_aload_n C dX21_init_7 rfl ?_
  replace hf := gB2_e hf
  obtain ⟨_, w2, ew2, hf⟩ := hf
  refine j_callI (As := [(ga p1), (ga p2)]) (rest := []) C (by omega) (k_X17_init_c21 (by omega) ew2) rfl q1002 q879 q119 q880 hd_X17_init (by decide) rfl (Nat.le_of_ble_eq_true rfl) dX21_init_8 ?_
  refine j_aload_n C dX21_init_11 rfl ?_
  refine j_aload_n C dX21_init_12 rfl ?_
  replace hf := gB1_e hf
  obtain ⟨w3, ew3, hf⟩ := hf
  refine j_putF C fl_X21_15_21 tb_21 hin ew3 fk_21_2 rfl (ft_LWorkflowEngine_Await_ p3) dX21_init_13 ?_
  refine j_aload_n C dX21_init_16 rfl ?_
  refine j_aload_n C dX21_init_17 rfl ?_
  replace hf := gB1_e hf
  obtain ⟨a4, ea4, hf⟩ := hf
  subst ea4
  replace hf := gB1_e hf
  obtain ⟨x5, ex5, hf⟩ := hf
  refine j_get C fl_X21_19_11 dX21_init_18 (gI_F ex5) ?_
  replace hf := gBd_x hf
  obtain ⟨k6, ek6, hf⟩ := hf
  have jk6 : ∀ (r8 : Option Nat) (x9 : Int32) (w7 : gw), k6 r8 x9 w7 = some (rr, ww) → gJ D dA A K p l e R s m args below meth c (gEnd D dA A K below args s w0 none ww) 4 41 [] [(gi x9), (ga r8)] w7 := by
    intro r8 x9 w7 hf
    rw [ek6] at hf
    dsimp only at hf
    replace hf := gB1_e hf
    obtain ⟨a10, ea10, hf⟩ := hf
    subst ea10
    replace hf := gB1_e hf
    obtain ⟨w11, ew11, hf⟩ := hf
    refine j_put C fl_X21_37_21 tb_21 ew11 fk_21_3 (fit_I x9) dX21_init_41 ?_
    obtain ⟨rfl, rfl⟩ := gSome hf
    exact j_vret C hr hw dX21_init_44
  clear ek6
  refine j_if_ge (tgt := 29) C dX21_init_21 (by decide) (fun c12 => ?_) (fun c12 => ?_)
  · replace hf := gIf_t hf c12
    refine j_aload_n C dX21_init_29 rfl ?_
    replace hf := gB1_e hf
    obtain ⟨a13, ea13, hf⟩ := hf
    subst ea13
    replace hf := gB1_e hf
    obtain ⟨r14, er14, hf⟩ := hf
    refine j_get C fl_X21_26_16 dX21_init_30 (gR_F er14) ?_
    replace hf := gB1_e hf
    obtain ⟨a15, ea15, hf⟩ := hf
    subst ea15
    replace hf := gB1_e hf
    obtain ⟨x16, ex16, hf⟩ := hf
    refine j_get C fl_X21_32_1 dX21_init_33 (gI_F ex16) ?_
    refine j_aload_n C dX21_init_36 rfl ?_
    replace hf := gB1_e hf
    obtain ⟨x17, ex17, hf⟩ := hf
    refine j_get C fl_X21_19_11 dX21_init_37 (gI_F ex17) ?_
    refine j_iadd C dX21_init_40 ?_
    refine j_sub (lv' := []) (gL_nil) ?_
    exact jk6 _ _ _ hf
  · replace hf := gIf_f hf c12
    refine j_ldc (v := (nI 2147483647)) C q1003 dX21_init_24 ?_
    refine j_goto (tgt := 41) C dX21_init_26 (by decide) ?_
    refine j_sub (lv' := []) (gL_nil) ?_
    exact jk6 _ _ _ hf
def dkwX21_lists_0 : List UInt8 := [43, 42, 180, 0, 15, 180, 0, 70, 182, 0, 73, 177]
abbrev dktX21_lists_0 : List UInt8 := dkwX21_lists_0 ++ []
theorem dksX21_lists_0 : cX21_lists.data.toList.drop 0 = dktX21_lists_0 := by decide +kernel
theorem dX21_lists_0 : decode cX21_lists 0 = .ok (.aload_n 1, 1) := dk_43 (dk_at dksX21_lists_0 0 rfl rfl)
theorem dX21_lists_1 : decode cX21_lists 1 = .ok (.aload_n 0, 1) := dk_42 (dk_at dksX21_lists_0 1 rfl rfl)
theorem dX21_lists_2 : decode cX21_lists 2 = .ok (.getfield 15, 3) := dk_180 0 15 (dk_at dksX21_lists_0 2 rfl rfl)
theorem dX21_lists_5 : decode cX21_lists 5 = .ok (.getfield 70, 3) := dk_180 0 70 (dk_at dksX21_lists_0 5 rfl rfl)
theorem dX21_lists_8 : decode cX21_lists 8 = .ok (.invokevirtual 73, 3) := dk_182 0 73 (dk_at dksX21_lists_0 8 rfl rfl)
theorem dX21_lists_11 : decode cX21_lists 11 = .ok (.return_, 1) := dk_177 (dk_at dksX21_lists_0 11 rfl rfl)
theorem fl_X21_70_11 : gFL RX21 70 11 0 := gFL.mk (Cn := RX11) (T := TX11) (N := 3) (ref := "WorkflowEngine$Await") rfl in_X11 (by decide) q372 rfl rfl (Or.inr q373)
theorem hd_X27_adds : (yX27_adds.cls ≠ "java/lang/invoke/MethodHandle" ∧ yX27_adds.cls ≠ "java/lang/invoke/VarHandle" ∧ (parseMethodDescriptor yX27_adds.desc).map (fun d => d.parameters.length) = some 1) := ⟨by decide +kernel, by decide +kernel, by decide +kernel⟩
def f_X21_lists (a0 : Nat) (p1 : Option Nat) (w0 : gw) : Option (Unit × gw) := gB1 (gR w0 a0 21 2) fun r1 => gB1 r1 fun a2 => gB1 (gI w0 a2 11 0) fun x3 => gB1 p1 fun a4 => gB1 (gOb w0 a4 27) fun _ => gB2 (f_X27_adds a4 x3 w0) fun _ w5 => some ((), w5)
set_option maxHeartbeats 4000000 in
set_option maxRecDepth 100000 in
theorem k_X21_lists {D : va_G} {dA : Nat → ClassId} {A : Nat → Prop} {K : Nat → Nat} {l : Launch} {h : Nat} (hh : 1 ≤ h) {a0 : Nat} {p1 : Option Nat} {w0 ww : gw} {rr : Unit} (hf : f_X21_lists a0 p1 w0 = some (rr, ww)) : gMet D dA A K l yX21_lists (ws_ yX21_lists cX21_lists 2 none) h [(ga (some a0)), (ga p1)] none w0 ww := by
  refine j_start (own := RX21) (by decide +kernel) rfl (Nat.le_of_ble_eq_true rfl) ?_
  intro p e R s m args below meth c C hr hin hw
  unfold f_X21_lists at hf
  show gJ D dA A K p l e R s m args below meth c (gEnd D dA A K below args s w0 none ww) 2 0 [(0, (ga (some a0))), (1, (ga p1))] [] w0
  refine j_aload_n C dX21_lists_0 rfl ?_
  refine j_aload_n C dX21_lists_1 rfl ?_
  replace hf := gB1_e hf
  obtain ⟨r1, er1, hf⟩ := hf
  refine j_get C fl_X21_15_21 dX21_lists_2 (gR_F er1) ?_
  replace hf := gB1_e hf
  obtain ⟨a2, ea2, hf⟩ := hf
  subst ea2
  replace hf := gB1_e hf
  obtain ⟨x3, ex3, hf⟩ := hf
  refine j_get C fl_X21_70_11 dX21_lists_5 (gI_F ex3) ?_
  replace hf := gB1_e hf
  obtain ⟨a4, ea4, hf⟩ := hf
  subst ea4
  replace hf := gB1_e hf
  obtain ⟨_, eo, hf⟩ := hf
  replace hf := gB2_e hf
  obtain ⟨_, w5, ew5, hf⟩ := hf
  refine j_callV (As := [(gi x3)]) (rest := []) (v := none) C (by omega) (k_X27_adds (by omega) ew5) (gOb_e eo) rfl q1364 q1365 q1366 q131 q1367 ⟨rfl, hd_X27_adds⟩ (by decide) rfl (Nat.le_of_ble_eq_true rfl) dX21_lists_8 ?_
  obtain ⟨rfl, rfl⟩ := gSome hf
  exact j_vret C hr hw dX21_lists_11
def dkwX21_copy_1 : List UInt8 := [181, 0, 37, 44, 176]
abbrev dktX21_copy_1 : List UInt8 := dkwX21_copy_1 ++ []
def dkwX21_copy_0 : List UInt8 := [187, 0, 4, 89, 42, 180, 0, 3, 43, 42, 180, 0, 15, 183, 0, 67, 77, 44, 42, 180, 0, 37]
abbrev dktX21_copy_0 : List UInt8 := dkwX21_copy_0 ++ dktX21_copy_1
theorem dksX21_copy_0 : cX21_copy.data.toList.drop 0 = dktX21_copy_0 := by decide +kernel
theorem dksX21_copy_1 : cX21_copy.data.toList.drop 22 = dktX21_copy_1 := dk_seg dksX21_copy_0 22 rfl rfl
theorem dX21_copy_0 : decode cX21_copy 0 = .ok (.new 4, 3) := dk_187 0 4 (dk_at dksX21_copy_0 0 rfl rfl)
theorem dX21_copy_3 : decode cX21_copy 3 = .ok (.dup, 1) := dk_89 (dk_at dksX21_copy_0 3 rfl rfl)
theorem dX21_copy_4 : decode cX21_copy 4 = .ok (.aload_n 0, 1) := dk_42 (dk_at dksX21_copy_0 4 rfl rfl)
theorem dX21_copy_5 : decode cX21_copy 5 = .ok (.getfield 3, 3) := dk_180 0 3 (dk_at dksX21_copy_0 5 rfl rfl)
theorem dX21_copy_8 : decode cX21_copy 8 = .ok (.aload_n 1, 1) := dk_43 (dk_at dksX21_copy_0 8 rfl rfl)
theorem dX21_copy_9 : decode cX21_copy 9 = .ok (.aload_n 0, 1) := dk_42 (dk_at dksX21_copy_0 9 rfl rfl)
theorem dX21_copy_10 : decode cX21_copy 10 = .ok (.getfield 15, 3) := dk_180 0 15 (dk_at dksX21_copy_0 10 rfl rfl)
theorem dX21_copy_13 : decode cX21_copy 13 = .ok (.invokespecial 67, 3) := dk_183 0 67 (dk_at dksX21_copy_0 13 rfl rfl)
theorem dX21_copy_16 : decode cX21_copy 16 = .ok (.astore_n 2, 1) := dk_77 (dk_at dksX21_copy_0 16 rfl rfl)
theorem dX21_copy_17 : decode cX21_copy 17 = .ok (.aload_n 2, 1) := dk_44 (dk_at dksX21_copy_0 17 rfl rfl)
theorem dX21_copy_18 : decode cX21_copy 18 = .ok (.aload_n 0, 1) := dk_42 (dk_at dksX21_copy_0 18 rfl rfl)
theorem dX21_copy_19 : decode cX21_copy 19 = .ok (.getfield 37, 3) := dk_180 0 37 (dk_at dksX21_copy_0 19 rfl rfl)
theorem dX21_copy_22 : decode cX21_copy 22 = .ok (.putfield 37, 3) := dk_181 0 37 (dk_at dksX21_copy_1 0 rfl rfl)
theorem dX21_copy_25 : decode cX21_copy 25 = .ok (.aload_n 2, 1) := dk_44 (dk_at dksX21_copy_1 3 rfl rfl)
theorem dX21_copy_26 : decode cX21_copy 26 = .ok (.areturn, 1) := dk_176 (dk_at dksX21_copy_1 4 rfl rfl)
theorem nl_X21_4 : gNL RX21 4 21 := ⟨RX21, TX21, 5, 5, tyX21, _, rfl, rfl, in_X21, tyX21_ok, q1456, q996, q125, fun j hj => by rcases (show j = 0 ∨ j = 1 ∨ j = 2 ∨ j = 3 ∨ j = 4 by omega) with rfl | rfl | rfl | rfl | rfl <;> rfl⟩
theorem hd_X21_init : (yX21_init.cls ≠ "java/lang/invoke/MethodHandle" ∧ yX21_init.cls ≠ "java/lang/invoke/VarHandle" ∧ (parseMethodDescriptor yX21_init.desc).map (fun d => d.parameters.length) = some 3) := ⟨by decide +kernel, by decide +kernel, by decide +kernel⟩
def f_X21_copy (a0 : Nat) (p1 : Option Nat) (w0 : gw) : Option (Option Nat × gw) := gB2 (gNew w0 21) fun a1 w2 => gB1 (gR w2 a0 21 4) fun r3 => gB1 (gR w2 a0 21 2) fun r4 => gB2 (f_X21_init a1 r3 p1 r4 w2) fun _ w5 => gB1 (gI w5 a0 21 3) fun x6 => gB1 (gPut w5 a1 21 3 (gi x6)) fun w7 => some ((some a1), w7)
set_option maxHeartbeats 4000000 in
set_option maxRecDepth 100000 in
theorem k_X21_copy {D : va_G} {dA : Nat → ClassId} {A : Nat → Prop} {K : Nat → Nat} {l : Launch} {h : Nat} (hh : 3 ≤ h) {a0 : Nat} {p1 : Option Nat} {w0 ww : gw} {rr : Option Nat} (hf : f_X21_copy a0 p1 w0 = some (rr, ww)) : gMet D dA A K l yX21_copy (ws_ yX21_copy cX21_copy 3 (some (.object "WorkflowEngine$Run"))) h [(ga (some a0)), (ga p1)] (some (ga rr)) w0 ww := by
  refine j_start (own := RX21) (by decide +kernel) rfl (Nat.le_of_ble_eq_true rfl) ?_
  intro p e R s m args below meth c C hr hin hw
  unfold f_X21_copy at hf
  show gJ D dA A K p l e R s m args below meth c (gEnd D dA A K below args s w0 (some (ga rr)) ww) 3 0 [(0, (ga (some a0))), (1, (ga p1))] [] w0
  replace hf := gB2_e hf
  obtain ⟨a1, w2, ew2, hf⟩ := hf
  refine j_new C nl_X21_4 ew2 dX21_copy_0 ?_
  refine j_dup C dX21_copy_3 ?_
  refine j_aload_n C dX21_copy_4 rfl ?_
  replace hf := gB1_e hf
  obtain ⟨r3, er3, hf⟩ := hf
  refine j_get C fl_X21_3_21 dX21_copy_5 (gR_F er3) ?_
  refine j_aload_n C dX21_copy_8 rfl ?_
  refine j_aload_n C dX21_copy_9 rfl ?_
  replace hf := gB1_e hf
  obtain ⟨r4, er4, hf⟩ := hf
  refine j_get C fl_X21_15_21 dX21_copy_10 (gR_F er4) ?_
  replace hf := gB2_e hf
  obtain ⟨_, w5, ew5, hf⟩ := hf
  refine j_callI (As := [(ga r3), (ga p1), (ga r4)]) (rest := [(ga (some a1))]) C (by omega) (k_X21_init (by omega) ew5) rfl q1457 q1000 q125 q1001 hd_X21_init (by decide) rfl (Nat.le_of_ble_eq_true rfl) dX21_copy_13 ?_
  refine j_astore_n (lv' := [(2, (ga (some a1))), (0, (ga (some a0))), (1, (ga p1))]) C dX21_copy_16 (by decide) rfl ?_
  refine j_aload_n C dX21_copy_17 rfl ?_
  refine j_aload_n C dX21_copy_18 rfl ?_
  replace hf := gB1_e hf
  obtain ⟨x6, ex6, hf⟩ := hf
  refine j_get C fl_X21_37_21 dX21_copy_19 (gI_F ex6) ?_
  replace hf := gB1_e hf
  obtain ⟨w7, ew7, hf⟩ := hf
  refine j_put C fl_X21_37_21 tb_21 ew7 fk_21_3 (fit_I x6) dX21_copy_22 ?_
  refine j_aload_n C dX21_copy_25 rfl ?_
  obtain ⟨rfl, rfl⟩ := gSome hf
  exact j_aret C hr (Or.inl ⟨_, rfl⟩) hw dX21_copy_26
def dkwX22_init_1 : List UInt8 := [189, 0, 10, 181, 0, 31, 42, 42, 180, 0, 31, 190, 189, 0, 34, 181, 0, 36, 177]
abbrev dktX22_init_1 : List UInt8 := dkwX22_init_1 ++ []
def dkwX22_init_0 : List UInt8 := [42, 43, 181, 0, 3, 42, 43, 44, 183, 0, 9, 42, 45, 181, 0, 15, 42, 45, 180, 0, 19, 182, 0, 25]
abbrev dktX22_init_0 : List UInt8 := dkwX22_init_0 ++ dktX22_init_1
theorem dksX22_init_0 : cX22_init.data.toList.drop 0 = dktX22_init_0 := by decide +kernel
theorem dksX22_init_1 : cX22_init.data.toList.drop 24 = dktX22_init_1 := dk_seg dksX22_init_0 24 rfl rfl
theorem dX22_init_0 : decode cX22_init 0 = .ok (.aload_n 0, 1) := dk_42 (dk_at dksX22_init_0 0 rfl rfl)
theorem dX22_init_1 : decode cX22_init 1 = .ok (.aload_n 1, 1) := dk_43 (dk_at dksX22_init_0 1 rfl rfl)
theorem dX22_init_2 : decode cX22_init 2 = .ok (.putfield 3, 3) := dk_181 0 3 (dk_at dksX22_init_0 2 rfl rfl)
theorem dX22_init_5 : decode cX22_init 5 = .ok (.aload_n 0, 1) := dk_42 (dk_at dksX22_init_0 5 rfl rfl)
theorem dX22_init_6 : decode cX22_init 6 = .ok (.aload_n 1, 1) := dk_43 (dk_at dksX22_init_0 6 rfl rfl)
theorem dX22_init_7 : decode cX22_init 7 = .ok (.aload_n 2, 1) := dk_44 (dk_at dksX22_init_0 7 rfl rfl)
theorem dX22_init_8 : decode cX22_init 8 = .ok (.invokespecial 9, 3) := dk_183 0 9 (dk_at dksX22_init_0 8 rfl rfl)
theorem dX22_init_11 : decode cX22_init 11 = .ok (.aload_n 0, 1) := dk_42 (dk_at dksX22_init_0 11 rfl rfl)
theorem dX22_init_12 : decode cX22_init 12 = .ok (.aload_n 3, 1) := dk_45 (dk_at dksX22_init_0 12 rfl rfl)
theorem dX22_init_13 : decode cX22_init 13 = .ok (.putfield 15, 3) := dk_181 0 15 (dk_at dksX22_init_0 13 rfl rfl)
theorem dX22_init_16 : decode cX22_init 16 = .ok (.aload_n 0, 1) := dk_42 (dk_at dksX22_init_0 16 rfl rfl)
theorem dX22_init_17 : decode cX22_init 17 = .ok (.aload_n 3, 1) := dk_45 (dk_at dksX22_init_0 17 rfl rfl)
theorem dX22_init_18 : decode cX22_init 18 = .ok (.getfield 19, 3) := dk_180 0 19 (dk_at dksX22_init_0 18 rfl rfl)
theorem dX22_init_21 : decode cX22_init 21 = .ok (.invokevirtual 25, 3) := dk_182 0 25 (dk_at dksX22_init_0 21 rfl rfl)
theorem dX22_init_24 : decode cX22_init 24 = .ok (.anewarray 10, 3) := dk_189 0 10 (dk_at dksX22_init_1 0 rfl rfl)
theorem dX22_init_27 : decode cX22_init 27 = .ok (.putfield 31, 3) := dk_181 0 31 (dk_at dksX22_init_1 3 rfl rfl)
theorem dX22_init_30 : decode cX22_init 30 = .ok (.aload_n 0, 1) := dk_42 (dk_at dksX22_init_1 6 rfl rfl)
theorem dX22_init_31 : decode cX22_init 31 = .ok (.aload_n 0, 1) := dk_42 (dk_at dksX22_init_1 7 rfl rfl)
theorem dX22_init_32 : decode cX22_init 32 = .ok (.getfield 31, 3) := dk_180 0 31 (dk_at dksX22_init_1 8 rfl rfl)
theorem dX22_init_35 : decode cX22_init 35 = .ok (.arraylength, 1) := dk_190 (dk_at dksX22_init_1 11 rfl rfl)
theorem dX22_init_36 : decode cX22_init 36 = .ok (.anewarray 34, 3) := dk_189 0 34 (dk_at dksX22_init_1 12 rfl rfl)
theorem dX22_init_39 : decode cX22_init 39 = .ok (.putfield 36, 3) := dk_181 0 36 (dk_at dksX22_init_1 15 rfl rfl)
theorem dX22_init_42 : decode cX22_init 42 = .ok (.return_, 1) := dk_177 (dk_at dksX22_init_1 18 rfl rfl)
theorem fl_X22_3_22 : gFL RX22 3 22 6 := gFL.mk (Cn := RX22) (T := TX22) (N := 7) (ref := "WorkflowEngine$ParallelRun") rfl in_X22 (by decide) q1043 rfl rfl (Or.inl rfl)
theorem fk_22_6 : gFk 22 6 "LWorkflowEngine;" true "WorkflowEngine$ParallelRun" := fun Cn T N h => by
  have h : (RX22, TX22, 7) = (Cn, T, N) := Option.some.inj h
  cases h
  exact ⟨rfl, rfl, rfl⟩
theorem fl_X22_15_22 : gFL RX22 15 22 2 := gFL.mk (Cn := RX22) (T := TX22) (N := 7) (ref := "WorkflowEngine$ParallelRun") rfl in_X22 (by decide) q1039 rfl rfl (Or.inl rfl)
theorem ft_LWorkflowEngine_Parallel_ (r : Option Nat) : gFit "LWorkflowEngine$Parallel;" (ga r) := ⟨.object "WorkflowEngine$Parallel", by decide +kernel, by cases r <;> rfl, by cases r <;> rfl⟩
theorem fk_22_2 : gFk 22 2 "LWorkflowEngine$Parallel;" true "WorkflowEngine$ParallelRun" := fun Cn T N h => by
  have h : (RX22, TX22, 7) = (Cn, T, N) := Option.some.inj h
  cases h
  exact ⟨rfl, rfl, rfl⟩
theorem fl_X22_19_14 : gFL RX22 19 14 1 := gFL.mkN (Cn := RX14) (T := TX14) (N := 3) (ref := "WorkflowEngine$Parallel") rfl in_X14 (by decide) nq570 rfl rfl (Or.inl rfl)
theorem fl_X22_31_22 : gFL RX22 31 22 3 := gFL.mk (Cn := RX22) (T := TX22) (N := 7) (ref := "WorkflowEngine$ParallelRun") rfl in_X22 (by decide) q1040 rfl rfl (Or.inl rfl)
theorem ft__LWorkflowEngine_Run_ (r : Option Nat) : gFit "[LWorkflowEngine$Run;" (ga r) := ⟨.array (.object "WorkflowEngine$Run"), by decide +kernel, by cases r <;> rfl, by cases r <;> rfl⟩
theorem fk_22_3 : gFk 22 3 "[LWorkflowEngine$Run;" true "WorkflowEngine$ParallelRun" := fun Cn T N h => by
  have h : (RX22, TX22, 7) = (Cn, T, N) := Option.some.inj h
  cases h
  exact ⟨rfl, rfl, rfl⟩
theorem ft__LWorkflowEngine_Outcome_ (r : Option Nat) : gFit "[LWorkflowEngine$Outcome;" (ga r) := ⟨.array (.object "WorkflowEngine$Outcome"), by decide +kernel, by cases r <;> rfl, by cases r <;> rfl⟩
theorem fk_22_4 : gFk 22 4 "[LWorkflowEngine$Outcome;" true "WorkflowEngine$ParallelRun" := fun Cn T N h => by
  have h : (RX22, TX22, 7) = (Cn, T, N) := Option.some.inj h
  cases h
  exact ⟨rfl, rfl, rfl⟩
def f_X22_init (a0 : Nat) (p1 : Option Nat) (p2 : Option Nat) (p3 : Option Nat) (w0 : gw) : Option (Unit × gw) := gB1 (gPut w0 a0 22 6 (ga p1)) fun w1 => gB2 (f_X17_init_c22 a0 p1 p2 w1) fun _ w2 => gB1 (gPut w2 a0 22 2 (ga p3)) fun w3 => gB1 p3 fun a4 => gB1 (gR w3 a4 14 1) fun r5 => gB1 r5 fun a6 => gB1 (gOb w3 a6 8) fun _ => gB2 (f_J2_size a6  w3) fun x8 w7 => gB2 (gNewR w7 5 x8) fun a9 w10 => gB1 (gPut w10 a0 22 3 (ga (some a9))) fun w11 => gB1 (gR w11 a0 22 3) fun r12 => gB1 r12 fun a13 => gB1 (gLen w11 a13 5) fun x14 => gB2 (gNewR w11 6 x14) fun a15 w16 => gB1 (gPut w16 a0 22 4 (ga (some a15))) fun w17 => some ((), w17)
set_option maxHeartbeats 4000000 in
set_option maxRecDepth 100000 in
theorem k_X22_init {D : va_G} {dA : Nat → ClassId} {A : Nat → Prop} {K : Nat → Nat} {l : Launch} {h : Nat} (hh : 2 ≤ h) {a0 : Nat} {p1 : Option Nat} {p2 : Option Nat} {p3 : Option Nat} {w0 ww : gw} {rr : Unit} (hf : f_X22_init a0 p1 p2 p3 w0 = some (rr, ww)) : gMet D dA A K l yX22_init (ws_ yX22_init cX22_init 4 none) h [(ga (some a0)), (ga p1), (ga p2), (ga p3)] none w0 ww := by
  refine j_start (own := RX22) (by decide +kernel) rfl (Nat.le_of_ble_eq_true rfl) ?_
  intro p e R s m args below meth c C hr hin hw
  unfold f_X22_init at hf
  show gJ D dA A K p l e R s m args below meth c (gEnd D dA A K below args s w0 none ww) 4 0 [(0, (ga (some a0))), (1, (ga p1)), (2, (ga p2)), (3, (ga p3))] [] w0
  refine j_aload_n C dX22_init_0 rfl ?_
  refine j_aload_n C dX22_init_1 rfl ?_
  replace hf := gB1_e hf
  obtain ⟨w1, ew1, hf⟩ := hf
  refine j_putF C fl_X22_3_22 tb_22 hin ew1 fk_22_6 rfl (ft_LWorkflowEngine_ p1) dX22_init_2 ?_
  refine j_aload_n C dX22_init_5 rfl ?_
  refine j_aload_n C dX22_init_6 rfl ?_
  refine j_aload_n C dX22_init_7 rfl ?_
  replace hf := gB2_e hf
  obtain ⟨_, w2, ew2, hf⟩ := hf
  refine j_callI (As := [(ga p1), (ga p2)]) (rest := []) C (by omega) (k_X17_init_c22 (by omega) ew2) rfl q1033 q879 q119 q880 hd_X17_init (by decide) rfl (Nat.le_of_ble_eq_true rfl) dX22_init_8 ?_
  refine j_aload_n C dX22_init_11 rfl ?_
  refine j_aload_n C dX22_init_12 rfl ?_
  replace hf := gB1_e hf
  obtain ⟨w3, ew3, hf⟩ := hf
  refine j_putF C fl_X22_15_22 tb_22 hin ew3 fk_22_2 rfl (ft_LWorkflowEngine_Parallel_ p3) dX22_init_13 ?_
  refine j_aload_n C dX22_init_16 rfl ?_
  refine j_aload_n C dX22_init_17 rfl ?_
  replace hf := gB1_e hf
  obtain ⟨a4, ea4, hf⟩ := hf
  subst ea4
  replace hf := gB1_e hf
  obtain ⟨r5, er5, hf⟩ := hf
  refine j_get C fl_X22_19_14 dX22_init_18 (gR_F er5) ?_
  replace hf := gB1_e hf
  obtain ⟨a6, ea6, hf⟩ := hf
  subst ea6
  replace hf := gB1_e hf
  obtain ⟨_, eo, hf⟩ := hf
  replace hf := gB2_e hf
  obtain ⟨x8, w7, ew7, hf⟩ := hf
  refine j_callV (As := []) (rest := [(ga (some a0))]) (v := (some (gi x8))) C (by omega) (k_J2_size (by omega) ew7) (gOb_e eo) rfl q1034 q560 q561 q99 q562 ⟨rfl, hd_J2_size⟩ (by decide) rfl (Nat.le_of_ble_eq_true rfl) dX22_init_21 ?_
  replace hf := gB2_e hf
  obtain ⟨a9, w10, ew10, hf⟩ := hf
  refine j_newr C (t := 5) rfl (by decide) q1035 ew10 dX22_init_24 ?_
  replace hf := gB1_e hf
  obtain ⟨w11, ew11, hf⟩ := hf
  refine j_putF C fl_X22_31_22 tb_22 hin ew11 fk_22_3 rfl (ft__LWorkflowEngine_Run_ (some a9)) dX22_init_27 ?_
  refine j_aload_n C dX22_init_30 rfl ?_
  refine j_aload_n C dX22_init_31 rfl ?_
  replace hf := gB1_e hf
  obtain ⟨r12, er12, hf⟩ := hf
  refine j_get C fl_X22_31_22 dX22_init_32 (gR_F er12) ?_
  replace hf := gB1_e hf
  obtain ⟨a13, ea13, hf⟩ := hf
  subst ea13
  replace hf := gB1_e hf
  obtain ⟨x14, ex14, hf⟩ := hf
  refine j_alen C (t := 5) rfl ex14 dX22_init_35 ?_
  replace hf := gB2_e hf
  obtain ⟨a15, w16, ew16, hf⟩ := hf
  refine j_newr C (t := 6) rfl (by decide) q1037 ew16 dX22_init_36 ?_
  replace hf := gB1_e hf
  obtain ⟨w17, ew17, hf⟩ := hf
  refine j_putF C fl_X22_36_22 tb_22 hin ew17 fk_22_4 rfl (ft__LWorkflowEngine_Outcome_ (some a15)) dX22_init_39 ?_
  obtain ⟨rfl, rfl⟩ := gSome hf
  exact j_vret C hr hw dX22_init_42
def dkwX23_init_1 : List UInt8 := [180, 0, 23, 180, 0, 29, 181, 0, 34, 177]
abbrev dktX23_init_1 : List UInt8 := dkwX23_init_1 ++ []
def dkwX23_init_0 : List UInt8 := [42, 43, 181, 0, 3, 42, 43, 44, 183, 0, 9, 42, 2, 181, 0, 15, 42, 45, 181, 0, 19, 42, 44]
abbrev dktX23_init_0 : List UInt8 := dkwX23_init_0 ++ dktX23_init_1
theorem dksX23_init_0 : cX23_init.data.toList.drop 0 = dktX23_init_0 := by decide +kernel
theorem dksX23_init_1 : cX23_init.data.toList.drop 23 = dktX23_init_1 := dk_seg dksX23_init_0 23 rfl rfl
theorem dX23_init_0 : decode cX23_init 0 = .ok (.aload_n 0, 1) := dk_42 (dk_at dksX23_init_0 0 rfl rfl)
theorem dX23_init_1 : decode cX23_init 1 = .ok (.aload_n 1, 1) := dk_43 (dk_at dksX23_init_0 1 rfl rfl)
theorem dX23_init_2 : decode cX23_init 2 = .ok (.putfield 3, 3) := dk_181 0 3 (dk_at dksX23_init_0 2 rfl rfl)
theorem dX23_init_5 : decode cX23_init 5 = .ok (.aload_n 0, 1) := dk_42 (dk_at dksX23_init_0 5 rfl rfl)
theorem dX23_init_6 : decode cX23_init 6 = .ok (.aload_n 1, 1) := dk_43 (dk_at dksX23_init_0 6 rfl rfl)
theorem dX23_init_7 : decode cX23_init 7 = .ok (.aload_n 2, 1) := dk_44 (dk_at dksX23_init_0 7 rfl rfl)
theorem dX23_init_8 : decode cX23_init 8 = .ok (.invokespecial 9, 3) := dk_183 0 9 (dk_at dksX23_init_0 8 rfl rfl)
theorem dX23_init_11 : decode cX23_init 11 = .ok (.aload_n 0, 1) := dk_42 (dk_at dksX23_init_0 11 rfl rfl)
theorem dX23_init_12 : decode cX23_init 12 = .ok (.iconst (-1), 1) := dk_2 (dk_at dksX23_init_0 12 rfl rfl)
theorem dX23_init_13 : decode cX23_init 13 = .ok (.putfield 15, 3) := dk_181 0 15 (dk_at dksX23_init_0 13 rfl rfl)
theorem dX23_init_16 : decode cX23_init 16 = .ok (.aload_n 0, 1) := dk_42 (dk_at dksX23_init_0 16 rfl rfl)
theorem dX23_init_17 : decode cX23_init 17 = .ok (.aload_n 3, 1) := dk_45 (dk_at dksX23_init_0 17 rfl rfl)
theorem dX23_init_18 : decode cX23_init 18 = .ok (.putfield 19, 3) := dk_181 0 19 (dk_at dksX23_init_0 18 rfl rfl)
theorem dX23_init_21 : decode cX23_init 21 = .ok (.aload_n 0, 1) := dk_42 (dk_at dksX23_init_0 21 rfl rfl)
theorem dX23_init_22 : decode cX23_init 22 = .ok (.aload_n 2, 1) := dk_44 (dk_at dksX23_init_0 22 rfl rfl)
theorem dX23_init_23 : decode cX23_init 23 = .ok (.getfield 23, 3) := dk_180 0 23 (dk_at dksX23_init_1 0 rfl rfl)
theorem dX23_init_26 : decode cX23_init 26 = .ok (.getfield 29, 3) := dk_180 0 29 (dk_at dksX23_init_1 3 rfl rfl)
theorem dX23_init_29 : decode cX23_init 29 = .ok (.putfield 34, 3) := dk_181 0 34 (dk_at dksX23_init_1 6 rfl rfl)
theorem dX23_init_32 : decode cX23_init 32 = .ok (.return_, 1) := dk_177 (dk_at dksX23_init_1 9 rfl rfl)
theorem fl_X23_3_23 : gFL RX23 3 23 7 := gFL.mk (Cn := RX23) (T := TX23) (N := 8) (ref := "WorkflowEngine$TaskRun") rfl in_X23 (by decide) q1073 rfl rfl (Or.inl rfl)
theorem fk_23_7 : gFk 23 7 "LWorkflowEngine;" true "WorkflowEngine$TaskRun" := fun Cn T N h => by
  have h : (RX23, TX23, 8) = (Cn, T, N) := Option.some.inj h
  cases h
  exact ⟨rfl, rfl, rfl⟩
theorem fk_23_6 : gFk 23 6 "I" false "WorkflowEngine$TaskRun" := fun Cn T N h => by
  have h : (RX23, TX23, 8) = (Cn, T, N) := Option.some.inj h
  cases h
  exact ⟨rfl, rfl, rfl⟩
theorem ft_LWorkflowEngine_Task_ (r : Option Nat) : gFit "LWorkflowEngine$Task;" (ga r) := ⟨.object "WorkflowEngine$Task", by decide +kernel, by cases r <;> rfl, by cases r <;> rfl⟩
theorem fk_23_2 : gFk 23 2 "LWorkflowEngine$Task;" true "WorkflowEngine$TaskRun" := fun Cn T N h => by
  have h : (RX23, TX23, 8) = (Cn, T, N) := Option.some.inj h
  cases h
  exact ⟨rfl, rfl, rfl⟩
def f_X23_init (a0 : Nat) (p1 : Option Nat) (p2 : Option Nat) (p3 : Option Nat) (w0 : gw) : Option (Unit × gw) := gB1 (gPut w0 a0 23 7 (ga p1)) fun w1 => gB2 (f_X17_init_c23 a0 p1 p2 w1) fun _ w2 => gB1 (gPut w2 a0 23 6 (gi (-1))) fun w3 => gB1 (gPut w3 a0 23 2 (ga p3)) fun w4 => gB1 p2 fun a5 => gB1 (gR w4 a5 16 0) fun r6 => gB1 r6 fun a7 => gB1 (gI w4 a7 1 3) fun x8 => gB1 (gPut w4 a0 23 4 (gi x8)) fun w9 => some ((), w9)
set_option maxHeartbeats 4000000 in
set_option maxRecDepth 100000 in
theorem k_X23_init {D : va_G} {dA : Nat → ClassId} {A : Nat → Prop} {K : Nat → Nat} {l : Launch} {h : Nat} (hh : 2 ≤ h) {a0 : Nat} {p1 : Option Nat} {p2 : Option Nat} {p3 : Option Nat} {w0 ww : gw} {rr : Unit} (hf : f_X23_init a0 p1 p2 p3 w0 = some (rr, ww)) : gMet D dA A K l yX23_init (ws_ yX23_init cX23_init 4 none) h [(ga (some a0)), (ga p1), (ga p2), (ga p3)] none w0 ww := by
  refine j_start (own := RX23) (by decide +kernel) rfl (Nat.le_of_ble_eq_true rfl) ?_
  intro p e R s m args below meth c C hr hin hw
  unfold f_X23_init at hf
  show gJ D dA A K p l e R s m args below meth c (gEnd D dA A K below args s w0 none ww) 4 0 [(0, (ga (some a0))), (1, (ga p1)), (2, (ga p2)), (3, (ga p3))] [] w0
  refine j_aload_n C dX23_init_0 rfl ?_
  refine j_aload_n C dX23_init_1 rfl ?_
  replace hf := gB1_e hf
  obtain ⟨w1, ew1, hf⟩ := hf
  refine j_putF C fl_X23_3_23 tb_23 hin ew1 fk_23_7 rfl (ft_LWorkflowEngine_ p1) dX23_init_2 ?_
  refine j_aload_n C dX23_init_5 rfl ?_
  refine j_aload_n C dX23_init_6 rfl ?_
  refine j_aload_n C dX23_init_7 rfl ?_
  replace hf := gB2_e hf
  obtain ⟨_, w2, ew2, hf⟩ := hf
  refine j_callI (As := [(ga p1), (ga p2)]) (rest := []) C (by omega) (k_X17_init_c23 (by omega) ew2) rfl q1067 q879 q119 q880 hd_X17_init (by decide) rfl (Nat.le_of_ble_eq_true rfl) dX23_init_8 ?_
  refine j_aload_n C dX23_init_11 rfl ?_
  refine j_iconst (v := (-1)) C dX23_init_12 (by decide) ?_
  replace hf := gB1_e hf
  obtain ⟨w3, ew3, hf⟩ := hf
  refine j_put C fl_X23_15_23 tb_23 ew3 fk_23_6 (fit_I (-1)) dX23_init_13 ?_
  refine j_aload_n C dX23_init_16 rfl ?_
  refine j_aload_n C dX23_init_17 rfl ?_
  replace hf := gB1_e hf
  obtain ⟨w4, ew4, hf⟩ := hf
  refine j_putF C fl_X23_19_23 tb_23 hin ew4 fk_23_2 rfl (ft_LWorkflowEngine_Task_ p3) dX23_init_18 ?_
  refine j_aload_n C dX23_init_21 rfl ?_
  refine j_aload_n C dX23_init_22 rfl ?_
  replace hf := gB1_e hf
  obtain ⟨a5, ea5, hf⟩ := hf
  subst ea5
  replace hf := gB1_e hf
  obtain ⟨r6, er6, hf⟩ := hf
  refine j_get C fl_X23_23_16 dX23_init_23 (gR_F er6) ?_
  replace hf := gB1_e hf
  obtain ⟨a7, ea7, hf⟩ := hf
  subst ea7
  replace hf := gB1_e hf
  obtain ⟨x8, ex8, hf⟩ := hf
  refine j_get C fl_X23_29_1 dX23_init_26 (gI_F ex8) ?_
  replace hf := gB1_e hf
  obtain ⟨w9, ew9, hf⟩ := hf
  refine j_put C fl_X23_34_23 tb_23 ew9 fk_23_4 (fit_I x8) dX23_init_29 ?_
  obtain ⟨rfl, rfl⟩ := gSome hf
  exact j_vret C hr hw dX23_init_32
def dkwX23_lists_0 : List UInt8 := [43, 42, 180, 0, 19, 180, 0, 102, 182, 0, 105, 177]
abbrev dktX23_lists_0 : List UInt8 := dkwX23_lists_0 ++ []
theorem dksX23_lists_0 : cX23_lists.data.toList.drop 0 = dktX23_lists_0 := by decide +kernel
theorem dX23_lists_0 : decode cX23_lists 0 = .ok (.aload_n 1, 1) := dk_43 (dk_at dksX23_lists_0 0 rfl rfl)
theorem dX23_lists_1 : decode cX23_lists 1 = .ok (.aload_n 0, 1) := dk_42 (dk_at dksX23_lists_0 1 rfl rfl)
theorem dX23_lists_2 : decode cX23_lists 2 = .ok (.getfield 19, 3) := dk_180 0 19 (dk_at dksX23_lists_0 2 rfl rfl)
theorem dX23_lists_5 : decode cX23_lists 5 = .ok (.getfield 102, 3) := dk_180 0 102 (dk_at dksX23_lists_0 5 rfl rfl)
theorem dX23_lists_8 : decode cX23_lists 8 = .ok (.invokevirtual 105, 3) := dk_182 0 105 (dk_at dksX23_lists_0 8 rfl rfl)
theorem dX23_lists_11 : decode cX23_lists 11 = .ok (.return_, 1) := dk_177 (dk_at dksX23_lists_0 11 rfl rfl)
theorem fl_X23_102_9 : gFL RX23 102 9 0 := gFL.mk (Cn := RX9) (T := TX9) (N := 5) (ref := "WorkflowEngine$Task") rfl in_X9 (by decide) q376 rfl rfl (Or.inr q377)
def f_X23_lists (a0 : Nat) (p1 : Option Nat) (w0 : gw) : Option (Unit × gw) := gB1 (gR w0 a0 23 2) fun r1 => gB1 r1 fun a2 => gB1 (gI w0 a2 9 0) fun x3 => gB1 p1 fun a4 => gB1 (gOb w0 a4 27) fun _ => gB2 (f_X27_adds a4 x3 w0) fun _ w5 => some ((), w5)
set_option maxHeartbeats 4000000 in
set_option maxRecDepth 100000 in
theorem k_X23_lists {D : va_G} {dA : Nat → ClassId} {A : Nat → Prop} {K : Nat → Nat} {l : Launch} {h : Nat} (hh : 1 ≤ h) {a0 : Nat} {p1 : Option Nat} {w0 ww : gw} {rr : Unit} (hf : f_X23_lists a0 p1 w0 = some (rr, ww)) : gMet D dA A K l yX23_lists (ws_ yX23_lists cX23_lists 2 none) h [(ga (some a0)), (ga p1)] none w0 ww := by
  refine j_start (own := RX23) (by decide +kernel) rfl (Nat.le_of_ble_eq_true rfl) ?_
  intro p e R s m args below meth c C hr hin hw
  unfold f_X23_lists at hf
  show gJ D dA A K p l e R s m args below meth c (gEnd D dA A K below args s w0 none ww) 2 0 [(0, (ga (some a0))), (1, (ga p1))] [] w0
  refine j_aload_n C dX23_lists_0 rfl ?_
  refine j_aload_n C dX23_lists_1 rfl ?_
  replace hf := gB1_e hf
  obtain ⟨r1, er1, hf⟩ := hf
  refine j_get C fl_X23_19_23 dX23_lists_2 (gR_F er1) ?_
  replace hf := gB1_e hf
  obtain ⟨a2, ea2, hf⟩ := hf
  subst ea2
  replace hf := gB1_e hf
  obtain ⟨x3, ex3, hf⟩ := hf
  refine j_get C fl_X23_102_9 dX23_lists_5 (gI_F ex3) ?_
  replace hf := gB1_e hf
  obtain ⟨a4, ea4, hf⟩ := hf
  subst ea4
  replace hf := gB1_e hf
  obtain ⟨_, eo, hf⟩ := hf
  replace hf := gB2_e hf
  obtain ⟨_, w5, ew5, hf⟩ := hf
  refine j_callV (As := [(gi x3)]) (rest := []) (v := none) C (by omega) (k_X27_adds (by omega) ew5) (gOb_e eo) rfl q1377 q1365 q1366 q131 q1367 ⟨rfl, hd_X27_adds⟩ (by decide) rfl (Nat.le_of_ble_eq_true rfl) dX23_lists_8 ?_
  obtain ⟨rfl, rfl⟩ := gSome hf
  exact j_vret C hr hw dX23_lists_11
def dkwX23_copy_2 : List UInt8 := [181, 0, 15, 44, 176]
abbrev dktX23_copy_2 : List UInt8 := dkwX23_copy_2 ++ []
def dkwX23_copy_1 : List UInt8 := [181, 0, 37, 44, 42, 180, 0, 34, 181, 0, 34, 44, 42, 180, 0, 41, 181, 0, 41, 44, 42, 180, 0, 15]
abbrev dktX23_copy_1 : List UInt8 := dkwX23_copy_1 ++ dktX23_copy_2
def dkwX23_copy_0 : List UInt8 := [187, 0, 4, 89, 42, 180, 0, 3, 43, 42, 180, 0, 19, 183, 0, 99, 77, 44, 42, 180, 0, 37]
abbrev dktX23_copy_0 : List UInt8 := dkwX23_copy_0 ++ dktX23_copy_1
theorem dksX23_copy_0 : cX23_copy.data.toList.drop 0 = dktX23_copy_0 := by decide +kernel
theorem dksX23_copy_1 : cX23_copy.data.toList.drop 22 = dktX23_copy_1 := dk_seg dksX23_copy_0 22 rfl rfl
theorem dksX23_copy_2 : cX23_copy.data.toList.drop 46 = dktX23_copy_2 := dk_seg dksX23_copy_1 24 rfl rfl
theorem dX23_copy_0 : decode cX23_copy 0 = .ok (.new 4, 3) := dk_187 0 4 (dk_at dksX23_copy_0 0 rfl rfl)
theorem dX23_copy_3 : decode cX23_copy 3 = .ok (.dup, 1) := dk_89 (dk_at dksX23_copy_0 3 rfl rfl)
theorem dX23_copy_4 : decode cX23_copy 4 = .ok (.aload_n 0, 1) := dk_42 (dk_at dksX23_copy_0 4 rfl rfl)
theorem dX23_copy_5 : decode cX23_copy 5 = .ok (.getfield 3, 3) := dk_180 0 3 (dk_at dksX23_copy_0 5 rfl rfl)
theorem dX23_copy_8 : decode cX23_copy 8 = .ok (.aload_n 1, 1) := dk_43 (dk_at dksX23_copy_0 8 rfl rfl)
theorem dX23_copy_9 : decode cX23_copy 9 = .ok (.aload_n 0, 1) := dk_42 (dk_at dksX23_copy_0 9 rfl rfl)
theorem dX23_copy_10 : decode cX23_copy 10 = .ok (.getfield 19, 3) := dk_180 0 19 (dk_at dksX23_copy_0 10 rfl rfl)
theorem dX23_copy_13 : decode cX23_copy 13 = .ok (.invokespecial 99, 3) := dk_183 0 99 (dk_at dksX23_copy_0 13 rfl rfl)
theorem dX23_copy_16 : decode cX23_copy 16 = .ok (.astore_n 2, 1) := dk_77 (dk_at dksX23_copy_0 16 rfl rfl)
theorem dX23_copy_17 : decode cX23_copy 17 = .ok (.aload_n 2, 1) := dk_44 (dk_at dksX23_copy_0 17 rfl rfl)
theorem dX23_copy_18 : decode cX23_copy 18 = .ok (.aload_n 0, 1) := dk_42 (dk_at dksX23_copy_0 18 rfl rfl)
theorem dX23_copy_19 : decode cX23_copy 19 = .ok (.getfield 37, 3) := dk_180 0 37 (dk_at dksX23_copy_0 19 rfl rfl)
theorem dX23_copy_22 : decode cX23_copy 22 = .ok (.putfield 37, 3) := dk_181 0 37 (dk_at dksX23_copy_1 0 rfl rfl)
theorem dX23_copy_25 : decode cX23_copy 25 = .ok (.aload_n 2, 1) := dk_44 (dk_at dksX23_copy_1 3 rfl rfl)
theorem dX23_copy_26 : decode cX23_copy 26 = .ok (.aload_n 0, 1) := dk_42 (dk_at dksX23_copy_1 4 rfl rfl)
theorem dX23_copy_27 : decode cX23_copy 27 = .ok (.getfield 34, 3) := dk_180 0 34 (dk_at dksX23_copy_1 5 rfl rfl)
theorem dX23_copy_30 : decode cX23_copy 30 = .ok (.putfield 34, 3) := dk_181 0 34 (dk_at dksX23_copy_1 8 rfl rfl)
theorem dX23_copy_33 : decode cX23_copy 33 = .ok (.aload_n 2, 1) := dk_44 (dk_at dksX23_copy_1 11 rfl rfl)
theorem dX23_copy_34 : decode cX23_copy 34 = .ok (.aload_n 0, 1) := dk_42 (dk_at dksX23_copy_1 12 rfl rfl)
theorem dX23_copy_35 : decode cX23_copy 35 = .ok (.getfield 41, 3) := dk_180 0 41 (dk_at dksX23_copy_1 13 rfl rfl)
theorem dX23_copy_38 : decode cX23_copy 38 = .ok (.putfield 41, 3) := dk_181 0 41 (dk_at dksX23_copy_1 16 rfl rfl)
theorem dX23_copy_41 : decode cX23_copy 41 = .ok (.aload_n 2, 1) := dk_44 (dk_at dksX23_copy_1 19 rfl rfl)
theorem dX23_copy_42 : decode cX23_copy 42 = .ok (.aload_n 0, 1) := dk_42 (dk_at dksX23_copy_1 20 rfl rfl)
theorem dX23_copy_43 : decode cX23_copy 43 = .ok (.getfield 15, 3) := dk_180 0 15 (dk_at dksX23_copy_1 21 rfl rfl)
theorem dX23_copy_46 : decode cX23_copy 46 = .ok (.putfield 15, 3) := dk_181 0 15 (dk_at dksX23_copy_2 0 rfl rfl)
theorem dX23_copy_49 : decode cX23_copy 49 = .ok (.aload_n 2, 1) := dk_44 (dk_at dksX23_copy_2 3 rfl rfl)
theorem dX23_copy_50 : decode cX23_copy 50 = .ok (.areturn, 1) := dk_176 (dk_at dksX23_copy_2 4 rfl rfl)
theorem nl_X23_4 : gNL RX23 4 23 := ⟨RX23, TX23, 8, 8, tyX23, _, rfl, rfl, in_X23, tyX23_ok, q1471, q1061, q127, fun j hj => by rcases (show j = 0 ∨ j = 1 ∨ j = 2 ∨ j = 3 ∨ j = 4 ∨ j = 5 ∨ j = 6 ∨ j = 7 by omega) with rfl | rfl | rfl | rfl | rfl | rfl | rfl | rfl <;> rfl⟩
theorem hd_X23_init : (yX23_init.cls ≠ "java/lang/invoke/MethodHandle" ∧ yX23_init.cls ≠ "java/lang/invoke/VarHandle" ∧ (parseMethodDescriptor yX23_init.desc).map (fun d => d.parameters.length) = some 3) := ⟨by decide +kernel, by decide +kernel, by decide +kernel⟩
def f_X23_copy (a0 : Nat) (p1 : Option Nat) (w0 : gw) : Option (Option Nat × gw) := gB2 (gNew w0 23) fun a1 w2 => gB1 (gR w2 a0 23 7) fun r3 => gB1 (gR w2 a0 23 2) fun r4 => gB2 (f_X23_init a1 r3 p1 r4 w2) fun _ w5 => gB1 (gI w5 a0 23 3) fun x6 => gB1 (gZ x6) fun _ => gB1 (gPut w5 a1 23 3 (gi x6)) fun w7 => gB1 (gI w7 a0 23 4) fun x8 => gB1 (gPut w7 a1 23 4 (gi x8)) fun w9 => gB1 (gI w9 a0 23 5) fun x10 => gB1 (gPut w9 a1 23 5 (gi x10)) fun w11 => gB1 (gI w11 a0 23 6) fun x12 => gB1 (gPut w11 a1 23 6 (gi x12)) fun w13 => some ((some a1), w13)
set_option maxHeartbeats 4000000 in
set_option maxRecDepth 100000 in
theorem k_X23_copy {D : va_G} {dA : Nat → ClassId} {A : Nat → Prop} {K : Nat → Nat} {l : Launch} {h : Nat} (hh : 3 ≤ h) {a0 : Nat} {p1 : Option Nat} {w0 ww : gw} {rr : Option Nat} (hf : f_X23_copy a0 p1 w0 = some (rr, ww)) : gMet D dA A K l yX23_copy (ws_ yX23_copy cX23_copy 3 (some (.object "WorkflowEngine$Run"))) h [(ga (some a0)), (ga p1)] (some (ga rr)) w0 ww := by
  refine j_start (own := RX23) (by decide +kernel) rfl (Nat.le_of_ble_eq_true rfl) ?_
  intro p e R s m args below meth c C hr hin hw
  unfold f_X23_copy at hf
  show gJ D dA A K p l e R s m args below meth c (gEnd D dA A K below args s w0 (some (ga rr)) ww) 3 0 [(0, (ga (some a0))), (1, (ga p1))] [] w0
  replace hf := gB2_e hf
  obtain ⟨a1, w2, ew2, hf⟩ := hf
  refine j_new C nl_X23_4 ew2 dX23_copy_0 ?_
  refine j_dup C dX23_copy_3 ?_
  refine j_aload_n C dX23_copy_4 rfl ?_
  replace hf := gB1_e hf
  obtain ⟨r3, er3, hf⟩ := hf
  refine j_get C fl_X23_3_23 dX23_copy_5 (gR_F er3) ?_
  refine j_aload_n C dX23_copy_8 rfl ?_
  refine j_aload_n C dX23_copy_9 rfl ?_
  replace hf := gB1_e hf
  obtain ⟨r4, er4, hf⟩ := hf
  refine j_get C fl_X23_19_23 dX23_copy_10 (gR_F er4) ?_
  replace hf := gB2_e hf
  obtain ⟨_, w5, ew5, hf⟩ := hf
  refine j_callI (As := [(ga r3), (ga p1), (ga r4)]) (rest := [(ga (some a1))]) C (by omega) (k_X23_init (by omega) ew5) rfl q1472 q1065 q127 q1066 hd_X23_init (by decide) rfl (Nat.le_of_ble_eq_true rfl) dX23_copy_13 ?_
  refine j_astore_n (lv' := [(2, (ga (some a1))), (0, (ga (some a0))), (1, (ga p1))]) C dX23_copy_16 (by decide) rfl ?_
  refine j_aload_n C dX23_copy_17 rfl ?_
  refine j_aload_n C dX23_copy_18 rfl ?_
  replace hf := gB1_e hf
  obtain ⟨x6, ex6, hf⟩ := hf
  refine j_get C fl_X23_37_23 dX23_copy_19 (gI_F ex6) ?_
  replace hf := gB1_e hf
  obtain ⟨_, ez, hf⟩ := hf
  replace hf := gB1_e hf
  obtain ⟨w7, ew7, hf⟩ := hf
  refine j_put C fl_X23_37_23 tb_23 ew7 fk_23_3 (fit_Z (gZ_e ez)) dX23_copy_22 ?_
  refine j_aload_n C dX23_copy_25 rfl ?_
  refine j_aload_n C dX23_copy_26 rfl ?_
  replace hf := gB1_e hf
  obtain ⟨x8, ex8, hf⟩ := hf
  refine j_get C fl_X23_34_23 dX23_copy_27 (gI_F ex8) ?_
  replace hf := gB1_e hf
  obtain ⟨w9, ew9, hf⟩ := hf
  refine j_put C fl_X23_34_23 tb_23 ew9 fk_23_4 (fit_I x8) dX23_copy_30 ?_
  refine j_aload_n C dX23_copy_33 rfl ?_
  refine j_aload_n C dX23_copy_34 rfl ?_
  replace hf := gB1_e hf
  obtain ⟨x10, ex10, hf⟩ := hf
  refine j_get C fl_X23_41_23 dX23_copy_35 (gI_F ex10) ?_
  replace hf := gB1_e hf
  obtain ⟨w11, ew11, hf⟩ := hf
  refine j_put C fl_X23_41_23 tb_23 ew11 fk_23_5 (fit_I x10) dX23_copy_38 ?_
  refine j_aload_n C dX23_copy_41 rfl ?_
  refine j_aload_n C dX23_copy_42 rfl ?_
  replace hf := gB1_e hf
  obtain ⟨x12, ex12, hf⟩ := hf
  refine j_get C fl_X23_15_23 dX23_copy_43 (gI_F ex12) ?_
  replace hf := gB1_e hf
  obtain ⟨w13, ew13, hf⟩ := hf
  refine j_put C fl_X23_15_23 tb_23 ew13 fk_23_6 (fit_I x12) dX23_copy_46 ?_
  refine j_aload_n C dX23_copy_49 rfl ?_
  obtain ⟨rfl, rfl⟩ := gSome hf
  exact j_aret C hr (Or.inl ⟨_, rfl⟩) hw dX23_copy_50
def dkwX24_init_1 : List UInt8 := [45, 180, 0, 29, 96, 181, 0, 34, 177]
abbrev dktX24_init_1 : List UInt8 := dkwX24_init_1 ++ []
def dkwX24_init_0 : List UInt8 := [42, 43, 181, 0, 1, 42, 43, 44, 183, 0, 7, 42, 45, 181, 0, 13, 42, 44, 180, 0, 17, 180, 0, 23]
abbrev dktX24_init_0 : List UInt8 := dkwX24_init_0 ++ dktX24_init_1
theorem dksX24_init_0 : cX24_init.data.toList.drop 0 = dktX24_init_0 := by decide +kernel
theorem dksX24_init_1 : cX24_init.data.toList.drop 24 = dktX24_init_1 := dk_seg dksX24_init_0 24 rfl rfl
theorem dX24_init_0 : decode cX24_init 0 = .ok (.aload_n 0, 1) := dk_42 (dk_at dksX24_init_0 0 rfl rfl)
theorem dX24_init_1 : decode cX24_init 1 = .ok (.aload_n 1, 1) := dk_43 (dk_at dksX24_init_0 1 rfl rfl)
theorem dX24_init_2 : decode cX24_init 2 = .ok (.putfield 1, 3) := dk_181 0 1 (dk_at dksX24_init_0 2 rfl rfl)
theorem dX24_init_5 : decode cX24_init 5 = .ok (.aload_n 0, 1) := dk_42 (dk_at dksX24_init_0 5 rfl rfl)
theorem dX24_init_6 : decode cX24_init 6 = .ok (.aload_n 1, 1) := dk_43 (dk_at dksX24_init_0 6 rfl rfl)
theorem dX24_init_7 : decode cX24_init 7 = .ok (.aload_n 2, 1) := dk_44 (dk_at dksX24_init_0 7 rfl rfl)
theorem dX24_init_8 : decode cX24_init 8 = .ok (.invokespecial 7, 3) := dk_183 0 7 (dk_at dksX24_init_0 8 rfl rfl)
theorem dX24_init_11 : decode cX24_init 11 = .ok (.aload_n 0, 1) := dk_42 (dk_at dksX24_init_0 11 rfl rfl)
theorem dX24_init_12 : decode cX24_init 12 = .ok (.aload_n 3, 1) := dk_45 (dk_at dksX24_init_0 12 rfl rfl)
theorem dX24_init_13 : decode cX24_init 13 = .ok (.putfield 13, 3) := dk_181 0 13 (dk_at dksX24_init_0 13 rfl rfl)
theorem dX24_init_16 : decode cX24_init 16 = .ok (.aload_n 0, 1) := dk_42 (dk_at dksX24_init_0 16 rfl rfl)
theorem dX24_init_17 : decode cX24_init 17 = .ok (.aload_n 2, 1) := dk_44 (dk_at dksX24_init_0 17 rfl rfl)
theorem dX24_init_18 : decode cX24_init 18 = .ok (.getfield 17, 3) := dk_180 0 17 (dk_at dksX24_init_0 18 rfl rfl)
theorem dX24_init_21 : decode cX24_init 21 = .ok (.getfield 23, 3) := dk_180 0 23 (dk_at dksX24_init_0 21 rfl rfl)
theorem dX24_init_24 : decode cX24_init 24 = .ok (.aload_n 3, 1) := dk_45 (dk_at dksX24_init_1 0 rfl rfl)
theorem dX24_init_25 : decode cX24_init 25 = .ok (.getfield 29, 3) := dk_180 0 29 (dk_at dksX24_init_1 1 rfl rfl)
theorem dX24_init_28 : decode cX24_init 28 = .ok (.iadd, 1) := dk_96 (dk_at dksX24_init_1 4 rfl rfl)
theorem dX24_init_29 : decode cX24_init 29 = .ok (.putfield 34, 3) := dk_181 0 34 (dk_at dksX24_init_1 5 rfl rfl)
theorem dX24_init_32 : decode cX24_init 32 = .ok (.return_, 1) := dk_177 (dk_at dksX24_init_1 8 rfl rfl)
theorem fl_X24_1_24 : gFL RX24 1 24 4 := gFL.mk (Cn := RX24) (T := TX24) (N := 5) (ref := "WorkflowEngine$WaitRun") rfl in_X24 (by decide) q1102 rfl rfl (Or.inl rfl)
theorem fk_24_4 : gFk 24 4 "LWorkflowEngine;" true "WorkflowEngine$WaitRun" := fun Cn T N h => by
  have h : (RX24, TX24, 5) = (Cn, T, N) := Option.some.inj h
  cases h
  exact ⟨rfl, rfl, rfl⟩
theorem fl_X24_13_24 : gFL RX24 13 24 2 := gFL.mk (Cn := RX24) (T := TX24) (N := 5) (ref := "WorkflowEngine$WaitRun") rfl in_X24 (by decide) q1100 rfl rfl (Or.inl rfl)
theorem ft_LWorkflowEngine_Wait_ (r : Option Nat) : gFit "LWorkflowEngine$Wait;" (ga r) := ⟨.object "WorkflowEngine$Wait", by decide +kernel, by cases r <;> rfl, by cases r <;> rfl⟩
theorem fk_24_2 : gFk 24 2 "LWorkflowEngine$Wait;" true "WorkflowEngine$WaitRun" := fun Cn T N h => by
  have h : (RX24, TX24, 5) = (Cn, T, N) := Option.some.inj h
  cases h
  exact ⟨rfl, rfl, rfl⟩
theorem fl_X24_29_10 : gFL RX24 29 10 1 := gFL.mkN (Cn := RX10) (T := TX10) (N := 2) (ref := "WorkflowEngine$Wait") rfl in_X10 (by decide) nq396 rfl rfl (Or.inl rfl)
theorem fk_24_3 : gFk 24 3 "I" false "WorkflowEngine$WaitRun" := fun Cn T N h => by
  have h : (RX24, TX24, 5) = (Cn, T, N) := Option.some.inj h
  cases h
  exact ⟨rfl, rfl, rfl⟩
def f_X24_init (a0 : Nat) (p1 : Option Nat) (p2 : Option Nat) (p3 : Option Nat) (w0 : gw) : Option (Unit × gw) := gB1 (gPut w0 a0 24 4 (ga p1)) fun w1 => gB2 (f_X17_init_c24 a0 p1 p2 w1) fun _ w2 => gB1 (gPut w2 a0 24 2 (ga p3)) fun w3 => gB1 p2 fun a4 => gB1 (gR w3 a4 16 0) fun r5 => gB1 r5 fun a6 => gB1 (gI w3 a6 1 3) fun x7 => gB1 p3 fun a8 => gB1 (gI w3 a8 10 1) fun x9 => gB1 (gPut w3 a0 24 3 (gi (x7 + x9))) fun w10 => some ((), w10)
set_option maxHeartbeats 4000000 in
set_option maxRecDepth 100000 in
theorem k_X24_init {D : va_G} {dA : Nat → ClassId} {A : Nat → Prop} {K : Nat → Nat} {l : Launch} {h : Nat} (hh : 2 ≤ h) {a0 : Nat} {p1 : Option Nat} {p2 : Option Nat} {p3 : Option Nat} {w0 ww : gw} {rr : Unit} (hf : f_X24_init a0 p1 p2 p3 w0 = some (rr, ww)) : gMet D dA A K l yX24_init (ws_ yX24_init cX24_init 4 none) h [(ga (some a0)), (ga p1), (ga p2), (ga p3)] none w0 ww := by
  refine j_start (own := RX24) (by decide +kernel) rfl (Nat.le_of_ble_eq_true rfl) ?_
  intro p e R s m args below meth c C hr hin hw
  unfold f_X24_init at hf
  show gJ D dA A K p l e R s m args below meth c (gEnd D dA A K below args s w0 none ww) 4 0 [(0, (ga (some a0))), (1, (ga p1)), (2, (ga p2)), (3, (ga p3))] [] w0
  refine j_aload_n C dX24_init_0 rfl ?_
  refine j_aload_n C dX24_init_1 rfl ?_
  replace hf := gB1_e hf
  obtain ⟨w1, ew1, hf⟩ := hf
  refine j_putF C fl_X24_1_24 tb_24 hin ew1 fk_24_4 rfl (ft_LWorkflowEngine_ p1) dX24_init_2 ?_
  refine j_aload_n C dX24_init_5 rfl ?_
  refine j_aload_n C dX24_init_6 rfl ?_
  refine j_aload_n C dX24_init_7 rfl ?_
  replace hf := gB2_e hf
  obtain ⟨_, w2, ew2, hf⟩ := hf
  refine j_callI (As := [(ga p1), (ga p2)]) (rest := []) C (by omega) (k_X17_init_c24 (by omega) ew2) rfl q1099 q879 q119 q880 hd_X17_init (by decide) rfl (Nat.le_of_ble_eq_true rfl) dX24_init_8 ?_
  refine j_aload_n C dX24_init_11 rfl ?_
  refine j_aload_n C dX24_init_12 rfl ?_
  replace hf := gB1_e hf
  obtain ⟨w3, ew3, hf⟩ := hf
  refine j_putF C fl_X24_13_24 tb_24 hin ew3 fk_24_2 rfl (ft_LWorkflowEngine_Wait_ p3) dX24_init_13 ?_
  refine j_aload_n C dX24_init_16 rfl ?_
  refine j_aload_n C dX24_init_17 rfl ?_
  replace hf := gB1_e hf
  obtain ⟨a4, ea4, hf⟩ := hf
  subst ea4
  replace hf := gB1_e hf
  obtain ⟨r5, er5, hf⟩ := hf
  refine j_get C fl_X24_17_16 dX24_init_18 (gR_F er5) ?_
  replace hf := gB1_e hf
  obtain ⟨a6, ea6, hf⟩ := hf
  subst ea6
  replace hf := gB1_e hf
  obtain ⟨x7, ex7, hf⟩ := hf
  refine j_get C fl_X24_23_1 dX24_init_21 (gI_F ex7) ?_
  refine j_aload_n C dX24_init_24 rfl ?_
  replace hf := gB1_e hf
  obtain ⟨a8, ea8, hf⟩ := hf
  subst ea8
  replace hf := gB1_e hf
  obtain ⟨x9, ex9, hf⟩ := hf
  refine j_get C fl_X24_29_10 dX24_init_25 (gI_F ex9) ?_
  refine j_iadd C dX24_init_28 ?_
  replace hf := gB1_e hf
  obtain ⟨w10, ew10, hf⟩ := hf
  refine j_put C fl_X24_34_24 tb_24 ew10 fk_24_3 (fit_I (x7 + x9)) dX24_init_29 ?_
  obtain ⟨rfl, rfl⟩ := gSome hf
  exact j_vret C hr hw dX24_init_32
def dkwX24_lists_0 : List UInt8 := [43, 42, 180, 0, 13, 180, 0, 53, 182, 0, 56, 177]
abbrev dktX24_lists_0 : List UInt8 := dkwX24_lists_0 ++ []
theorem dksX24_lists_0 : cX24_lists.data.toList.drop 0 = dktX24_lists_0 := by decide +kernel
theorem dX24_lists_0 : decode cX24_lists 0 = .ok (.aload_n 1, 1) := dk_43 (dk_at dksX24_lists_0 0 rfl rfl)
theorem dX24_lists_1 : decode cX24_lists 1 = .ok (.aload_n 0, 1) := dk_42 (dk_at dksX24_lists_0 1 rfl rfl)
theorem dX24_lists_2 : decode cX24_lists 2 = .ok (.getfield 13, 3) := dk_180 0 13 (dk_at dksX24_lists_0 2 rfl rfl)
theorem dX24_lists_5 : decode cX24_lists 5 = .ok (.getfield 53, 3) := dk_180 0 53 (dk_at dksX24_lists_0 5 rfl rfl)
theorem dX24_lists_8 : decode cX24_lists 8 = .ok (.invokevirtual 56, 3) := dk_182 0 56 (dk_at dksX24_lists_0 8 rfl rfl)
theorem dX24_lists_11 : decode cX24_lists 11 = .ok (.return_, 1) := dk_177 (dk_at dksX24_lists_0 11 rfl rfl)
theorem fl_X24_53_10 : gFL RX24 53 10 0 := gFL.mk (Cn := RX10) (T := TX10) (N := 2) (ref := "WorkflowEngine$Wait") rfl in_X10 (by decide) q374 rfl rfl (Or.inr q375)
def f_X24_lists (a0 : Nat) (p1 : Option Nat) (w0 : gw) : Option (Unit × gw) := gB1 (gR w0 a0 24 2) fun r1 => gB1 r1 fun a2 => gB1 (gI w0 a2 10 0) fun x3 => gB1 p1 fun a4 => gB1 (gOb w0 a4 27) fun _ => gB2 (f_X27_adds a4 x3 w0) fun _ w5 => some ((), w5)
set_option maxHeartbeats 4000000 in
set_option maxRecDepth 100000 in
theorem k_X24_lists {D : va_G} {dA : Nat → ClassId} {A : Nat → Prop} {K : Nat → Nat} {l : Launch} {h : Nat} (hh : 1 ≤ h) {a0 : Nat} {p1 : Option Nat} {w0 ww : gw} {rr : Unit} (hf : f_X24_lists a0 p1 w0 = some (rr, ww)) : gMet D dA A K l yX24_lists (ws_ yX24_lists cX24_lists 2 none) h [(ga (some a0)), (ga p1)] none w0 ww := by
  refine j_start (own := RX24) (by decide +kernel) rfl (Nat.le_of_ble_eq_true rfl) ?_
  intro p e R s m args below meth c C hr hin hw
  unfold f_X24_lists at hf
  show gJ D dA A K p l e R s m args below meth c (gEnd D dA A K below args s w0 none ww) 2 0 [(0, (ga (some a0))), (1, (ga p1))] [] w0
  refine j_aload_n C dX24_lists_0 rfl ?_
  refine j_aload_n C dX24_lists_1 rfl ?_
  replace hf := gB1_e hf
  obtain ⟨r1, er1, hf⟩ := hf
  refine j_get C fl_X24_13_24 dX24_lists_2 (gR_F er1) ?_
  replace hf := gB1_e hf
  obtain ⟨a2, ea2, hf⟩ := hf
  subst ea2
  replace hf := gB1_e hf
  obtain ⟨x3, ex3, hf⟩ := hf
  refine j_get C fl_X24_53_10 dX24_lists_5 (gI_F ex3) ?_
  replace hf := gB1_e hf
  obtain ⟨a4, ea4, hf⟩ := hf
  subst ea4
  replace hf := gB1_e hf
  obtain ⟨_, eo, hf⟩ := hf
  replace hf := gB2_e hf
  obtain ⟨_, w5, ew5, hf⟩ := hf
  refine j_callV (As := [(gi x3)]) (rest := []) (v := none) C (by omega) (k_X27_adds (by omega) ew5) (gOb_e eo) rfl q1380 q1365 q1366 q131 q1367 ⟨rfl, hd_X27_adds⟩ (by decide) rfl (Nat.le_of_ble_eq_true rfl) dX24_lists_8 ?_
  obtain ⟨rfl, rfl⟩ := gSome hf
  exact j_vret C hr hw dX24_lists_11
def dkwX24_copy_1 : List UInt8 := [181, 0, 34, 44, 176]
abbrev dktX24_copy_1 : List UInt8 := dkwX24_copy_1 ++ []
def dkwX24_copy_0 : List UInt8 := [187, 0, 2, 89, 42, 180, 0, 1, 43, 42, 180, 0, 13, 183, 0, 50, 77, 44, 42, 180, 0, 34]
abbrev dktX24_copy_0 : List UInt8 := dkwX24_copy_0 ++ dktX24_copy_1
theorem dksX24_copy_0 : cX24_copy.data.toList.drop 0 = dktX24_copy_0 := by decide +kernel
theorem dksX24_copy_1 : cX24_copy.data.toList.drop 22 = dktX24_copy_1 := dk_seg dksX24_copy_0 22 rfl rfl
theorem dX24_copy_0 : decode cX24_copy 0 = .ok (.new 2, 3) := dk_187 0 2 (dk_at dksX24_copy_0 0 rfl rfl)
theorem dX24_copy_3 : decode cX24_copy 3 = .ok (.dup, 1) := dk_89 (dk_at dksX24_copy_0 3 rfl rfl)
theorem dX24_copy_4 : decode cX24_copy 4 = .ok (.aload_n 0, 1) := dk_42 (dk_at dksX24_copy_0 4 rfl rfl)
theorem dX24_copy_5 : decode cX24_copy 5 = .ok (.getfield 1, 3) := dk_180 0 1 (dk_at dksX24_copy_0 5 rfl rfl)
theorem dX24_copy_8 : decode cX24_copy 8 = .ok (.aload_n 1, 1) := dk_43 (dk_at dksX24_copy_0 8 rfl rfl)
theorem dX24_copy_9 : decode cX24_copy 9 = .ok (.aload_n 0, 1) := dk_42 (dk_at dksX24_copy_0 9 rfl rfl)
theorem dX24_copy_10 : decode cX24_copy 10 = .ok (.getfield 13, 3) := dk_180 0 13 (dk_at dksX24_copy_0 10 rfl rfl)
theorem dX24_copy_13 : decode cX24_copy 13 = .ok (.invokespecial 50, 3) := dk_183 0 50 (dk_at dksX24_copy_0 13 rfl rfl)
theorem dX24_copy_16 : decode cX24_copy 16 = .ok (.astore_n 2, 1) := dk_77 (dk_at dksX24_copy_0 16 rfl rfl)
theorem dX24_copy_17 : decode cX24_copy 17 = .ok (.aload_n 2, 1) := dk_44 (dk_at dksX24_copy_0 17 rfl rfl)
theorem dX24_copy_18 : decode cX24_copy 18 = .ok (.aload_n 0, 1) := dk_42 (dk_at dksX24_copy_0 18 rfl rfl)
theorem dX24_copy_19 : decode cX24_copy 19 = .ok (.getfield 34, 3) := dk_180 0 34 (dk_at dksX24_copy_0 19 rfl rfl)
theorem dX24_copy_22 : decode cX24_copy 22 = .ok (.putfield 34, 3) := dk_181 0 34 (dk_at dksX24_copy_1 0 rfl rfl)
theorem dX24_copy_25 : decode cX24_copy 25 = .ok (.aload_n 2, 1) := dk_44 (dk_at dksX24_copy_1 3 rfl rfl)
theorem dX24_copy_26 : decode cX24_copy 26 = .ok (.areturn, 1) := dk_176 (dk_at dksX24_copy_1 4 rfl rfl)
theorem nl_X24_2 : gNL RX24 2 24 := ⟨RX24, TX24, 5, 5, tyX24, _, rfl, rfl, in_X24, tyX24_ok, q1475, q1093, q128, fun j hj => by rcases (show j = 0 ∨ j = 1 ∨ j = 2 ∨ j = 3 ∨ j = 4 by omega) with rfl | rfl | rfl | rfl | rfl <;> rfl⟩
theorem hd_X24_init : (yX24_init.cls ≠ "java/lang/invoke/MethodHandle" ∧ yX24_init.cls ≠ "java/lang/invoke/VarHandle" ∧ (parseMethodDescriptor yX24_init.desc).map (fun d => d.parameters.length) = some 3) := ⟨by decide +kernel, by decide +kernel, by decide +kernel⟩
def f_X24_copy (a0 : Nat) (p1 : Option Nat) (w0 : gw) : Option (Option Nat × gw) := gB2 (gNew w0 24) fun a1 w2 => gB1 (gR w2 a0 24 4) fun r3 => gB1 (gR w2 a0 24 2) fun r4 => gB2 (f_X24_init a1 r3 p1 r4 w2) fun _ w5 => gB1 (gI w5 a0 24 3) fun x6 => gB1 (gPut w5 a1 24 3 (gi x6)) fun w7 => some ((some a1), w7)
set_option maxHeartbeats 4000000 in
set_option maxRecDepth 100000 in
theorem k_X24_copy {D : va_G} {dA : Nat → ClassId} {A : Nat → Prop} {K : Nat → Nat} {l : Launch} {h : Nat} (hh : 3 ≤ h) {a0 : Nat} {p1 : Option Nat} {w0 ww : gw} {rr : Option Nat} (hf : f_X24_copy a0 p1 w0 = some (rr, ww)) : gMet D dA A K l yX24_copy (ws_ yX24_copy cX24_copy 3 (some (.object "WorkflowEngine$Run"))) h [(ga (some a0)), (ga p1)] (some (ga rr)) w0 ww := by
  refine j_start (own := RX24) (by decide +kernel) rfl (Nat.le_of_ble_eq_true rfl) ?_
  intro p e R s m args below meth c C hr hin hw
  unfold f_X24_copy at hf
  show gJ D dA A K p l e R s m args below meth c (gEnd D dA A K below args s w0 (some (ga rr)) ww) 3 0 [(0, (ga (some a0))), (1, (ga p1))] [] w0
  replace hf := gB2_e hf
  obtain ⟨a1, w2, ew2, hf⟩ := hf
  refine j_new C nl_X24_2 ew2 dX24_copy_0 ?_
  refine j_dup C dX24_copy_3 ?_
  refine j_aload_n C dX24_copy_4 rfl ?_
  replace hf := gB1_e hf
  obtain ⟨r3, er3, hf⟩ := hf
  refine j_get C fl_X24_1_24 dX24_copy_5 (gR_F er3) ?_
  refine j_aload_n C dX24_copy_8 rfl ?_
  refine j_aload_n C dX24_copy_9 rfl ?_
  replace hf := gB1_e hf
  obtain ⟨r4, er4, hf⟩ := hf
  refine j_get C fl_X24_13_24 dX24_copy_10 (gR_F er4) ?_
  replace hf := gB2_e hf
  obtain ⟨_, w5, ew5, hf⟩ := hf
  refine j_callI (As := [(ga r3), (ga p1), (ga r4)]) (rest := [(ga (some a1))]) C (by omega) (k_X24_init (by omega) ew5) rfl q1476 q1097 q128 q1098 hd_X24_init (by decide) rfl (Nat.le_of_ble_eq_true rfl) dX24_copy_13 ?_
  refine j_astore_n (lv' := [(2, (ga (some a1))), (0, (ga (some a0))), (1, (ga p1))]) C dX24_copy_16 (by decide) rfl ?_
  refine j_aload_n C dX24_copy_17 rfl ?_
  refine j_aload_n C dX24_copy_18 rfl ?_
  replace hf := gB1_e hf
  obtain ⟨x6, ex6, hf⟩ := hf
  refine j_get C fl_X24_34_24 dX24_copy_19 (gI_F ex6) ?_
  replace hf := gB1_e hf
  obtain ⟨w7, ew7, hf⟩ := hf
  refine j_put C fl_X24_34_24 tb_24 ew7 fk_24_3 (fit_I x6) dX24_copy_22 ?_
  refine j_aload_n C dX24_copy_25 rfl ?_
  obtain ⟨rfl, rfl⟩ := gSome hf
  exact j_aret C hr (Or.inl ⟨_, rfl⟩) hw dX24_copy_26
def dkwX4_isItem_1 : List UInt8 := [16, 120, 159, 0, 15, 27, 16, 91, 159, 0, 9, 27, 16, 40, 160, 0, 7, 4, 167, 0, 4, 3, 172]
abbrev dktX4_isItem_1 : List UInt8 := dkwX4_isItem_1 ++ []
def dkwX4_isItem_0 : List UInt8 := [42, 182, 0, 34, 60, 27, 16, 116, 159, 0, 33, 27, 16, 119, 159, 0, 27, 27, 16, 115, 159, 0, 21, 27]
abbrev dktX4_isItem_0 : List UInt8 := dkwX4_isItem_0 ++ dktX4_isItem_1
theorem dksX4_isItem_0 : cX4_isItem.data.toList.drop 0 = dktX4_isItem_0 := by decide +kernel
theorem dksX4_isItem_1 : cX4_isItem.data.toList.drop 24 = dktX4_isItem_1 := dk_seg dksX4_isItem_0 24 rfl rfl
theorem dX4_isItem_0 : decode cX4_isItem 0 = .ok (.aload_n 0, 1) := dk_42 (dk_at dksX4_isItem_0 0 rfl rfl)
theorem dX4_isItem_1 : decode cX4_isItem 1 = .ok (.invokevirtual 34, 3) := dk_182 0 34 (dk_at dksX4_isItem_0 1 rfl rfl)
theorem dX4_isItem_4 : decode cX4_isItem 4 = .ok (.istore_n 1, 1) := dk_60 (dk_at dksX4_isItem_0 4 rfl rfl)
theorem dX4_isItem_5 : decode cX4_isItem 5 = .ok (.iload_n 1, 1) := dk_27 (dk_at dksX4_isItem_0 5 rfl rfl)
theorem dX4_isItem_6 : decode cX4_isItem 6 = .ok (.bipush 116, 2) := dk_16 116 (dk_at dksX4_isItem_0 6 rfl rfl)
theorem dX4_isItem_8 : decode cX4_isItem 8 = .ok (.if_icmp .eq 33, 3) := dk_159 0 33 (dk_at dksX4_isItem_0 8 rfl rfl)
theorem dX4_isItem_11 : decode cX4_isItem 11 = .ok (.iload_n 1, 1) := dk_27 (dk_at dksX4_isItem_0 11 rfl rfl)
theorem dX4_isItem_12 : decode cX4_isItem 12 = .ok (.bipush 119, 2) := dk_16 119 (dk_at dksX4_isItem_0 12 rfl rfl)
theorem dX4_isItem_14 : decode cX4_isItem 14 = .ok (.if_icmp .eq 27, 3) := dk_159 0 27 (dk_at dksX4_isItem_0 14 rfl rfl)
theorem dX4_isItem_17 : decode cX4_isItem 17 = .ok (.iload_n 1, 1) := dk_27 (dk_at dksX4_isItem_0 17 rfl rfl)
theorem dX4_isItem_18 : decode cX4_isItem 18 = .ok (.bipush 115, 2) := dk_16 115 (dk_at dksX4_isItem_0 18 rfl rfl)
theorem dX4_isItem_20 : decode cX4_isItem 20 = .ok (.if_icmp .eq 21, 3) := dk_159 0 21 (dk_at dksX4_isItem_0 20 rfl rfl)
theorem dX4_isItem_23 : decode cX4_isItem 23 = .ok (.iload_n 1, 1) := dk_27 (dk_at dksX4_isItem_0 23 rfl rfl)
theorem dX4_isItem_24 : decode cX4_isItem 24 = .ok (.bipush 120, 2) := dk_16 120 (dk_at dksX4_isItem_1 0 rfl rfl)
theorem dX4_isItem_26 : decode cX4_isItem 26 = .ok (.if_icmp .eq 15, 3) := dk_159 0 15 (dk_at dksX4_isItem_1 2 rfl rfl)
theorem dX4_isItem_29 : decode cX4_isItem 29 = .ok (.iload_n 1, 1) := dk_27 (dk_at dksX4_isItem_1 5 rfl rfl)
theorem dX4_isItem_30 : decode cX4_isItem 30 = .ok (.bipush 91, 2) := dk_16 91 (dk_at dksX4_isItem_1 6 rfl rfl)
theorem dX4_isItem_32 : decode cX4_isItem 32 = .ok (.if_icmp .eq 9, 3) := dk_159 0 9 (dk_at dksX4_isItem_1 8 rfl rfl)
theorem dX4_isItem_35 : decode cX4_isItem 35 = .ok (.iload_n 1, 1) := dk_27 (dk_at dksX4_isItem_1 11 rfl rfl)
theorem dX4_isItem_36 : decode cX4_isItem 36 = .ok (.bipush 40, 2) := dk_16 40 (dk_at dksX4_isItem_1 12 rfl rfl)
theorem dX4_isItem_38 : decode cX4_isItem 38 = .ok (.if_icmp .ne 7, 3) := dk_160 0 7 (dk_at dksX4_isItem_1 14 rfl rfl)
theorem dX4_isItem_41 : decode cX4_isItem 41 = .ok (.iconst 1, 1) := dk_4 (dk_at dksX4_isItem_1 17 rfl rfl)
theorem dX4_isItem_42 : decode cX4_isItem 42 = .ok (.goto 4, 3) := dk_167 0 4 (dk_at dksX4_isItem_1 18 rfl rfl)
theorem dX4_isItem_45 : decode cX4_isItem 45 = .ok (.iconst 0, 1) := dk_3 (dk_at dksX4_isItem_1 21 rfl rfl)
theorem dX4_isItem_46 : decode cX4_isItem 46 = .ok (.ireturn, 1) := dk_172 (dk_at dksX4_isItem_1 22 rfl rfl)
def f_X4_isItem (a0 : Nat) (w0 : gw) : Option (Int32 × gw) := gB1 (gOb w0 a0 4) fun _ => gB2 (f_X4_sign a0  w0) fun x2 w1 => gBd (fun (w4 : gw) => some ((nI 1), w4)) fun k3 => if x2 = (nI 116) then k3 w1 else if x2 = (nI 119) then k3 w1 else if x2 = (nI 115) then k3 w1 else if x2 = (nI 120) then k3 w1 else if x2 = (nI 91) then k3 w1 else if x2 = (nI 40) then k3 w1 else some ((nI 0), w1)
set_option maxHeartbeats 4000000 in
set_option maxRecDepth 100000 in
theorem k_X4_isItem {D : va_G} {dA : Nat → ClassId} {A : Nat → Prop} {K : Nat → Nat} {l : Launch} {h : Nat} (hh : 1 ≤ h) {a0 : Nat} {w0 ww : gw} {rr : Int32} (hf : f_X4_isItem a0 w0 = some (rr, ww)) : gMet D dA A K l yX4_isItem (ws_ yX4_isItem cX4_isItem 2 (some .boolean)) h [(ga (some a0))] (some (gi rr)) w0 ww := by
  refine j_start (own := RX4) (by decide +kernel) rfl (Nat.le_of_ble_eq_true rfl) ?_
  intro p e R s m args below meth c C hr hin hw
  unfold f_X4_isItem at hf
  show gJ D dA A K p l e R s m args below meth c (gEnd D dA A K below args s w0 (some (gi rr)) ww) 2 0 [(0, (ga (some a0)))] [] w0
  refine j_aload_n C dX4_isItem_0 rfl ?_
  replace hf := gB1_e hf
  obtain ⟨_, eo, hf⟩ := hf
  replace hf := gB2_e hf
  obtain ⟨x2, w1, ew1, hf⟩ := hf
  refine j_callV (As := []) (rest := []) (v := (some (gi x2))) C (by omega) (k_X4_sign (by omega) ew1) (gOb_e eo) rfl q233 q235 qs4 q95 q236 ⟨rfl, hd_X4_sign⟩ (by decide) rfl (Nat.le_of_ble_eq_true rfl) dX4_isItem_1 ?_
  refine j_istore_n (lv' := [(1, (gi x2)), (0, (ga (some a0)))]) C dX4_isItem_4 (by decide) rfl ?_
  refine j_iload_n C dX4_isItem_5 rfl ?_
  refine j_bipush (v := (nI 116)) C dX4_isItem_6 (by decide) ?_
  replace hf := gBd_x hf
  obtain ⟨k3, ek3, hf⟩ := hf
  have jk3 : ∀ (w4 : gw), k3 w4 = some (rr, ww) → gJ D dA A K p l e R s m args below meth c (gEnd D dA A K below args s w0 (some (gi rr)) ww) 2 41 [] [] w4 := by
    intro w4 hf
    rw [ek3] at hf
    dsimp only at hf
    refine j_iconst (v := (nI 1)) C dX4_isItem_41 (by decide) ?_
    refine j_goto (tgt := 46) C dX4_isItem_42 (by decide) ?_
    obtain ⟨rfl, rfl⟩ := gSome hf
    exact j_zret C hr (by decide) hw dX4_isItem_46
  clear ek3
  refine j_icmp_eq (tgt := 41) C dX4_isItem_8 (by decide) (fun c5 => ?_) (fun c5 => ?_)
  · replace hf := gIf_t hf c5
    refine j_sub (lv' := []) (gL_nil) ?_
    exact jk3 _ hf
  · replace hf := gIf_f hf c5
    refine j_iload_n C dX4_isItem_11 rfl ?_
    refine j_bipush (v := (nI 119)) C dX4_isItem_12 (by decide) ?_
    refine j_icmp_eq (tgt := 41) C dX4_isItem_14 (by decide) (fun c6 => ?_) (fun c6 => ?_)
    · replace hf := gIf_t hf c6
      refine j_sub (lv' := []) (gL_nil) ?_
      exact jk3 _ hf
    · replace hf := gIf_f hf c6
      refine j_iload_n C dX4_isItem_17 rfl ?_
      refine j_bipush (v := (nI 115)) C dX4_isItem_18 (by decide) ?_
      refine j_icmp_eq (tgt := 41) C dX4_isItem_20 (by decide) (fun c7 => ?_) (fun c7 => ?_)
      · replace hf := gIf_t hf c7
        refine j_sub (lv' := []) (gL_nil) ?_
        exact jk3 _ hf
      · replace hf := gIf_f hf c7
        refine j_iload_n C dX4_isItem_23 rfl ?_
        refine j_bipush (v := (nI 120)) C dX4_isItem_24 (by decide) ?_
        refine j_icmp_eq (tgt := 41) C dX4_isItem_26 (by decide) (fun c8 => ?_) (fun c8 => ?_)
        · replace hf := gIf_t hf c8
          refine j_sub (lv' := []) (gL_nil) ?_
          exact jk3 _ hf
        · replace hf := gIf_f hf c8
          refine j_iload_n C dX4_isItem_29 rfl ?_
          refine j_bipush (v := (nI 91)) C dX4_isItem_30 (by decide) ?_
          refine j_icmp_eq (tgt := 41) C dX4_isItem_32 (by decide) (fun c9 => ?_) (fun c9 => ?_)
          · replace hf := gIf_t hf c9
            refine j_sub (lv' := []) (gL_nil) ?_
            exact jk3 _ hf
          · replace hf := gIf_f hf c9
            refine j_iload_n C dX4_isItem_35 rfl ?_
            refine j_bipush (v := (nI 40)) C dX4_isItem_36 (by decide) ?_
            refine j_icmp_ne (tgt := 45) C dX4_isItem_38 (by decide) (fun c10 => ?_) (fun c10 => ?_)
            · replace hf := gIf_f hf c10
              refine j_iconst (v := (nI 0)) C dX4_isItem_45 (by decide) ?_
              obtain ⟨rfl, rfl⟩ := gSome hf
              exact j_zret C hr (by decide) hw dX4_isItem_46
            · replace hf := gIf_t hf c10
              refine j_sub (lv' := []) (gL_nil) ?_
              exact jk3 _ hf
def dkwX6_init_0 : List UInt8 := [42, 1, 1, 3, 3, 183, 0, 1, 42, 27, 181, 0, 7, 177]
abbrev dktX6_init_0 : List UInt8 := dkwX6_init_0 ++ []
theorem dksX6_init_0 : cX6_init.data.toList.drop 0 = dktX6_init_0 := by decide +kernel
theorem dX6_init_0 : decode cX6_init 0 = .ok (.aload_n 0, 1) := dk_42 (dk_at dksX6_init_0 0 rfl rfl)
theorem dX6_init_1 : decode cX6_init 1 = .ok (.aconst_null, 1) := dk_1 (dk_at dksX6_init_0 1 rfl rfl)
theorem dX6_init_2 : decode cX6_init 2 = .ok (.aconst_null, 1) := dk_1 (dk_at dksX6_init_0 2 rfl rfl)
theorem dX6_init_3 : decode cX6_init 3 = .ok (.iconst 0, 1) := dk_3 (dk_at dksX6_init_0 3 rfl rfl)
theorem dX6_init_4 : decode cX6_init 4 = .ok (.iconst 0, 1) := dk_3 (dk_at dksX6_init_0 4 rfl rfl)
theorem dX6_init_5 : decode cX6_init 5 = .ok (.invokespecial 1, 3) := dk_183 0 1 (dk_at dksX6_init_0 5 rfl rfl)
theorem dX6_init_8 : decode cX6_init 8 = .ok (.aload_n 0, 1) := dk_42 (dk_at dksX6_init_0 8 rfl rfl)
theorem dX6_init_9 : decode cX6_init 9 = .ok (.iload_n 1, 1) := dk_27 (dk_at dksX6_init_0 9 rfl rfl)
theorem dX6_init_10 : decode cX6_init 10 = .ok (.putfield 7, 3) := dk_181 0 7 (dk_at dksX6_init_0 10 rfl rfl)
theorem dX6_init_13 : decode cX6_init 13 = .ok (.return_, 1) := dk_177 (dk_at dksX6_init_0 13 rfl rfl)
theorem fl_X6_7_6 : gFL RX6 7 6 6 := gFL.mk (Cn := RX6) (T := TX6) (N := 7) (ref := "WorkflowEngine$BadSign") rfl in_X6 (by decide) q289 rfl rfl (Or.inl rfl)
theorem fk_6_6 : gFk 6 6 "I" true "WorkflowEngine$BadSign" := fun Cn T N h => by
  have h : (RX6, TX6, 7) = (Cn, T, N) := Option.some.inj h
  cases h
  exact ⟨rfl, rfl, rfl⟩
def f_X6_init (a0 : Nat) (p1 : Int32) (w0 : gw) : Option (Unit × gw) := gB2 (f_J4_init_c6 a0 none none (nI 0) (nI 0) w0) fun _ w1 => gB1 (gPut w1 a0 6 6 (gi p1)) fun w2 => some ((), w2)
set_option maxHeartbeats 4000000 in
set_option maxRecDepth 100000 in
theorem k_X6_init {D : va_G} {dA : Nat → ClassId} {A : Nat → Prop} {K : Nat → Nat} {l : Launch} {h : Nat} (hh : 3 ≤ h) {a0 : Nat} {p1 : Int32} {w0 ww : gw} {rr : Unit} (hf : f_X6_init a0 p1 w0 = some (rr, ww)) : gMet D dA A K l yX6_init (ws_ yX6_init cX6_init 2 none) h [(ga (some a0)), (gi p1)] none w0 ww := by
  refine j_start (own := RX6) (by decide +kernel) rfl (Nat.le_of_ble_eq_true rfl) ?_
  intro p e R s m args below meth c C hr hin hw
  unfold f_X6_init at hf
  show gJ D dA A K p l e R s m args below meth c (gEnd D dA A K below args s w0 none ww) 2 0 [(0, (ga (some a0))), (1, (gi p1))] [] w0
  refine j_aload_n C dX6_init_0 rfl ?_
  refine j_null C dX6_init_1 ?_
  refine j_null C dX6_init_2 ?_
  refine j_iconst (v := (nI 0)) C dX6_init_3 (by decide) ?_
  refine j_iconst (v := (nI 0)) C dX6_init_4 (by decide) ?_
  replace hf := gB2_e hf
  obtain ⟨_, w1, ew1, hf⟩ := hf
  refine j_callI (As := [(ga none), (ga none), (gi (nI 0)), (gi (nI 0))]) (rest := []) C (by omega) (k_J4_init_c6 (by omega) ew1) rfl q283 q284 q101 q285 hd_J4_init (by decide) rfl (Nat.le_of_ble_eq_true rfl) dX6_init_5 ?_
  refine j_aload_n C dX6_init_8 rfl ?_
  refine j_iload_n C dX6_init_9 rfl ?_
  replace hf := gB1_e hf
  obtain ⟨w2, ew2, hf⟩ := hf
  refine j_putF C fl_X6_7_6 tb_6 hin ew2 fk_6_6 rfl (fit_I p1) dX6_init_10 ?_
  obtain ⟨rfl, rfl⟩ := gSome hf
  exact j_vret C hr hw dX6_init_13
def dkwX7_init_0 : List UInt8 := [42, 1, 1, 3, 3, 183, 0, 1, 42, 27, 181, 0, 7, 177]
abbrev dktX7_init_0 : List UInt8 := dkwX7_init_0 ++ []
theorem dksX7_init_0 : cX7_init.data.toList.drop 0 = dktX7_init_0 := by decide +kernel
theorem dX7_init_0 : decode cX7_init 0 = .ok (.aload_n 0, 1) := dk_42 (dk_at dksX7_init_0 0 rfl rfl)
theorem dX7_init_1 : decode cX7_init 1 = .ok (.aconst_null, 1) := dk_1 (dk_at dksX7_init_0 1 rfl rfl)
theorem dX7_init_2 : decode cX7_init 2 = .ok (.aconst_null, 1) := dk_1 (dk_at dksX7_init_0 2 rfl rfl)
theorem dX7_init_3 : decode cX7_init 3 = .ok (.iconst 0, 1) := dk_3 (dk_at dksX7_init_0 3 rfl rfl)
theorem dX7_init_4 : decode cX7_init 4 = .ok (.iconst 0, 1) := dk_3 (dk_at dksX7_init_0 4 rfl rfl)
theorem dX7_init_5 : decode cX7_init 5 = .ok (.invokespecial 1, 3) := dk_183 0 1 (dk_at dksX7_init_0 5 rfl rfl)
theorem dX7_init_8 : decode cX7_init 8 = .ok (.aload_n 0, 1) := dk_42 (dk_at dksX7_init_0 8 rfl rfl)
theorem dX7_init_9 : decode cX7_init 9 = .ok (.iload_n 1, 1) := dk_27 (dk_at dksX7_init_0 9 rfl rfl)
theorem dX7_init_10 : decode cX7_init 10 = .ok (.putfield 7, 3) := dk_181 0 7 (dk_at dksX7_init_0 10 rfl rfl)
theorem dX7_init_13 : decode cX7_init 13 = .ok (.return_, 1) := dk_177 (dk_at dksX7_init_0 13 rfl rfl)
theorem fl_X7_7_7 : gFL RX7 7 7 6 := gFL.mk (Cn := RX7) (T := TX7) (N := 7) (ref := "WorkflowEngine$TooMuch") rfl in_X7 (by decide) q323 rfl rfl (Or.inl rfl)
theorem fk_7_6 : gFk 7 6 "I" true "WorkflowEngine$TooMuch" := fun Cn T N h => by
  have h : (RX7, TX7, 7) = (Cn, T, N) := Option.some.inj h
  cases h
  exact ⟨rfl, rfl, rfl⟩
def f_X7_init (a0 : Nat) (p1 : Int32) (w0 : gw) : Option (Unit × gw) := gB2 (f_J4_init_c7 a0 none none (nI 0) (nI 0) w0) fun _ w1 => gB1 (gPut w1 a0 7 6 (gi p1)) fun w2 => some ((), w2)
set_option maxHeartbeats 4000000 in
set_option maxRecDepth 100000 in
theorem k_X7_init {D : va_G} {dA : Nat → ClassId} {A : Nat → Prop} {K : Nat → Nat} {l : Launch} {h : Nat} (hh : 3 ≤ h) {a0 : Nat} {p1 : Int32} {w0 ww : gw} {rr : Unit} (hf : f_X7_init a0 p1 w0 = some (rr, ww)) : gMet D dA A K l yX7_init (ws_ yX7_init cX7_init 2 none) h [(ga (some a0)), (gi p1)] none w0 ww := by
  refine j_start (own := RX7) (by decide +kernel) rfl (Nat.le_of_ble_eq_true rfl) ?_
  intro p e R s m args below meth c C hr hin hw
  unfold f_X7_init at hf
  show gJ D dA A K p l e R s m args below meth c (gEnd D dA A K below args s w0 none ww) 2 0 [(0, (ga (some a0))), (1, (gi p1))] [] w0
  refine j_aload_n C dX7_init_0 rfl ?_
  refine j_null C dX7_init_1 ?_
  refine j_null C dX7_init_2 ?_
  refine j_iconst (v := (nI 0)) C dX7_init_3 (by decide) ?_
  refine j_iconst (v := (nI 0)) C dX7_init_4 (by decide) ?_
  replace hf := gB2_e hf
  obtain ⟨_, w1, ew1, hf⟩ := hf
  refine j_callI (As := [(ga none), (ga none), (gi (nI 0)), (gi (nI 0))]) (rest := []) C (by omega) (k_J4_init_c7 (by omega) ew1) rfl q322 q284 q101 q285 hd_J4_init (by decide) rfl (Nat.le_of_ble_eq_true rfl) dX7_init_5 ?_
  refine j_aload_n C dX7_init_8 rfl ?_
  refine j_iload_n C dX7_init_9 rfl ?_
  replace hf := gB1_e hf
  obtain ⟨w2, ew2, hf⟩ := hf
  refine j_putF C fl_X7_7_7 tb_7 hin ew2 fk_7_6 rfl (fit_I p1) dX7_init_10 ?_
  obtain ⟨rfl, rfl⟩ := gSome hf
  exact j_vret C hr hw dX7_init_13
def dkwX9_init_1 : List UInt8 := [181, 0, 19, 177]
abbrev dktX9_init_1 : List UInt8 := dkwX9_init_1 ++ []
def dkwX9_init_0 : List UInt8 := [42, 27, 183, 0, 1, 42, 28, 181, 0, 7, 42, 29, 181, 0, 13, 42, 21, 4, 181, 0, 16, 42, 21, 5]
abbrev dktX9_init_0 : List UInt8 := dkwX9_init_0 ++ dktX9_init_1
theorem dksX9_init_0 : cX9_init.data.toList.drop 0 = dktX9_init_0 := by decide +kernel
theorem dksX9_init_1 : cX9_init.data.toList.drop 24 = dktX9_init_1 := dk_seg dksX9_init_0 24 rfl rfl
theorem dX9_init_0 : decode cX9_init 0 = .ok (.aload_n 0, 1) := dk_42 (dk_at dksX9_init_0 0 rfl rfl)
theorem dX9_init_1 : decode cX9_init 1 = .ok (.iload_n 1, 1) := dk_27 (dk_at dksX9_init_0 1 rfl rfl)
theorem dX9_init_2 : decode cX9_init 2 = .ok (.invokespecial 1, 3) := dk_183 0 1 (dk_at dksX9_init_0 2 rfl rfl)
theorem dX9_init_5 : decode cX9_init 5 = .ok (.aload_n 0, 1) := dk_42 (dk_at dksX9_init_0 5 rfl rfl)
theorem dX9_init_6 : decode cX9_init 6 = .ok (.iload_n 2, 1) := dk_28 (dk_at dksX9_init_0 6 rfl rfl)
theorem dX9_init_7 : decode cX9_init 7 = .ok (.putfield 7, 3) := dk_181 0 7 (dk_at dksX9_init_0 7 rfl rfl)
theorem dX9_init_10 : decode cX9_init 10 = .ok (.aload_n 0, 1) := dk_42 (dk_at dksX9_init_0 10 rfl rfl)
theorem dX9_init_11 : decode cX9_init 11 = .ok (.iload_n 3, 1) := dk_29 (dk_at dksX9_init_0 11 rfl rfl)
theorem dX9_init_12 : decode cX9_init 12 = .ok (.putfield 13, 3) := dk_181 0 13 (dk_at dksX9_init_0 12 rfl rfl)
theorem dX9_init_15 : decode cX9_init 15 = .ok (.aload_n 0, 1) := dk_42 (dk_at dksX9_init_0 15 rfl rfl)
theorem dX9_init_16 : decode cX9_init 16 = .ok (.iload 4, 2) := dk_21 4 (dk_at dksX9_init_0 16 rfl rfl)
theorem dX9_init_18 : decode cX9_init 18 = .ok (.putfield 16, 3) := dk_181 0 16 (dk_at dksX9_init_0 18 rfl rfl)
theorem dX9_init_21 : decode cX9_init 21 = .ok (.aload_n 0, 1) := dk_42 (dk_at dksX9_init_0 21 rfl rfl)
theorem dX9_init_22 : decode cX9_init 22 = .ok (.iload 5, 2) := dk_21 5 (dk_at dksX9_init_0 22 rfl rfl)
theorem dX9_init_24 : decode cX9_init 24 = .ok (.putfield 19, 3) := dk_181 0 19 (dk_at dksX9_init_1 0 rfl rfl)
theorem dX9_init_27 : decode cX9_init 27 = .ok (.return_, 1) := dk_177 (dk_at dksX9_init_1 3 rfl rfl)
theorem fl_X9_7_9 : gFL RX9 7 9 1 := gFL.mk (Cn := RX9) (T := TX9) (N := 5) (ref := "WorkflowEngine$Task") rfl in_X9 (by decide) q362 rfl rfl (Or.inl rfl)
theorem fk_9_1 : gFk 9 1 "I" true "WorkflowEngine$Task" := fun Cn T N h => by
  have h : (RX9, TX9, 5) = (Cn, T, N) := Option.some.inj h
  cases h
  exact ⟨rfl, rfl, rfl⟩
theorem fl_X9_13_9 : gFL RX9 13 9 2 := gFL.mk (Cn := RX9) (T := TX9) (N := 5) (ref := "WorkflowEngine$Task") rfl in_X9 (by decide) q365 rfl rfl (Or.inl rfl)
theorem fk_9_2 : gFk 9 2 "I" true "WorkflowEngine$Task" := fun Cn T N h => by
  have h : (RX9, TX9, 5) = (Cn, T, N) := Option.some.inj h
  cases h
  exact ⟨rfl, rfl, rfl⟩
theorem fl_X9_16_9 : gFL RX9 16 9 3 := gFL.mk (Cn := RX9) (T := TX9) (N := 5) (ref := "WorkflowEngine$Task") rfl in_X9 (by decide) q367 rfl rfl (Or.inl rfl)
theorem fk_9_3 : gFk 9 3 "I" true "WorkflowEngine$Task" := fun Cn T N h => by
  have h : (RX9, TX9, 5) = (Cn, T, N) := Option.some.inj h
  cases h
  exact ⟨rfl, rfl, rfl⟩
theorem fl_X9_19_9 : gFL RX9 19 9 4 := gFL.mk (Cn := RX9) (T := TX9) (N := 5) (ref := "WorkflowEngine$Task") rfl in_X9 (by decide) q369 rfl rfl (Or.inl rfl)
theorem fk_9_4 : gFk 9 4 "I" true "WorkflowEngine$Task" := fun Cn T N h => by
  have h : (RX9, TX9, 5) = (Cn, T, N) := Option.some.inj h
  cases h
  exact ⟨rfl, rfl, rfl⟩
def f_X9_init (a0 : Nat) (p1 : Int32) (p2 : Int32) (p3 : Int32) (p4 : Int32) (p5 : Int32) (w0 : gw) : Option (Unit × gw) := gB2 (f_X8_init_c9 a0 p1 w0) fun _ w1 => gB1 (gPut w1 a0 9 1 (gi p2)) fun w2 => gB1 (gPut w2 a0 9 2 (gi p3)) fun w3 => gB1 (gPut w3 a0 9 3 (gi p4)) fun w4 => gB1 (gPut w4 a0 9 4 (gi p5)) fun w5 => some ((), w5)
set_option maxHeartbeats 4000000 in
set_option maxRecDepth 100000 in
theorem k_X9_init {D : va_G} {dA : Nat → ClassId} {A : Nat → Prop} {K : Nat → Nat} {l : Launch} {h : Nat} (hh : 2 ≤ h) {a0 : Nat} {p1 : Int32} {p2 : Int32} {p3 : Int32} {p4 : Int32} {p5 : Int32} {w0 ww : gw} {rr : Unit} (hf : f_X9_init a0 p1 p2 p3 p4 p5 w0 = some (rr, ww)) : gMet D dA A K l yX9_init (ws_ yX9_init cX9_init 6 none) h [(ga (some a0)), (gi p1), (gi p2), (gi p3), (gi p4), (gi p5)] none w0 ww := by
  refine j_start (own := RX9) (by decide +kernel) rfl (Nat.le_of_ble_eq_true rfl) ?_
  intro p e R s m args below meth c C hr hin hw
  unfold f_X9_init at hf
  show gJ D dA A K p l e R s m args below meth c (gEnd D dA A K below args s w0 none ww) 6 0 [(0, (ga (some a0))), (1, (gi p1)), (2, (gi p2)), (3, (gi p3)), (4, (gi p4)), (5, (gi p5))] [] w0
  refine j_aload_n C dX9_init_0 rfl ?_
  refine j_iload_n C dX9_init_1 rfl ?_
  replace hf := gB2_e hf
  obtain ⟨_, w1, ew1, hf⟩ := hf
  refine j_callI (As := [(gi p1)]) (rest := []) C (by omega) (k_X8_init_c9 (by omega) ew1) rfl q358 q359 q104 q360 hd_X8_init (by decide) rfl (Nat.le_of_ble_eq_true rfl) dX9_init_2 ?_
  refine j_aload_n C dX9_init_5 rfl ?_
  refine j_iload_n C dX9_init_6 rfl ?_
  replace hf := gB1_e hf
  obtain ⟨w2, ew2, hf⟩ := hf
  refine j_putF C fl_X9_7_9 tb_9 hin ew2 fk_9_1 rfl (fit_I p2) dX9_init_7 ?_
  refine j_aload_n C dX9_init_10 rfl ?_
  refine j_iload_n C dX9_init_11 rfl ?_
  replace hf := gB1_e hf
  obtain ⟨w3, ew3, hf⟩ := hf
  refine j_putF C fl_X9_13_9 tb_9 hin ew3 fk_9_2 rfl (fit_I p3) dX9_init_12 ?_
  refine j_aload_n C dX9_init_15 rfl ?_
  refine j_iload C dX9_init_16 rfl ?_
  replace hf := gB1_e hf
  obtain ⟨w4, ew4, hf⟩ := hf
  refine j_putF C fl_X9_16_9 tb_9 hin ew4 fk_9_3 rfl (fit_I p4) dX9_init_18 ?_
  refine j_aload_n C dX9_init_21 rfl ?_
  refine j_iload C dX9_init_22 rfl ?_
  replace hf := gB1_e hf
  obtain ⟨w5, ew5, hf⟩ := hf
  refine j_putF C fl_X9_19_9 tb_9 hin ew5 fk_9_4 rfl (fit_I p5) dX9_init_24 ?_
  obtain ⟨rfl, rfl⟩ := gSome hf
  exact j_vret C hr hw dX9_init_27
def dkwX9_begins_0 : List UInt8 := [187, 0, 22, 89, 43, 182, 0, 24, 89, 184, 0, 30, 87, 43, 42, 183, 0, 36, 176]
abbrev dktX9_begins_0 : List UInt8 := dkwX9_begins_0 ++ []
theorem dksX9_begins_0 : cX9_begins.data.toList.drop 0 = dktX9_begins_0 := by decide +kernel
theorem dX9_begins_0 : decode cX9_begins 0 = .ok (.new 22, 3) := dk_187 0 22 (dk_at dksX9_begins_0 0 rfl rfl)
theorem dX9_begins_3 : decode cX9_begins 3 = .ok (.dup, 1) := dk_89 (dk_at dksX9_begins_0 3 rfl rfl)
theorem dX9_begins_4 : decode cX9_begins 4 = .ok (.aload_n 1, 1) := dk_43 (dk_at dksX9_begins_0 4 rfl rfl)
theorem dX9_begins_5 : decode cX9_begins 5 = .ok (.invokevirtual 24, 3) := dk_182 0 24 (dk_at dksX9_begins_0 5 rfl rfl)
theorem dX9_begins_8 : decode cX9_begins 8 = .ok (.dup, 1) := dk_89 (dk_at dksX9_begins_0 8 rfl rfl)
theorem dX9_begins_9 : decode cX9_begins 9 = .ok (.invokestatic 30, 3) := dk_184 0 30 (dk_at dksX9_begins_0 9 rfl rfl)
theorem dX9_begins_12 : decode cX9_begins 12 = .ok (.pop, 1) := dk_87 (dk_at dksX9_begins_0 12 rfl rfl)
theorem dX9_begins_13 : decode cX9_begins 13 = .ok (.aload_n 1, 1) := dk_43 (dk_at dksX9_begins_0 13 rfl rfl)
theorem dX9_begins_14 : decode cX9_begins 14 = .ok (.aload_n 0, 1) := dk_42 (dk_at dksX9_begins_0 14 rfl rfl)
theorem dX9_begins_15 : decode cX9_begins 15 = .ok (.invokespecial 36, 3) := dk_183 0 36 (dk_at dksX9_begins_0 15 rfl rfl)
theorem dX9_begins_18 : decode cX9_begins 18 = .ok (.areturn, 1) := dk_176 (dk_at dksX9_begins_0 18 rfl rfl)
theorem nl_X9_22 : gNL RX9 22 23 := ⟨RX23, TX23, 8, 8, tyX23, _, rfl, rfl, in_X23, tyX23_ok, q1060, q1061, q127, fun j hj => by rcases (show j = 0 ∨ j = 1 ∨ j = 2 ∨ j = 3 ∨ j = 4 ∨ j = 5 ∨ j = 6 ∨ j = 7 by omega) with rfl | rfl | rfl | rfl | rfl | rfl | rfl | rfl <;> rfl⟩
theorem hd_X16_engine : (yX16_engine.cls ≠ "java/lang/invoke/MethodHandle" ∧ yX16_engine.cls ≠ "java/lang/invoke/VarHandle" ∧ (parseMethodDescriptor yX16_engine.desc).map (fun d => d.parameters.length) = some 0) := ⟨by decide +kernel, by decide +kernel, by decide +kernel⟩
theorem hd_J8_requireNonNull : (yJ8_requireNonNull.cls ≠ "java/lang/invoke/MethodHandle" ∧ yJ8_requireNonNull.cls ≠ "java/lang/invoke/VarHandle" ∧ (parseMethodDescriptor yJ8_requireNonNull.desc).map (fun d => d.parameters.length) = some 1) := ⟨by decide +kernel, by decide +kernel, by decide +kernel⟩
def f_X9_begins (a0 : Nat) (p1 : Option Nat) (w0 : gw) : Option (Option Nat × gw) := gB2 (gNew w0 23) fun a1 w2 => gB1 p1 fun a3 => gB1 (gOb w2 a3 16) fun _ => gB2 (f_X16_engine a3  w2) fun r5 w4 => gB2 (f_J8_requireNonNull r5 w4) fun r7 w6 => gB2 (f_X23_init a1 r5 (some a3) (some a0) w6) fun _ w8 => some ((some a1), w8)
set_option maxHeartbeats 4000000 in
set_option maxRecDepth 100000 in
theorem k_X9_begins {D : va_G} {dA : Nat → ClassId} {A : Nat → Prop} {K : Nat → Nat} {l : Launch} {h : Nat} (hh : 3 ≤ h) {a0 : Nat} {p1 : Option Nat} {w0 ww : gw} {rr : Option Nat} (hf : f_X9_begins a0 p1 w0 = some (rr, ww)) : gMet D dA A K l yX9_begins (ws_ yX9_begins cX9_begins 2 (some (.object "WorkflowEngine$Run"))) h [(ga (some a0)), (ga p1)] (some (ga rr)) w0 ww := by
  refine j_start (own := RX9) (by decide +kernel) rfl (Nat.le_of_ble_eq_true rfl) ?_
  intro p e R s m args below meth c C hr hin hw
  unfold f_X9_begins at hf
  show gJ D dA A K p l e R s m args below meth c (gEnd D dA A K below args s w0 (some (ga rr)) ww) 2 0 [(0, (ga (some a0))), (1, (ga p1))] [] w0
  replace hf := gB2_e hf
  obtain ⟨a1, w2, ew2, hf⟩ := hf
  refine j_new C nl_X9_22 ew2 dX9_begins_0 ?_
  refine j_dup C dX9_begins_3 ?_
  refine j_aload_n C dX9_begins_4 rfl ?_
  replace hf := gB1_e hf
  obtain ⟨a3, ea3, hf⟩ := hf
  subst ea3
  replace hf := gB1_e hf
  obtain ⟨_, eo, hf⟩ := hf
  replace hf := gB2_e hf
  obtain ⟨r5, w4, ew4, hf⟩ := hf
  refine j_callV (As := []) (rest := [(ga (some a1)), (ga (some a1))]) (v := (some (ga r5))) C (by omega) (k_X16_engine (by omega) ew4) (gOb_e eo) rfl q1062 q973 q974 q118 q975 ⟨rfl, hd_X16_engine⟩ (by decide) rfl (Nat.le_of_ble_eq_true rfl) dX9_begins_5 ?_
  refine j_dup C dX9_begins_8 ?_
  replace hf := gB2_e hf
  obtain ⟨r7, w6, ew6, hf⟩ := hf
  refine j_callS (As := [(ga r5)]) (rest := [(ga r5), (ga (some a1)), (ga (some a1))]) (v := (some (ga r7))) C (by omega) (k_J8_requireNonNull (by omega) ew6) q1063 q977 q116 q978 hd_J8_requireNonNull (by decide) rfl (Nat.le_of_ble_eq_true rfl) dX9_begins_9 ?_
  refine j_pop C dX9_begins_12 ?_
  refine j_aload_n C dX9_begins_13 rfl ?_
  refine j_aload_n C dX9_begins_14 rfl ?_
  replace hf := gB2_e hf
  obtain ⟨_, w8, ew8, hf⟩ := hf
  refine j_callI (As := [(ga r5), (ga (some a3)), (ga (some a0))]) (rest := [(ga (some a1))]) C (by omega) (k_X23_init (by omega) ew8) rfl q1064 q1065 q127 q1066 hd_X23_init (by decide) rfl (Nat.le_of_ble_eq_true rfl) dX9_begins_15 ?_
  obtain ⟨rfl, rfl⟩ := gSome hf
  exact j_aret C hr (Or.inl ⟨_, rfl⟩) hw dX9_begins_18
def dkwJ1_init_0 : List UInt8 := [42, 183, 0, 1, 42, 3, 181, 0, 7, 177]
abbrev dktJ1_init_0 : List UInt8 := dkwJ1_init_0 ++ []
theorem dksJ1_init_0 : cJ1_init.data.toList.drop 0 = dktJ1_init_0 := by decide +kernel
theorem dJ1_init_0 : decode cJ1_init 0 = .ok (.aload_n 0, 1) := dk_42 (dk_at dksJ1_init_0 0 rfl rfl)
theorem dJ1_init_1 : decode cJ1_init 1 = .ok (.invokespecial 1, 3) := dk_183 0 1 (dk_at dksJ1_init_0 1 rfl rfl)
theorem dJ1_init_4 : decode cJ1_init 4 = .ok (.aload_n 0, 1) := dk_42 (dk_at dksJ1_init_0 4 rfl rfl)
theorem dJ1_init_5 : decode cJ1_init 5 = .ok (.iconst 0, 1) := dk_3 (dk_at dksJ1_init_0 5 rfl rfl)
theorem dJ1_init_6 : decode cJ1_init 6 = .ok (.putfield 7, 3) := dk_181 0 7 (dk_at dksJ1_init_0 6 rfl rfl)
theorem dJ1_init_9 : decode cJ1_init 9 = .ok (.return_, 1) := dk_177 (dk_at dksJ1_init_0 9 rfl rfl)
theorem hd_J0_init : (yJ0_init.cls ≠ "java/lang/invoke/MethodHandle" ∧ yJ0_init.cls ≠ "java/lang/invoke/VarHandle" ∧ (parseMethodDescriptor yJ0_init.desc).map (fun d => d.parameters.length) = some 0) := ⟨by decide +kernel, by decide +kernel, by decide +kernel⟩
theorem fl_J1_7_8 : gFL RJ1 7 8 0 := gFL.mk (Cn := RJ2) (T := TJ2) (N := 3) (ref := "java/util/AbstractList") rfl in_J2 (by decide) q209 rfl rfl (Or.inl rfl)
theorem nm_8 : gNm TJ2 3 := by
  unfold gNm
  decide +kernel
theorem tb_8 : gTb 8 := fun Cn T N h => by
  have h : (RJ2, TJ2, 3) = (Cn, T, N) := Option.some.inj h
  cases h
  exact ⟨nm_8, tyJ2, tyJ2_ok⟩
theorem fk_8_0 : gFk 8 0 "I" false "java/util/AbstractList" := fun Cn T N h => by
  have h : (RJ2, TJ2, 3) = (Cn, T, N) := Option.some.inj h
  cases h
  exact ⟨rfl, rfl, rfl⟩
def f_J1_init_c8 (a0 : Nat) (w0 : gw) : Option (Unit × gw) := gB2 (f_J0_init_c8 a0  w0) fun _ w1 => gB1 (gPut w1 a0 8 0 (gi (nI 0))) fun w2 => some ((), w2)
set_option maxHeartbeats 4000000 in
set_option maxRecDepth 100000 in
theorem k_J1_init_c8 {D : va_G} {dA : Nat → ClassId} {A : Nat → Prop} {K : Nat → Nat} {l : Launch} {h : Nat} (hh : 2 ≤ h) {a0 : Nat} {w0 ww : gw} {rr : Unit} (hf : f_J1_init_c8 a0 w0 = some (rr, ww)) : gMet D dA A K l yJ1_init (ws_ yJ1_init cJ1_init 1 none) h [(ga (some a0))] none w0 ww := by
  refine j_start (own := RJ1) (by decide +kernel) rfl (Nat.le_of_ble_eq_true rfl) ?_
  intro p e R s m args below meth c C hr hin hw
  unfold f_J1_init_c8 at hf
  show gJ D dA A K p l e R s m args below meth c (gEnd D dA A K below args s w0 none ww) 1 0 [(0, (ga (some a0)))] [] w0
  refine j_aload_n C dJ1_init_0 rfl ?_
  replace hf := gB2_e hf
  obtain ⟨_, w1, ew1, hf⟩ := hf
  refine j_callI (As := []) (rest := []) C (by omega) (k_J0_init_c8 (by omega) ew1) rfl q201 q202 q97 q203 hd_J0_init (by decide) rfl (Nat.le_of_ble_eq_true rfl) dJ1_init_1 ?_
  refine j_aload_n C dJ1_init_4 rfl ?_
  refine j_iconst (v := (nI 0)) C dJ1_init_5 (by decide) ?_
  replace hf := gB1_e hf
  obtain ⟨w2, ew2, hf⟩ := hf
  refine j_put C fl_J1_7_8 tb_8 ew2 fk_8_0 (fit_I (nI 0)) dJ1_init_6 ?_
  obtain ⟨rfl, rfl⟩ := gSome hf
  exact j_vret C hr hw dJ1_init_9
def dkwJ2_init_0 : List UInt8 := [42, 183, 0, 1, 42, 178, 0, 39, 181, 0, 9, 177]
abbrev dktJ2_init_0 : List UInt8 := dkwJ2_init_0 ++ []
theorem dksJ2_init_0 : cJ2_init.data.toList.drop 0 = dktJ2_init_0 := by decide +kernel
theorem dJ2_init_0 : decode cJ2_init 0 = .ok (.aload_n 0, 1) := dk_42 (dk_at dksJ2_init_0 0 rfl rfl)
theorem dJ2_init_1 : decode cJ2_init 1 = .ok (.invokespecial 1, 3) := dk_183 0 1 (dk_at dksJ2_init_0 1 rfl rfl)
theorem dJ2_init_4 : decode cJ2_init 4 = .ok (.aload_n 0, 1) := dk_42 (dk_at dksJ2_init_0 4 rfl rfl)
theorem dJ2_init_5 : decode cJ2_init 5 = .ok (.getstatic 39, 3) := dk_178 0 39 (dk_at dksJ2_init_0 5 rfl rfl)
theorem dJ2_init_8 : decode cJ2_init 8 = .ok (.putfield 9, 3) := dk_181 0 9 (dk_at dksJ2_init_0 8 rfl rfl)
theorem dJ2_init_11 : decode cJ2_init 11 = .ok (.return_, 1) := dk_177 (dk_at dksJ2_init_0 11 rfl rfl)
theorem hd_J1_init : (yJ1_init.cls ≠ "java/lang/invoke/MethodHandle" ∧ yJ1_init.cls ≠ "java/lang/invoke/VarHandle" ∧ (parseMethodDescriptor yJ1_init.desc).map (fun d => d.parameters.length) = some 0) := ⟨by decide +kernel, by decide +kernel, by decide +kernel⟩
theorem ft__Ljava_lang_Object_ (r : Option Nat) : gFit "[Ljava/lang/Object;" (ga r) := ⟨.array (.object "java/lang/Object"), by decide +kernel, by cases r <;> rfl, by cases r <;> rfl⟩
theorem fk_8_1 : gFk 8 1 "[Ljava/lang/Object;" false "java/util/ArrayList" := fun Cn T N h => by
  have h : (RJ2, TJ2, 3) = (Cn, T, N) := Option.some.inj h
  cases h
  exact ⟨rfl, rfl, rfl⟩
def f_J2_init (a0 : Nat) (w0 : gw) : Option (Unit × gw) := gB2 (f_J1_init_c8 a0  w0) fun _ w1 => gB1 (gPut w1 a0 8 1 (ga (some (w1.2.2.2 5)))) fun w2 => some ((), w2)
set_option maxHeartbeats 4000000 in
set_option maxRecDepth 100000 in
theorem k_J2_init {D : va_G} {dA : Nat → ClassId} {A : Nat → Prop} {K : Nat → Nat} {l : Launch} {h : Nat} (hh : 3 ≤ h) {a0 : Nat} {w0 ww : gw} {rr : Unit} (hf : f_J2_init a0 w0 = some (rr, ww)) : gMet D dA A K l yJ2_init (ws_ yJ2_init cJ2_init 1 none) h [(ga (some a0))] none w0 ww := by
  refine j_start (own := RJ2) (by decide +kernel) rfl (Nat.le_of_ble_eq_true rfl) ?_
  intro p e R s m args below meth c C hr hin hw
  unfold f_J2_init at hf
  show gJ D dA A K p l e R s m args below meth c (gEnd D dA A K below args s w0 none ww) 1 0 [(0, (ga (some a0)))] [] w0
  refine j_aload_n C dJ2_init_0 rfl ?_
  replace hf := gB2_e hf
  obtain ⟨_, w1, ew1, hf⟩ := hf
  refine j_callI (As := []) (rest := []) C (by omega) (k_J1_init_c8 (by omega) ew1) rfl q198 q199 q98 q200 hd_J1_init (by decide) rfl (Nat.le_of_ble_eq_true rfl) dJ2_init_1 ?_
  refine j_aload_n C dJ2_init_4 rfl ?_
  refine j_gets (i := 5) C C.2.2.2.2.2.1.2.2.2.2.1.2.2.2.1 q205 dJ2_init_5 ?_
  replace hf := gB1_e hf
  obtain ⟨w2, ew2, hf⟩ := hf
  refine j_put C fl_J2_9_8 tb_8 ew2 fk_8_1 (ft__Ljava_lang_Object_ (some (w1.2.2.2 5))) dJ2_init_8 ?_
  obtain ⟨rfl, rfl⟩ := gSome hf
  exact j_vret C hr hw dJ2_init_11
def dkwJ2_grow_2_2 : List UInt8 := [27, 184, 0, 79, 189, 0, 7, 90, 181, 0, 9, 176]
abbrev dktJ2_grow_2_2 : List UInt8 := dkwJ2_grow_2_2 ++ []
def dkwJ2_grow_2_1 : List UInt8 := [28, 4, 122, 184, 0, 73, 62, 42, 42, 180, 0, 9, 29, 184, 0, 66, 90, 181, 0, 9, 176, 42, 16, 10]
abbrev dktJ2_grow_2_1 : List UInt8 := dkwJ2_grow_2_1 ++ dktJ2_grow_2_2
def dkwJ2_grow_2_0 : List UInt8 := [42, 180, 0, 9, 190, 61, 28, 157, 0, 13, 42, 180, 0, 9, 178, 0, 39, 165, 0, 28, 28, 27, 28, 100]
abbrev dktJ2_grow_2_0 : List UInt8 := dkwJ2_grow_2_0 ++ dktJ2_grow_2_1
theorem dksJ2_grow_2_0 : cJ2_grow_2.data.toList.drop 0 = dktJ2_grow_2_0 := by decide +kernel
theorem dksJ2_grow_2_1 : cJ2_grow_2.data.toList.drop 24 = dktJ2_grow_2_1 := dk_seg dksJ2_grow_2_0 24 rfl rfl
theorem dksJ2_grow_2_2 : cJ2_grow_2.data.toList.drop 48 = dktJ2_grow_2_2 := dk_seg dksJ2_grow_2_1 24 rfl rfl
theorem dJ2_grow_2_0 : decode cJ2_grow_2 0 = .ok (.aload_n 0, 1) := dk_42 (dk_at dksJ2_grow_2_0 0 rfl rfl)
theorem dJ2_grow_2_1 : decode cJ2_grow_2 1 = .ok (.getfield 9, 3) := dk_180 0 9 (dk_at dksJ2_grow_2_0 1 rfl rfl)
theorem dJ2_grow_2_4 : decode cJ2_grow_2 4 = .ok (.arraylength, 1) := dk_190 (dk_at dksJ2_grow_2_0 4 rfl rfl)
theorem dJ2_grow_2_5 : decode cJ2_grow_2 5 = .ok (.istore_n 2, 1) := dk_61 (dk_at dksJ2_grow_2_0 5 rfl rfl)
theorem dJ2_grow_2_6 : decode cJ2_grow_2 6 = .ok (.iload_n 2, 1) := dk_28 (dk_at dksJ2_grow_2_0 6 rfl rfl)
theorem dJ2_grow_2_7 : decode cJ2_grow_2 7 = .ok (.ifCond .gt 13, 3) := dk_157 0 13 (dk_at dksJ2_grow_2_0 7 rfl rfl)
theorem dJ2_grow_2_10 : decode cJ2_grow_2 10 = .ok (.aload_n 0, 1) := dk_42 (dk_at dksJ2_grow_2_0 10 rfl rfl)
theorem dJ2_grow_2_11 : decode cJ2_grow_2 11 = .ok (.getfield 9, 3) := dk_180 0 9 (dk_at dksJ2_grow_2_0 11 rfl rfl)
theorem dJ2_grow_2_14 : decode cJ2_grow_2 14 = .ok (.getstatic 39, 3) := dk_178 0 39 (dk_at dksJ2_grow_2_0 14 rfl rfl)
theorem dJ2_grow_2_17 : decode cJ2_grow_2 17 = .ok (.if_acmp .eq 28, 3) := dk_165 0 28 (dk_at dksJ2_grow_2_0 17 rfl rfl)
theorem dJ2_grow_2_20 : decode cJ2_grow_2 20 = .ok (.iload_n 2, 1) := dk_28 (dk_at dksJ2_grow_2_0 20 rfl rfl)
theorem dJ2_grow_2_21 : decode cJ2_grow_2 21 = .ok (.iload_n 1, 1) := dk_27 (dk_at dksJ2_grow_2_0 21 rfl rfl)
theorem dJ2_grow_2_22 : decode cJ2_grow_2 22 = .ok (.iload_n 2, 1) := dk_28 (dk_at dksJ2_grow_2_0 22 rfl rfl)
theorem dJ2_grow_2_23 : decode cJ2_grow_2 23 = .ok (.isub, 1) := dk_100 (dk_at dksJ2_grow_2_0 23 rfl rfl)
theorem dJ2_grow_2_24 : decode cJ2_grow_2 24 = .ok (.iload_n 2, 1) := dk_28 (dk_at dksJ2_grow_2_1 0 rfl rfl)
theorem dJ2_grow_2_25 : decode cJ2_grow_2 25 = .ok (.iconst 1, 1) := dk_4 (dk_at dksJ2_grow_2_1 1 rfl rfl)
theorem dJ2_grow_2_26 : decode cJ2_grow_2 26 = .ok (.ishr, 1) := dk_122 (dk_at dksJ2_grow_2_1 2 rfl rfl)
theorem dJ2_grow_2_27 : decode cJ2_grow_2 27 = .ok (.invokestatic 73, 3) := dk_184 0 73 (dk_at dksJ2_grow_2_1 3 rfl rfl)
theorem dJ2_grow_2_30 : decode cJ2_grow_2 30 = .ok (.istore_n 3, 1) := dk_62 (dk_at dksJ2_grow_2_1 6 rfl rfl)
theorem dJ2_grow_2_31 : decode cJ2_grow_2 31 = .ok (.aload_n 0, 1) := dk_42 (dk_at dksJ2_grow_2_1 7 rfl rfl)
theorem dJ2_grow_2_32 : decode cJ2_grow_2 32 = .ok (.aload_n 0, 1) := dk_42 (dk_at dksJ2_grow_2_1 8 rfl rfl)
theorem dJ2_grow_2_33 : decode cJ2_grow_2 33 = .ok (.getfield 9, 3) := dk_180 0 9 (dk_at dksJ2_grow_2_1 9 rfl rfl)
theorem dJ2_grow_2_36 : decode cJ2_grow_2 36 = .ok (.iload_n 3, 1) := dk_29 (dk_at dksJ2_grow_2_1 12 rfl rfl)
theorem dJ2_grow_2_37 : decode cJ2_grow_2 37 = .ok (.invokestatic 66, 3) := dk_184 0 66 (dk_at dksJ2_grow_2_1 13 rfl rfl)
theorem dJ2_grow_2_40 : decode cJ2_grow_2 40 = .ok (.dup_x1, 1) := dk_90 (dk_at dksJ2_grow_2_1 16 rfl rfl)
theorem dJ2_grow_2_41 : decode cJ2_grow_2 41 = .ok (.putfield 9, 3) := dk_181 0 9 (dk_at dksJ2_grow_2_1 17 rfl rfl)
theorem dJ2_grow_2_44 : decode cJ2_grow_2 44 = .ok (.areturn, 1) := dk_176 (dk_at dksJ2_grow_2_1 20 rfl rfl)
theorem dJ2_grow_2_45 : decode cJ2_grow_2 45 = .ok (.aload_n 0, 1) := dk_42 (dk_at dksJ2_grow_2_1 21 rfl rfl)
theorem dJ2_grow_2_46 : decode cJ2_grow_2 46 = .ok (.bipush 10, 2) := dk_16 10 (dk_at dksJ2_grow_2_1 22 rfl rfl)
theorem dJ2_grow_2_48 : decode cJ2_grow_2 48 = .ok (.iload_n 1, 1) := dk_27 (dk_at dksJ2_grow_2_2 0 rfl rfl)
theorem dJ2_grow_2_49 : decode cJ2_grow_2 49 = .ok (.invokestatic 79, 3) := dk_184 0 79 (dk_at dksJ2_grow_2_2 1 rfl rfl)
theorem dJ2_grow_2_52 : decode cJ2_grow_2 52 = .ok (.anewarray 7, 3) := dk_189 0 7 (dk_at dksJ2_grow_2_2 4 rfl rfl)
theorem dJ2_grow_2_55 : decode cJ2_grow_2 55 = .ok (.dup_x1, 1) := dk_90 (dk_at dksJ2_grow_2_2 7 rfl rfl)
theorem dJ2_grow_2_56 : decode cJ2_grow_2 56 = .ok (.putfield 9, 3) := dk_181 0 9 (dk_at dksJ2_grow_2_2 8 rfl rfl)
theorem dJ2_grow_2_59 : decode cJ2_grow_2 59 = .ok (.areturn, 1) := dk_176 (dk_at dksJ2_grow_2_2 11 rfl rfl)
theorem hd_J5_newLength : (yJ5_newLength.cls ≠ "java/lang/invoke/MethodHandle" ∧ yJ5_newLength.cls ≠ "java/lang/invoke/VarHandle" ∧ (parseMethodDescriptor yJ5_newLength.desc).map (fun d => d.parameters.length) = some 3) := ⟨by decide +kernel, by decide +kernel, by decide +kernel⟩
theorem hd_J7_copyOf : (yJ7_copyOf.cls ≠ "java/lang/invoke/MethodHandle" ∧ yJ7_copyOf.cls ≠ "java/lang/invoke/VarHandle" ∧ (parseMethodDescriptor yJ7_copyOf.desc).map (fun d => d.parameters.length) = some 2) := ⟨by decide +kernel, by decide +kernel, by decide +kernel⟩
def f_J2_grow_2 (a0 : Nat) (p1 : Int32) (w0 : gw) : Option (Option Nat × gw) := gB1 (gR w0 a0 8 1) fun r1 => gB1 r1 fun a2 => gB1 (gLen w0 a2 2) fun x3 => gBd (fun (x6 : Int32) (x7 : Int32) (w5 : gw) => gB2 (f_J5_newLength x7 (x6 - x7) (x7 >>> ((nI 1) &&& 31)) w5) fun x9 w8 => gB1 (gR w8 a0 8 1) fun r10 => gB2 (f_J7_copyOf r10 x9 w8) fun r12 w11 => gB1 (gPut w11 a0 8 1 (ga r12)) fun w13 => some (r12, w13)) fun k4 => if 0 < x3 then k4 p1 x3 w0 else gB1 (gR w0 a0 8 1) fun r15 => if r15 = (some (w0.2.2.2 5)) then gB2 (f_J6_max (nI 10) p1 w0) fun x18 w17 => gB2 (gNewR w17 2 x18) fun a19 w20 => gB1 (gPut w20 a0 8 1 (ga (some a19))) fun w21 => some ((some a19), w21) else k4 p1 x3 w0
set_option maxHeartbeats 4000000 in
set_option maxRecDepth 100000 in
theorem k_J2_grow_2 {D : va_G} {dA : Nat → ClassId} {A : Nat → Prop} {K : Nat → Nat} {l : Launch} {h : Nat} (hh : 3 ≤ h) {a0 : Nat} {p1 : Int32} {w0 ww : gw} {rr : Option Nat} (hf : f_J2_grow_2 a0 p1 w0 = some (rr, ww)) : gMet D dA A K l yJ2_grow_2 (ws_ yJ2_grow_2 cJ2_grow_2 4 (some (.array (.object "java/lang/Object")))) h [(ga (some a0)), (gi p1)] (some (ga rr)) w0 ww := by
  refine j_start (own := RJ2) (by decide +kernel) rfl (Nat.le_of_ble_eq_true rfl) ?_
  intro p e R s m args below meth c C hr hin hw
  unfold f_J2_grow_2 at hf
  show gJ D dA A K p l e R s m args below meth c (gEnd D dA A K below args s w0 (some (ga rr)) ww) 4 0 [(0, (ga (some a0))), (1, (gi p1))] [] w0
  refine j_aload_n C dJ2_grow_2_0 rfl ?_
  replace hf := gB1_e hf
  obtain ⟨r1, er1, hf⟩ := hf
  refine j_get C fl_J2_9_8 dJ2_grow_2_1 (gR_F er1) ?_
  replace hf := gB1_e hf
  obtain ⟨a2, ea2, hf⟩ := hf
  subst ea2
  replace hf := gB1_e hf
  obtain ⟨x3, ex3, hf⟩ := hf
  refine j_alen C (t := 2) rfl ex3 dJ2_grow_2_4 ?_
  refine j_istore_n (lv' := [(2, (gi x3)), (0, (ga (some a0))), (1, (gi p1))]) C dJ2_grow_2_5 (by decide) rfl ?_
  refine j_iload_n C dJ2_grow_2_6 rfl ?_
  replace hf := gBd_x hf
  obtain ⟨k4, ek4, hf⟩ := hf
  have jk4 : ∀ (x6 : Int32) (x7 : Int32) (w5 : gw), k4 x6 x7 w5 = some (rr, ww) → gJ D dA A K p l e R s m args below meth c (gEnd D dA A K below args s w0 (some (ga rr)) ww) 4 20 [(0, (ga (some a0))), (1, (gi x6)), (2, (gi x7))] [] w5 := by
    intro x6 x7 w5 hf
    rw [ek4] at hf
    dsimp only at hf
    refine j_iload_n C dJ2_grow_2_20 rfl ?_
    refine j_iload_n C dJ2_grow_2_21 rfl ?_
    refine j_iload_n C dJ2_grow_2_22 rfl ?_
    refine j_isub C dJ2_grow_2_23 ?_
    refine j_iload_n C dJ2_grow_2_24 rfl ?_
    refine j_iconst (v := (nI 1)) C dJ2_grow_2_25 (by decide) ?_
    refine j_ishr C dJ2_grow_2_26 ?_
    replace hf := gB2_e hf
    obtain ⟨x9, w8, ew8, hf⟩ := hf
    refine j_callS (As := [(gi x7), (gi (x6 - x7)), (gi (x7 >>> ((nI 1) &&& 31)))]) (rest := []) (v := (some (gi x9))) C (by omega) (k_J5_newLength (by omega) ew8) q497 q498 q110 q499 hd_J5_newLength (by decide) rfl (Nat.le_of_ble_eq_true rfl) dJ2_grow_2_27 ?_
    refine j_istore_n (lv' := [(3, (gi x9)), (0, (ga (some a0))), (1, (gi x6)), (2, (gi x7))]) C dJ2_grow_2_30 (by decide) rfl ?_
    refine j_aload_n C dJ2_grow_2_31 rfl ?_
    refine j_aload_n C dJ2_grow_2_32 rfl ?_
    replace hf := gB1_e hf
    obtain ⟨r10, er10, hf⟩ := hf
    refine j_get C fl_J2_9_8 dJ2_grow_2_33 (gR_F er10) ?_
    refine j_iload_n C dJ2_grow_2_36 rfl ?_
    replace hf := gB2_e hf
    obtain ⟨r12, w11, ew11, hf⟩ := hf
    refine j_callS (As := [(ga r10), (gi x9)]) (rest := [(ga (some a0))]) (v := (some (ga r12))) C (by omega) (k_J7_copyOf (by omega) ew11) q507 q508 q112 q509 hd_J7_copyOf (by decide) rfl (Nat.le_of_ble_eq_true rfl) dJ2_grow_2_37 ?_
    refine j_dup_x1 C dJ2_grow_2_40 ?_
    replace hf := gB1_e hf
    obtain ⟨w13, ew13, hf⟩ := hf
    refine j_put C fl_J2_9_8 tb_8 ew13 fk_8_1 (ft__Ljava_lang_Object_ r12) dJ2_grow_2_41 ?_
    obtain ⟨rfl, rfl⟩ := gSome hf
    exact j_aret C hr (Or.inr ⟨_, rfl⟩) hw dJ2_grow_2_44
  clear ek4
  refine j_if_gt (tgt := 20) C dJ2_grow_2_7 (by decide) (fun c14 => ?_) (fun c14 => ?_)
  · replace hf := gIf_t hf c14
    refine j_sub (lv' := [(0, (ga (some a0))), (1, (gi p1)), (2, (gi x3))]) (gL_cons rfl (gL_cons rfl (gL_cons rfl (gL_nil)))) ?_
    exact jk4 _ _ _ hf
  · replace hf := gIf_f hf c14
    refine j_aload_n C dJ2_grow_2_10 rfl ?_
    replace hf := gB1_e hf
    obtain ⟨r15, er15, hf⟩ := hf
    refine j_get C fl_J2_9_8 dJ2_grow_2_11 (gR_F er15) ?_
    refine j_gets (i := 5) C C.2.2.2.2.2.1.2.2.2.2.1.2.2.2.1 q205 dJ2_grow_2_14 ?_
    refine j_acmp_eq (tgt := 45) C dJ2_grow_2_17 (by decide) (fun c16 => ?_) (fun c16 => ?_)
    · replace hf := gIf_t hf c16
      refine j_aload_n C dJ2_grow_2_45 rfl ?_
      refine j_bipush (v := (nI 10)) C dJ2_grow_2_46 (by decide) ?_
      refine j_iload_n C dJ2_grow_2_48 rfl ?_
      replace hf := gB2_e hf
      obtain ⟨x18, w17, ew17, hf⟩ := hf
      refine j_callS (As := [(gi (nI 10)), (gi p1)]) (rest := [(ga (some a0))]) (v := (some (gi x18))) C (by omega) (k_J6_max (by omega) ew17) q557 q501 q111 q502 hd_J6_max (by decide) rfl (Nat.le_of_ble_eq_true rfl) dJ2_grow_2_49 ?_
      replace hf := gB2_e hf
      obtain ⟨a19, w20, ew20, hf⟩ := hf
      refine j_newr C (t := 2) rfl (by decide) q558 ew20 dJ2_grow_2_52 ?_
      refine j_dup_x1 C dJ2_grow_2_55 ?_
      replace hf := gB1_e hf
      obtain ⟨w21, ew21, hf⟩ := hf
      refine j_put C fl_J2_9_8 tb_8 ew21 fk_8_1 (ft__Ljava_lang_Object_ (some a19)) dJ2_grow_2_56 ?_
      obtain ⟨rfl, rfl⟩ := gSome hf
      exact j_aret C hr (Or.inr ⟨_, rfl⟩) hw dJ2_grow_2_59
    · replace hf := gIf_f hf c16
      refine j_sub (lv' := [(0, (ga (some a0))), (1, (gi p1)), (2, (gi x3))]) (gL_cons rfl (gL_cons rfl (gL_cons rfl (gL_nil)))) ?_
      exact jk4 _ _ _ hf
def dkwJ2_get_0 : List UInt8 := [27, 42, 180, 0, 48, 184, 0, 118, 87, 42, 27, 182, 0, 123, 176]
abbrev dktJ2_get_0 : List UInt8 := dkwJ2_get_0 ++ []
theorem dksJ2_get_0 : cJ2_get.data.toList.drop 0 = dktJ2_get_0 := by decide +kernel
theorem dJ2_get_0 : decode cJ2_get 0 = .ok (.iload_n 1, 1) := dk_27 (dk_at dksJ2_get_0 0 rfl rfl)
theorem dJ2_get_1 : decode cJ2_get 1 = .ok (.aload_n 0, 1) := dk_42 (dk_at dksJ2_get_0 1 rfl rfl)
theorem dJ2_get_2 : decode cJ2_get 2 = .ok (.getfield 48, 3) := dk_180 0 48 (dk_at dksJ2_get_0 2 rfl rfl)
theorem dJ2_get_5 : decode cJ2_get 5 = .ok (.invokestatic 118, 3) := dk_184 0 118 (dk_at dksJ2_get_0 5 rfl rfl)
theorem dJ2_get_8 : decode cJ2_get 8 = .ok (.pop, 1) := dk_87 (dk_at dksJ2_get_0 8 rfl rfl)
theorem dJ2_get_9 : decode cJ2_get 9 = .ok (.aload_n 0, 1) := dk_42 (dk_at dksJ2_get_0 9 rfl rfl)
theorem dJ2_get_10 : decode cJ2_get 10 = .ok (.iload_n 1, 1) := dk_27 (dk_at dksJ2_get_0 10 rfl rfl)
theorem dJ2_get_11 : decode cJ2_get 11 = .ok (.invokevirtual 123, 3) := dk_182 0 123 (dk_at dksJ2_get_0 11 rfl rfl)
theorem dJ2_get_14 : decode cJ2_get 14 = .ok (.areturn, 1) := dk_176 (dk_at dksJ2_get_0 14 rfl rfl)
theorem hd_J8_checkIndex : (yJ8_checkIndex.cls ≠ "java/lang/invoke/MethodHandle" ∧ yJ8_checkIndex.cls ≠ "java/lang/invoke/VarHandle" ∧ (parseMethodDescriptor yJ8_checkIndex.desc).map (fun d => d.parameters.length) = some 2) := ⟨by decide +kernel, by decide +kernel, by decide +kernel⟩
theorem hd_J2_elementData : (yJ2_elementData.cls ≠ "java/lang/invoke/MethodHandle" ∧ yJ2_elementData.cls ≠ "java/lang/invoke/VarHandle" ∧ (parseMethodDescriptor yJ2_elementData.desc).map (fun d => d.parameters.length) = some 1) := ⟨by decide +kernel, by decide +kernel, by decide +kernel⟩
def f_J2_get (a0 : Nat) (p1 : Int32) (w0 : gw) : Option (Option Nat × gw) := gB1 (gI w0 a0 8 2) fun x1 => gB2 (f_J8_checkIndex p1 x1 w0) fun x3 w2 => gB1 (gOb w2 a0 8) fun _ => gB2 (f_J2_elementData a0 p1 w2) fun r5 w4 => some (r5, w4)
set_option maxHeartbeats 4000000 in
set_option maxRecDepth 100000 in
theorem k_J2_get {D : va_G} {dA : Nat → ClassId} {A : Nat → Prop} {K : Nat → Nat} {l : Launch} {h : Nat} (hh : 2 ≤ h) {a0 : Nat} {p1 : Int32} {w0 ww : gw} {rr : Option Nat} (hf : f_J2_get a0 p1 w0 = some (rr, ww)) : gMet D dA A K l yJ2_get (ws_ yJ2_get cJ2_get 2 (some (.object "java/lang/Object"))) h [(ga (some a0)), (gi p1)] (some (ga rr)) w0 ww := by
  refine j_start (own := RJ2) (by decide +kernel) rfl (Nat.le_of_ble_eq_true rfl) ?_
  intro p e R s m args below meth c C hr hin hw
  unfold f_J2_get at hf
  show gJ D dA A K p l e R s m args below meth c (gEnd D dA A K below args s w0 (some (ga rr)) ww) 2 0 [(0, (ga (some a0))), (1, (gi p1))] [] w0
  refine j_iload_n C dJ2_get_0 rfl ?_
  refine j_aload_n C dJ2_get_1 rfl ?_
  replace hf := gB1_e hf
  obtain ⟨x1, ex1, hf⟩ := hf
  refine j_get C fl_J2_48_8 dJ2_get_2 (gI_F ex1) ?_
  replace hf := gB2_e hf
  obtain ⟨x3, w2, ew2, hf⟩ := hf
  refine j_callS (As := [(gi p1), (gi x1)]) (rest := []) (v := (some (gi x3))) C (by omega) (k_J8_checkIndex (by omega) ew2) q640 q641 q116 q642 hd_J8_checkIndex (by decide) rfl (Nat.le_of_ble_eq_true rfl) dJ2_get_5 ?_
  refine j_pop C dJ2_get_8 ?_
  refine j_aload_n C dJ2_get_9 rfl ?_
  refine j_iload_n C dJ2_get_10 rfl ?_
  replace hf := gB1_e hf
  obtain ⟨_, eo, hf⟩ := hf
  replace hf := gB2_e hf
  obtain ⟨r5, w4, ew4, hf⟩ := hf
  refine j_callV (As := [(gi p1)]) (rest := []) (v := (some (ga r5))) C (by omega) (k_J2_elementData (by omega) ew4) (gOb_e eo) rfl q646 q647 q648 q99 q649 ⟨rfl, hd_J2_elementData⟩ (by decide) rfl (Nat.le_of_ble_eq_true rfl) dJ2_get_11 ?_
  obtain ⟨rfl, rfl⟩ := gSome hf
  exact j_aret C hr (Or.inl ⟨_, rfl⟩) hw dJ2_get_14
def dkwX0_statistic_2 : List UInt8 := [160, 0, 7, 4, 167, 0, 4, 3, 182, 0, 237, 172]
abbrev dktX0_statistic_2 : List UInt8 := dkwX0_statistic_2 ++ []
def dkwX0_statistic_1 : List UInt8 := [162, 0, 19, 42, 27, 28, 8, 160, 0, 7, 2, 167, 0, 4, 28, 182, 0, 228, 172, 42, 27, 28, 16, 6]
abbrev dktX0_statistic_1 : List UInt8 := dkwX0_statistic_1 ++ dktX0_statistic_2
def dkwX0_statistic_0 : List UInt8 := [27, 184, 0, 36, 153, 0, 13, 28, 3, 16, 7, 184, 0, 5, 154, 0, 5, 2, 172, 28, 16, 6]
abbrev dktX0_statistic_0 : List UInt8 := dkwX0_statistic_0 ++ dktX0_statistic_1
theorem dksX0_statistic_0 : cX0_statistic.data.toList.drop 0 = dktX0_statistic_0 := by decide +kernel
theorem dksX0_statistic_1 : cX0_statistic.data.toList.drop 22 = dktX0_statistic_1 := dk_seg dksX0_statistic_0 22 rfl rfl
theorem dksX0_statistic_2 : cX0_statistic.data.toList.drop 46 = dktX0_statistic_2 := dk_seg dksX0_statistic_1 24 rfl rfl
theorem dX0_statistic_0 : decode cX0_statistic 0 = .ok (.iload_n 1, 1) := dk_27 (dk_at dksX0_statistic_0 0 rfl rfl)
theorem dX0_statistic_1 : decode cX0_statistic 1 = .ok (.invokestatic 36, 3) := dk_184 0 36 (dk_at dksX0_statistic_0 1 rfl rfl)
theorem dX0_statistic_4 : decode cX0_statistic 4 = .ok (.ifCond .eq 13, 3) := dk_153 0 13 (dk_at dksX0_statistic_0 4 rfl rfl)
theorem dX0_statistic_7 : decode cX0_statistic 7 = .ok (.iload_n 2, 1) := dk_28 (dk_at dksX0_statistic_0 7 rfl rfl)
theorem dX0_statistic_8 : decode cX0_statistic 8 = .ok (.iconst 0, 1) := dk_3 (dk_at dksX0_statistic_0 8 rfl rfl)
theorem dX0_statistic_9 : decode cX0_statistic 9 = .ok (.bipush 7, 2) := dk_16 7 (dk_at dksX0_statistic_0 9 rfl rfl)
theorem dX0_statistic_11 : decode cX0_statistic 11 = .ok (.invokestatic 5, 3) := dk_184 0 5 (dk_at dksX0_statistic_0 11 rfl rfl)
theorem dX0_statistic_14 : decode cX0_statistic 14 = .ok (.ifCond .ne 5, 3) := dk_154 0 5 (dk_at dksX0_statistic_0 14 rfl rfl)
theorem dX0_statistic_17 : decode cX0_statistic 17 = .ok (.iconst (-1), 1) := dk_2 (dk_at dksX0_statistic_0 17 rfl rfl)
theorem dX0_statistic_18 : decode cX0_statistic 18 = .ok (.ireturn, 1) := dk_172 (dk_at dksX0_statistic_0 18 rfl rfl)
theorem dX0_statistic_19 : decode cX0_statistic 19 = .ok (.iload_n 2, 1) := dk_28 (dk_at dksX0_statistic_0 19 rfl rfl)
theorem dX0_statistic_20 : decode cX0_statistic 20 = .ok (.bipush 6, 2) := dk_16 6 (dk_at dksX0_statistic_0 20 rfl rfl)
theorem dX0_statistic_22 : decode cX0_statistic 22 = .ok (.if_icmp .ge 19, 3) := dk_162 0 19 (dk_at dksX0_statistic_1 0 rfl rfl)
theorem dX0_statistic_25 : decode cX0_statistic 25 = .ok (.aload_n 0, 1) := dk_42 (dk_at dksX0_statistic_1 3 rfl rfl)
theorem dX0_statistic_26 : decode cX0_statistic 26 = .ok (.iload_n 1, 1) := dk_27 (dk_at dksX0_statistic_1 4 rfl rfl)
theorem dX0_statistic_27 : decode cX0_statistic 27 = .ok (.iload_n 2, 1) := dk_28 (dk_at dksX0_statistic_1 5 rfl rfl)
theorem dX0_statistic_28 : decode cX0_statistic 28 = .ok (.iconst 5, 1) := dk_8 (dk_at dksX0_statistic_1 6 rfl rfl)
theorem dX0_statistic_29 : decode cX0_statistic 29 = .ok (.if_icmp .ne 7, 3) := dk_160 0 7 (dk_at dksX0_statistic_1 7 rfl rfl)
theorem dX0_statistic_32 : decode cX0_statistic 32 = .ok (.iconst (-1), 1) := dk_2 (dk_at dksX0_statistic_1 10 rfl rfl)
theorem dX0_statistic_33 : decode cX0_statistic 33 = .ok (.goto 4, 3) := dk_167 0 4 (dk_at dksX0_statistic_1 11 rfl rfl)
theorem dX0_statistic_36 : decode cX0_statistic 36 = .ok (.iload_n 2, 1) := dk_28 (dk_at dksX0_statistic_1 14 rfl rfl)
theorem dX0_statistic_37 : decode cX0_statistic 37 = .ok (.invokevirtual 228, 3) := dk_182 0 228 (dk_at dksX0_statistic_1 15 rfl rfl)
theorem dX0_statistic_40 : decode cX0_statistic 40 = .ok (.ireturn, 1) := dk_172 (dk_at dksX0_statistic_1 18 rfl rfl)
theorem dX0_statistic_41 : decode cX0_statistic 41 = .ok (.aload_n 0, 1) := dk_42 (dk_at dksX0_statistic_1 19 rfl rfl)
theorem dX0_statistic_42 : decode cX0_statistic 42 = .ok (.iload_n 1, 1) := dk_27 (dk_at dksX0_statistic_1 20 rfl rfl)
theorem dX0_statistic_43 : decode cX0_statistic 43 = .ok (.iload_n 2, 1) := dk_28 (dk_at dksX0_statistic_1 21 rfl rfl)
theorem dX0_statistic_44 : decode cX0_statistic 44 = .ok (.bipush 6, 2) := dk_16 6 (dk_at dksX0_statistic_1 22 rfl rfl)
theorem dX0_statistic_46 : decode cX0_statistic 46 = .ok (.if_icmp .ne 7, 3) := dk_160 0 7 (dk_at dksX0_statistic_2 0 rfl rfl)
theorem dX0_statistic_49 : decode cX0_statistic 49 = .ok (.iconst 1, 1) := dk_4 (dk_at dksX0_statistic_2 3 rfl rfl)
theorem dX0_statistic_50 : decode cX0_statistic 50 = .ok (.goto 4, 3) := dk_167 0 4 (dk_at dksX0_statistic_2 4 rfl rfl)
theorem dX0_statistic_53 : decode cX0_statistic 53 = .ok (.iconst 0, 1) := dk_3 (dk_at dksX0_statistic_2 7 rfl rfl)
theorem dX0_statistic_54 : decode cX0_statistic 54 = .ok (.invokevirtual 237, 3) := dk_182 0 237 (dk_at dksX0_statistic_2 8 rfl rfl)
theorem dX0_statistic_57 : decode cX0_statistic 57 = .ok (.ireturn, 1) := dk_172 (dk_at dksX0_statistic_2 11 rfl rfl)
theorem hd_X0_isWorkflow : (yX0_isWorkflow.cls ≠ "java/lang/invoke/MethodHandle" ∧ yX0_isWorkflow.cls ≠ "java/lang/invoke/VarHandle" ∧ (parseMethodDescriptor yX0_isWorkflow.desc).map (fun d => d.parameters.length) = some 1) := ⟨by decide +kernel, by decide +kernel, by decide +kernel⟩
theorem hd_X0_ratio : (yX0_ratio.cls ≠ "java/lang/invoke/MethodHandle" ∧ yX0_ratio.cls ≠ "java/lang/invoke/VarHandle" ∧ (parseMethodDescriptor yX0_ratio.desc).map (fun d => d.parameters.length) = some 2) := ⟨by decide +kernel, by decide +kernel, by decide +kernel⟩
def f_X0_statistic (a0 : Nat) (p1 : Int32) (p2 : Int32) (w0 : gw) : Option (Int32 × gw) := gB2 (f_X0_isWorkflow p1 w0) fun x2 w1 => if x2 = 0 then some ((-1), w1) else gB2 (f_X0_in p2 (nI 0) (nI 7) w1) fun x5 w4 => if x5 = 0 then some ((-1), w4) else if (nI 6) ≤ p2 then gBd (fun (r10 : Option Nat) (x11 : Int32) (x12 : Int32) (w9 : gw) => gB1 r10 fun a13 => gB1 (gOb w9 a13 0) fun _ => gB2 (f_X0_ratio a13 x11 x12 w9) fun x15 w14 => some (x15, w14)) fun k8 => if p2 = (nI 6) then k8 (some a0) p1 (nI 1) w4 else k8 (some a0) p1 (nI 0) w4 else gBd (fun (r19 : Option Nat) (x20 : Int32) (x21 : Int32) (w18 : gw) => gB1 r19 fun a22 => gB1 (gOb w18 a22 0) fun _ => gB2 (f_X0_withStatus a22 x20 x21 w18) fun x24 w23 => some (x24, w23)) fun k17 => if p2 = (nI 5) then k17 (some a0) p1 (-1) w4 else k17 (some a0) p1 p2 w4
set_option maxHeartbeats 4000000 in
set_option maxRecDepth 100000 in
theorem k_X0_statistic {D : va_G} {dA : Nat → ClassId} {A : Nat → Prop} {K : Nat → Nat} {l : Launch} {h : Nat} (hh : 3 ≤ h) {a0 : Nat} {p1 : Int32} {p2 : Int32} {w0 ww : gw} {rr : Int32} (hf : f_X0_statistic a0 p1 p2 w0 = some (rr, ww)) : gMet D dA A K l yX0_statistic (ws_ yX0_statistic cX0_statistic 3 (some .int)) h [(ga (some a0)), (gi p1), (gi p2)] (some (gi rr)) w0 ww := by
  refine j_start (own := RX0) (by decide +kernel) rfl (Nat.le_of_ble_eq_true rfl) ?_
  intro p e R s m args below meth c C hr hin hw
  unfold f_X0_statistic at hf
  show gJ D dA A K p l e R s m args below meth c (gEnd D dA A K below args s w0 (some (gi rr)) ww) 3 0 [(0, (ga (some a0))), (1, (gi p1)), (2, (gi p2))] [] w0
  refine j_iload_n C dX0_statistic_0 rfl ?_
  replace hf := gB2_e hf
  obtain ⟨x2, w1, ew1, hf⟩ := hf
  refine j_callS (As := [(gi p1)]) (rest := []) (v := (some (gi x2))) C (by omega) (k_X0_isWorkflow (by omega) ew1) q146 q147 q91 q148 hd_X0_isWorkflow (by decide) rfl (Nat.le_of_ble_eq_true rfl) dX0_statistic_1 ?_
  refine j_if_eq (tgt := 17) C dX0_statistic_4 (by decide) (fun c3 => ?_) (fun c3 => ?_)
  · replace hf := gIf_t hf c3
    refine j_iconst (v := (-1)) C dX0_statistic_17 (by decide) ?_
    obtain ⟨rfl, rfl⟩ := gSome hf
    exact j_iret C hr hw dX0_statistic_18
  · replace hf := gIf_f hf c3
    refine j_iload_n C dX0_statistic_7 rfl ?_
    refine j_iconst (v := (nI 0)) C dX0_statistic_8 (by decide) ?_
    refine j_bipush (v := (nI 7)) C dX0_statistic_9 (by decide) ?_
    replace hf := gB2_e hf
    obtain ⟨x5, w4, ew4, hf⟩ := hf
    refine j_callS (As := [(gi p2), (gi (nI 0)), (gi (nI 7))]) (rest := []) (v := (some (gi x5))) C (by omega) (k_X0_in (by omega) ew4) q138 q139 q91 q140 hd_X0_in (by decide) rfl (Nat.le_of_ble_eq_true rfl) dX0_statistic_11 ?_
    refine j_if_ne (tgt := 19) C dX0_statistic_14 (by decide) (fun c6 => ?_) (fun c6 => ?_)
    · replace hf := gIf_f hf c6
      refine j_iload_n C dX0_statistic_19 rfl ?_
      refine j_bipush (v := (nI 6)) C dX0_statistic_20 (by decide) ?_
      refine j_icmp_ge (tgt := 41) C dX0_statistic_22 (by decide) (fun c7 => ?_) (fun c7 => ?_)
      · replace hf := gIf_t hf c7
        refine j_aload_n C dX0_statistic_41 rfl ?_
        refine j_iload_n C dX0_statistic_42 rfl ?_
        refine j_iload_n C dX0_statistic_43 rfl ?_
        refine j_bipush (v := (nI 6)) C dX0_statistic_44 (by decide) ?_
        replace hf := gBd_x hf
        obtain ⟨k8, ek8, hf⟩ := hf
        have jk8 : ∀ (r10 : Option Nat) (x11 : Int32) (x12 : Int32) (w9 : gw), k8 r10 x11 x12 w9 = some (rr, ww) → gJ D dA A K p l e R s m args below meth c (gEnd D dA A K below args s w0 (some (gi rr)) ww) 3 54 [] [(gi x12), (gi x11), (ga r10)] w9 := by
          intro r10 x11 x12 w9 hf
          rw [ek8] at hf
          dsimp only at hf
          replace hf := gB1_e hf
          obtain ⟨a13, ea13, hf⟩ := hf
          subst ea13
          replace hf := gB1_e hf
          obtain ⟨_, eo, hf⟩ := hf
          replace hf := gB2_e hf
          obtain ⟨x15, w14, ew14, hf⟩ := hf
          refine j_callV (As := [(gi x11), (gi x12)]) (rest := []) (v := (some (gi x15))) C (by omega) (k_X0_ratio (by omega) ew14) (gOb_e eo) rfl q1517 q1519 qs32 q91 q1520 ⟨rfl, hd_X0_ratio⟩ (by decide) rfl (Nat.le_of_ble_eq_true rfl) dX0_statistic_54 ?_
          obtain ⟨rfl, rfl⟩ := gSome hf
          exact j_iret C hr hw dX0_statistic_57
        clear ek8
        refine j_icmp_ne (tgt := 53) C dX0_statistic_46 (by decide) (fun c16 => ?_) (fun c16 => ?_)
        · replace hf := gIf_f hf c16
          refine j_iconst (v := (nI 0)) C dX0_statistic_53 (by decide) ?_
          refine j_sub (lv' := []) (gL_nil) ?_
          exact jk8 _ _ _ _ hf
        · replace hf := gIf_t hf c16
          refine j_iconst (v := (nI 1)) C dX0_statistic_49 (by decide) ?_
          refine j_goto (tgt := 54) C dX0_statistic_50 (by decide) ?_
          refine j_sub (lv' := []) (gL_nil) ?_
          exact jk8 _ _ _ _ hf
      · replace hf := gIf_f hf c7
        refine j_aload_n C dX0_statistic_25 rfl ?_
        refine j_iload_n C dX0_statistic_26 rfl ?_
        refine j_iload_n C dX0_statistic_27 rfl ?_
        refine j_iconst (v := (nI 5)) C dX0_statistic_28 (by decide) ?_
        replace hf := gBd_x hf
        obtain ⟨k17, ek17, hf⟩ := hf
        have jk17 : ∀ (r19 : Option Nat) (x20 : Int32) (x21 : Int32) (w18 : gw), k17 r19 x20 x21 w18 = some (rr, ww) → gJ D dA A K p l e R s m args below meth c (gEnd D dA A K below args s w0 (some (gi rr)) ww) 3 37 [] [(gi x21), (gi x20), (ga r19)] w18 := by
          intro r19 x20 x21 w18 hf
          rw [ek17] at hf
          dsimp only at hf
          replace hf := gB1_e hf
          obtain ⟨a22, ea22, hf⟩ := hf
          subst ea22
          replace hf := gB1_e hf
          obtain ⟨_, eo, hf⟩ := hf
          replace hf := gB2_e hf
          obtain ⟨x24, w23, ew23, hf⟩ := hf
          refine j_callV (As := [(gi x20), (gi x21)]) (rest := []) (v := (some (gi x24))) C (by omega) (k_X0_withStatus (by omega) ew23) (gOb_e eo) rfl q1508 q1510 qs30 q91 q1511 ⟨rfl, hd_X0_withStatus⟩ (by decide) rfl (Nat.le_of_ble_eq_true rfl) dX0_statistic_37 ?_
          obtain ⟨rfl, rfl⟩ := gSome hf
          exact j_iret C hr hw dX0_statistic_40
        clear ek17
        refine j_icmp_ne (tgt := 36) C dX0_statistic_29 (by decide) (fun c25 => ?_) (fun c25 => ?_)
        · replace hf := gIf_f hf c25
          refine j_iload_n C dX0_statistic_36 rfl ?_
          refine j_sub (lv' := []) (gL_nil) ?_
          exact jk17 _ _ _ _ hf
        · replace hf := gIf_t hf c25
          refine j_iconst (v := (-1)) C dX0_statistic_32 (by decide) ?_
          refine j_goto (tgt := 37) C dX0_statistic_33 (by decide) ?_
          refine j_sub (lv' := []) (gL_nil) ?_
          exact jk17 _ _ _ _ hf
    · replace hf := gIf_t hf c6
      refine j_iconst (v := (-1)) C dX0_statistic_17 (by decide) ?_
      obtain ⟨rfl, rfl⟩ := gSome hf
      exact j_iret C hr hw dX0_statistic_18
def dkwX10_begins_0 : List UInt8 := [187, 0, 13, 89, 43, 182, 0, 15, 89, 184, 0, 21, 87, 43, 42, 183, 0, 27, 176]
abbrev dktX10_begins_0 : List UInt8 := dkwX10_begins_0 ++ []
theorem dksX10_begins_0 : cX10_begins.data.toList.drop 0 = dktX10_begins_0 := by decide +kernel
theorem dX10_begins_0 : decode cX10_begins 0 = .ok (.new 13, 3) := dk_187 0 13 (dk_at dksX10_begins_0 0 rfl rfl)
theorem dX10_begins_3 : decode cX10_begins 3 = .ok (.dup, 1) := dk_89 (dk_at dksX10_begins_0 3 rfl rfl)
theorem dX10_begins_4 : decode cX10_begins 4 = .ok (.aload_n 1, 1) := dk_43 (dk_at dksX10_begins_0 4 rfl rfl)
theorem dX10_begins_5 : decode cX10_begins 5 = .ok (.invokevirtual 15, 3) := dk_182 0 15 (dk_at dksX10_begins_0 5 rfl rfl)
theorem dX10_begins_8 : decode cX10_begins 8 = .ok (.dup, 1) := dk_89 (dk_at dksX10_begins_0 8 rfl rfl)
theorem dX10_begins_9 : decode cX10_begins 9 = .ok (.invokestatic 21, 3) := dk_184 0 21 (dk_at dksX10_begins_0 9 rfl rfl)
theorem dX10_begins_12 : decode cX10_begins 12 = .ok (.pop, 1) := dk_87 (dk_at dksX10_begins_0 12 rfl rfl)
theorem dX10_begins_13 : decode cX10_begins 13 = .ok (.aload_n 1, 1) := dk_43 (dk_at dksX10_begins_0 13 rfl rfl)
theorem dX10_begins_14 : decode cX10_begins 14 = .ok (.aload_n 0, 1) := dk_42 (dk_at dksX10_begins_0 14 rfl rfl)
theorem dX10_begins_15 : decode cX10_begins 15 = .ok (.invokespecial 27, 3) := dk_183 0 27 (dk_at dksX10_begins_0 15 rfl rfl)
theorem dX10_begins_18 : decode cX10_begins 18 = .ok (.areturn, 1) := dk_176 (dk_at dksX10_begins_0 18 rfl rfl)
theorem nl_X10_13 : gNL RX10 13 24 := ⟨RX24, TX24, 5, 5, tyX24, _, rfl, rfl, in_X24, tyX24_ok, q1092, q1093, q128, fun j hj => by rcases (show j = 0 ∨ j = 1 ∨ j = 2 ∨ j = 3 ∨ j = 4 by omega) with rfl | rfl | rfl | rfl | rfl <;> rfl⟩
def f_X10_begins (a0 : Nat) (p1 : Option Nat) (w0 : gw) : Option (Option Nat × gw) := gB2 (gNew w0 24) fun a1 w2 => gB1 p1 fun a3 => gB1 (gOb w2 a3 16) fun _ => gB2 (f_X16_engine a3  w2) fun r5 w4 => gB2 (f_J8_requireNonNull r5 w4) fun r7 w6 => gB2 (f_X24_init a1 r5 (some a3) (some a0) w6) fun _ w8 => some ((some a1), w8)
set_option maxHeartbeats 4000000 in
set_option maxRecDepth 100000 in
theorem k_X10_begins {D : va_G} {dA : Nat → ClassId} {A : Nat → Prop} {K : Nat → Nat} {l : Launch} {h : Nat} (hh : 3 ≤ h) {a0 : Nat} {p1 : Option Nat} {w0 ww : gw} {rr : Option Nat} (hf : f_X10_begins a0 p1 w0 = some (rr, ww)) : gMet D dA A K l yX10_begins (ws_ yX10_begins cX10_begins 2 (some (.object "WorkflowEngine$Run"))) h [(ga (some a0)), (ga p1)] (some (ga rr)) w0 ww := by
  refine j_start (own := RX10) (by decide +kernel) rfl (Nat.le_of_ble_eq_true rfl) ?_
  intro p e R s m args below meth c C hr hin hw
  unfold f_X10_begins at hf
  show gJ D dA A K p l e R s m args below meth c (gEnd D dA A K below args s w0 (some (ga rr)) ww) 2 0 [(0, (ga (some a0))), (1, (ga p1))] [] w0
  replace hf := gB2_e hf
  obtain ⟨a1, w2, ew2, hf⟩ := hf
  refine j_new C nl_X10_13 ew2 dX10_begins_0 ?_
  refine j_dup C dX10_begins_3 ?_
  refine j_aload_n C dX10_begins_4 rfl ?_
  replace hf := gB1_e hf
  obtain ⟨a3, ea3, hf⟩ := hf
  subst ea3
  replace hf := gB1_e hf
  obtain ⟨_, eo, hf⟩ := hf
  replace hf := gB2_e hf
  obtain ⟨r5, w4, ew4, hf⟩ := hf
  refine j_callV (As := []) (rest := [(ga (some a1)), (ga (some a1))]) (v := (some (ga r5))) C (by omega) (k_X16_engine (by omega) ew4) (gOb_e eo) rfl q1094 q973 q974 q118 q975 ⟨rfl, hd_X16_engine⟩ (by decide) rfl (Nat.le_of_ble_eq_true rfl) dX10_begins_5 ?_
  refine j_dup C dX10_begins_8 ?_
  replace hf := gB2_e hf
  obtain ⟨r7, w6, ew6, hf⟩ := hf
  refine j_callS (As := [(ga r5)]) (rest := [(ga r5), (ga (some a1)), (ga (some a1))]) (v := (some (ga r7))) C (by omega) (k_J8_requireNonNull (by omega) ew6) q1095 q977 q116 q978 hd_J8_requireNonNull (by decide) rfl (Nat.le_of_ble_eq_true rfl) dX10_begins_9 ?_
  refine j_pop C dX10_begins_12 ?_
  refine j_aload_n C dX10_begins_13 rfl ?_
  refine j_aload_n C dX10_begins_14 rfl ?_
  replace hf := gB2_e hf
  obtain ⟨_, w8, ew8, hf⟩ := hf
  refine j_callI (As := [(ga r5), (ga (some a3)), (ga (some a0))]) (rest := [(ga (some a1))]) C (by omega) (k_X24_init (by omega) ew8) rfl q1096 q1097 q128 q1098 hd_X24_init (by decide) rfl (Nat.le_of_ble_eq_true rfl) dX10_begins_15 ?_
  obtain ⟨rfl, rfl⟩ := gSome hf
  exact j_aret C hr (Or.inl ⟨_, rfl⟩) hw dX10_begins_18
def dkwX11_begins_0 : List UInt8 := [187, 0, 16, 89, 43, 182, 0, 18, 89, 184, 0, 24, 87, 43, 42, 183, 0, 30, 176]
abbrev dktX11_begins_0 : List UInt8 := dkwX11_begins_0 ++ []
theorem dksX11_begins_0 : cX11_begins.data.toList.drop 0 = dktX11_begins_0 := by decide +kernel
theorem dX11_begins_0 : decode cX11_begins 0 = .ok (.new 16, 3) := dk_187 0 16 (dk_at dksX11_begins_0 0 rfl rfl)
theorem dX11_begins_3 : decode cX11_begins 3 = .ok (.dup, 1) := dk_89 (dk_at dksX11_begins_0 3 rfl rfl)
theorem dX11_begins_4 : decode cX11_begins 4 = .ok (.aload_n 1, 1) := dk_43 (dk_at dksX11_begins_0 4 rfl rfl)
theorem dX11_begins_5 : decode cX11_begins 5 = .ok (.invokevirtual 18, 3) := dk_182 0 18 (dk_at dksX11_begins_0 5 rfl rfl)
theorem dX11_begins_8 : decode cX11_begins 8 = .ok (.dup, 1) := dk_89 (dk_at dksX11_begins_0 8 rfl rfl)
theorem dX11_begins_9 : decode cX11_begins 9 = .ok (.invokestatic 24, 3) := dk_184 0 24 (dk_at dksX11_begins_0 9 rfl rfl)
theorem dX11_begins_12 : decode cX11_begins 12 = .ok (.pop, 1) := dk_87 (dk_at dksX11_begins_0 12 rfl rfl)
theorem dX11_begins_13 : decode cX11_begins 13 = .ok (.aload_n 1, 1) := dk_43 (dk_at dksX11_begins_0 13 rfl rfl)
theorem dX11_begins_14 : decode cX11_begins 14 = .ok (.aload_n 0, 1) := dk_42 (dk_at dksX11_begins_0 14 rfl rfl)
theorem dX11_begins_15 : decode cX11_begins 15 = .ok (.invokespecial 30, 3) := dk_183 0 30 (dk_at dksX11_begins_0 15 rfl rfl)
theorem dX11_begins_18 : decode cX11_begins 18 = .ok (.areturn, 1) := dk_176 (dk_at dksX11_begins_0 18 rfl rfl)
theorem nl_X11_16 : gNL RX11 16 21 := ⟨RX21, TX21, 5, 5, tyX21, _, rfl, rfl, in_X21, tyX21_ok, q995, q996, q125, fun j hj => by rcases (show j = 0 ∨ j = 1 ∨ j = 2 ∨ j = 3 ∨ j = 4 by omega) with rfl | rfl | rfl | rfl | rfl <;> rfl⟩
def f_X11_begins (a0 : Nat) (p1 : Option Nat) (w0 : gw) : Option (Option Nat × gw) := gB2 (gNew w0 21) fun a1 w2 => gB1 p1 fun a3 => gB1 (gOb w2 a3 16) fun _ => gB2 (f_X16_engine a3  w2) fun r5 w4 => gB2 (f_J8_requireNonNull r5 w4) fun r7 w6 => gB2 (f_X21_init a1 r5 (some a3) (some a0) w6) fun _ w8 => some ((some a1), w8)
set_option maxHeartbeats 4000000 in
set_option maxRecDepth 100000 in
theorem k_X11_begins {D : va_G} {dA : Nat → ClassId} {A : Nat → Prop} {K : Nat → Nat} {l : Launch} {h : Nat} (hh : 3 ≤ h) {a0 : Nat} {p1 : Option Nat} {w0 ww : gw} {rr : Option Nat} (hf : f_X11_begins a0 p1 w0 = some (rr, ww)) : gMet D dA A K l yX11_begins (ws_ yX11_begins cX11_begins 2 (some (.object "WorkflowEngine$Run"))) h [(ga (some a0)), (ga p1)] (some (ga rr)) w0 ww := by
  refine j_start (own := RX11) (by decide +kernel) rfl (Nat.le_of_ble_eq_true rfl) ?_
  intro p e R s m args below meth c C hr hin hw
  unfold f_X11_begins at hf
  show gJ D dA A K p l e R s m args below meth c (gEnd D dA A K below args s w0 (some (ga rr)) ww) 2 0 [(0, (ga (some a0))), (1, (ga p1))] [] w0
  replace hf := gB2_e hf
  obtain ⟨a1, w2, ew2, hf⟩ := hf
  refine j_new C nl_X11_16 ew2 dX11_begins_0 ?_
  refine j_dup C dX11_begins_3 ?_
  refine j_aload_n C dX11_begins_4 rfl ?_
  replace hf := gB1_e hf
  obtain ⟨a3, ea3, hf⟩ := hf
  subst ea3
  replace hf := gB1_e hf
  obtain ⟨_, eo, hf⟩ := hf
  replace hf := gB2_e hf
  obtain ⟨r5, w4, ew4, hf⟩ := hf
  refine j_callV (As := []) (rest := [(ga (some a1)), (ga (some a1))]) (v := (some (ga r5))) C (by omega) (k_X16_engine (by omega) ew4) (gOb_e eo) rfl q997 q973 q974 q118 q975 ⟨rfl, hd_X16_engine⟩ (by decide) rfl (Nat.le_of_ble_eq_true rfl) dX11_begins_5 ?_
  refine j_dup C dX11_begins_8 ?_
  replace hf := gB2_e hf
  obtain ⟨r7, w6, ew6, hf⟩ := hf
  refine j_callS (As := [(ga r5)]) (rest := [(ga r5), (ga (some a1)), (ga (some a1))]) (v := (some (ga r7))) C (by omega) (k_J8_requireNonNull (by omega) ew6) q998 q977 q116 q978 hd_J8_requireNonNull (by decide) rfl (Nat.le_of_ble_eq_true rfl) dX11_begins_9 ?_
  refine j_pop C dX11_begins_12 ?_
  refine j_aload_n C dX11_begins_13 rfl ?_
  refine j_aload_n C dX11_begins_14 rfl ?_
  replace hf := gB2_e hf
  obtain ⟨_, w8, ew8, hf⟩ := hf
  refine j_callI (As := [(ga r5), (ga (some a3)), (ga (some a0))]) (rest := [(ga (some a1))]) C (by omega) (k_X21_init (by omega) ew8) rfl q999 q1000 q125 q1001 hd_X21_init (by decide) rfl (Nat.le_of_ble_eq_true rfl) dX11_begins_15 ?_
  obtain ⟨rfl, rfl⟩ := gSome hf
  exact j_aret C hr (Or.inl ⟨_, rfl⟩) hw dX11_begins_18
def dkwX12_begins_0 : List UInt8 := [187, 0, 20, 89, 43, 182, 0, 22, 89, 184, 0, 28, 87, 43, 42, 183, 0, 34, 176]
abbrev dktX12_begins_0 : List UInt8 := dkwX12_begins_0 ++ []
theorem dksX12_begins_0 : cX12_begins.data.toList.drop 0 = dktX12_begins_0 := by decide +kernel
theorem dX12_begins_0 : decode cX12_begins 0 = .ok (.new 20, 3) := dk_187 0 20 (dk_at dksX12_begins_0 0 rfl rfl)
theorem dX12_begins_3 : decode cX12_begins 3 = .ok (.dup, 1) := dk_89 (dk_at dksX12_begins_0 3 rfl rfl)
theorem dX12_begins_4 : decode cX12_begins 4 = .ok (.aload_n 1, 1) := dk_43 (dk_at dksX12_begins_0 4 rfl rfl)
theorem dX12_begins_5 : decode cX12_begins 5 = .ok (.invokevirtual 22, 3) := dk_182 0 22 (dk_at dksX12_begins_0 5 rfl rfl)
theorem dX12_begins_8 : decode cX12_begins 8 = .ok (.dup, 1) := dk_89 (dk_at dksX12_begins_0 8 rfl rfl)
theorem dX12_begins_9 : decode cX12_begins 9 = .ok (.invokestatic 28, 3) := dk_184 0 28 (dk_at dksX12_begins_0 9 rfl rfl)
theorem dX12_begins_12 : decode cX12_begins 12 = .ok (.pop, 1) := dk_87 (dk_at dksX12_begins_0 12 rfl rfl)
theorem dX12_begins_13 : decode cX12_begins 13 = .ok (.aload_n 1, 1) := dk_43 (dk_at dksX12_begins_0 13 rfl rfl)
theorem dX12_begins_14 : decode cX12_begins 14 = .ok (.aload_n 0, 1) := dk_42 (dk_at dksX12_begins_0 14 rfl rfl)
theorem dX12_begins_15 : decode cX12_begins 15 = .ok (.invokespecial 34, 3) := dk_183 0 34 (dk_at dksX12_begins_0 15 rfl rfl)
theorem dX12_begins_18 : decode cX12_begins 18 = .ok (.areturn, 1) := dk_176 (dk_at dksX12_begins_0 18 rfl rfl)
theorem nl_X12_20 : gNL RX12 20 20 := ⟨RX20, TX20, 4, 4, tyX20, _, rfl, rfl, in_X20, tyX20_ok, q970, q971, q124, fun j hj => by rcases (show j = 0 ∨ j = 1 ∨ j = 2 ∨ j = 3 by omega) with rfl | rfl | rfl | rfl <;> rfl⟩
def f_X12_begins (a0 : Nat) (p1 : Option Nat) (w0 : gw) : Option (Option Nat × gw) := gB2 (gNew w0 20) fun a1 w2 => gB1 p1 fun a3 => gB1 (gOb w2 a3 16) fun _ => gB2 (f_X16_engine a3  w2) fun r5 w4 => gB2 (f_J8_requireNonNull r5 w4) fun r7 w6 => gB2 (f_X20_init a1 r5 (some a3) (some a0) w6) fun _ w8 => some ((some a1), w8)
set_option maxHeartbeats 4000000 in
set_option maxRecDepth 100000 in
theorem k_X12_begins {D : va_G} {dA : Nat → ClassId} {A : Nat → Prop} {K : Nat → Nat} {l : Launch} {h : Nat} (hh : 3 ≤ h) {a0 : Nat} {p1 : Option Nat} {w0 ww : gw} {rr : Option Nat} (hf : f_X12_begins a0 p1 w0 = some (rr, ww)) : gMet D dA A K l yX12_begins (ws_ yX12_begins cX12_begins 2 (some (.object "WorkflowEngine$Run"))) h [(ga (some a0)), (ga p1)] (some (ga rr)) w0 ww := by
  refine j_start (own := RX12) (by decide +kernel) rfl (Nat.le_of_ble_eq_true rfl) ?_
  intro p e R s m args below meth c C hr hin hw
  unfold f_X12_begins at hf
  show gJ D dA A K p l e R s m args below meth c (gEnd D dA A K below args s w0 (some (ga rr)) ww) 2 0 [(0, (ga (some a0))), (1, (ga p1))] [] w0
  replace hf := gB2_e hf
  obtain ⟨a1, w2, ew2, hf⟩ := hf
  refine j_new C nl_X12_20 ew2 dX12_begins_0 ?_
  refine j_dup C dX12_begins_3 ?_
  refine j_aload_n C dX12_begins_4 rfl ?_
  replace hf := gB1_e hf
  obtain ⟨a3, ea3, hf⟩ := hf
  subst ea3
  replace hf := gB1_e hf
  obtain ⟨_, eo, hf⟩ := hf
  replace hf := gB2_e hf
  obtain ⟨r5, w4, ew4, hf⟩ := hf
  refine j_callV (As := []) (rest := [(ga (some a1)), (ga (some a1))]) (v := (some (ga r5))) C (by omega) (k_X16_engine (by omega) ew4) (gOb_e eo) rfl q972 q973 q974 q118 q975 ⟨rfl, hd_X16_engine⟩ (by decide) rfl (Nat.le_of_ble_eq_true rfl) dX12_begins_5 ?_
  refine j_dup C dX12_begins_8 ?_
  replace hf := gB2_e hf
  obtain ⟨r7, w6, ew6, hf⟩ := hf
  refine j_callS (As := [(ga r5)]) (rest := [(ga r5), (ga (some a1)), (ga (some a1))]) (v := (some (ga r7))) C (by omega) (k_J8_requireNonNull (by omega) ew6) q976 q977 q116 q978 hd_J8_requireNonNull (by decide) rfl (Nat.le_of_ble_eq_true rfl) dX12_begins_9 ?_
  refine j_pop C dX12_begins_12 ?_
  refine j_aload_n C dX12_begins_13 rfl ?_
  refine j_aload_n C dX12_begins_14 rfl ?_
  replace hf := gB2_e hf
  obtain ⟨_, w8, ew8, hf⟩ := hf
  refine j_callI (As := [(ga r5), (ga (some a3)), (ga (some a0))]) (rest := [(ga (some a1))]) C (by omega) (k_X20_init (by omega) ew8) rfl q979 q980 q124 q981 hd_X20_init (by decide) rfl (Nat.le_of_ble_eq_true rfl) dX12_begins_15 ?_
  obtain ⟨rfl, rfl⟩ := gSome hf
  exact j_aret C hr (Or.inl ⟨_, rfl⟩) hw dX12_begins_18
def dkwX13_begins_1 : List UInt8 := [180, 0, 13, 162, 0, 10, 42, 180, 0, 16, 167, 0, 7, 42, 180, 0, 20, 183, 0, 41, 176]
abbrev dktX13_begins_1 : List UInt8 := dkwX13_begins_1 ++ []
def dkwX13_begins_0 : List UInt8 := [187, 0, 23, 89, 43, 182, 0, 25, 89, 184, 0, 31, 87, 43, 43, 180, 0, 37, 42, 180, 0, 7, 46, 42]
abbrev dktX13_begins_0 : List UInt8 := dkwX13_begins_0 ++ dktX13_begins_1
theorem dksX13_begins_0 : cX13_begins.data.toList.drop 0 = dktX13_begins_0 := by decide +kernel
theorem dksX13_begins_1 : cX13_begins.data.toList.drop 24 = dktX13_begins_1 := dk_seg dksX13_begins_0 24 rfl rfl
theorem dX13_begins_0 : decode cX13_begins 0 = .ok (.new 23, 3) := dk_187 0 23 (dk_at dksX13_begins_0 0 rfl rfl)
theorem dX13_begins_3 : decode cX13_begins 3 = .ok (.dup, 1) := dk_89 (dk_at dksX13_begins_0 3 rfl rfl)
theorem dX13_begins_4 : decode cX13_begins 4 = .ok (.aload_n 1, 1) := dk_43 (dk_at dksX13_begins_0 4 rfl rfl)
theorem dX13_begins_5 : decode cX13_begins 5 = .ok (.invokevirtual 25, 3) := dk_182 0 25 (dk_at dksX13_begins_0 5 rfl rfl)
theorem dX13_begins_8 : decode cX13_begins 8 = .ok (.dup, 1) := dk_89 (dk_at dksX13_begins_0 8 rfl rfl)
theorem dX13_begins_9 : decode cX13_begins 9 = .ok (.invokestatic 31, 3) := dk_184 0 31 (dk_at dksX13_begins_0 9 rfl rfl)
theorem dX13_begins_12 : decode cX13_begins 12 = .ok (.pop, 1) := dk_87 (dk_at dksX13_begins_0 12 rfl rfl)
theorem dX13_begins_13 : decode cX13_begins 13 = .ok (.aload_n 1, 1) := dk_43 (dk_at dksX13_begins_0 13 rfl rfl)
theorem dX13_begins_14 : decode cX13_begins 14 = .ok (.aload_n 1, 1) := dk_43 (dk_at dksX13_begins_0 14 rfl rfl)
theorem dX13_begins_15 : decode cX13_begins 15 = .ok (.getfield 37, 3) := dk_180 0 37 (dk_at dksX13_begins_0 15 rfl rfl)
theorem dX13_begins_18 : decode cX13_begins 18 = .ok (.aload_n 0, 1) := dk_42 (dk_at dksX13_begins_0 18 rfl rfl)
theorem dX13_begins_19 : decode cX13_begins 19 = .ok (.getfield 7, 3) := dk_180 0 7 (dk_at dksX13_begins_0 19 rfl rfl)
theorem dX13_begins_22 : decode cX13_begins 22 = .ok (.iaload, 1) := dk_46 (dk_at dksX13_begins_0 22 rfl rfl)
theorem dX13_begins_23 : decode cX13_begins 23 = .ok (.aload_n 0, 1) := dk_42 (dk_at dksX13_begins_0 23 rfl rfl)
theorem dX13_begins_24 : decode cX13_begins 24 = .ok (.getfield 13, 3) := dk_180 0 13 (dk_at dksX13_begins_1 0 rfl rfl)
theorem dX13_begins_27 : decode cX13_begins 27 = .ok (.if_icmp .ge 10, 3) := dk_162 0 10 (dk_at dksX13_begins_1 3 rfl rfl)
theorem dX13_begins_30 : decode cX13_begins 30 = .ok (.aload_n 0, 1) := dk_42 (dk_at dksX13_begins_1 6 rfl rfl)
theorem dX13_begins_31 : decode cX13_begins 31 = .ok (.getfield 16, 3) := dk_180 0 16 (dk_at dksX13_begins_1 7 rfl rfl)
theorem dX13_begins_34 : decode cX13_begins 34 = .ok (.goto 7, 3) := dk_167 0 7 (dk_at dksX13_begins_1 10 rfl rfl)
theorem dX13_begins_37 : decode cX13_begins 37 = .ok (.aload_n 0, 1) := dk_42 (dk_at dksX13_begins_1 13 rfl rfl)
theorem dX13_begins_38 : decode cX13_begins 38 = .ok (.getfield 20, 3) := dk_180 0 20 (dk_at dksX13_begins_1 14 rfl rfl)
theorem dX13_begins_41 : decode cX13_begins 41 = .ok (.invokespecial 41, 3) := dk_183 0 41 (dk_at dksX13_begins_1 17 rfl rfl)
theorem dX13_begins_44 : decode cX13_begins 44 = .ok (.areturn, 1) := dk_176 (dk_at dksX13_begins_1 20 rfl rfl)
theorem nl_X13_23 : gNL RX13 23 18 := ⟨RX18, TX18, 7, 7, tyX18, _, rfl, rfl, in_X18, tyX18_ok, q1019, q874, q120, fun j hj => by rcases (show j = 0 ∨ j = 1 ∨ j = 2 ∨ j = 3 ∨ j = 4 ∨ j = 5 ∨ j = 6 by omega) with rfl | rfl | rfl | rfl | rfl | rfl | rfl <;> rfl⟩
theorem fl_X13_37_16 : gFL RX13 37 16 4 := gFL.mkN (Cn := RX16) (T := TX16) (N := 16) (ref := "WorkflowEngine$Instance") rfl in_X16 (by decide) nq815 rfl rfl (Or.inl rfl)
theorem hd_X18_init : (yX18_init.cls ≠ "java/lang/invoke/MethodHandle" ∧ yX18_init.cls ≠ "java/lang/invoke/VarHandle" ∧ (parseMethodDescriptor yX18_init.desc).map (fun d => d.parameters.length) = some 3) := ⟨by decide +kernel, by decide +kernel, by decide +kernel⟩
def f_X13_begins (a0 : Nat) (p1 : Option Nat) (w0 : gw) : Option (Option Nat × gw) := gB2 (gNew w0 18) fun a1 w2 => gB1 p1 fun a3 => gB1 (gOb w2 a3 16) fun _ => gB2 (f_X16_engine a3  w2) fun r5 w4 => gB2 (f_J8_requireNonNull r5 w4) fun r7 w6 => gB1 (gR w6 a3 16 4) fun r8 => gB1 (gI w6 a0 13 1) fun x9 => gB1 r8 fun a10 => gB1 (gLdI w6 a10 0 x9) fun x11 => gB1 (gI w6 a0 13 2) fun x12 => gBd (fun (r15 : Option Nat) (r16 : Option Nat) (r17 : Option Nat) (r18 : Option Nat) (r19 : Option Nat) (w14 : gw) => gB1 r16 fun a20 => gB2 (f_X18_init a20 r17 r18 r19 w14) fun _ w21 => some (r15, w21)) fun k13 => if x12 ≤ x11 then gB1 (gR w6 a0 13 4) fun r23 => k13 (some a1) (some a1) r5 (some a3) r23 w6 else gB1 (gR w6 a0 13 3) fun r24 => k13 (some a1) (some a1) r5 (some a3) r24 w6
set_option maxHeartbeats 4000000 in
set_option maxRecDepth 100000 in
theorem k_X13_begins {D : va_G} {dA : Nat → ClassId} {A : Nat → Prop} {K : Nat → Nat} {l : Launch} {h : Nat} (hh : 3 ≤ h) {a0 : Nat} {p1 : Option Nat} {w0 ww : gw} {rr : Option Nat} (hf : f_X13_begins a0 p1 w0 = some (rr, ww)) : gMet D dA A K l yX13_begins (ws_ yX13_begins cX13_begins 2 (some (.object "WorkflowEngine$Run"))) h [(ga (some a0)), (ga p1)] (some (ga rr)) w0 ww := by
  refine j_start (own := RX13) (by decide +kernel) rfl (Nat.le_of_ble_eq_true rfl) ?_
  intro p e R s m args below meth c C hr hin hw
  unfold f_X13_begins at hf
  show gJ D dA A K p l e R s m args below meth c (gEnd D dA A K below args s w0 (some (ga rr)) ww) 2 0 [(0, (ga (some a0))), (1, (ga p1))] [] w0
  replace hf := gB2_e hf
  obtain ⟨a1, w2, ew2, hf⟩ := hf
  refine j_new C nl_X13_23 ew2 dX13_begins_0 ?_
  refine j_dup C dX13_begins_3 ?_
  refine j_aload_n C dX13_begins_4 rfl ?_
  replace hf := gB1_e hf
  obtain ⟨a3, ea3, hf⟩ := hf
  subst ea3
  replace hf := gB1_e hf
  obtain ⟨_, eo, hf⟩ := hf
  replace hf := gB2_e hf
  obtain ⟨r5, w4, ew4, hf⟩ := hf
  refine j_callV (As := []) (rest := [(ga (some a1)), (ga (some a1))]) (v := (some (ga r5))) C (by omega) (k_X16_engine (by omega) ew4) (gOb_e eo) rfl q1020 q973 q974 q118 q975 ⟨rfl, hd_X16_engine⟩ (by decide) rfl (Nat.le_of_ble_eq_true rfl) dX13_begins_5 ?_
  refine j_dup C dX13_begins_8 ?_
  replace hf := gB2_e hf
  obtain ⟨r7, w6, ew6, hf⟩ := hf
  refine j_callS (As := [(ga r5)]) (rest := [(ga r5), (ga (some a1)), (ga (some a1))]) (v := (some (ga r7))) C (by omega) (k_J8_requireNonNull (by omega) ew6) q1021 q977 q116 q978 hd_J8_requireNonNull (by decide) rfl (Nat.le_of_ble_eq_true rfl) dX13_begins_9 ?_
  refine j_pop C dX13_begins_12 ?_
  refine j_aload_n C dX13_begins_13 rfl ?_
  refine j_aload_n C dX13_begins_14 rfl ?_
  replace hf := gB1_e hf
  obtain ⟨r8, er8, hf⟩ := hf
  refine j_get C fl_X13_37_16 dX13_begins_15 (gR_F er8) ?_
  refine j_aload_n C dX13_begins_18 rfl ?_
  replace hf := gB1_e hf
  obtain ⟨x9, ex9, hf⟩ := hf
  refine j_get C fl_X13_7_13 dX13_begins_19 (gI_F ex9) ?_
  replace hf := gB1_e hf
  obtain ⟨a10, ea10, hf⟩ := hf
  subst ea10
  replace hf := gB1_e hf
  obtain ⟨x11, ex11, hf⟩ := hf
  refine j_iald C ex11 dX13_begins_22 ?_
  refine j_aload_n C dX13_begins_23 rfl ?_
  replace hf := gB1_e hf
  obtain ⟨x12, ex12, hf⟩ := hf
  refine j_get C fl_X13_13_13 dX13_begins_24 (gI_F ex12) ?_
  replace hf := gBd_x hf
  obtain ⟨k13, ek13, hf⟩ := hf
  have jk13 : ∀ (r15 : Option Nat) (r16 : Option Nat) (r17 : Option Nat) (r18 : Option Nat) (r19 : Option Nat) (w14 : gw), k13 r15 r16 r17 r18 r19 w14 = some (rr, ww) → gJ D dA A K p l e R s m args below meth c (gEnd D dA A K below args s w0 (some (ga rr)) ww) 2 41 [] [(ga r19), (ga r18), (ga r17), (ga r16), (ga r15)] w14 := by
    intro r15 r16 r17 r18 r19 w14 hf
    rw [ek13] at hf
    dsimp only at hf
    replace hf := gB1_e hf
    obtain ⟨a20, ea20, hf⟩ := hf
    subst ea20
    replace hf := gB2_e hf
    obtain ⟨_, w21, ew21, hf⟩ := hf
    refine j_callI (As := [(ga r17), (ga r18), (ga r19)]) (rest := [(ga r15)]) C (by omega) (k_X18_init (by omega) ew21) rfl q1022 q876 q120 q877 hd_X18_init (by decide) rfl (Nat.le_of_ble_eq_true rfl) dX13_begins_41 ?_
    obtain ⟨rfl, rfl⟩ := gSome hf
    exact j_aret C hr (Or.inl ⟨_, rfl⟩) hw dX13_begins_44
  clear ek13
  refine j_icmp_ge (tgt := 37) C dX13_begins_27 (by decide) (fun c22 => ?_) (fun c22 => ?_)
  · replace hf := gIf_t hf c22
    refine j_aload_n C dX13_begins_37 rfl ?_
    replace hf := gB1_e hf
    obtain ⟨r23, er23, hf⟩ := hf
    refine j_get C fl_X13_20_13 dX13_begins_38 (gR_F er23) ?_
    refine j_sub (lv' := []) (gL_nil) ?_
    exact jk13 _ _ _ _ _ _ hf
  · replace hf := gIf_f hf c22
    refine j_aload_n C dX13_begins_30 rfl ?_
    replace hf := gB1_e hf
    obtain ⟨r24, er24, hf⟩ := hf
    refine j_get C fl_X13_16_13 dX13_begins_31 (gR_F er24) ?_
    refine j_goto (tgt := 41) C dX13_begins_34 (by decide) ?_
    refine j_sub (lv' := []) (gL_nil) ?_
    exact jk13 _ _ _ _ _ _ hf
def dkwX14_begins_0 : List UInt8 := [187, 0, 17, 89, 43, 182, 0, 19, 89, 184, 0, 25, 87, 43, 42, 183, 0, 31, 176]
abbrev dktX14_begins_0 : List UInt8 := dkwX14_begins_0 ++ []
theorem dksX14_begins_0 : cX14_begins.data.toList.drop 0 = dktX14_begins_0 := by decide +kernel
theorem dX14_begins_0 : decode cX14_begins 0 = .ok (.new 17, 3) := dk_187 0 17 (dk_at dksX14_begins_0 0 rfl rfl)
theorem dX14_begins_3 : decode cX14_begins 3 = .ok (.dup, 1) := dk_89 (dk_at dksX14_begins_0 3 rfl rfl)
theorem dX14_begins_4 : decode cX14_begins 4 = .ok (.aload_n 1, 1) := dk_43 (dk_at dksX14_begins_0 4 rfl rfl)
theorem dX14_begins_5 : decode cX14_begins 5 = .ok (.invokevirtual 19, 3) := dk_182 0 19 (dk_at dksX14_begins_0 5 rfl rfl)
theorem dX14_begins_8 : decode cX14_begins 8 = .ok (.dup, 1) := dk_89 (dk_at dksX14_begins_0 8 rfl rfl)
theorem dX14_begins_9 : decode cX14_begins 9 = .ok (.invokestatic 25, 3) := dk_184 0 25 (dk_at dksX14_begins_0 9 rfl rfl)
theorem dX14_begins_12 : decode cX14_begins 12 = .ok (.pop, 1) := dk_87 (dk_at dksX14_begins_0 12 rfl rfl)
theorem dX14_begins_13 : decode cX14_begins 13 = .ok (.aload_n 1, 1) := dk_43 (dk_at dksX14_begins_0 13 rfl rfl)
theorem dX14_begins_14 : decode cX14_begins 14 = .ok (.aload_n 0, 1) := dk_42 (dk_at dksX14_begins_0 14 rfl rfl)
theorem dX14_begins_15 : decode cX14_begins 15 = .ok (.invokespecial 31, 3) := dk_183 0 31 (dk_at dksX14_begins_0 15 rfl rfl)
theorem dX14_begins_18 : decode cX14_begins 18 = .ok (.areturn, 1) := dk_176 (dk_at dksX14_begins_0 18 rfl rfl)
theorem nl_X14_17 : gNL RX14 17 22 := ⟨RX22, TX22, 7, 7, tyX22, _, rfl, rfl, in_X22, tyX22_ok, q1026, q1027, q126, fun j hj => by rcases (show j = 0 ∨ j = 1 ∨ j = 2 ∨ j = 3 ∨ j = 4 ∨ j = 5 ∨ j = 6 by omega) with rfl | rfl | rfl | rfl | rfl | rfl | rfl <;> rfl⟩
theorem hd_X22_init : (yX22_init.cls ≠ "java/lang/invoke/MethodHandle" ∧ yX22_init.cls ≠ "java/lang/invoke/VarHandle" ∧ (parseMethodDescriptor yX22_init.desc).map (fun d => d.parameters.length) = some 3) := ⟨by decide +kernel, by decide +kernel, by decide +kernel⟩
def f_X14_begins (a0 : Nat) (p1 : Option Nat) (w0 : gw) : Option (Option Nat × gw) := gB2 (gNew w0 22) fun a1 w2 => gB1 p1 fun a3 => gB1 (gOb w2 a3 16) fun _ => gB2 (f_X16_engine a3  w2) fun r5 w4 => gB2 (f_J8_requireNonNull r5 w4) fun r7 w6 => gB2 (f_X22_init a1 r5 (some a3) (some a0) w6) fun _ w8 => some ((some a1), w8)
set_option maxHeartbeats 4000000 in
set_option maxRecDepth 100000 in
theorem k_X14_begins {D : va_G} {dA : Nat → ClassId} {A : Nat → Prop} {K : Nat → Nat} {l : Launch} {h : Nat} (hh : 3 ≤ h) {a0 : Nat} {p1 : Option Nat} {w0 ww : gw} {rr : Option Nat} (hf : f_X14_begins a0 p1 w0 = some (rr, ww)) : gMet D dA A K l yX14_begins (ws_ yX14_begins cX14_begins 2 (some (.object "WorkflowEngine$Run"))) h [(ga (some a0)), (ga p1)] (some (ga rr)) w0 ww := by
  refine j_start (own := RX14) (by decide +kernel) rfl (Nat.le_of_ble_eq_true rfl) ?_
  intro p e R s m args below meth c C hr hin hw
  unfold f_X14_begins at hf
  show gJ D dA A K p l e R s m args below meth c (gEnd D dA A K below args s w0 (some (ga rr)) ww) 2 0 [(0, (ga (some a0))), (1, (ga p1))] [] w0
  replace hf := gB2_e hf
  obtain ⟨a1, w2, ew2, hf⟩ := hf
  refine j_new C nl_X14_17 ew2 dX14_begins_0 ?_
  refine j_dup C dX14_begins_3 ?_
  refine j_aload_n C dX14_begins_4 rfl ?_
  replace hf := gB1_e hf
  obtain ⟨a3, ea3, hf⟩ := hf
  subst ea3
  replace hf := gB1_e hf
  obtain ⟨_, eo, hf⟩ := hf
  replace hf := gB2_e hf
  obtain ⟨r5, w4, ew4, hf⟩ := hf
  refine j_callV (As := []) (rest := [(ga (some a1)), (ga (some a1))]) (v := (some (ga r5))) C (by omega) (k_X16_engine (by omega) ew4) (gOb_e eo) rfl q1028 q973 q974 q118 q975 ⟨rfl, hd_X16_engine⟩ (by decide) rfl (Nat.le_of_ble_eq_true rfl) dX14_begins_5 ?_
  refine j_dup C dX14_begins_8 ?_
  replace hf := gB2_e hf
  obtain ⟨r7, w6, ew6, hf⟩ := hf
  refine j_callS (As := [(ga r5)]) (rest := [(ga r5), (ga (some a1)), (ga (some a1))]) (v := (some (ga r7))) C (by omega) (k_J8_requireNonNull (by omega) ew6) q1029 q977 q116 q978 hd_J8_requireNonNull (by decide) rfl (Nat.le_of_ble_eq_true rfl) dX14_begins_9 ?_
  refine j_pop C dX14_begins_12 ?_
  refine j_aload_n C dX14_begins_13 rfl ?_
  refine j_aload_n C dX14_begins_14 rfl ?_
  replace hf := gB2_e hf
  obtain ⟨_, w8, ew8, hf⟩ := hf
  refine j_callI (As := [(ga r5), (ga (some a3)), (ga (some a0))]) (rest := [(ga (some a1))]) C (by omega) (k_X22_init (by omega) ew8) rfl q1030 q1031 q126 q1032 hd_X22_init (by decide) rfl (Nat.le_of_ble_eq_true rfl) dX14_begins_15 ?_
  obtain ⟨rfl, rfl⟩ := gSome hf
  exact j_aret C hr (Or.inl ⟨_, rfl⟩) hw dX14_begins_18
def dkwX16_init_3 : List UInt8 := [181, 0, 46, 177]
abbrev dktX16_init_3 : List UInt8 := dkwX16_init_3 ++ []
def dkwX16_init_2 : List UInt8 := [181, 0, 32, 42, 44, 181, 0, 36, 42, 29, 181, 0, 40, 42, 21, 4, 181, 0, 43, 42, 21, 5]
abbrev dktX16_init_2 : List UInt8 := dkwX16_init_2 ++ dktX16_init_3
def dkwX16_init_1 : List UInt8 := [42, 187, 0, 22, 89, 183, 0, 24, 181, 0, 25, 42, 17, 2, 88, 188, 10, 181, 0, 29, 42, 16, 251]
abbrev dktX16_init_1 : List UInt8 := dkwX16_init_1 ++ dktX16_init_2
def dkwX16_init_0 : List UInt8 := [42, 43, 181, 0, 3, 42, 183, 0, 9, 42, 7, 188, 10, 181, 0, 15, 42, 16, 8, 188, 10, 181, 0, 19]
abbrev dktX16_init_0 : List UInt8 := dkwX16_init_0 ++ dktX16_init_1
theorem dksX16_init_0 : cX16_init.data.toList.drop 0 = dktX16_init_0 := by decide +kernel
theorem dksX16_init_1 : cX16_init.data.toList.drop 24 = dktX16_init_1 := dk_seg dksX16_init_0 24 rfl rfl
theorem dksX16_init_2 : cX16_init.data.toList.drop 47 = dktX16_init_2 := dk_seg dksX16_init_1 23 rfl rfl
theorem dksX16_init_3 : cX16_init.data.toList.drop 69 = dktX16_init_3 := dk_seg dksX16_init_2 22 rfl rfl
theorem dX16_init_0 : decode cX16_init 0 = .ok (.aload_n 0, 1) := dk_42 (dk_at dksX16_init_0 0 rfl rfl)
theorem dX16_init_1 : decode cX16_init 1 = .ok (.aload_n 1, 1) := dk_43 (dk_at dksX16_init_0 1 rfl rfl)
theorem dX16_init_2 : decode cX16_init 2 = .ok (.putfield 3, 3) := dk_181 0 3 (dk_at dksX16_init_0 2 rfl rfl)
theorem dX16_init_5 : decode cX16_init 5 = .ok (.aload_n 0, 1) := dk_42 (dk_at dksX16_init_0 5 rfl rfl)
theorem dX16_init_6 : decode cX16_init 6 = .ok (.invokespecial 9, 3) := dk_183 0 9 (dk_at dksX16_init_0 6 rfl rfl)
theorem dX16_init_9 : decode cX16_init 9 = .ok (.aload_n 0, 1) := dk_42 (dk_at dksX16_init_0 9 rfl rfl)
theorem dX16_init_10 : decode cX16_init 10 = .ok (.iconst 4, 1) := dk_7 (dk_at dksX16_init_0 10 rfl rfl)
theorem dX16_init_11 : decode cX16_init 11 = .ok (.newarray .int, 2) := dk_188_10 (dk_at dksX16_init_0 11 rfl rfl)
theorem dX16_init_13 : decode cX16_init 13 = .ok (.putfield 15, 3) := dk_181 0 15 (dk_at dksX16_init_0 13 rfl rfl)
theorem dX16_init_16 : decode cX16_init 16 = .ok (.aload_n 0, 1) := dk_42 (dk_at dksX16_init_0 16 rfl rfl)
theorem dX16_init_17 : decode cX16_init 17 = .ok (.bipush 8, 2) := dk_16 8 (dk_at dksX16_init_0 17 rfl rfl)
theorem dX16_init_19 : decode cX16_init 19 = .ok (.newarray .int, 2) := dk_188_10 (dk_at dksX16_init_0 19 rfl rfl)
theorem dX16_init_21 : decode cX16_init 21 = .ok (.putfield 19, 3) := dk_181 0 19 (dk_at dksX16_init_0 21 rfl rfl)
theorem dX16_init_24 : decode cX16_init 24 = .ok (.aload_n 0, 1) := dk_42 (dk_at dksX16_init_1 0 rfl rfl)
theorem dX16_init_25 : decode cX16_init 25 = .ok (.new 22, 3) := dk_187 0 22 (dk_at dksX16_init_1 1 rfl rfl)
theorem dX16_init_28 : decode cX16_init 28 = .ok (.dup, 1) := dk_89 (dk_at dksX16_init_1 4 rfl rfl)
theorem dX16_init_29 : decode cX16_init 29 = .ok (.invokespecial 24, 3) := dk_183 0 24 (dk_at dksX16_init_1 5 rfl rfl)
theorem dX16_init_32 : decode cX16_init 32 = .ok (.putfield 25, 3) := dk_181 0 25 (dk_at dksX16_init_1 8 rfl rfl)
theorem dX16_init_35 : decode cX16_init 35 = .ok (.aload_n 0, 1) := dk_42 (dk_at dksX16_init_1 11 rfl rfl)
theorem dX16_init_36 : decode cX16_init 36 = .ok (.sipush 600, 3) := dk_17 2 88 (dk_at dksX16_init_1 12 rfl rfl)
theorem dX16_init_39 : decode cX16_init 39 = .ok (.newarray .int, 2) := dk_188_10 (dk_at dksX16_init_1 15 rfl rfl)
theorem dX16_init_41 : decode cX16_init 41 = .ok (.putfield 29, 3) := dk_181 0 29 (dk_at dksX16_init_1 17 rfl rfl)
theorem dX16_init_44 : decode cX16_init 44 = .ok (.aload_n 0, 1) := dk_42 (dk_at dksX16_init_1 20 rfl rfl)
theorem dX16_init_45 : decode cX16_init 45 = .ok (.bipush (-5), 2) := dk_16 251 (dk_at dksX16_init_1 21 rfl rfl)
theorem dX16_init_47 : decode cX16_init 47 = .ok (.putfield 32, 3) := dk_181 0 32 (dk_at dksX16_init_2 0 rfl rfl)
theorem dX16_init_50 : decode cX16_init 50 = .ok (.aload_n 0, 1) := dk_42 (dk_at dksX16_init_2 3 rfl rfl)
theorem dX16_init_51 : decode cX16_init 51 = .ok (.aload_n 2, 1) := dk_44 (dk_at dksX16_init_2 4 rfl rfl)
theorem dX16_init_52 : decode cX16_init 52 = .ok (.putfield 36, 3) := dk_181 0 36 (dk_at dksX16_init_2 5 rfl rfl)
theorem dX16_init_55 : decode cX16_init 55 = .ok (.aload_n 0, 1) := dk_42 (dk_at dksX16_init_2 8 rfl rfl)
theorem dX16_init_56 : decode cX16_init 56 = .ok (.iload_n 3, 1) := dk_29 (dk_at dksX16_init_2 9 rfl rfl)
theorem dX16_init_57 : decode cX16_init 57 = .ok (.putfield 40, 3) := dk_181 0 40 (dk_at dksX16_init_2 10 rfl rfl)
theorem dX16_init_60 : decode cX16_init 60 = .ok (.aload_n 0, 1) := dk_42 (dk_at dksX16_init_2 13 rfl rfl)
theorem dX16_init_61 : decode cX16_init 61 = .ok (.iload 4, 2) := dk_21 4 (dk_at dksX16_init_2 14 rfl rfl)
theorem dX16_init_63 : decode cX16_init 63 = .ok (.putfield 43, 3) := dk_181 0 43 (dk_at dksX16_init_2 16 rfl rfl)
theorem dX16_init_66 : decode cX16_init 66 = .ok (.aload_n 0, 1) := dk_42 (dk_at dksX16_init_2 19 rfl rfl)
theorem dX16_init_67 : decode cX16_init 67 = .ok (.iload 5, 2) := dk_21 5 (dk_at dksX16_init_2 20 rfl rfl)
theorem dX16_init_69 : decode cX16_init 69 = .ok (.putfield 46, 3) := dk_181 0 46 (dk_at dksX16_init_3 0 rfl rfl)
theorem dX16_init_72 : decode cX16_init 72 = .ok (.return_, 1) := dk_177 (dk_at dksX16_init_3 3 rfl rfl)
theorem fk_16_15 : gFk 16 15 "LWorkflowEngine;" true "WorkflowEngine$Instance" := fun Cn T N h => by
  have h : (RX16, TX16, 16) = (Cn, T, N) := Option.some.inj h
  cases h
  exact ⟨rfl, rfl, rfl⟩
theorem fl_X16_15_16 : gFL RX16 15 16 4 := gFL.mk (Cn := RX16) (T := TX16) (N := 16) (ref := "WorkflowEngine$Instance") rfl in_X16 (by decide) q813 rfl rfl (Or.inl rfl)
theorem fk_16_4 : gFk 16 4 "[I" true "WorkflowEngine$Instance" := fun Cn T N h => by
  have h : (RX16, TX16, 16) = (Cn, T, N) := Option.some.inj h
  cases h
  exact ⟨rfl, rfl, rfl⟩
theorem fl_X16_19_16 : gFL RX16 19 16 5 := gFL.mk (Cn := RX16) (T := TX16) (N := 16) (ref := "WorkflowEngine$Instance") rfl in_X16 (by decide) q817 rfl rfl (Or.inl rfl)
theorem fk_16_5 : gFk 16 5 "[I" true "WorkflowEngine$Instance" := fun Cn T N h => by
  have h : (RX16, TX16, 16) = (Cn, T, N) := Option.some.inj h
  cases h
  exact ⟨rfl, rfl, rfl⟩
theorem nl_X16_22 : gNL RX16 22 8 := ⟨RJ2, TJ2, 3, 3, tyJ2, _, rfl, rfl, in_J2, tyJ2_ok, q800, q194, q99, fun j hj => by rcases (show j = 0 ∨ j = 1 ∨ j = 2 by omega) with rfl | rfl | rfl <;> rfl⟩
theorem hd_J2_init : (yJ2_init.cls ≠ "java/lang/invoke/MethodHandle" ∧ yJ2_init.cls ≠ "java/lang/invoke/VarHandle" ∧ (parseMethodDescriptor yJ2_init.desc).map (fun d => d.parameters.length) = some 0) := ⟨by decide +kernel, by decide +kernel, by decide +kernel⟩
theorem fl_X16_25_16 : gFL RX16 25 16 6 := gFL.mk (Cn := RX16) (T := TX16) (N := 16) (ref := "WorkflowEngine$Instance") rfl in_X16 (by decide) q820 rfl rfl (Or.inl rfl)
theorem fk_16_6 : gFk 16 6 "Ljava/util/ArrayList;" true "WorkflowEngine$Instance" := fun Cn T N h => by
  have h : (RX16, TX16, 16) = (Cn, T, N) := Option.some.inj h
  cases h
  exact ⟨rfl, rfl, rfl⟩
theorem fk_16_7 : gFk 16 7 "[I" false "WorkflowEngine$Instance" := fun Cn T N h => by
  have h : (RX16, TX16, 16) = (Cn, T, N) := Option.some.inj h
  cases h
  exact ⟨rfl, rfl, rfl⟩
theorem fk_16_0 : gFk 16 0 "LWorkflowEngine$Moment;" true "WorkflowEngine$Instance" := fun Cn T N h => by
  have h : (RX16, TX16, 16) = (Cn, T, N) := Option.some.inj h
  cases h
  exact ⟨rfl, rfl, rfl⟩
theorem fl_X16_40_16 : gFL RX16 40 16 1 := gFL.mk (Cn := RX16) (T := TX16) (N := 16) (ref := "WorkflowEngine$Instance") rfl in_X16 (by decide) q807 rfl rfl (Or.inl rfl)
theorem fk_16_1 : gFk 16 1 "I" true "WorkflowEngine$Instance" := fun Cn T N h => by
  have h : (RX16, TX16, 16) = (Cn, T, N) := Option.some.inj h
  cases h
  exact ⟨rfl, rfl, rfl⟩
theorem fl_X16_43_16 : gFL RX16 43 16 2 := gFL.mk (Cn := RX16) (T := TX16) (N := 16) (ref := "WorkflowEngine$Instance") rfl in_X16 (by decide) q809 rfl rfl (Or.inl rfl)
theorem fk_16_2 : gFk 16 2 "I" true "WorkflowEngine$Instance" := fun Cn T N h => by
  have h : (RX16, TX16, 16) = (Cn, T, N) := Option.some.inj h
  cases h
  exact ⟨rfl, rfl, rfl⟩
theorem fl_X16_46_16 : gFL RX16 46 16 3 := gFL.mk (Cn := RX16) (T := TX16) (N := 16) (ref := "WorkflowEngine$Instance") rfl in_X16 (by decide) q811 rfl rfl (Or.inl rfl)
theorem fk_16_3 : gFk 16 3 "I" true "WorkflowEngine$Instance" := fun Cn T N h => by
  have h : (RX16, TX16, 16) = (Cn, T, N) := Option.some.inj h
  cases h
  exact ⟨rfl, rfl, rfl⟩
def f_X16_init (a0 : Nat) (p1 : Option Nat) (p2 : Option Nat) (p3 : Int32) (p4 : Int32) (p5 : Int32) (w0 : gw) : Option (Unit × gw) := gB1 (gPut w0 a0 16 15 (ga p1)) fun w1 => gB2 (gNewI w1 0 (nI 4)) fun a2 w3 => gB1 (gPut w3 a0 16 4 (ga (some a2))) fun w4 => gB2 (gNewI w4 0 (nI 8)) fun a5 w6 => gB1 (gPut w6 a0 16 5 (ga (some a5))) fun w7 => gB2 (gNew w7 8) fun a8 w9 => gB2 (f_J2_init a8  w9) fun _ w10 => gB1 (gPut w10 a0 16 6 (ga (some a8))) fun w11 => gB2 (gNewI w11 0 (nI 600)) fun a12 w13 => gB1 (gPut w13 a0 16 7 (ga (some a12))) fun w14 => gB1 (gPut w14 a0 16 10 (gi (-5))) fun w15 => gB1 (gPut w15 a0 16 0 (ga p2)) fun w16 => gB1 (gPut w16 a0 16 1 (gi p3)) fun w17 => gB1 (gPut w17 a0 16 2 (gi p4)) fun w18 => gB1 (gPut w18 a0 16 3 (gi p5)) fun w19 => some ((), w19)
set_option maxHeartbeats 4000000 in
set_option maxRecDepth 100000 in
theorem k_X16_init {D : va_G} {dA : Nat → ClassId} {A : Nat → Prop} {K : Nat → Nat} {l : Launch} {h : Nat} (hh : 4 ≤ h) {a0 : Nat} {p1 : Option Nat} {p2 : Option Nat} {p3 : Int32} {p4 : Int32} {p5 : Int32} {w0 ww : gw} {rr : Unit} (hf : f_X16_init a0 p1 p2 p3 p4 p5 w0 = some (rr, ww)) : gMet D dA A K l yX16_init (ws_ yX16_init cX16_init 6 none) h [(ga (some a0)), (ga p1), (ga p2), (gi p3), (gi p4), (gi p5)] none w0 ww := by
  refine j_start (own := RX16) (by decide +kernel) rfl (Nat.le_of_ble_eq_true rfl) ?_
  intro p e R s m args below meth c C hr hin hw
  unfold f_X16_init at hf
  show gJ D dA A K p l e R s m args below meth c (gEnd D dA A K below args s w0 none ww) 6 0 [(0, (ga (some a0))), (1, (ga p1)), (2, (ga p2)), (3, (gi p3)), (4, (gi p4)), (5, (gi p5))] [] w0
  refine j_aload_n C dX16_init_0 rfl ?_
  refine j_aload_n C dX16_init_1 rfl ?_
  replace hf := gB1_e hf
  obtain ⟨w1, ew1, hf⟩ := hf
  refine j_putF C fl_X16_3_16 tb_16 hin ew1 fk_16_15 rfl (ft_LWorkflowEngine_ p1) dX16_init_2 ?_
  refine j_aload_n C dX16_init_5 rfl ?_
  refine j_objInit C (by omega) q799 q164 q165 (by decide) dX16_init_6 ?_
  refine j_aload_n C dX16_init_9 rfl ?_
  refine j_iconst (v := (nI 4)) C dX16_init_10 (by decide) ?_
  replace hf := gB2_e hf
  obtain ⟨a2, w3, ew3, hf⟩ := hf
  refine j_newi C (t := 0) (atype := .int) rfl (by decide) rfl rfl q761 ew3 dX16_init_11 ?_
  replace hf := gB1_e hf
  obtain ⟨w4, ew4, hf⟩ := hf
  refine j_putF C fl_X16_15_16 tb_16 hin ew4 fk_16_4 rfl (ft__I (some a2)) dX16_init_13 ?_
  refine j_aload_n C dX16_init_16 rfl ?_
  refine j_bipush (v := (nI 8)) C dX16_init_17 (by decide) ?_
  replace hf := gB2_e hf
  obtain ⟨a5, w6, ew6, hf⟩ := hf
  refine j_newi C (t := 0) (atype := .int) rfl (by decide) rfl rfl q761 ew6 dX16_init_19 ?_
  replace hf := gB1_e hf
  obtain ⟨w7, ew7, hf⟩ := hf
  refine j_putF C fl_X16_19_16 tb_16 hin ew7 fk_16_5 rfl (ft__I (some a5)) dX16_init_21 ?_
  refine j_aload_n C dX16_init_24 rfl ?_
  replace hf := gB2_e hf
  obtain ⟨a8, w9, ew9, hf⟩ := hf
  refine j_new C nl_X16_22 ew9 dX16_init_25 ?_
  refine j_dup C dX16_init_28 ?_
  replace hf := gB2_e hf
  obtain ⟨_, w10, ew10, hf⟩ := hf
  refine j_callI (As := []) (rest := [(ga (some a8)), (ga (some a0))]) C (by omega) (k_J2_init (by omega) ew10) rfl q801 q196 q99 q197 hd_J2_init (by decide) rfl (Nat.le_of_ble_eq_true rfl) dX16_init_29 ?_
  replace hf := gB1_e hf
  obtain ⟨w11, ew11, hf⟩ := hf
  refine j_putF C fl_X16_25_16 tb_16 hin ew11 fk_16_6 rfl (ft_Ljava_util_ArrayList_ (some a8)) dX16_init_32 ?_
  refine j_aload_n C dX16_init_35 rfl ?_
  refine j_sipush (v := (nI 600)) C dX16_init_36 (by decide) ?_
  replace hf := gB2_e hf
  obtain ⟨a12, w13, ew13, hf⟩ := hf
  refine j_newi C (t := 0) (atype := .int) rfl (by decide) rfl rfl q761 ew13 dX16_init_39 ?_
  replace hf := gB1_e hf
  obtain ⟨w14, ew14, hf⟩ := hf
  refine j_put C fl_X16_29_16 tb_16 ew14 fk_16_7 (ft__I (some a12)) dX16_init_41 ?_
  refine j_aload_n C dX16_init_44 rfl ?_
  refine j_bipush (v := (-5)) C dX16_init_45 (by decide) ?_
  replace hf := gB1_e hf
  obtain ⟨w15, ew15, hf⟩ := hf
  refine j_put C fl_X16_32_16 tb_16 ew15 fk_16_10 (fit_I (-5)) dX16_init_47 ?_
  refine j_aload_n C dX16_init_50 rfl ?_
  refine j_aload_n C dX16_init_51 rfl ?_
  replace hf := gB1_e hf
  obtain ⟨w16, ew16, hf⟩ := hf
  refine j_putF C fl_X16_36_16 tb_16 hin ew16 fk_16_0 rfl (ft_LWorkflowEngine_Moment_ p2) dX16_init_52 ?_
  refine j_aload_n C dX16_init_55 rfl ?_
  refine j_iload_n C dX16_init_56 rfl ?_
  replace hf := gB1_e hf
  obtain ⟨w17, ew17, hf⟩ := hf
  refine j_putF C fl_X16_40_16 tb_16 hin ew17 fk_16_1 rfl (fit_I p3) dX16_init_57 ?_
  refine j_aload_n C dX16_init_60 rfl ?_
  refine j_iload C dX16_init_61 rfl ?_
  replace hf := gB1_e hf
  obtain ⟨w18, ew18, hf⟩ := hf
  refine j_putF C fl_X16_43_16 tb_16 hin ew18 fk_16_2 rfl (fit_I p4) dX16_init_63 ?_
  refine j_aload_n C dX16_init_66 rfl ?_
  refine j_iload C dX16_init_67 rfl ?_
  replace hf := gB1_e hf
  obtain ⟨w19, ew19, hf⟩ := hf
  refine j_putF C fl_X16_46_16 tb_16 hin ew19 fk_16_3 rfl (fit_I p5) dX16_init_69 ?_
  obtain ⟨rfl, rfl⟩ := gSome hf
  exact j_vret C hr hw dX16_init_72
def dkwX26_isOver_4 : List UInt8 := [164, 0, 5, 3, 172, 42, 43, 182, 0, 92, 167, 255, 154, 42, 18, 93, 181, 0, 43, 4, 172]
abbrev dktX26_isOver_4 : List UInt8 := dkwX26_isOver_4 ++ []
def dkwX26_isOver_3 : List UInt8 := [42, 43, 182, 0, 69, 167, 0, 27, 42, 180, 0, 43, 42, 180, 0, 15, 180, 0, 32, 180, 0, 38]
abbrev dktX26_isOver_3 : List UInt8 := dkwX26_isOver_3 ++ dktX26_isOver_4
def dkwX26_isOver_2 : List UInt8 := [5, 159, 0, 16, 42, 89, 180, 0, 29, 4, 100, 181, 0, 29, 167, 0, 42, 42, 180, 0, 49, 154, 0, 11]
abbrev dktX26_isOver_2 : List UInt8 := dkwX26_isOver_2 ++ dktX26_isOver_3
def dkwX26_isOver_1 : List UInt8 := [180, 0, 29, 4, 100, 46, 182, 0, 86, 192, 0, 57, 76, 43, 180, 0, 56, 155, 0, 11, 43, 180, 0, 73]
abbrev dktX26_isOver_1 : List UInt8 := dkwX26_isOver_1 ++ dktX26_isOver_2
def dkwX26_isOver_0 : List UInt8 := [42, 180, 0, 29, 158, 0, 101, 42, 180, 0, 15, 180, 0, 79, 42, 180, 0, 19, 180, 0, 83, 42]
abbrev dktX26_isOver_0 : List UInt8 := dkwX26_isOver_0 ++ dktX26_isOver_1
theorem dksX26_isOver_0 : cX26_isOver.data.toList.drop 0 = dktX26_isOver_0 := by decide +kernel
theorem dksX26_isOver_1 : cX26_isOver.data.toList.drop 22 = dktX26_isOver_1 := dk_seg dksX26_isOver_0 22 rfl rfl
theorem dksX26_isOver_2 : cX26_isOver.data.toList.drop 46 = dktX26_isOver_2 := dk_seg dksX26_isOver_1 24 rfl rfl
theorem dksX26_isOver_3 : cX26_isOver.data.toList.drop 70 = dktX26_isOver_3 := dk_seg dksX26_isOver_2 24 rfl rfl
theorem dksX26_isOver_4 : cX26_isOver.data.toList.drop 92 = dktX26_isOver_4 := dk_seg dksX26_isOver_3 22 rfl rfl
theorem dX26_isOver_0 : decode cX26_isOver 0 = .ok (.aload_n 0, 1) := dk_42 (dk_at dksX26_isOver_0 0 rfl rfl)
theorem dX26_isOver_1 : decode cX26_isOver 1 = .ok (.getfield 29, 3) := dk_180 0 29 (dk_at dksX26_isOver_0 1 rfl rfl)
theorem dX26_isOver_4 : decode cX26_isOver 4 = .ok (.ifCond .le 101, 3) := dk_158 0 101 (dk_at dksX26_isOver_0 4 rfl rfl)
theorem dX26_isOver_7 : decode cX26_isOver 7 = .ok (.aload_n 0, 1) := dk_42 (dk_at dksX26_isOver_0 7 rfl rfl)
theorem dX26_isOver_8 : decode cX26_isOver 8 = .ok (.getfield 15, 3) := dk_180 0 15 (dk_at dksX26_isOver_0 8 rfl rfl)
theorem dX26_isOver_11 : decode cX26_isOver 11 = .ok (.getfield 79, 3) := dk_180 0 79 (dk_at dksX26_isOver_0 11 rfl rfl)
theorem dX26_isOver_14 : decode cX26_isOver 14 = .ok (.aload_n 0, 1) := dk_42 (dk_at dksX26_isOver_0 14 rfl rfl)
theorem dX26_isOver_15 : decode cX26_isOver 15 = .ok (.getfield 19, 3) := dk_180 0 19 (dk_at dksX26_isOver_0 15 rfl rfl)
theorem dX26_isOver_18 : decode cX26_isOver 18 = .ok (.getfield 83, 3) := dk_180 0 83 (dk_at dksX26_isOver_0 18 rfl rfl)
theorem dX26_isOver_21 : decode cX26_isOver 21 = .ok (.aload_n 0, 1) := dk_42 (dk_at dksX26_isOver_0 21 rfl rfl)
theorem dX26_isOver_22 : decode cX26_isOver 22 = .ok (.getfield 29, 3) := dk_180 0 29 (dk_at dksX26_isOver_1 0 rfl rfl)
theorem dX26_isOver_25 : decode cX26_isOver 25 = .ok (.iconst 1, 1) := dk_4 (dk_at dksX26_isOver_1 3 rfl rfl)
theorem dX26_isOver_26 : decode cX26_isOver 26 = .ok (.isub, 1) := dk_100 (dk_at dksX26_isOver_1 4 rfl rfl)
theorem dX26_isOver_27 : decode cX26_isOver 27 = .ok (.iaload, 1) := dk_46 (dk_at dksX26_isOver_1 5 rfl rfl)
theorem dX26_isOver_28 : decode cX26_isOver 28 = .ok (.invokevirtual 86, 3) := dk_182 0 86 (dk_at dksX26_isOver_1 6 rfl rfl)
theorem dX26_isOver_31 : decode cX26_isOver 31 = .ok (.checkcast 57, 3) := dk_192 0 57 (dk_at dksX26_isOver_1 9 rfl rfl)
theorem dX26_isOver_34 : decode cX26_isOver 34 = .ok (.astore_n 1, 1) := dk_76 (dk_at dksX26_isOver_1 12 rfl rfl)
theorem dX26_isOver_35 : decode cX26_isOver 35 = .ok (.aload_n 1, 1) := dk_43 (dk_at dksX26_isOver_1 13 rfl rfl)
theorem dX26_isOver_36 : decode cX26_isOver 36 = .ok (.getfield 56, 3) := dk_180 0 56 (dk_at dksX26_isOver_1 14 rfl rfl)
theorem dX26_isOver_39 : decode cX26_isOver 39 = .ok (.ifCond .lt 11, 3) := dk_155 0 11 (dk_at dksX26_isOver_1 17 rfl rfl)
theorem dX26_isOver_42 : decode cX26_isOver 42 = .ok (.aload_n 1, 1) := dk_43 (dk_at dksX26_isOver_1 20 rfl rfl)
theorem dX26_isOver_43 : decode cX26_isOver 43 = .ok (.getfield 73, 3) := dk_180 0 73 (dk_at dksX26_isOver_1 21 rfl rfl)
theorem dX26_isOver_46 : decode cX26_isOver 46 = .ok (.iconst 2, 1) := dk_5 (dk_at dksX26_isOver_2 0 rfl rfl)
theorem dX26_isOver_47 : decode cX26_isOver 47 = .ok (.if_icmp .eq 16, 3) := dk_159 0 16 (dk_at dksX26_isOver_2 1 rfl rfl)
theorem dX26_isOver_50 : decode cX26_isOver 50 = .ok (.aload_n 0, 1) := dk_42 (dk_at dksX26_isOver_2 4 rfl rfl)
theorem dX26_isOver_51 : decode cX26_isOver 51 = .ok (.dup, 1) := dk_89 (dk_at dksX26_isOver_2 5 rfl rfl)
theorem dX26_isOver_52 : decode cX26_isOver 52 = .ok (.getfield 29, 3) := dk_180 0 29 (dk_at dksX26_isOver_2 6 rfl rfl)
theorem dX26_isOver_55 : decode cX26_isOver 55 = .ok (.iconst 1, 1) := dk_4 (dk_at dksX26_isOver_2 9 rfl rfl)
theorem dX26_isOver_56 : decode cX26_isOver 56 = .ok (.isub, 1) := dk_100 (dk_at dksX26_isOver_2 10 rfl rfl)
theorem dX26_isOver_57 : decode cX26_isOver 57 = .ok (.putfield 29, 3) := dk_181 0 29 (dk_at dksX26_isOver_2 11 rfl rfl)
theorem dX26_isOver_60 : decode cX26_isOver 60 = .ok (.goto 42, 3) := dk_167 0 42 (dk_at dksX26_isOver_2 14 rfl rfl)
theorem dX26_isOver_63 : decode cX26_isOver 63 = .ok (.aload_n 0, 1) := dk_42 (dk_at dksX26_isOver_2 17 rfl rfl)
theorem dX26_isOver_64 : decode cX26_isOver 64 = .ok (.getfield 49, 3) := dk_180 0 49 (dk_at dksX26_isOver_2 18 rfl rfl)
theorem dX26_isOver_67 : decode cX26_isOver 67 = .ok (.ifCond .ne 11, 3) := dk_154 0 11 (dk_at dksX26_isOver_2 21 rfl rfl)
theorem dX26_isOver_70 : decode cX26_isOver 70 = .ok (.aload_n 0, 1) := dk_42 (dk_at dksX26_isOver_3 0 rfl rfl)
theorem dX26_isOver_71 : decode cX26_isOver 71 = .ok (.aload_n 1, 1) := dk_43 (dk_at dksX26_isOver_3 1 rfl rfl)
theorem dX26_isOver_72 : decode cX26_isOver 72 = .ok (.invokevirtual 69, 3) := dk_182 0 69 (dk_at dksX26_isOver_3 2 rfl rfl)
theorem dX26_isOver_75 : decode cX26_isOver 75 = .ok (.goto 27, 3) := dk_167 0 27 (dk_at dksX26_isOver_3 5 rfl rfl)
theorem dX26_isOver_78 : decode cX26_isOver 78 = .ok (.aload_n 0, 1) := dk_42 (dk_at dksX26_isOver_3 8 rfl rfl)
theorem dX26_isOver_79 : decode cX26_isOver 79 = .ok (.getfield 43, 3) := dk_180 0 43 (dk_at dksX26_isOver_3 9 rfl rfl)
theorem dX26_isOver_82 : decode cX26_isOver 82 = .ok (.aload_n 0, 1) := dk_42 (dk_at dksX26_isOver_3 12 rfl rfl)
theorem dX26_isOver_83 : decode cX26_isOver 83 = .ok (.getfield 15, 3) := dk_180 0 15 (dk_at dksX26_isOver_3 13 rfl rfl)
theorem dX26_isOver_86 : decode cX26_isOver 86 = .ok (.getfield 32, 3) := dk_180 0 32 (dk_at dksX26_isOver_3 16 rfl rfl)
theorem dX26_isOver_89 : decode cX26_isOver 89 = .ok (.getfield 38, 3) := dk_180 0 38 (dk_at dksX26_isOver_3 19 rfl rfl)
theorem dX26_isOver_92 : decode cX26_isOver 92 = .ok (.if_icmp .le 5, 3) := dk_164 0 5 (dk_at dksX26_isOver_4 0 rfl rfl)
theorem dX26_isOver_95 : decode cX26_isOver 95 = .ok (.iconst 0, 1) := dk_3 (dk_at dksX26_isOver_4 3 rfl rfl)
theorem dX26_isOver_96 : decode cX26_isOver 96 = .ok (.ireturn, 1) := dk_172 (dk_at dksX26_isOver_4 4 rfl rfl)
theorem dX26_isOver_97 : decode cX26_isOver 97 = .ok (.aload_n 0, 1) := dk_42 (dk_at dksX26_isOver_4 5 rfl rfl)
theorem dX26_isOver_98 : decode cX26_isOver 98 = .ok (.aload_n 1, 1) := dk_43 (dk_at dksX26_isOver_4 6 rfl rfl)
theorem dX26_isOver_99 : decode cX26_isOver 99 = .ok (.invokevirtual 92, 3) := dk_182 0 92 (dk_at dksX26_isOver_4 7 rfl rfl)
theorem dX26_isOver_102 : decode cX26_isOver 102 = .ok (.goto (-102), 3) := dk_167 255 154 (dk_at dksX26_isOver_4 10 rfl rfl)
theorem dX26_isOver_105 : decode cX26_isOver 105 = .ok (.aload_n 0, 1) := dk_42 (dk_at dksX26_isOver_4 13 rfl rfl)
theorem dX26_isOver_106 : decode cX26_isOver 106 = .ok (.ldc 93, 2) := dk_18 93 (dk_at dksX26_isOver_4 14 rfl rfl)
theorem dX26_isOver_108 : decode cX26_isOver 108 = .ok (.putfield 43, 3) := dk_181 0 43 (dk_at dksX26_isOver_4 16 rfl rfl)
theorem dX26_isOver_111 : decode cX26_isOver 111 = .ok (.iconst 1, 1) := dk_4 (dk_at dksX26_isOver_4 19 rfl rfl)
theorem dX26_isOver_112 : decode cX26_isOver 112 = .ok (.ireturn, 1) := dk_172 (dk_at dksX26_isOver_4 20 rfl rfl)
theorem fl_X26_79_16 : gFL RX26 79 16 6 := gFL.mkN (Cn := RX16) (T := TX16) (N := 16) (ref := "WorkflowEngine$Instance") rfl in_X16 (by decide) nq821 rfl rfl (Or.inl rfl)
theorem fl_X26_83_19 : gFL RX26 83 19 0 := gFL.mkN (Cn := RX19) (T := TX19) (N := 2) (ref := "WorkflowEngine$Dones") rfl in_X19 (by decide) nq889 rfl rfl (Or.inl rfl)
theorem hd_J2_get : (yJ2_get.cls ≠ "java/lang/invoke/MethodHandle" ∧ yJ2_get.cls ≠ "java/lang/invoke/VarHandle" ∧ (parseMethodDescriptor yJ2_get.desc).map (fun d => d.parameters.length) = some 1) := ⟨by decide +kernel, by decide +kernel, by decide +kernel⟩
theorem ca_WorkflowEngine_Done : ∀ ci Cv, ci ∈ ([25] : List Nat) → gNa ci = some Cv → Cv = "WorkflowEngine$Done" ∨ Cond.castable Cv "WorkflowEngine$Done" ∈ gNw := by
  intro ci Cv h hn
  simp only [List.mem_cons, List.not_mem_nil, or_false] at h
  subst h
  · cases hn
    exact Or.inl rfl
theorem hd_X26_ends : (yX26_ends.cls ≠ "java/lang/invoke/MethodHandle" ∧ yX26_ends.cls ≠ "java/lang/invoke/VarHandle" ∧ (parseMethodDescriptor yX26_ends.desc).map (fun d => d.parameters.length) = some 1) := ⟨by decide +kernel, by decide +kernel, by decide +kernel⟩
def f_X26_isOver (a0 : Nat) (w0 : gw) : Option (Int32 × gw) := gB1 (gI w0 a0 26 2) fun x1 => if x1 ≤ 0 then gB1 (gPut w0 a0 26 4 (gi (nI 2147483647))) fun w3 => some ((nI 1), w3) else gB1 (gR w0 a0 26 0) fun r4 => gB1 r4 fun a5 => gB1 (gR w0 a5 16 6) fun r6 => gB1 (gR w0 a0 26 1) fun r7 => gB1 r7 fun a8 => gB1 (gR w0 a8 19 0) fun r9 => gB1 (gI w0 a0 26 2) fun x10 => gB1 r9 fun a11 => gB1 (gLdI w0 a11 0 (x10 - (nI 1))) fun x12 => gB1 r6 fun a13 => gB1 (gOb w0 a13 8) fun _ => gB2 (f_J2_get a13 x12 w0) fun r15 w14 => gB1 (gCk w14 [25] r15) fun r16 => gB1 r16 fun a17 => gB1 (gI w14 a17 25 1) fun x18 => gBd (fun (w20 : gw) => gL0 (fun k22 (w21 : gw) => gB1 (gI w21 a0 26 2) fun x23 => if x23 ≤ 0 then gB1 (gPut w21 a0 26 4 (gi (nI 2147483647))) fun w25 => some ((nI 1), w25) else gB1 (gR w21 a0 26 0) fun r26 => gB1 r26 fun a27 => gB1 (gR w21 a27 16 6) fun r28 => gB1 (gR w21 a0 26 1) fun r29 => gB1 r29 fun a30 => gB1 (gR w21 a30 19 0) fun r31 => gB1 (gI w21 a0 26 2) fun x32 => gB1 r31 fun a33 => gB1 (gLdI w21 a33 0 (x32 - (nI 1))) fun x34 => gB1 r28 fun a35 => gB1 (gOb w21 a35 8) fun _ => gB2 (f_J2_get a35 x34 w21) fun r37 w36 => gB1 (gCk w36 [25] r37) fun r38 => gB1 r38 fun a39 => gB1 (gI w36 a39 25 1) fun x40 => gBd (fun (w42 : gw) => k22 w42) fun k41 => gBd (fun (w44 : gw) => gB1 (gI w44 a0 26 2) fun x45 => gB1 (gPut w44 a0 26 2 (gi (x45 - (nI 1)))) fun w46 => k41 w46) fun k43 => if x40 < 0 then k43 w36 else gB1 (gI w36 a39 25 2) fun x48 => if x48 = (nI 2) then gB1 (gI w36 a0 26 3) fun x50 => if x50 = 0 then gB1 (gOb w36 a0 26) fun _ => gB2 (f_X26_tries a0 (some a39) w36) fun _ w60 => k41 w60 else gB1 (gI w36 a0 26 4) fun x52 => gB1 (gR w36 a0 26 0) fun r53 => gB1 r53 fun a54 => gB1 (gR w36 a54 16 0) fun r55 => gB1 r55 fun a56 => gB1 (gI w36 a56 1 3) fun x57 => if x52 ≤ x57 then gB1 (gOb w36 a0 26) fun _ => gB2 (f_X26_ends a0 (some a39) w36) fun _ w59 => k41 w59 else some ((nI 0), w36) else k43 w36) 20000 w20) fun k19 => gBd (fun (w62 : gw) => gB1 (gI w62 a0 26 2) fun x63 => gB1 (gPut w62 a0 26 2 (gi (x63 - (nI 1)))) fun w64 => k19 w64) fun k61 => if x18 < 0 then k61 w14 else gB1 (gI w14 a17 25 2) fun x66 => if x66 = (nI 2) then gB1 (gI w14 a0 26 3) fun x68 => if x68 = 0 then gB1 (gOb w14 a0 26) fun _ => gB2 (f_X26_tries a0 (some a17) w14) fun _ w78 => k19 w78 else gB1 (gI w14 a0 26 4) fun x70 => gB1 (gR w14 a0 26 0) fun r71 => gB1 r71 fun a72 => gB1 (gR w14 a72 16 0) fun r73 => gB1 r73 fun a74 => gB1 (gI w14 a74 1 3) fun x75 => if x70 ≤ x75 then gB1 (gOb w14 a0 26) fun _ => gB2 (f_X26_ends a0 (some a17) w14) fun _ w77 => k19 w77 else some ((nI 0), w14) else k61 w14
set_option maxHeartbeats 4000000 in
set_option maxRecDepth 100000 in
theorem k_X26_isOver {D : va_G} {dA : Nat → ClassId} {A : Nat → Prop} {K : Nat → Nat} {l : Launch} {h : Nat} (hh : 3 ≤ h) {a0 : Nat} {w0 ww : gw} {rr : Int32} (hf : f_X26_isOver a0 w0 = some (rr, ww)) : gMet D dA A K l yX26_isOver (ws_ yX26_isOver cX26_isOver 2 (some .boolean)) h [(ga (some a0))] (some (gi rr)) w0 ww := by
  refine j_start (own := RX26) (by decide +kernel) rfl (Nat.le_of_ble_eq_true rfl) ?_
  intro p e R s m args below meth c C hr hin hw
  unfold f_X26_isOver at hf
  show gJ D dA A K p l e R s m args below meth c (gEnd D dA A K below args s w0 (some (gi rr)) ww) 2 0 [(0, (ga (some a0)))] [] w0
  refine j_aload_n C dX26_isOver_0 rfl ?_
  replace hf := gB1_e hf
  obtain ⟨x1, ex1, hf⟩ := hf
  refine j_get C fl_X26_29_26 dX26_isOver_1 (gI_F ex1) ?_
  refine j_if_le (tgt := 105) C dX26_isOver_4 (by decide) (fun c2 => ?_) (fun c2 => ?_)
  · replace hf := gIf_t hf c2
    refine j_aload_n C dX26_isOver_105 rfl ?_
    refine j_ldc (v := (nI 2147483647)) C q1273 dX26_isOver_106 ?_
    replace hf := gB1_e hf
    obtain ⟨w3, ew3, hf⟩ := hf
    refine j_put C fl_X26_43_26 tb_26 ew3 fk_26_4 (fit_I (nI 2147483647)) dX26_isOver_108 ?_
    refine j_iconst (v := (nI 1)) C dX26_isOver_111 (by decide) ?_
    obtain ⟨rfl, rfl⟩ := gSome hf
    exact j_zret C hr (by decide) hw dX26_isOver_112
  · replace hf := gIf_f hf c2
    refine j_aload_n C dX26_isOver_7 rfl ?_
    replace hf := gB1_e hf
    obtain ⟨r4, er4, hf⟩ := hf
    refine j_get C fl_X26_15_26 dX26_isOver_8 (gR_F er4) ?_
    replace hf := gB1_e hf
    obtain ⟨a5, ea5, hf⟩ := hf
    subst ea5
    replace hf := gB1_e hf
    obtain ⟨r6, er6, hf⟩ := hf
    refine j_get C fl_X26_79_16 dX26_isOver_11 (gR_F er6) ?_
    refine j_aload_n C dX26_isOver_14 rfl ?_
    replace hf := gB1_e hf
    obtain ⟨r7, er7, hf⟩ := hf
    refine j_get C fl_X26_19_26 dX26_isOver_15 (gR_F er7) ?_
    replace hf := gB1_e hf
    obtain ⟨a8, ea8, hf⟩ := hf
    subst ea8
    replace hf := gB1_e hf
    obtain ⟨r9, er9, hf⟩ := hf
    refine j_get C fl_X26_83_19 dX26_isOver_18 (gR_F er9) ?_
    refine j_aload_n C dX26_isOver_21 rfl ?_
    replace hf := gB1_e hf
    obtain ⟨x10, ex10, hf⟩ := hf
    refine j_get C fl_X26_29_26 dX26_isOver_22 (gI_F ex10) ?_
    refine j_iconst (v := (nI 1)) C dX26_isOver_25 (by decide) ?_
    refine j_isub C dX26_isOver_26 ?_
    replace hf := gB1_e hf
    obtain ⟨a11, ea11, hf⟩ := hf
    subst ea11
    replace hf := gB1_e hf
    obtain ⟨x12, ex12, hf⟩ := hf
    refine j_iald C ex12 dX26_isOver_27 ?_
    replace hf := gB1_e hf
    obtain ⟨a13, ea13, hf⟩ := hf
    subst ea13
    replace hf := gB1_e hf
    obtain ⟨_, eo, hf⟩ := hf
    replace hf := gB2_e hf
    obtain ⟨r15, w14, ew14, hf⟩ := hf
    refine j_callV (As := [(gi x12)]) (rest := []) (v := (some (ga r15))) C (by omega) (k_J2_get (by omega) ew14) (gOb_e eo) rfl q1256 q637 q638 q99 q639 ⟨rfl, hd_J2_get⟩ (by decide) rfl (Nat.le_of_ble_eq_true rfl) dX26_isOver_28 ?_
    replace hf := gB1_e hf
    obtain ⟨r16, er16, hf⟩ := hf
    refine j_castR C q1257 ca_WorkflowEngine_Done er16 dX26_isOver_31 ?_
    refine j_astore_n (lv' := [(1, (ga r16)), (0, (ga (some a0)))]) C dX26_isOver_34 (by decide) rfl ?_
    refine j_aload_n C dX26_isOver_35 rfl ?_
    replace hf := gB1_e hf
    obtain ⟨a17, ea17, hf⟩ := hf
    subst ea17
    replace hf := gB1_e hf
    obtain ⟨x18, ex18, hf⟩ := hf
    refine j_get C fl_X26_56_25 dX26_isOver_36 (gI_F ex18) ?_
    replace hf := gBd_x hf
    obtain ⟨k19, ek19, hf⟩ := hf
    have jk19 : ∀ (w20 : gw), k19 w20 = some (rr, ww) → gJ D dA A K p l e R s m args below meth c (gEnd D dA A K below args s w0 (some (gi rr)) ww) 2 102 [(0, (ga (some a0)))] [] w20 := by
      intro w20 hf
      rw [ek19] at hf
      dsimp only at hf
      refine j_goto (tgt := 0) C dX26_isOver_102 (by decide) ?_
      refine gL0_e (fun (w21 : gw) => gJ D dA A K p l e R s m args below meth c (gEnd D dA A K below args s w0 (some (gi rr)) ww) 2 0 [(0, (ga (some a0)))] [] w21) ?_ _ _ hf
      intro k22 jk22 w21 hf
      refine j_aload_n C dX26_isOver_0 rfl ?_
      replace hf := gB1_e hf
      obtain ⟨x23, ex23, hf⟩ := hf
      refine j_get C fl_X26_29_26 dX26_isOver_1 (gI_F ex23) ?_
      refine j_if_le (tgt := 105) C dX26_isOver_4 (by decide) (fun c24 => ?_) (fun c24 => ?_)
      · replace hf := gIf_t hf c24
        refine j_aload_n C dX26_isOver_105 rfl ?_
        refine j_ldc (v := (nI 2147483647)) C q1273 dX26_isOver_106 ?_
        replace hf := gB1_e hf
        obtain ⟨w25, ew25, hf⟩ := hf
        refine j_put C fl_X26_43_26 tb_26 ew25 fk_26_4 (fit_I (nI 2147483647)) dX26_isOver_108 ?_
        refine j_iconst (v := (nI 1)) C dX26_isOver_111 (by decide) ?_
        obtain ⟨rfl, rfl⟩ := gSome hf
        exact j_zret C hr (by decide) hw dX26_isOver_112
      · replace hf := gIf_f hf c24
        refine j_aload_n C dX26_isOver_7 rfl ?_
        replace hf := gB1_e hf
        obtain ⟨r26, er26, hf⟩ := hf
        refine j_get C fl_X26_15_26 dX26_isOver_8 (gR_F er26) ?_
        replace hf := gB1_e hf
        obtain ⟨a27, ea27, hf⟩ := hf
        subst ea27
        replace hf := gB1_e hf
        obtain ⟨r28, er28, hf⟩ := hf
        refine j_get C fl_X26_79_16 dX26_isOver_11 (gR_F er28) ?_
        refine j_aload_n C dX26_isOver_14 rfl ?_
        replace hf := gB1_e hf
        obtain ⟨r29, er29, hf⟩ := hf
        refine j_get C fl_X26_19_26 dX26_isOver_15 (gR_F er29) ?_
        replace hf := gB1_e hf
        obtain ⟨a30, ea30, hf⟩ := hf
        subst ea30
        replace hf := gB1_e hf
        obtain ⟨r31, er31, hf⟩ := hf
        refine j_get C fl_X26_83_19 dX26_isOver_18 (gR_F er31) ?_
        refine j_aload_n C dX26_isOver_21 rfl ?_
        replace hf := gB1_e hf
        obtain ⟨x32, ex32, hf⟩ := hf
        refine j_get C fl_X26_29_26 dX26_isOver_22 (gI_F ex32) ?_
        refine j_iconst (v := (nI 1)) C dX26_isOver_25 (by decide) ?_
        refine j_isub C dX26_isOver_26 ?_
        replace hf := gB1_e hf
        obtain ⟨a33, ea33, hf⟩ := hf
        subst ea33
        replace hf := gB1_e hf
        obtain ⟨x34, ex34, hf⟩ := hf
        refine j_iald C ex34 dX26_isOver_27 ?_
        replace hf := gB1_e hf
        obtain ⟨a35, ea35, hf⟩ := hf
        subst ea35
        replace hf := gB1_e hf
        obtain ⟨_, eo, hf⟩ := hf
        replace hf := gB2_e hf
        obtain ⟨r37, w36, ew36, hf⟩ := hf
        refine j_callV (As := [(gi x34)]) (rest := []) (v := (some (ga r37))) C (by omega) (k_J2_get (by omega) ew36) (gOb_e eo) rfl q1256 q637 q638 q99 q639 ⟨rfl, hd_J2_get⟩ (by decide) rfl (Nat.le_of_ble_eq_true rfl) dX26_isOver_28 ?_
        replace hf := gB1_e hf
        obtain ⟨r38, er38, hf⟩ := hf
        refine j_castR C q1257 ca_WorkflowEngine_Done er38 dX26_isOver_31 ?_
        refine j_astore_n (lv' := [(1, (ga r38)), (0, (ga (some a0)))]) C dX26_isOver_34 (by decide) rfl ?_
        refine j_aload_n C dX26_isOver_35 rfl ?_
        replace hf := gB1_e hf
        obtain ⟨a39, ea39, hf⟩ := hf
        subst ea39
        replace hf := gB1_e hf
        obtain ⟨x40, ex40, hf⟩ := hf
        refine j_get C fl_X26_56_25 dX26_isOver_36 (gI_F ex40) ?_
        replace hf := gBd_x hf
        obtain ⟨k41, ek41, hf⟩ := hf
        have jk41 : ∀ (w42 : gw), k41 w42 = some (rr, ww) → gJ D dA A K p l e R s m args below meth c (gEnd D dA A K below args s w0 (some (gi rr)) ww) 2 102 [(0, (ga (some a0)))] [] w42 := by
          intro w42 hf
          rw [ek41] at hf
          dsimp only at hf
          refine j_goto (tgt := 0) C dX26_isOver_102 (by decide) ?_
          exact jk22 _ hf
        clear ek41
        replace hf := gBd_x hf
        obtain ⟨k43, ek43, hf⟩ := hf
        have jk43 : ∀ (w44 : gw), k43 w44 = some (rr, ww) → gJ D dA A K p l e R s m args below meth c (gEnd D dA A K below args s w0 (some (gi rr)) ww) 2 50 [(0, (ga (some a0)))] [] w44 := by
          intro w44 hf
          rw [ek43] at hf
          dsimp only at hf
          refine j_aload_n C dX26_isOver_50 rfl ?_
          refine j_dup C dX26_isOver_51 ?_
          replace hf := gB1_e hf
          obtain ⟨x45, ex45, hf⟩ := hf
          refine j_get C fl_X26_29_26 dX26_isOver_52 (gI_F ex45) ?_
          refine j_iconst (v := (nI 1)) C dX26_isOver_55 (by decide) ?_
          refine j_isub C dX26_isOver_56 ?_
          replace hf := gB1_e hf
          obtain ⟨w46, ew46, hf⟩ := hf
          refine j_put C fl_X26_29_26 tb_26 ew46 fk_26_2 (fit_I (x45 - (nI 1))) dX26_isOver_57 ?_
          refine j_goto (tgt := 102) C dX26_isOver_60 (by decide) ?_
          exact jk41 _ hf
        clear ek43
        refine j_if_lt (tgt := 50) C dX26_isOver_39 (by decide) (fun c47 => ?_) (fun c47 => ?_)
        · replace hf := gIf_t hf c47
          refine j_sub (lv' := [(0, (ga (some a0)))]) (gL_cons rfl (gL_nil)) ?_
          exact jk43 _ hf
        · replace hf := gIf_f hf c47
          refine j_aload_n C dX26_isOver_42 rfl ?_
          replace hf := gB1_e hf
          obtain ⟨x48, ex48, hf⟩ := hf
          refine j_get C fl_X26_73_25 dX26_isOver_43 (gI_F ex48) ?_
          refine j_iconst (v := (nI 2)) C dX26_isOver_46 (by decide) ?_
          refine j_icmp_eq (tgt := 63) C dX26_isOver_47 (by decide) (fun c49 => ?_) (fun c49 => ?_)
          · replace hf := gIf_t hf c49
            refine j_aload_n C dX26_isOver_63 rfl ?_
            replace hf := gB1_e hf
            obtain ⟨x50, ex50, hf⟩ := hf
            refine j_get C fl_X26_49_26 dX26_isOver_64 (gI_F ex50) ?_
            refine j_if_ne (tgt := 78) C dX26_isOver_67 (by decide) (fun c51 => ?_) (fun c51 => ?_)
            · replace hf := gIf_f hf c51
              refine j_aload_n C dX26_isOver_78 rfl ?_
              replace hf := gB1_e hf
              obtain ⟨x52, ex52, hf⟩ := hf
              refine j_get C fl_X26_43_26 dX26_isOver_79 (gI_F ex52) ?_
              refine j_aload_n C dX26_isOver_82 rfl ?_
              replace hf := gB1_e hf
              obtain ⟨r53, er53, hf⟩ := hf
              refine j_get C fl_X26_15_26 dX26_isOver_83 (gR_F er53) ?_
              replace hf := gB1_e hf
              obtain ⟨a54, ea54, hf⟩ := hf
              subst ea54
              replace hf := gB1_e hf
              obtain ⟨r55, er55, hf⟩ := hf
              refine j_get C fl_X26_32_16 dX26_isOver_86 (gR_F er55) ?_
              replace hf := gB1_e hf
              obtain ⟨a56, ea56, hf⟩ := hf
              subst ea56
              replace hf := gB1_e hf
              obtain ⟨x57, ex57, hf⟩ := hf
              refine j_get C fl_X26_38_1 dX26_isOver_89 (gI_F ex57) ?_
              refine j_icmp_le (tgt := 97) C dX26_isOver_92 (by decide) (fun c58 => ?_) (fun c58 => ?_)
              · replace hf := gIf_t hf c58
                refine j_aload_n C dX26_isOver_97 rfl ?_
                refine j_aload_n C dX26_isOver_98 rfl ?_
                replace hf := gB1_e hf
                obtain ⟨_, eo, hf⟩ := hf
                replace hf := gB2_e hf
                obtain ⟨_, w59, ew59, hf⟩ := hf
                refine j_callV (As := [(ga (some a39))]) (rest := []) (v := none) C (by omega) (k_X26_ends (by omega) ew59) (gOb_e eo) rfl q1263 q1265 qs27 q130 q1266 ⟨rfl, hd_X26_ends⟩ (by decide) rfl (Nat.le_of_ble_eq_true rfl) dX26_isOver_99 ?_
                refine j_sub (lv' := [(0, (ga (some a0)))]) (gL_cons rfl (gL_nil)) ?_
                exact jk41 _ hf
              · replace hf := gIf_f hf c58
                refine j_iconst (v := (nI 0)) C dX26_isOver_95 (by decide) ?_
                obtain ⟨rfl, rfl⟩ := gSome hf
                exact j_zret C hr (by decide) hw dX26_isOver_96
            · replace hf := gIf_t hf c51
              refine j_aload_n C dX26_isOver_70 rfl ?_
              refine j_aload_n C dX26_isOver_71 rfl ?_
              replace hf := gB1_e hf
              obtain ⟨_, eo, hf⟩ := hf
              replace hf := gB2_e hf
              obtain ⟨_, w60, ew60, hf⟩ := hf
              refine j_callV (As := [(ga (some a39))]) (rest := []) (v := none) C (by omega) (k_X26_tries (by omega) ew60) (gOb_e eo) rfl q1258 q1260 qs26 q130 q1261 ⟨rfl, hd_X26_tries⟩ (by decide) rfl (Nat.le_of_ble_eq_true rfl) dX26_isOver_72 ?_
              refine j_goto (tgt := 102) C dX26_isOver_75 (by decide) ?_
              refine j_sub (lv' := [(0, (ga (some a0)))]) (gL_cons rfl (gL_nil)) ?_
              exact jk41 _ hf
          · replace hf := gIf_f hf c49
            refine j_sub (lv' := [(0, (ga (some a0)))]) (gL_cons rfl (gL_nil)) ?_
            exact jk43 _ hf
    clear ek19
    replace hf := gBd_x hf
    obtain ⟨k61, ek61, hf⟩ := hf
    have jk61 : ∀ (w62 : gw), k61 w62 = some (rr, ww) → gJ D dA A K p l e R s m args below meth c (gEnd D dA A K below args s w0 (some (gi rr)) ww) 2 50 [(0, (ga (some a0)))] [] w62 := by
      intro w62 hf
      rw [ek61] at hf
      dsimp only at hf
      refine j_aload_n C dX26_isOver_50 rfl ?_
      refine j_dup C dX26_isOver_51 ?_
      replace hf := gB1_e hf
      obtain ⟨x63, ex63, hf⟩ := hf
      refine j_get C fl_X26_29_26 dX26_isOver_52 (gI_F ex63) ?_
      refine j_iconst (v := (nI 1)) C dX26_isOver_55 (by decide) ?_
      refine j_isub C dX26_isOver_56 ?_
      replace hf := gB1_e hf
      obtain ⟨w64, ew64, hf⟩ := hf
      refine j_put C fl_X26_29_26 tb_26 ew64 fk_26_2 (fit_I (x63 - (nI 1))) dX26_isOver_57 ?_
      refine j_goto (tgt := 102) C dX26_isOver_60 (by decide) ?_
      exact jk19 _ hf
    clear ek61
    refine j_if_lt (tgt := 50) C dX26_isOver_39 (by decide) (fun c65 => ?_) (fun c65 => ?_)
    · replace hf := gIf_t hf c65
      refine j_sub (lv' := [(0, (ga (some a0)))]) (gL_cons rfl (gL_nil)) ?_
      exact jk61 _ hf
    · replace hf := gIf_f hf c65
      refine j_aload_n C dX26_isOver_42 rfl ?_
      replace hf := gB1_e hf
      obtain ⟨x66, ex66, hf⟩ := hf
      refine j_get C fl_X26_73_25 dX26_isOver_43 (gI_F ex66) ?_
      refine j_iconst (v := (nI 2)) C dX26_isOver_46 (by decide) ?_
      refine j_icmp_eq (tgt := 63) C dX26_isOver_47 (by decide) (fun c67 => ?_) (fun c67 => ?_)
      · replace hf := gIf_t hf c67
        refine j_aload_n C dX26_isOver_63 rfl ?_
        replace hf := gB1_e hf
        obtain ⟨x68, ex68, hf⟩ := hf
        refine j_get C fl_X26_49_26 dX26_isOver_64 (gI_F ex68) ?_
        refine j_if_ne (tgt := 78) C dX26_isOver_67 (by decide) (fun c69 => ?_) (fun c69 => ?_)
        · replace hf := gIf_f hf c69
          refine j_aload_n C dX26_isOver_78 rfl ?_
          replace hf := gB1_e hf
          obtain ⟨x70, ex70, hf⟩ := hf
          refine j_get C fl_X26_43_26 dX26_isOver_79 (gI_F ex70) ?_
          refine j_aload_n C dX26_isOver_82 rfl ?_
          replace hf := gB1_e hf
          obtain ⟨r71, er71, hf⟩ := hf
          refine j_get C fl_X26_15_26 dX26_isOver_83 (gR_F er71) ?_
          replace hf := gB1_e hf
          obtain ⟨a72, ea72, hf⟩ := hf
          subst ea72
          replace hf := gB1_e hf
          obtain ⟨r73, er73, hf⟩ := hf
          refine j_get C fl_X26_32_16 dX26_isOver_86 (gR_F er73) ?_
          replace hf := gB1_e hf
          obtain ⟨a74, ea74, hf⟩ := hf
          subst ea74
          replace hf := gB1_e hf
          obtain ⟨x75, ex75, hf⟩ := hf
          refine j_get C fl_X26_38_1 dX26_isOver_89 (gI_F ex75) ?_
          refine j_icmp_le (tgt := 97) C dX26_isOver_92 (by decide) (fun c76 => ?_) (fun c76 => ?_)
          · replace hf := gIf_t hf c76
            refine j_aload_n C dX26_isOver_97 rfl ?_
            refine j_aload_n C dX26_isOver_98 rfl ?_
            replace hf := gB1_e hf
            obtain ⟨_, eo, hf⟩ := hf
            replace hf := gB2_e hf
            obtain ⟨_, w77, ew77, hf⟩ := hf
            refine j_callV (As := [(ga (some a17))]) (rest := []) (v := none) C (by omega) (k_X26_ends (by omega) ew77) (gOb_e eo) rfl q1263 q1265 qs27 q130 q1266 ⟨rfl, hd_X26_ends⟩ (by decide) rfl (Nat.le_of_ble_eq_true rfl) dX26_isOver_99 ?_
            refine j_sub (lv' := [(0, (ga (some a0)))]) (gL_cons rfl (gL_nil)) ?_
            exact jk19 _ hf
          · replace hf := gIf_f hf c76
            refine j_iconst (v := (nI 0)) C dX26_isOver_95 (by decide) ?_
            obtain ⟨rfl, rfl⟩ := gSome hf
            exact j_zret C hr (by decide) hw dX26_isOver_96
        · replace hf := gIf_t hf c69
          refine j_aload_n C dX26_isOver_70 rfl ?_
          refine j_aload_n C dX26_isOver_71 rfl ?_
          replace hf := gB1_e hf
          obtain ⟨_, eo, hf⟩ := hf
          replace hf := gB2_e hf
          obtain ⟨_, w78, ew78, hf⟩ := hf
          refine j_callV (As := [(ga (some a17))]) (rest := []) (v := none) C (by omega) (k_X26_tries (by omega) ew78) (gOb_e eo) rfl q1258 q1260 qs26 q130 q1261 ⟨rfl, hd_X26_tries⟩ (by decide) rfl (Nat.le_of_ble_eq_true rfl) dX26_isOver_72 ?_
          refine j_goto (tgt := 102) C dX26_isOver_75 (by decide) ?_
          refine j_sub (lv' := [(0, (ga (some a0)))]) (gL_cons rfl (gL_nil)) ?_
          exact jk19 _ hf
      · replace hf := gIf_f hf c67
        refine j_sub (lv' := [(0, (ga (some a0)))]) (gL_cons rfl (gL_nil)) ?_
        exact jk61 _ hf
def dkwX5_init_0 : List UInt8 := [42, 183, 0, 1, 42, 187, 0, 7, 89, 183, 0, 9, 181, 0, 10, 177]
abbrev dktX5_init_0 : List UInt8 := dkwX5_init_0 ++ []
theorem dksX5_init_0 : cX5_init.data.toList.drop 0 = dktX5_init_0 := by decide +kernel
theorem dX5_init_0 : decode cX5_init 0 = .ok (.aload_n 0, 1) := dk_42 (dk_at dksX5_init_0 0 rfl rfl)
theorem dX5_init_1 : decode cX5_init 1 = .ok (.invokespecial 1, 3) := dk_183 0 1 (dk_at dksX5_init_0 1 rfl rfl)
theorem dX5_init_4 : decode cX5_init 4 = .ok (.aload_n 0, 1) := dk_42 (dk_at dksX5_init_0 4 rfl rfl)
theorem dX5_init_5 : decode cX5_init 5 = .ok (.new 7, 3) := dk_187 0 7 (dk_at dksX5_init_0 5 rfl rfl)
theorem dX5_init_8 : decode cX5_init 8 = .ok (.dup, 1) := dk_89 (dk_at dksX5_init_0 8 rfl rfl)
theorem dX5_init_9 : decode cX5_init 9 = .ok (.invokespecial 9, 3) := dk_183 0 9 (dk_at dksX5_init_0 9 rfl rfl)
theorem dX5_init_12 : decode cX5_init 12 = .ok (.putfield 10, 3) := dk_181 0 10 (dk_at dksX5_init_0 12 rfl rfl)
theorem dX5_init_15 : decode cX5_init 15 = .ok (.return_, 1) := dk_177 (dk_at dksX5_init_0 15 rfl rfl)
theorem nl_X5_7 : gNL RX5 7 8 := ⟨RJ2, TJ2, 3, 3, tyJ2, _, rfl, rfl, in_J2, tyJ2_ok, q193, q194, q99, fun j hj => by rcases (show j = 0 ∨ j = 1 ∨ j = 2 by omega) with rfl | rfl | rfl <;> rfl⟩
theorem fl_X5_10_5 : gFL RX5 10 5 0 := gFL.mk (Cn := RX5) (T := TX5) (N := 1) (ref := "WorkflowEngine$Body") rfl in_X5 (by decide) q219 rfl rfl (Or.inl rfl)
theorem nm_5 : gNm TX5 1 := by
  unfold gNm
  decide +kernel
theorem tb_5 : gTb 5 := fun Cn T N h => by
  have h : (RX5, TX5, 1) = (Cn, T, N) := Option.some.inj h
  cases h
  exact ⟨nm_5, tyX5, tyX5_ok⟩
theorem fk_5_0 : gFk 5 0 "Ljava/util/ArrayList;" true "WorkflowEngine$Body" := fun Cn T N h => by
  have h : (RX5, TX5, 1) = (Cn, T, N) := Option.some.inj h
  cases h
  exact ⟨rfl, rfl, rfl⟩
def f_X5_init (a0 : Nat) (w0 : gw) : Option (Unit × gw) := gB2 (gNew w0 8) fun a1 w2 => gB2 (f_J2_init a1  w2) fun _ w3 => gB1 (gPut w3 a0 5 0 (ga (some a1))) fun w4 => some ((), w4)
set_option maxHeartbeats 4000000 in
set_option maxRecDepth 100000 in
theorem k_X5_init {D : va_G} {dA : Nat → ClassId} {A : Nat → Prop} {K : Nat → Nat} {l : Launch} {h : Nat} (hh : 4 ≤ h) {a0 : Nat} {w0 ww : gw} {rr : Unit} (hf : f_X5_init a0 w0 = some (rr, ww)) : gMet D dA A K l yX5_init (ws_ yX5_init cX5_init 1 none) h [(ga (some a0))] none w0 ww := by
  refine j_start (own := RX5) (by decide +kernel) rfl (Nat.le_of_ble_eq_true rfl) ?_
  intro p e R s m args below meth c C hr hin hw
  unfold f_X5_init at hf
  show gJ D dA A K p l e R s m args below meth c (gEnd D dA A K below args s w0 none ww) 1 0 [(0, (ga (some a0)))] [] w0
  refine j_aload_n C dX5_init_0 rfl ?_
  refine j_objInit C (by omega) q192 q164 q165 (by decide) dX5_init_1 ?_
  refine j_aload_n C dX5_init_4 rfl ?_
  replace hf := gB2_e hf
  obtain ⟨a1, w2, ew2, hf⟩ := hf
  refine j_new C nl_X5_7 ew2 dX5_init_5 ?_
  refine j_dup C dX5_init_8 ?_
  replace hf := gB2_e hf
  obtain ⟨_, w3, ew3, hf⟩ := hf
  refine j_callI (As := []) (rest := [(ga (some a1)), (ga (some a0))]) C (by omega) (k_J2_init (by omega) ew3) rfl q195 q196 q99 q197 hd_J2_init (by decide) rfl (Nat.le_of_ble_eq_true rfl) dX5_init_9 ?_
  replace hf := gB1_e hf
  obtain ⟨w4, ew4, hf⟩ := hf
  refine j_putF C fl_X5_10_5 tb_5 hin ew4 fk_5_0 rfl (ft_Ljava_util_ArrayList_ (some a1)) dX5_init_12 ?_
  obtain ⟨rfl, rfl⟩ := gSome hf
  exact j_vret C hr hw dX5_init_15
def dkwJ2_grow_0 : List UInt8 := [42, 42, 180, 0, 48, 4, 96, 182, 0, 69, 176]
abbrev dktJ2_grow_0 : List UInt8 := dkwJ2_grow_0 ++ []
theorem dksJ2_grow_0 : cJ2_grow.data.toList.drop 0 = dktJ2_grow_0 := by decide +kernel
theorem dJ2_grow_0 : decode cJ2_grow 0 = .ok (.aload_n 0, 1) := dk_42 (dk_at dksJ2_grow_0 0 rfl rfl)
theorem dJ2_grow_1 : decode cJ2_grow 1 = .ok (.aload_n 0, 1) := dk_42 (dk_at dksJ2_grow_0 1 rfl rfl)
theorem dJ2_grow_2 : decode cJ2_grow 2 = .ok (.getfield 48, 3) := dk_180 0 48 (dk_at dksJ2_grow_0 2 rfl rfl)
theorem dJ2_grow_5 : decode cJ2_grow 5 = .ok (.iconst 1, 1) := dk_4 (dk_at dksJ2_grow_0 5 rfl rfl)
theorem dJ2_grow_6 : decode cJ2_grow 6 = .ok (.iadd, 1) := dk_96 (dk_at dksJ2_grow_0 6 rfl rfl)
theorem dJ2_grow_7 : decode cJ2_grow 7 = .ok (.invokevirtual 69, 3) := dk_182 0 69 (dk_at dksJ2_grow_0 7 rfl rfl)
theorem dJ2_grow_10 : decode cJ2_grow 10 = .ok (.areturn, 1) := dk_176 (dk_at dksJ2_grow_0 10 rfl rfl)
theorem hd_J2_grow_2 : (yJ2_grow_2.cls ≠ "java/lang/invoke/MethodHandle" ∧ yJ2_grow_2.cls ≠ "java/lang/invoke/VarHandle" ∧ (parseMethodDescriptor yJ2_grow_2.desc).map (fun d => d.parameters.length) = some 1) := ⟨by decide +kernel, by decide +kernel, by decide +kernel⟩
def f_J2_grow (a0 : Nat) (w0 : gw) : Option (Option Nat × gw) := gB1 (gI w0 a0 8 2) fun x1 => gB1 (gOb w0 a0 8) fun _ => gB2 (f_J2_grow_2 a0 (x1 + (nI 1)) w0) fun r3 w2 => some (r3, w2)
set_option maxHeartbeats 4000000 in
set_option maxRecDepth 100000 in
theorem k_J2_grow {D : va_G} {dA : Nat → ClassId} {A : Nat → Prop} {K : Nat → Nat} {l : Launch} {h : Nat} (hh : 4 ≤ h) {a0 : Nat} {w0 ww : gw} {rr : Option Nat} (hf : f_J2_grow a0 w0 = some (rr, ww)) : gMet D dA A K l yJ2_grow (ws_ yJ2_grow cJ2_grow 1 (some (.array (.object "java/lang/Object")))) h [(ga (some a0))] (some (ga rr)) w0 ww := by
  refine j_start (own := RJ2) (by decide +kernel) rfl (Nat.le_of_ble_eq_true rfl) ?_
  intro p e R s m args below meth c C hr hin hw
  unfold f_J2_grow at hf
  show gJ D dA A K p l e R s m args below meth c (gEnd D dA A K below args s w0 (some (ga rr)) ww) 1 0 [(0, (ga (some a0)))] [] w0
  refine j_aload_n C dJ2_grow_0 rfl ?_
  refine j_aload_n C dJ2_grow_1 rfl ?_
  replace hf := gB1_e hf
  obtain ⟨x1, ex1, hf⟩ := hf
  refine j_get C fl_J2_48_8 dJ2_grow_2 (gI_F ex1) ?_
  refine j_iconst (v := (nI 1)) C dJ2_grow_5 (by decide) ?_
  refine j_iadd C dJ2_grow_6 ?_
  replace hf := gB1_e hf
  obtain ⟨_, eo, hf⟩ := hf
  replace hf := gB2_e hf
  obtain ⟨r3, w2, ew2, hf⟩ := hf
  refine j_callV (As := [(gi (x1 + (nI 1)))]) (rest := []) (v := (some (ga r3))) C (by omega) (k_J2_grow_2 (by omega) ew2) (gOb_e eo) rfl q493 q495 qs20 q99 q496 ⟨rfl, hd_J2_grow_2⟩ (by decide) rfl (Nat.le_of_ble_eq_true rfl) dJ2_grow_7 ?_
  obtain ⟨rfl, rfl⟩ := gSome hf
  exact j_aret C hr (Or.inr ⟨_, rfl⟩) hw dJ2_grow_10
def dkwJ2_add_2_0 : List UInt8 := [29, 44, 190, 160, 0, 8, 42, 182, 0, 129, 77, 44, 29, 43, 83, 42, 29, 4, 96, 181, 0, 48, 177]
abbrev dktJ2_add_2_0 : List UInt8 := dkwJ2_add_2_0 ++ []
theorem dksJ2_add_2_0 : cJ2_add_2.data.toList.drop 0 = dktJ2_add_2_0 := by decide +kernel
theorem dJ2_add_2_0 : decode cJ2_add_2 0 = .ok (.iload_n 3, 1) := dk_29 (dk_at dksJ2_add_2_0 0 rfl rfl)
theorem dJ2_add_2_1 : decode cJ2_add_2 1 = .ok (.aload_n 2, 1) := dk_44 (dk_at dksJ2_add_2_0 1 rfl rfl)
theorem dJ2_add_2_2 : decode cJ2_add_2 2 = .ok (.arraylength, 1) := dk_190 (dk_at dksJ2_add_2_0 2 rfl rfl)
theorem dJ2_add_2_3 : decode cJ2_add_2 3 = .ok (.if_icmp .ne 8, 3) := dk_160 0 8 (dk_at dksJ2_add_2_0 3 rfl rfl)
theorem dJ2_add_2_6 : decode cJ2_add_2 6 = .ok (.aload_n 0, 1) := dk_42 (dk_at dksJ2_add_2_0 6 rfl rfl)
theorem dJ2_add_2_7 : decode cJ2_add_2 7 = .ok (.invokevirtual 129, 3) := dk_182 0 129 (dk_at dksJ2_add_2_0 7 rfl rfl)
theorem dJ2_add_2_10 : decode cJ2_add_2 10 = .ok (.astore_n 2, 1) := dk_77 (dk_at dksJ2_add_2_0 10 rfl rfl)
theorem dJ2_add_2_11 : decode cJ2_add_2 11 = .ok (.aload_n 2, 1) := dk_44 (dk_at dksJ2_add_2_0 11 rfl rfl)
theorem dJ2_add_2_12 : decode cJ2_add_2 12 = .ok (.iload_n 3, 1) := dk_29 (dk_at dksJ2_add_2_0 12 rfl rfl)
theorem dJ2_add_2_13 : decode cJ2_add_2 13 = .ok (.aload_n 1, 1) := dk_43 (dk_at dksJ2_add_2_0 13 rfl rfl)
theorem dJ2_add_2_14 : decode cJ2_add_2 14 = .ok (.aastore, 1) := dk_83 (dk_at dksJ2_add_2_0 14 rfl rfl)
theorem dJ2_add_2_15 : decode cJ2_add_2 15 = .ok (.aload_n 0, 1) := dk_42 (dk_at dksJ2_add_2_0 15 rfl rfl)
theorem dJ2_add_2_16 : decode cJ2_add_2 16 = .ok (.iload_n 3, 1) := dk_29 (dk_at dksJ2_add_2_0 16 rfl rfl)
theorem dJ2_add_2_17 : decode cJ2_add_2 17 = .ok (.iconst 1, 1) := dk_4 (dk_at dksJ2_add_2_0 17 rfl rfl)
theorem dJ2_add_2_18 : decode cJ2_add_2 18 = .ok (.iadd, 1) := dk_96 (dk_at dksJ2_add_2_0 18 rfl rfl)
theorem dJ2_add_2_19 : decode cJ2_add_2 19 = .ok (.putfield 48, 3) := dk_181 0 48 (dk_at dksJ2_add_2_0 19 rfl rfl)
theorem dJ2_add_2_22 : decode cJ2_add_2 22 = .ok (.return_, 1) := dk_177 (dk_at dksJ2_add_2_0 22 rfl rfl)
theorem fk_8_2 : gFk 8 2 "I" false "java/util/ArrayList" := fun Cn T N h => by
  have h : (RJ2, TJ2, 3) = (Cn, T, N) := Option.some.inj h
  cases h
  exact ⟨rfl, rfl, rfl⟩
theorem hd_J2_grow : (yJ2_grow.cls ≠ "java/lang/invoke/MethodHandle" ∧ yJ2_grow.cls ≠ "java/lang/invoke/VarHandle" ∧ (parseMethodDescriptor yJ2_grow.desc).map (fun d => d.parameters.length) = some 0) := ⟨by decide +kernel, by decide +kernel, by decide +kernel⟩
def f_J2_add_2 (a0 : Nat) (p1 : Option Nat) (p2 : Option Nat) (p3 : Int32) (w0 : gw) : Option (Unit × gw) := gB1 p2 fun a1 => gB1 (gLen w0 a1 2) fun x2 => gBd (fun (r5 : Option Nat) (r6 : Option Nat) (x7 : Int32) (w4 : gw) => gB1 r6 fun a8 => gB1 (gStR w4 a8 2 x7 r5) fun w9 => gB1 (gPut w9 a0 8 2 (gi (x7 + (nI 1)))) fun w10 => some ((), w10)) fun k3 => if p3 = x2 then gB1 (gOb w0 a0 8) fun _ => gB2 (f_J2_grow a0  w0) fun r13 w12 => k3 p1 r13 p3 w12 else k3 p1 (some a1) p3 w0
set_option maxHeartbeats 4000000 in
set_option maxRecDepth 100000 in
theorem k_J2_add_2 {D : va_G} {dA : Nat → ClassId} {A : Nat → Prop} {K : Nat → Nat} {l : Launch} {h : Nat} (hh : 5 ≤ h) {a0 : Nat} {p1 : Option Nat} {p2 : Option Nat} {p3 : Int32} {w0 ww : gw} {rr : Unit} (hf : f_J2_add_2 a0 p1 p2 p3 w0 = some (rr, ww)) : gMet D dA A K l yJ2_add_2 (ws_ yJ2_add_2 cJ2_add_2 4 none) h [(ga (some a0)), (ga p1), (ga p2), (gi p3)] none w0 ww := by
  refine j_start (own := RJ2) (by decide +kernel) rfl (Nat.le_of_ble_eq_true rfl) ?_
  intro p e R s m args below meth c C hr hin hw
  unfold f_J2_add_2 at hf
  show gJ D dA A K p l e R s m args below meth c (gEnd D dA A K below args s w0 none ww) 4 0 [(0, (ga (some a0))), (1, (ga p1)), (2, (ga p2)), (3, (gi p3))] [] w0
  refine j_iload_n C dJ2_add_2_0 rfl ?_
  refine j_aload_n C dJ2_add_2_1 rfl ?_
  replace hf := gB1_e hf
  obtain ⟨a1, ea1, hf⟩ := hf
  subst ea1
  replace hf := gB1_e hf
  obtain ⟨x2, ex2, hf⟩ := hf
  refine j_alen C (t := 2) rfl ex2 dJ2_add_2_2 ?_
  replace hf := gBd_x hf
  obtain ⟨k3, ek3, hf⟩ := hf
  have jk3 : ∀ (r5 : Option Nat) (r6 : Option Nat) (x7 : Int32) (w4 : gw), k3 r5 r6 x7 w4 = some (rr, ww) → gJ D dA A K p l e R s m args below meth c (gEnd D dA A K below args s w0 none ww) 4 11 [(0, (ga (some a0))), (1, (ga r5)), (2, (ga r6)), (3, (gi x7))] [] w4 := by
    intro r5 r6 x7 w4 hf
    rw [ek3] at hf
    dsimp only at hf
    refine j_aload_n C dJ2_add_2_11 rfl ?_
    refine j_iload_n C dJ2_add_2_12 rfl ?_
    refine j_aload_n C dJ2_add_2_13 rfl ?_
    replace hf := gB1_e hf
    obtain ⟨a8, ea8, hf⟩ := hf
    subst ea8
    replace hf := gB1_e hf
    obtain ⟨w9, ew9, hf⟩ := hf
    refine j_aast C (t := 2) rfl gAsg_2 ew9 dJ2_add_2_14 ?_
    refine j_aload_n C dJ2_add_2_15 rfl ?_
    refine j_iload_n C dJ2_add_2_16 rfl ?_
    refine j_iconst (v := (nI 1)) C dJ2_add_2_17 (by decide) ?_
    refine j_iadd C dJ2_add_2_18 ?_
    replace hf := gB1_e hf
    obtain ⟨w10, ew10, hf⟩ := hf
    refine j_put C fl_J2_48_8 tb_8 ew10 fk_8_2 (fit_I (x7 + (nI 1))) dJ2_add_2_19 ?_
    obtain ⟨rfl, rfl⟩ := gSome hf
    exact j_vret C hr hw dJ2_add_2_22
  clear ek3
  refine j_icmp_ne (tgt := 11) C dJ2_add_2_3 (by decide) (fun c11 => ?_) (fun c11 => ?_)
  · replace hf := gIf_f hf c11
    exact jk3 _ _ _ _ hf
  · replace hf := gIf_t hf c11
    refine j_aload_n C dJ2_add_2_6 rfl ?_
    replace hf := gB1_e hf
    obtain ⟨_, eo, hf⟩ := hf
    replace hf := gB2_e hf
    obtain ⟨r13, w12, ew12, hf⟩ := hf
    refine j_callV (As := []) (rest := []) (v := (some (ga r13))) C (by omega) (k_J2_grow (by omega) ew12) (gOb_e eo) rfl q489 q491 qs19 q99 q492 ⟨rfl, hd_J2_grow⟩ (by decide) rfl (Nat.le_of_ble_eq_true rfl) dJ2_add_2_7 ?_
    refine j_astore_n (lv' := [(2, (ga r13)), (0, (ga (some a0))), (1, (ga p1)), (3, (gi p3))]) C dJ2_add_2_10 (by decide) rfl ?_
    refine j_sub (lv' := [(0, (ga (some a0))), (1, (ga p1)), (2, (ga r13)), (3, (gi p3))]) (gL_cons rfl (gL_cons rfl (gL_cons rfl (gL_cons rfl (gL_nil))))) ?_
    exact jk3 _ _ _ _ hf
def dkwJ2_add_1 : List UInt8 := [172]
abbrev dktJ2_add_1 : List UInt8 := dkwJ2_add_1 ++ []
def dkwJ2_add_0 : List UInt8 := [42, 89, 180, 0, 63, 4, 96, 181, 0, 63, 42, 43, 42, 180, 0, 9, 42, 180, 0, 48, 182, 0, 131, 4]
abbrev dktJ2_add_0 : List UInt8 := dkwJ2_add_0 ++ dktJ2_add_1
theorem dksJ2_add_0 : cJ2_add.data.toList.drop 0 = dktJ2_add_0 := by decide +kernel
theorem dksJ2_add_1 : cJ2_add.data.toList.drop 24 = dktJ2_add_1 := dk_seg dksJ2_add_0 24 rfl rfl
theorem dJ2_add_0 : decode cJ2_add 0 = .ok (.aload_n 0, 1) := dk_42 (dk_at dksJ2_add_0 0 rfl rfl)
theorem dJ2_add_1 : decode cJ2_add 1 = .ok (.dup, 1) := dk_89 (dk_at dksJ2_add_0 1 rfl rfl)
theorem dJ2_add_2 : decode cJ2_add 2 = .ok (.getfield 63, 3) := dk_180 0 63 (dk_at dksJ2_add_0 2 rfl rfl)
theorem dJ2_add_5 : decode cJ2_add 5 = .ok (.iconst 1, 1) := dk_4 (dk_at dksJ2_add_0 5 rfl rfl)
theorem dJ2_add_6 : decode cJ2_add 6 = .ok (.iadd, 1) := dk_96 (dk_at dksJ2_add_0 6 rfl rfl)
theorem dJ2_add_7 : decode cJ2_add 7 = .ok (.putfield 63, 3) := dk_181 0 63 (dk_at dksJ2_add_0 7 rfl rfl)
theorem dJ2_add_10 : decode cJ2_add 10 = .ok (.aload_n 0, 1) := dk_42 (dk_at dksJ2_add_0 10 rfl rfl)
theorem dJ2_add_11 : decode cJ2_add 11 = .ok (.aload_n 1, 1) := dk_43 (dk_at dksJ2_add_0 11 rfl rfl)
theorem dJ2_add_12 : decode cJ2_add 12 = .ok (.aload_n 0, 1) := dk_42 (dk_at dksJ2_add_0 12 rfl rfl)
theorem dJ2_add_13 : decode cJ2_add 13 = .ok (.getfield 9, 3) := dk_180 0 9 (dk_at dksJ2_add_0 13 rfl rfl)
theorem dJ2_add_16 : decode cJ2_add 16 = .ok (.aload_n 0, 1) := dk_42 (dk_at dksJ2_add_0 16 rfl rfl)
theorem dJ2_add_17 : decode cJ2_add 17 = .ok (.getfield 48, 3) := dk_180 0 48 (dk_at dksJ2_add_0 17 rfl rfl)
theorem dJ2_add_20 : decode cJ2_add 20 = .ok (.invokevirtual 131, 3) := dk_182 0 131 (dk_at dksJ2_add_0 20 rfl rfl)
theorem dJ2_add_23 : decode cJ2_add 23 = .ok (.iconst 1, 1) := dk_4 (dk_at dksJ2_add_0 23 rfl rfl)
theorem dJ2_add_24 : decode cJ2_add 24 = .ok (.ireturn, 1) := dk_172 (dk_at dksJ2_add_1 0 rfl rfl)
theorem fl_J2_63_8 : gFL RJ2 63 8 0 := gFL.mk (Cn := RJ2) (T := TJ2) (N := 3) (ref := "java/util/ArrayList") rfl in_J2 (by decide) q210 rfl rfl (Or.inr q211)
theorem hd_J2_add_2 : (yJ2_add_2.cls ≠ "java/lang/invoke/MethodHandle" ∧ yJ2_add_2.cls ≠ "java/lang/invoke/VarHandle" ∧ (parseMethodDescriptor yJ2_add_2.desc).map (fun d => d.parameters.length) = some 3) := ⟨by decide +kernel, by decide +kernel, by decide +kernel⟩
def f_J2_add (a0 : Nat) (p1 : Option Nat) (w0 : gw) : Option (Int32 × gw) := gB1 (gI w0 a0 8 0) fun x1 => gB1 (gPut w0 a0 8 0 (gi (x1 + (nI 1)))) fun w2 => gB1 (gR w2 a0 8 1) fun r3 => gB1 (gI w2 a0 8 2) fun x4 => gB1 (gOb w2 a0 8) fun _ => gB2 (f_J2_add_2 a0 p1 r3 x4 w2) fun _ w5 => some ((nI 1), w5)
set_option maxHeartbeats 4000000 in
set_option maxRecDepth 100000 in
theorem k_J2_add {D : va_G} {dA : Nat → ClassId} {A : Nat → Prop} {K : Nat → Nat} {l : Launch} {h : Nat} (hh : 6 ≤ h) {a0 : Nat} {p1 : Option Nat} {w0 ww : gw} {rr : Int32} (hf : f_J2_add a0 p1 w0 = some (rr, ww)) : gMet D dA A K l yJ2_add (ws_ yJ2_add cJ2_add 2 (some .boolean)) h [(ga (some a0)), (ga p1)] (some (gi rr)) w0 ww := by
  refine j_start (own := RJ2) (by decide +kernel) rfl (Nat.le_of_ble_eq_true rfl) ?_
  intro p e R s m args below meth c C hr hin hw
  unfold f_J2_add at hf
  show gJ D dA A K p l e R s m args below meth c (gEnd D dA A K below args s w0 (some (gi rr)) ww) 2 0 [(0, (ga (some a0))), (1, (ga p1))] [] w0
  refine j_aload_n C dJ2_add_0 rfl ?_
  refine j_dup C dJ2_add_1 ?_
  replace hf := gB1_e hf
  obtain ⟨x1, ex1, hf⟩ := hf
  refine j_get C fl_J2_63_8 dJ2_add_2 (gI_F ex1) ?_
  refine j_iconst (v := (nI 1)) C dJ2_add_5 (by decide) ?_
  refine j_iadd C dJ2_add_6 ?_
  replace hf := gB1_e hf
  obtain ⟨w2, ew2, hf⟩ := hf
  refine j_put C fl_J2_63_8 tb_8 ew2 fk_8_0 (fit_I (x1 + (nI 1))) dJ2_add_7 ?_
  refine j_aload_n C dJ2_add_10 rfl ?_
  refine j_aload_n C dJ2_add_11 rfl ?_
  refine j_aload_n C dJ2_add_12 rfl ?_
  replace hf := gB1_e hf
  obtain ⟨r3, er3, hf⟩ := hf
  refine j_get C fl_J2_9_8 dJ2_add_13 (gR_F er3) ?_
  refine j_aload_n C dJ2_add_16 rfl ?_
  replace hf := gB1_e hf
  obtain ⟨x4, ex4, hf⟩ := hf
  refine j_get C fl_J2_48_8 dJ2_add_17 (gI_F ex4) ?_
  replace hf := gB1_e hf
  obtain ⟨_, eo, hf⟩ := hf
  replace hf := gB2_e hf
  obtain ⟨_, w5, ew5, hf⟩ := hf
  refine j_callV (As := [(ga p1), (ga r3), (gi x4)]) (rest := []) (v := none) C (by omega) (k_J2_add_2 (by omega) ew5) (gOb_e eo) rfl q485 q487 qs18 q99 q488 ⟨rfl, hd_J2_add_2⟩ (by decide) rfl (Nat.le_of_ble_eq_true rfl) dJ2_add_20 ?_
  refine j_iconst (v := (nI 1)) C dJ2_add_23 (by decide) ?_
  obtain ⟨rfl, rfl⟩ := gSome hf
  exact j_zret C hr (by decide) hw dJ2_add_24
def dkwX16_done_1 : List UInt8 := [42, 5, 43, 180, 0, 124, 182, 0, 128, 42, 180, 0, 25, 182, 0, 58, 4, 100, 172]
abbrev dktX16_done_1 : List UInt8 := dkwX16_done_1 ++ []
def dkwX16_done_0 : List UInt8 := [42, 180, 0, 25, 187, 0, 66, 89, 43, 180, 0, 124, 43, 180, 0, 127, 5, 183, 0, 77, 182, 0, 80, 87]
abbrev dktX16_done_0 : List UInt8 := dkwX16_done_0 ++ dktX16_done_1
theorem dksX16_done_0 : cX16_done.data.toList.drop 0 = dktX16_done_0 := by decide +kernel
theorem dksX16_done_1 : cX16_done.data.toList.drop 24 = dktX16_done_1 := dk_seg dksX16_done_0 24 rfl rfl
theorem dX16_done_0 : decode cX16_done 0 = .ok (.aload_n 0, 1) := dk_42 (dk_at dksX16_done_0 0 rfl rfl)
theorem dX16_done_1 : decode cX16_done 1 = .ok (.getfield 25, 3) := dk_180 0 25 (dk_at dksX16_done_0 1 rfl rfl)
theorem dX16_done_4 : decode cX16_done 4 = .ok (.new 66, 3) := dk_187 0 66 (dk_at dksX16_done_0 4 rfl rfl)
theorem dX16_done_7 : decode cX16_done 7 = .ok (.dup, 1) := dk_89 (dk_at dksX16_done_0 7 rfl rfl)
theorem dX16_done_8 : decode cX16_done 8 = .ok (.aload_n 1, 1) := dk_43 (dk_at dksX16_done_0 8 rfl rfl)
theorem dX16_done_9 : decode cX16_done 9 = .ok (.getfield 124, 3) := dk_180 0 124 (dk_at dksX16_done_0 9 rfl rfl)
theorem dX16_done_12 : decode cX16_done 12 = .ok (.aload_n 1, 1) := dk_43 (dk_at dksX16_done_0 12 rfl rfl)
theorem dX16_done_13 : decode cX16_done 13 = .ok (.getfield 127, 3) := dk_180 0 127 (dk_at dksX16_done_0 13 rfl rfl)
theorem dX16_done_16 : decode cX16_done 16 = .ok (.iconst 2, 1) := dk_5 (dk_at dksX16_done_0 16 rfl rfl)
theorem dX16_done_17 : decode cX16_done 17 = .ok (.invokespecial 77, 3) := dk_183 0 77 (dk_at dksX16_done_0 17 rfl rfl)
theorem dX16_done_20 : decode cX16_done 20 = .ok (.invokevirtual 80, 3) := dk_182 0 80 (dk_at dksX16_done_0 20 rfl rfl)
theorem dX16_done_23 : decode cX16_done 23 = .ok (.pop, 1) := dk_87 (dk_at dksX16_done_0 23 rfl rfl)
theorem dX16_done_24 : decode cX16_done 24 = .ok (.aload_n 0, 1) := dk_42 (dk_at dksX16_done_1 0 rfl rfl)
theorem dX16_done_25 : decode cX16_done 25 = .ok (.iconst 2, 1) := dk_5 (dk_at dksX16_done_1 1 rfl rfl)
theorem dX16_done_26 : decode cX16_done 26 = .ok (.aload_n 1, 1) := dk_43 (dk_at dksX16_done_1 2 rfl rfl)
theorem dX16_done_27 : decode cX16_done 27 = .ok (.getfield 124, 3) := dk_180 0 124 (dk_at dksX16_done_1 3 rfl rfl)
theorem dX16_done_30 : decode cX16_done 30 = .ok (.invokevirtual 128, 3) := dk_182 0 128 (dk_at dksX16_done_1 6 rfl rfl)
theorem dX16_done_33 : decode cX16_done 33 = .ok (.aload_n 0, 1) := dk_42 (dk_at dksX16_done_1 9 rfl rfl)
theorem dX16_done_34 : decode cX16_done 34 = .ok (.getfield 25, 3) := dk_180 0 25 (dk_at dksX16_done_1 10 rfl rfl)
theorem dX16_done_37 : decode cX16_done 37 = .ok (.invokevirtual 58, 3) := dk_182 0 58 (dk_at dksX16_done_1 13 rfl rfl)
theorem dX16_done_40 : decode cX16_done 40 = .ok (.iconst 1, 1) := dk_4 (dk_at dksX16_done_1 16 rfl rfl)
theorem dX16_done_41 : decode cX16_done 41 = .ok (.isub, 1) := dk_100 (dk_at dksX16_done_1 17 rfl rfl)
theorem dX16_done_42 : decode cX16_done 42 = .ok (.ireturn, 1) := dk_172 (dk_at dksX16_done_1 18 rfl rfl)
theorem nl_X16_66 : gNL RX16 66 25 := ⟨RX25, TX25, 3, 3, tyX25, _, rfl, rfl, in_X25, tyX25_ok, q1154, q1155, q129, fun j hj => by rcases (show j = 0 ∨ j = 1 ∨ j = 2 by omega) with rfl | rfl | rfl <;> rfl⟩
theorem fl_X16_124_9 : gFL RX16 124 9 1 := gFL.mkN (Cn := RX9) (T := TX9) (N := 5) (ref := "WorkflowEngine$Task") rfl in_X9 (by decide) nq364 rfl rfl (Or.inl rfl)
theorem fl_X16_127_9 : gFL RX16 127 9 4 := gFL.mkN (Cn := RX9) (T := TX9) (N := 5) (ref := "WorkflowEngine$Task") rfl in_X9 (by decide) nq370 rfl rfl (Or.inl rfl)
theorem hd_X25_init : (yX25_init.cls ≠ "java/lang/invoke/MethodHandle" ∧ yX25_init.cls ≠ "java/lang/invoke/VarHandle" ∧ (parseMethodDescriptor yX25_init.desc).map (fun d => d.parameters.length) = some 3) := ⟨by decide +kernel, by decide +kernel, by decide +kernel⟩
theorem hd_J2_add : (yJ2_add.cls ≠ "java/lang/invoke/MethodHandle" ∧ yJ2_add.cls ≠ "java/lang/invoke/VarHandle" ∧ (parseMethodDescriptor yJ2_add.desc).map (fun d => d.parameters.length) = some 1) := ⟨by decide +kernel, by decide +kernel, by decide +kernel⟩
def f_X16_done (a0 : Nat) (p1 : Option Nat) (w0 : gw) : Option (Int32 × gw) := gB1 (gR w0 a0 16 6) fun r1 => gB2 (gNew w0 25) fun a2 w3 => gB1 p1 fun a4 => gB1 (gI w3 a4 9 1) fun x5 => gB1 (gI w3 a4 9 4) fun x6 => gB2 (f_X25_init a2 x5 x6 (nI 2) w3) fun _ w7 => gB1 r1 fun a8 => gB1 (gOb w7 a8 8) fun _ => gB2 (f_J2_add a8 (some a2) w7) fun x10 w9 => gB1 (gI w9 a4 9 1) fun x11 => gB1 (gOb w9 a0 16) fun _ => gB2 (f_X16_notes a0 (nI 2) x11 w9) fun _ w12 => gB1 (gR w12 a0 16 6) fun r13 => gB1 r13 fun a14 => gB1 (gOb w12 a14 8) fun _ => gB2 (f_J2_size a14  w12) fun x16 w15 => some ((x16 - (nI 1)), w15)
set_option maxHeartbeats 4000000 in
set_option maxRecDepth 100000 in
theorem k_X16_done {D : va_G} {dA : Nat → ClassId} {A : Nat → Prop} {K : Nat → Nat} {l : Launch} {h : Nat} (hh : 7 ≤ h) {a0 : Nat} {p1 : Option Nat} {w0 ww : gw} {rr : Int32} (hf : f_X16_done a0 p1 w0 = some (rr, ww)) : gMet D dA A K l yX16_done (ws_ yX16_done cX16_done 2 (some .int)) h [(ga (some a0)), (ga p1)] (some (gi rr)) w0 ww := by
  refine j_start (own := RX16) (by decide +kernel) rfl (Nat.le_of_ble_eq_true rfl) ?_
  intro p e R s m args below meth c C hr hin hw
  unfold f_X16_done at hf
  show gJ D dA A K p l e R s m args below meth c (gEnd D dA A K below args s w0 (some (gi rr)) ww) 2 0 [(0, (ga (some a0))), (1, (ga p1))] [] w0
  refine j_aload_n C dX16_done_0 rfl ?_
  replace hf := gB1_e hf
  obtain ⟨r1, er1, hf⟩ := hf
  refine j_get C fl_X16_25_16 dX16_done_1 (gR_F er1) ?_
  replace hf := gB2_e hf
  obtain ⟨a2, w3, ew3, hf⟩ := hf
  refine j_new C nl_X16_66 ew3 dX16_done_4 ?_
  refine j_dup C dX16_done_7 ?_
  refine j_aload_n C dX16_done_8 rfl ?_
  replace hf := gB1_e hf
  obtain ⟨a4, ea4, hf⟩ := hf
  subst ea4
  replace hf := gB1_e hf
  obtain ⟨x5, ex5, hf⟩ := hf
  refine j_get C fl_X16_124_9 dX16_done_9 (gI_F ex5) ?_
  refine j_aload_n C dX16_done_12 rfl ?_
  replace hf := gB1_e hf
  obtain ⟨x6, ex6, hf⟩ := hf
  refine j_get C fl_X16_127_9 dX16_done_13 (gI_F ex6) ?_
  refine j_iconst (v := (nI 2)) C dX16_done_16 (by decide) ?_
  replace hf := gB2_e hf
  obtain ⟨_, w7, ew7, hf⟩ := hf
  refine j_callI (As := [(gi x5), (gi x6), (gi (nI 2))]) (rest := [(ga (some a2)), (ga r1)]) C (by omega) (k_X25_init (by omega) ew7) rfl q1156 q1157 q129 q1158 hd_X25_init (by decide) rfl (Nat.le_of_ble_eq_true rfl) dX16_done_17 ?_
  replace hf := gB1_e hf
  obtain ⟨a8, ea8, hf⟩ := hf
  subst ea8
  replace hf := gB1_e hf
  obtain ⟨_, eo, hf⟩ := hf
  replace hf := gB2_e hf
  obtain ⟨x10, w9, ew9, hf⟩ := hf
  refine j_callV (As := [(ga (some a2))]) (rest := []) (v := (some (gi x10))) C (by omega) (k_J2_add (by omega) ew9) (gOb_e eo) rfl q1175 q482 q483 q99 q484 ⟨rfl, hd_J2_add⟩ (by decide) rfl (Nat.le_of_ble_eq_true rfl) dX16_done_20 ?_
  refine j_pop C dX16_done_23 ?_
  refine j_aload_n C dX16_done_24 rfl ?_
  refine j_iconst (v := (nI 2)) C dX16_done_25 (by decide) ?_
  refine j_aload_n C dX16_done_26 rfl ?_
  replace hf := gB1_e hf
  obtain ⟨x11, ex11, hf⟩ := hf
  refine j_get C fl_X16_124_9 dX16_done_27 (gI_F ex11) ?_
  replace hf := gB1_e hf
  obtain ⟨_, eo, hf⟩ := hf
  replace hf := gB2_e hf
  obtain ⟨_, w12, ew12, hf⟩ := hf
  refine j_callV (As := [(gi (nI 2)), (gi x11)]) (rest := []) (v := none) C (by omega) (k_X16_notes (by omega) ew12) (gOb_e eo) rfl q1176 q944 q945 q118 q946 ⟨rfl, hd_X16_notes⟩ (by decide) rfl (Nat.le_of_ble_eq_true rfl) dX16_done_30 ?_
  refine j_aload_n C dX16_done_33 rfl ?_
  replace hf := gB1_e hf
  obtain ⟨r13, er13, hf⟩ := hf
  refine j_get C fl_X16_25_16 dX16_done_34 (gR_F er13) ?_
  replace hf := gB1_e hf
  obtain ⟨a14, ea14, hf⟩ := hf
  subst ea14
  replace hf := gB1_e hf
  obtain ⟨_, eo, hf⟩ := hf
  replace hf := gB2_e hf
  obtain ⟨x16, w15, ew15, hf⟩ := hf
  refine j_callV (As := []) (rest := []) (v := (some (gi x16))) C (by omega) (k_J2_size (by omega) ew15) (gOb_e eo) rfl q1177 q560 q561 q99 q562 ⟨rfl, hd_J2_size⟩ (by decide) rfl (Nat.le_of_ble_eq_true rfl) dX16_done_37 ?_
  refine j_iconst (v := (nI 1)) C dX16_done_40 (by decide) ?_
  refine j_isub C dX16_done_41 ?_
  obtain ⟨rfl, rfl⟩ := gSome hf
  exact j_iret C hr hw dX16_done_42
