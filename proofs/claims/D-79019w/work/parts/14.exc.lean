set_option maxRecDepth 100000
def dkwX2_init_4 : List UInt8 := [79, 132, 1, 1, 167, 255, 238, 177]
abbrev dktX2_init_4 : List UInt8 := dkwX2_init_4 ++ []
def dkwX2_init_3 : List UInt8 := [181, 0, 31, 42, 2, 181, 0, 34, 3, 60, 27, 16, 8, 162, 0, 18, 42, 180, 0, 22, 4, 27, 96, 4]
abbrev dktX2_init_3 : List UInt8 := dkwX2_init_3 ++ dktX2_init_4
def dkwX2_init_2 : List UInt8 := [42, 17, 29, 169, 188, 10, 181, 0, 25, 42, 17, 29, 169, 188, 10, 181, 0, 28, 42, 16, 80, 188, 10]
abbrev dktX2_init_2 : List UInt8 := dkwX2_init_2 ++ dktX2_init_3
def dkwX2_init_1 : List UInt8 := [16, 68, 188, 10, 181, 0, 16, 42, 16, 68, 188, 10, 181, 0, 19, 42, 17, 29, 169, 188, 10, 181, 0, 22]
abbrev dktX2_init_1 : List UInt8 := dkwX2_init_1 ++ dktX2_init_2
def dkwX2_init_0 : List UInt8 := [42, 183, 0, 3, 42, 17, 38, 64, 188, 10, 181, 0, 9, 42, 17, 38, 64, 188, 10, 181, 0, 13, 42]
abbrev dktX2_init_0 : List UInt8 := dkwX2_init_0 ++ dktX2_init_1
theorem dksX2_init_0 : cX2_init.data.toList.drop 0 = dktX2_init_0 := by decide +kernel
theorem dksX2_init_1 : cX2_init.data.toList.drop 23 = dktX2_init_1 := dk_seg dksX2_init_0 23 rfl rfl
theorem dksX2_init_2 : cX2_init.data.toList.drop 47 = dktX2_init_2 := dk_seg dksX2_init_1 24 rfl rfl
theorem dksX2_init_3 : cX2_init.data.toList.drop 70 = dktX2_init_3 := dk_seg dksX2_init_2 23 rfl rfl
theorem dksX2_init_4 : cX2_init.data.toList.drop 94 = dktX2_init_4 := dk_seg dksX2_init_3 24 rfl rfl
theorem dX2_init_0 : decode cX2_init 0 = .ok (.aload_n 0, 1) := dk_42 (dk_at dksX2_init_0 0 rfl rfl)
theorem dX2_init_1 : decode cX2_init 1 = .ok (.invokespecial 3, 3) := dk_183 0 3 (dk_at dksX2_init_0 1 rfl rfl)
theorem dX2_init_4 : decode cX2_init 4 = .ok (.aload_n 0, 1) := dk_42 (dk_at dksX2_init_0 4 rfl rfl)
theorem dX2_init_5 : decode cX2_init 5 = .ok (.sipush 9792, 3) := dk_17 38 64 (dk_at dksX2_init_0 5 rfl rfl)
theorem dX2_init_8 : decode cX2_init 8 = .ok (.newarray .int, 2) := dk_188_10 (dk_at dksX2_init_0 8 rfl rfl)
theorem dX2_init_10 : decode cX2_init 10 = .ok (.putfield 9, 3) := dk_181 0 9 (dk_at dksX2_init_0 10 rfl rfl)
theorem dX2_init_13 : decode cX2_init 13 = .ok (.aload_n 0, 1) := dk_42 (dk_at dksX2_init_0 13 rfl rfl)
theorem dX2_init_14 : decode cX2_init 14 = .ok (.sipush 9792, 3) := dk_17 38 64 (dk_at dksX2_init_0 14 rfl rfl)
theorem dX2_init_17 : decode cX2_init 17 = .ok (.newarray .int, 2) := dk_188_10 (dk_at dksX2_init_0 17 rfl rfl)
theorem dX2_init_19 : decode cX2_init 19 = .ok (.putfield 13, 3) := dk_181 0 13 (dk_at dksX2_init_0 19 rfl rfl)
theorem dX2_init_22 : decode cX2_init 22 = .ok (.aload_n 0, 1) := dk_42 (dk_at dksX2_init_0 22 rfl rfl)
theorem dX2_init_23 : decode cX2_init 23 = .ok (.bipush 68, 2) := dk_16 68 (dk_at dksX2_init_1 0 rfl rfl)
theorem dX2_init_25 : decode cX2_init 25 = .ok (.newarray .int, 2) := dk_188_10 (dk_at dksX2_init_1 2 rfl rfl)
theorem dX2_init_27 : decode cX2_init 27 = .ok (.putfield 16, 3) := dk_181 0 16 (dk_at dksX2_init_1 4 rfl rfl)
theorem dX2_init_30 : decode cX2_init 30 = .ok (.aload_n 0, 1) := dk_42 (dk_at dksX2_init_1 7 rfl rfl)
theorem dX2_init_31 : decode cX2_init 31 = .ok (.bipush 68, 2) := dk_16 68 (dk_at dksX2_init_1 8 rfl rfl)
theorem dX2_init_33 : decode cX2_init 33 = .ok (.newarray .int, 2) := dk_188_10 (dk_at dksX2_init_1 10 rfl rfl)
theorem dX2_init_35 : decode cX2_init 35 = .ok (.putfield 19, 3) := dk_181 0 19 (dk_at dksX2_init_1 12 rfl rfl)
theorem dX2_init_38 : decode cX2_init 38 = .ok (.aload_n 0, 1) := dk_42 (dk_at dksX2_init_1 15 rfl rfl)
theorem dX2_init_39 : decode cX2_init 39 = .ok (.sipush 7593, 3) := dk_17 29 169 (dk_at dksX2_init_1 16 rfl rfl)
theorem dX2_init_42 : decode cX2_init 42 = .ok (.newarray .int, 2) := dk_188_10 (dk_at dksX2_init_1 19 rfl rfl)
theorem dX2_init_44 : decode cX2_init 44 = .ok (.putfield 22, 3) := dk_181 0 22 (dk_at dksX2_init_1 21 rfl rfl)
theorem dX2_init_47 : decode cX2_init 47 = .ok (.aload_n 0, 1) := dk_42 (dk_at dksX2_init_2 0 rfl rfl)
theorem dX2_init_48 : decode cX2_init 48 = .ok (.sipush 7593, 3) := dk_17 29 169 (dk_at dksX2_init_2 1 rfl rfl)
theorem dX2_init_51 : decode cX2_init 51 = .ok (.newarray .int, 2) := dk_188_10 (dk_at dksX2_init_2 4 rfl rfl)
theorem dX2_init_53 : decode cX2_init 53 = .ok (.putfield 25, 3) := dk_181 0 25 (dk_at dksX2_init_2 6 rfl rfl)
theorem dX2_init_56 : decode cX2_init 56 = .ok (.aload_n 0, 1) := dk_42 (dk_at dksX2_init_2 9 rfl rfl)
theorem dX2_init_57 : decode cX2_init 57 = .ok (.sipush 7593, 3) := dk_17 29 169 (dk_at dksX2_init_2 10 rfl rfl)
theorem dX2_init_60 : decode cX2_init 60 = .ok (.newarray .int, 2) := dk_188_10 (dk_at dksX2_init_2 13 rfl rfl)
theorem dX2_init_62 : decode cX2_init 62 = .ok (.putfield 28, 3) := dk_181 0 28 (dk_at dksX2_init_2 15 rfl rfl)
theorem dX2_init_65 : decode cX2_init 65 = .ok (.aload_n 0, 1) := dk_42 (dk_at dksX2_init_2 18 rfl rfl)
theorem dX2_init_66 : decode cX2_init 66 = .ok (.bipush 80, 2) := dk_16 80 (dk_at dksX2_init_2 19 rfl rfl)
theorem dX2_init_68 : decode cX2_init 68 = .ok (.newarray .int, 2) := dk_188_10 (dk_at dksX2_init_2 21 rfl rfl)
theorem dX2_init_70 : decode cX2_init 70 = .ok (.putfield 31, 3) := dk_181 0 31 (dk_at dksX2_init_3 0 rfl rfl)
theorem dX2_init_73 : decode cX2_init 73 = .ok (.aload_n 0, 1) := dk_42 (dk_at dksX2_init_3 3 rfl rfl)
theorem dX2_init_74 : decode cX2_init 74 = .ok (.iconst (-1), 1) := dk_2 (dk_at dksX2_init_3 4 rfl rfl)
theorem dX2_init_75 : decode cX2_init 75 = .ok (.putfield 34, 3) := dk_181 0 34 (dk_at dksX2_init_3 5 rfl rfl)
theorem dX2_init_78 : decode cX2_init 78 = .ok (.iconst 0, 1) := dk_3 (dk_at dksX2_init_3 8 rfl rfl)
theorem dX2_init_79 : decode cX2_init 79 = .ok (.istore_n 1, 1) := dk_60 (dk_at dksX2_init_3 9 rfl rfl)
theorem dX2_init_80 : decode cX2_init 80 = .ok (.iload_n 1, 1) := dk_27 (dk_at dksX2_init_3 10 rfl rfl)
theorem dX2_init_81 : decode cX2_init 81 = .ok (.bipush 8, 2) := dk_16 8 (dk_at dksX2_init_3 11 rfl rfl)
theorem dX2_init_83 : decode cX2_init 83 = .ok (.if_icmp .ge 18, 3) := dk_162 0 18 (dk_at dksX2_init_3 13 rfl rfl)
theorem dX2_init_86 : decode cX2_init 86 = .ok (.aload_n 0, 1) := dk_42 (dk_at dksX2_init_3 16 rfl rfl)
theorem dX2_init_87 : decode cX2_init 87 = .ok (.getfield 22, 3) := dk_180 0 22 (dk_at dksX2_init_3 17 rfl rfl)
theorem dX2_init_90 : decode cX2_init 90 = .ok (.iconst 1, 1) := dk_4 (dk_at dksX2_init_3 20 rfl rfl)
theorem dX2_init_91 : decode cX2_init 91 = .ok (.iload_n 1, 1) := dk_27 (dk_at dksX2_init_3 21 rfl rfl)
theorem dX2_init_92 : decode cX2_init 92 = .ok (.iadd, 1) := dk_96 (dk_at dksX2_init_3 22 rfl rfl)
theorem dX2_init_93 : decode cX2_init 93 = .ok (.iconst 1, 1) := dk_4 (dk_at dksX2_init_3 23 rfl rfl)
theorem dX2_init_94 : decode cX2_init 94 = .ok (.iastore, 1) := dk_79 (dk_at dksX2_init_4 0 rfl rfl)
theorem dX2_init_95 : decode cX2_init 95 = .ok (.iinc 1 1, 3) := dk_132 1 1 (dk_at dksX2_init_4 1 rfl rfl)
theorem dX2_init_98 : decode cX2_init 98 = .ok (.goto (-18), 3) := dk_167 255 238 (dk_at dksX2_init_4 4 rfl rfl)
theorem dX2_init_101 : decode cX2_init 101 = .ok (.return_, 1) := dk_177 (dk_at dksX2_init_4 7 rfl rfl)
theorem fl_X2_9_2 : gFL RX2 9 2 0 := gFL.mk (Cn := RX2) (T := TX2) (N := 21) (ref := "WorkflowEngineModel") rfl in_X2 (by decide) q1594 rfl rfl (Or.inl rfl)
theorem nm_2 : gNm TX2 21 := by
  unfold gNm
  decide +kernel
theorem tb_2 : gTb 2 := fun Cn T N h => by
  have h : (RX2, TX2, 21) = (Cn, T, N) := Option.some.inj h
  cases h
  exact ⟨nm_2, tyX2, tyX2_ok⟩
theorem fk_2_0 : gFk 2 0 "[I" true "WorkflowEngineModel" := fun Cn T N h => by
  have h : (RX2, TX2, 21) = (Cn, T, N) := Option.some.inj h
  cases h
  exact ⟨rfl, rfl, rfl⟩
theorem fl_X2_13_2 : gFL RX2 13 2 1 := gFL.mk (Cn := RX2) (T := TX2) (N := 21) (ref := "WorkflowEngineModel") rfl in_X2 (by decide) q1595 rfl rfl (Or.inl rfl)
theorem fk_2_1 : gFk 2 1 "[I" true "WorkflowEngineModel" := fun Cn T N h => by
  have h : (RX2, TX2, 21) = (Cn, T, N) := Option.some.inj h
  cases h
  exact ⟨rfl, rfl, rfl⟩
theorem fl_X2_16_2 : gFL RX2 16 2 2 := gFL.mk (Cn := RX2) (T := TX2) (N := 21) (ref := "WorkflowEngineModel") rfl in_X2 (by decide) q1596 rfl rfl (Or.inl rfl)
theorem fk_2_2 : gFk 2 2 "[I" true "WorkflowEngineModel" := fun Cn T N h => by
  have h : (RX2, TX2, 21) = (Cn, T, N) := Option.some.inj h
  cases h
  exact ⟨rfl, rfl, rfl⟩
theorem fl_X2_19_2 : gFL RX2 19 2 3 := gFL.mk (Cn := RX2) (T := TX2) (N := 21) (ref := "WorkflowEngineModel") rfl in_X2 (by decide) q1597 rfl rfl (Or.inl rfl)
theorem fk_2_3 : gFk 2 3 "[I" true "WorkflowEngineModel" := fun Cn T N h => by
  have h : (RX2, TX2, 21) = (Cn, T, N) := Option.some.inj h
  cases h
  exact ⟨rfl, rfl, rfl⟩
theorem fl_X2_22_2 : gFL RX2 22 2 4 := gFL.mk (Cn := RX2) (T := TX2) (N := 21) (ref := "WorkflowEngineModel") rfl in_X2 (by decide) q1598 rfl rfl (Or.inl rfl)
theorem fk_2_4 : gFk 2 4 "[I" true "WorkflowEngineModel" := fun Cn T N h => by
  have h : (RX2, TX2, 21) = (Cn, T, N) := Option.some.inj h
  cases h
  exact ⟨rfl, rfl, rfl⟩
theorem fl_X2_25_2 : gFL RX2 25 2 5 := gFL.mk (Cn := RX2) (T := TX2) (N := 21) (ref := "WorkflowEngineModel") rfl in_X2 (by decide) q1599 rfl rfl (Or.inl rfl)
theorem fk_2_5 : gFk 2 5 "[I" true "WorkflowEngineModel" := fun Cn T N h => by
  have h : (RX2, TX2, 21) = (Cn, T, N) := Option.some.inj h
  cases h
  exact ⟨rfl, rfl, rfl⟩
theorem fl_X2_28_2 : gFL RX2 28 2 6 := gFL.mk (Cn := RX2) (T := TX2) (N := 21) (ref := "WorkflowEngineModel") rfl in_X2 (by decide) q1600 rfl rfl (Or.inl rfl)
theorem fk_2_6 : gFk 2 6 "[I" true "WorkflowEngineModel" := fun Cn T N h => by
  have h : (RX2, TX2, 21) = (Cn, T, N) := Option.some.inj h
  cases h
  exact ⟨rfl, rfl, rfl⟩
theorem fl_X2_31_2 : gFL RX2 31 2 8 := gFL.mk (Cn := RX2) (T := TX2) (N := 21) (ref := "WorkflowEngineModel") rfl in_X2 (by decide) q1602 rfl rfl (Or.inl rfl)
theorem fk_2_8 : gFk 2 8 "[I" true "WorkflowEngineModel" := fun Cn T N h => by
  have h : (RX2, TX2, 21) = (Cn, T, N) := Option.some.inj h
  cases h
  exact ⟨rfl, rfl, rfl⟩
theorem fl_X2_34_2 : gFL RX2 34 2 10 := gFL.mk (Cn := RX2) (T := TX2) (N := 21) (ref := "WorkflowEngineModel") rfl in_X2 (by decide) q1604 rfl rfl (Or.inl rfl)
theorem fk_2_10 : gFk 2 10 "I" false "WorkflowEngineModel" := fun Cn T N h => by
  have h : (RX2, TX2, 21) = (Cn, T, N) := Option.some.inj h
  cases h
  exact ⟨rfl, rfl, rfl⟩
def f_X2_init (a0 : Nat) (w0 : gw) : Option (Unit × gw) := gB2 (gNewI w0 0 (nI 9792)) fun a1 w2 => gB1 (gPut w2 a0 2 0 (ga (some a1))) fun w3 => gB2 (gNewI w3 0 (nI 9792)) fun a4 w5 => gB1 (gPut w5 a0 2 1 (ga (some a4))) fun w6 => gB2 (gNewI w6 0 (nI 68)) fun a7 w8 => gB1 (gPut w8 a0 2 2 (ga (some a7))) fun w9 => gB2 (gNewI w9 0 (nI 68)) fun a10 w11 => gB1 (gPut w11 a0 2 3 (ga (some a10))) fun w12 => gB2 (gNewI w12 0 (nI 7593)) fun a13 w14 => gB1 (gPut w14 a0 2 4 (ga (some a13))) fun w15 => gB2 (gNewI w15 0 (nI 7593)) fun a16 w17 => gB1 (gPut w17 a0 2 5 (ga (some a16))) fun w18 => gB2 (gNewI w18 0 (nI 7593)) fun a19 w20 => gB1 (gPut w20 a0 2 6 (ga (some a19))) fun w21 => gB2 (gNewI w21 0 (nI 80)) fun a22 w23 => gB1 (gPut w23 a0 2 8 (ga (some a22))) fun w24 => gB1 (gPut w24 a0 2 10 (gi (-1))) fun w25 => gL1 (fun k28 (x27 : Int32) (w26 : gw) => if (nI 8) ≤ x27 then some ((), w26) else gB1 (gR w26 a0 2 4) fun r30 => gB1 r30 fun a31 => gB1 (gStI w26 a31 0 ((nI 1) + x27) (nI 1)) fun w32 => gBd (x27 + (nI 1)) fun x33 => k28 x33 w32) 20000 (nI 0) w25
set_option maxHeartbeats 4000000 in
set_option maxRecDepth 100000 in
theorem k_X2_init {D : va_G} {dA : Nat → ClassId} {A : Nat → Prop} {K : Nat → Nat} {l : Launch} {h : Nat} (hh : 1 ≤ h) {a0 : Nat} {w0 ww : gw} {rr : Unit} (hf : f_X2_init a0 w0 = some (rr, ww)) : gMet D dA A K l yX2_init (ws_ yX2_init cX2_init 2 none) h [(ga (some a0))] none w0 ww := by
  refine j_start (own := RX2) (by decide +kernel) rfl (Nat.le_of_ble_eq_true rfl) ?_
  intro p e R s m args below meth c C hr hin hw
  unfold f_X2_init at hf
  show gJ D dA A K p l e R s m args below meth c (gEnd D dA A K below args s w0 none ww) 2 0 [(0, (ga (some a0)))] [] w0
  refine j_aload_n C dX2_init_0 rfl ?_
  refine j_objInit C (by omega) q1593 q164 q165 (by decide) dX2_init_1 ?_
  refine j_aload_n C dX2_init_4 rfl ?_
  refine j_sipush (v := (nI 9792)) C dX2_init_5 (by decide) ?_
  replace hf := gB2_e hf
  obtain ⟨a1, w2, ew2, hf⟩ := hf
  refine j_newi C (t := 0) (atype := .int) rfl (by decide) rfl rfl q761 ew2 dX2_init_8 ?_
  replace hf := gB1_e hf
  obtain ⟨w3, ew3, hf⟩ := hf
  refine j_putF C fl_X2_9_2 tb_2 hin ew3 fk_2_0 rfl (ft__I (some a1)) dX2_init_10 ?_
  refine j_aload_n C dX2_init_13 rfl ?_
  refine j_sipush (v := (nI 9792)) C dX2_init_14 (by decide) ?_
  replace hf := gB2_e hf
  obtain ⟨a4, w5, ew5, hf⟩ := hf
  refine j_newi C (t := 0) (atype := .int) rfl (by decide) rfl rfl q761 ew5 dX2_init_17 ?_
  replace hf := gB1_e hf
  obtain ⟨w6, ew6, hf⟩ := hf
  refine j_putF C fl_X2_13_2 tb_2 hin ew6 fk_2_1 rfl (ft__I (some a4)) dX2_init_19 ?_
  refine j_aload_n C dX2_init_22 rfl ?_
  refine j_bipush (v := (nI 68)) C dX2_init_23 (by decide) ?_
  replace hf := gB2_e hf
  obtain ⟨a7, w8, ew8, hf⟩ := hf
  refine j_newi C (t := 0) (atype := .int) rfl (by decide) rfl rfl q761 ew8 dX2_init_25 ?_
  replace hf := gB1_e hf
  obtain ⟨w9, ew9, hf⟩ := hf
  refine j_putF C fl_X2_16_2 tb_2 hin ew9 fk_2_2 rfl (ft__I (some a7)) dX2_init_27 ?_
  refine j_aload_n C dX2_init_30 rfl ?_
  refine j_bipush (v := (nI 68)) C dX2_init_31 (by decide) ?_
  replace hf := gB2_e hf
  obtain ⟨a10, w11, ew11, hf⟩ := hf
  refine j_newi C (t := 0) (atype := .int) rfl (by decide) rfl rfl q761 ew11 dX2_init_33 ?_
  replace hf := gB1_e hf
  obtain ⟨w12, ew12, hf⟩ := hf
  refine j_putF C fl_X2_19_2 tb_2 hin ew12 fk_2_3 rfl (ft__I (some a10)) dX2_init_35 ?_
  refine j_aload_n C dX2_init_38 rfl ?_
  refine j_sipush (v := (nI 7593)) C dX2_init_39 (by decide) ?_
  replace hf := gB2_e hf
  obtain ⟨a13, w14, ew14, hf⟩ := hf
  refine j_newi C (t := 0) (atype := .int) rfl (by decide) rfl rfl q761 ew14 dX2_init_42 ?_
  replace hf := gB1_e hf
  obtain ⟨w15, ew15, hf⟩ := hf
  refine j_putF C fl_X2_22_2 tb_2 hin ew15 fk_2_4 rfl (ft__I (some a13)) dX2_init_44 ?_
  refine j_aload_n C dX2_init_47 rfl ?_
  refine j_sipush (v := (nI 7593)) C dX2_init_48 (by decide) ?_
  replace hf := gB2_e hf
  obtain ⟨a16, w17, ew17, hf⟩ := hf
  refine j_newi C (t := 0) (atype := .int) rfl (by decide) rfl rfl q761 ew17 dX2_init_51 ?_
  replace hf := gB1_e hf
  obtain ⟨w18, ew18, hf⟩ := hf
  refine j_putF C fl_X2_25_2 tb_2 hin ew18 fk_2_5 rfl (ft__I (some a16)) dX2_init_53 ?_
  refine j_aload_n C dX2_init_56 rfl ?_
  refine j_sipush (v := (nI 7593)) C dX2_init_57 (by decide) ?_
  replace hf := gB2_e hf
  obtain ⟨a19, w20, ew20, hf⟩ := hf
  refine j_newi C (t := 0) (atype := .int) rfl (by decide) rfl rfl q761 ew20 dX2_init_60 ?_
  replace hf := gB1_e hf
  obtain ⟨w21, ew21, hf⟩ := hf
  refine j_putF C fl_X2_28_2 tb_2 hin ew21 fk_2_6 rfl (ft__I (some a19)) dX2_init_62 ?_
  refine j_aload_n C dX2_init_65 rfl ?_
  refine j_bipush (v := (nI 80)) C dX2_init_66 (by decide) ?_
  replace hf := gB2_e hf
  obtain ⟨a22, w23, ew23, hf⟩ := hf
  refine j_newi C (t := 0) (atype := .int) rfl (by decide) rfl rfl q761 ew23 dX2_init_68 ?_
  replace hf := gB1_e hf
  obtain ⟨w24, ew24, hf⟩ := hf
  refine j_putF C fl_X2_31_2 tb_2 hin ew24 fk_2_8 rfl (ft__I (some a22)) dX2_init_70 ?_
  refine j_aload_n C dX2_init_73 rfl ?_
  refine j_iconst (v := (-1)) C dX2_init_74 (by decide) ?_
  replace hf := gB1_e hf
  obtain ⟨w25, ew25, hf⟩ := hf
  refine j_put C fl_X2_34_2 tb_2 ew25 fk_2_10 (fit_I (-1)) dX2_init_75 ?_
  refine j_iconst (v := (nI 0)) C dX2_init_78 (by decide) ?_
  refine j_istore_n (lv' := [(1, (gi (nI 0))), (0, (ga (some a0)))]) C dX2_init_79 (by decide) rfl ?_
  refine j_sub (lv' := [(0, (ga (some a0))), (1, (gi (nI 0)))]) (gL_cons rfl (gL_cons rfl (gL_nil))) ?_
  refine gL1_e (fun (x27 : Int32) (w26 : gw) => gJ D dA A K p l e R s m args below meth c (gEnd D dA A K below args s w0 none ww) 2 80 [(0, (ga (some a0))), (1, (gi x27))] [] w26) ?_ _ _ _ hf
  intro k28 jk28 x27 w26 hf
  refine j_iload_n C dX2_init_80 rfl ?_
  refine j_bipush (v := (nI 8)) C dX2_init_81 (by decide) ?_
  refine j_icmp_ge (tgt := 101) C dX2_init_83 (by decide) (fun c29 => ?_) (fun c29 => ?_)
  · replace hf := gIf_t hf c29
    obtain ⟨rfl, rfl⟩ := gSome hf
    exact j_vret C hr hw dX2_init_101
  · replace hf := gIf_f hf c29
    refine j_aload_n C dX2_init_86 rfl ?_
    replace hf := gB1_e hf
    obtain ⟨r30, er30, hf⟩ := hf
    refine j_get C fl_X2_22_2 dX2_init_87 (gR_F er30) ?_
    refine j_iconst (v := (nI 1)) C dX2_init_90 (by decide) ?_
    refine j_iload_n C dX2_init_91 rfl ?_
    refine j_iadd C dX2_init_92 ?_
    refine j_iconst (v := (nI 1)) C dX2_init_93 (by decide) ?_
    replace hf := gB1_e hf
    obtain ⟨a31, ea31, hf⟩ := hf
    subst ea31
    replace hf := gB1_e hf
    obtain ⟨w32, ew32, hf⟩ := hf
    refine j_iast C ew32 dX2_init_94 ?_
    replace hf := gBd_x hf
    obtain ⟨x33, ex33, hf⟩ := hf
    refine j_iinc (v := x33) (lv' := [(1, (gi x33)), (0, (ga (some a0)))]) C dX2_init_95 rfl (by rw [ex33]; rfl) (by decide) rfl ?_
    refine j_goto (tgt := 80) C dX2_init_98 (by decide) ?_
    refine j_sub (lv' := [(0, (ga (some a0))), (1, (gi x33))]) (gL_cons rfl (gL_cons rfl (gL_nil))) ?_
    exact jk28 _ _ hf
def dkwX15_place_1 : List UInt8 := [42, 182, 0, 7, 192, 0, 19, 180, 0, 21, 172]
abbrev dktX15_place_1 : List UInt8 := dkwX15_place_1 ++ []
def dkwX15_place_0 : List UInt8 := [42, 182, 0, 7, 77, 44, 193, 0, 13, 153, 0, 15, 44, 192, 0, 13, 76, 43, 180, 0, 15, 167, 0, 13]
abbrev dktX15_place_0 : List UInt8 := dkwX15_place_0 ++ dktX15_place_1
theorem dksX15_place_0 : cX15_place.data.toList.drop 0 = dktX15_place_0 := by decide +kernel
theorem dksX15_place_1 : cX15_place.data.toList.drop 24 = dktX15_place_1 := dk_seg dksX15_place_0 24 rfl rfl
theorem dX15_place_0 : decode cX15_place 0 = .ok (.aload_n 0, 1) := dk_42 (dk_at dksX15_place_0 0 rfl rfl)
theorem dX15_place_1 : decode cX15_place 1 = .ok (.invokevirtual 7, 3) := dk_182 0 7 (dk_at dksX15_place_0 1 rfl rfl)
theorem dX15_place_4 : decode cX15_place 4 = .ok (.astore_n 2, 1) := dk_77 (dk_at dksX15_place_0 4 rfl rfl)
theorem dX15_place_5 : decode cX15_place 5 = .ok (.aload_n 2, 1) := dk_44 (dk_at dksX15_place_0 5 rfl rfl)
theorem dX15_place_6 : decode cX15_place 6 = .ok (.instanceof 13, 3) := dk_193 0 13 (dk_at dksX15_place_0 6 rfl rfl)
theorem dX15_place_9 : decode cX15_place 9 = .ok (.ifCond .eq 15, 3) := dk_153 0 15 (dk_at dksX15_place_0 9 rfl rfl)
theorem dX15_place_12 : decode cX15_place 12 = .ok (.aload_n 2, 1) := dk_44 (dk_at dksX15_place_0 12 rfl rfl)
theorem dX15_place_13 : decode cX15_place 13 = .ok (.checkcast 13, 3) := dk_192 0 13 (dk_at dksX15_place_0 13 rfl rfl)
theorem dX15_place_16 : decode cX15_place 16 = .ok (.astore_n 1, 1) := dk_76 (dk_at dksX15_place_0 16 rfl rfl)
theorem dX15_place_17 : decode cX15_place 17 = .ok (.aload_n 1, 1) := dk_43 (dk_at dksX15_place_0 17 rfl rfl)
theorem dX15_place_18 : decode cX15_place 18 = .ok (.getfield 15, 3) := dk_180 0 15 (dk_at dksX15_place_0 18 rfl rfl)
theorem dX15_place_21 : decode cX15_place 21 = .ok (.goto 13, 3) := dk_167 0 13 (dk_at dksX15_place_0 21 rfl rfl)
theorem dX15_place_24 : decode cX15_place 24 = .ok (.aload_n 0, 1) := dk_42 (dk_at dksX15_place_1 0 rfl rfl)
theorem dX15_place_25 : decode cX15_place 25 = .ok (.invokevirtual 7, 3) := dk_182 0 7 (dk_at dksX15_place_1 1 rfl rfl)
theorem dX15_place_28 : decode cX15_place 28 = .ok (.checkcast 19, 3) := dk_192 0 19 (dk_at dksX15_place_1 4 rfl rfl)
theorem dX15_place_31 : decode cX15_place 31 = .ok (.getfield 21, 3) := dk_180 0 21 (dk_at dksX15_place_1 7 rfl rfl)
theorem dX15_place_34 : decode cX15_place 34 = .ok (.ireturn, 1) := dk_172 (dk_at dksX15_place_1 10 rfl rfl)
theorem ca_WorkflowEngine_TooMuch : ∀ ci Cv, ci ∈ ([7] : List Nat) → gNa ci = some Cv → Cv = "WorkflowEngine$TooMuch" ∨ Cond.castable Cv "WorkflowEngine$TooMuch" ∈ gNw := by
  intro ci Cv h hn
  simp only [List.mem_cons, List.not_mem_nil, or_false] at h
  subst h
  · cases hn
    exact Or.inl rfl
theorem nn_WorkflowEngine_TooMuch : ∀ ci Cv, ci ∈ ([12, 11, 6, 13, 14, 9, 10, 15] : List Nat) → gNa ci = some Cv → (Cv, "WorkflowEngine$TooMuch") ∈ gNc := by
  intro ci Cv h hn
  simp only [List.mem_cons, List.not_mem_nil, or_false] at h
  rcases h with rfl | rfl | rfl | rfl | rfl | rfl | rfl | rfl
  · cases hn
    exact nc4
  · cases hn
    exact nc10
  · cases hn
    exact nc15
  · cases hn
    exact nc20
  · cases hn
    exact nc25
  · cases hn
    exact nc30
  · cases hn
    exact nc41
  · cases hn
    exact nc47
theorem ca_WorkflowEngine_BadSign : ∀ ci Cv, ci ∈ ([6] : List Nat) → gNa ci = some Cv → Cv = "WorkflowEngine$BadSign" ∨ Cond.castable Cv "WorkflowEngine$BadSign" ∈ gNw := by
  intro ci Cv h hn
  simp only [List.mem_cons, List.not_mem_nil, or_false] at h
  subst h
  · cases hn
    exact Or.inl rfl
theorem fl_X15_21_6 : gFL RX15 21 6 6 := gFL.mkN (Cn := RX6) (T := TX6) (N := 7) (ref := "WorkflowEngine$BadSign") rfl in_X6 (by decide) nq290 rfl rfl (Or.inl rfl)
theorem fl_X15_15_7 : gFL RX15 15 7 6 := gFL.mkN (Cn := RX7) (T := TX7) (N := 7) (ref := "WorkflowEngine$TooMuch") rfl in_X7 (by decide) nq324 rfl rfl (Or.inl rfl)
def f_X15_place (a0 : Nat) (w0 : gw) : Option (Int32 × gw) := gB1 (gR w0 a0 15 0) fun r2 => gBd (gcv a0 r2) fun r3 => gB1 (gIs w0 [7] [12, 11, 6, 13, 14, 9, 10, 15] r3) fun x4 => if x4 = 0 then gB1 (gR w0 a0 15 0) fun r7 => gBd (gcv a0 r7) fun r8 => gB1 (gCk w0 [6] r8) fun r9 => gB1 r9 fun a10 => gB1 (gI w0 a10 6 6) fun x11 => some (x11, w0) else gB1 (gCk w0 [7] r3) fun r12 => gB1 r12 fun a13 => gB1 (gI w0 a13 7 6) fun x14 => some (x14, w0)
set_option maxHeartbeats 4000000 in
set_option maxRecDepth 100000 in
theorem k_X15_place {D : va_G} {dA : Nat → ClassId} {A : Nat → Prop} {K : Nat → Nat} {l : Launch} {h : Nat} (hh : 1 ≤ h) {a0 : Nat} {w0 ww : gw} {rr : Int32} (hf : f_X15_place a0 w0 = some (rr, ww)) : gMet D dA A K l yX15_place (ws_ yX15_place cX15_place 3 (some .int)) h [(ga (some a0))] (some (gi rr)) w0 ww := by
  refine j_start (own := RX15) (by decide +kernel) rfl (Nat.le_of_ble_eq_true rfl) ?_
  intro p e R s m args below meth c C hr hin hw
  unfold f_X15_place at hf
  show gJ D dA A K p l e R s m args below meth c (gEnd D dA A K below args s w0 (some (gi rr)) ww) 3 0 [(0, (ga (some a0)))] [] w0
  refine j_aload_n C dX15_place_0 rfl ?_
  replace hf := gB1_e hf
  obtain ⟨r2, er2, hf⟩ := hf
  replace hf := gBd_x hf
  obtain ⟨r3, er3, hf⟩ := hf
  refine j_getCause (rest := []) C (by omega) er2 q611 q616 (Nat.le_of_ble_eq_true rfl) dX15_place_1 ?_
  refine j_nmr er3 ?_
  refine j_astore_n (lv' := [(2, (ga r3)), (0, (ga (some a0)))]) C dX15_place_4 (by decide) rfl ?_
  refine j_aload_n C dX15_place_5 rfl ?_
  replace hf := gB1_e hf
  obtain ⟨x4, ex4, hf⟩ := hf
  refine j_inst C q617 ca_WorkflowEngine_TooMuch nn_WorkflowEngine_TooMuch ex4 dX15_place_6 ?_
  refine j_if_eq (tgt := 24) C dX15_place_9 (by decide) (fun c5 => ?_) (fun c5 => ?_)
  · replace hf := gIf_t hf c5
    refine j_aload_n C dX15_place_24 rfl ?_
    replace hf := gB1_e hf
    obtain ⟨r7, er7, hf⟩ := hf
    replace hf := gBd_x hf
    obtain ⟨r8, er8, hf⟩ := hf
    refine j_getCause (rest := []) C (by omega) er7 q611 q616 (Nat.le_of_ble_eq_true rfl) dX15_place_25 ?_
    refine j_nmr er8 ?_
    replace hf := gB1_e hf
    obtain ⟨r9, er9, hf⟩ := hf
    refine j_castR C q618 ca_WorkflowEngine_BadSign er9 dX15_place_28 ?_
    replace hf := gB1_e hf
    obtain ⟨a10, ea10, hf⟩ := hf
    subst ea10
    replace hf := gB1_e hf
    obtain ⟨x11, ex11, hf⟩ := hf
    refine j_get C fl_X15_21_6 dX15_place_31 (gI_F ex11) ?_
    obtain ⟨rfl, rfl⟩ := gSome hf
    exact j_iret C hr hw dX15_place_34
  · replace hf := gIf_f hf c5
    refine j_aload_n C dX15_place_12 rfl ?_
    replace hf := gB1_e hf
    obtain ⟨r12, er12, hf⟩ := hf
    refine j_castR C q617 ca_WorkflowEngine_TooMuch er12 dX15_place_13 ?_
    refine j_astore_n (lv' := [(1, (ga r12)), (2, (ga r3)), (0, (ga (some a0)))]) C dX15_place_16 (by decide) rfl ?_
    refine j_aload_n C dX15_place_17 rfl ?_
    replace hf := gB1_e hf
    obtain ⟨a13, ea13, hf⟩ := hf
    subst ea13
    replace hf := gB1_e hf
    obtain ⟨x14, ex14, hf⟩ := hf
    refine j_get C fl_X15_15_7 dX15_place_18 (gI_F ex14) ?_
    refine j_goto (tgt := 34) C dX15_place_21 (by decide) ?_
    obtain ⟨rfl, rfl⟩ := gSome hf
    exact j_iret C hr hw dX15_place_34
def dkwX15_reason_0 : List UInt8 := [42, 182, 0, 7, 193, 0, 13, 153, 0, 7, 5, 167, 0, 4, 4, 172]
abbrev dktX15_reason_0 : List UInt8 := dkwX15_reason_0 ++ []
theorem dksX15_reason_0 : cX15_reason.data.toList.drop 0 = dktX15_reason_0 := by decide +kernel
theorem dX15_reason_0 : decode cX15_reason 0 = .ok (.aload_n 0, 1) := dk_42 (dk_at dksX15_reason_0 0 rfl rfl)
theorem dX15_reason_1 : decode cX15_reason 1 = .ok (.invokevirtual 7, 3) := dk_182 0 7 (dk_at dksX15_reason_0 1 rfl rfl)
theorem dX15_reason_4 : decode cX15_reason 4 = .ok (.instanceof 13, 3) := dk_193 0 13 (dk_at dksX15_reason_0 4 rfl rfl)
theorem dX15_reason_7 : decode cX15_reason 7 = .ok (.ifCond .eq 7, 3) := dk_153 0 7 (dk_at dksX15_reason_0 7 rfl rfl)
theorem dX15_reason_10 : decode cX15_reason 10 = .ok (.iconst 2, 1) := dk_5 (dk_at dksX15_reason_0 10 rfl rfl)
theorem dX15_reason_11 : decode cX15_reason 11 = .ok (.goto 4, 3) := dk_167 0 4 (dk_at dksX15_reason_0 11 rfl rfl)
theorem dX15_reason_14 : decode cX15_reason 14 = .ok (.iconst 1, 1) := dk_4 (dk_at dksX15_reason_0 14 rfl rfl)
theorem dX15_reason_15 : decode cX15_reason 15 = .ok (.ireturn, 1) := dk_172 (dk_at dksX15_reason_0 15 rfl rfl)
def f_X15_reason (a0 : Nat) (w0 : gw) : Option (Int32 × gw) := gB1 (gR w0 a0 15 0) fun r2 => gBd (gcv a0 r2) fun r3 => gB1 (gIs w0 [7] [12, 11, 6, 13, 14, 9, 10, 15] r3) fun x4 => if x4 = 0 then some ((nI 1), w0) else some ((nI 2), w0)
set_option maxHeartbeats 4000000 in
set_option maxRecDepth 100000 in
theorem k_X15_reason {D : va_G} {dA : Nat → ClassId} {A : Nat → Prop} {K : Nat → Nat} {l : Launch} {h : Nat} (hh : 1 ≤ h) {a0 : Nat} {w0 ww : gw} {rr : Int32} (hf : f_X15_reason a0 w0 = some (rr, ww)) : gMet D dA A K l yX15_reason (ws_ yX15_reason cX15_reason 1 (some .int)) h [(ga (some a0))] (some (gi rr)) w0 ww := by
  refine j_start (own := RX15) (by decide +kernel) rfl (Nat.le_of_ble_eq_true rfl) ?_
  intro p e R s m args below meth c C hr hin hw
  unfold f_X15_reason at hf
  show gJ D dA A K p l e R s m args below meth c (gEnd D dA A K below args s w0 (some (gi rr)) ww) 1 0 [(0, (ga (some a0)))] [] w0
  refine j_aload_n C dX15_reason_0 rfl ?_
  replace hf := gB1_e hf
  obtain ⟨r2, er2, hf⟩ := hf
  replace hf := gBd_x hf
  obtain ⟨r3, er3, hf⟩ := hf
  refine j_getCause (rest := []) C (by omega) er2 q611 q616 (Nat.le_of_ble_eq_true rfl) dX15_reason_1 ?_
  refine j_nmr er3 ?_
  replace hf := gB1_e hf
  obtain ⟨x4, ex4, hf⟩ := hf
  refine j_inst C q617 ca_WorkflowEngine_TooMuch nn_WorkflowEngine_TooMuch ex4 dX15_reason_4 ?_
  refine j_if_eq (tgt := 14) C dX15_reason_7 (by decide) (fun c5 => ?_) (fun c5 => ?_)
  · replace hf := gIf_t hf c5
    refine j_iconst (v := (nI 1)) C dX15_reason_14 (by decide) ?_
    obtain ⟨rfl, rfl⟩ := gSome hf
    exact j_iret C hr hw dX15_reason_15
  · replace hf := gIf_f hf c5
    refine j_iconst (v := (nI 2)) C dX15_reason_10 (by decide) ?_
    refine j_goto (tgt := 15) C dX15_reason_11 (by decide) ?_
    obtain ⟨rfl, rfl⟩ := gSome hf
    exact j_iret C hr hw dX15_reason_15
def dkwX0_wrong_1 : List UInt8 := [154, 0, 13, 42, 180, 0, 44, 182, 0, 60, 167, 0, 10, 42, 180, 0, 44, 182, 0, 64, 172]
abbrev dktX0_wrong_1 : List UInt8 := dkwX0_wrong_1 ++ []
def dkwX0_wrong_0 : List UInt8 := [27, 3, 4, 184, 0, 5, 154, 0, 5, 2, 172, 42, 180, 0, 44, 199, 0, 8, 16, 251, 167, 0, 24, 27]
abbrev dktX0_wrong_0 : List UInt8 := dkwX0_wrong_0 ++ dktX0_wrong_1
theorem dksX0_wrong_0 : cX0_wrong.data.toList.drop 0 = dktX0_wrong_0 := by decide +kernel
theorem dksX0_wrong_1 : cX0_wrong.data.toList.drop 24 = dktX0_wrong_1 := dk_seg dksX0_wrong_0 24 rfl rfl
theorem dX0_wrong_0 : decode cX0_wrong 0 = .ok (.iload_n 1, 1) := dk_27 (dk_at dksX0_wrong_0 0 rfl rfl)
theorem dX0_wrong_1 : decode cX0_wrong 1 = .ok (.iconst 0, 1) := dk_3 (dk_at dksX0_wrong_0 1 rfl rfl)
theorem dX0_wrong_2 : decode cX0_wrong 2 = .ok (.iconst 1, 1) := dk_4 (dk_at dksX0_wrong_0 2 rfl rfl)
theorem dX0_wrong_3 : decode cX0_wrong 3 = .ok (.invokestatic 5, 3) := dk_184 0 5 (dk_at dksX0_wrong_0 3 rfl rfl)
theorem dX0_wrong_6 : decode cX0_wrong 6 = .ok (.ifCond .ne 5, 3) := dk_154 0 5 (dk_at dksX0_wrong_0 6 rfl rfl)
theorem dX0_wrong_9 : decode cX0_wrong 9 = .ok (.iconst (-1), 1) := dk_2 (dk_at dksX0_wrong_0 9 rfl rfl)
theorem dX0_wrong_10 : decode cX0_wrong 10 = .ok (.ireturn, 1) := dk_172 (dk_at dksX0_wrong_0 10 rfl rfl)
theorem dX0_wrong_11 : decode cX0_wrong 11 = .ok (.aload_n 0, 1) := dk_42 (dk_at dksX0_wrong_0 11 rfl rfl)
theorem dX0_wrong_12 : decode cX0_wrong 12 = .ok (.getfield 44, 3) := dk_180 0 44 (dk_at dksX0_wrong_0 12 rfl rfl)
theorem dX0_wrong_15 : decode cX0_wrong 15 = .ok (.ifnonnull 8, 3) := dk_199 0 8 (dk_at dksX0_wrong_0 15 rfl rfl)
theorem dX0_wrong_18 : decode cX0_wrong 18 = .ok (.bipush (-5), 2) := dk_16 251 (dk_at dksX0_wrong_0 18 rfl rfl)
theorem dX0_wrong_20 : decode cX0_wrong 20 = .ok (.goto 24, 3) := dk_167 0 24 (dk_at dksX0_wrong_0 20 rfl rfl)
theorem dX0_wrong_23 : decode cX0_wrong 23 = .ok (.iload_n 1, 1) := dk_27 (dk_at dksX0_wrong_0 23 rfl rfl)
theorem dX0_wrong_24 : decode cX0_wrong 24 = .ok (.ifCond .ne 13, 3) := dk_154 0 13 (dk_at dksX0_wrong_1 0 rfl rfl)
theorem dX0_wrong_27 : decode cX0_wrong 27 = .ok (.aload_n 0, 1) := dk_42 (dk_at dksX0_wrong_1 3 rfl rfl)
theorem dX0_wrong_28 : decode cX0_wrong 28 = .ok (.getfield 44, 3) := dk_180 0 44 (dk_at dksX0_wrong_1 4 rfl rfl)
theorem dX0_wrong_31 : decode cX0_wrong 31 = .ok (.invokevirtual 60, 3) := dk_182 0 60 (dk_at dksX0_wrong_1 7 rfl rfl)
theorem dX0_wrong_34 : decode cX0_wrong 34 = .ok (.goto 10, 3) := dk_167 0 10 (dk_at dksX0_wrong_1 10 rfl rfl)
theorem dX0_wrong_37 : decode cX0_wrong 37 = .ok (.aload_n 0, 1) := dk_42 (dk_at dksX0_wrong_1 13 rfl rfl)
theorem dX0_wrong_38 : decode cX0_wrong 38 = .ok (.getfield 44, 3) := dk_180 0 44 (dk_at dksX0_wrong_1 14 rfl rfl)
theorem dX0_wrong_41 : decode cX0_wrong 41 = .ok (.invokevirtual 64, 3) := dk_182 0 64 (dk_at dksX0_wrong_1 17 rfl rfl)
theorem dX0_wrong_44 : decode cX0_wrong 44 = .ok (.ireturn, 1) := dk_172 (dk_at dksX0_wrong_1 20 rfl rfl)
theorem fl_X0_44_0 : gFL RX0 44 0 2 := gFL.mk (Cn := RX0) (T := TX0) (N := 7) (ref := "WorkflowEngine") rfl in_X0 (by decide) q767 rfl rfl (Or.inl rfl)
theorem hd_X15_reason : (yX15_reason.cls ≠ "java/lang/invoke/MethodHandle" ∧ yX15_reason.cls ≠ "java/lang/invoke/VarHandle" ∧ (parseMethodDescriptor yX15_reason.desc).map (fun d => d.parameters.length) = some 0) := ⟨by decide +kernel, by decide +kernel, by decide +kernel⟩
theorem hd_X15_place : (yX15_place.cls ≠ "java/lang/invoke/MethodHandle" ∧ yX15_place.cls ≠ "java/lang/invoke/VarHandle" ∧ (parseMethodDescriptor yX15_place.desc).map (fun d => d.parameters.length) = some 0) := ⟨by decide +kernel, by decide +kernel, by decide +kernel⟩
def f_X0_wrong (a0 : Nat) (p1 : Int32) (w0 : gw) : Option (Int32 × gw) := gB2 (f_X0_in p1 (nI 0) (nI 1) w0) fun x2 w1 => if x2 = 0 then some ((-1), w1) else gB1 (gR w1 a0 0 2) fun r4 => gNl r4 (some ((-5), w1)) (fun a6 => if p1 = 0 then gB1 (gR w1 a0 0 2) fun r12 => gB1 r12 fun a13 => gB1 (gOb w1 a13 15) fun _ => gB2 (f_X15_place a13  w1) fun x15 w14 => some (x15, w14) else gB1 (gR w1 a0 0 2) fun r8 => gB1 r8 fun a9 => gB1 (gOb w1 a9 15) fun _ => gB2 (f_X15_reason a9  w1) fun x11 w10 => some (x11, w10))
set_option maxHeartbeats 4000000 in
set_option maxRecDepth 100000 in
theorem k_X0_wrong {D : va_G} {dA : Nat → ClassId} {A : Nat → Prop} {K : Nat → Nat} {l : Launch} {h : Nat} (hh : 2 ≤ h) {a0 : Nat} {p1 : Int32} {w0 ww : gw} {rr : Int32} (hf : f_X0_wrong a0 p1 w0 = some (rr, ww)) : gMet D dA A K l yX0_wrong (ws_ yX0_wrong cX0_wrong 2 (some .int)) h [(ga (some a0)), (gi p1)] (some (gi rr)) w0 ww := by
  refine j_start (own := RX0) (by decide +kernel) rfl (Nat.le_of_ble_eq_true rfl) ?_
  intro p e R s m args below meth c C hr hin hw
  unfold f_X0_wrong at hf
  show gJ D dA A K p l e R s m args below meth c (gEnd D dA A K below args s w0 (some (gi rr)) ww) 2 0 [(0, (ga (some a0))), (1, (gi p1))] [] w0
  refine j_iload_n C dX0_wrong_0 rfl ?_
  refine j_iconst (v := (nI 0)) C dX0_wrong_1 (by decide) ?_
  refine j_iconst (v := (nI 1)) C dX0_wrong_2 (by decide) ?_
  replace hf := gB2_e hf
  obtain ⟨x2, w1, ew1, hf⟩ := hf
  refine j_callS (As := [(gi p1), (gi (nI 0)), (gi (nI 1))]) (rest := []) (v := (some (gi x2))) C (by omega) (k_X0_in (by omega) ew1) q138 q139 q91 q140 hd_X0_in (by decide) rfl (Nat.le_of_ble_eq_true rfl) dX0_wrong_3 ?_
  refine j_if_ne (tgt := 11) C dX0_wrong_6 (by decide) (fun c3 => ?_) (fun c3 => ?_)
  · replace hf := gIf_f hf c3
    refine j_aload_n C dX0_wrong_11 rfl ?_
    replace hf := gB1_e hf
    obtain ⟨r4, er4, hf⟩ := hf
    refine j_get C fl_X0_44_0 dX0_wrong_12 (gR_F er4) ?_
    refine j_ifnonnull (tgt := 23) C dX0_wrong_15 (by decide) (fun a6 c5 => ?_) (fun c5 => ?_)
    · subst c5
      replace hf := gNl_s hf
      refine j_iload_n C dX0_wrong_23 rfl ?_
      refine j_if_ne (tgt := 37) C dX0_wrong_24 (by decide) (fun c7 => ?_) (fun c7 => ?_)
      · replace hf := gIf_f hf c7
        refine j_aload_n C dX0_wrong_37 rfl ?_
        replace hf := gB1_e hf
        obtain ⟨r8, er8, hf⟩ := hf
        refine j_get C fl_X0_44_0 dX0_wrong_38 (gR_F er8) ?_
        replace hf := gB1_e hf
        obtain ⟨a9, ea9, hf⟩ := hf
        subst ea9
        replace hf := gB1_e hf
        obtain ⟨_, eo, hf⟩ := hf
        replace hf := gB2_e hf
        obtain ⟨x11, w10, ew10, hf⟩ := hf
        refine j_callV (As := []) (rest := []) (v := (some (gi x11))) C (by omega) (k_X15_reason (by omega) ew10) (gOb_e eo) rfl q623 q624 q625 q115 q626 ⟨rfl, hd_X15_reason⟩ (by decide) rfl (Nat.le_of_ble_eq_true rfl) dX0_wrong_41 ?_
        obtain ⟨rfl, rfl⟩ := gSome hf
        exact j_iret C hr hw dX0_wrong_44
      · replace hf := gIf_t hf c7
        refine j_aload_n C dX0_wrong_27 rfl ?_
        replace hf := gB1_e hf
        obtain ⟨r12, er12, hf⟩ := hf
        refine j_get C fl_X0_44_0 dX0_wrong_28 (gR_F er12) ?_
        replace hf := gB1_e hf
        obtain ⟨a13, ea13, hf⟩ := hf
        subst ea13
        replace hf := gB1_e hf
        obtain ⟨_, eo, hf⟩ := hf
        replace hf := gB2_e hf
        obtain ⟨x15, w14, ew14, hf⟩ := hf
        refine j_callV (As := []) (rest := []) (v := (some (gi x15))) C (by omega) (k_X15_place (by omega) ew14) (gOb_e eo) rfl q607 q608 q609 q115 q610 ⟨rfl, hd_X15_place⟩ (by decide) rfl (Nat.le_of_ble_eq_true rfl) dX0_wrong_31 ?_
        refine j_goto (tgt := 44) C dX0_wrong_34 (by decide) ?_
        obtain ⟨rfl, rfl⟩ := gSome hf
        exact j_iret C hr hw dX0_wrong_44
    · subst c5
      replace hf := gNl_n hf
      refine j_bipush (v := (-5)) C dX0_wrong_18 (by decide) ?_
      refine j_goto (tgt := 44) C dX0_wrong_20 (by decide) ?_
      obtain ⟨rfl, rfl⟩ := gSome hf
      exact j_iret C hr hw dX0_wrong_44
  · replace hf := gIf_t hf c3
    refine j_iconst (v := (-1)) C dX0_wrong_9 (by decide) ?_
    obtain ⟨rfl, rfl⟩ := gSome hf
    exact j_iret C hr hw dX0_wrong_10
def dkwX4_need_0 : List UInt8 := [27, 154, 0, 15, 187, 0, 26, 89, 42, 180, 0, 15, 183, 0, 28, 191, 177]
abbrev dktX4_need_0 : List UInt8 := dkwX4_need_0 ++ []
theorem dksX4_need_0 : cX4_need.data.toList.drop 0 = dktX4_need_0 := by decide +kernel
theorem dX4_need_0 : decode cX4_need 0 = .ok (.iload_n 1, 1) := dk_27 (dk_at dksX4_need_0 0 rfl rfl)
theorem dX4_need_1 : decode cX4_need 1 = .ok (.ifCond .ne 15, 3) := dk_154 0 15 (dk_at dksX4_need_0 1 rfl rfl)
theorem dX4_need_4 : decode cX4_need 4 = .ok (.new 26, 3) := dk_187 0 26 (dk_at dksX4_need_0 4 rfl rfl)
theorem dX4_need_7 : decode cX4_need 7 = .ok (.dup, 1) := dk_89 (dk_at dksX4_need_0 7 rfl rfl)
theorem dX4_need_8 : decode cX4_need 8 = .ok (.aload_n 0, 1) := dk_42 (dk_at dksX4_need_0 8 rfl rfl)
theorem dX4_need_9 : decode cX4_need 9 = .ok (.getfield 15, 3) := dk_180 0 15 (dk_at dksX4_need_0 9 rfl rfl)
theorem dX4_need_12 : decode cX4_need 12 = .ok (.invokespecial 28, 3) := dk_183 0 28 (dk_at dksX4_need_0 12 rfl rfl)
theorem dX4_need_15 : decode cX4_need 15 = .ok (.athrow, 1) := dk_191 (dk_at dksX4_need_0 15 rfl rfl)
theorem dX4_need_16 : decode cX4_need 16 = .ok (.return_, 1) := dk_177 (dk_at dksX4_need_0 16 rfl rfl)
theorem nl_X4_26 : gNL RX4 26 6 := ⟨RX6, TX6, 7, 7, tyX6, _, rfl, rfl, in_X6, tyX6_ok, q241, q242, q102, fun j hj => by rcases (show j = 0 ∨ j = 1 ∨ j = 2 ∨ j = 3 ∨ j = 4 ∨ j = 5 ∨ j = 6 by omega) with rfl | rfl | rfl | rfl | rfl | rfl | rfl <;> rfl⟩
theorem hd_X6_init : (yX6_init.cls ≠ "java/lang/invoke/MethodHandle" ∧ yX6_init.cls ≠ "java/lang/invoke/VarHandle" ∧ (parseMethodDescriptor yX6_init.desc).map (fun d => d.parameters.length) = some 1) := ⟨by decide +kernel, by decide +kernel, by decide +kernel⟩
def f_X4_need (a0 : Nat) (p1 : Int32) (w0 : gw) : Option (((Nat × Nat) ⊕ Unit) × gw) := if p1 = 0 then gB2 (gNew w0 6) fun a2 w3 => gB1 (gI w3 a0 4 0) fun x4 => gB2 (f_X6_init a2 x4 w3) fun _ w5 => gB1 (gKl w5 a2) fun n6 => some (.inl (a2, n6), w5) else some (.inr (), w0)
set_option maxHeartbeats 4000000 in
set_option maxRecDepth 100000 in
theorem k_X4_need {D : va_G} {dA : Nat → ClassId} {A : Nat → Prop} {K : Nat → Nat} {l : Launch} {h : Nat} (hh : 4 ≤ h) {a0 : Nat} {p1 : Int32} {w0 ww : gw} {rr : ((Nat × Nat) ⊕ Unit)} (hf : f_X4_need a0 p1 w0 = some (rr, ww)) : gMetX D dA A K l yX4_need (ws_ yX4_need cX4_need 2 none) h [(ga (some a0)), (gi p1)] (gXm (fun _ => none) rr) w0 ww := by
  refine x_start (own := RX4) (by decide +kernel) rfl (Nat.le_of_ble_eq_true rfl) ?_
  intro p e R s m args below meth c C hr ht hw
  unfold f_X4_need at hf
  show gJ D dA A K p l e R s m args below meth c (gEndX D dA A K below args s w0 (gXm (fun _ => none) rr) ww) 2 0 [(0, (ga (some a0))), (1, (gi p1))] [] w0
  refine j_iload_n C dX4_need_0 rfl ?_
  refine j_if_ne (tgt := 16) C dX4_need_1 (by decide) (fun c1 => ?_) (fun c1 => ?_)
  · replace hf := gIf_f hf c1
    obtain ⟨rfl, rfl⟩ := gSome hf
    exact x_ret (j_vret C hr hw dX4_need_16)
  · replace hf := gIf_t hf c1
    replace hf := gB2_e hf
    obtain ⟨a2, w3, ew3, hf⟩ := hf
    refine j_new C nl_X4_26 ew3 dX4_need_4 ?_
    refine j_dup C dX4_need_7 ?_
    refine j_aload_n C dX4_need_8 rfl ?_
    replace hf := gB1_e hf
    obtain ⟨x4, ex4, hf⟩ := hf
    refine j_get C fl_X4_15_4 dX4_need_9 (gI_F ex4) ?_
    replace hf := gB2_e hf
    obtain ⟨_, w5, ew5, hf⟩ := hf
    refine j_callI (As := [(gi x4)]) (rest := [(ga (some a2))]) C (by omega) (k_X6_init (by omega) ew5) rfl q280 q281 q102 q282 hd_X6_init (by decide) rfl (Nat.le_of_ble_eq_true rfl) dX4_need_12 ?_
    replace hf := gB1_e hf
    obtain ⟨n6, en6, hf⟩ := hf
    refine x_athrow C en6 dX4_need_15 ?_
    obtain ⟨rfl, rfl⟩ := gSome hf
    exact x_out C ht (by decide +kernel) hw
def dkwX4_limits_0 : List UInt8 := [27, 154, 0, 15, 187, 0, 31, 89, 42, 180, 0, 15, 183, 0, 33, 191, 177]
abbrev dktX4_limits_0 : List UInt8 := dkwX4_limits_0 ++ []
theorem dksX4_limits_0 : cX4_limits.data.toList.drop 0 = dktX4_limits_0 := by decide +kernel
theorem dX4_limits_0 : decode cX4_limits 0 = .ok (.iload_n 1, 1) := dk_27 (dk_at dksX4_limits_0 0 rfl rfl)
theorem dX4_limits_1 : decode cX4_limits 1 = .ok (.ifCond .ne 15, 3) := dk_154 0 15 (dk_at dksX4_limits_0 1 rfl rfl)
theorem dX4_limits_4 : decode cX4_limits 4 = .ok (.new 31, 3) := dk_187 0 31 (dk_at dksX4_limits_0 4 rfl rfl)
theorem dX4_limits_7 : decode cX4_limits 7 = .ok (.dup, 1) := dk_89 (dk_at dksX4_limits_0 7 rfl rfl)
theorem dX4_limits_8 : decode cX4_limits 8 = .ok (.aload_n 0, 1) := dk_42 (dk_at dksX4_limits_0 8 rfl rfl)
theorem dX4_limits_9 : decode cX4_limits 9 = .ok (.getfield 15, 3) := dk_180 0 15 (dk_at dksX4_limits_0 9 rfl rfl)
theorem dX4_limits_12 : decode cX4_limits 12 = .ok (.invokespecial 33, 3) := dk_183 0 33 (dk_at dksX4_limits_0 12 rfl rfl)
theorem dX4_limits_15 : decode cX4_limits 15 = .ok (.athrow, 1) := dk_191 (dk_at dksX4_limits_0 15 rfl rfl)
theorem dX4_limits_16 : decode cX4_limits 16 = .ok (.return_, 1) := dk_177 (dk_at dksX4_limits_0 16 rfl rfl)
theorem nl_X4_31 : gNL RX4 31 7 := ⟨RX7, TX7, 7, 7, tyX7, _, rfl, rfl, in_X7, tyX7_ok, q310, q311, q103, fun j hj => by rcases (show j = 0 ∨ j = 1 ∨ j = 2 ∨ j = 3 ∨ j = 4 ∨ j = 5 ∨ j = 6 by omega) with rfl | rfl | rfl | rfl | rfl | rfl | rfl <;> rfl⟩
theorem hd_X7_init : (yX7_init.cls ≠ "java/lang/invoke/MethodHandle" ∧ yX7_init.cls ≠ "java/lang/invoke/VarHandle" ∧ (parseMethodDescriptor yX7_init.desc).map (fun d => d.parameters.length) = some 1) := ⟨by decide +kernel, by decide +kernel, by decide +kernel⟩
def f_X4_limits (a0 : Nat) (p1 : Int32) (w0 : gw) : Option (((Nat × Nat) ⊕ Unit) × gw) := if p1 = 0 then gB2 (gNew w0 7) fun a2 w3 => gB1 (gI w3 a0 4 0) fun x4 => gB2 (f_X7_init a2 x4 w3) fun _ w5 => gB1 (gKl w5 a2) fun n6 => some (.inl (a2, n6), w5) else some (.inr (), w0)
set_option maxHeartbeats 4000000 in
set_option maxRecDepth 100000 in
theorem k_X4_limits {D : va_G} {dA : Nat → ClassId} {A : Nat → Prop} {K : Nat → Nat} {l : Launch} {h : Nat} (hh : 4 ≤ h) {a0 : Nat} {p1 : Int32} {w0 ww : gw} {rr : ((Nat × Nat) ⊕ Unit)} (hf : f_X4_limits a0 p1 w0 = some (rr, ww)) : gMetX D dA A K l yX4_limits (ws_ yX4_limits cX4_limits 2 none) h [(ga (some a0)), (gi p1)] (gXm (fun _ => none) rr) w0 ww := by
  refine x_start (own := RX4) (by decide +kernel) rfl (Nat.le_of_ble_eq_true rfl) ?_
  intro p e R s m args below meth c C hr ht hw
  unfold f_X4_limits at hf
  show gJ D dA A K p l e R s m args below meth c (gEndX D dA A K below args s w0 (gXm (fun _ => none) rr) ww) 2 0 [(0, (ga (some a0))), (1, (gi p1))] [] w0
  refine j_iload_n C dX4_limits_0 rfl ?_
  refine j_if_ne (tgt := 16) C dX4_limits_1 (by decide) (fun c1 => ?_) (fun c1 => ?_)
  · replace hf := gIf_f hf c1
    obtain ⟨rfl, rfl⟩ := gSome hf
    exact x_ret (j_vret C hr hw dX4_limits_16)
  · replace hf := gIf_t hf c1
    replace hf := gB2_e hf
    obtain ⟨a2, w3, ew3, hf⟩ := hf
    refine j_new C nl_X4_31 ew3 dX4_limits_4 ?_
    refine j_dup C dX4_limits_7 ?_
    refine j_aload_n C dX4_limits_8 rfl ?_
    replace hf := gB1_e hf
    obtain ⟨x4, ex4, hf⟩ := hf
    refine j_get C fl_X4_15_4 dX4_limits_9 (gI_F ex4) ?_
    replace hf := gB2_e hf
    obtain ⟨_, w5, ew5, hf⟩ := hf
    refine j_callI (As := [(gi x4)]) (rest := [(ga (some a2))]) C (by omega) (k_X7_init (by omega) ew5) rfl q319 q320 q103 q321 hd_X7_init (by decide) rfl (Nat.le_of_ble_eq_true rfl) dX4_limits_12 ?_
    replace hf := gB1_e hf
    obtain ⟨n6, en6, hf⟩ := hf
    refine x_athrow C en6 dX4_limits_15 ?_
    obtain ⟨rfl, rfl⟩ := gSome hf
    exact x_out C ht (by decide +kernel) hw
def dkwX4_takes_1 : List UInt8 := [180, 0, 3, 180, 0, 22, 42, 180, 0, 15, 4, 100, 51, 27, 100, 172]
abbrev dktX4_takes_1 : List UInt8 := dkwX4_takes_1 ++ []
def dkwX4_takes_0 : List UInt8 := [42, 42, 182, 0, 34, 27, 28, 184, 0, 38, 182, 0, 42, 42, 89, 180, 0, 15, 4, 96, 181, 0, 15, 42]
abbrev dktX4_takes_0 : List UInt8 := dkwX4_takes_0 ++ dktX4_takes_1
theorem dksX4_takes_0 : cX4_takes.data.toList.drop 0 = dktX4_takes_0 := by decide +kernel
theorem dksX4_takes_1 : cX4_takes.data.toList.drop 24 = dktX4_takes_1 := dk_seg dksX4_takes_0 24 rfl rfl
theorem dX4_takes_0 : decode cX4_takes 0 = .ok (.aload_n 0, 1) := dk_42 (dk_at dksX4_takes_0 0 rfl rfl)
theorem dX4_takes_1 : decode cX4_takes 1 = .ok (.aload_n 0, 1) := dk_42 (dk_at dksX4_takes_0 1 rfl rfl)
theorem dX4_takes_2 : decode cX4_takes 2 = .ok (.invokevirtual 34, 3) := dk_182 0 34 (dk_at dksX4_takes_0 2 rfl rfl)
theorem dX4_takes_5 : decode cX4_takes 5 = .ok (.iload_n 1, 1) := dk_27 (dk_at dksX4_takes_0 5 rfl rfl)
theorem dX4_takes_6 : decode cX4_takes 6 = .ok (.iload_n 2, 1) := dk_28 (dk_at dksX4_takes_0 6 rfl rfl)
theorem dX4_takes_7 : decode cX4_takes 7 = .ok (.invokestatic 38, 3) := dk_184 0 38 (dk_at dksX4_takes_0 7 rfl rfl)
theorem dX4_takes_10 : decode cX4_takes 10 = .ok (.invokevirtual 42, 3) := dk_182 0 42 (dk_at dksX4_takes_0 10 rfl rfl)
theorem dX4_takes_13 : decode cX4_takes 13 = .ok (.aload_n 0, 1) := dk_42 (dk_at dksX4_takes_0 13 rfl rfl)
theorem dX4_takes_14 : decode cX4_takes 14 = .ok (.dup, 1) := dk_89 (dk_at dksX4_takes_0 14 rfl rfl)
theorem dX4_takes_15 : decode cX4_takes 15 = .ok (.getfield 15, 3) := dk_180 0 15 (dk_at dksX4_takes_0 15 rfl rfl)
theorem dX4_takes_18 : decode cX4_takes 18 = .ok (.iconst 1, 1) := dk_4 (dk_at dksX4_takes_0 18 rfl rfl)
theorem dX4_takes_19 : decode cX4_takes 19 = .ok (.iadd, 1) := dk_96 (dk_at dksX4_takes_0 19 rfl rfl)
theorem dX4_takes_20 : decode cX4_takes 20 = .ok (.putfield 15, 3) := dk_181 0 15 (dk_at dksX4_takes_0 20 rfl rfl)
theorem dX4_takes_23 : decode cX4_takes 23 = .ok (.aload_n 0, 1) := dk_42 (dk_at dksX4_takes_0 23 rfl rfl)
theorem dX4_takes_24 : decode cX4_takes 24 = .ok (.getfield 3, 3) := dk_180 0 3 (dk_at dksX4_takes_1 0 rfl rfl)
theorem dX4_takes_27 : decode cX4_takes 27 = .ok (.getfield 22, 3) := dk_180 0 22 (dk_at dksX4_takes_1 3 rfl rfl)
theorem dX4_takes_30 : decode cX4_takes 30 = .ok (.aload_n 0, 1) := dk_42 (dk_at dksX4_takes_1 6 rfl rfl)
theorem dX4_takes_31 : decode cX4_takes 31 = .ok (.getfield 15, 3) := dk_180 0 15 (dk_at dksX4_takes_1 7 rfl rfl)
theorem dX4_takes_34 : decode cX4_takes 34 = .ok (.iconst 1, 1) := dk_4 (dk_at dksX4_takes_1 10 rfl rfl)
theorem dX4_takes_35 : decode cX4_takes 35 = .ok (.isub, 1) := dk_100 (dk_at dksX4_takes_1 11 rfl rfl)
theorem dX4_takes_36 : decode cX4_takes 36 = .ok (.baload, 1) := dk_51 (dk_at dksX4_takes_1 12 rfl rfl)
theorem dX4_takes_37 : decode cX4_takes 37 = .ok (.iload_n 1, 1) := dk_27 (dk_at dksX4_takes_1 13 rfl rfl)
theorem dX4_takes_38 : decode cX4_takes 38 = .ok (.isub, 1) := dk_100 (dk_at dksX4_takes_1 14 rfl rfl)
theorem dX4_takes_39 : decode cX4_takes 39 = .ok (.ireturn, 1) := dk_172 (dk_at dksX4_takes_1 15 rfl rfl)
theorem hd_X4_need : (yX4_need.cls ≠ "java/lang/invoke/MethodHandle" ∧ yX4_need.cls ≠ "java/lang/invoke/VarHandle" ∧ (parseMethodDescriptor yX4_need.desc).map (fun d => d.parameters.length) = some 1) := ⟨by decide +kernel, by decide +kernel, by decide +kernel⟩
def f_X4_takes (a0 : Nat) (p1 : Int32) (p2 : Int32) (w0 : gw) : Option (((Nat × Nat) ⊕ Int32) × gw) := gB1 (gOb w0 a0 4) fun _ => gB2 (f_X4_sign a0  w0) fun x2 w1 => gB2 (f_X0_in x2 p1 p2 w1) fun x4 w3 => gB1 (gOb w3 a0 4) fun _ => gB2X (f_X4_need a0 x4 w3) (fun q6 n7 w8 => some (.inl (q6, n7), w8)) fun _ w5 => gB1 (gI w5 a0 4 0) fun x9 => gB1 (gPut w5 a0 4 0 (gi (x9 + (nI 1)))) fun w10 => gB1 (gR w10 a0 4 3) fun r11 => gB1 r11 fun a12 => gB1 (gR w10 a12 0 0) fun r13 => gB1 (gI w10 a0 4 0) fun x14 => gB1 r13 fun a15 => gB1 (gLdI w10 a15 1 (x14 - (nI 1))) fun x16 => some (.inr (x16 - p1), w10)
set_option maxHeartbeats 4000000 in
set_option maxRecDepth 100000 in
theorem k_X4_takes {D : va_G} {dA : Nat → ClassId} {A : Nat → Prop} {K : Nat → Nat} {l : Launch} {h : Nat} (hh : 5 ≤ h) {a0 : Nat} {p1 : Int32} {p2 : Int32} {w0 ww : gw} {rr : ((Nat × Nat) ⊕ Int32)} (hf : f_X4_takes a0 p1 p2 w0 = some (rr, ww)) : gMetX D dA A K l yX4_takes (ws_ yX4_takes cX4_takes 3 (some .int)) h [(ga (some a0)), (gi p1), (gi p2)] (gXm (fun r => some (gi r)) rr) w0 ww := by
  refine x_start (own := RX4) (by decide +kernel) rfl (Nat.le_of_ble_eq_true rfl) ?_
  intro p e R s m args below meth c C hr ht hw
  unfold f_X4_takes at hf
  show gJ D dA A K p l e R s m args below meth c (gEndX D dA A K below args s w0 (gXm (fun r => some (gi r)) rr) ww) 3 0 [(0, (ga (some a0))), (1, (gi p1)), (2, (gi p2))] [] w0
  refine j_aload_n C dX4_takes_0 rfl ?_
  refine j_aload_n C dX4_takes_1 rfl ?_
  replace hf := gB1_e hf
  obtain ⟨_, eo, hf⟩ := hf
  replace hf := gB2_e hf
  obtain ⟨x2, w1, ew1, hf⟩ := hf
  refine j_callV (As := []) (rest := [(ga (some a0))]) (v := (some (gi x2))) C (by omega) (k_X4_sign (by omega) ew1) (gOb_e eo) rfl q233 q235 qs4 q95 q236 ⟨rfl, hd_X4_sign⟩ (by decide) rfl (Nat.le_of_ble_eq_true rfl) dX4_takes_2 ?_
  refine j_iload_n C dX4_takes_5 rfl ?_
  refine j_iload_n C dX4_takes_6 rfl ?_
  replace hf := gB2_e hf
  obtain ⟨x4, w3, ew3, hf⟩ := hf
  refine j_callSN (As := [(gi x2), (gi p1), (gi p2)]) (rest := [(ga (some a0))]) (v := (some (gi x4))) C (by omega) (k_X0_in (by omega) ew3) nq341 q139 q91 q140 hd_X0_in (by decide) rfl (Nat.le_of_ble_eq_true rfl) dX4_takes_7 ?_
  replace hf := gB1_e hf
  obtain ⟨_, eo, hf⟩ := hf
  replace hf := gB2X_e hf
  rcases hf with ⟨q6, n7, w8, ew8, hf⟩ | ⟨_, w5, ew5, hf⟩
  · refine x_callV_t (As := [(gi x4)]) (rest := []) C (by omega) (k_X4_need (by omega) ew8) (gOb_e eo) rfl q237 q239 qs5 q95 q240 ⟨rfl, hd_X4_need⟩ (by decide) rfl (Nat.le_of_ble_eq_true rfl) dX4_takes_10 ?_
    obtain ⟨rfl, rfl⟩ := gSome hf
    exact x_out C ht (by decide +kernel) hw
  refine x_callV_r (As := [(gi x4)]) (rest := []) (v := none) C (by omega) (k_X4_need (by omega) ew5) (gOb_e eo) rfl q237 q239 qs5 q95 q240 ⟨rfl, hd_X4_need⟩ (by decide) rfl (Nat.le_of_ble_eq_true rfl) dX4_takes_10 ?_
  refine j_aload_n C dX4_takes_13 rfl ?_
  refine j_dup C dX4_takes_14 ?_
  replace hf := gB1_e hf
  obtain ⟨x9, ex9, hf⟩ := hf
  refine j_get C fl_X4_15_4 dX4_takes_15 (gI_F ex9) ?_
  refine j_iconst (v := (nI 1)) C dX4_takes_18 (by decide) ?_
  refine j_iadd C dX4_takes_19 ?_
  replace hf := gB1_e hf
  obtain ⟨w10, ew10, hf⟩ := hf
  refine j_put C fl_X4_15_4 tb_4 ew10 fk_4_0 (fit_I (x9 + (nI 1))) dX4_takes_20 ?_
  refine j_aload_n C dX4_takes_23 rfl ?_
  replace hf := gB1_e hf
  obtain ⟨r11, er11, hf⟩ := hf
  refine j_get C fl_X4_3_4 dX4_takes_24 (gR_F er11) ?_
  replace hf := gB1_e hf
  obtain ⟨a12, ea12, hf⟩ := hf
  subst ea12
  replace hf := gB1_e hf
  obtain ⟨r13, er13, hf⟩ := hf
  refine j_get C fl_X4_22_0 dX4_takes_27 (gR_F er13) ?_
  refine j_aload_n C dX4_takes_30 rfl ?_
  replace hf := gB1_e hf
  obtain ⟨x14, ex14, hf⟩ := hf
  refine j_get C fl_X4_15_4 dX4_takes_31 (gI_F ex14) ?_
  refine j_iconst (v := (nI 1)) C dX4_takes_34 (by decide) ?_
  refine j_isub C dX4_takes_35 ?_
  replace hf := gB1_e hf
  obtain ⟨a15, ea15, hf⟩ := hf
  subst ea15
  replace hf := gB1_e hf
  obtain ⟨x16, ex16, hf⟩ := hf
  refine j_bald C ex16 dX4_takes_36 ?_
  refine j_iload_n C dX4_takes_37 rfl ?_
  refine j_isub C dX4_takes_38 ?_
  obtain ⟨rfl, rfl⟩ := gSome hf
  exact x_ret (j_iret C hr hw dX4_takes_39)
def dkwX4_code_0 : List UInt8 := [42, 16, 97, 16, 104, 182, 0, 50, 172]
abbrev dktX4_code_0 : List UInt8 := dkwX4_code_0 ++ []
theorem dksX4_code_0 : cX4_code.data.toList.drop 0 = dktX4_code_0 := by decide +kernel
theorem dX4_code_0 : decode cX4_code 0 = .ok (.aload_n 0, 1) := dk_42 (dk_at dksX4_code_0 0 rfl rfl)
theorem dX4_code_1 : decode cX4_code 1 = .ok (.bipush 97, 2) := dk_16 97 (dk_at dksX4_code_0 1 rfl rfl)
theorem dX4_code_3 : decode cX4_code 3 = .ok (.bipush 104, 2) := dk_16 104 (dk_at dksX4_code_0 3 rfl rfl)
theorem dX4_code_5 : decode cX4_code 5 = .ok (.invokevirtual 50, 3) := dk_182 0 50 (dk_at dksX4_code_0 5 rfl rfl)
theorem dX4_code_8 : decode cX4_code 8 = .ok (.ireturn, 1) := dk_172 (dk_at dksX4_code_0 8 rfl rfl)
theorem hd_X4_takes : (yX4_takes.cls ≠ "java/lang/invoke/MethodHandle" ∧ yX4_takes.cls ≠ "java/lang/invoke/VarHandle" ∧ (parseMethodDescriptor yX4_takes.desc).map (fun d => d.parameters.length) = some 2) := ⟨by decide +kernel, by decide +kernel, by decide +kernel⟩
def f_X4_code (a0 : Nat) (w0 : gw) : Option (((Nat × Nat) ⊕ Int32) × gw) := gB1 (gOb w0 a0 4) fun _ => gB2X (f_X4_takes a0 (nI 97) (nI 104) w0) (fun q3 n4 w5 => some (.inl (q3, n4), w5)) fun x6 w1 => some (.inr x6, w1)
set_option maxHeartbeats 4000000 in
set_option maxRecDepth 100000 in
theorem k_X4_code {D : va_G} {dA : Nat → ClassId} {A : Nat → Prop} {K : Nat → Nat} {l : Launch} {h : Nat} (hh : 6 ≤ h) {a0 : Nat} {w0 ww : gw} {rr : ((Nat × Nat) ⊕ Int32)} (hf : f_X4_code a0 w0 = some (rr, ww)) : gMetX D dA A K l yX4_code (ws_ yX4_code cX4_code 1 (some .int)) h [(ga (some a0))] (gXm (fun r => some (gi r)) rr) w0 ww := by
  refine x_start (own := RX4) (by decide +kernel) rfl (Nat.le_of_ble_eq_true rfl) ?_
  intro p e R s m args below meth c C hr ht hw
  unfold f_X4_code at hf
  show gJ D dA A K p l e R s m args below meth c (gEndX D dA A K below args s w0 (gXm (fun r => some (gi r)) rr) ww) 1 0 [(0, (ga (some a0)))] [] w0
  refine j_aload_n C dX4_code_0 rfl ?_
  refine j_bipush (v := (nI 97)) C dX4_code_1 (by decide) ?_
  refine j_bipush (v := (nI 104)) C dX4_code_3 (by decide) ?_
  replace hf := gB1_e hf
  obtain ⟨_, eo, hf⟩ := hf
  replace hf := gB2X_e hf
  rcases hf with ⟨q3, n4, w5, ew5, hf⟩ | ⟨x6, w1, ew1, hf⟩
  · refine x_callV_t (As := [(gi (nI 97)), (gi (nI 104))]) (rest := []) C (by omega) (k_X4_takes (by omega) ew5) (gOb_e eo) rfl q337 q339 qs10 q95 q340 ⟨rfl, hd_X4_takes⟩ (by decide) rfl (Nat.le_of_ble_eq_true rfl) dX4_code_5 ?_
    obtain ⟨rfl, rfl⟩ := gSome hf
    exact x_out C ht (by decide +kernel) hw
  refine x_callV_r (As := [(gi (nI 97)), (gi (nI 104))]) (rest := []) (v := (some (gi x6))) C (by omega) (k_X4_takes (by omega) ew1) (gOb_e eo) rfl q337 q339 qs10 q95 q340 ⟨rfl, hd_X4_takes⟩ (by decide) rfl (Nat.le_of_ble_eq_true rfl) dX4_code_5 ?_
  obtain ⟨rfl, rfl⟩ := gSome hf
  exact x_ret (j_iret C hr hw dX4_code_8)
def dkwX4_number_2 : List UInt8 := [132, 2, 1, 167, 255, 216, 27, 172]
abbrev dktX4_number_2 : List UInt8 := dkwX4_number_2 ++ []
def dkwX4_number_1 : List UInt8 := [16, 48, 16, 57, 184, 0, 38, 153, 0, 23, 16, 10, 27, 104, 42, 16, 48, 16, 57, 182, 0, 50, 96, 60]
abbrev dktX4_number_1 : List UInt8 := dkwX4_number_1 ++ dktX4_number_2
def dkwX4_number_0 : List UInt8 := [42, 16, 48, 16, 57, 182, 0, 50, 60, 4, 61, 28, 6, 162, 0, 41, 27, 158, 0, 37, 42, 182, 0, 34]
abbrev dktX4_number_0 : List UInt8 := dkwX4_number_0 ++ dktX4_number_1
theorem dksX4_number_0 : cX4_number.data.toList.drop 0 = dktX4_number_0 := by decide +kernel
theorem dksX4_number_1 : cX4_number.data.toList.drop 24 = dktX4_number_1 := dk_seg dksX4_number_0 24 rfl rfl
theorem dksX4_number_2 : cX4_number.data.toList.drop 48 = dktX4_number_2 := dk_seg dksX4_number_1 24 rfl rfl
theorem dX4_number_0 : decode cX4_number 0 = .ok (.aload_n 0, 1) := dk_42 (dk_at dksX4_number_0 0 rfl rfl)
theorem dX4_number_1 : decode cX4_number 1 = .ok (.bipush 48, 2) := dk_16 48 (dk_at dksX4_number_0 1 rfl rfl)
theorem dX4_number_3 : decode cX4_number 3 = .ok (.bipush 57, 2) := dk_16 57 (dk_at dksX4_number_0 3 rfl rfl)
theorem dX4_number_5 : decode cX4_number 5 = .ok (.invokevirtual 50, 3) := dk_182 0 50 (dk_at dksX4_number_0 5 rfl rfl)
theorem dX4_number_8 : decode cX4_number 8 = .ok (.istore_n 1, 1) := dk_60 (dk_at dksX4_number_0 8 rfl rfl)
theorem dX4_number_9 : decode cX4_number 9 = .ok (.iconst 1, 1) := dk_4 (dk_at dksX4_number_0 9 rfl rfl)
theorem dX4_number_10 : decode cX4_number 10 = .ok (.istore_n 2, 1) := dk_61 (dk_at dksX4_number_0 10 rfl rfl)
theorem dX4_number_11 : decode cX4_number 11 = .ok (.iload_n 2, 1) := dk_28 (dk_at dksX4_number_0 11 rfl rfl)
theorem dX4_number_12 : decode cX4_number 12 = .ok (.iconst 3, 1) := dk_6 (dk_at dksX4_number_0 12 rfl rfl)
theorem dX4_number_13 : decode cX4_number 13 = .ok (.if_icmp .ge 41, 3) := dk_162 0 41 (dk_at dksX4_number_0 13 rfl rfl)
theorem dX4_number_16 : decode cX4_number 16 = .ok (.iload_n 1, 1) := dk_27 (dk_at dksX4_number_0 16 rfl rfl)
theorem dX4_number_17 : decode cX4_number 17 = .ok (.ifCond .le 37, 3) := dk_158 0 37 (dk_at dksX4_number_0 17 rfl rfl)
theorem dX4_number_20 : decode cX4_number 20 = .ok (.aload_n 0, 1) := dk_42 (dk_at dksX4_number_0 20 rfl rfl)
theorem dX4_number_21 : decode cX4_number 21 = .ok (.invokevirtual 34, 3) := dk_182 0 34 (dk_at dksX4_number_0 21 rfl rfl)
theorem dX4_number_24 : decode cX4_number 24 = .ok (.bipush 48, 2) := dk_16 48 (dk_at dksX4_number_1 0 rfl rfl)
theorem dX4_number_26 : decode cX4_number 26 = .ok (.bipush 57, 2) := dk_16 57 (dk_at dksX4_number_1 2 rfl rfl)
theorem dX4_number_28 : decode cX4_number 28 = .ok (.invokestatic 38, 3) := dk_184 0 38 (dk_at dksX4_number_1 4 rfl rfl)
theorem dX4_number_31 : decode cX4_number 31 = .ok (.ifCond .eq 23, 3) := dk_153 0 23 (dk_at dksX4_number_1 7 rfl rfl)
theorem dX4_number_34 : decode cX4_number 34 = .ok (.bipush 10, 2) := dk_16 10 (dk_at dksX4_number_1 10 rfl rfl)
theorem dX4_number_36 : decode cX4_number 36 = .ok (.iload_n 1, 1) := dk_27 (dk_at dksX4_number_1 12 rfl rfl)
theorem dX4_number_37 : decode cX4_number 37 = .ok (.imul, 1) := dk_104 (dk_at dksX4_number_1 13 rfl rfl)
theorem dX4_number_38 : decode cX4_number 38 = .ok (.aload_n 0, 1) := dk_42 (dk_at dksX4_number_1 14 rfl rfl)
theorem dX4_number_39 : decode cX4_number 39 = .ok (.bipush 48, 2) := dk_16 48 (dk_at dksX4_number_1 15 rfl rfl)
theorem dX4_number_41 : decode cX4_number 41 = .ok (.bipush 57, 2) := dk_16 57 (dk_at dksX4_number_1 17 rfl rfl)
theorem dX4_number_43 : decode cX4_number 43 = .ok (.invokevirtual 50, 3) := dk_182 0 50 (dk_at dksX4_number_1 19 rfl rfl)
theorem dX4_number_46 : decode cX4_number 46 = .ok (.iadd, 1) := dk_96 (dk_at dksX4_number_1 22 rfl rfl)
theorem dX4_number_47 : decode cX4_number 47 = .ok (.istore_n 1, 1) := dk_60 (dk_at dksX4_number_1 23 rfl rfl)
theorem dX4_number_48 : decode cX4_number 48 = .ok (.iinc 2 1, 3) := dk_132 2 1 (dk_at dksX4_number_2 0 rfl rfl)
theorem dX4_number_51 : decode cX4_number 51 = .ok (.goto (-40), 3) := dk_167 255 216 (dk_at dksX4_number_2 3 rfl rfl)
theorem dX4_number_54 : decode cX4_number 54 = .ok (.iload_n 1, 1) := dk_27 (dk_at dksX4_number_2 6 rfl rfl)
theorem dX4_number_55 : decode cX4_number 55 = .ok (.ireturn, 1) := dk_172 (dk_at dksX4_number_2 7 rfl rfl)
def f_X4_number (a0 : Nat) (w0 : gw) : Option (((Nat × Nat) ⊕ Int32) × gw) := gB1 (gOb w0 a0 4) fun _ => gB2X (f_X4_takes a0 (nI 48) (nI 57) w0) (fun q3 n4 w5 => some (.inl (q3, n4), w5)) fun x6 w1 => gL2 (fun k10 (x8 : Int32) (x9 : Int32) (w7 : gw) => if (nI 3) ≤ x9 then some (.inr x8, w7) else if x8 ≤ 0 then some (.inr x8, w7) else gB1 (gOb w7 a0 4) fun _ => gB2 (f_X4_sign a0  w7) fun x14 w13 => gB2 (f_X0_in x14 (nI 48) (nI 57) w13) fun x16 w15 => if x16 = 0 then some (.inr x8, w15) else gB1 (gOb w15 a0 4) fun _ => gB2X (f_X4_takes a0 (nI 48) (nI 57) w15) (fun q20 n21 w22 => some (.inl (q20, n21), w22)) fun x23 w18 => gBd (((nI 10) * x8) + x23) fun x24 => gBd (x9 + (nI 1)) fun x25 => k10 x24 x25 w18) 20000 x6 (nI 1) w1
set_option maxHeartbeats 4000000 in
set_option maxRecDepth 100000 in
theorem k_X4_number {D : va_G} {dA : Nat → ClassId} {A : Nat → Prop} {K : Nat → Nat} {l : Launch} {h : Nat} (hh : 6 ≤ h) {a0 : Nat} {w0 ww : gw} {rr : ((Nat × Nat) ⊕ Int32)} (hf : f_X4_number a0 w0 = some (rr, ww)) : gMetX D dA A K l yX4_number (ws_ yX4_number cX4_number 3 (some .int)) h [(ga (some a0))] (gXm (fun r => some (gi r)) rr) w0 ww := by
  refine x_start (own := RX4) (by decide +kernel) rfl (Nat.le_of_ble_eq_true rfl) ?_
  intro p e R s m args below meth c C hr ht hw
  unfold f_X4_number at hf
  show gJ D dA A K p l e R s m args below meth c (gEndX D dA A K below args s w0 (gXm (fun r => some (gi r)) rr) ww) 3 0 [(0, (ga (some a0)))] [] w0
  refine j_aload_n C dX4_number_0 rfl ?_
  refine j_bipush (v := (nI 48)) C dX4_number_1 (by decide) ?_
  refine j_bipush (v := (nI 57)) C dX4_number_3 (by decide) ?_
  replace hf := gB1_e hf
  obtain ⟨_, eo, hf⟩ := hf
  replace hf := gB2X_e hf
  rcases hf with ⟨q3, n4, w5, ew5, hf⟩ | ⟨x6, w1, ew1, hf⟩
  · refine x_callV_t (As := [(gi (nI 48)), (gi (nI 57))]) (rest := []) C (by omega) (k_X4_takes (by omega) ew5) (gOb_e eo) rfl q337 q339 qs10 q95 q340 ⟨rfl, hd_X4_takes⟩ (by decide) rfl (Nat.le_of_ble_eq_true rfl) dX4_number_5 ?_
    obtain ⟨rfl, rfl⟩ := gSome hf
    exact x_out C ht (by decide +kernel) hw
  refine x_callV_r (As := [(gi (nI 48)), (gi (nI 57))]) (rest := []) (v := (some (gi x6))) C (by omega) (k_X4_takes (by omega) ew1) (gOb_e eo) rfl q337 q339 qs10 q95 q340 ⟨rfl, hd_X4_takes⟩ (by decide) rfl (Nat.le_of_ble_eq_true rfl) dX4_number_5 ?_
  refine j_istore_n (lv' := [(1, (gi x6)), (0, (ga (some a0)))]) C dX4_number_8 (by decide) rfl ?_
  refine j_iconst (v := (nI 1)) C dX4_number_9 (by decide) ?_
  refine j_istore_n (lv' := [(2, (gi (nI 1))), (1, (gi x6)), (0, (ga (some a0)))]) C dX4_number_10 (by decide) rfl ?_
  refine j_sub (lv' := [(0, (ga (some a0))), (1, (gi x6)), (2, (gi (nI 1)))]) (gL_cons rfl (gL_cons rfl (gL_cons rfl (gL_nil)))) ?_
  refine gL2_e (fun (x8 : Int32) (x9 : Int32) (w7 : gw) => gJ D dA A K p l e R s m args below meth c (gEndX D dA A K below args s w0 (gXm (fun r => some (gi r)) rr) ww) 3 11 [(0, (ga (some a0))), (1, (gi x8)), (2, (gi x9))] [] w7) ?_ _ _ _ _ hf
  intro k10 jk10 x8 x9 w7 hf
  refine j_iload_n C dX4_number_11 rfl ?_
  refine j_iconst (v := (nI 3)) C dX4_number_12 (by decide) ?_
  refine j_icmp_ge (tgt := 54) C dX4_number_13 (by decide) (fun c11 => ?_) (fun c11 => ?_)
  · replace hf := gIf_t hf c11
    refine j_iload_n C dX4_number_54 rfl ?_
    obtain ⟨rfl, rfl⟩ := gSome hf
    exact x_ret (j_iret C hr hw dX4_number_55)
  · replace hf := gIf_f hf c11
    refine j_iload_n C dX4_number_16 rfl ?_
    refine j_if_le (tgt := 54) C dX4_number_17 (by decide) (fun c12 => ?_) (fun c12 => ?_)
    · replace hf := gIf_t hf c12
      refine j_iload_n C dX4_number_54 rfl ?_
      obtain ⟨rfl, rfl⟩ := gSome hf
      exact x_ret (j_iret C hr hw dX4_number_55)
    · replace hf := gIf_f hf c12
      refine j_aload_n C dX4_number_20 rfl ?_
      replace hf := gB1_e hf
      obtain ⟨_, eo, hf⟩ := hf
      replace hf := gB2_e hf
      obtain ⟨x14, w13, ew13, hf⟩ := hf
      refine j_callV (As := []) (rest := []) (v := (some (gi x14))) C (by omega) (k_X4_sign (by omega) ew13) (gOb_e eo) rfl q233 q235 qs4 q95 q236 ⟨rfl, hd_X4_sign⟩ (by decide) rfl (Nat.le_of_ble_eq_true rfl) dX4_number_21 ?_
      refine j_bipush (v := (nI 48)) C dX4_number_24 (by decide) ?_
      refine j_bipush (v := (nI 57)) C dX4_number_26 (by decide) ?_
      replace hf := gB2_e hf
      obtain ⟨x16, w15, ew15, hf⟩ := hf
      refine j_callSN (As := [(gi x14), (gi (nI 48)), (gi (nI 57))]) (rest := []) (v := (some (gi x16))) C (by omega) (k_X0_in (by omega) ew15) nq341 q139 q91 q140 hd_X0_in (by decide) rfl (Nat.le_of_ble_eq_true rfl) dX4_number_28 ?_
      refine j_if_eq (tgt := 54) C dX4_number_31 (by decide) (fun c17 => ?_) (fun c17 => ?_)
      · replace hf := gIf_t hf c17
        refine j_iload_n C dX4_number_54 rfl ?_
        obtain ⟨rfl, rfl⟩ := gSome hf
        exact x_ret (j_iret C hr hw dX4_number_55)
      · replace hf := gIf_f hf c17
        refine j_bipush (v := (nI 10)) C dX4_number_34 (by decide) ?_
        refine j_iload_n C dX4_number_36 rfl ?_
        refine j_imul C dX4_number_37 ?_
        refine j_aload_n C dX4_number_38 rfl ?_
        refine j_bipush (v := (nI 48)) C dX4_number_39 (by decide) ?_
        refine j_bipush (v := (nI 57)) C dX4_number_41 (by decide) ?_
        replace hf := gB1_e hf
        obtain ⟨_, eo, hf⟩ := hf
        replace hf := gB2X_e hf
        rcases hf with ⟨q20, n21, w22, ew22, hf⟩ | ⟨x23, w18, ew18, hf⟩
        · refine x_callV_t (As := [(gi (nI 48)), (gi (nI 57))]) (rest := [(gi ((nI 10) * x8))]) C (by omega) (k_X4_takes (by omega) ew22) (gOb_e eo) rfl q337 q339 qs10 q95 q340 ⟨rfl, hd_X4_takes⟩ (by decide) rfl (Nat.le_of_ble_eq_true rfl) dX4_number_43 ?_
          obtain ⟨rfl, rfl⟩ := gSome hf
          exact x_out C ht (by decide +kernel) hw
        refine x_callV_r (As := [(gi (nI 48)), (gi (nI 57))]) (rest := [(gi ((nI 10) * x8))]) (v := (some (gi x23))) C (by omega) (k_X4_takes (by omega) ew18) (gOb_e eo) rfl q337 q339 qs10 q95 q340 ⟨rfl, hd_X4_takes⟩ (by decide) rfl (Nat.le_of_ble_eq_true rfl) dX4_number_43 ?_
        refine j_iadd C dX4_number_46 ?_
        replace hf := gBd_x hf
        obtain ⟨x24, ex24, hf⟩ := hf
        refine j_nm ex24 ?_
        refine j_istore_n (lv' := [(1, (gi x24)), (0, (ga (some a0))), (2, (gi x9))]) C dX4_number_47 (by decide) rfl ?_
        replace hf := gBd_x hf
        obtain ⟨x25, ex25, hf⟩ := hf
        refine j_iinc (v := x25) (lv' := [(2, (gi x25)), (1, (gi x24)), (0, (ga (some a0)))]) C dX4_number_48 rfl (by rw [ex25]; rfl) (by decide) rfl ?_
        refine j_goto (tgt := 11) C dX4_number_51 (by decide) ?_
        refine j_sub (lv' := [(0, (ga (some a0))), (1, (gi x24)), (2, (gi x25))]) (gL_cons rfl (gL_cons rfl (gL_cons rfl (gL_nil)))) ?_
        exact jk10 _ _ _ hf
def dkwX4_signed_0 : List UInt8 := [42, 16, 45, 182, 0, 54, 153, 0, 11, 42, 182, 0, 58, 116, 167, 0, 7, 42, 182, 0, 58, 172]
abbrev dktX4_signed_0 : List UInt8 := dkwX4_signed_0 ++ []
theorem dksX4_signed_0 : cX4_signed.data.toList.drop 0 = dktX4_signed_0 := by decide +kernel
theorem dX4_signed_0 : decode cX4_signed 0 = .ok (.aload_n 0, 1) := dk_42 (dk_at dksX4_signed_0 0 rfl rfl)
theorem dX4_signed_1 : decode cX4_signed 1 = .ok (.bipush 45, 2) := dk_16 45 (dk_at dksX4_signed_0 1 rfl rfl)
theorem dX4_signed_3 : decode cX4_signed 3 = .ok (.invokevirtual 54, 3) := dk_182 0 54 (dk_at dksX4_signed_0 3 rfl rfl)
theorem dX4_signed_6 : decode cX4_signed 6 = .ok (.ifCond .eq 11, 3) := dk_153 0 11 (dk_at dksX4_signed_0 6 rfl rfl)
theorem dX4_signed_9 : decode cX4_signed 9 = .ok (.aload_n 0, 1) := dk_42 (dk_at dksX4_signed_0 9 rfl rfl)
theorem dX4_signed_10 : decode cX4_signed 10 = .ok (.invokevirtual 58, 3) := dk_182 0 58 (dk_at dksX4_signed_0 10 rfl rfl)
theorem dX4_signed_13 : decode cX4_signed 13 = .ok (.ineg, 1) := dk_116 (dk_at dksX4_signed_0 13 rfl rfl)
theorem dX4_signed_14 : decode cX4_signed 14 = .ok (.goto 7, 3) := dk_167 0 7 (dk_at dksX4_signed_0 14 rfl rfl)
theorem dX4_signed_17 : decode cX4_signed 17 = .ok (.aload_n 0, 1) := dk_42 (dk_at dksX4_signed_0 17 rfl rfl)
theorem dX4_signed_18 : decode cX4_signed 18 = .ok (.invokevirtual 58, 3) := dk_182 0 58 (dk_at dksX4_signed_0 18 rfl rfl)
theorem dX4_signed_21 : decode cX4_signed 21 = .ok (.ireturn, 1) := dk_172 (dk_at dksX4_signed_0 21 rfl rfl)
theorem hd_X4_skips : (yX4_skips.cls ≠ "java/lang/invoke/MethodHandle" ∧ yX4_skips.cls ≠ "java/lang/invoke/VarHandle" ∧ (parseMethodDescriptor yX4_skips.desc).map (fun d => d.parameters.length) = some 1) := ⟨by decide +kernel, by decide +kernel, by decide +kernel⟩
theorem hd_X4_number : (yX4_number.cls ≠ "java/lang/invoke/MethodHandle" ∧ yX4_number.cls ≠ "java/lang/invoke/VarHandle" ∧ (parseMethodDescriptor yX4_number.desc).map (fun d => d.parameters.length) = some 0) := ⟨by decide +kernel, by decide +kernel, by decide +kernel⟩
def f_X4_signed (a0 : Nat) (w0 : gw) : Option (((Nat × Nat) ⊕ Int32) × gw) := gB1 (gOb w0 a0 4) fun _ => gB2 (f_X4_skips a0 (nI 45) w0) fun x2 w1 => if x2 = 0 then gB1 (gOb w1 a0 4) fun _ => gB2X (f_X4_number a0  w1) (fun q6 n7 w8 => some (.inl (q6, n7), w8)) fun x9 w4 => some (.inr x9, w4) else gB1 (gOb w1 a0 4) fun _ => gB2X (f_X4_number a0  w1) (fun q12 n13 w14 => some (.inl (q12, n13), w14)) fun x15 w10 => some (.inr (-x15), w10)
set_option maxHeartbeats 4000000 in
set_option maxRecDepth 100000 in
theorem k_X4_signed {D : va_G} {dA : Nat → ClassId} {A : Nat → Prop} {K : Nat → Nat} {l : Launch} {h : Nat} (hh : 7 ≤ h) {a0 : Nat} {w0 ww : gw} {rr : ((Nat × Nat) ⊕ Int32)} (hf : f_X4_signed a0 w0 = some (rr, ww)) : gMetX D dA A K l yX4_signed (ws_ yX4_signed cX4_signed 1 (some .int)) h [(ga (some a0))] (gXm (fun r => some (gi r)) rr) w0 ww := by
  refine x_start (own := RX4) (by decide +kernel) rfl (Nat.le_of_ble_eq_true rfl) ?_
  intro p e R s m args below meth c C hr ht hw
  unfold f_X4_signed at hf
  show gJ D dA A K p l e R s m args below meth c (gEndX D dA A K below args s w0 (gXm (fun r => some (gi r)) rr) ww) 1 0 [(0, (ga (some a0)))] [] w0
  refine j_aload_n C dX4_signed_0 rfl ?_
  refine j_bipush (v := (nI 45)) C dX4_signed_1 (by decide) ?_
  replace hf := gB1_e hf
  obtain ⟨_, eo, hf⟩ := hf
  replace hf := gB2_e hf
  obtain ⟨x2, w1, ew1, hf⟩ := hf
  refine j_callV (As := [(gi (nI 45))]) (rest := []) (v := (some (gi x2))) C (by omega) (k_X4_skips (by omega) ew1) (gOb_e eo) rfl q342 q344 qs11 q95 q345 ⟨rfl, hd_X4_skips⟩ (by decide) rfl (Nat.le_of_ble_eq_true rfl) dX4_signed_3 ?_
  refine j_if_eq (tgt := 17) C dX4_signed_6 (by decide) (fun c3 => ?_) (fun c3 => ?_)
  · replace hf := gIf_t hf c3
    refine j_aload_n C dX4_signed_17 rfl ?_
    replace hf := gB1_e hf
    obtain ⟨_, eo, hf⟩ := hf
    replace hf := gB2X_e hf
    rcases hf with ⟨q6, n7, w8, ew8, hf⟩ | ⟨x9, w4, ew4, hf⟩
    · refine x_callV_t (As := []) (rest := []) C (by omega) (k_X4_number (by omega) ew8) (gOb_e eo) rfl q349 q351 qs12 q95 q352 ⟨rfl, hd_X4_number⟩ (by decide) rfl (Nat.le_of_ble_eq_true rfl) dX4_signed_18 ?_
      obtain ⟨rfl, rfl⟩ := gSome hf
      exact x_out C ht (by decide +kernel) hw
    refine x_callV_r (As := []) (rest := []) (v := (some (gi x9))) C (by omega) (k_X4_number (by omega) ew4) (gOb_e eo) rfl q349 q351 qs12 q95 q352 ⟨rfl, hd_X4_number⟩ (by decide) rfl (Nat.le_of_ble_eq_true rfl) dX4_signed_18 ?_
    obtain ⟨rfl, rfl⟩ := gSome hf
    exact x_ret (j_iret C hr hw dX4_signed_21)
  · replace hf := gIf_f hf c3
    refine j_aload_n C dX4_signed_9 rfl ?_
    replace hf := gB1_e hf
    obtain ⟨_, eo, hf⟩ := hf
    replace hf := gB2X_e hf
    rcases hf with ⟨q12, n13, w14, ew14, hf⟩ | ⟨x15, w10, ew10, hf⟩
    · refine x_callV_t (As := []) (rest := []) C (by omega) (k_X4_number (by omega) ew14) (gOb_e eo) rfl q349 q351 qs12 q95 q352 ⟨rfl, hd_X4_number⟩ (by decide) rfl (Nat.le_of_ble_eq_true rfl) dX4_signed_10 ?_
      obtain ⟨rfl, rfl⟩ := gSome hf
      exact x_out C ht (by decide +kernel) hw
    refine x_callV_r (As := []) (rest := []) (v := (some (gi x15))) C (by omega) (k_X4_number (by omega) ew10) (gOb_e eo) rfl q349 q351 qs12 q95 q352 ⟨rfl, hd_X4_number⟩ (by decide) rfl (Nat.le_of_ble_eq_true rfl) dX4_signed_10 ?_
    refine j_ineg C dX4_signed_13 ?_
    refine j_goto (tgt := 21) C dX4_signed_14 (by decide) ?_
    obtain ⟨rfl, rfl⟩ := gSome hf
    exact x_ret (j_iret C hr hw dX4_signed_21)
def dkwX4_assign_3 : List UInt8 := [187, 0, 115, 89, 27, 28, 29, 42, 182, 0, 117, 183, 0, 120, 176]
abbrev dktX4_assign_3 : List UInt8 := dkwX4_assign_3 ++ []
def dkwX4_assign_2 : List UInt8 := [182, 0, 34, 16, 43, 160, 0, 7, 4, 167, 0, 4, 3, 62, 42, 89, 180, 0, 15, 4, 96, 181, 0, 15]
abbrev dktX4_assign_2 : List UInt8 := dkwX4_assign_2 ++ dktX4_assign_3
def dkwX4_assign_1 : List UInt8 := [16, 61, 159, 0, 12, 42, 182, 0, 34, 16, 43, 160, 0, 7, 4, 167, 0, 4, 3, 182, 0, 42, 42]
abbrev dktX4_assign_1 : List UInt8 := dkwX4_assign_1 ++ dktX4_assign_2
def dkwX4_assign_0 : List UInt8 := [42, 89, 180, 0, 15, 4, 96, 181, 0, 15, 42, 16, 48, 16, 51, 182, 0, 50, 61, 42, 42, 182, 0, 34]
abbrev dktX4_assign_0 : List UInt8 := dkwX4_assign_0 ++ dktX4_assign_1
theorem dksX4_assign_0 : cX4_assign.data.toList.drop 0 = dktX4_assign_0 := by decide +kernel
theorem dksX4_assign_1 : cX4_assign.data.toList.drop 24 = dktX4_assign_1 := dk_seg dksX4_assign_0 24 rfl rfl
theorem dksX4_assign_2 : cX4_assign.data.toList.drop 47 = dktX4_assign_2 := dk_seg dksX4_assign_1 23 rfl rfl
theorem dksX4_assign_3 : cX4_assign.data.toList.drop 71 = dktX4_assign_3 := dk_seg dksX4_assign_2 24 rfl rfl
theorem dX4_assign_0 : decode cX4_assign 0 = .ok (.aload_n 0, 1) := dk_42 (dk_at dksX4_assign_0 0 rfl rfl)
theorem dX4_assign_1 : decode cX4_assign 1 = .ok (.dup, 1) := dk_89 (dk_at dksX4_assign_0 1 rfl rfl)
theorem dX4_assign_2 : decode cX4_assign 2 = .ok (.getfield 15, 3) := dk_180 0 15 (dk_at dksX4_assign_0 2 rfl rfl)
theorem dX4_assign_5 : decode cX4_assign 5 = .ok (.iconst 1, 1) := dk_4 (dk_at dksX4_assign_0 5 rfl rfl)
theorem dX4_assign_6 : decode cX4_assign 6 = .ok (.iadd, 1) := dk_96 (dk_at dksX4_assign_0 6 rfl rfl)
theorem dX4_assign_7 : decode cX4_assign 7 = .ok (.putfield 15, 3) := dk_181 0 15 (dk_at dksX4_assign_0 7 rfl rfl)
theorem dX4_assign_10 : decode cX4_assign 10 = .ok (.aload_n 0, 1) := dk_42 (dk_at dksX4_assign_0 10 rfl rfl)
theorem dX4_assign_11 : decode cX4_assign 11 = .ok (.bipush 48, 2) := dk_16 48 (dk_at dksX4_assign_0 11 rfl rfl)
theorem dX4_assign_13 : decode cX4_assign 13 = .ok (.bipush 51, 2) := dk_16 51 (dk_at dksX4_assign_0 13 rfl rfl)
theorem dX4_assign_15 : decode cX4_assign 15 = .ok (.invokevirtual 50, 3) := dk_182 0 50 (dk_at dksX4_assign_0 15 rfl rfl)
theorem dX4_assign_18 : decode cX4_assign 18 = .ok (.istore_n 2, 1) := dk_61 (dk_at dksX4_assign_0 18 rfl rfl)
theorem dX4_assign_19 : decode cX4_assign 19 = .ok (.aload_n 0, 1) := dk_42 (dk_at dksX4_assign_0 19 rfl rfl)
theorem dX4_assign_20 : decode cX4_assign 20 = .ok (.aload_n 0, 1) := dk_42 (dk_at dksX4_assign_0 20 rfl rfl)
theorem dX4_assign_21 : decode cX4_assign 21 = .ok (.invokevirtual 34, 3) := dk_182 0 34 (dk_at dksX4_assign_0 21 rfl rfl)
theorem dX4_assign_24 : decode cX4_assign 24 = .ok (.bipush 61, 2) := dk_16 61 (dk_at dksX4_assign_1 0 rfl rfl)
theorem dX4_assign_26 : decode cX4_assign 26 = .ok (.if_icmp .eq 12, 3) := dk_159 0 12 (dk_at dksX4_assign_1 2 rfl rfl)
theorem dX4_assign_29 : decode cX4_assign 29 = .ok (.aload_n 0, 1) := dk_42 (dk_at dksX4_assign_1 5 rfl rfl)
theorem dX4_assign_30 : decode cX4_assign 30 = .ok (.invokevirtual 34, 3) := dk_182 0 34 (dk_at dksX4_assign_1 6 rfl rfl)
theorem dX4_assign_33 : decode cX4_assign 33 = .ok (.bipush 43, 2) := dk_16 43 (dk_at dksX4_assign_1 9 rfl rfl)
theorem dX4_assign_35 : decode cX4_assign 35 = .ok (.if_icmp .ne 7, 3) := dk_160 0 7 (dk_at dksX4_assign_1 11 rfl rfl)
theorem dX4_assign_38 : decode cX4_assign 38 = .ok (.iconst 1, 1) := dk_4 (dk_at dksX4_assign_1 14 rfl rfl)
theorem dX4_assign_39 : decode cX4_assign 39 = .ok (.goto 4, 3) := dk_167 0 4 (dk_at dksX4_assign_1 15 rfl rfl)
theorem dX4_assign_42 : decode cX4_assign 42 = .ok (.iconst 0, 1) := dk_3 (dk_at dksX4_assign_1 18 rfl rfl)
theorem dX4_assign_43 : decode cX4_assign 43 = .ok (.invokevirtual 42, 3) := dk_182 0 42 (dk_at dksX4_assign_1 19 rfl rfl)
theorem dX4_assign_46 : decode cX4_assign 46 = .ok (.aload_n 0, 1) := dk_42 (dk_at dksX4_assign_1 22 rfl rfl)
theorem dX4_assign_47 : decode cX4_assign 47 = .ok (.invokevirtual 34, 3) := dk_182 0 34 (dk_at dksX4_assign_2 0 rfl rfl)
theorem dX4_assign_50 : decode cX4_assign 50 = .ok (.bipush 43, 2) := dk_16 43 (dk_at dksX4_assign_2 3 rfl rfl)
theorem dX4_assign_52 : decode cX4_assign 52 = .ok (.if_icmp .ne 7, 3) := dk_160 0 7 (dk_at dksX4_assign_2 5 rfl rfl)
theorem dX4_assign_55 : decode cX4_assign 55 = .ok (.iconst 1, 1) := dk_4 (dk_at dksX4_assign_2 8 rfl rfl)
theorem dX4_assign_56 : decode cX4_assign 56 = .ok (.goto 4, 3) := dk_167 0 4 (dk_at dksX4_assign_2 9 rfl rfl)
theorem dX4_assign_59 : decode cX4_assign 59 = .ok (.iconst 0, 1) := dk_3 (dk_at dksX4_assign_2 12 rfl rfl)
theorem dX4_assign_60 : decode cX4_assign 60 = .ok (.istore_n 3, 1) := dk_62 (dk_at dksX4_assign_2 13 rfl rfl)
theorem dX4_assign_61 : decode cX4_assign 61 = .ok (.aload_n 0, 1) := dk_42 (dk_at dksX4_assign_2 14 rfl rfl)
theorem dX4_assign_62 : decode cX4_assign 62 = .ok (.dup, 1) := dk_89 (dk_at dksX4_assign_2 15 rfl rfl)
theorem dX4_assign_63 : decode cX4_assign 63 = .ok (.getfield 15, 3) := dk_180 0 15 (dk_at dksX4_assign_2 16 rfl rfl)
theorem dX4_assign_66 : decode cX4_assign 66 = .ok (.iconst 1, 1) := dk_4 (dk_at dksX4_assign_2 19 rfl rfl)
theorem dX4_assign_67 : decode cX4_assign 67 = .ok (.iadd, 1) := dk_96 (dk_at dksX4_assign_2 20 rfl rfl)
theorem dX4_assign_68 : decode cX4_assign 68 = .ok (.putfield 15, 3) := dk_181 0 15 (dk_at dksX4_assign_2 21 rfl rfl)
theorem dX4_assign_71 : decode cX4_assign 71 = .ok (.new 115, 3) := dk_187 0 115 (dk_at dksX4_assign_3 0 rfl rfl)
theorem dX4_assign_74 : decode cX4_assign 74 = .ok (.dup, 1) := dk_89 (dk_at dksX4_assign_3 3 rfl rfl)
theorem dX4_assign_75 : decode cX4_assign 75 = .ok (.iload_n 1, 1) := dk_27 (dk_at dksX4_assign_3 4 rfl rfl)
theorem dX4_assign_76 : decode cX4_assign 76 = .ok (.iload_n 2, 1) := dk_28 (dk_at dksX4_assign_3 5 rfl rfl)
theorem dX4_assign_77 : decode cX4_assign 77 = .ok (.iload_n 3, 1) := dk_29 (dk_at dksX4_assign_3 6 rfl rfl)
theorem dX4_assign_78 : decode cX4_assign 78 = .ok (.aload_n 0, 1) := dk_42 (dk_at dksX4_assign_3 7 rfl rfl)
theorem dX4_assign_79 : decode cX4_assign 79 = .ok (.invokevirtual 117, 3) := dk_182 0 117 (dk_at dksX4_assign_3 8 rfl rfl)
theorem dX4_assign_82 : decode cX4_assign 82 = .ok (.invokespecial 120, 3) := dk_183 0 120 (dk_at dksX4_assign_3 11 rfl rfl)
theorem dX4_assign_85 : decode cX4_assign 85 = .ok (.areturn, 1) := dk_176 (dk_at dksX4_assign_3 14 rfl rfl)
theorem nl_X4_115 : gNL RX4 115 12 := ⟨RX12, TX12, 4, 4, tyX12, _, rfl, rfl, in_X12, tyX12_ok, q421, q422, q108, fun j hj => by rcases (show j = 0 ∨ j = 1 ∨ j = 2 ∨ j = 3 by omega) with rfl | rfl | rfl | rfl <;> rfl⟩
theorem hd_X4_signed : (yX4_signed.cls ≠ "java/lang/invoke/MethodHandle" ∧ yX4_signed.cls ≠ "java/lang/invoke/VarHandle" ∧ (parseMethodDescriptor yX4_signed.desc).map (fun d => d.parameters.length) = some 0) := ⟨by decide +kernel, by decide +kernel, by decide +kernel⟩
theorem hd_X12_init : (yX12_init.cls ≠ "java/lang/invoke/MethodHandle" ∧ yX12_init.cls ≠ "java/lang/invoke/VarHandle" ∧ (parseMethodDescriptor yX12_init.desc).map (fun d => d.parameters.length) = some 4) := ⟨by decide +kernel, by decide +kernel, by decide +kernel⟩
def f_X4_assign (a0 : Nat) (p1 : Int32) (w0 : gw) : Option (((Nat × Nat) ⊕ Option Nat) × gw) := gB1 (gI w0 a0 4 0) fun x1 => gB1 (gPut w0 a0 4 0 (gi (x1 + (nI 1)))) fun w2 => gB1 (gOb w2 a0 4) fun _ => gB2X (f_X4_takes a0 (nI 48) (nI 51) w2) (fun q5 n6 w7 => some (.inl (q5, n6), w7)) fun x8 w3 => gB1 (gOb w3 a0 4) fun _ => gB2 (f_X4_sign a0  w3) fun x10 w9 => gBd (fun (x13 : Int32) (x14 : Int32) (r15 : Option Nat) (x16 : Int32) (w12 : gw) => gB1 r15 fun a17 => gB1 (gOb w12 a17 4) fun _ => gB2X (f_X4_need a17 x16 w12) (fun q19 n20 w21 => some (.inl (q19, n20), w21)) fun _ w18 => gB1 (gOb w18 a0 4) fun _ => gB2 (f_X4_sign a0  w18) fun x23 w22 => gBd (fun (x26 : Int32) (x27 : Int32) (x28 : Int32) (w25 : gw) => gB1 (gI w25 a0 4 0) fun x29 => gB1 (gPut w25 a0 4 0 (gi (x29 + (nI 1)))) fun w30 => gB2 (gNew w30 12) fun a31 w32 => gB1 (gOb w32 a0 4) fun _ => gB2X (f_X4_signed a0  w32) (fun q35 n36 w37 => some (.inl (q35, n36), w37)) fun x38 w33 => gB2 (f_X12_init a31 x26 x27 x28 x38 w33) fun _ w39 => some (.inr (some a31), w39)) fun k24 => if x23 = (nI 43) then k24 x13 x14 (nI 1) w22 else k24 x13 x14 (nI 0) w22) fun k11 => gBd (fun (x43 : Int32) (x44 : Int32) (r45 : Option Nat) (w42 : gw) => k11 x43 x44 r45 (nI 1) w42) fun k41 => if x10 = (nI 61) then k41 p1 x8 (some a0) w9 else gB1 (gOb w9 a0 4) fun _ => gB2 (f_X4_sign a0  w9) fun x48 w47 => if x48 = (nI 43) then k41 p1 x8 (some a0) w47 else k11 p1 x8 (some a0) (nI 0) w47
set_option maxHeartbeats 4000000 in
set_option maxRecDepth 100000 in
theorem k_X4_assign {D : va_G} {dA : Nat → ClassId} {A : Nat → Prop} {K : Nat → Nat} {l : Launch} {h : Nat} (hh : 8 ≤ h) {a0 : Nat} {p1 : Int32} {w0 ww : gw} {rr : ((Nat × Nat) ⊕ Option Nat)} (hf : f_X4_assign a0 p1 w0 = some (rr, ww)) : gMetX D dA A K l yX4_assign (ws_ yX4_assign cX4_assign 4 (some (.object "WorkflowEngine$Node"))) h [(ga (some a0)), (gi p1)] (gXm (fun r => some (ga r)) rr) w0 ww := by
  refine x_start (own := RX4) (by decide +kernel) rfl (Nat.le_of_ble_eq_true rfl) ?_
  intro p e R s m args below meth c C hr ht hw
  unfold f_X4_assign at hf
  show gJ D dA A K p l e R s m args below meth c (gEndX D dA A K below args s w0 (gXm (fun r => some (ga r)) rr) ww) 4 0 [(0, (ga (some a0))), (1, (gi p1))] [] w0
  refine j_aload_n C dX4_assign_0 rfl ?_
  refine j_dup C dX4_assign_1 ?_
  replace hf := gB1_e hf
  obtain ⟨x1, ex1, hf⟩ := hf
  refine j_get C fl_X4_15_4 dX4_assign_2 (gI_F ex1) ?_
  refine j_iconst (v := (nI 1)) C dX4_assign_5 (by decide) ?_
  refine j_iadd C dX4_assign_6 ?_
  replace hf := gB1_e hf
  obtain ⟨w2, ew2, hf⟩ := hf
  refine j_put C fl_X4_15_4 tb_4 ew2 fk_4_0 (fit_I (x1 + (nI 1))) dX4_assign_7 ?_
  refine j_aload_n C dX4_assign_10 rfl ?_
  refine j_bipush (v := (nI 48)) C dX4_assign_11 (by decide) ?_
  refine j_bipush (v := (nI 51)) C dX4_assign_13 (by decide) ?_
  replace hf := gB1_e hf
  obtain ⟨_, eo, hf⟩ := hf
  replace hf := gB2X_e hf
  rcases hf with ⟨q5, n6, w7, ew7, hf⟩ | ⟨x8, w3, ew3, hf⟩
  · refine x_callV_t (As := [(gi (nI 48)), (gi (nI 51))]) (rest := []) C (by omega) (k_X4_takes (by omega) ew7) (gOb_e eo) rfl q337 q339 qs10 q95 q340 ⟨rfl, hd_X4_takes⟩ (by decide) rfl (Nat.le_of_ble_eq_true rfl) dX4_assign_15 ?_
    obtain ⟨rfl, rfl⟩ := gSome hf
    exact x_out C ht (by decide +kernel) hw
  refine x_callV_r (As := [(gi (nI 48)), (gi (nI 51))]) (rest := []) (v := (some (gi x8))) C (by omega) (k_X4_takes (by omega) ew3) (gOb_e eo) rfl q337 q339 qs10 q95 q340 ⟨rfl, hd_X4_takes⟩ (by decide) rfl (Nat.le_of_ble_eq_true rfl) dX4_assign_15 ?_
  refine j_istore_n (lv' := [(2, (gi x8)), (0, (ga (some a0))), (1, (gi p1))]) C dX4_assign_18 (by decide) rfl ?_
  refine j_aload_n C dX4_assign_19 rfl ?_
  refine j_aload_n C dX4_assign_20 rfl ?_
  replace hf := gB1_e hf
  obtain ⟨_, eo, hf⟩ := hf
  replace hf := gB2_e hf
  obtain ⟨x10, w9, ew9, hf⟩ := hf
  refine j_callV (As := []) (rest := [(ga (some a0))]) (v := (some (gi x10))) C (by omega) (k_X4_sign (by omega) ew9) (gOb_e eo) rfl q233 q235 qs4 q95 q236 ⟨rfl, hd_X4_sign⟩ (by decide) rfl (Nat.le_of_ble_eq_true rfl) dX4_assign_21 ?_
  refine j_bipush (v := (nI 61)) C dX4_assign_24 (by decide) ?_
  replace hf := gBd_x hf
  obtain ⟨k11, ek11, hf⟩ := hf
  have jk11 : ∀ (x13 : Int32) (x14 : Int32) (r15 : Option Nat) (x16 : Int32) (w12 : gw), k11 x13 x14 r15 x16 w12 = some (rr, ww) → gJ D dA A K p l e R s m args below meth c (gEndX D dA A K below args s w0 (gXm (fun r => some (ga r)) rr) ww) 4 43 [(0, (ga (some a0))), (1, (gi x13)), (2, (gi x14))] [(gi x16), (ga r15)] w12 := by
    intro x13 x14 r15 x16 w12 hf
    rw [ek11] at hf
    dsimp only at hf
    replace hf := gB1_e hf
    obtain ⟨a17, ea17, hf⟩ := hf
    subst ea17
    replace hf := gB1_e hf
    obtain ⟨_, eo, hf⟩ := hf
    replace hf := gB2X_e hf
    rcases hf with ⟨q19, n20, w21, ew21, hf⟩ | ⟨_, w18, ew18, hf⟩
    · refine x_callV_t (As := [(gi x16)]) (rest := []) C (by omega) (k_X4_need (by omega) ew21) (gOb_e eo) rfl q237 q239 qs5 q95 q240 ⟨rfl, hd_X4_need⟩ (by decide) rfl (Nat.le_of_ble_eq_true rfl) dX4_assign_43 ?_
      obtain ⟨rfl, rfl⟩ := gSome hf
      exact x_out C ht (by decide +kernel) hw
    refine x_callV_r (As := [(gi x16)]) (rest := []) (v := none) C (by omega) (k_X4_need (by omega) ew18) (gOb_e eo) rfl q237 q239 qs5 q95 q240 ⟨rfl, hd_X4_need⟩ (by decide) rfl (Nat.le_of_ble_eq_true rfl) dX4_assign_43 ?_
    refine j_aload_n C dX4_assign_46 rfl ?_
    replace hf := gB1_e hf
    obtain ⟨_, eo, hf⟩ := hf
    replace hf := gB2_e hf
    obtain ⟨x23, w22, ew22, hf⟩ := hf
    refine j_callV (As := []) (rest := []) (v := (some (gi x23))) C (by omega) (k_X4_sign (by omega) ew22) (gOb_e eo) rfl q233 q235 qs4 q95 q236 ⟨rfl, hd_X4_sign⟩ (by decide) rfl (Nat.le_of_ble_eq_true rfl) dX4_assign_47 ?_
    refine j_bipush (v := (nI 43)) C dX4_assign_50 (by decide) ?_
    replace hf := gBd_x hf
    obtain ⟨k24, ek24, hf⟩ := hf
    have jk24 : ∀ (x26 : Int32) (x27 : Int32) (x28 : Int32) (w25 : gw), k24 x26 x27 x28 w25 = some (rr, ww) → gJ D dA A K p l e R s m args below meth c (gEndX D dA A K below args s w0 (gXm (fun r => some (ga r)) rr) ww) 4 60 [(0, (ga (some a0))), (1, (gi x26)), (2, (gi x27))] [(gi x28)] w25 := by
      intro x26 x27 x28 w25 hf
      rw [ek24] at hf
      dsimp only at hf
      refine j_istore_n (lv' := [(3, (gi x28)), (0, (ga (some a0))), (1, (gi x26)), (2, (gi x27))]) C dX4_assign_60 (by decide) rfl ?_
      refine j_aload_n C dX4_assign_61 rfl ?_
      refine j_dup C dX4_assign_62 ?_
      replace hf := gB1_e hf
      obtain ⟨x29, ex29, hf⟩ := hf
      refine j_get C fl_X4_15_4 dX4_assign_63 (gI_F ex29) ?_
      refine j_iconst (v := (nI 1)) C dX4_assign_66 (by decide) ?_
      refine j_iadd C dX4_assign_67 ?_
      replace hf := gB1_e hf
      obtain ⟨w30, ew30, hf⟩ := hf
      refine j_put C fl_X4_15_4 tb_4 ew30 fk_4_0 (fit_I (x29 + (nI 1))) dX4_assign_68 ?_
      replace hf := gB2_e hf
      obtain ⟨a31, w32, ew32, hf⟩ := hf
      refine j_new C nl_X4_115 ew32 dX4_assign_71 ?_
      refine j_dup C dX4_assign_74 ?_
      refine j_iload_n C dX4_assign_75 rfl ?_
      refine j_iload_n C dX4_assign_76 rfl ?_
      refine j_iload_n C dX4_assign_77 rfl ?_
      refine j_aload_n C dX4_assign_78 rfl ?_
      replace hf := gB1_e hf
      obtain ⟨_, eo, hf⟩ := hf
      replace hf := gB2X_e hf
      rcases hf with ⟨q35, n36, w37, ew37, hf⟩ | ⟨x38, w33, ew33, hf⟩
      · refine x_callV_t (As := []) (rest := [(gi x28), (gi x27), (gi x26), (ga (some a31)), (ga (some a31))]) C (by omega) (k_X4_signed (by omega) ew37) (gOb_e eo) rfl q423 q425 qs14 q95 q426 ⟨rfl, hd_X4_signed⟩ (by decide) rfl (Nat.le_of_ble_eq_true rfl) dX4_assign_79 ?_
        obtain ⟨rfl, rfl⟩ := gSome hf
        exact x_out C ht (by decide +kernel) hw
      refine x_callV_r (As := []) (rest := [(gi x28), (gi x27), (gi x26), (ga (some a31)), (ga (some a31))]) (v := (some (gi x38))) C (by omega) (k_X4_signed (by omega) ew33) (gOb_e eo) rfl q423 q425 qs14 q95 q426 ⟨rfl, hd_X4_signed⟩ (by decide) rfl (Nat.le_of_ble_eq_true rfl) dX4_assign_79 ?_
      replace hf := gB2_e hf
      obtain ⟨_, w39, ew39, hf⟩ := hf
      refine j_callI (As := [(gi x26), (gi x27), (gi x28), (gi x38)]) (rest := [(ga (some a31))]) C (by omega) (k_X12_init (by omega) ew39) rfl q427 q428 q108 q429 hd_X12_init (by decide) rfl (Nat.le_of_ble_eq_true rfl) dX4_assign_82 ?_
      obtain ⟨rfl, rfl⟩ := gSome hf
      exact x_ret (j_aret C hr (Or.inl ⟨_, rfl⟩) hw dX4_assign_85)
    clear ek24
    refine j_icmp_ne (tgt := 59) C dX4_assign_52 (by decide) (fun c40 => ?_) (fun c40 => ?_)
    · replace hf := gIf_f hf c40
      refine j_iconst (v := (nI 0)) C dX4_assign_59 (by decide) ?_
      exact jk24 _ _ _ _ hf
    · replace hf := gIf_t hf c40
      refine j_iconst (v := (nI 1)) C dX4_assign_55 (by decide) ?_
      refine j_goto (tgt := 60) C dX4_assign_56 (by decide) ?_
      exact jk24 _ _ _ _ hf
  clear ek11
  replace hf := gBd_x hf
  obtain ⟨k41, ek41, hf⟩ := hf
  have jk41 : ∀ (x43 : Int32) (x44 : Int32) (r45 : Option Nat) (w42 : gw), k41 x43 x44 r45 w42 = some (rr, ww) → gJ D dA A K p l e R s m args below meth c (gEndX D dA A K below args s w0 (gXm (fun r => some (ga r)) rr) ww) 4 38 [(0, (ga (some a0))), (1, (gi x43)), (2, (gi x44))] [(ga r45)] w42 := by
    intro x43 x44 r45 w42 hf
    rw [ek41] at hf
    dsimp only at hf
    refine j_iconst (v := (nI 1)) C dX4_assign_38 (by decide) ?_
    refine j_goto (tgt := 43) C dX4_assign_39 (by decide) ?_
    exact jk11 _ _ _ _ _ hf
  clear ek41
  refine j_icmp_eq (tgt := 38) C dX4_assign_26 (by decide) (fun c46 => ?_) (fun c46 => ?_)
  · replace hf := gIf_t hf c46
    refine j_sub (lv' := [(0, (ga (some a0))), (1, (gi p1)), (2, (gi x8))]) (gL_cons rfl (gL_cons rfl (gL_cons rfl (gL_nil)))) ?_
    exact jk41 _ _ _ _ hf
  · replace hf := gIf_f hf c46
    refine j_aload_n C dX4_assign_29 rfl ?_
    replace hf := gB1_e hf
    obtain ⟨_, eo, hf⟩ := hf
    replace hf := gB2_e hf
    obtain ⟨x48, w47, ew47, hf⟩ := hf
    refine j_callV (As := []) (rest := [(ga (some a0))]) (v := (some (gi x48))) C (by omega) (k_X4_sign (by omega) ew47) (gOb_e eo) rfl q233 q235 qs4 q95 q236 ⟨rfl, hd_X4_sign⟩ (by decide) rfl (Nat.le_of_ble_eq_true rfl) dX4_assign_30 ?_
    refine j_bipush (v := (nI 43)) C dX4_assign_33 (by decide) ?_
    refine j_icmp_ne (tgt := 42) C dX4_assign_35 (by decide) (fun c49 => ?_) (fun c49 => ?_)
    · replace hf := gIf_f hf c49
      refine j_iconst (v := (nI 0)) C dX4_assign_42 (by decide) ?_
      refine j_sub (lv' := [(0, (ga (some a0))), (1, (gi p1)), (2, (gi x8))]) (gL_cons rfl (gL_cons rfl (gL_cons rfl (gL_nil)))) ?_
      exact jk11 _ _ _ _ _ hf
    · replace hf := gIf_t hf c49
      refine j_sub (lv' := [(0, (ga (some a0))), (1, (gi p1)), (2, (gi x8))]) (gL_cons rfl (gL_cons rfl (gL_cons rfl (gL_nil)))) ?_
      exact jk41 _ _ _ _ hf
def dkwX4_task_3 : List UInt8 := [182, 0, 54, 153, 0, 10, 42, 182, 0, 96, 167, 0, 4, 2, 183, 0, 112, 176]
abbrev dktX4_task_3 : List UInt8 := dkwX4_task_3 ++ []
def dkwX4_task_2 : List UInt8 := [42, 182, 0, 58, 167, 0, 4, 3, 54, 4, 187, 0, 110, 89, 27, 28, 29, 21, 4, 42, 16, 99]
abbrev dktX4_task_2 : List UInt8 := dkwX4_task_2 ++ dktX4_task_3
def dkwX4_task_1 : List UInt8 := [182, 0, 54, 153, 0, 31, 42, 16, 48, 16, 57, 182, 0, 50, 62, 42, 16, 43, 182, 0, 54, 153, 0, 10]
abbrev dktX4_task_1 : List UInt8 := dkwX4_task_1 ++ dktX4_task_2
def dkwX4_task_0 : List UInt8 := [42, 89, 180, 0, 15, 4, 96, 181, 0, 15, 42, 182, 0, 96, 61, 3, 62, 3, 54, 4, 42, 16, 114]
abbrev dktX4_task_0 : List UInt8 := dkwX4_task_0 ++ dktX4_task_1
theorem dksX4_task_0 : cX4_task.data.toList.drop 0 = dktX4_task_0 := by decide +kernel
theorem dksX4_task_1 : cX4_task.data.toList.drop 23 = dktX4_task_1 := dk_seg dksX4_task_0 23 rfl rfl
theorem dksX4_task_2 : cX4_task.data.toList.drop 47 = dktX4_task_2 := dk_seg dksX4_task_1 24 rfl rfl
theorem dksX4_task_3 : cX4_task.data.toList.drop 69 = dktX4_task_3 := dk_seg dksX4_task_2 22 rfl rfl
theorem dX4_task_0 : decode cX4_task 0 = .ok (.aload_n 0, 1) := dk_42 (dk_at dksX4_task_0 0 rfl rfl)
theorem dX4_task_1 : decode cX4_task 1 = .ok (.dup, 1) := dk_89 (dk_at dksX4_task_0 1 rfl rfl)
theorem dX4_task_2 : decode cX4_task 2 = .ok (.getfield 15, 3) := dk_180 0 15 (dk_at dksX4_task_0 2 rfl rfl)
theorem dX4_task_5 : decode cX4_task 5 = .ok (.iconst 1, 1) := dk_4 (dk_at dksX4_task_0 5 rfl rfl)
theorem dX4_task_6 : decode cX4_task 6 = .ok (.iadd, 1) := dk_96 (dk_at dksX4_task_0 6 rfl rfl)
theorem dX4_task_7 : decode cX4_task 7 = .ok (.putfield 15, 3) := dk_181 0 15 (dk_at dksX4_task_0 7 rfl rfl)
theorem dX4_task_10 : decode cX4_task 10 = .ok (.aload_n 0, 1) := dk_42 (dk_at dksX4_task_0 10 rfl rfl)
theorem dX4_task_11 : decode cX4_task 11 = .ok (.invokevirtual 96, 3) := dk_182 0 96 (dk_at dksX4_task_0 11 rfl rfl)
theorem dX4_task_14 : decode cX4_task 14 = .ok (.istore_n 2, 1) := dk_61 (dk_at dksX4_task_0 14 rfl rfl)
theorem dX4_task_15 : decode cX4_task 15 = .ok (.iconst 0, 1) := dk_3 (dk_at dksX4_task_0 15 rfl rfl)
theorem dX4_task_16 : decode cX4_task 16 = .ok (.istore_n 3, 1) := dk_62 (dk_at dksX4_task_0 16 rfl rfl)
theorem dX4_task_17 : decode cX4_task 17 = .ok (.iconst 0, 1) := dk_3 (dk_at dksX4_task_0 17 rfl rfl)
theorem dX4_task_18 : decode cX4_task 18 = .ok (.istore 4, 2) := dk_54 4 (dk_at dksX4_task_0 18 rfl rfl)
theorem dX4_task_20 : decode cX4_task 20 = .ok (.aload_n 0, 1) := dk_42 (dk_at dksX4_task_0 20 rfl rfl)
theorem dX4_task_21 : decode cX4_task 21 = .ok (.bipush 114, 2) := dk_16 114 (dk_at dksX4_task_0 21 rfl rfl)
theorem dX4_task_23 : decode cX4_task 23 = .ok (.invokevirtual 54, 3) := dk_182 0 54 (dk_at dksX4_task_1 0 rfl rfl)
theorem dX4_task_26 : decode cX4_task 26 = .ok (.ifCond .eq 31, 3) := dk_153 0 31 (dk_at dksX4_task_1 3 rfl rfl)
theorem dX4_task_29 : decode cX4_task 29 = .ok (.aload_n 0, 1) := dk_42 (dk_at dksX4_task_1 6 rfl rfl)
theorem dX4_task_30 : decode cX4_task 30 = .ok (.bipush 48, 2) := dk_16 48 (dk_at dksX4_task_1 7 rfl rfl)
theorem dX4_task_32 : decode cX4_task 32 = .ok (.bipush 57, 2) := dk_16 57 (dk_at dksX4_task_1 9 rfl rfl)
theorem dX4_task_34 : decode cX4_task 34 = .ok (.invokevirtual 50, 3) := dk_182 0 50 (dk_at dksX4_task_1 11 rfl rfl)
theorem dX4_task_37 : decode cX4_task 37 = .ok (.istore_n 3, 1) := dk_62 (dk_at dksX4_task_1 14 rfl rfl)
theorem dX4_task_38 : decode cX4_task 38 = .ok (.aload_n 0, 1) := dk_42 (dk_at dksX4_task_1 15 rfl rfl)
theorem dX4_task_39 : decode cX4_task 39 = .ok (.bipush 43, 2) := dk_16 43 (dk_at dksX4_task_1 16 rfl rfl)
theorem dX4_task_41 : decode cX4_task 41 = .ok (.invokevirtual 54, 3) := dk_182 0 54 (dk_at dksX4_task_1 18 rfl rfl)
theorem dX4_task_44 : decode cX4_task 44 = .ok (.ifCond .eq 10, 3) := dk_153 0 10 (dk_at dksX4_task_1 21 rfl rfl)
theorem dX4_task_47 : decode cX4_task 47 = .ok (.aload_n 0, 1) := dk_42 (dk_at dksX4_task_2 0 rfl rfl)
theorem dX4_task_48 : decode cX4_task 48 = .ok (.invokevirtual 58, 3) := dk_182 0 58 (dk_at dksX4_task_2 1 rfl rfl)
theorem dX4_task_51 : decode cX4_task 51 = .ok (.goto 4, 3) := dk_167 0 4 (dk_at dksX4_task_2 4 rfl rfl)
theorem dX4_task_54 : decode cX4_task 54 = .ok (.iconst 0, 1) := dk_3 (dk_at dksX4_task_2 7 rfl rfl)
theorem dX4_task_55 : decode cX4_task 55 = .ok (.istore 4, 2) := dk_54 4 (dk_at dksX4_task_2 8 rfl rfl)
theorem dX4_task_57 : decode cX4_task 57 = .ok (.new 110, 3) := dk_187 0 110 (dk_at dksX4_task_2 10 rfl rfl)
theorem dX4_task_60 : decode cX4_task 60 = .ok (.dup, 1) := dk_89 (dk_at dksX4_task_2 13 rfl rfl)
theorem dX4_task_61 : decode cX4_task 61 = .ok (.iload_n 1, 1) := dk_27 (dk_at dksX4_task_2 14 rfl rfl)
theorem dX4_task_62 : decode cX4_task 62 = .ok (.iload_n 2, 1) := dk_28 (dk_at dksX4_task_2 15 rfl rfl)
theorem dX4_task_63 : decode cX4_task 63 = .ok (.iload_n 3, 1) := dk_29 (dk_at dksX4_task_2 16 rfl rfl)
theorem dX4_task_64 : decode cX4_task 64 = .ok (.iload 4, 2) := dk_21 4 (dk_at dksX4_task_2 17 rfl rfl)
theorem dX4_task_66 : decode cX4_task 66 = .ok (.aload_n 0, 1) := dk_42 (dk_at dksX4_task_2 19 rfl rfl)
theorem dX4_task_67 : decode cX4_task 67 = .ok (.bipush 99, 2) := dk_16 99 (dk_at dksX4_task_2 20 rfl rfl)
theorem dX4_task_69 : decode cX4_task 69 = .ok (.invokevirtual 54, 3) := dk_182 0 54 (dk_at dksX4_task_3 0 rfl rfl)
theorem dX4_task_72 : decode cX4_task 72 = .ok (.ifCond .eq 10, 3) := dk_153 0 10 (dk_at dksX4_task_3 3 rfl rfl)
theorem dX4_task_75 : decode cX4_task 75 = .ok (.aload_n 0, 1) := dk_42 (dk_at dksX4_task_3 6 rfl rfl)
theorem dX4_task_76 : decode cX4_task 76 = .ok (.invokevirtual 96, 3) := dk_182 0 96 (dk_at dksX4_task_3 7 rfl rfl)
theorem dX4_task_79 : decode cX4_task 79 = .ok (.goto 4, 3) := dk_167 0 4 (dk_at dksX4_task_3 10 rfl rfl)
theorem dX4_task_82 : decode cX4_task 82 = .ok (.iconst (-1), 1) := dk_2 (dk_at dksX4_task_3 13 rfl rfl)
theorem dX4_task_83 : decode cX4_task 83 = .ok (.invokespecial 112, 3) := dk_183 0 112 (dk_at dksX4_task_3 14 rfl rfl)
theorem dX4_task_86 : decode cX4_task 86 = .ok (.areturn, 1) := dk_176 (dk_at dksX4_task_3 17 rfl rfl)
theorem hd_X4_code : (yX4_code.cls ≠ "java/lang/invoke/MethodHandle" ∧ yX4_code.cls ≠ "java/lang/invoke/VarHandle" ∧ (parseMethodDescriptor yX4_code.desc).map (fun d => d.parameters.length) = some 0) := ⟨by decide +kernel, by decide +kernel, by decide +kernel⟩
theorem nl_X4_110 : gNL RX4 110 9 := ⟨RX9, TX9, 5, 5, tyX9, _, rfl, rfl, in_X9, tyX9_ok, q353, q354, q105, fun j hj => by rcases (show j = 0 ∨ j = 1 ∨ j = 2 ∨ j = 3 ∨ j = 4 by omega) with rfl | rfl | rfl | rfl | rfl <;> rfl⟩
theorem hd_X9_init : (yX9_init.cls ≠ "java/lang/invoke/MethodHandle" ∧ yX9_init.cls ≠ "java/lang/invoke/VarHandle" ∧ (parseMethodDescriptor yX9_init.desc).map (fun d => d.parameters.length) = some 5) := ⟨by decide +kernel, by decide +kernel, by decide +kernel⟩
def f_X4_task (a0 : Nat) (p1 : Int32) (w0 : gw) : Option (((Nat × Nat) ⊕ Option Nat) × gw) := gB1 (gI w0 a0 4 0) fun x1 => gB1 (gPut w0 a0 4 0 (gi (x1 + (nI 1)))) fun w2 => gB1 (gOb w2 a0 4) fun _ => gB2X (f_X4_code a0  w2) (fun q5 n6 w7 => some (.inl (q5, n6), w7)) fun x8 w3 => gB1 (gOb w3 a0 4) fun _ => gB2 (f_X4_skips a0 (nI 114) w3) fun x10 w9 => gBd (fun (x13 : Int32) (x14 : Int32) (x15 : Int32) (x16 : Int32) (w12 : gw) => gB2 (gNew w12 9) fun a17 w18 => gB1 (gOb w18 a0 4) fun _ => gB2 (f_X4_skips a0 (nI 99) w18) fun x20 w19 => gBd (fun (r23 : Option Nat) (r24 : Option Nat) (x25 : Int32) (x26 : Int32) (x27 : Int32) (x28 : Int32) (x29 : Int32) (w22 : gw) => gB1 r24 fun a30 => gB2 (f_X9_init a30 x25 x26 x27 x28 x29 w22) fun _ w31 => some (.inr r23, w31)) fun k21 => if x20 = 0 then k21 (some a17) (some a17) x13 x14 x15 x16 (-1) w19 else gB1 (gOb w19 a0 4) fun _ => gB2X (f_X4_code a0  w19) (fun q35 n36 w37 => some (.inl (q35, n36), w37)) fun x38 w33 => k21 (some a17) (some a17) x13 x14 x15 x16 x38 w33) fun k11 => if x10 = 0 then k11 p1 x8 (nI 0) (nI 0) w9 else gB1 (gOb w9 a0 4) fun _ => gB2X (f_X4_takes a0 (nI 48) (nI 57) w9) (fun q42 n43 w44 => some (.inl (q42, n43), w44)) fun x45 w40 => gB1 (gOb w40 a0 4) fun _ => gB2 (f_X4_skips a0 (nI 43) w40) fun x47 w46 => gBd (fun (x50 : Int32) (x51 : Int32) (x52 : Int32) (x53 : Int32) (w49 : gw) => k11 x50 x51 x52 x53 w49) fun k48 => if x47 = 0 then k48 p1 x8 x45 (nI 0) w46 else gB1 (gOb w46 a0 4) fun _ => gB2X (f_X4_number a0  w46) (fun q57 n58 w59 => some (.inl (q57, n58), w59)) fun x60 w55 => k48 p1 x8 x45 x60 w55
set_option maxHeartbeats 4000000 in
set_option maxRecDepth 100000 in
theorem k_X4_task {D : va_G} {dA : Nat → ClassId} {A : Nat → Prop} {K : Nat → Nat} {l : Launch} {h : Nat} (hh : 7 ≤ h) {a0 : Nat} {p1 : Int32} {w0 ww : gw} {rr : ((Nat × Nat) ⊕ Option Nat)} (hf : f_X4_task a0 p1 w0 = some (rr, ww)) : gMetX D dA A K l yX4_task (ws_ yX4_task cX4_task 5 (some (.object "WorkflowEngine$Node"))) h [(ga (some a0)), (gi p1)] (gXm (fun r => some (ga r)) rr) w0 ww := by
  refine x_start (own := RX4) (by decide +kernel) rfl (Nat.le_of_ble_eq_true rfl) ?_
  intro p e R s m args below meth c C hr ht hw
  unfold f_X4_task at hf
  show gJ D dA A K p l e R s m args below meth c (gEndX D dA A K below args s w0 (gXm (fun r => some (ga r)) rr) ww) 5 0 [(0, (ga (some a0))), (1, (gi p1))] [] w0
  refine j_aload_n C dX4_task_0 rfl ?_
  refine j_dup C dX4_task_1 ?_
  replace hf := gB1_e hf
  obtain ⟨x1, ex1, hf⟩ := hf
  refine j_get C fl_X4_15_4 dX4_task_2 (gI_F ex1) ?_
  refine j_iconst (v := (nI 1)) C dX4_task_5 (by decide) ?_
  refine j_iadd C dX4_task_6 ?_
  replace hf := gB1_e hf
  obtain ⟨w2, ew2, hf⟩ := hf
  refine j_put C fl_X4_15_4 tb_4 ew2 fk_4_0 (fit_I (x1 + (nI 1))) dX4_task_7 ?_
  refine j_aload_n C dX4_task_10 rfl ?_
  replace hf := gB1_e hf
  obtain ⟨_, eo, hf⟩ := hf
  replace hf := gB2X_e hf
  rcases hf with ⟨q5, n6, w7, ew7, hf⟩ | ⟨x8, w3, ew3, hf⟩
  · refine x_callV_t (As := []) (rest := []) C (by omega) (k_X4_code (by omega) ew7) (gOb_e eo) rfl q333 q335 qs9 q95 q336 ⟨rfl, hd_X4_code⟩ (by decide) rfl (Nat.le_of_ble_eq_true rfl) dX4_task_11 ?_
    obtain ⟨rfl, rfl⟩ := gSome hf
    exact x_out C ht (by decide +kernel) hw
  refine x_callV_r (As := []) (rest := []) (v := (some (gi x8))) C (by omega) (k_X4_code (by omega) ew3) (gOb_e eo) rfl q333 q335 qs9 q95 q336 ⟨rfl, hd_X4_code⟩ (by decide) rfl (Nat.le_of_ble_eq_true rfl) dX4_task_11 ?_
  refine j_istore_n (lv' := [(2, (gi x8)), (0, (ga (some a0))), (1, (gi p1))]) C dX4_task_14 (by decide) rfl ?_
  refine j_iconst (v := (nI 0)) C dX4_task_15 (by decide) ?_
  refine j_istore_n (lv' := [(3, (gi (nI 0))), (2, (gi x8)), (0, (ga (some a0))), (1, (gi p1))]) C dX4_task_16 (by decide) rfl ?_
  refine j_iconst (v := (nI 0)) C dX4_task_17 (by decide) ?_
  refine j_istore (lv' := [(4, (gi (nI 0))), (3, (gi (nI 0))), (2, (gi x8)), (0, (ga (some a0))), (1, (gi p1))]) C dX4_task_18 (by decide) rfl ?_
  refine j_aload_n C dX4_task_20 rfl ?_
  refine j_bipush (v := (nI 114)) C dX4_task_21 (by decide) ?_
  replace hf := gB1_e hf
  obtain ⟨_, eo, hf⟩ := hf
  replace hf := gB2_e hf
  obtain ⟨x10, w9, ew9, hf⟩ := hf
  refine j_callV (As := [(gi (nI 114))]) (rest := []) (v := (some (gi x10))) C (by omega) (k_X4_skips (by omega) ew9) (gOb_e eo) rfl q342 q344 qs11 q95 q345 ⟨rfl, hd_X4_skips⟩ (by decide) rfl (Nat.le_of_ble_eq_true rfl) dX4_task_23 ?_
  replace hf := gBd_x hf
  obtain ⟨k11, ek11, hf⟩ := hf
  have jk11 : ∀ (x13 : Int32) (x14 : Int32) (x15 : Int32) (x16 : Int32) (w12 : gw), k11 x13 x14 x15 x16 w12 = some (rr, ww) → gJ D dA A K p l e R s m args below meth c (gEndX D dA A K below args s w0 (gXm (fun r => some (ga r)) rr) ww) 5 57 [(0, (ga (some a0))), (1, (gi x13)), (2, (gi x14)), (3, (gi x15)), (4, (gi x16))] [] w12 := by
    intro x13 x14 x15 x16 w12 hf
    rw [ek11] at hf
    dsimp only at hf
    replace hf := gB2_e hf
    obtain ⟨a17, w18, ew18, hf⟩ := hf
    refine j_new C nl_X4_110 ew18 dX4_task_57 ?_
    refine j_dup C dX4_task_60 ?_
    refine j_iload_n C dX4_task_61 rfl ?_
    refine j_iload_n C dX4_task_62 rfl ?_
    refine j_iload_n C dX4_task_63 rfl ?_
    refine j_iload C dX4_task_64 rfl ?_
    refine j_aload_n C dX4_task_66 rfl ?_
    refine j_bipush (v := (nI 99)) C dX4_task_67 (by decide) ?_
    replace hf := gB1_e hf
    obtain ⟨_, eo, hf⟩ := hf
    replace hf := gB2_e hf
    obtain ⟨x20, w19, ew19, hf⟩ := hf
    refine j_callV (As := [(gi (nI 99))]) (rest := [(gi x16), (gi x15), (gi x14), (gi x13), (ga (some a17)), (ga (some a17))]) (v := (some (gi x20))) C (by omega) (k_X4_skips (by omega) ew19) (gOb_e eo) rfl q342 q344 qs11 q95 q345 ⟨rfl, hd_X4_skips⟩ (by decide) rfl (Nat.le_of_ble_eq_true rfl) dX4_task_69 ?_
    replace hf := gBd_x hf
    obtain ⟨k21, ek21, hf⟩ := hf
    have jk21 : ∀ (r23 : Option Nat) (r24 : Option Nat) (x25 : Int32) (x26 : Int32) (x27 : Int32) (x28 : Int32) (x29 : Int32) (w22 : gw), k21 r23 r24 x25 x26 x27 x28 x29 w22 = some (rr, ww) → gJ D dA A K p l e R s m args below meth c (gEndX D dA A K below args s w0 (gXm (fun r => some (ga r)) rr) ww) 5 83 [] [(gi x29), (gi x28), (gi x27), (gi x26), (gi x25), (ga r24), (ga r23)] w22 := by
      intro r23 r24 x25 x26 x27 x28 x29 w22 hf
      rw [ek21] at hf
      dsimp only at hf
      replace hf := gB1_e hf
      obtain ⟨a30, ea30, hf⟩ := hf
      subst ea30
      replace hf := gB2_e hf
      obtain ⟨_, w31, ew31, hf⟩ := hf
      refine j_callI (As := [(gi x25), (gi x26), (gi x27), (gi x28), (gi x29)]) (rest := [(ga r23)]) C (by omega) (k_X9_init (by omega) ew31) rfl q355 q356 q105 q357 hd_X9_init (by decide) rfl (Nat.le_of_ble_eq_true rfl) dX4_task_83 ?_
      obtain ⟨rfl, rfl⟩ := gSome hf
      exact x_ret (j_aret C hr (Or.inl ⟨_, rfl⟩) hw dX4_task_86)
    clear ek21
    refine j_if_eq (tgt := 82) C dX4_task_72 (by decide) (fun c32 => ?_) (fun c32 => ?_)
    · replace hf := gIf_t hf c32
      refine j_iconst (v := (-1)) C dX4_task_82 (by decide) ?_
      refine j_sub (lv' := []) (gL_nil) ?_
      exact jk21 _ _ _ _ _ _ _ _ hf
    · replace hf := gIf_f hf c32
      refine j_aload_n C dX4_task_75 rfl ?_
      replace hf := gB1_e hf
      obtain ⟨_, eo, hf⟩ := hf
      replace hf := gB2X_e hf
      rcases hf with ⟨q35, n36, w37, ew37, hf⟩ | ⟨x38, w33, ew33, hf⟩
      · refine x_callV_t (As := []) (rest := [(gi x16), (gi x15), (gi x14), (gi x13), (ga (some a17)), (ga (some a17))]) C (by omega) (k_X4_code (by omega) ew37) (gOb_e eo) rfl q333 q335 qs9 q95 q336 ⟨rfl, hd_X4_code⟩ (by decide) rfl (Nat.le_of_ble_eq_true rfl) dX4_task_76 ?_
        obtain ⟨rfl, rfl⟩ := gSome hf
        exact x_out C ht (by decide +kernel) hw
      refine x_callV_r (As := []) (rest := [(gi x16), (gi x15), (gi x14), (gi x13), (ga (some a17)), (ga (some a17))]) (v := (some (gi x38))) C (by omega) (k_X4_code (by omega) ew33) (gOb_e eo) rfl q333 q335 qs9 q95 q336 ⟨rfl, hd_X4_code⟩ (by decide) rfl (Nat.le_of_ble_eq_true rfl) dX4_task_76 ?_
      refine j_goto (tgt := 83) C dX4_task_79 (by decide) ?_
      refine j_sub (lv' := []) (gL_nil) ?_
      exact jk21 _ _ _ _ _ _ _ _ hf
  clear ek11
  refine j_if_eq (tgt := 57) C dX4_task_26 (by decide) (fun c39 => ?_) (fun c39 => ?_)
  · replace hf := gIf_t hf c39
    refine j_sub (lv' := [(0, (ga (some a0))), (1, (gi p1)), (2, (gi x8)), (3, (gi (nI 0))), (4, (gi (nI 0)))]) (gL_cons rfl (gL_cons rfl (gL_cons rfl (gL_cons rfl (gL_cons rfl (gL_nil)))))) ?_
    exact jk11 _ _ _ _ _ hf
  · replace hf := gIf_f hf c39
    refine j_aload_n C dX4_task_29 rfl ?_
    refine j_bipush (v := (nI 48)) C dX4_task_30 (by decide) ?_
    refine j_bipush (v := (nI 57)) C dX4_task_32 (by decide) ?_
    replace hf := gB1_e hf
    obtain ⟨_, eo, hf⟩ := hf
    replace hf := gB2X_e hf
    rcases hf with ⟨q42, n43, w44, ew44, hf⟩ | ⟨x45, w40, ew40, hf⟩
    · refine x_callV_t (As := [(gi (nI 48)), (gi (nI 57))]) (rest := []) C (by omega) (k_X4_takes (by omega) ew44) (gOb_e eo) rfl q337 q339 qs10 q95 q340 ⟨rfl, hd_X4_takes⟩ (by decide) rfl (Nat.le_of_ble_eq_true rfl) dX4_task_34 ?_
      obtain ⟨rfl, rfl⟩ := gSome hf
      exact x_out C ht (by decide +kernel) hw
    refine x_callV_r (As := [(gi (nI 48)), (gi (nI 57))]) (rest := []) (v := (some (gi x45))) C (by omega) (k_X4_takes (by omega) ew40) (gOb_e eo) rfl q337 q339 qs10 q95 q340 ⟨rfl, hd_X4_takes⟩ (by decide) rfl (Nat.le_of_ble_eq_true rfl) dX4_task_34 ?_
    refine j_istore_n (lv' := [(3, (gi x45)), (4, (gi (nI 0))), (2, (gi x8)), (0, (ga (some a0))), (1, (gi p1))]) C dX4_task_37 (by decide) rfl ?_
    refine j_aload_n C dX4_task_38 rfl ?_
    refine j_bipush (v := (nI 43)) C dX4_task_39 (by decide) ?_
    replace hf := gB1_e hf
    obtain ⟨_, eo, hf⟩ := hf
    replace hf := gB2_e hf
    obtain ⟨x47, w46, ew46, hf⟩ := hf
    refine j_callV (As := [(gi (nI 43))]) (rest := []) (v := (some (gi x47))) C (by omega) (k_X4_skips (by omega) ew46) (gOb_e eo) rfl q342 q344 qs11 q95 q345 ⟨rfl, hd_X4_skips⟩ (by decide) rfl (Nat.le_of_ble_eq_true rfl) dX4_task_41 ?_
    replace hf := gBd_x hf
    obtain ⟨k48, ek48, hf⟩ := hf
    have jk48 : ∀ (x50 : Int32) (x51 : Int32) (x52 : Int32) (x53 : Int32) (w49 : gw), k48 x50 x51 x52 x53 w49 = some (rr, ww) → gJ D dA A K p l e R s m args below meth c (gEndX D dA A K below args s w0 (gXm (fun r => some (ga r)) rr) ww) 5 55 [(0, (ga (some a0))), (1, (gi x50)), (2, (gi x51)), (3, (gi x52))] [(gi x53)] w49 := by
      intro x50 x51 x52 x53 w49 hf
      rw [ek48] at hf
      dsimp only at hf
      refine j_istore (lv' := [(4, (gi x53)), (0, (ga (some a0))), (1, (gi x50)), (2, (gi x51)), (3, (gi x52))]) C dX4_task_55 (by decide) rfl ?_
      refine j_sub (lv' := [(0, (ga (some a0))), (1, (gi x50)), (2, (gi x51)), (3, (gi x52)), (4, (gi x53))]) (gL_cons rfl (gL_cons rfl (gL_cons rfl (gL_cons rfl (gL_cons rfl (gL_nil)))))) ?_
      exact jk11 _ _ _ _ _ hf
    clear ek48
    refine j_if_eq (tgt := 54) C dX4_task_44 (by decide) (fun c54 => ?_) (fun c54 => ?_)
    · replace hf := gIf_t hf c54
      refine j_iconst (v := (nI 0)) C dX4_task_54 (by decide) ?_
      refine j_sub (lv' := [(0, (ga (some a0))), (1, (gi p1)), (2, (gi x8)), (3, (gi x45))]) (gL_cons rfl (gL_cons rfl (gL_cons rfl (gL_cons rfl (gL_nil))))) ?_
      exact jk48 _ _ _ _ _ hf
    · replace hf := gIf_f hf c54
      refine j_aload_n C dX4_task_47 rfl ?_
      replace hf := gB1_e hf
      obtain ⟨_, eo, hf⟩ := hf
      replace hf := gB2X_e hf
      rcases hf with ⟨q57, n58, w59, ew59, hf⟩ | ⟨x60, w55, ew55, hf⟩
      · refine x_callV_t (As := []) (rest := []) C (by omega) (k_X4_number (by omega) ew59) (gOb_e eo) rfl q349 q351 qs12 q95 q352 ⟨rfl, hd_X4_number⟩ (by decide) rfl (Nat.le_of_ble_eq_true rfl) dX4_task_48 ?_
        obtain ⟨rfl, rfl⟩ := gSome hf
        exact x_out C ht (by decide +kernel) hw
      refine x_callV_r (As := []) (rest := []) (v := (some (gi x60))) C (by omega) (k_X4_number (by omega) ew55) (gOb_e eo) rfl q349 q351 qs12 q95 q352 ⟨rfl, hd_X4_number⟩ (by decide) rfl (Nat.le_of_ble_eq_true rfl) dX4_task_48 ?_
      refine j_goto (tgt := 55) C dX4_task_51 (by decide) ?_
      refine j_sub (lv' := [(0, (ga (some a0))), (1, (gi p1)), (2, (gi x8)), (3, (gi x45))]) (gL_cons rfl (gL_cons rfl (gL_cons rfl (gL_cons rfl (gL_nil))))) ?_
      exact jk48 _ _ _ _ _ hf
def dkwX4_choice_4 : List UInt8 := [25, 7, 25, 9, 183, 0, 138, 176]
abbrev dktX4_choice_4 : List UInt8 := dkwX4_choice_4 ++ []
def dkwX4_choice_3 : List UInt8 := [182, 0, 132, 58, 9, 42, 16, 93, 16, 93, 182, 0, 50, 54, 10, 187, 0, 136, 89, 27, 29, 21, 5]
abbrev dktX4_choice_3 : List UInt8 := dkwX4_choice_3 ++ dktX4_choice_4
def dkwX4_choice_2 : List UInt8 := [16, 58, 182, 0, 50, 54, 6, 42, 182, 0, 132, 58, 7, 42, 16, 124, 16, 124, 182, 0, 50, 54, 8, 42]
abbrev dktX4_choice_2 : List UInt8 := dkwX4_choice_2 ++ dktX4_choice_3
def dkwX4_choice_1 : List UInt8 := [182, 0, 50, 62, 42, 16, 60, 16, 60, 182, 0, 50, 54, 4, 42, 182, 0, 117, 54, 5, 42, 16, 58]
abbrev dktX4_choice_1 : List UInt8 := dkwX4_choice_1 ++ dktX4_choice_2
def dkwX4_choice_0 : List UInt8 := [42, 89, 180, 0, 15, 4, 96, 181, 0, 15, 42, 16, 120, 16, 120, 182, 0, 50, 61, 42, 16, 48, 16, 51]
abbrev dktX4_choice_0 : List UInt8 := dkwX4_choice_0 ++ dktX4_choice_1
theorem dksX4_choice_0 : cX4_choice.data.toList.drop 0 = dktX4_choice_0 := by decide +kernel
theorem dksX4_choice_1 : cX4_choice.data.toList.drop 24 = dktX4_choice_1 := dk_seg dksX4_choice_0 24 rfl rfl
theorem dksX4_choice_2 : cX4_choice.data.toList.drop 47 = dktX4_choice_2 := dk_seg dksX4_choice_1 23 rfl rfl
theorem dksX4_choice_3 : cX4_choice.data.toList.drop 71 = dktX4_choice_3 := dk_seg dksX4_choice_2 24 rfl rfl
theorem dksX4_choice_4 : cX4_choice.data.toList.drop 94 = dktX4_choice_4 := dk_seg dksX4_choice_3 23 rfl rfl
theorem dX4_choice_0 : decode cX4_choice 0 = .ok (.aload_n 0, 1) := dk_42 (dk_at dksX4_choice_0 0 rfl rfl)
theorem dX4_choice_1 : decode cX4_choice 1 = .ok (.dup, 1) := dk_89 (dk_at dksX4_choice_0 1 rfl rfl)
theorem dX4_choice_2 : decode cX4_choice 2 = .ok (.getfield 15, 3) := dk_180 0 15 (dk_at dksX4_choice_0 2 rfl rfl)
theorem dX4_choice_5 : decode cX4_choice 5 = .ok (.iconst 1, 1) := dk_4 (dk_at dksX4_choice_0 5 rfl rfl)
theorem dX4_choice_6 : decode cX4_choice 6 = .ok (.iadd, 1) := dk_96 (dk_at dksX4_choice_0 6 rfl rfl)
theorem dX4_choice_7 : decode cX4_choice 7 = .ok (.putfield 15, 3) := dk_181 0 15 (dk_at dksX4_choice_0 7 rfl rfl)
theorem dX4_choice_10 : decode cX4_choice 10 = .ok (.aload_n 0, 1) := dk_42 (dk_at dksX4_choice_0 10 rfl rfl)
theorem dX4_choice_11 : decode cX4_choice 11 = .ok (.bipush 120, 2) := dk_16 120 (dk_at dksX4_choice_0 11 rfl rfl)
theorem dX4_choice_13 : decode cX4_choice 13 = .ok (.bipush 120, 2) := dk_16 120 (dk_at dksX4_choice_0 13 rfl rfl)
theorem dX4_choice_15 : decode cX4_choice 15 = .ok (.invokevirtual 50, 3) := dk_182 0 50 (dk_at dksX4_choice_0 15 rfl rfl)
theorem dX4_choice_18 : decode cX4_choice 18 = .ok (.istore_n 2, 1) := dk_61 (dk_at dksX4_choice_0 18 rfl rfl)
theorem dX4_choice_19 : decode cX4_choice 19 = .ok (.aload_n 0, 1) := dk_42 (dk_at dksX4_choice_0 19 rfl rfl)
theorem dX4_choice_20 : decode cX4_choice 20 = .ok (.bipush 48, 2) := dk_16 48 (dk_at dksX4_choice_0 20 rfl rfl)
theorem dX4_choice_22 : decode cX4_choice 22 = .ok (.bipush 51, 2) := dk_16 51 (dk_at dksX4_choice_0 22 rfl rfl)
theorem dX4_choice_24 : decode cX4_choice 24 = .ok (.invokevirtual 50, 3) := dk_182 0 50 (dk_at dksX4_choice_1 0 rfl rfl)
theorem dX4_choice_27 : decode cX4_choice 27 = .ok (.istore_n 3, 1) := dk_62 (dk_at dksX4_choice_1 3 rfl rfl)
theorem dX4_choice_28 : decode cX4_choice 28 = .ok (.aload_n 0, 1) := dk_42 (dk_at dksX4_choice_1 4 rfl rfl)
theorem dX4_choice_29 : decode cX4_choice 29 = .ok (.bipush 60, 2) := dk_16 60 (dk_at dksX4_choice_1 5 rfl rfl)
theorem dX4_choice_31 : decode cX4_choice 31 = .ok (.bipush 60, 2) := dk_16 60 (dk_at dksX4_choice_1 7 rfl rfl)
theorem dX4_choice_33 : decode cX4_choice 33 = .ok (.invokevirtual 50, 3) := dk_182 0 50 (dk_at dksX4_choice_1 9 rfl rfl)
theorem dX4_choice_36 : decode cX4_choice 36 = .ok (.istore 4, 2) := dk_54 4 (dk_at dksX4_choice_1 12 rfl rfl)
theorem dX4_choice_38 : decode cX4_choice 38 = .ok (.aload_n 0, 1) := dk_42 (dk_at dksX4_choice_1 14 rfl rfl)
theorem dX4_choice_39 : decode cX4_choice 39 = .ok (.invokevirtual 117, 3) := dk_182 0 117 (dk_at dksX4_choice_1 15 rfl rfl)
theorem dX4_choice_42 : decode cX4_choice 42 = .ok (.istore 5, 2) := dk_54 5 (dk_at dksX4_choice_1 18 rfl rfl)
theorem dX4_choice_44 : decode cX4_choice 44 = .ok (.aload_n 0, 1) := dk_42 (dk_at dksX4_choice_1 20 rfl rfl)
theorem dX4_choice_45 : decode cX4_choice 45 = .ok (.bipush 58, 2) := dk_16 58 (dk_at dksX4_choice_1 21 rfl rfl)
theorem dX4_choice_47 : decode cX4_choice 47 = .ok (.bipush 58, 2) := dk_16 58 (dk_at dksX4_choice_2 0 rfl rfl)
theorem dX4_choice_49 : decode cX4_choice 49 = .ok (.invokevirtual 50, 3) := dk_182 0 50 (dk_at dksX4_choice_2 2 rfl rfl)
theorem dX4_choice_52 : decode cX4_choice 52 = .ok (.istore 6, 2) := dk_54 6 (dk_at dksX4_choice_2 5 rfl rfl)
theorem dX4_choice_54 : decode cX4_choice 54 = .ok (.aload_n 0, 1) := dk_42 (dk_at dksX4_choice_2 7 rfl rfl)
theorem dX4_choice_55 : decode cX4_choice 55 = .ok (.invokevirtual 132, 3) := dk_182 0 132 (dk_at dksX4_choice_2 8 rfl rfl)
theorem dX4_choice_58 : decode cX4_choice 58 = .ok (.astore 7, 2) := dk_58 7 (dk_at dksX4_choice_2 11 rfl rfl)
theorem dX4_choice_60 : decode cX4_choice 60 = .ok (.aload_n 0, 1) := dk_42 (dk_at dksX4_choice_2 13 rfl rfl)
theorem dX4_choice_61 : decode cX4_choice 61 = .ok (.bipush 124, 2) := dk_16 124 (dk_at dksX4_choice_2 14 rfl rfl)
theorem dX4_choice_63 : decode cX4_choice 63 = .ok (.bipush 124, 2) := dk_16 124 (dk_at dksX4_choice_2 16 rfl rfl)
theorem dX4_choice_65 : decode cX4_choice 65 = .ok (.invokevirtual 50, 3) := dk_182 0 50 (dk_at dksX4_choice_2 18 rfl rfl)
theorem dX4_choice_68 : decode cX4_choice 68 = .ok (.istore 8, 2) := dk_54 8 (dk_at dksX4_choice_2 21 rfl rfl)
theorem dX4_choice_70 : decode cX4_choice 70 = .ok (.aload_n 0, 1) := dk_42 (dk_at dksX4_choice_2 23 rfl rfl)
theorem dX4_choice_71 : decode cX4_choice 71 = .ok (.invokevirtual 132, 3) := dk_182 0 132 (dk_at dksX4_choice_3 0 rfl rfl)
theorem dX4_choice_74 : decode cX4_choice 74 = .ok (.astore 9, 2) := dk_58 9 (dk_at dksX4_choice_3 3 rfl rfl)
theorem dX4_choice_76 : decode cX4_choice 76 = .ok (.aload_n 0, 1) := dk_42 (dk_at dksX4_choice_3 5 rfl rfl)
theorem dX4_choice_77 : decode cX4_choice 77 = .ok (.bipush 93, 2) := dk_16 93 (dk_at dksX4_choice_3 6 rfl rfl)
theorem dX4_choice_79 : decode cX4_choice 79 = .ok (.bipush 93, 2) := dk_16 93 (dk_at dksX4_choice_3 8 rfl rfl)
theorem dX4_choice_81 : decode cX4_choice 81 = .ok (.invokevirtual 50, 3) := dk_182 0 50 (dk_at dksX4_choice_3 10 rfl rfl)
theorem dX4_choice_84 : decode cX4_choice 84 = .ok (.istore 10, 2) := dk_54 10 (dk_at dksX4_choice_3 13 rfl rfl)
theorem dX4_choice_86 : decode cX4_choice 86 = .ok (.new 136, 3) := dk_187 0 136 (dk_at dksX4_choice_3 15 rfl rfl)
theorem dX4_choice_89 : decode cX4_choice 89 = .ok (.dup, 1) := dk_89 (dk_at dksX4_choice_3 18 rfl rfl)
theorem dX4_choice_90 : decode cX4_choice 90 = .ok (.iload_n 1, 1) := dk_27 (dk_at dksX4_choice_3 19 rfl rfl)
theorem dX4_choice_91 : decode cX4_choice 91 = .ok (.iload_n 3, 1) := dk_29 (dk_at dksX4_choice_3 20 rfl rfl)
theorem dX4_choice_92 : decode cX4_choice 92 = .ok (.iload 5, 2) := dk_21 5 (dk_at dksX4_choice_3 21 rfl rfl)
theorem dX4_choice_94 : decode cX4_choice 94 = .ok (.aload 7, 2) := dk_25 7 (dk_at dksX4_choice_4 0 rfl rfl)
theorem dX4_choice_96 : decode cX4_choice 96 = .ok (.aload 9, 2) := dk_25 9 (dk_at dksX4_choice_4 2 rfl rfl)
theorem dX4_choice_98 : decode cX4_choice 98 = .ok (.invokespecial 138, 3) := dk_183 0 138 (dk_at dksX4_choice_4 4 rfl rfl)
theorem dX4_choice_101 : decode cX4_choice 101 = .ok (.areturn, 1) := dk_176 (dk_at dksX4_choice_4 7 rfl rfl)
theorem hd_X4_body : (yX4_body.cls ≠ "java/lang/invoke/MethodHandle" ∧ yX4_body.cls ≠ "java/lang/invoke/VarHandle" ∧ (parseMethodDescriptor yX4_body.desc).map (fun d => d.parameters.length) = some 0) := ⟨by decide +kernel, by decide +kernel, by decide +kernel⟩
theorem nl_X4_136 : gNL RX4 136 13 := ⟨RX13, TX13, 5, 5, tyX13, _, rfl, rfl, in_X13, tyX13_ok, q453, q454, q109, fun j hj => by rcases (show j = 0 ∨ j = 1 ∨ j = 2 ∨ j = 3 ∨ j = 4 by omega) with rfl | rfl | rfl | rfl | rfl <;> rfl⟩
theorem hd_X13_init : (yX13_init.cls ≠ "java/lang/invoke/MethodHandle" ∧ yX13_init.cls ≠ "java/lang/invoke/VarHandle" ∧ (parseMethodDescriptor yX13_init.desc).map (fun d => d.parameters.length) = some 5) := ⟨by decide +kernel, by decide +kernel, by decide +kernel⟩
def f_X4_choice (rec : Nat → gw → Option (((Nat × Nat) ⊕ Option Nat) × gw)) (a0 : Nat) (p1 : Int32) (w0 : gw) : Option (((Nat × Nat) ⊕ Option Nat) × gw) := gB1 (gI w0 a0 4 0) fun x1 => gB1 (gPut w0 a0 4 0 (gi (x1 + (nI 1)))) fun w2 => gB1 (gOb w2 a0 4) fun _ => gB2X (f_X4_takes a0 (nI 120) (nI 120) w2) (fun q5 n6 w7 => some (.inl (q5, n6), w7)) fun x8 w3 => gB1 (gOb w3 a0 4) fun _ => gB2X (f_X4_takes a0 (nI 48) (nI 51) w3) (fun q11 n12 w13 => some (.inl (q11, n12), w13)) fun x14 w9 => gB1 (gOb w9 a0 4) fun _ => gB2X (f_X4_takes a0 (nI 60) (nI 60) w9) (fun q17 n18 w19 => some (.inl (q17, n18), w19)) fun x20 w15 => gB1 (gOb w15 a0 4) fun _ => gB2X (f_X4_signed a0  w15) (fun q23 n24 w25 => some (.inl (q23, n24), w25)) fun x26 w21 => gB1 (gOb w21 a0 4) fun _ => gB2X (f_X4_takes a0 (nI 58) (nI 58) w21) (fun q29 n30 w31 => some (.inl (q29, n30), w31)) fun x32 w27 => gB1 (gOb w27 a0 4) fun _ => gB2X (rec a0  w27) (fun q35 n36 w37 => some (.inl (q35, n36), w37)) fun r38 w33 => gB1 (gOb w33 a0 4) fun _ => gB2X (f_X4_takes a0 (nI 124) (nI 124) w33) (fun q41 n42 w43 => some (.inl (q41, n42), w43)) fun x44 w39 => gB1 (gOb w39 a0 4) fun _ => gB2X (rec a0  w39) (fun q47 n48 w49 => some (.inl (q47, n48), w49)) fun r50 w45 => gB1 (gOb w45 a0 4) fun _ => gB2X (f_X4_takes a0 (nI 93) (nI 93) w45) (fun q53 n54 w55 => some (.inl (q53, n54), w55)) fun x56 w51 => gB2 (gNew w51 13) fun a57 w58 => gB2 (f_X13_init a57 p1 x14 x26 r38 r50 w58) fun _ w59 => some (.inr (some a57), w59)
set_option maxHeartbeats 4000000 in
set_option maxRecDepth 100000 in
theorem k_X4_choice {D : va_G} {dA : Nat → ClassId} {A : Nat → Prop} {K : Nat → Nat} {l : Launch} {h : Nat} {rec : Nat → gw → Option (((Nat × Nat) ⊕ Option Nat) × gw)} {B : Nat} (hrec : ∀ {h : Nat}, B ≤ h → ∀ {a0 : Nat} {w0 ww : gw} {rr : ((Nat × Nat) ⊕ Option Nat)}, rec a0 w0 = some (rr, ww) → gMetX D dA A K l yX4_body (ws_ yX4_body cX4_body 2 (some (.object "WorkflowEngine$Body"))) h [(ga (some a0))] (gXm (fun r => some (ga r)) rr) w0 ww) (hb : 9 ≤ B) (hh : B + 1 ≤ h) {a0 : Nat} {p1 : Int32} {w0 ww : gw} {rr : ((Nat × Nat) ⊕ Option Nat)} (hf : f_X4_choice rec a0 p1 w0 = some (rr, ww)) : gMetX D dA A K l yX4_choice (ws_ yX4_choice cX4_choice 11 (some (.object "WorkflowEngine$Node"))) h [(ga (some a0)), (gi p1)] (gXm (fun r => some (ga r)) rr) w0 ww := by
  refine x_start (own := RX4) (by decide +kernel) rfl (Nat.le_of_ble_eq_true rfl) ?_
  intro p e R s m args below meth c C hr ht hw
  unfold f_X4_choice at hf
  show gJ D dA A K p l e R s m args below meth c (gEndX D dA A K below args s w0 (gXm (fun r => some (ga r)) rr) ww) 11 0 [(0, (ga (some a0))), (1, (gi p1))] [] w0
  refine j_aload_n C dX4_choice_0 rfl ?_
  refine j_dup C dX4_choice_1 ?_
  replace hf := gB1_e hf
  obtain ⟨x1, ex1, hf⟩ := hf
  refine j_get C fl_X4_15_4 dX4_choice_2 (gI_F ex1) ?_
  refine j_iconst (v := (nI 1)) C dX4_choice_5 (by decide) ?_
  refine j_iadd C dX4_choice_6 ?_
  replace hf := gB1_e hf
  obtain ⟨w2, ew2, hf⟩ := hf
  refine j_put C fl_X4_15_4 tb_4 ew2 fk_4_0 (fit_I (x1 + (nI 1))) dX4_choice_7 ?_
  refine j_aload_n C dX4_choice_10 rfl ?_
  refine j_bipush (v := (nI 120)) C dX4_choice_11 (by decide) ?_
  refine j_bipush (v := (nI 120)) C dX4_choice_13 (by decide) ?_
  replace hf := gB1_e hf
  obtain ⟨_, eo, hf⟩ := hf
  replace hf := gB2X_e hf
  rcases hf with ⟨q5, n6, w7, ew7, hf⟩ | ⟨x8, w3, ew3, hf⟩
  · refine x_callV_t (As := [(gi (nI 120)), (gi (nI 120))]) (rest := []) C (by omega) (k_X4_takes (by omega) ew7) (gOb_e eo) rfl q337 q339 qs10 q95 q340 ⟨rfl, hd_X4_takes⟩ (by decide) rfl (Nat.le_of_ble_eq_true rfl) dX4_choice_15 ?_
    obtain ⟨rfl, rfl⟩ := gSome hf
    exact x_out C ht (by decide +kernel) hw
  refine x_callV_r (As := [(gi (nI 120)), (gi (nI 120))]) (rest := []) (v := (some (gi x8))) C (by omega) (k_X4_takes (by omega) ew3) (gOb_e eo) rfl q337 q339 qs10 q95 q340 ⟨rfl, hd_X4_takes⟩ (by decide) rfl (Nat.le_of_ble_eq_true rfl) dX4_choice_15 ?_
  refine j_istore_n (lv' := [(2, (gi x8)), (0, (ga (some a0))), (1, (gi p1))]) C dX4_choice_18 (by decide) rfl ?_
  refine j_aload_n C dX4_choice_19 rfl ?_
  refine j_bipush (v := (nI 48)) C dX4_choice_20 (by decide) ?_
  refine j_bipush (v := (nI 51)) C dX4_choice_22 (by decide) ?_
  replace hf := gB1_e hf
  obtain ⟨_, eo, hf⟩ := hf
  replace hf := gB2X_e hf
  rcases hf with ⟨q11, n12, w13, ew13, hf⟩ | ⟨x14, w9, ew9, hf⟩
  · refine x_callV_t (As := [(gi (nI 48)), (gi (nI 51))]) (rest := []) C (by omega) (k_X4_takes (by omega) ew13) (gOb_e eo) rfl q337 q339 qs10 q95 q340 ⟨rfl, hd_X4_takes⟩ (by decide) rfl (Nat.le_of_ble_eq_true rfl) dX4_choice_24 ?_
    obtain ⟨rfl, rfl⟩ := gSome hf
    exact x_out C ht (by decide +kernel) hw
  refine x_callV_r (As := [(gi (nI 48)), (gi (nI 51))]) (rest := []) (v := (some (gi x14))) C (by omega) (k_X4_takes (by omega) ew9) (gOb_e eo) rfl q337 q339 qs10 q95 q340 ⟨rfl, hd_X4_takes⟩ (by decide) rfl (Nat.le_of_ble_eq_true rfl) dX4_choice_24 ?_
  refine j_istore_n (lv' := [(3, (gi x14)), (2, (gi x8)), (0, (ga (some a0))), (1, (gi p1))]) C dX4_choice_27 (by decide) rfl ?_
  refine j_aload_n C dX4_choice_28 rfl ?_
  refine j_bipush (v := (nI 60)) C dX4_choice_29 (by decide) ?_
  refine j_bipush (v := (nI 60)) C dX4_choice_31 (by decide) ?_
  replace hf := gB1_e hf
  obtain ⟨_, eo, hf⟩ := hf
  replace hf := gB2X_e hf
  rcases hf with ⟨q17, n18, w19, ew19, hf⟩ | ⟨x20, w15, ew15, hf⟩
  · refine x_callV_t (As := [(gi (nI 60)), (gi (nI 60))]) (rest := []) C (by omega) (k_X4_takes (by omega) ew19) (gOb_e eo) rfl q337 q339 qs10 q95 q340 ⟨rfl, hd_X4_takes⟩ (by decide) rfl (Nat.le_of_ble_eq_true rfl) dX4_choice_33 ?_
    obtain ⟨rfl, rfl⟩ := gSome hf
    exact x_out C ht (by decide +kernel) hw
  refine x_callV_r (As := [(gi (nI 60)), (gi (nI 60))]) (rest := []) (v := (some (gi x20))) C (by omega) (k_X4_takes (by omega) ew15) (gOb_e eo) rfl q337 q339 qs10 q95 q340 ⟨rfl, hd_X4_takes⟩ (by decide) rfl (Nat.le_of_ble_eq_true rfl) dX4_choice_33 ?_
  refine j_istore (lv' := [(4, (gi x20)), (3, (gi x14)), (2, (gi x8)), (0, (ga (some a0))), (1, (gi p1))]) C dX4_choice_36 (by decide) rfl ?_
  refine j_aload_n C dX4_choice_38 rfl ?_
  replace hf := gB1_e hf
  obtain ⟨_, eo, hf⟩ := hf
  replace hf := gB2X_e hf
  rcases hf with ⟨q23, n24, w25, ew25, hf⟩ | ⟨x26, w21, ew21, hf⟩
  · refine x_callV_t (As := []) (rest := []) C (by omega) (k_X4_signed (by omega) ew25) (gOb_e eo) rfl q423 q425 qs14 q95 q426 ⟨rfl, hd_X4_signed⟩ (by decide) rfl (Nat.le_of_ble_eq_true rfl) dX4_choice_39 ?_
    obtain ⟨rfl, rfl⟩ := gSome hf
    exact x_out C ht (by decide +kernel) hw
  refine x_callV_r (As := []) (rest := []) (v := (some (gi x26))) C (by omega) (k_X4_signed (by omega) ew21) (gOb_e eo) rfl q423 q425 qs14 q95 q426 ⟨rfl, hd_X4_signed⟩ (by decide) rfl (Nat.le_of_ble_eq_true rfl) dX4_choice_39 ?_
  refine j_istore (lv' := [(5, (gi x26)), (4, (gi x20)), (3, (gi x14)), (2, (gi x8)), (0, (ga (some a0))), (1, (gi p1))]) C dX4_choice_42 (by decide) rfl ?_
  refine j_aload_n C dX4_choice_44 rfl ?_
  refine j_bipush (v := (nI 58)) C dX4_choice_45 (by decide) ?_
  refine j_bipush (v := (nI 58)) C dX4_choice_47 (by decide) ?_
  replace hf := gB1_e hf
  obtain ⟨_, eo, hf⟩ := hf
  replace hf := gB2X_e hf
  rcases hf with ⟨q29, n30, w31, ew31, hf⟩ | ⟨x32, w27, ew27, hf⟩
  · refine x_callV_t (As := [(gi (nI 58)), (gi (nI 58))]) (rest := []) C (by omega) (k_X4_takes (by omega) ew31) (gOb_e eo) rfl q337 q339 qs10 q95 q340 ⟨rfl, hd_X4_takes⟩ (by decide) rfl (Nat.le_of_ble_eq_true rfl) dX4_choice_49 ?_
    obtain ⟨rfl, rfl⟩ := gSome hf
    exact x_out C ht (by decide +kernel) hw
  refine x_callV_r (As := [(gi (nI 58)), (gi (nI 58))]) (rest := []) (v := (some (gi x32))) C (by omega) (k_X4_takes (by omega) ew27) (gOb_e eo) rfl q337 q339 qs10 q95 q340 ⟨rfl, hd_X4_takes⟩ (by decide) rfl (Nat.le_of_ble_eq_true rfl) dX4_choice_49 ?_
  refine j_istore (lv' := [(6, (gi x32)), (5, (gi x26)), (4, (gi x20)), (3, (gi x14)), (2, (gi x8)), (0, (ga (some a0))), (1, (gi p1))]) C dX4_choice_52 (by decide) rfl ?_
  refine j_aload_n C dX4_choice_54 rfl ?_
  replace hf := gB1_e hf
  obtain ⟨_, eo, hf⟩ := hf
  replace hf := gB2X_e hf
  rcases hf with ⟨q35, n36, w37, ew37, hf⟩ | ⟨r38, w33, ew33, hf⟩
  · refine x_callV_t (As := []) (rest := []) C (by omega) (hrec (by omega) ew37) (gOb_e eo) rfl q183 q185 qs1 q95 q186 ⟨rfl, hd_X4_body⟩ (by decide) rfl (Nat.le_of_ble_eq_true rfl) dX4_choice_55 ?_
    obtain ⟨rfl, rfl⟩ := gSome hf
    exact x_out C ht (by decide +kernel) hw
  refine x_callV_r (As := []) (rest := []) (v := (some (ga r38))) C (by omega) (hrec (by omega) ew33) (gOb_e eo) rfl q183 q185 qs1 q95 q186 ⟨rfl, hd_X4_body⟩ (by decide) rfl (Nat.le_of_ble_eq_true rfl) dX4_choice_55 ?_
  refine j_astore (lv' := [(7, (ga r38)), (6, (gi x32)), (5, (gi x26)), (4, (gi x20)), (3, (gi x14)), (2, (gi x8)), (0, (ga (some a0))), (1, (gi p1))]) C dX4_choice_58 (by decide) rfl ?_
  refine j_aload_n C dX4_choice_60 rfl ?_
  refine j_bipush (v := (nI 124)) C dX4_choice_61 (by decide) ?_
  refine j_bipush (v := (nI 124)) C dX4_choice_63 (by decide) ?_
  replace hf := gB1_e hf
  obtain ⟨_, eo, hf⟩ := hf
  replace hf := gB2X_e hf
  rcases hf with ⟨q41, n42, w43, ew43, hf⟩ | ⟨x44, w39, ew39, hf⟩
  · refine x_callV_t (As := [(gi (nI 124)), (gi (nI 124))]) (rest := []) C (by omega) (k_X4_takes (by omega) ew43) (gOb_e eo) rfl q337 q339 qs10 q95 q340 ⟨rfl, hd_X4_takes⟩ (by decide) rfl (Nat.le_of_ble_eq_true rfl) dX4_choice_65 ?_
    obtain ⟨rfl, rfl⟩ := gSome hf
    exact x_out C ht (by decide +kernel) hw
  refine x_callV_r (As := [(gi (nI 124)), (gi (nI 124))]) (rest := []) (v := (some (gi x44))) C (by omega) (k_X4_takes (by omega) ew39) (gOb_e eo) rfl q337 q339 qs10 q95 q340 ⟨rfl, hd_X4_takes⟩ (by decide) rfl (Nat.le_of_ble_eq_true rfl) dX4_choice_65 ?_
  refine j_istore (lv' := [(8, (gi x44)), (7, (ga r38)), (6, (gi x32)), (5, (gi x26)), (4, (gi x20)), (3, (gi x14)), (2, (gi x8)), (0, (ga (some a0))), (1, (gi p1))]) C dX4_choice_68 (by decide) rfl ?_
  refine j_aload_n C dX4_choice_70 rfl ?_
  replace hf := gB1_e hf
  obtain ⟨_, eo, hf⟩ := hf
  replace hf := gB2X_e hf
  rcases hf with ⟨q47, n48, w49, ew49, hf⟩ | ⟨r50, w45, ew45, hf⟩
  · refine x_callV_t (As := []) (rest := []) C (by omega) (hrec (by omega) ew49) (gOb_e eo) rfl q183 q185 qs1 q95 q186 ⟨rfl, hd_X4_body⟩ (by decide) rfl (Nat.le_of_ble_eq_true rfl) dX4_choice_71 ?_
    obtain ⟨rfl, rfl⟩ := gSome hf
    exact x_out C ht (by decide +kernel) hw
  refine x_callV_r (As := []) (rest := []) (v := (some (ga r50))) C (by omega) (hrec (by omega) ew45) (gOb_e eo) rfl q183 q185 qs1 q95 q186 ⟨rfl, hd_X4_body⟩ (by decide) rfl (Nat.le_of_ble_eq_true rfl) dX4_choice_71 ?_
  refine j_astore (lv' := [(9, (ga r50)), (8, (gi x44)), (7, (ga r38)), (6, (gi x32)), (5, (gi x26)), (4, (gi x20)), (3, (gi x14)), (2, (gi x8)), (0, (ga (some a0))), (1, (gi p1))]) C dX4_choice_74 (by decide) rfl ?_
  refine j_aload_n C dX4_choice_76 rfl ?_
  refine j_bipush (v := (nI 93)) C dX4_choice_77 (by decide) ?_
  refine j_bipush (v := (nI 93)) C dX4_choice_79 (by decide) ?_
  replace hf := gB1_e hf
  obtain ⟨_, eo, hf⟩ := hf
  replace hf := gB2X_e hf
  rcases hf with ⟨q53, n54, w55, ew55, hf⟩ | ⟨x56, w51, ew51, hf⟩
  · refine x_callV_t (As := [(gi (nI 93)), (gi (nI 93))]) (rest := []) C (by omega) (k_X4_takes (by omega) ew55) (gOb_e eo) rfl q337 q339 qs10 q95 q340 ⟨rfl, hd_X4_takes⟩ (by decide) rfl (Nat.le_of_ble_eq_true rfl) dX4_choice_81 ?_
    obtain ⟨rfl, rfl⟩ := gSome hf
    exact x_out C ht (by decide +kernel) hw
  refine x_callV_r (As := [(gi (nI 93)), (gi (nI 93))]) (rest := []) (v := (some (gi x56))) C (by omega) (k_X4_takes (by omega) ew51) (gOb_e eo) rfl q337 q339 qs10 q95 q340 ⟨rfl, hd_X4_takes⟩ (by decide) rfl (Nat.le_of_ble_eq_true rfl) dX4_choice_81 ?_
  refine j_istore (lv' := [(10, (gi x56)), (9, (ga r50)), (8, (gi x44)), (7, (ga r38)), (6, (gi x32)), (5, (gi x26)), (4, (gi x20)), (3, (gi x14)), (2, (gi x8)), (0, (ga (some a0))), (1, (gi p1))]) C dX4_choice_84 (by decide) rfl ?_
  replace hf := gB2_e hf
  obtain ⟨a57, w58, ew58, hf⟩ := hf
  refine j_new C nl_X4_136 ew58 dX4_choice_86 ?_
  refine j_dup C dX4_choice_89 ?_
  refine j_iload_n C dX4_choice_90 rfl ?_
  refine j_iload_n C dX4_choice_91 rfl ?_
  refine j_iload C dX4_choice_92 rfl ?_
  refine j_aload C dX4_choice_94 rfl ?_
  refine j_aload C dX4_choice_96 rfl ?_
  replace hf := gB2_e hf
  obtain ⟨_, w59, ew59, hf⟩ := hf
  refine j_callI (As := [(gi p1), (gi x14), (gi x26), (ga r38), (ga r50)]) (rest := [(ga (some a57))]) C (by omega) (k_X13_init (by omega) ew59) rfl q455 q456 q109 q457 hd_X13_init (by decide) rfl (Nat.le_of_ble_eq_true rfl) dX4_choice_98 ?_
  obtain ⟨rfl, rfl⟩ := gSome hf
  exact x_ret (j_aret C hr (Or.inl ⟨_, rfl⟩) hw dX4_choice_101)
def dkwX4_parallel_5 : List UInt8 := [16, 48, 21, 4, 96, 182, 0, 50, 96, 54, 4, 187, 0, 145, 89, 27, 44, 21, 4, 183, 0, 147, 176]
abbrev dktX4_parallel_5 : List UInt8 := dkwX4_parallel_5 ++ []
def dkwX4_parallel_4 : List UInt8 := [182, 0, 50, 62, 44, 182, 0, 142, 54, 4, 42, 16, 113, 182, 0, 54, 153, 0, 18, 4, 42, 16, 49]
abbrev dktX4_parallel_4 : List UInt8 := dkwX4_parallel_4 ++ dktX4_parallel_5
def dkwX4_parallel_3 : List UInt8 := [167, 0, 4, 3, 182, 0, 42, 44, 42, 182, 0, 132, 182, 0, 72, 87, 167, 255, 197, 42, 16, 41, 16, 41]
abbrev dktX4_parallel_3 : List UInt8 := dkwX4_parallel_3 ++ dktX4_parallel_4
def dkwX4_parallel_2 : List UInt8 := [182, 0, 78, 154, 0, 7, 4, 167, 0, 4, 3, 182, 0, 84, 42, 44, 182, 0, 142, 7, 162, 0, 7, 4]
abbrev dktX4_parallel_2 : List UInt8 := dkwX4_parallel_2 ++ dktX4_parallel_3
def dkwX4_parallel_1 : List UInt8 := [182, 0, 72, 87, 42, 16, 124, 182, 0, 54, 153, 0, 56, 42, 44, 182, 0, 142, 7, 161, 0, 10, 42]
abbrev dktX4_parallel_1 : List UInt8 := dkwX4_parallel_1 ++ dktX4_parallel_2
def dkwX4_parallel_0 : List UInt8 := [42, 89, 180, 0, 15, 4, 96, 181, 0, 15, 187, 0, 73, 89, 183, 0, 141, 77, 44, 42, 182, 0, 132]
abbrev dktX4_parallel_0 : List UInt8 := dkwX4_parallel_0 ++ dktX4_parallel_1
theorem dksX4_parallel_0 : cX4_parallel.data.toList.drop 0 = dktX4_parallel_0 := by decide +kernel
theorem dksX4_parallel_1 : cX4_parallel.data.toList.drop 23 = dktX4_parallel_1 := dk_seg dksX4_parallel_0 23 rfl rfl
theorem dksX4_parallel_2 : cX4_parallel.data.toList.drop 46 = dktX4_parallel_2 := dk_seg dksX4_parallel_1 23 rfl rfl
theorem dksX4_parallel_3 : cX4_parallel.data.toList.drop 70 = dktX4_parallel_3 := dk_seg dksX4_parallel_2 24 rfl rfl
theorem dksX4_parallel_4 : cX4_parallel.data.toList.drop 94 = dktX4_parallel_4 := dk_seg dksX4_parallel_3 24 rfl rfl
theorem dksX4_parallel_5 : cX4_parallel.data.toList.drop 117 = dktX4_parallel_5 := dk_seg dksX4_parallel_4 23 rfl rfl
theorem dX4_parallel_0 : decode cX4_parallel 0 = .ok (.aload_n 0, 1) := dk_42 (dk_at dksX4_parallel_0 0 rfl rfl)
theorem dX4_parallel_1 : decode cX4_parallel 1 = .ok (.dup, 1) := dk_89 (dk_at dksX4_parallel_0 1 rfl rfl)
theorem dX4_parallel_2 : decode cX4_parallel 2 = .ok (.getfield 15, 3) := dk_180 0 15 (dk_at dksX4_parallel_0 2 rfl rfl)
theorem dX4_parallel_5 : decode cX4_parallel 5 = .ok (.iconst 1, 1) := dk_4 (dk_at dksX4_parallel_0 5 rfl rfl)
theorem dX4_parallel_6 : decode cX4_parallel 6 = .ok (.iadd, 1) := dk_96 (dk_at dksX4_parallel_0 6 rfl rfl)
theorem dX4_parallel_7 : decode cX4_parallel 7 = .ok (.putfield 15, 3) := dk_181 0 15 (dk_at dksX4_parallel_0 7 rfl rfl)
theorem dX4_parallel_10 : decode cX4_parallel 10 = .ok (.new 73, 3) := dk_187 0 73 (dk_at dksX4_parallel_0 10 rfl rfl)
theorem dX4_parallel_13 : decode cX4_parallel 13 = .ok (.dup, 1) := dk_89 (dk_at dksX4_parallel_0 13 rfl rfl)
theorem dX4_parallel_14 : decode cX4_parallel 14 = .ok (.invokespecial 141, 3) := dk_183 0 141 (dk_at dksX4_parallel_0 14 rfl rfl)
theorem dX4_parallel_17 : decode cX4_parallel 17 = .ok (.astore_n 2, 1) := dk_77 (dk_at dksX4_parallel_0 17 rfl rfl)
theorem dX4_parallel_18 : decode cX4_parallel 18 = .ok (.aload_n 2, 1) := dk_44 (dk_at dksX4_parallel_0 18 rfl rfl)
theorem dX4_parallel_19 : decode cX4_parallel 19 = .ok (.aload_n 0, 1) := dk_42 (dk_at dksX4_parallel_0 19 rfl rfl)
theorem dX4_parallel_20 : decode cX4_parallel 20 = .ok (.invokevirtual 132, 3) := dk_182 0 132 (dk_at dksX4_parallel_0 20 rfl rfl)
theorem dX4_parallel_23 : decode cX4_parallel 23 = .ok (.invokevirtual 72, 3) := dk_182 0 72 (dk_at dksX4_parallel_1 0 rfl rfl)
theorem dX4_parallel_26 : decode cX4_parallel 26 = .ok (.pop, 1) := dk_87 (dk_at dksX4_parallel_1 3 rfl rfl)
theorem dX4_parallel_27 : decode cX4_parallel 27 = .ok (.aload_n 0, 1) := dk_42 (dk_at dksX4_parallel_1 4 rfl rfl)
theorem dX4_parallel_28 : decode cX4_parallel 28 = .ok (.bipush 124, 2) := dk_16 124 (dk_at dksX4_parallel_1 5 rfl rfl)
theorem dX4_parallel_30 : decode cX4_parallel 30 = .ok (.invokevirtual 54, 3) := dk_182 0 54 (dk_at dksX4_parallel_1 7 rfl rfl)
theorem dX4_parallel_33 : decode cX4_parallel 33 = .ok (.ifCond .eq 56, 3) := dk_153 0 56 (dk_at dksX4_parallel_1 10 rfl rfl)
theorem dX4_parallel_36 : decode cX4_parallel 36 = .ok (.aload_n 0, 1) := dk_42 (dk_at dksX4_parallel_1 13 rfl rfl)
theorem dX4_parallel_37 : decode cX4_parallel 37 = .ok (.aload_n 2, 1) := dk_44 (dk_at dksX4_parallel_1 14 rfl rfl)
theorem dX4_parallel_38 : decode cX4_parallel 38 = .ok (.invokevirtual 142, 3) := dk_182 0 142 (dk_at dksX4_parallel_1 15 rfl rfl)
theorem dX4_parallel_41 : decode cX4_parallel 41 = .ok (.iconst 4, 1) := dk_7 (dk_at dksX4_parallel_1 18 rfl rfl)
theorem dX4_parallel_42 : decode cX4_parallel 42 = .ok (.if_icmp .lt 10, 3) := dk_161 0 10 (dk_at dksX4_parallel_1 19 rfl rfl)
theorem dX4_parallel_45 : decode cX4_parallel 45 = .ok (.aload_n 0, 1) := dk_42 (dk_at dksX4_parallel_1 22 rfl rfl)
theorem dX4_parallel_46 : decode cX4_parallel 46 = .ok (.invokevirtual 78, 3) := dk_182 0 78 (dk_at dksX4_parallel_2 0 rfl rfl)
theorem dX4_parallel_49 : decode cX4_parallel 49 = .ok (.ifCond .ne 7, 3) := dk_154 0 7 (dk_at dksX4_parallel_2 3 rfl rfl)
theorem dX4_parallel_52 : decode cX4_parallel 52 = .ok (.iconst 1, 1) := dk_4 (dk_at dksX4_parallel_2 6 rfl rfl)
theorem dX4_parallel_53 : decode cX4_parallel 53 = .ok (.goto 4, 3) := dk_167 0 4 (dk_at dksX4_parallel_2 7 rfl rfl)
theorem dX4_parallel_56 : decode cX4_parallel 56 = .ok (.iconst 0, 1) := dk_3 (dk_at dksX4_parallel_2 10 rfl rfl)
theorem dX4_parallel_57 : decode cX4_parallel 57 = .ok (.invokevirtual 84, 3) := dk_182 0 84 (dk_at dksX4_parallel_2 11 rfl rfl)
theorem dX4_parallel_60 : decode cX4_parallel 60 = .ok (.aload_n 0, 1) := dk_42 (dk_at dksX4_parallel_2 14 rfl rfl)
theorem dX4_parallel_61 : decode cX4_parallel 61 = .ok (.aload_n 2, 1) := dk_44 (dk_at dksX4_parallel_2 15 rfl rfl)
theorem dX4_parallel_62 : decode cX4_parallel 62 = .ok (.invokevirtual 142, 3) := dk_182 0 142 (dk_at dksX4_parallel_2 16 rfl rfl)
theorem dX4_parallel_65 : decode cX4_parallel 65 = .ok (.iconst 4, 1) := dk_7 (dk_at dksX4_parallel_2 19 rfl rfl)
theorem dX4_parallel_66 : decode cX4_parallel 66 = .ok (.if_icmp .ge 7, 3) := dk_162 0 7 (dk_at dksX4_parallel_2 20 rfl rfl)
theorem dX4_parallel_69 : decode cX4_parallel 69 = .ok (.iconst 1, 1) := dk_4 (dk_at dksX4_parallel_2 23 rfl rfl)
theorem dX4_parallel_70 : decode cX4_parallel 70 = .ok (.goto 4, 3) := dk_167 0 4 (dk_at dksX4_parallel_3 0 rfl rfl)
theorem dX4_parallel_73 : decode cX4_parallel 73 = .ok (.iconst 0, 1) := dk_3 (dk_at dksX4_parallel_3 3 rfl rfl)
theorem dX4_parallel_74 : decode cX4_parallel 74 = .ok (.invokevirtual 42, 3) := dk_182 0 42 (dk_at dksX4_parallel_3 4 rfl rfl)
theorem dX4_parallel_77 : decode cX4_parallel 77 = .ok (.aload_n 2, 1) := dk_44 (dk_at dksX4_parallel_3 7 rfl rfl)
theorem dX4_parallel_78 : decode cX4_parallel 78 = .ok (.aload_n 0, 1) := dk_42 (dk_at dksX4_parallel_3 8 rfl rfl)
theorem dX4_parallel_79 : decode cX4_parallel 79 = .ok (.invokevirtual 132, 3) := dk_182 0 132 (dk_at dksX4_parallel_3 9 rfl rfl)
theorem dX4_parallel_82 : decode cX4_parallel 82 = .ok (.invokevirtual 72, 3) := dk_182 0 72 (dk_at dksX4_parallel_3 12 rfl rfl)
theorem dX4_parallel_85 : decode cX4_parallel 85 = .ok (.pop, 1) := dk_87 (dk_at dksX4_parallel_3 15 rfl rfl)
theorem dX4_parallel_86 : decode cX4_parallel 86 = .ok (.goto (-59), 3) := dk_167 255 197 (dk_at dksX4_parallel_3 16 rfl rfl)
theorem dX4_parallel_89 : decode cX4_parallel 89 = .ok (.aload_n 0, 1) := dk_42 (dk_at dksX4_parallel_3 19 rfl rfl)
theorem dX4_parallel_90 : decode cX4_parallel 90 = .ok (.bipush 41, 2) := dk_16 41 (dk_at dksX4_parallel_3 20 rfl rfl)
theorem dX4_parallel_92 : decode cX4_parallel 92 = .ok (.bipush 41, 2) := dk_16 41 (dk_at dksX4_parallel_3 22 rfl rfl)
theorem dX4_parallel_94 : decode cX4_parallel 94 = .ok (.invokevirtual 50, 3) := dk_182 0 50 (dk_at dksX4_parallel_4 0 rfl rfl)
theorem dX4_parallel_97 : decode cX4_parallel 97 = .ok (.istore_n 3, 1) := dk_62 (dk_at dksX4_parallel_4 3 rfl rfl)
theorem dX4_parallel_98 : decode cX4_parallel 98 = .ok (.aload_n 2, 1) := dk_44 (dk_at dksX4_parallel_4 4 rfl rfl)
theorem dX4_parallel_99 : decode cX4_parallel 99 = .ok (.invokevirtual 142, 3) := dk_182 0 142 (dk_at dksX4_parallel_4 5 rfl rfl)
theorem dX4_parallel_102 : decode cX4_parallel 102 = .ok (.istore 4, 2) := dk_54 4 (dk_at dksX4_parallel_4 8 rfl rfl)
theorem dX4_parallel_104 : decode cX4_parallel 104 = .ok (.aload_n 0, 1) := dk_42 (dk_at dksX4_parallel_4 10 rfl rfl)
theorem dX4_parallel_105 : decode cX4_parallel 105 = .ok (.bipush 113, 2) := dk_16 113 (dk_at dksX4_parallel_4 11 rfl rfl)
theorem dX4_parallel_107 : decode cX4_parallel 107 = .ok (.invokevirtual 54, 3) := dk_182 0 54 (dk_at dksX4_parallel_4 13 rfl rfl)
theorem dX4_parallel_110 : decode cX4_parallel 110 = .ok (.ifCond .eq 18, 3) := dk_153 0 18 (dk_at dksX4_parallel_4 16 rfl rfl)
theorem dX4_parallel_113 : decode cX4_parallel 113 = .ok (.iconst 1, 1) := dk_4 (dk_at dksX4_parallel_4 19 rfl rfl)
theorem dX4_parallel_114 : decode cX4_parallel 114 = .ok (.aload_n 0, 1) := dk_42 (dk_at dksX4_parallel_4 20 rfl rfl)
theorem dX4_parallel_115 : decode cX4_parallel 115 = .ok (.bipush 49, 2) := dk_16 49 (dk_at dksX4_parallel_4 21 rfl rfl)
theorem dX4_parallel_117 : decode cX4_parallel 117 = .ok (.bipush 48, 2) := dk_16 48 (dk_at dksX4_parallel_5 0 rfl rfl)
theorem dX4_parallel_119 : decode cX4_parallel 119 = .ok (.iload 4, 2) := dk_21 4 (dk_at dksX4_parallel_5 2 rfl rfl)
theorem dX4_parallel_121 : decode cX4_parallel 121 = .ok (.iadd, 1) := dk_96 (dk_at dksX4_parallel_5 4 rfl rfl)
theorem dX4_parallel_122 : decode cX4_parallel 122 = .ok (.invokevirtual 50, 3) := dk_182 0 50 (dk_at dksX4_parallel_5 5 rfl rfl)
theorem dX4_parallel_125 : decode cX4_parallel 125 = .ok (.iadd, 1) := dk_96 (dk_at dksX4_parallel_5 8 rfl rfl)
theorem dX4_parallel_126 : decode cX4_parallel 126 = .ok (.istore 4, 2) := dk_54 4 (dk_at dksX4_parallel_5 9 rfl rfl)
theorem dX4_parallel_128 : decode cX4_parallel 128 = .ok (.new 145, 3) := dk_187 0 145 (dk_at dksX4_parallel_5 11 rfl rfl)
theorem dX4_parallel_131 : decode cX4_parallel 131 = .ok (.dup, 1) := dk_89 (dk_at dksX4_parallel_5 14 rfl rfl)
theorem dX4_parallel_132 : decode cX4_parallel 132 = .ok (.iload_n 1, 1) := dk_27 (dk_at dksX4_parallel_5 15 rfl rfl)
theorem dX4_parallel_133 : decode cX4_parallel 133 = .ok (.aload_n 2, 1) := dk_44 (dk_at dksX4_parallel_5 16 rfl rfl)
theorem dX4_parallel_134 : decode cX4_parallel 134 = .ok (.iload 4, 2) := dk_21 4 (dk_at dksX4_parallel_5 17 rfl rfl)
theorem dX4_parallel_136 : decode cX4_parallel 136 = .ok (.invokespecial 147, 3) := dk_183 0 147 (dk_at dksX4_parallel_5 19 rfl rfl)
theorem dX4_parallel_139 : decode cX4_parallel 139 = .ok (.areturn, 1) := dk_176 (dk_at dksX4_parallel_5 22 rfl rfl)
theorem nl_X4_73 : gNL RX4 73 8 := ⟨RJ2, TJ2, 3, 3, tyJ2, _, rfl, rfl, in_J2, tyJ2_ok, q479, q194, q99, fun j hj => by rcases (show j = 0 ∨ j = 1 ∨ j = 2 by omega) with rfl | rfl | rfl <;> rfl⟩
theorem nl_X4_145 : gNL RX4 145 14 := ⟨RX14, TX14, 3, 3, tyX14, _, rfl, rfl, in_X14, tyX14_ok, q563, q564, q114, fun j hj => by rcases (show j = 0 ∨ j = 1 ∨ j = 2 by omega) with rfl | rfl | rfl <;> rfl⟩
theorem hd_X14_init : (yX14_init.cls ≠ "java/lang/invoke/MethodHandle" ∧ yX14_init.cls ≠ "java/lang/invoke/VarHandle" ∧ (parseMethodDescriptor yX14_init.desc).map (fun d => d.parameters.length) = some 3) := ⟨by decide +kernel, by decide +kernel, by decide +kernel⟩
theorem hd_X4_limits : (yX4_limits.cls ≠ "java/lang/invoke/MethodHandle" ∧ yX4_limits.cls ≠ "java/lang/invoke/VarHandle" ∧ (parseMethodDescriptor yX4_limits.desc).map (fun d => d.parameters.length) = some 1) := ⟨by decide +kernel, by decide +kernel, by decide +kernel⟩
theorem hd_X4_isItem : (yX4_isItem.cls ≠ "java/lang/invoke/MethodHandle" ∧ yX4_isItem.cls ≠ "java/lang/invoke/VarHandle" ∧ (parseMethodDescriptor yX4_isItem.desc).map (fun d => d.parameters.length) = some 0) := ⟨by decide +kernel, by decide +kernel, by decide +kernel⟩
def f_X4_parallel (rec : Nat → gw → Option (((Nat × Nat) ⊕ Option Nat) × gw)) (a0 : Nat) (p1 : Int32) (w0 : gw) : Option (((Nat × Nat) ⊕ Option Nat) × gw) := gB1 (gI w0 a0 4 0) fun x1 => gB1 (gPut w0 a0 4 0 (gi (x1 + (nI 1)))) fun w2 => gB2 (gNew w2 8) fun a3 w4 => gB2 (f_J2_init a3  w4) fun _ w5 => gB1 (gOb w5 a0 4) fun _ => gB2X (rec a0  w5) (fun q8 n9 w10 => some (.inl (q8, n9), w10)) fun r11 w6 => gB1 (gOb w6 a3 8) fun _ => gB2 (f_J2_add a3 r11 w6) fun x13 w12 => gL2 (fun k17 (x15 : Int32) (r16 : Option Nat) (w14 : gw) => gB1 (gOb w14 a0 4) fun _ => gB2 (f_X4_skips a0 (nI 124) w14) fun x19 w18 => if x19 = 0 then gB1 (gOb w18 a0 4) fun _ => gB2X (f_X4_takes a0 (nI 41) (nI 41) w18) (fun q23 n24 w25 => some (.inl (q23, n24), w25)) fun x26 w21 => gB1 r16 fun a27 => gB1 (gOb w21 a27 8) fun _ => gB2 (f_J2_size a27  w21) fun x29 w28 => gB1 (gOb w28 a0 4) fun _ => gB2 (f_X4_skips a0 (nI 113) w28) fun x31 w30 => gBd (fun (x34 : Int32) (r35 : Option Nat) (x36 : Int32) (w33 : gw) => gB2 (gNew w33 14) fun a37 w38 => gB2 (f_X14_init a37 x34 r35 x36 w38) fun _ w39 => some (.inr (some a37), w39)) fun k32 => if x31 = 0 then k32 x15 (some a27) x29 w30 else gB1 (gOb w30 a0 4) fun _ => gB2X (f_X4_takes a0 (nI 49) ((nI 48) + x29) w30) (fun q43 n44 w45 => some (.inl (q43, n44), w45)) fun x46 w41 => gBd ((nI 1) + x46) fun x47 => k32 x15 (some a27) x47 w41 else gB1 r16 fun a48 => gB1 (gOb w18 a48 8) fun _ => gB2 (f_J2_size a48  w18) fun x50 w49 => gBd (fun (x53 : Int32) (r54 : Option Nat) (r55 : Option Nat) (x56 : Int32) (w52 : gw) => gB1 r55 fun a57 => gB1 (gOb w52 a57 4) fun _ => gB2X (f_X4_limits a57 x56 w52) (fun q59 n60 w61 => some (.inl (q59, n60), w61)) fun _ w58 => gB1 r54 fun a62 => gB1 (gOb w58 a62 8) fun _ => gB2 (f_J2_size a62  w58) fun x64 w63 => gBd (fun (x67 : Int32) (r68 : Option Nat) (r69 : Option Nat) (x70 : Int32) (w66 : gw) => gB1 r69 fun a71 => gB1 (gOb w66 a71 4) fun _ => gB2X (f_X4_need a71 x70 w66) (fun q73 n74 w75 => some (.inl (q73, n74), w75)) fun _ w72 => gB1 (gOb w72 a0 4) fun _ => gB2X (rec a0  w72) (fun q78 n79 w80 => some (.inl (q78, n79), w80)) fun r81 w76 => gB1 r68 fun a82 => gB1 (gOb w76 a82 8) fun _ => gB2 (f_J2_add a82 r81 w76) fun x84 w83 => k17 x67 (some a82) w83) fun k65 => if (nI 4) ≤ x64 then k65 x53 (some a62) (some a0) (nI 0) w63 else k65 x53 (some a62) (some a0) (nI 1) w63) fun k51 => gBd (fun (x88 : Int32) (r89 : Option Nat) (r90 : Option Nat) (w87 : gw) => k51 x88 r89 r90 (nI 1) w87) fun k86 => if x50 < (nI 4) then k86 x15 (some a48) (some a0) w49 else gB1 (gOb w49 a0 4) fun _ => gB2 (f_X4_isItem a0  w49) fun x93 w92 => if x93 = 0 then k86 x15 (some a48) (some a0) w92 else k51 x15 (some a48) (some a0) (nI 0) w92) 20000 p1 (some a3) w12
set_option maxHeartbeats 4000000 in
set_option maxRecDepth 100000 in
theorem k_X4_parallel {D : va_G} {dA : Nat → ClassId} {A : Nat → Prop} {K : Nat → Nat} {l : Launch} {h : Nat} {rec : Nat → gw → Option (((Nat × Nat) ⊕ Option Nat) × gw)} {B : Nat} (hrec : ∀ {h : Nat}, B ≤ h → ∀ {a0 : Nat} {w0 ww : gw} {rr : ((Nat × Nat) ⊕ Option Nat)}, rec a0 w0 = some (rr, ww) → gMetX D dA A K l yX4_body (ws_ yX4_body cX4_body 2 (some (.object "WorkflowEngine$Body"))) h [(ga (some a0))] (gXm (fun r => some (ga r)) rr) w0 ww) (hb : 9 ≤ B) (hh : B + 1 ≤ h) {a0 : Nat} {p1 : Int32} {w0 ww : gw} {rr : ((Nat × Nat) ⊕ Option Nat)} (hf : f_X4_parallel rec a0 p1 w0 = some (rr, ww)) : gMetX D dA A K l yX4_parallel (ws_ yX4_parallel cX4_parallel 5 (some (.object "WorkflowEngine$Node"))) h [(ga (some a0)), (gi p1)] (gXm (fun r => some (ga r)) rr) w0 ww := by
  refine x_start (own := RX4) (by decide +kernel) rfl (Nat.le_of_ble_eq_true rfl) ?_
  intro p e R s m args below meth c C hr ht hw
  unfold f_X4_parallel at hf
  show gJ D dA A K p l e R s m args below meth c (gEndX D dA A K below args s w0 (gXm (fun r => some (ga r)) rr) ww) 5 0 [(0, (ga (some a0))), (1, (gi p1))] [] w0
  refine j_aload_n C dX4_parallel_0 rfl ?_
  refine j_dup C dX4_parallel_1 ?_
  replace hf := gB1_e hf
  obtain ⟨x1, ex1, hf⟩ := hf
  refine j_get C fl_X4_15_4 dX4_parallel_2 (gI_F ex1) ?_
  refine j_iconst (v := (nI 1)) C dX4_parallel_5 (by decide) ?_
  refine j_iadd C dX4_parallel_6 ?_
  replace hf := gB1_e hf
  obtain ⟨w2, ew2, hf⟩ := hf
  refine j_put C fl_X4_15_4 tb_4 ew2 fk_4_0 (fit_I (x1 + (nI 1))) dX4_parallel_7 ?_
  replace hf := gB2_e hf
  obtain ⟨a3, w4, ew4, hf⟩ := hf
  refine j_new C nl_X4_73 ew4 dX4_parallel_10 ?_
  refine j_dup C dX4_parallel_13 ?_
  replace hf := gB2_e hf
  obtain ⟨_, w5, ew5, hf⟩ := hf
  refine j_callI (As := []) (rest := [(ga (some a3))]) C (by omega) (k_J2_init (by omega) ew5) rfl q480 q196 q99 q197 hd_J2_init (by decide) rfl (Nat.le_of_ble_eq_true rfl) dX4_parallel_14 ?_
  refine j_astore_n (lv' := [(2, (ga (some a3))), (0, (ga (some a0))), (1, (gi p1))]) C dX4_parallel_17 (by decide) rfl ?_
  refine j_aload_n C dX4_parallel_18 rfl ?_
  refine j_aload_n C dX4_parallel_19 rfl ?_
  replace hf := gB1_e hf
  obtain ⟨_, eo, hf⟩ := hf
  replace hf := gB2X_e hf
  rcases hf with ⟨q8, n9, w10, ew10, hf⟩ | ⟨r11, w6, ew6, hf⟩
  · refine x_callV_t (As := []) (rest := [(ga (some a3))]) C (by omega) (hrec (by omega) ew10) (gOb_e eo) rfl q183 q185 qs1 q95 q186 ⟨rfl, hd_X4_body⟩ (by decide) rfl (Nat.le_of_ble_eq_true rfl) dX4_parallel_20 ?_
    obtain ⟨rfl, rfl⟩ := gSome hf
    exact x_out C ht (by decide +kernel) hw
  refine x_callV_r (As := []) (rest := [(ga (some a3))]) (v := (some (ga r11))) C (by omega) (hrec (by omega) ew6) (gOb_e eo) rfl q183 q185 qs1 q95 q186 ⟨rfl, hd_X4_body⟩ (by decide) rfl (Nat.le_of_ble_eq_true rfl) dX4_parallel_20 ?_
  replace hf := gB1_e hf
  obtain ⟨_, eo, hf⟩ := hf
  replace hf := gB2_e hf
  obtain ⟨x13, w12, ew12, hf⟩ := hf
  refine j_callV (As := [(ga r11)]) (rest := []) (v := (some (gi x13))) C (by omega) (k_J2_add (by omega) ew12) (gOb_e eo) rfl q481 q482 q483 q99 q484 ⟨rfl, hd_J2_add⟩ (by decide) rfl (Nat.le_of_ble_eq_true rfl) dX4_parallel_23 ?_
  refine j_pop C dX4_parallel_26 ?_
  refine j_sub (lv' := [(0, (ga (some a0))), (1, (gi p1)), (2, (ga (some a3)))]) (gL_cons rfl (gL_cons rfl (gL_cons rfl (gL_nil)))) ?_
  refine gL2_e (fun (x15 : Int32) (r16 : Option Nat) (w14 : gw) => gJ D dA A K p l e R s m args below meth c (gEndX D dA A K below args s w0 (gXm (fun r => some (ga r)) rr) ww) 5 27 [(0, (ga (some a0))), (1, (gi x15)), (2, (ga r16))] [] w14) ?_ _ _ _ _ hf
  intro k17 jk17 x15 r16 w14 hf
  refine j_aload_n C dX4_parallel_27 rfl ?_
  refine j_bipush (v := (nI 124)) C dX4_parallel_28 (by decide) ?_
  replace hf := gB1_e hf
  obtain ⟨_, eo, hf⟩ := hf
  replace hf := gB2_e hf
  obtain ⟨x19, w18, ew18, hf⟩ := hf
  refine j_callV (As := [(gi (nI 124))]) (rest := []) (v := (some (gi x19))) C (by omega) (k_X4_skips (by omega) ew18) (gOb_e eo) rfl q342 q344 qs11 q95 q345 ⟨rfl, hd_X4_skips⟩ (by decide) rfl (Nat.le_of_ble_eq_true rfl) dX4_parallel_30 ?_
  refine j_if_eq (tgt := 89) C dX4_parallel_33 (by decide) (fun c20 => ?_) (fun c20 => ?_)
  · replace hf := gIf_t hf c20
    refine j_aload_n C dX4_parallel_89 rfl ?_
    refine j_bipush (v := (nI 41)) C dX4_parallel_90 (by decide) ?_
    refine j_bipush (v := (nI 41)) C dX4_parallel_92 (by decide) ?_
    replace hf := gB1_e hf
    obtain ⟨_, eo, hf⟩ := hf
    replace hf := gB2X_e hf
    rcases hf with ⟨q23, n24, w25, ew25, hf⟩ | ⟨x26, w21, ew21, hf⟩
    · refine x_callV_t (As := [(gi (nI 41)), (gi (nI 41))]) (rest := []) C (by omega) (k_X4_takes (by omega) ew25) (gOb_e eo) rfl q337 q339 qs10 q95 q340 ⟨rfl, hd_X4_takes⟩ (by decide) rfl (Nat.le_of_ble_eq_true rfl) dX4_parallel_94 ?_
      obtain ⟨rfl, rfl⟩ := gSome hf
      exact x_out C ht (by decide +kernel) hw
    refine x_callV_r (As := [(gi (nI 41)), (gi (nI 41))]) (rest := []) (v := (some (gi x26))) C (by omega) (k_X4_takes (by omega) ew21) (gOb_e eo) rfl q337 q339 qs10 q95 q340 ⟨rfl, hd_X4_takes⟩ (by decide) rfl (Nat.le_of_ble_eq_true rfl) dX4_parallel_94 ?_
    refine j_istore_n (lv' := [(3, (gi x26)), (0, (ga (some a0))), (1, (gi x15)), (2, (ga r16))]) C dX4_parallel_97 (by decide) rfl ?_
    refine j_aload_n C dX4_parallel_98 rfl ?_
    replace hf := gB1_e hf
    obtain ⟨a27, ea27, hf⟩ := hf
    subst ea27
    replace hf := gB1_e hf
    obtain ⟨_, eo, hf⟩ := hf
    replace hf := gB2_e hf
    obtain ⟨x29, w28, ew28, hf⟩ := hf
    refine j_callV (As := []) (rest := []) (v := (some (gi x29))) C (by omega) (k_J2_size (by omega) ew28) (gOb_e eo) rfl q559 q560 q561 q99 q562 ⟨rfl, hd_J2_size⟩ (by decide) rfl (Nat.le_of_ble_eq_true rfl) dX4_parallel_99 ?_
    refine j_istore (lv' := [(4, (gi x29)), (3, (gi x26)), (0, (ga (some a0))), (1, (gi x15)), (2, (ga (some a27)))]) C dX4_parallel_102 (by decide) rfl ?_
    refine j_aload_n C dX4_parallel_104 rfl ?_
    refine j_bipush (v := (nI 113)) C dX4_parallel_105 (by decide) ?_
    replace hf := gB1_e hf
    obtain ⟨_, eo, hf⟩ := hf
    replace hf := gB2_e hf
    obtain ⟨x31, w30, ew30, hf⟩ := hf
    refine j_callV (As := [(gi (nI 113))]) (rest := []) (v := (some (gi x31))) C (by omega) (k_X4_skips (by omega) ew30) (gOb_e eo) rfl q342 q344 qs11 q95 q345 ⟨rfl, hd_X4_skips⟩ (by decide) rfl (Nat.le_of_ble_eq_true rfl) dX4_parallel_107 ?_
    replace hf := gBd_x hf
    obtain ⟨k32, ek32, hf⟩ := hf
    have jk32 : ∀ (x34 : Int32) (r35 : Option Nat) (x36 : Int32) (w33 : gw), k32 x34 r35 x36 w33 = some (rr, ww) → gJ D dA A K p l e R s m args below meth c (gEndX D dA A K below args s w0 (gXm (fun r => some (ga r)) rr) ww) 5 128 [(1, (gi x34)), (2, (ga r35)), (4, (gi x36))] [] w33 := by
      intro x34 r35 x36 w33 hf
      rw [ek32] at hf
      dsimp only at hf
      replace hf := gB2_e hf
      obtain ⟨a37, w38, ew38, hf⟩ := hf
      refine j_new C nl_X4_145 ew38 dX4_parallel_128 ?_
      refine j_dup C dX4_parallel_131 ?_
      refine j_iload_n C dX4_parallel_132 rfl ?_
      refine j_aload_n C dX4_parallel_133 rfl ?_
      refine j_iload C dX4_parallel_134 rfl ?_
      replace hf := gB2_e hf
      obtain ⟨_, w39, ew39, hf⟩ := hf
      refine j_callI (As := [(gi x34), (ga r35), (gi x36)]) (rest := [(ga (some a37))]) C (by omega) (k_X14_init (by omega) ew39) rfl q565 q566 q114 q567 hd_X14_init (by decide) rfl (Nat.le_of_ble_eq_true rfl) dX4_parallel_136 ?_
      obtain ⟨rfl, rfl⟩ := gSome hf
      exact x_ret (j_aret C hr (Or.inl ⟨_, rfl⟩) hw dX4_parallel_139)
    clear ek32
    refine j_if_eq (tgt := 128) C dX4_parallel_110 (by decide) (fun c40 => ?_) (fun c40 => ?_)
    · replace hf := gIf_t hf c40
      refine j_sub (lv' := [(1, (gi x15)), (2, (ga (some a27))), (4, (gi x29))]) (gL_cons rfl (gL_cons rfl (gL_cons rfl (gL_nil)))) ?_
      exact jk32 _ _ _ _ hf
    · replace hf := gIf_f hf c40
      refine j_iconst (v := (nI 1)) C dX4_parallel_113 (by decide) ?_
      refine j_aload_n C dX4_parallel_114 rfl ?_
      refine j_bipush (v := (nI 49)) C dX4_parallel_115 (by decide) ?_
      refine j_bipush (v := (nI 48)) C dX4_parallel_117 (by decide) ?_
      refine j_iload C dX4_parallel_119 rfl ?_
      refine j_iadd C dX4_parallel_121 ?_
      replace hf := gB1_e hf
      obtain ⟨_, eo, hf⟩ := hf
      replace hf := gB2X_e hf
      rcases hf with ⟨q43, n44, w45, ew45, hf⟩ | ⟨x46, w41, ew41, hf⟩
      · refine x_callV_t (As := [(gi (nI 49)), (gi ((nI 48) + x29))]) (rest := [(gi (nI 1))]) C (by omega) (k_X4_takes (by omega) ew45) (gOb_e eo) rfl q337 q339 qs10 q95 q340 ⟨rfl, hd_X4_takes⟩ (by decide) rfl (Nat.le_of_ble_eq_true rfl) dX4_parallel_122 ?_
        obtain ⟨rfl, rfl⟩ := gSome hf
        exact x_out C ht (by decide +kernel) hw
      refine x_callV_r (As := [(gi (nI 49)), (gi ((nI 48) + x29))]) (rest := [(gi (nI 1))]) (v := (some (gi x46))) C (by omega) (k_X4_takes (by omega) ew41) (gOb_e eo) rfl q337 q339 qs10 q95 q340 ⟨rfl, hd_X4_takes⟩ (by decide) rfl (Nat.le_of_ble_eq_true rfl) dX4_parallel_122 ?_
      refine j_iadd C dX4_parallel_125 ?_
      replace hf := gBd_x hf
      obtain ⟨x47, ex47, hf⟩ := hf
      refine j_nm ex47 ?_
      refine j_istore (lv' := [(4, (gi x47)), (3, (gi x26)), (0, (ga (some a0))), (1, (gi x15)), (2, (ga (some a27)))]) C dX4_parallel_126 (by decide) rfl ?_
      refine j_sub (lv' := [(1, (gi x15)), (2, (ga (some a27))), (4, (gi x47))]) (gL_cons rfl (gL_cons rfl (gL_cons rfl (gL_nil)))) ?_
      exact jk32 _ _ _ _ hf
  · replace hf := gIf_f hf c20
    refine j_aload_n C dX4_parallel_36 rfl ?_
    refine j_aload_n C dX4_parallel_37 rfl ?_
    replace hf := gB1_e hf
    obtain ⟨a48, ea48, hf⟩ := hf
    subst ea48
    replace hf := gB1_e hf
    obtain ⟨_, eo, hf⟩ := hf
    replace hf := gB2_e hf
    obtain ⟨x50, w49, ew49, hf⟩ := hf
    refine j_callV (As := []) (rest := [(ga (some a0))]) (v := (some (gi x50))) C (by omega) (k_J2_size (by omega) ew49) (gOb_e eo) rfl q559 q560 q561 q99 q562 ⟨rfl, hd_J2_size⟩ (by decide) rfl (Nat.le_of_ble_eq_true rfl) dX4_parallel_38 ?_
    refine j_iconst (v := (nI 4)) C dX4_parallel_41 (by decide) ?_
    replace hf := gBd_x hf
    obtain ⟨k51, ek51, hf⟩ := hf
    have jk51 : ∀ (x53 : Int32) (r54 : Option Nat) (r55 : Option Nat) (x56 : Int32) (w52 : gw), k51 x53 r54 r55 x56 w52 = some (rr, ww) → gJ D dA A K p l e R s m args below meth c (gEndX D dA A K below args s w0 (gXm (fun r => some (ga r)) rr) ww) 5 57 [(0, (ga (some a0))), (1, (gi x53)), (2, (ga r54))] [(gi x56), (ga r55)] w52 := by
      intro x53 r54 r55 x56 w52 hf
      rw [ek51] at hf
      dsimp only at hf
      replace hf := gB1_e hf
      obtain ⟨a57, ea57, hf⟩ := hf
      subst ea57
      replace hf := gB1_e hf
      obtain ⟨_, eo, hf⟩ := hf
      replace hf := gB2X_e hf
      rcases hf with ⟨q59, n60, w61, ew61, hf⟩ | ⟨_, w58, ew58, hf⟩
      · refine x_callV_t (As := [(gi x56)]) (rest := []) C (by omega) (k_X4_limits (by omega) ew61) (gOb_e eo) rfl q306 q308 qs7 q95 q309 ⟨rfl, hd_X4_limits⟩ (by decide) rfl (Nat.le_of_ble_eq_true rfl) dX4_parallel_57 ?_
        obtain ⟨rfl, rfl⟩ := gSome hf
        exact x_out C ht (by decide +kernel) hw
      refine x_callV_r (As := [(gi x56)]) (rest := []) (v := none) C (by omega) (k_X4_limits (by omega) ew58) (gOb_e eo) rfl q306 q308 qs7 q95 q309 ⟨rfl, hd_X4_limits⟩ (by decide) rfl (Nat.le_of_ble_eq_true rfl) dX4_parallel_57 ?_
      refine j_aload_n C dX4_parallel_60 rfl ?_
      refine j_aload_n C dX4_parallel_61 rfl ?_
      replace hf := gB1_e hf
      obtain ⟨a62, ea62, hf⟩ := hf
      subst ea62
      replace hf := gB1_e hf
      obtain ⟨_, eo, hf⟩ := hf
      replace hf := gB2_e hf
      obtain ⟨x64, w63, ew63, hf⟩ := hf
      refine j_callV (As := []) (rest := [(ga (some a0))]) (v := (some (gi x64))) C (by omega) (k_J2_size (by omega) ew63) (gOb_e eo) rfl q559 q560 q561 q99 q562 ⟨rfl, hd_J2_size⟩ (by decide) rfl (Nat.le_of_ble_eq_true rfl) dX4_parallel_62 ?_
      refine j_iconst (v := (nI 4)) C dX4_parallel_65 (by decide) ?_
      replace hf := gBd_x hf
      obtain ⟨k65, ek65, hf⟩ := hf
      have jk65 : ∀ (x67 : Int32) (r68 : Option Nat) (r69 : Option Nat) (x70 : Int32) (w66 : gw), k65 x67 r68 r69 x70 w66 = some (rr, ww) → gJ D dA A K p l e R s m args below meth c (gEndX D dA A K below args s w0 (gXm (fun r => some (ga r)) rr) ww) 5 74 [(0, (ga (some a0))), (1, (gi x67)), (2, (ga r68))] [(gi x70), (ga r69)] w66 := by
        intro x67 r68 r69 x70 w66 hf
        rw [ek65] at hf
        dsimp only at hf
        replace hf := gB1_e hf
        obtain ⟨a71, ea71, hf⟩ := hf
        subst ea71
        replace hf := gB1_e hf
        obtain ⟨_, eo, hf⟩ := hf
        replace hf := gB2X_e hf
        rcases hf with ⟨q73, n74, w75, ew75, hf⟩ | ⟨_, w72, ew72, hf⟩
        · refine x_callV_t (As := [(gi x70)]) (rest := []) C (by omega) (k_X4_need (by omega) ew75) (gOb_e eo) rfl q237 q239 qs5 q95 q240 ⟨rfl, hd_X4_need⟩ (by decide) rfl (Nat.le_of_ble_eq_true rfl) dX4_parallel_74 ?_
          obtain ⟨rfl, rfl⟩ := gSome hf
          exact x_out C ht (by decide +kernel) hw
        refine x_callV_r (As := [(gi x70)]) (rest := []) (v := none) C (by omega) (k_X4_need (by omega) ew72) (gOb_e eo) rfl q237 q239 qs5 q95 q240 ⟨rfl, hd_X4_need⟩ (by decide) rfl (Nat.le_of_ble_eq_true rfl) dX4_parallel_74 ?_
        refine j_aload_n C dX4_parallel_77 rfl ?_
        refine j_aload_n C dX4_parallel_78 rfl ?_
        replace hf := gB1_e hf
        obtain ⟨_, eo, hf⟩ := hf
        replace hf := gB2X_e hf
        rcases hf with ⟨q78, n79, w80, ew80, hf⟩ | ⟨r81, w76, ew76, hf⟩
        · refine x_callV_t (As := []) (rest := [(ga r68)]) C (by omega) (hrec (by omega) ew80) (gOb_e eo) rfl q183 q185 qs1 q95 q186 ⟨rfl, hd_X4_body⟩ (by decide) rfl (Nat.le_of_ble_eq_true rfl) dX4_parallel_79 ?_
          obtain ⟨rfl, rfl⟩ := gSome hf
          exact x_out C ht (by decide +kernel) hw
        refine x_callV_r (As := []) (rest := [(ga r68)]) (v := (some (ga r81))) C (by omega) (hrec (by omega) ew76) (gOb_e eo) rfl q183 q185 qs1 q95 q186 ⟨rfl, hd_X4_body⟩ (by decide) rfl (Nat.le_of_ble_eq_true rfl) dX4_parallel_79 ?_
        replace hf := gB1_e hf
        obtain ⟨a82, ea82, hf⟩ := hf
        subst ea82
        replace hf := gB1_e hf
        obtain ⟨_, eo, hf⟩ := hf
        replace hf := gB2_e hf
        obtain ⟨x84, w83, ew83, hf⟩ := hf
        refine j_callV (As := [(ga r81)]) (rest := []) (v := (some (gi x84))) C (by omega) (k_J2_add (by omega) ew83) (gOb_e eo) rfl q481 q482 q483 q99 q484 ⟨rfl, hd_J2_add⟩ (by decide) rfl (Nat.le_of_ble_eq_true rfl) dX4_parallel_82 ?_
        refine j_pop C dX4_parallel_85 ?_
        refine j_goto (tgt := 27) C dX4_parallel_86 (by decide) ?_
        exact jk17 _ _ _ hf
      clear ek65
      refine j_icmp_ge (tgt := 73) C dX4_parallel_66 (by decide) (fun c85 => ?_) (fun c85 => ?_)
      · replace hf := gIf_t hf c85
        refine j_iconst (v := (nI 0)) C dX4_parallel_73 (by decide) ?_
        exact jk65 _ _ _ _ _ hf
      · replace hf := gIf_f hf c85
        refine j_iconst (v := (nI 1)) C dX4_parallel_69 (by decide) ?_
        refine j_goto (tgt := 74) C dX4_parallel_70 (by decide) ?_
        exact jk65 _ _ _ _ _ hf
    clear ek51
    replace hf := gBd_x hf
    obtain ⟨k86, ek86, hf⟩ := hf
    have jk86 : ∀ (x88 : Int32) (r89 : Option Nat) (r90 : Option Nat) (w87 : gw), k86 x88 r89 r90 w87 = some (rr, ww) → gJ D dA A K p l e R s m args below meth c (gEndX D dA A K below args s w0 (gXm (fun r => some (ga r)) rr) ww) 5 52 [(0, (ga (some a0))), (1, (gi x88)), (2, (ga r89))] [(ga r90)] w87 := by
      intro x88 r89 r90 w87 hf
      rw [ek86] at hf
      dsimp only at hf
      refine j_iconst (v := (nI 1)) C dX4_parallel_52 (by decide) ?_
      refine j_goto (tgt := 57) C dX4_parallel_53 (by decide) ?_
      exact jk51 _ _ _ _ _ hf
    clear ek86
    refine j_icmp_lt (tgt := 52) C dX4_parallel_42 (by decide) (fun c91 => ?_) (fun c91 => ?_)
    · replace hf := gIf_t hf c91
      exact jk86 _ _ _ _ hf
    · replace hf := gIf_f hf c91
      refine j_aload_n C dX4_parallel_45 rfl ?_
      replace hf := gB1_e hf
      obtain ⟨_, eo, hf⟩ := hf
      replace hf := gB2_e hf
      obtain ⟨x93, w92, ew92, hf⟩ := hf
      refine j_callV (As := []) (rest := [(ga (some a0))]) (v := (some (gi x93))) C (by omega) (k_X4_isItem (by omega) ew92) (gOb_e eo) rfl q229 q231 qs3 q95 q232 ⟨rfl, hd_X4_isItem⟩ (by decide) rfl (Nat.le_of_ble_eq_true rfl) dX4_parallel_46 ?_
      refine j_if_ne (tgt := 56) C dX4_parallel_49 (by decide) (fun c94 => ?_) (fun c94 => ?_)
      · replace hf := gIf_f hf c94
        refine j_iconst (v := (nI 0)) C dX4_parallel_56 (by decide) ?_
        exact jk51 _ _ _ _ _ hf
      · replace hf := gIf_t hf c94
        exact jk86 _ _ _ _ hf
def dkwX4_opened_3 : List UInt8 := [78, 42, 89, 180, 0, 123, 4, 100, 181, 0, 123, 45, 191]
abbrev dktX4_opened_3 : List UInt8 := dkwX4_opened_3 ++ []
def dkwX4_opened_2 : List UInt8 := [182, 0, 129, 77, 42, 89, 180, 0, 123, 4, 100, 181, 0, 123, 44, 176, 77, 42, 3, 181, 0, 82, 44, 191]
abbrev dktX4_opened_2 : List UInt8 := dkwX4_opened_2 ++ dktX4_opened_3
def dkwX4_opened_1 : List UInt8 := [181, 0, 123, 42, 182, 0, 34, 16, 91, 160, 0, 11, 42, 27, 182, 0, 126, 167, 0, 8, 42, 27]
abbrev dktX4_opened_1 : List UInt8 := dkwX4_opened_1 ++ dktX4_opened_2
def dkwX4_opened_0 : List UInt8 := [42, 42, 180, 0, 123, 7, 162, 0, 7, 4, 167, 0, 4, 3, 182, 0, 84, 42, 89, 180, 0, 123, 4, 96]
abbrev dktX4_opened_0 : List UInt8 := dkwX4_opened_0 ++ dktX4_opened_1
theorem dksX4_opened_0 : cX4_opened.data.toList.drop 0 = dktX4_opened_0 := by decide +kernel
theorem dksX4_opened_1 : cX4_opened.data.toList.drop 24 = dktX4_opened_1 := dk_seg dksX4_opened_0 24 rfl rfl
theorem dksX4_opened_2 : cX4_opened.data.toList.drop 46 = dktX4_opened_2 := dk_seg dksX4_opened_1 22 rfl rfl
theorem dksX4_opened_3 : cX4_opened.data.toList.drop 70 = dktX4_opened_3 := dk_seg dksX4_opened_2 24 rfl rfl
theorem dX4_opened_0 : decode cX4_opened 0 = .ok (.aload_n 0, 1) := dk_42 (dk_at dksX4_opened_0 0 rfl rfl)
theorem dX4_opened_1 : decode cX4_opened 1 = .ok (.aload_n 0, 1) := dk_42 (dk_at dksX4_opened_0 1 rfl rfl)
theorem dX4_opened_2 : decode cX4_opened 2 = .ok (.getfield 123, 3) := dk_180 0 123 (dk_at dksX4_opened_0 2 rfl rfl)
theorem dX4_opened_5 : decode cX4_opened 5 = .ok (.iconst 4, 1) := dk_7 (dk_at dksX4_opened_0 5 rfl rfl)
theorem dX4_opened_6 : decode cX4_opened 6 = .ok (.if_icmp .ge 7, 3) := dk_162 0 7 (dk_at dksX4_opened_0 6 rfl rfl)
theorem dX4_opened_9 : decode cX4_opened 9 = .ok (.iconst 1, 1) := dk_4 (dk_at dksX4_opened_0 9 rfl rfl)
theorem dX4_opened_10 : decode cX4_opened 10 = .ok (.goto 4, 3) := dk_167 0 4 (dk_at dksX4_opened_0 10 rfl rfl)
theorem dX4_opened_13 : decode cX4_opened 13 = .ok (.iconst 0, 1) := dk_3 (dk_at dksX4_opened_0 13 rfl rfl)
theorem dX4_opened_14 : decode cX4_opened 14 = .ok (.invokevirtual 84, 3) := dk_182 0 84 (dk_at dksX4_opened_0 14 rfl rfl)
theorem dX4_opened_17 : decode cX4_opened 17 = .ok (.aload_n 0, 1) := dk_42 (dk_at dksX4_opened_0 17 rfl rfl)
theorem dX4_opened_18 : decode cX4_opened 18 = .ok (.dup, 1) := dk_89 (dk_at dksX4_opened_0 18 rfl rfl)
theorem dX4_opened_19 : decode cX4_opened 19 = .ok (.getfield 123, 3) := dk_180 0 123 (dk_at dksX4_opened_0 19 rfl rfl)
theorem dX4_opened_22 : decode cX4_opened 22 = .ok (.iconst 1, 1) := dk_4 (dk_at dksX4_opened_0 22 rfl rfl)
theorem dX4_opened_23 : decode cX4_opened 23 = .ok (.iadd, 1) := dk_96 (dk_at dksX4_opened_0 23 rfl rfl)
theorem dX4_opened_24 : decode cX4_opened 24 = .ok (.putfield 123, 3) := dk_181 0 123 (dk_at dksX4_opened_1 0 rfl rfl)
theorem dX4_opened_27 : decode cX4_opened 27 = .ok (.aload_n 0, 1) := dk_42 (dk_at dksX4_opened_1 3 rfl rfl)
theorem dX4_opened_28 : decode cX4_opened 28 = .ok (.invokevirtual 34, 3) := dk_182 0 34 (dk_at dksX4_opened_1 4 rfl rfl)
theorem dX4_opened_31 : decode cX4_opened 31 = .ok (.bipush 91, 2) := dk_16 91 (dk_at dksX4_opened_1 7 rfl rfl)
theorem dX4_opened_33 : decode cX4_opened 33 = .ok (.if_icmp .ne 11, 3) := dk_160 0 11 (dk_at dksX4_opened_1 9 rfl rfl)
theorem dX4_opened_36 : decode cX4_opened 36 = .ok (.aload_n 0, 1) := dk_42 (dk_at dksX4_opened_1 12 rfl rfl)
theorem dX4_opened_37 : decode cX4_opened 37 = .ok (.iload_n 1, 1) := dk_27 (dk_at dksX4_opened_1 13 rfl rfl)
theorem dX4_opened_38 : decode cX4_opened 38 = .ok (.invokevirtual 126, 3) := dk_182 0 126 (dk_at dksX4_opened_1 14 rfl rfl)
theorem dX4_opened_41 : decode cX4_opened 41 = .ok (.goto 8, 3) := dk_167 0 8 (dk_at dksX4_opened_1 17 rfl rfl)
theorem dX4_opened_44 : decode cX4_opened 44 = .ok (.aload_n 0, 1) := dk_42 (dk_at dksX4_opened_1 20 rfl rfl)
theorem dX4_opened_45 : decode cX4_opened 45 = .ok (.iload_n 1, 1) := dk_27 (dk_at dksX4_opened_1 21 rfl rfl)
theorem dX4_opened_46 : decode cX4_opened 46 = .ok (.invokevirtual 129, 3) := dk_182 0 129 (dk_at dksX4_opened_2 0 rfl rfl)
theorem dX4_opened_49 : decode cX4_opened 49 = .ok (.astore_n 2, 1) := dk_77 (dk_at dksX4_opened_2 3 rfl rfl)
theorem dX4_opened_50 : decode cX4_opened 50 = .ok (.aload_n 0, 1) := dk_42 (dk_at dksX4_opened_2 4 rfl rfl)
theorem dX4_opened_51 : decode cX4_opened 51 = .ok (.dup, 1) := dk_89 (dk_at dksX4_opened_2 5 rfl rfl)
theorem dX4_opened_52 : decode cX4_opened 52 = .ok (.getfield 123, 3) := dk_180 0 123 (dk_at dksX4_opened_2 6 rfl rfl)
theorem dX4_opened_55 : decode cX4_opened 55 = .ok (.iconst 1, 1) := dk_4 (dk_at dksX4_opened_2 9 rfl rfl)
theorem dX4_opened_56 : decode cX4_opened 56 = .ok (.isub, 1) := dk_100 (dk_at dksX4_opened_2 10 rfl rfl)
theorem dX4_opened_57 : decode cX4_opened 57 = .ok (.putfield 123, 3) := dk_181 0 123 (dk_at dksX4_opened_2 11 rfl rfl)
theorem dX4_opened_60 : decode cX4_opened 60 = .ok (.aload_n 2, 1) := dk_44 (dk_at dksX4_opened_2 14 rfl rfl)
theorem dX4_opened_61 : decode cX4_opened 61 = .ok (.areturn, 1) := dk_176 (dk_at dksX4_opened_2 15 rfl rfl)
theorem dX4_opened_62 : decode cX4_opened 62 = .ok (.astore_n 2, 1) := dk_77 (dk_at dksX4_opened_2 16 rfl rfl)
theorem dX4_opened_63 : decode cX4_opened 63 = .ok (.aload_n 0, 1) := dk_42 (dk_at dksX4_opened_2 17 rfl rfl)
theorem dX4_opened_64 : decode cX4_opened 64 = .ok (.iconst 0, 1) := dk_3 (dk_at dksX4_opened_2 18 rfl rfl)
theorem dX4_opened_65 : decode cX4_opened 65 = .ok (.putfield 82, 3) := dk_181 0 82 (dk_at dksX4_opened_2 19 rfl rfl)
theorem dX4_opened_68 : decode cX4_opened 68 = .ok (.aload_n 2, 1) := dk_44 (dk_at dksX4_opened_2 22 rfl rfl)
theorem dX4_opened_69 : decode cX4_opened 69 = .ok (.athrow, 1) := dk_191 (dk_at dksX4_opened_2 23 rfl rfl)
theorem dX4_opened_70 : decode cX4_opened 70 = .ok (.astore_n 3, 1) := dk_78 (dk_at dksX4_opened_3 0 rfl rfl)
theorem dX4_opened_71 : decode cX4_opened 71 = .ok (.aload_n 0, 1) := dk_42 (dk_at dksX4_opened_3 1 rfl rfl)
theorem dX4_opened_72 : decode cX4_opened 72 = .ok (.dup, 1) := dk_89 (dk_at dksX4_opened_3 2 rfl rfl)
theorem dX4_opened_73 : decode cX4_opened 73 = .ok (.getfield 123, 3) := dk_180 0 123 (dk_at dksX4_opened_3 3 rfl rfl)
theorem dX4_opened_76 : decode cX4_opened 76 = .ok (.iconst 1, 1) := dk_4 (dk_at dksX4_opened_3 6 rfl rfl)
theorem dX4_opened_77 : decode cX4_opened 77 = .ok (.isub, 1) := dk_100 (dk_at dksX4_opened_3 7 rfl rfl)
theorem dX4_opened_78 : decode cX4_opened 78 = .ok (.putfield 123, 3) := dk_181 0 123 (dk_at dksX4_opened_3 8 rfl rfl)
theorem dX4_opened_81 : decode cX4_opened 81 = .ok (.aload_n 3, 1) := dk_45 (dk_at dksX4_opened_3 11 rfl rfl)
theorem dX4_opened_82 : decode cX4_opened 82 = .ok (.athrow, 1) := dk_191 (dk_at dksX4_opened_3 12 rfl rfl)
theorem fl_X4_123_4 : gFL RX4 123 4 1 := gFL.mk (Cn := RX4) (T := TX4) (N := 4) (ref := "WorkflowEngine$Reader") rfl in_X4 (by decide) q167 rfl rfl (Or.inl rfl)
theorem fk_4_1 : gFk 4 1 "I" false "WorkflowEngine$Reader" := fun Cn T N h => by
  have h : (RX4, TX4, 4) = (Cn, T, N) := Option.some.inj h
  cases h
  exact ⟨rfl, rfl, rfl⟩
theorem fl_X4_82_4 : gFL RX4 82 4 2 := gFL.mk (Cn := RX4) (T := TX4) (N := 4) (ref := "WorkflowEngine$Reader") rfl in_X4 (by decide) q168 rfl rfl (Or.inl rfl)
theorem fk_4_2 : gFk 4 2 "I" false "WorkflowEngine$Reader" := fun Cn T N h => by
  have h : (RX4, TX4, 4) = (Cn, T, N) := Option.some.inj h
  cases h
  exact ⟨rfl, rfl, rfl⟩
theorem hd_X4_parallel : (yX4_parallel.cls ≠ "java/lang/invoke/MethodHandle" ∧ yX4_parallel.cls ≠ "java/lang/invoke/VarHandle" ∧ (parseMethodDescriptor yX4_parallel.desc).map (fun d => d.parameters.length) = some 1) := ⟨by decide +kernel, by decide +kernel, by decide +kernel⟩
theorem hd_X4_choice : (yX4_choice.cls ≠ "java/lang/invoke/MethodHandle" ∧ yX4_choice.cls ≠ "java/lang/invoke/VarHandle" ∧ (parseMethodDescriptor yX4_choice.desc).map (fun d => d.parameters.length) = some 1) := ⟨by decide +kernel, by decide +kernel, by decide +kernel⟩
def f_X4_opened (rec : Nat → gw → Option (((Nat × Nat) ⊕ Option Nat) × gw)) (a0 : Nat) (p1 : Int32) (w0 : gw) : Option (((Nat × Nat) ⊕ Option Nat) × gw) := gB1 (gI w0 a0 4 1) fun x1 => gBd (fun (x4 : Int32) (r5 : Option Nat) (x6 : Int32) (w3 : gw) => gB1 r5 fun a7 => gB1 (gOb w3 a7 4) fun _ => gB2X (f_X4_limits a7 x6 w3) (fun q9 n10 w11 => some (.inl (q9, n10), w11)) fun _ w8 => gB1 (gI w8 a0 4 1) fun x12 => gB1 (gPut w8 a0 4 1 (gi (x12 + (nI 1)))) fun w13 => gB1 (gOb w13 a0 4) fun _ => gB2 (f_X4_sign a0  w13) fun x15 w14 => gBd (fun (r18 : Option Nat) (w17 : gw) => gB1 (gI w17 a0 4 1) fun x19 => gB1 (gPut w17 a0 4 1 (gi (x19 - (nI 1)))) fun w20 => some (.inr r18, w20)) fun k16 => gBd (fun (r23 : Option Nat) (w22 : gw) => gB1 (gPut w22 a0 4 2 (gi (nI 0))) fun w24 => gB1 r23 fun a25 => gB1 (gKl w24 a25) fun n26 => gB1 (gI w24 a0 4 1) fun x27 => gB1 (gPut w24 a0 4 1 (gi (x27 - (nI 1)))) fun w28 => gB1 (gKl w28 a25) fun n29 => some (.inl (a25, n29), w28)) fun k21 => if x15 = (nI 91) then gB1 (gOb w14 a0 4) fun _ => gB2X (f_X4_choice rec a0 x4 w14) (fun q39 n40 w41 => if n40 = 6 then k21 (some q39) w41 else if n40 = 7 then k21 (some q39) w41 else none) fun r42 w37 => k16 r42 w37 else gB1 (gOb w14 a0 4) fun _ => gB2X (f_X4_parallel rec a0 x4 w14) (fun q33 n34 w35 => if n34 = 6 then k21 (some q33) w35 else if n34 = 7 then k21 (some q33) w35 else none) fun r36 w31 => k16 r36 w31) fun k2 => if (nI 4) ≤ x1 then k2 p1 (some a0) (nI 0) w0 else k2 p1 (some a0) (nI 1) w0
set_option maxHeartbeats 4000000 in
set_option maxRecDepth 100000 in
theorem k_X4_opened {D : va_G} {dA : Nat → ClassId} {A : Nat → Prop} {K : Nat → Nat} {l : Launch} {h : Nat} {rec : Nat → gw → Option (((Nat × Nat) ⊕ Option Nat) × gw)} {B : Nat} (hrec : ∀ {h : Nat}, B ≤ h → ∀ {a0 : Nat} {w0 ww : gw} {rr : ((Nat × Nat) ⊕ Option Nat)}, rec a0 w0 = some (rr, ww) → gMetX D dA A K l yX4_body (ws_ yX4_body cX4_body 2 (some (.object "WorkflowEngine$Body"))) h [(ga (some a0))] (gXm (fun r => some (ga r)) rr) w0 ww) (hb : 9 ≤ B) (hh : B + 2 ≤ h) {a0 : Nat} {p1 : Int32} {w0 ww : gw} {rr : ((Nat × Nat) ⊕ Option Nat)} (hf : f_X4_opened rec a0 p1 w0 = some (rr, ww)) : gMetX D dA A K l yX4_opened (wsW_ yX4_opened cX4_opened 4 (some (.object "WorkflowEngine$Node")) [(27, 50, 62, 26), (27, 50, 62, 31), (27, 50, 70, 0), (62, 71, 70, 0)]) h [(ga (some a0)), (gi p1)] (gXm (fun r => some (ga r)) rr) w0 ww := by
  refine x_startW (own := RX4) (by decide +kernel) rfl (Nat.le_of_ble_eq_true rfl) q448 ?_
  intro p e R s m args below meth c C hr ht hw
  unfold f_X4_opened at hf
  show gJ D dA A K p l e R s m args below meth c (gEndX D dA A K below args s w0 (gXm (fun r => some (ga r)) rr) ww) 4 0 [(0, (ga (some a0))), (1, (gi p1))] [] w0
  refine j_aload_n C dX4_opened_0 rfl ?_
  refine j_aload_n C dX4_opened_1 rfl ?_
  replace hf := gB1_e hf
  obtain ⟨x1, ex1, hf⟩ := hf
  refine j_get C fl_X4_123_4 dX4_opened_2 (gI_F ex1) ?_
  refine j_iconst (v := (nI 4)) C dX4_opened_5 (by decide) ?_
  replace hf := gBd_x hf
  obtain ⟨k2, ek2, hf⟩ := hf
  have jk2 : ∀ (x4 : Int32) (r5 : Option Nat) (x6 : Int32) (w3 : gw), k2 x4 r5 x6 w3 = some (rr, ww) → gJ D dA A K p l e R s m args below meth c (gEndX D dA A K below args s w0 (gXm (fun r => some (ga r)) rr) ww) 4 14 [(0, (ga (some a0))), (1, (gi x4))] [(gi x6), (ga r5)] w3 := by
    intro x4 r5 x6 w3 hf
    rw [ek2] at hf
    dsimp only at hf
    replace hf := gB1_e hf
    obtain ⟨a7, ea7, hf⟩ := hf
    subst ea7
    replace hf := gB1_e hf
    obtain ⟨_, eo, hf⟩ := hf
    replace hf := gB2X_e hf
    rcases hf with ⟨q9, n10, w11, ew11, hf⟩ | ⟨_, w8, ew8, hf⟩
    · refine x_callV_t (As := [(gi x6)]) (rest := []) C (by omega) (k_X4_limits (by omega) ew11) (gOb_e eo) rfl q306 q308 qs7 q95 q309 ⟨rfl, hd_X4_limits⟩ (by decide) rfl (Nat.le_of_ble_eq_true rfl) dX4_opened_14 ?_
      obtain ⟨rfl, rfl⟩ := gSome hf
      exact x_out C ht (by decide +kernel) hw
    refine x_callV_r (As := [(gi x6)]) (rest := []) (v := none) C (by omega) (k_X4_limits (by omega) ew8) (gOb_e eo) rfl q306 q308 qs7 q95 q309 ⟨rfl, hd_X4_limits⟩ (by decide) rfl (Nat.le_of_ble_eq_true rfl) dX4_opened_14 ?_
    refine j_aload_n C dX4_opened_17 rfl ?_
    refine j_dup C dX4_opened_18 ?_
    replace hf := gB1_e hf
    obtain ⟨x12, ex12, hf⟩ := hf
    refine j_get C fl_X4_123_4 dX4_opened_19 (gI_F ex12) ?_
    refine j_iconst (v := (nI 1)) C dX4_opened_22 (by decide) ?_
    refine j_iadd C dX4_opened_23 ?_
    replace hf := gB1_e hf
    obtain ⟨w13, ew13, hf⟩ := hf
    refine j_put C fl_X4_123_4 tb_4 ew13 fk_4_1 (fit_I (x12 + (nI 1))) dX4_opened_24 ?_
    refine j_aload_n C dX4_opened_27 rfl ?_
    replace hf := gB1_e hf
    obtain ⟨_, eo, hf⟩ := hf
    replace hf := gB2_e hf
    obtain ⟨x15, w14, ew14, hf⟩ := hf
    refine j_callV (As := []) (rest := []) (v := (some (gi x15))) C (by omega) (k_X4_sign (by omega) ew14) (gOb_e eo) rfl q233 q235 qs4 q95 q236 ⟨rfl, hd_X4_sign⟩ (by decide) rfl (Nat.le_of_ble_eq_true rfl) dX4_opened_28 ?_
    refine j_bipush (v := (nI 91)) C dX4_opened_31 (by decide) ?_
    replace hf := gBd_x hf
    obtain ⟨k16, ek16, hf⟩ := hf
    have jk16 : ∀ (r18 : Option Nat) (w17 : gw), k16 r18 w17 = some (rr, ww) → gJ D dA A K p l e R s m args below meth c (gEndX D dA A K below args s w0 (gXm (fun r => some (ga r)) rr) ww) 4 49 [(0, (ga (some a0)))] [(ga r18)] w17 := by
      intro r18 w17 hf
      rw [ek16] at hf
      dsimp only at hf
      refine j_astore_n (lv' := [(2, (ga r18)), (0, (ga (some a0)))]) C dX4_opened_49 (by decide) rfl ?_
      refine j_aload_n C dX4_opened_50 rfl ?_
      refine j_dup C dX4_opened_51 ?_
      replace hf := gB1_e hf
      obtain ⟨x19, ex19, hf⟩ := hf
      refine j_get C fl_X4_123_4 dX4_opened_52 (gI_F ex19) ?_
      refine j_iconst (v := (nI 1)) C dX4_opened_55 (by decide) ?_
      refine j_isub C dX4_opened_56 ?_
      replace hf := gB1_e hf
      obtain ⟨w20, ew20, hf⟩ := hf
      refine j_put C fl_X4_123_4 tb_4 ew20 fk_4_1 (fit_I (x19 - (nI 1))) dX4_opened_57 ?_
      refine j_aload_n C dX4_opened_60 rfl ?_
      obtain ⟨rfl, rfl⟩ := gSome hf
      exact x_ret (j_aret C hr (Or.inl ⟨_, rfl⟩) hw dX4_opened_61)
    clear ek16
    replace hf := gBd_x hf
    obtain ⟨k21, ek21, hf⟩ := hf
    have jk21 : ∀ (r23 : Option Nat) (w22 : gw), k21 r23 w22 = some (rr, ww) → gJ D dA A K p l e R s m args below meth c (gEndX D dA A K below args s w0 (gXm (fun r => some (ga r)) rr) ww) 4 62 [(0, (ga (some a0)))] [(ga r23)] w22 := by
      intro r23 w22 hf
      rw [ek21] at hf
      dsimp only at hf
      refine j_astore_n (lv' := [(2, (ga r23)), (0, (ga (some a0)))]) C dX4_opened_62 (by decide) rfl ?_
      refine j_aload_n C dX4_opened_63 rfl ?_
      refine j_iconst (v := (nI 0)) C dX4_opened_64 (by decide) ?_
      replace hf := gB1_e hf
      obtain ⟨w24, ew24, hf⟩ := hf
      refine j_put C fl_X4_82_4 tb_4 ew24 fk_4_2 (fit_I (nI 0)) dX4_opened_65 ?_
      refine j_aload_n C dX4_opened_68 rfl ?_
      replace hf := gB1_e hf
      obtain ⟨a25, ea25, hf⟩ := hf
      subst ea25
      replace hf := gB1_e hf
      obtain ⟨n26, en26, hf⟩ := hf
      refine x_athrow C en26 dX4_opened_69 ?_
      refine x_catchAll C ht ((tableOf [(27, 50, 62, 26), (27, 50, 62, 31), (27, 50, 70, 0), (62, 71, 70, 0)]).take 3) ⟨62, 71, 70, 0⟩ ((tableOf [(27, 50, 62, 26), (27, 50, 62, 31), (27, 50, 70, 0), (62, 71, 70, 0)]).drop 4) rfl (by decide +kernel) (by decide +kernel) rfl (tgt := 70) rfl ?_
      refine j_astore_n (lv' := [(3, (ga (some a25))), (2, (ga (some a25))), (0, (ga (some a0)))]) C dX4_opened_70 (by decide) rfl ?_
      refine j_aload_n C dX4_opened_71 rfl ?_
      refine j_dup C dX4_opened_72 ?_
      replace hf := gB1_e hf
      obtain ⟨x27, ex27, hf⟩ := hf
      refine j_get C fl_X4_123_4 dX4_opened_73 (gI_F ex27) ?_
      refine j_iconst (v := (nI 1)) C dX4_opened_76 (by decide) ?_
      refine j_isub C dX4_opened_77 ?_
      replace hf := gB1_e hf
      obtain ⟨w28, ew28, hf⟩ := hf
      refine j_put C fl_X4_123_4 tb_4 ew28 fk_4_1 (fit_I (x27 - (nI 1))) dX4_opened_78 ?_
      refine j_aload_n C dX4_opened_81 rfl ?_
      replace hf := gB1_e hf
      obtain ⟨n29, en29, hf⟩ := hf
      refine x_athrow C en29 dX4_opened_82 ?_
      obtain ⟨rfl, rfl⟩ := gSome hf
      exact x_out C ht (by decide +kernel) hw
    clear ek21
    refine j_icmp_ne (tgt := 44) C dX4_opened_33 (by decide) (fun c30 => ?_) (fun c30 => ?_)
    · replace hf := gIf_f hf c30
      refine j_aload_n C dX4_opened_44 rfl ?_
      refine j_iload_n C dX4_opened_45 rfl ?_
      replace hf := gB1_e hf
      obtain ⟨_, eo, hf⟩ := hf
      replace hf := gB2X_e hf
      rcases hf with ⟨q33, n34, w35, ew35, hf⟩ | ⟨r36, w31, ew31, hf⟩
      · refine x_callV_t (As := [(gi x4)]) (rest := []) C (by omega) (k_X4_parallel hrec hb (by omega) ew35) (gOb_e eo) rfl q475 q477 qs17 q95 q478 ⟨rfl, hd_X4_parallel⟩ (by decide) rfl (Nat.le_of_ble_eq_true rfl) dX4_opened_46 ?_
        by_cases n46_0 : n34 = 6
        · subst n46_0
          replace hf := gIf_t hf rfl
          refine x_catch C ht ((tableOf [(27, 50, 62, 26), (27, 50, 62, 31), (27, 50, 70, 0), (62, 71, 70, 0)]).take 0) ⟨27, 50, 62, 26⟩ ((tableOf [(27, 50, 62, 26), (27, 50, 62, 31), (27, 50, 70, 0), (62, 71, 70, 0)]).drop 1) rfl (E := "WorkflowEngine$BadSign") rfl (fun z hz => nomatch hz) (by decide +kernel) (nm := "WorkflowEngine$BadSign") (by decide +kernel) q241 nq243 (tgt := 62) rfl ?_
          refine j_sub (lv' := [(0, (ga (some a0)))]) (gL_cons rfl (gL_nil)) ?_
          exact jk21 _ _ hf
        · replace hf := gIf_f hf n46_0
          by_cases n46_1 : n34 = 7
          · subst n46_1
            replace hf := gIf_t hf rfl
            refine x_catch C ht ((tableOf [(27, 50, 62, 26), (27, 50, 62, 31), (27, 50, 70, 0), (62, 71, 70, 0)]).take 1) ⟨27, 50, 62, 31⟩ ((tableOf [(27, 50, 62, 26), (27, 50, 62, 31), (27, 50, 70, 0), (62, 71, 70, 0)]).drop 2) rfl (E := "WorkflowEngine$TooMuch") rfl (fun z hz => by rcases List.mem_singleton.mp hz with rfl; exact Or.inr ⟨by decide +kernel, "WorkflowEngine$BadSign", q241, nc32⟩) (by decide +kernel) (nm := "WorkflowEngine$TooMuch") (by decide +kernel) q310 nq312 (tgt := 62) rfl ?_
            refine j_sub (lv' := [(0, (ga (some a0)))]) (gL_cons rfl (gL_nil)) ?_
            exact jk21 _ _ hf
          · replace hf := gIf_f hf n46_1
            cases hf
      refine x_callV_r (As := [(gi x4)]) (rest := []) (v := (some (ga r36))) C (by omega) (k_X4_parallel hrec hb (by omega) ew31) (gOb_e eo) rfl q475 q477 qs17 q95 q478 ⟨rfl, hd_X4_parallel⟩ (by decide) rfl (Nat.le_of_ble_eq_true rfl) dX4_opened_46 ?_
      refine j_sub (lv' := [(0, (ga (some a0)))]) (gL_cons rfl (gL_nil)) ?_
      exact jk16 _ _ hf
    · replace hf := gIf_t hf c30
      refine j_aload_n C dX4_opened_36 rfl ?_
      refine j_iload_n C dX4_opened_37 rfl ?_
      replace hf := gB1_e hf
      obtain ⟨_, eo, hf⟩ := hf
      replace hf := gB2X_e hf
      rcases hf with ⟨q39, n40, w41, ew41, hf⟩ | ⟨r42, w37, ew37, hf⟩
      · refine x_callV_t (As := [(gi x4)]) (rest := []) C (by omega) (k_X4_choice hrec hb (by omega) ew41) (gOb_e eo) rfl q449 q451 qs16 q95 q452 ⟨rfl, hd_X4_choice⟩ (by decide) rfl (Nat.le_of_ble_eq_true rfl) dX4_opened_38 ?_
        by_cases n38_0 : n40 = 6
        · subst n38_0
          replace hf := gIf_t hf rfl
          refine x_catch C ht ((tableOf [(27, 50, 62, 26), (27, 50, 62, 31), (27, 50, 70, 0), (62, 71, 70, 0)]).take 0) ⟨27, 50, 62, 26⟩ ((tableOf [(27, 50, 62, 26), (27, 50, 62, 31), (27, 50, 70, 0), (62, 71, 70, 0)]).drop 1) rfl (E := "WorkflowEngine$BadSign") rfl (fun z hz => nomatch hz) (by decide +kernel) (nm := "WorkflowEngine$BadSign") (by decide +kernel) q241 nq243 (tgt := 62) rfl ?_
          refine j_sub (lv' := [(0, (ga (some a0)))]) (gL_cons rfl (gL_nil)) ?_
          exact jk21 _ _ hf
        · replace hf := gIf_f hf n38_0
          by_cases n38_1 : n40 = 7
          · subst n38_1
            replace hf := gIf_t hf rfl
            refine x_catch C ht ((tableOf [(27, 50, 62, 26), (27, 50, 62, 31), (27, 50, 70, 0), (62, 71, 70, 0)]).take 1) ⟨27, 50, 62, 31⟩ ((tableOf [(27, 50, 62, 26), (27, 50, 62, 31), (27, 50, 70, 0), (62, 71, 70, 0)]).drop 2) rfl (E := "WorkflowEngine$TooMuch") rfl (fun z hz => by rcases List.mem_singleton.mp hz with rfl; exact Or.inr ⟨by decide +kernel, "WorkflowEngine$BadSign", q241, nc32⟩) (by decide +kernel) (nm := "WorkflowEngine$TooMuch") (by decide +kernel) q310 nq312 (tgt := 62) rfl ?_
            refine j_sub (lv' := [(0, (ga (some a0)))]) (gL_cons rfl (gL_nil)) ?_
            exact jk21 _ _ hf
          · replace hf := gIf_f hf n38_1
            cases hf
      refine x_callV_r (As := [(gi x4)]) (rest := []) (v := (some (ga r42))) C (by omega) (k_X4_choice hrec hb (by omega) ew37) (gOb_e eo) rfl q449 q451 qs16 q95 q452 ⟨rfl, hd_X4_choice⟩ (by decide) rfl (Nat.le_of_ble_eq_true rfl) dX4_opened_38 ?_
      refine j_goto (tgt := 49) C dX4_opened_41 (by decide) ?_
      refine j_sub (lv' := [(0, (ga (some a0)))]) (gL_cons rfl (gL_nil)) ?_
      exact jk16 _ _ hf
  clear ek2
  refine j_icmp_ge (tgt := 13) C dX4_opened_6 (by decide) (fun c43 => ?_) (fun c43 => ?_)
  · replace hf := gIf_t hf c43
    refine j_iconst (v := (nI 0)) C dX4_opened_13 (by decide) ?_
    exact jk2 _ _ _ _ hf
  · replace hf := gIf_f hf c43
    refine j_iconst (v := (nI 1)) C dX4_opened_9 (by decide) ?_
    refine j_goto (tgt := 14) C dX4_opened_10 (by decide) ?_
    exact jk2 _ _ _ _ hf
def dkwX4_item_6 : List UInt8 := [183, 0, 101, 176, 42, 27, 182, 0, 104, 176, 42, 27, 182, 0, 107, 176]
abbrev dktX4_item_6 : List UInt8 := dkwX4_item_6 ++ []
def dkwX4_item_5 : List UInt8 := [187, 0, 99, 89, 27, 28, 42, 16, 44, 182, 0, 54, 153, 0, 10, 42, 182, 0, 58, 167, 0, 4, 2]
abbrev dktX4_item_5 : List UInt8 := dkwX4_item_5 ++ dktX4_item_6
def dkwX4_item_4 : List UInt8 := [182, 0, 58, 183, 0, 93, 176, 42, 89, 180, 0, 15, 4, 96, 181, 0, 15, 42, 182, 0, 96, 61]
abbrev dktX4_item_4 : List UInt8 := dkwX4_item_4 ++ dktX4_item_5
def dkwX4_item_3 : List UInt8 := [42, 27, 182, 0, 87, 176, 42, 89, 180, 0, 15, 4, 96, 181, 0, 15, 187, 0, 91, 89, 27, 42]
abbrev dktX4_item_3 : List UInt8 := dkwX4_item_3 ++ dktX4_item_4
def dkwX4_item_2 : List UInt8 := [170, 0, 0, 0, 0, 0, 116, 0, 0, 0, 115, 0, 0, 0, 120, 0, 0, 0, 68, 0, 0, 0, 39, 0, 0, 0, 116, 0, 0, 0, 116, 0, 0, 0, 45, 0, 0, 0, 110]
abbrev dktX4_item_2 : List UInt8 := dkwX4_item_2 ++ dktX4_item_3
def dkwX4_item_1 : List UInt8 := [182, 0, 84, 42, 89, 180, 0, 82, 4, 96, 181, 0, 82, 42, 180, 0, 15, 60, 42, 182, 0, 34]
abbrev dktX4_item_1 : List UInt8 := dkwX4_item_1 ++ dktX4_item_2
def dkwX4_item_0 : List UInt8 := [42, 42, 182, 0, 78, 182, 0, 42, 42, 42, 180, 0, 82, 16, 24, 162, 0, 7, 4, 167, 0, 4, 3]
abbrev dktX4_item_0 : List UInt8 := dkwX4_item_0 ++ dktX4_item_1
theorem dksX4_item_0 : cX4_item.data.toList.drop 0 = dktX4_item_0 := by decide +kernel
theorem dksX4_item_1 : cX4_item.data.toList.drop 23 = dktX4_item_1 := dk_seg dksX4_item_0 23 rfl rfl
theorem dksX4_item_2 : cX4_item.data.toList.drop 45 = dktX4_item_2 := dk_seg dksX4_item_1 22 rfl rfl
theorem dksX4_item_3 : cX4_item.data.toList.drop 84 = dktX4_item_3 := dk_seg dksX4_item_2 39 rfl rfl
theorem dksX4_item_4 : cX4_item.data.toList.drop 106 = dktX4_item_4 := dk_seg dksX4_item_3 22 rfl rfl
theorem dksX4_item_5 : cX4_item.data.toList.drop 128 = dktX4_item_5 := dk_seg dksX4_item_4 22 rfl rfl
theorem dksX4_item_6 : cX4_item.data.toList.drop 151 = dktX4_item_6 := dk_seg dksX4_item_5 23 rfl rfl
theorem dX4_item_0 : decode cX4_item 0 = .ok (.aload_n 0, 1) := dk_42 (dk_at dksX4_item_0 0 rfl rfl)
theorem dX4_item_1 : decode cX4_item 1 = .ok (.aload_n 0, 1) := dk_42 (dk_at dksX4_item_0 1 rfl rfl)
theorem dX4_item_2 : decode cX4_item 2 = .ok (.invokevirtual 78, 3) := dk_182 0 78 (dk_at dksX4_item_0 2 rfl rfl)
theorem dX4_item_5 : decode cX4_item 5 = .ok (.invokevirtual 42, 3) := dk_182 0 42 (dk_at dksX4_item_0 5 rfl rfl)
theorem dX4_item_8 : decode cX4_item 8 = .ok (.aload_n 0, 1) := dk_42 (dk_at dksX4_item_0 8 rfl rfl)
theorem dX4_item_9 : decode cX4_item 9 = .ok (.aload_n 0, 1) := dk_42 (dk_at dksX4_item_0 9 rfl rfl)
theorem dX4_item_10 : decode cX4_item 10 = .ok (.getfield 82, 3) := dk_180 0 82 (dk_at dksX4_item_0 10 rfl rfl)
theorem dX4_item_13 : decode cX4_item 13 = .ok (.bipush 24, 2) := dk_16 24 (dk_at dksX4_item_0 13 rfl rfl)
theorem dX4_item_15 : decode cX4_item 15 = .ok (.if_icmp .ge 7, 3) := dk_162 0 7 (dk_at dksX4_item_0 15 rfl rfl)
theorem dX4_item_18 : decode cX4_item 18 = .ok (.iconst 1, 1) := dk_4 (dk_at dksX4_item_0 18 rfl rfl)
theorem dX4_item_19 : decode cX4_item 19 = .ok (.goto 4, 3) := dk_167 0 4 (dk_at dksX4_item_0 19 rfl rfl)
theorem dX4_item_22 : decode cX4_item 22 = .ok (.iconst 0, 1) := dk_3 (dk_at dksX4_item_0 22 rfl rfl)
theorem dX4_item_23 : decode cX4_item 23 = .ok (.invokevirtual 84, 3) := dk_182 0 84 (dk_at dksX4_item_1 0 rfl rfl)
theorem dX4_item_26 : decode cX4_item 26 = .ok (.aload_n 0, 1) := dk_42 (dk_at dksX4_item_1 3 rfl rfl)
theorem dX4_item_27 : decode cX4_item 27 = .ok (.dup, 1) := dk_89 (dk_at dksX4_item_1 4 rfl rfl)
theorem dX4_item_28 : decode cX4_item 28 = .ok (.getfield 82, 3) := dk_180 0 82 (dk_at dksX4_item_1 5 rfl rfl)
theorem dX4_item_31 : decode cX4_item 31 = .ok (.iconst 1, 1) := dk_4 (dk_at dksX4_item_1 8 rfl rfl)
theorem dX4_item_32 : decode cX4_item 32 = .ok (.iadd, 1) := dk_96 (dk_at dksX4_item_1 9 rfl rfl)
theorem dX4_item_33 : decode cX4_item 33 = .ok (.putfield 82, 3) := dk_181 0 82 (dk_at dksX4_item_1 10 rfl rfl)
theorem dX4_item_36 : decode cX4_item 36 = .ok (.aload_n 0, 1) := dk_42 (dk_at dksX4_item_1 13 rfl rfl)
theorem dX4_item_37 : decode cX4_item 37 = .ok (.getfield 15, 3) := dk_180 0 15 (dk_at dksX4_item_1 14 rfl rfl)
theorem dX4_item_40 : decode cX4_item 40 = .ok (.istore_n 1, 1) := dk_60 (dk_at dksX4_item_1 17 rfl rfl)
theorem dX4_item_41 : decode cX4_item 41 = .ok (.aload_n 0, 1) := dk_42 (dk_at dksX4_item_1 18 rfl rfl)
theorem dX4_item_42 : decode cX4_item 42 = .ok (.invokevirtual 34, 3) := dk_182 0 34 (dk_at dksX4_item_1 19 rfl rfl)
theorem dX4_item_45 : decode cX4_item 45 = .ok (.tableswitch 116 115 120 #[68, 39, 116, 116, 45, 110], 39) := by decide +kernel
theorem dX4_item_84 : decode cX4_item 84 = .ok (.aload_n 0, 1) := dk_42 (dk_at dksX4_item_3 0 rfl rfl)
theorem dX4_item_85 : decode cX4_item 85 = .ok (.iload_n 1, 1) := dk_27 (dk_at dksX4_item_3 1 rfl rfl)
theorem dX4_item_86 : decode cX4_item 86 = .ok (.invokevirtual 87, 3) := dk_182 0 87 (dk_at dksX4_item_3 2 rfl rfl)
theorem dX4_item_89 : decode cX4_item 89 = .ok (.areturn, 1) := dk_176 (dk_at dksX4_item_3 5 rfl rfl)
theorem dX4_item_90 : decode cX4_item 90 = .ok (.aload_n 0, 1) := dk_42 (dk_at dksX4_item_3 6 rfl rfl)
theorem dX4_item_91 : decode cX4_item 91 = .ok (.dup, 1) := dk_89 (dk_at dksX4_item_3 7 rfl rfl)
theorem dX4_item_92 : decode cX4_item 92 = .ok (.getfield 15, 3) := dk_180 0 15 (dk_at dksX4_item_3 8 rfl rfl)
theorem dX4_item_95 : decode cX4_item 95 = .ok (.iconst 1, 1) := dk_4 (dk_at dksX4_item_3 11 rfl rfl)
theorem dX4_item_96 : decode cX4_item 96 = .ok (.iadd, 1) := dk_96 (dk_at dksX4_item_3 12 rfl rfl)
theorem dX4_item_97 : decode cX4_item 97 = .ok (.putfield 15, 3) := dk_181 0 15 (dk_at dksX4_item_3 13 rfl rfl)
theorem dX4_item_100 : decode cX4_item 100 = .ok (.new 91, 3) := dk_187 0 91 (dk_at dksX4_item_3 16 rfl rfl)
theorem dX4_item_103 : decode cX4_item 103 = .ok (.dup, 1) := dk_89 (dk_at dksX4_item_3 19 rfl rfl)
theorem dX4_item_104 : decode cX4_item 104 = .ok (.iload_n 1, 1) := dk_27 (dk_at dksX4_item_3 20 rfl rfl)
theorem dX4_item_105 : decode cX4_item 105 = .ok (.aload_n 0, 1) := dk_42 (dk_at dksX4_item_3 21 rfl rfl)
theorem dX4_item_106 : decode cX4_item 106 = .ok (.invokevirtual 58, 3) := dk_182 0 58 (dk_at dksX4_item_4 0 rfl rfl)
theorem dX4_item_109 : decode cX4_item 109 = .ok (.invokespecial 93, 3) := dk_183 0 93 (dk_at dksX4_item_4 3 rfl rfl)
theorem dX4_item_112 : decode cX4_item 112 = .ok (.areturn, 1) := dk_176 (dk_at dksX4_item_4 6 rfl rfl)
theorem dX4_item_113 : decode cX4_item 113 = .ok (.aload_n 0, 1) := dk_42 (dk_at dksX4_item_4 7 rfl rfl)
theorem dX4_item_114 : decode cX4_item 114 = .ok (.dup, 1) := dk_89 (dk_at dksX4_item_4 8 rfl rfl)
theorem dX4_item_115 : decode cX4_item 115 = .ok (.getfield 15, 3) := dk_180 0 15 (dk_at dksX4_item_4 9 rfl rfl)
theorem dX4_item_118 : decode cX4_item 118 = .ok (.iconst 1, 1) := dk_4 (dk_at dksX4_item_4 12 rfl rfl)
theorem dX4_item_119 : decode cX4_item 119 = .ok (.iadd, 1) := dk_96 (dk_at dksX4_item_4 13 rfl rfl)
theorem dX4_item_120 : decode cX4_item 120 = .ok (.putfield 15, 3) := dk_181 0 15 (dk_at dksX4_item_4 14 rfl rfl)
theorem dX4_item_123 : decode cX4_item 123 = .ok (.aload_n 0, 1) := dk_42 (dk_at dksX4_item_4 17 rfl rfl)
theorem dX4_item_124 : decode cX4_item 124 = .ok (.invokevirtual 96, 3) := dk_182 0 96 (dk_at dksX4_item_4 18 rfl rfl)
theorem dX4_item_127 : decode cX4_item 127 = .ok (.istore_n 2, 1) := dk_61 (dk_at dksX4_item_4 21 rfl rfl)
theorem dX4_item_128 : decode cX4_item 128 = .ok (.new 99, 3) := dk_187 0 99 (dk_at dksX4_item_5 0 rfl rfl)
theorem dX4_item_131 : decode cX4_item 131 = .ok (.dup, 1) := dk_89 (dk_at dksX4_item_5 3 rfl rfl)
theorem dX4_item_132 : decode cX4_item 132 = .ok (.iload_n 1, 1) := dk_27 (dk_at dksX4_item_5 4 rfl rfl)
theorem dX4_item_133 : decode cX4_item 133 = .ok (.iload_n 2, 1) := dk_28 (dk_at dksX4_item_5 5 rfl rfl)
theorem dX4_item_134 : decode cX4_item 134 = .ok (.aload_n 0, 1) := dk_42 (dk_at dksX4_item_5 6 rfl rfl)
theorem dX4_item_135 : decode cX4_item 135 = .ok (.bipush 44, 2) := dk_16 44 (dk_at dksX4_item_5 7 rfl rfl)
theorem dX4_item_137 : decode cX4_item 137 = .ok (.invokevirtual 54, 3) := dk_182 0 54 (dk_at dksX4_item_5 9 rfl rfl)
theorem dX4_item_140 : decode cX4_item 140 = .ok (.ifCond .eq 10, 3) := dk_153 0 10 (dk_at dksX4_item_5 12 rfl rfl)
theorem dX4_item_143 : decode cX4_item 143 = .ok (.aload_n 0, 1) := dk_42 (dk_at dksX4_item_5 15 rfl rfl)
theorem dX4_item_144 : decode cX4_item 144 = .ok (.invokevirtual 58, 3) := dk_182 0 58 (dk_at dksX4_item_5 16 rfl rfl)
theorem dX4_item_147 : decode cX4_item 147 = .ok (.goto 4, 3) := dk_167 0 4 (dk_at dksX4_item_5 19 rfl rfl)
theorem dX4_item_150 : decode cX4_item 150 = .ok (.iconst (-1), 1) := dk_2 (dk_at dksX4_item_5 22 rfl rfl)
theorem dX4_item_151 : decode cX4_item 151 = .ok (.invokespecial 101, 3) := dk_183 0 101 (dk_at dksX4_item_6 0 rfl rfl)
theorem dX4_item_154 : decode cX4_item 154 = .ok (.areturn, 1) := dk_176 (dk_at dksX4_item_6 3 rfl rfl)
theorem dX4_item_155 : decode cX4_item 155 = .ok (.aload_n 0, 1) := dk_42 (dk_at dksX4_item_6 4 rfl rfl)
theorem dX4_item_156 : decode cX4_item 156 = .ok (.iload_n 1, 1) := dk_27 (dk_at dksX4_item_6 5 rfl rfl)
theorem dX4_item_157 : decode cX4_item 157 = .ok (.invokevirtual 104, 3) := dk_182 0 104 (dk_at dksX4_item_6 6 rfl rfl)
theorem dX4_item_160 : decode cX4_item 160 = .ok (.areturn, 1) := dk_176 (dk_at dksX4_item_6 9 rfl rfl)
theorem dX4_item_161 : decode cX4_item 161 = .ok (.aload_n 0, 1) := dk_42 (dk_at dksX4_item_6 10 rfl rfl)
theorem dX4_item_162 : decode cX4_item 162 = .ok (.iload_n 1, 1) := dk_27 (dk_at dksX4_item_6 11 rfl rfl)
theorem dX4_item_163 : decode cX4_item 163 = .ok (.invokevirtual 107, 3) := dk_182 0 107 (dk_at dksX4_item_6 12 rfl rfl)
theorem dX4_item_166 : decode cX4_item 166 = .ok (.areturn, 1) := dk_176 (dk_at dksX4_item_6 15 rfl rfl)
theorem nl_X4_99 : gNL RX4 99 11 := ⟨RX11, TX11, 3, 3, tyX11, _, rfl, rfl, in_X11, tyX11_ok, q401, q402, q107, fun j hj => by rcases (show j = 0 ∨ j = 1 ∨ j = 2 by omega) with rfl | rfl | rfl <;> rfl⟩
theorem hd_X11_init : (yX11_init.cls ≠ "java/lang/invoke/MethodHandle" ∧ yX11_init.cls ≠ "java/lang/invoke/VarHandle" ∧ (parseMethodDescriptor yX11_init.desc).map (fun d => d.parameters.length) = some 3) := ⟨by decide +kernel, by decide +kernel, by decide +kernel⟩
theorem hd_X4_task : (yX4_task.cls ≠ "java/lang/invoke/MethodHandle" ∧ yX4_task.cls ≠ "java/lang/invoke/VarHandle" ∧ (parseMethodDescriptor yX4_task.desc).map (fun d => d.parameters.length) = some 1) := ⟨by decide +kernel, by decide +kernel, by decide +kernel⟩
theorem hd_X4_opened : (yX4_opened.cls ≠ "java/lang/invoke/MethodHandle" ∧ yX4_opened.cls ≠ "java/lang/invoke/VarHandle" ∧ (parseMethodDescriptor yX4_opened.desc).map (fun d => d.parameters.length) = some 1) := ⟨by decide +kernel, by decide +kernel, by decide +kernel⟩
theorem nl_X4_91 : gNL RX4 91 10 := ⟨RX10, TX10, 2, 2, tyX10, _, rfl, rfl, in_X10, tyX10_ok, q389, q390, q106, fun j hj => by rcases (show j = 0 ∨ j = 1 by omega) with rfl | rfl <;> rfl⟩
theorem hd_X10_init : (yX10_init.cls ≠ "java/lang/invoke/MethodHandle" ∧ yX10_init.cls ≠ "java/lang/invoke/VarHandle" ∧ (parseMethodDescriptor yX10_init.desc).map (fun d => d.parameters.length) = some 2) := ⟨by decide +kernel, by decide +kernel, by decide +kernel⟩
theorem hd_X4_assign : (yX4_assign.cls ≠ "java/lang/invoke/MethodHandle" ∧ yX4_assign.cls ≠ "java/lang/invoke/VarHandle" ∧ (parseMethodDescriptor yX4_assign.desc).map (fun d => d.parameters.length) = some 1) := ⟨by decide +kernel, by decide +kernel, by decide +kernel⟩
def f_X4_item (rec : Nat → gw → Option (((Nat × Nat) ⊕ Option Nat) × gw)) (a0 : Nat) (w0 : gw) : Option (((Nat × Nat) ⊕ Option Nat) × gw) := gB1 (gOb w0 a0 4) fun _ => gB2 (f_X4_isItem a0  w0) fun x2 w1 => gB1 (gOb w1 a0 4) fun _ => gB2X (f_X4_need a0 x2 w1) (fun q4 n5 w6 => some (.inl (q4, n5), w6)) fun _ w3 => gB1 (gI w3 a0 4 2) fun x7 => gBd (fun (r10 : Option Nat) (x11 : Int32) (w9 : gw) => gB1 r10 fun a12 => gB1 (gOb w9 a12 4) fun _ => gB2X (f_X4_limits a12 x11 w9) (fun q14 n15 w16 => some (.inl (q14, n15), w16)) fun _ w13 => gB1 (gI w13 a0 4 2) fun x17 => gB1 (gPut w13 a0 4 2 (gi (x17 + (nI 1)))) fun w18 => gB1 (gI w18 a0 4 0) fun x19 => gB1 (gOb w18 a0 4) fun _ => gB2 (f_X4_sign a0  w18) fun x21 w20 => if x21 = (nI 115) then gB1 (gI w20 a0 4 0) fun x22 => gB1 (gPut w20 a0 4 0 (gi (x22 + (nI 1)))) fun w23 => gB1 (gOb w23 a0 4) fun _ => gB2X (f_X4_code a0  w23) (fun q26 n27 w28 => some (.inl (q26, n27), w28)) fun x29 w24 => gB2 (gNew w24 11) fun a30 w31 => gB1 (gOb w31 a0 4) fun _ => gB2 (f_X4_skips a0 (nI 44) w31) fun x33 w32 => gBd (fun (r36 : Option Nat) (r37 : Option Nat) (x38 : Int32) (x39 : Int32) (x40 : Int32) (w35 : gw) => gB1 r37 fun a41 => gB2 (f_X11_init a41 x38 x39 x40 w35) fun _ w42 => some (.inr r36, w42)) fun k34 => if x33 = 0 then k34 (some a30) (some a30) x19 x29 (-1) w32 else gB1 (gOb w32 a0 4) fun _ => gB2X (f_X4_number a0  w32) (fun q46 n47 w48 => some (.inl (q46, n47), w48)) fun x49 w44 => k34 (some a30) (some a30) x19 x29 x49 w44 else if x21 = (nI 116) then gB1 (gOb w20 a0 4) fun _ => gB2X (f_X4_task a0 x19 w20) (fun q52 n53 w54 => some (.inl (q52, n53), w54)) fun r55 w50 => some (.inr r55, w50) else if x21 = (nI 117) then gB1 (gOb w20 a0 4) fun _ => gB2X (f_X4_opened rec a0 x19 w20) (fun q58 n59 w60 => some (.inl (q58, n59), w60)) fun r61 w56 => some (.inr r61, w56) else if x21 = (nI 118) then gB1 (gOb w20 a0 4) fun _ => gB2X (f_X4_opened rec a0 x19 w20) (fun q64 n65 w66 => some (.inl (q64, n65), w66)) fun r67 w62 => some (.inr r67, w62) else if x21 = (nI 119) then gB1 (gI w20 a0 4 0) fun x68 => gB1 (gPut w20 a0 4 0 (gi (x68 + (nI 1)))) fun w69 => gB2 (gNew w69 10) fun a70 w71 => gB1 (gOb w71 a0 4) fun _ => gB2X (f_X4_number a0  w71) (fun q74 n75 w76 => some (.inl (q74, n75), w76)) fun x77 w72 => gB2 (f_X10_init a70 x19 x77 w72) fun _ w78 => some (.inr (some a70), w78) else if x21 = (nI 120) then gB1 (gOb w20 a0 4) fun _ => gB2X (f_X4_assign a0 x19 w20) (fun q81 n82 w83 => some (.inl (q81, n82), w83)) fun r84 w79 => some (.inr r84, w79) else gB1 (gOb w20 a0 4) fun _ => gB2X (f_X4_opened rec a0 x19 w20) (fun q87 n88 w89 => some (.inl (q87, n88), w89)) fun r90 w85 => some (.inr r90, w85)) fun k8 => if (nI 24) ≤ x7 then k8 (some a0) (nI 0) w3 else k8 (some a0) (nI 1) w3
set_option maxHeartbeats 4000000 in
set_option maxRecDepth 100000 in
theorem k_X4_item {D : va_G} {dA : Nat → ClassId} {A : Nat → Prop} {K : Nat → Nat} {l : Launch} {h : Nat} {rec : Nat → gw → Option (((Nat × Nat) ⊕ Option Nat) × gw)} {B : Nat} (hrec : ∀ {h : Nat}, B ≤ h → ∀ {a0 : Nat} {w0 ww : gw} {rr : ((Nat × Nat) ⊕ Option Nat)}, rec a0 w0 = some (rr, ww) → gMetX D dA A K l yX4_body (ws_ yX4_body cX4_body 2 (some (.object "WorkflowEngine$Body"))) h [(ga (some a0))] (gXm (fun r => some (ga r)) rr) w0 ww) (hb : 9 ≤ B) (hh : B + 3 ≤ h) {a0 : Nat} {w0 ww : gw} {rr : ((Nat × Nat) ⊕ Option Nat)} (hf : f_X4_item rec a0 w0 = some (rr, ww)) : gMetX D dA A K l yX4_item (ws_ yX4_item cX4_item 3 (some (.object "WorkflowEngine$Node"))) h [(ga (some a0))] (gXm (fun r => some (ga r)) rr) w0 ww := by
  refine x_start (own := RX4) (by decide +kernel) rfl (Nat.le_of_ble_eq_true rfl) ?_
  intro p e R s m args below meth c C hr ht hw
  unfold f_X4_item at hf
  show gJ D dA A K p l e R s m args below meth c (gEndX D dA A K below args s w0 (gXm (fun r => some (ga r)) rr) ww) 3 0 [(0, (ga (some a0)))] [] w0
  refine j_aload_n C dX4_item_0 rfl ?_
  refine j_aload_n C dX4_item_1 rfl ?_
  replace hf := gB1_e hf
  obtain ⟨_, eo, hf⟩ := hf
  replace hf := gB2_e hf
  obtain ⟨x2, w1, ew1, hf⟩ := hf
  refine j_callV (As := []) (rest := [(ga (some a0))]) (v := (some (gi x2))) C (by omega) (k_X4_isItem (by omega) ew1) (gOb_e eo) rfl q229 q231 qs3 q95 q232 ⟨rfl, hd_X4_isItem⟩ (by decide) rfl (Nat.le_of_ble_eq_true rfl) dX4_item_2 ?_
  replace hf := gB1_e hf
  obtain ⟨_, eo, hf⟩ := hf
  replace hf := gB2X_e hf
  rcases hf with ⟨q4, n5, w6, ew6, hf⟩ | ⟨_, w3, ew3, hf⟩
  · refine x_callV_t (As := [(gi x2)]) (rest := []) C (by omega) (k_X4_need (by omega) ew6) (gOb_e eo) rfl q237 q239 qs5 q95 q240 ⟨rfl, hd_X4_need⟩ (by decide) rfl (Nat.le_of_ble_eq_true rfl) dX4_item_5 ?_
    obtain ⟨rfl, rfl⟩ := gSome hf
    exact x_out C ht (by decide +kernel) hw
  refine x_callV_r (As := [(gi x2)]) (rest := []) (v := none) C (by omega) (k_X4_need (by omega) ew3) (gOb_e eo) rfl q237 q239 qs5 q95 q240 ⟨rfl, hd_X4_need⟩ (by decide) rfl (Nat.le_of_ble_eq_true rfl) dX4_item_5 ?_
  refine j_aload_n C dX4_item_8 rfl ?_
  refine j_aload_n C dX4_item_9 rfl ?_
  replace hf := gB1_e hf
  obtain ⟨x7, ex7, hf⟩ := hf
  refine j_get C fl_X4_82_4 dX4_item_10 (gI_F ex7) ?_
  refine j_bipush (v := (nI 24)) C dX4_item_13 (by decide) ?_
  replace hf := gBd_x hf
  obtain ⟨k8, ek8, hf⟩ := hf
  have jk8 : ∀ (r10 : Option Nat) (x11 : Int32) (w9 : gw), k8 r10 x11 w9 = some (rr, ww) → gJ D dA A K p l e R s m args below meth c (gEndX D dA A K below args s w0 (gXm (fun r => some (ga r)) rr) ww) 3 23 [(0, (ga (some a0)))] [(gi x11), (ga r10)] w9 := by
    intro r10 x11 w9 hf
    rw [ek8] at hf
    dsimp only at hf
    replace hf := gB1_e hf
    obtain ⟨a12, ea12, hf⟩ := hf
    subst ea12
    replace hf := gB1_e hf
    obtain ⟨_, eo, hf⟩ := hf
    replace hf := gB2X_e hf
    rcases hf with ⟨q14, n15, w16, ew16, hf⟩ | ⟨_, w13, ew13, hf⟩
    · refine x_callV_t (As := [(gi x11)]) (rest := []) C (by omega) (k_X4_limits (by omega) ew16) (gOb_e eo) rfl q306 q308 qs7 q95 q309 ⟨rfl, hd_X4_limits⟩ (by decide) rfl (Nat.le_of_ble_eq_true rfl) dX4_item_23 ?_
      obtain ⟨rfl, rfl⟩ := gSome hf
      exact x_out C ht (by decide +kernel) hw
    refine x_callV_r (As := [(gi x11)]) (rest := []) (v := none) C (by omega) (k_X4_limits (by omega) ew13) (gOb_e eo) rfl q306 q308 qs7 q95 q309 ⟨rfl, hd_X4_limits⟩ (by decide) rfl (Nat.le_of_ble_eq_true rfl) dX4_item_23 ?_
    refine j_aload_n C dX4_item_26 rfl ?_
    refine j_dup C dX4_item_27 ?_
    replace hf := gB1_e hf
    obtain ⟨x17, ex17, hf⟩ := hf
    refine j_get C fl_X4_82_4 dX4_item_28 (gI_F ex17) ?_
    refine j_iconst (v := (nI 1)) C dX4_item_31 (by decide) ?_
    refine j_iadd C dX4_item_32 ?_
    replace hf := gB1_e hf
    obtain ⟨w18, ew18, hf⟩ := hf
    refine j_put C fl_X4_82_4 tb_4 ew18 fk_4_2 (fit_I (x17 + (nI 1))) dX4_item_33 ?_
    refine j_aload_n C dX4_item_36 rfl ?_
    replace hf := gB1_e hf
    obtain ⟨x19, ex19, hf⟩ := hf
    refine j_get C fl_X4_15_4 dX4_item_37 (gI_F ex19) ?_
    refine j_istore_n (lv' := [(1, (gi x19)), (0, (ga (some a0)))]) C dX4_item_40 (by decide) rfl ?_
    refine j_aload_n C dX4_item_41 rfl ?_
    replace hf := gB1_e hf
    obtain ⟨_, eo, hf⟩ := hf
    replace hf := gB2_e hf
    obtain ⟨x21, w20, ew20, hf⟩ := hf
    refine j_callV (As := []) (rest := []) (v := (some (gi x21))) C (by omega) (k_X4_sign (by omega) ew20) (gOb_e eo) rfl q233 q235 qs4 q95 q236 ⟨rfl, hd_X4_sign⟩ (by decide) rfl (Nat.le_of_ble_eq_true rfl) dX4_item_42 ?_
    by_cases n45_0 : x21 = (nI 115)
    · replace hf := gIf_t hf n45_0
      refine j_tableIn (off := 68) (tgt := 113) C dX4_item_45 (by rw [n45_0]; decide) (by rw [n45_0]; decide) (by rw [n45_0]; decide) (by decide) ?_
      refine j_aload_n C dX4_item_113 rfl ?_
      refine j_dup C dX4_item_114 ?_
      replace hf := gB1_e hf
      obtain ⟨x22, ex22, hf⟩ := hf
      refine j_get C fl_X4_15_4 dX4_item_115 (gI_F ex22) ?_
      refine j_iconst (v := (nI 1)) C dX4_item_118 (by decide) ?_
      refine j_iadd C dX4_item_119 ?_
      replace hf := gB1_e hf
      obtain ⟨w23, ew23, hf⟩ := hf
      refine j_put C fl_X4_15_4 tb_4 ew23 fk_4_0 (fit_I (x22 + (nI 1))) dX4_item_120 ?_
      refine j_aload_n C dX4_item_123 rfl ?_
      replace hf := gB1_e hf
      obtain ⟨_, eo, hf⟩ := hf
      replace hf := gB2X_e hf
      rcases hf with ⟨q26, n27, w28, ew28, hf⟩ | ⟨x29, w24, ew24, hf⟩
      · refine x_callV_t (As := []) (rest := []) C (by omega) (k_X4_code (by omega) ew28) (gOb_e eo) rfl q333 q335 qs9 q95 q336 ⟨rfl, hd_X4_code⟩ (by decide) rfl (Nat.le_of_ble_eq_true rfl) dX4_item_124 ?_
        obtain ⟨rfl, rfl⟩ := gSome hf
        exact x_out C ht (by decide +kernel) hw
      refine x_callV_r (As := []) (rest := []) (v := (some (gi x29))) C (by omega) (k_X4_code (by omega) ew24) (gOb_e eo) rfl q333 q335 qs9 q95 q336 ⟨rfl, hd_X4_code⟩ (by decide) rfl (Nat.le_of_ble_eq_true rfl) dX4_item_124 ?_
      refine j_istore_n (lv' := [(2, (gi x29)), (1, (gi x19)), (0, (ga (some a0)))]) C dX4_item_127 (by decide) rfl ?_
      replace hf := gB2_e hf
      obtain ⟨a30, w31, ew31, hf⟩ := hf
      refine j_new C nl_X4_99 ew31 dX4_item_128 ?_
      refine j_dup C dX4_item_131 ?_
      refine j_iload_n C dX4_item_132 rfl ?_
      refine j_iload_n C dX4_item_133 rfl ?_
      refine j_aload_n C dX4_item_134 rfl ?_
      refine j_bipush (v := (nI 44)) C dX4_item_135 (by decide) ?_
      replace hf := gB1_e hf
      obtain ⟨_, eo, hf⟩ := hf
      replace hf := gB2_e hf
      obtain ⟨x33, w32, ew32, hf⟩ := hf
      refine j_callV (As := [(gi (nI 44))]) (rest := [(gi x29), (gi x19), (ga (some a30)), (ga (some a30))]) (v := (some (gi x33))) C (by omega) (k_X4_skips (by omega) ew32) (gOb_e eo) rfl q342 q344 qs11 q95 q345 ⟨rfl, hd_X4_skips⟩ (by decide) rfl (Nat.le_of_ble_eq_true rfl) dX4_item_137 ?_
      replace hf := gBd_x hf
      obtain ⟨k34, ek34, hf⟩ := hf
      have jk34 : ∀ (r36 : Option Nat) (r37 : Option Nat) (x38 : Int32) (x39 : Int32) (x40 : Int32) (w35 : gw), k34 r36 r37 x38 x39 x40 w35 = some (rr, ww) → gJ D dA A K p l e R s m args below meth c (gEndX D dA A K below args s w0 (gXm (fun r => some (ga r)) rr) ww) 3 151 [] [(gi x40), (gi x39), (gi x38), (ga r37), (ga r36)] w35 := by
        intro r36 r37 x38 x39 x40 w35 hf
        rw [ek34] at hf
        dsimp only at hf
        replace hf := gB1_e hf
        obtain ⟨a41, ea41, hf⟩ := hf
        subst ea41
        replace hf := gB2_e hf
        obtain ⟨_, w42, ew42, hf⟩ := hf
        refine j_callI (As := [(gi x38), (gi x39), (gi x40)]) (rest := [(ga r36)]) C (by omega) (k_X11_init (by omega) ew42) rfl q403 q404 q107 q405 hd_X11_init (by decide) rfl (Nat.le_of_ble_eq_true rfl) dX4_item_151 ?_
        obtain ⟨rfl, rfl⟩ := gSome hf
        exact x_ret (j_aret C hr (Or.inl ⟨_, rfl⟩) hw dX4_item_154)
      clear ek34
      refine j_if_eq (tgt := 150) C dX4_item_140 (by decide) (fun c43 => ?_) (fun c43 => ?_)
      · replace hf := gIf_t hf c43
        refine j_iconst (v := (-1)) C dX4_item_150 (by decide) ?_
        refine j_sub (lv' := []) (gL_nil) ?_
        exact jk34 _ _ _ _ _ _ hf
      · replace hf := gIf_f hf c43
        refine j_aload_n C dX4_item_143 rfl ?_
        replace hf := gB1_e hf
        obtain ⟨_, eo, hf⟩ := hf
        replace hf := gB2X_e hf
        rcases hf with ⟨q46, n47, w48, ew48, hf⟩ | ⟨x49, w44, ew44, hf⟩
        · refine x_callV_t (As := []) (rest := [(gi x29), (gi x19), (ga (some a30)), (ga (some a30))]) C (by omega) (k_X4_number (by omega) ew48) (gOb_e eo) rfl q349 q351 qs12 q95 q352 ⟨rfl, hd_X4_number⟩ (by decide) rfl (Nat.le_of_ble_eq_true rfl) dX4_item_144 ?_
          obtain ⟨rfl, rfl⟩ := gSome hf
          exact x_out C ht (by decide +kernel) hw
        refine x_callV_r (As := []) (rest := [(gi x29), (gi x19), (ga (some a30)), (ga (some a30))]) (v := (some (gi x49))) C (by omega) (k_X4_number (by omega) ew44) (gOb_e eo) rfl q349 q351 qs12 q95 q352 ⟨rfl, hd_X4_number⟩ (by decide) rfl (Nat.le_of_ble_eq_true rfl) dX4_item_144 ?_
        refine j_goto (tgt := 151) C dX4_item_147 (by decide) ?_
        refine j_sub (lv' := []) (gL_nil) ?_
        exact jk34 _ _ _ _ _ _ hf
    · replace hf := gIf_f hf n45_0
      by_cases n45_1 : x21 = (nI 116)
      · replace hf := gIf_t hf n45_1
        refine j_tableIn (off := 39) (tgt := 84) C dX4_item_45 (by rw [n45_1]; decide) (by rw [n45_1]; decide) (by rw [n45_1]; decide) (by decide) ?_
        refine j_aload_n C dX4_item_84 rfl ?_
        refine j_iload_n C dX4_item_85 rfl ?_
        replace hf := gB1_e hf
        obtain ⟨_, eo, hf⟩ := hf
        replace hf := gB2X_e hf
        rcases hf with ⟨q52, n53, w54, ew54, hf⟩ | ⟨r55, w50, ew50, hf⟩
        · refine x_callV_t (As := [(gi x19)]) (rest := []) C (by omega) (k_X4_task (by omega) ew54) (gOb_e eo) rfl q329 q331 qs8 q95 q332 ⟨rfl, hd_X4_task⟩ (by decide) rfl (Nat.le_of_ble_eq_true rfl) dX4_item_86 ?_
          obtain ⟨rfl, rfl⟩ := gSome hf
          exact x_out C ht (by decide +kernel) hw
        refine x_callV_r (As := [(gi x19)]) (rest := []) (v := (some (ga r55))) C (by omega) (k_X4_task (by omega) ew50) (gOb_e eo) rfl q329 q331 qs8 q95 q332 ⟨rfl, hd_X4_task⟩ (by decide) rfl (Nat.le_of_ble_eq_true rfl) dX4_item_86 ?_
        obtain ⟨rfl, rfl⟩ := gSome hf
        exact x_ret (j_aret C hr (Or.inl ⟨_, rfl⟩) hw dX4_item_89)
      · replace hf := gIf_f hf n45_1
        by_cases n45_2 : x21 = (nI 117)
        · replace hf := gIf_t hf n45_2
          refine j_tableIn (off := 116) (tgt := 161) C dX4_item_45 (by rw [n45_2]; decide) (by rw [n45_2]; decide) (by rw [n45_2]; decide) (by decide) ?_
          refine j_aload_n C dX4_item_161 rfl ?_
          refine j_iload_n C dX4_item_162 rfl ?_
          replace hf := gB1_e hf
          obtain ⟨_, eo, hf⟩ := hf
          replace hf := gB2X_e hf
          rcases hf with ⟨q58, n59, w60, ew60, hf⟩ | ⟨r61, w56, ew56, hf⟩
          · refine x_callW_t (As := [(gi x19)]) (rest := []) C (by omega) (k_X4_opened hrec hb (by omega) ew60) (gOb_e eo) rfl q445 q447 qs15 q95 q448 ⟨rfl, hd_X4_opened⟩ (by decide) rfl (Nat.le_of_ble_eq_true rfl) dX4_item_163 ?_
            obtain ⟨rfl, rfl⟩ := gSome hf
            exact x_out C ht (by decide +kernel) hw
          refine x_callW_r (As := [(gi x19)]) (rest := []) (v := (some (ga r61))) C (by omega) (k_X4_opened hrec hb (by omega) ew56) (gOb_e eo) rfl q445 q447 qs15 q95 q448 ⟨rfl, hd_X4_opened⟩ (by decide) rfl (Nat.le_of_ble_eq_true rfl) dX4_item_163 ?_
          obtain ⟨rfl, rfl⟩ := gSome hf
          exact x_ret (j_aret C hr (Or.inl ⟨_, rfl⟩) hw dX4_item_166)
        · replace hf := gIf_f hf n45_2
          by_cases n45_3 : x21 = (nI 118)
          · replace hf := gIf_t hf n45_3
            refine j_tableIn (off := 116) (tgt := 161) C dX4_item_45 (by rw [n45_3]; decide) (by rw [n45_3]; decide) (by rw [n45_3]; decide) (by decide) ?_
            refine j_aload_n C dX4_item_161 rfl ?_
            refine j_iload_n C dX4_item_162 rfl ?_
            replace hf := gB1_e hf
            obtain ⟨_, eo, hf⟩ := hf
            replace hf := gB2X_e hf
            rcases hf with ⟨q64, n65, w66, ew66, hf⟩ | ⟨r67, w62, ew62, hf⟩
            · refine x_callW_t (As := [(gi x19)]) (rest := []) C (by omega) (k_X4_opened hrec hb (by omega) ew66) (gOb_e eo) rfl q445 q447 qs15 q95 q448 ⟨rfl, hd_X4_opened⟩ (by decide) rfl (Nat.le_of_ble_eq_true rfl) dX4_item_163 ?_
              obtain ⟨rfl, rfl⟩ := gSome hf
              exact x_out C ht (by decide +kernel) hw
            refine x_callW_r (As := [(gi x19)]) (rest := []) (v := (some (ga r67))) C (by omega) (k_X4_opened hrec hb (by omega) ew62) (gOb_e eo) rfl q445 q447 qs15 q95 q448 ⟨rfl, hd_X4_opened⟩ (by decide) rfl (Nat.le_of_ble_eq_true rfl) dX4_item_163 ?_
            obtain ⟨rfl, rfl⟩ := gSome hf
            exact x_ret (j_aret C hr (Or.inl ⟨_, rfl⟩) hw dX4_item_166)
          · replace hf := gIf_f hf n45_3
            by_cases n45_4 : x21 = (nI 119)
            · replace hf := gIf_t hf n45_4
              refine j_tableIn (off := 45) (tgt := 90) C dX4_item_45 (by rw [n45_4]; decide) (by rw [n45_4]; decide) (by rw [n45_4]; decide) (by decide) ?_
              refine j_aload_n C dX4_item_90 rfl ?_
              refine j_dup C dX4_item_91 ?_
              replace hf := gB1_e hf
              obtain ⟨x68, ex68, hf⟩ := hf
              refine j_get C fl_X4_15_4 dX4_item_92 (gI_F ex68) ?_
              refine j_iconst (v := (nI 1)) C dX4_item_95 (by decide) ?_
              refine j_iadd C dX4_item_96 ?_
              replace hf := gB1_e hf
              obtain ⟨w69, ew69, hf⟩ := hf
              refine j_put C fl_X4_15_4 tb_4 ew69 fk_4_0 (fit_I (x68 + (nI 1))) dX4_item_97 ?_
              replace hf := gB2_e hf
              obtain ⟨a70, w71, ew71, hf⟩ := hf
              refine j_new C nl_X4_91 ew71 dX4_item_100 ?_
              refine j_dup C dX4_item_103 ?_
              refine j_iload_n C dX4_item_104 rfl ?_
              refine j_aload_n C dX4_item_105 rfl ?_
              replace hf := gB1_e hf
              obtain ⟨_, eo, hf⟩ := hf
              replace hf := gB2X_e hf
              rcases hf with ⟨q74, n75, w76, ew76, hf⟩ | ⟨x77, w72, ew72, hf⟩
              · refine x_callV_t (As := []) (rest := [(gi x19), (ga (some a70)), (ga (some a70))]) C (by omega) (k_X4_number (by omega) ew76) (gOb_e eo) rfl q349 q351 qs12 q95 q352 ⟨rfl, hd_X4_number⟩ (by decide) rfl (Nat.le_of_ble_eq_true rfl) dX4_item_106 ?_
                obtain ⟨rfl, rfl⟩ := gSome hf
                exact x_out C ht (by decide +kernel) hw
              refine x_callV_r (As := []) (rest := [(gi x19), (ga (some a70)), (ga (some a70))]) (v := (some (gi x77))) C (by omega) (k_X4_number (by omega) ew72) (gOb_e eo) rfl q349 q351 qs12 q95 q352 ⟨rfl, hd_X4_number⟩ (by decide) rfl (Nat.le_of_ble_eq_true rfl) dX4_item_106 ?_
              replace hf := gB2_e hf
              obtain ⟨_, w78, ew78, hf⟩ := hf
              refine j_callI (As := [(gi x19), (gi x77)]) (rest := [(ga (some a70))]) C (by omega) (k_X10_init (by omega) ew78) rfl q391 q392 q106 q393 hd_X10_init (by decide) rfl (Nat.le_of_ble_eq_true rfl) dX4_item_109 ?_
              obtain ⟨rfl, rfl⟩ := gSome hf
              exact x_ret (j_aret C hr (Or.inl ⟨_, rfl⟩) hw dX4_item_112)
            · replace hf := gIf_f hf n45_4
              by_cases n45_5 : x21 = (nI 120)
              · replace hf := gIf_t hf n45_5
                refine j_tableIn (off := 110) (tgt := 155) C dX4_item_45 (by rw [n45_5]; decide) (by rw [n45_5]; decide) (by rw [n45_5]; decide) (by decide) ?_
                refine j_aload_n C dX4_item_155 rfl ?_
                refine j_iload_n C dX4_item_156 rfl ?_
                replace hf := gB1_e hf
                obtain ⟨_, eo, hf⟩ := hf
                replace hf := gB2X_e hf
                rcases hf with ⟨q81, n82, w83, ew83, hf⟩ | ⟨r84, w79, ew79, hf⟩
                · refine x_callV_t (As := [(gi x19)]) (rest := []) C (by omega) (k_X4_assign (by omega) ew83) (gOb_e eo) rfl q417 q419 qs13 q95 q420 ⟨rfl, hd_X4_assign⟩ (by decide) rfl (Nat.le_of_ble_eq_true rfl) dX4_item_157 ?_
                  obtain ⟨rfl, rfl⟩ := gSome hf
                  exact x_out C ht (by decide +kernel) hw
                refine x_callV_r (As := [(gi x19)]) (rest := []) (v := (some (ga r84))) C (by omega) (k_X4_assign (by omega) ew79) (gOb_e eo) rfl q417 q419 qs13 q95 q420 ⟨rfl, hd_X4_assign⟩ (by decide) rfl (Nat.le_of_ble_eq_true rfl) dX4_item_157 ?_
                obtain ⟨rfl, rfl⟩ := gSome hf
                exact x_ret (j_aret C hr (Or.inl ⟨_, rfl⟩) hw dX4_item_160)
              · replace hf := gIf_f hf n45_5
                refine j_tableOut (tgt := 161) C dX4_item_45 (g_out6 (a := 115) (by decide) n45_0 n45_1 n45_2 n45_3 n45_4 n45_5) (by decide) ?_
                refine j_aload_n C dX4_item_161 rfl ?_
                refine j_iload_n C dX4_item_162 rfl ?_
                replace hf := gB1_e hf
                obtain ⟨_, eo, hf⟩ := hf
                replace hf := gB2X_e hf
                rcases hf with ⟨q87, n88, w89, ew89, hf⟩ | ⟨r90, w85, ew85, hf⟩
                · refine x_callW_t (As := [(gi x19)]) (rest := []) C (by omega) (k_X4_opened hrec hb (by omega) ew89) (gOb_e eo) rfl q445 q447 qs15 q95 q448 ⟨rfl, hd_X4_opened⟩ (by decide) rfl (Nat.le_of_ble_eq_true rfl) dX4_item_163 ?_
                  obtain ⟨rfl, rfl⟩ := gSome hf
                  exact x_out C ht (by decide +kernel) hw
                refine x_callW_r (As := [(gi x19)]) (rest := []) (v := (some (ga r90))) C (by omega) (k_X4_opened hrec hb (by omega) ew85) (gOb_e eo) rfl q445 q447 qs15 q95 q448 ⟨rfl, hd_X4_opened⟩ (by decide) rfl (Nat.le_of_ble_eq_true rfl) dX4_item_163 ?_
                obtain ⟨rfl, rfl⟩ := gSome hf
                exact x_ret (j_aret C hr (Or.inl ⟨_, rfl⟩) hw dX4_item_166)
  clear ek8
  refine j_icmp_ge (tgt := 22) C dX4_item_15 (by decide) (fun c91 => ?_) (fun c91 => ?_)
  · replace hf := gIf_t hf c91
    refine j_iconst (v := (nI 0)) C dX4_item_22 (by decide) ?_
    exact jk8 _ _ _ hf
  · replace hf := gIf_f hf c91
    refine j_iconst (v := (nI 1)) C dX4_item_18 (by decide) ?_
    refine j_goto (tgt := 23) C dX4_item_19 (by decide) ?_
    exact jk8 _ _ _ hf
def dkwX4_body_1 : List UInt8 := [182, 0, 54, 153, 0, 18, 43, 180, 0, 64, 42, 182, 0, 68, 182, 0, 72, 87, 167, 255, 235, 43, 176]
abbrev dktX4_body_1 : List UInt8 := dkwX4_body_1 ++ []
def dkwX4_body_0 : List UInt8 := [187, 0, 61, 89, 183, 0, 63, 76, 43, 180, 0, 64, 42, 182, 0, 68, 182, 0, 72, 87, 42, 16, 59]
abbrev dktX4_body_0 : List UInt8 := dkwX4_body_0 ++ dktX4_body_1
theorem dksX4_body_0 : cX4_body.data.toList.drop 0 = dktX4_body_0 := by decide +kernel
theorem dksX4_body_1 : cX4_body.data.toList.drop 23 = dktX4_body_1 := dk_seg dksX4_body_0 23 rfl rfl
theorem dX4_body_0 : decode cX4_body 0 = .ok (.new 61, 3) := dk_187 0 61 (dk_at dksX4_body_0 0 rfl rfl)
theorem dX4_body_3 : decode cX4_body 3 = .ok (.dup, 1) := dk_89 (dk_at dksX4_body_0 3 rfl rfl)
theorem dX4_body_4 : decode cX4_body 4 = .ok (.invokespecial 63, 3) := dk_183 0 63 (dk_at dksX4_body_0 4 rfl rfl)
theorem dX4_body_7 : decode cX4_body 7 = .ok (.astore_n 1, 1) := dk_76 (dk_at dksX4_body_0 7 rfl rfl)
theorem dX4_body_8 : decode cX4_body 8 = .ok (.aload_n 1, 1) := dk_43 (dk_at dksX4_body_0 8 rfl rfl)
theorem dX4_body_9 : decode cX4_body 9 = .ok (.getfield 64, 3) := dk_180 0 64 (dk_at dksX4_body_0 9 rfl rfl)
theorem dX4_body_12 : decode cX4_body 12 = .ok (.aload_n 0, 1) := dk_42 (dk_at dksX4_body_0 12 rfl rfl)
theorem dX4_body_13 : decode cX4_body 13 = .ok (.invokevirtual 68, 3) := dk_182 0 68 (dk_at dksX4_body_0 13 rfl rfl)
theorem dX4_body_16 : decode cX4_body 16 = .ok (.invokevirtual 72, 3) := dk_182 0 72 (dk_at dksX4_body_0 16 rfl rfl)
theorem dX4_body_19 : decode cX4_body 19 = .ok (.pop, 1) := dk_87 (dk_at dksX4_body_0 19 rfl rfl)
theorem dX4_body_20 : decode cX4_body 20 = .ok (.aload_n 0, 1) := dk_42 (dk_at dksX4_body_0 20 rfl rfl)
theorem dX4_body_21 : decode cX4_body 21 = .ok (.bipush 59, 2) := dk_16 59 (dk_at dksX4_body_0 21 rfl rfl)
theorem dX4_body_23 : decode cX4_body 23 = .ok (.invokevirtual 54, 3) := dk_182 0 54 (dk_at dksX4_body_1 0 rfl rfl)
theorem dX4_body_26 : decode cX4_body 26 = .ok (.ifCond .eq 18, 3) := dk_153 0 18 (dk_at dksX4_body_1 3 rfl rfl)
theorem dX4_body_29 : decode cX4_body 29 = .ok (.aload_n 1, 1) := dk_43 (dk_at dksX4_body_1 6 rfl rfl)
theorem dX4_body_30 : decode cX4_body 30 = .ok (.getfield 64, 3) := dk_180 0 64 (dk_at dksX4_body_1 7 rfl rfl)
theorem dX4_body_33 : decode cX4_body 33 = .ok (.aload_n 0, 1) := dk_42 (dk_at dksX4_body_1 10 rfl rfl)
theorem dX4_body_34 : decode cX4_body 34 = .ok (.invokevirtual 68, 3) := dk_182 0 68 (dk_at dksX4_body_1 11 rfl rfl)
theorem dX4_body_37 : decode cX4_body 37 = .ok (.invokevirtual 72, 3) := dk_182 0 72 (dk_at dksX4_body_1 14 rfl rfl)
theorem dX4_body_40 : decode cX4_body 40 = .ok (.pop, 1) := dk_87 (dk_at dksX4_body_1 17 rfl rfl)
theorem dX4_body_41 : decode cX4_body 41 = .ok (.goto (-21), 3) := dk_167 255 235 (dk_at dksX4_body_1 18 rfl rfl)
theorem dX4_body_44 : decode cX4_body 44 = .ok (.aload_n 1, 1) := dk_43 (dk_at dksX4_body_1 21 rfl rfl)
theorem dX4_body_45 : decode cX4_body 45 = .ok (.areturn, 1) := dk_176 (dk_at dksX4_body_1 22 rfl rfl)
theorem nl_X4_61 : gNL RX4 61 5 := ⟨RX5, TX5, 1, 1, tyX5, _, rfl, rfl, in_X5, tyX5_ok, q187, q188, q96, fun j hj => by rcases (show j = 0 by omega) with rfl <;> rfl⟩
theorem hd_X5_init : (yX5_init.cls ≠ "java/lang/invoke/MethodHandle" ∧ yX5_init.cls ≠ "java/lang/invoke/VarHandle" ∧ (parseMethodDescriptor yX5_init.desc).map (fun d => d.parameters.length) = some 0) := ⟨by decide +kernel, by decide +kernel, by decide +kernel⟩
theorem fl_X4_64_5 : gFL RX4 64 5 0 := gFL.mkN (Cn := RX5) (T := TX5) (N := 1) (ref := "WorkflowEngine$Body") rfl in_X5 (by decide) nq221 rfl rfl (Or.inl rfl)
theorem hd_X4_item : (yX4_item.cls ≠ "java/lang/invoke/MethodHandle" ∧ yX4_item.cls ≠ "java/lang/invoke/VarHandle" ∧ (parseMethodDescriptor yX4_item.desc).map (fun d => d.parameters.length) = some 0) := ⟨by decide +kernel, by decide +kernel, by decide +kernel⟩
def f_X4_body_s (rec : Nat → gw → Option (((Nat × Nat) ⊕ Option Nat) × gw)) (a0 : Nat) (w0 : gw) : Option (((Nat × Nat) ⊕ Option Nat) × gw) := gB2 (gNew w0 5) fun a1 w2 => gB2 (f_X5_init a1  w2) fun _ w3 => gB1 (gR w3 a1 5 0) fun r4 => gB1 (gOb w3 a0 4) fun _ => gB2X (f_X4_item rec a0  w3) (fun q7 n8 w9 => some (.inl (q7, n8), w9)) fun r10 w5 => gB1 r4 fun a11 => gB1 (gOb w5 a11 8) fun _ => gB2 (f_J2_add a11 r10 w5) fun x13 w12 => gL1 (fun k16 (r15 : Option Nat) (w14 : gw) => gB1 (gOb w14 a0 4) fun _ => gB2 (f_X4_skips a0 (nI 59) w14) fun x18 w17 => if x18 = 0 then some (.inr r15, w17) else gB1 r15 fun a20 => gB1 (gR w17 a20 5 0) fun r21 => gB1 (gOb w17 a0 4) fun _ => gB2X (f_X4_item rec a0  w17) (fun q24 n25 w26 => some (.inl (q24, n25), w26)) fun r27 w22 => gB1 r21 fun a28 => gB1 (gOb w22 a28 8) fun _ => gB2 (f_J2_add a28 r27 w22) fun x30 w29 => k16 (some a20) w29) 20000 (some a1) w12
set_option maxHeartbeats 4000000 in
set_option maxRecDepth 100000 in
theorem k_X4_body_s {D : va_G} {dA : Nat → ClassId} {A : Nat → Prop} {K : Nat → Nat} {l : Launch} {h : Nat} {rec : Nat → gw → Option (((Nat × Nat) ⊕ Option Nat) × gw)} {B : Nat} (hrec : ∀ {h : Nat}, B ≤ h → ∀ {a0 : Nat} {w0 ww : gw} {rr : ((Nat × Nat) ⊕ Option Nat)}, rec a0 w0 = some (rr, ww) → gMetX D dA A K l yX4_body (ws_ yX4_body cX4_body 2 (some (.object "WorkflowEngine$Body"))) h [(ga (some a0))] (gXm (fun r => some (ga r)) rr) w0 ww) (hb : 9 ≤ B) (hh : B + 4 ≤ h) {a0 : Nat} {w0 ww : gw} {rr : ((Nat × Nat) ⊕ Option Nat)} (hf : f_X4_body_s rec a0 w0 = some (rr, ww)) : gMetX D dA A K l yX4_body (ws_ yX4_body cX4_body 2 (some (.object "WorkflowEngine$Body"))) h [(ga (some a0))] (gXm (fun r => some (ga r)) rr) w0 ww := by
  refine x_start (own := RX4) (by decide +kernel) rfl (Nat.le_of_ble_eq_true rfl) ?_
  intro p e R s m args below meth c C hr ht hw
  unfold f_X4_body_s at hf
  show gJ D dA A K p l e R s m args below meth c (gEndX D dA A K below args s w0 (gXm (fun r => some (ga r)) rr) ww) 2 0 [(0, (ga (some a0)))] [] w0
  replace hf := gB2_e hf
  obtain ⟨a1, w2, ew2, hf⟩ := hf
  refine j_new C nl_X4_61 ew2 dX4_body_0 ?_
  refine j_dup C dX4_body_3 ?_
  replace hf := gB2_e hf
  obtain ⟨_, w3, ew3, hf⟩ := hf
  refine j_callIN (As := []) (rest := [(ga (some a1))]) C (by omega) (k_X5_init (by omega) ew3) rfl nq189 q190 q96 q191 hd_X5_init (by decide) rfl (Nat.le_of_ble_eq_true rfl) dX4_body_4 ?_
  refine j_astore_n (lv' := [(1, (ga (some a1))), (0, (ga (some a0)))]) C dX4_body_7 (by decide) rfl ?_
  refine j_aload_n C dX4_body_8 rfl ?_
  replace hf := gB1_e hf
  obtain ⟨r4, er4, hf⟩ := hf
  refine j_get C fl_X4_64_5 dX4_body_9 (gR_F er4) ?_
  refine j_aload_n C dX4_body_12 rfl ?_
  replace hf := gB1_e hf
  obtain ⟨_, eo, hf⟩ := hf
  replace hf := gB2X_e hf
  rcases hf with ⟨q7, n8, w9, ew9, hf⟩ | ⟨r10, w5, ew5, hf⟩
  · refine x_callV_t (As := []) (rest := [(ga r4)]) C (by omega) (k_X4_item hrec hb (by omega) ew9) (gOb_e eo) rfl q225 q227 qs2 q95 q228 ⟨rfl, hd_X4_item⟩ (by decide) rfl (Nat.le_of_ble_eq_true rfl) dX4_body_13 ?_
    obtain ⟨rfl, rfl⟩ := gSome hf
    exact x_out C ht (by decide +kernel) hw
  refine x_callV_r (As := []) (rest := [(ga r4)]) (v := (some (ga r10))) C (by omega) (k_X4_item hrec hb (by omega) ew5) (gOb_e eo) rfl q225 q227 qs2 q95 q228 ⟨rfl, hd_X4_item⟩ (by decide) rfl (Nat.le_of_ble_eq_true rfl) dX4_body_13 ?_
  replace hf := gB1_e hf
  obtain ⟨a11, ea11, hf⟩ := hf
  subst ea11
  replace hf := gB1_e hf
  obtain ⟨_, eo, hf⟩ := hf
  replace hf := gB2_e hf
  obtain ⟨x13, w12, ew12, hf⟩ := hf
  refine j_callV (As := [(ga r10)]) (rest := []) (v := (some (gi x13))) C (by omega) (k_J2_add (by omega) ew12) (gOb_e eo) rfl q481 q482 q483 q99 q484 ⟨rfl, hd_J2_add⟩ (by decide) rfl (Nat.le_of_ble_eq_true rfl) dX4_body_16 ?_
  refine j_pop C dX4_body_19 ?_
  refine j_sub (lv' := [(0, (ga (some a0))), (1, (ga (some a1)))]) (gL_cons rfl (gL_cons rfl (gL_nil))) ?_
  refine gL1_e (fun (r15 : Option Nat) (w14 : gw) => gJ D dA A K p l e R s m args below meth c (gEndX D dA A K below args s w0 (gXm (fun r => some (ga r)) rr) ww) 2 20 [(0, (ga (some a0))), (1, (ga r15))] [] w14) ?_ _ _ _ hf
  intro k16 jk16 r15 w14 hf
  refine j_aload_n C dX4_body_20 rfl ?_
  refine j_bipush (v := (nI 59)) C dX4_body_21 (by decide) ?_
  replace hf := gB1_e hf
  obtain ⟨_, eo, hf⟩ := hf
  replace hf := gB2_e hf
  obtain ⟨x18, w17, ew17, hf⟩ := hf
  refine j_callV (As := [(gi (nI 59))]) (rest := []) (v := (some (gi x18))) C (by omega) (k_X4_skips (by omega) ew17) (gOb_e eo) rfl q342 q344 qs11 q95 q345 ⟨rfl, hd_X4_skips⟩ (by decide) rfl (Nat.le_of_ble_eq_true rfl) dX4_body_23 ?_
  refine j_if_eq (tgt := 44) C dX4_body_26 (by decide) (fun c19 => ?_) (fun c19 => ?_)
  · replace hf := gIf_t hf c19
    refine j_aload_n C dX4_body_44 rfl ?_
    obtain ⟨rfl, rfl⟩ := gSome hf
    exact x_ret (j_aret C hr (Or.inl ⟨_, rfl⟩) hw dX4_body_45)
  · replace hf := gIf_f hf c19
    refine j_aload_n C dX4_body_29 rfl ?_
    replace hf := gB1_e hf
    obtain ⟨a20, ea20, hf⟩ := hf
    subst ea20
    replace hf := gB1_e hf
    obtain ⟨r21, er21, hf⟩ := hf
    refine j_get C fl_X4_64_5 dX4_body_30 (gR_F er21) ?_
    refine j_aload_n C dX4_body_33 rfl ?_
    replace hf := gB1_e hf
    obtain ⟨_, eo, hf⟩ := hf
    replace hf := gB2X_e hf
    rcases hf with ⟨q24, n25, w26, ew26, hf⟩ | ⟨r27, w22, ew22, hf⟩
    · refine x_callV_t (As := []) (rest := [(ga r21)]) C (by omega) (k_X4_item hrec hb (by omega) ew26) (gOb_e eo) rfl q225 q227 qs2 q95 q228 ⟨rfl, hd_X4_item⟩ (by decide) rfl (Nat.le_of_ble_eq_true rfl) dX4_body_34 ?_
      obtain ⟨rfl, rfl⟩ := gSome hf
      exact x_out C ht (by decide +kernel) hw
    refine x_callV_r (As := []) (rest := [(ga r21)]) (v := (some (ga r27))) C (by omega) (k_X4_item hrec hb (by omega) ew22) (gOb_e eo) rfl q225 q227 qs2 q95 q228 ⟨rfl, hd_X4_item⟩ (by decide) rfl (Nat.le_of_ble_eq_true rfl) dX4_body_34 ?_
    replace hf := gB1_e hf
    obtain ⟨a28, ea28, hf⟩ := hf
    subst ea28
    replace hf := gB1_e hf
    obtain ⟨_, eo, hf⟩ := hf
    replace hf := gB2_e hf
    obtain ⟨x30, w29, ew29, hf⟩ := hf
    refine j_callV (As := [(ga r27)]) (rest := []) (v := (some (gi x30))) C (by omega) (k_J2_add (by omega) ew29) (gOb_e eo) rfl q481 q482 q483 q99 q484 ⟨rfl, hd_J2_add⟩ (by decide) rfl (Nat.le_of_ble_eq_true rfl) dX4_body_37 ?_
    refine j_pop C dX4_body_40 ?_
    refine j_goto (tgt := 20) C dX4_body_41 (by decide) ?_
    exact jk16 _ _ hf
def f_X4_body : Nat → Nat → gw → Option (((Nat × Nat) ⊕ Option Nat) × gw)
  | 0 => fun _ _ => none
  | d + 1 => f_X4_body_s (f_X4_body d)
theorem k_X4_body {D : va_G} {dA : Nat → ClassId} {A : Nat → Prop} {K : Nat → Nat} {l : Launch} : ∀ (d : Nat) {h : Nat}, 9 + 4 * d ≤ h → ∀ {a0 : Nat} {w0 ww : gw} {rr : ((Nat × Nat) ⊕ Option Nat)}, f_X4_body d a0 w0 = some (rr, ww) → gMetX D dA A K l yX4_body (ws_ yX4_body cX4_body 2 (some (.object "WorkflowEngine$Body"))) h [(ga (some a0))] (gXm (fun r => some (ga r)) rr) w0 ww := by
  intro d
  induction d with
  | zero => intro h hh a0 w0 ww rr hf; cases hf
  | succ d ih =>
    intro h hh a0 w0 ww rr hf
    exact k_X4_body_s (rec := f_X4_body d) (B := 9 + 4 * d) (fun hh => ih hh) (by omega) (by omega) hf
def dkwX4_whole_1 : List UInt8 := [3, 182, 0, 42, 43, 176]
abbrev dktX4_whole_1 : List UInt8 := dkwX4_whole_1 ++ []
def dkwX4_whole_0 : List UInt8 := [42, 182, 0, 132, 76, 42, 42, 180, 0, 15, 42, 180, 0, 3, 180, 0, 19, 160, 0, 7, 4, 167, 0, 4]
abbrev dktX4_whole_0 : List UInt8 := dkwX4_whole_0 ++ dktX4_whole_1
theorem dksX4_whole_0 : cX4_whole.data.toList.drop 0 = dktX4_whole_0 := by decide +kernel
theorem dksX4_whole_1 : cX4_whole.data.toList.drop 24 = dktX4_whole_1 := dk_seg dksX4_whole_0 24 rfl rfl
theorem dX4_whole_0 : decode cX4_whole 0 = .ok (.aload_n 0, 1) := dk_42 (dk_at dksX4_whole_0 0 rfl rfl)
theorem dX4_whole_1 : decode cX4_whole 1 = .ok (.invokevirtual 132, 3) := dk_182 0 132 (dk_at dksX4_whole_0 1 rfl rfl)
theorem dX4_whole_4 : decode cX4_whole 4 = .ok (.astore_n 1, 1) := dk_76 (dk_at dksX4_whole_0 4 rfl rfl)
theorem dX4_whole_5 : decode cX4_whole 5 = .ok (.aload_n 0, 1) := dk_42 (dk_at dksX4_whole_0 5 rfl rfl)
theorem dX4_whole_6 : decode cX4_whole 6 = .ok (.aload_n 0, 1) := dk_42 (dk_at dksX4_whole_0 6 rfl rfl)
theorem dX4_whole_7 : decode cX4_whole 7 = .ok (.getfield 15, 3) := dk_180 0 15 (dk_at dksX4_whole_0 7 rfl rfl)
theorem dX4_whole_10 : decode cX4_whole 10 = .ok (.aload_n 0, 1) := dk_42 (dk_at dksX4_whole_0 10 rfl rfl)
theorem dX4_whole_11 : decode cX4_whole 11 = .ok (.getfield 3, 3) := dk_180 0 3 (dk_at dksX4_whole_0 11 rfl rfl)
theorem dX4_whole_14 : decode cX4_whole 14 = .ok (.getfield 19, 3) := dk_180 0 19 (dk_at dksX4_whole_0 14 rfl rfl)
theorem dX4_whole_17 : decode cX4_whole 17 = .ok (.if_icmp .ne 7, 3) := dk_160 0 7 (dk_at dksX4_whole_0 17 rfl rfl)
theorem dX4_whole_20 : decode cX4_whole 20 = .ok (.iconst 1, 1) := dk_4 (dk_at dksX4_whole_0 20 rfl rfl)
theorem dX4_whole_21 : decode cX4_whole 21 = .ok (.goto 4, 3) := dk_167 0 4 (dk_at dksX4_whole_0 21 rfl rfl)
theorem dX4_whole_24 : decode cX4_whole 24 = .ok (.iconst 0, 1) := dk_3 (dk_at dksX4_whole_1 0 rfl rfl)
theorem dX4_whole_25 : decode cX4_whole 25 = .ok (.invokevirtual 42, 3) := dk_182 0 42 (dk_at dksX4_whole_1 1 rfl rfl)
theorem dX4_whole_28 : decode cX4_whole 28 = .ok (.aload_n 1, 1) := dk_43 (dk_at dksX4_whole_1 4 rfl rfl)
theorem dX4_whole_29 : decode cX4_whole 29 = .ok (.areturn, 1) := dk_176 (dk_at dksX4_whole_1 5 rfl rfl)
def f_X4_whole (a0 : Nat) (w0 : gw) : Option (((Nat × Nat) ⊕ Option Nat) × gw) := gB1 (gOb w0 a0 4) fun _ => gB2X (f_X4_body 12 a0  w0) (fun q3 n4 w5 => some (.inl (q3, n4), w5)) fun r6 w1 => gB1 (gI w1 a0 4 0) fun x7 => gB1 (gR w1 a0 4 3) fun r8 => gB1 r8 fun a9 => gB1 (gI w1 a9 0 1) fun x10 => gBd (fun (r13 : Option Nat) (r14 : Option Nat) (x15 : Int32) (w12 : gw) => gB1 r14 fun a16 => gB1 (gOb w12 a16 4) fun _ => gB2X (f_X4_need a16 x15 w12) (fun q18 n19 w20 => some (.inl (q18, n19), w20)) fun _ w17 => some (.inr r13, w17)) fun k11 => if x7 = x10 then k11 r6 (some a0) (nI 1) w1 else k11 r6 (some a0) (nI 0) w1
set_option maxHeartbeats 4000000 in
set_option maxRecDepth 100000 in
theorem k_X4_whole {D : va_G} {dA : Nat → ClassId} {A : Nat → Prop} {K : Nat → Nat} {l : Launch} {h : Nat} (hh : 58 ≤ h) {a0 : Nat} {w0 ww : gw} {rr : ((Nat × Nat) ⊕ Option Nat)} (hf : f_X4_whole a0 w0 = some (rr, ww)) : gMetX D dA A K l yX4_whole (ws_ yX4_whole cX4_whole 2 (some (.object "WorkflowEngine$Body"))) h [(ga (some a0))] (gXm (fun r => some (ga r)) rr) w0 ww := by
  refine x_start (own := RX4) (by decide +kernel) rfl (Nat.le_of_ble_eq_true rfl) ?_
  intro p e R s m args below meth c C hr ht hw
  unfold f_X4_whole at hf
  show gJ D dA A K p l e R s m args below meth c (gEndX D dA A K below args s w0 (gXm (fun r => some (ga r)) rr) ww) 2 0 [(0, (ga (some a0)))] [] w0
  refine j_aload_n C dX4_whole_0 rfl ?_
  replace hf := gB1_e hf
  obtain ⟨_, eo, hf⟩ := hf
  replace hf := gB2X_e hf
  rcases hf with ⟨q3, n4, w5, ew5, hf⟩ | ⟨r6, w1, ew1, hf⟩
  · refine x_callV_t (As := []) (rest := []) C (by omega) (k_X4_body 12 (by omega) ew5) (gOb_e eo) rfl q183 q185 qs1 q95 q186 ⟨rfl, hd_X4_body⟩ (by decide) rfl (Nat.le_of_ble_eq_true rfl) dX4_whole_1 ?_
    obtain ⟨rfl, rfl⟩ := gSome hf
    exact x_out C ht (by decide +kernel) hw
  refine x_callV_r (As := []) (rest := []) (v := (some (ga r6))) C (by omega) (k_X4_body 12 (by omega) ew1) (gOb_e eo) rfl q183 q185 qs1 q95 q186 ⟨rfl, hd_X4_body⟩ (by decide) rfl (Nat.le_of_ble_eq_true rfl) dX4_whole_1 ?_
  refine j_astore_n (lv' := [(1, (ga r6)), (0, (ga (some a0)))]) C dX4_whole_4 (by decide) rfl ?_
  refine j_aload_n C dX4_whole_5 rfl ?_
  refine j_aload_n C dX4_whole_6 rfl ?_
  replace hf := gB1_e hf
  obtain ⟨x7, ex7, hf⟩ := hf
  refine j_get C fl_X4_15_4 dX4_whole_7 (gI_F ex7) ?_
  refine j_aload_n C dX4_whole_10 rfl ?_
  replace hf := gB1_e hf
  obtain ⟨r8, er8, hf⟩ := hf
  refine j_get C fl_X4_3_4 dX4_whole_11 (gR_F er8) ?_
  replace hf := gB1_e hf
  obtain ⟨a9, ea9, hf⟩ := hf
  subst ea9
  replace hf := gB1_e hf
  obtain ⟨x10, ex10, hf⟩ := hf
  refine j_get C fl_X4_19_0 dX4_whole_14 (gI_F ex10) ?_
  replace hf := gBd_x hf
  obtain ⟨k11, ek11, hf⟩ := hf
  have jk11 : ∀ (r13 : Option Nat) (r14 : Option Nat) (x15 : Int32) (w12 : gw), k11 r13 r14 x15 w12 = some (rr, ww) → gJ D dA A K p l e R s m args below meth c (gEndX D dA A K below args s w0 (gXm (fun r => some (ga r)) rr) ww) 2 25 [(1, (ga r13))] [(gi x15), (ga r14)] w12 := by
    intro r13 r14 x15 w12 hf
    rw [ek11] at hf
    dsimp only at hf
    replace hf := gB1_e hf
    obtain ⟨a16, ea16, hf⟩ := hf
    subst ea16
    replace hf := gB1_e hf
    obtain ⟨_, eo, hf⟩ := hf
    replace hf := gB2X_e hf
    rcases hf with ⟨q18, n19, w20, ew20, hf⟩ | ⟨_, w17, ew17, hf⟩
    · refine x_callV_t (As := [(gi x15)]) (rest := []) C (by omega) (k_X4_need (by omega) ew20) (gOb_e eo) rfl q237 q239 qs5 q95 q240 ⟨rfl, hd_X4_need⟩ (by decide) rfl (Nat.le_of_ble_eq_true rfl) dX4_whole_25 ?_
      obtain ⟨rfl, rfl⟩ := gSome hf
      exact x_out C ht (by decide +kernel) hw
    refine x_callV_r (As := [(gi x15)]) (rest := []) (v := none) C (by omega) (k_X4_need (by omega) ew17) (gOb_e eo) rfl q237 q239 qs5 q95 q240 ⟨rfl, hd_X4_need⟩ (by decide) rfl (Nat.le_of_ble_eq_true rfl) dX4_whole_25 ?_
    refine j_aload_n C dX4_whole_28 rfl ?_
    obtain ⟨rfl, rfl⟩ := gSome hf
    exact x_ret (j_aret C hr (Or.inl ⟨_, rfl⟩) hw dX4_whole_29)
  clear ek11
  refine j_icmp_ne (tgt := 24) C dX4_whole_17 (by decide) (fun c21 => ?_) (fun c21 => ?_)
  · replace hf := gIf_f hf c21
    refine j_iconst (v := (nI 0)) C dX4_whole_24 (by decide) ?_
    refine j_sub (lv' := [(1, (ga r6))]) (gL_cons rfl (gL_nil)) ?_
    exact jk11 _ _ _ _ hf
  · replace hf := gIf_t hf c21
    refine j_iconst (v := (nI 1)) C dX4_whole_20 (by decide) ?_
    refine j_goto (tgt := 25) C dX4_whole_21 (by decide) ?_
    refine j_sub (lv' := [(1, (ga r6))]) (gL_cons rfl (gL_nil)) ?_
    exact jk11 _ _ _ _ hf
def dkwX0_read_0 : List UInt8 := [187, 0, 17, 89, 42, 183, 0, 19, 182, 0, 23, 176, 76, 187, 0, 31, 89, 43, 183, 0, 33, 191]
abbrev dktX0_read_0 : List UInt8 := dkwX0_read_0 ++ []
theorem dksX0_read_0 : cX0_read.data.toList.drop 0 = dktX0_read_0 := by decide +kernel
theorem dX0_read_0 : decode cX0_read 0 = .ok (.new 17, 3) := dk_187 0 17 (dk_at dksX0_read_0 0 rfl rfl)
theorem dX0_read_3 : decode cX0_read 3 = .ok (.dup, 1) := dk_89 (dk_at dksX0_read_0 3 rfl rfl)
theorem dX0_read_4 : decode cX0_read 4 = .ok (.aload_n 0, 1) := dk_42 (dk_at dksX0_read_0 4 rfl rfl)
theorem dX0_read_5 : decode cX0_read 5 = .ok (.invokespecial 19, 3) := dk_183 0 19 (dk_at dksX0_read_0 5 rfl rfl)
theorem dX0_read_8 : decode cX0_read 8 = .ok (.invokevirtual 23, 3) := dk_182 0 23 (dk_at dksX0_read_0 8 rfl rfl)
theorem dX0_read_11 : decode cX0_read 11 = .ok (.areturn, 1) := dk_176 (dk_at dksX0_read_0 11 rfl rfl)
theorem dX0_read_12 : decode cX0_read 12 = .ok (.astore_n 1, 1) := dk_76 (dk_at dksX0_read_0 12 rfl rfl)
theorem dX0_read_13 : decode cX0_read 13 = .ok (.new 31, 3) := dk_187 0 31 (dk_at dksX0_read_0 13 rfl rfl)
theorem dX0_read_16 : decode cX0_read 16 = .ok (.dup, 1) := dk_89 (dk_at dksX0_read_0 16 rfl rfl)
theorem dX0_read_17 : decode cX0_read 17 = .ok (.aload_n 1, 1) := dk_43 (dk_at dksX0_read_0 17 rfl rfl)
theorem dX0_read_18 : decode cX0_read 18 = .ok (.invokespecial 33, 3) := dk_183 0 33 (dk_at dksX0_read_0 18 rfl rfl)
theorem dX0_read_21 : decode cX0_read 21 = .ok (.athrow, 1) := dk_191 (dk_at dksX0_read_0 21 rfl rfl)
theorem nl_X0_17 : gNL RX0 17 4 := ⟨RX4, TX4, 4, 4, tyX4, _, rfl, rfl, in_X4, tyX4_ok, q158, q159, q95, fun j hj => by rcases (show j = 0 ∨ j = 1 ∨ j = 2 ∨ j = 3 by omega) with rfl | rfl | rfl | rfl <;> rfl⟩
theorem hd_X4_init : (yX4_init.cls ≠ "java/lang/invoke/MethodHandle" ∧ yX4_init.cls ≠ "java/lang/invoke/VarHandle" ∧ (parseMethodDescriptor yX4_init.desc).map (fun d => d.parameters.length) = some 1) := ⟨by decide +kernel, by decide +kernel, by decide +kernel⟩
theorem nl_X0_31 : gNL RX0 31 15 := ⟨RX15, TX15, 6, 6, tyX15, _, rfl, rfl, in_X15, tyX15_ok, q145, q580, q115, fun j hj => by rcases (show j = 0 ∨ j = 1 ∨ j = 2 ∨ j = 3 ∨ j = 4 ∨ j = 5 by omega) with rfl | rfl | rfl | rfl | rfl | rfl <;> rfl⟩
theorem hd_X15_init : (yX15_init.cls ≠ "java/lang/invoke/MethodHandle" ∧ yX15_init.cls ≠ "java/lang/invoke/VarHandle" ∧ (parseMethodDescriptor yX15_init.desc).map (fun d => d.parameters.length) = some 1) := ⟨by decide +kernel, by decide +kernel, by decide +kernel⟩
theorem hd_X4_whole : (yX4_whole.cls ≠ "java/lang/invoke/MethodHandle" ∧ yX4_whole.cls ≠ "java/lang/invoke/VarHandle" ∧ (parseMethodDescriptor yX4_whole.desc).map (fun d => d.parameters.length) = some 0) := ⟨by decide +kernel, by decide +kernel, by decide +kernel⟩
def f_X0_read (a0 : Nat) (w0 : gw) : Option (((Nat × Nat) ⊕ Option Nat) × gw) := gB2 (gNew w0 4) fun a1 w2 => gB2 (f_X4_init a1 (some a0) w2) fun _ w3 => gB1 (gOb w3 a1 4) fun _ => gB2X (f_X4_whole a1  w3) (fun q6 n7 w8 => if n7 = 6 then gB2 (gNew w8 15) fun a10 w11 => gB2 (f_X15_init a10 (some q6) w11) fun _ w12 => gB1 (gKl w12 a10) fun n13 => some (.inl (a10, n13), w12) else if n7 = 7 then gB2 (gNew w8 15) fun a14 w15 => gB2 (f_X15_init a14 (some q6) w15) fun _ w16 => gB1 (gKl w16 a14) fun n17 => some (.inl (a14, n17), w16) else none) fun r9 w4 => some (.inr r9, w4)
set_option maxHeartbeats 4000000 in
set_option maxRecDepth 100000 in
theorem k_X0_read {D : va_G} {dA : Nat → ClassId} {A : Nat → Prop} {K : Nat → Nat} {l : Launch} {h : Nat} (hh : 59 ≤ h) {a0 : Nat} {w0 ww : gw} {rr : ((Nat × Nat) ⊕ Option Nat)} (hf : f_X0_read a0 w0 = some (rr, ww)) : gMetX D dA A K l yX0_read (wsW_ yX0_read cX0_read 2 (some (.object "WorkflowEngine$Body")) [(0, 11, 12, 27), (0, 11, 12, 29)]) h [(ga (some a0))] (gXm (fun r => some (ga r)) rr) w0 ww := by
  refine x_startW (own := RX0) (by decide +kernel) rfl (Nat.le_of_ble_eq_true rfl) q155 ?_
  intro p e R s m args below meth c C hr ht hw
  unfold f_X0_read at hf
  show gJ D dA A K p l e R s m args below meth c (gEndX D dA A K below args s w0 (gXm (fun r => some (ga r)) rr) ww) 2 0 [(0, (ga (some a0)))] [] w0
  replace hf := gB2_e hf
  obtain ⟨a1, w2, ew2, hf⟩ := hf
  refine j_new C nl_X0_17 ew2 dX0_read_0 ?_
  refine j_dup C dX0_read_3 ?_
  refine j_aload_n C dX0_read_4 rfl ?_
  replace hf := gB2_e hf
  obtain ⟨_, w3, ew3, hf⟩ := hf
  refine j_callIN (As := [(ga (some a0))]) (rest := [(ga (some a1))]) C (by omega) (k_X4_init (by omega) ew3) rfl nq160 q161 q95 q162 hd_X4_init (by decide) rfl (Nat.le_of_ble_eq_true rfl) dX0_read_5 ?_
  replace hf := gB1_e hf
  obtain ⟨_, eo, hf⟩ := hf
  replace hf := gB2X_e hf
  rcases hf with ⟨q6, n7, w8, ew8, hf⟩ | ⟨r9, w4, ew4, hf⟩
  · refine x_callV_t (As := []) (rest := []) C (by omega) (k_X4_whole (by omega) ew8) (gOb_e eo) rfl q179 q180 q181 q95 q182 ⟨rfl, hd_X4_whole⟩ (by decide) rfl (Nat.le_of_ble_eq_true rfl) dX0_read_8 ?_
    by_cases n8_0 : n7 = 6
    · subst n8_0
      replace hf := gIf_t hf rfl
      refine x_catch C ht ((tableOf [(0, 11, 12, 27), (0, 11, 12, 29)]).take 0) ⟨0, 11, 12, 27⟩ ((tableOf [(0, 11, 12, 27), (0, 11, 12, 29)]).drop 1) rfl (E := "WorkflowEngine$BadSign") rfl (fun z hz => nomatch hz) (by decide +kernel) (nm := "WorkflowEngine$BadSign") (by decide +kernel) q156 nq243 (tgt := 12) rfl ?_
      refine j_astore_n (lv' := [(1, (ga (some q6))), (0, (ga (some a0)))]) C dX0_read_12 (by decide) rfl ?_
      replace hf := gB2_e hf
      obtain ⟨a10, w11, ew11, hf⟩ := hf
      refine j_new C nl_X0_31 ew11 dX0_read_13 ?_
      refine j_dup C dX0_read_16 ?_
      refine j_aload_n C dX0_read_17 rfl ?_
      replace hf := gB2_e hf
      obtain ⟨_, w12, ew12, hf⟩ := hf
      refine j_callI (As := [(ga (some q6))]) (rest := [(ga (some a10))]) C (by omega) (k_X15_init (by omega) ew12) rfl q588 q589 q115 q590 hd_X15_init (by decide) rfl (Nat.le_of_ble_eq_true rfl) dX0_read_18 ?_
      replace hf := gB1_e hf
      obtain ⟨n13, en13, hf⟩ := hf
      refine x_athrow C en13 dX0_read_21 ?_
      obtain ⟨rfl, rfl⟩ := gSome hf
      exact x_out C ht (by decide +kernel) hw
    · replace hf := gIf_f hf n8_0
      by_cases n8_1 : n7 = 7
      · subst n8_1
        replace hf := gIf_t hf rfl
        refine x_catch C ht ((tableOf [(0, 11, 12, 27), (0, 11, 12, 29)]).take 1) ⟨0, 11, 12, 29⟩ ((tableOf [(0, 11, 12, 27), (0, 11, 12, 29)]).drop 2) rfl (E := "WorkflowEngine$TooMuch") rfl (fun z hz => by rcases List.mem_singleton.mp hz with rfl; exact Or.inr ⟨by decide +kernel, "WorkflowEngine$BadSign", q156, nc32⟩) (by decide +kernel) (nm := "WorkflowEngine$TooMuch") (by decide +kernel) q157 nq312 (tgt := 12) rfl ?_
        refine j_astore_n (lv' := [(1, (ga (some q6))), (0, (ga (some a0)))]) C dX0_read_12 (by decide) rfl ?_
        replace hf := gB2_e hf
        obtain ⟨a14, w15, ew15, hf⟩ := hf
        refine j_new C nl_X0_31 ew15 dX0_read_13 ?_
        refine j_dup C dX0_read_16 ?_
        refine j_aload_n C dX0_read_17 rfl ?_
        replace hf := gB2_e hf
        obtain ⟨_, w16, ew16, hf⟩ := hf
        refine j_callI (As := [(ga (some q6))]) (rest := [(ga (some a14))]) C (by omega) (k_X15_init (by omega) ew16) rfl q588 q589 q115 q590 hd_X15_init (by decide) rfl (Nat.le_of_ble_eq_true rfl) dX0_read_18 ?_
        replace hf := gB1_e hf
        obtain ⟨n17, en17, hf⟩ := hf
        refine x_athrow C en17 dX0_read_21 ?_
        obtain ⟨rfl, rfl⟩ := gSome hf
        exact x_out C ht (by decide +kernel) hw
      · replace hf := gIf_f hf n8_1
        cases hf
  refine x_callV_r (As := []) (rest := []) (v := (some (ga r9))) C (by omega) (k_X4_whole (by omega) ew4) (gOb_e eo) rfl q179 q180 q181 q95 q182 ⟨rfl, hd_X4_whole⟩ (by decide) rfl (Nat.le_of_ble_eq_true rfl) dX0_read_8 ?_
  obtain ⟨rfl, rfl⟩ := gSome hf
  exact x_ret (j_aret C hr (Or.inl ⟨_, rfl⟩) hw dX0_read_11)
def dkwX0_define_4 : List UInt8 := [172, 58, 5, 42, 3, 181, 0, 9, 25, 5, 191]
abbrev dktX0_define_4 : List UInt8 := dkwX0_define_4 ++ []
def dkwX0_define_3 : List UInt8 := [29, 172, 78, 42, 45, 181, 0, 44, 16, 156, 45, 182, 0, 60, 100, 54, 4, 42, 3, 181, 0, 9, 21, 4]
abbrev dktX0_define_3 : List UInt8 := dkwX0_define_3 ++ dktX0_define_4
def dkwX0_define_2 : List UInt8 := [180, 0, 9, 183, 0, 57, 83, 42, 180, 0, 40, 27, 92, 46, 4, 96, 79, 28, 62, 42, 3, 181, 0, 9]
abbrev dktX0_define_2 : List UInt8 := dkwX0_define_2 ++ dktX0_define_3
def dkwX0_define_1 : List UInt8 := [42, 1, 181, 0, 44, 42, 180, 0, 48, 7, 27, 104, 28, 96, 187, 0, 52, 89, 42, 182, 0, 54, 42]
abbrev dktX0_define_1 : List UInt8 := dkwX0_define_1 ++ dktX0_define_2
def dkwX0_define_0 : List UInt8 := [27, 184, 0, 36, 154, 0, 5, 2, 172, 42, 180, 0, 40, 27, 46, 61, 28, 7, 160, 0, 6, 16, 252, 172]
abbrev dktX0_define_0 : List UInt8 := dkwX0_define_0 ++ dktX0_define_1
theorem dksX0_define_0 : cX0_define.data.toList.drop 0 = dktX0_define_0 := by decide +kernel
theorem dksX0_define_1 : cX0_define.data.toList.drop 24 = dktX0_define_1 := dk_seg dksX0_define_0 24 rfl rfl
theorem dksX0_define_2 : cX0_define.data.toList.drop 47 = dktX0_define_2 := dk_seg dksX0_define_1 23 rfl rfl
theorem dksX0_define_3 : cX0_define.data.toList.drop 71 = dktX0_define_3 := dk_seg dksX0_define_2 24 rfl rfl
theorem dksX0_define_4 : cX0_define.data.toList.drop 95 = dktX0_define_4 := dk_seg dksX0_define_3 24 rfl rfl
theorem dX0_define_0 : decode cX0_define 0 = .ok (.iload_n 1, 1) := dk_27 (dk_at dksX0_define_0 0 rfl rfl)
theorem dX0_define_1 : decode cX0_define 1 = .ok (.invokestatic 36, 3) := dk_184 0 36 (dk_at dksX0_define_0 1 rfl rfl)
theorem dX0_define_4 : decode cX0_define 4 = .ok (.ifCond .ne 5, 3) := dk_154 0 5 (dk_at dksX0_define_0 4 rfl rfl)
theorem dX0_define_7 : decode cX0_define 7 = .ok (.iconst (-1), 1) := dk_2 (dk_at dksX0_define_0 7 rfl rfl)
theorem dX0_define_8 : decode cX0_define 8 = .ok (.ireturn, 1) := dk_172 (dk_at dksX0_define_0 8 rfl rfl)
theorem dX0_define_9 : decode cX0_define 9 = .ok (.aload_n 0, 1) := dk_42 (dk_at dksX0_define_0 9 rfl rfl)
theorem dX0_define_10 : decode cX0_define 10 = .ok (.getfield 40, 3) := dk_180 0 40 (dk_at dksX0_define_0 10 rfl rfl)
theorem dX0_define_13 : decode cX0_define 13 = .ok (.iload_n 1, 1) := dk_27 (dk_at dksX0_define_0 13 rfl rfl)
theorem dX0_define_14 : decode cX0_define 14 = .ok (.iaload, 1) := dk_46 (dk_at dksX0_define_0 14 rfl rfl)
theorem dX0_define_15 : decode cX0_define 15 = .ok (.istore_n 2, 1) := dk_61 (dk_at dksX0_define_0 15 rfl rfl)
theorem dX0_define_16 : decode cX0_define 16 = .ok (.iload_n 2, 1) := dk_28 (dk_at dksX0_define_0 16 rfl rfl)
theorem dX0_define_17 : decode cX0_define 17 = .ok (.iconst 4, 1) := dk_7 (dk_at dksX0_define_0 17 rfl rfl)
theorem dX0_define_18 : decode cX0_define 18 = .ok (.if_icmp .ne 6, 3) := dk_160 0 6 (dk_at dksX0_define_0 18 rfl rfl)
theorem dX0_define_21 : decode cX0_define 21 = .ok (.bipush (-4), 2) := dk_16 252 (dk_at dksX0_define_0 21 rfl rfl)
theorem dX0_define_23 : decode cX0_define 23 = .ok (.ireturn, 1) := dk_172 (dk_at dksX0_define_0 23 rfl rfl)
theorem dX0_define_24 : decode cX0_define 24 = .ok (.aload_n 0, 1) := dk_42 (dk_at dksX0_define_1 0 rfl rfl)
theorem dX0_define_25 : decode cX0_define 25 = .ok (.aconst_null, 1) := dk_1 (dk_at dksX0_define_1 1 rfl rfl)
theorem dX0_define_26 : decode cX0_define 26 = .ok (.putfield 44, 3) := dk_181 0 44 (dk_at dksX0_define_1 2 rfl rfl)
theorem dX0_define_29 : decode cX0_define 29 = .ok (.aload_n 0, 1) := dk_42 (dk_at dksX0_define_1 5 rfl rfl)
theorem dX0_define_30 : decode cX0_define 30 = .ok (.getfield 48, 3) := dk_180 0 48 (dk_at dksX0_define_1 6 rfl rfl)
theorem dX0_define_33 : decode cX0_define 33 = .ok (.iconst 4, 1) := dk_7 (dk_at dksX0_define_1 9 rfl rfl)
theorem dX0_define_34 : decode cX0_define 34 = .ok (.iload_n 1, 1) := dk_27 (dk_at dksX0_define_1 10 rfl rfl)
theorem dX0_define_35 : decode cX0_define 35 = .ok (.imul, 1) := dk_104 (dk_at dksX0_define_1 11 rfl rfl)
theorem dX0_define_36 : decode cX0_define 36 = .ok (.iload_n 2, 1) := dk_28 (dk_at dksX0_define_1 12 rfl rfl)
theorem dX0_define_37 : decode cX0_define 37 = .ok (.iadd, 1) := dk_96 (dk_at dksX0_define_1 13 rfl rfl)
theorem dX0_define_38 : decode cX0_define 38 = .ok (.new 52, 3) := dk_187 0 52 (dk_at dksX0_define_1 14 rfl rfl)
theorem dX0_define_41 : decode cX0_define 41 = .ok (.dup, 1) := dk_89 (dk_at dksX0_define_1 17 rfl rfl)
theorem dX0_define_42 : decode cX0_define 42 = .ok (.aload_n 0, 1) := dk_42 (dk_at dksX0_define_1 18 rfl rfl)
theorem dX0_define_43 : decode cX0_define 43 = .ok (.invokevirtual 54, 3) := dk_182 0 54 (dk_at dksX0_define_1 19 rfl rfl)
theorem dX0_define_46 : decode cX0_define 46 = .ok (.aload_n 0, 1) := dk_42 (dk_at dksX0_define_1 22 rfl rfl)
theorem dX0_define_47 : decode cX0_define 47 = .ok (.getfield 9, 3) := dk_180 0 9 (dk_at dksX0_define_2 0 rfl rfl)
theorem dX0_define_50 : decode cX0_define 50 = .ok (.invokespecial 57, 3) := dk_183 0 57 (dk_at dksX0_define_2 3 rfl rfl)
theorem dX0_define_53 : decode cX0_define 53 = .ok (.aastore, 1) := dk_83 (dk_at dksX0_define_2 6 rfl rfl)
theorem dX0_define_54 : decode cX0_define 54 = .ok (.aload_n 0, 1) := dk_42 (dk_at dksX0_define_2 7 rfl rfl)
theorem dX0_define_55 : decode cX0_define 55 = .ok (.getfield 40, 3) := dk_180 0 40 (dk_at dksX0_define_2 8 rfl rfl)
theorem dX0_define_58 : decode cX0_define 58 = .ok (.iload_n 1, 1) := dk_27 (dk_at dksX0_define_2 11 rfl rfl)
theorem dX0_define_59 : decode cX0_define 59 = .ok (.dup2, 1) := dk_92 (dk_at dksX0_define_2 12 rfl rfl)
theorem dX0_define_60 : decode cX0_define 60 = .ok (.iaload, 1) := dk_46 (dk_at dksX0_define_2 13 rfl rfl)
theorem dX0_define_61 : decode cX0_define 61 = .ok (.iconst 1, 1) := dk_4 (dk_at dksX0_define_2 14 rfl rfl)
theorem dX0_define_62 : decode cX0_define 62 = .ok (.iadd, 1) := dk_96 (dk_at dksX0_define_2 15 rfl rfl)
theorem dX0_define_63 : decode cX0_define 63 = .ok (.iastore, 1) := dk_79 (dk_at dksX0_define_2 16 rfl rfl)
theorem dX0_define_64 : decode cX0_define 64 = .ok (.iload_n 2, 1) := dk_28 (dk_at dksX0_define_2 17 rfl rfl)
theorem dX0_define_65 : decode cX0_define 65 = .ok (.istore_n 3, 1) := dk_62 (dk_at dksX0_define_2 18 rfl rfl)
theorem dX0_define_66 : decode cX0_define 66 = .ok (.aload_n 0, 1) := dk_42 (dk_at dksX0_define_2 19 rfl rfl)
theorem dX0_define_67 : decode cX0_define 67 = .ok (.iconst 0, 1) := dk_3 (dk_at dksX0_define_2 20 rfl rfl)
theorem dX0_define_68 : decode cX0_define 68 = .ok (.putfield 9, 3) := dk_181 0 9 (dk_at dksX0_define_2 21 rfl rfl)
theorem dX0_define_71 : decode cX0_define 71 = .ok (.iload_n 3, 1) := dk_29 (dk_at dksX0_define_3 0 rfl rfl)
theorem dX0_define_72 : decode cX0_define 72 = .ok (.ireturn, 1) := dk_172 (dk_at dksX0_define_3 1 rfl rfl)
theorem dX0_define_73 : decode cX0_define 73 = .ok (.astore_n 3, 1) := dk_78 (dk_at dksX0_define_3 2 rfl rfl)
theorem dX0_define_74 : decode cX0_define 74 = .ok (.aload_n 0, 1) := dk_42 (dk_at dksX0_define_3 3 rfl rfl)
theorem dX0_define_75 : decode cX0_define 75 = .ok (.aload_n 3, 1) := dk_45 (dk_at dksX0_define_3 4 rfl rfl)
theorem dX0_define_76 : decode cX0_define 76 = .ok (.putfield 44, 3) := dk_181 0 44 (dk_at dksX0_define_3 5 rfl rfl)
theorem dX0_define_79 : decode cX0_define 79 = .ok (.bipush (-100), 2) := dk_16 156 (dk_at dksX0_define_3 8 rfl rfl)
theorem dX0_define_81 : decode cX0_define 81 = .ok (.aload_n 3, 1) := dk_45 (dk_at dksX0_define_3 10 rfl rfl)
theorem dX0_define_82 : decode cX0_define 82 = .ok (.invokevirtual 60, 3) := dk_182 0 60 (dk_at dksX0_define_3 11 rfl rfl)
theorem dX0_define_85 : decode cX0_define 85 = .ok (.isub, 1) := dk_100 (dk_at dksX0_define_3 14 rfl rfl)
theorem dX0_define_86 : decode cX0_define 86 = .ok (.istore 4, 2) := dk_54 4 (dk_at dksX0_define_3 15 rfl rfl)
theorem dX0_define_88 : decode cX0_define 88 = .ok (.aload_n 0, 1) := dk_42 (dk_at dksX0_define_3 17 rfl rfl)
theorem dX0_define_89 : decode cX0_define 89 = .ok (.iconst 0, 1) := dk_3 (dk_at dksX0_define_3 18 rfl rfl)
theorem dX0_define_90 : decode cX0_define 90 = .ok (.putfield 9, 3) := dk_181 0 9 (dk_at dksX0_define_3 19 rfl rfl)
theorem dX0_define_93 : decode cX0_define 93 = .ok (.iload 4, 2) := dk_21 4 (dk_at dksX0_define_3 22 rfl rfl)
theorem dX0_define_95 : decode cX0_define 95 = .ok (.ireturn, 1) := dk_172 (dk_at dksX0_define_4 0 rfl rfl)
theorem dX0_define_96 : decode cX0_define 96 = .ok (.astore 5, 2) := dk_58 5 (dk_at dksX0_define_4 1 rfl rfl)
theorem dX0_define_98 : decode cX0_define 98 = .ok (.aload_n 0, 1) := dk_42 (dk_at dksX0_define_4 3 rfl rfl)
theorem dX0_define_99 : decode cX0_define 99 = .ok (.iconst 0, 1) := dk_3 (dk_at dksX0_define_4 4 rfl rfl)
theorem dX0_define_100 : decode cX0_define 100 = .ok (.putfield 9, 3) := dk_181 0 9 (dk_at dksX0_define_4 5 rfl rfl)
theorem dX0_define_103 : decode cX0_define 103 = .ok (.aload 5, 2) := dk_25 5 (dk_at dksX0_define_4 8 rfl rfl)
theorem dX0_define_105 : decode cX0_define 105 = .ok (.athrow, 1) := dk_191 (dk_at dksX0_define_4 10 rfl rfl)
theorem nl_X0_52 : gNL RX0 52 3 := ⟨RX3, TX3, 2, 2, tyX3, _, rfl, rfl, in_X3, tyX3_ok, q149, q150, q94, fun j hj => by rcases (show j = 0 ∨ j = 1 by omega) with rfl | rfl <;> rfl⟩
theorem hd_X0_read : (yX0_read.cls ≠ "java/lang/invoke/MethodHandle" ∧ yX0_read.cls ≠ "java/lang/invoke/VarHandle" ∧ (parseMethodDescriptor yX0_read.desc).map (fun d => d.parameters.length) = some 0) := ⟨by decide +kernel, by decide +kernel, by decide +kernel⟩
theorem hd_X3_init : (yX3_init.cls ≠ "java/lang/invoke/MethodHandle" ∧ yX3_init.cls ≠ "java/lang/invoke/VarHandle" ∧ (parseMethodDescriptor yX3_init.desc).map (fun d => d.parameters.length) = some 2) := ⟨by decide +kernel, by decide +kernel, by decide +kernel⟩
def f_X0_define (a0 : Nat) (p1 : Int32) (w0 : gw) : Option (((Nat × Nat) ⊕ Int32) × gw) := gB2 (f_X0_isWorkflow p1 w0) fun x2 w1 => if x2 = 0 then some (.inr (-1), w1) else gB1 (gR w1 a0 0 4) fun r4 => gB1 r4 fun a5 => gB1 (gLdI w1 a5 0 p1) fun x6 => if x6 = (nI 4) then some (.inr (-4), w1) else gB1 (gPut w1 a0 0 2 (ga none)) fun w8 => gB1 (gR w8 a0 0 3) fun r9 => gB2 (gNew w8 3) fun a10 w11 => gB1 (gOb w11 a0 0) fun _ => gB2X (f_X0_read a0  w11) (fun q14 n15 w16 => if n15 = 15 then gB1 (gPut w16 a0 0 2 (ga (some q14))) fun w18 => gB1 (gOb w18 q14 15) fun _ => gB2 (f_X15_place q14  w18) fun x20 w19 => gBd ((-100) - x20) fun x21 => gB1 (gPut w19 a0 0 1 (gi (nI 0))) fun w22 => some (.inr x21, w22) else none) fun r17 w12 => gB1 (gI w12 a0 0 1) fun x23 => gB2 (f_X3_init a10 r17 x23 w12) fun _ w24 => gB1 r9 fun a25 => gB1 (gStR w24 a25 3 (((nI 4) * p1) + x6) (some a10)) fun w26 => gB1 (gR w26 a0 0 4) fun r27 => gB1 r27 fun a28 => gB1 (gLdI w26 a28 0 p1) fun x29 => gB1 (gStI w26 a28 0 p1 (x29 + (nI 1))) fun w30 => gB1 (gPut w30 a0 0 1 (gi (nI 0))) fun w31 => some (.inr x6, w31)
set_option maxHeartbeats 4000000 in
set_option maxRecDepth 100000 in
theorem k_X0_define {D : va_G} {dA : Nat → ClassId} {A : Nat → Prop} {K : Nat → Nat} {l : Launch} {h : Nat} (hh : 60 ≤ h) {a0 : Nat} {p1 : Int32} {w0 ww : gw} {rr : ((Nat × Nat) ⊕ Int32)} (hf : f_X0_define a0 p1 w0 = some (rr, ww)) : gMetX D dA A K l yX0_define (wsW_ yX0_define cX0_define 6 (some .int) [(29, 66, 73, 31), (29, 66, 96, 0), (73, 88, 96, 0), (96, 98, 96, 0)]) h [(ga (some a0)), (gi p1)] (gXm (fun r => some (gi r)) rr) w0 ww := by
  refine x_startW (own := RX0) (by decide +kernel) rfl (Nat.le_of_ble_eq_true rfl) q144 ?_
  intro p e R s m args below meth c C hr ht hw
  unfold f_X0_define at hf
  show gJ D dA A K p l e R s m args below meth c (gEndX D dA A K below args s w0 (gXm (fun r => some (gi r)) rr) ww) 6 0 [(0, (ga (some a0))), (1, (gi p1))] [] w0
  refine j_iload_n C dX0_define_0 rfl ?_
  replace hf := gB2_e hf
  obtain ⟨x2, w1, ew1, hf⟩ := hf
  refine j_callS (As := [(gi p1)]) (rest := []) (v := (some (gi x2))) C (by omega) (k_X0_isWorkflow (by omega) ew1) q146 q147 q91 q148 hd_X0_isWorkflow (by decide) rfl (Nat.le_of_ble_eq_true rfl) dX0_define_1 ?_
  refine j_if_ne (tgt := 9) C dX0_define_4 (by decide) (fun c3 => ?_) (fun c3 => ?_)
  · replace hf := gIf_f hf c3
    refine j_aload_n C dX0_define_9 rfl ?_
    replace hf := gB1_e hf
    obtain ⟨r4, er4, hf⟩ := hf
    refine j_get C fl_X0_40_0 dX0_define_10 (gR_F er4) ?_
    refine j_iload_n C dX0_define_13 rfl ?_
    replace hf := gB1_e hf
    obtain ⟨a5, ea5, hf⟩ := hf
    subst ea5
    replace hf := gB1_e hf
    obtain ⟨x6, ex6, hf⟩ := hf
    refine j_iald C ex6 dX0_define_14 ?_
    refine j_istore_n (lv' := [(2, (gi x6)), (0, (ga (some a0))), (1, (gi p1))]) C dX0_define_15 (by decide) rfl ?_
    refine j_iload_n C dX0_define_16 rfl ?_
    refine j_iconst (v := (nI 4)) C dX0_define_17 (by decide) ?_
    refine j_icmp_ne (tgt := 24) C dX0_define_18 (by decide) (fun c7 => ?_) (fun c7 => ?_)
    · replace hf := gIf_f hf c7
      refine j_aload_n C dX0_define_24 rfl ?_
      refine j_null C dX0_define_25 ?_
      replace hf := gB1_e hf
      obtain ⟨w8, ew8, hf⟩ := hf
      refine j_put C fl_X0_44_0 tb_0 ew8 fk_0_2 (ft_LWorkflowEngine_WrongText_ none) dX0_define_26 ?_
      refine j_aload_n C dX0_define_29 rfl ?_
      replace hf := gB1_e hf
      obtain ⟨r9, er9, hf⟩ := hf
      refine j_get C fl_X0_48_0 dX0_define_30 (gR_F er9) ?_
      refine j_iconst (v := (nI 4)) C dX0_define_33 (by decide) ?_
      refine j_iload_n C dX0_define_34 rfl ?_
      refine j_imul C dX0_define_35 ?_
      refine j_iload_n C dX0_define_36 rfl ?_
      refine j_iadd C dX0_define_37 ?_
      replace hf := gB2_e hf
      obtain ⟨a10, w11, ew11, hf⟩ := hf
      refine j_new C nl_X0_52 ew11 dX0_define_38 ?_
      refine j_dup C dX0_define_41 ?_
      refine j_aload_n C dX0_define_42 rfl ?_
      replace hf := gB1_e hf
      obtain ⟨_, eo, hf⟩ := hf
      replace hf := gB2X_e hf
      rcases hf with ⟨q14, n15, w16, ew16, hf⟩ | ⟨r17, w12, ew12, hf⟩
      · refine x_callW_t (As := []) (rest := [(ga (some a10)), (ga (some a10)), (gi (((nI 4) * p1) + x6)), (ga r9)]) C (by omega) (k_X0_read (by omega) ew16) (gOb_e eo) rfl q151 q153 qs0 q91 q155 ⟨rfl, hd_X0_read⟩ (by decide) rfl (Nat.le_of_ble_eq_true rfl) dX0_define_43 ?_
        by_cases n43_0 : n15 = 15
        · subst n43_0
          replace hf := gIf_t hf rfl
          refine x_catch C ht ((tableOf [(29, 66, 73, 31), (29, 66, 96, 0), (73, 88, 96, 0), (96, 98, 96, 0)]).take 0) ⟨29, 66, 73, 31⟩ ((tableOf [(29, 66, 73, 31), (29, 66, 96, 0), (73, 88, 96, 0), (96, 98, 96, 0)]).drop 1) rfl (E := "WorkflowEngine$WrongText") rfl (fun z hz => nomatch hz) (by decide +kernel) (nm := "WorkflowEngine$WrongText") (by decide +kernel) q145 nq581 (tgt := 73) rfl ?_
          refine j_astore_n (lv' := [(3, (ga (some q14))), (2, (gi x6)), (0, (ga (some a0))), (1, (gi p1))]) C dX0_define_73 (by decide) rfl ?_
          refine j_aload_n C dX0_define_74 rfl ?_
          refine j_aload_n C dX0_define_75 rfl ?_
          replace hf := gB1_e hf
          obtain ⟨w18, ew18, hf⟩ := hf
          refine j_put C fl_X0_44_0 tb_0 ew18 fk_0_2 (ft_LWorkflowEngine_WrongText_ (some q14)) dX0_define_76 ?_
          refine j_bipush (v := (-100)) C dX0_define_79 (by decide) ?_
          refine j_aload_n C dX0_define_81 rfl ?_
          replace hf := gB1_e hf
          obtain ⟨_, eo, hf⟩ := hf
          replace hf := gB2_e hf
          obtain ⟨x20, w19, ew19, hf⟩ := hf
          refine j_callV (As := []) (rest := [(gi (-100))]) (v := (some (gi x20))) C (by omega) (k_X15_place (by omega) ew19) (gOb_e eo) rfl q607 q608 q609 q115 q610 ⟨rfl, hd_X15_place⟩ (by decide) rfl (Nat.le_of_ble_eq_true rfl) dX0_define_82 ?_
          refine j_isub C dX0_define_85 ?_
          replace hf := gBd_x hf
          obtain ⟨x21, ex21, hf⟩ := hf
          refine j_nm ex21 ?_
          refine j_istore (lv' := [(4, (gi x21)), (3, (ga (some q14))), (2, (gi x6)), (0, (ga (some a0))), (1, (gi p1))]) C dX0_define_86 (by decide) rfl ?_
          refine j_aload_n C dX0_define_88 rfl ?_
          refine j_iconst (v := (nI 0)) C dX0_define_89 (by decide) ?_
          replace hf := gB1_e hf
          obtain ⟨w22, ew22, hf⟩ := hf
          refine j_put C fl_X0_9_0 tb_0 ew22 fk_0_1 (fit_I (nI 0)) dX0_define_90 ?_
          refine j_iload C dX0_define_93 rfl ?_
          obtain ⟨rfl, rfl⟩ := gSome hf
          exact x_ret (j_iret C hr hw dX0_define_95)
        · replace hf := gIf_f hf n43_0
          cases hf
      refine x_callW_r (As := []) (rest := [(ga (some a10)), (ga (some a10)), (gi (((nI 4) * p1) + x6)), (ga r9)]) (v := (some (ga r17))) C (by omega) (k_X0_read (by omega) ew12) (gOb_e eo) rfl q151 q153 qs0 q91 q155 ⟨rfl, hd_X0_read⟩ (by decide) rfl (Nat.le_of_ble_eq_true rfl) dX0_define_43 ?_
      refine j_aload_n C dX0_define_46 rfl ?_
      replace hf := gB1_e hf
      obtain ⟨x23, ex23, hf⟩ := hf
      refine j_get C fl_X0_9_0 dX0_define_47 (gI_F ex23) ?_
      replace hf := gB2_e hf
      obtain ⟨_, w24, ew24, hf⟩ := hf
      refine j_callI (As := [(ga r17), (gi x23)]) (rest := [(ga (some a10)), (gi (((nI 4) * p1) + x6)), (ga r9)]) C (by omega) (k_X3_init (by omega) ew24) rfl q594 q595 q94 q596 hd_X3_init (by decide) rfl (Nat.le_of_ble_eq_true rfl) dX0_define_50 ?_
      replace hf := gB1_e hf
      obtain ⟨a25, ea25, hf⟩ := hf
      subst ea25
      replace hf := gB1_e hf
      obtain ⟨w26, ew26, hf⟩ := hf
      refine j_aast C (t := 3) rfl gAsg_3 ew26 dX0_define_53 ?_
      refine j_aload_n C dX0_define_54 rfl ?_
      replace hf := gB1_e hf
      obtain ⟨r27, er27, hf⟩ := hf
      refine j_get C fl_X0_40_0 dX0_define_55 (gR_F er27) ?_
      refine j_iload_n C dX0_define_58 rfl ?_
      refine j_dup2 C dX0_define_59 ?_
      replace hf := gB1_e hf
      obtain ⟨a28, ea28, hf⟩ := hf
      subst ea28
      replace hf := gB1_e hf
      obtain ⟨x29, ex29, hf⟩ := hf
      refine j_iald C ex29 dX0_define_60 ?_
      refine j_iconst (v := (nI 1)) C dX0_define_61 (by decide) ?_
      refine j_iadd C dX0_define_62 ?_
      replace hf := gB1_e hf
      obtain ⟨w30, ew30, hf⟩ := hf
      refine j_iast C ew30 dX0_define_63 ?_
      refine j_iload_n C dX0_define_64 rfl ?_
      refine j_istore_n (lv' := [(3, (gi x6)), (2, (gi x6)), (0, (ga (some a0))), (1, (gi p1))]) C dX0_define_65 (by decide) rfl ?_
      refine j_aload_n C dX0_define_66 rfl ?_
      refine j_iconst (v := (nI 0)) C dX0_define_67 (by decide) ?_
      replace hf := gB1_e hf
      obtain ⟨w31, ew31, hf⟩ := hf
      refine j_put C fl_X0_9_0 tb_0 ew31 fk_0_1 (fit_I (nI 0)) dX0_define_68 ?_
      refine j_iload_n C dX0_define_71 rfl ?_
      obtain ⟨rfl, rfl⟩ := gSome hf
      exact x_ret (j_iret C hr hw dX0_define_72)
    · replace hf := gIf_t hf c7
      refine j_bipush (v := (-4)) C dX0_define_21 (by decide) ?_
      obtain ⟨rfl, rfl⟩ := gSome hf
      exact x_ret (j_iret C hr hw dX0_define_23)
  · replace hf := gIf_t hf c3
    refine j_iconst (v := (-1)) C dX0_define_7 (by decide) ?_
    obtain ⟨rfl, rfl⟩ := gSome hf
    exact x_ret (j_iret C hr hw dX0_define_8)
