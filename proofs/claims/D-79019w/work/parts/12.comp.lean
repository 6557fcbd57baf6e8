set_option maxRecDepth 100000
def dkwX23_ends_4 : List UInt8 := [180, 0, 41, 4, 100, 120, 96, 181, 0, 34, 178, 0, 84, 176]
abbrev dktX23_ends_4 : List UInt8 := dkwX23_ends_4 ++ []
def dkwX23_ends_3 : List UInt8 := [180, 0, 75, 164, 0, 7, 178, 0, 78, 176, 42, 89, 180, 0, 34, 42, 180, 0, 19, 180, 0, 81, 42]
abbrev dktX23_ends_3 : List UInt8 := dkwX23_ends_3 ++ dktX23_ends_4
def dkwX23_ends_2 : List UInt8 := [180, 0, 44, 4, 42, 180, 0, 19, 180, 0, 52, 182, 0, 57, 42, 180, 0, 41, 42, 180, 0, 19]
abbrev dktX23_ends_2 : List UInt8 := dkwX23_ends_2 ++ dktX23_ends_3
def dkwX23_ends_1 : List UInt8 := [154, 0, 22, 42, 42, 180, 0, 44, 42, 180, 0, 19, 182, 0, 65, 181, 0, 15, 178, 0, 69, 176, 42]
abbrev dktX23_ends_1 : List UInt8 := dkwX23_ends_1 ++ dktX23_ends_2
def dkwX23_ends_0 : List UInt8 := [42, 3, 181, 0, 37, 42, 180, 0, 44, 180, 0, 23, 42, 180, 0, 19, 180, 0, 52, 182, 0, 61]
abbrev dktX23_ends_0 : List UInt8 := dkwX23_ends_0 ++ dktX23_ends_1
theorem dksX23_ends_0 : cX23_ends.data.toList.drop 0 = dktX23_ends_0 := by decide +kernel
theorem dksX23_ends_1 : cX23_ends.data.toList.drop 22 = dktX23_ends_1 := dk_seg dksX23_ends_0 22 rfl rfl
theorem dksX23_ends_2 : cX23_ends.data.toList.drop 45 = dktX23_ends_2 := dk_seg dksX23_ends_1 23 rfl rfl
theorem dksX23_ends_3 : cX23_ends.data.toList.drop 67 = dktX23_ends_3 := dk_seg dksX23_ends_2 22 rfl rfl
theorem dksX23_ends_4 : cX23_ends.data.toList.drop 90 = dktX23_ends_4 := dk_seg dksX23_ends_3 23 rfl rfl
theorem dX23_ends_0 : decode cX23_ends 0 = .ok (.aload_n 0, 1) := dk_42 (dk_at dksX23_ends_0 0 rfl rfl)
theorem dX23_ends_1 : decode cX23_ends 1 = .ok (.iconst 0, 1) := dk_3 (dk_at dksX23_ends_0 1 rfl rfl)
theorem dX23_ends_2 : decode cX23_ends 2 = .ok (.putfield 37, 3) := dk_181 0 37 (dk_at dksX23_ends_0 2 rfl rfl)
theorem dX23_ends_5 : decode cX23_ends 5 = .ok (.aload_n 0, 1) := dk_42 (dk_at dksX23_ends_0 5 rfl rfl)
theorem dX23_ends_6 : decode cX23_ends 6 = .ok (.getfield 44, 3) := dk_180 0 44 (dk_at dksX23_ends_0 6 rfl rfl)
theorem dX23_ends_9 : decode cX23_ends 9 = .ok (.getfield 23, 3) := dk_180 0 23 (dk_at dksX23_ends_0 9 rfl rfl)
theorem dX23_ends_12 : decode cX23_ends 12 = .ok (.aload_n 0, 1) := dk_42 (dk_at dksX23_ends_0 12 rfl rfl)
theorem dX23_ends_13 : decode cX23_ends 13 = .ok (.getfield 19, 3) := dk_180 0 19 (dk_at dksX23_ends_0 13 rfl rfl)
theorem dX23_ends_16 : decode cX23_ends 16 = .ok (.getfield 52, 3) := dk_180 0 52 (dk_at dksX23_ends_0 16 rfl rfl)
theorem dX23_ends_19 : decode cX23_ends 19 = .ok (.invokevirtual 61, 3) := dk_182 0 61 (dk_at dksX23_ends_0 19 rfl rfl)
theorem dX23_ends_22 : decode cX23_ends 22 = .ok (.ifCond .ne 22, 3) := dk_154 0 22 (dk_at dksX23_ends_1 0 rfl rfl)
theorem dX23_ends_25 : decode cX23_ends 25 = .ok (.aload_n 0, 1) := dk_42 (dk_at dksX23_ends_1 3 rfl rfl)
theorem dX23_ends_26 : decode cX23_ends 26 = .ok (.aload_n 0, 1) := dk_42 (dk_at dksX23_ends_1 4 rfl rfl)
theorem dX23_ends_27 : decode cX23_ends 27 = .ok (.getfield 44, 3) := dk_180 0 44 (dk_at dksX23_ends_1 5 rfl rfl)
theorem dX23_ends_30 : decode cX23_ends 30 = .ok (.aload_n 0, 1) := dk_42 (dk_at dksX23_ends_1 8 rfl rfl)
theorem dX23_ends_31 : decode cX23_ends 31 = .ok (.getfield 19, 3) := dk_180 0 19 (dk_at dksX23_ends_1 9 rfl rfl)
theorem dX23_ends_34 : decode cX23_ends 34 = .ok (.invokevirtual 65, 3) := dk_182 0 65 (dk_at dksX23_ends_1 12 rfl rfl)
theorem dX23_ends_37 : decode cX23_ends 37 = .ok (.putfield 15, 3) := dk_181 0 15 (dk_at dksX23_ends_1 15 rfl rfl)
theorem dX23_ends_40 : decode cX23_ends 40 = .ok (.getstatic 69, 3) := dk_178 0 69 (dk_at dksX23_ends_1 18 rfl rfl)
theorem dX23_ends_43 : decode cX23_ends 43 = .ok (.areturn, 1) := dk_176 (dk_at dksX23_ends_1 21 rfl rfl)
theorem dX23_ends_44 : decode cX23_ends 44 = .ok (.aload_n 0, 1) := dk_42 (dk_at dksX23_ends_1 22 rfl rfl)
theorem dX23_ends_45 : decode cX23_ends 45 = .ok (.getfield 44, 3) := dk_180 0 44 (dk_at dksX23_ends_2 0 rfl rfl)
theorem dX23_ends_48 : decode cX23_ends 48 = .ok (.iconst 1, 1) := dk_4 (dk_at dksX23_ends_2 3 rfl rfl)
theorem dX23_ends_49 : decode cX23_ends 49 = .ok (.aload_n 0, 1) := dk_42 (dk_at dksX23_ends_2 4 rfl rfl)
theorem dX23_ends_50 : decode cX23_ends 50 = .ok (.getfield 19, 3) := dk_180 0 19 (dk_at dksX23_ends_2 5 rfl rfl)
theorem dX23_ends_53 : decode cX23_ends 53 = .ok (.getfield 52, 3) := dk_180 0 52 (dk_at dksX23_ends_2 8 rfl rfl)
theorem dX23_ends_56 : decode cX23_ends 56 = .ok (.invokevirtual 57, 3) := dk_182 0 57 (dk_at dksX23_ends_2 11 rfl rfl)
theorem dX23_ends_59 : decode cX23_ends 59 = .ok (.aload_n 0, 1) := dk_42 (dk_at dksX23_ends_2 14 rfl rfl)
theorem dX23_ends_60 : decode cX23_ends 60 = .ok (.getfield 41, 3) := dk_180 0 41 (dk_at dksX23_ends_2 15 rfl rfl)
theorem dX23_ends_63 : decode cX23_ends 63 = .ok (.aload_n 0, 1) := dk_42 (dk_at dksX23_ends_2 18 rfl rfl)
theorem dX23_ends_64 : decode cX23_ends 64 = .ok (.getfield 19, 3) := dk_180 0 19 (dk_at dksX23_ends_2 19 rfl rfl)
theorem dX23_ends_67 : decode cX23_ends 67 = .ok (.getfield 75, 3) := dk_180 0 75 (dk_at dksX23_ends_3 0 rfl rfl)
theorem dX23_ends_70 : decode cX23_ends 70 = .ok (.if_icmp .le 7, 3) := dk_164 0 7 (dk_at dksX23_ends_3 3 rfl rfl)
theorem dX23_ends_73 : decode cX23_ends 73 = .ok (.getstatic 78, 3) := dk_178 0 78 (dk_at dksX23_ends_3 6 rfl rfl)
theorem dX23_ends_76 : decode cX23_ends 76 = .ok (.areturn, 1) := dk_176 (dk_at dksX23_ends_3 9 rfl rfl)
theorem dX23_ends_77 : decode cX23_ends 77 = .ok (.aload_n 0, 1) := dk_42 (dk_at dksX23_ends_3 10 rfl rfl)
theorem dX23_ends_78 : decode cX23_ends 78 = .ok (.dup, 1) := dk_89 (dk_at dksX23_ends_3 11 rfl rfl)
theorem dX23_ends_79 : decode cX23_ends 79 = .ok (.getfield 34, 3) := dk_180 0 34 (dk_at dksX23_ends_3 12 rfl rfl)
theorem dX23_ends_82 : decode cX23_ends 82 = .ok (.aload_n 0, 1) := dk_42 (dk_at dksX23_ends_3 15 rfl rfl)
theorem dX23_ends_83 : decode cX23_ends 83 = .ok (.getfield 19, 3) := dk_180 0 19 (dk_at dksX23_ends_3 16 rfl rfl)
theorem dX23_ends_86 : decode cX23_ends 86 = .ok (.getfield 81, 3) := dk_180 0 81 (dk_at dksX23_ends_3 19 rfl rfl)
theorem dX23_ends_89 : decode cX23_ends 89 = .ok (.aload_n 0, 1) := dk_42 (dk_at dksX23_ends_3 22 rfl rfl)
theorem dX23_ends_90 : decode cX23_ends 90 = .ok (.getfield 41, 3) := dk_180 0 41 (dk_at dksX23_ends_4 0 rfl rfl)
theorem dX23_ends_93 : decode cX23_ends 93 = .ok (.iconst 1, 1) := dk_4 (dk_at dksX23_ends_4 3 rfl rfl)
theorem dX23_ends_94 : decode cX23_ends 94 = .ok (.isub, 1) := dk_100 (dk_at dksX23_ends_4 4 rfl rfl)
theorem dX23_ends_95 : decode cX23_ends 95 = .ok (.ishl, 1) := dk_120 (dk_at dksX23_ends_4 5 rfl rfl)
theorem dX23_ends_96 : decode cX23_ends 96 = .ok (.iadd, 1) := dk_96 (dk_at dksX23_ends_4 6 rfl rfl)
theorem dX23_ends_97 : decode cX23_ends 97 = .ok (.putfield 34, 3) := dk_181 0 34 (dk_at dksX23_ends_4 7 rfl rfl)
theorem dX23_ends_100 : decode cX23_ends 100 = .ok (.getstatic 84, 3) := dk_178 0 84 (dk_at dksX23_ends_4 10 rfl rfl)
theorem dX23_ends_103 : decode cX23_ends 103 = .ok (.areturn, 1) := dk_176 (dk_at dksX23_ends_4 13 rfl rfl)
theorem fl_X23_75_9 : gFL RX23 75 9 2 := gFL.mkN (Cn := RX9) (T := TX9) (N := 5) (ref := "WorkflowEngine$Task") rfl in_X9 (by decide) nq366 rfl rfl (Or.inl rfl)
theorem fl_X23_81_9 : gFL RX23 81 9 3 := gFL.mkN (Cn := RX9) (T := TX9) (N := 5) (ref := "WorkflowEngine$Task") rfl in_X9 (by decide) nq368 rfl rfl (Or.inl rfl)
theorem hd_X16_done : (yX16_done.cls ≠ "java/lang/invoke/MethodHandle" ∧ yX16_done.cls ≠ "java/lang/invoke/VarHandle" ∧ (parseMethodDescriptor yX16_done.desc).map (fun d => d.parameters.length) = some 1) := ⟨by decide +kernel, by decide +kernel, by decide +kernel⟩
def f_X23_ends (a0 : Nat) (w0 : gw) : Option (Option Nat × gw) := gB1 (gPut w0 a0 23 3 (gi (nI 0))) fun w1 => gB1 (gR w1 a0 23 0) fun r2 => gB1 r2 fun a3 => gB1 (gR w1 a3 16 0) fun r4 => gB1 (gR w1 a0 23 2) fun r5 => gB1 r5 fun a6 => gB1 (gI w1 a6 9 1) fun x7 => gB1 r4 fun a8 => gB1 (gOb w1 a8 1) fun _ => gB2 (f_X1_fails a8 x7 w1) fun x10 w9 => if x10 = 0 then gB1 (gR w9 a0 23 0) fun r29 => gB1 (gR w9 a0 23 2) fun r30 => gB1 r29 fun a31 => gB1 (gOb w9 a31 16) fun _ => gB2 (f_X16_done a31 r30 w9) fun x33 w32 => gB1 (gPut w32 a0 23 6 (gi x33)) fun w34 => some ((some (w34.2.2.2 3)), w34) else gB1 (gR w9 a0 23 0) fun r12 => gB1 (gR w9 a0 23 2) fun r13 => gB1 r13 fun a14 => gB1 (gI w9 a14 9 1) fun x15 => gB1 r12 fun a16 => gB1 (gOb w9 a16 16) fun _ => gB2 (f_X16_notes a16 (nI 1) x15 w9) fun _ w17 => gB1 (gI w17 a0 23 5) fun x18 => gB1 (gR w17 a0 23 2) fun r19 => gB1 r19 fun a20 => gB1 (gI w17 a20 9 2) fun x21 => if x18 ≤ x21 then gB1 (gI w17 a0 23 4) fun x23 => gB1 (gR w17 a0 23 2) fun r24 => gB1 r24 fun a25 => gB1 (gI w17 a25 9 3) fun x26 => gB1 (gI w17 a0 23 5) fun x27 => gB1 (gPut w17 a0 23 4 (gi (x23 + (x26 <<< ((x27 - (nI 1)) &&& 31))))) fun w28 => some ((some (w28.2.2.2 2)), w28) else some ((some (w17.2.2.2 4)), w17)
set_option maxHeartbeats 4000000 in
set_option maxRecDepth 100000 in
theorem k_X23_ends {D : va_G} {dA : Nat → ClassId} {A : Nat → Prop} {K : Nat → Nat} {l : Launch} {h : Nat} (hh : 8 ≤ h) {a0 : Nat} {w0 ww : gw} {rr : Option Nat} (hf : f_X23_ends a0 w0 = some (rr, ww)) : gMet D dA A K l yX23_ends (ws_ yX23_ends cX23_ends 1 (some (.object "WorkflowEngine$Outcome"))) h [(ga (some a0))] (some (ga rr)) w0 ww := by
  refine j_start (own := RX23) (by decide +kernel) rfl (Nat.le_of_ble_eq_true rfl) ?_
  intro p e R s m args below meth c C hr hin hw
  unfold f_X23_ends at hf
  show gJ D dA A K p l e R s m args below meth c (gEnd D dA A K below args s w0 (some (ga rr)) ww) 1 0 [(0, (ga (some a0)))] [] w0
  refine j_aload_n C dX23_ends_0 rfl ?_
  refine j_iconst (v := (nI 0)) C dX23_ends_1 (by decide) ?_
  replace hf := gB1_e hf
  obtain ⟨w1, ew1, hf⟩ := hf
  refine j_put C fl_X23_37_23 tb_23 ew1 fk_23_3 (fit_Z (by decide)) dX23_ends_2 ?_
  refine j_aload_n C dX23_ends_5 rfl ?_
  replace hf := gB1_e hf
  obtain ⟨r2, er2, hf⟩ := hf
  refine j_get C fl_X23_44_23 dX23_ends_6 (gR_F er2) ?_
  replace hf := gB1_e hf
  obtain ⟨a3, ea3, hf⟩ := hf
  subst ea3
  replace hf := gB1_e hf
  obtain ⟨r4, er4, hf⟩ := hf
  refine j_get C fl_X23_23_16 dX23_ends_9 (gR_F er4) ?_
  refine j_aload_n C dX23_ends_12 rfl ?_
  replace hf := gB1_e hf
  obtain ⟨r5, er5, hf⟩ := hf
  refine j_get C fl_X23_19_23 dX23_ends_13 (gR_F er5) ?_
  replace hf := gB1_e hf
  obtain ⟨a6, ea6, hf⟩ := hf
  subst ea6
  replace hf := gB1_e hf
  obtain ⟨x7, ex7, hf⟩ := hf
  refine j_get C fl_X23_52_9 dX23_ends_16 (gI_F ex7) ?_
  replace hf := gB1_e hf
  obtain ⟨a8, ea8, hf⟩ := hf
  subst ea8
  replace hf := gB1_e hf
  obtain ⟨_, eo, hf⟩ := hf
  replace hf := gB2_e hf
  obtain ⟨x10, w9, ew9, hf⟩ := hf
  refine j_callV (As := [(gi x7)]) (rest := []) (v := (some (gi x10))) C (by omega) (k_X1_fails (by omega) ew9) (gOb_e eo) rfl q1145 q1146 q1147 q92 q1148 ⟨rfl, hd_X1_fails⟩ (by decide) rfl (Nat.le_of_ble_eq_true rfl) dX23_ends_19 ?_
  refine j_if_ne (tgt := 44) C dX23_ends_22 (by decide) (fun c11 => ?_) (fun c11 => ?_)
  · replace hf := gIf_f hf c11
    refine j_aload_n C dX23_ends_44 rfl ?_
    replace hf := gB1_e hf
    obtain ⟨r12, er12, hf⟩ := hf
    refine j_get C fl_X23_44_23 dX23_ends_45 (gR_F er12) ?_
    refine j_iconst (v := (nI 1)) C dX23_ends_48 (by decide) ?_
    refine j_aload_n C dX23_ends_49 rfl ?_
    replace hf := gB1_e hf
    obtain ⟨r13, er13, hf⟩ := hf
    refine j_get C fl_X23_19_23 dX23_ends_50 (gR_F er13) ?_
    replace hf := gB1_e hf
    obtain ⟨a14, ea14, hf⟩ := hf
    subst ea14
    replace hf := gB1_e hf
    obtain ⟨x15, ex15, hf⟩ := hf
    refine j_get C fl_X23_52_9 dX23_ends_53 (gI_F ex15) ?_
    replace hf := gB1_e hf
    obtain ⟨a16, ea16, hf⟩ := hf
    subst ea16
    replace hf := gB1_e hf
    obtain ⟨_, eo, hf⟩ := hf
    replace hf := gB2_e hf
    obtain ⟨_, w17, ew17, hf⟩ := hf
    refine j_callV (As := [(gi (nI 1)), (gi x15)]) (rest := []) (v := none) C (by omega) (k_X16_notes (by omega) ew17) (gOb_e eo) rfl q1179 q944 q945 q118 q946 ⟨rfl, hd_X16_notes⟩ (by decide) rfl (Nat.le_of_ble_eq_true rfl) dX23_ends_56 ?_
    refine j_aload_n C dX23_ends_59 rfl ?_
    replace hf := gB1_e hf
    obtain ⟨x18, ex18, hf⟩ := hf
    refine j_get C fl_X23_41_23 dX23_ends_60 (gI_F ex18) ?_
    refine j_aload_n C dX23_ends_63 rfl ?_
    replace hf := gB1_e hf
    obtain ⟨r19, er19, hf⟩ := hf
    refine j_get C fl_X23_19_23 dX23_ends_64 (gR_F er19) ?_
    replace hf := gB1_e hf
    obtain ⟨a20, ea20, hf⟩ := hf
    subst ea20
    replace hf := gB1_e hf
    obtain ⟨x21, ex21, hf⟩ := hf
    refine j_get C fl_X23_75_9 dX23_ends_67 (gI_F ex21) ?_
    refine j_icmp_le (tgt := 77) C dX23_ends_70 (by decide) (fun c22 => ?_) (fun c22 => ?_)
    · replace hf := gIf_t hf c22
      refine j_aload_n C dX23_ends_77 rfl ?_
      refine j_dup C dX23_ends_78 ?_
      replace hf := gB1_e hf
      obtain ⟨x23, ex23, hf⟩ := hf
      refine j_get C fl_X23_34_23 dX23_ends_79 (gI_F ex23) ?_
      refine j_aload_n C dX23_ends_82 rfl ?_
      replace hf := gB1_e hf
      obtain ⟨r24, er24, hf⟩ := hf
      refine j_get C fl_X23_19_23 dX23_ends_83 (gR_F er24) ?_
      replace hf := gB1_e hf
      obtain ⟨a25, ea25, hf⟩ := hf
      subst ea25
      replace hf := gB1_e hf
      obtain ⟨x26, ex26, hf⟩ := hf
      refine j_get C fl_X23_81_9 dX23_ends_86 (gI_F ex26) ?_
      refine j_aload_n C dX23_ends_89 rfl ?_
      replace hf := gB1_e hf
      obtain ⟨x27, ex27, hf⟩ := hf
      refine j_get C fl_X23_41_23 dX23_ends_90 (gI_F ex27) ?_
      refine j_iconst (v := (nI 1)) C dX23_ends_93 (by decide) ?_
      refine j_isub C dX23_ends_94 ?_
      refine j_ishl C dX23_ends_95 ?_
      refine j_iadd C dX23_ends_96 ?_
      replace hf := gB1_e hf
      obtain ⟨w28, ew28, hf⟩ := hf
      refine j_put C fl_X23_34_23 tb_23 ew28 fk_23_4 (fit_I (x23 + (x26 <<< ((x27 - (nI 1)) &&& 31)))) dX23_ends_97 ?_
      refine j_gets (i := 2) C C.2.2.2.2.2.1.2.2.2.2.1.1 q1139 dX23_ends_100 ?_
      obtain ⟨rfl, rfl⟩ := gSome hf
      exact j_aret C hr (Or.inl ⟨_, rfl⟩) hw dX23_ends_103
    · replace hf := gIf_f hf c22
      refine j_gets (i := 4) C C.2.2.2.2.2.1.2.2.2.2.1.2.2.1 q1180 dX23_ends_73 ?_
      obtain ⟨rfl, rfl⟩ := gSome hf
      exact j_aret C hr (Or.inl ⟨_, rfl⟩) hw dX23_ends_76
  · replace hf := gIf_t hf c11
    refine j_aload_n C dX23_ends_25 rfl ?_
    refine j_aload_n C dX23_ends_26 rfl ?_
    replace hf := gB1_e hf
    obtain ⟨r29, er29, hf⟩ := hf
    refine j_get C fl_X23_44_23 dX23_ends_27 (gR_F er29) ?_
    refine j_aload_n C dX23_ends_30 rfl ?_
    replace hf := gB1_e hf
    obtain ⟨r30, er30, hf⟩ := hf
    refine j_get C fl_X23_19_23 dX23_ends_31 (gR_F er30) ?_
    replace hf := gB1_e hf
    obtain ⟨a31, ea31, hf⟩ := hf
    subst ea31
    replace hf := gB1_e hf
    obtain ⟨_, eo, hf⟩ := hf
    replace hf := gB2_e hf
    obtain ⟨x33, w32, ew32, hf⟩ := hf
    refine j_callV (As := [(ga r30)]) (rest := [(ga (some a0))]) (v := (some (gi x33))) C (by omega) (k_X16_done (by omega) ew32) (gOb_e eo) rfl q1150 q1151 q1152 q118 q1153 ⟨rfl, hd_X16_done⟩ (by decide) rfl (Nat.le_of_ble_eq_true rfl) dX23_ends_34 ?_
    replace hf := gB1_e hf
    obtain ⟨w34, ew34, hf⟩ := hf
    refine j_put C fl_X23_15_23 tb_23 ew34 fk_23_6 (fit_I x33) dX23_ends_37 ?_
    refine j_gets (i := 3) C C.2.2.2.2.2.1.2.2.2.2.1.2.1 q1178 dX23_ends_40 ?_
    obtain ⟨rfl, rfl⟩ := gSome hf
    exact j_aret C hr (Or.inl ⟨_, rfl⟩) hw dX23_ends_43
def dkwX23_looks_2 : List UInt8 := [182, 0, 95, 167, 255, 213, 43, 176]
abbrev dktX23_looks_2 : List UInt8 := dkwX23_looks_2 ++ []
def dkwX23_looks_1 : List UInt8 := [180, 0, 29, 163, 0, 25, 42, 180, 0, 37, 153, 0, 11, 42, 182, 0, 91, 76, 167, 255, 220, 42]
abbrev dktX23_looks_1 : List UInt8 := dkwX23_looks_1 ++ dktX23_looks_2
def dkwX23_looks_0 : List UInt8 := [178, 0, 84, 76, 43, 182, 0, 87, 154, 0, 42, 42, 180, 0, 34, 42, 180, 0, 44, 180, 0, 23]
abbrev dktX23_looks_0 : List UInt8 := dkwX23_looks_0 ++ dktX23_looks_1
theorem dksX23_looks_0 : cX23_looks.data.toList.drop 0 = dktX23_looks_0 := by decide +kernel
theorem dksX23_looks_1 : cX23_looks.data.toList.drop 22 = dktX23_looks_1 := dk_seg dksX23_looks_0 22 rfl rfl
theorem dksX23_looks_2 : cX23_looks.data.toList.drop 44 = dktX23_looks_2 := dk_seg dksX23_looks_1 22 rfl rfl
theorem dX23_looks_0 : decode cX23_looks 0 = .ok (.getstatic 84, 3) := dk_178 0 84 (dk_at dksX23_looks_0 0 rfl rfl)
theorem dX23_looks_3 : decode cX23_looks 3 = .ok (.astore_n 1, 1) := dk_76 (dk_at dksX23_looks_0 3 rfl rfl)
theorem dX23_looks_4 : decode cX23_looks 4 = .ok (.aload_n 1, 1) := dk_43 (dk_at dksX23_looks_0 4 rfl rfl)
theorem dX23_looks_5 : decode cX23_looks 5 = .ok (.invokevirtual 87, 3) := dk_182 0 87 (dk_at dksX23_looks_0 5 rfl rfl)
theorem dX23_looks_8 : decode cX23_looks 8 = .ok (.ifCond .ne 42, 3) := dk_154 0 42 (dk_at dksX23_looks_0 8 rfl rfl)
theorem dX23_looks_11 : decode cX23_looks 11 = .ok (.aload_n 0, 1) := dk_42 (dk_at dksX23_looks_0 11 rfl rfl)
theorem dX23_looks_12 : decode cX23_looks 12 = .ok (.getfield 34, 3) := dk_180 0 34 (dk_at dksX23_looks_0 12 rfl rfl)
theorem dX23_looks_15 : decode cX23_looks 15 = .ok (.aload_n 0, 1) := dk_42 (dk_at dksX23_looks_0 15 rfl rfl)
theorem dX23_looks_16 : decode cX23_looks 16 = .ok (.getfield 44, 3) := dk_180 0 44 (dk_at dksX23_looks_0 16 rfl rfl)
theorem dX23_looks_19 : decode cX23_looks 19 = .ok (.getfield 23, 3) := dk_180 0 23 (dk_at dksX23_looks_0 19 rfl rfl)
theorem dX23_looks_22 : decode cX23_looks 22 = .ok (.getfield 29, 3) := dk_180 0 29 (dk_at dksX23_looks_1 0 rfl rfl)
theorem dX23_looks_25 : decode cX23_looks 25 = .ok (.if_icmp .gt 25, 3) := dk_163 0 25 (dk_at dksX23_looks_1 3 rfl rfl)
theorem dX23_looks_28 : decode cX23_looks 28 = .ok (.aload_n 0, 1) := dk_42 (dk_at dksX23_looks_1 6 rfl rfl)
theorem dX23_looks_29 : decode cX23_looks 29 = .ok (.getfield 37, 3) := dk_180 0 37 (dk_at dksX23_looks_1 7 rfl rfl)
theorem dX23_looks_32 : decode cX23_looks 32 = .ok (.ifCond .eq 11, 3) := dk_153 0 11 (dk_at dksX23_looks_1 10 rfl rfl)
theorem dX23_looks_35 : decode cX23_looks 35 = .ok (.aload_n 0, 1) := dk_42 (dk_at dksX23_looks_1 13 rfl rfl)
theorem dX23_looks_36 : decode cX23_looks 36 = .ok (.invokevirtual 91, 3) := dk_182 0 91 (dk_at dksX23_looks_1 14 rfl rfl)
theorem dX23_looks_39 : decode cX23_looks 39 = .ok (.astore_n 1, 1) := dk_76 (dk_at dksX23_looks_1 17 rfl rfl)
theorem dX23_looks_40 : decode cX23_looks 40 = .ok (.goto (-36), 3) := dk_167 255 220 (dk_at dksX23_looks_1 18 rfl rfl)
theorem dX23_looks_43 : decode cX23_looks 43 = .ok (.aload_n 0, 1) := dk_42 (dk_at dksX23_looks_1 21 rfl rfl)
theorem dX23_looks_44 : decode cX23_looks 44 = .ok (.invokevirtual 95, 3) := dk_182 0 95 (dk_at dksX23_looks_2 0 rfl rfl)
theorem dX23_looks_47 : decode cX23_looks 47 = .ok (.goto (-43), 3) := dk_167 255 213 (dk_at dksX23_looks_2 3 rfl rfl)
theorem dX23_looks_50 : decode cX23_looks 50 = .ok (.aload_n 1, 1) := dk_43 (dk_at dksX23_looks_2 6 rfl rfl)
theorem dX23_looks_51 : decode cX23_looks 51 = .ok (.areturn, 1) := dk_176 (dk_at dksX23_looks_2 7 rfl rfl)
theorem hd_X23_tries : (yX23_tries.cls ≠ "java/lang/invoke/MethodHandle" ∧ yX23_tries.cls ≠ "java/lang/invoke/VarHandle" ∧ (parseMethodDescriptor yX23_tries.desc).map (fun d => d.parameters.length) = some 0) := ⟨by decide +kernel, by decide +kernel, by decide +kernel⟩
theorem hd_X23_ends : (yX23_ends.cls ≠ "java/lang/invoke/MethodHandle" ∧ yX23_ends.cls ≠ "java/lang/invoke/VarHandle" ∧ (parseMethodDescriptor yX23_ends.desc).map (fun d => d.parameters.length) = some 0) := ⟨by decide +kernel, by decide +kernel, by decide +kernel⟩
def f_X23_looks (a0 : Nat) (w0 : gw) : Option (Option Nat × gw) := gL1 (fun k3 (r2 : Option Nat) (w1 : gw) => gB1 r2 fun a4 => gB1 (gOver w1 a4) fun x6 => if x6 = 0 then gB1 (gI w1 a0 23 4) fun x8 => gB1 (gR w1 a0 23 0) fun r9 => gB1 r9 fun a10 => gB1 (gR w1 a10 16 0) fun r11 => gB1 r11 fun a12 => gB1 (gI w1 a12 1 3) fun x13 => if x13 < x8 then some ((some a4), w1) else gB1 (gI w1 a0 23 3) fun x15 => if x15 = 0 then gB1 (gOb w1 a0 23) fun _ => gB2 (f_X23_tries a0  w1) fun _ w17 => k3 (some a4) w17 else gB1 (gOb w1 a0 23) fun _ => gB2 (f_X23_ends a0  w1) fun r19 w18 => k3 r19 w18 else some ((some a4), w1)) 20000 (some (w0.2.2.2 2)) w0
set_option maxHeartbeats 4000000 in
set_option maxRecDepth 100000 in
theorem k_X23_looks {D : va_G} {dA : Nat → ClassId} {A : Nat → Prop} {K : Nat → Nat} {l : Launch} {h : Nat} (hh : 9 ≤ h) {a0 : Nat} {w0 ww : gw} {rr : Option Nat} (hf : f_X23_looks a0 w0 = some (rr, ww)) : gMet D dA A K l yX23_looks (ws_ yX23_looks cX23_looks 2 (some (.object "WorkflowEngine$Outcome"))) h [(ga (some a0))] (some (ga rr)) w0 ww := by
  refine j_start (own := RX23) (by decide +kernel) rfl (Nat.le_of_ble_eq_true rfl) ?_
  intro p e R s m args below meth c C hr hin hw
  unfold f_X23_looks at hf
  show gJ D dA A K p l e R s m args below meth c (gEnd D dA A K below args s w0 (some (ga rr)) ww) 2 0 [(0, (ga (some a0)))] [] w0
  refine j_gets (i := 2) C C.2.2.2.2.2.1.2.2.2.2.1.1 q1139 dX23_looks_0 ?_
  refine j_astore_n (lv' := [(1, (ga (some (w0.2.2.2 2)))), (0, (ga (some a0)))]) C dX23_looks_3 (by decide) rfl ?_
  refine j_sub (lv' := [(0, (ga (some a0))), (1, (ga (some (w0.2.2.2 2))))]) (gL_cons rfl (gL_cons rfl (gL_nil))) ?_
  refine gL1_e (fun (r2 : Option Nat) (w1 : gw) => gJ D dA A K p l e R s m args below meth c (gEnd D dA A K below args s w0 (some (ga rr)) ww) 2 4 [(0, (ga (some a0))), (1, (ga r2))] [] w1) ?_ _ _ _ hf
  intro k3 jk3 r2 w1 hf
  refine j_aload_n C dX23_looks_4 rfl ?_
  replace hf := gB1_e hf
  obtain ⟨a4, ea4, hf⟩ := hf
  subst ea4
  replace hf := gB1_e hf
  obtain ⟨x6, ew5, hf⟩ := hf
  refine j_isOver (rest := []) C (by omega) ew5 q1140 (Nat.le_of_ble_eq_true rfl) dX23_looks_5 ?_
  refine j_if_ne (tgt := 50) C dX23_looks_8 (by decide) (fun c7 => ?_) (fun c7 => ?_)
  · replace hf := gIf_f hf c7
    refine j_aload_n C dX23_looks_50 rfl ?_
    obtain ⟨rfl, rfl⟩ := gSome hf
    exact j_aret C hr (Or.inl ⟨_, rfl⟩) hw dX23_looks_51
  · replace hf := gIf_t hf c7
    refine j_aload_n C dX23_looks_11 rfl ?_
    replace hf := gB1_e hf
    obtain ⟨x8, ex8, hf⟩ := hf
    refine j_get C fl_X23_34_23 dX23_looks_12 (gI_F ex8) ?_
    refine j_aload_n C dX23_looks_15 rfl ?_
    replace hf := gB1_e hf
    obtain ⟨r9, er9, hf⟩ := hf
    refine j_get C fl_X23_44_23 dX23_looks_16 (gR_F er9) ?_
    replace hf := gB1_e hf
    obtain ⟨a10, ea10, hf⟩ := hf
    subst ea10
    replace hf := gB1_e hf
    obtain ⟨r11, er11, hf⟩ := hf
    refine j_get C fl_X23_23_16 dX23_looks_19 (gR_F er11) ?_
    replace hf := gB1_e hf
    obtain ⟨a12, ea12, hf⟩ := hf
    subst ea12
    replace hf := gB1_e hf
    obtain ⟨x13, ex13, hf⟩ := hf
    refine j_get C fl_X23_29_1 dX23_looks_22 (gI_F ex13) ?_
    refine j_icmp_gt (tgt := 50) C dX23_looks_25 (by decide) (fun c14 => ?_) (fun c14 => ?_)
    · replace hf := gIf_t hf c14
      refine j_aload_n C dX23_looks_50 rfl ?_
      obtain ⟨rfl, rfl⟩ := gSome hf
      exact j_aret C hr (Or.inl ⟨_, rfl⟩) hw dX23_looks_51
    · replace hf := gIf_f hf c14
      refine j_aload_n C dX23_looks_28 rfl ?_
      replace hf := gB1_e hf
      obtain ⟨x15, ex15, hf⟩ := hf
      refine j_get C fl_X23_37_23 dX23_looks_29 (gI_F ex15) ?_
      refine j_if_eq (tgt := 43) C dX23_looks_32 (by decide) (fun c16 => ?_) (fun c16 => ?_)
      · replace hf := gIf_t hf c16
        refine j_aload_n C dX23_looks_43 rfl ?_
        replace hf := gB1_e hf
        obtain ⟨_, eo, hf⟩ := hf
        replace hf := gB2_e hf
        obtain ⟨_, w17, ew17, hf⟩ := hf
        refine j_callV (As := []) (rest := []) (v := none) C (by omega) (k_X23_tries (by omega) ew17) (gOb_e eo) rfl q1181 q1183 qs23 q127 q1184 ⟨rfl, hd_X23_tries⟩ (by decide) rfl (Nat.le_of_ble_eq_true rfl) dX23_looks_44 ?_
        refine j_goto (tgt := 4) C dX23_looks_47 (by decide) ?_
        exact jk3 _ _ hf
      · replace hf := gIf_f hf c16
        refine j_aload_n C dX23_looks_35 rfl ?_
        replace hf := gB1_e hf
        obtain ⟨_, eo, hf⟩ := hf
        replace hf := gB2_e hf
        obtain ⟨r19, w18, ew18, hf⟩ := hf
        refine j_callV (As := []) (rest := []) (v := (some (ga r19))) C (by omega) (k_X23_ends (by omega) ew18) (gOb_e eo) rfl q1141 q1143 qs22 q127 q1144 ⟨rfl, hd_X23_ends⟩ (by decide) rfl (Nat.le_of_ble_eq_true rfl) dX23_looks_36 ?_
        refine j_astore_n (lv' := [(1, (ga r19)), (0, (ga (some a0)))]) C dX23_looks_39 (by decide) rfl ?_
        refine j_goto (tgt := 4) C dX23_looks_40 (by decide) ?_
        refine j_sub (lv' := [(0, (ga (some a0))), (1, (ga r19))]) (gL_cons rfl (gL_cons rfl (gL_nil))) ?_
        exact jk3 _ _ hf
def dkwX5_items_5 : List UInt8 := [132, 6, 1, 167, 255, 221, 132, 2, 1, 167, 255, 137, 27, 172]
abbrev dktX5_items_5 : List UInt8 := dkwX5_items_5 ++ []
def dkwX5_items_4 : List UInt8 := [162, 0, 28, 27, 25, 5, 180, 0, 51, 21, 6, 182, 0, 20, 192, 0, 11, 182, 0, 44, 96, 60]
abbrev dktX5_items_4 : List UInt8 := dkwX5_items_4 ++ dktX5_items_5
def dkwX5_items_3 : List UInt8 := [153, 0, 50, 45, 192, 0, 49, 58, 5, 3, 54, 6, 21, 6, 25, 5, 180, 0, 51, 182, 0, 16]
abbrev dktX5_items_3 : List UInt8 := dkwX5_items_3 ++ dktX5_items_4
def dkwX5_items_2 : List UInt8 := [180, 0, 40, 182, 0, 44, 25, 4, 180, 0, 46, 182, 0, 44, 96, 96, 60, 167, 0, 57, 45, 193, 0, 49]
abbrev dktX5_items_2 : List UInt8 := dkwX5_items_2 ++ dktX5_items_3
def dkwX5_items_1 : List UInt8 := [192, 0, 24, 78, 132, 1, 1, 45, 193, 0, 38, 153, 0, 32, 45, 192, 0, 38, 58, 4, 27, 25, 4]
abbrev dktX5_items_1 : List UInt8 := dkwX5_items_1 ++ dktX5_items_2
def dkwX5_items_0 : List UInt8 := [3, 60, 3, 61, 28, 42, 180, 0, 10, 182, 0, 16, 162, 0, 114, 42, 180, 0, 10, 28, 182, 0, 20]
abbrev dktX5_items_0 : List UInt8 := dkwX5_items_0 ++ dktX5_items_1
theorem dksX5_items_0 : cX5_items.data.toList.drop 0 = dktX5_items_0 := by decide +kernel
theorem dksX5_items_1 : cX5_items.data.toList.drop 23 = dktX5_items_1 := dk_seg dksX5_items_0 23 rfl rfl
theorem dksX5_items_2 : cX5_items.data.toList.drop 46 = dktX5_items_2 := dk_seg dksX5_items_1 23 rfl rfl
theorem dksX5_items_3 : cX5_items.data.toList.drop 70 = dktX5_items_3 := dk_seg dksX5_items_2 24 rfl rfl
theorem dksX5_items_4 : cX5_items.data.toList.drop 92 = dktX5_items_4 := dk_seg dksX5_items_3 22 rfl rfl
theorem dksX5_items_5 : cX5_items.data.toList.drop 114 = dktX5_items_5 := dk_seg dksX5_items_4 22 rfl rfl
theorem dX5_items_0 : decode cX5_items 0 = .ok (.iconst 0, 1) := dk_3 (dk_at dksX5_items_0 0 rfl rfl)
theorem dX5_items_1 : decode cX5_items 1 = .ok (.istore_n 1, 1) := dk_60 (dk_at dksX5_items_0 1 rfl rfl)
theorem dX5_items_2 : decode cX5_items 2 = .ok (.iconst 0, 1) := dk_3 (dk_at dksX5_items_0 2 rfl rfl)
theorem dX5_items_3 : decode cX5_items 3 = .ok (.istore_n 2, 1) := dk_61 (dk_at dksX5_items_0 3 rfl rfl)
theorem dX5_items_4 : decode cX5_items 4 = .ok (.iload_n 2, 1) := dk_28 (dk_at dksX5_items_0 4 rfl rfl)
theorem dX5_items_5 : decode cX5_items 5 = .ok (.aload_n 0, 1) := dk_42 (dk_at dksX5_items_0 5 rfl rfl)
theorem dX5_items_6 : decode cX5_items 6 = .ok (.getfield 10, 3) := dk_180 0 10 (dk_at dksX5_items_0 6 rfl rfl)
theorem dX5_items_9 : decode cX5_items 9 = .ok (.invokevirtual 16, 3) := dk_182 0 16 (dk_at dksX5_items_0 9 rfl rfl)
theorem dX5_items_12 : decode cX5_items 12 = .ok (.if_icmp .ge 114, 3) := dk_162 0 114 (dk_at dksX5_items_0 12 rfl rfl)
theorem dX5_items_15 : decode cX5_items 15 = .ok (.aload_n 0, 1) := dk_42 (dk_at dksX5_items_0 15 rfl rfl)
theorem dX5_items_16 : decode cX5_items 16 = .ok (.getfield 10, 3) := dk_180 0 10 (dk_at dksX5_items_0 16 rfl rfl)
theorem dX5_items_19 : decode cX5_items 19 = .ok (.iload_n 2, 1) := dk_28 (dk_at dksX5_items_0 19 rfl rfl)
theorem dX5_items_20 : decode cX5_items 20 = .ok (.invokevirtual 20, 3) := dk_182 0 20 (dk_at dksX5_items_0 20 rfl rfl)
theorem dX5_items_23 : decode cX5_items 23 = .ok (.checkcast 24, 3) := dk_192 0 24 (dk_at dksX5_items_1 0 rfl rfl)
theorem dX5_items_26 : decode cX5_items 26 = .ok (.astore_n 3, 1) := dk_78 (dk_at dksX5_items_1 3 rfl rfl)
theorem dX5_items_27 : decode cX5_items 27 = .ok (.iinc 1 1, 3) := dk_132 1 1 (dk_at dksX5_items_1 4 rfl rfl)
theorem dX5_items_30 : decode cX5_items 30 = .ok (.aload_n 3, 1) := dk_45 (dk_at dksX5_items_1 7 rfl rfl)
theorem dX5_items_31 : decode cX5_items 31 = .ok (.instanceof 38, 3) := dk_193 0 38 (dk_at dksX5_items_1 8 rfl rfl)
theorem dX5_items_34 : decode cX5_items 34 = .ok (.ifCond .eq 32, 3) := dk_153 0 32 (dk_at dksX5_items_1 11 rfl rfl)
theorem dX5_items_37 : decode cX5_items 37 = .ok (.aload_n 3, 1) := dk_45 (dk_at dksX5_items_1 14 rfl rfl)
theorem dX5_items_38 : decode cX5_items 38 = .ok (.checkcast 38, 3) := dk_192 0 38 (dk_at dksX5_items_1 15 rfl rfl)
theorem dX5_items_41 : decode cX5_items 41 = .ok (.astore 4, 2) := dk_58 4 (dk_at dksX5_items_1 18 rfl rfl)
theorem dX5_items_43 : decode cX5_items 43 = .ok (.iload_n 1, 1) := dk_27 (dk_at dksX5_items_1 20 rfl rfl)
theorem dX5_items_44 : decode cX5_items 44 = .ok (.aload 4, 2) := dk_25 4 (dk_at dksX5_items_1 21 rfl rfl)
theorem dX5_items_46 : decode cX5_items 46 = .ok (.getfield 40, 3) := dk_180 0 40 (dk_at dksX5_items_2 0 rfl rfl)
theorem dX5_items_49 : decode cX5_items 49 = .ok (.invokevirtual 44, 3) := dk_182 0 44 (dk_at dksX5_items_2 3 rfl rfl)
theorem dX5_items_52 : decode cX5_items 52 = .ok (.aload 4, 2) := dk_25 4 (dk_at dksX5_items_2 6 rfl rfl)
theorem dX5_items_54 : decode cX5_items 54 = .ok (.getfield 46, 3) := dk_180 0 46 (dk_at dksX5_items_2 8 rfl rfl)
theorem dX5_items_57 : decode cX5_items 57 = .ok (.invokevirtual 44, 3) := dk_182 0 44 (dk_at dksX5_items_2 11 rfl rfl)
theorem dX5_items_60 : decode cX5_items 60 = .ok (.iadd, 1) := dk_96 (dk_at dksX5_items_2 14 rfl rfl)
theorem dX5_items_61 : decode cX5_items 61 = .ok (.iadd, 1) := dk_96 (dk_at dksX5_items_2 15 rfl rfl)
theorem dX5_items_62 : decode cX5_items 62 = .ok (.istore_n 1, 1) := dk_60 (dk_at dksX5_items_2 16 rfl rfl)
theorem dX5_items_63 : decode cX5_items 63 = .ok (.goto 57, 3) := dk_167 0 57 (dk_at dksX5_items_2 17 rfl rfl)
theorem dX5_items_66 : decode cX5_items 66 = .ok (.aload_n 3, 1) := dk_45 (dk_at dksX5_items_2 20 rfl rfl)
theorem dX5_items_67 : decode cX5_items 67 = .ok (.instanceof 49, 3) := dk_193 0 49 (dk_at dksX5_items_2 21 rfl rfl)
theorem dX5_items_70 : decode cX5_items 70 = .ok (.ifCond .eq 50, 3) := dk_153 0 50 (dk_at dksX5_items_3 0 rfl rfl)
theorem dX5_items_73 : decode cX5_items 73 = .ok (.aload_n 3, 1) := dk_45 (dk_at dksX5_items_3 3 rfl rfl)
theorem dX5_items_74 : decode cX5_items 74 = .ok (.checkcast 49, 3) := dk_192 0 49 (dk_at dksX5_items_3 4 rfl rfl)
theorem dX5_items_77 : decode cX5_items 77 = .ok (.astore 5, 2) := dk_58 5 (dk_at dksX5_items_3 7 rfl rfl)
theorem dX5_items_79 : decode cX5_items 79 = .ok (.iconst 0, 1) := dk_3 (dk_at dksX5_items_3 9 rfl rfl)
theorem dX5_items_80 : decode cX5_items 80 = .ok (.istore 6, 2) := dk_54 6 (dk_at dksX5_items_3 10 rfl rfl)
theorem dX5_items_82 : decode cX5_items 82 = .ok (.iload 6, 2) := dk_21 6 (dk_at dksX5_items_3 12 rfl rfl)
theorem dX5_items_84 : decode cX5_items 84 = .ok (.aload 5, 2) := dk_25 5 (dk_at dksX5_items_3 14 rfl rfl)
theorem dX5_items_86 : decode cX5_items 86 = .ok (.getfield 51, 3) := dk_180 0 51 (dk_at dksX5_items_3 16 rfl rfl)
theorem dX5_items_89 : decode cX5_items 89 = .ok (.invokevirtual 16, 3) := dk_182 0 16 (dk_at dksX5_items_3 19 rfl rfl)
theorem dX5_items_92 : decode cX5_items 92 = .ok (.if_icmp .ge 28, 3) := dk_162 0 28 (dk_at dksX5_items_4 0 rfl rfl)
theorem dX5_items_95 : decode cX5_items 95 = .ok (.iload_n 1, 1) := dk_27 (dk_at dksX5_items_4 3 rfl rfl)
theorem dX5_items_96 : decode cX5_items 96 = .ok (.aload 5, 2) := dk_25 5 (dk_at dksX5_items_4 4 rfl rfl)
theorem dX5_items_98 : decode cX5_items 98 = .ok (.getfield 51, 3) := dk_180 0 51 (dk_at dksX5_items_4 6 rfl rfl)
theorem dX5_items_101 : decode cX5_items 101 = .ok (.iload 6, 2) := dk_21 6 (dk_at dksX5_items_4 9 rfl rfl)
theorem dX5_items_103 : decode cX5_items 103 = .ok (.invokevirtual 20, 3) := dk_182 0 20 (dk_at dksX5_items_4 11 rfl rfl)
theorem dX5_items_106 : decode cX5_items 106 = .ok (.checkcast 11, 3) := dk_192 0 11 (dk_at dksX5_items_4 14 rfl rfl)
theorem dX5_items_109 : decode cX5_items 109 = .ok (.invokevirtual 44, 3) := dk_182 0 44 (dk_at dksX5_items_4 17 rfl rfl)
theorem dX5_items_112 : decode cX5_items 112 = .ok (.iadd, 1) := dk_96 (dk_at dksX5_items_4 20 rfl rfl)
theorem dX5_items_113 : decode cX5_items 113 = .ok (.istore_n 1, 1) := dk_60 (dk_at dksX5_items_4 21 rfl rfl)
theorem dX5_items_114 : decode cX5_items 114 = .ok (.iinc 6 1, 3) := dk_132 6 1 (dk_at dksX5_items_5 0 rfl rfl)
theorem dX5_items_117 : decode cX5_items 117 = .ok (.goto (-35), 3) := dk_167 255 221 (dk_at dksX5_items_5 3 rfl rfl)
theorem dX5_items_120 : decode cX5_items 120 = .ok (.iinc 2 1, 3) := dk_132 2 1 (dk_at dksX5_items_5 6 rfl rfl)
theorem dX5_items_123 : decode cX5_items 123 = .ok (.goto (-119), 3) := dk_167 255 137 (dk_at dksX5_items_5 9 rfl rfl)
theorem dX5_items_126 : decode cX5_items 126 = .ok (.iload_n 1, 1) := dk_27 (dk_at dksX5_items_5 12 rfl rfl)
theorem dX5_items_127 : decode cX5_items 127 = .ok (.ireturn, 1) := dk_172 (dk_at dksX5_items_5 13 rfl rfl)
theorem ca_WorkflowEngine_Node : ∀ ci Cv, ci ∈ ([9, 10, 11, 12, 13, 14] : List Nat) → gNa ci = some Cv → Cv = "WorkflowEngine$Node" ∨ Cond.castable Cv "WorkflowEngine$Node" ∈ gNw := by
  intro ci Cv h hn
  simp only [List.mem_cons, List.not_mem_nil, or_false] at h
  rcases h with rfl | rfl | rfl | rfl | rfl | rfl
  · cases hn
    exact Or.inr nq2000
  · cases hn
    exact Or.inr nq2001
  · cases hn
    exact Or.inr nq1997
  · cases hn
    exact Or.inr nq1996
  · cases hn
    exact Or.inr nq1998
  · cases hn
    exact Or.inr nq1999
theorem ca_WorkflowEngine_Choice : ∀ ci Cv, ci ∈ ([13] : List Nat) → gNa ci = some Cv → Cv = "WorkflowEngine$Choice" ∨ Cond.castable Cv "WorkflowEngine$Choice" ∈ gNw := by
  intro ci Cv h hn
  simp only [List.mem_cons, List.not_mem_nil, or_false] at h
  subst h
  · cases hn
    exact Or.inl rfl
theorem nn_WorkflowEngine_Choice : ∀ ci Cv, ci ∈ ([12, 11, 6, 14, 9, 7, 10, 15] : List Nat) → gNa ci = some Cv → (Cv, "WorkflowEngine$Choice") ∈ gNc := by
  intro ci Cv h hn
  simp only [List.mem_cons, List.not_mem_nil, or_false] at h
  rcases h with rfl | rfl | rfl | rfl | rfl | rfl | rfl | rfl
  · cases hn
    exact nc1
  · cases hn
    exact nc7
  · cases hn
    exact nc12
  · cases hn
    exact nc23
  · cases hn
    exact nc28
  · cases hn
    exact nc33
  · cases hn
    exact nc38
  · cases hn
    exact nc44
theorem ca_WorkflowEngine_Parallel : ∀ ci Cv, ci ∈ ([14] : List Nat) → gNa ci = some Cv → Cv = "WorkflowEngine$Parallel" ∨ Cond.castable Cv "WorkflowEngine$Parallel" ∈ gNw := by
  intro ci Cv h hn
  simp only [List.mem_cons, List.not_mem_nil, or_false] at h
  subst h
  · cases hn
    exact Or.inl rfl
theorem nn_WorkflowEngine_Parallel : ∀ ci Cv, ci ∈ ([12, 11, 6, 13, 9, 7, 10, 15] : List Nat) → gNa ci = some Cv → (Cv, "WorkflowEngine$Parallel") ∈ gNc := by
  intro ci Cv h hn
  simp only [List.mem_cons, List.not_mem_nil, or_false] at h
  rcases h with rfl | rfl | rfl | rfl | rfl | rfl | rfl | rfl
  · cases hn
    exact nc2
  · cases hn
    exact nc8
  · cases hn
    exact nc13
  · cases hn
    exact nc18
  · cases hn
    exact nc29
  · cases hn
    exact nc34
  · cases hn
    exact nc39
  · cases hn
    exact nc45
theorem fl_X5_51_14 : gFL RX5 51 14 1 := gFL.mkN (Cn := RX14) (T := TX14) (N := 3) (ref := "WorkflowEngine$Parallel") rfl in_X14 (by decide) nq571 rfl rfl (Or.inl rfl)
theorem ca_WorkflowEngine_Body : ∀ ci Cv, ci ∈ ([5] : List Nat) → gNa ci = some Cv → Cv = "WorkflowEngine$Body" ∨ Cond.castable Cv "WorkflowEngine$Body" ∈ gNw := by
  intro ci Cv h hn
  simp only [List.mem_cons, List.not_mem_nil, or_false] at h
  subst h
  · cases hn
    exact Or.inl rfl
theorem hd_X5_items : (yX5_items.cls ≠ "java/lang/invoke/MethodHandle" ∧ yX5_items.cls ≠ "java/lang/invoke/VarHandle" ∧ (parseMethodDescriptor yX5_items.desc).map (fun d => d.parameters.length) = some 0) := ⟨by decide +kernel, by decide +kernel, by decide +kernel⟩
theorem fl_X5_40_13 : gFL RX5 40 13 3 := gFL.mkN (Cn := RX13) (T := TX13) (N := 5) (ref := "WorkflowEngine$Choice") rfl in_X13 (by decide) nq462 rfl rfl (Or.inl rfl)
theorem fl_X5_46_13 : gFL RX5 46 13 4 := gFL.mkN (Cn := RX13) (T := TX13) (N := 5) (ref := "WorkflowEngine$Choice") rfl in_X13 (by decide) nq464 rfl rfl (Or.inl rfl)
def f_X5_items_s (rec : Nat → gw → Option (Int32 × gw)) (a0 : Nat) (w0 : gw) : Option (Int32 × gw) := gL2 (fun k4 (x2 : Int32) (x3 : Int32) (w1 : gw) => gB1 (gR w1 a0 5 0) fun r5 => gB1 r5 fun a6 => gB1 (gOb w1 a6 8) fun _ => gB2 (f_J2_size a6  w1) fun x8 w7 => if x8 ≤ x3 then some (x2, w7) else gB1 (gR w7 a0 5 0) fun r10 => gB1 r10 fun a11 => gB1 (gOb w7 a11 8) fun _ => gB2 (f_J2_get a11 x3 w7) fun r13 w12 => gB1 (gCk w12 [9, 10, 11, 12, 13, 14] r13) fun r14 => gBd (x2 + (nI 1)) fun x15 => gB1 (gIs w12 [13] [12, 11, 6, 14, 9, 7, 10, 15] r14) fun x16 => gBd (fun (x19 : Int32) (x20 : Int32) (w18 : gw) => gBd (x20 + (nI 1)) fun x21 => k4 x19 x21 w18) fun k17 => if x16 = 0 then gB1 (gIs w12 [14] [12, 11, 6, 13, 9, 7, 10, 15] r14) fun x23 => if x23 = 0 then k17 x15 x3 w12 else gB1 (gCk w12 [14] r14) fun r25 => gL4 (fun k31 (x27 : Int32) (x28 : Int32) (r29 : Option Nat) (x30 : Int32) (w26 : gw) => gB1 r29 fun a32 => gB1 (gR w26 a32 14 1) fun r33 => gB1 r33 fun a34 => gB1 (gOb w26 a34 8) fun _ => gB2 (f_J2_size a34  w26) fun x36 w35 => if x36 ≤ x30 then k17 x27 x28 w35 else gB1 (gR w35 a32 14 1) fun r38 => gB1 r38 fun a39 => gB1 (gOb w35 a39 8) fun _ => gB2 (f_J2_get a39 x30 w35) fun r41 w40 => gB1 (gCk w40 [5] r41) fun r42 => gB1 r42 fun a43 => gB1 (gOb w40 a43 5) fun _ => gB2 (rec a43  w40) fun x45 w44 => gBd (x27 + x45) fun x46 => gBd (x30 + (nI 1)) fun x47 => k31 x46 x28 (some a32) x47 w44) 20000 x15 x3 r25 (nI 0) w12 else gB1 (gCk w12 [13] r14) fun r48 => gB1 r48 fun a49 => gB1 (gR w12 a49 13 3) fun r50 => gB1 r50 fun a51 => gB1 (gOb w12 a51 5) fun _ => gB2 (rec a51  w12) fun x53 w52 => gB1 (gR w52 a49 13 4) fun r54 => gB1 r54 fun a55 => gB1 (gOb w52 a55 5) fun _ => gB2 (rec a55  w52) fun x57 w56 => gBd (x15 + (x53 + x57)) fun x58 => k17 x58 x3 w56) 20000 (nI 0) (nI 0) w0
set_option maxHeartbeats 4000000 in
set_option maxRecDepth 100000 in
theorem k_X5_items_s {D : va_G} {dA : Nat → ClassId} {A : Nat → Prop} {K : Nat → Nat} {l : Launch} {h : Nat} {rec : Nat → gw → Option (Int32 × gw)} {B : Nat} (hrec : ∀ {h : Nat}, B ≤ h → ∀ {a0 : Nat} {w0 ww : gw} {rr : Int32}, rec a0  w0 = some (rr, ww) → gMet D dA A K l yX5_items (ws_ yX5_items cX5_items 7 (some .int)) h [(ga (some a0))] (some (gi rr)) w0 ww) (hb : 3 ≤ B) (hh : B + 1 ≤ h) {a0 : Nat} {w0 ww : gw} {rr : Int32} (hf : f_X5_items_s rec a0 w0 = some (rr, ww)) : gMet D dA A K l yX5_items (ws_ yX5_items cX5_items 7 (some .int)) h [(ga (some a0))] (some (gi rr)) w0 ww := by
  refine j_start (own := RX5) (by decide +kernel) rfl (Nat.le_of_ble_eq_true rfl) ?_
  intro p e R s m args below meth c C hr hin hw
  unfold f_X5_items_s at hf
  show gJ D dA A K p l e R s m args below meth c (gEnd D dA A K below args s w0 (some (gi rr)) ww) 7 0 [(0, (ga (some a0)))] [] w0
  refine j_iconst (v := (nI 0)) C dX5_items_0 (by decide) ?_
  refine j_istore_n (lv' := [(1, (gi (nI 0))), (0, (ga (some a0)))]) C dX5_items_1 (by decide) rfl ?_
  refine j_iconst (v := (nI 0)) C dX5_items_2 (by decide) ?_
  refine j_istore_n (lv' := [(2, (gi (nI 0))), (1, (gi (nI 0))), (0, (ga (some a0)))]) C dX5_items_3 (by decide) rfl ?_
  refine j_sub (lv' := [(0, (ga (some a0))), (1, (gi (nI 0))), (2, (gi (nI 0)))]) (gL_cons rfl (gL_cons rfl (gL_cons rfl (gL_nil)))) ?_
  refine gL2_e (fun (x2 : Int32) (x3 : Int32) (w1 : gw) => gJ D dA A K p l e R s m args below meth c (gEnd D dA A K below args s w0 (some (gi rr)) ww) 7 4 [(0, (ga (some a0))), (1, (gi x2)), (2, (gi x3))] [] w1) ?_ _ _ _ _ hf
  intro k4 jk4 x2 x3 w1 hf
  refine j_iload_n C dX5_items_4 rfl ?_
  refine j_aload_n C dX5_items_5 rfl ?_
  replace hf := gB1_e hf
  obtain ⟨r5, er5, hf⟩ := hf
  refine j_get C fl_X5_10_5 dX5_items_6 (gR_F er5) ?_
  replace hf := gB1_e hf
  obtain ⟨a6, ea6, hf⟩ := hf
  subst ea6
  replace hf := gB1_e hf
  obtain ⟨_, eo, hf⟩ := hf
  replace hf := gB2_e hf
  obtain ⟨x8, w7, ew7, hf⟩ := hf
  refine j_callV (As := []) (rest := [(gi x3)]) (v := (some (gi x8))) C (by omega) (k_J2_size (by omega) ew7) (gOb_e eo) rfl q635 q560 q561 q99 q562 ⟨rfl, hd_J2_size⟩ (by decide) rfl (Nat.le_of_ble_eq_true rfl) dX5_items_9 ?_
  refine j_icmp_ge (tgt := 126) C dX5_items_12 (by decide) (fun c9 => ?_) (fun c9 => ?_)
  · replace hf := gIf_t hf c9
    refine j_iload_n C dX5_items_126 rfl ?_
    obtain ⟨rfl, rfl⟩ := gSome hf
    exact j_iret C hr hw dX5_items_127
  · replace hf := gIf_f hf c9
    refine j_aload_n C dX5_items_15 rfl ?_
    replace hf := gB1_e hf
    obtain ⟨r10, er10, hf⟩ := hf
    refine j_get C fl_X5_10_5 dX5_items_16 (gR_F er10) ?_
    refine j_iload_n C dX5_items_19 rfl ?_
    replace hf := gB1_e hf
    obtain ⟨a11, ea11, hf⟩ := hf
    subst ea11
    replace hf := gB1_e hf
    obtain ⟨_, eo, hf⟩ := hf
    replace hf := gB2_e hf
    obtain ⟨r13, w12, ew12, hf⟩ := hf
    refine j_callV (As := [(gi x3)]) (rest := []) (v := (some (ga r13))) C (by omega) (k_J2_get (by omega) ew12) (gOb_e eo) rfl q636 q637 q638 q99 q639 ⟨rfl, hd_J2_get⟩ (by decide) rfl (Nat.le_of_ble_eq_true rfl) dX5_items_20 ?_
    replace hf := gB1_e hf
    obtain ⟨r14, er14, hf⟩ := hf
    refine j_castR C q650 ca_WorkflowEngine_Node er14 dX5_items_23 ?_
    refine j_astore_n (lv' := [(3, (ga r14)), (0, (ga (some a0))), (1, (gi x2)), (2, (gi x3))]) C dX5_items_26 (by decide) rfl ?_
    replace hf := gBd_x hf
    obtain ⟨x15, ex15, hf⟩ := hf
    refine j_iinc (v := x15) (lv' := [(1, (gi x15)), (3, (ga r14)), (0, (ga (some a0))), (2, (gi x3))]) C dX5_items_27 rfl (by rw [ex15]; rfl) (by decide) rfl ?_
    refine j_aload_n C dX5_items_30 rfl ?_
    replace hf := gB1_e hf
    obtain ⟨x16, ex16, hf⟩ := hf
    refine j_inst C q651 ca_WorkflowEngine_Choice nn_WorkflowEngine_Choice ex16 dX5_items_31 ?_
    replace hf := gBd_x hf
    obtain ⟨k17, ek17, hf⟩ := hf
    have jk17 : ∀ (x19 : Int32) (x20 : Int32) (w18 : gw), k17 x19 x20 w18 = some (rr, ww) → gJ D dA A K p l e R s m args below meth c (gEnd D dA A K below args s w0 (some (gi rr)) ww) 7 120 [(0, (ga (some a0))), (1, (gi x19)), (2, (gi x20))] [] w18 := by
      intro x19 x20 w18 hf
      rw [ek17] at hf
      dsimp only at hf
      replace hf := gBd_x hf
      obtain ⟨x21, ex21, hf⟩ := hf
      refine j_iinc (v := x21) (lv' := [(2, (gi x21)), (0, (ga (some a0))), (1, (gi x19))]) C dX5_items_120 rfl (by rw [ex21]; rfl) (by decide) rfl ?_
      refine j_goto (tgt := 4) C dX5_items_123 (by decide) ?_
      refine j_sub (lv' := [(0, (ga (some a0))), (1, (gi x19)), (2, (gi x21))]) (gL_cons rfl (gL_cons rfl (gL_cons rfl (gL_nil)))) ?_
      exact jk4 _ _ _ hf
    clear ek17
    refine j_if_eq (tgt := 66) C dX5_items_34 (by decide) (fun c22 => ?_) (fun c22 => ?_)
    · replace hf := gIf_t hf c22
      refine j_aload_n C dX5_items_66 rfl ?_
      replace hf := gB1_e hf
      obtain ⟨x23, ex23, hf⟩ := hf
      refine j_inst C q653 ca_WorkflowEngine_Parallel nn_WorkflowEngine_Parallel ex23 dX5_items_67 ?_
      refine j_if_eq (tgt := 120) C dX5_items_70 (by decide) (fun c24 => ?_) (fun c24 => ?_)
      · replace hf := gIf_t hf c24
        refine j_sub (lv' := [(0, (ga (some a0))), (1, (gi x15)), (2, (gi x3))]) (gL_cons rfl (gL_cons rfl (gL_cons rfl (gL_nil)))) ?_
        exact jk17 _ _ _ hf
      · replace hf := gIf_f hf c24
        refine j_aload_n C dX5_items_73 rfl ?_
        replace hf := gB1_e hf
        obtain ⟨r25, er25, hf⟩ := hf
        refine j_castR C q653 ca_WorkflowEngine_Parallel er25 dX5_items_74 ?_
        refine j_astore (lv' := [(5, (ga r25)), (1, (gi x15)), (3, (ga r14)), (0, (ga (some a0))), (2, (gi x3))]) C dX5_items_77 (by decide) rfl ?_
        refine j_iconst (v := (nI 0)) C dX5_items_79 (by decide) ?_
        refine j_istore (lv' := [(6, (gi (nI 0))), (5, (ga r25)), (1, (gi x15)), (3, (ga r14)), (0, (ga (some a0))), (2, (gi x3))]) C dX5_items_80 (by decide) rfl ?_
        refine j_sub (lv' := [(0, (ga (some a0))), (1, (gi x15)), (2, (gi x3)), (5, (ga r25)), (6, (gi (nI 0)))]) (gL_cons rfl (gL_cons rfl (gL_cons rfl (gL_cons rfl (gL_cons rfl (gL_nil)))))) ?_
        refine gL4_e (fun (x27 : Int32) (x28 : Int32) (r29 : Option Nat) (x30 : Int32) (w26 : gw) => gJ D dA A K p l e R s m args below meth c (gEnd D dA A K below args s w0 (some (gi rr)) ww) 7 82 [(0, (ga (some a0))), (1, (gi x27)), (2, (gi x28)), (5, (ga r29)), (6, (gi x30))] [] w26) ?_ _ _ _ _ _ _ hf
        intro k31 jk31 x27 x28 r29 x30 w26 hf
        refine j_iload C dX5_items_82 rfl ?_
        refine j_aload C dX5_items_84 rfl ?_
        replace hf := gB1_e hf
        obtain ⟨a32, ea32, hf⟩ := hf
        subst ea32
        replace hf := gB1_e hf
        obtain ⟨r33, er33, hf⟩ := hf
        refine j_get C fl_X5_51_14 dX5_items_86 (gR_F er33) ?_
        replace hf := gB1_e hf
        obtain ⟨a34, ea34, hf⟩ := hf
        subst ea34
        replace hf := gB1_e hf
        obtain ⟨_, eo, hf⟩ := hf
        replace hf := gB2_e hf
        obtain ⟨x36, w35, ew35, hf⟩ := hf
        refine j_callV (As := []) (rest := [(gi x30)]) (v := (some (gi x36))) C (by omega) (k_J2_size (by omega) ew35) (gOb_e eo) rfl q635 q560 q561 q99 q562 ⟨rfl, hd_J2_size⟩ (by decide) rfl (Nat.le_of_ble_eq_true rfl) dX5_items_89 ?_
        refine j_icmp_ge (tgt := 120) C dX5_items_92 (by decide) (fun c37 => ?_) (fun c37 => ?_)
        · replace hf := gIf_t hf c37
          refine j_sub (lv' := [(0, (ga (some a0))), (1, (gi x27)), (2, (gi x28))]) (gL_cons rfl (gL_cons rfl (gL_cons rfl (gL_nil)))) ?_
          exact jk17 _ _ _ hf
        · replace hf := gIf_f hf c37
          refine j_iload_n C dX5_items_95 rfl ?_
          refine j_aload C dX5_items_96 rfl ?_
          replace hf := gB1_e hf
          obtain ⟨r38, er38, hf⟩ := hf
          refine j_get C fl_X5_51_14 dX5_items_98 (gR_F er38) ?_
          refine j_iload C dX5_items_101 rfl ?_
          replace hf := gB1_e hf
          obtain ⟨a39, ea39, hf⟩ := hf
          subst ea39
          replace hf := gB1_e hf
          obtain ⟨_, eo, hf⟩ := hf
          replace hf := gB2_e hf
          obtain ⟨r41, w40, ew40, hf⟩ := hf
          refine j_callV (As := [(gi x30)]) (rest := [(gi x27)]) (v := (some (ga r41))) C (by omega) (k_J2_get (by omega) ew40) (gOb_e eo) rfl q636 q637 q638 q99 q639 ⟨rfl, hd_J2_get⟩ (by decide) rfl (Nat.le_of_ble_eq_true rfl) dX5_items_103 ?_
          replace hf := gB1_e hf
          obtain ⟨r42, er42, hf⟩ := hf
          refine j_castR C q654 ca_WorkflowEngine_Body er42 dX5_items_106 ?_
          replace hf := gB1_e hf
          obtain ⟨a43, ea43, hf⟩ := hf
          subst ea43
          replace hf := gB1_e hf
          obtain ⟨_, eo, hf⟩ := hf
          replace hf := gB2_e hf
          obtain ⟨x45, w44, ew44, hf⟩ := hf
          refine j_callV (As := []) (rest := [(gi x27)]) (v := (some (gi x45))) C (by omega) (hrec (by omega) ew44) (gOb_e eo) rfl q652 q632 q633 q96 q634 ⟨rfl, hd_X5_items⟩ (by decide) rfl (Nat.le_of_ble_eq_true rfl) dX5_items_109 ?_
          refine j_iadd C dX5_items_112 ?_
          replace hf := gBd_x hf
          obtain ⟨x46, ex46, hf⟩ := hf
          refine j_nm ex46 ?_
          refine j_istore_n (lv' := [(1, (gi x46)), (0, (ga (some a0))), (2, (gi x28)), (5, (ga (some a32))), (6, (gi x30))]) C dX5_items_113 (by decide) rfl ?_
          replace hf := gBd_x hf
          obtain ⟨x47, ex47, hf⟩ := hf
          refine j_iinc (v := x47) (lv' := [(6, (gi x47)), (1, (gi x46)), (0, (ga (some a0))), (2, (gi x28)), (5, (ga (some a32)))]) C dX5_items_114 rfl (by rw [ex47]; rfl) (by decide) rfl ?_
          refine j_goto (tgt := 82) C dX5_items_117 (by decide) ?_
          refine j_sub (lv' := [(0, (ga (some a0))), (1, (gi x46)), (2, (gi x28)), (5, (ga (some a32))), (6, (gi x47))]) (gL_cons rfl (gL_cons rfl (gL_cons rfl (gL_cons rfl (gL_cons rfl (gL_nil)))))) ?_
          exact jk31 _ _ _ _ _ hf
    · replace hf := gIf_f hf c22
      refine j_aload_n C dX5_items_37 rfl ?_
      replace hf := gB1_e hf
      obtain ⟨r48, er48, hf⟩ := hf
      refine j_castR C q651 ca_WorkflowEngine_Choice er48 dX5_items_38 ?_
      refine j_astore (lv' := [(4, (ga r48)), (1, (gi x15)), (3, (ga r14)), (0, (ga (some a0))), (2, (gi x3))]) C dX5_items_41 (by decide) rfl ?_
      refine j_iload_n C dX5_items_43 rfl ?_
      refine j_aload C dX5_items_44 rfl ?_
      replace hf := gB1_e hf
      obtain ⟨a49, ea49, hf⟩ := hf
      subst ea49
      replace hf := gB1_e hf
      obtain ⟨r50, er50, hf⟩ := hf
      refine j_get C fl_X5_40_13 dX5_items_46 (gR_F er50) ?_
      replace hf := gB1_e hf
      obtain ⟨a51, ea51, hf⟩ := hf
      subst ea51
      replace hf := gB1_e hf
      obtain ⟨_, eo, hf⟩ := hf
      replace hf := gB2_e hf
      obtain ⟨x53, w52, ew52, hf⟩ := hf
      refine j_callV (As := []) (rest := [(gi x15)]) (v := (some (gi x53))) C (by omega) (hrec (by omega) ew52) (gOb_e eo) rfl q652 q632 q633 q96 q634 ⟨rfl, hd_X5_items⟩ (by decide) rfl (Nat.le_of_ble_eq_true rfl) dX5_items_49 ?_
      refine j_aload C dX5_items_52 rfl ?_
      replace hf := gB1_e hf
      obtain ⟨r54, er54, hf⟩ := hf
      refine j_get C fl_X5_46_13 dX5_items_54 (gR_F er54) ?_
      replace hf := gB1_e hf
      obtain ⟨a55, ea55, hf⟩ := hf
      subst ea55
      replace hf := gB1_e hf
      obtain ⟨_, eo, hf⟩ := hf
      replace hf := gB2_e hf
      obtain ⟨x57, w56, ew56, hf⟩ := hf
      refine j_callV (As := []) (rest := [(gi x53), (gi x15)]) (v := (some (gi x57))) C (by omega) (hrec (by omega) ew56) (gOb_e eo) rfl q652 q632 q633 q96 q634 ⟨rfl, hd_X5_items⟩ (by decide) rfl (Nat.le_of_ble_eq_true rfl) dX5_items_57 ?_
      refine j_iadd C dX5_items_60 ?_
      refine j_iadd C dX5_items_61 ?_
      replace hf := gBd_x hf
      obtain ⟨x58, ex58, hf⟩ := hf
      refine j_nm ex58 ?_
      refine j_istore_n (lv' := [(1, (gi x58)), (4, (ga (some a49))), (3, (ga r14)), (0, (ga (some a0))), (2, (gi x3))]) C dX5_items_62 (by decide) rfl ?_
      refine j_goto (tgt := 120) C dX5_items_63 (by decide) ?_
      refine j_sub (lv' := [(0, (ga (some a0))), (1, (gi x58)), (2, (gi x3))]) (gL_cons rfl (gL_cons rfl (gL_cons rfl (gL_nil)))) ?_
      exact jk17 _ _ _ hf
def f_X5_items : Nat → Nat → gw → Option (Int32 × gw)
  | 0 => fun _ _ => none
  | d + 1 => f_X5_items_s (f_X5_items d)
theorem k_X5_items {D : va_G} {dA : Nat → ClassId} {A : Nat → Prop} {K : Nat → Nat} {l : Launch} : ∀ (d : Nat) {h : Nat}, 3 + 1 * d ≤ h → ∀ {a0 : Nat} {w0 ww : gw} {rr : Int32}, f_X5_items d a0  w0 = some (rr, ww) → gMet D dA A K l yX5_items (ws_ yX5_items cX5_items 7 (some .int)) h [(ga (some a0))] (some (gi rr)) w0 ww := by
  intro d
  induction d with
  | zero => intro h hh a0  w0 ww rr hf; cases hf
  | succ d ih =>
    intro h hh a0  w0 ww rr hf
    exact k_X5_items_s (rec := f_X5_items d) (B := 3 + 1 * d) (fun hh => ih hh) (by omega) (by omega) hf
def dkwX5_tasks_5 : List UInt8 := [182, 0, 62, 96, 60, 132, 6, 1, 167, 255, 221, 132, 2, 1, 167, 255, 130, 27, 172]
abbrev dktX5_tasks_5 : List UInt8 := dkwX5_tasks_5 ++ []
def dkwX5_tasks_4 : List UInt8 := [180, 0, 51, 182, 0, 16, 162, 0, 28, 27, 25, 5, 180, 0, 51, 21, 6, 182, 0, 20, 192, 0, 11]
abbrev dktX5_tasks_4 : List UInt8 := dkwX5_tasks_4 ++ dktX5_tasks_5
def dkwX5_tasks_3 : List UInt8 := [60, 167, 0, 57, 45, 193, 0, 49, 153, 0, 50, 45, 192, 0, 49, 58, 5, 3, 54, 6, 21, 6, 25, 5]
abbrev dktX5_tasks_3 : List UInt8 := dkwX5_tasks_3 ++ dktX5_tasks_4
def dkwX5_tasks_2 : List UInt8 := [192, 0, 38, 58, 4, 27, 25, 4, 180, 0, 40, 182, 0, 62, 25, 4, 180, 0, 46, 182, 0, 62, 96, 96]
abbrev dktX5_tasks_2 : List UInt8 := dkwX5_tasks_2 ++ dktX5_tasks_3
def dkwX5_tasks_1 : List UInt8 := [192, 0, 24, 78, 27, 45, 193, 0, 54, 184, 0, 56, 96, 60, 45, 193, 0, 38, 153, 0, 32, 45]
abbrev dktX5_tasks_1 : List UInt8 := dkwX5_tasks_1 ++ dktX5_tasks_2
def dkwX5_tasks_0 : List UInt8 := [3, 60, 3, 61, 28, 42, 180, 0, 10, 182, 0, 16, 162, 0, 121, 42, 180, 0, 10, 28, 182, 0, 20]
abbrev dktX5_tasks_0 : List UInt8 := dkwX5_tasks_0 ++ dktX5_tasks_1
theorem dksX5_tasks_0 : cX5_tasks.data.toList.drop 0 = dktX5_tasks_0 := by decide +kernel
theorem dksX5_tasks_1 : cX5_tasks.data.toList.drop 23 = dktX5_tasks_1 := dk_seg dksX5_tasks_0 23 rfl rfl
theorem dksX5_tasks_2 : cX5_tasks.data.toList.drop 45 = dktX5_tasks_2 := dk_seg dksX5_tasks_1 22 rfl rfl
theorem dksX5_tasks_3 : cX5_tasks.data.toList.drop 69 = dktX5_tasks_3 := dk_seg dksX5_tasks_2 24 rfl rfl
theorem dksX5_tasks_4 : cX5_tasks.data.toList.drop 93 = dktX5_tasks_4 := dk_seg dksX5_tasks_3 24 rfl rfl
theorem dksX5_tasks_5 : cX5_tasks.data.toList.drop 116 = dktX5_tasks_5 := dk_seg dksX5_tasks_4 23 rfl rfl
theorem dX5_tasks_0 : decode cX5_tasks 0 = .ok (.iconst 0, 1) := dk_3 (dk_at dksX5_tasks_0 0 rfl rfl)
theorem dX5_tasks_1 : decode cX5_tasks 1 = .ok (.istore_n 1, 1) := dk_60 (dk_at dksX5_tasks_0 1 rfl rfl)
theorem dX5_tasks_2 : decode cX5_tasks 2 = .ok (.iconst 0, 1) := dk_3 (dk_at dksX5_tasks_0 2 rfl rfl)
theorem dX5_tasks_3 : decode cX5_tasks 3 = .ok (.istore_n 2, 1) := dk_61 (dk_at dksX5_tasks_0 3 rfl rfl)
theorem dX5_tasks_4 : decode cX5_tasks 4 = .ok (.iload_n 2, 1) := dk_28 (dk_at dksX5_tasks_0 4 rfl rfl)
theorem dX5_tasks_5 : decode cX5_tasks 5 = .ok (.aload_n 0, 1) := dk_42 (dk_at dksX5_tasks_0 5 rfl rfl)
theorem dX5_tasks_6 : decode cX5_tasks 6 = .ok (.getfield 10, 3) := dk_180 0 10 (dk_at dksX5_tasks_0 6 rfl rfl)
theorem dX5_tasks_9 : decode cX5_tasks 9 = .ok (.invokevirtual 16, 3) := dk_182 0 16 (dk_at dksX5_tasks_0 9 rfl rfl)
theorem dX5_tasks_12 : decode cX5_tasks 12 = .ok (.if_icmp .ge 121, 3) := dk_162 0 121 (dk_at dksX5_tasks_0 12 rfl rfl)
theorem dX5_tasks_15 : decode cX5_tasks 15 = .ok (.aload_n 0, 1) := dk_42 (dk_at dksX5_tasks_0 15 rfl rfl)
theorem dX5_tasks_16 : decode cX5_tasks 16 = .ok (.getfield 10, 3) := dk_180 0 10 (dk_at dksX5_tasks_0 16 rfl rfl)
theorem dX5_tasks_19 : decode cX5_tasks 19 = .ok (.iload_n 2, 1) := dk_28 (dk_at dksX5_tasks_0 19 rfl rfl)
theorem dX5_tasks_20 : decode cX5_tasks 20 = .ok (.invokevirtual 20, 3) := dk_182 0 20 (dk_at dksX5_tasks_0 20 rfl rfl)
theorem dX5_tasks_23 : decode cX5_tasks 23 = .ok (.checkcast 24, 3) := dk_192 0 24 (dk_at dksX5_tasks_1 0 rfl rfl)
theorem dX5_tasks_26 : decode cX5_tasks 26 = .ok (.astore_n 3, 1) := dk_78 (dk_at dksX5_tasks_1 3 rfl rfl)
theorem dX5_tasks_27 : decode cX5_tasks 27 = .ok (.iload_n 1, 1) := dk_27 (dk_at dksX5_tasks_1 4 rfl rfl)
theorem dX5_tasks_28 : decode cX5_tasks 28 = .ok (.aload_n 3, 1) := dk_45 (dk_at dksX5_tasks_1 5 rfl rfl)
theorem dX5_tasks_29 : decode cX5_tasks 29 = .ok (.instanceof 54, 3) := dk_193 0 54 (dk_at dksX5_tasks_1 6 rfl rfl)
theorem dX5_tasks_32 : decode cX5_tasks 32 = .ok (.invokestatic 56, 3) := dk_184 0 56 (dk_at dksX5_tasks_1 9 rfl rfl)
theorem dX5_tasks_35 : decode cX5_tasks 35 = .ok (.iadd, 1) := dk_96 (dk_at dksX5_tasks_1 12 rfl rfl)
theorem dX5_tasks_36 : decode cX5_tasks 36 = .ok (.istore_n 1, 1) := dk_60 (dk_at dksX5_tasks_1 13 rfl rfl)
theorem dX5_tasks_37 : decode cX5_tasks 37 = .ok (.aload_n 3, 1) := dk_45 (dk_at dksX5_tasks_1 14 rfl rfl)
theorem dX5_tasks_38 : decode cX5_tasks 38 = .ok (.instanceof 38, 3) := dk_193 0 38 (dk_at dksX5_tasks_1 15 rfl rfl)
theorem dX5_tasks_41 : decode cX5_tasks 41 = .ok (.ifCond .eq 32, 3) := dk_153 0 32 (dk_at dksX5_tasks_1 18 rfl rfl)
theorem dX5_tasks_44 : decode cX5_tasks 44 = .ok (.aload_n 3, 1) := dk_45 (dk_at dksX5_tasks_1 21 rfl rfl)
theorem dX5_tasks_45 : decode cX5_tasks 45 = .ok (.checkcast 38, 3) := dk_192 0 38 (dk_at dksX5_tasks_2 0 rfl rfl)
theorem dX5_tasks_48 : decode cX5_tasks 48 = .ok (.astore 4, 2) := dk_58 4 (dk_at dksX5_tasks_2 3 rfl rfl)
theorem dX5_tasks_50 : decode cX5_tasks 50 = .ok (.iload_n 1, 1) := dk_27 (dk_at dksX5_tasks_2 5 rfl rfl)
theorem dX5_tasks_51 : decode cX5_tasks 51 = .ok (.aload 4, 2) := dk_25 4 (dk_at dksX5_tasks_2 6 rfl rfl)
theorem dX5_tasks_53 : decode cX5_tasks 53 = .ok (.getfield 40, 3) := dk_180 0 40 (dk_at dksX5_tasks_2 8 rfl rfl)
theorem dX5_tasks_56 : decode cX5_tasks 56 = .ok (.invokevirtual 62, 3) := dk_182 0 62 (dk_at dksX5_tasks_2 11 rfl rfl)
theorem dX5_tasks_59 : decode cX5_tasks 59 = .ok (.aload 4, 2) := dk_25 4 (dk_at dksX5_tasks_2 14 rfl rfl)
theorem dX5_tasks_61 : decode cX5_tasks 61 = .ok (.getfield 46, 3) := dk_180 0 46 (dk_at dksX5_tasks_2 16 rfl rfl)
theorem dX5_tasks_64 : decode cX5_tasks 64 = .ok (.invokevirtual 62, 3) := dk_182 0 62 (dk_at dksX5_tasks_2 19 rfl rfl)
theorem dX5_tasks_67 : decode cX5_tasks 67 = .ok (.iadd, 1) := dk_96 (dk_at dksX5_tasks_2 22 rfl rfl)
theorem dX5_tasks_68 : decode cX5_tasks 68 = .ok (.iadd, 1) := dk_96 (dk_at dksX5_tasks_2 23 rfl rfl)
theorem dX5_tasks_69 : decode cX5_tasks 69 = .ok (.istore_n 1, 1) := dk_60 (dk_at dksX5_tasks_3 0 rfl rfl)
theorem dX5_tasks_70 : decode cX5_tasks 70 = .ok (.goto 57, 3) := dk_167 0 57 (dk_at dksX5_tasks_3 1 rfl rfl)
theorem dX5_tasks_73 : decode cX5_tasks 73 = .ok (.aload_n 3, 1) := dk_45 (dk_at dksX5_tasks_3 4 rfl rfl)
theorem dX5_tasks_74 : decode cX5_tasks 74 = .ok (.instanceof 49, 3) := dk_193 0 49 (dk_at dksX5_tasks_3 5 rfl rfl)
theorem dX5_tasks_77 : decode cX5_tasks 77 = .ok (.ifCond .eq 50, 3) := dk_153 0 50 (dk_at dksX5_tasks_3 8 rfl rfl)
theorem dX5_tasks_80 : decode cX5_tasks 80 = .ok (.aload_n 3, 1) := dk_45 (dk_at dksX5_tasks_3 11 rfl rfl)
theorem dX5_tasks_81 : decode cX5_tasks 81 = .ok (.checkcast 49, 3) := dk_192 0 49 (dk_at dksX5_tasks_3 12 rfl rfl)
theorem dX5_tasks_84 : decode cX5_tasks 84 = .ok (.astore 5, 2) := dk_58 5 (dk_at dksX5_tasks_3 15 rfl rfl)
theorem dX5_tasks_86 : decode cX5_tasks 86 = .ok (.iconst 0, 1) := dk_3 (dk_at dksX5_tasks_3 17 rfl rfl)
theorem dX5_tasks_87 : decode cX5_tasks 87 = .ok (.istore 6, 2) := dk_54 6 (dk_at dksX5_tasks_3 18 rfl rfl)
theorem dX5_tasks_89 : decode cX5_tasks 89 = .ok (.iload 6, 2) := dk_21 6 (dk_at dksX5_tasks_3 20 rfl rfl)
theorem dX5_tasks_91 : decode cX5_tasks 91 = .ok (.aload 5, 2) := dk_25 5 (dk_at dksX5_tasks_3 22 rfl rfl)
theorem dX5_tasks_93 : decode cX5_tasks 93 = .ok (.getfield 51, 3) := dk_180 0 51 (dk_at dksX5_tasks_4 0 rfl rfl)
theorem dX5_tasks_96 : decode cX5_tasks 96 = .ok (.invokevirtual 16, 3) := dk_182 0 16 (dk_at dksX5_tasks_4 3 rfl rfl)
theorem dX5_tasks_99 : decode cX5_tasks 99 = .ok (.if_icmp .ge 28, 3) := dk_162 0 28 (dk_at dksX5_tasks_4 6 rfl rfl)
theorem dX5_tasks_102 : decode cX5_tasks 102 = .ok (.iload_n 1, 1) := dk_27 (dk_at dksX5_tasks_4 9 rfl rfl)
theorem dX5_tasks_103 : decode cX5_tasks 103 = .ok (.aload 5, 2) := dk_25 5 (dk_at dksX5_tasks_4 10 rfl rfl)
theorem dX5_tasks_105 : decode cX5_tasks 105 = .ok (.getfield 51, 3) := dk_180 0 51 (dk_at dksX5_tasks_4 12 rfl rfl)
theorem dX5_tasks_108 : decode cX5_tasks 108 = .ok (.iload 6, 2) := dk_21 6 (dk_at dksX5_tasks_4 15 rfl rfl)
theorem dX5_tasks_110 : decode cX5_tasks 110 = .ok (.invokevirtual 20, 3) := dk_182 0 20 (dk_at dksX5_tasks_4 17 rfl rfl)
theorem dX5_tasks_113 : decode cX5_tasks 113 = .ok (.checkcast 11, 3) := dk_192 0 11 (dk_at dksX5_tasks_4 20 rfl rfl)
theorem dX5_tasks_116 : decode cX5_tasks 116 = .ok (.invokevirtual 62, 3) := dk_182 0 62 (dk_at dksX5_tasks_5 0 rfl rfl)
theorem dX5_tasks_119 : decode cX5_tasks 119 = .ok (.iadd, 1) := dk_96 (dk_at dksX5_tasks_5 3 rfl rfl)
theorem dX5_tasks_120 : decode cX5_tasks 120 = .ok (.istore_n 1, 1) := dk_60 (dk_at dksX5_tasks_5 4 rfl rfl)
theorem dX5_tasks_121 : decode cX5_tasks 121 = .ok (.iinc 6 1, 3) := dk_132 6 1 (dk_at dksX5_tasks_5 5 rfl rfl)
theorem dX5_tasks_124 : decode cX5_tasks 124 = .ok (.goto (-35), 3) := dk_167 255 221 (dk_at dksX5_tasks_5 8 rfl rfl)
theorem dX5_tasks_127 : decode cX5_tasks 127 = .ok (.iinc 2 1, 3) := dk_132 2 1 (dk_at dksX5_tasks_5 11 rfl rfl)
theorem dX5_tasks_130 : decode cX5_tasks 130 = .ok (.goto (-126), 3) := dk_167 255 130 (dk_at dksX5_tasks_5 14 rfl rfl)
theorem dX5_tasks_133 : decode cX5_tasks 133 = .ok (.iload_n 1, 1) := dk_27 (dk_at dksX5_tasks_5 17 rfl rfl)
theorem dX5_tasks_134 : decode cX5_tasks 134 = .ok (.ireturn, 1) := dk_172 (dk_at dksX5_tasks_5 18 rfl rfl)
theorem ca_WorkflowEngine_Task : ∀ ci Cv, ci ∈ ([9] : List Nat) → gNa ci = some Cv → Cv = "WorkflowEngine$Task" ∨ Cond.castable Cv "WorkflowEngine$Task" ∈ gNw := by
  intro ci Cv h hn
  simp only [List.mem_cons, List.not_mem_nil, or_false] at h
  subst h
  · cases hn
    exact Or.inl rfl
theorem nn_WorkflowEngine_Task : ∀ ci Cv, ci ∈ ([12, 11, 6, 13, 14, 7, 10, 15] : List Nat) → gNa ci = some Cv → (Cv, "WorkflowEngine$Task") ∈ gNc := by
  intro ci Cv h hn
  simp only [List.mem_cons, List.not_mem_nil, or_false] at h
  rcases h with rfl | rfl | rfl | rfl | rfl | rfl | rfl | rfl
  · cases hn
    exact nc3
  · cases hn
    exact nc9
  · cases hn
    exact nc14
  · cases hn
    exact nc19
  · cases hn
    exact nc24
  · cases hn
    exact nc35
  · cases hn
    exact nc40
  · cases hn
    exact nc46
theorem hd_X5_tasks : (yX5_tasks.cls ≠ "java/lang/invoke/MethodHandle" ∧ yX5_tasks.cls ≠ "java/lang/invoke/VarHandle" ∧ (parseMethodDescriptor yX5_tasks.desc).map (fun d => d.parameters.length) = some 0) := ⟨by decide +kernel, by decide +kernel, by decide +kernel⟩
def f_X5_tasks_s (rec : Nat → gw → Option (Int32 × gw)) (a0 : Nat) (w0 : gw) : Option (Int32 × gw) := gL2 (fun k4 (x2 : Int32) (x3 : Int32) (w1 : gw) => gB1 (gR w1 a0 5 0) fun r5 => gB1 r5 fun a6 => gB1 (gOb w1 a6 8) fun _ => gB2 (f_J2_size a6  w1) fun x8 w7 => if x8 ≤ x3 then some (x2, w7) else gB1 (gR w7 a0 5 0) fun r10 => gB1 r10 fun a11 => gB1 (gOb w7 a11 8) fun _ => gB2 (f_J2_get a11 x3 w7) fun r13 w12 => gB1 (gCk w12 [9, 10, 11, 12, 13, 14] r13) fun r14 => gB1 (gIs w12 [9] [12, 11, 6, 13, 14, 7, 10, 15] r14) fun x15 => gB2 (f_X0_bit x15 w12) fun x17 w16 => gBd (x2 + x17) fun x18 => gB1 (gIs w16 [13] [12, 11, 6, 14, 9, 7, 10, 15] r14) fun x19 => gBd (fun (x22 : Int32) (x23 : Int32) (w21 : gw) => gBd (x23 + (nI 1)) fun x24 => k4 x22 x24 w21) fun k20 => if x19 = 0 then gB1 (gIs w16 [14] [12, 11, 6, 13, 9, 7, 10, 15] r14) fun x26 => if x26 = 0 then k20 x18 x3 w16 else gB1 (gCk w16 [14] r14) fun r28 => gL4 (fun k34 (x30 : Int32) (x31 : Int32) (r32 : Option Nat) (x33 : Int32) (w29 : gw) => gB1 r32 fun a35 => gB1 (gR w29 a35 14 1) fun r36 => gB1 r36 fun a37 => gB1 (gOb w29 a37 8) fun _ => gB2 (f_J2_size a37  w29) fun x39 w38 => if x39 ≤ x33 then k20 x30 x31 w38 else gB1 (gR w38 a35 14 1) fun r41 => gB1 r41 fun a42 => gB1 (gOb w38 a42 8) fun _ => gB2 (f_J2_get a42 x33 w38) fun r44 w43 => gB1 (gCk w43 [5] r44) fun r45 => gB1 r45 fun a46 => gB1 (gOb w43 a46 5) fun _ => gB2 (rec a46  w43) fun x48 w47 => gBd (x30 + x48) fun x49 => gBd (x33 + (nI 1)) fun x50 => k34 x49 x31 (some a35) x50 w47) 20000 x18 x3 r28 (nI 0) w16 else gB1 (gCk w16 [13] r14) fun r51 => gB1 r51 fun a52 => gB1 (gR w16 a52 13 3) fun r53 => gB1 r53 fun a54 => gB1 (gOb w16 a54 5) fun _ => gB2 (rec a54  w16) fun x56 w55 => gB1 (gR w55 a52 13 4) fun r57 => gB1 r57 fun a58 => gB1 (gOb w55 a58 5) fun _ => gB2 (rec a58  w55) fun x60 w59 => gBd (x18 + (x56 + x60)) fun x61 => k20 x61 x3 w59) 20000 (nI 0) (nI 0) w0
set_option maxHeartbeats 4000000 in
set_option maxRecDepth 100000 in
theorem k_X5_tasks_s {D : va_G} {dA : Nat → ClassId} {A : Nat → Prop} {K : Nat → Nat} {l : Launch} {h : Nat} {rec : Nat → gw → Option (Int32 × gw)} {B : Nat} (hrec : ∀ {h : Nat}, B ≤ h → ∀ {a0 : Nat} {w0 ww : gw} {rr : Int32}, rec a0  w0 = some (rr, ww) → gMet D dA A K l yX5_tasks (ws_ yX5_tasks cX5_tasks 7 (some .int)) h [(ga (some a0))] (some (gi rr)) w0 ww) (hb : 3 ≤ B) (hh : B + 1 ≤ h) {a0 : Nat} {w0 ww : gw} {rr : Int32} (hf : f_X5_tasks_s rec a0 w0 = some (rr, ww)) : gMet D dA A K l yX5_tasks (ws_ yX5_tasks cX5_tasks 7 (some .int)) h [(ga (some a0))] (some (gi rr)) w0 ww := by
  refine j_start (own := RX5) (by decide +kernel) rfl (Nat.le_of_ble_eq_true rfl) ?_
  intro p e R s m args below meth c C hr hin hw
  unfold f_X5_tasks_s at hf
  show gJ D dA A K p l e R s m args below meth c (gEnd D dA A K below args s w0 (some (gi rr)) ww) 7 0 [(0, (ga (some a0)))] [] w0
  refine j_iconst (v := (nI 0)) C dX5_tasks_0 (by decide) ?_
  refine j_istore_n (lv' := [(1, (gi (nI 0))), (0, (ga (some a0)))]) C dX5_tasks_1 (by decide) rfl ?_
  refine j_iconst (v := (nI 0)) C dX5_tasks_2 (by decide) ?_
  refine j_istore_n (lv' := [(2, (gi (nI 0))), (1, (gi (nI 0))), (0, (ga (some a0)))]) C dX5_tasks_3 (by decide) rfl ?_
  refine j_sub (lv' := [(0, (ga (some a0))), (1, (gi (nI 0))), (2, (gi (nI 0)))]) (gL_cons rfl (gL_cons rfl (gL_cons rfl (gL_nil)))) ?_
  refine gL2_e (fun (x2 : Int32) (x3 : Int32) (w1 : gw) => gJ D dA A K p l e R s m args below meth c (gEnd D dA A K below args s w0 (some (gi rr)) ww) 7 4 [(0, (ga (some a0))), (1, (gi x2)), (2, (gi x3))] [] w1) ?_ _ _ _ _ hf
  intro k4 jk4 x2 x3 w1 hf
  refine j_iload_n C dX5_tasks_4 rfl ?_
  refine j_aload_n C dX5_tasks_5 rfl ?_
  replace hf := gB1_e hf
  obtain ⟨r5, er5, hf⟩ := hf
  refine j_get C fl_X5_10_5 dX5_tasks_6 (gR_F er5) ?_
  replace hf := gB1_e hf
  obtain ⟨a6, ea6, hf⟩ := hf
  subst ea6
  replace hf := gB1_e hf
  obtain ⟨_, eo, hf⟩ := hf
  replace hf := gB2_e hf
  obtain ⟨x8, w7, ew7, hf⟩ := hf
  refine j_callV (As := []) (rest := [(gi x3)]) (v := (some (gi x8))) C (by omega) (k_J2_size (by omega) ew7) (gOb_e eo) rfl q635 q560 q561 q99 q562 ⟨rfl, hd_J2_size⟩ (by decide) rfl (Nat.le_of_ble_eq_true rfl) dX5_tasks_9 ?_
  refine j_icmp_ge (tgt := 133) C dX5_tasks_12 (by decide) (fun c9 => ?_) (fun c9 => ?_)
  · replace hf := gIf_t hf c9
    refine j_iload_n C dX5_tasks_133 rfl ?_
    obtain ⟨rfl, rfl⟩ := gSome hf
    exact j_iret C hr hw dX5_tasks_134
  · replace hf := gIf_f hf c9
    refine j_aload_n C dX5_tasks_15 rfl ?_
    replace hf := gB1_e hf
    obtain ⟨r10, er10, hf⟩ := hf
    refine j_get C fl_X5_10_5 dX5_tasks_16 (gR_F er10) ?_
    refine j_iload_n C dX5_tasks_19 rfl ?_
    replace hf := gB1_e hf
    obtain ⟨a11, ea11, hf⟩ := hf
    subst ea11
    replace hf := gB1_e hf
    obtain ⟨_, eo, hf⟩ := hf
    replace hf := gB2_e hf
    obtain ⟨r13, w12, ew12, hf⟩ := hf
    refine j_callV (As := [(gi x3)]) (rest := []) (v := (some (ga r13))) C (by omega) (k_J2_get (by omega) ew12) (gOb_e eo) rfl q636 q637 q638 q99 q639 ⟨rfl, hd_J2_get⟩ (by decide) rfl (Nat.le_of_ble_eq_true rfl) dX5_tasks_20 ?_
    replace hf := gB1_e hf
    obtain ⟨r14, er14, hf⟩ := hf
    refine j_castR C q650 ca_WorkflowEngine_Node er14 dX5_tasks_23 ?_
    refine j_astore_n (lv' := [(3, (ga r14)), (0, (ga (some a0))), (1, (gi x2)), (2, (gi x3))]) C dX5_tasks_26 (by decide) rfl ?_
    refine j_iload_n C dX5_tasks_27 rfl ?_
    refine j_aload_n C dX5_tasks_28 rfl ?_
    replace hf := gB1_e hf
    obtain ⟨x15, ex15, hf⟩ := hf
    refine j_inst C q659 ca_WorkflowEngine_Task nn_WorkflowEngine_Task ex15 dX5_tasks_29 ?_
    replace hf := gB2_e hf
    obtain ⟨x17, w16, ew16, hf⟩ := hf
    refine j_callSN (As := [(gi x15)]) (rest := [(gi x2)]) (v := (some (gi x17))) C (by omega) (k_X0_bit (by omega) ew16) nq660 q347 q91 q348 hd_X0_bit (by decide) rfl (Nat.le_of_ble_eq_true rfl) dX5_tasks_32 ?_
    refine j_iadd C dX5_tasks_35 ?_
    replace hf := gBd_x hf
    obtain ⟨x18, ex18, hf⟩ := hf
    refine j_nm ex18 ?_
    refine j_istore_n (lv' := [(1, (gi x18)), (3, (ga r14)), (0, (ga (some a0))), (2, (gi x3))]) C dX5_tasks_36 (by decide) rfl ?_
    refine j_aload_n C dX5_tasks_37 rfl ?_
    replace hf := gB1_e hf
    obtain ⟨x19, ex19, hf⟩ := hf
    refine j_inst C q651 ca_WorkflowEngine_Choice nn_WorkflowEngine_Choice ex19 dX5_tasks_38 ?_
    replace hf := gBd_x hf
    obtain ⟨k20, ek20, hf⟩ := hf
    have jk20 : ∀ (x22 : Int32) (x23 : Int32) (w21 : gw), k20 x22 x23 w21 = some (rr, ww) → gJ D dA A K p l e R s m args below meth c (gEnd D dA A K below args s w0 (some (gi rr)) ww) 7 127 [(0, (ga (some a0))), (1, (gi x22)), (2, (gi x23))] [] w21 := by
      intro x22 x23 w21 hf
      rw [ek20] at hf
      dsimp only at hf
      replace hf := gBd_x hf
      obtain ⟨x24, ex24, hf⟩ := hf
      refine j_iinc (v := x24) (lv' := [(2, (gi x24)), (0, (ga (some a0))), (1, (gi x22))]) C dX5_tasks_127 rfl (by rw [ex24]; rfl) (by decide) rfl ?_
      refine j_goto (tgt := 4) C dX5_tasks_130 (by decide) ?_
      refine j_sub (lv' := [(0, (ga (some a0))), (1, (gi x22)), (2, (gi x24))]) (gL_cons rfl (gL_cons rfl (gL_cons rfl (gL_nil)))) ?_
      exact jk4 _ _ _ hf
    clear ek20
    refine j_if_eq (tgt := 73) C dX5_tasks_41 (by decide) (fun c25 => ?_) (fun c25 => ?_)
    · replace hf := gIf_t hf c25
      refine j_aload_n C dX5_tasks_73 rfl ?_
      replace hf := gB1_e hf
      obtain ⟨x26, ex26, hf⟩ := hf
      refine j_inst C q653 ca_WorkflowEngine_Parallel nn_WorkflowEngine_Parallel ex26 dX5_tasks_74 ?_
      refine j_if_eq (tgt := 127) C dX5_tasks_77 (by decide) (fun c27 => ?_) (fun c27 => ?_)
      · replace hf := gIf_t hf c27
        refine j_sub (lv' := [(0, (ga (some a0))), (1, (gi x18)), (2, (gi x3))]) (gL_cons rfl (gL_cons rfl (gL_cons rfl (gL_nil)))) ?_
        exact jk20 _ _ _ hf
      · replace hf := gIf_f hf c27
        refine j_aload_n C dX5_tasks_80 rfl ?_
        replace hf := gB1_e hf
        obtain ⟨r28, er28, hf⟩ := hf
        refine j_castR C q653 ca_WorkflowEngine_Parallel er28 dX5_tasks_81 ?_
        refine j_astore (lv' := [(5, (ga r28)), (1, (gi x18)), (3, (ga r14)), (0, (ga (some a0))), (2, (gi x3))]) C dX5_tasks_84 (by decide) rfl ?_
        refine j_iconst (v := (nI 0)) C dX5_tasks_86 (by decide) ?_
        refine j_istore (lv' := [(6, (gi (nI 0))), (5, (ga r28)), (1, (gi x18)), (3, (ga r14)), (0, (ga (some a0))), (2, (gi x3))]) C dX5_tasks_87 (by decide) rfl ?_
        refine j_sub (lv' := [(0, (ga (some a0))), (1, (gi x18)), (2, (gi x3)), (5, (ga r28)), (6, (gi (nI 0)))]) (gL_cons rfl (gL_cons rfl (gL_cons rfl (gL_cons rfl (gL_cons rfl (gL_nil)))))) ?_
        refine gL4_e (fun (x30 : Int32) (x31 : Int32) (r32 : Option Nat) (x33 : Int32) (w29 : gw) => gJ D dA A K p l e R s m args below meth c (gEnd D dA A K below args s w0 (some (gi rr)) ww) 7 89 [(0, (ga (some a0))), (1, (gi x30)), (2, (gi x31)), (5, (ga r32)), (6, (gi x33))] [] w29) ?_ _ _ _ _ _ _ hf
        intro k34 jk34 x30 x31 r32 x33 w29 hf
        refine j_iload C dX5_tasks_89 rfl ?_
        refine j_aload C dX5_tasks_91 rfl ?_
        replace hf := gB1_e hf
        obtain ⟨a35, ea35, hf⟩ := hf
        subst ea35
        replace hf := gB1_e hf
        obtain ⟨r36, er36, hf⟩ := hf
        refine j_get C fl_X5_51_14 dX5_tasks_93 (gR_F er36) ?_
        replace hf := gB1_e hf
        obtain ⟨a37, ea37, hf⟩ := hf
        subst ea37
        replace hf := gB1_e hf
        obtain ⟨_, eo, hf⟩ := hf
        replace hf := gB2_e hf
        obtain ⟨x39, w38, ew38, hf⟩ := hf
        refine j_callV (As := []) (rest := [(gi x33)]) (v := (some (gi x39))) C (by omega) (k_J2_size (by omega) ew38) (gOb_e eo) rfl q635 q560 q561 q99 q562 ⟨rfl, hd_J2_size⟩ (by decide) rfl (Nat.le_of_ble_eq_true rfl) dX5_tasks_96 ?_
        refine j_icmp_ge (tgt := 127) C dX5_tasks_99 (by decide) (fun c40 => ?_) (fun c40 => ?_)
        · replace hf := gIf_t hf c40
          refine j_sub (lv' := [(0, (ga (some a0))), (1, (gi x30)), (2, (gi x31))]) (gL_cons rfl (gL_cons rfl (gL_cons rfl (gL_nil)))) ?_
          exact jk20 _ _ _ hf
        · replace hf := gIf_f hf c40
          refine j_iload_n C dX5_tasks_102 rfl ?_
          refine j_aload C dX5_tasks_103 rfl ?_
          replace hf := gB1_e hf
          obtain ⟨r41, er41, hf⟩ := hf
          refine j_get C fl_X5_51_14 dX5_tasks_105 (gR_F er41) ?_
          refine j_iload C dX5_tasks_108 rfl ?_
          replace hf := gB1_e hf
          obtain ⟨a42, ea42, hf⟩ := hf
          subst ea42
          replace hf := gB1_e hf
          obtain ⟨_, eo, hf⟩ := hf
          replace hf := gB2_e hf
          obtain ⟨r44, w43, ew43, hf⟩ := hf
          refine j_callV (As := [(gi x33)]) (rest := [(gi x30)]) (v := (some (ga r44))) C (by omega) (k_J2_get (by omega) ew43) (gOb_e eo) rfl q636 q637 q638 q99 q639 ⟨rfl, hd_J2_get⟩ (by decide) rfl (Nat.le_of_ble_eq_true rfl) dX5_tasks_110 ?_
          replace hf := gB1_e hf
          obtain ⟨r45, er45, hf⟩ := hf
          refine j_castR C q654 ca_WorkflowEngine_Body er45 dX5_tasks_113 ?_
          replace hf := gB1_e hf
          obtain ⟨a46, ea46, hf⟩ := hf
          subst ea46
          replace hf := gB1_e hf
          obtain ⟨_, eo, hf⟩ := hf
          replace hf := gB2_e hf
          obtain ⟨x48, w47, ew47, hf⟩ := hf
          refine j_callV (As := []) (rest := [(gi x30)]) (v := (some (gi x48))) C (by omega) (hrec (by omega) ew47) (gOb_e eo) rfl q661 q656 q657 q96 q658 ⟨rfl, hd_X5_tasks⟩ (by decide) rfl (Nat.le_of_ble_eq_true rfl) dX5_tasks_116 ?_
          refine j_iadd C dX5_tasks_119 ?_
          replace hf := gBd_x hf
          obtain ⟨x49, ex49, hf⟩ := hf
          refine j_nm ex49 ?_
          refine j_istore_n (lv' := [(1, (gi x49)), (0, (ga (some a0))), (2, (gi x31)), (5, (ga (some a35))), (6, (gi x33))]) C dX5_tasks_120 (by decide) rfl ?_
          replace hf := gBd_x hf
          obtain ⟨x50, ex50, hf⟩ := hf
          refine j_iinc (v := x50) (lv' := [(6, (gi x50)), (1, (gi x49)), (0, (ga (some a0))), (2, (gi x31)), (5, (ga (some a35)))]) C dX5_tasks_121 rfl (by rw [ex50]; rfl) (by decide) rfl ?_
          refine j_goto (tgt := 89) C dX5_tasks_124 (by decide) ?_
          refine j_sub (lv' := [(0, (ga (some a0))), (1, (gi x49)), (2, (gi x31)), (5, (ga (some a35))), (6, (gi x50))]) (gL_cons rfl (gL_cons rfl (gL_cons rfl (gL_cons rfl (gL_cons rfl (gL_nil)))))) ?_
          exact jk34 _ _ _ _ _ hf
    · replace hf := gIf_f hf c25
      refine j_aload_n C dX5_tasks_44 rfl ?_
      replace hf := gB1_e hf
      obtain ⟨r51, er51, hf⟩ := hf
      refine j_castR C q651 ca_WorkflowEngine_Choice er51 dX5_tasks_45 ?_
      refine j_astore (lv' := [(4, (ga r51)), (1, (gi x18)), (3, (ga r14)), (0, (ga (some a0))), (2, (gi x3))]) C dX5_tasks_48 (by decide) rfl ?_
      refine j_iload_n C dX5_tasks_50 rfl ?_
      refine j_aload C dX5_tasks_51 rfl ?_
      replace hf := gB1_e hf
      obtain ⟨a52, ea52, hf⟩ := hf
      subst ea52
      replace hf := gB1_e hf
      obtain ⟨r53, er53, hf⟩ := hf
      refine j_get C fl_X5_40_13 dX5_tasks_53 (gR_F er53) ?_
      replace hf := gB1_e hf
      obtain ⟨a54, ea54, hf⟩ := hf
      subst ea54
      replace hf := gB1_e hf
      obtain ⟨_, eo, hf⟩ := hf
      replace hf := gB2_e hf
      obtain ⟨x56, w55, ew55, hf⟩ := hf
      refine j_callV (As := []) (rest := [(gi x18)]) (v := (some (gi x56))) C (by omega) (hrec (by omega) ew55) (gOb_e eo) rfl q661 q656 q657 q96 q658 ⟨rfl, hd_X5_tasks⟩ (by decide) rfl (Nat.le_of_ble_eq_true rfl) dX5_tasks_56 ?_
      refine j_aload C dX5_tasks_59 rfl ?_
      replace hf := gB1_e hf
      obtain ⟨r57, er57, hf⟩ := hf
      refine j_get C fl_X5_46_13 dX5_tasks_61 (gR_F er57) ?_
      replace hf := gB1_e hf
      obtain ⟨a58, ea58, hf⟩ := hf
      subst ea58
      replace hf := gB1_e hf
      obtain ⟨_, eo, hf⟩ := hf
      replace hf := gB2_e hf
      obtain ⟨x60, w59, ew59, hf⟩ := hf
      refine j_callV (As := []) (rest := [(gi x56), (gi x18)]) (v := (some (gi x60))) C (by omega) (hrec (by omega) ew59) (gOb_e eo) rfl q661 q656 q657 q96 q658 ⟨rfl, hd_X5_tasks⟩ (by decide) rfl (Nat.le_of_ble_eq_true rfl) dX5_tasks_64 ?_
      refine j_iadd C dX5_tasks_67 ?_
      refine j_iadd C dX5_tasks_68 ?_
      replace hf := gBd_x hf
      obtain ⟨x61, ex61, hf⟩ := hf
      refine j_nm ex61 ?_
      refine j_istore_n (lv' := [(1, (gi x61)), (4, (ga (some a52))), (3, (ga r14)), (0, (ga (some a0))), (2, (gi x3))]) C dX5_tasks_69 (by decide) rfl ?_
      refine j_goto (tgt := 127) C dX5_tasks_70 (by decide) ?_
      refine j_sub (lv' := [(0, (ga (some a0))), (1, (gi x61)), (2, (gi x3))]) (gL_cons rfl (gL_cons rfl (gL_cons rfl (gL_nil)))) ?_
      exact jk20 _ _ _ hf
def f_X5_tasks : Nat → Nat → gw → Option (Int32 × gw)
  | 0 => fun _ _ => none
  | d + 1 => f_X5_tasks_s (f_X5_tasks d)
theorem k_X5_tasks {D : va_G} {dA : Nat → ClassId} {A : Nat → Prop} {K : Nat → Nat} {l : Launch} : ∀ (d : Nat) {h : Nat}, 3 + 1 * d ≤ h → ∀ {a0 : Nat} {w0 ww : gw} {rr : Int32}, f_X5_tasks d a0  w0 = some (rr, ww) → gMet D dA A K l yX5_tasks (ws_ yX5_tasks cX5_tasks 7 (some .int)) h [(ga (some a0))] (some (gi rr)) w0 ww := by
  intro d
  induction d with
  | zero => intro h hh a0  w0 ww rr hf; cases hf
  | succ d ih =>
    intro h hh a0  w0 ww rr hf
    exact k_X5_tasks_s (rec := f_X5_tasks d) (B := 3 + 1 * d) (fun hh => ih hh) (by omega) (by omega) hf
def dkwX5_width_1 : List UInt8 := [192, 0, 24, 182, 0, 26, 184, 0, 29, 60, 132, 2, 1, 167, 255, 223, 27, 172]
abbrev dktX5_width_1 : List UInt8 := dkwX5_width_1 ++ []
def dkwX5_width_0 : List UInt8 := [3, 60, 3, 61, 28, 42, 180, 0, 10, 182, 0, 16, 162, 0, 28, 27, 42, 180, 0, 10, 28, 182, 0, 20]
abbrev dktX5_width_0 : List UInt8 := dkwX5_width_0 ++ dktX5_width_1
theorem dksX5_width_0 : cX5_width.data.toList.drop 0 = dktX5_width_0 := by decide +kernel
theorem dksX5_width_1 : cX5_width.data.toList.drop 24 = dktX5_width_1 := dk_seg dksX5_width_0 24 rfl rfl
theorem dX5_width_0 : decode cX5_width 0 = .ok (.iconst 0, 1) := dk_3 (dk_at dksX5_width_0 0 rfl rfl)
theorem dX5_width_1 : decode cX5_width 1 = .ok (.istore_n 1, 1) := dk_60 (dk_at dksX5_width_0 1 rfl rfl)
theorem dX5_width_2 : decode cX5_width 2 = .ok (.iconst 0, 1) := dk_3 (dk_at dksX5_width_0 2 rfl rfl)
theorem dX5_width_3 : decode cX5_width 3 = .ok (.istore_n 2, 1) := dk_61 (dk_at dksX5_width_0 3 rfl rfl)
theorem dX5_width_4 : decode cX5_width 4 = .ok (.iload_n 2, 1) := dk_28 (dk_at dksX5_width_0 4 rfl rfl)
theorem dX5_width_5 : decode cX5_width 5 = .ok (.aload_n 0, 1) := dk_42 (dk_at dksX5_width_0 5 rfl rfl)
theorem dX5_width_6 : decode cX5_width 6 = .ok (.getfield 10, 3) := dk_180 0 10 (dk_at dksX5_width_0 6 rfl rfl)
theorem dX5_width_9 : decode cX5_width 9 = .ok (.invokevirtual 16, 3) := dk_182 0 16 (dk_at dksX5_width_0 9 rfl rfl)
theorem dX5_width_12 : decode cX5_width 12 = .ok (.if_icmp .ge 28, 3) := dk_162 0 28 (dk_at dksX5_width_0 12 rfl rfl)
theorem dX5_width_15 : decode cX5_width 15 = .ok (.iload_n 1, 1) := dk_27 (dk_at dksX5_width_0 15 rfl rfl)
theorem dX5_width_16 : decode cX5_width 16 = .ok (.aload_n 0, 1) := dk_42 (dk_at dksX5_width_0 16 rfl rfl)
theorem dX5_width_17 : decode cX5_width 17 = .ok (.getfield 10, 3) := dk_180 0 10 (dk_at dksX5_width_0 17 rfl rfl)
theorem dX5_width_20 : decode cX5_width 20 = .ok (.iload_n 2, 1) := dk_28 (dk_at dksX5_width_0 20 rfl rfl)
theorem dX5_width_21 : decode cX5_width 21 = .ok (.invokevirtual 20, 3) := dk_182 0 20 (dk_at dksX5_width_0 21 rfl rfl)
theorem dX5_width_24 : decode cX5_width 24 = .ok (.checkcast 24, 3) := dk_192 0 24 (dk_at dksX5_width_1 0 rfl rfl)
theorem dX5_width_27 : decode cX5_width 27 = .ok (.invokevirtual 26, 3) := dk_182 0 26 (dk_at dksX5_width_1 3 rfl rfl)
theorem dX5_width_30 : decode cX5_width 30 = .ok (.invokestatic 29, 3) := dk_184 0 29 (dk_at dksX5_width_1 6 rfl rfl)
theorem dX5_width_33 : decode cX5_width 33 = .ok (.istore_n 1, 1) := dk_60 (dk_at dksX5_width_1 9 rfl rfl)
theorem dX5_width_34 : decode cX5_width 34 = .ok (.iinc 2 1, 3) := dk_132 2 1 (dk_at dksX5_width_1 10 rfl rfl)
theorem dX5_width_37 : decode cX5_width 37 = .ok (.goto (-33), 3) := dk_167 255 223 (dk_at dksX5_width_1 13 rfl rfl)
theorem dX5_width_40 : decode cX5_width 40 = .ok (.iload_n 1, 1) := dk_27 (dk_at dksX5_width_1 16 rfl rfl)
theorem dX5_width_41 : decode cX5_width 41 = .ok (.ireturn, 1) := dk_172 (dk_at dksX5_width_1 17 rfl rfl)
def f_X5_width (rec : Nat → gw → Option (Int32 × gw)) (a0 : Nat) (w0 : gw) : Option (Int32 × gw) := gL2 (fun k4 (x2 : Int32) (x3 : Int32) (w1 : gw) => gB1 (gR w1 a0 5 0) fun r5 => gB1 r5 fun a6 => gB1 (gOb w1 a6 8) fun _ => gB2 (f_J2_size a6  w1) fun x8 w7 => if x8 ≤ x3 then some (x2, w7) else gB1 (gR w7 a0 5 0) fun r10 => gB1 r10 fun a11 => gB1 (gOb w7 a11 8) fun _ => gB2 (f_J2_get a11 x3 w7) fun r13 w12 => gB1 (gCk w12 [9, 10, 11, 12, 13, 14] r13) fun r14 => gB1 r14 fun a15 => gB2 (rec a15  w12) fun x17 w16 => gB2 (f_J6_max x2 x17 w16) fun x19 w18 => gBd (x3 + (nI 1)) fun x20 => k4 x19 x20 w18) 20000 (nI 0) (nI 0) w0
set_option maxHeartbeats 4000000 in
set_option maxRecDepth 100000 in
theorem k_X5_width {D : va_G} {dA : Nat → ClassId} {A : Nat → Prop} {K : Nat → Nat} {l : Launch} {h : Nat} {rec : Nat → gw → Option (Int32 × gw)} {B : Nat} (hrec : ∀ {h : Nat}, B ≤ h → ∀ {a : Nat} {w0 ww : gw} {rr : Int32}, rec a  w0 = some (rr, ww) → gDp_Node_width D dA A K l h a [] (some (gi rr)) w0 ww) (hb : 3 ≤ B) (hh : B + 1 ≤ h) {a0 : Nat} {w0 ww : gw} {rr : Int32} (hf : f_X5_width rec a0 w0 = some (rr, ww)) : gMet D dA A K l yX5_width (ws_ yX5_width cX5_width 3 (some .int)) h [(ga (some a0))] (some (gi rr)) w0 ww := by
  refine j_start (own := RX5) (by decide +kernel) rfl (Nat.le_of_ble_eq_true rfl) ?_
  intro p e R s m args below meth c C hr hin hw
  unfold f_X5_width at hf
  show gJ D dA A K p l e R s m args below meth c (gEnd D dA A K below args s w0 (some (gi rr)) ww) 3 0 [(0, (ga (some a0)))] [] w0
  refine j_iconst (v := (nI 0)) C dX5_width_0 (by decide) ?_
  refine j_istore_n (lv' := [(1, (gi (nI 0))), (0, (ga (some a0)))]) C dX5_width_1 (by decide) rfl ?_
  refine j_iconst (v := (nI 0)) C dX5_width_2 (by decide) ?_
  refine j_istore_n (lv' := [(2, (gi (nI 0))), (1, (gi (nI 0))), (0, (ga (some a0)))]) C dX5_width_3 (by decide) rfl ?_
  refine j_sub (lv' := [(0, (ga (some a0))), (1, (gi (nI 0))), (2, (gi (nI 0)))]) (gL_cons rfl (gL_cons rfl (gL_cons rfl (gL_nil)))) ?_
  refine gL2_e (fun (x2 : Int32) (x3 : Int32) (w1 : gw) => gJ D dA A K p l e R s m args below meth c (gEnd D dA A K below args s w0 (some (gi rr)) ww) 3 4 [(0, (ga (some a0))), (1, (gi x2)), (2, (gi x3))] [] w1) ?_ _ _ _ _ hf
  intro k4 jk4 x2 x3 w1 hf
  refine j_iload_n C dX5_width_4 rfl ?_
  refine j_aload_n C dX5_width_5 rfl ?_
  replace hf := gB1_e hf
  obtain ⟨r5, er5, hf⟩ := hf
  refine j_get C fl_X5_10_5 dX5_width_6 (gR_F er5) ?_
  replace hf := gB1_e hf
  obtain ⟨a6, ea6, hf⟩ := hf
  subst ea6
  replace hf := gB1_e hf
  obtain ⟨_, eo, hf⟩ := hf
  replace hf := gB2_e hf
  obtain ⟨x8, w7, ew7, hf⟩ := hf
  refine j_callV (As := []) (rest := [(gi x3)]) (v := (some (gi x8))) C (by omega) (k_J2_size (by omega) ew7) (gOb_e eo) rfl q635 q560 q561 q99 q562 ⟨rfl, hd_J2_size⟩ (by decide) rfl (Nat.le_of_ble_eq_true rfl) dX5_width_9 ?_
  refine j_icmp_ge (tgt := 40) C dX5_width_12 (by decide) (fun c9 => ?_) (fun c9 => ?_)
  · replace hf := gIf_t hf c9
    refine j_iload_n C dX5_width_40 rfl ?_
    obtain ⟨rfl, rfl⟩ := gSome hf
    exact j_iret C hr hw dX5_width_41
  · replace hf := gIf_f hf c9
    refine j_iload_n C dX5_width_15 rfl ?_
    refine j_aload_n C dX5_width_16 rfl ?_
    replace hf := gB1_e hf
    obtain ⟨r10, er10, hf⟩ := hf
    refine j_get C fl_X5_10_5 dX5_width_17 (gR_F er10) ?_
    refine j_iload_n C dX5_width_20 rfl ?_
    replace hf := gB1_e hf
    obtain ⟨a11, ea11, hf⟩ := hf
    subst ea11
    replace hf := gB1_e hf
    obtain ⟨_, eo, hf⟩ := hf
    replace hf := gB2_e hf
    obtain ⟨r13, w12, ew12, hf⟩ := hf
    refine j_callV (As := [(gi x3)]) (rest := [(gi x2)]) (v := (some (ga r13))) C (by omega) (k_J2_get (by omega) ew12) (gOb_e eo) rfl q636 q637 q638 q99 q639 ⟨rfl, hd_J2_get⟩ (by decide) rfl (Nat.le_of_ble_eq_true rfl) dX5_width_21 ?_
    replace hf := gB1_e hf
    obtain ⟨r14, er14, hf⟩ := hf
    refine j_castR C q650 ca_WorkflowEngine_Node er14 dX5_width_24 ?_
    replace hf := gB1_e hf
    obtain ⟨a15, ea15, hf⟩ := hf
    subst ea15
    replace hf := gB2_e hf
    obtain ⟨x17, w16, ew16, hf⟩ := hf
    refine j_dp_Node_width (As := []) (rest := [(gi x2)]) (v := (some (gi x17))) C (by omega) (hrec (by omega) ew16) q692 rfl (Nat.le_of_ble_eq_true rfl) dX5_width_27 ?_
    replace hf := gB2_e hf
    obtain ⟨x19, w18, ew18, hf⟩ := hf
    refine j_callS (As := [(gi x2), (gi x17)]) (rest := []) (v := (some (gi x19))) C (by omega) (k_J6_max (by omega) ew18) q687 q501 q111 q502 hd_J6_max (by decide) rfl (Nat.le_of_ble_eq_true rfl) dX5_width_30 ?_
    refine j_istore_n (lv' := [(1, (gi x19)), (0, (ga (some a0))), (2, (gi x3))]) C dX5_width_33 (by decide) rfl ?_
    replace hf := gBd_x hf
    obtain ⟨x20, ex20, hf⟩ := hf
    refine j_iinc (v := x20) (lv' := [(2, (gi x20)), (1, (gi x19)), (0, (ga (some a0)))]) C dX5_width_34 rfl (by rw [ex20]; rfl) (by decide) rfl ?_
    refine j_goto (tgt := 4) C dX5_width_37 (by decide) ?_
    refine j_sub (lv' := [(0, (ga (some a0))), (1, (gi x19)), (2, (gi x20))]) (gL_cons rfl (gL_cons rfl (gL_cons rfl (gL_nil)))) ?_
    exact jk4 _ _ _ hf
def dkwX13_width_0 : List UInt8 := [42, 180, 0, 16, 182, 0, 44, 42, 180, 0, 20, 182, 0, 44, 184, 0, 50, 172]
abbrev dktX13_width_0 : List UInt8 := dkwX13_width_0 ++ []
theorem dksX13_width_0 : cX13_width.data.toList.drop 0 = dktX13_width_0 := by decide +kernel
theorem dX13_width_0 : decode cX13_width 0 = .ok (.aload_n 0, 1) := dk_42 (dk_at dksX13_width_0 0 rfl rfl)
theorem dX13_width_1 : decode cX13_width 1 = .ok (.getfield 16, 3) := dk_180 0 16 (dk_at dksX13_width_0 1 rfl rfl)
theorem dX13_width_4 : decode cX13_width 4 = .ok (.invokevirtual 44, 3) := dk_182 0 44 (dk_at dksX13_width_0 4 rfl rfl)
theorem dX13_width_7 : decode cX13_width 7 = .ok (.aload_n 0, 1) := dk_42 (dk_at dksX13_width_0 7 rfl rfl)
theorem dX13_width_8 : decode cX13_width 8 = .ok (.getfield 20, 3) := dk_180 0 20 (dk_at dksX13_width_0 8 rfl rfl)
theorem dX13_width_11 : decode cX13_width 11 = .ok (.invokevirtual 44, 3) := dk_182 0 44 (dk_at dksX13_width_0 11 rfl rfl)
theorem dX13_width_14 : decode cX13_width 14 = .ok (.invokestatic 50, 3) := dk_184 0 50 (dk_at dksX13_width_0 14 rfl rfl)
theorem dX13_width_17 : decode cX13_width 17 = .ok (.ireturn, 1) := dk_172 (dk_at dksX13_width_0 17 rfl rfl)
theorem hd_X5_width : (yX5_width.cls ≠ "java/lang/invoke/MethodHandle" ∧ yX5_width.cls ≠ "java/lang/invoke/VarHandle" ∧ (parseMethodDescriptor yX5_width.desc).map (fun d => d.parameters.length) = some 0) := ⟨by decide +kernel, by decide +kernel, by decide +kernel⟩
def f_X13_width (rec : Nat → gw → Option (Int32 × gw)) (a0 : Nat) (w0 : gw) : Option (Int32 × gw) := gB1 (gR w0 a0 13 3) fun r1 => gB1 r1 fun a2 => gB1 (gOb w0 a2 5) fun _ => gB2 (f_X5_width rec a2  w0) fun x4 w3 => gB1 (gR w3 a0 13 4) fun r5 => gB1 r5 fun a6 => gB1 (gOb w3 a6 5) fun _ => gB2 (f_X5_width rec a6  w3) fun x8 w7 => gB2 (f_J6_max x4 x8 w7) fun x10 w9 => some (x10, w9)
set_option maxHeartbeats 4000000 in
set_option maxRecDepth 100000 in
theorem k_X13_width {D : va_G} {dA : Nat → ClassId} {A : Nat → Prop} {K : Nat → Nat} {l : Launch} {h : Nat} {rec : Nat → gw → Option (Int32 × gw)} {B : Nat} (hrec : ∀ {h : Nat}, B ≤ h → ∀ {a : Nat} {w0 ww : gw} {rr : Int32}, rec a  w0 = some (rr, ww) → gDp_Node_width D dA A K l h a [] (some (gi rr)) w0 ww) (hb : 3 ≤ B) (hh : B + 2 ≤ h) {a0 : Nat} {w0 ww : gw} {rr : Int32} (hf : f_X13_width rec a0 w0 = some (rr, ww)) : gMet D dA A K l yX13_width (ws_ yX13_width cX13_width 1 (some .int)) h [(ga (some a0))] (some (gi rr)) w0 ww := by
  refine j_start (own := RX13) (by decide +kernel) rfl (Nat.le_of_ble_eq_true rfl) ?_
  intro p e R s m args below meth c C hr hin hw
  unfold f_X13_width at hf
  show gJ D dA A K p l e R s m args below meth c (gEnd D dA A K below args s w0 (some (gi rr)) ww) 1 0 [(0, (ga (some a0)))] [] w0
  refine j_aload_n C dX13_width_0 rfl ?_
  replace hf := gB1_e hf
  obtain ⟨r1, er1, hf⟩ := hf
  refine j_get C fl_X13_16_13 dX13_width_1 (gR_F er1) ?_
  replace hf := gB1_e hf
  obtain ⟨a2, ea2, hf⟩ := hf
  subst ea2
  replace hf := gB1_e hf
  obtain ⟨_, eo, hf⟩ := hf
  replace hf := gB2_e hf
  obtain ⟨x4, w3, ew3, hf⟩ := hf
  refine j_callV (As := []) (rest := []) (v := (some (gi x4))) C (by omega) (k_X5_width hrec hb (by omega) ew3) (gOb_e eo) rfl q700 q689 q690 q96 q691 ⟨rfl, hd_X5_width⟩ (by decide) rfl (Nat.le_of_ble_eq_true rfl) dX13_width_4 ?_
  refine j_aload_n C dX13_width_7 rfl ?_
  replace hf := gB1_e hf
  obtain ⟨r5, er5, hf⟩ := hf
  refine j_get C fl_X13_20_13 dX13_width_8 (gR_F er5) ?_
  replace hf := gB1_e hf
  obtain ⟨a6, ea6, hf⟩ := hf
  subst ea6
  replace hf := gB1_e hf
  obtain ⟨_, eo, hf⟩ := hf
  replace hf := gB2_e hf
  obtain ⟨x8, w7, ew7, hf⟩ := hf
  refine j_callV (As := []) (rest := [(gi x4)]) (v := (some (gi x8))) C (by omega) (k_X5_width hrec hb (by omega) ew7) (gOb_e eo) rfl q700 q689 q690 q96 q691 ⟨rfl, hd_X5_width⟩ (by decide) rfl (Nat.le_of_ble_eq_true rfl) dX13_width_11 ?_
  replace hf := gB2_e hf
  obtain ⟨x10, w9, ew9, hf⟩ := hf
  refine j_callS (As := [(gi x4), (gi x8)]) (rest := []) (v := (some (gi x10))) C (by omega) (k_J6_max (by omega) ew9) q675 q501 q111 q502 hd_J6_max (by decide) rfl (Nat.le_of_ble_eq_true rfl) dX13_width_14 ?_
  obtain ⟨rfl, rfl⟩ := gSome hf
  exact j_iret C hr hw dX13_width_17
def dkwX14_width_1 : List UInt8 := [192, 0, 44, 182, 0, 46, 96, 60, 132, 2, 1, 167, 255, 225, 27, 172]
abbrev dktX14_width_1 : List UInt8 := dkwX14_width_1 ++ []
def dkwX14_width_0 : List UInt8 := [3, 60, 3, 61, 28, 42, 180, 0, 7, 182, 0, 34, 162, 0, 26, 27, 42, 180, 0, 7, 28, 182, 0, 40]
abbrev dktX14_width_0 : List UInt8 := dkwX14_width_0 ++ dktX14_width_1
theorem dksX14_width_0 : cX14_width.data.toList.drop 0 = dktX14_width_0 := by decide +kernel
theorem dksX14_width_1 : cX14_width.data.toList.drop 24 = dktX14_width_1 := dk_seg dksX14_width_0 24 rfl rfl
theorem dX14_width_0 : decode cX14_width 0 = .ok (.iconst 0, 1) := dk_3 (dk_at dksX14_width_0 0 rfl rfl)
theorem dX14_width_1 : decode cX14_width 1 = .ok (.istore_n 1, 1) := dk_60 (dk_at dksX14_width_0 1 rfl rfl)
theorem dX14_width_2 : decode cX14_width 2 = .ok (.iconst 0, 1) := dk_3 (dk_at dksX14_width_0 2 rfl rfl)
theorem dX14_width_3 : decode cX14_width 3 = .ok (.istore_n 2, 1) := dk_61 (dk_at dksX14_width_0 3 rfl rfl)
theorem dX14_width_4 : decode cX14_width 4 = .ok (.iload_n 2, 1) := dk_28 (dk_at dksX14_width_0 4 rfl rfl)
theorem dX14_width_5 : decode cX14_width 5 = .ok (.aload_n 0, 1) := dk_42 (dk_at dksX14_width_0 5 rfl rfl)
theorem dX14_width_6 : decode cX14_width 6 = .ok (.getfield 7, 3) := dk_180 0 7 (dk_at dksX14_width_0 6 rfl rfl)
theorem dX14_width_9 : decode cX14_width 9 = .ok (.invokevirtual 34, 3) := dk_182 0 34 (dk_at dksX14_width_0 9 rfl rfl)
theorem dX14_width_12 : decode cX14_width 12 = .ok (.if_icmp .ge 26, 3) := dk_162 0 26 (dk_at dksX14_width_0 12 rfl rfl)
theorem dX14_width_15 : decode cX14_width 15 = .ok (.iload_n 1, 1) := dk_27 (dk_at dksX14_width_0 15 rfl rfl)
theorem dX14_width_16 : decode cX14_width 16 = .ok (.aload_n 0, 1) := dk_42 (dk_at dksX14_width_0 16 rfl rfl)
theorem dX14_width_17 : decode cX14_width 17 = .ok (.getfield 7, 3) := dk_180 0 7 (dk_at dksX14_width_0 17 rfl rfl)
theorem dX14_width_20 : decode cX14_width 20 = .ok (.iload_n 2, 1) := dk_28 (dk_at dksX14_width_0 20 rfl rfl)
theorem dX14_width_21 : decode cX14_width 21 = .ok (.invokevirtual 40, 3) := dk_182 0 40 (dk_at dksX14_width_0 21 rfl rfl)
theorem dX14_width_24 : decode cX14_width 24 = .ok (.checkcast 44, 3) := dk_192 0 44 (dk_at dksX14_width_1 0 rfl rfl)
theorem dX14_width_27 : decode cX14_width 27 = .ok (.invokevirtual 46, 3) := dk_182 0 46 (dk_at dksX14_width_1 3 rfl rfl)
theorem dX14_width_30 : decode cX14_width 30 = .ok (.iadd, 1) := dk_96 (dk_at dksX14_width_1 6 rfl rfl)
theorem dX14_width_31 : decode cX14_width 31 = .ok (.istore_n 1, 1) := dk_60 (dk_at dksX14_width_1 7 rfl rfl)
theorem dX14_width_32 : decode cX14_width 32 = .ok (.iinc 2 1, 3) := dk_132 2 1 (dk_at dksX14_width_1 8 rfl rfl)
theorem dX14_width_35 : decode cX14_width 35 = .ok (.goto (-31), 3) := dk_167 255 225 (dk_at dksX14_width_1 11 rfl rfl)
theorem dX14_width_38 : decode cX14_width 38 = .ok (.iload_n 1, 1) := dk_27 (dk_at dksX14_width_1 14 rfl rfl)
theorem dX14_width_39 : decode cX14_width 39 = .ok (.ireturn, 1) := dk_172 (dk_at dksX14_width_1 15 rfl rfl)
def f_X14_width (rec : Nat → gw → Option (Int32 × gw)) (a0 : Nat) (w0 : gw) : Option (Int32 × gw) := gL2 (fun k4 (x2 : Int32) (x3 : Int32) (w1 : gw) => gB1 (gR w1 a0 14 1) fun r5 => gB1 r5 fun a6 => gB1 (gOb w1 a6 8) fun _ => gB2 (f_J2_size a6  w1) fun x8 w7 => if x8 ≤ x3 then some (x2, w7) else gB1 (gR w7 a0 14 1) fun r10 => gB1 r10 fun a11 => gB1 (gOb w7 a11 8) fun _ => gB2 (f_J2_get a11 x3 w7) fun r13 w12 => gB1 (gCk w12 [5] r13) fun r14 => gB1 r14 fun a15 => gB1 (gOb w12 a15 5) fun _ => gB2 (f_X5_width rec a15  w12) fun x17 w16 => gBd (x2 + x17) fun x18 => gBd (x3 + (nI 1)) fun x19 => k4 x18 x19 w16) 20000 (nI 0) (nI 0) w0
set_option maxHeartbeats 4000000 in
set_option maxRecDepth 100000 in
theorem k_X14_width {D : va_G} {dA : Nat → ClassId} {A : Nat → Prop} {K : Nat → Nat} {l : Launch} {h : Nat} {rec : Nat → gw → Option (Int32 × gw)} {B : Nat} (hrec : ∀ {h : Nat}, B ≤ h → ∀ {a : Nat} {w0 ww : gw} {rr : Int32}, rec a  w0 = some (rr, ww) → gDp_Node_width D dA A K l h a [] (some (gi rr)) w0 ww) (hb : 3 ≤ B) (hh : B + 2 ≤ h) {a0 : Nat} {w0 ww : gw} {rr : Int32} (hf : f_X14_width rec a0 w0 = some (rr, ww)) : gMet D dA A K l yX14_width (ws_ yX14_width cX14_width 3 (some .int)) h [(ga (some a0))] (some (gi rr)) w0 ww := by
  refine j_start (own := RX14) (by decide +kernel) rfl (Nat.le_of_ble_eq_true rfl) ?_
  intro p e R s m args below meth c C hr hin hw
  unfold f_X14_width at hf
  show gJ D dA A K p l e R s m args below meth c (gEnd D dA A K below args s w0 (some (gi rr)) ww) 3 0 [(0, (ga (some a0)))] [] w0
  refine j_iconst (v := (nI 0)) C dX14_width_0 (by decide) ?_
  refine j_istore_n (lv' := [(1, (gi (nI 0))), (0, (ga (some a0)))]) C dX14_width_1 (by decide) rfl ?_
  refine j_iconst (v := (nI 0)) C dX14_width_2 (by decide) ?_
  refine j_istore_n (lv' := [(2, (gi (nI 0))), (1, (gi (nI 0))), (0, (ga (some a0)))]) C dX14_width_3 (by decide) rfl ?_
  refine j_sub (lv' := [(0, (ga (some a0))), (1, (gi (nI 0))), (2, (gi (nI 0)))]) (gL_cons rfl (gL_cons rfl (gL_cons rfl (gL_nil)))) ?_
  refine gL2_e (fun (x2 : Int32) (x3 : Int32) (w1 : gw) => gJ D dA A K p l e R s m args below meth c (gEnd D dA A K below args s w0 (some (gi rr)) ww) 3 4 [(0, (ga (some a0))), (1, (gi x2)), (2, (gi x3))] [] w1) ?_ _ _ _ _ hf
  intro k4 jk4 x2 x3 w1 hf
  refine j_iload_n C dX14_width_4 rfl ?_
  refine j_aload_n C dX14_width_5 rfl ?_
  replace hf := gB1_e hf
  obtain ⟨r5, er5, hf⟩ := hf
  refine j_get C fl_X14_7_14 dX14_width_6 (gR_F er5) ?_
  replace hf := gB1_e hf
  obtain ⟨a6, ea6, hf⟩ := hf
  subst ea6
  replace hf := gB1_e hf
  obtain ⟨_, eo, hf⟩ := hf
  replace hf := gB2_e hf
  obtain ⟨x8, w7, ew7, hf⟩ := hf
  refine j_callV (As := []) (rest := [(gi x3)]) (v := (some (gi x8))) C (by omega) (k_J2_size (by omega) ew7) (gOb_e eo) rfl q679 q560 q561 q99 q562 ⟨rfl, hd_J2_size⟩ (by decide) rfl (Nat.le_of_ble_eq_true rfl) dX14_width_9 ?_
  refine j_icmp_ge (tgt := 38) C dX14_width_12 (by decide) (fun c9 => ?_) (fun c9 => ?_)
  · replace hf := gIf_t hf c9
    refine j_iload_n C dX14_width_38 rfl ?_
    obtain ⟨rfl, rfl⟩ := gSome hf
    exact j_iret C hr hw dX14_width_39
  · replace hf := gIf_f hf c9
    refine j_iload_n C dX14_width_15 rfl ?_
    refine j_aload_n C dX14_width_16 rfl ?_
    replace hf := gB1_e hf
    obtain ⟨r10, er10, hf⟩ := hf
    refine j_get C fl_X14_7_14 dX14_width_17 (gR_F er10) ?_
    refine j_iload_n C dX14_width_20 rfl ?_
    replace hf := gB1_e hf
    obtain ⟨a11, ea11, hf⟩ := hf
    subst ea11
    replace hf := gB1_e hf
    obtain ⟨_, eo, hf⟩ := hf
    replace hf := gB2_e hf
    obtain ⟨r13, w12, ew12, hf⟩ := hf
    refine j_callV (As := [(gi x3)]) (rest := [(gi x2)]) (v := (some (ga r13))) C (by omega) (k_J2_get (by omega) ew12) (gOb_e eo) rfl q680 q637 q638 q99 q639 ⟨rfl, hd_J2_get⟩ (by decide) rfl (Nat.le_of_ble_eq_true rfl) dX14_width_21 ?_
    replace hf := gB1_e hf
    obtain ⟨r14, er14, hf⟩ := hf
    refine j_castR C q681 ca_WorkflowEngine_Body er14 dX14_width_24 ?_
    replace hf := gB1_e hf
    obtain ⟨a15, ea15, hf⟩ := hf
    subst ea15
    replace hf := gB1_e hf
    obtain ⟨_, eo, hf⟩ := hf
    replace hf := gB2_e hf
    obtain ⟨x17, w16, ew16, hf⟩ := hf
    refine j_callV (As := []) (rest := [(gi x2)]) (v := (some (gi x17))) C (by omega) (k_X5_width hrec hb (by omega) ew16) (gOb_e eo) rfl q704 q689 q690 q96 q691 ⟨rfl, hd_X5_width⟩ (by decide) rfl (Nat.le_of_ble_eq_true rfl) dX14_width_27 ?_
    refine j_iadd C dX14_width_30 ?_
    replace hf := gBd_x hf
    obtain ⟨x18, ex18, hf⟩ := hf
    refine j_nm ex18 ?_
    refine j_istore_n (lv' := [(1, (gi x18)), (0, (ga (some a0))), (2, (gi x3))]) C dX14_width_31 (by decide) rfl ?_
    replace hf := gBd_x hf
    obtain ⟨x19, ex19, hf⟩ := hf
    refine j_iinc (v := x19) (lv' := [(2, (gi x19)), (1, (gi x18)), (0, (ga (some a0)))]) C dX14_width_32 rfl (by rw [ex19]; rfl) (by decide) rfl ?_
    refine j_goto (tgt := 4) C dX14_width_35 (by decide) ?_
    refine j_sub (lv' := [(0, (ga (some a0))), (1, (gi x18)), (2, (gi x19))]) (gL_cons rfl (gL_cons rfl (gL_cons rfl (gL_nil)))) ?_
    exact jk4 _ _ _ hf
def f_Node_width_s (rec : Nat → gw → Option (Int32 × gw)) (a : Nat)  (w0 : gw) : Option (Int32 × gw) := gB1 (gCls w0 a) fun ci => if ci = 9 then f_X8_width a  w0 else if ci = 10 then f_X8_width a  w0 else if ci = 11 then f_X8_width a  w0 else if ci = 12 then f_X8_width a  w0 else if ci = 13 then f_X13_width rec a  w0 else if ci = 14 then f_X14_width rec a  w0 else none
theorem kd_Node_width_s {D : va_G} {dA : Nat → ClassId} {A : Nat → Prop} {K : Nat → Nat} {l : Launch} {h : Nat} {rec : Nat → gw → Option (Int32 × gw)} {B : Nat} (hrec : ∀ {h : Nat}, B ≤ h → ∀ {a : Nat} {w0 ww : gw} {rr : Int32}, rec a  w0 = some (rr, ww) → gDp_Node_width D dA A K l h a [] (some (gi rr)) w0 ww) (hb : 3 ≤ B) (hh : B + 2 ≤ h) {a : Nat}  {w0 ww : gw} {rr : Int32} (hf : f_Node_width_s rec a  w0 = some (rr, ww)) : gDp_Node_width D dA A K l h a [] (some (gi rr)) w0 ww := by
  unfold f_Node_width_s at hf
  unfold gDp_Node_width
  replace hf := gB1_e hf
  obtain ⟨ci, eci, hf⟩ := hf
  by_cases c0 : ci = 9
  · replace hf := gIf_t hf c0
    exact Or.inl ⟨by rw [eci, c0], k_X8_width (by omega) hf⟩
  replace hf := gIf_f hf c0
  by_cases c1 : ci = 10
  · replace hf := gIf_t hf c1
    exact Or.inr (Or.inl ⟨by rw [eci, c1], k_X8_width (by omega) hf⟩)
  replace hf := gIf_f hf c1
  by_cases c2 : ci = 11
  · replace hf := gIf_t hf c2
    exact Or.inr (Or.inr (Or.inl ⟨by rw [eci, c2], k_X8_width (by omega) hf⟩))
  replace hf := gIf_f hf c2
  by_cases c3 : ci = 12
  · replace hf := gIf_t hf c3
    exact Or.inr (Or.inr (Or.inr (Or.inl ⟨by rw [eci, c3], k_X8_width (by omega) hf⟩)))
  replace hf := gIf_f hf c3
  by_cases c4 : ci = 13
  · replace hf := gIf_t hf c4
    exact Or.inr (Or.inr (Or.inr (Or.inr (Or.inl ⟨by rw [eci, c4], k_X13_width hrec hb (by omega) hf⟩))))
  replace hf := gIf_f hf c4
  by_cases c5 : ci = 14
  · replace hf := gIf_t hf c5
    exact Or.inr (Or.inr (Or.inr (Or.inr (Or.inr (⟨by rw [eci, c5], k_X14_width hrec hb (by omega) hf⟩)))))
  replace hf := gIf_f hf c5
  cases hf
def f_Node_width : Nat → Nat → gw → Option (Int32 × gw)
  | 0 => fun _ _ => none
  | d + 1 => f_Node_width_s (f_Node_width d)
theorem kd_Node_width {D : va_G} {dA : Nat → ClassId} {A : Nat → Prop} {K : Nat → Nat} {l : Launch} : ∀ (d : Nat) {h : Nat}, 3 + 2 * d ≤ h → ∀ {a : Nat} {w0 ww : gw} {rr : Int32}, f_Node_width d a  w0 = some (rr, ww) → gDp_Node_width D dA A K l h a [] (some (gi rr)) w0 ww := by
  intro d
  induction d with
  | zero => intro h hh a  w0 ww rr hf; cases hf
  | succ d ih =>
    intro h hh a  w0 ww rr hf
    exact kd_Node_width_s (rec := f_Node_width d) (B := 3 + 2 * d) (fun hh => ih hh) (by omega) (by omega) hf
abbrev f_X5_width_x (a0 : Nat) (w0 : gw) : Option (Int32 × gw) := f_X5_width (f_Node_width 12) a0 w0
theorem k_X5_width_x {D : va_G} {dA : Nat → ClassId} {A : Nat → Prop} {K : Nat → Nat} {l : Launch} {h : Nat} (hh : 28 ≤ h) {a0 : Nat} {w0 ww : gw} {rr : Int32} (hf : f_X5_width_x a0 w0 = some (rr, ww)) : gMet D dA A K l yX5_width (ws_ yX5_width cX5_width 3 (some .int)) h [(ga (some a0))] (some (gi rr)) w0 ww := k_X5_width (fun hh => kd_Node_width 12 hh) (B := 27) (by omega) (by omega) hf
abbrev f_X13_width_x (a0 : Nat) (w0 : gw) : Option (Int32 × gw) := f_X13_width (f_Node_width 12) a0 w0
theorem k_X13_width_x {D : va_G} {dA : Nat → ClassId} {A : Nat → Prop} {K : Nat → Nat} {l : Launch} {h : Nat} (hh : 29 ≤ h) {a0 : Nat} {w0 ww : gw} {rr : Int32} (hf : f_X13_width_x a0 w0 = some (rr, ww)) : gMet D dA A K l yX13_width (ws_ yX13_width cX13_width 1 (some .int)) h [(ga (some a0))] (some (gi rr)) w0 ww := k_X13_width (fun hh => kd_Node_width 12 hh) (B := 27) (by omega) (by omega) hf
abbrev f_X14_width_x (a0 : Nat) (w0 : gw) : Option (Int32 × gw) := f_X14_width (f_Node_width 12) a0 w0
theorem k_X14_width_x {D : va_G} {dA : Nat → ClassId} {A : Nat → Prop} {K : Nat → Nat} {l : Launch} {h : Nat} (hh : 29 ≤ h) {a0 : Nat} {w0 ww : gw} {rr : Int32} (hf : f_X14_width_x a0 w0 = some (rr, ww)) : gMet D dA A K l yX14_width (ws_ yX14_width cX14_width 3 (some .int)) h [(ga (some a0))] (some (gi rr)) w0 ww := k_X14_width (fun hh => kd_Node_width 12 hh) (B := 27) (by omega) (by omega) hf
def dkwX5_depth_1 : List UInt8 := [192, 0, 24, 182, 0, 35, 184, 0, 29, 60, 132, 2, 1, 167, 255, 223, 27, 172]
abbrev dktX5_depth_1 : List UInt8 := dkwX5_depth_1 ++ []
def dkwX5_depth_0 : List UInt8 := [3, 60, 3, 61, 28, 42, 180, 0, 10, 182, 0, 16, 162, 0, 28, 27, 42, 180, 0, 10, 28, 182, 0, 20]
abbrev dktX5_depth_0 : List UInt8 := dkwX5_depth_0 ++ dktX5_depth_1
theorem dksX5_depth_0 : cX5_depth.data.toList.drop 0 = dktX5_depth_0 := by decide +kernel
theorem dksX5_depth_1 : cX5_depth.data.toList.drop 24 = dktX5_depth_1 := dk_seg dksX5_depth_0 24 rfl rfl
theorem dX5_depth_0 : decode cX5_depth 0 = .ok (.iconst 0, 1) := dk_3 (dk_at dksX5_depth_0 0 rfl rfl)
theorem dX5_depth_1 : decode cX5_depth 1 = .ok (.istore_n 1, 1) := dk_60 (dk_at dksX5_depth_0 1 rfl rfl)
theorem dX5_depth_2 : decode cX5_depth 2 = .ok (.iconst 0, 1) := dk_3 (dk_at dksX5_depth_0 2 rfl rfl)
theorem dX5_depth_3 : decode cX5_depth 3 = .ok (.istore_n 2, 1) := dk_61 (dk_at dksX5_depth_0 3 rfl rfl)
theorem dX5_depth_4 : decode cX5_depth 4 = .ok (.iload_n 2, 1) := dk_28 (dk_at dksX5_depth_0 4 rfl rfl)
theorem dX5_depth_5 : decode cX5_depth 5 = .ok (.aload_n 0, 1) := dk_42 (dk_at dksX5_depth_0 5 rfl rfl)
theorem dX5_depth_6 : decode cX5_depth 6 = .ok (.getfield 10, 3) := dk_180 0 10 (dk_at dksX5_depth_0 6 rfl rfl)
theorem dX5_depth_9 : decode cX5_depth 9 = .ok (.invokevirtual 16, 3) := dk_182 0 16 (dk_at dksX5_depth_0 9 rfl rfl)
theorem dX5_depth_12 : decode cX5_depth 12 = .ok (.if_icmp .ge 28, 3) := dk_162 0 28 (dk_at dksX5_depth_0 12 rfl rfl)
theorem dX5_depth_15 : decode cX5_depth 15 = .ok (.iload_n 1, 1) := dk_27 (dk_at dksX5_depth_0 15 rfl rfl)
theorem dX5_depth_16 : decode cX5_depth 16 = .ok (.aload_n 0, 1) := dk_42 (dk_at dksX5_depth_0 16 rfl rfl)
theorem dX5_depth_17 : decode cX5_depth 17 = .ok (.getfield 10, 3) := dk_180 0 10 (dk_at dksX5_depth_0 17 rfl rfl)
theorem dX5_depth_20 : decode cX5_depth 20 = .ok (.iload_n 2, 1) := dk_28 (dk_at dksX5_depth_0 20 rfl rfl)
theorem dX5_depth_21 : decode cX5_depth 21 = .ok (.invokevirtual 20, 3) := dk_182 0 20 (dk_at dksX5_depth_0 21 rfl rfl)
theorem dX5_depth_24 : decode cX5_depth 24 = .ok (.checkcast 24, 3) := dk_192 0 24 (dk_at dksX5_depth_1 0 rfl rfl)
theorem dX5_depth_27 : decode cX5_depth 27 = .ok (.invokevirtual 35, 3) := dk_182 0 35 (dk_at dksX5_depth_1 3 rfl rfl)
theorem dX5_depth_30 : decode cX5_depth 30 = .ok (.invokestatic 29, 3) := dk_184 0 29 (dk_at dksX5_depth_1 6 rfl rfl)
theorem dX5_depth_33 : decode cX5_depth 33 = .ok (.istore_n 1, 1) := dk_60 (dk_at dksX5_depth_1 9 rfl rfl)
theorem dX5_depth_34 : decode cX5_depth 34 = .ok (.iinc 2 1, 3) := dk_132 2 1 (dk_at dksX5_depth_1 10 rfl rfl)
theorem dX5_depth_37 : decode cX5_depth 37 = .ok (.goto (-33), 3) := dk_167 255 223 (dk_at dksX5_depth_1 13 rfl rfl)
theorem dX5_depth_40 : decode cX5_depth 40 = .ok (.iload_n 1, 1) := dk_27 (dk_at dksX5_depth_1 16 rfl rfl)
theorem dX5_depth_41 : decode cX5_depth 41 = .ok (.ireturn, 1) := dk_172 (dk_at dksX5_depth_1 17 rfl rfl)
def f_X5_depth (rec : Nat → gw → Option (Int32 × gw)) (a0 : Nat) (w0 : gw) : Option (Int32 × gw) := gL2 (fun k4 (x2 : Int32) (x3 : Int32) (w1 : gw) => gB1 (gR w1 a0 5 0) fun r5 => gB1 r5 fun a6 => gB1 (gOb w1 a6 8) fun _ => gB2 (f_J2_size a6  w1) fun x8 w7 => if x8 ≤ x3 then some (x2, w7) else gB1 (gR w7 a0 5 0) fun r10 => gB1 r10 fun a11 => gB1 (gOb w7 a11 8) fun _ => gB2 (f_J2_get a11 x3 w7) fun r13 w12 => gB1 (gCk w12 [9, 10, 11, 12, 13, 14] r13) fun r14 => gB1 r14 fun a15 => gB2 (rec a15  w12) fun x17 w16 => gB2 (f_J6_max x2 x17 w16) fun x19 w18 => gBd (x3 + (nI 1)) fun x20 => k4 x19 x20 w18) 20000 (nI 0) (nI 0) w0
set_option maxHeartbeats 4000000 in
set_option maxRecDepth 100000 in
theorem k_X5_depth {D : va_G} {dA : Nat → ClassId} {A : Nat → Prop} {K : Nat → Nat} {l : Launch} {h : Nat} {rec : Nat → gw → Option (Int32 × gw)} {B : Nat} (hrec : ∀ {h : Nat}, B ≤ h → ∀ {a : Nat} {w0 ww : gw} {rr : Int32}, rec a  w0 = some (rr, ww) → gDp_Node_depth D dA A K l h a [] (some (gi rr)) w0 ww) (hb : 3 ≤ B) (hh : B + 1 ≤ h) {a0 : Nat} {w0 ww : gw} {rr : Int32} (hf : f_X5_depth rec a0 w0 = some (rr, ww)) : gMet D dA A K l yX5_depth (ws_ yX5_depth cX5_depth 3 (some .int)) h [(ga (some a0))] (some (gi rr)) w0 ww := by
  refine j_start (own := RX5) (by decide +kernel) rfl (Nat.le_of_ble_eq_true rfl) ?_
  intro p e R s m args below meth c C hr hin hw
  unfold f_X5_depth at hf
  show gJ D dA A K p l e R s m args below meth c (gEnd D dA A K below args s w0 (some (gi rr)) ww) 3 0 [(0, (ga (some a0)))] [] w0
  refine j_iconst (v := (nI 0)) C dX5_depth_0 (by decide) ?_
  refine j_istore_n (lv' := [(1, (gi (nI 0))), (0, (ga (some a0)))]) C dX5_depth_1 (by decide) rfl ?_
  refine j_iconst (v := (nI 0)) C dX5_depth_2 (by decide) ?_
  refine j_istore_n (lv' := [(2, (gi (nI 0))), (1, (gi (nI 0))), (0, (ga (some a0)))]) C dX5_depth_3 (by decide) rfl ?_
  refine j_sub (lv' := [(0, (ga (some a0))), (1, (gi (nI 0))), (2, (gi (nI 0)))]) (gL_cons rfl (gL_cons rfl (gL_cons rfl (gL_nil)))) ?_
  refine gL2_e (fun (x2 : Int32) (x3 : Int32) (w1 : gw) => gJ D dA A K p l e R s m args below meth c (gEnd D dA A K below args s w0 (some (gi rr)) ww) 3 4 [(0, (ga (some a0))), (1, (gi x2)), (2, (gi x3))] [] w1) ?_ _ _ _ _ hf
  intro k4 jk4 x2 x3 w1 hf
  refine j_iload_n C dX5_depth_4 rfl ?_
  refine j_aload_n C dX5_depth_5 rfl ?_
  replace hf := gB1_e hf
  obtain ⟨r5, er5, hf⟩ := hf
  refine j_get C fl_X5_10_5 dX5_depth_6 (gR_F er5) ?_
  replace hf := gB1_e hf
  obtain ⟨a6, ea6, hf⟩ := hf
  subst ea6
  replace hf := gB1_e hf
  obtain ⟨_, eo, hf⟩ := hf
  replace hf := gB2_e hf
  obtain ⟨x8, w7, ew7, hf⟩ := hf
  refine j_callV (As := []) (rest := [(gi x3)]) (v := (some (gi x8))) C (by omega) (k_J2_size (by omega) ew7) (gOb_e eo) rfl q635 q560 q561 q99 q562 ⟨rfl, hd_J2_size⟩ (by decide) rfl (Nat.le_of_ble_eq_true rfl) dX5_depth_9 ?_
  refine j_icmp_ge (tgt := 40) C dX5_depth_12 (by decide) (fun c9 => ?_) (fun c9 => ?_)
  · replace hf := gIf_t hf c9
    refine j_iload_n C dX5_depth_40 rfl ?_
    obtain ⟨rfl, rfl⟩ := gSome hf
    exact j_iret C hr hw dX5_depth_41
  · replace hf := gIf_f hf c9
    refine j_iload_n C dX5_depth_15 rfl ?_
    refine j_aload_n C dX5_depth_16 rfl ?_
    replace hf := gB1_e hf
    obtain ⟨r10, er10, hf⟩ := hf
    refine j_get C fl_X5_10_5 dX5_depth_17 (gR_F er10) ?_
    refine j_iload_n C dX5_depth_20 rfl ?_
    replace hf := gB1_e hf
    obtain ⟨a11, ea11, hf⟩ := hf
    subst ea11
    replace hf := gB1_e hf
    obtain ⟨_, eo, hf⟩ := hf
    replace hf := gB2_e hf
    obtain ⟨r13, w12, ew12, hf⟩ := hf
    refine j_callV (As := [(gi x3)]) (rest := [(gi x2)]) (v := (some (ga r13))) C (by omega) (k_J2_get (by omega) ew12) (gOb_e eo) rfl q636 q637 q638 q99 q639 ⟨rfl, hd_J2_get⟩ (by decide) rfl (Nat.le_of_ble_eq_true rfl) dX5_depth_21 ?_
    replace hf := gB1_e hf
    obtain ⟨r14, er14, hf⟩ := hf
    refine j_castR C q650 ca_WorkflowEngine_Node er14 dX5_depth_24 ?_
    replace hf := gB1_e hf
    obtain ⟨a15, ea15, hf⟩ := hf
    subst ea15
    replace hf := gB2_e hf
    obtain ⟨x17, w16, ew16, hf⟩ := hf
    refine j_dp_Node_depth (As := []) (rest := [(gi x2)]) (v := (some (gi x17))) C (by omega) (hrec (by omega) ew16) q666 rfl (Nat.le_of_ble_eq_true rfl) dX5_depth_27 ?_
    replace hf := gB2_e hf
    obtain ⟨x19, w18, ew18, hf⟩ := hf
    refine j_callS (As := [(gi x2), (gi x17)]) (rest := []) (v := (some (gi x19))) C (by omega) (k_J6_max (by omega) ew18) q687 q501 q111 q502 hd_J6_max (by decide) rfl (Nat.le_of_ble_eq_true rfl) dX5_depth_30 ?_
    refine j_istore_n (lv' := [(1, (gi x19)), (0, (ga (some a0))), (2, (gi x3))]) C dX5_depth_33 (by decide) rfl ?_
    replace hf := gBd_x hf
    obtain ⟨x20, ex20, hf⟩ := hf
    refine j_iinc (v := x20) (lv' := [(2, (gi x20)), (1, (gi x19)), (0, (ga (some a0)))]) C dX5_depth_34 rfl (by rw [ex20]; rfl) (by decide) rfl ?_
    refine j_goto (tgt := 4) C dX5_depth_37 (by decide) ?_
    refine j_sub (lv' := [(0, (ga (some a0))), (1, (gi x19)), (2, (gi x20))]) (gL_cons rfl (gL_cons rfl (gL_cons rfl (gL_nil)))) ?_
    exact jk4 _ _ _ hf
def dkwX13_depth_0 : List UInt8 := [4, 42, 180, 0, 16, 182, 0, 56, 42, 180, 0, 20, 182, 0, 56, 184, 0, 50, 96, 172]
abbrev dktX13_depth_0 : List UInt8 := dkwX13_depth_0 ++ []
theorem dksX13_depth_0 : cX13_depth.data.toList.drop 0 = dktX13_depth_0 := by decide +kernel
theorem dX13_depth_0 : decode cX13_depth 0 = .ok (.iconst 1, 1) := dk_4 (dk_at dksX13_depth_0 0 rfl rfl)
theorem dX13_depth_1 : decode cX13_depth 1 = .ok (.aload_n 0, 1) := dk_42 (dk_at dksX13_depth_0 1 rfl rfl)
theorem dX13_depth_2 : decode cX13_depth 2 = .ok (.getfield 16, 3) := dk_180 0 16 (dk_at dksX13_depth_0 2 rfl rfl)
theorem dX13_depth_5 : decode cX13_depth 5 = .ok (.invokevirtual 56, 3) := dk_182 0 56 (dk_at dksX13_depth_0 5 rfl rfl)
theorem dX13_depth_8 : decode cX13_depth 8 = .ok (.aload_n 0, 1) := dk_42 (dk_at dksX13_depth_0 8 rfl rfl)
theorem dX13_depth_9 : decode cX13_depth 9 = .ok (.getfield 20, 3) := dk_180 0 20 (dk_at dksX13_depth_0 9 rfl rfl)
theorem dX13_depth_12 : decode cX13_depth 12 = .ok (.invokevirtual 56, 3) := dk_182 0 56 (dk_at dksX13_depth_0 12 rfl rfl)
theorem dX13_depth_15 : decode cX13_depth 15 = .ok (.invokestatic 50, 3) := dk_184 0 50 (dk_at dksX13_depth_0 15 rfl rfl)
theorem dX13_depth_18 : decode cX13_depth 18 = .ok (.iadd, 1) := dk_96 (dk_at dksX13_depth_0 18 rfl rfl)
theorem dX13_depth_19 : decode cX13_depth 19 = .ok (.ireturn, 1) := dk_172 (dk_at dksX13_depth_0 19 rfl rfl)
theorem hd_X5_depth : (yX5_depth.cls ≠ "java/lang/invoke/MethodHandle" ∧ yX5_depth.cls ≠ "java/lang/invoke/VarHandle" ∧ (parseMethodDescriptor yX5_depth.desc).map (fun d => d.parameters.length) = some 0) := ⟨by decide +kernel, by decide +kernel, by decide +kernel⟩
def f_X13_depth (rec : Nat → gw → Option (Int32 × gw)) (a0 : Nat) (w0 : gw) : Option (Int32 × gw) := gB1 (gR w0 a0 13 3) fun r1 => gB1 r1 fun a2 => gB1 (gOb w0 a2 5) fun _ => gB2 (f_X5_depth rec a2  w0) fun x4 w3 => gB1 (gR w3 a0 13 4) fun r5 => gB1 r5 fun a6 => gB1 (gOb w3 a6 5) fun _ => gB2 (f_X5_depth rec a6  w3) fun x8 w7 => gB2 (f_J6_max x4 x8 w7) fun x10 w9 => some (((nI 1) + x10), w9)
set_option maxHeartbeats 4000000 in
set_option maxRecDepth 100000 in
theorem k_X13_depth {D : va_G} {dA : Nat → ClassId} {A : Nat → Prop} {K : Nat → Nat} {l : Launch} {h : Nat} {rec : Nat → gw → Option (Int32 × gw)} {B : Nat} (hrec : ∀ {h : Nat}, B ≤ h → ∀ {a : Nat} {w0 ww : gw} {rr : Int32}, rec a  w0 = some (rr, ww) → gDp_Node_depth D dA A K l h a [] (some (gi rr)) w0 ww) (hb : 3 ≤ B) (hh : B + 2 ≤ h) {a0 : Nat} {w0 ww : gw} {rr : Int32} (hf : f_X13_depth rec a0 w0 = some (rr, ww)) : gMet D dA A K l yX13_depth (ws_ yX13_depth cX13_depth 1 (some .int)) h [(ga (some a0))] (some (gi rr)) w0 ww := by
  refine j_start (own := RX13) (by decide +kernel) rfl (Nat.le_of_ble_eq_true rfl) ?_
  intro p e R s m args below meth c C hr hin hw
  unfold f_X13_depth at hf
  show gJ D dA A K p l e R s m args below meth c (gEnd D dA A K below args s w0 (some (gi rr)) ww) 1 0 [(0, (ga (some a0)))] [] w0
  refine j_iconst (v := (nI 1)) C dX13_depth_0 (by decide) ?_
  refine j_aload_n C dX13_depth_1 rfl ?_
  replace hf := gB1_e hf
  obtain ⟨r1, er1, hf⟩ := hf
  refine j_get C fl_X13_16_13 dX13_depth_2 (gR_F er1) ?_
  replace hf := gB1_e hf
  obtain ⟨a2, ea2, hf⟩ := hf
  subst ea2
  replace hf := gB1_e hf
  obtain ⟨_, eo, hf⟩ := hf
  replace hf := gB2_e hf
  obtain ⟨x4, w3, ew3, hf⟩ := hf
  refine j_callV (As := []) (rest := [(gi (nI 1))]) (v := (some (gi x4))) C (by omega) (k_X5_depth hrec hb (by omega) ew3) (gOb_e eo) rfl q674 q663 q664 q96 q665 ⟨rfl, hd_X5_depth⟩ (by decide) rfl (Nat.le_of_ble_eq_true rfl) dX13_depth_5 ?_
  refine j_aload_n C dX13_depth_8 rfl ?_
  replace hf := gB1_e hf
  obtain ⟨r5, er5, hf⟩ := hf
  refine j_get C fl_X13_20_13 dX13_depth_9 (gR_F er5) ?_
  replace hf := gB1_e hf
  obtain ⟨a6, ea6, hf⟩ := hf
  subst ea6
  replace hf := gB1_e hf
  obtain ⟨_, eo, hf⟩ := hf
  replace hf := gB2_e hf
  obtain ⟨x8, w7, ew7, hf⟩ := hf
  refine j_callV (As := []) (rest := [(gi x4), (gi (nI 1))]) (v := (some (gi x8))) C (by omega) (k_X5_depth hrec hb (by omega) ew7) (gOb_e eo) rfl q674 q663 q664 q96 q665 ⟨rfl, hd_X5_depth⟩ (by decide) rfl (Nat.le_of_ble_eq_true rfl) dX13_depth_12 ?_
  replace hf := gB2_e hf
  obtain ⟨x10, w9, ew9, hf⟩ := hf
  refine j_callS (As := [(gi x4), (gi x8)]) (rest := [(gi (nI 1))]) (v := (some (gi x10))) C (by omega) (k_J6_max (by omega) ew9) q675 q501 q111 q502 hd_J6_max (by decide) rfl (Nat.le_of_ble_eq_true rfl) dX13_depth_15 ?_
  refine j_iadd C dX13_depth_18 ?_
  obtain ⟨rfl, rfl⟩ := gSome hf
  exact j_iret C hr hw dX13_depth_19
def dkwX14_depth_1 : List UInt8 := [192, 0, 44, 182, 0, 49, 184, 0, 52, 60, 132, 2, 1, 167, 255, 223, 4, 27, 96, 172]
abbrev dktX14_depth_1 : List UInt8 := dkwX14_depth_1 ++ []
def dkwX14_depth_0 : List UInt8 := [3, 60, 3, 61, 28, 42, 180, 0, 7, 182, 0, 34, 162, 0, 28, 27, 42, 180, 0, 7, 28, 182, 0, 40]
abbrev dktX14_depth_0 : List UInt8 := dkwX14_depth_0 ++ dktX14_depth_1
theorem dksX14_depth_0 : cX14_depth.data.toList.drop 0 = dktX14_depth_0 := by decide +kernel
theorem dksX14_depth_1 : cX14_depth.data.toList.drop 24 = dktX14_depth_1 := dk_seg dksX14_depth_0 24 rfl rfl
theorem dX14_depth_0 : decode cX14_depth 0 = .ok (.iconst 0, 1) := dk_3 (dk_at dksX14_depth_0 0 rfl rfl)
theorem dX14_depth_1 : decode cX14_depth 1 = .ok (.istore_n 1, 1) := dk_60 (dk_at dksX14_depth_0 1 rfl rfl)
theorem dX14_depth_2 : decode cX14_depth 2 = .ok (.iconst 0, 1) := dk_3 (dk_at dksX14_depth_0 2 rfl rfl)
theorem dX14_depth_3 : decode cX14_depth 3 = .ok (.istore_n 2, 1) := dk_61 (dk_at dksX14_depth_0 3 rfl rfl)
theorem dX14_depth_4 : decode cX14_depth 4 = .ok (.iload_n 2, 1) := dk_28 (dk_at dksX14_depth_0 4 rfl rfl)
theorem dX14_depth_5 : decode cX14_depth 5 = .ok (.aload_n 0, 1) := dk_42 (dk_at dksX14_depth_0 5 rfl rfl)
theorem dX14_depth_6 : decode cX14_depth 6 = .ok (.getfield 7, 3) := dk_180 0 7 (dk_at dksX14_depth_0 6 rfl rfl)
theorem dX14_depth_9 : decode cX14_depth 9 = .ok (.invokevirtual 34, 3) := dk_182 0 34 (dk_at dksX14_depth_0 9 rfl rfl)
theorem dX14_depth_12 : decode cX14_depth 12 = .ok (.if_icmp .ge 28, 3) := dk_162 0 28 (dk_at dksX14_depth_0 12 rfl rfl)
theorem dX14_depth_15 : decode cX14_depth 15 = .ok (.iload_n 1, 1) := dk_27 (dk_at dksX14_depth_0 15 rfl rfl)
theorem dX14_depth_16 : decode cX14_depth 16 = .ok (.aload_n 0, 1) := dk_42 (dk_at dksX14_depth_0 16 rfl rfl)
theorem dX14_depth_17 : decode cX14_depth 17 = .ok (.getfield 7, 3) := dk_180 0 7 (dk_at dksX14_depth_0 17 rfl rfl)
theorem dX14_depth_20 : decode cX14_depth 20 = .ok (.iload_n 2, 1) := dk_28 (dk_at dksX14_depth_0 20 rfl rfl)
theorem dX14_depth_21 : decode cX14_depth 21 = .ok (.invokevirtual 40, 3) := dk_182 0 40 (dk_at dksX14_depth_0 21 rfl rfl)
theorem dX14_depth_24 : decode cX14_depth 24 = .ok (.checkcast 44, 3) := dk_192 0 44 (dk_at dksX14_depth_1 0 rfl rfl)
theorem dX14_depth_27 : decode cX14_depth 27 = .ok (.invokevirtual 49, 3) := dk_182 0 49 (dk_at dksX14_depth_1 3 rfl rfl)
theorem dX14_depth_30 : decode cX14_depth 30 = .ok (.invokestatic 52, 3) := dk_184 0 52 (dk_at dksX14_depth_1 6 rfl rfl)
theorem dX14_depth_33 : decode cX14_depth 33 = .ok (.istore_n 1, 1) := dk_60 (dk_at dksX14_depth_1 9 rfl rfl)
theorem dX14_depth_34 : decode cX14_depth 34 = .ok (.iinc 2 1, 3) := dk_132 2 1 (dk_at dksX14_depth_1 10 rfl rfl)
theorem dX14_depth_37 : decode cX14_depth 37 = .ok (.goto (-33), 3) := dk_167 255 223 (dk_at dksX14_depth_1 13 rfl rfl)
theorem dX14_depth_40 : decode cX14_depth 40 = .ok (.iconst 1, 1) := dk_4 (dk_at dksX14_depth_1 16 rfl rfl)
theorem dX14_depth_41 : decode cX14_depth 41 = .ok (.iload_n 1, 1) := dk_27 (dk_at dksX14_depth_1 17 rfl rfl)
theorem dX14_depth_42 : decode cX14_depth 42 = .ok (.iadd, 1) := dk_96 (dk_at dksX14_depth_1 18 rfl rfl)
theorem dX14_depth_43 : decode cX14_depth 43 = .ok (.ireturn, 1) := dk_172 (dk_at dksX14_depth_1 19 rfl rfl)
def f_X14_depth (rec : Nat → gw → Option (Int32 × gw)) (a0 : Nat) (w0 : gw) : Option (Int32 × gw) := gL2 (fun k4 (x2 : Int32) (x3 : Int32) (w1 : gw) => gB1 (gR w1 a0 14 1) fun r5 => gB1 r5 fun a6 => gB1 (gOb w1 a6 8) fun _ => gB2 (f_J2_size a6  w1) fun x8 w7 => if x8 ≤ x3 then some (((nI 1) + x2), w7) else gB1 (gR w7 a0 14 1) fun r10 => gB1 r10 fun a11 => gB1 (gOb w7 a11 8) fun _ => gB2 (f_J2_get a11 x3 w7) fun r13 w12 => gB1 (gCk w12 [5] r13) fun r14 => gB1 r14 fun a15 => gB1 (gOb w12 a15 5) fun _ => gB2 (f_X5_depth rec a15  w12) fun x17 w16 => gB2 (f_J6_max x2 x17 w16) fun x19 w18 => gBd (x3 + (nI 1)) fun x20 => k4 x19 x20 w18) 20000 (nI 0) (nI 0) w0
set_option maxHeartbeats 4000000 in
set_option maxRecDepth 100000 in
theorem k_X14_depth {D : va_G} {dA : Nat → ClassId} {A : Nat → Prop} {K : Nat → Nat} {l : Launch} {h : Nat} {rec : Nat → gw → Option (Int32 × gw)} {B : Nat} (hrec : ∀ {h : Nat}, B ≤ h → ∀ {a : Nat} {w0 ww : gw} {rr : Int32}, rec a  w0 = some (rr, ww) → gDp_Node_depth D dA A K l h a [] (some (gi rr)) w0 ww) (hb : 3 ≤ B) (hh : B + 2 ≤ h) {a0 : Nat} {w0 ww : gw} {rr : Int32} (hf : f_X14_depth rec a0 w0 = some (rr, ww)) : gMet D dA A K l yX14_depth (ws_ yX14_depth cX14_depth 3 (some .int)) h [(ga (some a0))] (some (gi rr)) w0 ww := by
  refine j_start (own := RX14) (by decide +kernel) rfl (Nat.le_of_ble_eq_true rfl) ?_
  intro p e R s m args below meth c C hr hin hw
  unfold f_X14_depth at hf
  show gJ D dA A K p l e R s m args below meth c (gEnd D dA A K below args s w0 (some (gi rr)) ww) 3 0 [(0, (ga (some a0)))] [] w0
  refine j_iconst (v := (nI 0)) C dX14_depth_0 (by decide) ?_
  refine j_istore_n (lv' := [(1, (gi (nI 0))), (0, (ga (some a0)))]) C dX14_depth_1 (by decide) rfl ?_
  refine j_iconst (v := (nI 0)) C dX14_depth_2 (by decide) ?_
  refine j_istore_n (lv' := [(2, (gi (nI 0))), (1, (gi (nI 0))), (0, (ga (some a0)))]) C dX14_depth_3 (by decide) rfl ?_
  refine j_sub (lv' := [(0, (ga (some a0))), (1, (gi (nI 0))), (2, (gi (nI 0)))]) (gL_cons rfl (gL_cons rfl (gL_cons rfl (gL_nil)))) ?_
  refine gL2_e (fun (x2 : Int32) (x3 : Int32) (w1 : gw) => gJ D dA A K p l e R s m args below meth c (gEnd D dA A K below args s w0 (some (gi rr)) ww) 3 4 [(0, (ga (some a0))), (1, (gi x2)), (2, (gi x3))] [] w1) ?_ _ _ _ _ hf
  intro k4 jk4 x2 x3 w1 hf
  refine j_iload_n C dX14_depth_4 rfl ?_
  refine j_aload_n C dX14_depth_5 rfl ?_
  replace hf := gB1_e hf
  obtain ⟨r5, er5, hf⟩ := hf
  refine j_get C fl_X14_7_14 dX14_depth_6 (gR_F er5) ?_
  replace hf := gB1_e hf
  obtain ⟨a6, ea6, hf⟩ := hf
  subst ea6
  replace hf := gB1_e hf
  obtain ⟨_, eo, hf⟩ := hf
  replace hf := gB2_e hf
  obtain ⟨x8, w7, ew7, hf⟩ := hf
  refine j_callV (As := []) (rest := [(gi x3)]) (v := (some (gi x8))) C (by omega) (k_J2_size (by omega) ew7) (gOb_e eo) rfl q679 q560 q561 q99 q562 ⟨rfl, hd_J2_size⟩ (by decide) rfl (Nat.le_of_ble_eq_true rfl) dX14_depth_9 ?_
  refine j_icmp_ge (tgt := 40) C dX14_depth_12 (by decide) (fun c9 => ?_) (fun c9 => ?_)
  · replace hf := gIf_t hf c9
    refine j_iconst (v := (nI 1)) C dX14_depth_40 (by decide) ?_
    refine j_iload_n C dX14_depth_41 rfl ?_
    refine j_iadd C dX14_depth_42 ?_
    obtain ⟨rfl, rfl⟩ := gSome hf
    exact j_iret C hr hw dX14_depth_43
  · replace hf := gIf_f hf c9
    refine j_iload_n C dX14_depth_15 rfl ?_
    refine j_aload_n C dX14_depth_16 rfl ?_
    replace hf := gB1_e hf
    obtain ⟨r10, er10, hf⟩ := hf
    refine j_get C fl_X14_7_14 dX14_depth_17 (gR_F er10) ?_
    refine j_iload_n C dX14_depth_20 rfl ?_
    replace hf := gB1_e hf
    obtain ⟨a11, ea11, hf⟩ := hf
    subst ea11
    replace hf := gB1_e hf
    obtain ⟨_, eo, hf⟩ := hf
    replace hf := gB2_e hf
    obtain ⟨r13, w12, ew12, hf⟩ := hf
    refine j_callV (As := [(gi x3)]) (rest := [(gi x2)]) (v := (some (ga r13))) C (by omega) (k_J2_get (by omega) ew12) (gOb_e eo) rfl q680 q637 q638 q99 q639 ⟨rfl, hd_J2_get⟩ (by decide) rfl (Nat.le_of_ble_eq_true rfl) dX14_depth_21 ?_
    replace hf := gB1_e hf
    obtain ⟨r14, er14, hf⟩ := hf
    refine j_castR C q681 ca_WorkflowEngine_Body er14 dX14_depth_24 ?_
    replace hf := gB1_e hf
    obtain ⟨a15, ea15, hf⟩ := hf
    subst ea15
    replace hf := gB1_e hf
    obtain ⟨_, eo, hf⟩ := hf
    replace hf := gB2_e hf
    obtain ⟨x17, w16, ew16, hf⟩ := hf
    refine j_callV (As := []) (rest := [(gi x2)]) (v := (some (gi x17))) C (by omega) (k_X5_depth hrec hb (by omega) ew16) (gOb_e eo) rfl q682 q663 q664 q96 q665 ⟨rfl, hd_X5_depth⟩ (by decide) rfl (Nat.le_of_ble_eq_true rfl) dX14_depth_27 ?_
    replace hf := gB2_e hf
    obtain ⟨x19, w18, ew18, hf⟩ := hf
    refine j_callS (As := [(gi x2), (gi x17)]) (rest := []) (v := (some (gi x19))) C (by omega) (k_J6_max (by omega) ew18) q683 q501 q111 q502 hd_J6_max (by decide) rfl (Nat.le_of_ble_eq_true rfl) dX14_depth_30 ?_
    refine j_istore_n (lv' := [(1, (gi x19)), (0, (ga (some a0))), (2, (gi x3))]) C dX14_depth_33 (by decide) rfl ?_
    replace hf := gBd_x hf
    obtain ⟨x20, ex20, hf⟩ := hf
    refine j_iinc (v := x20) (lv' := [(2, (gi x20)), (1, (gi x19)), (0, (ga (some a0)))]) C dX14_depth_34 rfl (by rw [ex20]; rfl) (by decide) rfl ?_
    refine j_goto (tgt := 4) C dX14_depth_37 (by decide) ?_
    refine j_sub (lv' := [(0, (ga (some a0))), (1, (gi x19)), (2, (gi x20))]) (gL_cons rfl (gL_cons rfl (gL_cons rfl (gL_nil)))) ?_
    exact jk4 _ _ _ hf
def f_Node_depth_s (rec : Nat → gw → Option (Int32 × gw)) (a : Nat)  (w0 : gw) : Option (Int32 × gw) := gB1 (gCls w0 a) fun ci => if ci = 9 then f_X8_depth a  w0 else if ci = 10 then f_X8_depth a  w0 else if ci = 11 then f_X8_depth a  w0 else if ci = 12 then f_X8_depth a  w0 else if ci = 13 then f_X13_depth rec a  w0 else if ci = 14 then f_X14_depth rec a  w0 else none
theorem kd_Node_depth_s {D : va_G} {dA : Nat → ClassId} {A : Nat → Prop} {K : Nat → Nat} {l : Launch} {h : Nat} {rec : Nat → gw → Option (Int32 × gw)} {B : Nat} (hrec : ∀ {h : Nat}, B ≤ h → ∀ {a : Nat} {w0 ww : gw} {rr : Int32}, rec a  w0 = some (rr, ww) → gDp_Node_depth D dA A K l h a [] (some (gi rr)) w0 ww) (hb : 3 ≤ B) (hh : B + 2 ≤ h) {a : Nat}  {w0 ww : gw} {rr : Int32} (hf : f_Node_depth_s rec a  w0 = some (rr, ww)) : gDp_Node_depth D dA A K l h a [] (some (gi rr)) w0 ww := by
  unfold f_Node_depth_s at hf
  unfold gDp_Node_depth
  replace hf := gB1_e hf
  obtain ⟨ci, eci, hf⟩ := hf
  by_cases c0 : ci = 9
  · replace hf := gIf_t hf c0
    exact Or.inl ⟨by rw [eci, c0], k_X8_depth (by omega) hf⟩
  replace hf := gIf_f hf c0
  by_cases c1 : ci = 10
  · replace hf := gIf_t hf c1
    exact Or.inr (Or.inl ⟨by rw [eci, c1], k_X8_depth (by omega) hf⟩)
  replace hf := gIf_f hf c1
  by_cases c2 : ci = 11
  · replace hf := gIf_t hf c2
    exact Or.inr (Or.inr (Or.inl ⟨by rw [eci, c2], k_X8_depth (by omega) hf⟩))
  replace hf := gIf_f hf c2
  by_cases c3 : ci = 12
  · replace hf := gIf_t hf c3
    exact Or.inr (Or.inr (Or.inr (Or.inl ⟨by rw [eci, c3], k_X8_depth (by omega) hf⟩)))
  replace hf := gIf_f hf c3
  by_cases c4 : ci = 13
  · replace hf := gIf_t hf c4
    exact Or.inr (Or.inr (Or.inr (Or.inr (Or.inl ⟨by rw [eci, c4], k_X13_depth hrec hb (by omega) hf⟩))))
  replace hf := gIf_f hf c4
  by_cases c5 : ci = 14
  · replace hf := gIf_t hf c5
    exact Or.inr (Or.inr (Or.inr (Or.inr (Or.inr (⟨by rw [eci, c5], k_X14_depth hrec hb (by omega) hf⟩)))))
  replace hf := gIf_f hf c5
  cases hf
def f_Node_depth : Nat → Nat → gw → Option (Int32 × gw)
  | 0 => fun _ _ => none
  | d + 1 => f_Node_depth_s (f_Node_depth d)
theorem kd_Node_depth {D : va_G} {dA : Nat → ClassId} {A : Nat → Prop} {K : Nat → Nat} {l : Launch} : ∀ (d : Nat) {h : Nat}, 3 + 2 * d ≤ h → ∀ {a : Nat} {w0 ww : gw} {rr : Int32}, f_Node_depth d a  w0 = some (rr, ww) → gDp_Node_depth D dA A K l h a [] (some (gi rr)) w0 ww := by
  intro d
  induction d with
  | zero => intro h hh a  w0 ww rr hf; cases hf
  | succ d ih =>
    intro h hh a  w0 ww rr hf
    exact kd_Node_depth_s (rec := f_Node_depth d) (B := 3 + 2 * d) (fun hh => ih hh) (by omega) (by omega) hf
abbrev f_X5_depth_x (a0 : Nat) (w0 : gw) : Option (Int32 × gw) := f_X5_depth (f_Node_depth 12) a0 w0
theorem k_X5_depth_x {D : va_G} {dA : Nat → ClassId} {A : Nat → Prop} {K : Nat → Nat} {l : Launch} {h : Nat} (hh : 28 ≤ h) {a0 : Nat} {w0 ww : gw} {rr : Int32} (hf : f_X5_depth_x a0 w0 = some (rr, ww)) : gMet D dA A K l yX5_depth (ws_ yX5_depth cX5_depth 3 (some .int)) h [(ga (some a0))] (some (gi rr)) w0 ww := k_X5_depth (fun hh => kd_Node_depth 12 hh) (B := 27) (by omega) (by omega) hf
abbrev f_X13_depth_x (a0 : Nat) (w0 : gw) : Option (Int32 × gw) := f_X13_depth (f_Node_depth 12) a0 w0
theorem k_X13_depth_x {D : va_G} {dA : Nat → ClassId} {A : Nat → Prop} {K : Nat → Nat} {l : Launch} {h : Nat} (hh : 29 ≤ h) {a0 : Nat} {w0 ww : gw} {rr : Int32} (hf : f_X13_depth_x a0 w0 = some (rr, ww)) : gMet D dA A K l yX13_depth (ws_ yX13_depth cX13_depth 1 (some .int)) h [(ga (some a0))] (some (gi rr)) w0 ww := k_X13_depth (fun hh => kd_Node_depth 12 hh) (B := 27) (by omega) (by omega) hf
abbrev f_X14_depth_x (a0 : Nat) (w0 : gw) : Option (Int32 × gw) := f_X14_depth (f_Node_depth 12) a0 w0
theorem k_X14_depth_x {D : va_G} {dA : Nat → ClassId} {A : Nat → Prop} {K : Nat → Nat} {l : Launch} {h : Nat} (hh : 29 ≤ h) {a0 : Nat} {w0 ww : gw} {rr : Int32} (hf : f_X14_depth_x a0 w0 = some (rr, ww)) : gMet D dA A K l yX14_depth (ws_ yX14_depth cX14_depth 3 (some .int)) h [(ga (some a0))] (some (gi rr)) w0 ww := k_X14_depth (fun hh => kd_Node_depth 12 hh) (B := 27) (by omega) (by omega) hf
def dkwX0_version_6 : List UInt8 := [182, 0, 85, 167, 0, 4, 2, 172]
abbrev dktX0_version_6 : List UInt8 := dkwX0_version_6 ++ []
def dkwX0_version_5 : List UInt8 := [180, 0, 67, 182, 0, 79, 167, 0, 23, 25, 5, 180, 0, 82, 167, 0, 15, 25, 5, 180, 0, 67]
abbrev dktX0_version_5 : List UInt8 := dkwX0_version_5 ++ dktX0_version_6
def dkwX0_version_4 : List UInt8 := [25, 5, 180, 0, 67, 182, 0, 71, 167, 0, 45, 25, 5, 180, 0, 67, 182, 0, 76, 167, 0, 34, 25, 5]
abbrev dktX0_version_4 : List UInt8 := dkwX0_version_4 ++ dktX0_version_5
def dkwX0_version_3 : List UInt8 := [170, 0, 0, 0, 0, 0, 87, 0, 0, 0, 0, 0, 0, 0, 4, 0, 0, 0, 35, 0, 0, 0, 46, 0, 0, 0, 57, 0, 0, 0, 68, 0, 0, 0, 76]
abbrev dktX0_version_3 : List UInt8 := dkwX0_version_3 ++ dktX0_version_4
def dkwX0_version_2 : List UInt8 := [172, 42, 180, 0, 48, 7, 27, 104, 21, 4, 96, 50, 58, 5, 29]
abbrev dktX0_version_2 : List UInt8 := dkwX0_version_2 ++ dktX0_version_3
def dkwX0_version_1 : List UInt8 := [167, 0, 4, 28, 54, 4, 21, 4, 3, 42, 180, 0, 40, 27, 46, 4, 100, 184, 0, 5, 154, 0, 5, 2]
abbrev dktX0_version_1 : List UInt8 := dkwX0_version_1 ++ dktX0_version_2
def dkwX0_version_0 : List UInt8 := [27, 184, 0, 36, 154, 0, 5, 2, 172, 28, 2, 160, 0, 14, 42, 180, 0, 40, 27, 46, 4, 100]
abbrev dktX0_version_0 : List UInt8 := dkwX0_version_0 ++ dktX0_version_1
theorem dksX0_version_0 : cX0_version.data.toList.drop 0 = dktX0_version_0 := by decide +kernel
theorem dksX0_version_1 : cX0_version.data.toList.drop 22 = dktX0_version_1 := dk_seg dksX0_version_0 22 rfl rfl
theorem dksX0_version_2 : cX0_version.data.toList.drop 46 = dktX0_version_2 := dk_seg dksX0_version_1 24 rfl rfl
theorem dksX0_version_3 : cX0_version.data.toList.drop 61 = dktX0_version_3 := dk_seg dksX0_version_2 15 rfl rfl
theorem dksX0_version_4 : cX0_version.data.toList.drop 96 = dktX0_version_4 := dk_seg dksX0_version_3 35 rfl rfl
theorem dksX0_version_5 : cX0_version.data.toList.drop 120 = dktX0_version_5 := dk_seg dksX0_version_4 24 rfl rfl
theorem dksX0_version_6 : cX0_version.data.toList.drop 142 = dktX0_version_6 := dk_seg dksX0_version_5 22 rfl rfl
theorem dX0_version_0 : decode cX0_version 0 = .ok (.iload_n 1, 1) := dk_27 (dk_at dksX0_version_0 0 rfl rfl)
theorem dX0_version_1 : decode cX0_version 1 = .ok (.invokestatic 36, 3) := dk_184 0 36 (dk_at dksX0_version_0 1 rfl rfl)
theorem dX0_version_4 : decode cX0_version 4 = .ok (.ifCond .ne 5, 3) := dk_154 0 5 (dk_at dksX0_version_0 4 rfl rfl)
theorem dX0_version_7 : decode cX0_version 7 = .ok (.iconst (-1), 1) := dk_2 (dk_at dksX0_version_0 7 rfl rfl)
theorem dX0_version_8 : decode cX0_version 8 = .ok (.ireturn, 1) := dk_172 (dk_at dksX0_version_0 8 rfl rfl)
theorem dX0_version_9 : decode cX0_version 9 = .ok (.iload_n 2, 1) := dk_28 (dk_at dksX0_version_0 9 rfl rfl)
theorem dX0_version_10 : decode cX0_version 10 = .ok (.iconst (-1), 1) := dk_2 (dk_at dksX0_version_0 10 rfl rfl)
theorem dX0_version_11 : decode cX0_version 11 = .ok (.if_icmp .ne 14, 3) := dk_160 0 14 (dk_at dksX0_version_0 11 rfl rfl)
theorem dX0_version_14 : decode cX0_version 14 = .ok (.aload_n 0, 1) := dk_42 (dk_at dksX0_version_0 14 rfl rfl)
theorem dX0_version_15 : decode cX0_version 15 = .ok (.getfield 40, 3) := dk_180 0 40 (dk_at dksX0_version_0 15 rfl rfl)
theorem dX0_version_18 : decode cX0_version 18 = .ok (.iload_n 1, 1) := dk_27 (dk_at dksX0_version_0 18 rfl rfl)
theorem dX0_version_19 : decode cX0_version 19 = .ok (.iaload, 1) := dk_46 (dk_at dksX0_version_0 19 rfl rfl)
theorem dX0_version_20 : decode cX0_version 20 = .ok (.iconst 1, 1) := dk_4 (dk_at dksX0_version_0 20 rfl rfl)
theorem dX0_version_21 : decode cX0_version 21 = .ok (.isub, 1) := dk_100 (dk_at dksX0_version_0 21 rfl rfl)
theorem dX0_version_22 : decode cX0_version 22 = .ok (.goto 4, 3) := dk_167 0 4 (dk_at dksX0_version_1 0 rfl rfl)
theorem dX0_version_25 : decode cX0_version 25 = .ok (.iload_n 2, 1) := dk_28 (dk_at dksX0_version_1 3 rfl rfl)
theorem dX0_version_26 : decode cX0_version 26 = .ok (.istore 4, 2) := dk_54 4 (dk_at dksX0_version_1 4 rfl rfl)
theorem dX0_version_28 : decode cX0_version 28 = .ok (.iload 4, 2) := dk_21 4 (dk_at dksX0_version_1 6 rfl rfl)
theorem dX0_version_30 : decode cX0_version 30 = .ok (.iconst 0, 1) := dk_3 (dk_at dksX0_version_1 8 rfl rfl)
theorem dX0_version_31 : decode cX0_version 31 = .ok (.aload_n 0, 1) := dk_42 (dk_at dksX0_version_1 9 rfl rfl)
theorem dX0_version_32 : decode cX0_version 32 = .ok (.getfield 40, 3) := dk_180 0 40 (dk_at dksX0_version_1 10 rfl rfl)
theorem dX0_version_35 : decode cX0_version 35 = .ok (.iload_n 1, 1) := dk_27 (dk_at dksX0_version_1 13 rfl rfl)
theorem dX0_version_36 : decode cX0_version 36 = .ok (.iaload, 1) := dk_46 (dk_at dksX0_version_1 14 rfl rfl)
theorem dX0_version_37 : decode cX0_version 37 = .ok (.iconst 1, 1) := dk_4 (dk_at dksX0_version_1 15 rfl rfl)
theorem dX0_version_38 : decode cX0_version 38 = .ok (.isub, 1) := dk_100 (dk_at dksX0_version_1 16 rfl rfl)
theorem dX0_version_39 : decode cX0_version 39 = .ok (.invokestatic 5, 3) := dk_184 0 5 (dk_at dksX0_version_1 17 rfl rfl)
theorem dX0_version_42 : decode cX0_version 42 = .ok (.ifCond .ne 5, 3) := dk_154 0 5 (dk_at dksX0_version_1 20 rfl rfl)
theorem dX0_version_45 : decode cX0_version 45 = .ok (.iconst (-1), 1) := dk_2 (dk_at dksX0_version_1 23 rfl rfl)
theorem dX0_version_46 : decode cX0_version 46 = .ok (.ireturn, 1) := dk_172 (dk_at dksX0_version_2 0 rfl rfl)
theorem dX0_version_47 : decode cX0_version 47 = .ok (.aload_n 0, 1) := dk_42 (dk_at dksX0_version_2 1 rfl rfl)
theorem dX0_version_48 : decode cX0_version 48 = .ok (.getfield 48, 3) := dk_180 0 48 (dk_at dksX0_version_2 2 rfl rfl)
theorem dX0_version_51 : decode cX0_version 51 = .ok (.iconst 4, 1) := dk_7 (dk_at dksX0_version_2 5 rfl rfl)
theorem dX0_version_52 : decode cX0_version 52 = .ok (.iload_n 1, 1) := dk_27 (dk_at dksX0_version_2 6 rfl rfl)
theorem dX0_version_53 : decode cX0_version 53 = .ok (.imul, 1) := dk_104 (dk_at dksX0_version_2 7 rfl rfl)
theorem dX0_version_54 : decode cX0_version 54 = .ok (.iload 4, 2) := dk_21 4 (dk_at dksX0_version_2 8 rfl rfl)
theorem dX0_version_56 : decode cX0_version 56 = .ok (.iadd, 1) := dk_96 (dk_at dksX0_version_2 10 rfl rfl)
theorem dX0_version_57 : decode cX0_version 57 = .ok (.aaload, 1) := dk_50 (dk_at dksX0_version_2 11 rfl rfl)
theorem dX0_version_58 : decode cX0_version 58 = .ok (.astore 5, 2) := dk_58 5 (dk_at dksX0_version_2 12 rfl rfl)
theorem dX0_version_60 : decode cX0_version 60 = .ok (.iload_n 3, 1) := dk_29 (dk_at dksX0_version_2 14 rfl rfl)
theorem dX0_version_61 : decode cX0_version 61 = .ok (.tableswitch 87 0 4 #[35, 46, 57, 68, 76], 35) := by decide +kernel
theorem dX0_version_96 : decode cX0_version 96 = .ok (.aload 5, 2) := dk_25 5 (dk_at dksX0_version_4 0 rfl rfl)
theorem dX0_version_98 : decode cX0_version 98 = .ok (.getfield 67, 3) := dk_180 0 67 (dk_at dksX0_version_4 2 rfl rfl)
theorem dX0_version_101 : decode cX0_version 101 = .ok (.invokevirtual 71, 3) := dk_182 0 71 (dk_at dksX0_version_4 5 rfl rfl)
theorem dX0_version_104 : decode cX0_version 104 = .ok (.goto 45, 3) := dk_167 0 45 (dk_at dksX0_version_4 8 rfl rfl)
theorem dX0_version_107 : decode cX0_version 107 = .ok (.aload 5, 2) := dk_25 5 (dk_at dksX0_version_4 11 rfl rfl)
theorem dX0_version_109 : decode cX0_version 109 = .ok (.getfield 67, 3) := dk_180 0 67 (dk_at dksX0_version_4 13 rfl rfl)
theorem dX0_version_112 : decode cX0_version 112 = .ok (.invokevirtual 76, 3) := dk_182 0 76 (dk_at dksX0_version_4 16 rfl rfl)
theorem dX0_version_115 : decode cX0_version 115 = .ok (.goto 34, 3) := dk_167 0 34 (dk_at dksX0_version_4 19 rfl rfl)
theorem dX0_version_118 : decode cX0_version 118 = .ok (.aload 5, 2) := dk_25 5 (dk_at dksX0_version_4 22 rfl rfl)
theorem dX0_version_120 : decode cX0_version 120 = .ok (.getfield 67, 3) := dk_180 0 67 (dk_at dksX0_version_5 0 rfl rfl)
theorem dX0_version_123 : decode cX0_version 123 = .ok (.invokevirtual 79, 3) := dk_182 0 79 (dk_at dksX0_version_5 3 rfl rfl)
theorem dX0_version_126 : decode cX0_version 126 = .ok (.goto 23, 3) := dk_167 0 23 (dk_at dksX0_version_5 6 rfl rfl)
theorem dX0_version_129 : decode cX0_version 129 = .ok (.aload 5, 2) := dk_25 5 (dk_at dksX0_version_5 9 rfl rfl)
theorem dX0_version_131 : decode cX0_version 131 = .ok (.getfield 82, 3) := dk_180 0 82 (dk_at dksX0_version_5 11 rfl rfl)
theorem dX0_version_134 : decode cX0_version 134 = .ok (.goto 15, 3) := dk_167 0 15 (dk_at dksX0_version_5 14 rfl rfl)
theorem dX0_version_137 : decode cX0_version 137 = .ok (.aload 5, 2) := dk_25 5 (dk_at dksX0_version_5 17 rfl rfl)
theorem dX0_version_139 : decode cX0_version 139 = .ok (.getfield 67, 3) := dk_180 0 67 (dk_at dksX0_version_5 19 rfl rfl)
theorem dX0_version_142 : decode cX0_version 142 = .ok (.invokevirtual 85, 3) := dk_182 0 85 (dk_at dksX0_version_6 0 rfl rfl)
theorem dX0_version_145 : decode cX0_version 145 = .ok (.goto 4, 3) := dk_167 0 4 (dk_at dksX0_version_6 3 rfl rfl)
theorem dX0_version_148 : decode cX0_version 148 = .ok (.iconst (-1), 1) := dk_2 (dk_at dksX0_version_6 6 rfl rfl)
theorem dX0_version_149 : decode cX0_version 149 = .ok (.ireturn, 1) := dk_172 (dk_at dksX0_version_6 7 rfl rfl)
theorem fl_X0_67_3 : gFL RX0 67 3 0 := gFL.mkN (Cn := RX3) (T := TX3) (N := 2) (ref := "WorkflowEngine$Version") rfl in_X3 (by decide) nq599 rfl rfl (Or.inl rfl)
theorem fl_X0_82_3 : gFL RX0 82 3 1 := gFL.mkN (Cn := RX3) (T := TX3) (N := 2) (ref := "WorkflowEngine$Version") rfl in_X3 (by decide) nq601 rfl rfl (Or.inl rfl)
def f_X0_version (a0 : Nat) (p1 : Int32) (p2 : Int32) (p3 : Int32) (w0 : gw) : Option (Int32 × gw) := gB2 (f_X0_isWorkflow p1 w0) fun x2 w1 => if x2 = 0 then some ((-1), w1) else gBd (fun (x6 : Int32) (x7 : Int32) (x8 : Int32) (w5 : gw) => gB1 (gR w5 a0 0 4) fun r9 => gB1 r9 fun a10 => gB1 (gLdI w5 a10 0 x6) fun x11 => gB2 (f_X0_in x8 (nI 0) (x11 - (nI 1)) w5) fun x13 w12 => if x13 = 0 then some ((-1), w12) else gB1 (gR w12 a0 0 3) fun r15 => gB1 r15 fun a16 => gB1 (gLdR w12 a16 3 (((nI 4) * x6) + x8)) fun r17 => if x7 = (nI 0) then gB1 r17 fun a18 => gB1 (gR w12 a18 3 0) fun r19 => gB1 r19 fun a20 => gB1 (gOb w12 a20 5) fun _ => gB2 (f_X5_items 12 a20  w12) fun x22 w21 => some (x22, w21) else if x7 = (nI 1) then gB1 r17 fun a23 => gB1 (gR w12 a23 3 0) fun r24 => gB1 r24 fun a25 => gB1 (gOb w12 a25 5) fun _ => gB2 (f_X5_tasks 12 a25  w12) fun x27 w26 => some (x27, w26) else if x7 = (nI 2) then gB1 r17 fun a28 => gB1 (gR w12 a28 3 0) fun r29 => gB1 r29 fun a30 => gB1 (gOb w12 a30 5) fun _ => gB2 (f_X5_depth_x a30  w12) fun x32 w31 => some (x32, w31) else if x7 = (nI 3) then gB1 r17 fun a33 => gB1 (gI w12 a33 3 1) fun x34 => some (x34, w12) else if x7 = (nI 4) then gB1 r17 fun a35 => gB1 (gR w12 a35 3 0) fun r36 => gB1 r36 fun a37 => gB1 (gOb w12 a37 5) fun _ => gB2 (f_X5_width_x a37  w12) fun x39 w38 => some (x39, w38) else some ((-1), w12)) fun k4 => if p2 = (-1) then gB1 (gR w1 a0 0 4) fun r41 => gB1 r41 fun a42 => gB1 (gLdI w1 a42 0 p1) fun x43 => k4 p1 p3 (x43 - (nI 1)) w1 else k4 p1 p3 p2 w1
set_option maxHeartbeats 4000000 in
set_option maxRecDepth 100000 in
theorem k_X0_version {D : va_G} {dA : Nat → ClassId} {A : Nat → Prop} {K : Nat → Nat} {l : Launch} {h : Nat} (hh : 29 ≤ h) {a0 : Nat} {p1 : Int32} {p2 : Int32} {p3 : Int32} {w0 ww : gw} {rr : Int32} (hf : f_X0_version a0 p1 p2 p3 w0 = some (rr, ww)) : gMet D dA A K l yX0_version (ws_ yX0_version cX0_version 6 (some .int)) h [(ga (some a0)), (gi p1), (gi p2), (gi p3)] (some (gi rr)) w0 ww := by
  refine j_start (own := RX0) (by decide +kernel) rfl (Nat.le_of_ble_eq_true rfl) ?_
  intro p e R s m args below meth c C hr hin hw
  unfold f_X0_version at hf
  show gJ D dA A K p l e R s m args below meth c (gEnd D dA A K below args s w0 (some (gi rr)) ww) 6 0 [(0, (ga (some a0))), (1, (gi p1)), (2, (gi p2)), (3, (gi p3))] [] w0
  refine j_iload_n C dX0_version_0 rfl ?_
  replace hf := gB2_e hf
  obtain ⟨x2, w1, ew1, hf⟩ := hf
  refine j_callS (As := [(gi p1)]) (rest := []) (v := (some (gi x2))) C (by omega) (k_X0_isWorkflow (by omega) ew1) q146 q147 q91 q148 hd_X0_isWorkflow (by decide) rfl (Nat.le_of_ble_eq_true rfl) dX0_version_1 ?_
  refine j_if_ne (tgt := 9) C dX0_version_4 (by decide) (fun c3 => ?_) (fun c3 => ?_)
  · replace hf := gIf_f hf c3
    refine j_iload_n C dX0_version_9 rfl ?_
    refine j_iconst (v := (-1)) C dX0_version_10 (by decide) ?_
    replace hf := gBd_x hf
    obtain ⟨k4, ek4, hf⟩ := hf
    have jk4 : ∀ (x6 : Int32) (x7 : Int32) (x8 : Int32) (w5 : gw), k4 x6 x7 x8 w5 = some (rr, ww) → gJ D dA A K p l e R s m args below meth c (gEnd D dA A K below args s w0 (some (gi rr)) ww) 6 26 [(0, (ga (some a0))), (1, (gi x6)), (3, (gi x7))] [(gi x8)] w5 := by
      intro x6 x7 x8 w5 hf
      rw [ek4] at hf
      dsimp only at hf
      refine j_istore (lv' := [(4, (gi x8)), (0, (ga (some a0))), (1, (gi x6)), (3, (gi x7))]) C dX0_version_26 (by decide) rfl ?_
      refine j_iload C dX0_version_28 rfl ?_
      refine j_iconst (v := (nI 0)) C dX0_version_30 (by decide) ?_
      refine j_aload_n C dX0_version_31 rfl ?_
      replace hf := gB1_e hf
      obtain ⟨r9, er9, hf⟩ := hf
      refine j_get C fl_X0_40_0 dX0_version_32 (gR_F er9) ?_
      refine j_iload_n C dX0_version_35 rfl ?_
      replace hf := gB1_e hf
      obtain ⟨a10, ea10, hf⟩ := hf
      subst ea10
      replace hf := gB1_e hf
      obtain ⟨x11, ex11, hf⟩ := hf
      refine j_iald C ex11 dX0_version_36 ?_
      refine j_iconst (v := (nI 1)) C dX0_version_37 (by decide) ?_
      refine j_isub C dX0_version_38 ?_
      replace hf := gB2_e hf
      obtain ⟨x13, w12, ew12, hf⟩ := hf
      refine j_callS (As := [(gi x8), (gi (nI 0)), (gi (x11 - (nI 1)))]) (rest := []) (v := (some (gi x13))) C (by omega) (k_X0_in (by omega) ew12) q138 q139 q91 q140 hd_X0_in (by decide) rfl (Nat.le_of_ble_eq_true rfl) dX0_version_39 ?_
      refine j_if_ne (tgt := 47) C dX0_version_42 (by decide) (fun c14 => ?_) (fun c14 => ?_)
      · replace hf := gIf_f hf c14
        refine j_aload_n C dX0_version_47 rfl ?_
        replace hf := gB1_e hf
        obtain ⟨r15, er15, hf⟩ := hf
        refine j_get C fl_X0_48_0 dX0_version_48 (gR_F er15) ?_
        refine j_iconst (v := (nI 4)) C dX0_version_51 (by decide) ?_
        refine j_iload_n C dX0_version_52 rfl ?_
        refine j_imul C dX0_version_53 ?_
        refine j_iload C dX0_version_54 rfl ?_
        refine j_iadd C dX0_version_56 ?_
        replace hf := gB1_e hf
        obtain ⟨a16, ea16, hf⟩ := hf
        subst ea16
        replace hf := gB1_e hf
        obtain ⟨r17, er17, hf⟩ := hf
        refine j_aald C (t := 3) rfl er17 dX0_version_57 ?_
        refine j_astore (lv' := [(5, (ga r17)), (4, (gi x8)), (0, (ga (some a0))), (1, (gi x6)), (3, (gi x7))]) C dX0_version_58 (by decide) rfl ?_
        refine j_iload_n C dX0_version_60 rfl ?_
        by_cases n61_0 : x7 = (nI 0)
        · replace hf := gIf_t hf n61_0
          refine j_tableIn (off := 35) (tgt := 96) C dX0_version_61 (by rw [n61_0]; decide) (by rw [n61_0]; decide) (by rw [n61_0]; decide) (by decide) ?_
          refine j_aload C dX0_version_96 rfl ?_
          replace hf := gB1_e hf
          obtain ⟨a18, ea18, hf⟩ := hf
          subst ea18
          replace hf := gB1_e hf
          obtain ⟨r19, er19, hf⟩ := hf
          refine j_get C fl_X0_67_3 dX0_version_98 (gR_F er19) ?_
          replace hf := gB1_e hf
          obtain ⟨a20, ea20, hf⟩ := hf
          subst ea20
          replace hf := gB1_e hf
          obtain ⟨_, eo, hf⟩ := hf
          replace hf := gB2_e hf
          obtain ⟨x22, w21, ew21, hf⟩ := hf
          refine j_callV (As := []) (rest := []) (v := (some (gi x22))) C (by omega) (k_X5_items 12 (by omega) ew21) (gOb_e eo) rfl q631 q632 q633 q96 q634 ⟨rfl, hd_X5_items⟩ (by decide) rfl (Nat.le_of_ble_eq_true rfl) dX0_version_101 ?_
          refine j_goto (tgt := 149) C dX0_version_104 (by decide) ?_
          obtain ⟨rfl, rfl⟩ := gSome hf
          exact j_iret C hr hw dX0_version_149
        · replace hf := gIf_f hf n61_0
          by_cases n61_1 : x7 = (nI 1)
          · replace hf := gIf_t hf n61_1
            refine j_tableIn (off := 46) (tgt := 107) C dX0_version_61 (by rw [n61_1]; decide) (by rw [n61_1]; decide) (by rw [n61_1]; decide) (by decide) ?_
            refine j_aload C dX0_version_107 rfl ?_
            replace hf := gB1_e hf
            obtain ⟨a23, ea23, hf⟩ := hf
            subst ea23
            replace hf := gB1_e hf
            obtain ⟨r24, er24, hf⟩ := hf
            refine j_get C fl_X0_67_3 dX0_version_109 (gR_F er24) ?_
            replace hf := gB1_e hf
            obtain ⟨a25, ea25, hf⟩ := hf
            subst ea25
            replace hf := gB1_e hf
            obtain ⟨_, eo, hf⟩ := hf
            replace hf := gB2_e hf
            obtain ⟨x27, w26, ew26, hf⟩ := hf
            refine j_callV (As := []) (rest := []) (v := (some (gi x27))) C (by omega) (k_X5_tasks 12 (by omega) ew26) (gOb_e eo) rfl q655 q656 q657 q96 q658 ⟨rfl, hd_X5_tasks⟩ (by decide) rfl (Nat.le_of_ble_eq_true rfl) dX0_version_112 ?_
            refine j_goto (tgt := 149) C dX0_version_115 (by decide) ?_
            obtain ⟨rfl, rfl⟩ := gSome hf
            exact j_iret C hr hw dX0_version_149
          · replace hf := gIf_f hf n61_1
            by_cases n61_2 : x7 = (nI 2)
            · replace hf := gIf_t hf n61_2
              refine j_tableIn (off := 57) (tgt := 118) C dX0_version_61 (by rw [n61_2]; decide) (by rw [n61_2]; decide) (by rw [n61_2]; decide) (by decide) ?_
              refine j_aload C dX0_version_118 rfl ?_
              replace hf := gB1_e hf
              obtain ⟨a28, ea28, hf⟩ := hf
              subst ea28
              replace hf := gB1_e hf
              obtain ⟨r29, er29, hf⟩ := hf
              refine j_get C fl_X0_67_3 dX0_version_120 (gR_F er29) ?_
              replace hf := gB1_e hf
              obtain ⟨a30, ea30, hf⟩ := hf
              subst ea30
              replace hf := gB1_e hf
              obtain ⟨_, eo, hf⟩ := hf
              replace hf := gB2_e hf
              obtain ⟨x32, w31, ew31, hf⟩ := hf
              refine j_callV (As := []) (rest := []) (v := (some (gi x32))) C (by omega) (k_X5_depth_x (by omega) ew31) (gOb_e eo) rfl q662 q663 q664 q96 q665 ⟨rfl, hd_X5_depth⟩ (by decide) rfl (Nat.le_of_ble_eq_true rfl) dX0_version_123 ?_
              refine j_goto (tgt := 149) C dX0_version_126 (by decide) ?_
              obtain ⟨rfl, rfl⟩ := gSome hf
              exact j_iret C hr hw dX0_version_149
            · replace hf := gIf_f hf n61_2
              by_cases n61_3 : x7 = (nI 3)
              · replace hf := gIf_t hf n61_3
                refine j_tableIn (off := 68) (tgt := 129) C dX0_version_61 (by rw [n61_3]; decide) (by rw [n61_3]; decide) (by rw [n61_3]; decide) (by decide) ?_
                refine j_aload C dX0_version_129 rfl ?_
                replace hf := gB1_e hf
                obtain ⟨a33, ea33, hf⟩ := hf
                subst ea33
                replace hf := gB1_e hf
                obtain ⟨x34, ex34, hf⟩ := hf
                refine j_get C fl_X0_82_3 dX0_version_131 (gI_F ex34) ?_
                refine j_goto (tgt := 149) C dX0_version_134 (by decide) ?_
                obtain ⟨rfl, rfl⟩ := gSome hf
                exact j_iret C hr hw dX0_version_149
              · replace hf := gIf_f hf n61_3
                by_cases n61_4 : x7 = (nI 4)
                · replace hf := gIf_t hf n61_4
                  refine j_tableIn (off := 76) (tgt := 137) C dX0_version_61 (by rw [n61_4]; decide) (by rw [n61_4]; decide) (by rw [n61_4]; decide) (by decide) ?_
                  refine j_aload C dX0_version_137 rfl ?_
                  replace hf := gB1_e hf
                  obtain ⟨a35, ea35, hf⟩ := hf
                  subst ea35
                  replace hf := gB1_e hf
                  obtain ⟨r36, er36, hf⟩ := hf
                  refine j_get C fl_X0_67_3 dX0_version_139 (gR_F er36) ?_
                  replace hf := gB1_e hf
                  obtain ⟨a37, ea37, hf⟩ := hf
                  subst ea37
                  replace hf := gB1_e hf
                  obtain ⟨_, eo, hf⟩ := hf
                  replace hf := gB2_e hf
                  obtain ⟨x39, w38, ew38, hf⟩ := hf
                  refine j_callV (As := []) (rest := []) (v := (some (gi x39))) C (by omega) (k_X5_width_x (by omega) ew38) (gOb_e eo) rfl q688 q689 q690 q96 q691 ⟨rfl, hd_X5_width⟩ (by decide) rfl (Nat.le_of_ble_eq_true rfl) dX0_version_142 ?_
                  refine j_goto (tgt := 149) C dX0_version_145 (by decide) ?_
                  obtain ⟨rfl, rfl⟩ := gSome hf
                  exact j_iret C hr hw dX0_version_149
                · replace hf := gIf_f hf n61_4
                  refine j_tableOut (tgt := 148) C dX0_version_61 (g_out5 (a := 0) (by decide) n61_0 n61_1 n61_2 n61_3 n61_4) (by decide) ?_
                  refine j_iconst (v := (-1)) C dX0_version_148 (by decide) ?_
                  obtain ⟨rfl, rfl⟩ := gSome hf
                  exact j_iret C hr hw dX0_version_149
      · replace hf := gIf_t hf c14
        refine j_iconst (v := (-1)) C dX0_version_45 (by decide) ?_
        obtain ⟨rfl, rfl⟩ := gSome hf
        exact j_iret C hr hw dX0_version_46
    clear ek4
    refine j_icmp_ne (tgt := 25) C dX0_version_11 (by decide) (fun c40 => ?_) (fun c40 => ?_)
    · replace hf := gIf_f hf c40
      refine j_iload_n C dX0_version_25 rfl ?_
      refine j_sub (lv' := [(0, (ga (some a0))), (1, (gi p1)), (3, (gi p3))]) (gL_cons rfl (gL_cons rfl (gL_cons rfl (gL_nil)))) ?_
      exact jk4 _ _ _ _ hf
    · replace hf := gIf_t hf c40
      refine j_aload_n C dX0_version_14 rfl ?_
      replace hf := gB1_e hf
      obtain ⟨r41, er41, hf⟩ := hf
      refine j_get C fl_X0_40_0 dX0_version_15 (gR_F er41) ?_
      refine j_iload_n C dX0_version_18 rfl ?_
      replace hf := gB1_e hf
      obtain ⟨a42, ea42, hf⟩ := hf
      subst ea42
      replace hf := gB1_e hf
      obtain ⟨x43, ex43, hf⟩ := hf
      refine j_iald C ex43 dX0_version_19 ?_
      refine j_iconst (v := (nI 1)) C dX0_version_20 (by decide) ?_
      refine j_isub C dX0_version_21 ?_
      refine j_goto (tgt := 26) C dX0_version_22 (by decide) ?_
      refine j_sub (lv' := [(0, (ga (some a0))), (1, (gi p1)), (3, (gi p3))]) (gL_cons rfl (gL_cons rfl (gL_cons rfl (gL_nil)))) ?_
      exact jk4 _ _ _ _ hf
  · replace hf := gIf_t hf c3
    refine j_iconst (v := (-1)) C dX0_version_7 (by decide) ?_
    obtain ⟨rfl, rfl⟩ := gSome hf
    exact j_iret C hr hw dX0_version_8
def dkwX18_gathers_2 : List UInt8 := [177]
abbrev dktX18_gathers_2 : List UInt8 := dkwX18_gathers_2 ++ []
def dkwX18_gathers_1 : List UInt8 := [182, 0, 107, 132, 2, 1, 167, 255, 229, 42, 180, 0, 44, 198, 0, 11, 42, 180, 0, 44, 43, 182, 0, 72]
abbrev dktX18_gathers_1 : List UInt8 := dkwX18_gathers_1 ++ dktX18_gathers_2
def dkwX18_gathers_0 : List UInt8 := [3, 61, 28, 42, 180, 0, 20, 180, 0, 100, 162, 0, 22, 43, 42, 180, 0, 20, 180, 0, 103, 28, 46]
abbrev dktX18_gathers_0 : List UInt8 := dkwX18_gathers_0 ++ dktX18_gathers_1
theorem dksX18_gathers_0 : cX18_gathers.data.toList.drop 0 = dktX18_gathers_0 := by decide +kernel
theorem dksX18_gathers_1 : cX18_gathers.data.toList.drop 23 = dktX18_gathers_1 := dk_seg dksX18_gathers_0 23 rfl rfl
theorem dksX18_gathers_2 : cX18_gathers.data.toList.drop 47 = dktX18_gathers_2 := dk_seg dksX18_gathers_1 24 rfl rfl
theorem dX18_gathers_0 : decode cX18_gathers 0 = .ok (.iconst 0, 1) := dk_3 (dk_at dksX18_gathers_0 0 rfl rfl)
theorem dX18_gathers_1 : decode cX18_gathers 1 = .ok (.istore_n 2, 1) := dk_61 (dk_at dksX18_gathers_0 1 rfl rfl)
theorem dX18_gathers_2 : decode cX18_gathers 2 = .ok (.iload_n 2, 1) := dk_28 (dk_at dksX18_gathers_0 2 rfl rfl)
theorem dX18_gathers_3 : decode cX18_gathers 3 = .ok (.aload_n 0, 1) := dk_42 (dk_at dksX18_gathers_0 3 rfl rfl)
theorem dX18_gathers_4 : decode cX18_gathers 4 = .ok (.getfield 20, 3) := dk_180 0 20 (dk_at dksX18_gathers_0 4 rfl rfl)
theorem dX18_gathers_7 : decode cX18_gathers 7 = .ok (.getfield 100, 3) := dk_180 0 100 (dk_at dksX18_gathers_0 7 rfl rfl)
theorem dX18_gathers_10 : decode cX18_gathers 10 = .ok (.if_icmp .ge 22, 3) := dk_162 0 22 (dk_at dksX18_gathers_0 10 rfl rfl)
theorem dX18_gathers_13 : decode cX18_gathers 13 = .ok (.aload_n 1, 1) := dk_43 (dk_at dksX18_gathers_0 13 rfl rfl)
theorem dX18_gathers_14 : decode cX18_gathers 14 = .ok (.aload_n 0, 1) := dk_42 (dk_at dksX18_gathers_0 14 rfl rfl)
theorem dX18_gathers_15 : decode cX18_gathers 15 = .ok (.getfield 20, 3) := dk_180 0 20 (dk_at dksX18_gathers_0 15 rfl rfl)
theorem dX18_gathers_18 : decode cX18_gathers 18 = .ok (.getfield 103, 3) := dk_180 0 103 (dk_at dksX18_gathers_0 18 rfl rfl)
theorem dX18_gathers_21 : decode cX18_gathers 21 = .ok (.iload_n 2, 1) := dk_28 (dk_at dksX18_gathers_0 21 rfl rfl)
theorem dX18_gathers_22 : decode cX18_gathers 22 = .ok (.iaload, 1) := dk_46 (dk_at dksX18_gathers_0 22 rfl rfl)
theorem dX18_gathers_23 : decode cX18_gathers 23 = .ok (.invokevirtual 107, 3) := dk_182 0 107 (dk_at dksX18_gathers_1 0 rfl rfl)
theorem dX18_gathers_26 : decode cX18_gathers 26 = .ok (.iinc 2 1, 3) := dk_132 2 1 (dk_at dksX18_gathers_1 3 rfl rfl)
theorem dX18_gathers_29 : decode cX18_gathers 29 = .ok (.goto (-27), 3) := dk_167 255 229 (dk_at dksX18_gathers_1 6 rfl rfl)
theorem dX18_gathers_32 : decode cX18_gathers 32 = .ok (.aload_n 0, 1) := dk_42 (dk_at dksX18_gathers_1 9 rfl rfl)
theorem dX18_gathers_33 : decode cX18_gathers 33 = .ok (.getfield 44, 3) := dk_180 0 44 (dk_at dksX18_gathers_1 10 rfl rfl)
theorem dX18_gathers_36 : decode cX18_gathers 36 = .ok (.ifnull 11, 3) := dk_198 0 11 (dk_at dksX18_gathers_1 13 rfl rfl)
theorem dX18_gathers_39 : decode cX18_gathers 39 = .ok (.aload_n 0, 1) := dk_42 (dk_at dksX18_gathers_1 16 rfl rfl)
theorem dX18_gathers_40 : decode cX18_gathers 40 = .ok (.getfield 44, 3) := dk_180 0 44 (dk_at dksX18_gathers_1 17 rfl rfl)
theorem dX18_gathers_43 : decode cX18_gathers 43 = .ok (.aload_n 1, 1) := dk_43 (dk_at dksX18_gathers_1 20 rfl rfl)
theorem dX18_gathers_44 : decode cX18_gathers 44 = .ok (.invokevirtual 72, 3) := dk_182 0 72 (dk_at dksX18_gathers_1 21 rfl rfl)
theorem dX18_gathers_47 : decode cX18_gathers 47 = .ok (.return_, 1) := dk_177 (dk_at dksX18_gathers_2 0 rfl rfl)
theorem fl_X18_100_19 : gFL RX18 100 19 1 := gFL.mkN (Cn := RX19) (T := TX19) (N := 2) (ref := "WorkflowEngine$Dones") rfl in_X19 (by decide) nq893 rfl rfl (Or.inl rfl)
theorem fl_X18_44_18 : gFL RX18 44 18 3 := gFL.mk (Cn := RX18) (T := TX18) (N := 7) (ref := "WorkflowEngine$BodyRun") rfl in_X18 (by decide) q900 rfl rfl (Or.inl rfl)
theorem fl_X18_103_19 : gFL RX18 103 19 0 := gFL.mkN (Cn := RX19) (T := TX19) (N := 2) (ref := "WorkflowEngine$Dones") rfl in_X19 (by decide) nq890 rfl rfl (Or.inl rfl)
def f_X18_gathers (rec : Nat → Option Nat → gw → Option (Unit × gw)) (a0 : Nat) (p1 : Option Nat) (w0 : gw) : Option (Unit × gw) := gL2 (fun k4 (r2 : Option Nat) (x3 : Int32) (w1 : gw) => gB1 (gR w1 a0 18 5) fun r5 => gB1 r5 fun a6 => gB1 (gI w1 a6 19 1) fun x7 => if x7 ≤ x3 then gB1 (gR w1 a0 18 3) fun r9 => gNl r9 (some ((), w1)) (fun a11 => gB1 (gR w1 a0 18 3) fun r12 => gB1 r12 fun a13 => gB2 (rec a13 r2 w1) fun _ w14 => some ((), w14)) else gB1 (gR w1 a0 18 5) fun r15 => gB1 r15 fun a16 => gB1 (gR w1 a16 19 0) fun r17 => gB1 r17 fun a18 => gB1 (gLdI w1 a18 0 x3) fun x19 => gB1 r2 fun a20 => gB1 (gOb w1 a20 19) fun _ => gB2 (f_X19_adds a20 x19 w1) fun _ w21 => gBd (x3 + (nI 1)) fun x22 => k4 (some a20) x22 w21) 20000 p1 (nI 0) w0
set_option maxHeartbeats 4000000 in
set_option maxRecDepth 100000 in
theorem k_X18_gathers {D : va_G} {dA : Nat → ClassId} {A : Nat → Prop} {K : Nat → Nat} {l : Launch} {h : Nat} {rec : Nat → Option Nat → gw → Option (Unit × gw)} {B : Nat} (hrec : ∀ {h : Nat}, B ≤ h → ∀ {a : Nat} {p1 : Option Nat} {w0 ww : gw} {rr : Unit}, rec a p1 w0 = some (rr, ww) → gDp_Run_gathers D dA A K l h a [(ga p1)] none w0 ww) (hb : 1 ≤ B) (hh : B + 1 ≤ h) {a0 : Nat} {p1 : Option Nat} {w0 ww : gw} {rr : Unit} (hf : f_X18_gathers rec a0 p1 w0 = some (rr, ww)) : gMet D dA A K l yX18_gathers (ws_ yX18_gathers cX18_gathers 3 none) h [(ga (some a0)), (ga p1)] none w0 ww := by
  refine j_start (own := RX18) (by decide +kernel) rfl (Nat.le_of_ble_eq_true rfl) ?_
  intro p e R s m args below meth c C hr hin hw
  unfold f_X18_gathers at hf
  show gJ D dA A K p l e R s m args below meth c (gEnd D dA A K below args s w0 none ww) 3 0 [(0, (ga (some a0))), (1, (ga p1))] [] w0
  refine j_iconst (v := (nI 0)) C dX18_gathers_0 (by decide) ?_
  refine j_istore_n (lv' := [(2, (gi (nI 0))), (0, (ga (some a0))), (1, (ga p1))]) C dX18_gathers_1 (by decide) rfl ?_
  refine j_sub (lv' := [(0, (ga (some a0))), (1, (ga p1)), (2, (gi (nI 0)))]) (gL_cons rfl (gL_cons rfl (gL_cons rfl (gL_nil)))) ?_
  refine gL2_e (fun (r2 : Option Nat) (x3 : Int32) (w1 : gw) => gJ D dA A K p l e R s m args below meth c (gEnd D dA A K below args s w0 none ww) 3 2 [(0, (ga (some a0))), (1, (ga r2)), (2, (gi x3))] [] w1) ?_ _ _ _ _ hf
  intro k4 jk4 r2 x3 w1 hf
  refine j_iload_n C dX18_gathers_2 rfl ?_
  refine j_aload_n C dX18_gathers_3 rfl ?_
  replace hf := gB1_e hf
  obtain ⟨r5, er5, hf⟩ := hf
  refine j_get C fl_X18_20_18 dX18_gathers_4 (gR_F er5) ?_
  replace hf := gB1_e hf
  obtain ⟨a6, ea6, hf⟩ := hf
  subst ea6
  replace hf := gB1_e hf
  obtain ⟨x7, ex7, hf⟩ := hf
  refine j_get C fl_X18_100_19 dX18_gathers_7 (gI_F ex7) ?_
  refine j_icmp_ge (tgt := 32) C dX18_gathers_10 (by decide) (fun c8 => ?_) (fun c8 => ?_)
  · replace hf := gIf_t hf c8
    refine j_aload_n C dX18_gathers_32 rfl ?_
    replace hf := gB1_e hf
    obtain ⟨r9, er9, hf⟩ := hf
    refine j_get C fl_X18_44_18 dX18_gathers_33 (gR_F er9) ?_
    refine j_ifnull (tgt := 47) C dX18_gathers_36 (by decide) (fun c10 => ?_) (fun a11 c10 => ?_)
    · subst c10
      replace hf := gNl_n hf
      obtain ⟨rfl, rfl⟩ := gSome hf
      exact j_vret C hr hw dX18_gathers_47
    · subst c10
      replace hf := gNl_s hf
      refine j_aload_n C dX18_gathers_39 rfl ?_
      replace hf := gB1_e hf
      obtain ⟨r12, er12, hf⟩ := hf
      refine j_get C fl_X18_44_18 dX18_gathers_40 (gR_F er12) ?_
      refine j_aload_n C dX18_gathers_43 rfl ?_
      replace hf := gB1_e hf
      obtain ⟨a13, ea13, hf⟩ := hf
      subst ea13
      replace hf := gB2_e hf
      obtain ⟨_, w14, ew14, hf⟩ := hf
      refine j_dp_Run_gathers (As := [(ga r2)]) (rest := []) (v := none) C (by omega) (hrec (by omega) ew14) q1215 rfl (Nat.le_of_ble_eq_true rfl) dX18_gathers_44 ?_
      obtain ⟨rfl, rfl⟩ := gSome hf
      exact j_vret C hr hw dX18_gathers_47
  · replace hf := gIf_f hf c8
    refine j_aload_n C dX18_gathers_13 rfl ?_
    refine j_aload_n C dX18_gathers_14 rfl ?_
    replace hf := gB1_e hf
    obtain ⟨r15, er15, hf⟩ := hf
    refine j_get C fl_X18_20_18 dX18_gathers_15 (gR_F er15) ?_
    replace hf := gB1_e hf
    obtain ⟨a16, ea16, hf⟩ := hf
    subst ea16
    replace hf := gB1_e hf
    obtain ⟨r17, er17, hf⟩ := hf
    refine j_get C fl_X18_103_19 dX18_gathers_18 (gR_F er17) ?_
    refine j_iload_n C dX18_gathers_21 rfl ?_
    replace hf := gB1_e hf
    obtain ⟨a18, ea18, hf⟩ := hf
    subst ea18
    replace hf := gB1_e hf
    obtain ⟨x19, ex19, hf⟩ := hf
    refine j_iald C ex19 dX18_gathers_22 ?_
    replace hf := gB1_e hf
    obtain ⟨a20, ea20, hf⟩ := hf
    subst ea20
    replace hf := gB1_e hf
    obtain ⟨_, eo, hf⟩ := hf
    replace hf := gB2_e hf
    obtain ⟨_, w21, ew21, hf⟩ := hf
    refine j_callV (As := [(gi x19)]) (rest := []) (v := none) C (by omega) (k_X19_adds (by omega) ew21) (gOb_e eo) rfl q1211 q1212 q1213 q121 q1214 ⟨rfl, hd_X19_adds⟩ (by decide) rfl (Nat.le_of_ble_eq_true rfl) dX18_gathers_23 ?_
    replace hf := gBd_x hf
    obtain ⟨x22, ex22, hf⟩ := hf
    refine j_iinc (v := x22) (lv' := [(2, (gi x22)), (0, (ga (some a0))), (1, (ga (some a20)))]) C dX18_gathers_26 rfl (by rw [ex22]; rfl) (by decide) rfl ?_
    refine j_goto (tgt := 2) C dX18_gathers_29 (by decide) ?_
    refine j_sub (lv' := [(0, (ga (some a0))), (1, (ga (some a20))), (2, (gi x22))]) (gL_cons rfl (gL_cons rfl (gL_cons rfl (gL_nil)))) ?_
    exact jk4 _ _ _ hf
def dkwX22_gathers_1 : List UInt8 := [28, 50, 43, 182, 0, 85, 132, 2, 1, 167, 255, 225, 177]
abbrev dktX22_gathers_1 : List UInt8 := dkwX22_gathers_1 ++ []
def dkwX22_gathers_0 : List UInt8 := [3, 61, 28, 42, 180, 0, 31, 190, 162, 0, 28, 42, 180, 0, 31, 28, 50, 198, 0, 13, 42, 180, 0, 31]
abbrev dktX22_gathers_0 : List UInt8 := dkwX22_gathers_0 ++ dktX22_gathers_1
theorem dksX22_gathers_0 : cX22_gathers.data.toList.drop 0 = dktX22_gathers_0 := by decide +kernel
theorem dksX22_gathers_1 : cX22_gathers.data.toList.drop 24 = dktX22_gathers_1 := dk_seg dksX22_gathers_0 24 rfl rfl
theorem dX22_gathers_0 : decode cX22_gathers 0 = .ok (.iconst 0, 1) := dk_3 (dk_at dksX22_gathers_0 0 rfl rfl)
theorem dX22_gathers_1 : decode cX22_gathers 1 = .ok (.istore_n 2, 1) := dk_61 (dk_at dksX22_gathers_0 1 rfl rfl)
theorem dX22_gathers_2 : decode cX22_gathers 2 = .ok (.iload_n 2, 1) := dk_28 (dk_at dksX22_gathers_0 2 rfl rfl)
theorem dX22_gathers_3 : decode cX22_gathers 3 = .ok (.aload_n 0, 1) := dk_42 (dk_at dksX22_gathers_0 3 rfl rfl)
theorem dX22_gathers_4 : decode cX22_gathers 4 = .ok (.getfield 31, 3) := dk_180 0 31 (dk_at dksX22_gathers_0 4 rfl rfl)
theorem dX22_gathers_7 : decode cX22_gathers 7 = .ok (.arraylength, 1) := dk_190 (dk_at dksX22_gathers_0 7 rfl rfl)
theorem dX22_gathers_8 : decode cX22_gathers 8 = .ok (.if_icmp .ge 28, 3) := dk_162 0 28 (dk_at dksX22_gathers_0 8 rfl rfl)
theorem dX22_gathers_11 : decode cX22_gathers 11 = .ok (.aload_n 0, 1) := dk_42 (dk_at dksX22_gathers_0 11 rfl rfl)
theorem dX22_gathers_12 : decode cX22_gathers 12 = .ok (.getfield 31, 3) := dk_180 0 31 (dk_at dksX22_gathers_0 12 rfl rfl)
theorem dX22_gathers_15 : decode cX22_gathers 15 = .ok (.iload_n 2, 1) := dk_28 (dk_at dksX22_gathers_0 15 rfl rfl)
theorem dX22_gathers_16 : decode cX22_gathers 16 = .ok (.aaload, 1) := dk_50 (dk_at dksX22_gathers_0 16 rfl rfl)
theorem dX22_gathers_17 : decode cX22_gathers 17 = .ok (.ifnull 13, 3) := dk_198 0 13 (dk_at dksX22_gathers_0 17 rfl rfl)
theorem dX22_gathers_20 : decode cX22_gathers 20 = .ok (.aload_n 0, 1) := dk_42 (dk_at dksX22_gathers_0 20 rfl rfl)
theorem dX22_gathers_21 : decode cX22_gathers 21 = .ok (.getfield 31, 3) := dk_180 0 31 (dk_at dksX22_gathers_0 21 rfl rfl)
theorem dX22_gathers_24 : decode cX22_gathers 24 = .ok (.iload_n 2, 1) := dk_28 (dk_at dksX22_gathers_1 0 rfl rfl)
theorem dX22_gathers_25 : decode cX22_gathers 25 = .ok (.aaload, 1) := dk_50 (dk_at dksX22_gathers_1 1 rfl rfl)
theorem dX22_gathers_26 : decode cX22_gathers 26 = .ok (.aload_n 1, 1) := dk_43 (dk_at dksX22_gathers_1 2 rfl rfl)
theorem dX22_gathers_27 : decode cX22_gathers 27 = .ok (.invokevirtual 85, 3) := dk_182 0 85 (dk_at dksX22_gathers_1 3 rfl rfl)
theorem dX22_gathers_30 : decode cX22_gathers 30 = .ok (.iinc 2 1, 3) := dk_132 2 1 (dk_at dksX22_gathers_1 6 rfl rfl)
theorem dX22_gathers_33 : decode cX22_gathers 33 = .ok (.goto (-31), 3) := dk_167 255 225 (dk_at dksX22_gathers_1 9 rfl rfl)
theorem dX22_gathers_36 : decode cX22_gathers 36 = .ok (.return_, 1) := dk_177 (dk_at dksX22_gathers_1 12 rfl rfl)
def f_X22_gathers (rec : Nat → Option Nat → gw → Option (Unit × gw)) (a0 : Nat) (p1 : Option Nat) (w0 : gw) : Option (Unit × gw) := gL2 (fun k4 (r2 : Option Nat) (x3 : Int32) (w1 : gw) => gB1 (gR w1 a0 22 3) fun r5 => gB1 r5 fun a6 => gB1 (gLen w1 a6 5) fun x7 => if x7 ≤ x3 then some ((), w1) else gB1 (gR w1 a0 22 3) fun r9 => gB1 r9 fun a10 => gB1 (gLdR w1 a10 5 x3) fun r11 => gBd (fun (r14 : Option Nat) (x15 : Int32) (w13 : gw) => gBd (x15 + (nI 1)) fun x16 => k4 r14 x16 w13) fun k12 => gNl r11 (k12 r2 x3 w1) (fun a18 => gB1 (gR w1 a0 22 3) fun r19 => gB1 r19 fun a20 => gB1 (gLdR w1 a20 5 x3) fun r21 => gB1 r21 fun a22 => gB2 (rec a22 r2 w1) fun _ w23 => k12 r2 x3 w23)) 20000 p1 (nI 0) w0
set_option maxHeartbeats 4000000 in
set_option maxRecDepth 100000 in
theorem k_X22_gathers {D : va_G} {dA : Nat → ClassId} {A : Nat → Prop} {K : Nat → Nat} {l : Launch} {h : Nat} {rec : Nat → Option Nat → gw → Option (Unit × gw)} {B : Nat} (hrec : ∀ {h : Nat}, B ≤ h → ∀ {a : Nat} {p1 : Option Nat} {w0 ww : gw} {rr : Unit}, rec a p1 w0 = some (rr, ww) → gDp_Run_gathers D dA A K l h a [(ga p1)] none w0 ww) (hb : 1 ≤ B) (hh : B + 1 ≤ h) {a0 : Nat} {p1 : Option Nat} {w0 ww : gw} {rr : Unit} (hf : f_X22_gathers rec a0 p1 w0 = some (rr, ww)) : gMet D dA A K l yX22_gathers (ws_ yX22_gathers cX22_gathers 3 none) h [(ga (some a0)), (ga p1)] none w0 ww := by
  refine j_start (own := RX22) (by decide +kernel) rfl (Nat.le_of_ble_eq_true rfl) ?_
  intro p e R s m args below meth c C hr hin hw
  unfold f_X22_gathers at hf
  show gJ D dA A K p l e R s m args below meth c (gEnd D dA A K below args s w0 none ww) 3 0 [(0, (ga (some a0))), (1, (ga p1))] [] w0
  refine j_iconst (v := (nI 0)) C dX22_gathers_0 (by decide) ?_
  refine j_istore_n (lv' := [(2, (gi (nI 0))), (0, (ga (some a0))), (1, (ga p1))]) C dX22_gathers_1 (by decide) rfl ?_
  refine j_sub (lv' := [(0, (ga (some a0))), (1, (ga p1)), (2, (gi (nI 0)))]) (gL_cons rfl (gL_cons rfl (gL_cons rfl (gL_nil)))) ?_
  refine gL2_e (fun (r2 : Option Nat) (x3 : Int32) (w1 : gw) => gJ D dA A K p l e R s m args below meth c (gEnd D dA A K below args s w0 none ww) 3 2 [(0, (ga (some a0))), (1, (ga r2)), (2, (gi x3))] [] w1) ?_ _ _ _ _ hf
  intro k4 jk4 r2 x3 w1 hf
  refine j_iload_n C dX22_gathers_2 rfl ?_
  refine j_aload_n C dX22_gathers_3 rfl ?_
  replace hf := gB1_e hf
  obtain ⟨r5, er5, hf⟩ := hf
  refine j_get C fl_X22_31_22 dX22_gathers_4 (gR_F er5) ?_
  replace hf := gB1_e hf
  obtain ⟨a6, ea6, hf⟩ := hf
  subst ea6
  replace hf := gB1_e hf
  obtain ⟨x7, ex7, hf⟩ := hf
  refine j_alen C (t := 5) rfl ex7 dX22_gathers_7 ?_
  refine j_icmp_ge (tgt := 36) C dX22_gathers_8 (by decide) (fun c8 => ?_) (fun c8 => ?_)
  · replace hf := gIf_t hf c8
    obtain ⟨rfl, rfl⟩ := gSome hf
    exact j_vret C hr hw dX22_gathers_36
  · replace hf := gIf_f hf c8
    refine j_aload_n C dX22_gathers_11 rfl ?_
    replace hf := gB1_e hf
    obtain ⟨r9, er9, hf⟩ := hf
    refine j_get C fl_X22_31_22 dX22_gathers_12 (gR_F er9) ?_
    refine j_iload_n C dX22_gathers_15 rfl ?_
    replace hf := gB1_e hf
    obtain ⟨a10, ea10, hf⟩ := hf
    subst ea10
    replace hf := gB1_e hf
    obtain ⟨r11, er11, hf⟩ := hf
    refine j_aald C (t := 5) rfl er11 dX22_gathers_16 ?_
    replace hf := gBd_x hf
    obtain ⟨k12, ek12, hf⟩ := hf
    have jk12 : ∀ (r14 : Option Nat) (x15 : Int32) (w13 : gw), k12 r14 x15 w13 = some (rr, ww) → gJ D dA A K p l e R s m args below meth c (gEnd D dA A K below args s w0 none ww) 3 30 [(0, (ga (some a0))), (1, (ga r14)), (2, (gi x15))] [] w13 := by
      intro r14 x15 w13 hf
      rw [ek12] at hf
      dsimp only at hf
      replace hf := gBd_x hf
      obtain ⟨x16, ex16, hf⟩ := hf
      refine j_iinc (v := x16) (lv' := [(2, (gi x16)), (0, (ga (some a0))), (1, (ga r14))]) C dX22_gathers_30 rfl (by rw [ex16]; rfl) (by decide) rfl ?_
      refine j_goto (tgt := 2) C dX22_gathers_33 (by decide) ?_
      refine j_sub (lv' := [(0, (ga (some a0))), (1, (ga r14)), (2, (gi x16))]) (gL_cons rfl (gL_cons rfl (gL_cons rfl (gL_nil)))) ?_
      exact jk4 _ _ _ hf
    clear ek12
    refine j_ifnull (tgt := 30) C dX22_gathers_17 (by decide) (fun c17 => ?_) (fun a18 c17 => ?_)
    · subst c17
      replace hf := gNl_n hf
      exact jk12 _ _ _ hf
    · subst c17
      replace hf := gNl_s hf
      refine j_aload_n C dX22_gathers_20 rfl ?_
      replace hf := gB1_e hf
      obtain ⟨r19, er19, hf⟩ := hf
      refine j_get C fl_X22_31_22 dX22_gathers_21 (gR_F er19) ?_
      refine j_iload_n C dX22_gathers_24 rfl ?_
      replace hf := gB1_e hf
      obtain ⟨a20, ea20, hf⟩ := hf
      subst ea20
      replace hf := gB1_e hf
      obtain ⟨r21, er21, hf⟩ := hf
      refine j_aald C (t := 5) rfl er21 dX22_gathers_25 ?_
      refine j_aload_n C dX22_gathers_26 rfl ?_
      replace hf := gB1_e hf
      obtain ⟨a22, ea22, hf⟩ := hf
      subst ea22
      replace hf := gB2_e hf
      obtain ⟨_, w23, ew23, hf⟩ := hf
      refine j_dp_Run_gathers (As := [(ga r2)]) (rest := []) (v := none) C (by omega) (hrec (by omega) ew23) q1203 rfl (Nat.le_of_ble_eq_true rfl) dX22_gathers_27 ?_
      exact jk12 _ _ _ hf
def f_Run_gathers_s (rec : Nat → Option Nat → gw → Option (Unit × gw)) (a : Nat) (p1 : Option Nat) (w0 : gw) : Option (Unit × gw) := gB1 (gCls w0 a) fun ci => if ci = 18 then f_X18_gathers rec a p1 w0 else if ci = 20 then f_X17_gathers a p1 w0 else if ci = 21 then f_X17_gathers a p1 w0 else if ci = 22 then f_X22_gathers rec a p1 w0 else if ci = 23 then f_X23_gathers a p1 w0 else if ci = 24 then f_X17_gathers a p1 w0 else none
theorem kd_Run_gathers_s {D : va_G} {dA : Nat → ClassId} {A : Nat → Prop} {K : Nat → Nat} {l : Launch} {h : Nat} {rec : Nat → Option Nat → gw → Option (Unit × gw)} {B : Nat} (hrec : ∀ {h : Nat}, B ≤ h → ∀ {a : Nat} {p1 : Option Nat} {w0 ww : gw} {rr : Unit}, rec a p1 w0 = some (rr, ww) → gDp_Run_gathers D dA A K l h a [(ga p1)] none w0 ww) (hb : 1 ≤ B) (hh : B + 1 ≤ h) {a : Nat} {p1 : Option Nat} {w0 ww : gw} {rr : Unit} (hf : f_Run_gathers_s rec a p1 w0 = some (rr, ww)) : gDp_Run_gathers D dA A K l h a [(ga p1)] none w0 ww := by
  unfold f_Run_gathers_s at hf
  unfold gDp_Run_gathers
  replace hf := gB1_e hf
  obtain ⟨ci, eci, hf⟩ := hf
  by_cases c0 : ci = 18
  · replace hf := gIf_t hf c0
    exact Or.inl ⟨by rw [eci, c0], k_X18_gathers hrec hb (by omega) hf⟩
  replace hf := gIf_f hf c0
  by_cases c1 : ci = 20
  · replace hf := gIf_t hf c1
    exact Or.inr (Or.inl ⟨by rw [eci, c1], k_X17_gathers (by omega) hf⟩)
  replace hf := gIf_f hf c1
  by_cases c2 : ci = 21
  · replace hf := gIf_t hf c2
    exact Or.inr (Or.inr (Or.inl ⟨by rw [eci, c2], k_X17_gathers (by omega) hf⟩))
  replace hf := gIf_f hf c2
  by_cases c3 : ci = 22
  · replace hf := gIf_t hf c3
    exact Or.inr (Or.inr (Or.inr (Or.inl ⟨by rw [eci, c3], k_X22_gathers hrec hb (by omega) hf⟩)))
  replace hf := gIf_f hf c3
  by_cases c4 : ci = 23
  · replace hf := gIf_t hf c4
    exact Or.inr (Or.inr (Or.inr (Or.inr (Or.inl ⟨by rw [eci, c4], k_X23_gathers (by omega) hf⟩))))
  replace hf := gIf_f hf c4
  by_cases c5 : ci = 24
  · replace hf := gIf_t hf c5
    exact Or.inr (Or.inr (Or.inr (Or.inr (Or.inr (⟨by rw [eci, c5], k_X17_gathers (by omega) hf⟩)))))
  replace hf := gIf_f hf c5
  cases hf
def f_Run_gathers : Nat → Nat → Option Nat → gw → Option (Unit × gw)
  | 0 => fun _ _ _ => none
  | d + 1 => f_Run_gathers_s (f_Run_gathers d)
theorem kd_Run_gathers {D : va_G} {dA : Nat → ClassId} {A : Nat → Prop} {K : Nat → Nat} {l : Launch} : ∀ (d : Nat) {h : Nat}, 1 + 1 * d ≤ h → ∀ {a : Nat} {p1 : Option Nat} {w0 ww : gw} {rr : Unit}, f_Run_gathers d a p1 w0 = some (rr, ww) → gDp_Run_gathers D dA A K l h a [(ga p1)] none w0 ww := by
  intro d
  induction d with
  | zero => intro h hh a p1 w0 ww rr hf; cases hf
  | succ d ih =>
    intro h hh a p1 w0 ww rr hf
    exact kd_Run_gathers_s (rec := f_Run_gathers d) (B := 1 + 1 * d) (fun hh => ih hh) (by omega) (by omega) hf
abbrev f_X18_gathers_x (a0 : Nat) (p1 : Option Nat) (w0 : gw) : Option (Unit × gw) := f_X18_gathers (f_Run_gathers 12) a0 p1 w0
theorem k_X18_gathers_x {D : va_G} {dA : Nat → ClassId} {A : Nat → Prop} {K : Nat → Nat} {l : Launch} {h : Nat} (hh : 14 ≤ h) {a0 : Nat} {p1 : Option Nat} {w0 ww : gw} {rr : Unit} (hf : f_X18_gathers_x a0 p1 w0 = some (rr, ww)) : gMet D dA A K l yX18_gathers (ws_ yX18_gathers cX18_gathers 3 none) h [(ga (some a0)), (ga p1)] none w0 ww := k_X18_gathers (fun hh => kd_Run_gathers 12 hh) (B := 13) (by omega) (by omega) hf
abbrev f_X22_gathers_x (a0 : Nat) (p1 : Option Nat) (w0 : gw) : Option (Unit × gw) := f_X22_gathers (f_Run_gathers 12) a0 p1 w0
theorem k_X22_gathers_x {D : va_G} {dA : Nat → ClassId} {A : Nat → Prop} {K : Nat → Nat} {l : Launch} {h : Nat} (hh : 14 ≤ h) {a0 : Nat} {p1 : Option Nat} {w0 ww : gw} {rr : Unit} (hf : f_X22_gathers_x a0 p1 w0 = some (rr, ww)) : gMet D dA A K l yX22_gathers (ws_ yX22_gathers cX22_gathers 3 none) h [(ga (some a0)), (ga p1)] none w0 ww := k_X22_gathers (fun hh => kd_Run_gathers 12 hh) (B := 13) (by omega) (by omega) hf
def dkwX22_cancels_4 : List UInt8 := [180, 0, 46, 44, 183, 0, 91, 181, 0, 94, 177]
abbrev dktX22_cancels_4 : List UInt8 := dkwX22_cancels_4 ++ []
def dkwX22_cancels_3 : List UInt8 := [182, 0, 85, 132, 3, 1, 167, 255, 191, 27, 153, 0, 23, 42, 187, 0, 89, 89, 42, 180, 0, 3, 42]
abbrev dktX22_cancels_3 : List UInt8 := dkwX22_cancels_3 ++ dktX22_cancels_4
def dkwX22_cancels_2 : List UInt8 := [178, 0, 82, 83, 42, 180, 0, 36, 29, 50, 178, 0, 82, 166, 0, 13, 42, 180, 0, 31, 29, 50, 44]
abbrev dktX22_cancels_2 : List UInt8 := dkwX22_cancels_2 ++ dktX22_cancels_3
def dkwX22_cancels_1 : List UInt8 := [50, 178, 0, 59, 166, 0, 22, 42, 180, 0, 46, 16, 10, 29, 182, 0, 76, 42, 180, 0, 36, 29]
abbrev dktX22_cancels_1 : List UInt8 := dkwX22_cancels_1 ++ dktX22_cancels_2
def dkwX22_cancels_0 : List UInt8 := [187, 0, 71, 89, 183, 0, 73, 77, 3, 62, 29, 42, 180, 0, 31, 190, 162, 0, 62, 42, 180, 0, 36, 29]
abbrev dktX22_cancels_0 : List UInt8 := dkwX22_cancels_0 ++ dktX22_cancels_1
theorem dksX22_cancels_0 : cX22_cancels.data.toList.drop 0 = dktX22_cancels_0 := by decide +kernel
theorem dksX22_cancels_1 : cX22_cancels.data.toList.drop 24 = dktX22_cancels_1 := dk_seg dksX22_cancels_0 24 rfl rfl
theorem dksX22_cancels_2 : cX22_cancels.data.toList.drop 46 = dktX22_cancels_2 := dk_seg dksX22_cancels_1 22 rfl rfl
theorem dksX22_cancels_3 : cX22_cancels.data.toList.drop 69 = dktX22_cancels_3 := dk_seg dksX22_cancels_2 23 rfl rfl
theorem dksX22_cancels_4 : cX22_cancels.data.toList.drop 92 = dktX22_cancels_4 := dk_seg dksX22_cancels_3 23 rfl rfl
theorem dX22_cancels_0 : decode cX22_cancels 0 = .ok (.new 71, 3) := dk_187 0 71 (dk_at dksX22_cancels_0 0 rfl rfl)
theorem dX22_cancels_3 : decode cX22_cancels 3 = .ok (.dup, 1) := dk_89 (dk_at dksX22_cancels_0 3 rfl rfl)
theorem dX22_cancels_4 : decode cX22_cancels 4 = .ok (.invokespecial 73, 3) := dk_183 0 73 (dk_at dksX22_cancels_0 4 rfl rfl)
theorem dX22_cancels_7 : decode cX22_cancels 7 = .ok (.astore_n 2, 1) := dk_77 (dk_at dksX22_cancels_0 7 rfl rfl)
theorem dX22_cancels_8 : decode cX22_cancels 8 = .ok (.iconst 0, 1) := dk_3 (dk_at dksX22_cancels_0 8 rfl rfl)
theorem dX22_cancels_9 : decode cX22_cancels 9 = .ok (.istore_n 3, 1) := dk_62 (dk_at dksX22_cancels_0 9 rfl rfl)
theorem dX22_cancels_10 : decode cX22_cancels 10 = .ok (.iload_n 3, 1) := dk_29 (dk_at dksX22_cancels_0 10 rfl rfl)
theorem dX22_cancels_11 : decode cX22_cancels 11 = .ok (.aload_n 0, 1) := dk_42 (dk_at dksX22_cancels_0 11 rfl rfl)
theorem dX22_cancels_12 : decode cX22_cancels 12 = .ok (.getfield 31, 3) := dk_180 0 31 (dk_at dksX22_cancels_0 12 rfl rfl)
theorem dX22_cancels_15 : decode cX22_cancels 15 = .ok (.arraylength, 1) := dk_190 (dk_at dksX22_cancels_0 15 rfl rfl)
theorem dX22_cancels_16 : decode cX22_cancels 16 = .ok (.if_icmp .ge 62, 3) := dk_162 0 62 (dk_at dksX22_cancels_0 16 rfl rfl)
theorem dX22_cancels_19 : decode cX22_cancels 19 = .ok (.aload_n 0, 1) := dk_42 (dk_at dksX22_cancels_0 19 rfl rfl)
theorem dX22_cancels_20 : decode cX22_cancels 20 = .ok (.getfield 36, 3) := dk_180 0 36 (dk_at dksX22_cancels_0 20 rfl rfl)
theorem dX22_cancels_23 : decode cX22_cancels 23 = .ok (.iload_n 3, 1) := dk_29 (dk_at dksX22_cancels_0 23 rfl rfl)
theorem dX22_cancels_24 : decode cX22_cancels 24 = .ok (.aaload, 1) := dk_50 (dk_at dksX22_cancels_1 0 rfl rfl)
theorem dX22_cancels_25 : decode cX22_cancels 25 = .ok (.getstatic 59, 3) := dk_178 0 59 (dk_at dksX22_cancels_1 1 rfl rfl)
theorem dX22_cancels_28 : decode cX22_cancels 28 = .ok (.if_acmp .ne 22, 3) := dk_166 0 22 (dk_at dksX22_cancels_1 4 rfl rfl)
theorem dX22_cancels_31 : decode cX22_cancels 31 = .ok (.aload_n 0, 1) := dk_42 (dk_at dksX22_cancels_1 7 rfl rfl)
theorem dX22_cancels_32 : decode cX22_cancels 32 = .ok (.getfield 46, 3) := dk_180 0 46 (dk_at dksX22_cancels_1 8 rfl rfl)
theorem dX22_cancels_35 : decode cX22_cancels 35 = .ok (.bipush 10, 2) := dk_16 10 (dk_at dksX22_cancels_1 11 rfl rfl)
theorem dX22_cancels_37 : decode cX22_cancels 37 = .ok (.iload_n 3, 1) := dk_29 (dk_at dksX22_cancels_1 13 rfl rfl)
theorem dX22_cancels_38 : decode cX22_cancels 38 = .ok (.invokevirtual 76, 3) := dk_182 0 76 (dk_at dksX22_cancels_1 14 rfl rfl)
theorem dX22_cancels_41 : decode cX22_cancels 41 = .ok (.aload_n 0, 1) := dk_42 (dk_at dksX22_cancels_1 17 rfl rfl)
theorem dX22_cancels_42 : decode cX22_cancels 42 = .ok (.getfield 36, 3) := dk_180 0 36 (dk_at dksX22_cancels_1 18 rfl rfl)
theorem dX22_cancels_45 : decode cX22_cancels 45 = .ok (.iload_n 3, 1) := dk_29 (dk_at dksX22_cancels_1 21 rfl rfl)
theorem dX22_cancels_46 : decode cX22_cancels 46 = .ok (.getstatic 82, 3) := dk_178 0 82 (dk_at dksX22_cancels_2 0 rfl rfl)
theorem dX22_cancels_49 : decode cX22_cancels 49 = .ok (.aastore, 1) := dk_83 (dk_at dksX22_cancels_2 3 rfl rfl)
theorem dX22_cancels_50 : decode cX22_cancels 50 = .ok (.aload_n 0, 1) := dk_42 (dk_at dksX22_cancels_2 4 rfl rfl)
theorem dX22_cancels_51 : decode cX22_cancels 51 = .ok (.getfield 36, 3) := dk_180 0 36 (dk_at dksX22_cancels_2 5 rfl rfl)
theorem dX22_cancels_54 : decode cX22_cancels 54 = .ok (.iload_n 3, 1) := dk_29 (dk_at dksX22_cancels_2 8 rfl rfl)
theorem dX22_cancels_55 : decode cX22_cancels 55 = .ok (.aaload, 1) := dk_50 (dk_at dksX22_cancels_2 9 rfl rfl)
theorem dX22_cancels_56 : decode cX22_cancels 56 = .ok (.getstatic 82, 3) := dk_178 0 82 (dk_at dksX22_cancels_2 10 rfl rfl)
theorem dX22_cancels_59 : decode cX22_cancels 59 = .ok (.if_acmp .ne 13, 3) := dk_166 0 13 (dk_at dksX22_cancels_2 13 rfl rfl)
theorem dX22_cancels_62 : decode cX22_cancels 62 = .ok (.aload_n 0, 1) := dk_42 (dk_at dksX22_cancels_2 16 rfl rfl)
theorem dX22_cancels_63 : decode cX22_cancels 63 = .ok (.getfield 31, 3) := dk_180 0 31 (dk_at dksX22_cancels_2 17 rfl rfl)
theorem dX22_cancels_66 : decode cX22_cancels 66 = .ok (.iload_n 3, 1) := dk_29 (dk_at dksX22_cancels_2 20 rfl rfl)
theorem dX22_cancels_67 : decode cX22_cancels 67 = .ok (.aaload, 1) := dk_50 (dk_at dksX22_cancels_2 21 rfl rfl)
theorem dX22_cancels_68 : decode cX22_cancels 68 = .ok (.aload_n 2, 1) := dk_44 (dk_at dksX22_cancels_2 22 rfl rfl)
theorem dX22_cancels_69 : decode cX22_cancels 69 = .ok (.invokevirtual 85, 3) := dk_182 0 85 (dk_at dksX22_cancels_3 0 rfl rfl)
theorem dX22_cancels_72 : decode cX22_cancels 72 = .ok (.iinc 3 1, 3) := dk_132 3 1 (dk_at dksX22_cancels_3 3 rfl rfl)
theorem dX22_cancels_75 : decode cX22_cancels 75 = .ok (.goto (-65), 3) := dk_167 255 191 (dk_at dksX22_cancels_3 6 rfl rfl)
theorem dX22_cancels_78 : decode cX22_cancels 78 = .ok (.iload_n 1, 1) := dk_27 (dk_at dksX22_cancels_3 9 rfl rfl)
theorem dX22_cancels_79 : decode cX22_cancels 79 = .ok (.ifCond .eq 23, 3) := dk_153 0 23 (dk_at dksX22_cancels_3 10 rfl rfl)
theorem dX22_cancels_82 : decode cX22_cancels 82 = .ok (.aload_n 0, 1) := dk_42 (dk_at dksX22_cancels_3 13 rfl rfl)
theorem dX22_cancels_83 : decode cX22_cancels 83 = .ok (.new 89, 3) := dk_187 0 89 (dk_at dksX22_cancels_3 14 rfl rfl)
theorem dX22_cancels_86 : decode cX22_cancels 86 = .ok (.dup, 1) := dk_89 (dk_at dksX22_cancels_3 17 rfl rfl)
theorem dX22_cancels_87 : decode cX22_cancels 87 = .ok (.aload_n 0, 1) := dk_42 (dk_at dksX22_cancels_3 18 rfl rfl)
theorem dX22_cancels_88 : decode cX22_cancels 88 = .ok (.getfield 3, 3) := dk_180 0 3 (dk_at dksX22_cancels_3 19 rfl rfl)
theorem dX22_cancels_91 : decode cX22_cancels 91 = .ok (.aload_n 0, 1) := dk_42 (dk_at dksX22_cancels_3 22 rfl rfl)
theorem dX22_cancels_92 : decode cX22_cancels 92 = .ok (.getfield 46, 3) := dk_180 0 46 (dk_at dksX22_cancels_4 0 rfl rfl)
theorem dX22_cancels_95 : decode cX22_cancels 95 = .ok (.aload_n 2, 1) := dk_44 (dk_at dksX22_cancels_4 3 rfl rfl)
theorem dX22_cancels_96 : decode cX22_cancels 96 = .ok (.invokespecial 91, 3) := dk_183 0 91 (dk_at dksX22_cancels_4 4 rfl rfl)
theorem dX22_cancels_99 : decode cX22_cancels 99 = .ok (.putfield 94, 3) := dk_181 0 94 (dk_at dksX22_cancels_4 7 rfl rfl)
theorem dX22_cancels_102 : decode cX22_cancels 102 = .ok (.return_, 1) := dk_177 (dk_at dksX22_cancels_4 10 rfl rfl)
theorem nl_X22_71 : gNL RX22 71 19 := ⟨RX19, TX19, 2, 2, tyX19, _, rfl, rfl, in_X19, tyX19_ok, q1199, q883, q121, fun j hj => by rcases (show j = 0 ∨ j = 1 by omega) with rfl | rfl <;> rfl⟩
theorem nl_X22_89 : gNL RX22 89 26 := ⟨RX26, TX26, 6, 6, tyX26, _, rfl, rfl, in_X26, tyX26_ok, q1225, q1226, q130, fun j hj => by rcases (show j = 0 ∨ j = 1 ∨ j = 2 ∨ j = 3 ∨ j = 4 ∨ j = 5 by omega) with rfl | rfl | rfl | rfl | rfl | rfl <;> rfl⟩
theorem fl_X22_46_22 : gFL RX22 46 22 0 := gFL.mk (Cn := RX22) (T := TX22) (N := 7) (ref := "WorkflowEngine$ParallelRun") rfl in_X22 (by decide) q915 rfl rfl (Or.inr q916)
theorem fl_X22_94_22 : gFL RX22 94 22 5 := gFL.mk (Cn := RX22) (T := TX22) (N := 7) (ref := "WorkflowEngine$ParallelRun") rfl in_X22 (by decide) q1042 rfl rfl (Or.inl rfl)
theorem fk_22_5 : gFk 22 5 "LWorkflowEngine$Undo;" false "WorkflowEngine$ParallelRun" := fun Cn T N h => by
  have h : (RX22, TX22, 7) = (Cn, T, N) := Option.some.inj h
  cases h
  exact ⟨rfl, rfl, rfl⟩
def f_X22_cancels (a0 : Nat) (p1 : Int32) (w0 : gw) : Option (Unit × gw) := gB2 (gNew w0 19) fun a1 w2 => gB2 (f_X19_init a1  w2) fun _ w3 => gL3 (fun k8 (x5 : Int32) (r6 : Option Nat) (x7 : Int32) (w4 : gw) => gB1 (gR w4 a0 22 3) fun r9 => gB1 r9 fun a10 => gB1 (gLen w4 a10 5) fun x11 => if x11 ≤ x7 then if x5 = 0 then some ((), w4) else gB2 (gNew w4 26) fun a14 w15 => gB1 (gR w15 a0 22 6) fun r16 => gB1 (gR w15 a0 22 0) fun r17 => gB2 (f_X26_init a14 r16 r17 r6 w15) fun _ w18 => gB1 (gPut w18 a0 22 5 (ga (some a14))) fun w19 => some ((), w19) else gB1 (gR w4 a0 22 4) fun r20 => gB1 r20 fun a21 => gB1 (gLdR w4 a21 6 x7) fun r22 => gBd (fun (x25 : Int32) (r26 : Option Nat) (x27 : Int32) (w24 : gw) => gB1 (gR w24 a0 22 4) fun r28 => gB1 r28 fun a29 => gB1 (gLdR w24 a29 6 x27) fun r30 => gBd (fun (x33 : Int32) (r34 : Option Nat) (x35 : Int32) (w32 : gw) => gBd (x35 + (nI 1)) fun x36 => k8 x33 r34 x36 w32) fun k31 => if r30 = (some (w24.2.2.2 4)) then gB1 (gR w24 a0 22 3) fun r38 => gB1 r38 fun a39 => gB1 (gLdR w24 a39 5 x27) fun r40 => gB1 r40 fun a41 => gB2 (f_Run_gathers 12 a41 r26 w24) fun _ w42 => k31 x25 r26 x27 w42 else k31 x25 r26 x27 w24) fun k23 => if r22 = (some (w4.2.2.2 2)) then gB1 (gR w4 a0 22 0) fun r44 => gB1 r44 fun a45 => gB1 (gOb w4 a45 16) fun _ => gB2 (f_X16_notes a45 (nI 10) x7 w4) fun _ w46 => gB1 (gR w46 a0 22 4) fun r47 => gB1 r47 fun a48 => gB1 (gStR w46 a48 6 x7 (some (w46.2.2.2 4))) fun w49 => k23 x5 r6 x7 w49 else k23 x5 r6 x7 w4) 20000 p1 (some a1) (nI 0) w3
set_option maxHeartbeats 4000000 in
set_option maxRecDepth 100000 in
theorem k_X22_cancels {D : va_G} {dA : Nat → ClassId} {A : Nat → Prop} {K : Nat → Nat} {l : Launch} {h : Nat} (hh : 14 ≤ h) {a0 : Nat} {p1 : Int32} {w0 ww : gw} {rr : Unit} (hf : f_X22_cancels a0 p1 w0 = some (rr, ww)) : gMet D dA A K l yX22_cancels (ws_ yX22_cancels cX22_cancels 4 none) h [(ga (some a0)), (gi p1)] none w0 ww := by
  refine j_start (own := RX22) (by decide +kernel) rfl (Nat.le_of_ble_eq_true rfl) ?_
  intro p e R s m args below meth c C hr hin hw
  unfold f_X22_cancels at hf
  show gJ D dA A K p l e R s m args below meth c (gEnd D dA A K below args s w0 none ww) 4 0 [(0, (ga (some a0))), (1, (gi p1))] [] w0
  replace hf := gB2_e hf
  obtain ⟨a1, w2, ew2, hf⟩ := hf
  refine j_new C nl_X22_71 ew2 dX22_cancels_0 ?_
  refine j_dup C dX22_cancels_3 ?_
  replace hf := gB2_e hf
  obtain ⟨_, w3, ew3, hf⟩ := hf
  refine j_callIN (As := []) (rest := [(ga (some a1))]) C (by omega) (k_X19_init (by omega) ew3) rfl nq1200 q885 q121 q886 hd_X19_init (by decide) rfl (Nat.le_of_ble_eq_true rfl) dX22_cancels_4 ?_
  refine j_astore_n (lv' := [(2, (ga (some a1))), (0, (ga (some a0))), (1, (gi p1))]) C dX22_cancels_7 (by decide) rfl ?_
  refine j_iconst (v := (nI 0)) C dX22_cancels_8 (by decide) ?_
  refine j_istore_n (lv' := [(3, (gi (nI 0))), (2, (ga (some a1))), (0, (ga (some a0))), (1, (gi p1))]) C dX22_cancels_9 (by decide) rfl ?_
  refine j_sub (lv' := [(0, (ga (some a0))), (1, (gi p1)), (2, (ga (some a1))), (3, (gi (nI 0)))]) (gL_cons rfl (gL_cons rfl (gL_cons rfl (gL_cons rfl (gL_nil))))) ?_
  refine gL3_e (fun (x5 : Int32) (r6 : Option Nat) (x7 : Int32) (w4 : gw) => gJ D dA A K p l e R s m args below meth c (gEnd D dA A K below args s w0 none ww) 4 10 [(0, (ga (some a0))), (1, (gi x5)), (2, (ga r6)), (3, (gi x7))] [] w4) ?_ _ _ _ _ _ hf
  intro k8 jk8 x5 r6 x7 w4 hf
  refine j_iload_n C dX22_cancels_10 rfl ?_
  refine j_aload_n C dX22_cancels_11 rfl ?_
  replace hf := gB1_e hf
  obtain ⟨r9, er9, hf⟩ := hf
  refine j_get C fl_X22_31_22 dX22_cancels_12 (gR_F er9) ?_
  replace hf := gB1_e hf
  obtain ⟨a10, ea10, hf⟩ := hf
  subst ea10
  replace hf := gB1_e hf
  obtain ⟨x11, ex11, hf⟩ := hf
  refine j_alen C (t := 5) rfl ex11 dX22_cancels_15 ?_
  refine j_icmp_ge (tgt := 78) C dX22_cancels_16 (by decide) (fun c12 => ?_) (fun c12 => ?_)
  · replace hf := gIf_t hf c12
    refine j_iload_n C dX22_cancels_78 rfl ?_
    refine j_if_eq (tgt := 102) C dX22_cancels_79 (by decide) (fun c13 => ?_) (fun c13 => ?_)
    · replace hf := gIf_t hf c13
      obtain ⟨rfl, rfl⟩ := gSome hf
      exact j_vret C hr hw dX22_cancels_102
    · replace hf := gIf_f hf c13
      refine j_aload_n C dX22_cancels_82 rfl ?_
      replace hf := gB2_e hf
      obtain ⟨a14, w15, ew15, hf⟩ := hf
      refine j_new C nl_X22_89 ew15 dX22_cancels_83 ?_
      refine j_dup C dX22_cancels_86 ?_
      refine j_aload_n C dX22_cancels_87 rfl ?_
      replace hf := gB1_e hf
      obtain ⟨r16, er16, hf⟩ := hf
      refine j_get C fl_X22_3_22 dX22_cancels_88 (gR_F er16) ?_
      refine j_aload_n C dX22_cancels_91 rfl ?_
      replace hf := gB1_e hf
      obtain ⟨r17, er17, hf⟩ := hf
      refine j_get C fl_X22_46_22 dX22_cancels_92 (gR_F er17) ?_
      refine j_aload_n C dX22_cancels_95 rfl ?_
      replace hf := gB2_e hf
      obtain ⟨_, w18, ew18, hf⟩ := hf
      refine j_callI (As := [(ga r16), (ga r17), (ga r6)]) (rest := [(ga (some a14)), (ga (some a0))]) C (by omega) (k_X26_init (by omega) ew18) rfl q1227 q1228 q130 q1229 hd_X26_init (by decide) rfl (Nat.le_of_ble_eq_true rfl) dX22_cancels_96 ?_
      replace hf := gB1_e hf
      obtain ⟨w19, ew19, hf⟩ := hf
      refine j_put C fl_X22_94_22 tb_22 ew19 fk_22_5 (ft_LWorkflowEngine_Undo_ (some a14)) dX22_cancels_99 ?_
      obtain ⟨rfl, rfl⟩ := gSome hf
      exact j_vret C hr hw dX22_cancels_102
  · replace hf := gIf_f hf c12
    refine j_aload_n C dX22_cancels_19 rfl ?_
    replace hf := gB1_e hf
    obtain ⟨r20, er20, hf⟩ := hf
    refine j_get C fl_X22_36_22 dX22_cancels_20 (gR_F er20) ?_
    refine j_iload_n C dX22_cancels_23 rfl ?_
    replace hf := gB1_e hf
    obtain ⟨a21, ea21, hf⟩ := hf
    subst ea21
    replace hf := gB1_e hf
    obtain ⟨r22, er22, hf⟩ := hf
    refine j_aald C (t := 6) rfl er22 dX22_cancels_24 ?_
    refine j_gets (i := 2) C C.2.2.2.2.2.1.2.2.2.2.1.1 q1123 dX22_cancels_25 ?_
    replace hf := gBd_x hf
    obtain ⟨k23, ek23, hf⟩ := hf
    have jk23 : ∀ (x25 : Int32) (r26 : Option Nat) (x27 : Int32) (w24 : gw), k23 x25 r26 x27 w24 = some (rr, ww) → gJ D dA A K p l e R s m args below meth c (gEnd D dA A K below args s w0 none ww) 4 50 [(0, (ga (some a0))), (1, (gi x25)), (2, (ga r26)), (3, (gi x27))] [] w24 := by
      intro x25 r26 x27 w24 hf
      rw [ek23] at hf
      dsimp only at hf
      refine j_aload_n C dX22_cancels_50 rfl ?_
      replace hf := gB1_e hf
      obtain ⟨r28, er28, hf⟩ := hf
      refine j_get C fl_X22_36_22 dX22_cancels_51 (gR_F er28) ?_
      refine j_iload_n C dX22_cancels_54 rfl ?_
      replace hf := gB1_e hf
      obtain ⟨a29, ea29, hf⟩ := hf
      subst ea29
      replace hf := gB1_e hf
      obtain ⟨r30, er30, hf⟩ := hf
      refine j_aald C (t := 6) rfl er30 dX22_cancels_55 ?_
      refine j_gets (i := 4) C C.2.2.2.2.2.1.2.2.2.2.1.2.2.1 q1202 dX22_cancels_56 ?_
      replace hf := gBd_x hf
      obtain ⟨k31, ek31, hf⟩ := hf
      have jk31 : ∀ (x33 : Int32) (r34 : Option Nat) (x35 : Int32) (w32 : gw), k31 x33 r34 x35 w32 = some (rr, ww) → gJ D dA A K p l e R s m args below meth c (gEnd D dA A K below args s w0 none ww) 4 72 [(0, (ga (some a0))), (1, (gi x33)), (2, (ga r34)), (3, (gi x35))] [] w32 := by
        intro x33 r34 x35 w32 hf
        rw [ek31] at hf
        dsimp only at hf
        replace hf := gBd_x hf
        obtain ⟨x36, ex36, hf⟩ := hf
        refine j_iinc (v := x36) (lv' := [(3, (gi x36)), (0, (ga (some a0))), (1, (gi x33)), (2, (ga r34))]) C dX22_cancels_72 rfl (by rw [ex36]; rfl) (by decide) rfl ?_
        refine j_goto (tgt := 10) C dX22_cancels_75 (by decide) ?_
        refine j_sub (lv' := [(0, (ga (some a0))), (1, (gi x33)), (2, (ga r34)), (3, (gi x36))]) (gL_cons rfl (gL_cons rfl (gL_cons rfl (gL_cons rfl (gL_nil))))) ?_
        exact jk8 _ _ _ _ hf
      clear ek31
      refine j_acmp_ne (tgt := 72) C dX22_cancels_59 (by decide) (fun c37 => ?_) (fun c37 => ?_)
      · replace hf := gIf_f hf c37
        exact jk31 _ _ _ _ hf
      · replace hf := gIf_t hf c37
        refine j_aload_n C dX22_cancels_62 rfl ?_
        replace hf := gB1_e hf
        obtain ⟨r38, er38, hf⟩ := hf
        refine j_get C fl_X22_31_22 dX22_cancels_63 (gR_F er38) ?_
        refine j_iload_n C dX22_cancels_66 rfl ?_
        replace hf := gB1_e hf
        obtain ⟨a39, ea39, hf⟩ := hf
        subst ea39
        replace hf := gB1_e hf
        obtain ⟨r40, er40, hf⟩ := hf
        refine j_aald C (t := 5) rfl er40 dX22_cancels_67 ?_
        refine j_aload_n C dX22_cancels_68 rfl ?_
        replace hf := gB1_e hf
        obtain ⟨a41, ea41, hf⟩ := hf
        subst ea41
        replace hf := gB2_e hf
        obtain ⟨_, w42, ew42, hf⟩ := hf
        refine j_dp_Run_gathers (As := [(ga r26)]) (rest := []) (v := none) C (by omega) (kd_Run_gathers 12 (by omega) ew42) q1203 rfl (Nat.le_of_ble_eq_true rfl) dX22_cancels_69 ?_
        exact jk31 _ _ _ _ hf
    clear ek23
    refine j_acmp_ne (tgt := 50) C dX22_cancels_28 (by decide) (fun c43 => ?_) (fun c43 => ?_)
    · replace hf := gIf_f hf c43
      exact jk23 _ _ _ _ hf
    · replace hf := gIf_t hf c43
      refine j_aload_n C dX22_cancels_31 rfl ?_
      replace hf := gB1_e hf
      obtain ⟨r44, er44, hf⟩ := hf
      refine j_get C fl_X22_46_22 dX22_cancels_32 (gR_F er44) ?_
      refine j_bipush (v := (nI 10)) C dX22_cancels_35 (by decide) ?_
      refine j_iload_n C dX22_cancels_37 rfl ?_
      replace hf := gB1_e hf
      obtain ⟨a45, ea45, hf⟩ := hf
      subst ea45
      replace hf := gB1_e hf
      obtain ⟨_, eo, hf⟩ := hf
      replace hf := gB2_e hf
      obtain ⟨_, w46, ew46, hf⟩ := hf
      refine j_callV (As := [(gi (nI 10)), (gi x7)]) (rest := []) (v := none) C (by omega) (k_X16_notes (by omega) ew46) (gOb_e eo) rfl q1201 q944 q945 q118 q946 ⟨rfl, hd_X16_notes⟩ (by decide) rfl (Nat.le_of_ble_eq_true rfl) dX22_cancels_38 ?_
      refine j_aload_n C dX22_cancels_41 rfl ?_
      replace hf := gB1_e hf
      obtain ⟨r47, er47, hf⟩ := hf
      refine j_get C fl_X22_36_22 dX22_cancels_42 (gR_F er47) ?_
      refine j_iload_n C dX22_cancels_45 rfl ?_
      refine j_gets (i := 4) C C.2.2.2.2.2.1.2.2.2.2.1.2.2.1 q1202 dX22_cancels_46 ?_
      replace hf := gB1_e hf
      obtain ⟨a48, ea48, hf⟩ := hf
      subst ea48
      replace hf := gB1_e hf
      obtain ⟨w49, ew49, hf⟩ := hf
      refine j_aast C (t := 6) rfl gAsg_6 ew49 dX22_cancels_49 ?_
      exact jk23 _ _ _ _ hf
def dkwX18_lists_0 : List UInt8 := [42, 180, 0, 44, 198, 0, 11, 42, 180, 0, 44, 43, 182, 0, 96, 177]
abbrev dktX18_lists_0 : List UInt8 := dkwX18_lists_0 ++ []
theorem dksX18_lists_0 : cX18_lists.data.toList.drop 0 = dktX18_lists_0 := by decide +kernel
theorem dX18_lists_0 : decode cX18_lists 0 = .ok (.aload_n 0, 1) := dk_42 (dk_at dksX18_lists_0 0 rfl rfl)
theorem dX18_lists_1 : decode cX18_lists 1 = .ok (.getfield 44, 3) := dk_180 0 44 (dk_at dksX18_lists_0 1 rfl rfl)
theorem dX18_lists_4 : decode cX18_lists 4 = .ok (.ifnull 11, 3) := dk_198 0 11 (dk_at dksX18_lists_0 4 rfl rfl)
theorem dX18_lists_7 : decode cX18_lists 7 = .ok (.aload_n 0, 1) := dk_42 (dk_at dksX18_lists_0 7 rfl rfl)
theorem dX18_lists_8 : decode cX18_lists 8 = .ok (.getfield 44, 3) := dk_180 0 44 (dk_at dksX18_lists_0 8 rfl rfl)
theorem dX18_lists_11 : decode cX18_lists 11 = .ok (.aload_n 1, 1) := dk_43 (dk_at dksX18_lists_0 11 rfl rfl)
theorem dX18_lists_12 : decode cX18_lists 12 = .ok (.invokevirtual 96, 3) := dk_182 0 96 (dk_at dksX18_lists_0 12 rfl rfl)
theorem dX18_lists_15 : decode cX18_lists 15 = .ok (.return_, 1) := dk_177 (dk_at dksX18_lists_0 15 rfl rfl)
def f_X18_lists (rec : Nat → Option Nat → gw → Option (Unit × gw)) (a0 : Nat) (p1 : Option Nat) (w0 : gw) : Option (Unit × gw) := gB1 (gR w0 a0 18 3) fun r1 => gNl r1 (some ((), w0)) (fun a3 => gB1 (gR w0 a0 18 3) fun r4 => gB1 r4 fun a5 => gB2 (rec a5 p1 w0) fun _ w6 => some ((), w6))
set_option maxHeartbeats 4000000 in
set_option maxRecDepth 100000 in
theorem k_X18_lists {D : va_G} {dA : Nat → ClassId} {A : Nat → Prop} {K : Nat → Nat} {l : Launch} {h : Nat} {rec : Nat → Option Nat → gw → Option (Unit × gw)} {B : Nat} (hrec : ∀ {h : Nat}, B ≤ h → ∀ {a : Nat} {p1 : Option Nat} {w0 ww : gw} {rr : Unit}, rec a p1 w0 = some (rr, ww) → gDp_Run_lists D dA A K l h a [(ga p1)] none w0 ww) (hb : 1 ≤ B) (hh : B + 1 ≤ h) {a0 : Nat} {p1 : Option Nat} {w0 ww : gw} {rr : Unit} (hf : f_X18_lists rec a0 p1 w0 = some (rr, ww)) : gMet D dA A K l yX18_lists (ws_ yX18_lists cX18_lists 2 none) h [(ga (some a0)), (ga p1)] none w0 ww := by
  refine j_start (own := RX18) (by decide +kernel) rfl (Nat.le_of_ble_eq_true rfl) ?_
  intro p e R s m args below meth c C hr hin hw
  unfold f_X18_lists at hf
  show gJ D dA A K p l e R s m args below meth c (gEnd D dA A K below args s w0 none ww) 2 0 [(0, (ga (some a0))), (1, (ga p1))] [] w0
  refine j_aload_n C dX18_lists_0 rfl ?_
  replace hf := gB1_e hf
  obtain ⟨r1, er1, hf⟩ := hf
  refine j_get C fl_X18_44_18 dX18_lists_1 (gR_F er1) ?_
  refine j_ifnull (tgt := 15) C dX18_lists_4 (by decide) (fun c2 => ?_) (fun a3 c2 => ?_)
  · subst c2
    replace hf := gNl_n hf
    obtain ⟨rfl, rfl⟩ := gSome hf
    exact j_vret C hr hw dX18_lists_15
  · subst c2
    replace hf := gNl_s hf
    refine j_aload_n C dX18_lists_7 rfl ?_
    replace hf := gB1_e hf
    obtain ⟨r4, er4, hf⟩ := hf
    refine j_get C fl_X18_44_18 dX18_lists_8 (gR_F er4) ?_
    refine j_aload_n C dX18_lists_11 rfl ?_
    replace hf := gB1_e hf
    obtain ⟨a5, ea5, hf⟩ := hf
    subst ea5
    replace hf := gB2_e hf
    obtain ⟨_, w6, ew6, hf⟩ := hf
    refine j_dp_Run_lists (As := [(ga p1)]) (rest := []) (v := none) C (by omega) (hrec (by omega) ew6) q1371 rfl (Nat.le_of_ble_eq_true rfl) dX18_lists_12 ?_
    obtain ⟨rfl, rfl⟩ := gSome hf
    exact j_vret C hr hw dX18_lists_15
def dkwX22_lists_1 : List UInt8 := [180, 0, 31, 28, 50, 43, 182, 0, 140, 132, 2, 1, 167, 255, 222, 177]
abbrev dktX22_lists_1 : List UInt8 := dkwX22_lists_1 ++ []
def dkwX22_lists_0 : List UInt8 := [3, 61, 28, 42, 180, 0, 31, 190, 162, 0, 31, 42, 180, 0, 36, 28, 50, 178, 0, 59, 166, 0, 13, 42]
abbrev dktX22_lists_0 : List UInt8 := dkwX22_lists_0 ++ dktX22_lists_1
theorem dksX22_lists_0 : cX22_lists.data.toList.drop 0 = dktX22_lists_0 := by decide +kernel
theorem dksX22_lists_1 : cX22_lists.data.toList.drop 24 = dktX22_lists_1 := dk_seg dksX22_lists_0 24 rfl rfl
theorem dX22_lists_0 : decode cX22_lists 0 = .ok (.iconst 0, 1) := dk_3 (dk_at dksX22_lists_0 0 rfl rfl)
theorem dX22_lists_1 : decode cX22_lists 1 = .ok (.istore_n 2, 1) := dk_61 (dk_at dksX22_lists_0 1 rfl rfl)
theorem dX22_lists_2 : decode cX22_lists 2 = .ok (.iload_n 2, 1) := dk_28 (dk_at dksX22_lists_0 2 rfl rfl)
theorem dX22_lists_3 : decode cX22_lists 3 = .ok (.aload_n 0, 1) := dk_42 (dk_at dksX22_lists_0 3 rfl rfl)
theorem dX22_lists_4 : decode cX22_lists 4 = .ok (.getfield 31, 3) := dk_180 0 31 (dk_at dksX22_lists_0 4 rfl rfl)
theorem dX22_lists_7 : decode cX22_lists 7 = .ok (.arraylength, 1) := dk_190 (dk_at dksX22_lists_0 7 rfl rfl)
theorem dX22_lists_8 : decode cX22_lists 8 = .ok (.if_icmp .ge 31, 3) := dk_162 0 31 (dk_at dksX22_lists_0 8 rfl rfl)
theorem dX22_lists_11 : decode cX22_lists 11 = .ok (.aload_n 0, 1) := dk_42 (dk_at dksX22_lists_0 11 rfl rfl)
theorem dX22_lists_12 : decode cX22_lists 12 = .ok (.getfield 36, 3) := dk_180 0 36 (dk_at dksX22_lists_0 12 rfl rfl)
theorem dX22_lists_15 : decode cX22_lists 15 = .ok (.iload_n 2, 1) := dk_28 (dk_at dksX22_lists_0 15 rfl rfl)
theorem dX22_lists_16 : decode cX22_lists 16 = .ok (.aaload, 1) := dk_50 (dk_at dksX22_lists_0 16 rfl rfl)
theorem dX22_lists_17 : decode cX22_lists 17 = .ok (.getstatic 59, 3) := dk_178 0 59 (dk_at dksX22_lists_0 17 rfl rfl)
theorem dX22_lists_20 : decode cX22_lists 20 = .ok (.if_acmp .ne 13, 3) := dk_166 0 13 (dk_at dksX22_lists_0 20 rfl rfl)
theorem dX22_lists_23 : decode cX22_lists 23 = .ok (.aload_n 0, 1) := dk_42 (dk_at dksX22_lists_0 23 rfl rfl)
theorem dX22_lists_24 : decode cX22_lists 24 = .ok (.getfield 31, 3) := dk_180 0 31 (dk_at dksX22_lists_1 0 rfl rfl)
theorem dX22_lists_27 : decode cX22_lists 27 = .ok (.iload_n 2, 1) := dk_28 (dk_at dksX22_lists_1 3 rfl rfl)
theorem dX22_lists_28 : decode cX22_lists 28 = .ok (.aaload, 1) := dk_50 (dk_at dksX22_lists_1 4 rfl rfl)
theorem dX22_lists_29 : decode cX22_lists 29 = .ok (.aload_n 1, 1) := dk_43 (dk_at dksX22_lists_1 5 rfl rfl)
theorem dX22_lists_30 : decode cX22_lists 30 = .ok (.invokevirtual 140, 3) := dk_182 0 140 (dk_at dksX22_lists_1 6 rfl rfl)
theorem dX22_lists_33 : decode cX22_lists 33 = .ok (.iinc 2 1, 3) := dk_132 2 1 (dk_at dksX22_lists_1 9 rfl rfl)
theorem dX22_lists_36 : decode cX22_lists 36 = .ok (.goto (-34), 3) := dk_167 255 222 (dk_at dksX22_lists_1 12 rfl rfl)
theorem dX22_lists_39 : decode cX22_lists 39 = .ok (.return_, 1) := dk_177 (dk_at dksX22_lists_1 15 rfl rfl)
def f_X22_lists (rec : Nat → Option Nat → gw → Option (Unit × gw)) (a0 : Nat) (p1 : Option Nat) (w0 : gw) : Option (Unit × gw) := gL2 (fun k4 (r2 : Option Nat) (x3 : Int32) (w1 : gw) => gB1 (gR w1 a0 22 3) fun r5 => gB1 r5 fun a6 => gB1 (gLen w1 a6 5) fun x7 => if x7 ≤ x3 then some ((), w1) else gB1 (gR w1 a0 22 4) fun r9 => gB1 r9 fun a10 => gB1 (gLdR w1 a10 6 x3) fun r11 => gBd (fun (r14 : Option Nat) (x15 : Int32) (w13 : gw) => gBd (x15 + (nI 1)) fun x16 => k4 r14 x16 w13) fun k12 => if r11 = (some (w1.2.2.2 2)) then gB1 (gR w1 a0 22 3) fun r18 => gB1 r18 fun a19 => gB1 (gLdR w1 a19 5 x3) fun r20 => gB1 r20 fun a21 => gB2 (rec a21 r2 w1) fun _ w22 => k12 r2 x3 w22 else k12 r2 x3 w1) 20000 p1 (nI 0) w0
set_option maxHeartbeats 4000000 in
set_option maxRecDepth 100000 in
theorem k_X22_lists {D : va_G} {dA : Nat → ClassId} {A : Nat → Prop} {K : Nat → Nat} {l : Launch} {h : Nat} {rec : Nat → Option Nat → gw → Option (Unit × gw)} {B : Nat} (hrec : ∀ {h : Nat}, B ≤ h → ∀ {a : Nat} {p1 : Option Nat} {w0 ww : gw} {rr : Unit}, rec a p1 w0 = some (rr, ww) → gDp_Run_lists D dA A K l h a [(ga p1)] none w0 ww) (hb : 1 ≤ B) (hh : B + 1 ≤ h) {a0 : Nat} {p1 : Option Nat} {w0 ww : gw} {rr : Unit} (hf : f_X22_lists rec a0 p1 w0 = some (rr, ww)) : gMet D dA A K l yX22_lists (ws_ yX22_lists cX22_lists 3 none) h [(ga (some a0)), (ga p1)] none w0 ww := by
  refine j_start (own := RX22) (by decide +kernel) rfl (Nat.le_of_ble_eq_true rfl) ?_
  intro p e R s m args below meth c C hr hin hw
  unfold f_X22_lists at hf
  show gJ D dA A K p l e R s m args below meth c (gEnd D dA A K below args s w0 none ww) 3 0 [(0, (ga (some a0))), (1, (ga p1))] [] w0
  refine j_iconst (v := (nI 0)) C dX22_lists_0 (by decide) ?_
  refine j_istore_n (lv' := [(2, (gi (nI 0))), (0, (ga (some a0))), (1, (ga p1))]) C dX22_lists_1 (by decide) rfl ?_
  refine j_sub (lv' := [(0, (ga (some a0))), (1, (ga p1)), (2, (gi (nI 0)))]) (gL_cons rfl (gL_cons rfl (gL_cons rfl (gL_nil)))) ?_
  refine gL2_e (fun (r2 : Option Nat) (x3 : Int32) (w1 : gw) => gJ D dA A K p l e R s m args below meth c (gEnd D dA A K below args s w0 none ww) 3 2 [(0, (ga (some a0))), (1, (ga r2)), (2, (gi x3))] [] w1) ?_ _ _ _ _ hf
  intro k4 jk4 r2 x3 w1 hf
  refine j_iload_n C dX22_lists_2 rfl ?_
  refine j_aload_n C dX22_lists_3 rfl ?_
  replace hf := gB1_e hf
  obtain ⟨r5, er5, hf⟩ := hf
  refine j_get C fl_X22_31_22 dX22_lists_4 (gR_F er5) ?_
  replace hf := gB1_e hf
  obtain ⟨a6, ea6, hf⟩ := hf
  subst ea6
  replace hf := gB1_e hf
  obtain ⟨x7, ex7, hf⟩ := hf
  refine j_alen C (t := 5) rfl ex7 dX22_lists_7 ?_
  refine j_icmp_ge (tgt := 39) C dX22_lists_8 (by decide) (fun c8 => ?_) (fun c8 => ?_)
  · replace hf := gIf_t hf c8
    obtain ⟨rfl, rfl⟩ := gSome hf
    exact j_vret C hr hw dX22_lists_39
  · replace hf := gIf_f hf c8
    refine j_aload_n C dX22_lists_11 rfl ?_
    replace hf := gB1_e hf
    obtain ⟨r9, er9, hf⟩ := hf
    refine j_get C fl_X22_36_22 dX22_lists_12 (gR_F er9) ?_
    refine j_iload_n C dX22_lists_15 rfl ?_
    replace hf := gB1_e hf
    obtain ⟨a10, ea10, hf⟩ := hf
    subst ea10
    replace hf := gB1_e hf
    obtain ⟨r11, er11, hf⟩ := hf
    refine j_aald C (t := 6) rfl er11 dX22_lists_16 ?_
    refine j_gets (i := 2) C C.2.2.2.2.2.1.2.2.2.2.1.1 q1123 dX22_lists_17 ?_
    replace hf := gBd_x hf
    obtain ⟨k12, ek12, hf⟩ := hf
    have jk12 : ∀ (r14 : Option Nat) (x15 : Int32) (w13 : gw), k12 r14 x15 w13 = some (rr, ww) → gJ D dA A K p l e R s m args below meth c (gEnd D dA A K below args s w0 none ww) 3 33 [(0, (ga (some a0))), (1, (ga r14)), (2, (gi x15))] [] w13 := by
      intro r14 x15 w13 hf
      rw [ek12] at hf
      dsimp only at hf
      replace hf := gBd_x hf
      obtain ⟨x16, ex16, hf⟩ := hf
      refine j_iinc (v := x16) (lv' := [(2, (gi x16)), (0, (ga (some a0))), (1, (ga r14))]) C dX22_lists_33 rfl (by rw [ex16]; rfl) (by decide) rfl ?_
      refine j_goto (tgt := 2) C dX22_lists_36 (by decide) ?_
      refine j_sub (lv' := [(0, (ga (some a0))), (1, (ga r14)), (2, (gi x16))]) (gL_cons rfl (gL_cons rfl (gL_cons rfl (gL_nil)))) ?_
      exact jk4 _ _ _ hf
    clear ek12
    refine j_acmp_ne (tgt := 33) C dX22_lists_20 (by decide) (fun c17 => ?_) (fun c17 => ?_)
    · replace hf := gIf_f hf c17
      exact jk12 _ _ _ hf
    · replace hf := gIf_t hf c17
      refine j_aload_n C dX22_lists_23 rfl ?_
      replace hf := gB1_e hf
      obtain ⟨r18, er18, hf⟩ := hf
      refine j_get C fl_X22_31_22 dX22_lists_24 (gR_F er18) ?_
      refine j_iload_n C dX22_lists_27 rfl ?_
      replace hf := gB1_e hf
      obtain ⟨a19, ea19, hf⟩ := hf
      subst ea19
      replace hf := gB1_e hf
      obtain ⟨r20, er20, hf⟩ := hf
      refine j_aald C (t := 5) rfl er20 dX22_lists_28 ?_
      refine j_aload_n C dX22_lists_29 rfl ?_
      replace hf := gB1_e hf
      obtain ⟨a21, ea21, hf⟩ := hf
      subst ea21
      replace hf := gB2_e hf
      obtain ⟨_, w22, ew22, hf⟩ := hf
      refine j_dp_Run_lists (As := [(ga r2)]) (rest := []) (v := none) C (by omega) (hrec (by omega) ew22) q1374 rfl (Nat.le_of_ble_eq_true rfl) dX22_lists_30 ?_
      exact jk12 _ _ _ hf
def f_Run_lists_s (rec : Nat → Option Nat → gw → Option (Unit × gw)) (a : Nat) (p1 : Option Nat) (w0 : gw) : Option (Unit × gw) := gB1 (gCls w0 a) fun ci => if ci = 18 then f_X18_lists rec a p1 w0 else if ci = 20 then f_X17_lists a p1 w0 else if ci = 21 then f_X21_lists a p1 w0 else if ci = 22 then f_X22_lists rec a p1 w0 else if ci = 23 then f_X23_lists a p1 w0 else if ci = 24 then f_X24_lists a p1 w0 else none
theorem kd_Run_lists_s {D : va_G} {dA : Nat → ClassId} {A : Nat → Prop} {K : Nat → Nat} {l : Launch} {h : Nat} {rec : Nat → Option Nat → gw → Option (Unit × gw)} {B : Nat} (hrec : ∀ {h : Nat}, B ≤ h → ∀ {a : Nat} {p1 : Option Nat} {w0 ww : gw} {rr : Unit}, rec a p1 w0 = some (rr, ww) → gDp_Run_lists D dA A K l h a [(ga p1)] none w0 ww) (hb : 1 ≤ B) (hh : B + 1 ≤ h) {a : Nat} {p1 : Option Nat} {w0 ww : gw} {rr : Unit} (hf : f_Run_lists_s rec a p1 w0 = some (rr, ww)) : gDp_Run_lists D dA A K l h a [(ga p1)] none w0 ww := by
  unfold f_Run_lists_s at hf
  unfold gDp_Run_lists
  replace hf := gB1_e hf
  obtain ⟨ci, eci, hf⟩ := hf
  by_cases c0 : ci = 18
  · replace hf := gIf_t hf c0
    exact Or.inl ⟨by rw [eci, c0], k_X18_lists hrec hb (by omega) hf⟩
  replace hf := gIf_f hf c0
  by_cases c1 : ci = 20
  · replace hf := gIf_t hf c1
    exact Or.inr (Or.inl ⟨by rw [eci, c1], k_X17_lists (by omega) hf⟩)
  replace hf := gIf_f hf c1
  by_cases c2 : ci = 21
  · replace hf := gIf_t hf c2
    exact Or.inr (Or.inr (Or.inl ⟨by rw [eci, c2], k_X21_lists (by omega) hf⟩))
  replace hf := gIf_f hf c2
  by_cases c3 : ci = 22
  · replace hf := gIf_t hf c3
    exact Or.inr (Or.inr (Or.inr (Or.inl ⟨by rw [eci, c3], k_X22_lists hrec hb (by omega) hf⟩)))
  replace hf := gIf_f hf c3
  by_cases c4 : ci = 23
  · replace hf := gIf_t hf c4
    exact Or.inr (Or.inr (Or.inr (Or.inr (Or.inl ⟨by rw [eci, c4], k_X23_lists (by omega) hf⟩))))
  replace hf := gIf_f hf c4
  by_cases c5 : ci = 24
  · replace hf := gIf_t hf c5
    exact Or.inr (Or.inr (Or.inr (Or.inr (Or.inr (⟨by rw [eci, c5], k_X24_lists (by omega) hf⟩)))))
  replace hf := gIf_f hf c5
  cases hf
def f_Run_lists : Nat → Nat → Option Nat → gw → Option (Unit × gw)
  | 0 => fun _ _ _ => none
  | d + 1 => f_Run_lists_s (f_Run_lists d)
theorem kd_Run_lists {D : va_G} {dA : Nat → ClassId} {A : Nat → Prop} {K : Nat → Nat} {l : Launch} : ∀ (d : Nat) {h : Nat}, 1 + 1 * d ≤ h → ∀ {a : Nat} {p1 : Option Nat} {w0 ww : gw} {rr : Unit}, f_Run_lists d a p1 w0 = some (rr, ww) → gDp_Run_lists D dA A K l h a [(ga p1)] none w0 ww := by
  intro d
  induction d with
  | zero => intro h hh a p1 w0 ww rr hf; cases hf
  | succ d ih =>
    intro h hh a p1 w0 ww rr hf
    exact kd_Run_lists_s (rec := f_Run_lists d) (B := 1 + 1 * d) (fun hh => ih hh) (by omega) (by omega) hf
abbrev f_X18_lists_x (a0 : Nat) (p1 : Option Nat) (w0 : gw) : Option (Unit × gw) := f_X18_lists (f_Run_lists 12) a0 p1 w0
theorem k_X18_lists_x {D : va_G} {dA : Nat → ClassId} {A : Nat → Prop} {K : Nat → Nat} {l : Launch} {h : Nat} (hh : 14 ≤ h) {a0 : Nat} {p1 : Option Nat} {w0 ww : gw} {rr : Unit} (hf : f_X18_lists_x a0 p1 w0 = some (rr, ww)) : gMet D dA A K l yX18_lists (ws_ yX18_lists cX18_lists 2 none) h [(ga (some a0)), (ga p1)] none w0 ww := k_X18_lists (fun hh => kd_Run_lists 12 hh) (B := 13) (by omega) (by omega) hf
abbrev f_X22_lists_x (a0 : Nat) (p1 : Option Nat) (w0 : gw) : Option (Unit × gw) := f_X22_lists (f_Run_lists 12) a0 p1 w0
theorem k_X22_lists_x {D : va_G} {dA : Nat → ClassId} {A : Nat → Prop} {K : Nat → Nat} {l : Launch} {h : Nat} (hh : 14 ≤ h) {a0 : Nat} {p1 : Option Nat} {w0 ww : gw} {rr : Unit} (hf : f_X22_lists_x a0 p1 w0 = some (rr, ww)) : gMet D dA A K l yX22_lists (ws_ yX22_lists cX22_lists 3 none) h [(ga (some a0)), (ga p1)] none w0 ww := k_X22_lists (fun hh => kd_Run_lists 12 hh) (B := 13) (by omega) (by omega) hf
def dkwX0_running_3 : List UInt8 := [180, 0, 206, 28, 46, 167, 0, 4, 2, 172]
abbrev dktX0_running_3 : List UInt8 := dkwX0_running_3 ++ []
def dkwX0_running_2 : List UInt8 := [160, 0, 8, 45, 180, 0, 203, 172, 28, 3, 45, 180, 0, 203, 4, 100, 184, 0, 5, 153, 0, 12, 45]
abbrev dktX0_running_2 : List UInt8 := dkwX0_running_2 ++ dktX0_running_3
def dkwX0_running_1 : List UInt8 := [180, 0, 109, 27, 50, 180, 0, 126, 58, 4, 25, 4, 198, 0, 9, 25, 4, 45, 182, 0, 197, 28, 2]
abbrev dktX0_running_1 : List UInt8 := dkwX0_running_1 ++ dktX0_running_2
def dkwX0_running_0 : List UInt8 := [42, 27, 182, 0, 132, 154, 0, 5, 2, 172, 187, 0, 194, 89, 183, 0, 196, 78, 42, 180, 0, 91]
abbrev dktX0_running_0 : List UInt8 := dkwX0_running_0 ++ dktX0_running_1
theorem dksX0_running_0 : cX0_running.data.toList.drop 0 = dktX0_running_0 := by decide +kernel
theorem dksX0_running_1 : cX0_running.data.toList.drop 22 = dktX0_running_1 := dk_seg dksX0_running_0 22 rfl rfl
theorem dksX0_running_2 : cX0_running.data.toList.drop 45 = dktX0_running_2 := dk_seg dksX0_running_1 23 rfl rfl
theorem dksX0_running_3 : cX0_running.data.toList.drop 68 = dktX0_running_3 := dk_seg dksX0_running_2 23 rfl rfl
theorem dX0_running_0 : decode cX0_running 0 = .ok (.aload_n 0, 1) := dk_42 (dk_at dksX0_running_0 0 rfl rfl)
theorem dX0_running_1 : decode cX0_running 1 = .ok (.iload_n 1, 1) := dk_27 (dk_at dksX0_running_0 1 rfl rfl)
theorem dX0_running_2 : decode cX0_running 2 = .ok (.invokevirtual 132, 3) := dk_182 0 132 (dk_at dksX0_running_0 2 rfl rfl)
theorem dX0_running_5 : decode cX0_running 5 = .ok (.ifCond .ne 5, 3) := dk_154 0 5 (dk_at dksX0_running_0 5 rfl rfl)
theorem dX0_running_8 : decode cX0_running 8 = .ok (.iconst (-1), 1) := dk_2 (dk_at dksX0_running_0 8 rfl rfl)
theorem dX0_running_9 : decode cX0_running 9 = .ok (.ireturn, 1) := dk_172 (dk_at dksX0_running_0 9 rfl rfl)
theorem dX0_running_10 : decode cX0_running 10 = .ok (.new 194, 3) := dk_187 0 194 (dk_at dksX0_running_0 10 rfl rfl)
theorem dX0_running_13 : decode cX0_running 13 = .ok (.dup, 1) := dk_89 (dk_at dksX0_running_0 13 rfl rfl)
theorem dX0_running_14 : decode cX0_running 14 = .ok (.invokespecial 196, 3) := dk_183 0 196 (dk_at dksX0_running_0 14 rfl rfl)
theorem dX0_running_17 : decode cX0_running 17 = .ok (.astore_n 3, 1) := dk_78 (dk_at dksX0_running_0 17 rfl rfl)
theorem dX0_running_18 : decode cX0_running 18 = .ok (.aload_n 0, 1) := dk_42 (dk_at dksX0_running_0 18 rfl rfl)
theorem dX0_running_19 : decode cX0_running 19 = .ok (.getfield 91, 3) := dk_180 0 91 (dk_at dksX0_running_0 19 rfl rfl)
theorem dX0_running_22 : decode cX0_running 22 = .ok (.getfield 109, 3) := dk_180 0 109 (dk_at dksX0_running_1 0 rfl rfl)
theorem dX0_running_25 : decode cX0_running 25 = .ok (.iload_n 1, 1) := dk_27 (dk_at dksX0_running_1 3 rfl rfl)
theorem dX0_running_26 : decode cX0_running 26 = .ok (.aaload, 1) := dk_50 (dk_at dksX0_running_1 4 rfl rfl)
theorem dX0_running_27 : decode cX0_running 27 = .ok (.getfield 126, 3) := dk_180 0 126 (dk_at dksX0_running_1 5 rfl rfl)
theorem dX0_running_30 : decode cX0_running 30 = .ok (.astore 4, 2) := dk_58 4 (dk_at dksX0_running_1 8 rfl rfl)
theorem dX0_running_32 : decode cX0_running 32 = .ok (.aload 4, 2) := dk_25 4 (dk_at dksX0_running_1 10 rfl rfl)
theorem dX0_running_34 : decode cX0_running 34 = .ok (.ifnull 9, 3) := dk_198 0 9 (dk_at dksX0_running_1 12 rfl rfl)
theorem dX0_running_37 : decode cX0_running 37 = .ok (.aload 4, 2) := dk_25 4 (dk_at dksX0_running_1 15 rfl rfl)
theorem dX0_running_39 : decode cX0_running 39 = .ok (.aload_n 3, 1) := dk_45 (dk_at dksX0_running_1 17 rfl rfl)
theorem dX0_running_40 : decode cX0_running 40 = .ok (.invokevirtual 197, 3) := dk_182 0 197 (dk_at dksX0_running_1 18 rfl rfl)
theorem dX0_running_43 : decode cX0_running 43 = .ok (.iload_n 2, 1) := dk_28 (dk_at dksX0_running_1 21 rfl rfl)
theorem dX0_running_44 : decode cX0_running 44 = .ok (.iconst (-1), 1) := dk_2 (dk_at dksX0_running_1 22 rfl rfl)
theorem dX0_running_45 : decode cX0_running 45 = .ok (.if_icmp .ne 8, 3) := dk_160 0 8 (dk_at dksX0_running_2 0 rfl rfl)
theorem dX0_running_48 : decode cX0_running 48 = .ok (.aload_n 3, 1) := dk_45 (dk_at dksX0_running_2 3 rfl rfl)
theorem dX0_running_49 : decode cX0_running 49 = .ok (.getfield 203, 3) := dk_180 0 203 (dk_at dksX0_running_2 4 rfl rfl)
theorem dX0_running_52 : decode cX0_running 52 = .ok (.ireturn, 1) := dk_172 (dk_at dksX0_running_2 7 rfl rfl)
theorem dX0_running_53 : decode cX0_running 53 = .ok (.iload_n 2, 1) := dk_28 (dk_at dksX0_running_2 8 rfl rfl)
theorem dX0_running_54 : decode cX0_running 54 = .ok (.iconst 0, 1) := dk_3 (dk_at dksX0_running_2 9 rfl rfl)
theorem dX0_running_55 : decode cX0_running 55 = .ok (.aload_n 3, 1) := dk_45 (dk_at dksX0_running_2 10 rfl rfl)
theorem dX0_running_56 : decode cX0_running 56 = .ok (.getfield 203, 3) := dk_180 0 203 (dk_at dksX0_running_2 11 rfl rfl)
theorem dX0_running_59 : decode cX0_running 59 = .ok (.iconst 1, 1) := dk_4 (dk_at dksX0_running_2 14 rfl rfl)
theorem dX0_running_60 : decode cX0_running 60 = .ok (.isub, 1) := dk_100 (dk_at dksX0_running_2 15 rfl rfl)
theorem dX0_running_61 : decode cX0_running 61 = .ok (.invokestatic 5, 3) := dk_184 0 5 (dk_at dksX0_running_2 16 rfl rfl)
theorem dX0_running_64 : decode cX0_running 64 = .ok (.ifCond .eq 12, 3) := dk_153 0 12 (dk_at dksX0_running_2 19 rfl rfl)
theorem dX0_running_67 : decode cX0_running 67 = .ok (.aload_n 3, 1) := dk_45 (dk_at dksX0_running_2 22 rfl rfl)
theorem dX0_running_68 : decode cX0_running 68 = .ok (.getfield 206, 3) := dk_180 0 206 (dk_at dksX0_running_3 0 rfl rfl)
theorem dX0_running_71 : decode cX0_running 71 = .ok (.iload_n 2, 1) := dk_28 (dk_at dksX0_running_3 3 rfl rfl)
theorem dX0_running_72 : decode cX0_running 72 = .ok (.iaload, 1) := dk_46 (dk_at dksX0_running_3 4 rfl rfl)
theorem dX0_running_73 : decode cX0_running 73 = .ok (.goto 4, 3) := dk_167 0 4 (dk_at dksX0_running_3 5 rfl rfl)
theorem dX0_running_76 : decode cX0_running 76 = .ok (.iconst (-1), 1) := dk_2 (dk_at dksX0_running_3 8 rfl rfl)
theorem dX0_running_77 : decode cX0_running 77 = .ok (.ireturn, 1) := dk_172 (dk_at dksX0_running_3 9 rfl rfl)
theorem nl_X0_194 : gNL RX0 194 27 := ⟨RX27, TX27, 2, 2, tyX27, _, rfl, rfl, in_X27, tyX27_ok, q1342, q1343, q131, fun j hj => by rcases (show j = 0 ∨ j = 1 by omega) with rfl | rfl <;> rfl⟩
theorem hd_X27_init : (yX27_init.cls ≠ "java/lang/invoke/MethodHandle" ∧ yX27_init.cls ≠ "java/lang/invoke/VarHandle" ∧ (parseMethodDescriptor yX27_init.desc).map (fun d => d.parameters.length) = some 0) := ⟨by decide +kernel, by decide +kernel, by decide +kernel⟩
theorem fl_X0_126_16 : gFL RX0 126 16 13 := gFL.mkN (Cn := RX16) (T := TX16) (N := 16) (ref := "WorkflowEngine$Instance") rfl in_X16 (by decide) nq837 rfl rfl (Or.inl rfl)
theorem fl_X0_203_27 : gFL RX0 203 27 1 := gFL.mkN (Cn := RX27) (T := TX27) (N := 2) (ref := "WorkflowEngine$Places") rfl in_X27 (by decide) nq1351 rfl rfl (Or.inl rfl)
theorem fl_X0_206_27 : gFL RX0 206 27 0 := gFL.mkN (Cn := RX27) (T := TX27) (N := 2) (ref := "WorkflowEngine$Places") rfl in_X27 (by decide) nq1349 rfl rfl (Or.inl rfl)
def f_X0_running (a0 : Nat) (p1 : Int32) (p2 : Int32) (w0 : gw) : Option (Int32 × gw) := gB1 (gOb w0 a0 0) fun _ => gB2 (f_X0_isInstance a0 p1 w0) fun x2 w1 => if x2 = 0 then some ((-1), w1) else gB2 (gNew w1 27) fun a4 w5 => gB2 (f_X27_init a4  w5) fun _ w6 => gB1 (gR w6 a0 0 5) fun r7 => gB1 r7 fun a8 => gB1 (gR w6 a8 1 2) fun r9 => gB1 r9 fun a10 => gB1 (gLdR w6 a10 4 p1) fun r11 => gB1 r11 fun a12 => gB1 (gR w6 a12 16 13) fun r13 => gBd (fun (x16 : Int32) (r17 : Option Nat) (w15 : gw) => if x16 = (-1) then gB1 r17 fun a27 => gB1 (gI w15 a27 27 1) fun x28 => some (x28, w15) else gB1 r17 fun a19 => gB1 (gI w15 a19 27 1) fun x20 => gB2 (f_X0_in x16 (nI 0) (x20 - (nI 1)) w15) fun x22 w21 => if x22 = 0 then some ((-1), w21) else gB1 (gR w21 a19 27 0) fun r24 => gB1 r24 fun a25 => gB1 (gLdI w21 a25 0 x16) fun x26 => some (x26, w21)) fun k14 => gNl r13 (k14 p2 (some a4) w6) (fun a30 => gB2 (f_Run_lists 12 a30 (some a4) w6) fun _ w31 => k14 p2 (some a4) w31)
set_option maxHeartbeats 4000000 in
set_option maxRecDepth 100000 in
theorem k_X0_running {D : va_G} {dA : Nat → ClassId} {A : Nat → Prop} {K : Nat → Nat} {l : Launch} {h : Nat} (hh : 14 ≤ h) {a0 : Nat} {p1 : Int32} {p2 : Int32} {w0 ww : gw} {rr : Int32} (hf : f_X0_running a0 p1 p2 w0 = some (rr, ww)) : gMet D dA A K l yX0_running (ws_ yX0_running cX0_running 5 (some .int)) h [(ga (some a0)), (gi p1), (gi p2)] (some (gi rr)) w0 ww := by
  refine j_start (own := RX0) (by decide +kernel) rfl (Nat.le_of_ble_eq_true rfl) ?_
  intro p e R s m args below meth c C hr hin hw
  unfold f_X0_running at hf
  show gJ D dA A K p l e R s m args below meth c (gEnd D dA A K below args s w0 (some (gi rr)) ww) 5 0 [(0, (ga (some a0))), (1, (gi p1)), (2, (gi p2))] [] w0
  refine j_aload_n C dX0_running_0 rfl ?_
  refine j_iload_n C dX0_running_1 rfl ?_
  replace hf := gB1_e hf
  obtain ⟨_, eo, hf⟩ := hf
  replace hf := gB2_e hf
  obtain ⟨x2, w1, ew1, hf⟩ := hf
  refine j_callV (As := [(gi p1)]) (rest := []) (v := (some (gi x2))) C (by omega) (k_X0_isInstance (by omega) ew1) (gOb_e eo) rfl q1301 q1303 qs29 q91 q1304 ⟨rfl, hd_X0_isInstance⟩ (by decide) rfl (Nat.le_of_ble_eq_true rfl) dX0_running_2 ?_
  refine j_if_ne (tgt := 10) C dX0_running_5 (by decide) (fun c3 => ?_) (fun c3 => ?_)
  · replace hf := gIf_f hf c3
    replace hf := gB2_e hf
    obtain ⟨a4, w5, ew5, hf⟩ := hf
    refine j_new C nl_X0_194 ew5 dX0_running_10 ?_
    refine j_dup C dX0_running_13 ?_
    replace hf := gB2_e hf
    obtain ⟨_, w6, ew6, hf⟩ := hf
    refine j_callIN (As := []) (rest := [(ga (some a4))]) C (by omega) (k_X27_init (by omega) ew6) rfl nq1344 q1345 q131 q1346 hd_X27_init (by decide) rfl (Nat.le_of_ble_eq_true rfl) dX0_running_14 ?_
    refine j_astore_n (lv' := [(3, (ga (some a4))), (0, (ga (some a0))), (1, (gi p1)), (2, (gi p2))]) C dX0_running_17 (by decide) rfl ?_
    refine j_aload_n C dX0_running_18 rfl ?_
    replace hf := gB1_e hf
    obtain ⟨r7, er7, hf⟩ := hf
    refine j_get C fl_X0_91_0 dX0_running_19 (gR_F er7) ?_
    replace hf := gB1_e hf
    obtain ⟨a8, ea8, hf⟩ := hf
    subst ea8
    replace hf := gB1_e hf
    obtain ⟨r9, er9, hf⟩ := hf
    refine j_get C fl_X0_109_1 dX0_running_22 (gR_F er9) ?_
    refine j_iload_n C dX0_running_25 rfl ?_
    replace hf := gB1_e hf
    obtain ⟨a10, ea10, hf⟩ := hf
    subst ea10
    replace hf := gB1_e hf
    obtain ⟨r11, er11, hf⟩ := hf
    refine j_aald C (t := 4) rfl er11 dX0_running_26 ?_
    replace hf := gB1_e hf
    obtain ⟨a12, ea12, hf⟩ := hf
    subst ea12
    replace hf := gB1_e hf
    obtain ⟨r13, er13, hf⟩ := hf
    refine j_get C fl_X0_126_16 dX0_running_27 (gR_F er13) ?_
    refine j_astore (lv' := [(4, (ga r13)), (3, (ga (some a4))), (0, (ga (some a0))), (1, (gi p1)), (2, (gi p2))]) C dX0_running_30 (by decide) rfl ?_
    refine j_aload C dX0_running_32 rfl ?_
    replace hf := gBd_x hf
    obtain ⟨k14, ek14, hf⟩ := hf
    have jk14 : ∀ (x16 : Int32) (r17 : Option Nat) (w15 : gw), k14 x16 r17 w15 = some (rr, ww) → gJ D dA A K p l e R s m args below meth c (gEnd D dA A K below args s w0 (some (gi rr)) ww) 5 43 [(2, (gi x16)), (3, (ga r17))] [] w15 := by
      intro x16 r17 w15 hf
      rw [ek14] at hf
      dsimp only at hf
      refine j_iload_n C dX0_running_43 rfl ?_
      refine j_iconst (v := (-1)) C dX0_running_44 (by decide) ?_
      refine j_icmp_ne (tgt := 53) C dX0_running_45 (by decide) (fun c18 => ?_) (fun c18 => ?_)
      · replace hf := gIf_f hf c18
        refine j_iload_n C dX0_running_53 rfl ?_
        refine j_iconst (v := (nI 0)) C dX0_running_54 (by decide) ?_
        refine j_aload_n C dX0_running_55 rfl ?_
        replace hf := gB1_e hf
        obtain ⟨a19, ea19, hf⟩ := hf
        subst ea19
        replace hf := gB1_e hf
        obtain ⟨x20, ex20, hf⟩ := hf
        refine j_get C fl_X0_203_27 dX0_running_56 (gI_F ex20) ?_
        refine j_iconst (v := (nI 1)) C dX0_running_59 (by decide) ?_
        refine j_isub C dX0_running_60 ?_
        replace hf := gB2_e hf
        obtain ⟨x22, w21, ew21, hf⟩ := hf
        refine j_callS (As := [(gi x16), (gi (nI 0)), (gi (x20 - (nI 1)))]) (rest := []) (v := (some (gi x22))) C (by omega) (k_X0_in (by omega) ew21) q138 q139 q91 q140 hd_X0_in (by decide) rfl (Nat.le_of_ble_eq_true rfl) dX0_running_61 ?_
        refine j_if_eq (tgt := 76) C dX0_running_64 (by decide) (fun c23 => ?_) (fun c23 => ?_)
        · replace hf := gIf_t hf c23
          refine j_iconst (v := (-1)) C dX0_running_76 (by decide) ?_
          obtain ⟨rfl, rfl⟩ := gSome hf
          exact j_iret C hr hw dX0_running_77
        · replace hf := gIf_f hf c23
          refine j_aload_n C dX0_running_67 rfl ?_
          replace hf := gB1_e hf
          obtain ⟨r24, er24, hf⟩ := hf
          refine j_get C fl_X0_206_27 dX0_running_68 (gR_F er24) ?_
          refine j_iload_n C dX0_running_71 rfl ?_
          replace hf := gB1_e hf
          obtain ⟨a25, ea25, hf⟩ := hf
          subst ea25
          replace hf := gB1_e hf
          obtain ⟨x26, ex26, hf⟩ := hf
          refine j_iald C ex26 dX0_running_72 ?_
          refine j_goto (tgt := 77) C dX0_running_73 (by decide) ?_
          obtain ⟨rfl, rfl⟩ := gSome hf
          exact j_iret C hr hw dX0_running_77
      · replace hf := gIf_t hf c18
        refine j_aload_n C dX0_running_48 rfl ?_
        replace hf := gB1_e hf
        obtain ⟨a27, ea27, hf⟩ := hf
        subst ea27
        replace hf := gB1_e hf
        obtain ⟨x28, ex28, hf⟩ := hf
        refine j_get C fl_X0_203_27 dX0_running_49 (gI_F ex28) ?_
        obtain ⟨rfl, rfl⟩ := gSome hf
        exact j_iret C hr hw dX0_running_52
    clear ek14
    refine j_ifnull (tgt := 43) C dX0_running_34 (by decide) (fun c29 => ?_) (fun a30 c29 => ?_)
    · subst c29
      replace hf := gNl_n hf
      refine j_sub (lv' := [(2, (gi p2)), (3, (ga (some a4)))]) (gL_cons rfl (gL_cons rfl (gL_nil))) ?_
      exact jk14 _ _ _ hf
    · subst c29
      replace hf := gNl_s hf
      refine j_aload C dX0_running_37 rfl ?_
      refine j_aload_n C dX0_running_39 rfl ?_
      replace hf := gB2_e hf
      obtain ⟨_, w31, ew31, hf⟩ := hf
      refine j_dp_Run_lists (As := [(ga (some a4))]) (rest := []) (v := none) C (by omega) (kd_Run_lists 12 (by omega) ew31) q1357 rfl (Nat.le_of_ble_eq_true rfl) dX0_running_40 ?_
      refine j_sub (lv' := [(2, (gi p2)), (3, (ga (some a4)))]) (gL_cons rfl (gL_cons rfl (gL_nil))) ?_
      exact jk14 _ _ _ hf
  · replace hf := gIf_t hf c3
    refine j_iconst (v := (-1)) C dX0_running_8 (by decide) ?_
    obtain ⟨rfl, rfl⟩ := gSome hf
    exact j_iret C hr hw dX0_running_9
def dkwX18_due_0 : List UInt8 := [42, 180, 0, 44, 199, 0, 8, 18, 92, 167, 0, 10, 42, 180, 0, 44, 182, 0, 93, 172]
abbrev dktX18_due_0 : List UInt8 := dkwX18_due_0 ++ []
theorem dksX18_due_0 : cX18_due.data.toList.drop 0 = dktX18_due_0 := by decide +kernel
theorem dX18_due_0 : decode cX18_due 0 = .ok (.aload_n 0, 1) := dk_42 (dk_at dksX18_due_0 0 rfl rfl)
theorem dX18_due_1 : decode cX18_due 1 = .ok (.getfield 44, 3) := dk_180 0 44 (dk_at dksX18_due_0 1 rfl rfl)
theorem dX18_due_4 : decode cX18_due 4 = .ok (.ifnonnull 8, 3) := dk_199 0 8 (dk_at dksX18_due_0 4 rfl rfl)
theorem dX18_due_7 : decode cX18_due 7 = .ok (.ldc 92, 2) := dk_18 92 (dk_at dksX18_due_0 7 rfl rfl)
theorem dX18_due_9 : decode cX18_due 9 = .ok (.goto 10, 3) := dk_167 0 10 (dk_at dksX18_due_0 9 rfl rfl)
theorem dX18_due_12 : decode cX18_due 12 = .ok (.aload_n 0, 1) := dk_42 (dk_at dksX18_due_0 12 rfl rfl)
theorem dX18_due_13 : decode cX18_due 13 = .ok (.getfield 44, 3) := dk_180 0 44 (dk_at dksX18_due_0 13 rfl rfl)
theorem dX18_due_16 : decode cX18_due 16 = .ok (.invokevirtual 93, 3) := dk_182 0 93 (dk_at dksX18_due_0 16 rfl rfl)
theorem dX18_due_19 : decode cX18_due 19 = .ok (.ireturn, 1) := dk_172 (dk_at dksX18_due_0 19 rfl rfl)
def f_X18_due (rec : Nat → gw → Option (Int32 × gw)) (a0 : Nat) (w0 : gw) : Option (Int32 × gw) := gB1 (gR w0 a0 18 3) fun r1 => gNl r1 (some ((nI 2147483647), w0)) (fun a3 => gB1 (gR w0 a0 18 3) fun r4 => gB1 r4 fun a5 => gB2 (rec a5  w0) fun x7 w6 => some (x7, w6))
set_option maxHeartbeats 4000000 in
set_option maxRecDepth 100000 in
theorem k_X18_due {D : va_G} {dA : Nat → ClassId} {A : Nat → Prop} {K : Nat → Nat} {l : Launch} {h : Nat} {rec : Nat → gw → Option (Int32 × gw)} {B : Nat} (hrec : ∀ {h : Nat}, B ≤ h → ∀ {a : Nat} {w0 ww : gw} {rr : Int32}, rec a  w0 = some (rr, ww) → gDp_Run_due D dA A K l h a [] (some (gi rr)) w0 ww) (hb : 1 ≤ B) (hh : B + 1 ≤ h) {a0 : Nat} {w0 ww : gw} {rr : Int32} (hf : f_X18_due rec a0 w0 = some (rr, ww)) : gMet D dA A K l yX18_due (ws_ yX18_due cX18_due 1 (some .int)) h [(ga (some a0))] (some (gi rr)) w0 ww := by
  refine j_start (own := RX18) (by decide +kernel) rfl (Nat.le_of_ble_eq_true rfl) ?_
  intro p e R s m args below meth c C hr hin hw
  unfold f_X18_due at hf
  show gJ D dA A K p l e R s m args below meth c (gEnd D dA A K below args s w0 (some (gi rr)) ww) 1 0 [(0, (ga (some a0)))] [] w0
  refine j_aload_n C dX18_due_0 rfl ?_
  replace hf := gB1_e hf
  obtain ⟨r1, er1, hf⟩ := hf
  refine j_get C fl_X18_44_18 dX18_due_1 (gR_F er1) ?_
  refine j_ifnonnull (tgt := 12) C dX18_due_4 (by decide) (fun a3 c2 => ?_) (fun c2 => ?_)
  · subst c2
    replace hf := gNl_s hf
    refine j_aload_n C dX18_due_12 rfl ?_
    replace hf := gB1_e hf
    obtain ⟨r4, er4, hf⟩ := hf
    refine j_get C fl_X18_44_18 dX18_due_13 (gR_F er4) ?_
    replace hf := gB1_e hf
    obtain ⟨a5, ea5, hf⟩ := hf
    subst ea5
    replace hf := gB2_e hf
    obtain ⟨x7, w6, ew6, hf⟩ := hf
    refine j_dp_Run_due (As := []) (rest := []) (v := (some (gi x7))) C (by omega) (hrec (by omega) ew6) q1407 rfl (Nat.le_of_ble_eq_true rfl) dX18_due_16 ?_
    obtain ⟨rfl, rfl⟩ := gSome hf
    exact j_iret C hr hw dX18_due_19
  · subst c2
    replace hf := gNl_n hf
    refine j_ldc (v := (nI 2147483647)) C q1406 dX18_due_7 ?_
    refine j_goto (tgt := 19) C dX18_due_9 (by decide) ?_
    obtain ⟨rfl, rfl⟩ := gSome hf
    exact j_iret C hr hw dX18_due_19
def dkwX22_due_3 : List UInt8 := [167, 255, 207, 27, 172]
abbrev dktX22_due_3 : List UInt8 := dkwX22_due_3 ++ []
def dkwX22_due_2 : List UInt8 := [166, 0, 19, 27, 42, 180, 0, 31, 28, 50, 182, 0, 131, 184, 0, 134, 167, 0, 4, 27, 60, 132, 2, 1]
abbrev dktX22_due_2 : List UInt8 := dkwX22_due_2 ++ dktX22_due_3
def dkwX22_due_1 : List UInt8 := [180, 0, 31, 190, 162, 0, 46, 42, 180, 0, 94, 199, 0, 39, 42, 180, 0, 36, 28, 50, 178, 0, 59]
abbrev dktX22_due_1 : List UInt8 := dkwX22_due_1 ++ dktX22_due_2
def dkwX22_due_0 : List UInt8 := [42, 180, 0, 94, 199, 0, 8, 18, 127, 167, 0, 10, 42, 180, 0, 94, 180, 0, 128, 60, 3, 61, 28, 42]
abbrev dktX22_due_0 : List UInt8 := dkwX22_due_0 ++ dktX22_due_1
theorem dksX22_due_0 : cX22_due.data.toList.drop 0 = dktX22_due_0 := by decide +kernel
theorem dksX22_due_1 : cX22_due.data.toList.drop 24 = dktX22_due_1 := dk_seg dksX22_due_0 24 rfl rfl
theorem dksX22_due_2 : cX22_due.data.toList.drop 47 = dktX22_due_2 := dk_seg dksX22_due_1 23 rfl rfl
theorem dksX22_due_3 : cX22_due.data.toList.drop 71 = dktX22_due_3 := dk_seg dksX22_due_2 24 rfl rfl
theorem dX22_due_0 : decode cX22_due 0 = .ok (.aload_n 0, 1) := dk_42 (dk_at dksX22_due_0 0 rfl rfl)
theorem dX22_due_1 : decode cX22_due 1 = .ok (.getfield 94, 3) := dk_180 0 94 (dk_at dksX22_due_0 1 rfl rfl)
theorem dX22_due_4 : decode cX22_due 4 = .ok (.ifnonnull 8, 3) := dk_199 0 8 (dk_at dksX22_due_0 4 rfl rfl)
theorem dX22_due_7 : decode cX22_due 7 = .ok (.ldc 127, 2) := dk_18 127 (dk_at dksX22_due_0 7 rfl rfl)
theorem dX22_due_9 : decode cX22_due 9 = .ok (.goto 10, 3) := dk_167 0 10 (dk_at dksX22_due_0 9 rfl rfl)
theorem dX22_due_12 : decode cX22_due 12 = .ok (.aload_n 0, 1) := dk_42 (dk_at dksX22_due_0 12 rfl rfl)
theorem dX22_due_13 : decode cX22_due 13 = .ok (.getfield 94, 3) := dk_180 0 94 (dk_at dksX22_due_0 13 rfl rfl)
theorem dX22_due_16 : decode cX22_due 16 = .ok (.getfield 128, 3) := dk_180 0 128 (dk_at dksX22_due_0 16 rfl rfl)
theorem dX22_due_19 : decode cX22_due 19 = .ok (.istore_n 1, 1) := dk_60 (dk_at dksX22_due_0 19 rfl rfl)
theorem dX22_due_20 : decode cX22_due 20 = .ok (.iconst 0, 1) := dk_3 (dk_at dksX22_due_0 20 rfl rfl)
theorem dX22_due_21 : decode cX22_due 21 = .ok (.istore_n 2, 1) := dk_61 (dk_at dksX22_due_0 21 rfl rfl)
theorem dX22_due_22 : decode cX22_due 22 = .ok (.iload_n 2, 1) := dk_28 (dk_at dksX22_due_0 22 rfl rfl)
theorem dX22_due_23 : decode cX22_due 23 = .ok (.aload_n 0, 1) := dk_42 (dk_at dksX22_due_0 23 rfl rfl)
theorem dX22_due_24 : decode cX22_due 24 = .ok (.getfield 31, 3) := dk_180 0 31 (dk_at dksX22_due_1 0 rfl rfl)
theorem dX22_due_27 : decode cX22_due 27 = .ok (.arraylength, 1) := dk_190 (dk_at dksX22_due_1 3 rfl rfl)
theorem dX22_due_28 : decode cX22_due 28 = .ok (.if_icmp .ge 46, 3) := dk_162 0 46 (dk_at dksX22_due_1 4 rfl rfl)
theorem dX22_due_31 : decode cX22_due 31 = .ok (.aload_n 0, 1) := dk_42 (dk_at dksX22_due_1 7 rfl rfl)
theorem dX22_due_32 : decode cX22_due 32 = .ok (.getfield 94, 3) := dk_180 0 94 (dk_at dksX22_due_1 8 rfl rfl)
theorem dX22_due_35 : decode cX22_due 35 = .ok (.ifnonnull 39, 3) := dk_199 0 39 (dk_at dksX22_due_1 11 rfl rfl)
theorem dX22_due_38 : decode cX22_due 38 = .ok (.aload_n 0, 1) := dk_42 (dk_at dksX22_due_1 14 rfl rfl)
theorem dX22_due_39 : decode cX22_due 39 = .ok (.getfield 36, 3) := dk_180 0 36 (dk_at dksX22_due_1 15 rfl rfl)
theorem dX22_due_42 : decode cX22_due 42 = .ok (.iload_n 2, 1) := dk_28 (dk_at dksX22_due_1 18 rfl rfl)
theorem dX22_due_43 : decode cX22_due 43 = .ok (.aaload, 1) := dk_50 (dk_at dksX22_due_1 19 rfl rfl)
theorem dX22_due_44 : decode cX22_due 44 = .ok (.getstatic 59, 3) := dk_178 0 59 (dk_at dksX22_due_1 20 rfl rfl)
theorem dX22_due_47 : decode cX22_due 47 = .ok (.if_acmp .ne 19, 3) := dk_166 0 19 (dk_at dksX22_due_2 0 rfl rfl)
theorem dX22_due_50 : decode cX22_due 50 = .ok (.iload_n 1, 1) := dk_27 (dk_at dksX22_due_2 3 rfl rfl)
theorem dX22_due_51 : decode cX22_due 51 = .ok (.aload_n 0, 1) := dk_42 (dk_at dksX22_due_2 4 rfl rfl)
theorem dX22_due_52 : decode cX22_due 52 = .ok (.getfield 31, 3) := dk_180 0 31 (dk_at dksX22_due_2 5 rfl rfl)
theorem dX22_due_55 : decode cX22_due 55 = .ok (.iload_n 2, 1) := dk_28 (dk_at dksX22_due_2 8 rfl rfl)
theorem dX22_due_56 : decode cX22_due 56 = .ok (.aaload, 1) := dk_50 (dk_at dksX22_due_2 9 rfl rfl)
theorem dX22_due_57 : decode cX22_due 57 = .ok (.invokevirtual 131, 3) := dk_182 0 131 (dk_at dksX22_due_2 10 rfl rfl)
theorem dX22_due_60 : decode cX22_due 60 = .ok (.invokestatic 134, 3) := dk_184 0 134 (dk_at dksX22_due_2 13 rfl rfl)
theorem dX22_due_63 : decode cX22_due 63 = .ok (.goto 4, 3) := dk_167 0 4 (dk_at dksX22_due_2 16 rfl rfl)
theorem dX22_due_66 : decode cX22_due 66 = .ok (.iload_n 1, 1) := dk_27 (dk_at dksX22_due_2 19 rfl rfl)
theorem dX22_due_67 : decode cX22_due 67 = .ok (.istore_n 1, 1) := dk_60 (dk_at dksX22_due_2 20 rfl rfl)
theorem dX22_due_68 : decode cX22_due 68 = .ok (.iinc 2 1, 3) := dk_132 2 1 (dk_at dksX22_due_2 21 rfl rfl)
theorem dX22_due_71 : decode cX22_due 71 = .ok (.goto (-49), 3) := dk_167 255 207 (dk_at dksX22_due_3 0 rfl rfl)
theorem dX22_due_74 : decode cX22_due 74 = .ok (.iload_n 1, 1) := dk_27 (dk_at dksX22_due_3 3 rfl rfl)
theorem dX22_due_75 : decode cX22_due 75 = .ok (.ireturn, 1) := dk_172 (dk_at dksX22_due_3 4 rfl rfl)
theorem fl_X22_128_26 : gFL RX22 128 26 4 := gFL.mkN (Cn := RX26) (T := TX26) (N := 6) (ref := "WorkflowEngine$Undo") rfl in_X26 (by decide) nq1236 rfl rfl (Or.inl rfl)
def f_X22_due (rec : Nat → gw → Option (Int32 × gw)) (a0 : Nat) (w0 : gw) : Option (Int32 × gw) := gB1 (gR w0 a0 22 5) fun r1 => gBd (fun (x4 : Int32) (w3 : gw) => gL2 (fun k8 (x6 : Int32) (x7 : Int32) (w5 : gw) => gB1 (gR w5 a0 22 3) fun r9 => gB1 r9 fun a10 => gB1 (gLen w5 a10 5) fun x11 => if x11 ≤ x7 then some (x6, w5) else gB1 (gR w5 a0 22 5) fun r13 => gNl r13 (gB1 (gR w5 a0 22 4) fun r16 => gB1 r16 fun a17 => gB1 (gLdR w5 a17 6 x7) fun r18 => gBd (fun (x21 : Int32) (x22 : Int32) (w20 : gw) => gBd (x21 + (nI 1)) fun x23 => k8 x22 x23 w20) fun k19 => if r18 = (some (w5.2.2.2 2)) then gB1 (gR w5 a0 22 3) fun r25 => gB1 r25 fun a26 => gB1 (gLdR w5 a26 5 x7) fun r27 => gB1 r27 fun a28 => gB2 (rec a28  w5) fun x30 w29 => gB2 (f_J6_min x6 x30 w29) fun x32 w31 => k19 x7 x32 w31 else k19 x7 x6 w5) (fun a15 => some (x6, w5))) 20000 x4 (nI 0) w3) fun k2 => gNl r1 (k2 (nI 2147483647) w0) (fun a34 => gB1 (gR w0 a0 22 5) fun r35 => gB1 r35 fun a36 => gB1 (gI w0 a36 26 4) fun x37 => k2 x37 w0)
set_option maxHeartbeats 4000000 in
set_option maxRecDepth 100000 in
theorem k_X22_due {D : va_G} {dA : Nat → ClassId} {A : Nat → Prop} {K : Nat → Nat} {l : Launch} {h : Nat} {rec : Nat → gw → Option (Int32 × gw)} {B : Nat} (hrec : ∀ {h : Nat}, B ≤ h → ∀ {a : Nat} {w0 ww : gw} {rr : Int32}, rec a  w0 = some (rr, ww) → gDp_Run_due D dA A K l h a [] (some (gi rr)) w0 ww) (hb : 1 ≤ B) (hh : B + 1 ≤ h) {a0 : Nat} {w0 ww : gw} {rr : Int32} (hf : f_X22_due rec a0 w0 = some (rr, ww)) : gMet D dA A K l yX22_due (ws_ yX22_due cX22_due 3 (some .int)) h [(ga (some a0))] (some (gi rr)) w0 ww := by
  refine j_start (own := RX22) (by decide +kernel) rfl (Nat.le_of_ble_eq_true rfl) ?_
  intro p e R s m args below meth c C hr hin hw
  unfold f_X22_due at hf
  show gJ D dA A K p l e R s m args below meth c (gEnd D dA A K below args s w0 (some (gi rr)) ww) 3 0 [(0, (ga (some a0)))] [] w0
  refine j_aload_n C dX22_due_0 rfl ?_
  replace hf := gB1_e hf
  obtain ⟨r1, er1, hf⟩ := hf
  refine j_get C fl_X22_94_22 dX22_due_1 (gR_F er1) ?_
  replace hf := gBd_x hf
  obtain ⟨k2, ek2, hf⟩ := hf
  have jk2 : ∀ (x4 : Int32) (w3 : gw), k2 x4 w3 = some (rr, ww) → gJ D dA A K p l e R s m args below meth c (gEnd D dA A K below args s w0 (some (gi rr)) ww) 3 19 [(0, (ga (some a0)))] [(gi x4)] w3 := by
    intro x4 w3 hf
    rw [ek2] at hf
    dsimp only at hf
    refine j_istore_n (lv' := [(1, (gi x4)), (0, (ga (some a0)))]) C dX22_due_19 (by decide) rfl ?_
    refine j_iconst (v := (nI 0)) C dX22_due_20 (by decide) ?_
    refine j_istore_n (lv' := [(2, (gi (nI 0))), (1, (gi x4)), (0, (ga (some a0)))]) C dX22_due_21 (by decide) rfl ?_
    refine j_sub (lv' := [(0, (ga (some a0))), (1, (gi x4)), (2, (gi (nI 0)))]) (gL_cons rfl (gL_cons rfl (gL_cons rfl (gL_nil)))) ?_
    refine gL2_e (fun (x6 : Int32) (x7 : Int32) (w5 : gw) => gJ D dA A K p l e R s m args below meth c (gEnd D dA A K below args s w0 (some (gi rr)) ww) 3 22 [(0, (ga (some a0))), (1, (gi x6)), (2, (gi x7))] [] w5) ?_ _ _ _ _ hf
    intro k8 jk8 x6 x7 w5 hf
    refine j_iload_n C dX22_due_22 rfl ?_
    refine j_aload_n C dX22_due_23 rfl ?_
    replace hf := gB1_e hf
    obtain ⟨r9, er9, hf⟩ := hf
    refine j_get C fl_X22_31_22 dX22_due_24 (gR_F er9) ?_
    replace hf := gB1_e hf
    obtain ⟨a10, ea10, hf⟩ := hf
    subst ea10
    replace hf := gB1_e hf
    obtain ⟨x11, ex11, hf⟩ := hf
    refine j_alen C (t := 5) rfl ex11 dX22_due_27 ?_
    refine j_icmp_ge (tgt := 74) C dX22_due_28 (by decide) (fun c12 => ?_) (fun c12 => ?_)
    · replace hf := gIf_t hf c12
      refine j_iload_n C dX22_due_74 rfl ?_
      obtain ⟨rfl, rfl⟩ := gSome hf
      exact j_iret C hr hw dX22_due_75
    · replace hf := gIf_f hf c12
      refine j_aload_n C dX22_due_31 rfl ?_
      replace hf := gB1_e hf
      obtain ⟨r13, er13, hf⟩ := hf
      refine j_get C fl_X22_94_22 dX22_due_32 (gR_F er13) ?_
      refine j_ifnonnull (tgt := 74) C dX22_due_35 (by decide) (fun a15 c14 => ?_) (fun c14 => ?_)
      · subst c14
        replace hf := gNl_s hf
        refine j_iload_n C dX22_due_74 rfl ?_
        obtain ⟨rfl, rfl⟩ := gSome hf
        exact j_iret C hr hw dX22_due_75
      · subst c14
        replace hf := gNl_n hf
        refine j_aload_n C dX22_due_38 rfl ?_
        replace hf := gB1_e hf
        obtain ⟨r16, er16, hf⟩ := hf
        refine j_get C fl_X22_36_22 dX22_due_39 (gR_F er16) ?_
        refine j_iload_n C dX22_due_42 rfl ?_
        replace hf := gB1_e hf
        obtain ⟨a17, ea17, hf⟩ := hf
        subst ea17
        replace hf := gB1_e hf
        obtain ⟨r18, er18, hf⟩ := hf
        refine j_aald C (t := 6) rfl er18 dX22_due_43 ?_
        refine j_gets (i := 2) C C.2.2.2.2.2.1.2.2.2.2.1.1 q1123 dX22_due_44 ?_
        replace hf := gBd_x hf
        obtain ⟨k19, ek19, hf⟩ := hf
        have jk19 : ∀ (x21 : Int32) (x22 : Int32) (w20 : gw), k19 x21 x22 w20 = some (rr, ww) → gJ D dA A K p l e R s m args below meth c (gEnd D dA A K below args s w0 (some (gi rr)) ww) 3 67 [(0, (ga (some a0))), (2, (gi x21))] [(gi x22)] w20 := by
          intro x21 x22 w20 hf
          rw [ek19] at hf
          dsimp only at hf
          refine j_istore_n (lv' := [(1, (gi x22)), (0, (ga (some a0))), (2, (gi x21))]) C dX22_due_67 (by decide) rfl ?_
          replace hf := gBd_x hf
          obtain ⟨x23, ex23, hf⟩ := hf
          refine j_iinc (v := x23) (lv' := [(2, (gi x23)), (1, (gi x22)), (0, (ga (some a0)))]) C dX22_due_68 rfl (by rw [ex23]; rfl) (by decide) rfl ?_
          refine j_goto (tgt := 22) C dX22_due_71 (by decide) ?_
          refine j_sub (lv' := [(0, (ga (some a0))), (1, (gi x22)), (2, (gi x23))]) (gL_cons rfl (gL_cons rfl (gL_cons rfl (gL_nil)))) ?_
          exact jk8 _ _ _ hf
        clear ek19
        refine j_acmp_ne (tgt := 66) C dX22_due_47 (by decide) (fun c24 => ?_) (fun c24 => ?_)
        · replace hf := gIf_f hf c24
          refine j_iload_n C dX22_due_66 rfl ?_
          refine j_sub (lv' := [(0, (ga (some a0))), (2, (gi x7))]) (gL_cons rfl (gL_cons rfl (gL_nil))) ?_
          exact jk19 _ _ _ hf
        · replace hf := gIf_t hf c24
          refine j_iload_n C dX22_due_50 rfl ?_
          refine j_aload_n C dX22_due_51 rfl ?_
          replace hf := gB1_e hf
          obtain ⟨r25, er25, hf⟩ := hf
          refine j_get C fl_X22_31_22 dX22_due_52 (gR_F er25) ?_
          refine j_iload_n C dX22_due_55 rfl ?_
          replace hf := gB1_e hf
          obtain ⟨a26, ea26, hf⟩ := hf
          subst ea26
          replace hf := gB1_e hf
          obtain ⟨r27, er27, hf⟩ := hf
          refine j_aald C (t := 5) rfl er27 dX22_due_56 ?_
          replace hf := gB1_e hf
          obtain ⟨a28, ea28, hf⟩ := hf
          subst ea28
          replace hf := gB2_e hf
          obtain ⟨x30, w29, ew29, hf⟩ := hf
          refine j_dp_Run_due (As := []) (rest := [(gi x6)]) (v := (some (gi x30))) C (by omega) (hrec (by omega) ew29) q1411 rfl (Nat.le_of_ble_eq_true rfl) dX22_due_57 ?_
          replace hf := gB2_e hf
          obtain ⟨x32, w31, ew31, hf⟩ := hf
          refine j_callS (As := [(gi x6), (gi x30)]) (rest := []) (v := (some (gi x32))) C (by omega) (k_J6_min (by omega) ew31) q1416 q552 q111 q553 hd_J6_min (by decide) rfl (Nat.le_of_ble_eq_true rfl) dX22_due_60 ?_
          refine j_goto (tgt := 67) C dX22_due_63 (by decide) ?_
          refine j_sub (lv' := [(0, (ga (some a0))), (2, (gi x7))]) (gL_cons rfl (gL_cons rfl (gL_nil))) ?_
          exact jk19 _ _ _ hf
  clear ek2
  refine j_ifnonnull (tgt := 12) C dX22_due_4 (by decide) (fun a34 c33 => ?_) (fun c33 => ?_)
  · subst c33
    replace hf := gNl_s hf
    refine j_aload_n C dX22_due_12 rfl ?_
    replace hf := gB1_e hf
    obtain ⟨r35, er35, hf⟩ := hf
    refine j_get C fl_X22_94_22 dX22_due_13 (gR_F er35) ?_
    replace hf := gB1_e hf
    obtain ⟨a36, ea36, hf⟩ := hf
    subst ea36
    replace hf := gB1_e hf
    obtain ⟨x37, ex37, hf⟩ := hf
    refine j_get C fl_X22_128_26 dX22_due_16 (gI_F ex37) ?_
    exact jk2 _ _ hf
  · subst c33
    replace hf := gNl_n hf
    refine j_ldc (v := (nI 2147483647)) C q1410 dX22_due_7 ?_
    refine j_goto (tgt := 19) C dX22_due_9 (by decide) ?_
    exact jk2 _ _ hf
def f_Run_due_s (rec : Nat → gw → Option (Int32 × gw)) (a : Nat)  (w0 : gw) : Option (Int32 × gw) := gB1 (gCls w0 a) fun ci => if ci = 18 then f_X18_due rec a  w0 else if ci = 20 then f_X20_due a  w0 else if ci = 21 then f_X21_due a  w0 else if ci = 22 then f_X22_due rec a  w0 else if ci = 23 then f_X23_due a  w0 else if ci = 24 then f_X24_due a  w0 else none
theorem kd_Run_due_s {D : va_G} {dA : Nat → ClassId} {A : Nat → Prop} {K : Nat → Nat} {l : Launch} {h : Nat} {rec : Nat → gw → Option (Int32 × gw)} {B : Nat} (hrec : ∀ {h : Nat}, B ≤ h → ∀ {a : Nat} {w0 ww : gw} {rr : Int32}, rec a  w0 = some (rr, ww) → gDp_Run_due D dA A K l h a [] (some (gi rr)) w0 ww) (hb : 1 ≤ B) (hh : B + 1 ≤ h) {a : Nat}  {w0 ww : gw} {rr : Int32} (hf : f_Run_due_s rec a  w0 = some (rr, ww)) : gDp_Run_due D dA A K l h a [] (some (gi rr)) w0 ww := by
  unfold f_Run_due_s at hf
  unfold gDp_Run_due
  replace hf := gB1_e hf
  obtain ⟨ci, eci, hf⟩ := hf
  by_cases c0 : ci = 18
  · replace hf := gIf_t hf c0
    exact Or.inl ⟨by rw [eci, c0], k_X18_due hrec hb (by omega) hf⟩
  replace hf := gIf_f hf c0
  by_cases c1 : ci = 20
  · replace hf := gIf_t hf c1
    exact Or.inr (Or.inl ⟨by rw [eci, c1], k_X20_due (by omega) hf⟩)
  replace hf := gIf_f hf c1
  by_cases c2 : ci = 21
  · replace hf := gIf_t hf c2
    exact Or.inr (Or.inr (Or.inl ⟨by rw [eci, c2], k_X21_due (by omega) hf⟩))
  replace hf := gIf_f hf c2
  by_cases c3 : ci = 22
  · replace hf := gIf_t hf c3
    exact Or.inr (Or.inr (Or.inr (Or.inl ⟨by rw [eci, c3], k_X22_due hrec hb (by omega) hf⟩)))
  replace hf := gIf_f hf c3
  by_cases c4 : ci = 23
  · replace hf := gIf_t hf c4
    exact Or.inr (Or.inr (Or.inr (Or.inr (Or.inl ⟨by rw [eci, c4], k_X23_due (by omega) hf⟩))))
  replace hf := gIf_f hf c4
  by_cases c5 : ci = 24
  · replace hf := gIf_t hf c5
    exact Or.inr (Or.inr (Or.inr (Or.inr (Or.inr (⟨by rw [eci, c5], k_X24_due (by omega) hf⟩)))))
  replace hf := gIf_f hf c5
  cases hf
def f_Run_due : Nat → Nat → gw → Option (Int32 × gw)
  | 0 => fun _ _ => none
  | d + 1 => f_Run_due_s (f_Run_due d)
theorem kd_Run_due {D : va_G} {dA : Nat → ClassId} {A : Nat → Prop} {K : Nat → Nat} {l : Launch} : ∀ (d : Nat) {h : Nat}, 1 + 1 * d ≤ h → ∀ {a : Nat} {w0 ww : gw} {rr : Int32}, f_Run_due d a  w0 = some (rr, ww) → gDp_Run_due D dA A K l h a [] (some (gi rr)) w0 ww := by
  intro d
  induction d with
  | zero => intro h hh a  w0 ww rr hf; cases hf
  | succ d ih =>
    intro h hh a  w0 ww rr hf
    exact kd_Run_due_s (rec := f_Run_due d) (B := 1 + 1 * d) (fun hh => ih hh) (by omega) (by omega) hf
abbrev f_X18_due_x (a0 : Nat) (w0 : gw) : Option (Int32 × gw) := f_X18_due (f_Run_due 12) a0 w0
theorem k_X18_due_x {D : va_G} {dA : Nat → ClassId} {A : Nat → Prop} {K : Nat → Nat} {l : Launch} {h : Nat} (hh : 14 ≤ h) {a0 : Nat} {w0 ww : gw} {rr : Int32} (hf : f_X18_due_x a0 w0 = some (rr, ww)) : gMet D dA A K l yX18_due (ws_ yX18_due cX18_due 1 (some .int)) h [(ga (some a0))] (some (gi rr)) w0 ww := k_X18_due (fun hh => kd_Run_due 12 hh) (B := 13) (by omega) (by omega) hf
abbrev f_X22_due_x (a0 : Nat) (w0 : gw) : Option (Int32 × gw) := f_X22_due (f_Run_due 12) a0 w0
theorem k_X22_due_x {D : va_G} {dA : Nat → ClassId} {A : Nat → Prop} {K : Nat → Nat} {l : Launch} {h : Nat} (hh : 14 ≤ h) {a0 : Nat} {w0 ww : gw} {rr : Int32} (hf : f_X22_due_x a0 w0 = some (rr, ww)) : gMet D dA A K l yX22_due (ws_ yX22_due cX22_due 3 (some .int)) h [(ga (some a0))] (some (gi rr)) w0 ww := k_X22_due (fun hh => kd_Run_due 12 hh) (B := 13) (by omega) (by omega) hf
def dkwX16_due_2 : List UInt8 := [27, 172]
abbrev dktX16_due_2 : List UInt8 := dkwX16_due_2 ++ []
def dkwX16_due_1 : List UInt8 := [42, 180, 0, 111, 180, 0, 175, 167, 0, 5, 18, 178, 60, 27, 18, 178, 160, 0, 8, 16, 251, 167, 0, 4]
abbrev dktX16_due_1 : List UInt8 := dkwX16_due_1 ++ dktX16_due_2
def dkwX16_due_0 : List UInt8 := [42, 180, 0, 101, 198, 0, 13, 42, 180, 0, 101, 182, 0, 172, 167, 0, 22, 42, 180, 0, 111, 198, 0, 13]
abbrev dktX16_due_0 : List UInt8 := dkwX16_due_0 ++ dktX16_due_1
theorem dksX16_due_0 : cX16_due.data.toList.drop 0 = dktX16_due_0 := by decide +kernel
theorem dksX16_due_1 : cX16_due.data.toList.drop 24 = dktX16_due_1 := dk_seg dksX16_due_0 24 rfl rfl
theorem dksX16_due_2 : cX16_due.data.toList.drop 48 = dktX16_due_2 := dk_seg dksX16_due_1 24 rfl rfl
theorem dX16_due_0 : decode cX16_due 0 = .ok (.aload_n 0, 1) := dk_42 (dk_at dksX16_due_0 0 rfl rfl)
theorem dX16_due_1 : decode cX16_due 1 = .ok (.getfield 101, 3) := dk_180 0 101 (dk_at dksX16_due_0 1 rfl rfl)
theorem dX16_due_4 : decode cX16_due 4 = .ok (.ifnull 13, 3) := dk_198 0 13 (dk_at dksX16_due_0 4 rfl rfl)
theorem dX16_due_7 : decode cX16_due 7 = .ok (.aload_n 0, 1) := dk_42 (dk_at dksX16_due_0 7 rfl rfl)
theorem dX16_due_8 : decode cX16_due 8 = .ok (.getfield 101, 3) := dk_180 0 101 (dk_at dksX16_due_0 8 rfl rfl)
theorem dX16_due_11 : decode cX16_due 11 = .ok (.invokevirtual 172, 3) := dk_182 0 172 (dk_at dksX16_due_0 11 rfl rfl)
theorem dX16_due_14 : decode cX16_due 14 = .ok (.goto 22, 3) := dk_167 0 22 (dk_at dksX16_due_0 14 rfl rfl)
theorem dX16_due_17 : decode cX16_due 17 = .ok (.aload_n 0, 1) := dk_42 (dk_at dksX16_due_0 17 rfl rfl)
theorem dX16_due_18 : decode cX16_due 18 = .ok (.getfield 111, 3) := dk_180 0 111 (dk_at dksX16_due_0 18 rfl rfl)
theorem dX16_due_21 : decode cX16_due 21 = .ok (.ifnull 13, 3) := dk_198 0 13 (dk_at dksX16_due_0 21 rfl rfl)
theorem dX16_due_24 : decode cX16_due 24 = .ok (.aload_n 0, 1) := dk_42 (dk_at dksX16_due_1 0 rfl rfl)
theorem dX16_due_25 : decode cX16_due 25 = .ok (.getfield 111, 3) := dk_180 0 111 (dk_at dksX16_due_1 1 rfl rfl)
theorem dX16_due_28 : decode cX16_due 28 = .ok (.getfield 175, 3) := dk_180 0 175 (dk_at dksX16_due_1 4 rfl rfl)
theorem dX16_due_31 : decode cX16_due 31 = .ok (.goto 5, 3) := dk_167 0 5 (dk_at dksX16_due_1 7 rfl rfl)
theorem dX16_due_34 : decode cX16_due 34 = .ok (.ldc 178, 2) := dk_18 178 (dk_at dksX16_due_1 10 rfl rfl)
theorem dX16_due_36 : decode cX16_due 36 = .ok (.istore_n 1, 1) := dk_60 (dk_at dksX16_due_1 12 rfl rfl)
theorem dX16_due_37 : decode cX16_due 37 = .ok (.iload_n 1, 1) := dk_27 (dk_at dksX16_due_1 13 rfl rfl)
theorem dX16_due_38 : decode cX16_due 38 = .ok (.ldc 178, 2) := dk_18 178 (dk_at dksX16_due_1 14 rfl rfl)
theorem dX16_due_40 : decode cX16_due 40 = .ok (.if_icmp .ne 8, 3) := dk_160 0 8 (dk_at dksX16_due_1 16 rfl rfl)
theorem dX16_due_43 : decode cX16_due 43 = .ok (.bipush (-5), 2) := dk_16 251 (dk_at dksX16_due_1 19 rfl rfl)
theorem dX16_due_45 : decode cX16_due 45 = .ok (.goto 4, 3) := dk_167 0 4 (dk_at dksX16_due_1 21 rfl rfl)
theorem dX16_due_48 : decode cX16_due 48 = .ok (.iload_n 1, 1) := dk_27 (dk_at dksX16_due_2 0 rfl rfl)
theorem dX16_due_49 : decode cX16_due 49 = .ok (.ireturn, 1) := dk_172 (dk_at dksX16_due_2 1 rfl rfl)
theorem fl_X16_175_26 : gFL RX16 175 26 4 := gFL.mkN (Cn := RX26) (T := TX26) (N := 6) (ref := "WorkflowEngine$Undo") rfl in_X26 (by decide) nq1237 rfl rfl (Or.inl rfl)
def f_X16_due (a0 : Nat) (w0 : gw) : Option (Int32 × gw) := gB1 (gR w0 a0 16 13) fun r1 => gBd (fun (x4 : Int32) (w3 : gw) => if x4 = (nI 2147483647) then some ((-5), w3) else some (x4, w3)) fun k2 => gNl r1 (gB1 (gR w0 a0 16 14) fun r8 => gNl r8 (k2 (nI 2147483647) w0) (fun a10 => gB1 (gR w0 a0 16 14) fun r11 => gB1 r11 fun a12 => gB1 (gI w0 a12 26 4) fun x13 => k2 x13 w0)) (fun a7 => gB1 (gR w0 a0 16 13) fun r14 => gB1 r14 fun a15 => gB2 (f_Run_due 12 a15  w0) fun x17 w16 => k2 x17 w16)
set_option maxHeartbeats 4000000 in
set_option maxRecDepth 100000 in
theorem k_X16_due {D : va_G} {dA : Nat → ClassId} {A : Nat → Prop} {K : Nat → Nat} {l : Launch} {h : Nat} (hh : 14 ≤ h) {a0 : Nat} {w0 ww : gw} {rr : Int32} (hf : f_X16_due a0 w0 = some (rr, ww)) : gMet D dA A K l yX16_due (ws_ yX16_due cX16_due 2 (some .int)) h [(ga (some a0))] (some (gi rr)) w0 ww := by
  refine j_start (own := RX16) (by decide +kernel) rfl (Nat.le_of_ble_eq_true rfl) ?_
  intro p e R s m args below meth c C hr hin hw
  unfold f_X16_due at hf
  show gJ D dA A K p l e R s m args below meth c (gEnd D dA A K below args s w0 (some (gi rr)) ww) 2 0 [(0, (ga (some a0)))] [] w0
  refine j_aload_n C dX16_due_0 rfl ?_
  replace hf := gB1_e hf
  obtain ⟨r1, er1, hf⟩ := hf
  refine j_get C fl_X16_101_16 dX16_due_1 (gR_F er1) ?_
  replace hf := gBd_x hf
  obtain ⟨k2, ek2, hf⟩ := hf
  have jk2 : ∀ (x4 : Int32) (w3 : gw), k2 x4 w3 = some (rr, ww) → gJ D dA A K p l e R s m args below meth c (gEnd D dA A K below args s w0 (some (gi rr)) ww) 2 36 [] [(gi x4)] w3 := by
    intro x4 w3 hf
    rw [ek2] at hf
    dsimp only at hf
    refine j_istore_n (lv' := [(1, (gi x4))]) C dX16_due_36 (by decide) rfl ?_
    refine j_iload_n C dX16_due_37 rfl ?_
    refine j_ldc (v := (nI 2147483647)) C q1420 dX16_due_38 ?_
    refine j_icmp_ne (tgt := 48) C dX16_due_40 (by decide) (fun c5 => ?_) (fun c5 => ?_)
    · replace hf := gIf_f hf c5
      refine j_iload_n C dX16_due_48 rfl ?_
      obtain ⟨rfl, rfl⟩ := gSome hf
      exact j_iret C hr hw dX16_due_49
    · replace hf := gIf_t hf c5
      refine j_bipush (v := (-5)) C dX16_due_43 (by decide) ?_
      refine j_goto (tgt := 49) C dX16_due_45 (by decide) ?_
      obtain ⟨rfl, rfl⟩ := gSome hf
      exact j_iret C hr hw dX16_due_49
  clear ek2
  refine j_ifnull (tgt := 17) C dX16_due_4 (by decide) (fun c6 => ?_) (fun a7 c6 => ?_)
  · subst c6
    replace hf := gNl_n hf
    refine j_aload_n C dX16_due_17 rfl ?_
    replace hf := gB1_e hf
    obtain ⟨r8, er8, hf⟩ := hf
    refine j_get C fl_X16_111_16 dX16_due_18 (gR_F er8) ?_
    refine j_ifnull (tgt := 34) C dX16_due_21 (by decide) (fun c9 => ?_) (fun a10 c9 => ?_)
    · subst c9
      replace hf := gNl_n hf
      refine j_ldc (v := (nI 2147483647)) C q1420 dX16_due_34 ?_
      refine j_sub (lv' := []) (gL_nil) ?_
      exact jk2 _ _ hf
    · subst c9
      replace hf := gNl_s hf
      refine j_aload_n C dX16_due_24 rfl ?_
      replace hf := gB1_e hf
      obtain ⟨r11, er11, hf⟩ := hf
      refine j_get C fl_X16_111_16 dX16_due_25 (gR_F er11) ?_
      replace hf := gB1_e hf
      obtain ⟨a12, ea12, hf⟩ := hf
      subst ea12
      replace hf := gB1_e hf
      obtain ⟨x13, ex13, hf⟩ := hf
      refine j_get C fl_X16_175_26 dX16_due_28 (gI_F ex13) ?_
      refine j_goto (tgt := 36) C dX16_due_31 (by decide) ?_
      refine j_sub (lv' := []) (gL_nil) ?_
      exact jk2 _ _ hf
  · subst c6
    replace hf := gNl_s hf
    refine j_aload_n C dX16_due_7 rfl ?_
    replace hf := gB1_e hf
    obtain ⟨r14, er14, hf⟩ := hf
    refine j_get C fl_X16_101_16 dX16_due_8 (gR_F er14) ?_
    replace hf := gB1_e hf
    obtain ⟨a15, ea15, hf⟩ := hf
    subst ea15
    replace hf := gB2_e hf
    obtain ⟨x17, w16, ew16, hf⟩ := hf
    refine j_dp_Run_due (As := []) (rest := []) (v := (some (gi x17))) C (by omega) (kd_Run_due 12 (by omega) ew16) q1393 rfl (Nat.le_of_ble_eq_true rfl) dX16_due_11 ?_
    refine j_goto (tgt := 36) C dX16_due_14 (by decide) ?_
    refine j_sub (lv' := []) (gL_nil) ?_
    exact jk2 _ _ hf
def dkwX0_due_1 : List UInt8 := [172]
abbrev dktX0_due_1 : List UInt8 := dkwX0_due_1 ++ []
def dkwX0_due_0 : List UInt8 := [42, 27, 182, 0, 132, 153, 0, 18, 42, 180, 0, 91, 180, 0, 109, 27, 50, 182, 0, 209, 167, 0, 4, 2]
abbrev dktX0_due_0 : List UInt8 := dkwX0_due_0 ++ dktX0_due_1
theorem dksX0_due_0 : cX0_due.data.toList.drop 0 = dktX0_due_0 := by decide +kernel
theorem dksX0_due_1 : cX0_due.data.toList.drop 24 = dktX0_due_1 := dk_seg dksX0_due_0 24 rfl rfl
theorem dX0_due_0 : decode cX0_due 0 = .ok (.aload_n 0, 1) := dk_42 (dk_at dksX0_due_0 0 rfl rfl)
theorem dX0_due_1 : decode cX0_due 1 = .ok (.iload_n 1, 1) := dk_27 (dk_at dksX0_due_0 1 rfl rfl)
theorem dX0_due_2 : decode cX0_due 2 = .ok (.invokevirtual 132, 3) := dk_182 0 132 (dk_at dksX0_due_0 2 rfl rfl)
theorem dX0_due_5 : decode cX0_due 5 = .ok (.ifCond .eq 18, 3) := dk_153 0 18 (dk_at dksX0_due_0 5 rfl rfl)
theorem dX0_due_8 : decode cX0_due 8 = .ok (.aload_n 0, 1) := dk_42 (dk_at dksX0_due_0 8 rfl rfl)
theorem dX0_due_9 : decode cX0_due 9 = .ok (.getfield 91, 3) := dk_180 0 91 (dk_at dksX0_due_0 9 rfl rfl)
theorem dX0_due_12 : decode cX0_due 12 = .ok (.getfield 109, 3) := dk_180 0 109 (dk_at dksX0_due_0 12 rfl rfl)
theorem dX0_due_15 : decode cX0_due 15 = .ok (.iload_n 1, 1) := dk_27 (dk_at dksX0_due_0 15 rfl rfl)
theorem dX0_due_16 : decode cX0_due 16 = .ok (.aaload, 1) := dk_50 (dk_at dksX0_due_0 16 rfl rfl)
theorem dX0_due_17 : decode cX0_due 17 = .ok (.invokevirtual 209, 3) := dk_182 0 209 (dk_at dksX0_due_0 17 rfl rfl)
theorem dX0_due_20 : decode cX0_due 20 = .ok (.goto 4, 3) := dk_167 0 4 (dk_at dksX0_due_0 20 rfl rfl)
theorem dX0_due_23 : decode cX0_due 23 = .ok (.iconst (-1), 1) := dk_2 (dk_at dksX0_due_0 23 rfl rfl)
theorem dX0_due_24 : decode cX0_due 24 = .ok (.ireturn, 1) := dk_172 (dk_at dksX0_due_1 0 rfl rfl)
theorem hd_X16_due : (yX16_due.cls ≠ "java/lang/invoke/MethodHandle" ∧ yX16_due.cls ≠ "java/lang/invoke/VarHandle" ∧ (parseMethodDescriptor yX16_due.desc).map (fun d => d.parameters.length) = some 0) := ⟨by decide +kernel, by decide +kernel, by decide +kernel⟩
def f_X0_due (a0 : Nat) (p1 : Int32) (w0 : gw) : Option (Int32 × gw) := gB1 (gOb w0 a0 0) fun _ => gB2 (f_X0_isInstance a0 p1 w0) fun x2 w1 => if x2 = 0 then some ((-1), w1) else gB1 (gR w1 a0 0 5) fun r4 => gB1 r4 fun a5 => gB1 (gR w1 a5 1 2) fun r6 => gB1 r6 fun a7 => gB1 (gLdR w1 a7 4 p1) fun r8 => gB1 r8 fun a9 => gB1 (gOb w1 a9 16) fun _ => gB2 (f_X16_due a9  w1) fun x11 w10 => some (x11, w10)
set_option maxHeartbeats 4000000 in
set_option maxRecDepth 100000 in
theorem k_X0_due {D : va_G} {dA : Nat → ClassId} {A : Nat → Prop} {K : Nat → Nat} {l : Launch} {h : Nat} (hh : 15 ≤ h) {a0 : Nat} {p1 : Int32} {w0 ww : gw} {rr : Int32} (hf : f_X0_due a0 p1 w0 = some (rr, ww)) : gMet D dA A K l yX0_due (ws_ yX0_due cX0_due 2 (some .int)) h [(ga (some a0)), (gi p1)] (some (gi rr)) w0 ww := by
  refine j_start (own := RX0) (by decide +kernel) rfl (Nat.le_of_ble_eq_true rfl) ?_
  intro p e R s m args below meth c C hr hin hw
  unfold f_X0_due at hf
  show gJ D dA A K p l e R s m args below meth c (gEnd D dA A K below args s w0 (some (gi rr)) ww) 2 0 [(0, (ga (some a0))), (1, (gi p1))] [] w0
  refine j_aload_n C dX0_due_0 rfl ?_
  refine j_iload_n C dX0_due_1 rfl ?_
  replace hf := gB1_e hf
  obtain ⟨_, eo, hf⟩ := hf
  replace hf := gB2_e hf
  obtain ⟨x2, w1, ew1, hf⟩ := hf
  refine j_callV (As := [(gi p1)]) (rest := []) (v := (some (gi x2))) C (by omega) (k_X0_isInstance (by omega) ew1) (gOb_e eo) rfl q1301 q1303 qs29 q91 q1304 ⟨rfl, hd_X0_isInstance⟩ (by decide) rfl (Nat.le_of_ble_eq_true rfl) dX0_due_2 ?_
  refine j_if_eq (tgt := 23) C dX0_due_5 (by decide) (fun c3 => ?_) (fun c3 => ?_)
  · replace hf := gIf_t hf c3
    refine j_iconst (v := (-1)) C dX0_due_23 (by decide) ?_
    obtain ⟨rfl, rfl⟩ := gSome hf
    exact j_iret C hr hw dX0_due_24
  · replace hf := gIf_f hf c3
    refine j_aload_n C dX0_due_8 rfl ?_
    replace hf := gB1_e hf
    obtain ⟨r4, er4, hf⟩ := hf
    refine j_get C fl_X0_91_0 dX0_due_9 (gR_F er4) ?_
    replace hf := gB1_e hf
    obtain ⟨a5, ea5, hf⟩ := hf
    subst ea5
    replace hf := gB1_e hf
    obtain ⟨r6, er6, hf⟩ := hf
    refine j_get C fl_X0_109_1 dX0_due_12 (gR_F er6) ?_
    refine j_iload_n C dX0_due_15 rfl ?_
    replace hf := gB1_e hf
    obtain ⟨a7, ea7, hf⟩ := hf
    subst ea7
    replace hf := gB1_e hf
    obtain ⟨r8, er8, hf⟩ := hf
    refine j_aald C (t := 4) rfl er8 dX0_due_16 ?_
    replace hf := gB1_e hf
    obtain ⟨a9, ea9, hf⟩ := hf
    subst ea9
    replace hf := gB1_e hf
    obtain ⟨_, eo, hf⟩ := hf
    replace hf := gB2_e hf
    obtain ⟨x11, w10, ew10, hf⟩ := hf
    refine j_callV (As := []) (rest := []) (v := (some (gi x11))) C (by omega) (k_X16_due (by omega) ew10) (gOb_e eo) rfl q1389 q1390 q1391 q118 q1392 ⟨rfl, hd_X16_due⟩ (by decide) rfl (Nat.le_of_ble_eq_true rfl) dX0_due_17 ?_
    refine j_goto (tgt := 24) C dX0_due_20 (by decide) ?_
    obtain ⟨rfl, rfl⟩ := gSome hf
    exact j_iret C hr hw dX0_due_24
def dkwX18_copy_2 : List UInt8 := [181, 0, 28, 44, 42, 180, 0, 20, 182, 0, 89, 181, 0, 20, 44, 176]
abbrev dktX18_copy_2 : List UInt8 := dkwX18_copy_2 ++ []
def dkwX18_copy_1 : List UInt8 := [199, 0, 7, 1, 167, 0, 11, 42, 180, 0, 44, 43, 182, 0, 86, 181, 0, 44, 44, 42, 180, 0, 28]
abbrev dktX18_copy_1 : List UInt8 := dkwX18_copy_1 ++ dktX18_copy_2
def dkwX18_copy_0 : List UInt8 := [187, 0, 4, 89, 42, 180, 0, 3, 43, 42, 180, 0, 24, 183, 0, 83, 77, 44, 42, 180, 0, 44]
abbrev dktX18_copy_0 : List UInt8 := dkwX18_copy_0 ++ dktX18_copy_1
theorem dksX18_copy_0 : cX18_copy.data.toList.drop 0 = dktX18_copy_0 := by decide +kernel
theorem dksX18_copy_1 : cX18_copy.data.toList.drop 22 = dktX18_copy_1 := dk_seg dksX18_copy_0 22 rfl rfl
theorem dksX18_copy_2 : cX18_copy.data.toList.drop 45 = dktX18_copy_2 := dk_seg dksX18_copy_1 23 rfl rfl
theorem dX18_copy_0 : decode cX18_copy 0 = .ok (.new 4, 3) := dk_187 0 4 (dk_at dksX18_copy_0 0 rfl rfl)
theorem dX18_copy_3 : decode cX18_copy 3 = .ok (.dup, 1) := dk_89 (dk_at dksX18_copy_0 3 rfl rfl)
theorem dX18_copy_4 : decode cX18_copy 4 = .ok (.aload_n 0, 1) := dk_42 (dk_at dksX18_copy_0 4 rfl rfl)
theorem dX18_copy_5 : decode cX18_copy 5 = .ok (.getfield 3, 3) := dk_180 0 3 (dk_at dksX18_copy_0 5 rfl rfl)
theorem dX18_copy_8 : decode cX18_copy 8 = .ok (.aload_n 1, 1) := dk_43 (dk_at dksX18_copy_0 8 rfl rfl)
theorem dX18_copy_9 : decode cX18_copy 9 = .ok (.aload_n 0, 1) := dk_42 (dk_at dksX18_copy_0 9 rfl rfl)
theorem dX18_copy_10 : decode cX18_copy 10 = .ok (.getfield 24, 3) := dk_180 0 24 (dk_at dksX18_copy_0 10 rfl rfl)
theorem dX18_copy_13 : decode cX18_copy 13 = .ok (.invokespecial 83, 3) := dk_183 0 83 (dk_at dksX18_copy_0 13 rfl rfl)
theorem dX18_copy_16 : decode cX18_copy 16 = .ok (.astore_n 2, 1) := dk_77 (dk_at dksX18_copy_0 16 rfl rfl)
theorem dX18_copy_17 : decode cX18_copy 17 = .ok (.aload_n 2, 1) := dk_44 (dk_at dksX18_copy_0 17 rfl rfl)
theorem dX18_copy_18 : decode cX18_copy 18 = .ok (.aload_n 0, 1) := dk_42 (dk_at dksX18_copy_0 18 rfl rfl)
theorem dX18_copy_19 : decode cX18_copy 19 = .ok (.getfield 44, 3) := dk_180 0 44 (dk_at dksX18_copy_0 19 rfl rfl)
theorem dX18_copy_22 : decode cX18_copy 22 = .ok (.ifnonnull 7, 3) := dk_199 0 7 (dk_at dksX18_copy_1 0 rfl rfl)
theorem dX18_copy_25 : decode cX18_copy 25 = .ok (.aconst_null, 1) := dk_1 (dk_at dksX18_copy_1 3 rfl rfl)
theorem dX18_copy_26 : decode cX18_copy 26 = .ok (.goto 11, 3) := dk_167 0 11 (dk_at dksX18_copy_1 4 rfl rfl)
theorem dX18_copy_29 : decode cX18_copy 29 = .ok (.aload_n 0, 1) := dk_42 (dk_at dksX18_copy_1 7 rfl rfl)
theorem dX18_copy_30 : decode cX18_copy 30 = .ok (.getfield 44, 3) := dk_180 0 44 (dk_at dksX18_copy_1 8 rfl rfl)
theorem dX18_copy_33 : decode cX18_copy 33 = .ok (.aload_n 1, 1) := dk_43 (dk_at dksX18_copy_1 11 rfl rfl)
theorem dX18_copy_34 : decode cX18_copy 34 = .ok (.invokevirtual 86, 3) := dk_182 0 86 (dk_at dksX18_copy_1 12 rfl rfl)
theorem dX18_copy_37 : decode cX18_copy 37 = .ok (.putfield 44, 3) := dk_181 0 44 (dk_at dksX18_copy_1 15 rfl rfl)
theorem dX18_copy_40 : decode cX18_copy 40 = .ok (.aload_n 2, 1) := dk_44 (dk_at dksX18_copy_1 18 rfl rfl)
theorem dX18_copy_41 : decode cX18_copy 41 = .ok (.aload_n 0, 1) := dk_42 (dk_at dksX18_copy_1 19 rfl rfl)
theorem dX18_copy_42 : decode cX18_copy 42 = .ok (.getfield 28, 3) := dk_180 0 28 (dk_at dksX18_copy_1 20 rfl rfl)
theorem dX18_copy_45 : decode cX18_copy 45 = .ok (.putfield 28, 3) := dk_181 0 28 (dk_at dksX18_copy_2 0 rfl rfl)
theorem dX18_copy_48 : decode cX18_copy 48 = .ok (.aload_n 2, 1) := dk_44 (dk_at dksX18_copy_2 3 rfl rfl)
theorem dX18_copy_49 : decode cX18_copy 49 = .ok (.aload_n 0, 1) := dk_42 (dk_at dksX18_copy_2 4 rfl rfl)
theorem dX18_copy_50 : decode cX18_copy 50 = .ok (.getfield 20, 3) := dk_180 0 20 (dk_at dksX18_copy_2 5 rfl rfl)
theorem dX18_copy_53 : decode cX18_copy 53 = .ok (.invokevirtual 89, 3) := dk_182 0 89 (dk_at dksX18_copy_2 8 rfl rfl)
theorem dX18_copy_56 : decode cX18_copy 56 = .ok (.putfield 20, 3) := dk_181 0 20 (dk_at dksX18_copy_2 11 rfl rfl)
theorem dX18_copy_59 : decode cX18_copy 59 = .ok (.aload_n 2, 1) := dk_44 (dk_at dksX18_copy_2 14 rfl rfl)
theorem dX18_copy_60 : decode cX18_copy 60 = .ok (.areturn, 1) := dk_176 (dk_at dksX18_copy_2 15 rfl rfl)
theorem nl_X18_4 : gNL RX18 4 18 := ⟨RX18, TX18, 7, 7, tyX18, _, rfl, rfl, in_X18, tyX18_ok, q1461, q874, q120, fun j hj => by rcases (show j = 0 ∨ j = 1 ∨ j = 2 ∨ j = 3 ∨ j = 4 ∨ j = 5 ∨ j = 6 by omega) with rfl | rfl | rfl | rfl | rfl | rfl | rfl <;> rfl⟩
theorem fk_18_3 : gFk 18 3 "LWorkflowEngine$Run;" false "WorkflowEngine$BodyRun" := fun Cn T N h => by
  have h : (RX18, TX18, 7) = (Cn, T, N) := Option.some.inj h
  cases h
  exact ⟨rfl, rfl, rfl⟩
theorem fl_X18_28_18 : gFL RX18 28 18 4 := gFL.mk (Cn := RX18) (T := TX18) (N := 7) (ref := "WorkflowEngine$BodyRun") rfl in_X18 (by decide) q901 rfl rfl (Or.inl rfl)
theorem fk_18_4 : gFk 18 4 "I" false "WorkflowEngine$BodyRun" := fun Cn T N h => by
  have h : (RX18, TX18, 7) = (Cn, T, N) := Option.some.inj h
  cases h
  exact ⟨rfl, rfl, rfl⟩
theorem hd_X19_copy : (yX19_copy.cls ≠ "java/lang/invoke/MethodHandle" ∧ yX19_copy.cls ≠ "java/lang/invoke/VarHandle" ∧ (parseMethodDescriptor yX19_copy.desc).map (fun d => d.parameters.length) = some 0) := ⟨by decide +kernel, by decide +kernel, by decide +kernel⟩
def f_X18_copy (rec : Nat → Option Nat → gw → Option (Option Nat × gw)) (a0 : Nat) (p1 : Option Nat) (w0 : gw) : Option (Option Nat × gw) := gB2 (gNew w0 18) fun a1 w2 => gB1 (gR w2 a0 18 6) fun r3 => gB1 (gR w2 a0 18 2) fun r4 => gB2 (f_X18_init a1 r3 p1 r4 w2) fun _ w5 => gB1 (gR w5 a0 18 3) fun r6 => gBd (fun (r9 : Option Nat) (r10 : Option Nat) (r11 : Option Nat) (w8 : gw) => gB1 r10 fun a12 => gB1 (gPut w8 a12 18 3 (ga r11)) fun w13 => gB1 (gI w13 a0 18 4) fun x14 => gB1 r9 fun a15 => gB1 (gPut w13 a15 18 4 (gi x14)) fun w16 => gB1 (gR w16 a0 18 5) fun r17 => gB1 r17 fun a18 => gB1 (gOb w16 a18 19) fun _ => gB2 (f_X19_copy a18  w16) fun r20 w19 => gB1 (gPut w19 a15 18 5 (ga r20)) fun w21 => some ((some a15), w21)) fun k7 => gNl r6 (k7 (some a1) (some a1) none w5) (fun a23 => gB1 (gR w5 a0 18 3) fun r24 => gB1 r24 fun a25 => gB2 (rec a25 p1 w5) fun r27 w26 => k7 (some a1) (some a1) r27 w26)
set_option maxHeartbeats 4000000 in
set_option maxRecDepth 100000 in
theorem k_X18_copy {D : va_G} {dA : Nat → ClassId} {A : Nat → Prop} {K : Nat → Nat} {l : Launch} {h : Nat} {rec : Nat → Option Nat → gw → Option (Option Nat × gw)} {B : Nat} (hrec : ∀ {h : Nat}, B ≤ h → ∀ {a : Nat} {p1 : Option Nat} {w0 ww : gw} {rr : Option Nat}, rec a p1 w0 = some (rr, ww) → gDp_Run_copy D dA A K l h a [(ga p1)] (some (ga rr)) w0 ww) (hb : 3 ≤ B) (hh : B + 1 ≤ h) {a0 : Nat} {p1 : Option Nat} {w0 ww : gw} {rr : Option Nat} (hf : f_X18_copy rec a0 p1 w0 = some (rr, ww)) : gMet D dA A K l yX18_copy (ws_ yX18_copy cX18_copy 3 (some (.object "WorkflowEngine$Run"))) h [(ga (some a0)), (ga p1)] (some (ga rr)) w0 ww := by
  refine j_start (own := RX18) (by decide +kernel) rfl (Nat.le_of_ble_eq_true rfl) ?_
  intro p e R s m args below meth c C hr hin hw
  unfold f_X18_copy at hf
  show gJ D dA A K p l e R s m args below meth c (gEnd D dA A K below args s w0 (some (ga rr)) ww) 3 0 [(0, (ga (some a0))), (1, (ga p1))] [] w0
  replace hf := gB2_e hf
  obtain ⟨a1, w2, ew2, hf⟩ := hf
  refine j_new C nl_X18_4 ew2 dX18_copy_0 ?_
  refine j_dup C dX18_copy_3 ?_
  refine j_aload_n C dX18_copy_4 rfl ?_
  replace hf := gB1_e hf
  obtain ⟨r3, er3, hf⟩ := hf
  refine j_get C fl_X18_3_18 dX18_copy_5 (gR_F er3) ?_
  refine j_aload_n C dX18_copy_8 rfl ?_
  refine j_aload_n C dX18_copy_9 rfl ?_
  replace hf := gB1_e hf
  obtain ⟨r4, er4, hf⟩ := hf
  refine j_get C fl_X18_24_18 dX18_copy_10 (gR_F er4) ?_
  replace hf := gB2_e hf
  obtain ⟨_, w5, ew5, hf⟩ := hf
  refine j_callI (As := [(ga r3), (ga p1), (ga r4)]) (rest := [(ga (some a1))]) C (by omega) (k_X18_init (by omega) ew5) rfl q1462 q876 q120 q877 hd_X18_init (by decide) rfl (Nat.le_of_ble_eq_true rfl) dX18_copy_13 ?_
  refine j_astore_n (lv' := [(2, (ga (some a1))), (0, (ga (some a0))), (1, (ga p1))]) C dX18_copy_16 (by decide) rfl ?_
  refine j_aload_n C dX18_copy_17 rfl ?_
  refine j_aload_n C dX18_copy_18 rfl ?_
  replace hf := gB1_e hf
  obtain ⟨r6, er6, hf⟩ := hf
  refine j_get C fl_X18_44_18 dX18_copy_19 (gR_F er6) ?_
  replace hf := gBd_x hf
  obtain ⟨k7, ek7, hf⟩ := hf
  have jk7 : ∀ (r9 : Option Nat) (r10 : Option Nat) (r11 : Option Nat) (w8 : gw), k7 r9 r10 r11 w8 = some (rr, ww) → gJ D dA A K p l e R s m args below meth c (gEnd D dA A K below args s w0 (some (ga rr)) ww) 3 37 [(0, (ga (some a0))), (2, (ga r9))] [(ga r11), (ga r10)] w8 := by
    intro r9 r10 r11 w8 hf
    rw [ek7] at hf
    dsimp only at hf
    replace hf := gB1_e hf
    obtain ⟨a12, ea12, hf⟩ := hf
    subst ea12
    replace hf := gB1_e hf
    obtain ⟨w13, ew13, hf⟩ := hf
    refine j_put C fl_X18_44_18 tb_18 ew13 fk_18_3 (ft_LWorkflowEngine_Run_ r11) dX18_copy_37 ?_
    refine j_aload_n C dX18_copy_40 rfl ?_
    refine j_aload_n C dX18_copy_41 rfl ?_
    replace hf := gB1_e hf
    obtain ⟨x14, ex14, hf⟩ := hf
    refine j_get C fl_X18_28_18 dX18_copy_42 (gI_F ex14) ?_
    replace hf := gB1_e hf
    obtain ⟨a15, ea15, hf⟩ := hf
    subst ea15
    replace hf := gB1_e hf
    obtain ⟨w16, ew16, hf⟩ := hf
    refine j_put C fl_X18_28_18 tb_18 ew16 fk_18_4 (fit_I x14) dX18_copy_45 ?_
    refine j_aload_n C dX18_copy_48 rfl ?_
    refine j_aload_n C dX18_copy_49 rfl ?_
    replace hf := gB1_e hf
    obtain ⟨r17, er17, hf⟩ := hf
    refine j_get C fl_X18_20_18 dX18_copy_50 (gR_F er17) ?_
    replace hf := gB1_e hf
    obtain ⟨a18, ea18, hf⟩ := hf
    subst ea18
    replace hf := gB1_e hf
    obtain ⟨_, eo, hf⟩ := hf
    replace hf := gB2_e hf
    obtain ⟨r20, w19, ew19, hf⟩ := hf
    refine j_callV (As := []) (rest := [(ga (some a15))]) (v := (some (ga r20))) C (by omega) (k_X19_copy (by omega) ew19) (gOb_e eo) rfl q1483 q1484 q1485 q121 q1486 ⟨rfl, hd_X19_copy⟩ (by decide) rfl (Nat.le_of_ble_eq_true rfl) dX18_copy_53 ?_
    replace hf := gB1_e hf
    obtain ⟨w21, ew21, hf⟩ := hf
    refine j_put C fl_X18_20_18 tb_18 ew21 fk_18_5 (ft_LWorkflowEngine_Dones_ r20) dX18_copy_56 ?_
    refine j_aload_n C dX18_copy_59 rfl ?_
    obtain ⟨rfl, rfl⟩ := gSome hf
    exact j_aret C hr (Or.inl ⟨_, rfl⟩) hw dX18_copy_60
  clear ek7
  refine j_ifnonnull (tgt := 29) C dX18_copy_22 (by decide) (fun a23 c22 => ?_) (fun c22 => ?_)
  · subst c22
    replace hf := gNl_s hf
    refine j_aload_n C dX18_copy_29 rfl ?_
    replace hf := gB1_e hf
    obtain ⟨r24, er24, hf⟩ := hf
    refine j_get C fl_X18_44_18 dX18_copy_30 (gR_F er24) ?_
    refine j_aload_n C dX18_copy_33 rfl ?_
    replace hf := gB1_e hf
    obtain ⟨a25, ea25, hf⟩ := hf
    subst ea25
    replace hf := gB2_e hf
    obtain ⟨r27, w26, ew26, hf⟩ := hf
    refine j_dp_Run_copy (As := [(ga p1)]) (rest := [(ga (some a1))]) (v := (some (ga r27))) C (by omega) (hrec (by omega) ew26) q1463 rfl (Nat.le_of_ble_eq_true rfl) dX18_copy_34 ?_
    refine j_sub (lv' := [(0, (ga (some a0))), (2, (ga (some a1)))]) (gL_cons rfl (gL_cons rfl (gL_nil))) ?_
    exact jk7 _ _ _ _ hf
  · subst c22
    replace hf := gNl_n hf
    refine j_null C dX18_copy_25 ?_
    refine j_goto (tgt := 37) C dX18_copy_26 (by decide) ?_
    refine j_sub (lv' := [(0, (ga (some a0))), (2, (ga (some a1)))]) (gL_cons rfl (gL_cons rfl (gL_nil))) ?_
    exact jk7 _ _ _ _ hf
def dkwX22_copy_4 : List UInt8 := [182, 0, 124, 181, 0, 94, 44, 176]
abbrev dktX22_copy_4 : List UInt8 := dkwX22_copy_4 ++ []
def dkwX22_copy_3 : List UInt8 := [132, 3, 1, 167, 255, 203, 44, 42, 180, 0, 94, 199, 0, 7, 1, 167, 0, 11, 42, 180, 0, 94, 43]
abbrev dktX22_copy_3 : List UInt8 := dkwX22_copy_3 ++ dktX22_copy_4
def dkwX22_copy_2 : List UInt8 := [180, 0, 31, 29, 50, 43, 182, 0, 120, 83, 44, 180, 0, 36, 29, 42, 180, 0, 36, 29, 50, 83]
abbrev dktX22_copy_2 : List UInt8 := dkwX22_copy_2 ++ dktX22_copy_3
def dkwX22_copy_1 : List UInt8 := [190, 162, 0, 50, 44, 180, 0, 31, 29, 42, 180, 0, 31, 29, 50, 199, 0, 7, 1, 167, 0, 13, 42]
abbrev dktX22_copy_1 : List UInt8 := dkwX22_copy_1 ++ dktX22_copy_2
def dkwX22_copy_0 : List UInt8 := [187, 0, 4, 89, 42, 180, 0, 3, 43, 42, 180, 0, 15, 183, 0, 117, 77, 3, 62, 29, 42, 180, 0, 31]
abbrev dktX22_copy_0 : List UInt8 := dkwX22_copy_0 ++ dktX22_copy_1
theorem dksX22_copy_0 : cX22_copy.data.toList.drop 0 = dktX22_copy_0 := by decide +kernel
theorem dksX22_copy_1 : cX22_copy.data.toList.drop 24 = dktX22_copy_1 := dk_seg dksX22_copy_0 24 rfl rfl
theorem dksX22_copy_2 : cX22_copy.data.toList.drop 47 = dktX22_copy_2 := dk_seg dksX22_copy_1 23 rfl rfl
theorem dksX22_copy_3 : cX22_copy.data.toList.drop 69 = dktX22_copy_3 := dk_seg dksX22_copy_2 22 rfl rfl
theorem dksX22_copy_4 : cX22_copy.data.toList.drop 92 = dktX22_copy_4 := dk_seg dksX22_copy_3 23 rfl rfl
theorem dX22_copy_0 : decode cX22_copy 0 = .ok (.new 4, 3) := dk_187 0 4 (dk_at dksX22_copy_0 0 rfl rfl)
theorem dX22_copy_3 : decode cX22_copy 3 = .ok (.dup, 1) := dk_89 (dk_at dksX22_copy_0 3 rfl rfl)
theorem dX22_copy_4 : decode cX22_copy 4 = .ok (.aload_n 0, 1) := dk_42 (dk_at dksX22_copy_0 4 rfl rfl)
theorem dX22_copy_5 : decode cX22_copy 5 = .ok (.getfield 3, 3) := dk_180 0 3 (dk_at dksX22_copy_0 5 rfl rfl)
theorem dX22_copy_8 : decode cX22_copy 8 = .ok (.aload_n 1, 1) := dk_43 (dk_at dksX22_copy_0 8 rfl rfl)
theorem dX22_copy_9 : decode cX22_copy 9 = .ok (.aload_n 0, 1) := dk_42 (dk_at dksX22_copy_0 9 rfl rfl)
theorem dX22_copy_10 : decode cX22_copy 10 = .ok (.getfield 15, 3) := dk_180 0 15 (dk_at dksX22_copy_0 10 rfl rfl)
theorem dX22_copy_13 : decode cX22_copy 13 = .ok (.invokespecial 117, 3) := dk_183 0 117 (dk_at dksX22_copy_0 13 rfl rfl)
theorem dX22_copy_16 : decode cX22_copy 16 = .ok (.astore_n 2, 1) := dk_77 (dk_at dksX22_copy_0 16 rfl rfl)
theorem dX22_copy_17 : decode cX22_copy 17 = .ok (.iconst 0, 1) := dk_3 (dk_at dksX22_copy_0 17 rfl rfl)
theorem dX22_copy_18 : decode cX22_copy 18 = .ok (.istore_n 3, 1) := dk_62 (dk_at dksX22_copy_0 18 rfl rfl)
theorem dX22_copy_19 : decode cX22_copy 19 = .ok (.iload_n 3, 1) := dk_29 (dk_at dksX22_copy_0 19 rfl rfl)
theorem dX22_copy_20 : decode cX22_copy 20 = .ok (.aload_n 0, 1) := dk_42 (dk_at dksX22_copy_0 20 rfl rfl)
theorem dX22_copy_21 : decode cX22_copy 21 = .ok (.getfield 31, 3) := dk_180 0 31 (dk_at dksX22_copy_0 21 rfl rfl)
theorem dX22_copy_24 : decode cX22_copy 24 = .ok (.arraylength, 1) := dk_190 (dk_at dksX22_copy_1 0 rfl rfl)
theorem dX22_copy_25 : decode cX22_copy 25 = .ok (.if_icmp .ge 50, 3) := dk_162 0 50 (dk_at dksX22_copy_1 1 rfl rfl)
theorem dX22_copy_28 : decode cX22_copy 28 = .ok (.aload_n 2, 1) := dk_44 (dk_at dksX22_copy_1 4 rfl rfl)
theorem dX22_copy_29 : decode cX22_copy 29 = .ok (.getfield 31, 3) := dk_180 0 31 (dk_at dksX22_copy_1 5 rfl rfl)
theorem dX22_copy_32 : decode cX22_copy 32 = .ok (.iload_n 3, 1) := dk_29 (dk_at dksX22_copy_1 8 rfl rfl)
theorem dX22_copy_33 : decode cX22_copy 33 = .ok (.aload_n 0, 1) := dk_42 (dk_at dksX22_copy_1 9 rfl rfl)
theorem dX22_copy_34 : decode cX22_copy 34 = .ok (.getfield 31, 3) := dk_180 0 31 (dk_at dksX22_copy_1 10 rfl rfl)
theorem dX22_copy_37 : decode cX22_copy 37 = .ok (.iload_n 3, 1) := dk_29 (dk_at dksX22_copy_1 13 rfl rfl)
theorem dX22_copy_38 : decode cX22_copy 38 = .ok (.aaload, 1) := dk_50 (dk_at dksX22_copy_1 14 rfl rfl)
theorem dX22_copy_39 : decode cX22_copy 39 = .ok (.ifnonnull 7, 3) := dk_199 0 7 (dk_at dksX22_copy_1 15 rfl rfl)
theorem dX22_copy_42 : decode cX22_copy 42 = .ok (.aconst_null, 1) := dk_1 (dk_at dksX22_copy_1 18 rfl rfl)
theorem dX22_copy_43 : decode cX22_copy 43 = .ok (.goto 13, 3) := dk_167 0 13 (dk_at dksX22_copy_1 19 rfl rfl)
theorem dX22_copy_46 : decode cX22_copy 46 = .ok (.aload_n 0, 1) := dk_42 (dk_at dksX22_copy_1 22 rfl rfl)
theorem dX22_copy_47 : decode cX22_copy 47 = .ok (.getfield 31, 3) := dk_180 0 31 (dk_at dksX22_copy_2 0 rfl rfl)
theorem dX22_copy_50 : decode cX22_copy 50 = .ok (.iload_n 3, 1) := dk_29 (dk_at dksX22_copy_2 3 rfl rfl)
theorem dX22_copy_51 : decode cX22_copy 51 = .ok (.aaload, 1) := dk_50 (dk_at dksX22_copy_2 4 rfl rfl)
theorem dX22_copy_52 : decode cX22_copy 52 = .ok (.aload_n 1, 1) := dk_43 (dk_at dksX22_copy_2 5 rfl rfl)
theorem dX22_copy_53 : decode cX22_copy 53 = .ok (.invokevirtual 120, 3) := dk_182 0 120 (dk_at dksX22_copy_2 6 rfl rfl)
theorem dX22_copy_56 : decode cX22_copy 56 = .ok (.aastore, 1) := dk_83 (dk_at dksX22_copy_2 9 rfl rfl)
theorem dX22_copy_57 : decode cX22_copy 57 = .ok (.aload_n 2, 1) := dk_44 (dk_at dksX22_copy_2 10 rfl rfl)
theorem dX22_copy_58 : decode cX22_copy 58 = .ok (.getfield 36, 3) := dk_180 0 36 (dk_at dksX22_copy_2 11 rfl rfl)
theorem dX22_copy_61 : decode cX22_copy 61 = .ok (.iload_n 3, 1) := dk_29 (dk_at dksX22_copy_2 14 rfl rfl)
theorem dX22_copy_62 : decode cX22_copy 62 = .ok (.aload_n 0, 1) := dk_42 (dk_at dksX22_copy_2 15 rfl rfl)
theorem dX22_copy_63 : decode cX22_copy 63 = .ok (.getfield 36, 3) := dk_180 0 36 (dk_at dksX22_copy_2 16 rfl rfl)
theorem dX22_copy_66 : decode cX22_copy 66 = .ok (.iload_n 3, 1) := dk_29 (dk_at dksX22_copy_2 19 rfl rfl)
theorem dX22_copy_67 : decode cX22_copy 67 = .ok (.aaload, 1) := dk_50 (dk_at dksX22_copy_2 20 rfl rfl)
theorem dX22_copy_68 : decode cX22_copy 68 = .ok (.aastore, 1) := dk_83 (dk_at dksX22_copy_2 21 rfl rfl)
theorem dX22_copy_69 : decode cX22_copy 69 = .ok (.iinc 3 1, 3) := dk_132 3 1 (dk_at dksX22_copy_3 0 rfl rfl)
theorem dX22_copy_72 : decode cX22_copy 72 = .ok (.goto (-53), 3) := dk_167 255 203 (dk_at dksX22_copy_3 3 rfl rfl)
theorem dX22_copy_75 : decode cX22_copy 75 = .ok (.aload_n 2, 1) := dk_44 (dk_at dksX22_copy_3 6 rfl rfl)
theorem dX22_copy_76 : decode cX22_copy 76 = .ok (.aload_n 0, 1) := dk_42 (dk_at dksX22_copy_3 7 rfl rfl)
theorem dX22_copy_77 : decode cX22_copy 77 = .ok (.getfield 94, 3) := dk_180 0 94 (dk_at dksX22_copy_3 8 rfl rfl)
theorem dX22_copy_80 : decode cX22_copy 80 = .ok (.ifnonnull 7, 3) := dk_199 0 7 (dk_at dksX22_copy_3 11 rfl rfl)
theorem dX22_copy_83 : decode cX22_copy 83 = .ok (.aconst_null, 1) := dk_1 (dk_at dksX22_copy_3 14 rfl rfl)
theorem dX22_copy_84 : decode cX22_copy 84 = .ok (.goto 11, 3) := dk_167 0 11 (dk_at dksX22_copy_3 15 rfl rfl)
theorem dX22_copy_87 : decode cX22_copy 87 = .ok (.aload_n 0, 1) := dk_42 (dk_at dksX22_copy_3 18 rfl rfl)
theorem dX22_copy_88 : decode cX22_copy 88 = .ok (.getfield 94, 3) := dk_180 0 94 (dk_at dksX22_copy_3 19 rfl rfl)
theorem dX22_copy_91 : decode cX22_copy 91 = .ok (.aload_n 1, 1) := dk_43 (dk_at dksX22_copy_3 22 rfl rfl)
theorem dX22_copy_92 : decode cX22_copy 92 = .ok (.invokevirtual 124, 3) := dk_182 0 124 (dk_at dksX22_copy_4 0 rfl rfl)
theorem dX22_copy_95 : decode cX22_copy 95 = .ok (.putfield 94, 3) := dk_181 0 94 (dk_at dksX22_copy_4 3 rfl rfl)
theorem dX22_copy_98 : decode cX22_copy 98 = .ok (.aload_n 2, 1) := dk_44 (dk_at dksX22_copy_4 6 rfl rfl)
theorem dX22_copy_99 : decode cX22_copy 99 = .ok (.areturn, 1) := dk_176 (dk_at dksX22_copy_4 7 rfl rfl)
theorem nl_X22_4 : gNL RX22 4 22 := ⟨RX22, TX22, 7, 7, tyX22, _, rfl, rfl, in_X22, tyX22_ok, q1466, q1027, q126, fun j hj => by rcases (show j = 0 ∨ j = 1 ∨ j = 2 ∨ j = 3 ∨ j = 4 ∨ j = 5 ∨ j = 6 by omega) with rfl | rfl | rfl | rfl | rfl | rfl | rfl <;> rfl⟩
theorem hd_X26_copy : (yX26_copy.cls ≠ "java/lang/invoke/MethodHandle" ∧ yX26_copy.cls ≠ "java/lang/invoke/VarHandle" ∧ (parseMethodDescriptor yX26_copy.desc).map (fun d => d.parameters.length) = some 1) := ⟨by decide +kernel, by decide +kernel, by decide +kernel⟩
def f_X22_copy (rec : Nat → Option Nat → gw → Option (Option Nat × gw)) (a0 : Nat) (p1 : Option Nat) (w0 : gw) : Option (Option Nat × gw) := gB2 (gNew w0 22) fun a1 w2 => gB1 (gR w2 a0 22 6) fun r3 => gB1 (gR w2 a0 22 2) fun r4 => gB2 (f_X22_init a1 r3 p1 r4 w2) fun _ w5 => gL3 (fun k10 (r7 : Option Nat) (r8 : Option Nat) (x9 : Int32) (w6 : gw) => gB1 (gR w6 a0 22 3) fun r11 => gB1 r11 fun a12 => gB1 (gLen w6 a12 5) fun x13 => if x13 ≤ x9 then gB1 (gR w6 a0 22 5) fun r15 => gBd (fun (r18 : Option Nat) (r19 : Option Nat) (r20 : Option Nat) (w17 : gw) => gB1 r19 fun a21 => gB1 (gPut w17 a21 22 5 (ga r20)) fun w22 => some (r18, w22)) fun k16 => gNl r15 (k16 r8 r8 none w6) (fun a24 => gB1 (gR w6 a0 22 5) fun r25 => gB1 r25 fun a26 => gB1 (gOb w6 a26 26) fun _ => gB2 (f_X26_copy a26 r7 w6) fun r28 w27 => k16 r8 r8 r28 w27) else gB1 r8 fun a29 => gB1 (gR w6 a29 22 3) fun r30 => gB1 (gR w6 a0 22 3) fun r31 => gB1 r31 fun a32 => gB1 (gLdR w6 a32 5 x9) fun r33 => gBd (fun (r36 : Option Nat) (r37 : Option Nat) (x38 : Int32) (r39 : Option Nat) (x40 : Int32) (r41 : Option Nat) (w35 : gw) => gB1 r39 fun a42 => gB1 (gStR w35 a42 5 x40 r41) fun w43 => gB1 r37 fun a44 => gB1 (gR w43 a44 22 4) fun r45 => gB1 (gR w43 a0 22 4) fun r46 => gB1 r46 fun a47 => gB1 (gLdR w43 a47 6 x38) fun r48 => gB1 r45 fun a49 => gB1 (gStR w43 a49 6 x38 r48) fun w50 => gBd (x38 + (nI 1)) fun x51 => k10 r36 (some a44) x51 w50) fun k34 => gNl r33 (k34 r7 (some a29) x9 r30 x9 none w6) (fun a53 => gB1 (gR w6 a0 22 3) fun r54 => gB1 r54 fun a55 => gB1 (gLdR w6 a55 5 x9) fun r56 => gB1 r56 fun a57 => gB2 (rec a57 r7 w6) fun r59 w58 => k34 r7 (some a29) x9 r30 x9 r59 w58)) 20000 p1 (some a1) (nI 0) w5
set_option maxHeartbeats 4000000 in
set_option maxRecDepth 100000 in
theorem k_X22_copy {D : va_G} {dA : Nat → ClassId} {A : Nat → Prop} {K : Nat → Nat} {l : Launch} {h : Nat} {rec : Nat → Option Nat → gw → Option (Option Nat × gw)} {B : Nat} (hrec : ∀ {h : Nat}, B ≤ h → ∀ {a : Nat} {p1 : Option Nat} {w0 ww : gw} {rr : Option Nat}, rec a p1 w0 = some (rr, ww) → gDp_Run_copy D dA A K l h a [(ga p1)] (some (ga rr)) w0 ww) (hb : 3 ≤ B) (hh : B + 1 ≤ h) {a0 : Nat} {p1 : Option Nat} {w0 ww : gw} {rr : Option Nat} (hf : f_X22_copy rec a0 p1 w0 = some (rr, ww)) : gMet D dA A K l yX22_copy (ws_ yX22_copy cX22_copy 4 (some (.object "WorkflowEngine$Run"))) h [(ga (some a0)), (ga p1)] (some (ga rr)) w0 ww := by
  refine j_start (own := RX22) (by decide +kernel) rfl (Nat.le_of_ble_eq_true rfl) ?_
  intro p e R s m args below meth c C hr hin hw
  unfold f_X22_copy at hf
  show gJ D dA A K p l e R s m args below meth c (gEnd D dA A K below args s w0 (some (ga rr)) ww) 4 0 [(0, (ga (some a0))), (1, (ga p1))] [] w0
  replace hf := gB2_e hf
  obtain ⟨a1, w2, ew2, hf⟩ := hf
  refine j_new C nl_X22_4 ew2 dX22_copy_0 ?_
  refine j_dup C dX22_copy_3 ?_
  refine j_aload_n C dX22_copy_4 rfl ?_
  replace hf := gB1_e hf
  obtain ⟨r3, er3, hf⟩ := hf
  refine j_get C fl_X22_3_22 dX22_copy_5 (gR_F er3) ?_
  refine j_aload_n C dX22_copy_8 rfl ?_
  refine j_aload_n C dX22_copy_9 rfl ?_
  replace hf := gB1_e hf
  obtain ⟨r4, er4, hf⟩ := hf
  refine j_get C fl_X22_15_22 dX22_copy_10 (gR_F er4) ?_
  replace hf := gB2_e hf
  obtain ⟨_, w5, ew5, hf⟩ := hf
  refine j_callI (As := [(ga r3), (ga p1), (ga r4)]) (rest := [(ga (some a1))]) C (by omega) (k_X22_init (by omega) ew5) rfl q1467 q1031 q126 q1032 hd_X22_init (by decide) rfl (Nat.le_of_ble_eq_true rfl) dX22_copy_13 ?_
  refine j_astore_n (lv' := [(2, (ga (some a1))), (0, (ga (some a0))), (1, (ga p1))]) C dX22_copy_16 (by decide) rfl ?_
  refine j_iconst (v := (nI 0)) C dX22_copy_17 (by decide) ?_
  refine j_istore_n (lv' := [(3, (gi (nI 0))), (2, (ga (some a1))), (0, (ga (some a0))), (1, (ga p1))]) C dX22_copy_18 (by decide) rfl ?_
  refine j_sub (lv' := [(0, (ga (some a0))), (1, (ga p1)), (2, (ga (some a1))), (3, (gi (nI 0)))]) (gL_cons rfl (gL_cons rfl (gL_cons rfl (gL_cons rfl (gL_nil))))) ?_
  refine gL3_e (fun (r7 : Option Nat) (r8 : Option Nat) (x9 : Int32) (w6 : gw) => gJ D dA A K p l e R s m args below meth c (gEnd D dA A K below args s w0 (some (ga rr)) ww) 4 19 [(0, (ga (some a0))), (1, (ga r7)), (2, (ga r8)), (3, (gi x9))] [] w6) ?_ _ _ _ _ _ hf
  intro k10 jk10 r7 r8 x9 w6 hf
  refine j_iload_n C dX22_copy_19 rfl ?_
  refine j_aload_n C dX22_copy_20 rfl ?_
  replace hf := gB1_e hf
  obtain ⟨r11, er11, hf⟩ := hf
  refine j_get C fl_X22_31_22 dX22_copy_21 (gR_F er11) ?_
  replace hf := gB1_e hf
  obtain ⟨a12, ea12, hf⟩ := hf
  subst ea12
  replace hf := gB1_e hf
  obtain ⟨x13, ex13, hf⟩ := hf
  refine j_alen C (t := 5) rfl ex13 dX22_copy_24 ?_
  refine j_icmp_ge (tgt := 75) C dX22_copy_25 (by decide) (fun c14 => ?_) (fun c14 => ?_)
  · replace hf := gIf_t hf c14
    refine j_aload_n C dX22_copy_75 rfl ?_
    refine j_aload_n C dX22_copy_76 rfl ?_
    replace hf := gB1_e hf
    obtain ⟨r15, er15, hf⟩ := hf
    refine j_get C fl_X22_94_22 dX22_copy_77 (gR_F er15) ?_
    replace hf := gBd_x hf
    obtain ⟨k16, ek16, hf⟩ := hf
    have jk16 : ∀ (r18 : Option Nat) (r19 : Option Nat) (r20 : Option Nat) (w17 : gw), k16 r18 r19 r20 w17 = some (rr, ww) → gJ D dA A K p l e R s m args below meth c (gEnd D dA A K below args s w0 (some (ga rr)) ww) 4 95 [(2, (ga r18))] [(ga r20), (ga r19)] w17 := by
      intro r18 r19 r20 w17 hf
      rw [ek16] at hf
      dsimp only at hf
      replace hf := gB1_e hf
      obtain ⟨a21, ea21, hf⟩ := hf
      subst ea21
      replace hf := gB1_e hf
      obtain ⟨w22, ew22, hf⟩ := hf
      refine j_put C fl_X22_94_22 tb_22 ew22 fk_22_5 (ft_LWorkflowEngine_Undo_ r20) dX22_copy_95 ?_
      refine j_aload_n C dX22_copy_98 rfl ?_
      obtain ⟨rfl, rfl⟩ := gSome hf
      exact j_aret C hr (Or.inl ⟨_, rfl⟩) hw dX22_copy_99
    clear ek16
    refine j_ifnonnull (tgt := 87) C dX22_copy_80 (by decide) (fun a24 c23 => ?_) (fun c23 => ?_)
    · subst c23
      replace hf := gNl_s hf
      refine j_aload_n C dX22_copy_87 rfl ?_
      replace hf := gB1_e hf
      obtain ⟨r25, er25, hf⟩ := hf
      refine j_get C fl_X22_94_22 dX22_copy_88 (gR_F er25) ?_
      refine j_aload_n C dX22_copy_91 rfl ?_
      replace hf := gB1_e hf
      obtain ⟨a26, ea26, hf⟩ := hf
      subst ea26
      replace hf := gB1_e hf
      obtain ⟨_, eo, hf⟩ := hf
      replace hf := gB2_e hf
      obtain ⟨r28, w27, ew27, hf⟩ := hf
      refine j_callV (As := [(ga r7)]) (rest := [(ga r8)]) (v := (some (ga r28))) C (by omega) (k_X26_copy (by omega) ew27) (gOb_e eo) rfl q1477 q1478 q1479 q130 q1480 ⟨rfl, hd_X26_copy⟩ (by decide) rfl (Nat.le_of_ble_eq_true rfl) dX22_copy_92 ?_
      refine j_sub (lv' := [(2, (ga r8))]) (gL_cons rfl (gL_nil)) ?_
      exact jk16 _ _ _ _ hf
    · subst c23
      replace hf := gNl_n hf
      refine j_null C dX22_copy_83 ?_
      refine j_goto (tgt := 95) C dX22_copy_84 (by decide) ?_
      refine j_sub (lv' := [(2, (ga r8))]) (gL_cons rfl (gL_nil)) ?_
      exact jk16 _ _ _ _ hf
  · replace hf := gIf_f hf c14
    refine j_aload_n C dX22_copy_28 rfl ?_
    replace hf := gB1_e hf
    obtain ⟨a29, ea29, hf⟩ := hf
    subst ea29
    replace hf := gB1_e hf
    obtain ⟨r30, er30, hf⟩ := hf
    refine j_get C fl_X22_31_22 dX22_copy_29 (gR_F er30) ?_
    refine j_iload_n C dX22_copy_32 rfl ?_
    refine j_aload_n C dX22_copy_33 rfl ?_
    replace hf := gB1_e hf
    obtain ⟨r31, er31, hf⟩ := hf
    refine j_get C fl_X22_31_22 dX22_copy_34 (gR_F er31) ?_
    refine j_iload_n C dX22_copy_37 rfl ?_
    replace hf := gB1_e hf
    obtain ⟨a32, ea32, hf⟩ := hf
    subst ea32
    replace hf := gB1_e hf
    obtain ⟨r33, er33, hf⟩ := hf
    refine j_aald C (t := 5) rfl er33 dX22_copy_38 ?_
    replace hf := gBd_x hf
    obtain ⟨k34, ek34, hf⟩ := hf
    have jk34 : ∀ (r36 : Option Nat) (r37 : Option Nat) (x38 : Int32) (r39 : Option Nat) (x40 : Int32) (r41 : Option Nat) (w35 : gw), k34 r36 r37 x38 r39 x40 r41 w35 = some (rr, ww) → gJ D dA A K p l e R s m args below meth c (gEnd D dA A K below args s w0 (some (ga rr)) ww) 4 56 [(0, (ga (some a0))), (1, (ga r36)), (2, (ga r37)), (3, (gi x38))] [(ga r41), (gi x40), (ga r39)] w35 := by
      intro r36 r37 x38 r39 x40 r41 w35 hf
      rw [ek34] at hf
      dsimp only at hf
      replace hf := gB1_e hf
      obtain ⟨a42, ea42, hf⟩ := hf
      subst ea42
      replace hf := gB1_e hf
      obtain ⟨w43, ew43, hf⟩ := hf
      refine j_aast C (t := 5) rfl gAsg_5 ew43 dX22_copy_56 ?_
      refine j_aload_n C dX22_copy_57 rfl ?_
      replace hf := gB1_e hf
      obtain ⟨a44, ea44, hf⟩ := hf
      subst ea44
      replace hf := gB1_e hf
      obtain ⟨r45, er45, hf⟩ := hf
      refine j_get C fl_X22_36_22 dX22_copy_58 (gR_F er45) ?_
      refine j_iload_n C dX22_copy_61 rfl ?_
      refine j_aload_n C dX22_copy_62 rfl ?_
      replace hf := gB1_e hf
      obtain ⟨r46, er46, hf⟩ := hf
      refine j_get C fl_X22_36_22 dX22_copy_63 (gR_F er46) ?_
      refine j_iload_n C dX22_copy_66 rfl ?_
      replace hf := gB1_e hf
      obtain ⟨a47, ea47, hf⟩ := hf
      subst ea47
      replace hf := gB1_e hf
      obtain ⟨r48, er48, hf⟩ := hf
      refine j_aald C (t := 6) rfl er48 dX22_copy_67 ?_
      replace hf := gB1_e hf
      obtain ⟨a49, ea49, hf⟩ := hf
      subst ea49
      replace hf := gB1_e hf
      obtain ⟨w50, ew50, hf⟩ := hf
      refine j_aast C (t := 6) rfl gAsg_6 ew50 dX22_copy_68 ?_
      replace hf := gBd_x hf
      obtain ⟨x51, ex51, hf⟩ := hf
      refine j_iinc (v := x51) (lv' := [(3, (gi x51)), (0, (ga (some a0))), (1, (ga r36)), (2, (ga (some a44)))]) C dX22_copy_69 rfl (by rw [ex51]; rfl) (by decide) rfl ?_
      refine j_goto (tgt := 19) C dX22_copy_72 (by decide) ?_
      refine j_sub (lv' := [(0, (ga (some a0))), (1, (ga r36)), (2, (ga (some a44))), (3, (gi x51))]) (gL_cons rfl (gL_cons rfl (gL_cons rfl (gL_cons rfl (gL_nil))))) ?_
      exact jk10 _ _ _ _ hf
    clear ek34
    refine j_ifnonnull (tgt := 46) C dX22_copy_39 (by decide) (fun a53 c52 => ?_) (fun c52 => ?_)
    · subst c52
      replace hf := gNl_s hf
      refine j_aload_n C dX22_copy_46 rfl ?_
      replace hf := gB1_e hf
      obtain ⟨r54, er54, hf⟩ := hf
      refine j_get C fl_X22_31_22 dX22_copy_47 (gR_F er54) ?_
      refine j_iload_n C dX22_copy_50 rfl ?_
      replace hf := gB1_e hf
      obtain ⟨a55, ea55, hf⟩ := hf
      subst ea55
      replace hf := gB1_e hf
      obtain ⟨r56, er56, hf⟩ := hf
      refine j_aald C (t := 5) rfl er56 dX22_copy_51 ?_
      refine j_aload_n C dX22_copy_52 rfl ?_
      replace hf := gB1_e hf
      obtain ⟨a57, ea57, hf⟩ := hf
      subst ea57
      replace hf := gB2_e hf
      obtain ⟨r59, w58, ew58, hf⟩ := hf
      refine j_dp_Run_copy (As := [(ga r7)]) (rest := [(gi x9), (ga r30)]) (v := (some (ga r59))) C (by omega) (hrec (by omega) ew58) q1468 rfl (Nat.le_of_ble_eq_true rfl) dX22_copy_53 ?_
      exact jk34 _ _ _ _ _ _ _ hf
    · subst c52
      replace hf := gNl_n hf
      refine j_null C dX22_copy_42 ?_
      refine j_goto (tgt := 56) C dX22_copy_43 (by decide) ?_
      exact jk34 _ _ _ _ _ _ _ hf
def f_Run_copy_s (rec : Nat → Option Nat → gw → Option (Option Nat × gw)) (a : Nat) (p1 : Option Nat) (w0 : gw) : Option (Option Nat × gw) := gB1 (gCls w0 a) fun ci => if ci = 18 then f_X18_copy rec a p1 w0 else if ci = 20 then f_X20_copy a p1 w0 else if ci = 21 then f_X21_copy a p1 w0 else if ci = 22 then f_X22_copy rec a p1 w0 else if ci = 23 then f_X23_copy a p1 w0 else if ci = 24 then f_X24_copy a p1 w0 else none
theorem kd_Run_copy_s {D : va_G} {dA : Nat → ClassId} {A : Nat → Prop} {K : Nat → Nat} {l : Launch} {h : Nat} {rec : Nat → Option Nat → gw → Option (Option Nat × gw)} {B : Nat} (hrec : ∀ {h : Nat}, B ≤ h → ∀ {a : Nat} {p1 : Option Nat} {w0 ww : gw} {rr : Option Nat}, rec a p1 w0 = some (rr, ww) → gDp_Run_copy D dA A K l h a [(ga p1)] (some (ga rr)) w0 ww) (hb : 3 ≤ B) (hh : B + 1 ≤ h) {a : Nat} {p1 : Option Nat} {w0 ww : gw} {rr : Option Nat} (hf : f_Run_copy_s rec a p1 w0 = some (rr, ww)) : gDp_Run_copy D dA A K l h a [(ga p1)] (some (ga rr)) w0 ww := by
  unfold f_Run_copy_s at hf
  unfold gDp_Run_copy
  replace hf := gB1_e hf
  obtain ⟨ci, eci, hf⟩ := hf
  by_cases c0 : ci = 18
  · replace hf := gIf_t hf c0
    exact Or.inl ⟨by rw [eci, c0], k_X18_copy hrec hb (by omega) hf⟩
  replace hf := gIf_f hf c0
  by_cases c1 : ci = 20
  · replace hf := gIf_t hf c1
    exact Or.inr (Or.inl ⟨by rw [eci, c1], k_X20_copy (by omega) hf⟩)
  replace hf := gIf_f hf c1
  by_cases c2 : ci = 21
  · replace hf := gIf_t hf c2
    exact Or.inr (Or.inr (Or.inl ⟨by rw [eci, c2], k_X21_copy (by omega) hf⟩))
  replace hf := gIf_f hf c2
  by_cases c3 : ci = 22
  · replace hf := gIf_t hf c3
    exact Or.inr (Or.inr (Or.inr (Or.inl ⟨by rw [eci, c3], k_X22_copy hrec hb (by omega) hf⟩)))
  replace hf := gIf_f hf c3
  by_cases c4 : ci = 23
  · replace hf := gIf_t hf c4
    exact Or.inr (Or.inr (Or.inr (Or.inr (Or.inl ⟨by rw [eci, c4], k_X23_copy (by omega) hf⟩))))
  replace hf := gIf_f hf c4
  by_cases c5 : ci = 24
  · replace hf := gIf_t hf c5
    exact Or.inr (Or.inr (Or.inr (Or.inr (Or.inr (⟨by rw [eci, c5], k_X24_copy (by omega) hf⟩)))))
  replace hf := gIf_f hf c5
  cases hf
def f_Run_copy : Nat → Nat → Option Nat → gw → Option (Option Nat × gw)
  | 0 => fun _ _ _ => none
  | d + 1 => f_Run_copy_s (f_Run_copy d)
theorem kd_Run_copy {D : va_G} {dA : Nat → ClassId} {A : Nat → Prop} {K : Nat → Nat} {l : Launch} : ∀ (d : Nat) {h : Nat}, 3 + 1 * d ≤ h → ∀ {a : Nat} {p1 : Option Nat} {w0 ww : gw} {rr : Option Nat}, f_Run_copy d a p1 w0 = some (rr, ww) → gDp_Run_copy D dA A K l h a [(ga p1)] (some (ga rr)) w0 ww := by
  intro d
  induction d with
  | zero => intro h hh a p1 w0 ww rr hf; cases hf
  | succ d ih =>
    intro h hh a p1 w0 ww rr hf
    exact kd_Run_copy_s (rec := f_Run_copy d) (B := 3 + 1 * d) (fun hh => ih hh) (by omega) (by omega) hf
abbrev f_X18_copy_x (a0 : Nat) (p1 : Option Nat) (w0 : gw) : Option (Option Nat × gw) := f_X18_copy (f_Run_copy 12) a0 p1 w0
theorem k_X18_copy_x {D : va_G} {dA : Nat → ClassId} {A : Nat → Prop} {K : Nat → Nat} {l : Launch} {h : Nat} (hh : 16 ≤ h) {a0 : Nat} {p1 : Option Nat} {w0 ww : gw} {rr : Option Nat} (hf : f_X18_copy_x a0 p1 w0 = some (rr, ww)) : gMet D dA A K l yX18_copy (ws_ yX18_copy cX18_copy 3 (some (.object "WorkflowEngine$Run"))) h [(ga (some a0)), (ga p1)] (some (ga rr)) w0 ww := k_X18_copy (fun hh => kd_Run_copy 12 hh) (B := 15) (by omega) (by omega) hf
abbrev f_X22_copy_x (a0 : Nat) (p1 : Option Nat) (w0 : gw) : Option (Option Nat × gw) := f_X22_copy (f_Run_copy 12) a0 p1 w0
theorem k_X22_copy_x {D : va_G} {dA : Nat → ClassId} {A : Nat → Prop} {K : Nat → Nat} {l : Launch} {h : Nat} (hh : 16 ≤ h) {a0 : Nat} {p1 : Option Nat} {w0 ww : gw} {rr : Option Nat} (hf : f_X22_copy_x a0 p1 w0 = some (rr, ww)) : gMet D dA A K l yX22_copy (ws_ yX22_copy cX22_copy 4 (some (.object "WorkflowEngine$Run"))) h [(ga (some a0)), (ga p1)] (some (ga rr)) w0 ww := k_X22_copy (fun hh => kd_Run_copy 12 hh) (B := 15) (by omega) (by omega) hf
def dkwX16_copy_9 : List UInt8 := [182, 0, 114, 181, 0, 111, 44, 176]
abbrev dktX16_copy_9 : List UInt8 := dkwX16_copy_9 ++ []
def dkwX16_copy_8 : List UInt8 := [182, 0, 105, 181, 0, 101, 44, 42, 180, 0, 111, 199, 0, 7, 1, 167, 0, 11, 42, 180, 0, 111, 44]
abbrev dktX16_copy_8 : List UInt8 := dkwX16_copy_8 ++ dktX16_copy_9
def dkwX16_copy_7 : List UInt8 := [180, 0, 98, 181, 0, 98, 44, 42, 180, 0, 101, 199, 0, 7, 1, 167, 0, 11, 42, 180, 0, 101, 44]
abbrev dktX16_copy_7 : List UInt8 := dkwX16_copy_7 ++ dktX16_copy_8
def dkwX16_copy_6 : List UInt8 := [180, 0, 92, 181, 0, 92, 44, 42, 180, 0, 32, 181, 0, 32, 44, 42, 180, 0, 95, 181, 0, 95, 44, 42]
abbrev dktX16_copy_6 : List UInt8 := dkwX16_copy_6 ++ dktX16_copy_7
def dkwX16_copy_5 : List UInt8 := [180, 0, 29, 182, 0, 84, 192, 0, 85, 181, 0, 29, 44, 42, 180, 0, 89, 181, 0, 89, 44, 42]
abbrev dktX16_copy_5 : List UInt8 := dkwX16_copy_5 ++ dktX16_copy_6
def dkwX16_copy_4 : List UInt8 := [180, 0, 71, 25, 4, 180, 0, 74, 183, 0, 77, 182, 0, 80, 87, 132, 3, 1, 167, 255, 199, 44, 42]
abbrev dktX16_copy_4 : List UInt8 := dkwX16_copy_4 ++ dktX16_copy_5
def dkwX16_copy_3 : List UInt8 := [182, 0, 62, 192, 0, 66, 58, 4, 44, 180, 0, 25, 187, 0, 66, 89, 25, 4, 180, 0, 68, 25, 4]
abbrev dktX16_copy_3 : List UInt8 := dkwX16_copy_3 ++ dktX16_copy_4
def dkwX16_copy_2 : List UInt8 := [3, 16, 8, 184, 0, 52, 3, 62, 29, 42, 180, 0, 25, 182, 0, 58, 162, 0, 52, 42, 180, 0, 25, 29]
abbrev dktX16_copy_2 : List UInt8 := dkwX16_copy_2 ++ dktX16_copy_3
def dkwX16_copy_1 : List UInt8 := [77, 42, 180, 0, 15, 3, 44, 180, 0, 15, 3, 7, 184, 0, 52, 42, 180, 0, 19, 3, 44, 180, 0, 19]
abbrev dktX16_copy_1 : List UInt8 := dkwX16_copy_1 ++ dktX16_copy_2
def dkwX16_copy_0 : List UInt8 := [187, 0, 4, 89, 42, 180, 0, 3, 43, 42, 180, 0, 40, 42, 180, 0, 43, 42, 180, 0, 46, 183, 0, 49]
abbrev dktX16_copy_0 : List UInt8 := dkwX16_copy_0 ++ dktX16_copy_1
theorem dksX16_copy_0 : cX16_copy.data.toList.drop 0 = dktX16_copy_0 := by decide +kernel
theorem dksX16_copy_1 : cX16_copy.data.toList.drop 24 = dktX16_copy_1 := dk_seg dksX16_copy_0 24 rfl rfl
theorem dksX16_copy_2 : cX16_copy.data.toList.drop 48 = dktX16_copy_2 := dk_seg dksX16_copy_1 24 rfl rfl
theorem dksX16_copy_3 : cX16_copy.data.toList.drop 72 = dktX16_copy_3 := dk_seg dksX16_copy_2 24 rfl rfl
theorem dksX16_copy_4 : cX16_copy.data.toList.drop 95 = dktX16_copy_4 := dk_seg dksX16_copy_3 23 rfl rfl
theorem dksX16_copy_5 : cX16_copy.data.toList.drop 118 = dktX16_copy_5 := dk_seg dksX16_copy_4 23 rfl rfl
theorem dksX16_copy_6 : cX16_copy.data.toList.drop 140 = dktX16_copy_6 := dk_seg dksX16_copy_5 22 rfl rfl
theorem dksX16_copy_7 : cX16_copy.data.toList.drop 164 = dktX16_copy_7 := dk_seg dksX16_copy_6 24 rfl rfl
theorem dksX16_copy_8 : cX16_copy.data.toList.drop 187 = dktX16_copy_8 := dk_seg dksX16_copy_7 23 rfl rfl
theorem dksX16_copy_9 : cX16_copy.data.toList.drop 210 = dktX16_copy_9 := dk_seg dksX16_copy_8 23 rfl rfl
theorem dX16_copy_0 : decode cX16_copy 0 = .ok (.new 4, 3) := dk_187 0 4 (dk_at dksX16_copy_0 0 rfl rfl)
theorem dX16_copy_3 : decode cX16_copy 3 = .ok (.dup, 1) := dk_89 (dk_at dksX16_copy_0 3 rfl rfl)
theorem dX16_copy_4 : decode cX16_copy 4 = .ok (.aload_n 0, 1) := dk_42 (dk_at dksX16_copy_0 4 rfl rfl)
theorem dX16_copy_5 : decode cX16_copy 5 = .ok (.getfield 3, 3) := dk_180 0 3 (dk_at dksX16_copy_0 5 rfl rfl)
theorem dX16_copy_8 : decode cX16_copy 8 = .ok (.aload_n 1, 1) := dk_43 (dk_at dksX16_copy_0 8 rfl rfl)
theorem dX16_copy_9 : decode cX16_copy 9 = .ok (.aload_n 0, 1) := dk_42 (dk_at dksX16_copy_0 9 rfl rfl)
theorem dX16_copy_10 : decode cX16_copy 10 = .ok (.getfield 40, 3) := dk_180 0 40 (dk_at dksX16_copy_0 10 rfl rfl)
theorem dX16_copy_13 : decode cX16_copy 13 = .ok (.aload_n 0, 1) := dk_42 (dk_at dksX16_copy_0 13 rfl rfl)
theorem dX16_copy_14 : decode cX16_copy 14 = .ok (.getfield 43, 3) := dk_180 0 43 (dk_at dksX16_copy_0 14 rfl rfl)
theorem dX16_copy_17 : decode cX16_copy 17 = .ok (.aload_n 0, 1) := dk_42 (dk_at dksX16_copy_0 17 rfl rfl)
theorem dX16_copy_18 : decode cX16_copy 18 = .ok (.getfield 46, 3) := dk_180 0 46 (dk_at dksX16_copy_0 18 rfl rfl)
theorem dX16_copy_21 : decode cX16_copy 21 = .ok (.invokespecial 49, 3) := dk_183 0 49 (dk_at dksX16_copy_0 21 rfl rfl)
theorem dX16_copy_24 : decode cX16_copy 24 = .ok (.astore_n 2, 1) := dk_77 (dk_at dksX16_copy_1 0 rfl rfl)
theorem dX16_copy_25 : decode cX16_copy 25 = .ok (.aload_n 0, 1) := dk_42 (dk_at dksX16_copy_1 1 rfl rfl)
theorem dX16_copy_26 : decode cX16_copy 26 = .ok (.getfield 15, 3) := dk_180 0 15 (dk_at dksX16_copy_1 2 rfl rfl)
theorem dX16_copy_29 : decode cX16_copy 29 = .ok (.iconst 0, 1) := dk_3 (dk_at dksX16_copy_1 5 rfl rfl)
theorem dX16_copy_30 : decode cX16_copy 30 = .ok (.aload_n 2, 1) := dk_44 (dk_at dksX16_copy_1 6 rfl rfl)
theorem dX16_copy_31 : decode cX16_copy 31 = .ok (.getfield 15, 3) := dk_180 0 15 (dk_at dksX16_copy_1 7 rfl rfl)
theorem dX16_copy_34 : decode cX16_copy 34 = .ok (.iconst 0, 1) := dk_3 (dk_at dksX16_copy_1 10 rfl rfl)
theorem dX16_copy_35 : decode cX16_copy 35 = .ok (.iconst 4, 1) := dk_7 (dk_at dksX16_copy_1 11 rfl rfl)
theorem dX16_copy_36 : decode cX16_copy 36 = .ok (.invokestatic 52, 3) := dk_184 0 52 (dk_at dksX16_copy_1 12 rfl rfl)
theorem dX16_copy_39 : decode cX16_copy 39 = .ok (.aload_n 0, 1) := dk_42 (dk_at dksX16_copy_1 15 rfl rfl)
theorem dX16_copy_40 : decode cX16_copy 40 = .ok (.getfield 19, 3) := dk_180 0 19 (dk_at dksX16_copy_1 16 rfl rfl)
theorem dX16_copy_43 : decode cX16_copy 43 = .ok (.iconst 0, 1) := dk_3 (dk_at dksX16_copy_1 19 rfl rfl)
theorem dX16_copy_44 : decode cX16_copy 44 = .ok (.aload_n 2, 1) := dk_44 (dk_at dksX16_copy_1 20 rfl rfl)
theorem dX16_copy_45 : decode cX16_copy 45 = .ok (.getfield 19, 3) := dk_180 0 19 (dk_at dksX16_copy_1 21 rfl rfl)
theorem dX16_copy_48 : decode cX16_copy 48 = .ok (.iconst 0, 1) := dk_3 (dk_at dksX16_copy_2 0 rfl rfl)
theorem dX16_copy_49 : decode cX16_copy 49 = .ok (.bipush 8, 2) := dk_16 8 (dk_at dksX16_copy_2 1 rfl rfl)
theorem dX16_copy_51 : decode cX16_copy 51 = .ok (.invokestatic 52, 3) := dk_184 0 52 (dk_at dksX16_copy_2 3 rfl rfl)
theorem dX16_copy_54 : decode cX16_copy 54 = .ok (.iconst 0, 1) := dk_3 (dk_at dksX16_copy_2 6 rfl rfl)
theorem dX16_copy_55 : decode cX16_copy 55 = .ok (.istore_n 3, 1) := dk_62 (dk_at dksX16_copy_2 7 rfl rfl)
theorem dX16_copy_56 : decode cX16_copy 56 = .ok (.iload_n 3, 1) := dk_29 (dk_at dksX16_copy_2 8 rfl rfl)
theorem dX16_copy_57 : decode cX16_copy 57 = .ok (.aload_n 0, 1) := dk_42 (dk_at dksX16_copy_2 9 rfl rfl)
theorem dX16_copy_58 : decode cX16_copy 58 = .ok (.getfield 25, 3) := dk_180 0 25 (dk_at dksX16_copy_2 10 rfl rfl)
theorem dX16_copy_61 : decode cX16_copy 61 = .ok (.invokevirtual 58, 3) := dk_182 0 58 (dk_at dksX16_copy_2 13 rfl rfl)
theorem dX16_copy_64 : decode cX16_copy 64 = .ok (.if_icmp .ge 52, 3) := dk_162 0 52 (dk_at dksX16_copy_2 16 rfl rfl)
theorem dX16_copy_67 : decode cX16_copy 67 = .ok (.aload_n 0, 1) := dk_42 (dk_at dksX16_copy_2 19 rfl rfl)
theorem dX16_copy_68 : decode cX16_copy 68 = .ok (.getfield 25, 3) := dk_180 0 25 (dk_at dksX16_copy_2 20 rfl rfl)
theorem dX16_copy_71 : decode cX16_copy 71 = .ok (.iload_n 3, 1) := dk_29 (dk_at dksX16_copy_2 23 rfl rfl)
theorem dX16_copy_72 : decode cX16_copy 72 = .ok (.invokevirtual 62, 3) := dk_182 0 62 (dk_at dksX16_copy_3 0 rfl rfl)
theorem dX16_copy_75 : decode cX16_copy 75 = .ok (.checkcast 66, 3) := dk_192 0 66 (dk_at dksX16_copy_3 3 rfl rfl)
theorem dX16_copy_78 : decode cX16_copy 78 = .ok (.astore 4, 2) := dk_58 4 (dk_at dksX16_copy_3 6 rfl rfl)
theorem dX16_copy_80 : decode cX16_copy 80 = .ok (.aload_n 2, 1) := dk_44 (dk_at dksX16_copy_3 8 rfl rfl)
theorem dX16_copy_81 : decode cX16_copy 81 = .ok (.getfield 25, 3) := dk_180 0 25 (dk_at dksX16_copy_3 9 rfl rfl)
theorem dX16_copy_84 : decode cX16_copy 84 = .ok (.new 66, 3) := dk_187 0 66 (dk_at dksX16_copy_3 12 rfl rfl)
theorem dX16_copy_87 : decode cX16_copy 87 = .ok (.dup, 1) := dk_89 (dk_at dksX16_copy_3 15 rfl rfl)
theorem dX16_copy_88 : decode cX16_copy 88 = .ok (.aload 4, 2) := dk_25 4 (dk_at dksX16_copy_3 16 rfl rfl)
theorem dX16_copy_90 : decode cX16_copy 90 = .ok (.getfield 68, 3) := dk_180 0 68 (dk_at dksX16_copy_3 18 rfl rfl)
theorem dX16_copy_93 : decode cX16_copy 93 = .ok (.aload 4, 2) := dk_25 4 (dk_at dksX16_copy_3 21 rfl rfl)
theorem dX16_copy_95 : decode cX16_copy 95 = .ok (.getfield 71, 3) := dk_180 0 71 (dk_at dksX16_copy_4 0 rfl rfl)
theorem dX16_copy_98 : decode cX16_copy 98 = .ok (.aload 4, 2) := dk_25 4 (dk_at dksX16_copy_4 3 rfl rfl)
theorem dX16_copy_100 : decode cX16_copy 100 = .ok (.getfield 74, 3) := dk_180 0 74 (dk_at dksX16_copy_4 5 rfl rfl)
theorem dX16_copy_103 : decode cX16_copy 103 = .ok (.invokespecial 77, 3) := dk_183 0 77 (dk_at dksX16_copy_4 8 rfl rfl)
theorem dX16_copy_106 : decode cX16_copy 106 = .ok (.invokevirtual 80, 3) := dk_182 0 80 (dk_at dksX16_copy_4 11 rfl rfl)
theorem dX16_copy_109 : decode cX16_copy 109 = .ok (.pop, 1) := dk_87 (dk_at dksX16_copy_4 14 rfl rfl)
theorem dX16_copy_110 : decode cX16_copy 110 = .ok (.iinc 3 1, 3) := dk_132 3 1 (dk_at dksX16_copy_4 15 rfl rfl)
theorem dX16_copy_113 : decode cX16_copy 113 = .ok (.goto (-57), 3) := dk_167 255 199 (dk_at dksX16_copy_4 18 rfl rfl)
theorem dX16_copy_116 : decode cX16_copy 116 = .ok (.aload_n 2, 1) := dk_44 (dk_at dksX16_copy_4 21 rfl rfl)
theorem dX16_copy_117 : decode cX16_copy 117 = .ok (.aload_n 0, 1) := dk_42 (dk_at dksX16_copy_4 22 rfl rfl)
theorem dX16_copy_118 : decode cX16_copy 118 = .ok (.getfield 29, 3) := dk_180 0 29 (dk_at dksX16_copy_5 0 rfl rfl)
theorem dX16_copy_121 : decode cX16_copy 121 = .ok (.invokevirtual 84, 3) := dk_182 0 84 (dk_at dksX16_copy_5 3 rfl rfl)
theorem dX16_copy_124 : decode cX16_copy 124 = .ok (.checkcast 85, 3) := dk_192 0 85 (dk_at dksX16_copy_5 6 rfl rfl)
theorem dX16_copy_127 : decode cX16_copy 127 = .ok (.putfield 29, 3) := dk_181 0 29 (dk_at dksX16_copy_5 9 rfl rfl)
theorem dX16_copy_130 : decode cX16_copy 130 = .ok (.aload_n 2, 1) := dk_44 (dk_at dksX16_copy_5 12 rfl rfl)
theorem dX16_copy_131 : decode cX16_copy 131 = .ok (.aload_n 0, 1) := dk_42 (dk_at dksX16_copy_5 13 rfl rfl)
theorem dX16_copy_132 : decode cX16_copy 132 = .ok (.getfield 89, 3) := dk_180 0 89 (dk_at dksX16_copy_5 14 rfl rfl)
theorem dX16_copy_135 : decode cX16_copy 135 = .ok (.putfield 89, 3) := dk_181 0 89 (dk_at dksX16_copy_5 17 rfl rfl)
theorem dX16_copy_138 : decode cX16_copy 138 = .ok (.aload_n 2, 1) := dk_44 (dk_at dksX16_copy_5 20 rfl rfl)
theorem dX16_copy_139 : decode cX16_copy 139 = .ok (.aload_n 0, 1) := dk_42 (dk_at dksX16_copy_5 21 rfl rfl)
theorem dX16_copy_140 : decode cX16_copy 140 = .ok (.getfield 92, 3) := dk_180 0 92 (dk_at dksX16_copy_6 0 rfl rfl)
theorem dX16_copy_143 : decode cX16_copy 143 = .ok (.putfield 92, 3) := dk_181 0 92 (dk_at dksX16_copy_6 3 rfl rfl)
theorem dX16_copy_146 : decode cX16_copy 146 = .ok (.aload_n 2, 1) := dk_44 (dk_at dksX16_copy_6 6 rfl rfl)
theorem dX16_copy_147 : decode cX16_copy 147 = .ok (.aload_n 0, 1) := dk_42 (dk_at dksX16_copy_6 7 rfl rfl)
theorem dX16_copy_148 : decode cX16_copy 148 = .ok (.getfield 32, 3) := dk_180 0 32 (dk_at dksX16_copy_6 8 rfl rfl)
theorem dX16_copy_151 : decode cX16_copy 151 = .ok (.putfield 32, 3) := dk_181 0 32 (dk_at dksX16_copy_6 11 rfl rfl)
theorem dX16_copy_154 : decode cX16_copy 154 = .ok (.aload_n 2, 1) := dk_44 (dk_at dksX16_copy_6 14 rfl rfl)
theorem dX16_copy_155 : decode cX16_copy 155 = .ok (.aload_n 0, 1) := dk_42 (dk_at dksX16_copy_6 15 rfl rfl)
theorem dX16_copy_156 : decode cX16_copy 156 = .ok (.getfield 95, 3) := dk_180 0 95 (dk_at dksX16_copy_6 16 rfl rfl)
theorem dX16_copy_159 : decode cX16_copy 159 = .ok (.putfield 95, 3) := dk_181 0 95 (dk_at dksX16_copy_6 19 rfl rfl)
theorem dX16_copy_162 : decode cX16_copy 162 = .ok (.aload_n 2, 1) := dk_44 (dk_at dksX16_copy_6 22 rfl rfl)
theorem dX16_copy_163 : decode cX16_copy 163 = .ok (.aload_n 0, 1) := dk_42 (dk_at dksX16_copy_6 23 rfl rfl)
theorem dX16_copy_164 : decode cX16_copy 164 = .ok (.getfield 98, 3) := dk_180 0 98 (dk_at dksX16_copy_7 0 rfl rfl)
theorem dX16_copy_167 : decode cX16_copy 167 = .ok (.putfield 98, 3) := dk_181 0 98 (dk_at dksX16_copy_7 3 rfl rfl)
theorem dX16_copy_170 : decode cX16_copy 170 = .ok (.aload_n 2, 1) := dk_44 (dk_at dksX16_copy_7 6 rfl rfl)
theorem dX16_copy_171 : decode cX16_copy 171 = .ok (.aload_n 0, 1) := dk_42 (dk_at dksX16_copy_7 7 rfl rfl)
theorem dX16_copy_172 : decode cX16_copy 172 = .ok (.getfield 101, 3) := dk_180 0 101 (dk_at dksX16_copy_7 8 rfl rfl)
theorem dX16_copy_175 : decode cX16_copy 175 = .ok (.ifnonnull 7, 3) := dk_199 0 7 (dk_at dksX16_copy_7 11 rfl rfl)
theorem dX16_copy_178 : decode cX16_copy 178 = .ok (.aconst_null, 1) := dk_1 (dk_at dksX16_copy_7 14 rfl rfl)
theorem dX16_copy_179 : decode cX16_copy 179 = .ok (.goto 11, 3) := dk_167 0 11 (dk_at dksX16_copy_7 15 rfl rfl)
theorem dX16_copy_182 : decode cX16_copy 182 = .ok (.aload_n 0, 1) := dk_42 (dk_at dksX16_copy_7 18 rfl rfl)
theorem dX16_copy_183 : decode cX16_copy 183 = .ok (.getfield 101, 3) := dk_180 0 101 (dk_at dksX16_copy_7 19 rfl rfl)
theorem dX16_copy_186 : decode cX16_copy 186 = .ok (.aload_n 2, 1) := dk_44 (dk_at dksX16_copy_7 22 rfl rfl)
theorem dX16_copy_187 : decode cX16_copy 187 = .ok (.invokevirtual 105, 3) := dk_182 0 105 (dk_at dksX16_copy_8 0 rfl rfl)
theorem dX16_copy_190 : decode cX16_copy 190 = .ok (.putfield 101, 3) := dk_181 0 101 (dk_at dksX16_copy_8 3 rfl rfl)
theorem dX16_copy_193 : decode cX16_copy 193 = .ok (.aload_n 2, 1) := dk_44 (dk_at dksX16_copy_8 6 rfl rfl)
theorem dX16_copy_194 : decode cX16_copy 194 = .ok (.aload_n 0, 1) := dk_42 (dk_at dksX16_copy_8 7 rfl rfl)
theorem dX16_copy_195 : decode cX16_copy 195 = .ok (.getfield 111, 3) := dk_180 0 111 (dk_at dksX16_copy_8 8 rfl rfl)
theorem dX16_copy_198 : decode cX16_copy 198 = .ok (.ifnonnull 7, 3) := dk_199 0 7 (dk_at dksX16_copy_8 11 rfl rfl)
theorem dX16_copy_201 : decode cX16_copy 201 = .ok (.aconst_null, 1) := dk_1 (dk_at dksX16_copy_8 14 rfl rfl)
theorem dX16_copy_202 : decode cX16_copy 202 = .ok (.goto 11, 3) := dk_167 0 11 (dk_at dksX16_copy_8 15 rfl rfl)
theorem dX16_copy_205 : decode cX16_copy 205 = .ok (.aload_n 0, 1) := dk_42 (dk_at dksX16_copy_8 18 rfl rfl)
theorem dX16_copy_206 : decode cX16_copy 206 = .ok (.getfield 111, 3) := dk_180 0 111 (dk_at dksX16_copy_8 19 rfl rfl)
theorem dX16_copy_209 : decode cX16_copy 209 = .ok (.aload_n 2, 1) := dk_44 (dk_at dksX16_copy_8 22 rfl rfl)
theorem dX16_copy_210 : decode cX16_copy 210 = .ok (.invokevirtual 114, 3) := dk_182 0 114 (dk_at dksX16_copy_9 0 rfl rfl)
theorem dX16_copy_213 : decode cX16_copy 213 = .ok (.putfield 111, 3) := dk_181 0 111 (dk_at dksX16_copy_9 3 rfl rfl)
theorem dX16_copy_216 : decode cX16_copy 216 = .ok (.aload_n 2, 1) := dk_44 (dk_at dksX16_copy_9 6 rfl rfl)
theorem dX16_copy_217 : decode cX16_copy 217 = .ok (.areturn, 1) := dk_176 (dk_at dksX16_copy_9 7 rfl rfl)
theorem nl_X16_4 : gNL RX16 4 16 := ⟨RX16, TX16, 16, 16, tyX16, _, rfl, rfl, in_X16, tyX16_ok, q1434, q795, q118, fun j hj => by rcases (show j = 0 ∨ j = 1 ∨ j = 2 ∨ j = 3 ∨ j = 4 ∨ j = 5 ∨ j = 6 ∨ j = 7 ∨ j = 8 ∨ j = 9 ∨ j = 10 ∨ j = 11 ∨ j = 12 ∨ j = 13 ∨ j = 14 ∨ j = 15 by omega) with rfl | rfl | rfl | rfl | rfl | rfl | rfl | rfl | rfl | rfl | rfl | rfl | rfl | rfl | rfl | rfl <;> rfl⟩
theorem hd_X16_init : (yX16_init.cls ≠ "java/lang/invoke/MethodHandle" ∧ yX16_init.cls ≠ "java/lang/invoke/VarHandle" ∧ (parseMethodDescriptor yX16_init.desc).map (fun d => d.parameters.length) = some 5) := ⟨by decide +kernel, by decide +kernel, by decide +kernel⟩
theorem fl_X16_71_25 : gFL RX16 71 25 1 := gFL.mkN (Cn := RX25) (T := TX25) (N := 3) (ref := "WorkflowEngine$Done") rfl in_X25 (by decide) nq1164 rfl rfl (Or.inl rfl)
def f_X16_copy (a0 : Nat) (p1 : Option Nat) (w0 : gw) : Option (Option Nat × gw) := gB2 (gNew w0 16) fun a1 w2 => gB1 (gR w2 a0 16 15) fun r3 => gB1 (gI w2 a0 16 1) fun x4 => gB1 (gI w2 a0 16 2) fun x5 => gB1 (gI w2 a0 16 3) fun x6 => gB2 (f_X16_init a1 r3 p1 x4 x5 x6 w2) fun _ w7 => gB1 (gR w7 a0 16 4) fun r8 => gB1 (gR w7 a1 16 4) fun r9 => gB1 r8 fun a10 => gB1 r9 fun a11 => gB1 (gCpI w7 0 a10 (nI 0) a11 (nI 0) (nI 4)) fun w12 => gB1 (gR w12 a0 16 5) fun r13 => gB1 (gR w12 a1 16 5) fun r14 => gB1 r13 fun a15 => gB1 r14 fun a16 => gB1 (gCpI w12 0 a15 (nI 0) a16 (nI 0) (nI 8)) fun w17 => gL2 (fun k21 (r19 : Option Nat) (x20 : Int32) (w18 : gw) => gB1 (gR w18 a0 16 6) fun r22 => gB1 r22 fun a23 => gB1 (gOb w18 a23 8) fun _ => gB2 (f_J2_size a23  w18) fun x25 w24 => if x25 ≤ x20 then gB1 (gR w24 a0 16 7) fun r27 => gB1 r27 fun a28 => gB2 (gCln w24 a28 0) fun a29 w30 => gB1 (gCkA w30 0 (some a29)) fun r31 => gB1 r19 fun a32 => gB1 (gPut w30 a32 16 7 (ga r31)) fun w33 => gB1 (gI w33 a0 16 8) fun x34 => gB1 (gPut w33 a32 16 8 (gi x34)) fun w35 => gB1 (gI w35 a0 16 9) fun x36 => gB1 (gPut w35 a32 16 9 (gi x36)) fun w37 => gB1 (gI w37 a0 16 10) fun x38 => gB1 (gPut w37 a32 16 10 (gi x38)) fun w39 => gB1 (gI w39 a0 16 11) fun x40 => gB1 (gPut w39 a32 16 11 (gi x40)) fun w41 => gB1 (gI w41 a0 16 12) fun x42 => gB1 (gPut w41 a32 16 12 (gi x42)) fun w43 => gB1 (gR w43 a0 16 13) fun r44 => gBd (fun (r47 : Option Nat) (r48 : Option Nat) (r49 : Option Nat) (w46 : gw) => gB1 r48 fun a50 => gB1 (gPut w46 a50 16 13 (ga r49)) fun w51 => gB1 (gR w51 a0 16 14) fun r52 => gBd (fun (r55 : Option Nat) (r56 : Option Nat) (r57 : Option Nat) (w54 : gw) => gB1 r56 fun a58 => gB1 (gPut w54 a58 16 14 (ga r57)) fun w59 => some (r55, w59)) fun k53 => gNl r52 (k53 r47 r47 none w51) (fun a61 => gB1 (gR w51 a0 16 14) fun r62 => gB1 r62 fun a63 => gB1 (gOb w51 a63 26) fun _ => gB2 (f_X26_copy a63 r47 w51) fun r65 w64 => k53 r47 r47 r65 w64)) fun k45 => gNl r44 (k45 (some a32) (some a32) none w43) (fun a67 => gB1 (gR w43 a0 16 13) fun r68 => gB1 r68 fun a69 => gB2 (f_Run_copy 12 a69 (some a32) w43) fun r71 w70 => k45 (some a32) (some a32) r71 w70) else gB1 (gR w24 a0 16 6) fun r72 => gB1 r72 fun a73 => gB1 (gOb w24 a73 8) fun _ => gB2 (f_J2_get a73 x20 w24) fun r75 w74 => gB1 (gCk w74 [25] r75) fun r76 => gB1 r19 fun a77 => gB1 (gR w74 a77 16 6) fun r78 => gB2 (gNew w74 25) fun a79 w80 => gB1 r76 fun a81 => gB1 (gI w80 a81 25 0) fun x82 => gB1 (gI w80 a81 25 1) fun x83 => gB1 (gI w80 a81 25 2) fun x84 => gB2 (f_X25_init a79 x82 x83 x84 w80) fun _ w85 => gB1 r78 fun a86 => gB1 (gOb w85 a86 8) fun _ => gB2 (f_J2_add a86 (some a79) w85) fun x88 w87 => gBd (x20 + (nI 1)) fun x89 => k21 (some a77) x89 w87) 20000 (some a1) (nI 0) w17
set_option maxHeartbeats 4000000 in
set_option maxRecDepth 100000 in
theorem k_X16_copy {D : va_G} {dA : Nat → ClassId} {A : Nat → Prop} {K : Nat → Nat} {l : Launch} {h : Nat} (hh : 16 ≤ h) {a0 : Nat} {p1 : Option Nat} {w0 ww : gw} {rr : Option Nat} (hf : f_X16_copy a0 p1 w0 = some (rr, ww)) : gMet D dA A K l yX16_copy (ws_ yX16_copy cX16_copy 5 (some (.object "WorkflowEngine$Instance"))) h [(ga (some a0)), (ga p1)] (some (ga rr)) w0 ww := by
  refine j_start (own := RX16) (by decide +kernel) rfl (Nat.le_of_ble_eq_true rfl) ?_
  intro p e R s m args below meth c C hr hin hw
  unfold f_X16_copy at hf
  show gJ D dA A K p l e R s m args below meth c (gEnd D dA A K below args s w0 (some (ga rr)) ww) 5 0 [(0, (ga (some a0))), (1, (ga p1))] [] w0
  replace hf := gB2_e hf
  obtain ⟨a1, w2, ew2, hf⟩ := hf
  refine j_new C nl_X16_4 ew2 dX16_copy_0 ?_
  refine j_dup C dX16_copy_3 ?_
  refine j_aload_n C dX16_copy_4 rfl ?_
  replace hf := gB1_e hf
  obtain ⟨r3, er3, hf⟩ := hf
  refine j_get C fl_X16_3_16 dX16_copy_5 (gR_F er3) ?_
  refine j_aload_n C dX16_copy_8 rfl ?_
  refine j_aload_n C dX16_copy_9 rfl ?_
  replace hf := gB1_e hf
  obtain ⟨x4, ex4, hf⟩ := hf
  refine j_get C fl_X16_40_16 dX16_copy_10 (gI_F ex4) ?_
  refine j_aload_n C dX16_copy_13 rfl ?_
  replace hf := gB1_e hf
  obtain ⟨x5, ex5, hf⟩ := hf
  refine j_get C fl_X16_43_16 dX16_copy_14 (gI_F ex5) ?_
  refine j_aload_n C dX16_copy_17 rfl ?_
  replace hf := gB1_e hf
  obtain ⟨x6, ex6, hf⟩ := hf
  refine j_get C fl_X16_46_16 dX16_copy_18 (gI_F ex6) ?_
  replace hf := gB2_e hf
  obtain ⟨_, w7, ew7, hf⟩ := hf
  refine j_callI (As := [(ga r3), (ga p1), (gi x4), (gi x5), (gi x6)]) (rest := [(ga (some a1))]) C (by omega) (k_X16_init (by omega) ew7) rfl q1435 q797 q118 q798 hd_X16_init (by decide) rfl (Nat.le_of_ble_eq_true rfl) dX16_copy_21 ?_
  refine j_astore_n (lv' := [(2, (ga (some a1))), (0, (ga (some a0))), (1, (ga p1))]) C dX16_copy_24 (by decide) rfl ?_
  refine j_aload_n C dX16_copy_25 rfl ?_
  replace hf := gB1_e hf
  obtain ⟨r8, er8, hf⟩ := hf
  refine j_get C fl_X16_15_16 dX16_copy_26 (gR_F er8) ?_
  refine j_iconst (v := (nI 0)) C dX16_copy_29 (by decide) ?_
  refine j_aload_n C dX16_copy_30 rfl ?_
  replace hf := gB1_e hf
  obtain ⟨r9, er9, hf⟩ := hf
  refine j_get C fl_X16_15_16 dX16_copy_31 (gR_F er9) ?_
  refine j_iconst (v := (nI 0)) C dX16_copy_34 (by decide) ?_
  refine j_iconst (v := (nI 4)) C dX16_copy_35 (by decide) ?_
  replace hf := gB1_e hf
  obtain ⟨a10, ea10, hf⟩ := hf
  subst ea10
  replace hf := gB1_e hf
  obtain ⟨a11, ea11, hf⟩ := hf
  subst ea11
  replace hf := gB1_e hf
  obtain ⟨w12, ew12, hf⟩ := hf
  refine j_cpI C (by omega) q1436 q556 q555 q113 ew12 (Nat.le_of_ble_eq_true rfl) dX16_copy_36 ?_
  refine j_aload_n C dX16_copy_39 rfl ?_
  replace hf := gB1_e hf
  obtain ⟨r13, er13, hf⟩ := hf
  refine j_get C fl_X16_19_16 dX16_copy_40 (gR_F er13) ?_
  refine j_iconst (v := (nI 0)) C dX16_copy_43 (by decide) ?_
  refine j_aload_n C dX16_copy_44 rfl ?_
  replace hf := gB1_e hf
  obtain ⟨r14, er14, hf⟩ := hf
  refine j_get C fl_X16_19_16 dX16_copy_45 (gR_F er14) ?_
  refine j_iconst (v := (nI 0)) C dX16_copy_48 (by decide) ?_
  refine j_bipush (v := (nI 8)) C dX16_copy_49 (by decide) ?_
  replace hf := gB1_e hf
  obtain ⟨a15, ea15, hf⟩ := hf
  subst ea15
  replace hf := gB1_e hf
  obtain ⟨a16, ea16, hf⟩ := hf
  subst ea16
  replace hf := gB1_e hf
  obtain ⟨w17, ew17, hf⟩ := hf
  refine j_cpI C (by omega) q1436 q556 q555 q113 ew17 (Nat.le_of_ble_eq_true rfl) dX16_copy_51 ?_
  refine j_iconst (v := (nI 0)) C dX16_copy_54 (by decide) ?_
  refine j_istore_n (lv' := [(3, (gi (nI 0))), (2, (ga (some a1))), (0, (ga (some a0))), (1, (ga p1))]) C dX16_copy_55 (by decide) rfl ?_
  refine j_sub (lv' := [(0, (ga (some a0))), (2, (ga (some a1))), (3, (gi (nI 0)))]) (gL_cons rfl (gL_cons rfl (gL_cons rfl (gL_nil)))) ?_
  refine gL2_e (fun (r19 : Option Nat) (x20 : Int32) (w18 : gw) => gJ D dA A K p l e R s m args below meth c (gEnd D dA A K below args s w0 (some (ga rr)) ww) 5 56 [(0, (ga (some a0))), (2, (ga r19)), (3, (gi x20))] [] w18) ?_ _ _ _ _ hf
  intro k21 jk21 r19 x20 w18 hf
  refine j_iload_n C dX16_copy_56 rfl ?_
  refine j_aload_n C dX16_copy_57 rfl ?_
  replace hf := gB1_e hf
  obtain ⟨r22, er22, hf⟩ := hf
  refine j_get C fl_X16_25_16 dX16_copy_58 (gR_F er22) ?_
  replace hf := gB1_e hf
  obtain ⟨a23, ea23, hf⟩ := hf
  subst ea23
  replace hf := gB1_e hf
  obtain ⟨_, eo, hf⟩ := hf
  replace hf := gB2_e hf
  obtain ⟨x25, w24, ew24, hf⟩ := hf
  refine j_callV (As := []) (rest := [(gi x20)]) (v := (some (gi x25))) C (by omega) (k_J2_size (by omega) ew24) (gOb_e eo) rfl q1177 q560 q561 q99 q562 ⟨rfl, hd_J2_size⟩ (by decide) rfl (Nat.le_of_ble_eq_true rfl) dX16_copy_61 ?_
  refine j_icmp_ge (tgt := 116) C dX16_copy_64 (by decide) (fun c26 => ?_) (fun c26 => ?_)
  · replace hf := gIf_t hf c26
    refine j_aload_n C dX16_copy_116 rfl ?_
    refine j_aload_n C dX16_copy_117 rfl ?_
    replace hf := gB1_e hf
    obtain ⟨r27, er27, hf⟩ := hf
    refine j_get C fl_X16_29_16 dX16_copy_118 (gR_F er27) ?_
    replace hf := gB1_e hf
    obtain ⟨a28, ea28, hf⟩ := hf
    subst ea28
    replace hf := gB2_e hf
    obtain ⟨a29, w30, ew30, hf⟩ := hf
    refine j_clone C (t := 0) rfl (g_nm0 C) (Or.inl ⟨by decide, rfl⟩) q1438 q1439 q1440 q1441 q1442 nq1443 ew30 (Nat.le_of_ble_eq_true rfl) (by omega) dX16_copy_121 ?_
    replace hf := gB1_e hf
    obtain ⟨r31, er31, hf⟩ := hf
    refine j_castA C (t := 0) q1444 (g_nm0 C) er31 dX16_copy_124 ?_
    replace hf := gB1_e hf
    obtain ⟨a32, ea32, hf⟩ := hf
    subst ea32
    replace hf := gB1_e hf
    obtain ⟨w33, ew33, hf⟩ := hf
    refine j_put C fl_X16_29_16 tb_16 ew33 fk_16_7 (ft__I r31) dX16_copy_127 ?_
    refine j_aload_n C dX16_copy_130 rfl ?_
    refine j_aload_n C dX16_copy_131 rfl ?_
    replace hf := gB1_e hf
    obtain ⟨x34, ex34, hf⟩ := hf
    refine j_get C fl_X16_89_16 dX16_copy_132 (gI_F ex34) ?_
    replace hf := gB1_e hf
    obtain ⟨w35, ew35, hf⟩ := hf
    refine j_put C fl_X16_89_16 tb_16 ew35 fk_16_8 (fit_I x34) dX16_copy_135 ?_
    refine j_aload_n C dX16_copy_138 rfl ?_
    refine j_aload_n C dX16_copy_139 rfl ?_
    replace hf := gB1_e hf
    obtain ⟨x36, ex36, hf⟩ := hf
    refine j_get C fl_X16_92_16 dX16_copy_140 (gI_F ex36) ?_
    replace hf := gB1_e hf
    obtain ⟨w37, ew37, hf⟩ := hf
    refine j_put C fl_X16_92_16 tb_16 ew37 fk_16_9 (fit_I x36) dX16_copy_143 ?_
    refine j_aload_n C dX16_copy_146 rfl ?_
    refine j_aload_n C dX16_copy_147 rfl ?_
    replace hf := gB1_e hf
    obtain ⟨x38, ex38, hf⟩ := hf
    refine j_get C fl_X16_32_16 dX16_copy_148 (gI_F ex38) ?_
    replace hf := gB1_e hf
    obtain ⟨w39, ew39, hf⟩ := hf
    refine j_put C fl_X16_32_16 tb_16 ew39 fk_16_10 (fit_I x38) dX16_copy_151 ?_
    refine j_aload_n C dX16_copy_154 rfl ?_
    refine j_aload_n C dX16_copy_155 rfl ?_
    replace hf := gB1_e hf
    obtain ⟨x40, ex40, hf⟩ := hf
    refine j_get C fl_X16_95_16 dX16_copy_156 (gI_F ex40) ?_
    replace hf := gB1_e hf
    obtain ⟨w41, ew41, hf⟩ := hf
    refine j_put C fl_X16_95_16 tb_16 ew41 fk_16_11 (fit_I x40) dX16_copy_159 ?_
    refine j_aload_n C dX16_copy_162 rfl ?_
    refine j_aload_n C dX16_copy_163 rfl ?_
    replace hf := gB1_e hf
    obtain ⟨x42, ex42, hf⟩ := hf
    refine j_get C fl_X16_98_16 dX16_copy_164 (gI_F ex42) ?_
    replace hf := gB1_e hf
    obtain ⟨w43, ew43, hf⟩ := hf
    refine j_put C fl_X16_98_16 tb_16 ew43 fk_16_12 (fit_I x42) dX16_copy_167 ?_
    refine j_aload_n C dX16_copy_170 rfl ?_
    refine j_aload_n C dX16_copy_171 rfl ?_
    replace hf := gB1_e hf
    obtain ⟨r44, er44, hf⟩ := hf
    refine j_get C fl_X16_101_16 dX16_copy_172 (gR_F er44) ?_
    replace hf := gBd_x hf
    obtain ⟨k45, ek45, hf⟩ := hf
    have jk45 : ∀ (r47 : Option Nat) (r48 : Option Nat) (r49 : Option Nat) (w46 : gw), k45 r47 r48 r49 w46 = some (rr, ww) → gJ D dA A K p l e R s m args below meth c (gEnd D dA A K below args s w0 (some (ga rr)) ww) 5 190 [(0, (ga (some a0))), (2, (ga r47))] [(ga r49), (ga r48)] w46 := by
      intro r47 r48 r49 w46 hf
      rw [ek45] at hf
      dsimp only at hf
      replace hf := gB1_e hf
      obtain ⟨a50, ea50, hf⟩ := hf
      subst ea50
      replace hf := gB1_e hf
      obtain ⟨w51, ew51, hf⟩ := hf
      refine j_put C fl_X16_101_16 tb_16 ew51 fk_16_13 (ft_LWorkflowEngine_Run_ r49) dX16_copy_190 ?_
      refine j_aload_n C dX16_copy_193 rfl ?_
      refine j_aload_n C dX16_copy_194 rfl ?_
      replace hf := gB1_e hf
      obtain ⟨r52, er52, hf⟩ := hf
      refine j_get C fl_X16_111_16 dX16_copy_195 (gR_F er52) ?_
      replace hf := gBd_x hf
      obtain ⟨k53, ek53, hf⟩ := hf
      have jk53 : ∀ (r55 : Option Nat) (r56 : Option Nat) (r57 : Option Nat) (w54 : gw), k53 r55 r56 r57 w54 = some (rr, ww) → gJ D dA A K p l e R s m args below meth c (gEnd D dA A K below args s w0 (some (ga rr)) ww) 5 213 [(2, (ga r55))] [(ga r57), (ga r56)] w54 := by
        intro r55 r56 r57 w54 hf
        rw [ek53] at hf
        dsimp only at hf
        replace hf := gB1_e hf
        obtain ⟨a58, ea58, hf⟩ := hf
        subst ea58
        replace hf := gB1_e hf
        obtain ⟨w59, ew59, hf⟩ := hf
        refine j_put C fl_X16_111_16 tb_16 ew59 fk_16_14 (ft_LWorkflowEngine_Undo_ r57) dX16_copy_213 ?_
        refine j_aload_n C dX16_copy_216 rfl ?_
        obtain ⟨rfl, rfl⟩ := gSome hf
        exact j_aret C hr (Or.inl ⟨_, rfl⟩) hw dX16_copy_217
      clear ek53
      refine j_ifnonnull (tgt := 205) C dX16_copy_198 (by decide) (fun a61 c60 => ?_) (fun c60 => ?_)
      · subst c60
        replace hf := gNl_s hf
        refine j_aload_n C dX16_copy_205 rfl ?_
        replace hf := gB1_e hf
        obtain ⟨r62, er62, hf⟩ := hf
        refine j_get C fl_X16_111_16 dX16_copy_206 (gR_F er62) ?_
        refine j_aload_n C dX16_copy_209 rfl ?_
        replace hf := gB1_e hf
        obtain ⟨a63, ea63, hf⟩ := hf
        subst ea63
        replace hf := gB1_e hf
        obtain ⟨_, eo, hf⟩ := hf
        replace hf := gB2_e hf
        obtain ⟨r65, w64, ew64, hf⟩ := hf
        refine j_callV (As := [(ga r47)]) (rest := [(ga r47)]) (v := (some (ga r65))) C (by omega) (k_X26_copy (by omega) ew64) (gOb_e eo) rfl q1494 q1478 q1479 q130 q1480 ⟨rfl, hd_X26_copy⟩ (by decide) rfl (Nat.le_of_ble_eq_true rfl) dX16_copy_210 ?_
        refine j_sub (lv' := [(2, (ga r47))]) (gL_cons rfl (gL_nil)) ?_
        exact jk53 _ _ _ _ hf
      · subst c60
        replace hf := gNl_n hf
        refine j_null C dX16_copy_201 ?_
        refine j_goto (tgt := 213) C dX16_copy_202 (by decide) ?_
        refine j_sub (lv' := [(2, (ga r47))]) (gL_cons rfl (gL_nil)) ?_
        exact jk53 _ _ _ _ hf
    clear ek45
    refine j_ifnonnull (tgt := 182) C dX16_copy_175 (by decide) (fun a67 c66 => ?_) (fun c66 => ?_)
    · subst c66
      replace hf := gNl_s hf
      refine j_aload_n C dX16_copy_182 rfl ?_
      replace hf := gB1_e hf
      obtain ⟨r68, er68, hf⟩ := hf
      refine j_get C fl_X16_101_16 dX16_copy_183 (gR_F er68) ?_
      refine j_aload_n C dX16_copy_186 rfl ?_
      replace hf := gB1_e hf
      obtain ⟨a69, ea69, hf⟩ := hf
      subst ea69
      replace hf := gB2_e hf
      obtain ⟨r71, w70, ew70, hf⟩ := hf
      refine j_dp_Run_copy (As := [(ga (some a32))]) (rest := [(ga (some a32))]) (v := (some (ga r71))) C (by omega) (kd_Run_copy 12 (by omega) ew70) q1445 rfl (Nat.le_of_ble_eq_true rfl) dX16_copy_187 ?_
      refine j_sub (lv' := [(0, (ga (some a0))), (2, (ga (some a32)))]) (gL_cons rfl (gL_cons rfl (gL_nil))) ?_
      exact jk45 _ _ _ _ hf
    · subst c66
      replace hf := gNl_n hf
      refine j_null C dX16_copy_178 ?_
      refine j_goto (tgt := 190) C dX16_copy_179 (by decide) ?_
      refine j_sub (lv' := [(0, (ga (some a0))), (2, (ga (some a32)))]) (gL_cons rfl (gL_cons rfl (gL_nil))) ?_
      exact jk45 _ _ _ _ hf
  · replace hf := gIf_f hf c26
    refine j_aload_n C dX16_copy_67 rfl ?_
    replace hf := gB1_e hf
    obtain ⟨r72, er72, hf⟩ := hf
    refine j_get C fl_X16_25_16 dX16_copy_68 (gR_F er72) ?_
    refine j_iload_n C dX16_copy_71 rfl ?_
    replace hf := gB1_e hf
    obtain ⟨a73, ea73, hf⟩ := hf
    subst ea73
    replace hf := gB1_e hf
    obtain ⟨_, eo, hf⟩ := hf
    replace hf := gB2_e hf
    obtain ⟨r75, w74, ew74, hf⟩ := hf
    refine j_callV (As := [(gi x20)]) (rest := []) (v := (some (ga r75))) C (by omega) (k_J2_get (by omega) ew74) (gOb_e eo) rfl q1437 q637 q638 q99 q639 ⟨rfl, hd_J2_get⟩ (by decide) rfl (Nat.le_of_ble_eq_true rfl) dX16_copy_72 ?_
    replace hf := gB1_e hf
    obtain ⟨r76, er76, hf⟩ := hf
    refine j_castR C q1154 ca_WorkflowEngine_Done er76 dX16_copy_75 ?_
    refine j_astore (lv' := [(4, (ga r76)), (0, (ga (some a0))), (2, (ga r19)), (3, (gi x20))]) C dX16_copy_78 (by decide) rfl ?_
    refine j_aload_n C dX16_copy_80 rfl ?_
    replace hf := gB1_e hf
    obtain ⟨a77, ea77, hf⟩ := hf
    subst ea77
    replace hf := gB1_e hf
    obtain ⟨r78, er78, hf⟩ := hf
    refine j_get C fl_X16_25_16 dX16_copy_81 (gR_F er78) ?_
    replace hf := gB2_e hf
    obtain ⟨a79, w80, ew80, hf⟩ := hf
    refine j_new C nl_X16_66 ew80 dX16_copy_84 ?_
    refine j_dup C dX16_copy_87 ?_
    refine j_aload C dX16_copy_88 rfl ?_
    replace hf := gB1_e hf
    obtain ⟨a81, ea81, hf⟩ := hf
    subst ea81
    replace hf := gB1_e hf
    obtain ⟨x82, ex82, hf⟩ := hf
    refine j_get C fl_X16_68_25 dX16_copy_90 (gI_F ex82) ?_
    refine j_aload C dX16_copy_93 rfl ?_
    replace hf := gB1_e hf
    obtain ⟨x83, ex83, hf⟩ := hf
    refine j_get C fl_X16_71_25 dX16_copy_95 (gI_F ex83) ?_
    refine j_aload C dX16_copy_98 rfl ?_
    replace hf := gB1_e hf
    obtain ⟨x84, ex84, hf⟩ := hf
    refine j_get C fl_X16_74_25 dX16_copy_100 (gI_F ex84) ?_
    replace hf := gB2_e hf
    obtain ⟨_, w85, ew85, hf⟩ := hf
    refine j_callI (As := [(gi x82), (gi x83), (gi x84)]) (rest := [(ga (some a79)), (ga r78)]) C (by omega) (k_X25_init (by omega) ew85) rfl q1156 q1157 q129 q1158 hd_X25_init (by decide) rfl (Nat.le_of_ble_eq_true rfl) dX16_copy_103 ?_
    replace hf := gB1_e hf
    obtain ⟨a86, ea86, hf⟩ := hf
    subst ea86
    replace hf := gB1_e hf
    obtain ⟨_, eo, hf⟩ := hf
    replace hf := gB2_e hf
    obtain ⟨x88, w87, ew87, hf⟩ := hf
    refine j_callV (As := [(ga (some a79))]) (rest := []) (v := (some (gi x88))) C (by omega) (k_J2_add (by omega) ew87) (gOb_e eo) rfl q1175 q482 q483 q99 q484 ⟨rfl, hd_J2_add⟩ (by decide) rfl (Nat.le_of_ble_eq_true rfl) dX16_copy_106 ?_
    refine j_pop C dX16_copy_109 ?_
    replace hf := gBd_x hf
    obtain ⟨x89, ex89, hf⟩ := hf
    refine j_iinc (v := x89) (lv' := [(3, (gi x89)), (4, (ga (some a81))), (0, (ga (some a0))), (2, (ga (some a77)))]) C dX16_copy_110 rfl (by rw [ex89]; rfl) (by decide) rfl ?_
    refine j_goto (tgt := 56) C dX16_copy_113 (by decide) ?_
    refine j_sub (lv' := [(0, (ga (some a0))), (2, (ga (some a77))), (3, (gi x89))]) (gL_cons rfl (gL_cons rfl (gL_cons rfl (gL_nil)))) ?_
    exact jk21 _ _ _ hf
def dkwX1_becomes_3 : List UInt8 := [182, 0, 38, 83, 132, 2, 1, 167, 255, 218, 177]
abbrev dktX1_becomes_3 : List UInt8 := dkwX1_becomes_3 ++ []
def dkwX1_becomes_2 : List UInt8 := [180, 0, 24, 28, 43, 180, 0, 24, 28, 50, 199, 0, 7, 1, 167, 0, 13, 43, 180, 0, 24, 28, 50, 42]
abbrev dktX1_becomes_2 : List UInt8 := dkwX1_becomes_2 ++ dktX1_becomes_3
def dkwX1_becomes_1 : List UInt8 := [180, 0, 19, 3, 42, 180, 0, 19, 3, 16, 8, 184, 0, 32, 3, 61, 28, 16, 6, 162, 0, 38, 42]
abbrev dktX1_becomes_1 : List UInt8 := dkwX1_becomes_1 ++ dktX1_becomes_2
def dkwX1_becomes_0 : List UInt8 := [42, 43, 180, 0, 28, 181, 0, 28, 43, 180, 0, 15, 3, 42, 180, 0, 15, 3, 16, 8, 184, 0, 32, 43]
abbrev dktX1_becomes_0 : List UInt8 := dkwX1_becomes_0 ++ dktX1_becomes_1
theorem dksX1_becomes_0 : cX1_becomes.data.toList.drop 0 = dktX1_becomes_0 := by decide +kernel
theorem dksX1_becomes_1 : cX1_becomes.data.toList.drop 24 = dktX1_becomes_1 := dk_seg dksX1_becomes_0 24 rfl rfl
theorem dksX1_becomes_2 : cX1_becomes.data.toList.drop 47 = dktX1_becomes_2 := dk_seg dksX1_becomes_1 23 rfl rfl
theorem dksX1_becomes_3 : cX1_becomes.data.toList.drop 71 = dktX1_becomes_3 := dk_seg dksX1_becomes_2 24 rfl rfl
theorem dX1_becomes_0 : decode cX1_becomes 0 = .ok (.aload_n 0, 1) := dk_42 (dk_at dksX1_becomes_0 0 rfl rfl)
theorem dX1_becomes_1 : decode cX1_becomes 1 = .ok (.aload_n 1, 1) := dk_43 (dk_at dksX1_becomes_0 1 rfl rfl)
theorem dX1_becomes_2 : decode cX1_becomes 2 = .ok (.getfield 28, 3) := dk_180 0 28 (dk_at dksX1_becomes_0 2 rfl rfl)
theorem dX1_becomes_5 : decode cX1_becomes 5 = .ok (.putfield 28, 3) := dk_181 0 28 (dk_at dksX1_becomes_0 5 rfl rfl)
theorem dX1_becomes_8 : decode cX1_becomes 8 = .ok (.aload_n 1, 1) := dk_43 (dk_at dksX1_becomes_0 8 rfl rfl)
theorem dX1_becomes_9 : decode cX1_becomes 9 = .ok (.getfield 15, 3) := dk_180 0 15 (dk_at dksX1_becomes_0 9 rfl rfl)
theorem dX1_becomes_12 : decode cX1_becomes 12 = .ok (.iconst 0, 1) := dk_3 (dk_at dksX1_becomes_0 12 rfl rfl)
theorem dX1_becomes_13 : decode cX1_becomes 13 = .ok (.aload_n 0, 1) := dk_42 (dk_at dksX1_becomes_0 13 rfl rfl)
theorem dX1_becomes_14 : decode cX1_becomes 14 = .ok (.getfield 15, 3) := dk_180 0 15 (dk_at dksX1_becomes_0 14 rfl rfl)
theorem dX1_becomes_17 : decode cX1_becomes 17 = .ok (.iconst 0, 1) := dk_3 (dk_at dksX1_becomes_0 17 rfl rfl)
theorem dX1_becomes_18 : decode cX1_becomes 18 = .ok (.bipush 8, 2) := dk_16 8 (dk_at dksX1_becomes_0 18 rfl rfl)
theorem dX1_becomes_20 : decode cX1_becomes 20 = .ok (.invokestatic 32, 3) := dk_184 0 32 (dk_at dksX1_becomes_0 20 rfl rfl)
theorem dX1_becomes_23 : decode cX1_becomes 23 = .ok (.aload_n 1, 1) := dk_43 (dk_at dksX1_becomes_0 23 rfl rfl)
theorem dX1_becomes_24 : decode cX1_becomes 24 = .ok (.getfield 19, 3) := dk_180 0 19 (dk_at dksX1_becomes_1 0 rfl rfl)
theorem dX1_becomes_27 : decode cX1_becomes 27 = .ok (.iconst 0, 1) := dk_3 (dk_at dksX1_becomes_1 3 rfl rfl)
theorem dX1_becomes_28 : decode cX1_becomes 28 = .ok (.aload_n 0, 1) := dk_42 (dk_at dksX1_becomes_1 4 rfl rfl)
theorem dX1_becomes_29 : decode cX1_becomes 29 = .ok (.getfield 19, 3) := dk_180 0 19 (dk_at dksX1_becomes_1 5 rfl rfl)
theorem dX1_becomes_32 : decode cX1_becomes 32 = .ok (.iconst 0, 1) := dk_3 (dk_at dksX1_becomes_1 8 rfl rfl)
theorem dX1_becomes_33 : decode cX1_becomes 33 = .ok (.bipush 8, 2) := dk_16 8 (dk_at dksX1_becomes_1 9 rfl rfl)
theorem dX1_becomes_35 : decode cX1_becomes 35 = .ok (.invokestatic 32, 3) := dk_184 0 32 (dk_at dksX1_becomes_1 11 rfl rfl)
theorem dX1_becomes_38 : decode cX1_becomes 38 = .ok (.iconst 0, 1) := dk_3 (dk_at dksX1_becomes_1 14 rfl rfl)
theorem dX1_becomes_39 : decode cX1_becomes 39 = .ok (.istore_n 2, 1) := dk_61 (dk_at dksX1_becomes_1 15 rfl rfl)
theorem dX1_becomes_40 : decode cX1_becomes 40 = .ok (.iload_n 2, 1) := dk_28 (dk_at dksX1_becomes_1 16 rfl rfl)
theorem dX1_becomes_41 : decode cX1_becomes 41 = .ok (.bipush 6, 2) := dk_16 6 (dk_at dksX1_becomes_1 17 rfl rfl)
theorem dX1_becomes_43 : decode cX1_becomes 43 = .ok (.if_icmp .ge 38, 3) := dk_162 0 38 (dk_at dksX1_becomes_1 19 rfl rfl)
theorem dX1_becomes_46 : decode cX1_becomes 46 = .ok (.aload_n 0, 1) := dk_42 (dk_at dksX1_becomes_1 22 rfl rfl)
theorem dX1_becomes_47 : decode cX1_becomes 47 = .ok (.getfield 24, 3) := dk_180 0 24 (dk_at dksX1_becomes_2 0 rfl rfl)
theorem dX1_becomes_50 : decode cX1_becomes 50 = .ok (.iload_n 2, 1) := dk_28 (dk_at dksX1_becomes_2 3 rfl rfl)
theorem dX1_becomes_51 : decode cX1_becomes 51 = .ok (.aload_n 1, 1) := dk_43 (dk_at dksX1_becomes_2 4 rfl rfl)
theorem dX1_becomes_52 : decode cX1_becomes 52 = .ok (.getfield 24, 3) := dk_180 0 24 (dk_at dksX1_becomes_2 5 rfl rfl)
theorem dX1_becomes_55 : decode cX1_becomes 55 = .ok (.iload_n 2, 1) := dk_28 (dk_at dksX1_becomes_2 8 rfl rfl)
theorem dX1_becomes_56 : decode cX1_becomes 56 = .ok (.aaload, 1) := dk_50 (dk_at dksX1_becomes_2 9 rfl rfl)
theorem dX1_becomes_57 : decode cX1_becomes 57 = .ok (.ifnonnull 7, 3) := dk_199 0 7 (dk_at dksX1_becomes_2 10 rfl rfl)
theorem dX1_becomes_60 : decode cX1_becomes 60 = .ok (.aconst_null, 1) := dk_1 (dk_at dksX1_becomes_2 13 rfl rfl)
theorem dX1_becomes_61 : decode cX1_becomes 61 = .ok (.goto 13, 3) := dk_167 0 13 (dk_at dksX1_becomes_2 14 rfl rfl)
theorem dX1_becomes_64 : decode cX1_becomes 64 = .ok (.aload_n 1, 1) := dk_43 (dk_at dksX1_becomes_2 17 rfl rfl)
theorem dX1_becomes_65 : decode cX1_becomes 65 = .ok (.getfield 24, 3) := dk_180 0 24 (dk_at dksX1_becomes_2 18 rfl rfl)
theorem dX1_becomes_68 : decode cX1_becomes 68 = .ok (.iload_n 2, 1) := dk_28 (dk_at dksX1_becomes_2 21 rfl rfl)
theorem dX1_becomes_69 : decode cX1_becomes 69 = .ok (.aaload, 1) := dk_50 (dk_at dksX1_becomes_2 22 rfl rfl)
theorem dX1_becomes_70 : decode cX1_becomes 70 = .ok (.aload_n 0, 1) := dk_42 (dk_at dksX1_becomes_2 23 rfl rfl)
theorem dX1_becomes_71 : decode cX1_becomes 71 = .ok (.invokevirtual 38, 3) := dk_182 0 38 (dk_at dksX1_becomes_3 0 rfl rfl)
theorem dX1_becomes_74 : decode cX1_becomes 74 = .ok (.aastore, 1) := dk_83 (dk_at dksX1_becomes_3 3 rfl rfl)
theorem dX1_becomes_75 : decode cX1_becomes 75 = .ok (.iinc 2 1, 3) := dk_132 2 1 (dk_at dksX1_becomes_3 4 rfl rfl)
theorem dX1_becomes_78 : decode cX1_becomes 78 = .ok (.goto (-38), 3) := dk_167 255 218 (dk_at dksX1_becomes_3 7 rfl rfl)
theorem dX1_becomes_81 : decode cX1_becomes 81 = .ok (.return_, 1) := dk_177 (dk_at dksX1_becomes_3 10 rfl rfl)
theorem fl_X1_28_1 : gFL RX1 28 1 3 := gFL.mk (Cn := RX1) (T := TX1) (N := 5) (ref := "WorkflowEngine$Moment") rfl in_X1 (by decide) q745 rfl rfl (Or.inl rfl)
theorem fk_1_3 : gFk 1 3 "I" false "WorkflowEngine$Moment" := fun Cn T N h => by
  have h : (RX1, TX1, 5) = (Cn, T, N) := Option.some.inj h
  cases h
  exact ⟨rfl, rfl, rfl⟩
theorem hd_X16_copy : (yX16_copy.cls ≠ "java/lang/invoke/MethodHandle" ∧ yX16_copy.cls ≠ "java/lang/invoke/VarHandle" ∧ (parseMethodDescriptor yX16_copy.desc).map (fun d => d.parameters.length) = some 1) := ⟨by decide +kernel, by decide +kernel, by decide +kernel⟩
def f_X1_becomes (a0 : Nat) (p1 : Option Nat) (w0 : gw) : Option (Unit × gw) := gB1 p1 fun a1 => gB1 (gI w0 a1 1 3) fun x2 => gB1 (gPut w0 a0 1 3 (gi x2)) fun w3 => gB1 (gR w3 a1 1 0) fun r4 => gB1 (gR w3 a0 1 0) fun r5 => gB1 r4 fun a6 => gB1 r5 fun a7 => gB1 (gCpI w3 0 a6 (nI 0) a7 (nI 0) (nI 8)) fun w8 => gB1 (gR w8 a1 1 1) fun r9 => gB1 (gR w8 a0 1 1) fun r10 => gB1 r9 fun a11 => gB1 r10 fun a12 => gB1 (gCpI w8 0 a11 (nI 0) a12 (nI 0) (nI 8)) fun w13 => gL2 (fun k17 (r15 : Option Nat) (x16 : Int32) (w14 : gw) => if (nI 6) ≤ x16 then some ((), w14) else gB1 (gR w14 a0 1 2) fun r19 => gB1 r15 fun a20 => gB1 (gR w14 a20 1 2) fun r21 => gB1 r21 fun a22 => gB1 (gLdR w14 a22 4 x16) fun r23 => gBd (fun (r26 : Option Nat) (x27 : Int32) (r28 : Option Nat) (x29 : Int32) (r30 : Option Nat) (w25 : gw) => gB1 r28 fun a31 => gB1 (gStR w25 a31 4 x29 r30) fun w32 => gBd (x27 + (nI 1)) fun x33 => k17 r26 x33 w32) fun k24 => gNl r23 (k24 (some a20) x16 r19 x16 none w14) (fun a35 => gB1 (gR w14 a20 1 2) fun r36 => gB1 r36 fun a37 => gB1 (gLdR w14 a37 4 x16) fun r38 => gB1 r38 fun a39 => gB1 (gOb w14 a39 16) fun _ => gB2 (f_X16_copy a39 (some a0) w14) fun r41 w40 => k24 (some a20) x16 r19 x16 r41 w40)) 20000 (some a1) (nI 0) w13
set_option maxHeartbeats 4000000 in
set_option maxRecDepth 100000 in
theorem k_X1_becomes {D : va_G} {dA : Nat → ClassId} {A : Nat → Prop} {K : Nat → Nat} {l : Launch} {h : Nat} (hh : 17 ≤ h) {a0 : Nat} {p1 : Option Nat} {w0 ww : gw} {rr : Unit} (hf : f_X1_becomes a0 p1 w0 = some (rr, ww)) : gMet D dA A K l yX1_becomes (ws_ yX1_becomes cX1_becomes 3 none) h [(ga (some a0)), (ga p1)] none w0 ww := by
  refine j_start (own := RX1) (by decide +kernel) rfl (Nat.le_of_ble_eq_true rfl) ?_
  intro p e R s m args below meth c C hr hin hw
  unfold f_X1_becomes at hf
  show gJ D dA A K p l e R s m args below meth c (gEnd D dA A K below args s w0 none ww) 3 0 [(0, (ga (some a0))), (1, (ga p1))] [] w0
  refine j_aload_n C dX1_becomes_0 rfl ?_
  refine j_aload_n C dX1_becomes_1 rfl ?_
  replace hf := gB1_e hf
  obtain ⟨a1, ea1, hf⟩ := hf
  subst ea1
  replace hf := gB1_e hf
  obtain ⟨x2, ex2, hf⟩ := hf
  refine j_get C fl_X1_28_1 dX1_becomes_2 (gI_F ex2) ?_
  replace hf := gB1_e hf
  obtain ⟨w3, ew3, hf⟩ := hf
  refine j_put C fl_X1_28_1 tb_1 ew3 fk_1_3 (fit_I x2) dX1_becomes_5 ?_
  refine j_aload_n C dX1_becomes_8 rfl ?_
  replace hf := gB1_e hf
  obtain ⟨r4, er4, hf⟩ := hf
  refine j_get C fl_X1_15_1 dX1_becomes_9 (gR_F er4) ?_
  refine j_iconst (v := (nI 0)) C dX1_becomes_12 (by decide) ?_
  refine j_aload_n C dX1_becomes_13 rfl ?_
  replace hf := gB1_e hf
  obtain ⟨r5, er5, hf⟩ := hf
  refine j_get C fl_X1_15_1 dX1_becomes_14 (gR_F er5) ?_
  refine j_iconst (v := (nI 0)) C dX1_becomes_17 (by decide) ?_
  refine j_bipush (v := (nI 8)) C dX1_becomes_18 (by decide) ?_
  replace hf := gB1_e hf
  obtain ⟨a6, ea6, hf⟩ := hf
  subst ea6
  replace hf := gB1_e hf
  obtain ⟨a7, ea7, hf⟩ := hf
  subst ea7
  replace hf := gB1_e hf
  obtain ⟨w8, ew8, hf⟩ := hf
  refine j_cpI C (by omega) q1429 q556 q555 q113 ew8 (Nat.le_of_ble_eq_true rfl) dX1_becomes_20 ?_
  refine j_aload_n C dX1_becomes_23 rfl ?_
  replace hf := gB1_e hf
  obtain ⟨r9, er9, hf⟩ := hf
  refine j_get C fl_X1_19_1 dX1_becomes_24 (gR_F er9) ?_
  refine j_iconst (v := (nI 0)) C dX1_becomes_27 (by decide) ?_
  refine j_aload_n C dX1_becomes_28 rfl ?_
  replace hf := gB1_e hf
  obtain ⟨r10, er10, hf⟩ := hf
  refine j_get C fl_X1_19_1 dX1_becomes_29 (gR_F er10) ?_
  refine j_iconst (v := (nI 0)) C dX1_becomes_32 (by decide) ?_
  refine j_bipush (v := (nI 8)) C dX1_becomes_33 (by decide) ?_
  replace hf := gB1_e hf
  obtain ⟨a11, ea11, hf⟩ := hf
  subst ea11
  replace hf := gB1_e hf
  obtain ⟨a12, ea12, hf⟩ := hf
  subst ea12
  replace hf := gB1_e hf
  obtain ⟨w13, ew13, hf⟩ := hf
  refine j_cpI C (by omega) q1429 q556 q555 q113 ew13 (Nat.le_of_ble_eq_true rfl) dX1_becomes_35 ?_
  refine j_iconst (v := (nI 0)) C dX1_becomes_38 (by decide) ?_
  refine j_istore_n (lv' := [(2, (gi (nI 0))), (0, (ga (some a0))), (1, (ga (some a1)))]) C dX1_becomes_39 (by decide) rfl ?_
  refine j_sub (lv' := [(0, (ga (some a0))), (1, (ga (some a1))), (2, (gi (nI 0)))]) (gL_cons rfl (gL_cons rfl (gL_cons rfl (gL_nil)))) ?_
  refine gL2_e (fun (r15 : Option Nat) (x16 : Int32) (w14 : gw) => gJ D dA A K p l e R s m args below meth c (gEnd D dA A K below args s w0 none ww) 3 40 [(0, (ga (some a0))), (1, (ga r15)), (2, (gi x16))] [] w14) ?_ _ _ _ _ hf
  intro k17 jk17 r15 x16 w14 hf
  refine j_iload_n C dX1_becomes_40 rfl ?_
  refine j_bipush (v := (nI 6)) C dX1_becomes_41 (by decide) ?_
  refine j_icmp_ge (tgt := 81) C dX1_becomes_43 (by decide) (fun c18 => ?_) (fun c18 => ?_)
  · replace hf := gIf_t hf c18
    obtain ⟨rfl, rfl⟩ := gSome hf
    exact j_vret C hr hw dX1_becomes_81
  · replace hf := gIf_f hf c18
    refine j_aload_n C dX1_becomes_46 rfl ?_
    replace hf := gB1_e hf
    obtain ⟨r19, er19, hf⟩ := hf
    refine j_get C fl_X1_24_1 dX1_becomes_47 (gR_F er19) ?_
    refine j_iload_n C dX1_becomes_50 rfl ?_
    refine j_aload_n C dX1_becomes_51 rfl ?_
    replace hf := gB1_e hf
    obtain ⟨a20, ea20, hf⟩ := hf
    subst ea20
    replace hf := gB1_e hf
    obtain ⟨r21, er21, hf⟩ := hf
    refine j_get C fl_X1_24_1 dX1_becomes_52 (gR_F er21) ?_
    refine j_iload_n C dX1_becomes_55 rfl ?_
    replace hf := gB1_e hf
    obtain ⟨a22, ea22, hf⟩ := hf
    subst ea22
    replace hf := gB1_e hf
    obtain ⟨r23, er23, hf⟩ := hf
    refine j_aald C (t := 4) rfl er23 dX1_becomes_56 ?_
    replace hf := gBd_x hf
    obtain ⟨k24, ek24, hf⟩ := hf
    have jk24 : ∀ (r26 : Option Nat) (x27 : Int32) (r28 : Option Nat) (x29 : Int32) (r30 : Option Nat) (w25 : gw), k24 r26 x27 r28 x29 r30 w25 = some (rr, ww) → gJ D dA A K p l e R s m args below meth c (gEnd D dA A K below args s w0 none ww) 3 74 [(0, (ga (some a0))), (1, (ga r26)), (2, (gi x27))] [(ga r30), (gi x29), (ga r28)] w25 := by
      intro r26 x27 r28 x29 r30 w25 hf
      rw [ek24] at hf
      dsimp only at hf
      replace hf := gB1_e hf
      obtain ⟨a31, ea31, hf⟩ := hf
      subst ea31
      replace hf := gB1_e hf
      obtain ⟨w32, ew32, hf⟩ := hf
      refine j_aast C (t := 4) rfl gAsg_4 ew32 dX1_becomes_74 ?_
      replace hf := gBd_x hf
      obtain ⟨x33, ex33, hf⟩ := hf
      refine j_iinc (v := x33) (lv' := [(2, (gi x33)), (0, (ga (some a0))), (1, (ga r26))]) C dX1_becomes_75 rfl (by rw [ex33]; rfl) (by decide) rfl ?_
      refine j_goto (tgt := 40) C dX1_becomes_78 (by decide) ?_
      refine j_sub (lv' := [(0, (ga (some a0))), (1, (ga r26)), (2, (gi x33))]) (gL_cons rfl (gL_cons rfl (gL_cons rfl (gL_nil)))) ?_
      exact jk17 _ _ _ hf
    clear ek24
    refine j_ifnonnull (tgt := 64) C dX1_becomes_57 (by decide) (fun a35 c34 => ?_) (fun c34 => ?_)
    · subst c34
      replace hf := gNl_s hf
      refine j_aload_n C dX1_becomes_64 rfl ?_
      replace hf := gB1_e hf
      obtain ⟨r36, er36, hf⟩ := hf
      refine j_get C fl_X1_24_1 dX1_becomes_65 (gR_F er36) ?_
      refine j_iload_n C dX1_becomes_68 rfl ?_
      replace hf := gB1_e hf
      obtain ⟨a37, ea37, hf⟩ := hf
      subst ea37
      replace hf := gB1_e hf
      obtain ⟨r38, er38, hf⟩ := hf
      refine j_aald C (t := 4) rfl er38 dX1_becomes_69 ?_
      refine j_aload_n C dX1_becomes_70 rfl ?_
      replace hf := gB1_e hf
      obtain ⟨a39, ea39, hf⟩ := hf
      subst ea39
      replace hf := gB1_e hf
      obtain ⟨_, eo, hf⟩ := hf
      replace hf := gB2_e hf
      obtain ⟨r41, w40, ew40, hf⟩ := hf
      refine j_callV (As := [(ga (some a0))]) (rest := [(gi x16), (ga r19)]) (v := (some (ga r41))) C (by omega) (k_X16_copy (by omega) ew40) (gOb_e eo) rfl q1430 q1431 q1432 q118 q1433 ⟨rfl, hd_X16_copy⟩ (by decide) rfl (Nat.le_of_ble_eq_true rfl) dX1_becomes_71 ?_
      exact jk24 _ _ _ _ _ _ hf
    · subst c34
      replace hf := gNl_n hf
      refine j_null C dX1_becomes_60 ?_
      refine j_goto (tgt := 74) C dX1_becomes_61 (by decide) ?_
      exact jk24 _ _ _ _ _ _ hf
def dkwX28_init_3 : List UInt8 := [42, 180, 0, 48, 43, 180, 0, 52, 182, 0, 55, 177]
abbrev dktX28_init_3 : List UInt8 := dkwX28_init_3 ++ []
def dkwX28_init_2 : List UInt8 := [180, 0, 3, 180, 0, 36, 181, 0, 40, 42, 187, 0, 43, 89, 42, 180, 0, 3, 183, 0, 45, 181, 0, 48]
abbrev dktX28_init_2 : List UInt8 := dkwX28_init_2 ++ dktX28_init_3
def dkwX28_init_1 : List UInt8 := [181, 0, 24, 42, 42, 180, 0, 3, 180, 0, 27, 182, 0, 31, 192, 0, 32, 181, 0, 33, 42, 42]
abbrev dktX28_init_1 : List UInt8 := dkwX28_init_1 ++ dktX28_init_2
def dkwX28_init_0 : List UInt8 := [42, 43, 181, 0, 3, 42, 183, 0, 9, 42, 42, 180, 0, 3, 180, 0, 15, 182, 0, 19, 192, 0, 20]
abbrev dktX28_init_0 : List UInt8 := dkwX28_init_0 ++ dktX28_init_1
theorem dksX28_init_0 : cX28_init.data.toList.drop 0 = dktX28_init_0 := by decide +kernel
theorem dksX28_init_1 : cX28_init.data.toList.drop 23 = dktX28_init_1 := dk_seg dksX28_init_0 23 rfl rfl
theorem dksX28_init_2 : cX28_init.data.toList.drop 45 = dktX28_init_2 := dk_seg dksX28_init_1 22 rfl rfl
theorem dksX28_init_3 : cX28_init.data.toList.drop 69 = dktX28_init_3 := dk_seg dksX28_init_2 24 rfl rfl
theorem dX28_init_0 : decode cX28_init 0 = .ok (.aload_n 0, 1) := dk_42 (dk_at dksX28_init_0 0 rfl rfl)
theorem dX28_init_1 : decode cX28_init 1 = .ok (.aload_n 1, 1) := dk_43 (dk_at dksX28_init_0 1 rfl rfl)
theorem dX28_init_2 : decode cX28_init 2 = .ok (.putfield 3, 3) := dk_181 0 3 (dk_at dksX28_init_0 2 rfl rfl)
theorem dX28_init_5 : decode cX28_init 5 = .ok (.aload_n 0, 1) := dk_42 (dk_at dksX28_init_0 5 rfl rfl)
theorem dX28_init_6 : decode cX28_init 6 = .ok (.invokespecial 9, 3) := dk_183 0 9 (dk_at dksX28_init_0 6 rfl rfl)
theorem dX28_init_9 : decode cX28_init 9 = .ok (.aload_n 0, 1) := dk_42 (dk_at dksX28_init_0 9 rfl rfl)
theorem dX28_init_10 : decode cX28_init 10 = .ok (.aload_n 0, 1) := dk_42 (dk_at dksX28_init_0 10 rfl rfl)
theorem dX28_init_11 : decode cX28_init 11 = .ok (.getfield 3, 3) := dk_180 0 3 (dk_at dksX28_init_0 11 rfl rfl)
theorem dX28_init_14 : decode cX28_init 14 = .ok (.getfield 15, 3) := dk_180 0 15 (dk_at dksX28_init_0 14 rfl rfl)
theorem dX28_init_17 : decode cX28_init 17 = .ok (.invokevirtual 19, 3) := dk_182 0 19 (dk_at dksX28_init_0 17 rfl rfl)
theorem dX28_init_20 : decode cX28_init 20 = .ok (.checkcast 20, 3) := dk_192 0 20 (dk_at dksX28_init_0 20 rfl rfl)
theorem dX28_init_23 : decode cX28_init 23 = .ok (.putfield 24, 3) := dk_181 0 24 (dk_at dksX28_init_1 0 rfl rfl)
theorem dX28_init_26 : decode cX28_init 26 = .ok (.aload_n 0, 1) := dk_42 (dk_at dksX28_init_1 3 rfl rfl)
theorem dX28_init_27 : decode cX28_init 27 = .ok (.aload_n 0, 1) := dk_42 (dk_at dksX28_init_1 4 rfl rfl)
theorem dX28_init_28 : decode cX28_init 28 = .ok (.getfield 3, 3) := dk_180 0 3 (dk_at dksX28_init_1 5 rfl rfl)
theorem dX28_init_31 : decode cX28_init 31 = .ok (.getfield 27, 3) := dk_180 0 27 (dk_at dksX28_init_1 8 rfl rfl)
theorem dX28_init_34 : decode cX28_init 34 = .ok (.invokevirtual 31, 3) := dk_182 0 31 (dk_at dksX28_init_1 11 rfl rfl)
theorem dX28_init_37 : decode cX28_init 37 = .ok (.checkcast 32, 3) := dk_192 0 32 (dk_at dksX28_init_1 14 rfl rfl)
theorem dX28_init_40 : decode cX28_init 40 = .ok (.putfield 33, 3) := dk_181 0 33 (dk_at dksX28_init_1 17 rfl rfl)
theorem dX28_init_43 : decode cX28_init 43 = .ok (.aload_n 0, 1) := dk_42 (dk_at dksX28_init_1 20 rfl rfl)
theorem dX28_init_44 : decode cX28_init 44 = .ok (.aload_n 0, 1) := dk_42 (dk_at dksX28_init_1 21 rfl rfl)
theorem dX28_init_45 : decode cX28_init 45 = .ok (.getfield 3, 3) := dk_180 0 3 (dk_at dksX28_init_2 0 rfl rfl)
theorem dX28_init_48 : decode cX28_init 48 = .ok (.getfield 36, 3) := dk_180 0 36 (dk_at dksX28_init_2 3 rfl rfl)
theorem dX28_init_51 : decode cX28_init 51 = .ok (.putfield 40, 3) := dk_181 0 40 (dk_at dksX28_init_2 6 rfl rfl)
theorem dX28_init_54 : decode cX28_init 54 = .ok (.aload_n 0, 1) := dk_42 (dk_at dksX28_init_2 9 rfl rfl)
theorem dX28_init_55 : decode cX28_init 55 = .ok (.new 43, 3) := dk_187 0 43 (dk_at dksX28_init_2 10 rfl rfl)
theorem dX28_init_58 : decode cX28_init 58 = .ok (.dup, 1) := dk_89 (dk_at dksX28_init_2 13 rfl rfl)
theorem dX28_init_59 : decode cX28_init 59 = .ok (.aload_n 0, 1) := dk_42 (dk_at dksX28_init_2 14 rfl rfl)
theorem dX28_init_60 : decode cX28_init 60 = .ok (.getfield 3, 3) := dk_180 0 3 (dk_at dksX28_init_2 15 rfl rfl)
theorem dX28_init_63 : decode cX28_init 63 = .ok (.invokespecial 45, 3) := dk_183 0 45 (dk_at dksX28_init_2 18 rfl rfl)
theorem dX28_init_66 : decode cX28_init 66 = .ok (.putfield 48, 3) := dk_181 0 48 (dk_at dksX28_init_2 21 rfl rfl)
theorem dX28_init_69 : decode cX28_init 69 = .ok (.aload_n 0, 1) := dk_42 (dk_at dksX28_init_3 0 rfl rfl)
theorem dX28_init_70 : decode cX28_init 70 = .ok (.getfield 48, 3) := dk_180 0 48 (dk_at dksX28_init_3 1 rfl rfl)
theorem dX28_init_73 : decode cX28_init 73 = .ok (.aload_n 1, 1) := dk_43 (dk_at dksX28_init_3 4 rfl rfl)
theorem dX28_init_74 : decode cX28_init 74 = .ok (.getfield 52, 3) := dk_180 0 52 (dk_at dksX28_init_3 5 rfl rfl)
theorem dX28_init_77 : decode cX28_init 77 = .ok (.invokevirtual 55, 3) := dk_182 0 55 (dk_at dksX28_init_3 8 rfl rfl)
theorem dX28_init_80 : decode cX28_init 80 = .ok (.return_, 1) := dk_177 (dk_at dksX28_init_3 11 rfl rfl)
theorem fl_X28_3_28 : gFL RX28 3 28 4 := gFL.mk (Cn := RX28) (T := TX28) (N := 5) (ref := "WorkflowEngine$Image") rfl in_X28 (by decide) q1555 rfl rfl (Or.inl rfl)
theorem nm_28 : gNm TX28 5 := by
  unfold gNm
  decide +kernel
theorem tb_28 : gTb 28 := fun Cn T N h => by
  have h : (RX28, TX28, 5) = (Cn, T, N) := Option.some.inj h
  cases h
  exact ⟨nm_28, tyX28, tyX28_ok⟩
theorem fk_28_4 : gFk 28 4 "LWorkflowEngine;" true "WorkflowEngine$Image" := fun Cn T N h => by
  have h : (RX28, TX28, 5) = (Cn, T, N) := Option.some.inj h
  cases h
  exact ⟨rfl, rfl, rfl⟩
theorem fl_X28_15_0 : gFL RX28 15 0 3 := gFL.mkN (Cn := RX0) (T := TX0) (N := 7) (ref := "WorkflowEngine") rfl in_X0 (by decide) nq768 rfl rfl (Or.inl rfl)
theorem fl_X28_24_28 : gFL RX28 24 28 0 := gFL.mk (Cn := RX28) (T := TX28) (N := 5) (ref := "WorkflowEngine$Image") rfl in_X28 (by decide) q1551 rfl rfl (Or.inl rfl)
theorem fk_28_0 : gFk 28 0 "[LWorkflowEngine$Version;" true "WorkflowEngine$Image" := fun Cn T N h => by
  have h : (RX28, TX28, 5) = (Cn, T, N) := Option.some.inj h
  cases h
  exact ⟨rfl, rfl, rfl⟩
theorem fl_X28_27_0 : gFL RX28 27 0 4 := gFL.mkN (Cn := RX0) (T := TX0) (N := 7) (ref := "WorkflowEngine") rfl in_X0 (by decide) nq770 rfl rfl (Or.inl rfl)
theorem fl_X28_33_28 : gFL RX28 33 28 1 := gFL.mk (Cn := RX28) (T := TX28) (N := 5) (ref := "WorkflowEngine$Image") rfl in_X28 (by decide) q1552 rfl rfl (Or.inl rfl)
theorem fk_28_1 : gFk 28 1 "[I" true "WorkflowEngine$Image" := fun Cn T N h => by
  have h : (RX28, TX28, 5) = (Cn, T, N) := Option.some.inj h
  cases h
  exact ⟨rfl, rfl, rfl⟩
theorem fl_X28_36_0 : gFL RX28 36 0 2 := gFL.mkN (Cn := RX0) (T := TX0) (N := 7) (ref := "WorkflowEngine") rfl in_X0 (by decide) nq766 rfl rfl (Or.inl rfl)
theorem fl_X28_40_28 : gFL RX28 40 28 2 := gFL.mk (Cn := RX28) (T := TX28) (N := 5) (ref := "WorkflowEngine$Image") rfl in_X28 (by decide) q1553 rfl rfl (Or.inl rfl)
theorem ft_LWorkflowEngine_WrongText_ (r : Option Nat) : gFit "LWorkflowEngine$WrongText;" (ga r) := ⟨.object "WorkflowEngine$WrongText", by decide +kernel, by cases r <;> rfl, by cases r <;> rfl⟩
theorem fk_28_2 : gFk 28 2 "LWorkflowEngine$WrongText;" true "WorkflowEngine$Image" := fun Cn T N h => by
  have h : (RX28, TX28, 5) = (Cn, T, N) := Option.some.inj h
  cases h
  exact ⟨rfl, rfl, rfl⟩
theorem nl_X28_43 : gNL RX28 43 1 := ⟨RX1, TX1, 5, 5, tyX1, _, rfl, rfl, in_X1, tyX1_ok, q1548, q726, q92, fun j hj => by rcases (show j = 0 ∨ j = 1 ∨ j = 2 ∨ j = 3 ∨ j = 4 by omega) with rfl | rfl | rfl | rfl | rfl <;> rfl⟩
theorem fl_X28_48_28 : gFL RX28 48 28 3 := gFL.mk (Cn := RX28) (T := TX28) (N := 5) (ref := "WorkflowEngine$Image") rfl in_X28 (by decide) q1554 rfl rfl (Or.inl rfl)
theorem fk_28_3 : gFk 28 3 "LWorkflowEngine$Moment;" true "WorkflowEngine$Image" := fun Cn T N h => by
  have h : (RX28, TX28, 5) = (Cn, T, N) := Option.some.inj h
  cases h
  exact ⟨rfl, rfl, rfl⟩
theorem fl_X28_52_0 : gFL RX28 52 0 5 := gFL.mkN (Cn := RX0) (T := TX0) (N := 7) (ref := "WorkflowEngine") rfl in_X0 (by decide) nq772 rfl rfl (Or.inl rfl)
theorem hd_X1_becomes : (yX1_becomes.cls ≠ "java/lang/invoke/MethodHandle" ∧ yX1_becomes.cls ≠ "java/lang/invoke/VarHandle" ∧ (parseMethodDescriptor yX1_becomes.desc).map (fun d => d.parameters.length) = some 1) := ⟨by decide +kernel, by decide +kernel, by decide +kernel⟩
def f_X28_init (a0 : Nat) (p1 : Option Nat) (w0 : gw) : Option (Unit × gw) := gB1 (gPut w0 a0 28 4 (ga p1)) fun w1 => gB1 (gR w1 a0 28 4) fun r2 => gB1 r2 fun a3 => gB1 (gR w1 a3 0 3) fun r4 => gB1 r4 fun a5 => gB2 (gCln w1 a5 3) fun a6 w7 => gB1 (gCkA w7 3 (some a6)) fun r8 => gB1 (gPut w7 a0 28 0 (ga r8)) fun w9 => gB1 (gR w9 a0 28 4) fun r10 => gB1 r10 fun a11 => gB1 (gR w9 a11 0 4) fun r12 => gB1 r12 fun a13 => gB2 (gCln w9 a13 0) fun a14 w15 => gB1 (gCkA w15 0 (some a14)) fun r16 => gB1 (gPut w15 a0 28 1 (ga r16)) fun w17 => gB1 (gR w17 a0 28 4) fun r18 => gB1 r18 fun a19 => gB1 (gR w17 a19 0 2) fun r20 => gB1 (gPut w17 a0 28 2 (ga r20)) fun w21 => gB2 (gNew w21 1) fun a22 w23 => gB1 (gR w23 a0 28 4) fun r24 => gB2 (f_X1_init a22 r24 w23) fun _ w25 => gB1 (gPut w25 a0 28 3 (ga (some a22))) fun w26 => gB1 (gR w26 a0 28 3) fun r27 => gB1 p1 fun a28 => gB1 (gR w26 a28 0 5) fun r29 => gB1 r27 fun a30 => gB1 (gOb w26 a30 1) fun _ => gB2 (f_X1_becomes a30 r29 w26) fun _ w31 => some ((), w31)
set_option maxHeartbeats 4000000 in
set_option maxRecDepth 100000 in
theorem k_X28_init {D : va_G} {dA : Nat → ClassId} {A : Nat → Prop} {K : Nat → Nat} {l : Launch} {h : Nat} (hh : 18 ≤ h) {a0 : Nat} {p1 : Option Nat} {w0 ww : gw} {rr : Unit} (hf : f_X28_init a0 p1 w0 = some (rr, ww)) : gMet D dA A K l yX28_init (ws_ yX28_init cX28_init 2 none) h [(ga (some a0)), (ga p1)] none w0 ww := by
  refine j_start (own := RX28) (by decide +kernel) rfl (Nat.le_of_ble_eq_true rfl) ?_
  intro p e R s m args below meth c C hr hin hw
  unfold f_X28_init at hf
  show gJ D dA A K p l e R s m args below meth c (gEnd D dA A K below args s w0 none ww) 2 0 [(0, (ga (some a0))), (1, (ga p1))] [] w0
  refine j_aload_n C dX28_init_0 rfl ?_
  refine j_aload_n C dX28_init_1 rfl ?_
  replace hf := gB1_e hf
  obtain ⟨w1, ew1, hf⟩ := hf
  refine j_putF C fl_X28_3_28 tb_28 hin ew1 fk_28_4 rfl (ft_LWorkflowEngine_ p1) dX28_init_2 ?_
  refine j_aload_n C dX28_init_5 rfl ?_
  refine j_objInit C (by omega) q1540 q164 q165 (by decide) dX28_init_6 ?_
  refine j_aload_n C dX28_init_9 rfl ?_
  refine j_aload_n C dX28_init_10 rfl ?_
  replace hf := gB1_e hf
  obtain ⟨r2, er2, hf⟩ := hf
  refine j_get C fl_X28_3_28 dX28_init_11 (gR_F er2) ?_
  replace hf := gB1_e hf
  obtain ⟨a3, ea3, hf⟩ := hf
  subst ea3
  replace hf := gB1_e hf
  obtain ⟨r4, er4, hf⟩ := hf
  refine j_get C fl_X28_15_0 dX28_init_14 (gR_F er4) ?_
  replace hf := gB1_e hf
  obtain ⟨a5, ea5, hf⟩ := hf
  subst ea5
  replace hf := gB2_e hf
  obtain ⟨a6, w7, ew7, hf⟩ := hf
  refine j_clone C (t := 3) rfl (g_nm3 C) (Or.inr ⟨by decide, rfl⟩) q1541 q1542 q1440 q1441 q1543 nq1544 ew7 (Nat.le_of_ble_eq_true rfl) (by omega) dX28_init_17 ?_
  replace hf := gB1_e hf
  obtain ⟨r8, er8, hf⟩ := hf
  refine j_castA C (t := 3) q1545 (g_nm3 C) er8 dX28_init_20 ?_
  replace hf := gB1_e hf
  obtain ⟨w9, ew9, hf⟩ := hf
  refine j_putF C fl_X28_24_28 tb_28 hin ew9 fk_28_0 rfl (ft__LWorkflowEngine_Version_ r8) dX28_init_23 ?_
  refine j_aload_n C dX28_init_26 rfl ?_
  refine j_aload_n C dX28_init_27 rfl ?_
  replace hf := gB1_e hf
  obtain ⟨r10, er10, hf⟩ := hf
  refine j_get C fl_X28_3_28 dX28_init_28 (gR_F er10) ?_
  replace hf := gB1_e hf
  obtain ⟨a11, ea11, hf⟩ := hf
  subst ea11
  replace hf := gB1_e hf
  obtain ⟨r12, er12, hf⟩ := hf
  refine j_get C fl_X28_27_0 dX28_init_31 (gR_F er12) ?_
  replace hf := gB1_e hf
  obtain ⟨a13, ea13, hf⟩ := hf
  subst ea13
  replace hf := gB2_e hf
  obtain ⟨a14, w15, ew15, hf⟩ := hf
  refine j_clone C (t := 0) rfl (g_nm0 C) (Or.inl ⟨by decide, rfl⟩) q1546 q1439 q1440 q1441 q1442 nq1443 ew15 (Nat.le_of_ble_eq_true rfl) (by omega) dX28_init_34 ?_
  replace hf := gB1_e hf
  obtain ⟨r16, er16, hf⟩ := hf
  refine j_castA C (t := 0) q1547 (g_nm0 C) er16 dX28_init_37 ?_
  replace hf := gB1_e hf
  obtain ⟨w17, ew17, hf⟩ := hf
  refine j_putF C fl_X28_33_28 tb_28 hin ew17 fk_28_1 rfl (ft__I r16) dX28_init_40 ?_
  refine j_aload_n C dX28_init_43 rfl ?_
  refine j_aload_n C dX28_init_44 rfl ?_
  replace hf := gB1_e hf
  obtain ⟨r18, er18, hf⟩ := hf
  refine j_get C fl_X28_3_28 dX28_init_45 (gR_F er18) ?_
  replace hf := gB1_e hf
  obtain ⟨a19, ea19, hf⟩ := hf
  subst ea19
  replace hf := gB1_e hf
  obtain ⟨r20, er20, hf⟩ := hf
  refine j_get C fl_X28_36_0 dX28_init_48 (gR_F er20) ?_
  replace hf := gB1_e hf
  obtain ⟨w21, ew21, hf⟩ := hf
  refine j_putF C fl_X28_40_28 tb_28 hin ew21 fk_28_2 rfl (ft_LWorkflowEngine_WrongText_ r20) dX28_init_51 ?_
  refine j_aload_n C dX28_init_54 rfl ?_
  replace hf := gB2_e hf
  obtain ⟨a22, w23, ew23, hf⟩ := hf
  refine j_new C nl_X28_43 ew23 dX28_init_55 ?_
  refine j_dup C dX28_init_58 ?_
  refine j_aload_n C dX28_init_59 rfl ?_
  replace hf := gB1_e hf
  obtain ⟨r24, er24, hf⟩ := hf
  refine j_get C fl_X28_3_28 dX28_init_60 (gR_F er24) ?_
  replace hf := gB2_e hf
  obtain ⟨_, w25, ew25, hf⟩ := hf
  refine j_callIN (As := [(ga r24)]) (rest := [(ga (some a22)), (ga (some a0))]) C (by omega) (k_X1_init (by omega) ew25) rfl nq1549 q728 q92 q729 hd_X1_init (by decide) rfl (Nat.le_of_ble_eq_true rfl) dX28_init_63 ?_
  replace hf := gB1_e hf
  obtain ⟨w26, ew26, hf⟩ := hf
  refine j_putF C fl_X28_48_28 tb_28 hin ew26 fk_28_3 rfl (ft_LWorkflowEngine_Moment_ (some a22)) dX28_init_66 ?_
  refine j_aload_n C dX28_init_69 rfl ?_
  replace hf := gB1_e hf
  obtain ⟨r27, er27, hf⟩ := hf
  refine j_get C fl_X28_48_28 dX28_init_70 (gR_F er27) ?_
  refine j_aload_n C dX28_init_73 rfl ?_
  replace hf := gB1_e hf
  obtain ⟨a28, ea28, hf⟩ := hf
  subst ea28
  replace hf := gB1_e hf
  obtain ⟨r29, er29, hf⟩ := hf
  refine j_get C fl_X28_52_0 dX28_init_74 (gR_F er29) ?_
  replace hf := gB1_e hf
  obtain ⟨a30, ea30, hf⟩ := hf
  subst ea30
  replace hf := gB1_e hf
  obtain ⟨_, eo, hf⟩ := hf
  replace hf := gB2_e hf
  obtain ⟨_, w31, ew31, hf⟩ := hf
  refine j_callV (As := [(ga r29)]) (rest := []) (v := none) C (by omega) (k_X1_becomes (by omega) ew31) (gOb_e eo) rfl q1550 q1426 q1427 q92 q1428 ⟨rfl, hd_X1_becomes⟩ (by decide) rfl (Nat.le_of_ble_eq_true rfl) dX28_init_77 ?_
  obtain ⟨rfl, rfl⟩ := gSome hf
  exact j_vret C hr hw dX28_init_80
def dkwX28_laysBack_2 : List UInt8 := [180, 0, 40, 181, 0, 36, 42, 180, 0, 3, 180, 0, 52, 42, 180, 0, 48, 182, 0, 55, 177]
abbrev dktX28_laysBack_2 : List UInt8 := dkwX28_laysBack_2 ++ []
def dkwX28_laysBack_1 : List UInt8 := [42, 180, 0, 33, 3, 42, 180, 0, 3, 180, 0, 27, 3, 7, 184, 0, 59, 42, 180, 0, 3, 42]
abbrev dktX28_laysBack_1 : List UInt8 := dkwX28_laysBack_1 ++ dktX28_laysBack_2
def dkwX28_laysBack_0 : List UInt8 := [42, 180, 0, 24, 3, 42, 180, 0, 3, 180, 0, 15, 3, 42, 180, 0, 3, 180, 0, 15, 190, 184, 0, 59]
abbrev dktX28_laysBack_0 : List UInt8 := dkwX28_laysBack_0 ++ dktX28_laysBack_1
theorem dksX28_laysBack_0 : cX28_laysBack.data.toList.drop 0 = dktX28_laysBack_0 := by decide +kernel
theorem dksX28_laysBack_1 : cX28_laysBack.data.toList.drop 24 = dktX28_laysBack_1 := dk_seg dksX28_laysBack_0 24 rfl rfl
theorem dksX28_laysBack_2 : cX28_laysBack.data.toList.drop 46 = dktX28_laysBack_2 := dk_seg dksX28_laysBack_1 22 rfl rfl
theorem dX28_laysBack_0 : decode cX28_laysBack 0 = .ok (.aload_n 0, 1) := dk_42 (dk_at dksX28_laysBack_0 0 rfl rfl)
theorem dX28_laysBack_1 : decode cX28_laysBack 1 = .ok (.getfield 24, 3) := dk_180 0 24 (dk_at dksX28_laysBack_0 1 rfl rfl)
theorem dX28_laysBack_4 : decode cX28_laysBack 4 = .ok (.iconst 0, 1) := dk_3 (dk_at dksX28_laysBack_0 4 rfl rfl)
theorem dX28_laysBack_5 : decode cX28_laysBack 5 = .ok (.aload_n 0, 1) := dk_42 (dk_at dksX28_laysBack_0 5 rfl rfl)
theorem dX28_laysBack_6 : decode cX28_laysBack 6 = .ok (.getfield 3, 3) := dk_180 0 3 (dk_at dksX28_laysBack_0 6 rfl rfl)
theorem dX28_laysBack_9 : decode cX28_laysBack 9 = .ok (.getfield 15, 3) := dk_180 0 15 (dk_at dksX28_laysBack_0 9 rfl rfl)
theorem dX28_laysBack_12 : decode cX28_laysBack 12 = .ok (.iconst 0, 1) := dk_3 (dk_at dksX28_laysBack_0 12 rfl rfl)
theorem dX28_laysBack_13 : decode cX28_laysBack 13 = .ok (.aload_n 0, 1) := dk_42 (dk_at dksX28_laysBack_0 13 rfl rfl)
theorem dX28_laysBack_14 : decode cX28_laysBack 14 = .ok (.getfield 3, 3) := dk_180 0 3 (dk_at dksX28_laysBack_0 14 rfl rfl)
theorem dX28_laysBack_17 : decode cX28_laysBack 17 = .ok (.getfield 15, 3) := dk_180 0 15 (dk_at dksX28_laysBack_0 17 rfl rfl)
theorem dX28_laysBack_20 : decode cX28_laysBack 20 = .ok (.arraylength, 1) := dk_190 (dk_at dksX28_laysBack_0 20 rfl rfl)
theorem dX28_laysBack_21 : decode cX28_laysBack 21 = .ok (.invokestatic 59, 3) := dk_184 0 59 (dk_at dksX28_laysBack_0 21 rfl rfl)
theorem dX28_laysBack_24 : decode cX28_laysBack 24 = .ok (.aload_n 0, 1) := dk_42 (dk_at dksX28_laysBack_1 0 rfl rfl)
theorem dX28_laysBack_25 : decode cX28_laysBack 25 = .ok (.getfield 33, 3) := dk_180 0 33 (dk_at dksX28_laysBack_1 1 rfl rfl)
theorem dX28_laysBack_28 : decode cX28_laysBack 28 = .ok (.iconst 0, 1) := dk_3 (dk_at dksX28_laysBack_1 4 rfl rfl)
theorem dX28_laysBack_29 : decode cX28_laysBack 29 = .ok (.aload_n 0, 1) := dk_42 (dk_at dksX28_laysBack_1 5 rfl rfl)
theorem dX28_laysBack_30 : decode cX28_laysBack 30 = .ok (.getfield 3, 3) := dk_180 0 3 (dk_at dksX28_laysBack_1 6 rfl rfl)
theorem dX28_laysBack_33 : decode cX28_laysBack 33 = .ok (.getfield 27, 3) := dk_180 0 27 (dk_at dksX28_laysBack_1 9 rfl rfl)
theorem dX28_laysBack_36 : decode cX28_laysBack 36 = .ok (.iconst 0, 1) := dk_3 (dk_at dksX28_laysBack_1 12 rfl rfl)
theorem dX28_laysBack_37 : decode cX28_laysBack 37 = .ok (.iconst 4, 1) := dk_7 (dk_at dksX28_laysBack_1 13 rfl rfl)
theorem dX28_laysBack_38 : decode cX28_laysBack 38 = .ok (.invokestatic 59, 3) := dk_184 0 59 (dk_at dksX28_laysBack_1 14 rfl rfl)
theorem dX28_laysBack_41 : decode cX28_laysBack 41 = .ok (.aload_n 0, 1) := dk_42 (dk_at dksX28_laysBack_1 17 rfl rfl)
theorem dX28_laysBack_42 : decode cX28_laysBack 42 = .ok (.getfield 3, 3) := dk_180 0 3 (dk_at dksX28_laysBack_1 18 rfl rfl)
theorem dX28_laysBack_45 : decode cX28_laysBack 45 = .ok (.aload_n 0, 1) := dk_42 (dk_at dksX28_laysBack_1 21 rfl rfl)
theorem dX28_laysBack_46 : decode cX28_laysBack 46 = .ok (.getfield 40, 3) := dk_180 0 40 (dk_at dksX28_laysBack_2 0 rfl rfl)
theorem dX28_laysBack_49 : decode cX28_laysBack 49 = .ok (.putfield 36, 3) := dk_181 0 36 (dk_at dksX28_laysBack_2 3 rfl rfl)
theorem dX28_laysBack_52 : decode cX28_laysBack 52 = .ok (.aload_n 0, 1) := dk_42 (dk_at dksX28_laysBack_2 6 rfl rfl)
theorem dX28_laysBack_53 : decode cX28_laysBack 53 = .ok (.getfield 3, 3) := dk_180 0 3 (dk_at dksX28_laysBack_2 7 rfl rfl)
theorem dX28_laysBack_56 : decode cX28_laysBack 56 = .ok (.getfield 52, 3) := dk_180 0 52 (dk_at dksX28_laysBack_2 10 rfl rfl)
theorem dX28_laysBack_59 : decode cX28_laysBack 59 = .ok (.aload_n 0, 1) := dk_42 (dk_at dksX28_laysBack_2 13 rfl rfl)
theorem dX28_laysBack_60 : decode cX28_laysBack 60 = .ok (.getfield 48, 3) := dk_180 0 48 (dk_at dksX28_laysBack_2 14 rfl rfl)
theorem dX28_laysBack_63 : decode cX28_laysBack 63 = .ok (.invokevirtual 55, 3) := dk_182 0 55 (dk_at dksX28_laysBack_2 17 rfl rfl)
theorem dX28_laysBack_66 : decode cX28_laysBack 66 = .ok (.return_, 1) := dk_177 (dk_at dksX28_laysBack_2 20 rfl rfl)
theorem fk_0_2 : gFk 0 2 "LWorkflowEngine$WrongText;" false "WorkflowEngine" := fun Cn T N h => by
  have h : (RX0, TX0, 7) = (Cn, T, N) := Option.some.inj h
  cases h
  exact ⟨rfl, rfl, rfl⟩
def f_X28_laysBack (a0 : Nat) (w0 : gw) : Option (Unit × gw) := gB1 (gR w0 a0 28 0) fun r1 => gB1 (gR w0 a0 28 4) fun r2 => gB1 r2 fun a3 => gB1 (gR w0 a3 0 3) fun r4 => gB1 (gR w0 a0 28 4) fun r5 => gB1 r5 fun a6 => gB1 (gR w0 a6 0 3) fun r7 => gB1 r7 fun a8 => gB1 (gLen w0 a8 3) fun x9 => gB1 r1 fun a10 => gB1 r4 fun a11 => gB1 (gCpR w0 3 a10 (nI 0) a11 (nI 0) x9) fun w12 => gB1 (gR w12 a0 28 1) fun r13 => gB1 (gR w12 a0 28 4) fun r14 => gB1 r14 fun a15 => gB1 (gR w12 a15 0 4) fun r16 => gB1 r13 fun a17 => gB1 r16 fun a18 => gB1 (gCpI w12 0 a17 (nI 0) a18 (nI 0) (nI 4)) fun w19 => gB1 (gR w19 a0 28 4) fun r20 => gB1 (gR w19 a0 28 2) fun r21 => gB1 r20 fun a22 => gB1 (gPut w19 a22 0 2 (ga r21)) fun w23 => gB1 (gR w23 a0 28 4) fun r24 => gB1 r24 fun a25 => gB1 (gR w23 a25 0 5) fun r26 => gB1 (gR w23 a0 28 3) fun r27 => gB1 r26 fun a28 => gB1 (gOb w23 a28 1) fun _ => gB2 (f_X1_becomes a28 r27 w23) fun _ w29 => some ((), w29)
set_option maxHeartbeats 4000000 in
set_option maxRecDepth 100000 in
theorem k_X28_laysBack {D : va_G} {dA : Nat → ClassId} {A : Nat → Prop} {K : Nat → Nat} {l : Launch} {h : Nat} (hh : 18 ≤ h) {a0 : Nat} {w0 ww : gw} {rr : Unit} (hf : f_X28_laysBack a0 w0 = some (rr, ww)) : gMet D dA A K l yX28_laysBack (ws_ yX28_laysBack cX28_laysBack 1 none) h [(ga (some a0))] none w0 ww := by
  refine j_start (own := RX28) (by decide +kernel) rfl (Nat.le_of_ble_eq_true rfl) ?_
  intro p e R s m args below meth c C hr hin hw
  unfold f_X28_laysBack at hf
  show gJ D dA A K p l e R s m args below meth c (gEnd D dA A K below args s w0 none ww) 1 0 [(0, (ga (some a0)))] [] w0
  refine j_aload_n C dX28_laysBack_0 rfl ?_
  replace hf := gB1_e hf
  obtain ⟨r1, er1, hf⟩ := hf
  refine j_get C fl_X28_24_28 dX28_laysBack_1 (gR_F er1) ?_
  refine j_iconst (v := (nI 0)) C dX28_laysBack_4 (by decide) ?_
  refine j_aload_n C dX28_laysBack_5 rfl ?_
  replace hf := gB1_e hf
  obtain ⟨r2, er2, hf⟩ := hf
  refine j_get C fl_X28_3_28 dX28_laysBack_6 (gR_F er2) ?_
  replace hf := gB1_e hf
  obtain ⟨a3, ea3, hf⟩ := hf
  subst ea3
  replace hf := gB1_e hf
  obtain ⟨r4, er4, hf⟩ := hf
  refine j_get C fl_X28_15_0 dX28_laysBack_9 (gR_F er4) ?_
  refine j_iconst (v := (nI 0)) C dX28_laysBack_12 (by decide) ?_
  refine j_aload_n C dX28_laysBack_13 rfl ?_
  replace hf := gB1_e hf
  obtain ⟨r5, er5, hf⟩ := hf
  refine j_get C fl_X28_3_28 dX28_laysBack_14 (gR_F er5) ?_
  replace hf := gB1_e hf
  obtain ⟨a6, ea6, hf⟩ := hf
  subst ea6
  replace hf := gB1_e hf
  obtain ⟨r7, er7, hf⟩ := hf
  refine j_get C fl_X28_15_0 dX28_laysBack_17 (gR_F er7) ?_
  replace hf := gB1_e hf
  obtain ⟨a8, ea8, hf⟩ := hf
  subst ea8
  replace hf := gB1_e hf
  obtain ⟨x9, ex9, hf⟩ := hf
  refine j_alen C (t := 3) rfl ex9 dX28_laysBack_20 ?_
  replace hf := gB1_e hf
  obtain ⟨a10, ea10, hf⟩ := hf
  subst ea10
  replace hf := gB1_e hf
  obtain ⟨a11, ea11, hf⟩ := hf
  subst ea11
  replace hf := gB1_e hf
  obtain ⟨w12, ew12, hf⟩ := hf
  refine j_cpR C (tt := 3) rfl gAsg_3 (by omega) q1579 q556 q555 q113 ew12 (Nat.le_of_ble_eq_true rfl) dX28_laysBack_21 ?_
  refine j_aload_n C dX28_laysBack_24 rfl ?_
  replace hf := gB1_e hf
  obtain ⟨r13, er13, hf⟩ := hf
  refine j_get C fl_X28_33_28 dX28_laysBack_25 (gR_F er13) ?_
  refine j_iconst (v := (nI 0)) C dX28_laysBack_28 (by decide) ?_
  refine j_aload_n C dX28_laysBack_29 rfl ?_
  replace hf := gB1_e hf
  obtain ⟨r14, er14, hf⟩ := hf
  refine j_get C fl_X28_3_28 dX28_laysBack_30 (gR_F er14) ?_
  replace hf := gB1_e hf
  obtain ⟨a15, ea15, hf⟩ := hf
  subst ea15
  replace hf := gB1_e hf
  obtain ⟨r16, er16, hf⟩ := hf
  refine j_get C fl_X28_27_0 dX28_laysBack_33 (gR_F er16) ?_
  refine j_iconst (v := (nI 0)) C dX28_laysBack_36 (by decide) ?_
  refine j_iconst (v := (nI 4)) C dX28_laysBack_37 (by decide) ?_
  replace hf := gB1_e hf
  obtain ⟨a17, ea17, hf⟩ := hf
  subst ea17
  replace hf := gB1_e hf
  obtain ⟨a18, ea18, hf⟩ := hf
  subst ea18
  replace hf := gB1_e hf
  obtain ⟨w19, ew19, hf⟩ := hf
  refine j_cpI C (by omega) q1579 q556 q555 q113 ew19 (Nat.le_of_ble_eq_true rfl) dX28_laysBack_38 ?_
  refine j_aload_n C dX28_laysBack_41 rfl ?_
  replace hf := gB1_e hf
  obtain ⟨r20, er20, hf⟩ := hf
  refine j_get C fl_X28_3_28 dX28_laysBack_42 (gR_F er20) ?_
  refine j_aload_n C dX28_laysBack_45 rfl ?_
  replace hf := gB1_e hf
  obtain ⟨r21, er21, hf⟩ := hf
  refine j_get C fl_X28_40_28 dX28_laysBack_46 (gR_F er21) ?_
  replace hf := gB1_e hf
  obtain ⟨a22, ea22, hf⟩ := hf
  subst ea22
  replace hf := gB1_e hf
  obtain ⟨w23, ew23, hf⟩ := hf
  refine j_put C fl_X28_36_0 tb_0 ew23 fk_0_2 (ft_LWorkflowEngine_WrongText_ r21) dX28_laysBack_49 ?_
  refine j_aload_n C dX28_laysBack_52 rfl ?_
  replace hf := gB1_e hf
  obtain ⟨r24, er24, hf⟩ := hf
  refine j_get C fl_X28_3_28 dX28_laysBack_53 (gR_F er24) ?_
  replace hf := gB1_e hf
  obtain ⟨a25, ea25, hf⟩ := hf
  subst ea25
  replace hf := gB1_e hf
  obtain ⟨r26, er26, hf⟩ := hf
  refine j_get C fl_X28_52_0 dX28_laysBack_56 (gR_F er26) ?_
  refine j_aload_n C dX28_laysBack_59 rfl ?_
  replace hf := gB1_e hf
  obtain ⟨r27, er27, hf⟩ := hf
  refine j_get C fl_X28_48_28 dX28_laysBack_60 (gR_F er27) ?_
  replace hf := gB1_e hf
  obtain ⟨a28, ea28, hf⟩ := hf
  subst ea28
  replace hf := gB1_e hf
  obtain ⟨_, eo, hf⟩ := hf
  replace hf := gB2_e hf
  obtain ⟨_, w29, ew29, hf⟩ := hf
  refine j_callV (As := [(ga r27)]) (rest := []) (v := none) C (by omega) (k_X1_becomes (by omega) ew29) (gOb_e eo) rfl q1550 q1426 q1427 q92 q1428 ⟨rfl, hd_X1_becomes⟩ (by decide) rfl (Nat.le_of_ble_eq_true rfl) dX28_laysBack_63 ?_
  obtain ⟨rfl, rfl⟩ := gSome hf
  exact j_vret C hr hw dX28_laysBack_66
def dkwX0_image_0 : List UInt8 := [42, 187, 0, 241, 89, 42, 183, 0, 243, 181, 0, 244, 42, 180, 0, 91, 2, 182, 0, 248, 172]
abbrev dktX0_image_0 : List UInt8 := dkwX0_image_0 ++ []
theorem dksX0_image_0 : cX0_image.data.toList.drop 0 = dktX0_image_0 := by decide +kernel
theorem dX0_image_0 : decode cX0_image 0 = .ok (.aload_n 0, 1) := dk_42 (dk_at dksX0_image_0 0 rfl rfl)
theorem dX0_image_1 : decode cX0_image 1 = .ok (.new 241, 3) := dk_187 0 241 (dk_at dksX0_image_0 1 rfl rfl)
theorem dX0_image_4 : decode cX0_image 4 = .ok (.dup, 1) := dk_89 (dk_at dksX0_image_0 4 rfl rfl)
theorem dX0_image_5 : decode cX0_image 5 = .ok (.aload_n 0, 1) := dk_42 (dk_at dksX0_image_0 5 rfl rfl)
theorem dX0_image_6 : decode cX0_image 6 = .ok (.invokespecial 243, 3) := dk_183 0 243 (dk_at dksX0_image_0 6 rfl rfl)
theorem dX0_image_9 : decode cX0_image 9 = .ok (.putfield 244, 3) := dk_181 0 244 (dk_at dksX0_image_0 9 rfl rfl)
theorem dX0_image_12 : decode cX0_image 12 = .ok (.aload_n 0, 1) := dk_42 (dk_at dksX0_image_0 12 rfl rfl)
theorem dX0_image_13 : decode cX0_image 13 = .ok (.getfield 91, 3) := dk_180 0 91 (dk_at dksX0_image_0 13 rfl rfl)
theorem dX0_image_16 : decode cX0_image 16 = .ok (.iconst (-1), 1) := dk_2 (dk_at dksX0_image_0 16 rfl rfl)
theorem dX0_image_17 : decode cX0_image 17 = .ok (.invokevirtual 248, 3) := dk_182 0 248 (dk_at dksX0_image_0 17 rfl rfl)
theorem dX0_image_20 : decode cX0_image 20 = .ok (.ireturn, 1) := dk_172 (dk_at dksX0_image_0 20 rfl rfl)
theorem nl_X0_241 : gNL RX0 241 28 := ⟨RX28, TX28, 5, 5, tyX28, _, rfl, rfl, in_X28, tyX28_ok, q1535, q1536, q133, fun j hj => by rcases (show j = 0 ∨ j = 1 ∨ j = 2 ∨ j = 3 ∨ j = 4 by omega) with rfl | rfl | rfl | rfl | rfl <;> rfl⟩
theorem hd_X28_init : (yX28_init.cls ≠ "java/lang/invoke/MethodHandle" ∧ yX28_init.cls ≠ "java/lang/invoke/VarHandle" ∧ (parseMethodDescriptor yX28_init.desc).map (fun d => d.parameters.length) = some 1) := ⟨by decide +kernel, by decide +kernel, by decide +kernel⟩
theorem fl_X0_244_0 : gFL RX0 244 0 6 := gFL.mk (Cn := RX0) (T := TX0) (N := 7) (ref := "WorkflowEngine") rfl in_X0 (by decide) q774 rfl rfl (Or.inl rfl)
theorem ft_LWorkflowEngine_Image_ (r : Option Nat) : gFit "LWorkflowEngine$Image;" (ga r) := ⟨.object "WorkflowEngine$Image", by decide +kernel, by cases r <;> rfl, by cases r <;> rfl⟩
theorem fk_0_6 : gFk 0 6 "LWorkflowEngine$Image;" false "WorkflowEngine" := fun Cn T N h => by
  have h : (RX0, TX0, 7) = (Cn, T, N) := Option.some.inj h
  cases h
  exact ⟨rfl, rfl, rfl⟩
def f_X0_image (a0 : Nat) (w0 : gw) : Option (Int32 × gw) := gB2 (gNew w0 28) fun a1 w2 => gB2 (f_X28_init a1 (some a0) w2) fun _ w3 => gB1 (gPut w3 a0 0 6 (ga (some a1))) fun w4 => gB1 (gR w4 a0 0 5) fun r5 => gB1 r5 fun a6 => gB1 (gOb w4 a6 1) fun _ => gB2 (f_X1_many a6 (-1) w4) fun x8 w7 => some (x8, w7)
set_option maxHeartbeats 4000000 in
set_option maxRecDepth 100000 in
theorem k_X0_image {D : va_G} {dA : Nat → ClassId} {A : Nat → Prop} {K : Nat → Nat} {l : Launch} {h : Nat} (hh : 19 ≤ h) {a0 : Nat} {w0 ww : gw} {rr : Int32} (hf : f_X0_image a0 w0 = some (rr, ww)) : gMet D dA A K l yX0_image (ws_ yX0_image cX0_image 1 (some .int)) h [(ga (some a0))] (some (gi rr)) w0 ww := by
  refine j_start (own := RX0) (by decide +kernel) rfl (Nat.le_of_ble_eq_true rfl) ?_
  intro p e R s m args below meth c C hr hin hw
  unfold f_X0_image at hf
  show gJ D dA A K p l e R s m args below meth c (gEnd D dA A K below args s w0 (some (gi rr)) ww) 1 0 [(0, (ga (some a0)))] [] w0
  refine j_aload_n C dX0_image_0 rfl ?_
  replace hf := gB2_e hf
  obtain ⟨a1, w2, ew2, hf⟩ := hf
  refine j_new C nl_X0_241 ew2 dX0_image_1 ?_
  refine j_dup C dX0_image_4 ?_
  refine j_aload_n C dX0_image_5 rfl ?_
  replace hf := gB2_e hf
  obtain ⟨_, w3, ew3, hf⟩ := hf
  refine j_callI (As := [(ga (some a0))]) (rest := [(ga (some a1)), (ga (some a0))]) C (by omega) (k_X28_init (by omega) ew3) rfl q1537 q1538 q133 q1539 hd_X28_init (by decide) rfl (Nat.le_of_ble_eq_true rfl) dX0_image_6 ?_
  replace hf := gB1_e hf
  obtain ⟨w4, ew4, hf⟩ := hf
  refine j_put C fl_X0_244_0 tb_0 ew4 fk_0_6 (ft_LWorkflowEngine_Image_ (some a1)) dX0_image_9 ?_
  refine j_aload_n C dX0_image_12 rfl ?_
  replace hf := gB1_e hf
  obtain ⟨r5, er5, hf⟩ := hf
  refine j_get C fl_X0_91_0 dX0_image_13 (gR_F er5) ?_
  refine j_iconst (v := (-1)) C dX0_image_16 (by decide) ?_
  replace hf := gB1_e hf
  obtain ⟨a6, ea6, hf⟩ := hf
  subst ea6
  replace hf := gB1_e hf
  obtain ⟨_, eo, hf⟩ := hf
  replace hf := gB2_e hf
  obtain ⟨x8, w7, ew7, hf⟩ := hf
  refine j_callV (As := [(gi (-1))]) (rest := []) (v := (some (gi x8))) C (by omega) (k_X1_many (by omega) ew7) (gOb_e eo) rfl q1567 q1568 q1569 q92 q1570 ⟨rfl, hd_X1_many⟩ (by decide) rfl (Nat.le_of_ble_eq_true rfl) dX0_image_17 ?_
  obtain ⟨rfl, rfl⟩ := gSome hf
  exact j_iret C hr hw dX0_image_20
def dkwX0_undo_1 : List UInt8 := [182, 0, 248, 172]
abbrev dktX0_undo_1 : List UInt8 := dkwX0_undo_1 ++ []
def dkwX0_undo_0 : List UInt8 := [42, 180, 0, 244, 199, 0, 6, 16, 253, 172, 42, 180, 0, 244, 182, 0, 250, 42, 180, 0, 91, 2]
abbrev dktX0_undo_0 : List UInt8 := dkwX0_undo_0 ++ dktX0_undo_1
theorem dksX0_undo_0 : cX0_undo.data.toList.drop 0 = dktX0_undo_0 := by decide +kernel
theorem dksX0_undo_1 : cX0_undo.data.toList.drop 22 = dktX0_undo_1 := dk_seg dksX0_undo_0 22 rfl rfl
theorem dX0_undo_0 : decode cX0_undo 0 = .ok (.aload_n 0, 1) := dk_42 (dk_at dksX0_undo_0 0 rfl rfl)
theorem dX0_undo_1 : decode cX0_undo 1 = .ok (.getfield 244, 3) := dk_180 0 244 (dk_at dksX0_undo_0 1 rfl rfl)
theorem dX0_undo_4 : decode cX0_undo 4 = .ok (.ifnonnull 6, 3) := dk_199 0 6 (dk_at dksX0_undo_0 4 rfl rfl)
theorem dX0_undo_7 : decode cX0_undo 7 = .ok (.bipush (-3), 2) := dk_16 253 (dk_at dksX0_undo_0 7 rfl rfl)
theorem dX0_undo_9 : decode cX0_undo 9 = .ok (.ireturn, 1) := dk_172 (dk_at dksX0_undo_0 9 rfl rfl)
theorem dX0_undo_10 : decode cX0_undo 10 = .ok (.aload_n 0, 1) := dk_42 (dk_at dksX0_undo_0 10 rfl rfl)
theorem dX0_undo_11 : decode cX0_undo 11 = .ok (.getfield 244, 3) := dk_180 0 244 (dk_at dksX0_undo_0 11 rfl rfl)
theorem dX0_undo_14 : decode cX0_undo 14 = .ok (.invokevirtual 250, 3) := dk_182 0 250 (dk_at dksX0_undo_0 14 rfl rfl)
theorem dX0_undo_17 : decode cX0_undo 17 = .ok (.aload_n 0, 1) := dk_42 (dk_at dksX0_undo_0 17 rfl rfl)
theorem dX0_undo_18 : decode cX0_undo 18 = .ok (.getfield 91, 3) := dk_180 0 91 (dk_at dksX0_undo_0 18 rfl rfl)
theorem dX0_undo_21 : decode cX0_undo 21 = .ok (.iconst (-1), 1) := dk_2 (dk_at dksX0_undo_0 21 rfl rfl)
theorem dX0_undo_22 : decode cX0_undo 22 = .ok (.invokevirtual 248, 3) := dk_182 0 248 (dk_at dksX0_undo_1 0 rfl rfl)
theorem dX0_undo_25 : decode cX0_undo 25 = .ok (.ireturn, 1) := dk_172 (dk_at dksX0_undo_1 3 rfl rfl)
theorem hd_X28_laysBack : (yX28_laysBack.cls ≠ "java/lang/invoke/MethodHandle" ∧ yX28_laysBack.cls ≠ "java/lang/invoke/VarHandle" ∧ (parseMethodDescriptor yX28_laysBack.desc).map (fun d => d.parameters.length) = some 0) := ⟨by decide +kernel, by decide +kernel, by decide +kernel⟩
def f_X0_undo (a0 : Nat) (w0 : gw) : Option (Int32 × gw) := gB1 (gR w0 a0 0 6) fun r1 => gNl r1 (some ((-3), w0)) (fun a3 => gB1 (gR w0 a0 0 6) fun r4 => gB1 r4 fun a5 => gB1 (gOb w0 a5 28) fun _ => gB2 (f_X28_laysBack a5  w0) fun _ w6 => gB1 (gR w6 a0 0 5) fun r7 => gB1 r7 fun a8 => gB1 (gOb w6 a8 1) fun _ => gB2 (f_X1_many a8 (-1) w6) fun x10 w9 => some (x10, w9))
set_option maxHeartbeats 4000000 in
set_option maxRecDepth 100000 in
theorem k_X0_undo {D : va_G} {dA : Nat → ClassId} {A : Nat → Prop} {K : Nat → Nat} {l : Launch} {h : Nat} (hh : 19 ≤ h) {a0 : Nat} {w0 ww : gw} {rr : Int32} (hf : f_X0_undo a0 w0 = some (rr, ww)) : gMet D dA A K l yX0_undo (ws_ yX0_undo cX0_undo 1 (some .int)) h [(ga (some a0))] (some (gi rr)) w0 ww := by
  refine j_start (own := RX0) (by decide +kernel) rfl (Nat.le_of_ble_eq_true rfl) ?_
  intro p e R s m args below meth c C hr hin hw
  unfold f_X0_undo at hf
  show gJ D dA A K p l e R s m args below meth c (gEnd D dA A K below args s w0 (some (gi rr)) ww) 1 0 [(0, (ga (some a0)))] [] w0
  refine j_aload_n C dX0_undo_0 rfl ?_
  replace hf := gB1_e hf
  obtain ⟨r1, er1, hf⟩ := hf
  refine j_get C fl_X0_244_0 dX0_undo_1 (gR_F er1) ?_
  refine j_ifnonnull (tgt := 10) C dX0_undo_4 (by decide) (fun a3 c2 => ?_) (fun c2 => ?_)
  · subst c2
    replace hf := gNl_s hf
    refine j_aload_n C dX0_undo_10 rfl ?_
    replace hf := gB1_e hf
    obtain ⟨r4, er4, hf⟩ := hf
    refine j_get C fl_X0_244_0 dX0_undo_11 (gR_F er4) ?_
    replace hf := gB1_e hf
    obtain ⟨a5, ea5, hf⟩ := hf
    subst ea5
    replace hf := gB1_e hf
    obtain ⟨_, eo, hf⟩ := hf
    replace hf := gB2_e hf
    obtain ⟨_, w6, ew6, hf⟩ := hf
    refine j_callV (As := []) (rest := []) (v := none) C (by omega) (k_X28_laysBack (by omega) ew6) (gOb_e eo) rfl q1575 q1576 q1577 q133 q1578 ⟨rfl, hd_X28_laysBack⟩ (by decide) rfl (Nat.le_of_ble_eq_true rfl) dX0_undo_14 ?_
    refine j_aload_n C dX0_undo_17 rfl ?_
    replace hf := gB1_e hf
    obtain ⟨r7, er7, hf⟩ := hf
    refine j_get C fl_X0_91_0 dX0_undo_18 (gR_F er7) ?_
    refine j_iconst (v := (-1)) C dX0_undo_21 (by decide) ?_
    replace hf := gB1_e hf
    obtain ⟨a8, ea8, hf⟩ := hf
    subst ea8
    replace hf := gB1_e hf
    obtain ⟨_, eo, hf⟩ := hf
    replace hf := gB2_e hf
    obtain ⟨x10, w9, ew9, hf⟩ := hf
    refine j_callV (As := [(gi (-1))]) (rest := []) (v := (some (gi x10))) C (by omega) (k_X1_many (by omega) ew9) (gOb_e eo) rfl q1567 q1568 q1569 q92 q1570 ⟨rfl, hd_X1_many⟩ (by decide) rfl (Nat.le_of_ble_eq_true rfl) dX0_undo_22 ?_
    obtain ⟨rfl, rfl⟩ := gSome hf
    exact j_iret C hr hw dX0_undo_25
  · subst c2
    replace hf := gNl_n hf
    refine j_bipush (v := (-3)) C dX0_undo_7 (by decide) ?_
    obtain ⟨rfl, rfl⟩ := gSome hf
    exact j_iret C hr hw dX0_undo_9
def f_Node_begins (a : Nat) (p1 : Option Nat) (w0 : gw) : Option (Option Nat × gw) := gB1 (gCls w0 a) fun ci => if ci = 9 then f_X9_begins a p1 w0 else if ci = 10 then f_X10_begins a p1 w0 else if ci = 11 then f_X11_begins a p1 w0 else if ci = 12 then f_X12_begins a p1 w0 else if ci = 13 then f_X13_begins a p1 w0 else if ci = 14 then f_X14_begins a p1 w0 else none
theorem kd_Node_begins {D : va_G} {dA : Nat → ClassId} {A : Nat → Prop} {K : Nat → Nat} {l : Launch} {h : Nat} (hh : 3 ≤ h) {a : Nat} {p1 : Option Nat} {w0 ww : gw} {rr : Option Nat} (hf : f_Node_begins a p1 w0 = some (rr, ww)) : gDp_Node_begins D dA A K l h a [(ga p1)] (some (ga rr)) w0 ww := by
  unfold f_Node_begins at hf
  unfold gDp_Node_begins
  replace hf := gB1_e hf
  obtain ⟨ci, eci, hf⟩ := hf
  by_cases c0 : ci = 9
  · replace hf := gIf_t hf c0
    exact Or.inl ⟨by rw [eci, c0], k_X9_begins (by omega) hf⟩
  replace hf := gIf_f hf c0
  by_cases c1 : ci = 10
  · replace hf := gIf_t hf c1
    exact Or.inr (Or.inl ⟨by rw [eci, c1], k_X10_begins (by omega) hf⟩)
  replace hf := gIf_f hf c1
  by_cases c2 : ci = 11
  · replace hf := gIf_t hf c2
    exact Or.inr (Or.inr (Or.inl ⟨by rw [eci, c2], k_X11_begins (by omega) hf⟩))
  replace hf := gIf_f hf c2
  by_cases c3 : ci = 12
  · replace hf := gIf_t hf c3
    exact Or.inr (Or.inr (Or.inr (Or.inl ⟨by rw [eci, c3], k_X12_begins (by omega) hf⟩)))
  replace hf := gIf_f hf c3
  by_cases c4 : ci = 13
  · replace hf := gIf_t hf c4
    exact Or.inr (Or.inr (Or.inr (Or.inr (Or.inl ⟨by rw [eci, c4], k_X13_begins (by omega) hf⟩))))
  replace hf := gIf_f hf c4
  by_cases c5 : ci = 14
  · replace hf := gIf_t hf c5
    exact Or.inr (Or.inr (Or.inr (Or.inr (Or.inr (⟨by rw [eci, c5], k_X14_begins (by omega) hf⟩)))))
  replace hf := gIf_f hf c5
  cases hf
