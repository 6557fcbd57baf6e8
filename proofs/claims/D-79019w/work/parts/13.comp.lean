set_option maxRecDepth 100000
def dkwX18_looks_4 : List UInt8 := [181, 0, 28, 43, 178, 0, 76, 166, 0, 5, 43, 176, 167, 255, 152, 178, 0, 80, 176]
abbrev dktX18_looks_4 : List UInt8 := dkwX18_looks_4 ++ []
def dkwX18_looks_3 : List UInt8 := [180, 0, 44, 42, 180, 0, 20, 182, 0, 72, 42, 1, 181, 0, 44, 42, 89, 180, 0, 28, 4, 96]
abbrev dktX18_looks_3 : List UInt8 := dkwX18_looks_3 ++ dktX18_looks_4
def dkwX18_looks_2 : List UInt8 := [182, 0, 58, 181, 0, 44, 42, 180, 0, 44, 182, 0, 62, 76, 43, 182, 0, 66, 154, 0, 5, 43, 176, 42]
abbrev dktX18_looks_2 : List UInt8 := dkwX18_looks_2 ++ dktX18_looks_3
def dkwX18_looks_1 : List UInt8 := [42, 42, 180, 0, 24, 180, 0, 32, 42, 180, 0, 28, 182, 0, 48, 192, 0, 52, 42, 180, 0, 54]
abbrev dktX18_looks_1 : List UInt8 := dkwX18_looks_1 ++ dktX18_looks_2
def dkwX18_looks_0 : List UInt8 := [42, 180, 0, 28, 42, 180, 0, 24, 180, 0, 32, 182, 0, 38, 162, 0, 93, 42, 180, 0, 44, 199, 0, 31]
abbrev dktX18_looks_0 : List UInt8 := dkwX18_looks_0 ++ dktX18_looks_1
theorem dksX18_looks_0 : cX18_looks.data.toList.drop 0 = dktX18_looks_0 := by decide +kernel
theorem dksX18_looks_1 : cX18_looks.data.toList.drop 24 = dktX18_looks_1 := dk_seg dksX18_looks_0 24 rfl rfl
theorem dksX18_looks_2 : cX18_looks.data.toList.drop 46 = dktX18_looks_2 := dk_seg dksX18_looks_1 22 rfl rfl
theorem dksX18_looks_3 : cX18_looks.data.toList.drop 70 = dktX18_looks_3 := dk_seg dksX18_looks_2 24 rfl rfl
theorem dksX18_looks_4 : cX18_looks.data.toList.drop 92 = dktX18_looks_4 := dk_seg dksX18_looks_3 22 rfl rfl
theorem dX18_looks_0 : decode cX18_looks 0 = .ok (.aload_n 0, 1) := dk_42 (dk_at dksX18_looks_0 0 rfl rfl)
theorem dX18_looks_1 : decode cX18_looks 1 = .ok (.getfield 28, 3) := dk_180 0 28 (dk_at dksX18_looks_0 1 rfl rfl)
theorem dX18_looks_4 : decode cX18_looks 4 = .ok (.aload_n 0, 1) := dk_42 (dk_at dksX18_looks_0 4 rfl rfl)
theorem dX18_looks_5 : decode cX18_looks 5 = .ok (.getfield 24, 3) := dk_180 0 24 (dk_at dksX18_looks_0 5 rfl rfl)
theorem dX18_looks_8 : decode cX18_looks 8 = .ok (.getfield 32, 3) := dk_180 0 32 (dk_at dksX18_looks_0 8 rfl rfl)
theorem dX18_looks_11 : decode cX18_looks 11 = .ok (.invokevirtual 38, 3) := dk_182 0 38 (dk_at dksX18_looks_0 11 rfl rfl)
theorem dX18_looks_14 : decode cX18_looks 14 = .ok (.if_icmp .ge 93, 3) := dk_162 0 93 (dk_at dksX18_looks_0 14 rfl rfl)
theorem dX18_looks_17 : decode cX18_looks 17 = .ok (.aload_n 0, 1) := dk_42 (dk_at dksX18_looks_0 17 rfl rfl)
theorem dX18_looks_18 : decode cX18_looks 18 = .ok (.getfield 44, 3) := dk_180 0 44 (dk_at dksX18_looks_0 18 rfl rfl)
theorem dX18_looks_21 : decode cX18_looks 21 = .ok (.ifnonnull 31, 3) := dk_199 0 31 (dk_at dksX18_looks_0 21 rfl rfl)
theorem dX18_looks_24 : decode cX18_looks 24 = .ok (.aload_n 0, 1) := dk_42 (dk_at dksX18_looks_1 0 rfl rfl)
theorem dX18_looks_25 : decode cX18_looks 25 = .ok (.aload_n 0, 1) := dk_42 (dk_at dksX18_looks_1 1 rfl rfl)
theorem dX18_looks_26 : decode cX18_looks 26 = .ok (.getfield 24, 3) := dk_180 0 24 (dk_at dksX18_looks_1 2 rfl rfl)
theorem dX18_looks_29 : decode cX18_looks 29 = .ok (.getfield 32, 3) := dk_180 0 32 (dk_at dksX18_looks_1 5 rfl rfl)
theorem dX18_looks_32 : decode cX18_looks 32 = .ok (.aload_n 0, 1) := dk_42 (dk_at dksX18_looks_1 8 rfl rfl)
theorem dX18_looks_33 : decode cX18_looks 33 = .ok (.getfield 28, 3) := dk_180 0 28 (dk_at dksX18_looks_1 9 rfl rfl)
theorem dX18_looks_36 : decode cX18_looks 36 = .ok (.invokevirtual 48, 3) := dk_182 0 48 (dk_at dksX18_looks_1 12 rfl rfl)
theorem dX18_looks_39 : decode cX18_looks 39 = .ok (.checkcast 52, 3) := dk_192 0 52 (dk_at dksX18_looks_1 15 rfl rfl)
theorem dX18_looks_42 : decode cX18_looks 42 = .ok (.aload_n 0, 1) := dk_42 (dk_at dksX18_looks_1 18 rfl rfl)
theorem dX18_looks_43 : decode cX18_looks 43 = .ok (.getfield 54, 3) := dk_180 0 54 (dk_at dksX18_looks_1 19 rfl rfl)
theorem dX18_looks_46 : decode cX18_looks 46 = .ok (.invokevirtual 58, 3) := dk_182 0 58 (dk_at dksX18_looks_2 0 rfl rfl)
theorem dX18_looks_49 : decode cX18_looks 49 = .ok (.putfield 44, 3) := dk_181 0 44 (dk_at dksX18_looks_2 3 rfl rfl)
theorem dX18_looks_52 : decode cX18_looks 52 = .ok (.aload_n 0, 1) := dk_42 (dk_at dksX18_looks_2 6 rfl rfl)
theorem dX18_looks_53 : decode cX18_looks 53 = .ok (.getfield 44, 3) := dk_180 0 44 (dk_at dksX18_looks_2 7 rfl rfl)
theorem dX18_looks_56 : decode cX18_looks 56 = .ok (.invokevirtual 62, 3) := dk_182 0 62 (dk_at dksX18_looks_2 10 rfl rfl)
theorem dX18_looks_59 : decode cX18_looks 59 = .ok (.astore_n 1, 1) := dk_76 (dk_at dksX18_looks_2 13 rfl rfl)
theorem dX18_looks_60 : decode cX18_looks 60 = .ok (.aload_n 1, 1) := dk_43 (dk_at dksX18_looks_2 14 rfl rfl)
theorem dX18_looks_61 : decode cX18_looks 61 = .ok (.invokevirtual 66, 3) := dk_182 0 66 (dk_at dksX18_looks_2 15 rfl rfl)
theorem dX18_looks_64 : decode cX18_looks 64 = .ok (.ifCond .ne 5, 3) := dk_154 0 5 (dk_at dksX18_looks_2 18 rfl rfl)
theorem dX18_looks_67 : decode cX18_looks 67 = .ok (.aload_n 1, 1) := dk_43 (dk_at dksX18_looks_2 21 rfl rfl)
theorem dX18_looks_68 : decode cX18_looks 68 = .ok (.areturn, 1) := dk_176 (dk_at dksX18_looks_2 22 rfl rfl)
theorem dX18_looks_69 : decode cX18_looks 69 = .ok (.aload_n 0, 1) := dk_42 (dk_at dksX18_looks_2 23 rfl rfl)
theorem dX18_looks_70 : decode cX18_looks 70 = .ok (.getfield 44, 3) := dk_180 0 44 (dk_at dksX18_looks_3 0 rfl rfl)
theorem dX18_looks_73 : decode cX18_looks 73 = .ok (.aload_n 0, 1) := dk_42 (dk_at dksX18_looks_3 3 rfl rfl)
theorem dX18_looks_74 : decode cX18_looks 74 = .ok (.getfield 20, 3) := dk_180 0 20 (dk_at dksX18_looks_3 4 rfl rfl)
theorem dX18_looks_77 : decode cX18_looks 77 = .ok (.invokevirtual 72, 3) := dk_182 0 72 (dk_at dksX18_looks_3 7 rfl rfl)
theorem dX18_looks_80 : decode cX18_looks 80 = .ok (.aload_n 0, 1) := dk_42 (dk_at dksX18_looks_3 10 rfl rfl)
theorem dX18_looks_81 : decode cX18_looks 81 = .ok (.aconst_null, 1) := dk_1 (dk_at dksX18_looks_3 11 rfl rfl)
theorem dX18_looks_82 : decode cX18_looks 82 = .ok (.putfield 44, 3) := dk_181 0 44 (dk_at dksX18_looks_3 12 rfl rfl)
theorem dX18_looks_85 : decode cX18_looks 85 = .ok (.aload_n 0, 1) := dk_42 (dk_at dksX18_looks_3 15 rfl rfl)
theorem dX18_looks_86 : decode cX18_looks 86 = .ok (.dup, 1) := dk_89 (dk_at dksX18_looks_3 16 rfl rfl)
theorem dX18_looks_87 : decode cX18_looks 87 = .ok (.getfield 28, 3) := dk_180 0 28 (dk_at dksX18_looks_3 17 rfl rfl)
theorem dX18_looks_90 : decode cX18_looks 90 = .ok (.iconst 1, 1) := dk_4 (dk_at dksX18_looks_3 20 rfl rfl)
theorem dX18_looks_91 : decode cX18_looks 91 = .ok (.iadd, 1) := dk_96 (dk_at dksX18_looks_3 21 rfl rfl)
theorem dX18_looks_92 : decode cX18_looks 92 = .ok (.putfield 28, 3) := dk_181 0 28 (dk_at dksX18_looks_4 0 rfl rfl)
theorem dX18_looks_95 : decode cX18_looks 95 = .ok (.aload_n 1, 1) := dk_43 (dk_at dksX18_looks_4 3 rfl rfl)
theorem dX18_looks_96 : decode cX18_looks 96 = .ok (.getstatic 76, 3) := dk_178 0 76 (dk_at dksX18_looks_4 4 rfl rfl)
theorem dX18_looks_99 : decode cX18_looks 99 = .ok (.if_acmp .ne 5, 3) := dk_166 0 5 (dk_at dksX18_looks_4 7 rfl rfl)
theorem dX18_looks_102 : decode cX18_looks 102 = .ok (.aload_n 1, 1) := dk_43 (dk_at dksX18_looks_4 10 rfl rfl)
theorem dX18_looks_103 : decode cX18_looks 103 = .ok (.areturn, 1) := dk_176 (dk_at dksX18_looks_4 11 rfl rfl)
theorem dX18_looks_104 : decode cX18_looks 104 = .ok (.goto (-104), 3) := dk_167 255 152 (dk_at dksX18_looks_4 12 rfl rfl)
theorem dX18_looks_107 : decode cX18_looks 107 = .ok (.getstatic 80, 3) := dk_178 0 80 (dk_at dksX18_looks_4 15 rfl rfl)
theorem dX18_looks_110 : decode cX18_looks 110 = .ok (.areturn, 1) := dk_176 (dk_at dksX18_looks_4 18 rfl rfl)
theorem fl_X18_32_5 : gFL RX18 32 5 0 := gFL.mkN (Cn := RX5) (T := TX5) (N := 1) (ref := "WorkflowEngine$Body") rfl in_X5 (by decide) nq220 rfl rfl (Or.inl rfl)
theorem fl_X18_54_18 : gFL RX18 54 18 0 := gFL.mk (Cn := RX18) (T := TX18) (N := 7) (ref := "WorkflowEngine$BodyRun") rfl in_X18 (by decide) q913 rfl rfl (Or.inr q914)
def f_X18_looks (rec : Nat → gw → Option (Option Nat × gw)) (a0 : Nat) (w0 : gw) : Option (Option Nat × gw) := gB1 (gI w0 a0 18 4) fun x1 => gB1 (gR w0 a0 18 2) fun r2 => gB1 r2 fun a3 => gB1 (gR w0 a3 5 0) fun r4 => gB1 r4 fun a5 => gB1 (gOb w0 a5 8) fun _ => gB2 (f_J2_size a5  w0) fun x7 w6 => if x7 ≤ x1 then some ((some (w6.2.2.2 3)), w6) else gB1 (gR w6 a0 18 3) fun r9 => gBd (fun (w11 : gw) => gB1 (gR w11 a0 18 3) fun r12 => gB1 r12 fun a13 => gB2 (rec a13  w11) fun r15 w14 => gB1 r15 fun a16 => gB1 (gOver w14 a16) fun x18 => if x18 = 0 then some ((some a16), w14) else gB1 (gR w14 a0 18 3) fun r20 => gB1 (gR w14 a0 18 5) fun r21 => gB1 r20 fun a22 => gB2 (f_Run_gathers 12 a22 r21 w14) fun _ w23 => gB1 (gPut w23 a0 18 3 (ga none)) fun w24 => gB1 (gI w24 a0 18 4) fun x25 => gB1 (gPut w24 a0 18 4 (gi (x25 + (nI 1)))) fun w26 => if (some a16) = (some (w26.2.2.2 4)) then some ((some a16), w26) else gL0 (fun k29 (w28 : gw) => gB1 (gI w28 a0 18 4) fun x30 => gB1 (gR w28 a0 18 2) fun r31 => gB1 r31 fun a32 => gB1 (gR w28 a32 5 0) fun r33 => gB1 r33 fun a34 => gB1 (gOb w28 a34 8) fun _ => gB2 (f_J2_size a34  w28) fun x36 w35 => if x36 ≤ x30 then some ((some (w35.2.2.2 3)), w35) else gB1 (gR w35 a0 18 3) fun r38 => gBd (fun (w40 : gw) => gB1 (gR w40 a0 18 3) fun r41 => gB1 r41 fun a42 => gB2 (rec a42  w40) fun r44 w43 => gB1 r44 fun a45 => gB1 (gOver w43 a45) fun x47 => if x47 = 0 then some ((some a45), w43) else gB1 (gR w43 a0 18 3) fun r49 => gB1 (gR w43 a0 18 5) fun r50 => gB1 r49 fun a51 => gB2 (f_Run_gathers 12 a51 r50 w43) fun _ w52 => gB1 (gPut w52 a0 18 3 (ga none)) fun w53 => gB1 (gI w53 a0 18 4) fun x54 => gB1 (gPut w53 a0 18 4 (gi (x54 + (nI 1)))) fun w55 => if (some a45) = (some (w55.2.2.2 4)) then some ((some a45), w55) else k29 w55) fun k39 => gNl r38 (gB1 (gR w35 a0 18 2) fun r59 => gB1 r59 fun a60 => gB1 (gR w35 a60 5 0) fun r61 => gB1 (gI w35 a0 18 4) fun x62 => gB1 r61 fun a63 => gB1 (gOb w35 a63 8) fun _ => gB2 (f_J2_get a63 x62 w35) fun r65 w64 => gB1 (gCk w64 [9, 10, 11, 12, 13, 14] r65) fun r66 => gB1 (gR w64 a0 18 0) fun r67 => gB1 r66 fun a68 => gB2 (f_Node_begins a68 r67 w64) fun r70 w69 => gB1 (gPut w69 a0 18 3 (ga r70)) fun w71 => k39 w71) (fun a58 => k39 w35)) 20000 w26) fun k10 => gNl r9 (gB1 (gR w6 a0 18 2) fun r74 => gB1 r74 fun a75 => gB1 (gR w6 a75 5 0) fun r76 => gB1 (gI w6 a0 18 4) fun x77 => gB1 r76 fun a78 => gB1 (gOb w6 a78 8) fun _ => gB2 (f_J2_get a78 x77 w6) fun r80 w79 => gB1 (gCk w79 [9, 10, 11, 12, 13, 14] r80) fun r81 => gB1 (gR w79 a0 18 0) fun r82 => gB1 r81 fun a83 => gB2 (f_Node_begins a83 r82 w79) fun r85 w84 => gB1 (gPut w84 a0 18 3 (ga r85)) fun w86 => k10 w86) (fun a73 => k10 w6)
set_option maxHeartbeats 4000000 in
set_option maxRecDepth 100000 in
theorem k_X18_looks {D : va_G} {dA : Nat → ClassId} {A : Nat → Prop} {K : Nat → Nat} {l : Launch} {h : Nat} {rec : Nat → gw → Option (Option Nat × gw)} {B : Nat} (hrec : ∀ {h : Nat}, B ≤ h → ∀ {a : Nat} {w0 ww : gw} {rr : Option Nat}, rec a  w0 = some (rr, ww) → gDp_Run_looks D dA A K l h a [] (some (ga rr)) w0 ww) (hb : 15 ≤ B) (hh : B + 1 ≤ h) {a0 : Nat} {w0 ww : gw} {rr : Option Nat} (hf : f_X18_looks rec a0 w0 = some (rr, ww)) : gMet D dA A K l yX18_looks (ws_ yX18_looks cX18_looks 2 (some (.object "WorkflowEngine$Outcome"))) h [(ga (some a0))] (some (ga rr)) w0 ww := by
  refine j_start (own := RX18) (by decide +kernel) rfl (Nat.le_of_ble_eq_true rfl) ?_
  intro p e R s m args below meth c C hr hin hw
  unfold f_X18_looks at hf
  show gJ D dA A K p l e R s m args below meth c (gEnd D dA A K below args s w0 (some (ga rr)) ww) 2 0 [(0, (ga (some a0)))] [] w0
  refine j_aload_n C dX18_looks_0 rfl ?_
  replace hf := gB1_e hf
  obtain ⟨x1, ex1, hf⟩ := hf
  refine j_get C fl_X18_28_18 dX18_looks_1 (gI_F ex1) ?_
  refine j_aload_n C dX18_looks_4 rfl ?_
  replace hf := gB1_e hf
  obtain ⟨r2, er2, hf⟩ := hf
  refine j_get C fl_X18_24_18 dX18_looks_5 (gR_F er2) ?_
  replace hf := gB1_e hf
  obtain ⟨a3, ea3, hf⟩ := hf
  subst ea3
  replace hf := gB1_e hf
  obtain ⟨r4, er4, hf⟩ := hf
  refine j_get C fl_X18_32_5 dX18_looks_8 (gR_F er4) ?_
  replace hf := gB1_e hf
  obtain ⟨a5, ea5, hf⟩ := hf
  subst ea5
  replace hf := gB1_e hf
  obtain ⟨_, eo, hf⟩ := hf
  replace hf := gB2_e hf
  obtain ⟨x7, w6, ew6, hf⟩ := hf
  refine j_callV (As := []) (rest := [(gi x1)]) (v := (some (gi x7))) C (by omega) (k_J2_size (by omega) ew6) (gOb_e eo) rfl q961 q560 q561 q99 q562 ⟨rfl, hd_J2_size⟩ (by decide) rfl (Nat.le_of_ble_eq_true rfl) dX18_looks_11 ?_
  refine j_icmp_ge (tgt := 107) C dX18_looks_14 (by decide) (fun c8 => ?_) (fun c8 => ?_)
  · replace hf := gIf_t hf c8
    refine j_gets (i := 3) C C.2.2.2.2.2.1.2.2.2.2.1.2.1 q1276 dX18_looks_107 ?_
    obtain ⟨rfl, rfl⟩ := gSome hf
    exact j_aret C hr (Or.inl ⟨_, rfl⟩) hw dX18_looks_110
  · replace hf := gIf_f hf c8
    refine j_aload_n C dX18_looks_17 rfl ?_
    replace hf := gB1_e hf
    obtain ⟨r9, er9, hf⟩ := hf
    refine j_get C fl_X18_44_18 dX18_looks_18 (gR_F er9) ?_
    replace hf := gBd_x hf
    obtain ⟨k10, ek10, hf⟩ := hf
    have jk10 : ∀ (w11 : gw), k10 w11 = some (rr, ww) → gJ D dA A K p l e R s m args below meth c (gEnd D dA A K below args s w0 (some (ga rr)) ww) 2 52 [(0, (ga (some a0)))] [] w11 := by
      intro w11 hf
      rw [ek10] at hf
      dsimp only at hf
      refine j_aload_n C dX18_looks_52 rfl ?_
      replace hf := gB1_e hf
      obtain ⟨r12, er12, hf⟩ := hf
      refine j_get C fl_X18_44_18 dX18_looks_53 (gR_F er12) ?_
      replace hf := gB1_e hf
      obtain ⟨a13, ea13, hf⟩ := hf
      subst ea13
      replace hf := gB2_e hf
      obtain ⟨r15, w14, ew14, hf⟩ := hf
      refine j_dp_Run_looks (As := []) (rest := []) (v := (some (ga r15))) C (by omega) (hrec (by omega) ew14) q1112 rfl (Nat.le_of_ble_eq_true rfl) dX18_looks_56 ?_
      refine j_astore_n (lv' := [(1, (ga r15)), (0, (ga (some a0)))]) C dX18_looks_59 (by decide) rfl ?_
      refine j_aload_n C dX18_looks_60 rfl ?_
      replace hf := gB1_e hf
      obtain ⟨a16, ea16, hf⟩ := hf
      subst ea16
      replace hf := gB1_e hf
      obtain ⟨x18, ew17, hf⟩ := hf
      refine j_isOver (rest := []) C (by omega) ew17 q1274 (Nat.le_of_ble_eq_true rfl) dX18_looks_61 ?_
      refine j_if_ne (tgt := 69) C dX18_looks_64 (by decide) (fun c19 => ?_) (fun c19 => ?_)
      · replace hf := gIf_f hf c19
        refine j_aload_n C dX18_looks_69 rfl ?_
        replace hf := gB1_e hf
        obtain ⟨r20, er20, hf⟩ := hf
        refine j_get C fl_X18_44_18 dX18_looks_70 (gR_F er20) ?_
        refine j_aload_n C dX18_looks_73 rfl ?_
        replace hf := gB1_e hf
        obtain ⟨r21, er21, hf⟩ := hf
        refine j_get C fl_X18_20_18 dX18_looks_74 (gR_F er21) ?_
        replace hf := gB1_e hf
        obtain ⟨a22, ea22, hf⟩ := hf
        subst ea22
        replace hf := gB2_e hf
        obtain ⟨_, w23, ew23, hf⟩ := hf
        refine j_dp_Run_gathers (As := [(ga r21)]) (rest := []) (v := none) C (by omega) (kd_Run_gathers 12 (by omega) ew23) q1215 rfl (Nat.le_of_ble_eq_true rfl) dX18_looks_77 ?_
        refine j_aload_n C dX18_looks_80 rfl ?_
        refine j_null C dX18_looks_81 ?_
        replace hf := gB1_e hf
        obtain ⟨w24, ew24, hf⟩ := hf
        refine j_put C fl_X18_44_18 tb_18 ew24 fk_18_3 (ft_LWorkflowEngine_Run_ none) dX18_looks_82 ?_
        refine j_aload_n C dX18_looks_85 rfl ?_
        refine j_dup C dX18_looks_86 ?_
        replace hf := gB1_e hf
        obtain ⟨x25, ex25, hf⟩ := hf
        refine j_get C fl_X18_28_18 dX18_looks_87 (gI_F ex25) ?_
        refine j_iconst (v := (nI 1)) C dX18_looks_90 (by decide) ?_
        refine j_iadd C dX18_looks_91 ?_
        replace hf := gB1_e hf
        obtain ⟨w26, ew26, hf⟩ := hf
        refine j_put C fl_X18_28_18 tb_18 ew26 fk_18_4 (fit_I (x25 + (nI 1))) dX18_looks_92 ?_
        refine j_aload_n C dX18_looks_95 rfl ?_
        refine j_gets (i := 4) C C.2.2.2.2.2.1.2.2.2.2.1.2.2.1 q1275 dX18_looks_96 ?_
        refine j_acmp_ne (tgt := 104) C dX18_looks_99 (by decide) (fun c27 => ?_) (fun c27 => ?_)
        · replace hf := gIf_f hf c27
          refine j_goto (tgt := 0) C dX18_looks_104 (by decide) ?_
          refine j_sub (lv' := [(0, (ga (some a0)))]) (gL_cons rfl (gL_nil)) ?_
          refine gL0_e (fun (w28 : gw) => gJ D dA A K p l e R s m args below meth c (gEnd D dA A K below args s w0 (some (ga rr)) ww) 2 0 [(0, (ga (some a0)))] [] w28) ?_ _ _ hf
          intro k29 jk29 w28 hf
          refine j_aload_n C dX18_looks_0 rfl ?_
          replace hf := gB1_e hf
          obtain ⟨x30, ex30, hf⟩ := hf
          refine j_get C fl_X18_28_18 dX18_looks_1 (gI_F ex30) ?_
          refine j_aload_n C dX18_looks_4 rfl ?_
          replace hf := gB1_e hf
          obtain ⟨r31, er31, hf⟩ := hf
          refine j_get C fl_X18_24_18 dX18_looks_5 (gR_F er31) ?_
          replace hf := gB1_e hf
          obtain ⟨a32, ea32, hf⟩ := hf
          subst ea32
          replace hf := gB1_e hf
          obtain ⟨r33, er33, hf⟩ := hf
          refine j_get C fl_X18_32_5 dX18_looks_8 (gR_F er33) ?_
          replace hf := gB1_e hf
          obtain ⟨a34, ea34, hf⟩ := hf
          subst ea34
          replace hf := gB1_e hf
          obtain ⟨_, eo, hf⟩ := hf
          replace hf := gB2_e hf
          obtain ⟨x36, w35, ew35, hf⟩ := hf
          refine j_callV (As := []) (rest := [(gi x30)]) (v := (some (gi x36))) C (by omega) (k_J2_size (by omega) ew35) (gOb_e eo) rfl q961 q560 q561 q99 q562 ⟨rfl, hd_J2_size⟩ (by decide) rfl (Nat.le_of_ble_eq_true rfl) dX18_looks_11 ?_
          refine j_icmp_ge (tgt := 107) C dX18_looks_14 (by decide) (fun c37 => ?_) (fun c37 => ?_)
          · replace hf := gIf_t hf c37
            refine j_gets (i := 3) C C.2.2.2.2.2.1.2.2.2.2.1.2.1 q1276 dX18_looks_107 ?_
            obtain ⟨rfl, rfl⟩ := gSome hf
            exact j_aret C hr (Or.inl ⟨_, rfl⟩) hw dX18_looks_110
          · replace hf := gIf_f hf c37
            refine j_aload_n C dX18_looks_17 rfl ?_
            replace hf := gB1_e hf
            obtain ⟨r38, er38, hf⟩ := hf
            refine j_get C fl_X18_44_18 dX18_looks_18 (gR_F er38) ?_
            replace hf := gBd_x hf
            obtain ⟨k39, ek39, hf⟩ := hf
            have jk39 : ∀ (w40 : gw), k39 w40 = some (rr, ww) → gJ D dA A K p l e R s m args below meth c (gEnd D dA A K below args s w0 (some (ga rr)) ww) 2 52 [(0, (ga (some a0)))] [] w40 := by
              intro w40 hf
              rw [ek39] at hf
              dsimp only at hf
              refine j_aload_n C dX18_looks_52 rfl ?_
              replace hf := gB1_e hf
              obtain ⟨r41, er41, hf⟩ := hf
              refine j_get C fl_X18_44_18 dX18_looks_53 (gR_F er41) ?_
              replace hf := gB1_e hf
              obtain ⟨a42, ea42, hf⟩ := hf
              subst ea42
              replace hf := gB2_e hf
              obtain ⟨r44, w43, ew43, hf⟩ := hf
              refine j_dp_Run_looks (As := []) (rest := []) (v := (some (ga r44))) C (by omega) (hrec (by omega) ew43) q1112 rfl (Nat.le_of_ble_eq_true rfl) dX18_looks_56 ?_
              refine j_astore_n (lv' := [(1, (ga r44)), (0, (ga (some a0)))]) C dX18_looks_59 (by decide) rfl ?_
              refine j_aload_n C dX18_looks_60 rfl ?_
              replace hf := gB1_e hf
              obtain ⟨a45, ea45, hf⟩ := hf
              subst ea45
              replace hf := gB1_e hf
              obtain ⟨x47, ew46, hf⟩ := hf
              refine j_isOver (rest := []) C (by omega) ew46 q1274 (Nat.le_of_ble_eq_true rfl) dX18_looks_61 ?_
              refine j_if_ne (tgt := 69) C dX18_looks_64 (by decide) (fun c48 => ?_) (fun c48 => ?_)
              · replace hf := gIf_f hf c48
                refine j_aload_n C dX18_looks_69 rfl ?_
                replace hf := gB1_e hf
                obtain ⟨r49, er49, hf⟩ := hf
                refine j_get C fl_X18_44_18 dX18_looks_70 (gR_F er49) ?_
                refine j_aload_n C dX18_looks_73 rfl ?_
                replace hf := gB1_e hf
                obtain ⟨r50, er50, hf⟩ := hf
                refine j_get C fl_X18_20_18 dX18_looks_74 (gR_F er50) ?_
                replace hf := gB1_e hf
                obtain ⟨a51, ea51, hf⟩ := hf
                subst ea51
                replace hf := gB2_e hf
                obtain ⟨_, w52, ew52, hf⟩ := hf
                refine j_dp_Run_gathers (As := [(ga r50)]) (rest := []) (v := none) C (by omega) (kd_Run_gathers 12 (by omega) ew52) q1215 rfl (Nat.le_of_ble_eq_true rfl) dX18_looks_77 ?_
                refine j_aload_n C dX18_looks_80 rfl ?_
                refine j_null C dX18_looks_81 ?_
                replace hf := gB1_e hf
                obtain ⟨w53, ew53, hf⟩ := hf
                refine j_put C fl_X18_44_18 tb_18 ew53 fk_18_3 (ft_LWorkflowEngine_Run_ none) dX18_looks_82 ?_
                refine j_aload_n C dX18_looks_85 rfl ?_
                refine j_dup C dX18_looks_86 ?_
                replace hf := gB1_e hf
                obtain ⟨x54, ex54, hf⟩ := hf
                refine j_get C fl_X18_28_18 dX18_looks_87 (gI_F ex54) ?_
                refine j_iconst (v := (nI 1)) C dX18_looks_90 (by decide) ?_
                refine j_iadd C dX18_looks_91 ?_
                replace hf := gB1_e hf
                obtain ⟨w55, ew55, hf⟩ := hf
                refine j_put C fl_X18_28_18 tb_18 ew55 fk_18_4 (fit_I (x54 + (nI 1))) dX18_looks_92 ?_
                refine j_aload_n C dX18_looks_95 rfl ?_
                refine j_gets (i := 4) C C.2.2.2.2.2.1.2.2.2.2.1.2.2.1 q1275 dX18_looks_96 ?_
                refine j_acmp_ne (tgt := 104) C dX18_looks_99 (by decide) (fun c56 => ?_) (fun c56 => ?_)
                · replace hf := gIf_f hf c56
                  refine j_goto (tgt := 0) C dX18_looks_104 (by decide) ?_
                  refine j_sub (lv' := [(0, (ga (some a0)))]) (gL_cons rfl (gL_nil)) ?_
                  exact jk29 _ hf
                · replace hf := gIf_t hf c56
                  refine j_aload_n C dX18_looks_102 rfl ?_
                  obtain ⟨rfl, rfl⟩ := gSome hf
                  exact j_aret C hr (Or.inl ⟨_, rfl⟩) hw dX18_looks_103
              · replace hf := gIf_t hf c48
                refine j_aload_n C dX18_looks_67 rfl ?_
                obtain ⟨rfl, rfl⟩ := gSome hf
                exact j_aret C hr (Or.inl ⟨_, rfl⟩) hw dX18_looks_68
            clear ek39
            refine j_ifnonnull (tgt := 52) C dX18_looks_21 (by decide) (fun a58 c57 => ?_) (fun c57 => ?_)
            · subst c57
              replace hf := gNl_s hf
              exact jk39 _ hf
            · subst c57
              replace hf := gNl_n hf
              refine j_aload_n C dX18_looks_24 rfl ?_
              refine j_aload_n C dX18_looks_25 rfl ?_
              replace hf := gB1_e hf
              obtain ⟨r59, er59, hf⟩ := hf
              refine j_get C fl_X18_24_18 dX18_looks_26 (gR_F er59) ?_
              replace hf := gB1_e hf
              obtain ⟨a60, ea60, hf⟩ := hf
              subst ea60
              replace hf := gB1_e hf
              obtain ⟨r61, er61, hf⟩ := hf
              refine j_get C fl_X18_32_5 dX18_looks_29 (gR_F er61) ?_
              refine j_aload_n C dX18_looks_32 rfl ?_
              replace hf := gB1_e hf
              obtain ⟨x62, ex62, hf⟩ := hf
              refine j_get C fl_X18_28_18 dX18_looks_33 (gI_F ex62) ?_
              replace hf := gB1_e hf
              obtain ⟨a63, ea63, hf⟩ := hf
              subst ea63
              replace hf := gB1_e hf
              obtain ⟨_, eo, hf⟩ := hf
              replace hf := gB2_e hf
              obtain ⟨r65, w64, ew64, hf⟩ := hf
              refine j_callV (As := [(gi x62)]) (rest := [(ga (some a0))]) (v := (some (ga r65))) C (by omega) (k_J2_get (by omega) ew64) (gOb_e eo) rfl q962 q637 q638 q99 q639 ⟨rfl, hd_J2_get⟩ (by decide) rfl (Nat.le_of_ble_eq_true rfl) dX18_looks_36 ?_
              replace hf := gB1_e hf
              obtain ⟨r66, er66, hf⟩ := hf
              refine j_castR C q963 ca_WorkflowEngine_Node er66 dX18_looks_39 ?_
              refine j_aload_n C dX18_looks_42 rfl ?_
              replace hf := gB1_e hf
              obtain ⟨r67, er67, hf⟩ := hf
              refine j_get C fl_X18_54_18 dX18_looks_43 (gR_F er67) ?_
              replace hf := gB1_e hf
              obtain ⟨a68, ea68, hf⟩ := hf
              subst ea68
              replace hf := gB2_e hf
              obtain ⟨r70, w69, ew69, hf⟩ := hf
              refine j_dp_Node_begins (As := [(ga r67)]) (rest := [(ga (some a0))]) (v := (some (ga r70))) C (by omega) (kd_Node_begins (by omega) ew69) q964 rfl (Nat.le_of_ble_eq_true rfl) dX18_looks_46 ?_
              replace hf := gB1_e hf
              obtain ⟨w71, ew71, hf⟩ := hf
              refine j_put C fl_X18_44_18 tb_18 ew71 fk_18_3 (ft_LWorkflowEngine_Run_ r70) dX18_looks_49 ?_
              exact jk39 _ hf
        · replace hf := gIf_t hf c27
          refine j_aload_n C dX18_looks_102 rfl ?_
          obtain ⟨rfl, rfl⟩ := gSome hf
          exact j_aret C hr (Or.inl ⟨_, rfl⟩) hw dX18_looks_103
      · replace hf := gIf_t hf c19
        refine j_aload_n C dX18_looks_67 rfl ?_
        obtain ⟨rfl, rfl⟩ := gSome hf
        exact j_aret C hr (Or.inl ⟨_, rfl⟩) hw dX18_looks_68
    clear ek10
    refine j_ifnonnull (tgt := 52) C dX18_looks_21 (by decide) (fun a73 c72 => ?_) (fun c72 => ?_)
    · subst c72
      replace hf := gNl_s hf
      exact jk10 _ hf
    · subst c72
      replace hf := gNl_n hf
      refine j_aload_n C dX18_looks_24 rfl ?_
      refine j_aload_n C dX18_looks_25 rfl ?_
      replace hf := gB1_e hf
      obtain ⟨r74, er74, hf⟩ := hf
      refine j_get C fl_X18_24_18 dX18_looks_26 (gR_F er74) ?_
      replace hf := gB1_e hf
      obtain ⟨a75, ea75, hf⟩ := hf
      subst ea75
      replace hf := gB1_e hf
      obtain ⟨r76, er76, hf⟩ := hf
      refine j_get C fl_X18_32_5 dX18_looks_29 (gR_F er76) ?_
      refine j_aload_n C dX18_looks_32 rfl ?_
      replace hf := gB1_e hf
      obtain ⟨x77, ex77, hf⟩ := hf
      refine j_get C fl_X18_28_18 dX18_looks_33 (gI_F ex77) ?_
      replace hf := gB1_e hf
      obtain ⟨a78, ea78, hf⟩ := hf
      subst ea78
      replace hf := gB1_e hf
      obtain ⟨_, eo, hf⟩ := hf
      replace hf := gB2_e hf
      obtain ⟨r80, w79, ew79, hf⟩ := hf
      refine j_callV (As := [(gi x77)]) (rest := [(ga (some a0))]) (v := (some (ga r80))) C (by omega) (k_J2_get (by omega) ew79) (gOb_e eo) rfl q962 q637 q638 q99 q639 ⟨rfl, hd_J2_get⟩ (by decide) rfl (Nat.le_of_ble_eq_true rfl) dX18_looks_36 ?_
      replace hf := gB1_e hf
      obtain ⟨r81, er81, hf⟩ := hf
      refine j_castR C q963 ca_WorkflowEngine_Node er81 dX18_looks_39 ?_
      refine j_aload_n C dX18_looks_42 rfl ?_
      replace hf := gB1_e hf
      obtain ⟨r82, er82, hf⟩ := hf
      refine j_get C fl_X18_54_18 dX18_looks_43 (gR_F er82) ?_
      replace hf := gB1_e hf
      obtain ⟨a83, ea83, hf⟩ := hf
      subst ea83
      replace hf := gB2_e hf
      obtain ⟨r85, w84, ew84, hf⟩ := hf
      refine j_dp_Node_begins (As := [(ga r82)]) (rest := [(ga (some a0))]) (v := (some (ga r85))) C (by omega) (kd_Node_begins (by omega) ew84) q964 rfl (Nat.le_of_ble_eq_true rfl) dX18_looks_46 ?_
      replace hf := gB1_e hf
      obtain ⟨w86, ew86, hf⟩ := hf
      refine j_put C fl_X18_44_18 tb_18 ew86 fk_18_3 (ft_LWorkflowEngine_Run_ r85) dX18_looks_49 ?_
      exact jk10 _ hf
def dkwX22_looksAtAll_4 : List UInt8 := [167, 255, 164, 177]
abbrev dktX22_looksAtAll_4 : List UInt8 := dkwX22_looksAtAll_4 ++ []
def dkwX22_looksAtAll_3 : List UInt8 := [182, 0, 63, 154, 0, 18, 42, 180, 0, 36, 27, 42, 180, 0, 31, 27, 50, 182, 0, 67, 83, 132, 1, 1]
abbrev dktX22_looksAtAll_3 : List UInt8 := dkwX22_looksAtAll_3 ++ dktX22_looksAtAll_4
def dkwX22_looksAtAll_2 : List UInt8 := [192, 0, 54, 183, 0, 56, 83, 42, 180, 0, 36, 27, 178, 0, 59, 83, 42, 180, 0, 36, 27, 50]
abbrev dktX22_looksAtAll_2 : List UInt8 := dkwX22_looksAtAll_2 ++ dktX22_looksAtAll_3
def dkwX22_looksAtAll_1 : List UInt8 := [27, 187, 0, 44, 89, 42, 180, 0, 3, 42, 180, 0, 46, 42, 180, 0, 15, 180, 0, 19, 27, 182, 0, 50]
abbrev dktX22_looksAtAll_1 : List UInt8 := dkwX22_looksAtAll_1 ++ dktX22_looksAtAll_2
def dkwX22_looksAtAll_0 : List UInt8 := [3, 60, 27, 42, 180, 0, 31, 190, 162, 0, 89, 42, 180, 0, 36, 27, 50, 199, 0, 47, 42, 180, 0, 31]
abbrev dktX22_looksAtAll_0 : List UInt8 := dkwX22_looksAtAll_0 ++ dktX22_looksAtAll_1
theorem dksX22_looksAtAll_0 : cX22_looksAtAll.data.toList.drop 0 = dktX22_looksAtAll_0 := by decide +kernel
theorem dksX22_looksAtAll_1 : cX22_looksAtAll.data.toList.drop 24 = dktX22_looksAtAll_1 := dk_seg dksX22_looksAtAll_0 24 rfl rfl
theorem dksX22_looksAtAll_2 : cX22_looksAtAll.data.toList.drop 48 = dktX22_looksAtAll_2 := dk_seg dksX22_looksAtAll_1 24 rfl rfl
theorem dksX22_looksAtAll_3 : cX22_looksAtAll.data.toList.drop 70 = dktX22_looksAtAll_3 := dk_seg dksX22_looksAtAll_2 22 rfl rfl
theorem dksX22_looksAtAll_4 : cX22_looksAtAll.data.toList.drop 94 = dktX22_looksAtAll_4 := dk_seg dksX22_looksAtAll_3 24 rfl rfl
theorem dX22_looksAtAll_0 : decode cX22_looksAtAll 0 = .ok (.iconst 0, 1) := dk_3 (dk_at dksX22_looksAtAll_0 0 rfl rfl)
theorem dX22_looksAtAll_1 : decode cX22_looksAtAll 1 = .ok (.istore_n 1, 1) := dk_60 (dk_at dksX22_looksAtAll_0 1 rfl rfl)
theorem dX22_looksAtAll_2 : decode cX22_looksAtAll 2 = .ok (.iload_n 1, 1) := dk_27 (dk_at dksX22_looksAtAll_0 2 rfl rfl)
theorem dX22_looksAtAll_3 : decode cX22_looksAtAll 3 = .ok (.aload_n 0, 1) := dk_42 (dk_at dksX22_looksAtAll_0 3 rfl rfl)
theorem dX22_looksAtAll_4 : decode cX22_looksAtAll 4 = .ok (.getfield 31, 3) := dk_180 0 31 (dk_at dksX22_looksAtAll_0 4 rfl rfl)
theorem dX22_looksAtAll_7 : decode cX22_looksAtAll 7 = .ok (.arraylength, 1) := dk_190 (dk_at dksX22_looksAtAll_0 7 rfl rfl)
theorem dX22_looksAtAll_8 : decode cX22_looksAtAll 8 = .ok (.if_icmp .ge 89, 3) := dk_162 0 89 (dk_at dksX22_looksAtAll_0 8 rfl rfl)
theorem dX22_looksAtAll_11 : decode cX22_looksAtAll 11 = .ok (.aload_n 0, 1) := dk_42 (dk_at dksX22_looksAtAll_0 11 rfl rfl)
theorem dX22_looksAtAll_12 : decode cX22_looksAtAll 12 = .ok (.getfield 36, 3) := dk_180 0 36 (dk_at dksX22_looksAtAll_0 12 rfl rfl)
theorem dX22_looksAtAll_15 : decode cX22_looksAtAll 15 = .ok (.iload_n 1, 1) := dk_27 (dk_at dksX22_looksAtAll_0 15 rfl rfl)
theorem dX22_looksAtAll_16 : decode cX22_looksAtAll 16 = .ok (.aaload, 1) := dk_50 (dk_at dksX22_looksAtAll_0 16 rfl rfl)
theorem dX22_looksAtAll_17 : decode cX22_looksAtAll 17 = .ok (.ifnonnull 47, 3) := dk_199 0 47 (dk_at dksX22_looksAtAll_0 17 rfl rfl)
theorem dX22_looksAtAll_20 : decode cX22_looksAtAll 20 = .ok (.aload_n 0, 1) := dk_42 (dk_at dksX22_looksAtAll_0 20 rfl rfl)
theorem dX22_looksAtAll_21 : decode cX22_looksAtAll 21 = .ok (.getfield 31, 3) := dk_180 0 31 (dk_at dksX22_looksAtAll_0 21 rfl rfl)
theorem dX22_looksAtAll_24 : decode cX22_looksAtAll 24 = .ok (.iload_n 1, 1) := dk_27 (dk_at dksX22_looksAtAll_1 0 rfl rfl)
theorem dX22_looksAtAll_25 : decode cX22_looksAtAll 25 = .ok (.new 44, 3) := dk_187 0 44 (dk_at dksX22_looksAtAll_1 1 rfl rfl)
theorem dX22_looksAtAll_28 : decode cX22_looksAtAll 28 = .ok (.dup, 1) := dk_89 (dk_at dksX22_looksAtAll_1 4 rfl rfl)
theorem dX22_looksAtAll_29 : decode cX22_looksAtAll 29 = .ok (.aload_n 0, 1) := dk_42 (dk_at dksX22_looksAtAll_1 5 rfl rfl)
theorem dX22_looksAtAll_30 : decode cX22_looksAtAll 30 = .ok (.getfield 3, 3) := dk_180 0 3 (dk_at dksX22_looksAtAll_1 6 rfl rfl)
theorem dX22_looksAtAll_33 : decode cX22_looksAtAll 33 = .ok (.aload_n 0, 1) := dk_42 (dk_at dksX22_looksAtAll_1 9 rfl rfl)
theorem dX22_looksAtAll_34 : decode cX22_looksAtAll 34 = .ok (.getfield 46, 3) := dk_180 0 46 (dk_at dksX22_looksAtAll_1 10 rfl rfl)
theorem dX22_looksAtAll_37 : decode cX22_looksAtAll 37 = .ok (.aload_n 0, 1) := dk_42 (dk_at dksX22_looksAtAll_1 13 rfl rfl)
theorem dX22_looksAtAll_38 : decode cX22_looksAtAll 38 = .ok (.getfield 15, 3) := dk_180 0 15 (dk_at dksX22_looksAtAll_1 14 rfl rfl)
theorem dX22_looksAtAll_41 : decode cX22_looksAtAll 41 = .ok (.getfield 19, 3) := dk_180 0 19 (dk_at dksX22_looksAtAll_1 17 rfl rfl)
theorem dX22_looksAtAll_44 : decode cX22_looksAtAll 44 = .ok (.iload_n 1, 1) := dk_27 (dk_at dksX22_looksAtAll_1 20 rfl rfl)
theorem dX22_looksAtAll_45 : decode cX22_looksAtAll 45 = .ok (.invokevirtual 50, 3) := dk_182 0 50 (dk_at dksX22_looksAtAll_1 21 rfl rfl)
theorem dX22_looksAtAll_48 : decode cX22_looksAtAll 48 = .ok (.checkcast 54, 3) := dk_192 0 54 (dk_at dksX22_looksAtAll_2 0 rfl rfl)
theorem dX22_looksAtAll_51 : decode cX22_looksAtAll 51 = .ok (.invokespecial 56, 3) := dk_183 0 56 (dk_at dksX22_looksAtAll_2 3 rfl rfl)
theorem dX22_looksAtAll_54 : decode cX22_looksAtAll 54 = .ok (.aastore, 1) := dk_83 (dk_at dksX22_looksAtAll_2 6 rfl rfl)
theorem dX22_looksAtAll_55 : decode cX22_looksAtAll 55 = .ok (.aload_n 0, 1) := dk_42 (dk_at dksX22_looksAtAll_2 7 rfl rfl)
theorem dX22_looksAtAll_56 : decode cX22_looksAtAll 56 = .ok (.getfield 36, 3) := dk_180 0 36 (dk_at dksX22_looksAtAll_2 8 rfl rfl)
theorem dX22_looksAtAll_59 : decode cX22_looksAtAll 59 = .ok (.iload_n 1, 1) := dk_27 (dk_at dksX22_looksAtAll_2 11 rfl rfl)
theorem dX22_looksAtAll_60 : decode cX22_looksAtAll 60 = .ok (.getstatic 59, 3) := dk_178 0 59 (dk_at dksX22_looksAtAll_2 12 rfl rfl)
theorem dX22_looksAtAll_63 : decode cX22_looksAtAll 63 = .ok (.aastore, 1) := dk_83 (dk_at dksX22_looksAtAll_2 15 rfl rfl)
theorem dX22_looksAtAll_64 : decode cX22_looksAtAll 64 = .ok (.aload_n 0, 1) := dk_42 (dk_at dksX22_looksAtAll_2 16 rfl rfl)
theorem dX22_looksAtAll_65 : decode cX22_looksAtAll 65 = .ok (.getfield 36, 3) := dk_180 0 36 (dk_at dksX22_looksAtAll_2 17 rfl rfl)
theorem dX22_looksAtAll_68 : decode cX22_looksAtAll 68 = .ok (.iload_n 1, 1) := dk_27 (dk_at dksX22_looksAtAll_2 20 rfl rfl)
theorem dX22_looksAtAll_69 : decode cX22_looksAtAll 69 = .ok (.aaload, 1) := dk_50 (dk_at dksX22_looksAtAll_2 21 rfl rfl)
theorem dX22_looksAtAll_70 : decode cX22_looksAtAll 70 = .ok (.invokevirtual 63, 3) := dk_182 0 63 (dk_at dksX22_looksAtAll_3 0 rfl rfl)
theorem dX22_looksAtAll_73 : decode cX22_looksAtAll 73 = .ok (.ifCond .ne 18, 3) := dk_154 0 18 (dk_at dksX22_looksAtAll_3 3 rfl rfl)
theorem dX22_looksAtAll_76 : decode cX22_looksAtAll 76 = .ok (.aload_n 0, 1) := dk_42 (dk_at dksX22_looksAtAll_3 6 rfl rfl)
theorem dX22_looksAtAll_77 : decode cX22_looksAtAll 77 = .ok (.getfield 36, 3) := dk_180 0 36 (dk_at dksX22_looksAtAll_3 7 rfl rfl)
theorem dX22_looksAtAll_80 : decode cX22_looksAtAll 80 = .ok (.iload_n 1, 1) := dk_27 (dk_at dksX22_looksAtAll_3 10 rfl rfl)
theorem dX22_looksAtAll_81 : decode cX22_looksAtAll 81 = .ok (.aload_n 0, 1) := dk_42 (dk_at dksX22_looksAtAll_3 11 rfl rfl)
theorem dX22_looksAtAll_82 : decode cX22_looksAtAll 82 = .ok (.getfield 31, 3) := dk_180 0 31 (dk_at dksX22_looksAtAll_3 12 rfl rfl)
theorem dX22_looksAtAll_85 : decode cX22_looksAtAll 85 = .ok (.iload_n 1, 1) := dk_27 (dk_at dksX22_looksAtAll_3 15 rfl rfl)
theorem dX22_looksAtAll_86 : decode cX22_looksAtAll 86 = .ok (.aaload, 1) := dk_50 (dk_at dksX22_looksAtAll_3 16 rfl rfl)
theorem dX22_looksAtAll_87 : decode cX22_looksAtAll 87 = .ok (.invokevirtual 67, 3) := dk_182 0 67 (dk_at dksX22_looksAtAll_3 17 rfl rfl)
theorem dX22_looksAtAll_90 : decode cX22_looksAtAll 90 = .ok (.aastore, 1) := dk_83 (dk_at dksX22_looksAtAll_3 20 rfl rfl)
theorem dX22_looksAtAll_91 : decode cX22_looksAtAll 91 = .ok (.iinc 1 1, 3) := dk_132 1 1 (dk_at dksX22_looksAtAll_3 21 rfl rfl)
theorem dX22_looksAtAll_94 : decode cX22_looksAtAll 94 = .ok (.goto (-92), 3) := dk_167 255 164 (dk_at dksX22_looksAtAll_4 0 rfl rfl)
theorem dX22_looksAtAll_97 : decode cX22_looksAtAll 97 = .ok (.return_, 1) := dk_177 (dk_at dksX22_looksAtAll_4 3 rfl rfl)
theorem nl_X22_44 : gNL RX22 44 18 := ⟨RX18, TX18, 7, 7, tyX18, _, rfl, rfl, in_X18, tyX18_ok, q1119, q874, q120, fun j hj => by rcases (show j = 0 ∨ j = 1 ∨ j = 2 ∨ j = 3 ∨ j = 4 ∨ j = 5 ∨ j = 6 by omega) with rfl | rfl | rfl | rfl | rfl | rfl | rfl <;> rfl⟩
def f_X22_looksAtAll (rec : Nat → gw → Option (Option Nat × gw)) (a0 : Nat) (w0 : gw) : Option (Unit × gw) := gL1 (fun k3 (x2 : Int32) (w1 : gw) => gB1 (gR w1 a0 22 3) fun r4 => gB1 r4 fun a5 => gB1 (gLen w1 a5 5) fun x6 => if x6 ≤ x2 then some ((), w1) else gB1 (gR w1 a0 22 4) fun r8 => gB1 r8 fun a9 => gB1 (gLdR w1 a9 6 x2) fun r10 => gBd (fun (x13 : Int32) (w12 : gw) => gB1 (gR w12 a0 22 4) fun r14 => gB1 r14 fun a15 => gB1 (gLdR w12 a15 6 x13) fun r16 => gB1 r16 fun a17 => gB1 (gOver w12 a17) fun x19 => gBd (fun (x22 : Int32) (w21 : gw) => gBd (x22 + (nI 1)) fun x23 => k3 x23 w21) fun k20 => if x19 = 0 then gB1 (gR w12 a0 22 4) fun r25 => gB1 (gR w12 a0 22 3) fun r26 => gB1 r26 fun a27 => gB1 (gLdR w12 a27 5 x13) fun r28 => gB1 r28 fun a29 => gB2 (rec a29  w12) fun r31 w30 => gB1 r25 fun a32 => gB1 (gStR w30 a32 6 x13 r31) fun w33 => k20 x13 w33 else k20 x13 w12) fun k11 => gNl r10 (gB1 (gR w1 a0 22 3) fun r36 => gB2 (gNew w1 18) fun a37 w38 => gB1 (gR w38 a0 22 6) fun r39 => gB1 (gR w38 a0 22 0) fun r40 => gB1 (gR w38 a0 22 2) fun r41 => gB1 r41 fun a42 => gB1 (gR w38 a42 14 1) fun r43 => gB1 r43 fun a44 => gB1 (gOb w38 a44 8) fun _ => gB2 (f_J2_get a44 x2 w38) fun r46 w45 => gB1 (gCk w45 [5] r46) fun r47 => gB2 (f_X18_init a37 r39 r40 r47 w45) fun _ w48 => gB1 r36 fun a49 => gB1 (gStR w48 a49 5 x2 (some a37)) fun w50 => gB1 (gR w50 a0 22 4) fun r51 => gB1 r51 fun a52 => gB1 (gStR w50 a52 6 x2 (some (w50.2.2.2 2))) fun w53 => k11 x2 w53) (fun a35 => k11 x2 w1)) 20000 (nI 0) w0
set_option maxHeartbeats 4000000 in
set_option maxRecDepth 100000 in
theorem k_X22_looksAtAll {D : va_G} {dA : Nat → ClassId} {A : Nat → Prop} {K : Nat → Nat} {l : Launch} {h : Nat} {rec : Nat → gw → Option (Option Nat × gw)} {B : Nat} (hrec : ∀ {h : Nat}, B ≤ h → ∀ {a : Nat} {w0 ww : gw} {rr : Option Nat}, rec a  w0 = some (rr, ww) → gDp_Run_looks D dA A K l h a [] (some (ga rr)) w0 ww) (hb : 15 ≤ B) (hh : B + 1 ≤ h) {a0 : Nat} {w0 ww : gw} {rr : Unit} (hf : f_X22_looksAtAll rec a0 w0 = some (rr, ww)) : gMet D dA A K l yX22_looksAtAll (ws_ yX22_looksAtAll cX22_looksAtAll 2 none) h [(ga (some a0))] none w0 ww := by
  refine j_start (own := RX22) (by decide +kernel) rfl (Nat.le_of_ble_eq_true rfl) ?_
  intro p e R s m args below meth c C hr hin hw
  unfold f_X22_looksAtAll at hf
  show gJ D dA A K p l e R s m args below meth c (gEnd D dA A K below args s w0 none ww) 2 0 [(0, (ga (some a0)))] [] w0
  refine j_iconst (v := (nI 0)) C dX22_looksAtAll_0 (by decide) ?_
  refine j_istore_n (lv' := [(1, (gi (nI 0))), (0, (ga (some a0)))]) C dX22_looksAtAll_1 (by decide) rfl ?_
  refine j_sub (lv' := [(0, (ga (some a0))), (1, (gi (nI 0)))]) (gL_cons rfl (gL_cons rfl (gL_nil))) ?_
  refine gL1_e (fun (x2 : Int32) (w1 : gw) => gJ D dA A K p l e R s m args below meth c (gEnd D dA A K below args s w0 none ww) 2 2 [(0, (ga (some a0))), (1, (gi x2))] [] w1) ?_ _ _ _ hf
  intro k3 jk3 x2 w1 hf
  refine j_iload_n C dX22_looksAtAll_2 rfl ?_
  refine j_aload_n C dX22_looksAtAll_3 rfl ?_
  replace hf := gB1_e hf
  obtain ⟨r4, er4, hf⟩ := hf
  refine j_get C fl_X22_31_22 dX22_looksAtAll_4 (gR_F er4) ?_
  replace hf := gB1_e hf
  obtain ⟨a5, ea5, hf⟩ := hf
  subst ea5
  replace hf := gB1_e hf
  obtain ⟨x6, ex6, hf⟩ := hf
  refine j_alen C (t := 5) rfl ex6 dX22_looksAtAll_7 ?_
  refine j_icmp_ge (tgt := 97) C dX22_looksAtAll_8 (by decide) (fun c7 => ?_) (fun c7 => ?_)
  · replace hf := gIf_t hf c7
    obtain ⟨rfl, rfl⟩ := gSome hf
    exact j_vret C hr hw dX22_looksAtAll_97
  · replace hf := gIf_f hf c7
    refine j_aload_n C dX22_looksAtAll_11 rfl ?_
    replace hf := gB1_e hf
    obtain ⟨r8, er8, hf⟩ := hf
    refine j_get C fl_X22_36_22 dX22_looksAtAll_12 (gR_F er8) ?_
    refine j_iload_n C dX22_looksAtAll_15 rfl ?_
    replace hf := gB1_e hf
    obtain ⟨a9, ea9, hf⟩ := hf
    subst ea9
    replace hf := gB1_e hf
    obtain ⟨r10, er10, hf⟩ := hf
    refine j_aald C (t := 6) rfl er10 dX22_looksAtAll_16 ?_
    replace hf := gBd_x hf
    obtain ⟨k11, ek11, hf⟩ := hf
    have jk11 : ∀ (x13 : Int32) (w12 : gw), k11 x13 w12 = some (rr, ww) → gJ D dA A K p l e R s m args below meth c (gEnd D dA A K below args s w0 none ww) 2 64 [(0, (ga (some a0))), (1, (gi x13))] [] w12 := by
      intro x13 w12 hf
      rw [ek11] at hf
      dsimp only at hf
      refine j_aload_n C dX22_looksAtAll_64 rfl ?_
      replace hf := gB1_e hf
      obtain ⟨r14, er14, hf⟩ := hf
      refine j_get C fl_X22_36_22 dX22_looksAtAll_65 (gR_F er14) ?_
      refine j_iload_n C dX22_looksAtAll_68 rfl ?_
      replace hf := gB1_e hf
      obtain ⟨a15, ea15, hf⟩ := hf
      subst ea15
      replace hf := gB1_e hf
      obtain ⟨r16, er16, hf⟩ := hf
      refine j_aald C (t := 6) rfl er16 dX22_looksAtAll_69 ?_
      replace hf := gB1_e hf
      obtain ⟨a17, ea17, hf⟩ := hf
      subst ea17
      replace hf := gB1_e hf
      obtain ⟨x19, ew18, hf⟩ := hf
      refine j_isOver (rest := []) C (by omega) ew18 q1124 (Nat.le_of_ble_eq_true rfl) dX22_looksAtAll_70 ?_
      replace hf := gBd_x hf
      obtain ⟨k20, ek20, hf⟩ := hf
      have jk20 : ∀ (x22 : Int32) (w21 : gw), k20 x22 w21 = some (rr, ww) → gJ D dA A K p l e R s m args below meth c (gEnd D dA A K below args s w0 none ww) 2 91 [(0, (ga (some a0))), (1, (gi x22))] [] w21 := by
        intro x22 w21 hf
        rw [ek20] at hf
        dsimp only at hf
        replace hf := gBd_x hf
        obtain ⟨x23, ex23, hf⟩ := hf
        refine j_iinc (v := x23) (lv' := [(1, (gi x23)), (0, (ga (some a0)))]) C dX22_looksAtAll_91 rfl (by rw [ex23]; rfl) (by decide) rfl ?_
        refine j_goto (tgt := 2) C dX22_looksAtAll_94 (by decide) ?_
        refine j_sub (lv' := [(0, (ga (some a0))), (1, (gi x23))]) (gL_cons rfl (gL_cons rfl (gL_nil))) ?_
        exact jk3 _ _ hf
      clear ek20
      refine j_if_ne (tgt := 91) C dX22_looksAtAll_73 (by decide) (fun c24 => ?_) (fun c24 => ?_)
      · replace hf := gIf_f hf c24
        exact jk20 _ _ hf
      · replace hf := gIf_t hf c24
        refine j_aload_n C dX22_looksAtAll_76 rfl ?_
        replace hf := gB1_e hf
        obtain ⟨r25, er25, hf⟩ := hf
        refine j_get C fl_X22_36_22 dX22_looksAtAll_77 (gR_F er25) ?_
        refine j_iload_n C dX22_looksAtAll_80 rfl ?_
        refine j_aload_n C dX22_looksAtAll_81 rfl ?_
        replace hf := gB1_e hf
        obtain ⟨r26, er26, hf⟩ := hf
        refine j_get C fl_X22_31_22 dX22_looksAtAll_82 (gR_F er26) ?_
        refine j_iload_n C dX22_looksAtAll_85 rfl ?_
        replace hf := gB1_e hf
        obtain ⟨a27, ea27, hf⟩ := hf
        subst ea27
        replace hf := gB1_e hf
        obtain ⟨r28, er28, hf⟩ := hf
        refine j_aald C (t := 5) rfl er28 dX22_looksAtAll_86 ?_
        replace hf := gB1_e hf
        obtain ⟨a29, ea29, hf⟩ := hf
        subst ea29
        replace hf := gB2_e hf
        obtain ⟨r31, w30, ew30, hf⟩ := hf
        refine j_dp_Run_looks (As := []) (rest := [(gi x13), (ga r25)]) (v := (some (ga r31))) C (by omega) (hrec (by omega) ew30) q1136 rfl (Nat.le_of_ble_eq_true rfl) dX22_looksAtAll_87 ?_
        replace hf := gB1_e hf
        obtain ⟨a32, ea32, hf⟩ := hf
        subst ea32
        replace hf := gB1_e hf
        obtain ⟨w33, ew33, hf⟩ := hf
        refine j_aast C (t := 6) rfl gAsg_6 ew33 dX22_looksAtAll_90 ?_
        exact jk20 _ _ hf
    clear ek11
    refine j_ifnonnull (tgt := 64) C dX22_looksAtAll_17 (by decide) (fun a35 c34 => ?_) (fun c34 => ?_)
    · subst c34
      replace hf := gNl_s hf
      exact jk11 _ _ hf
    · subst c34
      replace hf := gNl_n hf
      refine j_aload_n C dX22_looksAtAll_20 rfl ?_
      replace hf := gB1_e hf
      obtain ⟨r36, er36, hf⟩ := hf
      refine j_get C fl_X22_31_22 dX22_looksAtAll_21 (gR_F er36) ?_
      refine j_iload_n C dX22_looksAtAll_24 rfl ?_
      replace hf := gB2_e hf
      obtain ⟨a37, w38, ew38, hf⟩ := hf
      refine j_new C nl_X22_44 ew38 dX22_looksAtAll_25 ?_
      refine j_dup C dX22_looksAtAll_28 ?_
      refine j_aload_n C dX22_looksAtAll_29 rfl ?_
      replace hf := gB1_e hf
      obtain ⟨r39, er39, hf⟩ := hf
      refine j_get C fl_X22_3_22 dX22_looksAtAll_30 (gR_F er39) ?_
      refine j_aload_n C dX22_looksAtAll_33 rfl ?_
      replace hf := gB1_e hf
      obtain ⟨r40, er40, hf⟩ := hf
      refine j_get C fl_X22_46_22 dX22_looksAtAll_34 (gR_F er40) ?_
      refine j_aload_n C dX22_looksAtAll_37 rfl ?_
      replace hf := gB1_e hf
      obtain ⟨r41, er41, hf⟩ := hf
      refine j_get C fl_X22_15_22 dX22_looksAtAll_38 (gR_F er41) ?_
      replace hf := gB1_e hf
      obtain ⟨a42, ea42, hf⟩ := hf
      subst ea42
      replace hf := gB1_e hf
      obtain ⟨r43, er43, hf⟩ := hf
      refine j_get C fl_X22_19_14 dX22_looksAtAll_41 (gR_F er43) ?_
      refine j_iload_n C dX22_looksAtAll_44 rfl ?_
      replace hf := gB1_e hf
      obtain ⟨a44, ea44, hf⟩ := hf
      subst ea44
      replace hf := gB1_e hf
      obtain ⟨_, eo, hf⟩ := hf
      replace hf := gB2_e hf
      obtain ⟨r46, w45, ew45, hf⟩ := hf
      refine j_callV (As := [(gi x2)]) (rest := [(ga r40), (ga r39), (ga (some a37)), (ga (some a37)), (gi x2), (ga r36)]) (v := (some (ga r46))) C (by omega) (k_J2_get (by omega) ew45) (gOb_e eo) rfl q1120 q637 q638 q99 q639 ⟨rfl, hd_J2_get⟩ (by decide) rfl (Nat.le_of_ble_eq_true rfl) dX22_looksAtAll_45 ?_
      replace hf := gB1_e hf
      obtain ⟨r47, er47, hf⟩ := hf
      refine j_castR C q1121 ca_WorkflowEngine_Body er47 dX22_looksAtAll_48 ?_
      replace hf := gB2_e hf
      obtain ⟨_, w48, ew48, hf⟩ := hf
      refine j_callI (As := [(ga r39), (ga r40), (ga r47)]) (rest := [(ga (some a37)), (gi x2), (ga r36)]) C (by omega) (k_X18_init (by omega) ew48) rfl q1122 q876 q120 q877 hd_X18_init (by decide) rfl (Nat.le_of_ble_eq_true rfl) dX22_looksAtAll_51 ?_
      replace hf := gB1_e hf
      obtain ⟨a49, ea49, hf⟩ := hf
      subst ea49
      replace hf := gB1_e hf
      obtain ⟨w50, ew50, hf⟩ := hf
      refine j_aast C (t := 5) rfl gAsg_5 ew50 dX22_looksAtAll_54 ?_
      refine j_aload_n C dX22_looksAtAll_55 rfl ?_
      replace hf := gB1_e hf
      obtain ⟨r51, er51, hf⟩ := hf
      refine j_get C fl_X22_36_22 dX22_looksAtAll_56 (gR_F er51) ?_
      refine j_iload_n C dX22_looksAtAll_59 rfl ?_
      refine j_gets (i := 2) C C.2.2.2.2.2.1.2.2.2.2.1.1 q1123 dX22_looksAtAll_60 ?_
      replace hf := gB1_e hf
      obtain ⟨a52, ea52, hf⟩ := hf
      subst ea52
      replace hf := gB1_e hf
      obtain ⟨w53, ew53, hf⟩ := hf
      refine j_aast C (t := 6) rfl gAsg_6 ew53 dX22_looksAtAll_63 ?_
      exact jk11 _ _ hf
def dkwX22_looks_4 : List UInt8 := [180, 0, 46, 16, 9, 42, 178, 0, 101, 182, 0, 104, 182, 0, 76, 178, 0, 101, 176]
abbrev dktX22_looks_4 : List UInt8 := dkwX22_looks_4 ++ []
def dkwX22_looks_3 : List UInt8 := [178, 0, 59, 176, 42, 4, 182, 0, 112, 42, 180, 0, 94, 182, 0, 116, 154, 0, 7, 178, 0, 59, 176, 42]
abbrev dktX22_looks_3 : List UInt8 := dkwX22_looks_3 ++ dktX22_looks_4
def dkwX22_looks_2 : List UInt8 := [162, 0, 12, 42, 3, 182, 0, 112, 178, 0, 82, 176, 27, 42, 180, 0, 15, 180, 0, 108, 162, 0, 7]
abbrev dktX22_looks_2 : List UInt8 := dkwX22_looks_2 ++ dktX22_looks_3
def dkwX22_looks_1 : List UInt8 := [180, 0, 108, 162, 0, 31, 27, 42, 178, 0, 59, 182, 0, 104, 96, 42, 180, 0, 15, 180, 0, 108]
abbrev dktX22_looks_1 : List UInt8 := dkwX22_looks_1 ++ dktX22_looks_2
def dkwX22_looks_0 : List UInt8 := [42, 180, 0, 94, 199, 0, 74, 42, 182, 0, 98, 42, 178, 0, 101, 182, 0, 104, 60, 27, 42, 180, 0, 15]
abbrev dktX22_looks_0 : List UInt8 := dkwX22_looks_0 ++ dktX22_looks_1
theorem dksX22_looks_0 : cX22_looks.data.toList.drop 0 = dktX22_looks_0 := by decide +kernel
theorem dksX22_looks_1 : cX22_looks.data.toList.drop 24 = dktX22_looks_1 := dk_seg dksX22_looks_0 24 rfl rfl
theorem dksX22_looks_2 : cX22_looks.data.toList.drop 46 = dktX22_looks_2 := dk_seg dksX22_looks_1 22 rfl rfl
theorem dksX22_looks_3 : cX22_looks.data.toList.drop 69 = dktX22_looks_3 := dk_seg dksX22_looks_2 23 rfl rfl
theorem dksX22_looks_4 : cX22_looks.data.toList.drop 93 = dktX22_looks_4 := dk_seg dksX22_looks_3 24 rfl rfl
theorem dX22_looks_0 : decode cX22_looks 0 = .ok (.aload_n 0, 1) := dk_42 (dk_at dksX22_looks_0 0 rfl rfl)
theorem dX22_looks_1 : decode cX22_looks 1 = .ok (.getfield 94, 3) := dk_180 0 94 (dk_at dksX22_looks_0 1 rfl rfl)
theorem dX22_looks_4 : decode cX22_looks 4 = .ok (.ifnonnull 74, 3) := dk_199 0 74 (dk_at dksX22_looks_0 4 rfl rfl)
theorem dX22_looks_7 : decode cX22_looks 7 = .ok (.aload_n 0, 1) := dk_42 (dk_at dksX22_looks_0 7 rfl rfl)
theorem dX22_looks_8 : decode cX22_looks 8 = .ok (.invokevirtual 98, 3) := dk_182 0 98 (dk_at dksX22_looks_0 8 rfl rfl)
theorem dX22_looks_11 : decode cX22_looks 11 = .ok (.aload_n 0, 1) := dk_42 (dk_at dksX22_looks_0 11 rfl rfl)
theorem dX22_looks_12 : decode cX22_looks 12 = .ok (.getstatic 101, 3) := dk_178 0 101 (dk_at dksX22_looks_0 12 rfl rfl)
theorem dX22_looks_15 : decode cX22_looks 15 = .ok (.invokevirtual 104, 3) := dk_182 0 104 (dk_at dksX22_looks_0 15 rfl rfl)
theorem dX22_looks_18 : decode cX22_looks 18 = .ok (.istore_n 1, 1) := dk_60 (dk_at dksX22_looks_0 18 rfl rfl)
theorem dX22_looks_19 : decode cX22_looks 19 = .ok (.iload_n 1, 1) := dk_27 (dk_at dksX22_looks_0 19 rfl rfl)
theorem dX22_looks_20 : decode cX22_looks 20 = .ok (.aload_n 0, 1) := dk_42 (dk_at dksX22_looks_0 20 rfl rfl)
theorem dX22_looks_21 : decode cX22_looks 21 = .ok (.getfield 15, 3) := dk_180 0 15 (dk_at dksX22_looks_0 21 rfl rfl)
theorem dX22_looks_24 : decode cX22_looks 24 = .ok (.getfield 108, 3) := dk_180 0 108 (dk_at dksX22_looks_1 0 rfl rfl)
theorem dX22_looks_27 : decode cX22_looks 27 = .ok (.if_icmp .ge 31, 3) := dk_162 0 31 (dk_at dksX22_looks_1 3 rfl rfl)
theorem dX22_looks_30 : decode cX22_looks 30 = .ok (.iload_n 1, 1) := dk_27 (dk_at dksX22_looks_1 6 rfl rfl)
theorem dX22_looks_31 : decode cX22_looks 31 = .ok (.aload_n 0, 1) := dk_42 (dk_at dksX22_looks_1 7 rfl rfl)
theorem dX22_looks_32 : decode cX22_looks 32 = .ok (.getstatic 59, 3) := dk_178 0 59 (dk_at dksX22_looks_1 8 rfl rfl)
theorem dX22_looks_35 : decode cX22_looks 35 = .ok (.invokevirtual 104, 3) := dk_182 0 104 (dk_at dksX22_looks_1 11 rfl rfl)
theorem dX22_looks_38 : decode cX22_looks 38 = .ok (.iadd, 1) := dk_96 (dk_at dksX22_looks_1 14 rfl rfl)
theorem dX22_looks_39 : decode cX22_looks 39 = .ok (.aload_n 0, 1) := dk_42 (dk_at dksX22_looks_1 15 rfl rfl)
theorem dX22_looks_40 : decode cX22_looks 40 = .ok (.getfield 15, 3) := dk_180 0 15 (dk_at dksX22_looks_1 16 rfl rfl)
theorem dX22_looks_43 : decode cX22_looks 43 = .ok (.getfield 108, 3) := dk_180 0 108 (dk_at dksX22_looks_1 19 rfl rfl)
theorem dX22_looks_46 : decode cX22_looks 46 = .ok (.if_icmp .ge 12, 3) := dk_162 0 12 (dk_at dksX22_looks_2 0 rfl rfl)
theorem dX22_looks_49 : decode cX22_looks 49 = .ok (.aload_n 0, 1) := dk_42 (dk_at dksX22_looks_2 3 rfl rfl)
theorem dX22_looks_50 : decode cX22_looks 50 = .ok (.iconst 0, 1) := dk_3 (dk_at dksX22_looks_2 4 rfl rfl)
theorem dX22_looks_51 : decode cX22_looks 51 = .ok (.invokevirtual 112, 3) := dk_182 0 112 (dk_at dksX22_looks_2 5 rfl rfl)
theorem dX22_looks_54 : decode cX22_looks 54 = .ok (.getstatic 82, 3) := dk_178 0 82 (dk_at dksX22_looks_2 8 rfl rfl)
theorem dX22_looks_57 : decode cX22_looks 57 = .ok (.areturn, 1) := dk_176 (dk_at dksX22_looks_2 11 rfl rfl)
theorem dX22_looks_58 : decode cX22_looks 58 = .ok (.iload_n 1, 1) := dk_27 (dk_at dksX22_looks_2 12 rfl rfl)
theorem dX22_looks_59 : decode cX22_looks 59 = .ok (.aload_n 0, 1) := dk_42 (dk_at dksX22_looks_2 13 rfl rfl)
theorem dX22_looks_60 : decode cX22_looks 60 = .ok (.getfield 15, 3) := dk_180 0 15 (dk_at dksX22_looks_2 14 rfl rfl)
theorem dX22_looks_63 : decode cX22_looks 63 = .ok (.getfield 108, 3) := dk_180 0 108 (dk_at dksX22_looks_2 17 rfl rfl)
theorem dX22_looks_66 : decode cX22_looks 66 = .ok (.if_icmp .ge 7, 3) := dk_162 0 7 (dk_at dksX22_looks_2 20 rfl rfl)
theorem dX22_looks_69 : decode cX22_looks 69 = .ok (.getstatic 59, 3) := dk_178 0 59 (dk_at dksX22_looks_3 0 rfl rfl)
theorem dX22_looks_72 : decode cX22_looks 72 = .ok (.areturn, 1) := dk_176 (dk_at dksX22_looks_3 3 rfl rfl)
theorem dX22_looks_73 : decode cX22_looks 73 = .ok (.aload_n 0, 1) := dk_42 (dk_at dksX22_looks_3 4 rfl rfl)
theorem dX22_looks_74 : decode cX22_looks 74 = .ok (.iconst 1, 1) := dk_4 (dk_at dksX22_looks_3 5 rfl rfl)
theorem dX22_looks_75 : decode cX22_looks 75 = .ok (.invokevirtual 112, 3) := dk_182 0 112 (dk_at dksX22_looks_3 6 rfl rfl)
theorem dX22_looks_78 : decode cX22_looks 78 = .ok (.aload_n 0, 1) := dk_42 (dk_at dksX22_looks_3 9 rfl rfl)
theorem dX22_looks_79 : decode cX22_looks 79 = .ok (.getfield 94, 3) := dk_180 0 94 (dk_at dksX22_looks_3 10 rfl rfl)
theorem dX22_looks_82 : decode cX22_looks 82 = .ok (.invokevirtual 116, 3) := dk_182 0 116 (dk_at dksX22_looks_3 13 rfl rfl)
theorem dX22_looks_85 : decode cX22_looks 85 = .ok (.ifCond .ne 7, 3) := dk_154 0 7 (dk_at dksX22_looks_3 16 rfl rfl)
theorem dX22_looks_88 : decode cX22_looks 88 = .ok (.getstatic 59, 3) := dk_178 0 59 (dk_at dksX22_looks_3 19 rfl rfl)
theorem dX22_looks_91 : decode cX22_looks 91 = .ok (.areturn, 1) := dk_176 (dk_at dksX22_looks_3 22 rfl rfl)
theorem dX22_looks_92 : decode cX22_looks 92 = .ok (.aload_n 0, 1) := dk_42 (dk_at dksX22_looks_3 23 rfl rfl)
theorem dX22_looks_93 : decode cX22_looks 93 = .ok (.getfield 46, 3) := dk_180 0 46 (dk_at dksX22_looks_4 0 rfl rfl)
theorem dX22_looks_96 : decode cX22_looks 96 = .ok (.bipush 9, 2) := dk_16 9 (dk_at dksX22_looks_4 3 rfl rfl)
theorem dX22_looks_98 : decode cX22_looks 98 = .ok (.aload_n 0, 1) := dk_42 (dk_at dksX22_looks_4 5 rfl rfl)
theorem dX22_looks_99 : decode cX22_looks 99 = .ok (.getstatic 101, 3) := dk_178 0 101 (dk_at dksX22_looks_4 6 rfl rfl)
theorem dX22_looks_102 : decode cX22_looks 102 = .ok (.invokevirtual 104, 3) := dk_182 0 104 (dk_at dksX22_looks_4 9 rfl rfl)
theorem dX22_looks_105 : decode cX22_looks 105 = .ok (.invokevirtual 76, 3) := dk_182 0 76 (dk_at dksX22_looks_4 12 rfl rfl)
theorem dX22_looks_108 : decode cX22_looks 108 = .ok (.getstatic 101, 3) := dk_178 0 101 (dk_at dksX22_looks_4 15 rfl rfl)
theorem dX22_looks_111 : decode cX22_looks 111 = .ok (.areturn, 1) := dk_176 (dk_at dksX22_looks_4 18 rfl rfl)
theorem hd_X26_isOver : (yX26_isOver.cls ≠ "java/lang/invoke/MethodHandle" ∧ yX26_isOver.cls ≠ "java/lang/invoke/VarHandle" ∧ (parseMethodDescriptor yX26_isOver.desc).map (fun d => d.parameters.length) = some 0) := ⟨by decide +kernel, by decide +kernel, by decide +kernel⟩
theorem hd_X22_many : (yX22_many.cls ≠ "java/lang/invoke/MethodHandle" ∧ yX22_many.cls ≠ "java/lang/invoke/VarHandle" ∧ (parseMethodDescriptor yX22_many.desc).map (fun d => d.parameters.length) = some 1) := ⟨by decide +kernel, by decide +kernel, by decide +kernel⟩
theorem hd_X22_looksAtAll : (yX22_looksAtAll.cls ≠ "java/lang/invoke/MethodHandle" ∧ yX22_looksAtAll.cls ≠ "java/lang/invoke/VarHandle" ∧ (parseMethodDescriptor yX22_looksAtAll.desc).map (fun d => d.parameters.length) = some 0) := ⟨by decide +kernel, by decide +kernel, by decide +kernel⟩
theorem fl_X22_108_14 : gFL RX22 108 14 2 := gFL.mkN (Cn := RX14) (T := TX14) (N := 3) (ref := "WorkflowEngine$Parallel") rfl in_X14 (by decide) nq573 rfl rfl (Or.inl rfl)
theorem hd_X22_cancels : (yX22_cancels.cls ≠ "java/lang/invoke/MethodHandle" ∧ yX22_cancels.cls ≠ "java/lang/invoke/VarHandle" ∧ (parseMethodDescriptor yX22_cancels.desc).map (fun d => d.parameters.length) = some 1) := ⟨by decide +kernel, by decide +kernel, by decide +kernel⟩
def f_X22_looks (rec : Nat → gw → Option (Option Nat × gw)) (a0 : Nat) (w0 : gw) : Option (Option Nat × gw) := gB1 (gR w0 a0 22 5) fun r1 => gBd (fun (w3 : gw) => gB1 (gR w3 a0 22 5) fun r4 => gB1 r4 fun a5 => gB1 (gOb w3 a5 26) fun _ => gB2 (f_X26_isOver a5  w3) fun x7 w6 => if x7 = 0 then some ((some (w6.2.2.2 2)), w6) else gB1 (gR w6 a0 22 0) fun r9 => gB1 (gOb w6 a0 22) fun _ => gB2 (f_X22_many a0 (some (w6.2.2.2 3)) w6) fun x11 w10 => gB1 r9 fun a12 => gB1 (gOb w10 a12 16) fun _ => gB2 (f_X16_notes a12 (nI 9) x11 w10) fun _ w13 => some ((some (w13.2.2.2 3)), w13)) fun k2 => gNl r1 (gB1 (gOb w0 a0 22) fun _ => gB2 (f_X22_looksAtAll rec a0  w0) fun _ w16 => gB1 (gOb w16 a0 22) fun _ => gB2 (f_X22_many a0 (some (w16.2.2.2 3)) w16) fun x18 w17 => gB1 (gR w17 a0 22 2) fun r19 => gB1 r19 fun a20 => gB1 (gI w17 a20 14 2) fun x21 => gBd (fun (x24 : Int32) (w23 : gw) => gB1 (gR w23 a0 22 2) fun r25 => gB1 r25 fun a26 => gB1 (gI w23 a26 14 2) fun x27 => if x27 ≤ x24 then gB1 (gOb w23 a0 22) fun _ => gB2 (f_X22_cancels a0 (nI 1) w23) fun _ w29 => k2 w29 else some ((some (w23.2.2.2 2)), w23)) fun k22 => if x21 ≤ x18 then k22 x18 w17 else gB1 (gOb w17 a0 22) fun _ => gB2 (f_X22_many a0 (some (w17.2.2.2 2)) w17) fun x32 w31 => gB1 (gR w31 a0 22 2) fun r33 => gB1 r33 fun a34 => gB1 (gI w31 a34 14 2) fun x35 => if x35 ≤ (x18 + x32) then k22 x18 w31 else gB1 (gOb w31 a0 22) fun _ => gB2 (f_X22_cancels a0 (nI 0) w31) fun _ w37 => some ((some (w37.2.2.2 4)), w37)) (fun a15 => k2 w0)
set_option maxHeartbeats 4000000 in
set_option maxRecDepth 100000 in
theorem k_X22_looks {D : va_G} {dA : Nat → ClassId} {A : Nat → Prop} {K : Nat → Nat} {l : Launch} {h : Nat} {rec : Nat → gw → Option (Option Nat × gw)} {B : Nat} (hrec : ∀ {h : Nat}, B ≤ h → ∀ {a : Nat} {w0 ww : gw} {rr : Option Nat}, rec a  w0 = some (rr, ww) → gDp_Run_looks D dA A K l h a [] (some (ga rr)) w0 ww) (hb : 15 ≤ B) (hh : B + 2 ≤ h) {a0 : Nat} {w0 ww : gw} {rr : Option Nat} (hf : f_X22_looks rec a0 w0 = some (rr, ww)) : gMet D dA A K l yX22_looks (ws_ yX22_looks cX22_looks 2 (some (.object "WorkflowEngine$Outcome"))) h [(ga (some a0))] (some (ga rr)) w0 ww := by
  refine j_start (own := RX22) (by decide +kernel) rfl (Nat.le_of_ble_eq_true rfl) ?_
  intro p e R s m args below meth c C hr hin hw
  unfold f_X22_looks at hf
  show gJ D dA A K p l e R s m args below meth c (gEnd D dA A K below args s w0 (some (ga rr)) ww) 2 0 [(0, (ga (some a0)))] [] w0
  refine j_aload_n C dX22_looks_0 rfl ?_
  replace hf := gB1_e hf
  obtain ⟨r1, er1, hf⟩ := hf
  refine j_get C fl_X22_94_22 dX22_looks_1 (gR_F er1) ?_
  replace hf := gBd_x hf
  obtain ⟨k2, ek2, hf⟩ := hf
  have jk2 : ∀ (w3 : gw), k2 w3 = some (rr, ww) → gJ D dA A K p l e R s m args below meth c (gEnd D dA A K below args s w0 (some (ga rr)) ww) 2 78 [(0, (ga (some a0)))] [] w3 := by
    intro w3 hf
    rw [ek2] at hf
    dsimp only at hf
    refine j_aload_n C dX22_looks_78 rfl ?_
    replace hf := gB1_e hf
    obtain ⟨r4, er4, hf⟩ := hf
    refine j_get C fl_X22_94_22 dX22_looks_79 (gR_F er4) ?_
    replace hf := gB1_e hf
    obtain ⟨a5, ea5, hf⟩ := hf
    subst ea5
    replace hf := gB1_e hf
    obtain ⟨_, eo, hf⟩ := hf
    replace hf := gB2_e hf
    obtain ⟨x7, w6, ew6, hf⟩ := hf
    refine j_callV (As := []) (rest := []) (v := (some (gi x7))) C (by omega) (k_X26_isOver (by omega) ew6) (gOb_e eo) rfl q1252 q1253 q1254 q130 q1255 ⟨rfl, hd_X26_isOver⟩ (by decide) rfl (Nat.le_of_ble_eq_true rfl) dX22_looks_82 ?_
    refine j_if_ne (tgt := 92) C dX22_looks_85 (by decide) (fun c8 => ?_) (fun c8 => ?_)
    · replace hf := gIf_f hf c8
      refine j_aload_n C dX22_looks_92 rfl ?_
      replace hf := gB1_e hf
      obtain ⟨r9, er9, hf⟩ := hf
      refine j_get C fl_X22_46_22 dX22_looks_93 (gR_F er9) ?_
      refine j_bipush (v := (nI 9)) C dX22_looks_96 (by decide) ?_
      refine j_aload_n C dX22_looks_98 rfl ?_
      refine j_gets (i := 3) C C.2.2.2.2.2.1.2.2.2.2.1.2.1 q1189 dX22_looks_99 ?_
      replace hf := gB1_e hf
      obtain ⟨_, eo, hf⟩ := hf
      replace hf := gB2_e hf
      obtain ⟨x11, w10, ew10, hf⟩ := hf
      refine j_callV (As := [(ga (some (w6.2.2.2 3)))]) (rest := [(gi (nI 9)), (ga r9)]) (v := (some (gi x11))) C (by omega) (k_X22_many (by omega) ew10) (gOb_e eo) rfl q1190 q1192 qs24 q126 q1193 ⟨rfl, hd_X22_many⟩ (by decide) rfl (Nat.le_of_ble_eq_true rfl) dX22_looks_102 ?_
      replace hf := gB1_e hf
      obtain ⟨a12, ea12, hf⟩ := hf
      subst ea12
      replace hf := gB1_e hf
      obtain ⟨_, eo, hf⟩ := hf
      replace hf := gB2_e hf
      obtain ⟨_, w13, ew13, hf⟩ := hf
      refine j_callV (As := [(gi (nI 9)), (gi x11)]) (rest := []) (v := none) C (by omega) (k_X16_notes (by omega) ew13) (gOb_e eo) rfl q1201 q944 q945 q118 q946 ⟨rfl, hd_X16_notes⟩ (by decide) rfl (Nat.le_of_ble_eq_true rfl) dX22_looks_105 ?_
      refine j_gets (i := 3) C C.2.2.2.2.2.1.2.2.2.2.1.2.1 q1189 dX22_looks_108 ?_
      obtain ⟨rfl, rfl⟩ := gSome hf
      exact j_aret C hr (Or.inl ⟨_, rfl⟩) hw dX22_looks_111
    · replace hf := gIf_t hf c8
      refine j_gets (i := 2) C C.2.2.2.2.2.1.2.2.2.2.1.1 q1123 dX22_looks_88 ?_
      obtain ⟨rfl, rfl⟩ := gSome hf
      exact j_aret C hr (Or.inl ⟨_, rfl⟩) hw dX22_looks_91
  clear ek2
  refine j_ifnonnull (tgt := 78) C dX22_looks_4 (by decide) (fun a15 c14 => ?_) (fun c14 => ?_)
  · subst c14
    replace hf := gNl_s hf
    exact jk2 _ hf
  · subst c14
    replace hf := gNl_n hf
    refine j_aload_n C dX22_looks_7 rfl ?_
    replace hf := gB1_e hf
    obtain ⟨_, eo, hf⟩ := hf
    replace hf := gB2_e hf
    obtain ⟨_, w16, ew16, hf⟩ := hf
    refine j_callV (As := []) (rest := []) (v := none) C (by omega) (k_X22_looksAtAll hrec hb (by omega) ew16) (gOb_e eo) rfl q1115 q1117 qs21 q126 q1118 ⟨rfl, hd_X22_looksAtAll⟩ (by decide) rfl (Nat.le_of_ble_eq_true rfl) dX22_looks_8 ?_
    refine j_aload_n C dX22_looks_11 rfl ?_
    refine j_gets (i := 3) C C.2.2.2.2.2.1.2.2.2.2.1.2.1 q1189 dX22_looks_12 ?_
    replace hf := gB1_e hf
    obtain ⟨_, eo, hf⟩ := hf
    replace hf := gB2_e hf
    obtain ⟨x18, w17, ew17, hf⟩ := hf
    refine j_callV (As := [(ga (some (w16.2.2.2 3)))]) (rest := []) (v := (some (gi x18))) C (by omega) (k_X22_many (by omega) ew17) (gOb_e eo) rfl q1190 q1192 qs24 q126 q1193 ⟨rfl, hd_X22_many⟩ (by decide) rfl (Nat.le_of_ble_eq_true rfl) dX22_looks_15 ?_
    refine j_istore_n (lv' := [(1, (gi x18)), (0, (ga (some a0)))]) C dX22_looks_18 (by decide) rfl ?_
    refine j_iload_n C dX22_looks_19 rfl ?_
    refine j_aload_n C dX22_looks_20 rfl ?_
    replace hf := gB1_e hf
    obtain ⟨r19, er19, hf⟩ := hf
    refine j_get C fl_X22_15_22 dX22_looks_21 (gR_F er19) ?_
    replace hf := gB1_e hf
    obtain ⟨a20, ea20, hf⟩ := hf
    subst ea20
    replace hf := gB1_e hf
    obtain ⟨x21, ex21, hf⟩ := hf
    refine j_get C fl_X22_108_14 dX22_looks_24 (gI_F ex21) ?_
    replace hf := gBd_x hf
    obtain ⟨k22, ek22, hf⟩ := hf
    have jk22 : ∀ (x24 : Int32) (w23 : gw), k22 x24 w23 = some (rr, ww) → gJ D dA A K p l e R s m args below meth c (gEnd D dA A K below args s w0 (some (ga rr)) ww) 2 58 [(0, (ga (some a0))), (1, (gi x24))] [] w23 := by
      intro x24 w23 hf
      rw [ek22] at hf
      dsimp only at hf
      refine j_iload_n C dX22_looks_58 rfl ?_
      refine j_aload_n C dX22_looks_59 rfl ?_
      replace hf := gB1_e hf
      obtain ⟨r25, er25, hf⟩ := hf
      refine j_get C fl_X22_15_22 dX22_looks_60 (gR_F er25) ?_
      replace hf := gB1_e hf
      obtain ⟨a26, ea26, hf⟩ := hf
      subst ea26
      replace hf := gB1_e hf
      obtain ⟨x27, ex27, hf⟩ := hf
      refine j_get C fl_X22_108_14 dX22_looks_63 (gI_F ex27) ?_
      refine j_icmp_ge (tgt := 73) C dX22_looks_66 (by decide) (fun c28 => ?_) (fun c28 => ?_)
      · replace hf := gIf_t hf c28
        refine j_aload_n C dX22_looks_73 rfl ?_
        refine j_iconst (v := (nI 1)) C dX22_looks_74 (by decide) ?_
        replace hf := gB1_e hf
        obtain ⟨_, eo, hf⟩ := hf
        replace hf := gB2_e hf
        obtain ⟨_, w29, ew29, hf⟩ := hf
        refine j_callV (As := [(gi (nI 1))]) (rest := []) (v := none) C (by omega) (k_X22_cancels (by omega) ew29) (gOb_e eo) rfl q1195 q1197 qs25 q126 q1198 ⟨rfl, hd_X22_cancels⟩ (by decide) rfl (Nat.le_of_ble_eq_true rfl) dX22_looks_75 ?_
        refine j_sub (lv' := [(0, (ga (some a0)))]) (gL_cons rfl (gL_nil)) ?_
        exact jk2 _ hf
      · replace hf := gIf_f hf c28
        refine j_gets (i := 2) C C.2.2.2.2.2.1.2.2.2.2.1.1 q1123 dX22_looks_69 ?_
        obtain ⟨rfl, rfl⟩ := gSome hf
        exact j_aret C hr (Or.inl ⟨_, rfl⟩) hw dX22_looks_72
    clear ek22
    refine j_icmp_ge (tgt := 58) C dX22_looks_27 (by decide) (fun c30 => ?_) (fun c30 => ?_)
    · replace hf := gIf_t hf c30
      refine j_sub (lv' := [(0, (ga (some a0))), (1, (gi x18))]) (gL_cons rfl (gL_cons rfl (gL_nil))) ?_
      exact jk22 _ _ hf
    · replace hf := gIf_f hf c30
      refine j_iload_n C dX22_looks_30 rfl ?_
      refine j_aload_n C dX22_looks_31 rfl ?_
      refine j_gets (i := 2) C C.2.2.2.2.2.1.2.2.2.2.1.1 q1123 dX22_looks_32 ?_
      replace hf := gB1_e hf
      obtain ⟨_, eo, hf⟩ := hf
      replace hf := gB2_e hf
      obtain ⟨x32, w31, ew31, hf⟩ := hf
      refine j_callV (As := [(ga (some (w17.2.2.2 2)))]) (rest := [(gi x18)]) (v := (some (gi x32))) C (by omega) (k_X22_many (by omega) ew31) (gOb_e eo) rfl q1190 q1192 qs24 q126 q1193 ⟨rfl, hd_X22_many⟩ (by decide) rfl (Nat.le_of_ble_eq_true rfl) dX22_looks_35 ?_
      refine j_iadd C dX22_looks_38 ?_
      refine j_aload_n C dX22_looks_39 rfl ?_
      replace hf := gB1_e hf
      obtain ⟨r33, er33, hf⟩ := hf
      refine j_get C fl_X22_15_22 dX22_looks_40 (gR_F er33) ?_
      replace hf := gB1_e hf
      obtain ⟨a34, ea34, hf⟩ := hf
      subst ea34
      replace hf := gB1_e hf
      obtain ⟨x35, ex35, hf⟩ := hf
      refine j_get C fl_X22_108_14 dX22_looks_43 (gI_F ex35) ?_
      refine j_icmp_ge (tgt := 58) C dX22_looks_46 (by decide) (fun c36 => ?_) (fun c36 => ?_)
      · replace hf := gIf_t hf c36
        refine j_sub (lv' := [(0, (ga (some a0))), (1, (gi x18))]) (gL_cons rfl (gL_cons rfl (gL_nil))) ?_
        exact jk22 _ _ hf
      · replace hf := gIf_f hf c36
        refine j_aload_n C dX22_looks_49 rfl ?_
        refine j_iconst (v := (nI 0)) C dX22_looks_50 (by decide) ?_
        replace hf := gB1_e hf
        obtain ⟨_, eo, hf⟩ := hf
        replace hf := gB2_e hf
        obtain ⟨_, w37, ew37, hf⟩ := hf
        refine j_callV (As := [(gi (nI 0))]) (rest := []) (v := none) C (by omega) (k_X22_cancels (by omega) ew37) (gOb_e eo) rfl q1195 q1197 qs25 q126 q1198 ⟨rfl, hd_X22_cancels⟩ (by decide) rfl (Nat.le_of_ble_eq_true rfl) dX22_looks_51 ?_
        refine j_gets (i := 4) C C.2.2.2.2.2.1.2.2.2.2.1.2.2.1 q1202 dX22_looks_54 ?_
        obtain ⟨rfl, rfl⟩ := gSome hf
        exact j_aret C hr (Or.inl ⟨_, rfl⟩) hw dX22_looks_57
def f_Run_looks_s (rec : Nat → gw → Option (Option Nat × gw)) (a : Nat)  (w0 : gw) : Option (Option Nat × gw) := gB1 (gCls w0 a) fun ci => if ci = 18 then f_X18_looks rec a  w0 else if ci = 20 then f_X20_looks a  w0 else if ci = 21 then f_X21_looks a  w0 else if ci = 22 then f_X22_looks rec a  w0 else if ci = 23 then f_X23_looks a  w0 else if ci = 24 then f_X24_looks a  w0 else none
theorem kd_Run_looks_s {D : va_G} {dA : Nat → ClassId} {A : Nat → Prop} {K : Nat → Nat} {l : Launch} {h : Nat} {rec : Nat → gw → Option (Option Nat × gw)} {B : Nat} (hrec : ∀ {h : Nat}, B ≤ h → ∀ {a : Nat} {w0 ww : gw} {rr : Option Nat}, rec a  w0 = some (rr, ww) → gDp_Run_looks D dA A K l h a [] (some (ga rr)) w0 ww) (hb : 15 ≤ B) (hh : B + 2 ≤ h) {a : Nat}  {w0 ww : gw} {rr : Option Nat} (hf : f_Run_looks_s rec a  w0 = some (rr, ww)) : gDp_Run_looks D dA A K l h a [] (some (ga rr)) w0 ww := by
  unfold f_Run_looks_s at hf
  unfold gDp_Run_looks
  replace hf := gB1_e hf
  obtain ⟨ci, eci, hf⟩ := hf
  by_cases c0 : ci = 18
  · replace hf := gIf_t hf c0
    exact Or.inl ⟨by rw [eci, c0], k_X18_looks hrec hb (by omega) hf⟩
  replace hf := gIf_f hf c0
  by_cases c1 : ci = 20
  · replace hf := gIf_t hf c1
    exact Or.inr (Or.inl ⟨by rw [eci, c1], k_X20_looks (by omega) hf⟩)
  replace hf := gIf_f hf c1
  by_cases c2 : ci = 21
  · replace hf := gIf_t hf c2
    exact Or.inr (Or.inr (Or.inl ⟨by rw [eci, c2], k_X21_looks (by omega) hf⟩))
  replace hf := gIf_f hf c2
  by_cases c3 : ci = 22
  · replace hf := gIf_t hf c3
    exact Or.inr (Or.inr (Or.inr (Or.inl ⟨by rw [eci, c3], k_X22_looks hrec hb (by omega) hf⟩)))
  replace hf := gIf_f hf c3
  by_cases c4 : ci = 23
  · replace hf := gIf_t hf c4
    exact Or.inr (Or.inr (Or.inr (Or.inr (Or.inl ⟨by rw [eci, c4], k_X23_looks (by omega) hf⟩))))
  replace hf := gIf_f hf c4
  by_cases c5 : ci = 24
  · replace hf := gIf_t hf c5
    exact Or.inr (Or.inr (Or.inr (Or.inr (Or.inr (⟨by rw [eci, c5], k_X24_looks (by omega) hf⟩)))))
  replace hf := gIf_f hf c5
  cases hf
def f_Run_looks : Nat → Nat → gw → Option (Option Nat × gw)
  | 0 => fun _ _ => none
  | d + 1 => f_Run_looks_s (f_Run_looks d)
theorem kd_Run_looks {D : va_G} {dA : Nat → ClassId} {A : Nat → Prop} {K : Nat → Nat} {l : Launch} : ∀ (d : Nat) {h : Nat}, 15 + 2 * d ≤ h → ∀ {a : Nat} {w0 ww : gw} {rr : Option Nat}, f_Run_looks d a  w0 = some (rr, ww) → gDp_Run_looks D dA A K l h a [] (some (ga rr)) w0 ww := by
  intro d
  induction d with
  | zero => intro h hh a  w0 ww rr hf; cases hf
  | succ d ih =>
    intro h hh a  w0 ww rr hf
    exact kd_Run_looks_s (rec := f_Run_looks d) (B := 15 + 2 * d) (fun hh => ih hh) (by omega) (by omega) hf
abbrev f_X18_looks_x (a0 : Nat) (w0 : gw) : Option (Option Nat × gw) := f_X18_looks (f_Run_looks 12) a0 w0
theorem k_X18_looks_x {D : va_G} {dA : Nat → ClassId} {A : Nat → Prop} {K : Nat → Nat} {l : Launch} {h : Nat} (hh : 40 ≤ h) {a0 : Nat} {w0 ww : gw} {rr : Option Nat} (hf : f_X18_looks_x a0 w0 = some (rr, ww)) : gMet D dA A K l yX18_looks (ws_ yX18_looks cX18_looks 2 (some (.object "WorkflowEngine$Outcome"))) h [(ga (some a0))] (some (ga rr)) w0 ww := k_X18_looks (fun hh => kd_Run_looks 12 hh) (B := 39) (by omega) (by omega) hf
abbrev f_X22_looks_x (a0 : Nat) (w0 : gw) : Option (Option Nat × gw) := f_X22_looks (f_Run_looks 12) a0 w0
theorem k_X22_looks_x {D : va_G} {dA : Nat → ClassId} {A : Nat → Prop} {K : Nat → Nat} {l : Launch} {h : Nat} (hh : 41 ≤ h) {a0 : Nat} {w0 ww : gw} {rr : Option Nat} (hf : f_X22_looks_x a0 w0 = some (rr, ww)) : gMet D dA A K l yX22_looks (ws_ yX22_looks cX22_looks 2 (some (.object "WorkflowEngine$Outcome"))) h [(ga (some a0))] (some (ga rr)) w0 ww := k_X22_looks (fun hh => kd_Run_looks 12 hh) (B := 39) (by omega) (by omega) hf
abbrev f_X22_looksAtAll_x (a0 : Nat) (w0 : gw) : Option (Unit × gw) := f_X22_looksAtAll (f_Run_looks 12) a0 w0
theorem k_X22_looksAtAll_x {D : va_G} {dA : Nat → ClassId} {A : Nat → Prop} {K : Nat → Nat} {l : Launch} {h : Nat} (hh : 40 ≤ h) {a0 : Nat} {w0 ww : gw} {rr : Unit} (hf : f_X22_looksAtAll_x a0 w0 = some (rr, ww)) : gMet D dA A K l yX22_looksAtAll (ws_ yX22_looksAtAll cX22_looksAtAll 2 none) h [(ga (some a0))] none w0 ww := k_X22_looksAtAll (fun hh => kd_Run_looks 12 hh) (B := 39) (by omega) (by omega) hf
def dkwX16_compensates_2 : List UInt8 := [182, 0, 150, 177]
abbrev dktX16_compensates_2 : List UInt8 := dkwX16_compensates_2 ++ []
def dkwX16_compensates_1 : List UInt8 := [187, 0, 115, 89, 42, 180, 0, 3, 42, 43, 183, 0, 143, 181, 0, 111, 42, 5, 182, 0, 146, 42]
abbrev dktX16_compensates_1 : List UInt8 := dkwX16_compensates_1 ++ dktX16_compensates_2
def dkwX16_compensates_0 : List UInt8 := [187, 0, 136, 89, 183, 0, 138, 76, 42, 180, 0, 101, 43, 182, 0, 139, 42, 1, 181, 0, 101, 42]
abbrev dktX16_compensates_0 : List UInt8 := dkwX16_compensates_0 ++ dktX16_compensates_1
theorem dksX16_compensates_0 : cX16_compensates.data.toList.drop 0 = dktX16_compensates_0 := by decide +kernel
theorem dksX16_compensates_1 : cX16_compensates.data.toList.drop 22 = dktX16_compensates_1 := dk_seg dksX16_compensates_0 22 rfl rfl
theorem dksX16_compensates_2 : cX16_compensates.data.toList.drop 44 = dktX16_compensates_2 := dk_seg dksX16_compensates_1 22 rfl rfl
theorem dX16_compensates_0 : decode cX16_compensates 0 = .ok (.new 136, 3) := dk_187 0 136 (dk_at dksX16_compensates_0 0 rfl rfl)
theorem dX16_compensates_3 : decode cX16_compensates 3 = .ok (.dup, 1) := dk_89 (dk_at dksX16_compensates_0 3 rfl rfl)
theorem dX16_compensates_4 : decode cX16_compensates 4 = .ok (.invokespecial 138, 3) := dk_183 0 138 (dk_at dksX16_compensates_0 4 rfl rfl)
theorem dX16_compensates_7 : decode cX16_compensates 7 = .ok (.astore_n 1, 1) := dk_76 (dk_at dksX16_compensates_0 7 rfl rfl)
theorem dX16_compensates_8 : decode cX16_compensates 8 = .ok (.aload_n 0, 1) := dk_42 (dk_at dksX16_compensates_0 8 rfl rfl)
theorem dX16_compensates_9 : decode cX16_compensates 9 = .ok (.getfield 101, 3) := dk_180 0 101 (dk_at dksX16_compensates_0 9 rfl rfl)
theorem dX16_compensates_12 : decode cX16_compensates 12 = .ok (.aload_n 1, 1) := dk_43 (dk_at dksX16_compensates_0 12 rfl rfl)
theorem dX16_compensates_13 : decode cX16_compensates 13 = .ok (.invokevirtual 139, 3) := dk_182 0 139 (dk_at dksX16_compensates_0 13 rfl rfl)
theorem dX16_compensates_16 : decode cX16_compensates 16 = .ok (.aload_n 0, 1) := dk_42 (dk_at dksX16_compensates_0 16 rfl rfl)
theorem dX16_compensates_17 : decode cX16_compensates 17 = .ok (.aconst_null, 1) := dk_1 (dk_at dksX16_compensates_0 17 rfl rfl)
theorem dX16_compensates_18 : decode cX16_compensates 18 = .ok (.putfield 101, 3) := dk_181 0 101 (dk_at dksX16_compensates_0 18 rfl rfl)
theorem dX16_compensates_21 : decode cX16_compensates 21 = .ok (.aload_n 0, 1) := dk_42 (dk_at dksX16_compensates_0 21 rfl rfl)
theorem dX16_compensates_22 : decode cX16_compensates 22 = .ok (.new 115, 3) := dk_187 0 115 (dk_at dksX16_compensates_1 0 rfl rfl)
theorem dX16_compensates_25 : decode cX16_compensates 25 = .ok (.dup, 1) := dk_89 (dk_at dksX16_compensates_1 3 rfl rfl)
theorem dX16_compensates_26 : decode cX16_compensates 26 = .ok (.aload_n 0, 1) := dk_42 (dk_at dksX16_compensates_1 4 rfl rfl)
theorem dX16_compensates_27 : decode cX16_compensates 27 = .ok (.getfield 3, 3) := dk_180 0 3 (dk_at dksX16_compensates_1 5 rfl rfl)
theorem dX16_compensates_30 : decode cX16_compensates 30 = .ok (.aload_n 0, 1) := dk_42 (dk_at dksX16_compensates_1 8 rfl rfl)
theorem dX16_compensates_31 : decode cX16_compensates 31 = .ok (.aload_n 1, 1) := dk_43 (dk_at dksX16_compensates_1 9 rfl rfl)
theorem dX16_compensates_32 : decode cX16_compensates 32 = .ok (.invokespecial 143, 3) := dk_183 0 143 (dk_at dksX16_compensates_1 10 rfl rfl)
theorem dX16_compensates_35 : decode cX16_compensates 35 = .ok (.putfield 111, 3) := dk_181 0 111 (dk_at dksX16_compensates_1 13 rfl rfl)
theorem dX16_compensates_38 : decode cX16_compensates 38 = .ok (.aload_n 0, 1) := dk_42 (dk_at dksX16_compensates_1 16 rfl rfl)
theorem dX16_compensates_39 : decode cX16_compensates 39 = .ok (.iconst 2, 1) := dk_5 (dk_at dksX16_compensates_1 17 rfl rfl)
theorem dX16_compensates_40 : decode cX16_compensates 40 = .ok (.invokevirtual 146, 3) := dk_182 0 146 (dk_at dksX16_compensates_1 18 rfl rfl)
theorem dX16_compensates_43 : decode cX16_compensates 43 = .ok (.aload_n 0, 1) := dk_42 (dk_at dksX16_compensates_1 21 rfl rfl)
theorem dX16_compensates_44 : decode cX16_compensates 44 = .ok (.invokevirtual 150, 3) := dk_182 0 150 (dk_at dksX16_compensates_2 0 rfl rfl)
theorem dX16_compensates_47 : decode cX16_compensates 47 = .ok (.return_, 1) := dk_177 (dk_at dksX16_compensates_2 3 rfl rfl)
theorem nl_X16_136 : gNL RX16 136 19 := ⟨RX19, TX19, 2, 2, tyX19, _, rfl, rfl, in_X19, tyX19_ok, q1290, q883, q121, fun j hj => by rcases (show j = 0 ∨ j = 1 by omega) with rfl | rfl <;> rfl⟩
theorem nl_X16_115 : gNL RX16 115 26 := ⟨RX26, TX26, 6, 6, tyX26, _, rfl, rfl, in_X26, tyX26_ok, q1293, q1226, q130, fun j hj => by rcases (show j = 0 ∨ j = 1 ∨ j = 2 ∨ j = 3 ∨ j = 4 ∨ j = 5 by omega) with rfl | rfl | rfl | rfl | rfl | rfl <;> rfl⟩
theorem hd_X16_turns : (yX16_turns.cls ≠ "java/lang/invoke/MethodHandle" ∧ yX16_turns.cls ≠ "java/lang/invoke/VarHandle" ∧ (parseMethodDescriptor yX16_turns.desc).map (fun d => d.parameters.length) = some 1) := ⟨by decide +kernel, by decide +kernel, by decide +kernel⟩
theorem hd_X16_looks : (yX16_looks.cls ≠ "java/lang/invoke/MethodHandle" ∧ yX16_looks.cls ≠ "java/lang/invoke/VarHandle" ∧ (parseMethodDescriptor yX16_looks.desc).map (fun d => d.parameters.length) = some 0) := ⟨by decide +kernel, by decide +kernel, by decide +kernel⟩
def f_X16_compensates (rec : Nat → gw → Option (Unit × gw)) (a0 : Nat) (w0 : gw) : Option (Unit × gw) := gB2 (gNew w0 19) fun a1 w2 => gB2 (f_X19_init a1  w2) fun _ w3 => gB1 (gR w3 a0 16 13) fun r4 => gB1 r4 fun a5 => gB2 (f_Run_gathers 12 a5 (some a1) w3) fun _ w6 => gB1 (gPut w6 a0 16 13 (ga none)) fun w7 => gB2 (gNew w7 26) fun a8 w9 => gB1 (gR w9 a0 16 15) fun r10 => gB2 (f_X26_init a8 r10 (some a0) (some a1) w9) fun _ w11 => gB1 (gPut w11 a0 16 14 (ga (some a8))) fun w12 => gB1 (gOb w12 a0 16) fun _ => gB2 (f_X16_turns a0 (nI 2) w12) fun _ w13 => gB1 (gOb w13 a0 16) fun _ => gB2 (rec a0  w13) fun _ w14 => some ((), w14)
set_option maxHeartbeats 4000000 in
set_option maxRecDepth 100000 in
theorem k_X16_compensates {D : va_G} {dA : Nat → ClassId} {A : Nat → Prop} {K : Nat → Nat} {l : Launch} {h : Nat} {rec : Nat → gw → Option (Unit × gw)} {B : Nat} (hrec : ∀ {h : Nat}, B ≤ h → ∀ {a0 : Nat} {w0 ww : gw} {rr : Unit}, rec a0  w0 = some (rr, ww) → gMet D dA A K l yX16_looks (ws_ yX16_looks cX16_looks 2 none) h [(ga (some a0))] none w0 ww) (hb : 40 ≤ B) (hh : B + 1 ≤ h) {a0 : Nat} {w0 ww : gw} {rr : Unit} (hf : f_X16_compensates rec a0 w0 = some (rr, ww)) : gMet D dA A K l yX16_compensates (ws_ yX16_compensates cX16_compensates 2 none) h [(ga (some a0))] none w0 ww := by
  refine j_start (own := RX16) (by decide +kernel) rfl (Nat.le_of_ble_eq_true rfl) ?_
  intro p e R s m args below meth c C hr hin hw
  unfold f_X16_compensates at hf
  show gJ D dA A K p l e R s m args below meth c (gEnd D dA A K below args s w0 none ww) 2 0 [(0, (ga (some a0)))] [] w0
  replace hf := gB2_e hf
  obtain ⟨a1, w2, ew2, hf⟩ := hf
  refine j_new C nl_X16_136 ew2 dX16_compensates_0 ?_
  refine j_dup C dX16_compensates_3 ?_
  replace hf := gB2_e hf
  obtain ⟨_, w3, ew3, hf⟩ := hf
  refine j_callIN (As := []) (rest := [(ga (some a1))]) C (by omega) (k_X19_init (by omega) ew3) rfl nq1291 q885 q121 q886 hd_X19_init (by decide) rfl (Nat.le_of_ble_eq_true rfl) dX16_compensates_4 ?_
  refine j_astore_n (lv' := [(1, (ga (some a1))), (0, (ga (some a0)))]) C dX16_compensates_7 (by decide) rfl ?_
  refine j_aload_n C dX16_compensates_8 rfl ?_
  replace hf := gB1_e hf
  obtain ⟨r4, er4, hf⟩ := hf
  refine j_get C fl_X16_101_16 dX16_compensates_9 (gR_F er4) ?_
  refine j_aload_n C dX16_compensates_12 rfl ?_
  replace hf := gB1_e hf
  obtain ⟨a5, ea5, hf⟩ := hf
  subst ea5
  replace hf := gB2_e hf
  obtain ⟨_, w6, ew6, hf⟩ := hf
  refine j_dp_Run_gathers (As := [(ga (some a1))]) (rest := []) (v := none) C (by omega) (kd_Run_gathers 12 (by omega) ew6) q1292 rfl (Nat.le_of_ble_eq_true rfl) dX16_compensates_13 ?_
  refine j_aload_n C dX16_compensates_16 rfl ?_
  refine j_null C dX16_compensates_17 ?_
  replace hf := gB1_e hf
  obtain ⟨w7, ew7, hf⟩ := hf
  refine j_put C fl_X16_101_16 tb_16 ew7 fk_16_13 (ft_LWorkflowEngine_Run_ none) dX16_compensates_18 ?_
  refine j_aload_n C dX16_compensates_21 rfl ?_
  replace hf := gB2_e hf
  obtain ⟨a8, w9, ew9, hf⟩ := hf
  refine j_new C nl_X16_115 ew9 dX16_compensates_22 ?_
  refine j_dup C dX16_compensates_25 ?_
  refine j_aload_n C dX16_compensates_26 rfl ?_
  replace hf := gB1_e hf
  obtain ⟨r10, er10, hf⟩ := hf
  refine j_get C fl_X16_3_16 dX16_compensates_27 (gR_F er10) ?_
  refine j_aload_n C dX16_compensates_30 rfl ?_
  refine j_aload_n C dX16_compensates_31 rfl ?_
  replace hf := gB2_e hf
  obtain ⟨_, w11, ew11, hf⟩ := hf
  refine j_callI (As := [(ga r10), (ga (some a0)), (ga (some a1))]) (rest := [(ga (some a8)), (ga (some a0))]) C (by omega) (k_X26_init (by omega) ew11) rfl q1294 q1228 q130 q1229 hd_X26_init (by decide) rfl (Nat.le_of_ble_eq_true rfl) dX16_compensates_32 ?_
  replace hf := gB1_e hf
  obtain ⟨w12, ew12, hf⟩ := hf
  refine j_put C fl_X16_111_16 tb_16 ew12 fk_16_14 (ft_LWorkflowEngine_Undo_ (some a8)) dX16_compensates_35 ?_
  refine j_aload_n C dX16_compensates_38 rfl ?_
  refine j_iconst (v := (nI 2)) C dX16_compensates_39 (by decide) ?_
  replace hf := gB1_e hf
  obtain ⟨_, eo, hf⟩ := hf
  replace hf := gB2_e hf
  obtain ⟨_, w13, ew13, hf⟩ := hf
  refine j_callV (As := [(gi (nI 2))]) (rest := []) (v := none) C (by omega) (k_X16_turns (by omega) ew13) (gOb_e eo) rfl q1281 q1283 qs28 q118 q1284 ⟨rfl, hd_X16_turns⟩ (by decide) rfl (Nat.le_of_ble_eq_true rfl) dX16_compensates_40 ?_
  refine j_aload_n C dX16_compensates_43 rfl ?_
  replace hf := gB1_e hf
  obtain ⟨_, eo, hf⟩ := hf
  replace hf := gB2_e hf
  obtain ⟨_, w14, ew14, hf⟩ := hf
  refine j_callV (As := []) (rest := []) (v := none) C (by omega) (hrec (by omega) ew14) (gOb_e eo) rfl q1295 q934 q935 q118 q936 ⟨rfl, hd_X16_looks⟩ (by decide) rfl (Nat.le_of_ble_eq_true rfl) dX16_compensates_44 ?_
  obtain ⟨rfl, rfl⟩ := gSome hf
  exact j_vret C hr hw dX16_compensates_47
def dkwX16_looks_3 : List UInt8 := [167, 0, 4, 6, 182, 0, 146, 177]
abbrev dktX16_looks_3 : List UInt8 := dkwX16_looks_3 ++ []
def dkwX16_looks_2 : List UInt8 := [5, 160, 0, 29, 42, 180, 0, 111, 182, 0, 168, 153, 0, 19, 42, 42, 180, 0, 98, 158, 0, 7, 7]
abbrev dktX16_looks_2 : List UInt8 := dkwX16_looks_2 ++ dktX16_looks_3
def dkwX16_looks_1 : List UInt8 := [182, 0, 146, 167, 0, 14, 43, 178, 0, 162, 166, 0, 7, 42, 182, 0, 165, 167, 0, 37, 42, 180, 0, 92]
abbrev dktX16_looks_1 : List UInt8 := dkwX16_looks_1 ++ dktX16_looks_2
def dkwX16_looks_0 : List UInt8 := [42, 180, 0, 92, 154, 0, 40, 42, 180, 0, 101, 182, 0, 153, 76, 43, 178, 0, 156, 166, 0, 11, 42, 4]
abbrev dktX16_looks_0 : List UInt8 := dkwX16_looks_0 ++ dktX16_looks_1
theorem dksX16_looks_0 : cX16_looks.data.toList.drop 0 = dktX16_looks_0 := by decide +kernel
theorem dksX16_looks_1 : cX16_looks.data.toList.drop 24 = dktX16_looks_1 := dk_seg dksX16_looks_0 24 rfl rfl
theorem dksX16_looks_2 : cX16_looks.data.toList.drop 48 = dktX16_looks_2 := dk_seg dksX16_looks_1 24 rfl rfl
theorem dksX16_looks_3 : cX16_looks.data.toList.drop 71 = dktX16_looks_3 := dk_seg dksX16_looks_2 23 rfl rfl
theorem dX16_looks_0 : decode cX16_looks 0 = .ok (.aload_n 0, 1) := dk_42 (dk_at dksX16_looks_0 0 rfl rfl)
theorem dX16_looks_1 : decode cX16_looks 1 = .ok (.getfield 92, 3) := dk_180 0 92 (dk_at dksX16_looks_0 1 rfl rfl)
theorem dX16_looks_4 : decode cX16_looks 4 = .ok (.ifCond .ne 40, 3) := dk_154 0 40 (dk_at dksX16_looks_0 4 rfl rfl)
theorem dX16_looks_7 : decode cX16_looks 7 = .ok (.aload_n 0, 1) := dk_42 (dk_at dksX16_looks_0 7 rfl rfl)
theorem dX16_looks_8 : decode cX16_looks 8 = .ok (.getfield 101, 3) := dk_180 0 101 (dk_at dksX16_looks_0 8 rfl rfl)
theorem dX16_looks_11 : decode cX16_looks 11 = .ok (.invokevirtual 153, 3) := dk_182 0 153 (dk_at dksX16_looks_0 11 rfl rfl)
theorem dX16_looks_14 : decode cX16_looks 14 = .ok (.astore_n 1, 1) := dk_76 (dk_at dksX16_looks_0 14 rfl rfl)
theorem dX16_looks_15 : decode cX16_looks 15 = .ok (.aload_n 1, 1) := dk_43 (dk_at dksX16_looks_0 15 rfl rfl)
theorem dX16_looks_16 : decode cX16_looks 16 = .ok (.getstatic 156, 3) := dk_178 0 156 (dk_at dksX16_looks_0 16 rfl rfl)
theorem dX16_looks_19 : decode cX16_looks 19 = .ok (.if_acmp .ne 11, 3) := dk_166 0 11 (dk_at dksX16_looks_0 19 rfl rfl)
theorem dX16_looks_22 : decode cX16_looks 22 = .ok (.aload_n 0, 1) := dk_42 (dk_at dksX16_looks_0 22 rfl rfl)
theorem dX16_looks_23 : decode cX16_looks 23 = .ok (.iconst 1, 1) := dk_4 (dk_at dksX16_looks_0 23 rfl rfl)
theorem dX16_looks_24 : decode cX16_looks 24 = .ok (.invokevirtual 146, 3) := dk_182 0 146 (dk_at dksX16_looks_1 0 rfl rfl)
theorem dX16_looks_27 : decode cX16_looks 27 = .ok (.goto 14, 3) := dk_167 0 14 (dk_at dksX16_looks_1 3 rfl rfl)
theorem dX16_looks_30 : decode cX16_looks 30 = .ok (.aload_n 1, 1) := dk_43 (dk_at dksX16_looks_1 6 rfl rfl)
theorem dX16_looks_31 : decode cX16_looks 31 = .ok (.getstatic 162, 3) := dk_178 0 162 (dk_at dksX16_looks_1 7 rfl rfl)
theorem dX16_looks_34 : decode cX16_looks 34 = .ok (.if_acmp .ne 7, 3) := dk_166 0 7 (dk_at dksX16_looks_1 10 rfl rfl)
theorem dX16_looks_37 : decode cX16_looks 37 = .ok (.aload_n 0, 1) := dk_42 (dk_at dksX16_looks_1 13 rfl rfl)
theorem dX16_looks_38 : decode cX16_looks 38 = .ok (.invokevirtual 165, 3) := dk_182 0 165 (dk_at dksX16_looks_1 14 rfl rfl)
theorem dX16_looks_41 : decode cX16_looks 41 = .ok (.goto 37, 3) := dk_167 0 37 (dk_at dksX16_looks_1 17 rfl rfl)
theorem dX16_looks_44 : decode cX16_looks 44 = .ok (.aload_n 0, 1) := dk_42 (dk_at dksX16_looks_1 20 rfl rfl)
theorem dX16_looks_45 : decode cX16_looks 45 = .ok (.getfield 92, 3) := dk_180 0 92 (dk_at dksX16_looks_1 21 rfl rfl)
theorem dX16_looks_48 : decode cX16_looks 48 = .ok (.iconst 2, 1) := dk_5 (dk_at dksX16_looks_2 0 rfl rfl)
theorem dX16_looks_49 : decode cX16_looks 49 = .ok (.if_icmp .ne 29, 3) := dk_160 0 29 (dk_at dksX16_looks_2 1 rfl rfl)
theorem dX16_looks_52 : decode cX16_looks 52 = .ok (.aload_n 0, 1) := dk_42 (dk_at dksX16_looks_2 4 rfl rfl)
theorem dX16_looks_53 : decode cX16_looks 53 = .ok (.getfield 111, 3) := dk_180 0 111 (dk_at dksX16_looks_2 5 rfl rfl)
theorem dX16_looks_56 : decode cX16_looks 56 = .ok (.invokevirtual 168, 3) := dk_182 0 168 (dk_at dksX16_looks_2 8 rfl rfl)
theorem dX16_looks_59 : decode cX16_looks 59 = .ok (.ifCond .eq 19, 3) := dk_153 0 19 (dk_at dksX16_looks_2 11 rfl rfl)
theorem dX16_looks_62 : decode cX16_looks 62 = .ok (.aload_n 0, 1) := dk_42 (dk_at dksX16_looks_2 14 rfl rfl)
theorem dX16_looks_63 : decode cX16_looks 63 = .ok (.aload_n 0, 1) := dk_42 (dk_at dksX16_looks_2 15 rfl rfl)
theorem dX16_looks_64 : decode cX16_looks 64 = .ok (.getfield 98, 3) := dk_180 0 98 (dk_at dksX16_looks_2 16 rfl rfl)
theorem dX16_looks_67 : decode cX16_looks 67 = .ok (.ifCond .le 7, 3) := dk_158 0 7 (dk_at dksX16_looks_2 19 rfl rfl)
theorem dX16_looks_70 : decode cX16_looks 70 = .ok (.iconst 4, 1) := dk_7 (dk_at dksX16_looks_2 22 rfl rfl)
theorem dX16_looks_71 : decode cX16_looks 71 = .ok (.goto 4, 3) := dk_167 0 4 (dk_at dksX16_looks_3 0 rfl rfl)
theorem dX16_looks_74 : decode cX16_looks 74 = .ok (.iconst 3, 1) := dk_6 (dk_at dksX16_looks_3 3 rfl rfl)
theorem dX16_looks_75 : decode cX16_looks 75 = .ok (.invokevirtual 146, 3) := dk_182 0 146 (dk_at dksX16_looks_3 4 rfl rfl)
theorem dX16_looks_78 : decode cX16_looks 78 = .ok (.return_, 1) := dk_177 (dk_at dksX16_looks_3 7 rfl rfl)
theorem hd_X16_compensates : (yX16_compensates.cls ≠ "java/lang/invoke/MethodHandle" ∧ yX16_compensates.cls ≠ "java/lang/invoke/VarHandle" ∧ (parseMethodDescriptor yX16_compensates.desc).map (fun d => d.parameters.length) = some 0) := ⟨by decide +kernel, by decide +kernel, by decide +kernel⟩
def f_X16_looks_s (rec : Nat → gw → Option (Unit × gw)) (a0 : Nat) (w0 : gw) : Option (Unit × gw) := gB1 (gI w0 a0 16 9) fun x1 => if x1 = 0 then gB1 (gR w0 a0 16 13) fun r18 => gB1 r18 fun a19 => gB2 (f_Run_looks 12 a19  w0) fun r21 w20 => gBd (fun (w23 : gw) => some ((), w23)) fun k22 => if r21 = (some (w20.2.2.2 3)) then gB1 (gOb w20 a0 16) fun _ => gB2 (f_X16_turns a0 (nI 1) w20) fun _ w27 => k22 w27 else if r21 = (some (w20.2.2.2 4)) then gB1 (gOb w20 a0 16) fun _ => gB2 (f_X16_compensates rec a0  w20) fun _ w26 => k22 w26 else k22 w20 else gB1 (gI w0 a0 16 9) fun x3 => if x3 = (nI 2) then gB1 (gR w0 a0 16 14) fun r5 => gB1 r5 fun a6 => gB1 (gOb w0 a6 26) fun _ => gB2 (f_X26_isOver a6  w0) fun x8 w7 => if x8 = 0 then some ((), w7) else gB1 (gI w7 a0 16 12) fun x10 => gBd (fun (r13 : Option Nat) (x14 : Int32) (w12 : gw) => gB1 r13 fun a15 => gB1 (gOb w12 a15 16) fun _ => gB2 (f_X16_turns a15 x14 w12) fun _ w16 => some ((), w16)) fun k11 => if x10 ≤ 0 then k11 (some a0) (nI 3) w7 else k11 (some a0) (nI 4) w7 else some ((), w0)
set_option maxHeartbeats 4000000 in
set_option maxRecDepth 100000 in
theorem k_X16_looks_s {D : va_G} {dA : Nat → ClassId} {A : Nat → Prop} {K : Nat → Nat} {l : Launch} {h : Nat} {rec : Nat → gw → Option (Unit × gw)} {B : Nat} (hrec : ∀ {h : Nat}, B ≤ h → ∀ {a0 : Nat} {w0 ww : gw} {rr : Unit}, rec a0  w0 = some (rr, ww) → gMet D dA A K l yX16_looks (ws_ yX16_looks cX16_looks 2 none) h [(ga (some a0))] none w0 ww) (hb : 40 ≤ B) (hh : B + 2 ≤ h) {a0 : Nat} {w0 ww : gw} {rr : Unit} (hf : f_X16_looks_s rec a0 w0 = some (rr, ww)) : gMet D dA A K l yX16_looks (ws_ yX16_looks cX16_looks 2 none) h [(ga (some a0))] none w0 ww := by
  refine j_start (own := RX16) (by decide +kernel) rfl (Nat.le_of_ble_eq_true rfl) ?_
  intro p e R s m args below meth c C hr hin hw
  unfold f_X16_looks_s at hf
  show gJ D dA A K p l e R s m args below meth c (gEnd D dA A K below args s w0 none ww) 2 0 [(0, (ga (some a0)))] [] w0
  refine j_aload_n C dX16_looks_0 rfl ?_
  replace hf := gB1_e hf
  obtain ⟨x1, ex1, hf⟩ := hf
  refine j_get C fl_X16_92_16 dX16_looks_1 (gI_F ex1) ?_
  refine j_if_ne (tgt := 44) C dX16_looks_4 (by decide) (fun c2 => ?_) (fun c2 => ?_)
  · replace hf := gIf_f hf c2
    refine j_aload_n C dX16_looks_44 rfl ?_
    replace hf := gB1_e hf
    obtain ⟨x3, ex3, hf⟩ := hf
    refine j_get C fl_X16_92_16 dX16_looks_45 (gI_F ex3) ?_
    refine j_iconst (v := (nI 2)) C dX16_looks_48 (by decide) ?_
    refine j_icmp_ne (tgt := 78) C dX16_looks_49 (by decide) (fun c4 => ?_) (fun c4 => ?_)
    · replace hf := gIf_f hf c4
      obtain ⟨rfl, rfl⟩ := gSome hf
      exact j_vret C hr hw dX16_looks_78
    · replace hf := gIf_t hf c4
      refine j_aload_n C dX16_looks_52 rfl ?_
      replace hf := gB1_e hf
      obtain ⟨r5, er5, hf⟩ := hf
      refine j_get C fl_X16_111_16 dX16_looks_53 (gR_F er5) ?_
      replace hf := gB1_e hf
      obtain ⟨a6, ea6, hf⟩ := hf
      subst ea6
      replace hf := gB1_e hf
      obtain ⟨_, eo, hf⟩ := hf
      replace hf := gB2_e hf
      obtain ⟨x8, w7, ew7, hf⟩ := hf
      refine j_callV (As := []) (rest := []) (v := (some (gi x8))) C (by omega) (k_X26_isOver (by omega) ew7) (gOb_e eo) rfl q1296 q1253 q1254 q130 q1255 ⟨rfl, hd_X26_isOver⟩ (by decide) rfl (Nat.le_of_ble_eq_true rfl) dX16_looks_56 ?_
      refine j_if_eq (tgt := 78) C dX16_looks_59 (by decide) (fun c9 => ?_) (fun c9 => ?_)
      · replace hf := gIf_t hf c9
        obtain ⟨rfl, rfl⟩ := gSome hf
        exact j_vret C hr hw dX16_looks_78
      · replace hf := gIf_f hf c9
        refine j_aload_n C dX16_looks_62 rfl ?_
        refine j_aload_n C dX16_looks_63 rfl ?_
        replace hf := gB1_e hf
        obtain ⟨x10, ex10, hf⟩ := hf
        refine j_get C fl_X16_98_16 dX16_looks_64 (gI_F ex10) ?_
        replace hf := gBd_x hf
        obtain ⟨k11, ek11, hf⟩ := hf
        have jk11 : ∀ (r13 : Option Nat) (x14 : Int32) (w12 : gw), k11 r13 x14 w12 = some (rr, ww) → gJ D dA A K p l e R s m args below meth c (gEnd D dA A K below args s w0 none ww) 2 75 [] [(gi x14), (ga r13)] w12 := by
          intro r13 x14 w12 hf
          rw [ek11] at hf
          dsimp only at hf
          replace hf := gB1_e hf
          obtain ⟨a15, ea15, hf⟩ := hf
          subst ea15
          replace hf := gB1_e hf
          obtain ⟨_, eo, hf⟩ := hf
          replace hf := gB2_e hf
          obtain ⟨_, w16, ew16, hf⟩ := hf
          refine j_callV (As := [(gi x14)]) (rest := []) (v := none) C (by omega) (k_X16_turns (by omega) ew16) (gOb_e eo) rfl q1281 q1283 qs28 q118 q1284 ⟨rfl, hd_X16_turns⟩ (by decide) rfl (Nat.le_of_ble_eq_true rfl) dX16_looks_75 ?_
          obtain ⟨rfl, rfl⟩ := gSome hf
          exact j_vret C hr hw dX16_looks_78
        clear ek11
        refine j_if_le (tgt := 74) C dX16_looks_67 (by decide) (fun c17 => ?_) (fun c17 => ?_)
        · replace hf := gIf_t hf c17
          refine j_iconst (v := (nI 3)) C dX16_looks_74 (by decide) ?_
          refine j_sub (lv' := []) (gL_nil) ?_
          exact jk11 _ _ _ hf
        · replace hf := gIf_f hf c17
          refine j_iconst (v := (nI 4)) C dX16_looks_70 (by decide) ?_
          refine j_goto (tgt := 75) C dX16_looks_71 (by decide) ?_
          refine j_sub (lv' := []) (gL_nil) ?_
          exact jk11 _ _ _ hf
  · replace hf := gIf_t hf c2
    refine j_aload_n C dX16_looks_7 rfl ?_
    replace hf := gB1_e hf
    obtain ⟨r18, er18, hf⟩ := hf
    refine j_get C fl_X16_101_16 dX16_looks_8 (gR_F er18) ?_
    replace hf := gB1_e hf
    obtain ⟨a19, ea19, hf⟩ := hf
    subst ea19
    replace hf := gB2_e hf
    obtain ⟨r21, w20, ew20, hf⟩ := hf
    refine j_dp_Run_looks (As := []) (rest := []) (v := (some (ga r21))) C (by omega) (kd_Run_looks 12 (by omega) ew20) q937 rfl (Nat.le_of_ble_eq_true rfl) dX16_looks_11 ?_
    refine j_astore_n (lv' := [(1, (ga r21)), (0, (ga (some a0)))]) C dX16_looks_14 (by decide) rfl ?_
    refine j_aload_n C dX16_looks_15 rfl ?_
    refine j_gets (i := 3) C C.2.2.2.2.2.1.2.2.2.2.1.2.1 q1280 dX16_looks_16 ?_
    replace hf := gBd_x hf
    obtain ⟨k22, ek22, hf⟩ := hf
    have jk22 : ∀ (w23 : gw), k22 w23 = some (rr, ww) → gJ D dA A K p l e R s m args below meth c (gEnd D dA A K below args s w0 none ww) 2 41 [] [] w23 := by
      intro w23 hf
      rw [ek22] at hf
      dsimp only at hf
      refine j_goto (tgt := 78) C dX16_looks_41 (by decide) ?_
      obtain ⟨rfl, rfl⟩ := gSome hf
      exact j_vret C hr hw dX16_looks_78
    clear ek22
    refine j_acmp_ne (tgt := 30) C dX16_looks_19 (by decide) (fun c24 => ?_) (fun c24 => ?_)
    · replace hf := gIf_f hf c24
      refine j_aload_n C dX16_looks_30 rfl ?_
      refine j_gets (i := 4) C C.2.2.2.2.2.1.2.2.2.2.1.2.2.1 q1285 dX16_looks_31 ?_
      refine j_acmp_ne (tgt := 41) C dX16_looks_34 (by decide) (fun c25 => ?_) (fun c25 => ?_)
      · replace hf := gIf_f hf c25
        refine j_sub (lv' := []) (gL_nil) ?_
        exact jk22 _ hf
      · replace hf := gIf_t hf c25
        refine j_aload_n C dX16_looks_37 rfl ?_
        replace hf := gB1_e hf
        obtain ⟨_, eo, hf⟩ := hf
        replace hf := gB2_e hf
        obtain ⟨_, w26, ew26, hf⟩ := hf
        refine j_callV (As := []) (rest := []) (v := none) C (by omega) (k_X16_compensates hrec hb (by omega) ew26) (gOb_e eo) rfl q1286 q1287 q1288 q118 q1289 ⟨rfl, hd_X16_compensates⟩ (by decide) rfl (Nat.le_of_ble_eq_true rfl) dX16_looks_38 ?_
        refine j_sub (lv' := []) (gL_nil) ?_
        exact jk22 _ hf
    · replace hf := gIf_t hf c24
      refine j_aload_n C dX16_looks_22 rfl ?_
      refine j_iconst (v := (nI 1)) C dX16_looks_23 (by decide) ?_
      replace hf := gB1_e hf
      obtain ⟨_, eo, hf⟩ := hf
      replace hf := gB2_e hf
      obtain ⟨_, w27, ew27, hf⟩ := hf
      refine j_callV (As := [(gi (nI 1))]) (rest := []) (v := none) C (by omega) (k_X16_turns (by omega) ew27) (gOb_e eo) rfl q1281 q1283 qs28 q118 q1284 ⟨rfl, hd_X16_turns⟩ (by decide) rfl (Nat.le_of_ble_eq_true rfl) dX16_looks_24 ?_
      refine j_goto (tgt := 41) C dX16_looks_27 (by decide) ?_
      refine j_sub (lv' := []) (gL_nil) ?_
      exact jk22 _ hf
def f_X16_looks : Nat → Nat → gw → Option (Unit × gw)
  | 0 => fun _ _ => none
  | d + 1 => f_X16_looks_s (f_X16_looks d)
theorem k_X16_looks {D : va_G} {dA : Nat → ClassId} {A : Nat → Prop} {K : Nat → Nat} {l : Launch} : ∀ (d : Nat) {h : Nat}, 40 + 2 * d ≤ h → ∀ {a0 : Nat} {w0 ww : gw} {rr : Unit}, f_X16_looks d a0  w0 = some (rr, ww) → gMet D dA A K l yX16_looks (ws_ yX16_looks cX16_looks 2 none) h [(ga (some a0))] none w0 ww := by
  intro d
  induction d with
  | zero => intro h hh a0  w0 ww rr hf; cases hf
  | succ d ih =>
    intro h hh a0  w0 ww rr hf
    exact k_X16_looks_s (rec := f_X16_looks d) (B := 40 + 2 * d) (fun hh => ih hh) (by omega) (by omega) hf
abbrev f_X16_compensates_x (a0 : Nat) (w0 : gw) : Option (Unit × gw) := f_X16_compensates (f_X16_looks 3) a0 w0
theorem k_X16_compensates_x {D : va_G} {dA : Nat → ClassId} {A : Nat → Prop} {K : Nat → Nat} {l : Launch} {h : Nat} (hh : 47 ≤ h) {a0 : Nat} {w0 ww : gw} {rr : Unit} (hf : f_X16_compensates_x a0 w0 = some (rr, ww)) : gMet D dA A K l yX16_compensates (ws_ yX16_compensates cX16_compensates 2 none) h [(ga (some a0))] none w0 ww := k_X16_compensates (fun hh => k_X16_looks 3 hh) (B := 46) (by omega) (by omega) hf
def dkwX0_start_5 : List UInt8 := [25, 4, 83, 25, 4, 182, 0, 129, 29, 172]
abbrev dktX0_start_5 : List UInt8 := dkwX0_start_5 ++ []
def dkwX0_start_4 : List UInt8 := [7, 27, 104, 28, 96, 50, 180, 0, 67, 183, 0, 123, 181, 0, 126, 42, 180, 0, 91, 180, 0, 109, 29]
abbrev dktX0_start_4 : List UInt8 := dkwX0_start_4 ++ dktX0_start_5
def dkwX0_start_3 : List UInt8 := [180, 0, 91, 180, 0, 115, 183, 0, 118, 58, 4, 25, 4, 187, 0, 121, 89, 42, 25, 4, 42, 180, 0, 48]
abbrev dktX0_start_3 : List UInt8 := dkwX0_start_3 ++ dktX0_start_4
def dkwX0_start_2 : List UInt8 := [167, 255, 235, 29, 16, 6, 160, 0, 6, 16, 252, 172, 187, 0, 113, 89, 42, 42, 180, 0, 91, 27, 28, 42]
abbrev dktX0_start_2 : List UInt8 := dkwX0_start_2 ++ dktX0_start_3
def dkwX0_start_1 : List UInt8 := [172, 3, 62, 29, 16, 6, 162, 0, 21, 42, 180, 0, 91, 180, 0, 109, 29, 50, 198, 0, 9, 132, 3, 1]
abbrev dktX0_start_1 : List UInt8 := dkwX0_start_1 ++ dktX0_start_2
def dkwX0_start_0 : List UInt8 := [27, 184, 0, 36, 154, 0, 5, 2, 172, 42, 180, 0, 40, 27, 46, 4, 100, 61, 28, 156, 0, 6, 16, 253]
abbrev dktX0_start_0 : List UInt8 := dkwX0_start_0 ++ dktX0_start_1
theorem dksX0_start_0 : cX0_start.data.toList.drop 0 = dktX0_start_0 := by decide +kernel
theorem dksX0_start_1 : cX0_start.data.toList.drop 24 = dktX0_start_1 := dk_seg dksX0_start_0 24 rfl rfl
theorem dksX0_start_2 : cX0_start.data.toList.drop 48 = dktX0_start_2 := dk_seg dksX0_start_1 24 rfl rfl
theorem dksX0_start_3 : cX0_start.data.toList.drop 72 = dktX0_start_3 := dk_seg dksX0_start_2 24 rfl rfl
theorem dksX0_start_4 : cX0_start.data.toList.drop 96 = dktX0_start_4 := dk_seg dksX0_start_3 24 rfl rfl
theorem dksX0_start_5 : cX0_start.data.toList.drop 119 = dktX0_start_5 := dk_seg dksX0_start_4 23 rfl rfl
theorem dX0_start_0 : decode cX0_start 0 = .ok (.iload_n 1, 1) := dk_27 (dk_at dksX0_start_0 0 rfl rfl)
theorem dX0_start_1 : decode cX0_start 1 = .ok (.invokestatic 36, 3) := dk_184 0 36 (dk_at dksX0_start_0 1 rfl rfl)
theorem dX0_start_4 : decode cX0_start 4 = .ok (.ifCond .ne 5, 3) := dk_154 0 5 (dk_at dksX0_start_0 4 rfl rfl)
theorem dX0_start_7 : decode cX0_start 7 = .ok (.iconst (-1), 1) := dk_2 (dk_at dksX0_start_0 7 rfl rfl)
theorem dX0_start_8 : decode cX0_start 8 = .ok (.ireturn, 1) := dk_172 (dk_at dksX0_start_0 8 rfl rfl)
theorem dX0_start_9 : decode cX0_start 9 = .ok (.aload_n 0, 1) := dk_42 (dk_at dksX0_start_0 9 rfl rfl)
theorem dX0_start_10 : decode cX0_start 10 = .ok (.getfield 40, 3) := dk_180 0 40 (dk_at dksX0_start_0 10 rfl rfl)
theorem dX0_start_13 : decode cX0_start 13 = .ok (.iload_n 1, 1) := dk_27 (dk_at dksX0_start_0 13 rfl rfl)
theorem dX0_start_14 : decode cX0_start 14 = .ok (.iaload, 1) := dk_46 (dk_at dksX0_start_0 14 rfl rfl)
theorem dX0_start_15 : decode cX0_start 15 = .ok (.iconst 1, 1) := dk_4 (dk_at dksX0_start_0 15 rfl rfl)
theorem dX0_start_16 : decode cX0_start 16 = .ok (.isub, 1) := dk_100 (dk_at dksX0_start_0 16 rfl rfl)
theorem dX0_start_17 : decode cX0_start 17 = .ok (.istore_n 2, 1) := dk_61 (dk_at dksX0_start_0 17 rfl rfl)
theorem dX0_start_18 : decode cX0_start 18 = .ok (.iload_n 2, 1) := dk_28 (dk_at dksX0_start_0 18 rfl rfl)
theorem dX0_start_19 : decode cX0_start 19 = .ok (.ifCond .ge 6, 3) := dk_156 0 6 (dk_at dksX0_start_0 19 rfl rfl)
theorem dX0_start_22 : decode cX0_start 22 = .ok (.bipush (-3), 2) := dk_16 253 (dk_at dksX0_start_0 22 rfl rfl)
theorem dX0_start_24 : decode cX0_start 24 = .ok (.ireturn, 1) := dk_172 (dk_at dksX0_start_1 0 rfl rfl)
theorem dX0_start_25 : decode cX0_start 25 = .ok (.iconst 0, 1) := dk_3 (dk_at dksX0_start_1 1 rfl rfl)
theorem dX0_start_26 : decode cX0_start 26 = .ok (.istore_n 3, 1) := dk_62 (dk_at dksX0_start_1 2 rfl rfl)
theorem dX0_start_27 : decode cX0_start 27 = .ok (.iload_n 3, 1) := dk_29 (dk_at dksX0_start_1 3 rfl rfl)
theorem dX0_start_28 : decode cX0_start 28 = .ok (.bipush 6, 2) := dk_16 6 (dk_at dksX0_start_1 4 rfl rfl)
theorem dX0_start_30 : decode cX0_start 30 = .ok (.if_icmp .ge 21, 3) := dk_162 0 21 (dk_at dksX0_start_1 6 rfl rfl)
theorem dX0_start_33 : decode cX0_start 33 = .ok (.aload_n 0, 1) := dk_42 (dk_at dksX0_start_1 9 rfl rfl)
theorem dX0_start_34 : decode cX0_start 34 = .ok (.getfield 91, 3) := dk_180 0 91 (dk_at dksX0_start_1 10 rfl rfl)
theorem dX0_start_37 : decode cX0_start 37 = .ok (.getfield 109, 3) := dk_180 0 109 (dk_at dksX0_start_1 13 rfl rfl)
theorem dX0_start_40 : decode cX0_start 40 = .ok (.iload_n 3, 1) := dk_29 (dk_at dksX0_start_1 16 rfl rfl)
theorem dX0_start_41 : decode cX0_start 41 = .ok (.aaload, 1) := dk_50 (dk_at dksX0_start_1 17 rfl rfl)
theorem dX0_start_42 : decode cX0_start 42 = .ok (.ifnull 9, 3) := dk_198 0 9 (dk_at dksX0_start_1 18 rfl rfl)
theorem dX0_start_45 : decode cX0_start 45 = .ok (.iinc 3 1, 3) := dk_132 3 1 (dk_at dksX0_start_1 21 rfl rfl)
theorem dX0_start_48 : decode cX0_start 48 = .ok (.goto (-21), 3) := dk_167 255 235 (dk_at dksX0_start_2 0 rfl rfl)
theorem dX0_start_51 : decode cX0_start 51 = .ok (.iload_n 3, 1) := dk_29 (dk_at dksX0_start_2 3 rfl rfl)
theorem dX0_start_52 : decode cX0_start 52 = .ok (.bipush 6, 2) := dk_16 6 (dk_at dksX0_start_2 4 rfl rfl)
theorem dX0_start_54 : decode cX0_start 54 = .ok (.if_icmp .ne 6, 3) := dk_160 0 6 (dk_at dksX0_start_2 6 rfl rfl)
theorem dX0_start_57 : decode cX0_start 57 = .ok (.bipush (-4), 2) := dk_16 252 (dk_at dksX0_start_2 9 rfl rfl)
theorem dX0_start_59 : decode cX0_start 59 = .ok (.ireturn, 1) := dk_172 (dk_at dksX0_start_2 11 rfl rfl)
theorem dX0_start_60 : decode cX0_start 60 = .ok (.new 113, 3) := dk_187 0 113 (dk_at dksX0_start_2 12 rfl rfl)
theorem dX0_start_63 : decode cX0_start 63 = .ok (.dup, 1) := dk_89 (dk_at dksX0_start_2 15 rfl rfl)
theorem dX0_start_64 : decode cX0_start 64 = .ok (.aload_n 0, 1) := dk_42 (dk_at dksX0_start_2 16 rfl rfl)
theorem dX0_start_65 : decode cX0_start 65 = .ok (.aload_n 0, 1) := dk_42 (dk_at dksX0_start_2 17 rfl rfl)
theorem dX0_start_66 : decode cX0_start 66 = .ok (.getfield 91, 3) := dk_180 0 91 (dk_at dksX0_start_2 18 rfl rfl)
theorem dX0_start_69 : decode cX0_start 69 = .ok (.iload_n 1, 1) := dk_27 (dk_at dksX0_start_2 21 rfl rfl)
theorem dX0_start_70 : decode cX0_start 70 = .ok (.iload_n 2, 1) := dk_28 (dk_at dksX0_start_2 22 rfl rfl)
theorem dX0_start_71 : decode cX0_start 71 = .ok (.aload_n 0, 1) := dk_42 (dk_at dksX0_start_2 23 rfl rfl)
theorem dX0_start_72 : decode cX0_start 72 = .ok (.getfield 91, 3) := dk_180 0 91 (dk_at dksX0_start_3 0 rfl rfl)
theorem dX0_start_75 : decode cX0_start 75 = .ok (.getfield 115, 3) := dk_180 0 115 (dk_at dksX0_start_3 3 rfl rfl)
theorem dX0_start_78 : decode cX0_start 78 = .ok (.invokespecial 118, 3) := dk_183 0 118 (dk_at dksX0_start_3 6 rfl rfl)
theorem dX0_start_81 : decode cX0_start 81 = .ok (.astore 4, 2) := dk_58 4 (dk_at dksX0_start_3 9 rfl rfl)
theorem dX0_start_83 : decode cX0_start 83 = .ok (.aload 4, 2) := dk_25 4 (dk_at dksX0_start_3 11 rfl rfl)
theorem dX0_start_85 : decode cX0_start 85 = .ok (.new 121, 3) := dk_187 0 121 (dk_at dksX0_start_3 13 rfl rfl)
theorem dX0_start_88 : decode cX0_start 88 = .ok (.dup, 1) := dk_89 (dk_at dksX0_start_3 16 rfl rfl)
theorem dX0_start_89 : decode cX0_start 89 = .ok (.aload_n 0, 1) := dk_42 (dk_at dksX0_start_3 17 rfl rfl)
theorem dX0_start_90 : decode cX0_start 90 = .ok (.aload 4, 2) := dk_25 4 (dk_at dksX0_start_3 18 rfl rfl)
theorem dX0_start_92 : decode cX0_start 92 = .ok (.aload_n 0, 1) := dk_42 (dk_at dksX0_start_3 20 rfl rfl)
theorem dX0_start_93 : decode cX0_start 93 = .ok (.getfield 48, 3) := dk_180 0 48 (dk_at dksX0_start_3 21 rfl rfl)
theorem dX0_start_96 : decode cX0_start 96 = .ok (.iconst 4, 1) := dk_7 (dk_at dksX0_start_4 0 rfl rfl)
theorem dX0_start_97 : decode cX0_start 97 = .ok (.iload_n 1, 1) := dk_27 (dk_at dksX0_start_4 1 rfl rfl)
theorem dX0_start_98 : decode cX0_start 98 = .ok (.imul, 1) := dk_104 (dk_at dksX0_start_4 2 rfl rfl)
theorem dX0_start_99 : decode cX0_start 99 = .ok (.iload_n 2, 1) := dk_28 (dk_at dksX0_start_4 3 rfl rfl)
theorem dX0_start_100 : decode cX0_start 100 = .ok (.iadd, 1) := dk_96 (dk_at dksX0_start_4 4 rfl rfl)
theorem dX0_start_101 : decode cX0_start 101 = .ok (.aaload, 1) := dk_50 (dk_at dksX0_start_4 5 rfl rfl)
theorem dX0_start_102 : decode cX0_start 102 = .ok (.getfield 67, 3) := dk_180 0 67 (dk_at dksX0_start_4 6 rfl rfl)
theorem dX0_start_105 : decode cX0_start 105 = .ok (.invokespecial 123, 3) := dk_183 0 123 (dk_at dksX0_start_4 9 rfl rfl)
theorem dX0_start_108 : decode cX0_start 108 = .ok (.putfield 126, 3) := dk_181 0 126 (dk_at dksX0_start_4 12 rfl rfl)
theorem dX0_start_111 : decode cX0_start 111 = .ok (.aload_n 0, 1) := dk_42 (dk_at dksX0_start_4 15 rfl rfl)
theorem dX0_start_112 : decode cX0_start 112 = .ok (.getfield 91, 3) := dk_180 0 91 (dk_at dksX0_start_4 16 rfl rfl)
theorem dX0_start_115 : decode cX0_start 115 = .ok (.getfield 109, 3) := dk_180 0 109 (dk_at dksX0_start_4 19 rfl rfl)
theorem dX0_start_118 : decode cX0_start 118 = .ok (.iload_n 3, 1) := dk_29 (dk_at dksX0_start_4 22 rfl rfl)
theorem dX0_start_119 : decode cX0_start 119 = .ok (.aload 4, 2) := dk_25 4 (dk_at dksX0_start_5 0 rfl rfl)
theorem dX0_start_121 : decode cX0_start 121 = .ok (.aastore, 1) := dk_83 (dk_at dksX0_start_5 2 rfl rfl)
theorem dX0_start_122 : decode cX0_start 122 = .ok (.aload 4, 2) := dk_25 4 (dk_at dksX0_start_5 3 rfl rfl)
theorem dX0_start_124 : decode cX0_start 124 = .ok (.invokevirtual 129, 3) := dk_182 0 129 (dk_at dksX0_start_5 5 rfl rfl)
theorem dX0_start_127 : decode cX0_start 127 = .ok (.iload_n 3, 1) := dk_29 (dk_at dksX0_start_5 8 rfl rfl)
theorem dX0_start_128 : decode cX0_start 128 = .ok (.ireturn, 1) := dk_172 (dk_at dksX0_start_5 9 rfl rfl)
theorem nl_X0_113 : gNL RX0 113 16 := ⟨RX16, TX16, 16, 16, tyX16, _, rfl, rfl, in_X16, tyX16_ok, q794, q795, q118, fun j hj => by rcases (show j = 0 ∨ j = 1 ∨ j = 2 ∨ j = 3 ∨ j = 4 ∨ j = 5 ∨ j = 6 ∨ j = 7 ∨ j = 8 ∨ j = 9 ∨ j = 10 ∨ j = 11 ∨ j = 12 ∨ j = 13 ∨ j = 14 ∨ j = 15 by omega) with rfl | rfl | rfl | rfl | rfl | rfl | rfl | rfl | rfl | rfl | rfl | rfl | rfl | rfl | rfl | rfl <;> rfl⟩
theorem nl_X0_121 : gNL RX0 121 18 := ⟨RX18, TX18, 7, 7, tyX18, _, rfl, rfl, in_X18, tyX18_ok, q873, q874, q120, fun j hj => by rcases (show j = 0 ∨ j = 1 ∨ j = 2 ∨ j = 3 ∨ j = 4 ∨ j = 5 ∨ j = 6 by omega) with rfl | rfl | rfl | rfl | rfl | rfl | rfl <;> rfl⟩
def f_X0_start (a0 : Nat) (p1 : Int32) (w0 : gw) : Option (Int32 × gw) := gB2 (f_X0_isWorkflow p1 w0) fun x2 w1 => if x2 = 0 then some ((-1), w1) else gB1 (gR w1 a0 0 4) fun r4 => gB1 r4 fun a5 => gB1 (gLdI w1 a5 0 p1) fun x6 => gBd (x6 - (nI 1)) fun x7 => if 0 ≤ x7 then gL3 (fun k13 (x10 : Int32) (x11 : Int32) (x12 : Int32) (w9 : gw) => gBd (fun (x16 : Int32) (x17 : Int32) (x18 : Int32) (w15 : gw) => if x18 = (nI 6) then some ((-4), w15) else gB2 (gNew w15 16) fun a20 w21 => gB1 (gR w21 a0 0 5) fun r22 => gB1 (gR w21 a0 0 5) fun r23 => gB1 r23 fun a24 => gB1 (gI w21 a24 1 3) fun x25 => gB2 (f_X16_init a20 (some a0) r22 x16 x17 x25 w21) fun _ w26 => gB2 (gNew w26 18) fun a27 w28 => gB1 (gR w28 a0 0 3) fun r29 => gB1 r29 fun a30 => gB1 (gLdR w28 a30 3 (((nI 4) * x16) + x17)) fun r31 => gB1 r31 fun a32 => gB1 (gR w28 a32 3 0) fun r33 => gB2 (f_X18_init a27 (some a0) (some a20) r33 w28) fun _ w34 => gB1 (gPut w34 a20 16 13 (ga (some a27))) fun w35 => gB1 (gR w35 a0 0 5) fun r36 => gB1 r36 fun a37 => gB1 (gR w35 a37 1 2) fun r38 => gB1 r38 fun a39 => gB1 (gStR w35 a39 4 x18 (some a20)) fun w40 => gB1 (gOb w40 a20 16) fun _ => gB2 (f_X16_looks 3 a20  w40) fun _ w41 => some (x18, w41)) fun k14 => if (nI 6) ≤ x12 then k14 x10 x11 x12 w9 else gB1 (gR w9 a0 0 5) fun r43 => gB1 r43 fun a44 => gB1 (gR w9 a44 1 2) fun r45 => gB1 r45 fun a46 => gB1 (gLdR w9 a46 4 x12) fun r47 => gNl r47 (k14 x10 x11 x12 w9) (fun a49 => gBd (x12 + (nI 1)) fun x50 => k13 x10 x11 x50 w9)) 20000 p1 x7 (nI 0) w1 else some ((-3), w1)
set_option maxHeartbeats 4000000 in
set_option maxRecDepth 100000 in
theorem k_X0_start {D : va_G} {dA : Nat → ClassId} {A : Nat → Prop} {K : Nat → Nat} {l : Launch} {h : Nat} (hh : 47 ≤ h) {a0 : Nat} {p1 : Int32} {w0 ww : gw} {rr : Int32} (hf : f_X0_start a0 p1 w0 = some (rr, ww)) : gMet D dA A K l yX0_start (ws_ yX0_start cX0_start 5 (some .int)) h [(ga (some a0)), (gi p1)] (some (gi rr)) w0 ww := by
  refine j_start (own := RX0) (by decide +kernel) rfl (Nat.le_of_ble_eq_true rfl) ?_
  intro p e R s m args below meth c C hr hin hw
  unfold f_X0_start at hf
  show gJ D dA A K p l e R s m args below meth c (gEnd D dA A K below args s w0 (some (gi rr)) ww) 5 0 [(0, (ga (some a0))), (1, (gi p1))] [] w0
  refine j_iload_n C dX0_start_0 rfl ?_
  replace hf := gB2_e hf
  obtain ⟨x2, w1, ew1, hf⟩ := hf
  refine j_callS (As := [(gi p1)]) (rest := []) (v := (some (gi x2))) C (by omega) (k_X0_isWorkflow (by omega) ew1) q146 q147 q91 q148 hd_X0_isWorkflow (by decide) rfl (Nat.le_of_ble_eq_true rfl) dX0_start_1 ?_
  refine j_if_ne (tgt := 9) C dX0_start_4 (by decide) (fun c3 => ?_) (fun c3 => ?_)
  · replace hf := gIf_f hf c3
    refine j_aload_n C dX0_start_9 rfl ?_
    replace hf := gB1_e hf
    obtain ⟨r4, er4, hf⟩ := hf
    refine j_get C fl_X0_40_0 dX0_start_10 (gR_F er4) ?_
    refine j_iload_n C dX0_start_13 rfl ?_
    replace hf := gB1_e hf
    obtain ⟨a5, ea5, hf⟩ := hf
    subst ea5
    replace hf := gB1_e hf
    obtain ⟨x6, ex6, hf⟩ := hf
    refine j_iald C ex6 dX0_start_14 ?_
    refine j_iconst (v := (nI 1)) C dX0_start_15 (by decide) ?_
    refine j_isub C dX0_start_16 ?_
    replace hf := gBd_x hf
    obtain ⟨x7, ex7, hf⟩ := hf
    refine j_nm ex7 ?_
    refine j_istore_n (lv' := [(2, (gi x7)), (0, (ga (some a0))), (1, (gi p1))]) C dX0_start_17 (by decide) rfl ?_
    refine j_iload_n C dX0_start_18 rfl ?_
    refine j_if_ge (tgt := 25) C dX0_start_19 (by decide) (fun c8 => ?_) (fun c8 => ?_)
    · replace hf := gIf_t hf c8
      refine j_iconst (v := (nI 0)) C dX0_start_25 (by decide) ?_
      refine j_istore_n (lv' := [(3, (gi (nI 0))), (2, (gi x7)), (0, (ga (some a0))), (1, (gi p1))]) C dX0_start_26 (by decide) rfl ?_
      refine j_sub (lv' := [(0, (ga (some a0))), (1, (gi p1)), (2, (gi x7)), (3, (gi (nI 0)))]) (gL_cons rfl (gL_cons rfl (gL_cons rfl (gL_cons rfl (gL_nil))))) ?_
      refine gL3_e (fun (x10 : Int32) (x11 : Int32) (x12 : Int32) (w9 : gw) => gJ D dA A K p l e R s m args below meth c (gEnd D dA A K below args s w0 (some (gi rr)) ww) 5 27 [(0, (ga (some a0))), (1, (gi x10)), (2, (gi x11)), (3, (gi x12))] [] w9) ?_ _ _ _ _ _ hf
      intro k13 jk13 x10 x11 x12 w9 hf
      refine j_iload_n C dX0_start_27 rfl ?_
      refine j_bipush (v := (nI 6)) C dX0_start_28 (by decide) ?_
      replace hf := gBd_x hf
      obtain ⟨k14, ek14, hf⟩ := hf
      have jk14 : ∀ (x16 : Int32) (x17 : Int32) (x18 : Int32) (w15 : gw), k14 x16 x17 x18 w15 = some (rr, ww) → gJ D dA A K p l e R s m args below meth c (gEnd D dA A K below args s w0 (some (gi rr)) ww) 5 51 [(0, (ga (some a0))), (1, (gi x16)), (2, (gi x17)), (3, (gi x18))] [] w15 := by
        intro x16 x17 x18 w15 hf
        rw [ek14] at hf
        dsimp only at hf
        refine j_iload_n C dX0_start_51 rfl ?_
        refine j_bipush (v := (nI 6)) C dX0_start_52 (by decide) ?_
        refine j_icmp_ne (tgt := 60) C dX0_start_54 (by decide) (fun c19 => ?_) (fun c19 => ?_)
        · replace hf := gIf_f hf c19
          replace hf := gB2_e hf
          obtain ⟨a20, w21, ew21, hf⟩ := hf
          refine j_new C nl_X0_113 ew21 dX0_start_60 ?_
          refine j_dup C dX0_start_63 ?_
          refine j_aload_n C dX0_start_64 rfl ?_
          refine j_aload_n C dX0_start_65 rfl ?_
          replace hf := gB1_e hf
          obtain ⟨r22, er22, hf⟩ := hf
          refine j_get C fl_X0_91_0 dX0_start_66 (gR_F er22) ?_
          refine j_iload_n C dX0_start_69 rfl ?_
          refine j_iload_n C dX0_start_70 rfl ?_
          refine j_aload_n C dX0_start_71 rfl ?_
          replace hf := gB1_e hf
          obtain ⟨r23, er23, hf⟩ := hf
          refine j_get C fl_X0_91_0 dX0_start_72 (gR_F er23) ?_
          replace hf := gB1_e hf
          obtain ⟨a24, ea24, hf⟩ := hf
          subst ea24
          replace hf := gB1_e hf
          obtain ⟨x25, ex25, hf⟩ := hf
          refine j_get C fl_X0_115_1 dX0_start_75 (gI_F ex25) ?_
          replace hf := gB2_e hf
          obtain ⟨_, w26, ew26, hf⟩ := hf
          refine j_callI (As := [(ga (some a0)), (ga r22), (gi x16), (gi x17), (gi x25)]) (rest := [(ga (some a20))]) C (by omega) (k_X16_init (by omega) ew26) rfl q796 q797 q118 q798 hd_X16_init (by decide) rfl (Nat.le_of_ble_eq_true rfl) dX0_start_78 ?_
          refine j_astore (lv' := [(4, (ga (some a20))), (0, (ga (some a0))), (1, (gi x16)), (2, (gi x17)), (3, (gi x18))]) C dX0_start_81 (by decide) rfl ?_
          refine j_aload C dX0_start_83 rfl ?_
          replace hf := gB2_e hf
          obtain ⟨a27, w28, ew28, hf⟩ := hf
          refine j_new C nl_X0_121 ew28 dX0_start_85 ?_
          refine j_dup C dX0_start_88 ?_
          refine j_aload_n C dX0_start_89 rfl ?_
          refine j_aload C dX0_start_90 rfl ?_
          refine j_aload_n C dX0_start_92 rfl ?_
          replace hf := gB1_e hf
          obtain ⟨r29, er29, hf⟩ := hf
          refine j_get C fl_X0_48_0 dX0_start_93 (gR_F er29) ?_
          refine j_iconst (v := (nI 4)) C dX0_start_96 (by decide) ?_
          refine j_iload_n C dX0_start_97 rfl ?_
          refine j_imul C dX0_start_98 ?_
          refine j_iload_n C dX0_start_99 rfl ?_
          refine j_iadd C dX0_start_100 ?_
          replace hf := gB1_e hf
          obtain ⟨a30, ea30, hf⟩ := hf
          subst ea30
          replace hf := gB1_e hf
          obtain ⟨r31, er31, hf⟩ := hf
          refine j_aald C (t := 3) rfl er31 dX0_start_101 ?_
          replace hf := gB1_e hf
          obtain ⟨a32, ea32, hf⟩ := hf
          subst ea32
          replace hf := gB1_e hf
          obtain ⟨r33, er33, hf⟩ := hf
          refine j_get C fl_X0_67_3 dX0_start_102 (gR_F er33) ?_
          replace hf := gB2_e hf
          obtain ⟨_, w34, ew34, hf⟩ := hf
          refine j_callI (As := [(ga (some a0)), (ga (some a20)), (ga r33)]) (rest := [(ga (some a27)), (ga (some a20))]) C (by omega) (k_X18_init (by omega) ew34) rfl q875 q876 q120 q877 hd_X18_init (by decide) rfl (Nat.le_of_ble_eq_true rfl) dX0_start_105 ?_
          replace hf := gB1_e hf
          obtain ⟨w35, ew35, hf⟩ := hf
          refine j_put C fl_X0_126_16 tb_16 ew35 fk_16_13 (ft_LWorkflowEngine_Run_ (some a27)) dX0_start_108 ?_
          refine j_aload_n C dX0_start_111 rfl ?_
          replace hf := gB1_e hf
          obtain ⟨r36, er36, hf⟩ := hf
          refine j_get C fl_X0_91_0 dX0_start_112 (gR_F er36) ?_
          replace hf := gB1_e hf
          obtain ⟨a37, ea37, hf⟩ := hf
          subst ea37
          replace hf := gB1_e hf
          obtain ⟨r38, er38, hf⟩ := hf
          refine j_get C fl_X0_109_1 dX0_start_115 (gR_F er38) ?_
          refine j_iload_n C dX0_start_118 rfl ?_
          refine j_aload C dX0_start_119 rfl ?_
          replace hf := gB1_e hf
          obtain ⟨a39, ea39, hf⟩ := hf
          subst ea39
          replace hf := gB1_e hf
          obtain ⟨w40, ew40, hf⟩ := hf
          refine j_aast C (t := 4) rfl gAsg_4 ew40 dX0_start_121 ?_
          refine j_aload C dX0_start_122 rfl ?_
          replace hf := gB1_e hf
          obtain ⟨_, eo, hf⟩ := hf
          replace hf := gB2_e hf
          obtain ⟨_, w41, ew41, hf⟩ := hf
          refine j_callV (As := []) (rest := []) (v := none) C (by omega) (k_X16_looks 3 (by omega) ew41) (gOb_e eo) rfl q933 q934 q935 q118 q936 ⟨rfl, hd_X16_looks⟩ (by decide) rfl (Nat.le_of_ble_eq_true rfl) dX0_start_124 ?_
          refine j_iload_n C dX0_start_127 rfl ?_
          obtain ⟨rfl, rfl⟩ := gSome hf
          exact j_iret C hr hw dX0_start_128
        · replace hf := gIf_t hf c19
          refine j_bipush (v := (-4)) C dX0_start_57 (by decide) ?_
          obtain ⟨rfl, rfl⟩ := gSome hf
          exact j_iret C hr hw dX0_start_59
      clear ek14
      refine j_icmp_ge (tgt := 51) C dX0_start_30 (by decide) (fun c42 => ?_) (fun c42 => ?_)
      · replace hf := gIf_t hf c42
        exact jk14 _ _ _ _ hf
      · replace hf := gIf_f hf c42
        refine j_aload_n C dX0_start_33 rfl ?_
        replace hf := gB1_e hf
        obtain ⟨r43, er43, hf⟩ := hf
        refine j_get C fl_X0_91_0 dX0_start_34 (gR_F er43) ?_
        replace hf := gB1_e hf
        obtain ⟨a44, ea44, hf⟩ := hf
        subst ea44
        replace hf := gB1_e hf
        obtain ⟨r45, er45, hf⟩ := hf
        refine j_get C fl_X0_109_1 dX0_start_37 (gR_F er45) ?_
        refine j_iload_n C dX0_start_40 rfl ?_
        replace hf := gB1_e hf
        obtain ⟨a46, ea46, hf⟩ := hf
        subst ea46
        replace hf := gB1_e hf
        obtain ⟨r47, er47, hf⟩ := hf
        refine j_aald C (t := 4) rfl er47 dX0_start_41 ?_
        refine j_ifnull (tgt := 51) C dX0_start_42 (by decide) (fun c48 => ?_) (fun a49 c48 => ?_)
        · subst c48
          replace hf := gNl_n hf
          exact jk14 _ _ _ _ hf
        · subst c48
          replace hf := gNl_s hf
          replace hf := gBd_x hf
          obtain ⟨x50, ex50, hf⟩ := hf
          refine j_iinc (v := x50) (lv' := [(3, (gi x50)), (0, (ga (some a0))), (1, (gi x10)), (2, (gi x11))]) C dX0_start_45 rfl (by rw [ex50]; rfl) (by decide) rfl ?_
          refine j_goto (tgt := 27) C dX0_start_48 (by decide) ?_
          refine j_sub (lv' := [(0, (ga (some a0))), (1, (gi x10)), (2, (gi x11)), (3, (gi x50))]) (gL_cons rfl (gL_cons rfl (gL_cons rfl (gL_cons rfl (gL_nil))))) ?_
          exact jk13 _ _ _ _ hf
    · replace hf := gIf_f hf c8
      refine j_bipush (v := (-3)) C dX0_start_22 (by decide) ?_
      obtain ⟨rfl, rfl⟩ := gSome hf
      exact j_iret C hr hw dX0_start_24
  · replace hf := gIf_t hf c3
    refine j_iconst (v := (-1)) C dX0_start_7 (by decide) ?_
    obtain ⟨rfl, rfl⟩ := gSome hf
    exact j_iret C hr hw dX0_start_8
def dkwX0_abort_1 : List UInt8 := [153, 0, 6, 16, 253, 172, 44, 182, 0, 141, 44, 180, 0, 135, 172]
abbrev dktX0_abort_1 : List UInt8 := dkwX0_abort_1 ++ []
def dkwX0_abort_0 : List UInt8 := [42, 27, 182, 0, 132, 154, 0, 5, 2, 172, 42, 180, 0, 91, 180, 0, 109, 27, 50, 77, 44, 180, 0, 135]
abbrev dktX0_abort_0 : List UInt8 := dkwX0_abort_0 ++ dktX0_abort_1
theorem dksX0_abort_0 : cX0_abort.data.toList.drop 0 = dktX0_abort_0 := by decide +kernel
theorem dksX0_abort_1 : cX0_abort.data.toList.drop 24 = dktX0_abort_1 := dk_seg dksX0_abort_0 24 rfl rfl
theorem dX0_abort_0 : decode cX0_abort 0 = .ok (.aload_n 0, 1) := dk_42 (dk_at dksX0_abort_0 0 rfl rfl)
theorem dX0_abort_1 : decode cX0_abort 1 = .ok (.iload_n 1, 1) := dk_27 (dk_at dksX0_abort_0 1 rfl rfl)
theorem dX0_abort_2 : decode cX0_abort 2 = .ok (.invokevirtual 132, 3) := dk_182 0 132 (dk_at dksX0_abort_0 2 rfl rfl)
theorem dX0_abort_5 : decode cX0_abort 5 = .ok (.ifCond .ne 5, 3) := dk_154 0 5 (dk_at dksX0_abort_0 5 rfl rfl)
theorem dX0_abort_8 : decode cX0_abort 8 = .ok (.iconst (-1), 1) := dk_2 (dk_at dksX0_abort_0 8 rfl rfl)
theorem dX0_abort_9 : decode cX0_abort 9 = .ok (.ireturn, 1) := dk_172 (dk_at dksX0_abort_0 9 rfl rfl)
theorem dX0_abort_10 : decode cX0_abort 10 = .ok (.aload_n 0, 1) := dk_42 (dk_at dksX0_abort_0 10 rfl rfl)
theorem dX0_abort_11 : decode cX0_abort 11 = .ok (.getfield 91, 3) := dk_180 0 91 (dk_at dksX0_abort_0 11 rfl rfl)
theorem dX0_abort_14 : decode cX0_abort 14 = .ok (.getfield 109, 3) := dk_180 0 109 (dk_at dksX0_abort_0 14 rfl rfl)
theorem dX0_abort_17 : decode cX0_abort 17 = .ok (.iload_n 1, 1) := dk_27 (dk_at dksX0_abort_0 17 rfl rfl)
theorem dX0_abort_18 : decode cX0_abort 18 = .ok (.aaload, 1) := dk_50 (dk_at dksX0_abort_0 18 rfl rfl)
theorem dX0_abort_19 : decode cX0_abort 19 = .ok (.astore_n 2, 1) := dk_77 (dk_at dksX0_abort_0 19 rfl rfl)
theorem dX0_abort_20 : decode cX0_abort 20 = .ok (.aload_n 2, 1) := dk_44 (dk_at dksX0_abort_0 20 rfl rfl)
theorem dX0_abort_21 : decode cX0_abort 21 = .ok (.getfield 135, 3) := dk_180 0 135 (dk_at dksX0_abort_0 21 rfl rfl)
theorem dX0_abort_24 : decode cX0_abort 24 = .ok (.ifCond .eq 6, 3) := dk_153 0 6 (dk_at dksX0_abort_1 0 rfl rfl)
theorem dX0_abort_27 : decode cX0_abort 27 = .ok (.bipush (-3), 2) := dk_16 253 (dk_at dksX0_abort_1 3 rfl rfl)
theorem dX0_abort_29 : decode cX0_abort 29 = .ok (.ireturn, 1) := dk_172 (dk_at dksX0_abort_1 5 rfl rfl)
theorem dX0_abort_30 : decode cX0_abort 30 = .ok (.aload_n 2, 1) := dk_44 (dk_at dksX0_abort_1 6 rfl rfl)
theorem dX0_abort_31 : decode cX0_abort 31 = .ok (.invokevirtual 141, 3) := dk_182 0 141 (dk_at dksX0_abort_1 7 rfl rfl)
theorem dX0_abort_34 : decode cX0_abort 34 = .ok (.aload_n 2, 1) := dk_44 (dk_at dksX0_abort_1 10 rfl rfl)
theorem dX0_abort_35 : decode cX0_abort 35 = .ok (.getfield 135, 3) := dk_180 0 135 (dk_at dksX0_abort_1 11 rfl rfl)
theorem dX0_abort_38 : decode cX0_abort 38 = .ok (.ireturn, 1) := dk_172 (dk_at dksX0_abort_1 14 rfl rfl)
def f_X0_abort (a0 : Nat) (p1 : Int32) (w0 : gw) : Option (Int32 × gw) := gB1 (gOb w0 a0 0) fun _ => gB2 (f_X0_isInstance a0 p1 w0) fun x2 w1 => if x2 = 0 then some ((-1), w1) else gB1 (gR w1 a0 0 5) fun r4 => gB1 r4 fun a5 => gB1 (gR w1 a5 1 2) fun r6 => gB1 r6 fun a7 => gB1 (gLdR w1 a7 4 p1) fun r8 => gB1 r8 fun a9 => gB1 (gI w1 a9 16 9) fun x10 => if x10 = 0 then gB1 (gOb w1 a9 16) fun _ => gB2 (f_X16_compensates_x a9  w1) fun _ w12 => gB1 (gI w12 a9 16 9) fun x13 => some (x13, w12) else some ((-3), w1)
set_option maxHeartbeats 4000000 in
set_option maxRecDepth 100000 in
theorem k_X0_abort {D : va_G} {dA : Nat → ClassId} {A : Nat → Prop} {K : Nat → Nat} {l : Launch} {h : Nat} (hh : 48 ≤ h) {a0 : Nat} {p1 : Int32} {w0 ww : gw} {rr : Int32} (hf : f_X0_abort a0 p1 w0 = some (rr, ww)) : gMet D dA A K l yX0_abort (ws_ yX0_abort cX0_abort 3 (some .int)) h [(ga (some a0)), (gi p1)] (some (gi rr)) w0 ww := by
  refine j_start (own := RX0) (by decide +kernel) rfl (Nat.le_of_ble_eq_true rfl) ?_
  intro p e R s m args below meth c C hr hin hw
  unfold f_X0_abort at hf
  show gJ D dA A K p l e R s m args below meth c (gEnd D dA A K below args s w0 (some (gi rr)) ww) 3 0 [(0, (ga (some a0))), (1, (gi p1))] [] w0
  refine j_aload_n C dX0_abort_0 rfl ?_
  refine j_iload_n C dX0_abort_1 rfl ?_
  replace hf := gB1_e hf
  obtain ⟨_, eo, hf⟩ := hf
  replace hf := gB2_e hf
  obtain ⟨x2, w1, ew1, hf⟩ := hf
  refine j_callV (As := [(gi p1)]) (rest := []) (v := (some (gi x2))) C (by omega) (k_X0_isInstance (by omega) ew1) (gOb_e eo) rfl q1301 q1303 qs29 q91 q1304 ⟨rfl, hd_X0_isInstance⟩ (by decide) rfl (Nat.le_of_ble_eq_true rfl) dX0_abort_2 ?_
  refine j_if_ne (tgt := 10) C dX0_abort_5 (by decide) (fun c3 => ?_) (fun c3 => ?_)
  · replace hf := gIf_f hf c3
    refine j_aload_n C dX0_abort_10 rfl ?_
    replace hf := gB1_e hf
    obtain ⟨r4, er4, hf⟩ := hf
    refine j_get C fl_X0_91_0 dX0_abort_11 (gR_F er4) ?_
    replace hf := gB1_e hf
    obtain ⟨a5, ea5, hf⟩ := hf
    subst ea5
    replace hf := gB1_e hf
    obtain ⟨r6, er6, hf⟩ := hf
    refine j_get C fl_X0_109_1 dX0_abort_14 (gR_F er6) ?_
    refine j_iload_n C dX0_abort_17 rfl ?_
    replace hf := gB1_e hf
    obtain ⟨a7, ea7, hf⟩ := hf
    subst ea7
    replace hf := gB1_e hf
    obtain ⟨r8, er8, hf⟩ := hf
    refine j_aald C (t := 4) rfl er8 dX0_abort_18 ?_
    refine j_astore_n (lv' := [(2, (ga r8)), (0, (ga (some a0))), (1, (gi p1))]) C dX0_abort_19 (by decide) rfl ?_
    refine j_aload_n C dX0_abort_20 rfl ?_
    replace hf := gB1_e hf
    obtain ⟨a9, ea9, hf⟩ := hf
    subst ea9
    replace hf := gB1_e hf
    obtain ⟨x10, ex10, hf⟩ := hf
    refine j_get C fl_X0_135_16 dX0_abort_21 (gI_F ex10) ?_
    refine j_if_eq (tgt := 30) C dX0_abort_24 (by decide) (fun c11 => ?_) (fun c11 => ?_)
    · replace hf := gIf_t hf c11
      refine j_aload_n C dX0_abort_30 rfl ?_
      replace hf := gB1_e hf
      obtain ⟨_, eo, hf⟩ := hf
      replace hf := gB2_e hf
      obtain ⟨_, w12, ew12, hf⟩ := hf
      refine j_callV (As := []) (rest := []) (v := none) C (by omega) (k_X16_compensates_x (by omega) ew12) (gOb_e eo) rfl q1309 q1287 q1288 q118 q1289 ⟨rfl, hd_X16_compensates⟩ (by decide) rfl (Nat.le_of_ble_eq_true rfl) dX0_abort_31 ?_
      refine j_aload_n C dX0_abort_34 rfl ?_
      replace hf := gB1_e hf
      obtain ⟨x13, ex13, hf⟩ := hf
      refine j_get C fl_X0_135_16 dX0_abort_35 (gI_F ex13) ?_
      obtain ⟨rfl, rfl⟩ := gSome hf
      exact j_iret C hr hw dX0_abort_38
    · replace hf := gIf_f hf c11
      refine j_bipush (v := (-3)) C dX0_abort_27 (by decide) ?_
      obtain ⟨rfl, rfl⟩ := gSome hf
      exact j_iret C hr hw dX0_abort_29
  · replace hf := gIf_t hf c3
    refine j_iconst (v := (-1)) C dX0_abort_8 (by decide) ?_
    obtain ⟨rfl, rfl⟩ := gSome hf
    exact j_iret C hr hw dX0_abort_9
def dkwX1_steps_1 : List UInt8 := [198, 0, 12, 42, 180, 0, 24, 27, 50, 182, 0, 46, 132, 1, 1, 167, 255, 229, 177]
abbrev dktX1_steps_1 : List UInt8 := dkwX1_steps_1 ++ []
def dkwX1_steps_0 : List UInt8 := [42, 89, 180, 0, 28, 4, 96, 181, 0, 28, 3, 60, 27, 16, 6, 162, 0, 27, 42, 180, 0, 24, 27, 50]
abbrev dktX1_steps_0 : List UInt8 := dkwX1_steps_0 ++ dktX1_steps_1
theorem dksX1_steps_0 : cX1_steps.data.toList.drop 0 = dktX1_steps_0 := by decide +kernel
theorem dksX1_steps_1 : cX1_steps.data.toList.drop 24 = dktX1_steps_1 := dk_seg dksX1_steps_0 24 rfl rfl
theorem dX1_steps_0 : decode cX1_steps 0 = .ok (.aload_n 0, 1) := dk_42 (dk_at dksX1_steps_0 0 rfl rfl)
theorem dX1_steps_1 : decode cX1_steps 1 = .ok (.dup, 1) := dk_89 (dk_at dksX1_steps_0 1 rfl rfl)
theorem dX1_steps_2 : decode cX1_steps 2 = .ok (.getfield 28, 3) := dk_180 0 28 (dk_at dksX1_steps_0 2 rfl rfl)
theorem dX1_steps_5 : decode cX1_steps 5 = .ok (.iconst 1, 1) := dk_4 (dk_at dksX1_steps_0 5 rfl rfl)
theorem dX1_steps_6 : decode cX1_steps 6 = .ok (.iadd, 1) := dk_96 (dk_at dksX1_steps_0 6 rfl rfl)
theorem dX1_steps_7 : decode cX1_steps 7 = .ok (.putfield 28, 3) := dk_181 0 28 (dk_at dksX1_steps_0 7 rfl rfl)
theorem dX1_steps_10 : decode cX1_steps 10 = .ok (.iconst 0, 1) := dk_3 (dk_at dksX1_steps_0 10 rfl rfl)
theorem dX1_steps_11 : decode cX1_steps 11 = .ok (.istore_n 1, 1) := dk_60 (dk_at dksX1_steps_0 11 rfl rfl)
theorem dX1_steps_12 : decode cX1_steps 12 = .ok (.iload_n 1, 1) := dk_27 (dk_at dksX1_steps_0 12 rfl rfl)
theorem dX1_steps_13 : decode cX1_steps 13 = .ok (.bipush 6, 2) := dk_16 6 (dk_at dksX1_steps_0 13 rfl rfl)
theorem dX1_steps_15 : decode cX1_steps 15 = .ok (.if_icmp .ge 27, 3) := dk_162 0 27 (dk_at dksX1_steps_0 15 rfl rfl)
theorem dX1_steps_18 : decode cX1_steps 18 = .ok (.aload_n 0, 1) := dk_42 (dk_at dksX1_steps_0 18 rfl rfl)
theorem dX1_steps_19 : decode cX1_steps 19 = .ok (.getfield 24, 3) := dk_180 0 24 (dk_at dksX1_steps_0 19 rfl rfl)
theorem dX1_steps_22 : decode cX1_steps 22 = .ok (.iload_n 1, 1) := dk_27 (dk_at dksX1_steps_0 22 rfl rfl)
theorem dX1_steps_23 : decode cX1_steps 23 = .ok (.aaload, 1) := dk_50 (dk_at dksX1_steps_0 23 rfl rfl)
theorem dX1_steps_24 : decode cX1_steps 24 = .ok (.ifnull 12, 3) := dk_198 0 12 (dk_at dksX1_steps_1 0 rfl rfl)
theorem dX1_steps_27 : decode cX1_steps 27 = .ok (.aload_n 0, 1) := dk_42 (dk_at dksX1_steps_1 3 rfl rfl)
theorem dX1_steps_28 : decode cX1_steps 28 = .ok (.getfield 24, 3) := dk_180 0 24 (dk_at dksX1_steps_1 4 rfl rfl)
theorem dX1_steps_31 : decode cX1_steps 31 = .ok (.iload_n 1, 1) := dk_27 (dk_at dksX1_steps_1 7 rfl rfl)
theorem dX1_steps_32 : decode cX1_steps 32 = .ok (.aaload, 1) := dk_50 (dk_at dksX1_steps_1 8 rfl rfl)
theorem dX1_steps_33 : decode cX1_steps 33 = .ok (.invokevirtual 46, 3) := dk_182 0 46 (dk_at dksX1_steps_1 9 rfl rfl)
theorem dX1_steps_36 : decode cX1_steps 36 = .ok (.iinc 1 1, 3) := dk_132 1 1 (dk_at dksX1_steps_1 12 rfl rfl)
theorem dX1_steps_39 : decode cX1_steps 39 = .ok (.goto (-27), 3) := dk_167 255 229 (dk_at dksX1_steps_1 15 rfl rfl)
theorem dX1_steps_42 : decode cX1_steps 42 = .ok (.return_, 1) := dk_177 (dk_at dksX1_steps_1 18 rfl rfl)
def f_X1_steps (a0 : Nat) (w0 : gw) : Option (Unit × gw) := gB1 (gI w0 a0 1 3) fun x1 => gB1 (gPut w0 a0 1 3 (gi (x1 + (nI 1)))) fun w2 => gL1 (fun k5 (x4 : Int32) (w3 : gw) => if (nI 6) ≤ x4 then some ((), w3) else gB1 (gR w3 a0 1 2) fun r7 => gB1 r7 fun a8 => gB1 (gLdR w3 a8 4 x4) fun r9 => gBd (fun (x12 : Int32) (w11 : gw) => gBd (x12 + (nI 1)) fun x13 => k5 x13 w11) fun k10 => gNl r9 (k10 x4 w3) (fun a15 => gB1 (gR w3 a0 1 2) fun r16 => gB1 r16 fun a17 => gB1 (gLdR w3 a17 4 x4) fun r18 => gB1 r18 fun a19 => gB1 (gOb w3 a19 16) fun _ => gB2 (f_X16_looks 3 a19  w3) fun _ w20 => k10 x4 w20)) 20000 (nI 0) w2
set_option maxHeartbeats 4000000 in
set_option maxRecDepth 100000 in
theorem k_X1_steps {D : va_G} {dA : Nat → ClassId} {A : Nat → Prop} {K : Nat → Nat} {l : Launch} {h : Nat} (hh : 47 ≤ h) {a0 : Nat} {w0 ww : gw} {rr : Unit} (hf : f_X1_steps a0 w0 = some (rr, ww)) : gMet D dA A K l yX1_steps (ws_ yX1_steps cX1_steps 2 none) h [(ga (some a0))] none w0 ww := by
  refine j_start (own := RX1) (by decide +kernel) rfl (Nat.le_of_ble_eq_true rfl) ?_
  intro p e R s m args below meth c C hr hin hw
  unfold f_X1_steps at hf
  show gJ D dA A K p l e R s m args below meth c (gEnd D dA A K below args s w0 none ww) 2 0 [(0, (ga (some a0)))] [] w0
  refine j_aload_n C dX1_steps_0 rfl ?_
  refine j_dup C dX1_steps_1 ?_
  replace hf := gB1_e hf
  obtain ⟨x1, ex1, hf⟩ := hf
  refine j_get C fl_X1_28_1 dX1_steps_2 (gI_F ex1) ?_
  refine j_iconst (v := (nI 1)) C dX1_steps_5 (by decide) ?_
  refine j_iadd C dX1_steps_6 ?_
  replace hf := gB1_e hf
  obtain ⟨w2, ew2, hf⟩ := hf
  refine j_put C fl_X1_28_1 tb_1 ew2 fk_1_3 (fit_I (x1 + (nI 1))) dX1_steps_7 ?_
  refine j_iconst (v := (nI 0)) C dX1_steps_10 (by decide) ?_
  refine j_istore_n (lv' := [(1, (gi (nI 0))), (0, (ga (some a0)))]) C dX1_steps_11 (by decide) rfl ?_
  refine j_sub (lv' := [(0, (ga (some a0))), (1, (gi (nI 0)))]) (gL_cons rfl (gL_cons rfl (gL_nil))) ?_
  refine gL1_e (fun (x4 : Int32) (w3 : gw) => gJ D dA A K p l e R s m args below meth c (gEnd D dA A K below args s w0 none ww) 2 12 [(0, (ga (some a0))), (1, (gi x4))] [] w3) ?_ _ _ _ hf
  intro k5 jk5 x4 w3 hf
  refine j_iload_n C dX1_steps_12 rfl ?_
  refine j_bipush (v := (nI 6)) C dX1_steps_13 (by decide) ?_
  refine j_icmp_ge (tgt := 42) C dX1_steps_15 (by decide) (fun c6 => ?_) (fun c6 => ?_)
  · replace hf := gIf_t hf c6
    obtain ⟨rfl, rfl⟩ := gSome hf
    exact j_vret C hr hw dX1_steps_42
  · replace hf := gIf_f hf c6
    refine j_aload_n C dX1_steps_18 rfl ?_
    replace hf := gB1_e hf
    obtain ⟨r7, er7, hf⟩ := hf
    refine j_get C fl_X1_24_1 dX1_steps_19 (gR_F er7) ?_
    refine j_iload_n C dX1_steps_22 rfl ?_
    replace hf := gB1_e hf
    obtain ⟨a8, ea8, hf⟩ := hf
    subst ea8
    replace hf := gB1_e hf
    obtain ⟨r9, er9, hf⟩ := hf
    refine j_aald C (t := 4) rfl er9 dX1_steps_23 ?_
    replace hf := gBd_x hf
    obtain ⟨k10, ek10, hf⟩ := hf
    have jk10 : ∀ (x12 : Int32) (w11 : gw), k10 x12 w11 = some (rr, ww) → gJ D dA A K p l e R s m args below meth c (gEnd D dA A K below args s w0 none ww) 2 36 [(0, (ga (some a0))), (1, (gi x12))] [] w11 := by
      intro x12 w11 hf
      rw [ek10] at hf
      dsimp only at hf
      replace hf := gBd_x hf
      obtain ⟨x13, ex13, hf⟩ := hf
      refine j_iinc (v := x13) (lv' := [(1, (gi x13)), (0, (ga (some a0)))]) C dX1_steps_36 rfl (by rw [ex13]; rfl) (by decide) rfl ?_
      refine j_goto (tgt := 12) C dX1_steps_39 (by decide) ?_
      refine j_sub (lv' := [(0, (ga (some a0))), (1, (gi x13))]) (gL_cons rfl (gL_cons rfl (gL_nil))) ?_
      exact jk5 _ _ hf
    clear ek10
    refine j_ifnull (tgt := 36) C dX1_steps_24 (by decide) (fun c14 => ?_) (fun a15 c14 => ?_)
    · subst c14
      replace hf := gNl_n hf
      exact jk10 _ _ hf
    · subst c14
      replace hf := gNl_s hf
      refine j_aload_n C dX1_steps_27 rfl ?_
      replace hf := gB1_e hf
      obtain ⟨r16, er16, hf⟩ := hf
      refine j_get C fl_X1_24_1 dX1_steps_28 (gR_F er16) ?_
      refine j_iload_n C dX1_steps_31 rfl ?_
      replace hf := gB1_e hf
      obtain ⟨a17, ea17, hf⟩ := hf
      subst ea17
      replace hf := gB1_e hf
      obtain ⟨r18, er18, hf⟩ := hf
      refine j_aald C (t := 4) rfl er18 dX1_steps_32 ?_
      replace hf := gB1_e hf
      obtain ⟨a19, ea19, hf⟩ := hf
      subst ea19
      replace hf := gB1_e hf
      obtain ⟨_, eo, hf⟩ := hf
      replace hf := gB2_e hf
      obtain ⟨_, w20, ew20, hf⟩ := hf
      refine j_callV (As := []) (rest := []) (v := none) C (by omega) (k_X16_looks 3 (by omega) ew20) (gOb_e eo) rfl q1327 q934 q935 q118 q936 ⟨rfl, hd_X16_looks⟩ (by decide) rfl (Nat.le_of_ble_eq_true rfl) dX1_steps_33 ?_
      exact jk10 _ _ hf
def dkwX0_pass_2 : List UInt8 := [132, 2, 1, 167, 255, 241, 42, 180, 0, 91, 180, 0, 115, 172]
abbrev dktX0_pass_2 : List UInt8 := dkwX0_pass_2 ++ []
def dkwX0_pass_1 : List UInt8 := [18, 148, 164, 0, 6, 16, 252, 172, 3, 61, 28, 27, 162, 0, 16, 42, 180, 0, 91, 182, 0, 149]
abbrev dktX0_pass_1 : List UInt8 := dkwX0_pass_1 ++ dktX0_pass_2
def dkwX0_pass_0 : List UInt8 := [27, 4, 17, 0, 200, 184, 0, 5, 154, 0, 6, 16, 254, 172, 42, 180, 0, 91, 180, 0, 115, 27, 96]
abbrev dktX0_pass_0 : List UInt8 := dkwX0_pass_0 ++ dktX0_pass_1
theorem dksX0_pass_0 : cX0_pass.data.toList.drop 0 = dktX0_pass_0 := by decide +kernel
theorem dksX0_pass_1 : cX0_pass.data.toList.drop 23 = dktX0_pass_1 := dk_seg dksX0_pass_0 23 rfl rfl
theorem dksX0_pass_2 : cX0_pass.data.toList.drop 45 = dktX0_pass_2 := dk_seg dksX0_pass_1 22 rfl rfl
theorem dX0_pass_0 : decode cX0_pass 0 = .ok (.iload_n 1, 1) := dk_27 (dk_at dksX0_pass_0 0 rfl rfl)
theorem dX0_pass_1 : decode cX0_pass 1 = .ok (.iconst 1, 1) := dk_4 (dk_at dksX0_pass_0 1 rfl rfl)
theorem dX0_pass_2 : decode cX0_pass 2 = .ok (.sipush 200, 3) := dk_17 0 200 (dk_at dksX0_pass_0 2 rfl rfl)
theorem dX0_pass_5 : decode cX0_pass 5 = .ok (.invokestatic 5, 3) := dk_184 0 5 (dk_at dksX0_pass_0 5 rfl rfl)
theorem dX0_pass_8 : decode cX0_pass 8 = .ok (.ifCond .ne 6, 3) := dk_154 0 6 (dk_at dksX0_pass_0 8 rfl rfl)
theorem dX0_pass_11 : decode cX0_pass 11 = .ok (.bipush (-2), 2) := dk_16 254 (dk_at dksX0_pass_0 11 rfl rfl)
theorem dX0_pass_13 : decode cX0_pass 13 = .ok (.ireturn, 1) := dk_172 (dk_at dksX0_pass_0 13 rfl rfl)
theorem dX0_pass_14 : decode cX0_pass 14 = .ok (.aload_n 0, 1) := dk_42 (dk_at dksX0_pass_0 14 rfl rfl)
theorem dX0_pass_15 : decode cX0_pass 15 = .ok (.getfield 91, 3) := dk_180 0 91 (dk_at dksX0_pass_0 15 rfl rfl)
theorem dX0_pass_18 : decode cX0_pass 18 = .ok (.getfield 115, 3) := dk_180 0 115 (dk_at dksX0_pass_0 18 rfl rfl)
theorem dX0_pass_21 : decode cX0_pass 21 = .ok (.iload_n 1, 1) := dk_27 (dk_at dksX0_pass_0 21 rfl rfl)
theorem dX0_pass_22 : decode cX0_pass 22 = .ok (.iadd, 1) := dk_96 (dk_at dksX0_pass_0 22 rfl rfl)
theorem dX0_pass_23 : decode cX0_pass 23 = .ok (.ldc 148, 2) := dk_18 148 (dk_at dksX0_pass_1 0 rfl rfl)
theorem dX0_pass_25 : decode cX0_pass 25 = .ok (.if_icmp .le 6, 3) := dk_164 0 6 (dk_at dksX0_pass_1 2 rfl rfl)
theorem dX0_pass_28 : decode cX0_pass 28 = .ok (.bipush (-4), 2) := dk_16 252 (dk_at dksX0_pass_1 5 rfl rfl)
theorem dX0_pass_30 : decode cX0_pass 30 = .ok (.ireturn, 1) := dk_172 (dk_at dksX0_pass_1 7 rfl rfl)
theorem dX0_pass_31 : decode cX0_pass 31 = .ok (.iconst 0, 1) := dk_3 (dk_at dksX0_pass_1 8 rfl rfl)
theorem dX0_pass_32 : decode cX0_pass 32 = .ok (.istore_n 2, 1) := dk_61 (dk_at dksX0_pass_1 9 rfl rfl)
theorem dX0_pass_33 : decode cX0_pass 33 = .ok (.iload_n 2, 1) := dk_28 (dk_at dksX0_pass_1 10 rfl rfl)
theorem dX0_pass_34 : decode cX0_pass 34 = .ok (.iload_n 1, 1) := dk_27 (dk_at dksX0_pass_1 11 rfl rfl)
theorem dX0_pass_35 : decode cX0_pass 35 = .ok (.if_icmp .ge 16, 3) := dk_162 0 16 (dk_at dksX0_pass_1 12 rfl rfl)
theorem dX0_pass_38 : decode cX0_pass 38 = .ok (.aload_n 0, 1) := dk_42 (dk_at dksX0_pass_1 15 rfl rfl)
theorem dX0_pass_39 : decode cX0_pass 39 = .ok (.getfield 91, 3) := dk_180 0 91 (dk_at dksX0_pass_1 16 rfl rfl)
theorem dX0_pass_42 : decode cX0_pass 42 = .ok (.invokevirtual 149, 3) := dk_182 0 149 (dk_at dksX0_pass_1 19 rfl rfl)
theorem dX0_pass_45 : decode cX0_pass 45 = .ok (.iinc 2 1, 3) := dk_132 2 1 (dk_at dksX0_pass_2 0 rfl rfl)
theorem dX0_pass_48 : decode cX0_pass 48 = .ok (.goto (-15), 3) := dk_167 255 241 (dk_at dksX0_pass_2 3 rfl rfl)
theorem dX0_pass_51 : decode cX0_pass 51 = .ok (.aload_n 0, 1) := dk_42 (dk_at dksX0_pass_2 6 rfl rfl)
theorem dX0_pass_52 : decode cX0_pass 52 = .ok (.getfield 91, 3) := dk_180 0 91 (dk_at dksX0_pass_2 7 rfl rfl)
theorem dX0_pass_55 : decode cX0_pass 55 = .ok (.getfield 115, 3) := dk_180 0 115 (dk_at dksX0_pass_2 10 rfl rfl)
theorem dX0_pass_58 : decode cX0_pass 58 = .ok (.ireturn, 1) := dk_172 (dk_at dksX0_pass_2 13 rfl rfl)
theorem hd_X1_steps : (yX1_steps.cls ≠ "java/lang/invoke/MethodHandle" ∧ yX1_steps.cls ≠ "java/lang/invoke/VarHandle" ∧ (parseMethodDescriptor yX1_steps.desc).map (fun d => d.parameters.length) = some 0) := ⟨by decide +kernel, by decide +kernel, by decide +kernel⟩
def f_X0_pass (a0 : Nat) (p1 : Int32) (w0 : gw) : Option (Int32 × gw) := gB2 (f_X0_in p1 (nI 1) (nI 200) w0) fun x2 w1 => if x2 = 0 then some ((-2), w1) else gB1 (gR w1 a0 0 5) fun r4 => gB1 r4 fun a5 => gB1 (gI w1 a5 1 3) fun x6 => if (x6 + p1) ≤ (nI 99999) then gL2 (fun k11 (x9 : Int32) (x10 : Int32) (w8 : gw) => if x9 ≤ x10 then gB1 (gR w8 a0 0 5) fun r13 => gB1 r13 fun a14 => gB1 (gI w8 a14 1 3) fun x15 => some (x15, w8) else gB1 (gR w8 a0 0 5) fun r16 => gB1 r16 fun a17 => gB1 (gOb w8 a17 1) fun _ => gB2 (f_X1_steps a17  w8) fun _ w18 => gBd (x10 + (nI 1)) fun x19 => k11 x9 x19 w18) 20000 p1 (nI 0) w1 else some ((-4), w1)
set_option maxHeartbeats 4000000 in
set_option maxRecDepth 100000 in
theorem k_X0_pass {D : va_G} {dA : Nat → ClassId} {A : Nat → Prop} {K : Nat → Nat} {l : Launch} {h : Nat} (hh : 48 ≤ h) {a0 : Nat} {p1 : Int32} {w0 ww : gw} {rr : Int32} (hf : f_X0_pass a0 p1 w0 = some (rr, ww)) : gMet D dA A K l yX0_pass (ws_ yX0_pass cX0_pass 3 (some .int)) h [(ga (some a0)), (gi p1)] (some (gi rr)) w0 ww := by
  refine j_start (own := RX0) (by decide +kernel) rfl (Nat.le_of_ble_eq_true rfl) ?_
  intro p e R s m args below meth c C hr hin hw
  unfold f_X0_pass at hf
  show gJ D dA A K p l e R s m args below meth c (gEnd D dA A K below args s w0 (some (gi rr)) ww) 3 0 [(0, (ga (some a0))), (1, (gi p1))] [] w0
  refine j_iload_n C dX0_pass_0 rfl ?_
  refine j_iconst (v := (nI 1)) C dX0_pass_1 (by decide) ?_
  refine j_sipush (v := (nI 200)) C dX0_pass_2 (by decide) ?_
  replace hf := gB2_e hf
  obtain ⟨x2, w1, ew1, hf⟩ := hf
  refine j_callS (As := [(gi p1), (gi (nI 1)), (gi (nI 200))]) (rest := []) (v := (some (gi x2))) C (by omega) (k_X0_in (by omega) ew1) q138 q139 q91 q140 hd_X0_in (by decide) rfl (Nat.le_of_ble_eq_true rfl) dX0_pass_5 ?_
  refine j_if_ne (tgt := 14) C dX0_pass_8 (by decide) (fun c3 => ?_) (fun c3 => ?_)
  · replace hf := gIf_f hf c3
    refine j_aload_n C dX0_pass_14 rfl ?_
    replace hf := gB1_e hf
    obtain ⟨r4, er4, hf⟩ := hf
    refine j_get C fl_X0_91_0 dX0_pass_15 (gR_F er4) ?_
    replace hf := gB1_e hf
    obtain ⟨a5, ea5, hf⟩ := hf
    subst ea5
    replace hf := gB1_e hf
    obtain ⟨x6, ex6, hf⟩ := hf
    refine j_get C fl_X0_115_1 dX0_pass_18 (gI_F ex6) ?_
    refine j_iload_n C dX0_pass_21 rfl ?_
    refine j_iadd C dX0_pass_22 ?_
    refine j_ldc (v := (nI 99999)) C q1322 dX0_pass_23 ?_
    refine j_icmp_le (tgt := 31) C dX0_pass_25 (by decide) (fun c7 => ?_) (fun c7 => ?_)
    · replace hf := gIf_t hf c7
      refine j_iconst (v := (nI 0)) C dX0_pass_31 (by decide) ?_
      refine j_istore_n (lv' := [(2, (gi (nI 0))), (0, (ga (some a0))), (1, (gi p1))]) C dX0_pass_32 (by decide) rfl ?_
      refine j_sub (lv' := [(0, (ga (some a0))), (1, (gi p1)), (2, (gi (nI 0)))]) (gL_cons rfl (gL_cons rfl (gL_cons rfl (gL_nil)))) ?_
      refine gL2_e (fun (x9 : Int32) (x10 : Int32) (w8 : gw) => gJ D dA A K p l e R s m args below meth c (gEnd D dA A K below args s w0 (some (gi rr)) ww) 3 33 [(0, (ga (some a0))), (1, (gi x9)), (2, (gi x10))] [] w8) ?_ _ _ _ _ hf
      intro k11 jk11 x9 x10 w8 hf
      refine j_iload_n C dX0_pass_33 rfl ?_
      refine j_iload_n C dX0_pass_34 rfl ?_
      refine j_icmp_ge (tgt := 51) C dX0_pass_35 (by decide) (fun c12 => ?_) (fun c12 => ?_)
      · replace hf := gIf_t hf c12
        refine j_aload_n C dX0_pass_51 rfl ?_
        replace hf := gB1_e hf
        obtain ⟨r13, er13, hf⟩ := hf
        refine j_get C fl_X0_91_0 dX0_pass_52 (gR_F er13) ?_
        replace hf := gB1_e hf
        obtain ⟨a14, ea14, hf⟩ := hf
        subst ea14
        replace hf := gB1_e hf
        obtain ⟨x15, ex15, hf⟩ := hf
        refine j_get C fl_X0_115_1 dX0_pass_55 (gI_F ex15) ?_
        obtain ⟨rfl, rfl⟩ := gSome hf
        exact j_iret C hr hw dX0_pass_58
      · replace hf := gIf_f hf c12
        refine j_aload_n C dX0_pass_38 rfl ?_
        replace hf := gB1_e hf
        obtain ⟨r16, er16, hf⟩ := hf
        refine j_get C fl_X0_91_0 dX0_pass_39 (gR_F er16) ?_
        replace hf := gB1_e hf
        obtain ⟨a17, ea17, hf⟩ := hf
        subst ea17
        replace hf := gB1_e hf
        obtain ⟨_, eo, hf⟩ := hf
        replace hf := gB2_e hf
        obtain ⟨_, w18, ew18, hf⟩ := hf
        refine j_callV (As := []) (rest := []) (v := none) C (by omega) (k_X1_steps (by omega) ew18) (gOb_e eo) rfl q1323 q1324 q1325 q92 q1326 ⟨rfl, hd_X1_steps⟩ (by decide) rfl (Nat.le_of_ble_eq_true rfl) dX0_pass_42 ?_
        replace hf := gBd_x hf
        obtain ⟨x19, ex19, hf⟩ := hf
        refine j_iinc (v := x19) (lv' := [(2, (gi x19)), (0, (ga (some a0))), (1, (gi x9))]) C dX0_pass_45 rfl (by rw [ex19]; rfl) (by decide) rfl ?_
        refine j_goto (tgt := 33) C dX0_pass_48 (by decide) ?_
        refine j_sub (lv' := [(0, (ga (some a0))), (1, (gi x9)), (2, (gi x19))]) (gL_cons rfl (gL_cons rfl (gL_cons rfl (gL_nil)))) ?_
        exact jk11 _ _ _ hf
    · replace hf := gIf_f hf c7
      refine j_bipush (v := (-4)) C dX0_pass_28 (by decide) ?_
      obtain ⟨rfl, rfl⟩ := gSome hf
      exact j_iret C hr hw dX0_pass_30
  · replace hf := gIf_t hf c3
    refine j_bipush (v := (-2)) C dX0_pass_11 (by decide) ?_
    obtain ⟨rfl, rfl⟩ := gSome hf
    exact j_iret C hr hw dX0_pass_13
def dkwX0_ahead_2 : List UInt8 := [162, 0, 13, 45, 182, 0, 149, 132, 4, 1, 167, 255, 243, 45, 180, 0, 109, 27, 50, 180, 0, 135, 172]
abbrev dktX0_ahead_2 : List UInt8 := dkwX0_ahead_2 ++ []
def dkwX0_ahead_1 : List UInt8 := [187, 0, 96, 89, 42, 183, 0, 108, 78, 45, 42, 180, 0, 91, 182, 0, 212, 3, 54, 4, 21, 4, 28]
abbrev dktX0_ahead_1 : List UInt8 := dkwX0_ahead_1 ++ dktX0_ahead_2
def dkwX0_ahead_0 : List UInt8 := [42, 27, 182, 0, 132, 154, 0, 5, 2, 172, 28, 4, 17, 0, 200, 184, 0, 5, 154, 0, 6, 16, 254, 172]
abbrev dktX0_ahead_0 : List UInt8 := dkwX0_ahead_0 ++ dktX0_ahead_1
theorem dksX0_ahead_0 : cX0_ahead.data.toList.drop 0 = dktX0_ahead_0 := by decide +kernel
theorem dksX0_ahead_1 : cX0_ahead.data.toList.drop 24 = dktX0_ahead_1 := dk_seg dksX0_ahead_0 24 rfl rfl
theorem dksX0_ahead_2 : cX0_ahead.data.toList.drop 47 = dktX0_ahead_2 := dk_seg dksX0_ahead_1 23 rfl rfl
theorem dX0_ahead_0 : decode cX0_ahead 0 = .ok (.aload_n 0, 1) := dk_42 (dk_at dksX0_ahead_0 0 rfl rfl)
theorem dX0_ahead_1 : decode cX0_ahead 1 = .ok (.iload_n 1, 1) := dk_27 (dk_at dksX0_ahead_0 1 rfl rfl)
theorem dX0_ahead_2 : decode cX0_ahead 2 = .ok (.invokevirtual 132, 3) := dk_182 0 132 (dk_at dksX0_ahead_0 2 rfl rfl)
theorem dX0_ahead_5 : decode cX0_ahead 5 = .ok (.ifCond .ne 5, 3) := dk_154 0 5 (dk_at dksX0_ahead_0 5 rfl rfl)
theorem dX0_ahead_8 : decode cX0_ahead 8 = .ok (.iconst (-1), 1) := dk_2 (dk_at dksX0_ahead_0 8 rfl rfl)
theorem dX0_ahead_9 : decode cX0_ahead 9 = .ok (.ireturn, 1) := dk_172 (dk_at dksX0_ahead_0 9 rfl rfl)
theorem dX0_ahead_10 : decode cX0_ahead 10 = .ok (.iload_n 2, 1) := dk_28 (dk_at dksX0_ahead_0 10 rfl rfl)
theorem dX0_ahead_11 : decode cX0_ahead 11 = .ok (.iconst 1, 1) := dk_4 (dk_at dksX0_ahead_0 11 rfl rfl)
theorem dX0_ahead_12 : decode cX0_ahead 12 = .ok (.sipush 200, 3) := dk_17 0 200 (dk_at dksX0_ahead_0 12 rfl rfl)
theorem dX0_ahead_15 : decode cX0_ahead 15 = .ok (.invokestatic 5, 3) := dk_184 0 5 (dk_at dksX0_ahead_0 15 rfl rfl)
theorem dX0_ahead_18 : decode cX0_ahead 18 = .ok (.ifCond .ne 6, 3) := dk_154 0 6 (dk_at dksX0_ahead_0 18 rfl rfl)
theorem dX0_ahead_21 : decode cX0_ahead 21 = .ok (.bipush (-2), 2) := dk_16 254 (dk_at dksX0_ahead_0 21 rfl rfl)
theorem dX0_ahead_23 : decode cX0_ahead 23 = .ok (.ireturn, 1) := dk_172 (dk_at dksX0_ahead_0 23 rfl rfl)
theorem dX0_ahead_24 : decode cX0_ahead 24 = .ok (.new 96, 3) := dk_187 0 96 (dk_at dksX0_ahead_1 0 rfl rfl)
theorem dX0_ahead_27 : decode cX0_ahead 27 = .ok (.dup, 1) := dk_89 (dk_at dksX0_ahead_1 3 rfl rfl)
theorem dX0_ahead_28 : decode cX0_ahead 28 = .ok (.aload_n 0, 1) := dk_42 (dk_at dksX0_ahead_1 4 rfl rfl)
theorem dX0_ahead_29 : decode cX0_ahead 29 = .ok (.invokespecial 108, 3) := dk_183 0 108 (dk_at dksX0_ahead_1 5 rfl rfl)
theorem dX0_ahead_32 : decode cX0_ahead 32 = .ok (.astore_n 3, 1) := dk_78 (dk_at dksX0_ahead_1 8 rfl rfl)
theorem dX0_ahead_33 : decode cX0_ahead 33 = .ok (.aload_n 3, 1) := dk_45 (dk_at dksX0_ahead_1 9 rfl rfl)
theorem dX0_ahead_34 : decode cX0_ahead 34 = .ok (.aload_n 0, 1) := dk_42 (dk_at dksX0_ahead_1 10 rfl rfl)
theorem dX0_ahead_35 : decode cX0_ahead 35 = .ok (.getfield 91, 3) := dk_180 0 91 (dk_at dksX0_ahead_1 11 rfl rfl)
theorem dX0_ahead_38 : decode cX0_ahead 38 = .ok (.invokevirtual 212, 3) := dk_182 0 212 (dk_at dksX0_ahead_1 14 rfl rfl)
theorem dX0_ahead_41 : decode cX0_ahead 41 = .ok (.iconst 0, 1) := dk_3 (dk_at dksX0_ahead_1 17 rfl rfl)
theorem dX0_ahead_42 : decode cX0_ahead 42 = .ok (.istore 4, 2) := dk_54 4 (dk_at dksX0_ahead_1 18 rfl rfl)
theorem dX0_ahead_44 : decode cX0_ahead 44 = .ok (.iload 4, 2) := dk_21 4 (dk_at dksX0_ahead_1 20 rfl rfl)
theorem dX0_ahead_46 : decode cX0_ahead 46 = .ok (.iload_n 2, 1) := dk_28 (dk_at dksX0_ahead_1 22 rfl rfl)
theorem dX0_ahead_47 : decode cX0_ahead 47 = .ok (.if_icmp .ge 13, 3) := dk_162 0 13 (dk_at dksX0_ahead_2 0 rfl rfl)
theorem dX0_ahead_50 : decode cX0_ahead 50 = .ok (.aload_n 3, 1) := dk_45 (dk_at dksX0_ahead_2 3 rfl rfl)
theorem dX0_ahead_51 : decode cX0_ahead 51 = .ok (.invokevirtual 149, 3) := dk_182 0 149 (dk_at dksX0_ahead_2 4 rfl rfl)
theorem dX0_ahead_54 : decode cX0_ahead 54 = .ok (.iinc 4 1, 3) := dk_132 4 1 (dk_at dksX0_ahead_2 7 rfl rfl)
theorem dX0_ahead_57 : decode cX0_ahead 57 = .ok (.goto (-13), 3) := dk_167 255 243 (dk_at dksX0_ahead_2 10 rfl rfl)
theorem dX0_ahead_60 : decode cX0_ahead 60 = .ok (.aload_n 3, 1) := dk_45 (dk_at dksX0_ahead_2 13 rfl rfl)
theorem dX0_ahead_61 : decode cX0_ahead 61 = .ok (.getfield 109, 3) := dk_180 0 109 (dk_at dksX0_ahead_2 14 rfl rfl)
theorem dX0_ahead_64 : decode cX0_ahead 64 = .ok (.iload_n 1, 1) := dk_27 (dk_at dksX0_ahead_2 17 rfl rfl)
theorem dX0_ahead_65 : decode cX0_ahead 65 = .ok (.aaload, 1) := dk_50 (dk_at dksX0_ahead_2 18 rfl rfl)
theorem dX0_ahead_66 : decode cX0_ahead 66 = .ok (.getfield 135, 3) := dk_180 0 135 (dk_at dksX0_ahead_2 19 rfl rfl)
theorem dX0_ahead_69 : decode cX0_ahead 69 = .ok (.ireturn, 1) := dk_172 (dk_at dksX0_ahead_2 22 rfl rfl)
def f_X0_ahead (a0 : Nat) (p1 : Int32) (p2 : Int32) (w0 : gw) : Option (Int32 × gw) := gB1 (gOb w0 a0 0) fun _ => gB2 (f_X0_isInstance a0 p1 w0) fun x2 w1 => if x2 = 0 then some ((-1), w1) else gB2 (f_X0_in p2 (nI 1) (nI 200) w1) fun x5 w4 => if x5 = 0 then some ((-2), w4) else gB2 (gNew w4 1) fun a7 w8 => gB2 (f_X1_init a7 (some a0) w8) fun _ w9 => gB1 (gR w9 a0 0 5) fun r10 => gB1 (gOb w9 a7 1) fun _ => gB2 (f_X1_becomes a7 r10 w9) fun _ w11 => gL4 (fun k17 (x13 : Int32) (x14 : Int32) (r15 : Option Nat) (x16 : Int32) (w12 : gw) => if x14 ≤ x16 then gB1 r15 fun a19 => gB1 (gR w12 a19 1 2) fun r20 => gB1 r20 fun a21 => gB1 (gLdR w12 a21 4 x13) fun r22 => gB1 r22 fun a23 => gB1 (gI w12 a23 16 9) fun x24 => some (x24, w12) else gB1 r15 fun a25 => gB1 (gOb w12 a25 1) fun _ => gB2 (f_X1_steps a25  w12) fun _ w26 => gBd (x16 + (nI 1)) fun x27 => k17 x13 x14 (some a25) x27 w26) 20000 p1 p2 (some a7) (nI 0) w11
set_option maxHeartbeats 4000000 in
set_option maxRecDepth 100000 in
theorem k_X0_ahead {D : va_G} {dA : Nat → ClassId} {A : Nat → Prop} {K : Nat → Nat} {l : Launch} {h : Nat} (hh : 48 ≤ h) {a0 : Nat} {p1 : Int32} {p2 : Int32} {w0 ww : gw} {rr : Int32} (hf : f_X0_ahead a0 p1 p2 w0 = some (rr, ww)) : gMet D dA A K l yX0_ahead (ws_ yX0_ahead cX0_ahead 5 (some .int)) h [(ga (some a0)), (gi p1), (gi p2)] (some (gi rr)) w0 ww := by
  refine j_start (own := RX0) (by decide +kernel) rfl (Nat.le_of_ble_eq_true rfl) ?_
  intro p e R s m args below meth c C hr hin hw
  unfold f_X0_ahead at hf
  show gJ D dA A K p l e R s m args below meth c (gEnd D dA A K below args s w0 (some (gi rr)) ww) 5 0 [(0, (ga (some a0))), (1, (gi p1)), (2, (gi p2))] [] w0
  refine j_aload_n C dX0_ahead_0 rfl ?_
  refine j_iload_n C dX0_ahead_1 rfl ?_
  replace hf := gB1_e hf
  obtain ⟨_, eo, hf⟩ := hf
  replace hf := gB2_e hf
  obtain ⟨x2, w1, ew1, hf⟩ := hf
  refine j_callV (As := [(gi p1)]) (rest := []) (v := (some (gi x2))) C (by omega) (k_X0_isInstance (by omega) ew1) (gOb_e eo) rfl q1301 q1303 qs29 q91 q1304 ⟨rfl, hd_X0_isInstance⟩ (by decide) rfl (Nat.le_of_ble_eq_true rfl) dX0_ahead_2 ?_
  refine j_if_ne (tgt := 10) C dX0_ahead_5 (by decide) (fun c3 => ?_) (fun c3 => ?_)
  · replace hf := gIf_f hf c3
    refine j_iload_n C dX0_ahead_10 rfl ?_
    refine j_iconst (v := (nI 1)) C dX0_ahead_11 (by decide) ?_
    refine j_sipush (v := (nI 200)) C dX0_ahead_12 (by decide) ?_
    replace hf := gB2_e hf
    obtain ⟨x5, w4, ew4, hf⟩ := hf
    refine j_callS (As := [(gi p2), (gi (nI 1)), (gi (nI 200))]) (rest := []) (v := (some (gi x5))) C (by omega) (k_X0_in (by omega) ew4) q138 q139 q91 q140 hd_X0_in (by decide) rfl (Nat.le_of_ble_eq_true rfl) dX0_ahead_15 ?_
    refine j_if_ne (tgt := 24) C dX0_ahead_18 (by decide) (fun c6 => ?_) (fun c6 => ?_)
    · replace hf := gIf_f hf c6
      replace hf := gB2_e hf
      obtain ⟨a7, w8, ew8, hf⟩ := hf
      refine j_new C nl_X0_96 ew8 dX0_ahead_24 ?_
      refine j_dup C dX0_ahead_27 ?_
      refine j_aload_n C dX0_ahead_28 rfl ?_
      replace hf := gB2_e hf
      obtain ⟨_, w9, ew9, hf⟩ := hf
      refine j_callIN (As := [(ga (some a0))]) (rest := [(ga (some a7))]) C (by omega) (k_X1_init (by omega) ew9) rfl nq727 q728 q92 q729 hd_X1_init (by decide) rfl (Nat.le_of_ble_eq_true rfl) dX0_ahead_29 ?_
      refine j_astore_n (lv' := [(3, (ga (some a7))), (0, (ga (some a0))), (1, (gi p1)), (2, (gi p2))]) C dX0_ahead_32 (by decide) rfl ?_
      refine j_aload_n C dX0_ahead_33 rfl ?_
      refine j_aload_n C dX0_ahead_34 rfl ?_
      replace hf := gB1_e hf
      obtain ⟨r10, er10, hf⟩ := hf
      refine j_get C fl_X0_91_0 dX0_ahead_35 (gR_F er10) ?_
      replace hf := gB1_e hf
      obtain ⟨_, eo, hf⟩ := hf
      replace hf := gB2_e hf
      obtain ⟨_, w11, ew11, hf⟩ := hf
      refine j_callV (As := [(ga r10)]) (rest := []) (v := none) C (by omega) (k_X1_becomes (by omega) ew11) (gOb_e eo) rfl q1425 q1426 q1427 q92 q1428 ⟨rfl, hd_X1_becomes⟩ (by decide) rfl (Nat.le_of_ble_eq_true rfl) dX0_ahead_38 ?_
      refine j_iconst (v := (nI 0)) C dX0_ahead_41 (by decide) ?_
      refine j_istore (lv' := [(4, (gi (nI 0))), (3, (ga (some a7))), (0, (ga (some a0))), (1, (gi p1)), (2, (gi p2))]) C dX0_ahead_42 (by decide) rfl ?_
      refine j_sub (lv' := [(1, (gi p1)), (2, (gi p2)), (3, (ga (some a7))), (4, (gi (nI 0)))]) (gL_cons rfl (gL_cons rfl (gL_cons rfl (gL_cons rfl (gL_nil))))) ?_
      refine gL4_e (fun (x13 : Int32) (x14 : Int32) (r15 : Option Nat) (x16 : Int32) (w12 : gw) => gJ D dA A K p l e R s m args below meth c (gEnd D dA A K below args s w0 (some (gi rr)) ww) 5 44 [(1, (gi x13)), (2, (gi x14)), (3, (ga r15)), (4, (gi x16))] [] w12) ?_ _ _ _ _ _ _ hf
      intro k17 jk17 x13 x14 r15 x16 w12 hf
      refine j_iload C dX0_ahead_44 rfl ?_
      refine j_iload_n C dX0_ahead_46 rfl ?_
      refine j_icmp_ge (tgt := 60) C dX0_ahead_47 (by decide) (fun c18 => ?_) (fun c18 => ?_)
      · replace hf := gIf_t hf c18
        refine j_aload_n C dX0_ahead_60 rfl ?_
        replace hf := gB1_e hf
        obtain ⟨a19, ea19, hf⟩ := hf
        subst ea19
        replace hf := gB1_e hf
        obtain ⟨r20, er20, hf⟩ := hf
        refine j_get C fl_X0_109_1 dX0_ahead_61 (gR_F er20) ?_
        refine j_iload_n C dX0_ahead_64 rfl ?_
        replace hf := gB1_e hf
        obtain ⟨a21, ea21, hf⟩ := hf
        subst ea21
        replace hf := gB1_e hf
        obtain ⟨r22, er22, hf⟩ := hf
        refine j_aald C (t := 4) rfl er22 dX0_ahead_65 ?_
        replace hf := gB1_e hf
        obtain ⟨a23, ea23, hf⟩ := hf
        subst ea23
        replace hf := gB1_e hf
        obtain ⟨x24, ex24, hf⟩ := hf
        refine j_get C fl_X0_135_16 dX0_ahead_66 (gI_F ex24) ?_
        obtain ⟨rfl, rfl⟩ := gSome hf
        exact j_iret C hr hw dX0_ahead_69
      · replace hf := gIf_f hf c18
        refine j_aload_n C dX0_ahead_50 rfl ?_
        replace hf := gB1_e hf
        obtain ⟨a25, ea25, hf⟩ := hf
        subst ea25
        replace hf := gB1_e hf
        obtain ⟨_, eo, hf⟩ := hf
        replace hf := gB2_e hf
        obtain ⟨_, w26, ew26, hf⟩ := hf
        refine j_callV (As := []) (rest := []) (v := none) C (by omega) (k_X1_steps (by omega) ew26) (gOb_e eo) rfl q1323 q1324 q1325 q92 q1326 ⟨rfl, hd_X1_steps⟩ (by decide) rfl (Nat.le_of_ble_eq_true rfl) dX0_ahead_51 ?_
        replace hf := gBd_x hf
        obtain ⟨x27, ex27, hf⟩ := hf
        refine j_iinc (v := x27) (lv' := [(4, (gi x27)), (1, (gi x13)), (2, (gi x14)), (3, (ga (some a25)))]) C dX0_ahead_54 rfl (by rw [ex27]; rfl) (by decide) rfl ?_
        refine j_goto (tgt := 44) C dX0_ahead_57 (by decide) ?_
        refine j_sub (lv' := [(1, (gi x13)), (2, (gi x14)), (3, (ga (some a25))), (4, (gi x27))]) (gL_cons rfl (gL_cons rfl (gL_cons rfl (gL_cons rfl (gL_nil))))) ?_
        exact jk17 _ _ _ _ _ hf
    · replace hf := gIf_t hf c6
      refine j_bipush (v := (-2)) C dX0_ahead_21 (by decide) ?_
      obtain ⟨rfl, rfl⟩ := gSome hf
      exact j_iret C hr hw dX0_ahead_23
  · replace hf := gIf_t hf c3
    refine j_iconst (v := (-1)) C dX0_ahead_8 (by decide) ?_
    obtain ⟨rfl, rfl⟩ := gSome hf
    exact j_iret C hr hw dX0_ahead_9
