set_option maxRecDepth 100000
def gDp_Run_looks (D : va_G) (dA : Nat → ClassId) (A : Nat → Prop) (K : Nat → Nat) (l : Launch) (h a : Nat) (As : List gv) (v : Option gv) (w w1 : gw) : Prop := (gCls w a = some 18 ∧ gMet D dA A K l yX18_looks (ws_ yX18_looks cX18_looks 2 (some (.object "WorkflowEngine$Outcome"))) h (ga (some a) :: As) v w w1) ∨ (gCls w a = some 20 ∧ gMet D dA A K l yX20_looks (ws_ yX20_looks cX20_looks 2 (some (.object "WorkflowEngine$Outcome"))) h (ga (some a) :: As) v w w1) ∨ (gCls w a = some 21 ∧ gMet D dA A K l yX21_looks (ws_ yX21_looks cX21_looks 1 (some (.object "WorkflowEngine$Outcome"))) h (ga (some a) :: As) v w w1) ∨ (gCls w a = some 22 ∧ gMet D dA A K l yX22_looks (ws_ yX22_looks cX22_looks 2 (some (.object "WorkflowEngine$Outcome"))) h (ga (some a) :: As) v w w1) ∨ (gCls w a = some 23 ∧ gMet D dA A K l yX23_looks (ws_ yX23_looks cX23_looks 2 (some (.object "WorkflowEngine$Outcome"))) h (ga (some a) :: As) v w w1) ∨ (gCls w a = some 24 ∧ gMet D dA A K l yX24_looks (ws_ yX24_looks cX24_looks 1 (some (.object "WorkflowEngine$Outcome"))) h (ga (some a) :: As) v w w1)
theorem hx_WorkflowEngine_Run_looks___LWorkflowEngine_Outcome_ : ("WorkflowEngine$Run" ≠ "java/lang/invoke/MethodHandle" ∧ "WorkflowEngine$Run" ≠ "java/lang/invoke/VarHandle" ∧ (parseMethodDescriptor "()LWorkflowEngine$Outcome;").map (fun d => d.parameters.length) = some 0) := ⟨by decide +kernel, by decide +kernel, by decide +kernel⟩
set_option maxRecDepth 100000 in
theorem j_dp_Run_looks {D : va_G} {dA : Nat → ClassId} {A : Nat → Prop} {K : Nat → Nat} {p : Program} {l : Launch} {e : Env} {R : Room} {s : State} {m : MethodId} {args : Array Value} {below : List Frame} {meth : Method} {c : Code} {Q : State → Prop} {nL : Nat} {cc : ByteArray} {own : String} {pc : Nat} {lv : List (Nat × gv)} {st : List gv} {w w1 : gw} {h index b : Nat} {As rest : List gv} {v : Option gv} (C : gC D dA A K p R s m args meth c cc nL own h) (hh : 1 ≤ h) (hD : gDp_Run_looks D dA A K l (h - 1) b As v w w1) (q1 : Cond.methodLink own index ⟨"WorkflowEngine$Run", "looks", "()LWorkflowEngine$Outcome;"⟩ ∈ lw_all) (hst : st = As.reverse ++ ga (some b) :: rest) (hl : rest.length ≤ 8) (d : decode cc pc = .ok (.invokevirtual index, 3)) (kk : gJ D dA A K p l e R s m args below meth c Q nL (pc + 3) lv (v.toList ++ rest) w1) (hn : As.length = 0 := by rfl) : gJ D dA A K p l e R s m args below meth c Q nL pc lv st w := by
  have hd9 : ("WorkflowEngine$Run" ≠ "java/lang/invoke/MethodHandle" ∧ "WorkflowEngine$Run" ≠ "java/lang/invoke/VarHandle" ∧ (parseMethodDescriptor "()LWorkflowEngine$Outcome;").map (fun d => d.parameters.length) = some As.length) := by rw [hn]; exact hx_WorkflowEngine_Run_looks___LWorkflowEngine_Outcome_
  unfold gDp_Run_looks at hD
  rcases hD with ⟨hc, hM⟩ | ⟨hc, hM⟩ | ⟨hc, hM⟩ | ⟨hc, hM⟩ | ⟨hc, hM⟩ | ⟨hc, hM⟩
  · exact j_callA (owner := "WorkflowEngine$Run") C hh hM hc rfl q1 q939 q958 q959 q120 q960 nq938 hd9 (by decide) hst hl d kk
  · exact j_callA (owner := "WorkflowEngine$Run") C hh hM hc rfl q1 q939 q940 q941 q124 q942 nq938 hd9 (by decide) hst hl d kk
  · exact j_callA (owner := "WorkflowEngine$Run") C hh hM hc rfl q1 q939 q949 q950 q125 q951 nq938 hd9 (by decide) hst hl d kk
  · exact j_callA (owner := "WorkflowEngine$Run") C hh hM hc rfl q1 q939 q1277 q1113 q126 q1114 nq938 hd9 (by decide) hst hl d kk
  · exact j_callA (owner := "WorkflowEngine$Run") C hh hM hc rfl q1 q939 q1278 q1137 q127 q1138 nq938 hd9 (by decide) hst hl d kk
  · exact j_callA (owner := "WorkflowEngine$Run") C hh hM hc rfl q1 q939 q1279 q1185 q128 q1186 nq938 hd9 (by decide) hst hl d kk
def gDp_Run_copy (D : va_G) (dA : Nat → ClassId) (A : Nat → Prop) (K : Nat → Nat) (l : Launch) (h a : Nat) (As : List gv) (v : Option gv) (w w1 : gw) : Prop := (gCls w a = some 18 ∧ gMet D dA A K l yX18_copy (ws_ yX18_copy cX18_copy 3 (some (.object "WorkflowEngine$Run"))) h (ga (some a) :: As) v w w1) ∨ (gCls w a = some 20 ∧ gMet D dA A K l yX20_copy (ws_ yX20_copy cX20_copy 2 (some (.object "WorkflowEngine$Run"))) h (ga (some a) :: As) v w w1) ∨ (gCls w a = some 21 ∧ gMet D dA A K l yX21_copy (ws_ yX21_copy cX21_copy 3 (some (.object "WorkflowEngine$Run"))) h (ga (some a) :: As) v w w1) ∨ (gCls w a = some 22 ∧ gMet D dA A K l yX22_copy (ws_ yX22_copy cX22_copy 4 (some (.object "WorkflowEngine$Run"))) h (ga (some a) :: As) v w w1) ∨ (gCls w a = some 23 ∧ gMet D dA A K l yX23_copy (ws_ yX23_copy cX23_copy 3 (some (.object "WorkflowEngine$Run"))) h (ga (some a) :: As) v w w1) ∨ (gCls w a = some 24 ∧ gMet D dA A K l yX24_copy (ws_ yX24_copy cX24_copy 3 (some (.object "WorkflowEngine$Run"))) h (ga (some a) :: As) v w w1)
theorem hx_WorkflowEngine_Run_copy__LWorkflowEngine_Instance__LWorkflowEngine_Run_ : ("WorkflowEngine$Run" ≠ "java/lang/invoke/MethodHandle" ∧ "WorkflowEngine$Run" ≠ "java/lang/invoke/VarHandle" ∧ (parseMethodDescriptor "(LWorkflowEngine$Instance;)LWorkflowEngine$Run;").map (fun d => d.parameters.length) = some 1) := ⟨by decide +kernel, by decide +kernel, by decide +kernel⟩
set_option maxRecDepth 100000 in
theorem j_dp_Run_copy {D : va_G} {dA : Nat → ClassId} {A : Nat → Prop} {K : Nat → Nat} {p : Program} {l : Launch} {e : Env} {R : Room} {s : State} {m : MethodId} {args : Array Value} {below : List Frame} {meth : Method} {c : Code} {Q : State → Prop} {nL : Nat} {cc : ByteArray} {own : String} {pc : Nat} {lv : List (Nat × gv)} {st : List gv} {w w1 : gw} {h index b : Nat} {As rest : List gv} {v : Option gv} (C : gC D dA A K p R s m args meth c cc nL own h) (hh : 1 ≤ h) (hD : gDp_Run_copy D dA A K l (h - 1) b As v w w1) (q1 : Cond.methodLink own index ⟨"WorkflowEngine$Run", "copy", "(LWorkflowEngine$Instance;)LWorkflowEngine$Run;"⟩ ∈ lw_all) (hst : st = As.reverse ++ ga (some b) :: rest) (hl : rest.length ≤ 8) (d : decode cc pc = .ok (.invokevirtual index, 3)) (kk : gJ D dA A K p l e R s m args below meth c Q nL (pc + 3) lv (v.toList ++ rest) w1) (hn : As.length = 1 := by rfl) : gJ D dA A K p l e R s m args below meth c Q nL pc lv st w := by
  have hd9 : ("WorkflowEngine$Run" ≠ "java/lang/invoke/MethodHandle" ∧ "WorkflowEngine$Run" ≠ "java/lang/invoke/VarHandle" ∧ (parseMethodDescriptor "(LWorkflowEngine$Instance;)LWorkflowEngine$Run;").map (fun d => d.parameters.length) = some As.length) := by rw [hn]; exact hx_WorkflowEngine_Run_copy__LWorkflowEngine_Instance__LWorkflowEngine_Run_
  unfold gDp_Run_copy at hD
  rcases hD with ⟨hc, hM⟩ | ⟨hc, hM⟩ | ⟨hc, hM⟩ | ⟨hc, hM⟩ | ⟨hc, hM⟩ | ⟨hc, hM⟩
  · exact j_callA (owner := "WorkflowEngine$Run") C hh hM hc rfl q1 q1447 q1458 q1459 q120 q1460 nq1446 hd9 (by decide) hst hl d kk
  · exact j_callA (owner := "WorkflowEngine$Run") C hh hM hc rfl q1 q1447 q1448 q1449 q124 q1450 nq1446 hd9 (by decide) hst hl d kk
  · exact j_callA (owner := "WorkflowEngine$Run") C hh hM hc rfl q1 q1447 q1453 q1454 q125 q1455 nq1446 hd9 (by decide) hst hl d kk
  · exact j_callA (owner := "WorkflowEngine$Run") C hh hM hc rfl q1 q1447 q1491 q1464 q126 q1465 nq1446 hd9 (by decide) hst hl d kk
  · exact j_callA (owner := "WorkflowEngine$Run") C hh hM hc rfl q1 q1447 q1492 q1469 q127 q1470 nq1446 hd9 (by decide) hst hl d kk
  · exact j_callA (owner := "WorkflowEngine$Run") C hh hM hc rfl q1 q1447 q1493 q1473 q128 q1474 nq1446 hd9 (by decide) hst hl d kk
def gDp_Run_due (D : va_G) (dA : Nat → ClassId) (A : Nat → Prop) (K : Nat → Nat) (l : Launch) (h a : Nat) (As : List gv) (v : Option gv) (w w1 : gw) : Prop := (gCls w a = some 18 ∧ gMet D dA A K l yX18_due (ws_ yX18_due cX18_due 1 (some .int)) h (ga (some a) :: As) v w w1) ∨ (gCls w a = some 20 ∧ gMet D dA A K l yX20_due (ws_ yX20_due cX20_due 1 (some .int)) h (ga (some a) :: As) v w w1) ∨ (gCls w a = some 21 ∧ gMet D dA A K l yX21_due (ws_ yX21_due cX21_due 1 (some .int)) h (ga (some a) :: As) v w w1) ∨ (gCls w a = some 22 ∧ gMet D dA A K l yX22_due (ws_ yX22_due cX22_due 3 (some .int)) h (ga (some a) :: As) v w w1) ∨ (gCls w a = some 23 ∧ gMet D dA A K l yX23_due (ws_ yX23_due cX23_due 1 (some .int)) h (ga (some a) :: As) v w w1) ∨ (gCls w a = some 24 ∧ gMet D dA A K l yX24_due (ws_ yX24_due cX24_due 1 (some .int)) h (ga (some a) :: As) v w w1)
theorem hx_WorkflowEngine_Run_due___I : ("WorkflowEngine$Run" ≠ "java/lang/invoke/MethodHandle" ∧ "WorkflowEngine$Run" ≠ "java/lang/invoke/VarHandle" ∧ (parseMethodDescriptor "()I").map (fun d => d.parameters.length) = some 0) := ⟨by decide +kernel, by decide +kernel, by decide +kernel⟩
set_option maxRecDepth 100000 in
theorem j_dp_Run_due {D : va_G} {dA : Nat → ClassId} {A : Nat → Prop} {K : Nat → Nat} {p : Program} {l : Launch} {e : Env} {R : Room} {s : State} {m : MethodId} {args : Array Value} {below : List Frame} {meth : Method} {c : Code} {Q : State → Prop} {nL : Nat} {cc : ByteArray} {own : String} {pc : Nat} {lv : List (Nat × gv)} {st : List gv} {w w1 : gw} {h index b : Nat} {As rest : List gv} {v : Option gv} (C : gC D dA A K p R s m args meth c cc nL own h) (hh : 1 ≤ h) (hD : gDp_Run_due D dA A K l (h - 1) b As v w w1) (q1 : Cond.methodLink own index ⟨"WorkflowEngine$Run", "due", "()I"⟩ ∈ lw_all) (hst : st = As.reverse ++ ga (some b) :: rest) (hl : rest.length ≤ 8) (d : decode cc pc = .ok (.invokevirtual index, 3)) (kk : gJ D dA A K p l e R s m args below meth c Q nL (pc + 3) lv (v.toList ++ rest) w1) (hn : As.length = 0 := by rfl) : gJ D dA A K p l e R s m args below meth c Q nL pc lv st w := by
  have hd9 : ("WorkflowEngine$Run" ≠ "java/lang/invoke/MethodHandle" ∧ "WorkflowEngine$Run" ≠ "java/lang/invoke/VarHandle" ∧ (parseMethodDescriptor "()I").map (fun d => d.parameters.length) = some As.length) := by rw [hn]; exact hx_WorkflowEngine_Run_due___I
  unfold gDp_Run_due at hD
  rcases hD with ⟨hc, hM⟩ | ⟨hc, hM⟩ | ⟨hc, hM⟩ | ⟨hc, hM⟩ | ⟨hc, hM⟩ | ⟨hc, hM⟩
  · exact j_callA (owner := "WorkflowEngine$Run") C hh hM hc rfl q1 q1395 q1403 q1404 q120 q1405 nq1394 hd9 (by decide) hst hl d kk
  · exact j_callA (owner := "WorkflowEngine$Run") C hh hM hc rfl q1 q1395 q1396 q1397 q124 q1398 nq1394 hd9 (by decide) hst hl d kk
  · exact j_callA (owner := "WorkflowEngine$Run") C hh hM hc rfl q1 q1395 q1400 q1401 q125 q1402 nq1394 hd9 (by decide) hst hl d kk
  · exact j_callA (owner := "WorkflowEngine$Run") C hh hM hc rfl q1 q1395 q1417 q1408 q126 q1409 nq1394 hd9 (by decide) hst hl d kk
  · exact j_callA (owner := "WorkflowEngine$Run") C hh hM hc rfl q1 q1395 q1418 q1412 q127 q1413 nq1394 hd9 (by decide) hst hl d kk
  · exact j_callA (owner := "WorkflowEngine$Run") C hh hM hc rfl q1 q1395 q1419 q1414 q128 q1415 nq1394 hd9 (by decide) hst hl d kk
def gDp_Run_lists (D : va_G) (dA : Nat → ClassId) (A : Nat → Prop) (K : Nat → Nat) (l : Launch) (h a : Nat) (As : List gv) (v : Option gv) (w w1 : gw) : Prop := (gCls w a = some 18 ∧ gMet D dA A K l yX18_lists (ws_ yX18_lists cX18_lists 2 none) h (ga (some a) :: As) v w w1) ∨ (gCls w a = some 20 ∧ gMet D dA A K l yX17_lists (ws_ yX17_lists cX17_lists 2 none) h (ga (some a) :: As) v w w1) ∨ (gCls w a = some 21 ∧ gMet D dA A K l yX21_lists (ws_ yX21_lists cX21_lists 2 none) h (ga (some a) :: As) v w w1) ∨ (gCls w a = some 22 ∧ gMet D dA A K l yX22_lists (ws_ yX22_lists cX22_lists 3 none) h (ga (some a) :: As) v w w1) ∨ (gCls w a = some 23 ∧ gMet D dA A K l yX23_lists (ws_ yX23_lists cX23_lists 2 none) h (ga (some a) :: As) v w w1) ∨ (gCls w a = some 24 ∧ gMet D dA A K l yX24_lists (ws_ yX24_lists cX24_lists 2 none) h (ga (some a) :: As) v w w1)
theorem hx_WorkflowEngine_Run_lists__LWorkflowEngine_Places__V : ("WorkflowEngine$Run" ≠ "java/lang/invoke/MethodHandle" ∧ "WorkflowEngine$Run" ≠ "java/lang/invoke/VarHandle" ∧ (parseMethodDescriptor "(LWorkflowEngine$Places;)V").map (fun d => d.parameters.length) = some 1) := ⟨by decide +kernel, by decide +kernel, by decide +kernel⟩
set_option maxRecDepth 100000 in
theorem j_dp_Run_lists {D : va_G} {dA : Nat → ClassId} {A : Nat → Prop} {K : Nat → Nat} {p : Program} {l : Launch} {e : Env} {R : Room} {s : State} {m : MethodId} {args : Array Value} {below : List Frame} {meth : Method} {c : Code} {Q : State → Prop} {nL : Nat} {cc : ByteArray} {own : String} {pc : Nat} {lv : List (Nat × gv)} {st : List gv} {w w1 : gw} {h index b : Nat} {As rest : List gv} {v : Option gv} (C : gC D dA A K p R s m args meth c cc nL own h) (hh : 1 ≤ h) (hD : gDp_Run_lists D dA A K l (h - 1) b As v w w1) (q1 : Cond.methodLink own index ⟨"WorkflowEngine$Run", "lists", "(LWorkflowEngine$Places;)V"⟩ ∈ lw_all) (hst : st = As.reverse ++ ga (some b) :: rest) (hl : rest.length ≤ 8) (d : decode cc pc = .ok (.invokevirtual index, 3)) (kk : gJ D dA A K p l e R s m args below meth c Q nL (pc + 3) lv (v.toList ++ rest) w1) (hn : As.length = 1 := by rfl) : gJ D dA A K p l e R s m args below meth c Q nL pc lv st w := by
  have hd9 : ("WorkflowEngine$Run" ≠ "java/lang/invoke/MethodHandle" ∧ "WorkflowEngine$Run" ≠ "java/lang/invoke/VarHandle" ∧ (parseMethodDescriptor "(LWorkflowEngine$Places;)V").map (fun d => d.parameters.length) = some As.length) := by rw [hn]; exact hx_WorkflowEngine_Run_lists__LWorkflowEngine_Places__V
  unfold gDp_Run_lists at hD
  rcases hD with ⟨hc, hM⟩ | ⟨hc, hM⟩ | ⟨hc, hM⟩ | ⟨hc, hM⟩ | ⟨hc, hM⟩ | ⟨hc, hM⟩
  · exact j_callO (owner := "WorkflowEngine$Run") C hh hM hc rfl q1 q1359 q1368 q1369 q120 q1370 q1358 q1384 hd9 (by decide) hst hl d kk
  · exact j_callO (owner := "WorkflowEngine$Run") C hh hM hc rfl q1 q1359 q1360 q1358 q119 q1384 q1358 q1384 hd9 (by decide) hst hl d kk
  · exact j_callO (owner := "WorkflowEngine$Run") C hh hM hc rfl q1 q1359 q1361 q1362 q125 q1363 q1358 q1384 hd9 (by decide) hst hl d kk
  · exact j_callO (owner := "WorkflowEngine$Run") C hh hM hc rfl q1 q1359 q1381 q1372 q126 q1373 q1358 q1384 hd9 (by decide) hst hl d kk
  · exact j_callO (owner := "WorkflowEngine$Run") C hh hM hc rfl q1 q1359 q1382 q1375 q127 q1376 q1358 q1384 hd9 (by decide) hst hl d kk
  · exact j_callO (owner := "WorkflowEngine$Run") C hh hM hc rfl q1 q1359 q1383 q1378 q128 q1379 q1358 q1384 hd9 (by decide) hst hl d kk
def gDp_Run_gathers (D : va_G) (dA : Nat → ClassId) (A : Nat → Prop) (K : Nat → Nat) (l : Launch) (h a : Nat) (As : List gv) (v : Option gv) (w w1 : gw) : Prop := (gCls w a = some 18 ∧ gMet D dA A K l yX18_gathers (ws_ yX18_gathers cX18_gathers 3 none) h (ga (some a) :: As) v w w1) ∨ (gCls w a = some 20 ∧ gMet D dA A K l yX17_gathers (ws_ yX17_gathers cX17_gathers 2 none) h (ga (some a) :: As) v w w1) ∨ (gCls w a = some 21 ∧ gMet D dA A K l yX17_gathers (ws_ yX17_gathers cX17_gathers 2 none) h (ga (some a) :: As) v w w1) ∨ (gCls w a = some 22 ∧ gMet D dA A K l yX22_gathers (ws_ yX22_gathers cX22_gathers 3 none) h (ga (some a) :: As) v w w1) ∨ (gCls w a = some 23 ∧ gMet D dA A K l yX23_gathers (ws_ yX23_gathers cX23_gathers 2 none) h (ga (some a) :: As) v w w1) ∨ (gCls w a = some 24 ∧ gMet D dA A K l yX17_gathers (ws_ yX17_gathers cX17_gathers 2 none) h (ga (some a) :: As) v w w1)
theorem hx_WorkflowEngine_Run_gathers__LWorkflowEngine_Dones__V : ("WorkflowEngine$Run" ≠ "java/lang/invoke/MethodHandle" ∧ "WorkflowEngine$Run" ≠ "java/lang/invoke/VarHandle" ∧ (parseMethodDescriptor "(LWorkflowEngine$Dones;)V").map (fun d => d.parameters.length) = some 1) := ⟨by decide +kernel, by decide +kernel, by decide +kernel⟩
set_option maxRecDepth 100000 in
theorem j_dp_Run_gathers {D : va_G} {dA : Nat → ClassId} {A : Nat → Prop} {K : Nat → Nat} {p : Program} {l : Launch} {e : Env} {R : Room} {s : State} {m : MethodId} {args : Array Value} {below : List Frame} {meth : Method} {c : Code} {Q : State → Prop} {nL : Nat} {cc : ByteArray} {own : String} {pc : Nat} {lv : List (Nat × gv)} {st : List gv} {w w1 : gw} {h index b : Nat} {As rest : List gv} {v : Option gv} (C : gC D dA A K p R s m args meth c cc nL own h) (hh : 1 ≤ h) (hD : gDp_Run_gathers D dA A K l (h - 1) b As v w w1) (q1 : Cond.methodLink own index ⟨"WorkflowEngine$Run", "gathers", "(LWorkflowEngine$Dones;)V"⟩ ∈ lw_all) (hst : st = As.reverse ++ ga (some b) :: rest) (hl : rest.length ≤ 8) (d : decode cc pc = .ok (.invokevirtual index, 3)) (kk : gJ D dA A K p l e R s m args below meth c Q nL (pc + 3) lv (v.toList ++ rest) w1) (hn : As.length = 1 := by rfl) : gJ D dA A K p l e R s m args below meth c Q nL pc lv st w := by
  have hd9 : ("WorkflowEngine$Run" ≠ "java/lang/invoke/MethodHandle" ∧ "WorkflowEngine$Run" ≠ "java/lang/invoke/VarHandle" ∧ (parseMethodDescriptor "(LWorkflowEngine$Dones;)V").map (fun d => d.parameters.length) = some As.length) := by rw [hn]; exact hx_WorkflowEngine_Run_gathers__LWorkflowEngine_Dones__V
  unfold gDp_Run_gathers at hD
  rcases hD with ⟨hc, hM⟩ | ⟨hc, hM⟩ | ⟨hc, hM⟩ | ⟨hc, hM⟩ | ⟨hc, hM⟩ | ⟨hc, hM⟩
  · exact j_callO (owner := "WorkflowEngine$Run") C hh hM hc rfl q1 q1205 q1208 q1209 q120 q1210 q1204 q1224 hd9 (by decide) hst hl d kk
  · exact j_callO (owner := "WorkflowEngine$Run") C hh hM hc rfl q1 q1205 q1206 q1204 q119 q1224 q1204 q1224 hd9 (by decide) hst hl d kk
  · exact j_callO (owner := "WorkflowEngine$Run") C hh hM hc rfl q1 q1205 q1207 q1204 q119 q1224 q1204 q1224 hd9 (by decide) hst hl d kk
  · exact j_callO (owner := "WorkflowEngine$Run") C hh hM hc rfl q1 q1205 q1221 q1216 q126 q1217 q1204 q1224 hd9 (by decide) hst hl d kk
  · exact j_callO (owner := "WorkflowEngine$Run") C hh hM hc rfl q1 q1205 q1222 q1218 q127 q1219 q1204 q1224 hd9 (by decide) hst hl d kk
  · exact j_callO (owner := "WorkflowEngine$Run") C hh hM hc rfl q1 q1205 q1223 q1204 q119 q1224 q1204 q1224 hd9 (by decide) hst hl d kk
def gDp_Node_begins (D : va_G) (dA : Nat → ClassId) (A : Nat → Prop) (K : Nat → Nat) (l : Launch) (h a : Nat) (As : List gv) (v : Option gv) (w w1 : gw) : Prop := (gCls w a = some 9 ∧ gMet D dA A K l yX9_begins (ws_ yX9_begins cX9_begins 2 (some (.object "WorkflowEngine$Run"))) h (ga (some a) :: As) v w w1) ∨ (gCls w a = some 10 ∧ gMet D dA A K l yX10_begins (ws_ yX10_begins cX10_begins 2 (some (.object "WorkflowEngine$Run"))) h (ga (some a) :: As) v w w1) ∨ (gCls w a = some 11 ∧ gMet D dA A K l yX11_begins (ws_ yX11_begins cX11_begins 2 (some (.object "WorkflowEngine$Run"))) h (ga (some a) :: As) v w w1) ∨ (gCls w a = some 12 ∧ gMet D dA A K l yX12_begins (ws_ yX12_begins cX12_begins 2 (some (.object "WorkflowEngine$Run"))) h (ga (some a) :: As) v w w1) ∨ (gCls w a = some 13 ∧ gMet D dA A K l yX13_begins (ws_ yX13_begins cX13_begins 2 (some (.object "WorkflowEngine$Run"))) h (ga (some a) :: As) v w w1) ∨ (gCls w a = some 14 ∧ gMet D dA A K l yX14_begins (ws_ yX14_begins cX14_begins 2 (some (.object "WorkflowEngine$Run"))) h (ga (some a) :: As) v w w1)
theorem hx_WorkflowEngine_Node_begins__LWorkflowEngine_Instance__LWorkflowEngine_Run_ : ("WorkflowEngine$Node" ≠ "java/lang/invoke/MethodHandle" ∧ "WorkflowEngine$Node" ≠ "java/lang/invoke/VarHandle" ∧ (parseMethodDescriptor "(LWorkflowEngine$Instance;)LWorkflowEngine$Run;").map (fun d => d.parameters.length) = some 1) := ⟨by decide +kernel, by decide +kernel, by decide +kernel⟩
set_option maxRecDepth 100000 in
theorem j_dp_Node_begins {D : va_G} {dA : Nat → ClassId} {A : Nat → Prop} {K : Nat → Nat} {p : Program} {l : Launch} {e : Env} {R : Room} {s : State} {m : MethodId} {args : Array Value} {below : List Frame} {meth : Method} {c : Code} {Q : State → Prop} {nL : Nat} {cc : ByteArray} {own : String} {pc : Nat} {lv : List (Nat × gv)} {st : List gv} {w w1 : gw} {h index b : Nat} {As rest : List gv} {v : Option gv} (C : gC D dA A K p R s m args meth c cc nL own h) (hh : 1 ≤ h) (hD : gDp_Node_begins D dA A K l (h - 1) b As v w w1) (q1 : Cond.methodLink own index ⟨"WorkflowEngine$Node", "begins", "(LWorkflowEngine$Instance;)LWorkflowEngine$Run;"⟩ ∈ lw_all) (hst : st = As.reverse ++ ga (some b) :: rest) (hl : rest.length ≤ 8) (d : decode cc pc = .ok (.invokevirtual index, 3)) (kk : gJ D dA A K p l e R s m args below meth c Q nL (pc + 3) lv (v.toList ++ rest) w1) (hn : As.length = 1 := by rfl) : gJ D dA A K p l e R s m args below meth c Q nL pc lv st w := by
  have hd9 : ("WorkflowEngine$Node" ≠ "java/lang/invoke/MethodHandle" ∧ "WorkflowEngine$Node" ≠ "java/lang/invoke/VarHandle" ∧ (parseMethodDescriptor "(LWorkflowEngine$Instance;)LWorkflowEngine$Run;").map (fun d => d.parameters.length) = some As.length) := by rw [hn]; exact hx_WorkflowEngine_Node_begins__LWorkflowEngine_Instance__LWorkflowEngine_Run_
  unfold gDp_Node_begins at hD
  rcases hD with ⟨hc, hM⟩ | ⟨hc, hM⟩ | ⟨hc, hM⟩ | ⟨hc, hM⟩ | ⟨hc, hM⟩ | ⟨hc, hM⟩
  · exact j_callA (owner := "WorkflowEngine$Node") C hh hM hc rfl q1 q966 q1057 q1058 q105 q1059 nq965 hd9 (by decide) hst hl d kk
  · exact j_callA (owner := "WorkflowEngine$Node") C hh hM hc rfl q1 q966 q1089 q1090 q106 q1091 nq965 hd9 (by decide) hst hl d kk
  · exact j_callA (owner := "WorkflowEngine$Node") C hh hM hc rfl q1 q966 q992 q993 q107 q994 nq965 hd9 (by decide) hst hl d kk
  · exact j_callA (owner := "WorkflowEngine$Node") C hh hM hc rfl q1 q966 q967 q968 q108 q969 nq965 hd9 (by decide) hst hl d kk
  · exact j_callA (owner := "WorkflowEngine$Node") C hh hM hc rfl q1 q966 q1016 q1017 q109 q1018 nq965 hd9 (by decide) hst hl d kk
  · exact j_callA (owner := "WorkflowEngine$Node") C hh hM hc rfl q1 q966 q1023 q1024 q114 q1025 nq965 hd9 (by decide) hst hl d kk
def gDp_Node_width (D : va_G) (dA : Nat → ClassId) (A : Nat → Prop) (K : Nat → Nat) (l : Launch) (h a : Nat) (As : List gv) (v : Option gv) (w w1 : gw) : Prop := (gCls w a = some 9 ∧ gMet D dA A K l yX8_width (ws_ yX8_width cX8_width 1 (some .int)) h (ga (some a) :: As) v w w1) ∨ (gCls w a = some 10 ∧ gMet D dA A K l yX8_width (ws_ yX8_width cX8_width 1 (some .int)) h (ga (some a) :: As) v w w1) ∨ (gCls w a = some 11 ∧ gMet D dA A K l yX8_width (ws_ yX8_width cX8_width 1 (some .int)) h (ga (some a) :: As) v w w1) ∨ (gCls w a = some 12 ∧ gMet D dA A K l yX8_width (ws_ yX8_width cX8_width 1 (some .int)) h (ga (some a) :: As) v w w1) ∨ (gCls w a = some 13 ∧ gMet D dA A K l yX13_width (ws_ yX13_width cX13_width 1 (some .int)) h (ga (some a) :: As) v w w1) ∨ (gCls w a = some 14 ∧ gMet D dA A K l yX14_width (ws_ yX14_width cX14_width 3 (some .int)) h (ga (some a) :: As) v w w1)
theorem hx_WorkflowEngine_Node_width___I : ("WorkflowEngine$Node" ≠ "java/lang/invoke/MethodHandle" ∧ "WorkflowEngine$Node" ≠ "java/lang/invoke/VarHandle" ∧ (parseMethodDescriptor "()I").map (fun d => d.parameters.length) = some 0) := ⟨by decide +kernel, by decide +kernel, by decide +kernel⟩
set_option maxRecDepth 100000 in
theorem j_dp_Node_width {D : va_G} {dA : Nat → ClassId} {A : Nat → Prop} {K : Nat → Nat} {p : Program} {l : Launch} {e : Env} {R : Room} {s : State} {m : MethodId} {args : Array Value} {below : List Frame} {meth : Method} {c : Code} {Q : State → Prop} {nL : Nat} {cc : ByteArray} {own : String} {pc : Nat} {lv : List (Nat × gv)} {st : List gv} {w w1 : gw} {h index b : Nat} {As rest : List gv} {v : Option gv} (C : gC D dA A K p R s m args meth c cc nL own h) (hh : 1 ≤ h) (hD : gDp_Node_width D dA A K l (h - 1) b As v w w1) (q1 : Cond.methodLink own index ⟨"WorkflowEngine$Node", "width", "()I"⟩ ∈ lw_all) (hst : st = As.reverse ++ ga (some b) :: rest) (hl : rest.length ≤ 8) (d : decode cc pc = .ok (.invokevirtual index, 3)) (kk : gJ D dA A K p l e R s m args below meth c Q nL (pc + 3) lv (v.toList ++ rest) w1) (hn : As.length = 0 := by rfl) : gJ D dA A K p l e R s m args below meth c Q nL pc lv st w := by
  have hd9 : ("WorkflowEngine$Node" ≠ "java/lang/invoke/MethodHandle" ∧ "WorkflowEngine$Node" ≠ "java/lang/invoke/VarHandle" ∧ (parseMethodDescriptor "()I").map (fun d => d.parameters.length) = some As.length) := by rw [hn]; exact hx_WorkflowEngine_Node_width___I
  unfold gDp_Node_width at hD
  rcases hD with ⟨hc, hM⟩ | ⟨hc, hM⟩ | ⟨hc, hM⟩ | ⟨hc, hM⟩ | ⟨hc, hM⟩ | ⟨hc, hM⟩
  · exact j_callO (owner := "WorkflowEngine$Node") C hh hM hc rfl q1 q694 q705 q693 q104 q707 q693 q707 hd9 (by decide) hst hl d kk
  · exact j_callO (owner := "WorkflowEngine$Node") C hh hM hc rfl q1 q694 q706 q693 q104 q707 q693 q707 hd9 (by decide) hst hl d kk
  · exact j_callO (owner := "WorkflowEngine$Node") C hh hM hc rfl q1 q694 q696 q693 q104 q707 q693 q707 hd9 (by decide) hst hl d kk
  · exact j_callO (owner := "WorkflowEngine$Node") C hh hM hc rfl q1 q694 q695 q693 q104 q707 q693 q707 hd9 (by decide) hst hl d kk
  · exact j_callO (owner := "WorkflowEngine$Node") C hh hM hc rfl q1 q694 q697 q698 q109 q699 q693 q707 hd9 (by decide) hst hl d kk
  · exact j_callO (owner := "WorkflowEngine$Node") C hh hM hc rfl q1 q694 q701 q702 q114 q703 q693 q707 hd9 (by decide) hst hl d kk
def gDp_Node_depth (D : va_G) (dA : Nat → ClassId) (A : Nat → Prop) (K : Nat → Nat) (l : Launch) (h a : Nat) (As : List gv) (v : Option gv) (w w1 : gw) : Prop := (gCls w a = some 9 ∧ gMet D dA A K l yX8_depth (ws_ yX8_depth cX8_depth 1 (some .int)) h (ga (some a) :: As) v w w1) ∨ (gCls w a = some 10 ∧ gMet D dA A K l yX8_depth (ws_ yX8_depth cX8_depth 1 (some .int)) h (ga (some a) :: As) v w w1) ∨ (gCls w a = some 11 ∧ gMet D dA A K l yX8_depth (ws_ yX8_depth cX8_depth 1 (some .int)) h (ga (some a) :: As) v w w1) ∨ (gCls w a = some 12 ∧ gMet D dA A K l yX8_depth (ws_ yX8_depth cX8_depth 1 (some .int)) h (ga (some a) :: As) v w w1) ∨ (gCls w a = some 13 ∧ gMet D dA A K l yX13_depth (ws_ yX13_depth cX13_depth 1 (some .int)) h (ga (some a) :: As) v w w1) ∨ (gCls w a = some 14 ∧ gMet D dA A K l yX14_depth (ws_ yX14_depth cX14_depth 3 (some .int)) h (ga (some a) :: As) v w w1)
theorem hx_WorkflowEngine_Node_depth___I : ("WorkflowEngine$Node" ≠ "java/lang/invoke/MethodHandle" ∧ "WorkflowEngine$Node" ≠ "java/lang/invoke/VarHandle" ∧ (parseMethodDescriptor "()I").map (fun d => d.parameters.length) = some 0) := ⟨by decide +kernel, by decide +kernel, by decide +kernel⟩
set_option maxRecDepth 100000 in
theorem j_dp_Node_depth {D : va_G} {dA : Nat → ClassId} {A : Nat → Prop} {K : Nat → Nat} {p : Program} {l : Launch} {e : Env} {R : Room} {s : State} {m : MethodId} {args : Array Value} {below : List Frame} {meth : Method} {c : Code} {Q : State → Prop} {nL : Nat} {cc : ByteArray} {own : String} {pc : Nat} {lv : List (Nat × gv)} {st : List gv} {w w1 : gw} {h index b : Nat} {As rest : List gv} {v : Option gv} (C : gC D dA A K p R s m args meth c cc nL own h) (hh : 1 ≤ h) (hD : gDp_Node_depth D dA A K l (h - 1) b As v w w1) (q1 : Cond.methodLink own index ⟨"WorkflowEngine$Node", "depth", "()I"⟩ ∈ lw_all) (hst : st = As.reverse ++ ga (some b) :: rest) (hl : rest.length ≤ 8) (d : decode cc pc = .ok (.invokevirtual index, 3)) (kk : gJ D dA A K p l e R s m args below meth c Q nL (pc + 3) lv (v.toList ++ rest) w1) (hn : As.length = 0 := by rfl) : gJ D dA A K p l e R s m args below meth c Q nL pc lv st w := by
  have hd9 : ("WorkflowEngine$Node" ≠ "java/lang/invoke/MethodHandle" ∧ "WorkflowEngine$Node" ≠ "java/lang/invoke/VarHandle" ∧ (parseMethodDescriptor "()I").map (fun d => d.parameters.length) = some As.length) := by rw [hn]; exact hx_WorkflowEngine_Node_depth___I
  unfold gDp_Node_depth at hD
  rcases hD with ⟨hc, hM⟩ | ⟨hc, hM⟩ | ⟨hc, hM⟩ | ⟨hc, hM⟩ | ⟨hc, hM⟩ | ⟨hc, hM⟩
  · exact j_callO (owner := "WorkflowEngine$Node") C hh hM hc rfl q1 q668 q684 q667 q104 q686 q667 q686 hd9 (by decide) hst hl d kk
  · exact j_callO (owner := "WorkflowEngine$Node") C hh hM hc rfl q1 q668 q685 q667 q104 q686 q667 q686 hd9 (by decide) hst hl d kk
  · exact j_callO (owner := "WorkflowEngine$Node") C hh hM hc rfl q1 q668 q670 q667 q104 q686 q667 q686 hd9 (by decide) hst hl d kk
  · exact j_callO (owner := "WorkflowEngine$Node") C hh hM hc rfl q1 q668 q669 q667 q104 q686 q667 q686 hd9 (by decide) hst hl d kk
  · exact j_callO (owner := "WorkflowEngine$Node") C hh hM hc rfl q1 q668 q671 q672 q109 q673 q667 q686 hd9 (by decide) hst hl d kk
  · exact j_callO (owner := "WorkflowEngine$Node") C hh hM hc rfl q1 q668 q676 q677 q114 q678 q667 q686 hd9 (by decide) hst hl d kk
def dkwJ10_isNaN_0 : List UInt8 := [34, 34, 149, 153, 0, 7, 4, 167, 0, 4, 3, 172]
abbrev dktJ10_isNaN_0 : List UInt8 := dkwJ10_isNaN_0 ++ []
theorem dksJ10_isNaN_0 : cJ10_isNaN.data.toList.drop 0 = dktJ10_isNaN_0 := by decide +kernel
theorem dJ10_isNaN_0 : decode cJ10_isNaN 0 = .ok (.fload_n 0, 1) := dk_34 (dk_at dksJ10_isNaN_0 0 rfl rfl)
theorem dJ10_isNaN_1 : decode cJ10_isNaN 1 = .ok (.fload_n 0, 1) := dk_34 (dk_at dksJ10_isNaN_0 1 rfl rfl)
theorem dJ10_isNaN_2 : decode cJ10_isNaN 2 = .ok (.fcmp .l, 1) := dk_149 (dk_at dksJ10_isNaN_0 2 rfl rfl)
theorem dJ10_isNaN_3 : decode cJ10_isNaN 3 = .ok (.ifCond .eq 7, 3) := dk_153 0 7 (dk_at dksJ10_isNaN_0 3 rfl rfl)
theorem dJ10_isNaN_6 : decode cJ10_isNaN 6 = .ok (.iconst 1, 1) := dk_4 (dk_at dksJ10_isNaN_0 6 rfl rfl)
theorem dJ10_isNaN_7 : decode cJ10_isNaN 7 = .ok (.goto 4, 3) := dk_167 0 4 (dk_at dksJ10_isNaN_0 7 rfl rfl)
theorem dJ10_isNaN_10 : decode cJ10_isNaN 10 = .ok (.iconst 0, 1) := dk_3 (dk_at dksJ10_isNaN_0 10 rfl rfl)
theorem dJ10_isNaN_11 : decode cJ10_isNaN 11 = .ok (.ireturn, 1) := dk_172 (dk_at dksJ10_isNaN_0 11 rfl rfl)
def f_J10_isNaN (p0 : UInt32) (w0 : gw) : Option (Int32 × gw) := if (Op.cmpValue (FP.fcmp p0 p0) .l) = 0 then some ((nI 0), w0) else some ((nI 1), w0)
set_option maxHeartbeats 4000000 in
set_option maxRecDepth 100000 in
theorem k_J10_isNaN {D : va_G} {dA : Nat → ClassId} {A : Nat → Prop} {K : Nat → Nat} {l : Launch} {h : Nat} (hh : 0 ≤ h) {p0 : UInt32} {w0 ww : gw} {rr : Int32} (hf : f_J10_isNaN p0 w0 = some (rr, ww)) : gMet D dA A K l yJ10_isNaN (ws_ yJ10_isNaN cJ10_isNaN 1 (some .boolean)) h [(gfl p0)] (some (gi rr)) w0 ww := by
  refine j_start (own := RJ10) (by decide +kernel) rfl (Nat.le_of_ble_eq_true rfl) ?_
  intro p e R s m args below meth c C hr hin hw
  unfold f_J10_isNaN at hf
  show gJ D dA A K p l e R s m args below meth c (gEnd D dA A K below args s w0 (some (gi rr)) ww) 1 0 [(0, (gfl p0))] [] w0
  refine j_fload_n C dJ10_isNaN_0 rfl ?_
  refine j_fload_n C dJ10_isNaN_1 rfl ?_
  refine j_fcmp C dJ10_isNaN_2 ?_
  refine j_if_eq (tgt := 10) C dJ10_isNaN_3 (by decide) (fun c1 => ?_) (fun c1 => ?_)
  · replace hf := gIf_t hf c1
    refine j_iconst (v := (nI 0)) C dJ10_isNaN_10 (by decide) ?_
    obtain ⟨rfl, rfl⟩ := gSome hf
    exact j_zret C hr (by decide) hw dJ10_isNaN_11
  · replace hf := gIf_f hf c1
    refine j_iconst (v := (nI 1)) C dJ10_isNaN_6 (by decide) ?_
    refine j_goto (tgt := 11) C dJ10_isNaN_7 (by decide) ?_
    obtain ⟨rfl, rfl⟩ := gSome hf
    exact j_zret C hr (by decide) hw dJ10_isNaN_11
theorem dJ2_size_0 : decode cJ2_size 0 = .ok (.aload_n 0, 1) := by decide +kernel
theorem dJ2_size_1 : decode cJ2_size 1 = .ok (.getfield 48, 3) := by decide +kernel
theorem dJ2_size_4 : decode cJ2_size 4 = .ok (.ireturn, 1) := by decide +kernel
theorem fl_J2_48_8 : gFL RJ2 48 8 2 := gFL.mk (Cn := RJ2) (T := TJ2) (N := 3) (ref := "java/util/ArrayList") rfl in_J2 (by decide) q208 rfl rfl (Or.inl rfl)
def f_J2_size (a0 : Nat) (w0 : gw) : Option (Int32 × gw) := gB1 (gI w0 a0 8 2) fun x1 => some (x1, w0)
set_option maxHeartbeats 4000000 in
set_option maxRecDepth 100000 in
theorem k_J2_size {D : va_G} {dA : Nat → ClassId} {A : Nat → Prop} {K : Nat → Nat} {l : Launch} {h : Nat} (hh : 0 ≤ h) {a0 : Nat} {w0 ww : gw} {rr : Int32} (hf : f_J2_size a0 w0 = some (rr, ww)) : gMet D dA A K l yJ2_size (ws_ yJ2_size cJ2_size 1 (some .int)) h [(ga (some a0))] (some (gi rr)) w0 ww := by
  refine j_start (own := RJ2) (by decide +kernel) rfl (Nat.le_of_ble_eq_true rfl) ?_
  intro p e R s m args below meth c C hr hin hw
  unfold f_J2_size at hf
  show gJ D dA A K p l e R s m args below meth c (gEnd D dA A K below args s w0 (some (gi rr)) ww) 1 0 [(0, (ga (some a0)))] [] w0
  refine j_aload_n C dJ2_size_0 rfl ?_
  replace hf := gB1_e hf
  obtain ⟨x1, ex1, hf⟩ := hf
  refine j_get C fl_J2_48_8 dJ2_size_1 (gI_F ex1) ?_
  obtain ⟨rfl, rfl⟩ := gSome hf
  exact j_iret C hr hw dJ2_size_4
def dkwJ2_elementData_0 : List UInt8 := [42, 180, 0, 9, 27, 50, 176]
abbrev dktJ2_elementData_0 : List UInt8 := dkwJ2_elementData_0 ++ []
theorem dksJ2_elementData_0 : cJ2_elementData.data.toList.drop 0 = dktJ2_elementData_0 := by decide +kernel
theorem dJ2_elementData_0 : decode cJ2_elementData 0 = .ok (.aload_n 0, 1) := dk_42 (dk_at dksJ2_elementData_0 0 rfl rfl)
theorem dJ2_elementData_1 : decode cJ2_elementData 1 = .ok (.getfield 9, 3) := dk_180 0 9 (dk_at dksJ2_elementData_0 1 rfl rfl)
theorem dJ2_elementData_4 : decode cJ2_elementData 4 = .ok (.iload_n 1, 1) := dk_27 (dk_at dksJ2_elementData_0 4 rfl rfl)
theorem dJ2_elementData_5 : decode cJ2_elementData 5 = .ok (.aaload, 1) := dk_50 (dk_at dksJ2_elementData_0 5 rfl rfl)
theorem dJ2_elementData_6 : decode cJ2_elementData 6 = .ok (.areturn, 1) := dk_176 (dk_at dksJ2_elementData_0 6 rfl rfl)
theorem fl_J2_9_8 : gFL RJ2 9 8 1 := gFL.mk (Cn := RJ2) (T := TJ2) (N := 3) (ref := "java/util/ArrayList") rfl in_J2 (by decide) q207 rfl rfl (Or.inl rfl)
def f_J2_elementData (a0 : Nat) (p1 : Int32) (w0 : gw) : Option (Option Nat × gw) := gB1 (gR w0 a0 8 1) fun r1 => gB1 r1 fun a2 => gB1 (gLdR w0 a2 2 p1) fun r3 => some (r3, w0)
set_option maxHeartbeats 4000000 in
set_option maxRecDepth 100000 in
theorem k_J2_elementData {D : va_G} {dA : Nat → ClassId} {A : Nat → Prop} {K : Nat → Nat} {l : Launch} {h : Nat} (hh : 0 ≤ h) {a0 : Nat} {p1 : Int32} {w0 ww : gw} {rr : Option Nat} (hf : f_J2_elementData a0 p1 w0 = some (rr, ww)) : gMet D dA A K l yJ2_elementData (ws_ yJ2_elementData cJ2_elementData 2 (some (.object "java/lang/Object"))) h [(ga (some a0)), (gi p1)] (some (ga rr)) w0 ww := by
  refine j_start (own := RJ2) (by decide +kernel) rfl (Nat.le_of_ble_eq_true rfl) ?_
  intro p e R s m args below meth c C hr hin hw
  unfold f_J2_elementData at hf
  show gJ D dA A K p l e R s m args below meth c (gEnd D dA A K below args s w0 (some (ga rr)) ww) 2 0 [(0, (ga (some a0))), (1, (gi p1))] [] w0
  refine j_aload_n C dJ2_elementData_0 rfl ?_
  replace hf := gB1_e hf
  obtain ⟨r1, er1, hf⟩ := hf
  refine j_get C fl_J2_9_8 dJ2_elementData_1 (gR_F er1) ?_
  refine j_iload_n C dJ2_elementData_4 rfl ?_
  replace hf := gB1_e hf
  obtain ⟨a2, ea2, hf⟩ := hf
  subst ea2
  replace hf := gB1_e hf
  obtain ⟨r3, er3, hf⟩ := hf
  refine j_aald C (t := 2) rfl er3 dJ2_elementData_5 ?_
  obtain ⟨rfl, rfl⟩ := gSome hf
  exact j_aret C hr (Or.inl ⟨_, rfl⟩) hw dJ2_elementData_6
def dkwJ5_hugeLength_2 : List UInt8 := [191, 28, 18, 200, 163, 0, 6, 18, 200, 172, 28, 172]
abbrev dktJ5_hugeLength_2 : List UInt8 := dkwJ5_hugeLength_2 ++ []
def dkwJ5_hugeLength_1 : List UInt8 := [26, 182, 0, 98, 18, 208, 182, 0, 94, 27, 182, 0, 98, 18, 210, 182, 0, 94, 182, 0, 101, 183, 0, 212]
abbrev dktJ5_hugeLength_1 : List UInt8 := dkwJ5_hugeLength_1 ++ dktJ5_hugeLength_2
def dkwJ5_hugeLength_0 : List UInt8 := [26, 27, 96, 61, 28, 156, 0, 44, 187, 0, 204, 89, 187, 0, 89, 89, 183, 0, 91, 18, 206, 182, 0, 94]
abbrev dktJ5_hugeLength_0 : List UInt8 := dkwJ5_hugeLength_0 ++ dktJ5_hugeLength_1
theorem dksJ5_hugeLength_0 : cJ5_hugeLength.data.toList.drop 0 = dktJ5_hugeLength_0 := by decide +kernel
theorem dksJ5_hugeLength_1 : cJ5_hugeLength.data.toList.drop 24 = dktJ5_hugeLength_1 := dk_seg dksJ5_hugeLength_0 24 rfl rfl
theorem dksJ5_hugeLength_2 : cJ5_hugeLength.data.toList.drop 48 = dktJ5_hugeLength_2 := dk_seg dksJ5_hugeLength_1 24 rfl rfl
theorem dJ5_hugeLength_0 : decode cJ5_hugeLength 0 = .ok (.iload_n 0, 1) := dk_26 (dk_at dksJ5_hugeLength_0 0 rfl rfl)
theorem dJ5_hugeLength_1 : decode cJ5_hugeLength 1 = .ok (.iload_n 1, 1) := dk_27 (dk_at dksJ5_hugeLength_0 1 rfl rfl)
theorem dJ5_hugeLength_2 : decode cJ5_hugeLength 2 = .ok (.iadd, 1) := dk_96 (dk_at dksJ5_hugeLength_0 2 rfl rfl)
theorem dJ5_hugeLength_3 : decode cJ5_hugeLength 3 = .ok (.istore_n 2, 1) := dk_61 (dk_at dksJ5_hugeLength_0 3 rfl rfl)
theorem dJ5_hugeLength_4 : decode cJ5_hugeLength 4 = .ok (.iload_n 2, 1) := dk_28 (dk_at dksJ5_hugeLength_0 4 rfl rfl)
theorem dJ5_hugeLength_5 : decode cJ5_hugeLength 5 = .ok (.ifCond .ge 44, 3) := dk_156 0 44 (dk_at dksJ5_hugeLength_0 5 rfl rfl)
theorem dJ5_hugeLength_8 : decode cJ5_hugeLength 8 = .ok (.new 204, 3) := dk_187 0 204 (dk_at dksJ5_hugeLength_0 8 rfl rfl)
theorem dJ5_hugeLength_11 : decode cJ5_hugeLength 11 = .ok (.dup, 1) := dk_89 (dk_at dksJ5_hugeLength_0 11 rfl rfl)
theorem dJ5_hugeLength_12 : decode cJ5_hugeLength 12 = .ok (.new 89, 3) := dk_187 0 89 (dk_at dksJ5_hugeLength_0 12 rfl rfl)
theorem dJ5_hugeLength_15 : decode cJ5_hugeLength 15 = .ok (.dup, 1) := dk_89 (dk_at dksJ5_hugeLength_0 15 rfl rfl)
theorem dJ5_hugeLength_16 : decode cJ5_hugeLength 16 = .ok (.invokespecial 91, 3) := dk_183 0 91 (dk_at dksJ5_hugeLength_0 16 rfl rfl)
theorem dJ5_hugeLength_19 : decode cJ5_hugeLength 19 = .ok (.ldc 206, 2) := dk_18 206 (dk_at dksJ5_hugeLength_0 19 rfl rfl)
theorem dJ5_hugeLength_21 : decode cJ5_hugeLength 21 = .ok (.invokevirtual 94, 3) := dk_182 0 94 (dk_at dksJ5_hugeLength_0 21 rfl rfl)
theorem dJ5_hugeLength_24 : decode cJ5_hugeLength 24 = .ok (.iload_n 0, 1) := dk_26 (dk_at dksJ5_hugeLength_1 0 rfl rfl)
theorem dJ5_hugeLength_25 : decode cJ5_hugeLength 25 = .ok (.invokevirtual 98, 3) := dk_182 0 98 (dk_at dksJ5_hugeLength_1 1 rfl rfl)
theorem dJ5_hugeLength_28 : decode cJ5_hugeLength 28 = .ok (.ldc 208, 2) := dk_18 208 (dk_at dksJ5_hugeLength_1 4 rfl rfl)
theorem dJ5_hugeLength_30 : decode cJ5_hugeLength 30 = .ok (.invokevirtual 94, 3) := dk_182 0 94 (dk_at dksJ5_hugeLength_1 6 rfl rfl)
theorem dJ5_hugeLength_33 : decode cJ5_hugeLength 33 = .ok (.iload_n 1, 1) := dk_27 (dk_at dksJ5_hugeLength_1 9 rfl rfl)
theorem dJ5_hugeLength_34 : decode cJ5_hugeLength 34 = .ok (.invokevirtual 98, 3) := dk_182 0 98 (dk_at dksJ5_hugeLength_1 10 rfl rfl)
theorem dJ5_hugeLength_37 : decode cJ5_hugeLength 37 = .ok (.ldc 210, 2) := dk_18 210 (dk_at dksJ5_hugeLength_1 13 rfl rfl)
theorem dJ5_hugeLength_39 : decode cJ5_hugeLength 39 = .ok (.invokevirtual 94, 3) := dk_182 0 94 (dk_at dksJ5_hugeLength_1 15 rfl rfl)
theorem dJ5_hugeLength_42 : decode cJ5_hugeLength 42 = .ok (.invokevirtual 101, 3) := dk_182 0 101 (dk_at dksJ5_hugeLength_1 18 rfl rfl)
theorem dJ5_hugeLength_45 : decode cJ5_hugeLength 45 = .ok (.invokespecial 212, 3) := dk_183 0 212 (dk_at dksJ5_hugeLength_1 21 rfl rfl)
theorem dJ5_hugeLength_48 : decode cJ5_hugeLength 48 = .ok (.athrow, 1) := dk_191 (dk_at dksJ5_hugeLength_2 0 rfl rfl)
theorem dJ5_hugeLength_49 : decode cJ5_hugeLength 49 = .ok (.iload_n 2, 1) := dk_28 (dk_at dksJ5_hugeLength_2 1 rfl rfl)
theorem dJ5_hugeLength_50 : decode cJ5_hugeLength 50 = .ok (.ldc 200, 2) := dk_18 200 (dk_at dksJ5_hugeLength_2 2 rfl rfl)
theorem dJ5_hugeLength_52 : decode cJ5_hugeLength 52 = .ok (.if_icmp .gt 6, 3) := dk_163 0 6 (dk_at dksJ5_hugeLength_2 4 rfl rfl)
theorem dJ5_hugeLength_55 : decode cJ5_hugeLength 55 = .ok (.ldc 200, 2) := dk_18 200 (dk_at dksJ5_hugeLength_2 7 rfl rfl)
theorem dJ5_hugeLength_57 : decode cJ5_hugeLength 57 = .ok (.ireturn, 1) := dk_172 (dk_at dksJ5_hugeLength_2 9 rfl rfl)
theorem dJ5_hugeLength_58 : decode cJ5_hugeLength 58 = .ok (.iload_n 2, 1) := dk_28 (dk_at dksJ5_hugeLength_2 10 rfl rfl)
theorem dJ5_hugeLength_59 : decode cJ5_hugeLength 59 = .ok (.ireturn, 1) := dk_172 (dk_at dksJ5_hugeLength_2 11 rfl rfl)
def f_J5_hugeLength (p0 : Int32) (p1 : Int32) (w0 : gw) : Option (Int32 × gw) := gBd (p0 + p1) fun x1 => if 0 ≤ x1 then if (nI 2147483639) < x1 then some (x1, w0) else some ((nI 2147483639), w0) else none
set_option maxHeartbeats 4000000 in
set_option maxRecDepth 100000 in
theorem k_J5_hugeLength {D : va_G} {dA : Nat → ClassId} {A : Nat → Prop} {K : Nat → Nat} {l : Launch} {h : Nat} (hh : 0 ≤ h) {p0 : Int32} {p1 : Int32} {w0 ww : gw} {rr : Int32} (hf : f_J5_hugeLength p0 p1 w0 = some (rr, ww)) : gMet D dA A K l yJ5_hugeLength (ws_ yJ5_hugeLength cJ5_hugeLength 3 (some .int)) h [(gi p0), (gi p1)] (some (gi rr)) w0 ww := by
  refine j_start (own := RJ5) (by decide +kernel) rfl (Nat.le_of_ble_eq_true rfl) ?_
  intro p e R s m args below meth c C hr hin hw
  unfold f_J5_hugeLength at hf
  show gJ D dA A K p l e R s m args below meth c (gEnd D dA A K below args s w0 (some (gi rr)) ww) 3 0 [(0, (gi p0)), (1, (gi p1))] [] w0
  refine j_iload_n C dJ5_hugeLength_0 rfl ?_
  refine j_iload_n C dJ5_hugeLength_1 rfl ?_
  refine j_iadd C dJ5_hugeLength_2 ?_
  replace hf := gBd_x hf
  obtain ⟨x1, ex1, hf⟩ := hf
  refine j_nm ex1 ?_
  refine j_istore_n (lv' := [(2, (gi x1)), (0, (gi p0)), (1, (gi p1))]) C dJ5_hugeLength_3 (by decide) rfl ?_
  refine j_iload_n C dJ5_hugeLength_4 rfl ?_
  refine j_if_ge (tgt := 49) C dJ5_hugeLength_5 (by decide) (fun c2 => ?_) (fun c2 => ?_)
  · replace hf := gIf_t hf c2
    refine j_iload_n C dJ5_hugeLength_49 rfl ?_
    refine j_ldc (v := (nI 2147483639)) C q503 dJ5_hugeLength_50 ?_
    refine j_icmp_gt (tgt := 58) C dJ5_hugeLength_52 (by decide) (fun c3 => ?_) (fun c3 => ?_)
    · replace hf := gIf_t hf c3
      refine j_iload_n C dJ5_hugeLength_58 rfl ?_
      obtain ⟨rfl, rfl⟩ := gSome hf
      exact j_iret C hr hw dJ5_hugeLength_59
    · replace hf := gIf_f hf c3
      refine j_ldc (v := (nI 2147483639)) C q503 dJ5_hugeLength_55 ?_
      obtain ⟨rfl, rfl⟩ := gSome hf
      exact j_iret C hr hw dJ5_hugeLength_57
  · replace hf := gIf_f hf c2
    cases hf
def dkwJ6_max_0 : List UInt8 := [26, 27, 161, 0, 7, 26, 167, 0, 4, 27, 172]
abbrev dktJ6_max_0 : List UInt8 := dkwJ6_max_0 ++ []
theorem dksJ6_max_0 : cJ6_max.data.toList.drop 0 = dktJ6_max_0 := by decide +kernel
theorem dJ6_max_0 : decode cJ6_max 0 = .ok (.iload_n 0, 1) := dk_26 (dk_at dksJ6_max_0 0 rfl rfl)
theorem dJ6_max_1 : decode cJ6_max 1 = .ok (.iload_n 1, 1) := dk_27 (dk_at dksJ6_max_0 1 rfl rfl)
theorem dJ6_max_2 : decode cJ6_max 2 = .ok (.if_icmp .lt 7, 3) := dk_161 0 7 (dk_at dksJ6_max_0 2 rfl rfl)
theorem dJ6_max_5 : decode cJ6_max 5 = .ok (.iload_n 0, 1) := dk_26 (dk_at dksJ6_max_0 5 rfl rfl)
theorem dJ6_max_6 : decode cJ6_max 6 = .ok (.goto 4, 3) := dk_167 0 4 (dk_at dksJ6_max_0 6 rfl rfl)
theorem dJ6_max_9 : decode cJ6_max 9 = .ok (.iload_n 1, 1) := dk_27 (dk_at dksJ6_max_0 9 rfl rfl)
theorem dJ6_max_10 : decode cJ6_max 10 = .ok (.ireturn, 1) := dk_172 (dk_at dksJ6_max_0 10 rfl rfl)
def f_J6_max (p0 : Int32) (p1 : Int32) (w0 : gw) : Option (Int32 × gw) := if p0 < p1 then some (p1, w0) else some (p0, w0)
set_option maxHeartbeats 4000000 in
set_option maxRecDepth 100000 in
theorem k_J6_max {D : va_G} {dA : Nat → ClassId} {A : Nat → Prop} {K : Nat → Nat} {l : Launch} {h : Nat} (hh : 0 ≤ h) {p0 : Int32} {p1 : Int32} {w0 ww : gw} {rr : Int32} (hf : f_J6_max p0 p1 w0 = some (rr, ww)) : gMet D dA A K l yJ6_max (ws_ yJ6_max cJ6_max 2 (some .int)) h [(gi p0), (gi p1)] (some (gi rr)) w0 ww := by
  refine j_start (own := RJ6) (by decide +kernel) rfl (Nat.le_of_ble_eq_true rfl) ?_
  intro p e R s m args below meth c C hr hin hw
  unfold f_J6_max at hf
  show gJ D dA A K p l e R s m args below meth c (gEnd D dA A K below args s w0 (some (gi rr)) ww) 2 0 [(0, (gi p0)), (1, (gi p1))] [] w0
  refine j_iload_n C dJ6_max_0 rfl ?_
  refine j_iload_n C dJ6_max_1 rfl ?_
  refine j_icmp_lt (tgt := 9) C dJ6_max_2 (by decide) (fun c1 => ?_) (fun c1 => ?_)
  · replace hf := gIf_t hf c1
    refine j_iload_n C dJ6_max_9 rfl ?_
    obtain ⟨rfl, rfl⟩ := gSome hf
    exact j_iret C hr hw dJ6_max_10
  · replace hf := gIf_f hf c1
    refine j_iload_n C dJ6_max_5 rfl ?_
    refine j_goto (tgt := 10) C dJ6_max_6 (by decide) ?_
    obtain ⟨rfl, rfl⟩ := gSome hf
    exact j_iret C hr hw dJ6_max_10
def dkwJ6_min_0 : List UInt8 := [26, 27, 163, 0, 7, 26, 167, 0, 4, 27, 172]
abbrev dktJ6_min_0 : List UInt8 := dkwJ6_min_0 ++ []
theorem dksJ6_min_0 : cJ6_min.data.toList.drop 0 = dktJ6_min_0 := by decide +kernel
theorem dJ6_min_0 : decode cJ6_min 0 = .ok (.iload_n 0, 1) := dk_26 (dk_at dksJ6_min_0 0 rfl rfl)
theorem dJ6_min_1 : decode cJ6_min 1 = .ok (.iload_n 1, 1) := dk_27 (dk_at dksJ6_min_0 1 rfl rfl)
theorem dJ6_min_2 : decode cJ6_min 2 = .ok (.if_icmp .gt 7, 3) := dk_163 0 7 (dk_at dksJ6_min_0 2 rfl rfl)
theorem dJ6_min_5 : decode cJ6_min 5 = .ok (.iload_n 0, 1) := dk_26 (dk_at dksJ6_min_0 5 rfl rfl)
theorem dJ6_min_6 : decode cJ6_min 6 = .ok (.goto 4, 3) := dk_167 0 4 (dk_at dksJ6_min_0 6 rfl rfl)
theorem dJ6_min_9 : decode cJ6_min 9 = .ok (.iload_n 1, 1) := dk_27 (dk_at dksJ6_min_0 9 rfl rfl)
theorem dJ6_min_10 : decode cJ6_min 10 = .ok (.ireturn, 1) := dk_172 (dk_at dksJ6_min_0 10 rfl rfl)
def f_J6_min (p0 : Int32) (p1 : Int32) (w0 : gw) : Option (Int32 × gw) := if p1 < p0 then some (p1, w0) else some (p0, w0)
set_option maxHeartbeats 4000000 in
set_option maxRecDepth 100000 in
theorem k_J6_min {D : va_G} {dA : Nat → ClassId} {A : Nat → Prop} {K : Nat → Nat} {l : Launch} {h : Nat} (hh : 0 ≤ h) {p0 : Int32} {p1 : Int32} {w0 ww : gw} {rr : Int32} (hf : f_J6_min p0 p1 w0 = some (rr, ww)) : gMet D dA A K l yJ6_min (ws_ yJ6_min cJ6_min 2 (some .int)) h [(gi p0), (gi p1)] (some (gi rr)) w0 ww := by
  refine j_start (own := RJ6) (by decide +kernel) rfl (Nat.le_of_ble_eq_true rfl) ?_
  intro p e R s m args below meth c C hr hin hw
  unfold f_J6_min at hf
  show gJ D dA A K p l e R s m args below meth c (gEnd D dA A K below args s w0 (some (gi rr)) ww) 2 0 [(0, (gi p0)), (1, (gi p1))] [] w0
  refine j_iload_n C dJ6_min_0 rfl ?_
  refine j_iload_n C dJ6_min_1 rfl ?_
  refine j_icmp_gt (tgt := 9) C dJ6_min_2 (by decide) (fun c1 => ?_) (fun c1 => ?_)
  · replace hf := gIf_t hf c1
    refine j_iload_n C dJ6_min_9 rfl ?_
    obtain ⟨rfl, rfl⟩ := gSome hf
    exact j_iret C hr hw dJ6_min_10
  · replace hf := gIf_f hf c1
    refine j_iload_n C dJ6_min_5 rfl ?_
    refine j_goto (tgt := 10) C dJ6_min_6 (by decide) ?_
    obtain ⟨rfl, rfl⟩ := gSome hf
    exact j_iret C hr hw dJ6_min_10
def dkwJ7_copyOf_2_1 : List UInt8 := [78, 42, 3, 45, 3, 42, 190, 27, 184, 1, 48, 184, 0, 150, 45, 176]
abbrev dktJ7_copyOf_2_1 : List UInt8 := dkwJ7_copyOf_2_1 ++ []
def dkwJ7_copyOf_2_0 : List UInt8 := [44, 18, 110, 166, 0, 10, 27, 189, 0, 2, 167, 0, 14, 44, 182, 0, 90, 27, 184, 0, 95, 192, 0, 110]
abbrev dktJ7_copyOf_2_0 : List UInt8 := dkwJ7_copyOf_2_0 ++ dktJ7_copyOf_2_1
theorem dksJ7_copyOf_2_0 : cJ7_copyOf_2.data.toList.drop 0 = dktJ7_copyOf_2_0 := by decide +kernel
theorem dksJ7_copyOf_2_1 : cJ7_copyOf_2.data.toList.drop 24 = dktJ7_copyOf_2_1 := dk_seg dksJ7_copyOf_2_0 24 rfl rfl
theorem dJ7_copyOf_2_0 : decode cJ7_copyOf_2 0 = .ok (.aload_n 2, 1) := dk_44 (dk_at dksJ7_copyOf_2_0 0 rfl rfl)
theorem dJ7_copyOf_2_1 : decode cJ7_copyOf_2 1 = .ok (.ldc 110, 2) := dk_18 110 (dk_at dksJ7_copyOf_2_0 1 rfl rfl)
theorem dJ7_copyOf_2_3 : decode cJ7_copyOf_2 3 = .ok (.if_acmp .ne 10, 3) := dk_166 0 10 (dk_at dksJ7_copyOf_2_0 3 rfl rfl)
theorem dJ7_copyOf_2_6 : decode cJ7_copyOf_2 6 = .ok (.iload_n 1, 1) := dk_27 (dk_at dksJ7_copyOf_2_0 6 rfl rfl)
theorem dJ7_copyOf_2_7 : decode cJ7_copyOf_2 7 = .ok (.anewarray 2, 3) := dk_189 0 2 (dk_at dksJ7_copyOf_2_0 7 rfl rfl)
theorem dJ7_copyOf_2_10 : decode cJ7_copyOf_2 10 = .ok (.goto 14, 3) := dk_167 0 14 (dk_at dksJ7_copyOf_2_0 10 rfl rfl)
theorem dJ7_copyOf_2_13 : decode cJ7_copyOf_2 13 = .ok (.aload_n 2, 1) := dk_44 (dk_at dksJ7_copyOf_2_0 13 rfl rfl)
theorem dJ7_copyOf_2_14 : decode cJ7_copyOf_2 14 = .ok (.invokevirtual 90, 3) := dk_182 0 90 (dk_at dksJ7_copyOf_2_0 14 rfl rfl)
theorem dJ7_copyOf_2_17 : decode cJ7_copyOf_2 17 = .ok (.iload_n 1, 1) := dk_27 (dk_at dksJ7_copyOf_2_0 17 rfl rfl)
theorem dJ7_copyOf_2_18 : decode cJ7_copyOf_2 18 = .ok (.invokestatic 95, 3) := dk_184 0 95 (dk_at dksJ7_copyOf_2_0 18 rfl rfl)
theorem dJ7_copyOf_2_21 : decode cJ7_copyOf_2 21 = .ok (.checkcast 110, 3) := dk_192 0 110 (dk_at dksJ7_copyOf_2_0 21 rfl rfl)
theorem dJ7_copyOf_2_24 : decode cJ7_copyOf_2 24 = .ok (.astore_n 3, 1) := dk_78 (dk_at dksJ7_copyOf_2_1 0 rfl rfl)
theorem dJ7_copyOf_2_25 : decode cJ7_copyOf_2 25 = .ok (.aload_n 0, 1) := dk_42 (dk_at dksJ7_copyOf_2_1 1 rfl rfl)
theorem dJ7_copyOf_2_26 : decode cJ7_copyOf_2 26 = .ok (.iconst 0, 1) := dk_3 (dk_at dksJ7_copyOf_2_1 2 rfl rfl)
theorem dJ7_copyOf_2_27 : decode cJ7_copyOf_2 27 = .ok (.aload_n 3, 1) := dk_45 (dk_at dksJ7_copyOf_2_1 3 rfl rfl)
theorem dJ7_copyOf_2_28 : decode cJ7_copyOf_2 28 = .ok (.iconst 0, 1) := dk_3 (dk_at dksJ7_copyOf_2_1 4 rfl rfl)
theorem dJ7_copyOf_2_29 : decode cJ7_copyOf_2 29 = .ok (.aload_n 0, 1) := dk_42 (dk_at dksJ7_copyOf_2_1 5 rfl rfl)
theorem dJ7_copyOf_2_30 : decode cJ7_copyOf_2 30 = .ok (.arraylength, 1) := dk_190 (dk_at dksJ7_copyOf_2_1 6 rfl rfl)
theorem dJ7_copyOf_2_31 : decode cJ7_copyOf_2 31 = .ok (.iload_n 1, 1) := dk_27 (dk_at dksJ7_copyOf_2_1 7 rfl rfl)
theorem dJ7_copyOf_2_32 : decode cJ7_copyOf_2 32 = .ok (.invokestatic 304, 3) := dk_184 1 48 (dk_at dksJ7_copyOf_2_1 8 rfl rfl)
theorem dJ7_copyOf_2_35 : decode cJ7_copyOf_2 35 = .ok (.invokestatic 150, 3) := dk_184 0 150 (dk_at dksJ7_copyOf_2_1 11 rfl rfl)
theorem dJ7_copyOf_2_38 : decode cJ7_copyOf_2 38 = .ok (.aload_n 3, 1) := dk_45 (dk_at dksJ7_copyOf_2_1 14 rfl rfl)
theorem dJ7_copyOf_2_39 : decode cJ7_copyOf_2 39 = .ok (.areturn, 1) := dk_176 (dk_at dksJ7_copyOf_2_1 15 rfl rfl)
theorem hd_J6_min : (yJ6_min.cls ≠ "java/lang/invoke/MethodHandle" ∧ yJ6_min.cls ≠ "java/lang/invoke/VarHandle" ∧ (parseMethodDescriptor yJ6_min.desc).map (fun d => d.parameters.length) = some 2) := ⟨by decide +kernel, by decide +kernel, by decide +kernel⟩
def f_J7_copyOf_2 (p0 : Option Nat) (p1 : Int32) (p2 : Option Nat) (w0 : gw) : Option (Option Nat × gw) := if p2 = (some (w0.2.2.2 8)) then gB2 (gNewR w0 2 p1) fun a2 w3 => gB1 p0 fun a4 => gB1 (gLen w3 a4 2) fun x5 => gB2 (f_J6_min x5 p1 w3) fun x7 w6 => gB1 (gCpR w6 2 a4 (nI 0) a2 (nI 0) x7) fun w8 => some ((some a2), w8) else none
set_option maxHeartbeats 4000000 in
set_option maxRecDepth 100000 in
theorem k_J7_copyOf_2 {D : va_G} {dA : Nat → ClassId} {A : Nat → Prop} {K : Nat → Nat} {l : Launch} {h : Nat} (hh : 1 ≤ h) {p0 : Option Nat} {p1 : Int32} {p2 : Option Nat} {w0 ww : gw} {rr : Option Nat} (hf : f_J7_copyOf_2 p0 p1 p2 w0 = some (rr, ww)) : gMet D dA A K l yJ7_copyOf_2 (ws_ yJ7_copyOf_2 cJ7_copyOf_2 4 (some (.array (.object "java/lang/Object")))) h [(ga p0), (gi p1), (ga p2)] (some (ga rr)) w0 ww := by
  refine j_start (own := RJ7) (by decide +kernel) rfl (Nat.le_of_ble_eq_true rfl) ?_
  intro p e R s m args below meth c C hr hin hw
  unfold f_J7_copyOf_2 at hf
  show gJ D dA A K p l e R s m args below meth c (gEnd D dA A K below args s w0 (some (ga rr)) ww) 4 0 [(0, (ga p0)), (1, (gi p1)), (2, (ga p2))] [] w0
  refine j_aload_n C dJ7_copyOf_2_0 rfl ?_
  refine j_ldcM C q548 dJ7_copyOf_2_1 ?_
  refine j_acmp_ne (tgt := 13) C dJ7_copyOf_2_3 (by decide) (fun c1 => ?_) (fun c1 => ?_)
  · replace hf := gIf_f hf c1
    refine j_aload_n C dJ7_copyOf_2_13 rfl ?_
    cases hf
  · replace hf := gIf_t hf c1
    refine j_iload_n C dJ7_copyOf_2_6 rfl ?_
    replace hf := gB2_e hf
    obtain ⟨a2, w3, ew3, hf⟩ := hf
    refine j_newr C (t := 2) rfl (by decide) q550 ew3 dJ7_copyOf_2_7 ?_
    refine j_goto (tgt := 24) C dJ7_copyOf_2_10 (by decide) ?_
    refine j_astore_n (lv' := [(3, (ga (some a2))), (0, (ga p0)), (1, (gi p1)), (2, (ga p2))]) C dJ7_copyOf_2_24 (by decide) rfl ?_
    refine j_aload_n C dJ7_copyOf_2_25 rfl ?_
    refine j_iconst (v := (nI 0)) C dJ7_copyOf_2_26 (by decide) ?_
    refine j_aload_n C dJ7_copyOf_2_27 rfl ?_
    refine j_iconst (v := (nI 0)) C dJ7_copyOf_2_28 (by decide) ?_
    refine j_aload_n C dJ7_copyOf_2_29 rfl ?_
    replace hf := gB1_e hf
    obtain ⟨a4, ea4, hf⟩ := hf
    subst ea4
    replace hf := gB1_e hf
    obtain ⟨x5, ex5, hf⟩ := hf
    refine j_alen C (t := 2) rfl ex5 dJ7_copyOf_2_30 ?_
    refine j_iload_n C dJ7_copyOf_2_31 rfl ?_
    replace hf := gB2_e hf
    obtain ⟨x7, w6, ew6, hf⟩ := hf
    refine j_callS (As := [(gi x5), (gi p1)]) (rest := [(gi (nI 0)), (ga (some a2)), (gi (nI 0)), (ga (some a4))]) (v := (some (gi x7))) C (by omega) (k_J6_min (by omega) ew6) q551 q552 q111 q553 hd_J6_min (by decide) rfl (Nat.le_of_ble_eq_true rfl) dJ7_copyOf_2_32 ?_
    replace hf := gB1_e hf
    obtain ⟨w8, ew8, hf⟩ := hf
    refine j_cpR C (tt := 2) rfl gAsg_2 (by omega) q554 q556 q555 q113 ew8 (Nat.le_of_ble_eq_true rfl) dJ7_copyOf_2_35 ?_
    refine j_aload_n C dJ7_copyOf_2_38 rfl ?_
    obtain ⟨rfl, rfl⟩ := gSome hf
    exact j_aret C hr (Or.inr ⟨_, rfl⟩) hw dJ7_copyOf_2_39
def dkwJ8_requireNonNull_0 : List UInt8 := [42, 199, 0, 11, 187, 0, 84, 89, 183, 0, 86, 191, 42, 176]
abbrev dktJ8_requireNonNull_0 : List UInt8 := dkwJ8_requireNonNull_0 ++ []
theorem dksJ8_requireNonNull_0 : cJ8_requireNonNull.data.toList.drop 0 = dktJ8_requireNonNull_0 := by decide +kernel
theorem dJ8_requireNonNull_0 : decode cJ8_requireNonNull 0 = .ok (.aload_n 0, 1) := dk_42 (dk_at dksJ8_requireNonNull_0 0 rfl rfl)
theorem dJ8_requireNonNull_1 : decode cJ8_requireNonNull 1 = .ok (.ifnonnull 11, 3) := dk_199 0 11 (dk_at dksJ8_requireNonNull_0 1 rfl rfl)
theorem dJ8_requireNonNull_4 : decode cJ8_requireNonNull 4 = .ok (.new 84, 3) := dk_187 0 84 (dk_at dksJ8_requireNonNull_0 4 rfl rfl)
theorem dJ8_requireNonNull_7 : decode cJ8_requireNonNull 7 = .ok (.dup, 1) := dk_89 (dk_at dksJ8_requireNonNull_0 7 rfl rfl)
theorem dJ8_requireNonNull_8 : decode cJ8_requireNonNull 8 = .ok (.invokespecial 86, 3) := dk_183 0 86 (dk_at dksJ8_requireNonNull_0 8 rfl rfl)
theorem dJ8_requireNonNull_11 : decode cJ8_requireNonNull 11 = .ok (.athrow, 1) := dk_191 (dk_at dksJ8_requireNonNull_0 11 rfl rfl)
theorem dJ8_requireNonNull_12 : decode cJ8_requireNonNull 12 = .ok (.aload_n 0, 1) := dk_42 (dk_at dksJ8_requireNonNull_0 12 rfl rfl)
theorem dJ8_requireNonNull_13 : decode cJ8_requireNonNull 13 = .ok (.areturn, 1) := dk_176 (dk_at dksJ8_requireNonNull_0 13 rfl rfl)
def f_J8_requireNonNull (p0 : Option Nat) (w0 : gw) : Option (Option Nat × gw) := gNl p0 (none) (fun a2 => some ((some a2), w0))
set_option maxHeartbeats 4000000 in
set_option maxRecDepth 100000 in
theorem k_J8_requireNonNull {D : va_G} {dA : Nat → ClassId} {A : Nat → Prop} {K : Nat → Nat} {l : Launch} {h : Nat} (hh : 0 ≤ h) {p0 : Option Nat} {w0 ww : gw} {rr : Option Nat} (hf : f_J8_requireNonNull p0 w0 = some (rr, ww)) : gMet D dA A K l yJ8_requireNonNull (ws_ yJ8_requireNonNull cJ8_requireNonNull 1 (some (.object "java/lang/Object"))) h [(ga p0)] (some (ga rr)) w0 ww := by
  refine j_start (own := RJ8) (by decide +kernel) rfl (Nat.le_of_ble_eq_true rfl) ?_
  intro p e R s m args below meth c C hr hin hw
  unfold f_J8_requireNonNull at hf
  show gJ D dA A K p l e R s m args below meth c (gEnd D dA A K below args s w0 (some (ga rr)) ww) 1 0 [(0, (ga p0))] [] w0
  refine j_aload_n C dJ8_requireNonNull_0 rfl ?_
  refine j_ifnonnull (tgt := 12) C dJ8_requireNonNull_1 (by decide) (fun a2 c1 => ?_) (fun c1 => ?_)
  · subst c1
    replace hf := gNl_s hf
    refine j_aload_n C dJ8_requireNonNull_12 rfl ?_
    obtain ⟨rfl, rfl⟩ := gSome hf
    exact j_aret C hr (Or.inl ⟨_, rfl⟩) hw dJ8_requireNonNull_13
  · subst c1
    replace hf := gNl_n hf
    cases hf
def dkwJ9_checkIndex_0 : List UInt8 := [26, 155, 0, 8, 26, 27, 161, 0, 10, 44, 26, 27, 184, 0, 95, 191, 26, 172]
abbrev dktJ9_checkIndex_0 : List UInt8 := dkwJ9_checkIndex_0 ++ []
theorem dksJ9_checkIndex_0 : cJ9_checkIndex.data.toList.drop 0 = dktJ9_checkIndex_0 := by decide +kernel
theorem dJ9_checkIndex_0 : decode cJ9_checkIndex 0 = .ok (.iload_n 0, 1) := dk_26 (dk_at dksJ9_checkIndex_0 0 rfl rfl)
theorem dJ9_checkIndex_1 : decode cJ9_checkIndex 1 = .ok (.ifCond .lt 8, 3) := dk_155 0 8 (dk_at dksJ9_checkIndex_0 1 rfl rfl)
theorem dJ9_checkIndex_4 : decode cJ9_checkIndex 4 = .ok (.iload_n 0, 1) := dk_26 (dk_at dksJ9_checkIndex_0 4 rfl rfl)
theorem dJ9_checkIndex_5 : decode cJ9_checkIndex 5 = .ok (.iload_n 1, 1) := dk_27 (dk_at dksJ9_checkIndex_0 5 rfl rfl)
theorem dJ9_checkIndex_6 : decode cJ9_checkIndex 6 = .ok (.if_icmp .lt 10, 3) := dk_161 0 10 (dk_at dksJ9_checkIndex_0 6 rfl rfl)
theorem dJ9_checkIndex_9 : decode cJ9_checkIndex 9 = .ok (.aload_n 2, 1) := dk_44 (dk_at dksJ9_checkIndex_0 9 rfl rfl)
theorem dJ9_checkIndex_10 : decode cJ9_checkIndex 10 = .ok (.iload_n 0, 1) := dk_26 (dk_at dksJ9_checkIndex_0 10 rfl rfl)
theorem dJ9_checkIndex_11 : decode cJ9_checkIndex 11 = .ok (.iload_n 1, 1) := dk_27 (dk_at dksJ9_checkIndex_0 11 rfl rfl)
theorem dJ9_checkIndex_12 : decode cJ9_checkIndex 12 = .ok (.invokestatic 95, 3) := dk_184 0 95 (dk_at dksJ9_checkIndex_0 12 rfl rfl)
theorem dJ9_checkIndex_15 : decode cJ9_checkIndex 15 = .ok (.athrow, 1) := dk_191 (dk_at dksJ9_checkIndex_0 15 rfl rfl)
theorem dJ9_checkIndex_16 : decode cJ9_checkIndex 16 = .ok (.iload_n 0, 1) := dk_26 (dk_at dksJ9_checkIndex_0 16 rfl rfl)
theorem dJ9_checkIndex_17 : decode cJ9_checkIndex 17 = .ok (.ireturn, 1) := dk_172 (dk_at dksJ9_checkIndex_0 17 rfl rfl)
def f_J9_checkIndex (p0 : Int32) (p1 : Int32) (p2 : Option Nat) (w0 : gw) : Option (Int32 × gw) := gBd (fun (x3 : Int32) (x4 : Int32) (r5 : Option Nat) (w2 : gw) => none) fun k1 => if p0 < 0 then k1 p0 p1 p2 w0 else if p0 < p1 then some (p0, w0) else k1 p0 p1 p2 w0
set_option maxHeartbeats 4000000 in
set_option maxRecDepth 100000 in
theorem k_J9_checkIndex {D : va_G} {dA : Nat → ClassId} {A : Nat → Prop} {K : Nat → Nat} {l : Launch} {h : Nat} (hh : 0 ≤ h) {p0 : Int32} {p1 : Int32} {p2 : Option Nat} {w0 ww : gw} {rr : Int32} (hf : f_J9_checkIndex p0 p1 p2 w0 = some (rr, ww)) : gMet D dA A K l yJ9_checkIndex (ws_ yJ9_checkIndex cJ9_checkIndex 3 (some .int)) h [(gi p0), (gi p1), (ga p2)] (some (gi rr)) w0 ww := by
  refine j_start (own := RJ9) (by decide +kernel) rfl (Nat.le_of_ble_eq_true rfl) ?_
  intro p e R s m args below meth c C hr hin hw
  unfold f_J9_checkIndex at hf
  show gJ D dA A K p l e R s m args below meth c (gEnd D dA A K below args s w0 (some (gi rr)) ww) 3 0 [(0, (gi p0)), (1, (gi p1)), (2, (ga p2))] [] w0
  refine j_iload_n C dJ9_checkIndex_0 rfl ?_
  replace hf := gBd_x hf
  obtain ⟨k1, ek1, hf⟩ := hf
  have jk1 : ∀ (x3 : Int32) (x4 : Int32) (r5 : Option Nat) (w2 : gw), k1 x3 x4 r5 w2 = some (rr, ww) → gJ D dA A K p l e R s m args below meth c (gEnd D dA A K below args s w0 (some (gi rr)) ww) 3 9 [(0, (gi x3)), (1, (gi x4)), (2, (ga r5))] [] w2 := by
    intro x3 x4 r5 w2 hf
    rw [ek1] at hf
    dsimp only at hf
    refine j_aload_n C dJ9_checkIndex_9 rfl ?_
    refine j_iload_n C dJ9_checkIndex_10 rfl ?_
    refine j_iload_n C dJ9_checkIndex_11 rfl ?_
    cases hf
  clear ek1
  refine j_if_lt (tgt := 9) C dJ9_checkIndex_1 (by decide) (fun c6 => ?_) (fun c6 => ?_)
  · replace hf := gIf_t hf c6
    exact jk1 _ _ _ _ hf
  · replace hf := gIf_f hf c6
    refine j_iload_n C dJ9_checkIndex_4 rfl ?_
    refine j_iload_n C dJ9_checkIndex_5 rfl ?_
    refine j_icmp_lt (tgt := 16) C dJ9_checkIndex_6 (by decide) (fun c7 => ?_) (fun c7 => ?_)
    · replace hf := gIf_t hf c7
      refine j_iload_n C dJ9_checkIndex_16 rfl ?_
      obtain ⟨rfl, rfl⟩ := gSome hf
      exact j_iret C hr hw dJ9_checkIndex_17
    · replace hf := gIf_f hf c7
      exact jk1 _ _ _ _ hf
def dkwX0_in_0 : List UInt8 := [26, 27, 161, 0, 12, 26, 28, 163, 0, 7, 4, 167, 0, 4, 3, 172]
abbrev dktX0_in_0 : List UInt8 := dkwX0_in_0 ++ []
theorem dksX0_in_0 : cX0_in.data.toList.drop 0 = dktX0_in_0 := by decide +kernel
theorem dX0_in_0 : decode cX0_in 0 = .ok (.iload_n 0, 1) := dk_26 (dk_at dksX0_in_0 0 rfl rfl)
theorem dX0_in_1 : decode cX0_in 1 = .ok (.iload_n 1, 1) := dk_27 (dk_at dksX0_in_0 1 rfl rfl)
theorem dX0_in_2 : decode cX0_in 2 = .ok (.if_icmp .lt 12, 3) := dk_161 0 12 (dk_at dksX0_in_0 2 rfl rfl)
theorem dX0_in_5 : decode cX0_in 5 = .ok (.iload_n 0, 1) := dk_26 (dk_at dksX0_in_0 5 rfl rfl)
theorem dX0_in_6 : decode cX0_in 6 = .ok (.iload_n 2, 1) := dk_28 (dk_at dksX0_in_0 6 rfl rfl)
theorem dX0_in_7 : decode cX0_in 7 = .ok (.if_icmp .gt 7, 3) := dk_163 0 7 (dk_at dksX0_in_0 7 rfl rfl)
theorem dX0_in_10 : decode cX0_in 10 = .ok (.iconst 1, 1) := dk_4 (dk_at dksX0_in_0 10 rfl rfl)
theorem dX0_in_11 : decode cX0_in 11 = .ok (.goto 4, 3) := dk_167 0 4 (dk_at dksX0_in_0 11 rfl rfl)
theorem dX0_in_14 : decode cX0_in 14 = .ok (.iconst 0, 1) := dk_3 (dk_at dksX0_in_0 14 rfl rfl)
theorem dX0_in_15 : decode cX0_in 15 = .ok (.ireturn, 1) := dk_172 (dk_at dksX0_in_0 15 rfl rfl)
def f_X0_in (p0 : Int32) (p1 : Int32) (p2 : Int32) (w0 : gw) : Option (Int32 × gw) := gBd (fun (w2 : gw) => some ((nI 0), w2)) fun k1 => if p0 < p1 then k1 w0 else if p2 < p0 then k1 w0 else some ((nI 1), w0)
set_option maxHeartbeats 4000000 in
set_option maxRecDepth 100000 in
theorem k_X0_in {D : va_G} {dA : Nat → ClassId} {A : Nat → Prop} {K : Nat → Nat} {l : Launch} {h : Nat} (hh : 0 ≤ h) {p0 : Int32} {p1 : Int32} {p2 : Int32} {w0 ww : gw} {rr : Int32} (hf : f_X0_in p0 p1 p2 w0 = some (rr, ww)) : gMet D dA A K l yX0_in (ws_ yX0_in cX0_in 3 (some .boolean)) h [(gi p0), (gi p1), (gi p2)] (some (gi rr)) w0 ww := by
  refine j_start (own := RX0) (by decide +kernel) rfl (Nat.le_of_ble_eq_true rfl) ?_
  intro p e R s m args below meth c C hr hin hw
  unfold f_X0_in at hf
  show gJ D dA A K p l e R s m args below meth c (gEnd D dA A K below args s w0 (some (gi rr)) ww) 3 0 [(0, (gi p0)), (1, (gi p1)), (2, (gi p2))] [] w0
  refine j_iload_n C dX0_in_0 rfl ?_
  refine j_iload_n C dX0_in_1 rfl ?_
  replace hf := gBd_x hf
  obtain ⟨k1, ek1, hf⟩ := hf
  have jk1 : ∀ (w2 : gw), k1 w2 = some (rr, ww) → gJ D dA A K p l e R s m args below meth c (gEnd D dA A K below args s w0 (some (gi rr)) ww) 3 14 [] [] w2 := by
    intro w2 hf
    rw [ek1] at hf
    dsimp only at hf
    refine j_iconst (v := (nI 0)) C dX0_in_14 (by decide) ?_
    obtain ⟨rfl, rfl⟩ := gSome hf
    exact j_zret C hr (by decide) hw dX0_in_15
  clear ek1
  refine j_icmp_lt (tgt := 14) C dX0_in_2 (by decide) (fun c3 => ?_) (fun c3 => ?_)
  · replace hf := gIf_t hf c3
    refine j_sub (lv' := []) (gL_nil) ?_
    exact jk1 _ hf
  · replace hf := gIf_f hf c3
    refine j_iload_n C dX0_in_5 rfl ?_
    refine j_iload_n C dX0_in_6 rfl ?_
    refine j_icmp_gt (tgt := 14) C dX0_in_7 (by decide) (fun c4 => ?_) (fun c4 => ?_)
    · replace hf := gIf_t hf c4
      refine j_sub (lv' := []) (gL_nil) ?_
      exact jk1 _ hf
    · replace hf := gIf_f hf c4
      refine j_iconst (v := (nI 1)) C dX0_in_10 (by decide) ?_
      refine j_goto (tgt := 15) C dX0_in_11 (by decide) ?_
      obtain ⟨rfl, rfl⟩ := gSome hf
      exact j_zret C hr (by decide) hw dX0_in_15
def dkwX0_isWorkflow_0 : List UInt8 := [26, 3, 6, 184, 0, 5, 172]
abbrev dktX0_isWorkflow_0 : List UInt8 := dkwX0_isWorkflow_0 ++ []
theorem dksX0_isWorkflow_0 : cX0_isWorkflow.data.toList.drop 0 = dktX0_isWorkflow_0 := by decide +kernel
theorem dX0_isWorkflow_0 : decode cX0_isWorkflow 0 = .ok (.iload_n 0, 1) := dk_26 (dk_at dksX0_isWorkflow_0 0 rfl rfl)
theorem dX0_isWorkflow_1 : decode cX0_isWorkflow 1 = .ok (.iconst 0, 1) := dk_3 (dk_at dksX0_isWorkflow_0 1 rfl rfl)
theorem dX0_isWorkflow_2 : decode cX0_isWorkflow 2 = .ok (.iconst 3, 1) := dk_6 (dk_at dksX0_isWorkflow_0 2 rfl rfl)
theorem dX0_isWorkflow_3 : decode cX0_isWorkflow 3 = .ok (.invokestatic 5, 3) := dk_184 0 5 (dk_at dksX0_isWorkflow_0 3 rfl rfl)
theorem dX0_isWorkflow_6 : decode cX0_isWorkflow 6 = .ok (.ireturn, 1) := dk_172 (dk_at dksX0_isWorkflow_0 6 rfl rfl)
theorem hd_X0_in : (yX0_in.cls ≠ "java/lang/invoke/MethodHandle" ∧ yX0_in.cls ≠ "java/lang/invoke/VarHandle" ∧ (parseMethodDescriptor yX0_in.desc).map (fun d => d.parameters.length) = some 3) := ⟨by decide +kernel, by decide +kernel, by decide +kernel⟩
def f_X0_isWorkflow (p0 : Int32) (w0 : gw) : Option (Int32 × gw) := gB2 (f_X0_in p0 (nI 0) (nI 3) w0) fun x2 w1 => gB1 (gZ x2) fun _ => some (x2, w1)
set_option maxHeartbeats 4000000 in
set_option maxRecDepth 100000 in
theorem k_X0_isWorkflow {D : va_G} {dA : Nat → ClassId} {A : Nat → Prop} {K : Nat → Nat} {l : Launch} {h : Nat} (hh : 1 ≤ h) {p0 : Int32} {w0 ww : gw} {rr : Int32} (hf : f_X0_isWorkflow p0 w0 = some (rr, ww)) : gMet D dA A K l yX0_isWorkflow (ws_ yX0_isWorkflow cX0_isWorkflow 1 (some .boolean)) h [(gi p0)] (some (gi rr)) w0 ww := by
  refine j_start (own := RX0) (by decide +kernel) rfl (Nat.le_of_ble_eq_true rfl) ?_
  intro p e R s m args below meth c C hr hin hw
  unfold f_X0_isWorkflow at hf
  show gJ D dA A K p l e R s m args below meth c (gEnd D dA A K below args s w0 (some (gi rr)) ww) 1 0 [(0, (gi p0))] [] w0
  refine j_iload_n C dX0_isWorkflow_0 rfl ?_
  refine j_iconst (v := (nI 0)) C dX0_isWorkflow_1 (by decide) ?_
  refine j_iconst (v := (nI 3)) C dX0_isWorkflow_2 (by decide) ?_
  replace hf := gB2_e hf
  obtain ⟨x2, w1, ew1, hf⟩ := hf
  refine j_callS (As := [(gi p0), (gi (nI 0)), (gi (nI 3))]) (rest := []) (v := (some (gi x2))) C (by omega) (k_X0_in (by omega) ew1) q138 q139 q91 q140 hd_X0_in (by decide) rfl (Nat.le_of_ble_eq_true rfl) dX0_isWorkflow_3 ?_
  replace hf := gB1_e hf
  obtain ⟨_, ez, hf⟩ := hf
  obtain ⟨rfl, rfl⟩ := gSome hf
  exact j_zret C hr (gZ_n (gZ_e ez)) hw dX0_isWorkflow_6
def dkwX0_bit_0 : List UInt8 := [26, 153, 0, 7, 4, 167, 0, 4, 3, 172]
abbrev dktX0_bit_0 : List UInt8 := dkwX0_bit_0 ++ []
theorem dksX0_bit_0 : cX0_bit.data.toList.drop 0 = dktX0_bit_0 := by decide +kernel
theorem dX0_bit_0 : decode cX0_bit 0 = .ok (.iload_n 0, 1) := dk_26 (dk_at dksX0_bit_0 0 rfl rfl)
theorem dX0_bit_1 : decode cX0_bit 1 = .ok (.ifCond .eq 7, 3) := dk_153 0 7 (dk_at dksX0_bit_0 1 rfl rfl)
theorem dX0_bit_4 : decode cX0_bit 4 = .ok (.iconst 1, 1) := dk_4 (dk_at dksX0_bit_0 4 rfl rfl)
theorem dX0_bit_5 : decode cX0_bit 5 = .ok (.goto 4, 3) := dk_167 0 4 (dk_at dksX0_bit_0 5 rfl rfl)
theorem dX0_bit_8 : decode cX0_bit 8 = .ok (.iconst 0, 1) := dk_3 (dk_at dksX0_bit_0 8 rfl rfl)
theorem dX0_bit_9 : decode cX0_bit 9 = .ok (.ireturn, 1) := dk_172 (dk_at dksX0_bit_0 9 rfl rfl)
def f_X0_bit (p0 : Int32) (w0 : gw) : Option (Int32 × gw) := if p0 = 0 then some ((nI 0), w0) else some ((nI 1), w0)
set_option maxHeartbeats 4000000 in
set_option maxRecDepth 100000 in
theorem k_X0_bit {D : va_G} {dA : Nat → ClassId} {A : Nat → Prop} {K : Nat → Nat} {l : Launch} {h : Nat} (hh : 0 ≤ h) {p0 : Int32} {w0 ww : gw} {rr : Int32} (hf : f_X0_bit p0 w0 = some (rr, ww)) : gMet D dA A K l yX0_bit (ws_ yX0_bit cX0_bit 1 (some .int)) h [(gi p0)] (some (gi rr)) w0 ww := by
  refine j_start (own := RX0) (by decide +kernel) rfl (Nat.le_of_ble_eq_true rfl) ?_
  intro p e R s m args below meth c C hr hin hw
  unfold f_X0_bit at hf
  show gJ D dA A K p l e R s m args below meth c (gEnd D dA A K below args s w0 (some (gi rr)) ww) 1 0 [(0, (gi p0))] [] w0
  refine j_iload_n C dX0_bit_0 rfl ?_
  refine j_if_eq (tgt := 8) C dX0_bit_1 (by decide) (fun c1 => ?_) (fun c1 => ?_)
  · replace hf := gIf_t hf c1
    refine j_iconst (v := (nI 0)) C dX0_bit_8 (by decide) ?_
    obtain ⟨rfl, rfl⟩ := gSome hf
    exact j_iret C hr hw dX0_bit_9
  · replace hf := gIf_f hf c1
    refine j_iconst (v := (nI 1)) C dX0_bit_4 (by decide) ?_
    refine j_goto (tgt := 9) C dX0_bit_5 (by decide) ?_
    obtain ⟨rfl, rfl⟩ := gSome hf
    exact j_iret C hr hw dX0_bit_9
def dkwX0_isCode_0 : List UInt8 := [26, 3, 16, 7, 184, 0, 5, 172]
abbrev dktX0_isCode_0 : List UInt8 := dkwX0_isCode_0 ++ []
theorem dksX0_isCode_0 : cX0_isCode.data.toList.drop 0 = dktX0_isCode_0 := by decide +kernel
theorem dX0_isCode_0 : decode cX0_isCode 0 = .ok (.iload_n 0, 1) := dk_26 (dk_at dksX0_isCode_0 0 rfl rfl)
theorem dX0_isCode_1 : decode cX0_isCode 1 = .ok (.iconst 0, 1) := dk_3 (dk_at dksX0_isCode_0 1 rfl rfl)
theorem dX0_isCode_2 : decode cX0_isCode 2 = .ok (.bipush 7, 2) := dk_16 7 (dk_at dksX0_isCode_0 2 rfl rfl)
theorem dX0_isCode_4 : decode cX0_isCode 4 = .ok (.invokestatic 5, 3) := dk_184 0 5 (dk_at dksX0_isCode_0 4 rfl rfl)
theorem dX0_isCode_7 : decode cX0_isCode 7 = .ok (.ireturn, 1) := dk_172 (dk_at dksX0_isCode_0 7 rfl rfl)
def f_X0_isCode (p0 : Int32) (w0 : gw) : Option (Int32 × gw) := gB2 (f_X0_in p0 (nI 0) (nI 7) w0) fun x2 w1 => gB1 (gZ x2) fun _ => some (x2, w1)
set_option maxHeartbeats 4000000 in
set_option maxRecDepth 100000 in
theorem k_X0_isCode {D : va_G} {dA : Nat → ClassId} {A : Nat → Prop} {K : Nat → Nat} {l : Launch} {h : Nat} (hh : 1 ≤ h) {p0 : Int32} {w0 ww : gw} {rr : Int32} (hf : f_X0_isCode p0 w0 = some (rr, ww)) : gMet D dA A K l yX0_isCode (ws_ yX0_isCode cX0_isCode 1 (some .boolean)) h [(gi p0)] (some (gi rr)) w0 ww := by
  refine j_start (own := RX0) (by decide +kernel) rfl (Nat.le_of_ble_eq_true rfl) ?_
  intro p e R s m args below meth c C hr hin hw
  unfold f_X0_isCode at hf
  show gJ D dA A K p l e R s m args below meth c (gEnd D dA A K below args s w0 (some (gi rr)) ww) 1 0 [(0, (gi p0))] [] w0
  refine j_iload_n C dX0_isCode_0 rfl ?_
  refine j_iconst (v := (nI 0)) C dX0_isCode_1 (by decide) ?_
  refine j_bipush (v := (nI 7)) C dX0_isCode_2 (by decide) ?_
  replace hf := gB2_e hf
  obtain ⟨x2, w1, ew1, hf⟩ := hf
  refine j_callS (As := [(gi p0), (gi (nI 0)), (gi (nI 7))]) (rest := []) (v := (some (gi x2))) C (by omega) (k_X0_in (by omega) ew1) q138 q139 q91 q140 hd_X0_in (by decide) rfl (Nat.le_of_ble_eq_true rfl) dX0_isCode_4 ?_
  replace hf := gB1_e hf
  obtain ⟨_, ez, hf⟩ := hf
  obtain ⟨rfl, rfl⟩ := gSome hf
  exact j_zret C hr (gZ_n (gZ_e ez)) hw dX0_isCode_7
def dkwX0_failures_1 : List UInt8 := [180, 0, 91, 180, 0, 100, 27, 46, 62, 42, 180, 0, 91, 180, 0, 100, 27, 28, 79, 29, 172]
abbrev dktX0_failures_1 : List UInt8 := dkwX0_failures_1 ++ []
def dkwX0_failures_0 : List UInt8 := [27, 184, 0, 88, 154, 0, 5, 2, 172, 28, 3, 16, 99, 184, 0, 5, 154, 0, 6, 16, 254, 172, 42]
abbrev dktX0_failures_0 : List UInt8 := dkwX0_failures_0 ++ dktX0_failures_1
theorem dksX0_failures_0 : cX0_failures.data.toList.drop 0 = dktX0_failures_0 := by decide +kernel
theorem dksX0_failures_1 : cX0_failures.data.toList.drop 23 = dktX0_failures_1 := dk_seg dksX0_failures_0 23 rfl rfl
theorem dX0_failures_0 : decode cX0_failures 0 = .ok (.iload_n 1, 1) := dk_27 (dk_at dksX0_failures_0 0 rfl rfl)
theorem dX0_failures_1 : decode cX0_failures 1 = .ok (.invokestatic 88, 3) := dk_184 0 88 (dk_at dksX0_failures_0 1 rfl rfl)
theorem dX0_failures_4 : decode cX0_failures 4 = .ok (.ifCond .ne 5, 3) := dk_154 0 5 (dk_at dksX0_failures_0 4 rfl rfl)
theorem dX0_failures_7 : decode cX0_failures 7 = .ok (.iconst (-1), 1) := dk_2 (dk_at dksX0_failures_0 7 rfl rfl)
theorem dX0_failures_8 : decode cX0_failures 8 = .ok (.ireturn, 1) := dk_172 (dk_at dksX0_failures_0 8 rfl rfl)
theorem dX0_failures_9 : decode cX0_failures 9 = .ok (.iload_n 2, 1) := dk_28 (dk_at dksX0_failures_0 9 rfl rfl)
theorem dX0_failures_10 : decode cX0_failures 10 = .ok (.iconst 0, 1) := dk_3 (dk_at dksX0_failures_0 10 rfl rfl)
theorem dX0_failures_11 : decode cX0_failures 11 = .ok (.bipush 99, 2) := dk_16 99 (dk_at dksX0_failures_0 11 rfl rfl)
theorem dX0_failures_13 : decode cX0_failures 13 = .ok (.invokestatic 5, 3) := dk_184 0 5 (dk_at dksX0_failures_0 13 rfl rfl)
theorem dX0_failures_16 : decode cX0_failures 16 = .ok (.ifCond .ne 6, 3) := dk_154 0 6 (dk_at dksX0_failures_0 16 rfl rfl)
theorem dX0_failures_19 : decode cX0_failures 19 = .ok (.bipush (-2), 2) := dk_16 254 (dk_at dksX0_failures_0 19 rfl rfl)
theorem dX0_failures_21 : decode cX0_failures 21 = .ok (.ireturn, 1) := dk_172 (dk_at dksX0_failures_0 21 rfl rfl)
theorem dX0_failures_22 : decode cX0_failures 22 = .ok (.aload_n 0, 1) := dk_42 (dk_at dksX0_failures_0 22 rfl rfl)
theorem dX0_failures_23 : decode cX0_failures 23 = .ok (.getfield 91, 3) := dk_180 0 91 (dk_at dksX0_failures_1 0 rfl rfl)
theorem dX0_failures_26 : decode cX0_failures 26 = .ok (.getfield 100, 3) := dk_180 0 100 (dk_at dksX0_failures_1 3 rfl rfl)
theorem dX0_failures_29 : decode cX0_failures 29 = .ok (.iload_n 1, 1) := dk_27 (dk_at dksX0_failures_1 6 rfl rfl)
theorem dX0_failures_30 : decode cX0_failures 30 = .ok (.iaload, 1) := dk_46 (dk_at dksX0_failures_1 7 rfl rfl)
theorem dX0_failures_31 : decode cX0_failures 31 = .ok (.istore_n 3, 1) := dk_62 (dk_at dksX0_failures_1 8 rfl rfl)
theorem dX0_failures_32 : decode cX0_failures 32 = .ok (.aload_n 0, 1) := dk_42 (dk_at dksX0_failures_1 9 rfl rfl)
theorem dX0_failures_33 : decode cX0_failures 33 = .ok (.getfield 91, 3) := dk_180 0 91 (dk_at dksX0_failures_1 10 rfl rfl)
theorem dX0_failures_36 : decode cX0_failures 36 = .ok (.getfield 100, 3) := dk_180 0 100 (dk_at dksX0_failures_1 13 rfl rfl)
theorem dX0_failures_39 : decode cX0_failures 39 = .ok (.iload_n 1, 1) := dk_27 (dk_at dksX0_failures_1 16 rfl rfl)
theorem dX0_failures_40 : decode cX0_failures 40 = .ok (.iload_n 2, 1) := dk_28 (dk_at dksX0_failures_1 17 rfl rfl)
theorem dX0_failures_41 : decode cX0_failures 41 = .ok (.iastore, 1) := dk_79 (dk_at dksX0_failures_1 18 rfl rfl)
theorem dX0_failures_42 : decode cX0_failures 42 = .ok (.iload_n 3, 1) := dk_29 (dk_at dksX0_failures_1 19 rfl rfl)
theorem dX0_failures_43 : decode cX0_failures 43 = .ok (.ireturn, 1) := dk_172 (dk_at dksX0_failures_1 20 rfl rfl)
theorem hd_X0_isCode : (yX0_isCode.cls ≠ "java/lang/invoke/MethodHandle" ∧ yX0_isCode.cls ≠ "java/lang/invoke/VarHandle" ∧ (parseMethodDescriptor yX0_isCode.desc).map (fun d => d.parameters.length) = some 1) := ⟨by decide +kernel, by decide +kernel, by decide +kernel⟩
theorem fl_X0_91_0 : gFL RX0 91 0 5 := gFL.mk (Cn := RX0) (T := TX0) (N := 7) (ref := "WorkflowEngine") rfl in_X0 (by decide) q773 rfl rfl (Or.inl rfl)
theorem fl_X0_100_1 : gFL RX0 100 1 1 := gFL.mkN (Cn := RX1) (T := TX1) (N := 5) (ref := "WorkflowEngine$Moment") rfl in_X1 (by decide) nq738 rfl rfl (Or.inl rfl)
def f_X0_failures (a0 : Nat) (p1 : Int32) (p2 : Int32) (w0 : gw) : Option (Int32 × gw) := gB2 (f_X0_isCode p1 w0) fun x2 w1 => if x2 = 0 then some ((-1), w1) else gB2 (f_X0_in p2 (nI 0) (nI 99) w1) fun x5 w4 => if x5 = 0 then some ((-2), w4) else gB1 (gR w4 a0 0 5) fun r7 => gB1 r7 fun a8 => gB1 (gR w4 a8 1 1) fun r9 => gB1 r9 fun a10 => gB1 (gLdI w4 a10 0 p1) fun x11 => gB1 (gR w4 a0 0 5) fun r12 => gB1 r12 fun a13 => gB1 (gR w4 a13 1 1) fun r14 => gB1 r14 fun a15 => gB1 (gStI w4 a15 0 p1 p2) fun w16 => some (x11, w16)
set_option maxHeartbeats 4000000 in
set_option maxRecDepth 100000 in
theorem k_X0_failures {D : va_G} {dA : Nat → ClassId} {A : Nat → Prop} {K : Nat → Nat} {l : Launch} {h : Nat} (hh : 2 ≤ h) {a0 : Nat} {p1 : Int32} {p2 : Int32} {w0 ww : gw} {rr : Int32} (hf : f_X0_failures a0 p1 p2 w0 = some (rr, ww)) : gMet D dA A K l yX0_failures (ws_ yX0_failures cX0_failures 4 (some .int)) h [(ga (some a0)), (gi p1), (gi p2)] (some (gi rr)) w0 ww := by
  refine j_start (own := RX0) (by decide +kernel) rfl (Nat.le_of_ble_eq_true rfl) ?_
  intro p e R s m args below meth c C hr hin hw
  unfold f_X0_failures at hf
  show gJ D dA A K p l e R s m args below meth c (gEnd D dA A K below args s w0 (some (gi rr)) ww) 4 0 [(0, (ga (some a0))), (1, (gi p1)), (2, (gi p2))] [] w0
  refine j_iload_n C dX0_failures_0 rfl ?_
  replace hf := gB2_e hf
  obtain ⟨x2, w1, ew1, hf⟩ := hf
  refine j_callS (As := [(gi p1)]) (rest := []) (v := (some (gi x2))) C (by omega) (k_X0_isCode (by omega) ew1) q712 q713 q91 q714 hd_X0_isCode (by decide) rfl (Nat.le_of_ble_eq_true rfl) dX0_failures_1 ?_
  refine j_if_ne (tgt := 9) C dX0_failures_4 (by decide) (fun c3 => ?_) (fun c3 => ?_)
  · replace hf := gIf_f hf c3
    refine j_iload_n C dX0_failures_9 rfl ?_
    refine j_iconst (v := (nI 0)) C dX0_failures_10 (by decide) ?_
    refine j_bipush (v := (nI 99)) C dX0_failures_11 (by decide) ?_
    replace hf := gB2_e hf
    obtain ⟨x5, w4, ew4, hf⟩ := hf
    refine j_callS (As := [(gi p2), (gi (nI 0)), (gi (nI 99))]) (rest := []) (v := (some (gi x5))) C (by omega) (k_X0_in (by omega) ew4) q138 q139 q91 q140 hd_X0_in (by decide) rfl (Nat.le_of_ble_eq_true rfl) dX0_failures_13 ?_
    refine j_if_ne (tgt := 22) C dX0_failures_16 (by decide) (fun c6 => ?_) (fun c6 => ?_)
    · replace hf := gIf_f hf c6
      refine j_aload_n C dX0_failures_22 rfl ?_
      replace hf := gB1_e hf
      obtain ⟨r7, er7, hf⟩ := hf
      refine j_get C fl_X0_91_0 dX0_failures_23 (gR_F er7) ?_
      replace hf := gB1_e hf
      obtain ⟨a8, ea8, hf⟩ := hf
      subst ea8
      replace hf := gB1_e hf
      obtain ⟨r9, er9, hf⟩ := hf
      refine j_get C fl_X0_100_1 dX0_failures_26 (gR_F er9) ?_
      refine j_iload_n C dX0_failures_29 rfl ?_
      replace hf := gB1_e hf
      obtain ⟨a10, ea10, hf⟩ := hf
      subst ea10
      replace hf := gB1_e hf
      obtain ⟨x11, ex11, hf⟩ := hf
      refine j_iald C ex11 dX0_failures_30 ?_
      refine j_istore_n (lv' := [(3, (gi x11)), (0, (ga (some a0))), (1, (gi p1)), (2, (gi p2))]) C dX0_failures_31 (by decide) rfl ?_
      refine j_aload_n C dX0_failures_32 rfl ?_
      replace hf := gB1_e hf
      obtain ⟨r12, er12, hf⟩ := hf
      refine j_get C fl_X0_91_0 dX0_failures_33 (gR_F er12) ?_
      replace hf := gB1_e hf
      obtain ⟨a13, ea13, hf⟩ := hf
      subst ea13
      replace hf := gB1_e hf
      obtain ⟨r14, er14, hf⟩ := hf
      refine j_get C fl_X0_100_1 dX0_failures_36 (gR_F er14) ?_
      refine j_iload_n C dX0_failures_39 rfl ?_
      refine j_iload_n C dX0_failures_40 rfl ?_
      replace hf := gB1_e hf
      obtain ⟨a15, ea15, hf⟩ := hf
      subst ea15
      replace hf := gB1_e hf
      obtain ⟨w16, ew16, hf⟩ := hf
      refine j_iast C ew16 dX0_failures_41 ?_
      refine j_iload_n C dX0_failures_42 rfl ?_
      obtain ⟨rfl, rfl⟩ := gSome hf
      exact j_iret C hr hw dX0_failures_43
    · replace hf := gIf_t hf c6
      refine j_bipush (v := (-2)) C dX0_failures_19 (by decide) ?_
      obtain ⟨rfl, rfl⟩ := gSome hf
      exact j_iret C hr hw dX0_failures_21
  · replace hf := gIf_t hf c3
    refine j_iconst (v := (-1)) C dX0_failures_7 (by decide) ?_
    obtain ⟨rfl, rfl⟩ := gSome hf
    exact j_iret C hr hw dX0_failures_8
def dkwX0_isInstance_1 : List UInt8 := [167, 0, 4, 3, 172]
abbrev dktX0_isInstance_1 : List UInt8 := dkwX0_isInstance_1 ++ []
def dkwX0_isInstance_0 : List UInt8 := [27, 3, 8, 184, 0, 5, 153, 0, 19, 42, 180, 0, 91, 180, 0, 109, 27, 50, 198, 0, 7, 4]
abbrev dktX0_isInstance_0 : List UInt8 := dkwX0_isInstance_0 ++ dktX0_isInstance_1
theorem dksX0_isInstance_0 : cX0_isInstance.data.toList.drop 0 = dktX0_isInstance_0 := by decide +kernel
theorem dksX0_isInstance_1 : cX0_isInstance.data.toList.drop 22 = dktX0_isInstance_1 := dk_seg dksX0_isInstance_0 22 rfl rfl
theorem dX0_isInstance_0 : decode cX0_isInstance 0 = .ok (.iload_n 1, 1) := dk_27 (dk_at dksX0_isInstance_0 0 rfl rfl)
theorem dX0_isInstance_1 : decode cX0_isInstance 1 = .ok (.iconst 0, 1) := dk_3 (dk_at dksX0_isInstance_0 1 rfl rfl)
theorem dX0_isInstance_2 : decode cX0_isInstance 2 = .ok (.iconst 5, 1) := dk_8 (dk_at dksX0_isInstance_0 2 rfl rfl)
theorem dX0_isInstance_3 : decode cX0_isInstance 3 = .ok (.invokestatic 5, 3) := dk_184 0 5 (dk_at dksX0_isInstance_0 3 rfl rfl)
theorem dX0_isInstance_6 : decode cX0_isInstance 6 = .ok (.ifCond .eq 19, 3) := dk_153 0 19 (dk_at dksX0_isInstance_0 6 rfl rfl)
theorem dX0_isInstance_9 : decode cX0_isInstance 9 = .ok (.aload_n 0, 1) := dk_42 (dk_at dksX0_isInstance_0 9 rfl rfl)
theorem dX0_isInstance_10 : decode cX0_isInstance 10 = .ok (.getfield 91, 3) := dk_180 0 91 (dk_at dksX0_isInstance_0 10 rfl rfl)
theorem dX0_isInstance_13 : decode cX0_isInstance 13 = .ok (.getfield 109, 3) := dk_180 0 109 (dk_at dksX0_isInstance_0 13 rfl rfl)
theorem dX0_isInstance_16 : decode cX0_isInstance 16 = .ok (.iload_n 1, 1) := dk_27 (dk_at dksX0_isInstance_0 16 rfl rfl)
theorem dX0_isInstance_17 : decode cX0_isInstance 17 = .ok (.aaload, 1) := dk_50 (dk_at dksX0_isInstance_0 17 rfl rfl)
theorem dX0_isInstance_18 : decode cX0_isInstance 18 = .ok (.ifnull 7, 3) := dk_198 0 7 (dk_at dksX0_isInstance_0 18 rfl rfl)
theorem dX0_isInstance_21 : decode cX0_isInstance 21 = .ok (.iconst 1, 1) := dk_4 (dk_at dksX0_isInstance_0 21 rfl rfl)
theorem dX0_isInstance_22 : decode cX0_isInstance 22 = .ok (.goto 4, 3) := dk_167 0 4 (dk_at dksX0_isInstance_1 0 rfl rfl)
theorem dX0_isInstance_25 : decode cX0_isInstance 25 = .ok (.iconst 0, 1) := dk_3 (dk_at dksX0_isInstance_1 3 rfl rfl)
theorem dX0_isInstance_26 : decode cX0_isInstance 26 = .ok (.ireturn, 1) := dk_172 (dk_at dksX0_isInstance_1 4 rfl rfl)
theorem fl_X0_109_1 : gFL RX0 109 1 2 := gFL.mkN (Cn := RX1) (T := TX1) (N := 5) (ref := "WorkflowEngine$Moment") rfl in_X1 (by decide) nq740 rfl rfl (Or.inl rfl)
def f_X0_isInstance (a0 : Nat) (p1 : Int32) (w0 : gw) : Option (Int32 × gw) := gB2 (f_X0_in p1 (nI 0) (nI 5) w0) fun x2 w1 => gBd (fun (w4 : gw) => some ((nI 0), w4)) fun k3 => if x2 = 0 then k3 w1 else gB1 (gR w1 a0 0 5) fun r6 => gB1 r6 fun a7 => gB1 (gR w1 a7 1 2) fun r8 => gB1 r8 fun a9 => gB1 (gLdR w1 a9 4 p1) fun r10 => gNl r10 (k3 w1) (fun a12 => some ((nI 1), w1))
set_option maxHeartbeats 4000000 in
set_option maxRecDepth 100000 in
theorem k_X0_isInstance {D : va_G} {dA : Nat → ClassId} {A : Nat → Prop} {K : Nat → Nat} {l : Launch} {h : Nat} (hh : 1 ≤ h) {a0 : Nat} {p1 : Int32} {w0 ww : gw} {rr : Int32} (hf : f_X0_isInstance a0 p1 w0 = some (rr, ww)) : gMet D dA A K l yX0_isInstance (ws_ yX0_isInstance cX0_isInstance 2 (some .boolean)) h [(ga (some a0)), (gi p1)] (some (gi rr)) w0 ww := by
  refine j_start (own := RX0) (by decide +kernel) rfl (Nat.le_of_ble_eq_true rfl) ?_
  intro p e R s m args below meth c C hr hin hw
  unfold f_X0_isInstance at hf
  show gJ D dA A K p l e R s m args below meth c (gEnd D dA A K below args s w0 (some (gi rr)) ww) 2 0 [(0, (ga (some a0))), (1, (gi p1))] [] w0
  refine j_iload_n C dX0_isInstance_0 rfl ?_
  refine j_iconst (v := (nI 0)) C dX0_isInstance_1 (by decide) ?_
  refine j_iconst (v := (nI 5)) C dX0_isInstance_2 (by decide) ?_
  replace hf := gB2_e hf
  obtain ⟨x2, w1, ew1, hf⟩ := hf
  refine j_callS (As := [(gi p1), (gi (nI 0)), (gi (nI 5))]) (rest := []) (v := (some (gi x2))) C (by omega) (k_X0_in (by omega) ew1) q138 q139 q91 q140 hd_X0_in (by decide) rfl (Nat.le_of_ble_eq_true rfl) dX0_isInstance_3 ?_
  replace hf := gBd_x hf
  obtain ⟨k3, ek3, hf⟩ := hf
  have jk3 : ∀ (w4 : gw), k3 w4 = some (rr, ww) → gJ D dA A K p l e R s m args below meth c (gEnd D dA A K below args s w0 (some (gi rr)) ww) 2 25 [] [] w4 := by
    intro w4 hf
    rw [ek3] at hf
    dsimp only at hf
    refine j_iconst (v := (nI 0)) C dX0_isInstance_25 (by decide) ?_
    obtain ⟨rfl, rfl⟩ := gSome hf
    exact j_zret C hr (by decide) hw dX0_isInstance_26
  clear ek3
  refine j_if_eq (tgt := 25) C dX0_isInstance_6 (by decide) (fun c5 => ?_) (fun c5 => ?_)
  · replace hf := gIf_t hf c5
    refine j_sub (lv' := []) (gL_nil) ?_
    exact jk3 _ hf
  · replace hf := gIf_f hf c5
    refine j_aload_n C dX0_isInstance_9 rfl ?_
    replace hf := gB1_e hf
    obtain ⟨r6, er6, hf⟩ := hf
    refine j_get C fl_X0_91_0 dX0_isInstance_10 (gR_F er6) ?_
    replace hf := gB1_e hf
    obtain ⟨a7, ea7, hf⟩ := hf
    subst ea7
    replace hf := gB1_e hf
    obtain ⟨r8, er8, hf⟩ := hf
    refine j_get C fl_X0_109_1 dX0_isInstance_13 (gR_F er8) ?_
    refine j_iload_n C dX0_isInstance_16 rfl ?_
    replace hf := gB1_e hf
    obtain ⟨a9, ea9, hf⟩ := hf
    subst ea9
    replace hf := gB1_e hf
    obtain ⟨r10, er10, hf⟩ := hf
    refine j_aald C (t := 4) rfl er10 dX0_isInstance_17 ?_
    refine j_ifnull (tgt := 25) C dX0_isInstance_18 (by decide) (fun c11 => ?_) (fun a12 c11 => ?_)
    · subst c11
      replace hf := gNl_n hf
      refine j_sub (lv' := []) (gL_nil) ?_
      exact jk3 _ hf
    · subst c11
      replace hf := gNl_s hf
      refine j_iconst (v := (nI 1)) C dX0_isInstance_21 (by decide) ?_
      refine j_goto (tgt := 26) C dX0_isInstance_22 (by decide) ?_
      obtain ⟨rfl, rfl⟩ := gSome hf
      exact j_zret C hr (by decide) hw dX0_isInstance_26
def dkwX0_instance_6 : List UInt8 := [180, 0, 176, 167, 0, 18, 45, 180, 0, 179, 167, 0, 11, 45, 180, 0, 182, 167, 0, 4, 2, 172]
abbrev dktX0_instance_6 : List UInt8 := dkwX0_instance_6 ++ []
def dkwX0_instance_5 : List UInt8 := [180, 0, 161, 167, 0, 42, 45, 180, 0, 164, 167, 0, 35, 45, 180, 0, 167, 182, 0, 171, 167, 0, 25, 45]
abbrev dktX0_instance_5 : List UInt8 := dkwX0_instance_5 ++ dktX0_instance_6
def dkwX0_instance_4 : List UInt8 := [45, 180, 0, 135, 167, 0, 63, 45, 180, 0, 155, 167, 0, 56, 45, 180, 0, 158, 167, 0, 49, 45]
abbrev dktX0_instance_4 : List UInt8 := dkwX0_instance_4 ++ dktX0_instance_5
def dkwX0_instance_3 : List UInt8 := [170, 0, 0, 0, 115, 0, 0, 0, 0, 0, 0, 0, 8, 0, 0, 0, 49, 0, 0, 0, 56, 0, 0, 0, 63, 0, 0, 0, 70, 0, 0, 0, 77, 0, 0, 0, 84, 0, 0, 0, 94, 0, 0, 0, 101, 0, 0, 0, 108]
abbrev dktX0_instance_3 : List UInt8 := dkwX0_instance_3 ++ dktX0_instance_4
def dkwX0_instance_2 : List UInt8 := [184, 0, 5, 153, 0, 13, 45, 180, 0, 138, 28, 16, 20, 100, 46, 172, 28]
abbrev dktX0_instance_2 : List UInt8 := dkwX0_instance_2 ++ dktX0_instance_3
def dkwX0_instance_1 : List UInt8 := [16, 13, 184, 0, 5, 153, 0, 13, 45, 180, 0, 152, 28, 16, 10, 100, 46, 172, 28, 16, 20, 16, 27]
abbrev dktX0_instance_1 : List UInt8 := dkwX0_instance_1 ++ dktX0_instance_2
def dkwX0_instance_0 : List UInt8 := [42, 27, 182, 0, 132, 154, 0, 5, 2, 172, 42, 180, 0, 91, 180, 0, 109, 27, 50, 78, 28, 16, 10]
abbrev dktX0_instance_0 : List UInt8 := dkwX0_instance_0 ++ dktX0_instance_1
theorem dksX0_instance_0 : cX0_instance.data.toList.drop 0 = dktX0_instance_0 := by decide +kernel
theorem dksX0_instance_1 : cX0_instance.data.toList.drop 23 = dktX0_instance_1 := dk_seg dksX0_instance_0 23 rfl rfl
theorem dksX0_instance_2 : cX0_instance.data.toList.drop 46 = dktX0_instance_2 := dk_seg dksX0_instance_1 23 rfl rfl
theorem dksX0_instance_3 : cX0_instance.data.toList.drop 63 = dktX0_instance_3 := dk_seg dksX0_instance_2 17 rfl rfl
theorem dksX0_instance_4 : cX0_instance.data.toList.drop 112 = dktX0_instance_4 := dk_seg dksX0_instance_3 49 rfl rfl
theorem dksX0_instance_5 : cX0_instance.data.toList.drop 134 = dktX0_instance_5 := dk_seg dksX0_instance_4 22 rfl rfl
theorem dksX0_instance_6 : cX0_instance.data.toList.drop 158 = dktX0_instance_6 := dk_seg dksX0_instance_5 24 rfl rfl
theorem dX0_instance_0 : decode cX0_instance 0 = .ok (.aload_n 0, 1) := dk_42 (dk_at dksX0_instance_0 0 rfl rfl)
theorem dX0_instance_1 : decode cX0_instance 1 = .ok (.iload_n 1, 1) := dk_27 (dk_at dksX0_instance_0 1 rfl rfl)
theorem dX0_instance_2 : decode cX0_instance 2 = .ok (.invokevirtual 132, 3) := dk_182 0 132 (dk_at dksX0_instance_0 2 rfl rfl)
theorem dX0_instance_5 : decode cX0_instance 5 = .ok (.ifCond .ne 5, 3) := dk_154 0 5 (dk_at dksX0_instance_0 5 rfl rfl)
theorem dX0_instance_8 : decode cX0_instance 8 = .ok (.iconst (-1), 1) := dk_2 (dk_at dksX0_instance_0 8 rfl rfl)
theorem dX0_instance_9 : decode cX0_instance 9 = .ok (.ireturn, 1) := dk_172 (dk_at dksX0_instance_0 9 rfl rfl)
theorem dX0_instance_10 : decode cX0_instance 10 = .ok (.aload_n 0, 1) := dk_42 (dk_at dksX0_instance_0 10 rfl rfl)
theorem dX0_instance_11 : decode cX0_instance 11 = .ok (.getfield 91, 3) := dk_180 0 91 (dk_at dksX0_instance_0 11 rfl rfl)
theorem dX0_instance_14 : decode cX0_instance 14 = .ok (.getfield 109, 3) := dk_180 0 109 (dk_at dksX0_instance_0 14 rfl rfl)
theorem dX0_instance_17 : decode cX0_instance 17 = .ok (.iload_n 1, 1) := dk_27 (dk_at dksX0_instance_0 17 rfl rfl)
theorem dX0_instance_18 : decode cX0_instance 18 = .ok (.aaload, 1) := dk_50 (dk_at dksX0_instance_0 18 rfl rfl)
theorem dX0_instance_19 : decode cX0_instance 19 = .ok (.astore_n 3, 1) := dk_78 (dk_at dksX0_instance_0 19 rfl rfl)
theorem dX0_instance_20 : decode cX0_instance 20 = .ok (.iload_n 2, 1) := dk_28 (dk_at dksX0_instance_0 20 rfl rfl)
theorem dX0_instance_21 : decode cX0_instance 21 = .ok (.bipush 10, 2) := dk_16 10 (dk_at dksX0_instance_0 21 rfl rfl)
theorem dX0_instance_23 : decode cX0_instance 23 = .ok (.bipush 13, 2) := dk_16 13 (dk_at dksX0_instance_1 0 rfl rfl)
theorem dX0_instance_25 : decode cX0_instance 25 = .ok (.invokestatic 5, 3) := dk_184 0 5 (dk_at dksX0_instance_1 2 rfl rfl)
theorem dX0_instance_28 : decode cX0_instance 28 = .ok (.ifCond .eq 13, 3) := dk_153 0 13 (dk_at dksX0_instance_1 5 rfl rfl)
theorem dX0_instance_31 : decode cX0_instance 31 = .ok (.aload_n 3, 1) := dk_45 (dk_at dksX0_instance_1 8 rfl rfl)
theorem dX0_instance_32 : decode cX0_instance 32 = .ok (.getfield 152, 3) := dk_180 0 152 (dk_at dksX0_instance_1 9 rfl rfl)
theorem dX0_instance_35 : decode cX0_instance 35 = .ok (.iload_n 2, 1) := dk_28 (dk_at dksX0_instance_1 12 rfl rfl)
theorem dX0_instance_36 : decode cX0_instance 36 = .ok (.bipush 10, 2) := dk_16 10 (dk_at dksX0_instance_1 13 rfl rfl)
theorem dX0_instance_38 : decode cX0_instance 38 = .ok (.isub, 1) := dk_100 (dk_at dksX0_instance_1 15 rfl rfl)
theorem dX0_instance_39 : decode cX0_instance 39 = .ok (.iaload, 1) := dk_46 (dk_at dksX0_instance_1 16 rfl rfl)
theorem dX0_instance_40 : decode cX0_instance 40 = .ok (.ireturn, 1) := dk_172 (dk_at dksX0_instance_1 17 rfl rfl)
theorem dX0_instance_41 : decode cX0_instance 41 = .ok (.iload_n 2, 1) := dk_28 (dk_at dksX0_instance_1 18 rfl rfl)
theorem dX0_instance_42 : decode cX0_instance 42 = .ok (.bipush 20, 2) := dk_16 20 (dk_at dksX0_instance_1 19 rfl rfl)
theorem dX0_instance_44 : decode cX0_instance 44 = .ok (.bipush 27, 2) := dk_16 27 (dk_at dksX0_instance_1 21 rfl rfl)
theorem dX0_instance_46 : decode cX0_instance 46 = .ok (.invokestatic 5, 3) := dk_184 0 5 (dk_at dksX0_instance_2 0 rfl rfl)
theorem dX0_instance_49 : decode cX0_instance 49 = .ok (.ifCond .eq 13, 3) := dk_153 0 13 (dk_at dksX0_instance_2 3 rfl rfl)
theorem dX0_instance_52 : decode cX0_instance 52 = .ok (.aload_n 3, 1) := dk_45 (dk_at dksX0_instance_2 6 rfl rfl)
theorem dX0_instance_53 : decode cX0_instance 53 = .ok (.getfield 138, 3) := dk_180 0 138 (dk_at dksX0_instance_2 7 rfl rfl)
theorem dX0_instance_56 : decode cX0_instance 56 = .ok (.iload_n 2, 1) := dk_28 (dk_at dksX0_instance_2 10 rfl rfl)
theorem dX0_instance_57 : decode cX0_instance 57 = .ok (.bipush 20, 2) := dk_16 20 (dk_at dksX0_instance_2 11 rfl rfl)
theorem dX0_instance_59 : decode cX0_instance 59 = .ok (.isub, 1) := dk_100 (dk_at dksX0_instance_2 13 rfl rfl)
theorem dX0_instance_60 : decode cX0_instance 60 = .ok (.iaload, 1) := dk_46 (dk_at dksX0_instance_2 14 rfl rfl)
theorem dX0_instance_61 : decode cX0_instance 61 = .ok (.ireturn, 1) := dk_172 (dk_at dksX0_instance_2 15 rfl rfl)
theorem dX0_instance_62 : decode cX0_instance 62 = .ok (.iload_n 2, 1) := dk_28 (dk_at dksX0_instance_2 16 rfl rfl)
theorem dX0_instance_63 : decode cX0_instance 63 = .ok (.tableswitch 115 0 8 #[49, 56, 63, 70, 77, 84, 94, 101, 108], 49) := by decide +kernel
theorem dX0_instance_112 : decode cX0_instance 112 = .ok (.aload_n 3, 1) := dk_45 (dk_at dksX0_instance_4 0 rfl rfl)
theorem dX0_instance_113 : decode cX0_instance 113 = .ok (.getfield 135, 3) := dk_180 0 135 (dk_at dksX0_instance_4 1 rfl rfl)
theorem dX0_instance_116 : decode cX0_instance 116 = .ok (.goto 63, 3) := dk_167 0 63 (dk_at dksX0_instance_4 4 rfl rfl)
theorem dX0_instance_119 : decode cX0_instance 119 = .ok (.aload_n 3, 1) := dk_45 (dk_at dksX0_instance_4 7 rfl rfl)
theorem dX0_instance_120 : decode cX0_instance 120 = .ok (.getfield 155, 3) := dk_180 0 155 (dk_at dksX0_instance_4 8 rfl rfl)
theorem dX0_instance_123 : decode cX0_instance 123 = .ok (.goto 56, 3) := dk_167 0 56 (dk_at dksX0_instance_4 11 rfl rfl)
theorem dX0_instance_126 : decode cX0_instance 126 = .ok (.aload_n 3, 1) := dk_45 (dk_at dksX0_instance_4 14 rfl rfl)
theorem dX0_instance_127 : decode cX0_instance 127 = .ok (.getfield 158, 3) := dk_180 0 158 (dk_at dksX0_instance_4 15 rfl rfl)
theorem dX0_instance_130 : decode cX0_instance 130 = .ok (.goto 49, 3) := dk_167 0 49 (dk_at dksX0_instance_4 18 rfl rfl)
theorem dX0_instance_133 : decode cX0_instance 133 = .ok (.aload_n 3, 1) := dk_45 (dk_at dksX0_instance_4 21 rfl rfl)
theorem dX0_instance_134 : decode cX0_instance 134 = .ok (.getfield 161, 3) := dk_180 0 161 (dk_at dksX0_instance_5 0 rfl rfl)
theorem dX0_instance_137 : decode cX0_instance 137 = .ok (.goto 42, 3) := dk_167 0 42 (dk_at dksX0_instance_5 3 rfl rfl)
theorem dX0_instance_140 : decode cX0_instance 140 = .ok (.aload_n 3, 1) := dk_45 (dk_at dksX0_instance_5 6 rfl rfl)
theorem dX0_instance_141 : decode cX0_instance 141 = .ok (.getfield 164, 3) := dk_180 0 164 (dk_at dksX0_instance_5 7 rfl rfl)
theorem dX0_instance_144 : decode cX0_instance 144 = .ok (.goto 35, 3) := dk_167 0 35 (dk_at dksX0_instance_5 10 rfl rfl)
theorem dX0_instance_147 : decode cX0_instance 147 = .ok (.aload_n 3, 1) := dk_45 (dk_at dksX0_instance_5 13 rfl rfl)
theorem dX0_instance_148 : decode cX0_instance 148 = .ok (.getfield 167, 3) := dk_180 0 167 (dk_at dksX0_instance_5 14 rfl rfl)
theorem dX0_instance_151 : decode cX0_instance 151 = .ok (.invokevirtual 171, 3) := dk_182 0 171 (dk_at dksX0_instance_5 17 rfl rfl)
theorem dX0_instance_154 : decode cX0_instance 154 = .ok (.goto 25, 3) := dk_167 0 25 (dk_at dksX0_instance_5 20 rfl rfl)
theorem dX0_instance_157 : decode cX0_instance 157 = .ok (.aload_n 3, 1) := dk_45 (dk_at dksX0_instance_5 23 rfl rfl)
theorem dX0_instance_158 : decode cX0_instance 158 = .ok (.getfield 176, 3) := dk_180 0 176 (dk_at dksX0_instance_6 0 rfl rfl)
theorem dX0_instance_161 : decode cX0_instance 161 = .ok (.goto 18, 3) := dk_167 0 18 (dk_at dksX0_instance_6 3 rfl rfl)
theorem dX0_instance_164 : decode cX0_instance 164 = .ok (.aload_n 3, 1) := dk_45 (dk_at dksX0_instance_6 6 rfl rfl)
theorem dX0_instance_165 : decode cX0_instance 165 = .ok (.getfield 179, 3) := dk_180 0 179 (dk_at dksX0_instance_6 7 rfl rfl)
theorem dX0_instance_168 : decode cX0_instance 168 = .ok (.goto 11, 3) := dk_167 0 11 (dk_at dksX0_instance_6 10 rfl rfl)
theorem dX0_instance_171 : decode cX0_instance 171 = .ok (.aload_n 3, 1) := dk_45 (dk_at dksX0_instance_6 13 rfl rfl)
theorem dX0_instance_172 : decode cX0_instance 172 = .ok (.getfield 182, 3) := dk_180 0 182 (dk_at dksX0_instance_6 14 rfl rfl)
theorem dX0_instance_175 : decode cX0_instance 175 = .ok (.goto 4, 3) := dk_167 0 4 (dk_at dksX0_instance_6 17 rfl rfl)
theorem dX0_instance_178 : decode cX0_instance 178 = .ok (.iconst (-1), 1) := dk_2 (dk_at dksX0_instance_6 20 rfl rfl)
theorem dX0_instance_179 : decode cX0_instance 179 = .ok (.ireturn, 1) := dk_172 (dk_at dksX0_instance_6 21 rfl rfl)
theorem hd_X0_isInstance : (yX0_isInstance.cls ≠ "java/lang/invoke/MethodHandle" ∧ yX0_isInstance.cls ≠ "java/lang/invoke/VarHandle" ∧ (parseMethodDescriptor yX0_isInstance.desc).map (fun d => d.parameters.length) = some 1) := ⟨by decide +kernel, by decide +kernel, by decide +kernel⟩
theorem fl_X0_135_16 : gFL RX0 135 16 9 := gFL.mkN (Cn := RX16) (T := TX16) (N := 16) (ref := "WorkflowEngine$Instance") rfl in_X16 (by decide) nq829 rfl rfl (Or.inl rfl)
theorem fl_X0_155_16 : gFL RX0 155 16 1 := gFL.mkN (Cn := RX16) (T := TX16) (N := 16) (ref := "WorkflowEngine$Instance") rfl in_X16 (by decide) nq808 rfl rfl (Or.inl rfl)
theorem fl_X0_158_16 : gFL RX0 158 16 2 := gFL.mkN (Cn := RX16) (T := TX16) (N := 16) (ref := "WorkflowEngine$Instance") rfl in_X16 (by decide) nq810 rfl rfl (Or.inl rfl)
theorem fl_X0_161_16 : gFL RX0 161 16 3 := gFL.mkN (Cn := RX16) (T := TX16) (N := 16) (ref := "WorkflowEngine$Instance") rfl in_X16 (by decide) nq812 rfl rfl (Or.inl rfl)
theorem fl_X0_164_16 : gFL RX0 164 16 10 := gFL.mkN (Cn := RX16) (T := TX16) (N := 16) (ref := "WorkflowEngine$Instance") rfl in_X16 (by decide) nq831 rfl rfl (Or.inl rfl)
theorem fl_X0_167_16 : gFL RX0 167 16 6 := gFL.mkN (Cn := RX16) (T := TX16) (N := 16) (ref := "WorkflowEngine$Instance") rfl in_X16 (by decide) nq822 rfl rfl (Or.inl rfl)
theorem hd_J2_size : (yJ2_size.cls ≠ "java/lang/invoke/MethodHandle" ∧ yJ2_size.cls ≠ "java/lang/invoke/VarHandle" ∧ (parseMethodDescriptor yJ2_size.desc).map (fun d => d.parameters.length) = some 0) := ⟨by decide +kernel, by decide +kernel, by decide +kernel⟩
theorem fl_X0_176_16 : gFL RX0 176 16 11 := gFL.mkN (Cn := RX16) (T := TX16) (N := 16) (ref := "WorkflowEngine$Instance") rfl in_X16 (by decide) nq833 rfl rfl (Or.inl rfl)
theorem fl_X0_179_16 : gFL RX0 179 16 12 := gFL.mkN (Cn := RX16) (T := TX16) (N := 16) (ref := "WorkflowEngine$Instance") rfl in_X16 (by decide) nq835 rfl rfl (Or.inl rfl)
theorem fl_X0_182_16 : gFL RX0 182 16 8 := gFL.mkN (Cn := RX16) (T := TX16) (N := 16) (ref := "WorkflowEngine$Instance") rfl in_X16 (by decide) nq826 rfl rfl (Or.inl rfl)
theorem fl_X0_138_16 : gFL RX0 138 16 5 := gFL.mkN (Cn := RX16) (T := TX16) (N := 16) (ref := "WorkflowEngine$Instance") rfl in_X16 (by decide) nq819 rfl rfl (Or.inl rfl)
theorem fl_X0_152_16 : gFL RX0 152 16 4 := gFL.mkN (Cn := RX16) (T := TX16) (N := 16) (ref := "WorkflowEngine$Instance") rfl in_X16 (by decide) nq816 rfl rfl (Or.inl rfl)
def f_X0_instance (a0 : Nat) (p1 : Int32) (p2 : Int32) (w0 : gw) : Option (Int32 × gw) := gB1 (gOb w0 a0 0) fun _ => gB2 (f_X0_isInstance a0 p1 w0) fun x2 w1 => if x2 = 0 then some ((-1), w1) else gB1 (gR w1 a0 0 5) fun r4 => gB1 r4 fun a5 => gB1 (gR w1 a5 1 2) fun r6 => gB1 r6 fun a7 => gB1 (gLdR w1 a7 4 p1) fun r8 => gB2 (f_X0_in p2 (nI 10) (nI 13) w1) fun x10 w9 => if x10 = 0 then gB2 (f_X0_in p2 (nI 20) (nI 27) w9) fun x13 w12 => if x13 = 0 then if p2 = (nI 0) then gB1 r8 fun a15 => gB1 (gI w12 a15 16 9) fun x16 => some (x16, w12) else if p2 = (nI 1) then gB1 r8 fun a17 => gB1 (gI w12 a17 16 1) fun x18 => some (x18, w12) else if p2 = (nI 2) then gB1 r8 fun a19 => gB1 (gI w12 a19 16 2) fun x20 => some (x20, w12) else if p2 = (nI 3) then gB1 r8 fun a21 => gB1 (gI w12 a21 16 3) fun x22 => some (x22, w12) else if p2 = (nI 4) then gB1 r8 fun a23 => gB1 (gI w12 a23 16 10) fun x24 => some (x24, w12) else if p2 = (nI 5) then gB1 r8 fun a25 => gB1 (gR w12 a25 16 6) fun r26 => gB1 r26 fun a27 => gB1 (gOb w12 a27 8) fun _ => gB2 (f_J2_size a27  w12) fun x29 w28 => some (x29, w28) else if p2 = (nI 6) then gB1 r8 fun a30 => gB1 (gI w12 a30 16 11) fun x31 => some (x31, w12) else if p2 = (nI 7) then gB1 r8 fun a32 => gB1 (gI w12 a32 16 12) fun x33 => some (x33, w12) else if p2 = (nI 8) then gB1 r8 fun a34 => gB1 (gI w12 a34 16 8) fun x35 => some (x35, w12) else some ((-1), w12) else gB1 r8 fun a36 => gB1 (gR w12 a36 16 5) fun r37 => gB1 r37 fun a38 => gB1 (gLdI w12 a38 0 (p2 - (nI 20))) fun x39 => some (x39, w12) else gB1 r8 fun a40 => gB1 (gR w9 a40 16 4) fun r41 => gB1 r41 fun a42 => gB1 (gLdI w9 a42 0 (p2 - (nI 10))) fun x43 => some (x43, w9)
set_option maxHeartbeats 4000000 in
set_option maxRecDepth 100000 in
theorem k_X0_instance {D : va_G} {dA : Nat → ClassId} {A : Nat → Prop} {K : Nat → Nat} {l : Launch} {h : Nat} (hh : 2 ≤ h) {a0 : Nat} {p1 : Int32} {p2 : Int32} {w0 ww : gw} {rr : Int32} (hf : f_X0_instance a0 p1 p2 w0 = some (rr, ww)) : gMet D dA A K l yX0_instance (ws_ yX0_instance cX0_instance 4 (some .int)) h [(ga (some a0)), (gi p1), (gi p2)] (some (gi rr)) w0 ww := by
  refine j_start (own := RX0) (by decide +kernel) rfl (Nat.le_of_ble_eq_true rfl) ?_
  intro p e R s m args below meth c C hr hin hw
  unfold f_X0_instance at hf
  show gJ D dA A K p l e R s m args below meth c (gEnd D dA A K below args s w0 (some (gi rr)) ww) 4 0 [(0, (ga (some a0))), (1, (gi p1)), (2, (gi p2))] [] w0
  refine j_aload_n C dX0_instance_0 rfl ?_
  refine j_iload_n C dX0_instance_1 rfl ?_
  replace hf := gB1_e hf
  obtain ⟨_, eo, hf⟩ := hf
  replace hf := gB2_e hf
  obtain ⟨x2, w1, ew1, hf⟩ := hf
  refine j_callV (As := [(gi p1)]) (rest := []) (v := (some (gi x2))) C (by omega) (k_X0_isInstance (by omega) ew1) (gOb_e eo) rfl q1301 q1303 qs29 q91 q1304 ⟨rfl, hd_X0_isInstance⟩ (by decide) rfl (Nat.le_of_ble_eq_true rfl) dX0_instance_2 ?_
  refine j_if_ne (tgt := 10) C dX0_instance_5 (by decide) (fun c3 => ?_) (fun c3 => ?_)
  · replace hf := gIf_f hf c3
    refine j_aload_n C dX0_instance_10 rfl ?_
    replace hf := gB1_e hf
    obtain ⟨r4, er4, hf⟩ := hf
    refine j_get C fl_X0_91_0 dX0_instance_11 (gR_F er4) ?_
    replace hf := gB1_e hf
    obtain ⟨a5, ea5, hf⟩ := hf
    subst ea5
    replace hf := gB1_e hf
    obtain ⟨r6, er6, hf⟩ := hf
    refine j_get C fl_X0_109_1 dX0_instance_14 (gR_F er6) ?_
    refine j_iload_n C dX0_instance_17 rfl ?_
    replace hf := gB1_e hf
    obtain ⟨a7, ea7, hf⟩ := hf
    subst ea7
    replace hf := gB1_e hf
    obtain ⟨r8, er8, hf⟩ := hf
    refine j_aald C (t := 4) rfl er8 dX0_instance_18 ?_
    refine j_astore_n (lv' := [(3, (ga r8)), (0, (ga (some a0))), (1, (gi p1)), (2, (gi p2))]) C dX0_instance_19 (by decide) rfl ?_
    refine j_iload_n C dX0_instance_20 rfl ?_
    refine j_bipush (v := (nI 10)) C dX0_instance_21 (by decide) ?_
    refine j_bipush (v := (nI 13)) C dX0_instance_23 (by decide) ?_
    replace hf := gB2_e hf
    obtain ⟨x10, w9, ew9, hf⟩ := hf
    refine j_callS (As := [(gi p2), (gi (nI 10)), (gi (nI 13))]) (rest := []) (v := (some (gi x10))) C (by omega) (k_X0_in (by omega) ew9) q138 q139 q91 q140 hd_X0_in (by decide) rfl (Nat.le_of_ble_eq_true rfl) dX0_instance_25 ?_
    refine j_if_eq (tgt := 41) C dX0_instance_28 (by decide) (fun c11 => ?_) (fun c11 => ?_)
    · replace hf := gIf_t hf c11
      refine j_iload_n C dX0_instance_41 rfl ?_
      refine j_bipush (v := (nI 20)) C dX0_instance_42 (by decide) ?_
      refine j_bipush (v := (nI 27)) C dX0_instance_44 (by decide) ?_
      replace hf := gB2_e hf
      obtain ⟨x13, w12, ew12, hf⟩ := hf
      refine j_callS (As := [(gi p2), (gi (nI 20)), (gi (nI 27))]) (rest := []) (v := (some (gi x13))) C (by omega) (k_X0_in (by omega) ew12) q138 q139 q91 q140 hd_X0_in (by decide) rfl (Nat.le_of_ble_eq_true rfl) dX0_instance_46 ?_
      refine j_if_eq (tgt := 62) C dX0_instance_49 (by decide) (fun c14 => ?_) (fun c14 => ?_)
      · replace hf := gIf_t hf c14
        refine j_iload_n C dX0_instance_62 rfl ?_
        by_cases n63_0 : p2 = (nI 0)
        · replace hf := gIf_t hf n63_0
          refine j_tableIn (off := 49) (tgt := 112) C dX0_instance_63 (by rw [n63_0]; decide) (by rw [n63_0]; decide) (by rw [n63_0]; decide) (by decide) ?_
          refine j_aload_n C dX0_instance_112 rfl ?_
          replace hf := gB1_e hf
          obtain ⟨a15, ea15, hf⟩ := hf
          subst ea15
          replace hf := gB1_e hf
          obtain ⟨x16, ex16, hf⟩ := hf
          refine j_get C fl_X0_135_16 dX0_instance_113 (gI_F ex16) ?_
          refine j_goto (tgt := 179) C dX0_instance_116 (by decide) ?_
          obtain ⟨rfl, rfl⟩ := gSome hf
          exact j_iret C hr hw dX0_instance_179
        · replace hf := gIf_f hf n63_0
          by_cases n63_1 : p2 = (nI 1)
          · replace hf := gIf_t hf n63_1
            refine j_tableIn (off := 56) (tgt := 119) C dX0_instance_63 (by rw [n63_1]; decide) (by rw [n63_1]; decide) (by rw [n63_1]; decide) (by decide) ?_
            refine j_aload_n C dX0_instance_119 rfl ?_
            replace hf := gB1_e hf
            obtain ⟨a17, ea17, hf⟩ := hf
            subst ea17
            replace hf := gB1_e hf
            obtain ⟨x18, ex18, hf⟩ := hf
            refine j_get C fl_X0_155_16 dX0_instance_120 (gI_F ex18) ?_
            refine j_goto (tgt := 179) C dX0_instance_123 (by decide) ?_
            obtain ⟨rfl, rfl⟩ := gSome hf
            exact j_iret C hr hw dX0_instance_179
          · replace hf := gIf_f hf n63_1
            by_cases n63_2 : p2 = (nI 2)
            · replace hf := gIf_t hf n63_2
              refine j_tableIn (off := 63) (tgt := 126) C dX0_instance_63 (by rw [n63_2]; decide) (by rw [n63_2]; decide) (by rw [n63_2]; decide) (by decide) ?_
              refine j_aload_n C dX0_instance_126 rfl ?_
              replace hf := gB1_e hf
              obtain ⟨a19, ea19, hf⟩ := hf
              subst ea19
              replace hf := gB1_e hf
              obtain ⟨x20, ex20, hf⟩ := hf
              refine j_get C fl_X0_158_16 dX0_instance_127 (gI_F ex20) ?_
              refine j_goto (tgt := 179) C dX0_instance_130 (by decide) ?_
              obtain ⟨rfl, rfl⟩ := gSome hf
              exact j_iret C hr hw dX0_instance_179
            · replace hf := gIf_f hf n63_2
              by_cases n63_3 : p2 = (nI 3)
              · replace hf := gIf_t hf n63_3
                refine j_tableIn (off := 70) (tgt := 133) C dX0_instance_63 (by rw [n63_3]; decide) (by rw [n63_3]; decide) (by rw [n63_3]; decide) (by decide) ?_
                refine j_aload_n C dX0_instance_133 rfl ?_
                replace hf := gB1_e hf
                obtain ⟨a21, ea21, hf⟩ := hf
                subst ea21
                replace hf := gB1_e hf
                obtain ⟨x22, ex22, hf⟩ := hf
                refine j_get C fl_X0_161_16 dX0_instance_134 (gI_F ex22) ?_
                refine j_goto (tgt := 179) C dX0_instance_137 (by decide) ?_
                obtain ⟨rfl, rfl⟩ := gSome hf
                exact j_iret C hr hw dX0_instance_179
              · replace hf := gIf_f hf n63_3
                by_cases n63_4 : p2 = (nI 4)
                · replace hf := gIf_t hf n63_4
                  refine j_tableIn (off := 77) (tgt := 140) C dX0_instance_63 (by rw [n63_4]; decide) (by rw [n63_4]; decide) (by rw [n63_4]; decide) (by decide) ?_
                  refine j_aload_n C dX0_instance_140 rfl ?_
                  replace hf := gB1_e hf
                  obtain ⟨a23, ea23, hf⟩ := hf
                  subst ea23
                  replace hf := gB1_e hf
                  obtain ⟨x24, ex24, hf⟩ := hf
                  refine j_get C fl_X0_164_16 dX0_instance_141 (gI_F ex24) ?_
                  refine j_goto (tgt := 179) C dX0_instance_144 (by decide) ?_
                  obtain ⟨rfl, rfl⟩ := gSome hf
                  exact j_iret C hr hw dX0_instance_179
                · replace hf := gIf_f hf n63_4
                  by_cases n63_5 : p2 = (nI 5)
                  · replace hf := gIf_t hf n63_5
                    refine j_tableIn (off := 84) (tgt := 147) C dX0_instance_63 (by rw [n63_5]; decide) (by rw [n63_5]; decide) (by rw [n63_5]; decide) (by decide) ?_
                    refine j_aload_n C dX0_instance_147 rfl ?_
                    replace hf := gB1_e hf
                    obtain ⟨a25, ea25, hf⟩ := hf
                    subst ea25
                    replace hf := gB1_e hf
                    obtain ⟨r26, er26, hf⟩ := hf
                    refine j_get C fl_X0_167_16 dX0_instance_148 (gR_F er26) ?_
                    replace hf := gB1_e hf
                    obtain ⟨a27, ea27, hf⟩ := hf
                    subst ea27
                    replace hf := gB1_e hf
                    obtain ⟨_, eo, hf⟩ := hf
                    replace hf := gB2_e hf
                    obtain ⟨x29, w28, ew28, hf⟩ := hf
                    refine j_callV (As := []) (rest := []) (v := (some (gi x29))) C (by omega) (k_J2_size (by omega) ew28) (gOb_e eo) rfl q1332 q560 q561 q99 q562 ⟨rfl, hd_J2_size⟩ (by decide) rfl (Nat.le_of_ble_eq_true rfl) dX0_instance_151 ?_
                    refine j_goto (tgt := 179) C dX0_instance_154 (by decide) ?_
                    obtain ⟨rfl, rfl⟩ := gSome hf
                    exact j_iret C hr hw dX0_instance_179
                  · replace hf := gIf_f hf n63_5
                    by_cases n63_6 : p2 = (nI 6)
                    · replace hf := gIf_t hf n63_6
                      refine j_tableIn (off := 94) (tgt := 157) C dX0_instance_63 (by rw [n63_6]; decide) (by rw [n63_6]; decide) (by rw [n63_6]; decide) (by decide) ?_
                      refine j_aload_n C dX0_instance_157 rfl ?_
                      replace hf := gB1_e hf
                      obtain ⟨a30, ea30, hf⟩ := hf
                      subst ea30
                      replace hf := gB1_e hf
                      obtain ⟨x31, ex31, hf⟩ := hf
                      refine j_get C fl_X0_176_16 dX0_instance_158 (gI_F ex31) ?_
                      refine j_goto (tgt := 179) C dX0_instance_161 (by decide) ?_
                      obtain ⟨rfl, rfl⟩ := gSome hf
                      exact j_iret C hr hw dX0_instance_179
                    · replace hf := gIf_f hf n63_6
                      by_cases n63_7 : p2 = (nI 7)
                      · replace hf := gIf_t hf n63_7
                        refine j_tableIn (off := 101) (tgt := 164) C dX0_instance_63 (by rw [n63_7]; decide) (by rw [n63_7]; decide) (by rw [n63_7]; decide) (by decide) ?_
                        refine j_aload_n C dX0_instance_164 rfl ?_
                        replace hf := gB1_e hf
                        obtain ⟨a32, ea32, hf⟩ := hf
                        subst ea32
                        replace hf := gB1_e hf
                        obtain ⟨x33, ex33, hf⟩ := hf
                        refine j_get C fl_X0_179_16 dX0_instance_165 (gI_F ex33) ?_
                        refine j_goto (tgt := 179) C dX0_instance_168 (by decide) ?_
                        obtain ⟨rfl, rfl⟩ := gSome hf
                        exact j_iret C hr hw dX0_instance_179
                      · replace hf := gIf_f hf n63_7
                        by_cases n63_8 : p2 = (nI 8)
                        · replace hf := gIf_t hf n63_8
                          refine j_tableIn (off := 108) (tgt := 171) C dX0_instance_63 (by rw [n63_8]; decide) (by rw [n63_8]; decide) (by rw [n63_8]; decide) (by decide) ?_
                          refine j_aload_n C dX0_instance_171 rfl ?_
                          replace hf := gB1_e hf
                          obtain ⟨a34, ea34, hf⟩ := hf
                          subst ea34
                          replace hf := gB1_e hf
                          obtain ⟨x35, ex35, hf⟩ := hf
                          refine j_get C fl_X0_182_16 dX0_instance_172 (gI_F ex35) ?_
                          refine j_goto (tgt := 179) C dX0_instance_175 (by decide) ?_
                          obtain ⟨rfl, rfl⟩ := gSome hf
                          exact j_iret C hr hw dX0_instance_179
                        · replace hf := gIf_f hf n63_8
                          refine j_tableOut (tgt := 178) C dX0_instance_63 (g_out9 (a := 0) (by decide) n63_0 n63_1 n63_2 n63_3 n63_4 n63_5 n63_6 n63_7 n63_8) (by decide) ?_
                          refine j_iconst (v := (-1)) C dX0_instance_178 (by decide) ?_
                          obtain ⟨rfl, rfl⟩ := gSome hf
                          exact j_iret C hr hw dX0_instance_179
      · replace hf := gIf_f hf c14
        refine j_aload_n C dX0_instance_52 rfl ?_
        replace hf := gB1_e hf
        obtain ⟨a36, ea36, hf⟩ := hf
        subst ea36
        replace hf := gB1_e hf
        obtain ⟨r37, er37, hf⟩ := hf
        refine j_get C fl_X0_138_16 dX0_instance_53 (gR_F er37) ?_
        refine j_iload_n C dX0_instance_56 rfl ?_
        refine j_bipush (v := (nI 20)) C dX0_instance_57 (by decide) ?_
        refine j_isub C dX0_instance_59 ?_
        replace hf := gB1_e hf
        obtain ⟨a38, ea38, hf⟩ := hf
        subst ea38
        replace hf := gB1_e hf
        obtain ⟨x39, ex39, hf⟩ := hf
        refine j_iald C ex39 dX0_instance_60 ?_
        obtain ⟨rfl, rfl⟩ := gSome hf
        exact j_iret C hr hw dX0_instance_61
    · replace hf := gIf_f hf c11
      refine j_aload_n C dX0_instance_31 rfl ?_
      replace hf := gB1_e hf
      obtain ⟨a40, ea40, hf⟩ := hf
      subst ea40
      replace hf := gB1_e hf
      obtain ⟨r41, er41, hf⟩ := hf
      refine j_get C fl_X0_152_16 dX0_instance_32 (gR_F er41) ?_
      refine j_iload_n C dX0_instance_35 rfl ?_
      refine j_bipush (v := (nI 10)) C dX0_instance_36 (by decide) ?_
      refine j_isub C dX0_instance_38 ?_
      replace hf := gB1_e hf
      obtain ⟨a42, ea42, hf⟩ := hf
      subst ea42
      replace hf := gB1_e hf
      obtain ⟨x43, ex43, hf⟩ := hf
      refine j_iald C ex43 dX0_instance_39 ?_
      obtain ⟨rfl, rfl⟩ := gSome hf
      exact j_iret C hr hw dX0_instance_40
  · replace hf := gIf_t hf c3
    refine j_iconst (v := (-1)) C dX0_instance_8 (by decide) ?_
    obtain ⟨rfl, rfl⟩ := gSome hf
    exact j_iret C hr hw dX0_instance_9
def dkwX0_entry_2 : List UInt8 := [184, 0, 5, 153, 0, 17, 25, 4, 180, 0, 191, 6, 28, 104, 29, 96, 46, 167, 0, 4, 2, 172]
abbrev dktX0_entry_2 : List UInt8 := dkwX0_entry_2 ++ []
def dkwX0_entry_1 : List UInt8 := [180, 0, 109, 27, 50, 58, 4, 28, 3, 17, 0, 200, 25, 4, 180, 0, 182, 184, 0, 185, 4, 100]
abbrev dktX0_entry_1 : List UInt8 := dkwX0_entry_1 ++ dktX0_entry_2
def dkwX0_entry_0 : List UInt8 := [42, 27, 182, 0, 132, 153, 0, 12, 29, 3, 5, 184, 0, 5, 154, 0, 5, 2, 172, 42, 180, 0, 91]
abbrev dktX0_entry_0 : List UInt8 := dkwX0_entry_0 ++ dktX0_entry_1
theorem dksX0_entry_0 : cX0_entry.data.toList.drop 0 = dktX0_entry_0 := by decide +kernel
theorem dksX0_entry_1 : cX0_entry.data.toList.drop 23 = dktX0_entry_1 := dk_seg dksX0_entry_0 23 rfl rfl
theorem dksX0_entry_2 : cX0_entry.data.toList.drop 45 = dktX0_entry_2 := dk_seg dksX0_entry_1 22 rfl rfl
theorem dX0_entry_0 : decode cX0_entry 0 = .ok (.aload_n 0, 1) := dk_42 (dk_at dksX0_entry_0 0 rfl rfl)
theorem dX0_entry_1 : decode cX0_entry 1 = .ok (.iload_n 1, 1) := dk_27 (dk_at dksX0_entry_0 1 rfl rfl)
theorem dX0_entry_2 : decode cX0_entry 2 = .ok (.invokevirtual 132, 3) := dk_182 0 132 (dk_at dksX0_entry_0 2 rfl rfl)
theorem dX0_entry_5 : decode cX0_entry 5 = .ok (.ifCond .eq 12, 3) := dk_153 0 12 (dk_at dksX0_entry_0 5 rfl rfl)
theorem dX0_entry_8 : decode cX0_entry 8 = .ok (.iload_n 3, 1) := dk_29 (dk_at dksX0_entry_0 8 rfl rfl)
theorem dX0_entry_9 : decode cX0_entry 9 = .ok (.iconst 0, 1) := dk_3 (dk_at dksX0_entry_0 9 rfl rfl)
theorem dX0_entry_10 : decode cX0_entry 10 = .ok (.iconst 2, 1) := dk_5 (dk_at dksX0_entry_0 10 rfl rfl)
theorem dX0_entry_11 : decode cX0_entry 11 = .ok (.invokestatic 5, 3) := dk_184 0 5 (dk_at dksX0_entry_0 11 rfl rfl)
theorem dX0_entry_14 : decode cX0_entry 14 = .ok (.ifCond .ne 5, 3) := dk_154 0 5 (dk_at dksX0_entry_0 14 rfl rfl)
theorem dX0_entry_17 : decode cX0_entry 17 = .ok (.iconst (-1), 1) := dk_2 (dk_at dksX0_entry_0 17 rfl rfl)
theorem dX0_entry_18 : decode cX0_entry 18 = .ok (.ireturn, 1) := dk_172 (dk_at dksX0_entry_0 18 rfl rfl)
theorem dX0_entry_19 : decode cX0_entry 19 = .ok (.aload_n 0, 1) := dk_42 (dk_at dksX0_entry_0 19 rfl rfl)
theorem dX0_entry_20 : decode cX0_entry 20 = .ok (.getfield 91, 3) := dk_180 0 91 (dk_at dksX0_entry_0 20 rfl rfl)
theorem dX0_entry_23 : decode cX0_entry 23 = .ok (.getfield 109, 3) := dk_180 0 109 (dk_at dksX0_entry_1 0 rfl rfl)
theorem dX0_entry_26 : decode cX0_entry 26 = .ok (.iload_n 1, 1) := dk_27 (dk_at dksX0_entry_1 3 rfl rfl)
theorem dX0_entry_27 : decode cX0_entry 27 = .ok (.aaload, 1) := dk_50 (dk_at dksX0_entry_1 4 rfl rfl)
theorem dX0_entry_28 : decode cX0_entry 28 = .ok (.astore 4, 2) := dk_58 4 (dk_at dksX0_entry_1 5 rfl rfl)
theorem dX0_entry_30 : decode cX0_entry 30 = .ok (.iload_n 2, 1) := dk_28 (dk_at dksX0_entry_1 7 rfl rfl)
theorem dX0_entry_31 : decode cX0_entry 31 = .ok (.iconst 0, 1) := dk_3 (dk_at dksX0_entry_1 8 rfl rfl)
theorem dX0_entry_32 : decode cX0_entry 32 = .ok (.sipush 200, 3) := dk_17 0 200 (dk_at dksX0_entry_1 9 rfl rfl)
theorem dX0_entry_35 : decode cX0_entry 35 = .ok (.aload 4, 2) := dk_25 4 (dk_at dksX0_entry_1 12 rfl rfl)
theorem dX0_entry_37 : decode cX0_entry 37 = .ok (.getfield 182, 3) := dk_180 0 182 (dk_at dksX0_entry_1 14 rfl rfl)
theorem dX0_entry_40 : decode cX0_entry 40 = .ok (.invokestatic 185, 3) := dk_184 0 185 (dk_at dksX0_entry_1 17 rfl rfl)
theorem dX0_entry_43 : decode cX0_entry 43 = .ok (.iconst 1, 1) := dk_4 (dk_at dksX0_entry_1 20 rfl rfl)
theorem dX0_entry_44 : decode cX0_entry 44 = .ok (.isub, 1) := dk_100 (dk_at dksX0_entry_1 21 rfl rfl)
theorem dX0_entry_45 : decode cX0_entry 45 = .ok (.invokestatic 5, 3) := dk_184 0 5 (dk_at dksX0_entry_2 0 rfl rfl)
theorem dX0_entry_48 : decode cX0_entry 48 = .ok (.ifCond .eq 17, 3) := dk_153 0 17 (dk_at dksX0_entry_2 3 rfl rfl)
theorem dX0_entry_51 : decode cX0_entry 51 = .ok (.aload 4, 2) := dk_25 4 (dk_at dksX0_entry_2 6 rfl rfl)
theorem dX0_entry_53 : decode cX0_entry 53 = .ok (.getfield 191, 3) := dk_180 0 191 (dk_at dksX0_entry_2 8 rfl rfl)
theorem dX0_entry_56 : decode cX0_entry 56 = .ok (.iconst 3, 1) := dk_6 (dk_at dksX0_entry_2 11 rfl rfl)
theorem dX0_entry_57 : decode cX0_entry 57 = .ok (.iload_n 2, 1) := dk_28 (dk_at dksX0_entry_2 12 rfl rfl)
theorem dX0_entry_58 : decode cX0_entry 58 = .ok (.imul, 1) := dk_104 (dk_at dksX0_entry_2 13 rfl rfl)
theorem dX0_entry_59 : decode cX0_entry 59 = .ok (.iload_n 3, 1) := dk_29 (dk_at dksX0_entry_2 14 rfl rfl)
theorem dX0_entry_60 : decode cX0_entry 60 = .ok (.iadd, 1) := dk_96 (dk_at dksX0_entry_2 15 rfl rfl)
theorem dX0_entry_61 : decode cX0_entry 61 = .ok (.iaload, 1) := dk_46 (dk_at dksX0_entry_2 16 rfl rfl)
theorem dX0_entry_62 : decode cX0_entry 62 = .ok (.goto 4, 3) := dk_167 0 4 (dk_at dksX0_entry_2 17 rfl rfl)
theorem dX0_entry_65 : decode cX0_entry 65 = .ok (.iconst (-1), 1) := dk_2 (dk_at dksX0_entry_2 20 rfl rfl)
theorem dX0_entry_66 : decode cX0_entry 66 = .ok (.ireturn, 1) := dk_172 (dk_at dksX0_entry_2 21 rfl rfl)
theorem fl_X0_191_16 : gFL RX0 191 16 7 := gFL.mkN (Cn := RX16) (T := TX16) (N := 16) (ref := "WorkflowEngine$Instance") rfl in_X16 (by decide) nq824 rfl rfl (Or.inl rfl)
def f_X0_entry (a0 : Nat) (p1 : Int32) (p2 : Int32) (p3 : Int32) (w0 : gw) : Option (Int32 × gw) := gB1 (gOb w0 a0 0) fun _ => gB2 (f_X0_isInstance a0 p1 w0) fun x2 w1 => if x2 = 0 then some ((-1), w1) else gB2 (f_X0_in p3 (nI 0) (nI 2) w1) fun x5 w4 => if x5 = 0 then some ((-1), w4) else gB1 (gR w4 a0 0 5) fun r7 => gB1 r7 fun a8 => gB1 (gR w4 a8 1 2) fun r9 => gB1 r9 fun a10 => gB1 (gLdR w4 a10 4 p1) fun r11 => gB1 r11 fun a12 => gB1 (gI w4 a12 16 8) fun x13 => gB2 (f_J6_min (nI 200) x13 w4) fun x15 w14 => gB2 (f_X0_in p2 (nI 0) (x15 - (nI 1)) w14) fun x17 w16 => if x17 = 0 then some ((-1), w16) else gB1 (gR w16 a12 16 7) fun r19 => gB1 r19 fun a20 => gB1 (gLdI w16 a20 0 (((nI 3) * p2) + p3)) fun x21 => some (x21, w16)
set_option maxHeartbeats 4000000 in
set_option maxRecDepth 100000 in
theorem k_X0_entry {D : va_G} {dA : Nat → ClassId} {A : Nat → Prop} {K : Nat → Nat} {l : Launch} {h : Nat} (hh : 2 ≤ h) {a0 : Nat} {p1 : Int32} {p2 : Int32} {p3 : Int32} {w0 ww : gw} {rr : Int32} (hf : f_X0_entry a0 p1 p2 p3 w0 = some (rr, ww)) : gMet D dA A K l yX0_entry (ws_ yX0_entry cX0_entry 5 (some .int)) h [(ga (some a0)), (gi p1), (gi p2), (gi p3)] (some (gi rr)) w0 ww := by
  refine j_start (own := RX0) (by decide +kernel) rfl (Nat.le_of_ble_eq_true rfl) ?_
  intro p e R s m args below meth c C hr hin hw
  unfold f_X0_entry at hf
  show gJ D dA A K p l e R s m args below meth c (gEnd D dA A K below args s w0 (some (gi rr)) ww) 5 0 [(0, (ga (some a0))), (1, (gi p1)), (2, (gi p2)), (3, (gi p3))] [] w0
  refine j_aload_n C dX0_entry_0 rfl ?_
  refine j_iload_n C dX0_entry_1 rfl ?_
  replace hf := gB1_e hf
  obtain ⟨_, eo, hf⟩ := hf
  replace hf := gB2_e hf
  obtain ⟨x2, w1, ew1, hf⟩ := hf
  refine j_callV (As := [(gi p1)]) (rest := []) (v := (some (gi x2))) C (by omega) (k_X0_isInstance (by omega) ew1) (gOb_e eo) rfl q1301 q1303 qs29 q91 q1304 ⟨rfl, hd_X0_isInstance⟩ (by decide) rfl (Nat.le_of_ble_eq_true rfl) dX0_entry_2 ?_
  refine j_if_eq (tgt := 17) C dX0_entry_5 (by decide) (fun c3 => ?_) (fun c3 => ?_)
  · replace hf := gIf_t hf c3
    refine j_iconst (v := (-1)) C dX0_entry_17 (by decide) ?_
    obtain ⟨rfl, rfl⟩ := gSome hf
    exact j_iret C hr hw dX0_entry_18
  · replace hf := gIf_f hf c3
    refine j_iload_n C dX0_entry_8 rfl ?_
    refine j_iconst (v := (nI 0)) C dX0_entry_9 (by decide) ?_
    refine j_iconst (v := (nI 2)) C dX0_entry_10 (by decide) ?_
    replace hf := gB2_e hf
    obtain ⟨x5, w4, ew4, hf⟩ := hf
    refine j_callS (As := [(gi p3), (gi (nI 0)), (gi (nI 2))]) (rest := []) (v := (some (gi x5))) C (by omega) (k_X0_in (by omega) ew4) q138 q139 q91 q140 hd_X0_in (by decide) rfl (Nat.le_of_ble_eq_true rfl) dX0_entry_11 ?_
    refine j_if_ne (tgt := 19) C dX0_entry_14 (by decide) (fun c6 => ?_) (fun c6 => ?_)
    · replace hf := gIf_f hf c6
      refine j_aload_n C dX0_entry_19 rfl ?_
      replace hf := gB1_e hf
      obtain ⟨r7, er7, hf⟩ := hf
      refine j_get C fl_X0_91_0 dX0_entry_20 (gR_F er7) ?_
      replace hf := gB1_e hf
      obtain ⟨a8, ea8, hf⟩ := hf
      subst ea8
      replace hf := gB1_e hf
      obtain ⟨r9, er9, hf⟩ := hf
      refine j_get C fl_X0_109_1 dX0_entry_23 (gR_F er9) ?_
      refine j_iload_n C dX0_entry_26 rfl ?_
      replace hf := gB1_e hf
      obtain ⟨a10, ea10, hf⟩ := hf
      subst ea10
      replace hf := gB1_e hf
      obtain ⟨r11, er11, hf⟩ := hf
      refine j_aald C (t := 4) rfl er11 dX0_entry_27 ?_
      refine j_astore (lv' := [(4, (ga r11)), (0, (ga (some a0))), (1, (gi p1)), (2, (gi p2)), (3, (gi p3))]) C dX0_entry_28 (by decide) rfl ?_
      refine j_iload_n C dX0_entry_30 rfl ?_
      refine j_iconst (v := (nI 0)) C dX0_entry_31 (by decide) ?_
      refine j_sipush (v := (nI 200)) C dX0_entry_32 (by decide) ?_
      refine j_aload C dX0_entry_35 rfl ?_
      replace hf := gB1_e hf
      obtain ⟨a12, ea12, hf⟩ := hf
      subst ea12
      replace hf := gB1_e hf
      obtain ⟨x13, ex13, hf⟩ := hf
      refine j_get C fl_X0_182_16 dX0_entry_37 (gI_F ex13) ?_
      replace hf := gB2_e hf
      obtain ⟨x15, w14, ew14, hf⟩ := hf
      refine j_callS (As := [(gi (nI 200)), (gi x13)]) (rest := [(gi (nI 0)), (gi p2)]) (v := (some (gi x15))) C (by omega) (k_J6_min (by omega) ew14) q1337 q552 q111 q553 hd_J6_min (by decide) rfl (Nat.le_of_ble_eq_true rfl) dX0_entry_40 ?_
      refine j_iconst (v := (nI 1)) C dX0_entry_43 (by decide) ?_
      refine j_isub C dX0_entry_44 ?_
      replace hf := gB2_e hf
      obtain ⟨x17, w16, ew16, hf⟩ := hf
      refine j_callS (As := [(gi p2), (gi (nI 0)), (gi (x15 - (nI 1)))]) (rest := []) (v := (some (gi x17))) C (by omega) (k_X0_in (by omega) ew16) q138 q139 q91 q140 hd_X0_in (by decide) rfl (Nat.le_of_ble_eq_true rfl) dX0_entry_45 ?_
      refine j_if_eq (tgt := 65) C dX0_entry_48 (by decide) (fun c18 => ?_) (fun c18 => ?_)
      · replace hf := gIf_t hf c18
        refine j_iconst (v := (-1)) C dX0_entry_65 (by decide) ?_
        obtain ⟨rfl, rfl⟩ := gSome hf
        exact j_iret C hr hw dX0_entry_66
      · replace hf := gIf_f hf c18
        refine j_aload C dX0_entry_51 rfl ?_
        replace hf := gB1_e hf
        obtain ⟨r19, er19, hf⟩ := hf
        refine j_get C fl_X0_191_16 dX0_entry_53 (gR_F er19) ?_
        refine j_iconst (v := (nI 3)) C dX0_entry_56 (by decide) ?_
        refine j_iload_n C dX0_entry_57 rfl ?_
        refine j_imul C dX0_entry_58 ?_
        refine j_iload_n C dX0_entry_59 rfl ?_
        refine j_iadd C dX0_entry_60 ?_
        replace hf := gB1_e hf
        obtain ⟨a20, ea20, hf⟩ := hf
        subst ea20
        replace hf := gB1_e hf
        obtain ⟨x21, ex21, hf⟩ := hf
        refine j_iald C ex21 dX0_entry_61 ?_
        refine j_goto (tgt := 66) C dX0_entry_62 (by decide) ?_
        obtain ⟨rfl, rfl⟩ := gSome hf
        exact j_iret C hr hw dX0_entry_66
    · replace hf := gIf_t hf c6
      refine j_iconst (v := (-1)) C dX0_entry_17 (by decide) ?_
      obtain ⟨rfl, rfl⟩ := gSome hf
      exact j_iret C hr hw dX0_entry_18
def dkwX0_isOf_1 : List UInt8 := [28, 160, 0, 7, 4, 167, 0, 4, 3, 172]
abbrev dktX0_isOf_1 : List UInt8 := dkwX0_isOf_1 ++ []
def dkwX0_isOf_0 : List UInt8 := [42, 180, 0, 91, 180, 0, 109, 27, 50, 198, 0, 23, 42, 180, 0, 91, 180, 0, 109, 27, 50, 180, 0, 155]
abbrev dktX0_isOf_0 : List UInt8 := dkwX0_isOf_0 ++ dktX0_isOf_1
theorem dksX0_isOf_0 : cX0_isOf.data.toList.drop 0 = dktX0_isOf_0 := by decide +kernel
theorem dksX0_isOf_1 : cX0_isOf.data.toList.drop 24 = dktX0_isOf_1 := dk_seg dksX0_isOf_0 24 rfl rfl
theorem dX0_isOf_0 : decode cX0_isOf 0 = .ok (.aload_n 0, 1) := dk_42 (dk_at dksX0_isOf_0 0 rfl rfl)
theorem dX0_isOf_1 : decode cX0_isOf 1 = .ok (.getfield 91, 3) := dk_180 0 91 (dk_at dksX0_isOf_0 1 rfl rfl)
theorem dX0_isOf_4 : decode cX0_isOf 4 = .ok (.getfield 109, 3) := dk_180 0 109 (dk_at dksX0_isOf_0 4 rfl rfl)
theorem dX0_isOf_7 : decode cX0_isOf 7 = .ok (.iload_n 1, 1) := dk_27 (dk_at dksX0_isOf_0 7 rfl rfl)
theorem dX0_isOf_8 : decode cX0_isOf 8 = .ok (.aaload, 1) := dk_50 (dk_at dksX0_isOf_0 8 rfl rfl)
theorem dX0_isOf_9 : decode cX0_isOf 9 = .ok (.ifnull 23, 3) := dk_198 0 23 (dk_at dksX0_isOf_0 9 rfl rfl)
theorem dX0_isOf_12 : decode cX0_isOf 12 = .ok (.aload_n 0, 1) := dk_42 (dk_at dksX0_isOf_0 12 rfl rfl)
theorem dX0_isOf_13 : decode cX0_isOf 13 = .ok (.getfield 91, 3) := dk_180 0 91 (dk_at dksX0_isOf_0 13 rfl rfl)
theorem dX0_isOf_16 : decode cX0_isOf 16 = .ok (.getfield 109, 3) := dk_180 0 109 (dk_at dksX0_isOf_0 16 rfl rfl)
theorem dX0_isOf_19 : decode cX0_isOf 19 = .ok (.iload_n 1, 1) := dk_27 (dk_at dksX0_isOf_0 19 rfl rfl)
theorem dX0_isOf_20 : decode cX0_isOf 20 = .ok (.aaload, 1) := dk_50 (dk_at dksX0_isOf_0 20 rfl rfl)
theorem dX0_isOf_21 : decode cX0_isOf 21 = .ok (.getfield 155, 3) := dk_180 0 155 (dk_at dksX0_isOf_0 21 rfl rfl)
theorem dX0_isOf_24 : decode cX0_isOf 24 = .ok (.iload_n 2, 1) := dk_28 (dk_at dksX0_isOf_1 0 rfl rfl)
theorem dX0_isOf_25 : decode cX0_isOf 25 = .ok (.if_icmp .ne 7, 3) := dk_160 0 7 (dk_at dksX0_isOf_1 1 rfl rfl)
theorem dX0_isOf_28 : decode cX0_isOf 28 = .ok (.iconst 1, 1) := dk_4 (dk_at dksX0_isOf_1 4 rfl rfl)
theorem dX0_isOf_29 : decode cX0_isOf 29 = .ok (.goto 4, 3) := dk_167 0 4 (dk_at dksX0_isOf_1 5 rfl rfl)
theorem dX0_isOf_32 : decode cX0_isOf 32 = .ok (.iconst 0, 1) := dk_3 (dk_at dksX0_isOf_1 8 rfl rfl)
theorem dX0_isOf_33 : decode cX0_isOf 33 = .ok (.ireturn, 1) := dk_172 (dk_at dksX0_isOf_1 9 rfl rfl)
def f_X0_isOf (a0 : Nat) (p1 : Int32) (p2 : Int32) (w0 : gw) : Option (Int32 × gw) := gB1 (gR w0 a0 0 5) fun r1 => gB1 r1 fun a2 => gB1 (gR w0 a2 1 2) fun r3 => gB1 r3 fun a4 => gB1 (gLdR w0 a4 4 p1) fun r5 => gBd (fun (w7 : gw) => some ((nI 0), w7)) fun k6 => gNl r5 (k6 w0) (fun a9 => gB1 (gR w0 a0 0 5) fun r10 => gB1 r10 fun a11 => gB1 (gR w0 a11 1 2) fun r12 => gB1 r12 fun a13 => gB1 (gLdR w0 a13 4 p1) fun r14 => gB1 r14 fun a15 => gB1 (gI w0 a15 16 1) fun x16 => if x16 = p2 then some ((nI 1), w0) else k6 w0)
set_option maxHeartbeats 4000000 in
set_option maxRecDepth 100000 in
theorem k_X0_isOf {D : va_G} {dA : Nat → ClassId} {A : Nat → Prop} {K : Nat → Nat} {l : Launch} {h : Nat} (hh : 0 ≤ h) {a0 : Nat} {p1 : Int32} {p2 : Int32} {w0 ww : gw} {rr : Int32} (hf : f_X0_isOf a0 p1 p2 w0 = some (rr, ww)) : gMet D dA A K l yX0_isOf (ws_ yX0_isOf cX0_isOf 3 (some .boolean)) h [(ga (some a0)), (gi p1), (gi p2)] (some (gi rr)) w0 ww := by
  refine j_start (own := RX0) (by decide +kernel) rfl (Nat.le_of_ble_eq_true rfl) ?_
  intro p e R s m args below meth c C hr hin hw
  unfold f_X0_isOf at hf
  show gJ D dA A K p l e R s m args below meth c (gEnd D dA A K below args s w0 (some (gi rr)) ww) 3 0 [(0, (ga (some a0))), (1, (gi p1)), (2, (gi p2))] [] w0
  refine j_aload_n C dX0_isOf_0 rfl ?_
  replace hf := gB1_e hf
  obtain ⟨r1, er1, hf⟩ := hf
  refine j_get C fl_X0_91_0 dX0_isOf_1 (gR_F er1) ?_
  replace hf := gB1_e hf
  obtain ⟨a2, ea2, hf⟩ := hf
  subst ea2
  replace hf := gB1_e hf
  obtain ⟨r3, er3, hf⟩ := hf
  refine j_get C fl_X0_109_1 dX0_isOf_4 (gR_F er3) ?_
  refine j_iload_n C dX0_isOf_7 rfl ?_
  replace hf := gB1_e hf
  obtain ⟨a4, ea4, hf⟩ := hf
  subst ea4
  replace hf := gB1_e hf
  obtain ⟨r5, er5, hf⟩ := hf
  refine j_aald C (t := 4) rfl er5 dX0_isOf_8 ?_
  replace hf := gBd_x hf
  obtain ⟨k6, ek6, hf⟩ := hf
  have jk6 : ∀ (w7 : gw), k6 w7 = some (rr, ww) → gJ D dA A K p l e R s m args below meth c (gEnd D dA A K below args s w0 (some (gi rr)) ww) 3 32 [] [] w7 := by
    intro w7 hf
    rw [ek6] at hf
    dsimp only at hf
    refine j_iconst (v := (nI 0)) C dX0_isOf_32 (by decide) ?_
    obtain ⟨rfl, rfl⟩ := gSome hf
    exact j_zret C hr (by decide) hw dX0_isOf_33
  clear ek6
  refine j_ifnull (tgt := 32) C dX0_isOf_9 (by decide) (fun c8 => ?_) (fun a9 c8 => ?_)
  · subst c8
    replace hf := gNl_n hf
    refine j_sub (lv' := []) (gL_nil) ?_
    exact jk6 _ hf
  · subst c8
    replace hf := gNl_s hf
    refine j_aload_n C dX0_isOf_12 rfl ?_
    replace hf := gB1_e hf
    obtain ⟨r10, er10, hf⟩ := hf
    refine j_get C fl_X0_91_0 dX0_isOf_13 (gR_F er10) ?_
    replace hf := gB1_e hf
    obtain ⟨a11, ea11, hf⟩ := hf
    subst ea11
    replace hf := gB1_e hf
    obtain ⟨r12, er12, hf⟩ := hf
    refine j_get C fl_X0_109_1 dX0_isOf_16 (gR_F er12) ?_
    refine j_iload_n C dX0_isOf_19 rfl ?_
    replace hf := gB1_e hf
    obtain ⟨a13, ea13, hf⟩ := hf
    subst ea13
    replace hf := gB1_e hf
    obtain ⟨r14, er14, hf⟩ := hf
    refine j_aald C (t := 4) rfl er14 dX0_isOf_20 ?_
    replace hf := gB1_e hf
    obtain ⟨a15, ea15, hf⟩ := hf
    subst ea15
    replace hf := gB1_e hf
    obtain ⟨x16, ex16, hf⟩ := hf
    refine j_get C fl_X0_155_16 dX0_isOf_21 (gI_F ex16) ?_
    refine j_iload_n C dX0_isOf_24 rfl ?_
    refine j_icmp_ne (tgt := 32) C dX0_isOf_25 (by decide) (fun c17 => ?_) (fun c17 => ?_)
    · replace hf := gIf_f hf c17
      refine j_sub (lv' := []) (gL_nil) ?_
      exact jk6 _ hf
    · replace hf := gIf_t hf c17
      refine j_iconst (v := (nI 1)) C dX0_isOf_28 (by decide) ?_
      refine j_goto (tgt := 33) C dX0_isOf_29 (by decide) ?_
      obtain ⟨rfl, rfl⟩ := gSome hf
      exact j_zret C hr (by decide) hw dX0_isOf_33
def dkwX0_allVersions_1 : List UInt8 := [54, 5, 27, 21, 5, 96, 60, 132, 4, 1, 167, 255, 236, 27, 172]
abbrev dktX0_allVersions_1 : List UInt8 := dkwX0_allVersions_1 ++ []
def dkwX0_allVersions_0 : List UInt8 := [3, 60, 42, 180, 0, 40, 77, 44, 190, 62, 3, 54, 4, 21, 4, 29, 162, 0, 20, 44, 21, 4, 46]
abbrev dktX0_allVersions_0 : List UInt8 := dkwX0_allVersions_0 ++ dktX0_allVersions_1
theorem dksX0_allVersions_0 : cX0_allVersions.data.toList.drop 0 = dktX0_allVersions_0 := by decide +kernel
theorem dksX0_allVersions_1 : cX0_allVersions.data.toList.drop 23 = dktX0_allVersions_1 := dk_seg dksX0_allVersions_0 23 rfl rfl
theorem dX0_allVersions_0 : decode cX0_allVersions 0 = .ok (.iconst 0, 1) := dk_3 (dk_at dksX0_allVersions_0 0 rfl rfl)
theorem dX0_allVersions_1 : decode cX0_allVersions 1 = .ok (.istore_n 1, 1) := dk_60 (dk_at dksX0_allVersions_0 1 rfl rfl)
theorem dX0_allVersions_2 : decode cX0_allVersions 2 = .ok (.aload_n 0, 1) := dk_42 (dk_at dksX0_allVersions_0 2 rfl rfl)
theorem dX0_allVersions_3 : decode cX0_allVersions 3 = .ok (.getfield 40, 3) := dk_180 0 40 (dk_at dksX0_allVersions_0 3 rfl rfl)
theorem dX0_allVersions_6 : decode cX0_allVersions 6 = .ok (.astore_n 2, 1) := dk_77 (dk_at dksX0_allVersions_0 6 rfl rfl)
theorem dX0_allVersions_7 : decode cX0_allVersions 7 = .ok (.aload_n 2, 1) := dk_44 (dk_at dksX0_allVersions_0 7 rfl rfl)
theorem dX0_allVersions_8 : decode cX0_allVersions 8 = .ok (.arraylength, 1) := dk_190 (dk_at dksX0_allVersions_0 8 rfl rfl)
theorem dX0_allVersions_9 : decode cX0_allVersions 9 = .ok (.istore_n 3, 1) := dk_62 (dk_at dksX0_allVersions_0 9 rfl rfl)
theorem dX0_allVersions_10 : decode cX0_allVersions 10 = .ok (.iconst 0, 1) := dk_3 (dk_at dksX0_allVersions_0 10 rfl rfl)
theorem dX0_allVersions_11 : decode cX0_allVersions 11 = .ok (.istore 4, 2) := dk_54 4 (dk_at dksX0_allVersions_0 11 rfl rfl)
theorem dX0_allVersions_13 : decode cX0_allVersions 13 = .ok (.iload 4, 2) := dk_21 4 (dk_at dksX0_allVersions_0 13 rfl rfl)
theorem dX0_allVersions_15 : decode cX0_allVersions 15 = .ok (.iload_n 3, 1) := dk_29 (dk_at dksX0_allVersions_0 15 rfl rfl)
theorem dX0_allVersions_16 : decode cX0_allVersions 16 = .ok (.if_icmp .ge 20, 3) := dk_162 0 20 (dk_at dksX0_allVersions_0 16 rfl rfl)
theorem dX0_allVersions_19 : decode cX0_allVersions 19 = .ok (.aload_n 2, 1) := dk_44 (dk_at dksX0_allVersions_0 19 rfl rfl)
theorem dX0_allVersions_20 : decode cX0_allVersions 20 = .ok (.iload 4, 2) := dk_21 4 (dk_at dksX0_allVersions_0 20 rfl rfl)
theorem dX0_allVersions_22 : decode cX0_allVersions 22 = .ok (.iaload, 1) := dk_46 (dk_at dksX0_allVersions_0 22 rfl rfl)
theorem dX0_allVersions_23 : decode cX0_allVersions 23 = .ok (.istore 5, 2) := dk_54 5 (dk_at dksX0_allVersions_1 0 rfl rfl)
theorem dX0_allVersions_25 : decode cX0_allVersions 25 = .ok (.iload_n 1, 1) := dk_27 (dk_at dksX0_allVersions_1 2 rfl rfl)
theorem dX0_allVersions_26 : decode cX0_allVersions 26 = .ok (.iload 5, 2) := dk_21 5 (dk_at dksX0_allVersions_1 3 rfl rfl)
theorem dX0_allVersions_28 : decode cX0_allVersions 28 = .ok (.iadd, 1) := dk_96 (dk_at dksX0_allVersions_1 5 rfl rfl)
theorem dX0_allVersions_29 : decode cX0_allVersions 29 = .ok (.istore_n 1, 1) := dk_60 (dk_at dksX0_allVersions_1 6 rfl rfl)
theorem dX0_allVersions_30 : decode cX0_allVersions 30 = .ok (.iinc 4 1, 3) := dk_132 4 1 (dk_at dksX0_allVersions_1 7 rfl rfl)
theorem dX0_allVersions_33 : decode cX0_allVersions 33 = .ok (.goto (-20), 3) := dk_167 255 236 (dk_at dksX0_allVersions_1 10 rfl rfl)
theorem dX0_allVersions_36 : decode cX0_allVersions 36 = .ok (.iload_n 1, 1) := dk_27 (dk_at dksX0_allVersions_1 13 rfl rfl)
theorem dX0_allVersions_37 : decode cX0_allVersions 37 = .ok (.ireturn, 1) := dk_172 (dk_at dksX0_allVersions_1 14 rfl rfl)
theorem fl_X0_40_0 : gFL RX0 40 0 4 := gFL.mk (Cn := RX0) (T := TX0) (N := 7) (ref := "WorkflowEngine") rfl in_X0 (by decide) q771 rfl rfl (Or.inl rfl)
def f_X0_allVersions (a0 : Nat) (w0 : gw) : Option (Int32 × gw) := gB1 (gR w0 a0 0 4) fun r1 => gB1 r1 fun a2 => gB1 (gLen w0 a2 0) fun x3 => gL4 (fun k9 (x5 : Int32) (r6 : Option Nat) (x7 : Int32) (x8 : Int32) (w4 : gw) => if x7 ≤ x8 then some (x5, w4) else gB1 r6 fun a11 => gB1 (gLdI w4 a11 0 x8) fun x12 => gBd (x5 + x12) fun x13 => gBd (x8 + (nI 1)) fun x14 => k9 x13 (some a11) x7 x14 w4) 20000 (nI 0) (some a2) x3 (nI 0) w0
set_option maxHeartbeats 4000000 in
set_option maxRecDepth 100000 in
theorem k_X0_allVersions {D : va_G} {dA : Nat → ClassId} {A : Nat → Prop} {K : Nat → Nat} {l : Launch} {h : Nat} (hh : 0 ≤ h) {a0 : Nat} {w0 ww : gw} {rr : Int32} (hf : f_X0_allVersions a0 w0 = some (rr, ww)) : gMet D dA A K l yX0_allVersions (ws_ yX0_allVersions cX0_allVersions 6 (some .int)) h [(ga (some a0))] (some (gi rr)) w0 ww := by
  refine j_start (own := RX0) (by decide +kernel) rfl (Nat.le_of_ble_eq_true rfl) ?_
  intro p e R s m args below meth c C hr hin hw
  unfold f_X0_allVersions at hf
  show gJ D dA A K p l e R s m args below meth c (gEnd D dA A K below args s w0 (some (gi rr)) ww) 6 0 [(0, (ga (some a0)))] [] w0
  refine j_iconst (v := (nI 0)) C dX0_allVersions_0 (by decide) ?_
  refine j_istore_n (lv' := [(1, (gi (nI 0))), (0, (ga (some a0)))]) C dX0_allVersions_1 (by decide) rfl ?_
  refine j_aload_n C dX0_allVersions_2 rfl ?_
  replace hf := gB1_e hf
  obtain ⟨r1, er1, hf⟩ := hf
  refine j_get C fl_X0_40_0 dX0_allVersions_3 (gR_F er1) ?_
  refine j_astore_n (lv' := [(2, (ga r1)), (1, (gi (nI 0))), (0, (ga (some a0)))]) C dX0_allVersions_6 (by decide) rfl ?_
  refine j_aload_n C dX0_allVersions_7 rfl ?_
  replace hf := gB1_e hf
  obtain ⟨a2, ea2, hf⟩ := hf
  subst ea2
  replace hf := gB1_e hf
  obtain ⟨x3, ex3, hf⟩ := hf
  refine j_alen C (t := 0) rfl ex3 dX0_allVersions_8 ?_
  refine j_istore_n (lv' := [(3, (gi x3)), (2, (ga (some a2))), (1, (gi (nI 0))), (0, (ga (some a0)))]) C dX0_allVersions_9 (by decide) rfl ?_
  refine j_iconst (v := (nI 0)) C dX0_allVersions_10 (by decide) ?_
  refine j_istore (lv' := [(4, (gi (nI 0))), (3, (gi x3)), (2, (ga (some a2))), (1, (gi (nI 0))), (0, (ga (some a0)))]) C dX0_allVersions_11 (by decide) rfl ?_
  refine j_sub (lv' := [(1, (gi (nI 0))), (2, (ga (some a2))), (3, (gi x3)), (4, (gi (nI 0)))]) (gL_cons rfl (gL_cons rfl (gL_cons rfl (gL_cons rfl (gL_nil))))) ?_
  refine gL4_e (fun (x5 : Int32) (r6 : Option Nat) (x7 : Int32) (x8 : Int32) (w4 : gw) => gJ D dA A K p l e R s m args below meth c (gEnd D dA A K below args s w0 (some (gi rr)) ww) 6 13 [(1, (gi x5)), (2, (ga r6)), (3, (gi x7)), (4, (gi x8))] [] w4) ?_ _ _ _ _ _ _ hf
  intro k9 jk9 x5 r6 x7 x8 w4 hf
  refine j_iload C dX0_allVersions_13 rfl ?_
  refine j_iload_n C dX0_allVersions_15 rfl ?_
  refine j_icmp_ge (tgt := 36) C dX0_allVersions_16 (by decide) (fun c10 => ?_) (fun c10 => ?_)
  · replace hf := gIf_t hf c10
    refine j_iload_n C dX0_allVersions_36 rfl ?_
    obtain ⟨rfl, rfl⟩ := gSome hf
    exact j_iret C hr hw dX0_allVersions_37
  · replace hf := gIf_f hf c10
    refine j_aload_n C dX0_allVersions_19 rfl ?_
    refine j_iload C dX0_allVersions_20 rfl ?_
    replace hf := gB1_e hf
    obtain ⟨a11, ea11, hf⟩ := hf
    subst ea11
    replace hf := gB1_e hf
    obtain ⟨x12, ex12, hf⟩ := hf
    refine j_iald C ex12 dX0_allVersions_22 ?_
    refine j_istore (lv' := [(5, (gi x12)), (1, (gi x5)), (2, (ga (some a11))), (3, (gi x7)), (4, (gi x8))]) C dX0_allVersions_23 (by decide) rfl ?_
    refine j_iload_n C dX0_allVersions_25 rfl ?_
    refine j_iload C dX0_allVersions_26 rfl ?_
    refine j_iadd C dX0_allVersions_28 ?_
    replace hf := gBd_x hf
    obtain ⟨x13, ex13, hf⟩ := hf
    refine j_nm ex13 ?_
    refine j_istore_n (lv' := [(1, (gi x13)), (5, (gi x12)), (2, (ga (some a11))), (3, (gi x7)), (4, (gi x8))]) C dX0_allVersions_29 (by decide) rfl ?_
    replace hf := gBd_x hf
    obtain ⟨x14, ex14, hf⟩ := hf
    refine j_iinc (v := x14) (lv' := [(4, (gi x14)), (1, (gi x13)), (5, (gi x12)), (2, (ga (some a11))), (3, (gi x7))]) C dX0_allVersions_30 rfl (by rw [ex14]; rfl) (by decide) rfl ?_
    refine j_goto (tgt := 13) C dX0_allVersions_33 (by decide) ?_
    refine j_sub (lv' := [(1, (gi x13)), (2, (ga (some a11))), (3, (gi x7)), (4, (gi x14))]) (gL_cons rfl (gL_cons rfl (gL_cons rfl (gL_cons rfl (gL_nil))))) ?_
    exact jk9 _ _ _ _ _ hf
def dkwX1_init_1 : List UInt8 := [181, 0, 19, 42, 16, 6, 189, 0, 22, 181, 0, 24, 177]
abbrev dktX1_init_1 : List UInt8 := dkwX1_init_1 ++ []
def dkwX1_init_0 : List UInt8 := [42, 43, 181, 0, 3, 42, 183, 0, 9, 42, 16, 8, 188, 10, 181, 0, 15, 42, 16, 8, 188, 10]
abbrev dktX1_init_0 : List UInt8 := dkwX1_init_0 ++ dktX1_init_1
theorem dksX1_init_0 : cX1_init.data.toList.drop 0 = dktX1_init_0 := by decide +kernel
theorem dksX1_init_1 : cX1_init.data.toList.drop 22 = dktX1_init_1 := dk_seg dksX1_init_0 22 rfl rfl
theorem dX1_init_0 : decode cX1_init 0 = .ok (.aload_n 0, 1) := dk_42 (dk_at dksX1_init_0 0 rfl rfl)
theorem dX1_init_1 : decode cX1_init 1 = .ok (.aload_n 1, 1) := dk_43 (dk_at dksX1_init_0 1 rfl rfl)
theorem dX1_init_2 : decode cX1_init 2 = .ok (.putfield 3, 3) := dk_181 0 3 (dk_at dksX1_init_0 2 rfl rfl)
theorem dX1_init_5 : decode cX1_init 5 = .ok (.aload_n 0, 1) := dk_42 (dk_at dksX1_init_0 5 rfl rfl)
theorem dX1_init_6 : decode cX1_init 6 = .ok (.invokespecial 9, 3) := dk_183 0 9 (dk_at dksX1_init_0 6 rfl rfl)
theorem dX1_init_9 : decode cX1_init 9 = .ok (.aload_n 0, 1) := dk_42 (dk_at dksX1_init_0 9 rfl rfl)
theorem dX1_init_10 : decode cX1_init 10 = .ok (.bipush 8, 2) := dk_16 8 (dk_at dksX1_init_0 10 rfl rfl)
theorem dX1_init_12 : decode cX1_init 12 = .ok (.newarray .int, 2) := dk_188_10 (dk_at dksX1_init_0 12 rfl rfl)
theorem dX1_init_14 : decode cX1_init 14 = .ok (.putfield 15, 3) := dk_181 0 15 (dk_at dksX1_init_0 14 rfl rfl)
theorem dX1_init_17 : decode cX1_init 17 = .ok (.aload_n 0, 1) := dk_42 (dk_at dksX1_init_0 17 rfl rfl)
theorem dX1_init_18 : decode cX1_init 18 = .ok (.bipush 8, 2) := dk_16 8 (dk_at dksX1_init_0 18 rfl rfl)
theorem dX1_init_20 : decode cX1_init 20 = .ok (.newarray .int, 2) := dk_188_10 (dk_at dksX1_init_0 20 rfl rfl)
theorem dX1_init_22 : decode cX1_init 22 = .ok (.putfield 19, 3) := dk_181 0 19 (dk_at dksX1_init_1 0 rfl rfl)
theorem dX1_init_25 : decode cX1_init 25 = .ok (.aload_n 0, 1) := dk_42 (dk_at dksX1_init_1 3 rfl rfl)
theorem dX1_init_26 : decode cX1_init 26 = .ok (.bipush 6, 2) := dk_16 6 (dk_at dksX1_init_1 4 rfl rfl)
theorem dX1_init_28 : decode cX1_init 28 = .ok (.anewarray 22, 3) := dk_189 0 22 (dk_at dksX1_init_1 6 rfl rfl)
theorem dX1_init_31 : decode cX1_init 31 = .ok (.putfield 24, 3) := dk_181 0 24 (dk_at dksX1_init_1 9 rfl rfl)
theorem dX1_init_34 : decode cX1_init 34 = .ok (.return_, 1) := dk_177 (dk_at dksX1_init_1 12 rfl rfl)
theorem fl_X1_3_1 : gFL RX1 3 1 4 := gFL.mk (Cn := RX1) (T := TX1) (N := 5) (ref := "WorkflowEngine$Moment") rfl in_X1 (by decide) q748 rfl rfl (Or.inl rfl)
theorem ft_LWorkflowEngine_ (r : Option Nat) : gFit "LWorkflowEngine;" (ga r) := ⟨.object "WorkflowEngine", by decide +kernel, by cases r <;> rfl, by cases r <;> rfl⟩
theorem nm_1 : gNm TX1 5 := by
  unfold gNm
  decide +kernel
theorem tb_1 : gTb 1 := fun Cn T N h => by
  have h : (RX1, TX1, 5) = (Cn, T, N) := Option.some.inj h
  cases h
  exact ⟨nm_1, tyX1, tyX1_ok⟩
theorem fk_1_4 : gFk 1 4 "LWorkflowEngine;" true "WorkflowEngine$Moment" := fun Cn T N h => by
  have h : (RX1, TX1, 5) = (Cn, T, N) := Option.some.inj h
  cases h
  exact ⟨rfl, rfl, rfl⟩
theorem fl_X1_15_1 : gFL RX1 15 1 0 := gFL.mk (Cn := RX1) (T := TX1) (N := 5) (ref := "WorkflowEngine$Moment") rfl in_X1 (by decide) q733 rfl rfl (Or.inl rfl)
theorem ft__I (r : Option Nat) : gFit "[I" (ga r) := ⟨.array .int, by decide +kernel, by cases r <;> rfl, by cases r <;> rfl⟩
theorem fk_1_0 : gFk 1 0 "[I" true "WorkflowEngine$Moment" := fun Cn T N h => by
  have h : (RX1, TX1, 5) = (Cn, T, N) := Option.some.inj h
  cases h
  exact ⟨rfl, rfl, rfl⟩
theorem fl_X1_19_1 : gFL RX1 19 1 1 := gFL.mk (Cn := RX1) (T := TX1) (N := 5) (ref := "WorkflowEngine$Moment") rfl in_X1 (by decide) q737 rfl rfl (Or.inl rfl)
theorem fk_1_1 : gFk 1 1 "[I" true "WorkflowEngine$Moment" := fun Cn T N h => by
  have h : (RX1, TX1, 5) = (Cn, T, N) := Option.some.inj h
  cases h
  exact ⟨rfl, rfl, rfl⟩
theorem fl_X1_24_1 : gFL RX1 24 1 2 := gFL.mk (Cn := RX1) (T := TX1) (N := 5) (ref := "WorkflowEngine$Moment") rfl in_X1 (by decide) q739 rfl rfl (Or.inl rfl)
theorem ft__LWorkflowEngine_Instance_ (r : Option Nat) : gFit "[LWorkflowEngine$Instance;" (ga r) := ⟨.array (.object "WorkflowEngine$Instance"), by decide +kernel, by cases r <;> rfl, by cases r <;> rfl⟩
theorem fk_1_2 : gFk 1 2 "[LWorkflowEngine$Instance;" true "WorkflowEngine$Moment" := fun Cn T N h => by
  have h : (RX1, TX1, 5) = (Cn, T, N) := Option.some.inj h
  cases h
  exact ⟨rfl, rfl, rfl⟩
def f_X1_init (a0 : Nat) (p1 : Option Nat) (w0 : gw) : Option (Unit × gw) := gB1 (gPut w0 a0 1 4 (ga p1)) fun w1 => gB2 (gNewI w1 0 (nI 8)) fun a2 w3 => gB1 (gPut w3 a0 1 0 (ga (some a2))) fun w4 => gB2 (gNewI w4 0 (nI 8)) fun a5 w6 => gB1 (gPut w6 a0 1 1 (ga (some a5))) fun w7 => gB2 (gNewR w7 4 (nI 6)) fun a8 w9 => gB1 (gPut w9 a0 1 2 (ga (some a8))) fun w10 => some ((), w10)
set_option maxHeartbeats 4000000 in
set_option maxRecDepth 100000 in
theorem k_X1_init {D : va_G} {dA : Nat → ClassId} {A : Nat → Prop} {K : Nat → Nat} {l : Launch} {h : Nat} (hh : 1 ≤ h) {a0 : Nat} {p1 : Option Nat} {w0 ww : gw} {rr : Unit} (hf : f_X1_init a0 p1 w0 = some (rr, ww)) : gMet D dA A K l yX1_init (ws_ yX1_init cX1_init 2 none) h [(ga (some a0)), (ga p1)] none w0 ww := by
  refine j_start (own := RX1) (by decide +kernel) rfl (Nat.le_of_ble_eq_true rfl) ?_
  intro p e R s m args below meth c C hr hin hw
  unfold f_X1_init at hf
  show gJ D dA A K p l e R s m args below meth c (gEnd D dA A K below args s w0 none ww) 2 0 [(0, (ga (some a0))), (1, (ga p1))] [] w0
  refine j_aload_n C dX1_init_0 rfl ?_
  refine j_aload_n C dX1_init_1 rfl ?_
  replace hf := gB1_e hf
  obtain ⟨w1, ew1, hf⟩ := hf
  refine j_putF C fl_X1_3_1 tb_1 hin ew1 fk_1_4 rfl (ft_LWorkflowEngine_ p1) dX1_init_2 ?_
  refine j_aload_n C dX1_init_5 rfl ?_
  refine j_objInit C (by omega) q730 q164 q165 (by decide) dX1_init_6 ?_
  refine j_aload_n C dX1_init_9 rfl ?_
  refine j_bipush (v := (nI 8)) C dX1_init_10 (by decide) ?_
  replace hf := gB2_e hf
  obtain ⟨a2, w3, ew3, hf⟩ := hf
  refine j_newi C (t := 0) (atype := .int) rfl (by decide) rfl rfl q761 ew3 dX1_init_12 ?_
  replace hf := gB1_e hf
  obtain ⟨w4, ew4, hf⟩ := hf
  refine j_putF C fl_X1_15_1 tb_1 hin ew4 fk_1_0 rfl (ft__I (some a2)) dX1_init_14 ?_
  refine j_aload_n C dX1_init_17 rfl ?_
  refine j_bipush (v := (nI 8)) C dX1_init_18 (by decide) ?_
  replace hf := gB2_e hf
  obtain ⟨a5, w6, ew6, hf⟩ := hf
  refine j_newi C (t := 0) (atype := .int) rfl (by decide) rfl rfl q761 ew6 dX1_init_20 ?_
  replace hf := gB1_e hf
  obtain ⟨w7, ew7, hf⟩ := hf
  refine j_putF C fl_X1_19_1 tb_1 hin ew7 fk_1_1 rfl (ft__I (some a5)) dX1_init_22 ?_
  refine j_aload_n C dX1_init_25 rfl ?_
  refine j_bipush (v := (nI 6)) C dX1_init_26 (by decide) ?_
  replace hf := gB2_e hf
  obtain ⟨a8, w9, ew9, hf⟩ := hf
  refine j_newr C (t := 4) rfl (by decide) q731 ew9 dX1_init_28 ?_
  replace hf := gB1_e hf
  obtain ⟨w10, ew10, hf⟩ := hf
  refine j_putF C fl_X1_24_1 tb_1 hin ew10 fk_1_2 rfl (ft__LWorkflowEngine_Instance_ (some a8)) dX1_init_31 ?_
  obtain ⟨rfl, rfl⟩ := gSome hf
  exact j_vret C hr hw dX1_init_34
def dkwX1_fails_1 : List UInt8 := [184, 0, 42, 100, 79, 28, 172]
abbrev dktX1_fails_1 : List UInt8 := dkwX1_fails_1 ++ []
def dkwX1_fails_0 : List UInt8 := [42, 180, 0, 19, 27, 46, 158, 0, 7, 4, 167, 0, 4, 3, 61, 42, 180, 0, 19, 27, 92, 46, 28]
abbrev dktX1_fails_0 : List UInt8 := dkwX1_fails_0 ++ dktX1_fails_1
theorem dksX1_fails_0 : cX1_fails.data.toList.drop 0 = dktX1_fails_0 := by decide +kernel
theorem dksX1_fails_1 : cX1_fails.data.toList.drop 23 = dktX1_fails_1 := dk_seg dksX1_fails_0 23 rfl rfl
theorem dX1_fails_0 : decode cX1_fails 0 = .ok (.aload_n 0, 1) := dk_42 (dk_at dksX1_fails_0 0 rfl rfl)
theorem dX1_fails_1 : decode cX1_fails 1 = .ok (.getfield 19, 3) := dk_180 0 19 (dk_at dksX1_fails_0 1 rfl rfl)
theorem dX1_fails_4 : decode cX1_fails 4 = .ok (.iload_n 1, 1) := dk_27 (dk_at dksX1_fails_0 4 rfl rfl)
theorem dX1_fails_5 : decode cX1_fails 5 = .ok (.iaload, 1) := dk_46 (dk_at dksX1_fails_0 5 rfl rfl)
theorem dX1_fails_6 : decode cX1_fails 6 = .ok (.ifCond .le 7, 3) := dk_158 0 7 (dk_at dksX1_fails_0 6 rfl rfl)
theorem dX1_fails_9 : decode cX1_fails 9 = .ok (.iconst 1, 1) := dk_4 (dk_at dksX1_fails_0 9 rfl rfl)
theorem dX1_fails_10 : decode cX1_fails 10 = .ok (.goto 4, 3) := dk_167 0 4 (dk_at dksX1_fails_0 10 rfl rfl)
theorem dX1_fails_13 : decode cX1_fails 13 = .ok (.iconst 0, 1) := dk_3 (dk_at dksX1_fails_0 13 rfl rfl)
theorem dX1_fails_14 : decode cX1_fails 14 = .ok (.istore_n 2, 1) := dk_61 (dk_at dksX1_fails_0 14 rfl rfl)
theorem dX1_fails_15 : decode cX1_fails 15 = .ok (.aload_n 0, 1) := dk_42 (dk_at dksX1_fails_0 15 rfl rfl)
theorem dX1_fails_16 : decode cX1_fails 16 = .ok (.getfield 19, 3) := dk_180 0 19 (dk_at dksX1_fails_0 16 rfl rfl)
theorem dX1_fails_19 : decode cX1_fails 19 = .ok (.iload_n 1, 1) := dk_27 (dk_at dksX1_fails_0 19 rfl rfl)
theorem dX1_fails_20 : decode cX1_fails 20 = .ok (.dup2, 1) := dk_92 (dk_at dksX1_fails_0 20 rfl rfl)
theorem dX1_fails_21 : decode cX1_fails 21 = .ok (.iaload, 1) := dk_46 (dk_at dksX1_fails_0 21 rfl rfl)
theorem dX1_fails_22 : decode cX1_fails 22 = .ok (.iload_n 2, 1) := dk_28 (dk_at dksX1_fails_0 22 rfl rfl)
theorem dX1_fails_23 : decode cX1_fails 23 = .ok (.invokestatic 42, 3) := dk_184 0 42 (dk_at dksX1_fails_1 0 rfl rfl)
theorem dX1_fails_26 : decode cX1_fails 26 = .ok (.isub, 1) := dk_100 (dk_at dksX1_fails_1 3 rfl rfl)
theorem dX1_fails_27 : decode cX1_fails 27 = .ok (.iastore, 1) := dk_79 (dk_at dksX1_fails_1 4 rfl rfl)
theorem dX1_fails_28 : decode cX1_fails 28 = .ok (.iload_n 2, 1) := dk_28 (dk_at dksX1_fails_1 5 rfl rfl)
theorem dX1_fails_29 : decode cX1_fails 29 = .ok (.ireturn, 1) := dk_172 (dk_at dksX1_fails_1 6 rfl rfl)
theorem hd_X0_bit : (yX0_bit.cls ≠ "java/lang/invoke/MethodHandle" ∧ yX0_bit.cls ≠ "java/lang/invoke/VarHandle" ∧ (parseMethodDescriptor yX0_bit.desc).map (fun d => d.parameters.length) = some 1) := ⟨by decide +kernel, by decide +kernel, by decide +kernel⟩
def f_X1_fails (a0 : Nat) (p1 : Int32) (w0 : gw) : Option (Int32 × gw) := gB1 (gR w0 a0 1 1) fun r1 => gB1 r1 fun a2 => gB1 (gLdI w0 a2 0 p1) fun x3 => gBd (fun (x6 : Int32) (x7 : Int32) (w5 : gw) => gB1 (gR w5 a0 1 1) fun r8 => gB1 r8 fun a9 => gB1 (gLdI w5 a9 0 x6) fun x10 => gB2 (f_X0_bit x7 w5) fun x12 w11 => gB1 (gStI w11 a9 0 x6 (x10 - x12)) fun w13 => gB1 (gZ x7) fun _ => some (x7, w13)) fun k4 => if x3 ≤ 0 then k4 p1 (nI 0) w0 else k4 p1 (nI 1) w0
set_option maxHeartbeats 4000000 in
set_option maxRecDepth 100000 in
theorem k_X1_fails {D : va_G} {dA : Nat → ClassId} {A : Nat → Prop} {K : Nat → Nat} {l : Launch} {h : Nat} (hh : 1 ≤ h) {a0 : Nat} {p1 : Int32} {w0 ww : gw} {rr : Int32} (hf : f_X1_fails a0 p1 w0 = some (rr, ww)) : gMet D dA A K l yX1_fails (ws_ yX1_fails cX1_fails 3 (some .boolean)) h [(ga (some a0)), (gi p1)] (some (gi rr)) w0 ww := by
  refine j_start (own := RX1) (by decide +kernel) rfl (Nat.le_of_ble_eq_true rfl) ?_
  intro p e R s m args below meth c C hr hin hw
  unfold f_X1_fails at hf
  show gJ D dA A K p l e R s m args below meth c (gEnd D dA A K below args s w0 (some (gi rr)) ww) 3 0 [(0, (ga (some a0))), (1, (gi p1))] [] w0
  refine j_aload_n C dX1_fails_0 rfl ?_
  replace hf := gB1_e hf
  obtain ⟨r1, er1, hf⟩ := hf
  refine j_get C fl_X1_19_1 dX1_fails_1 (gR_F er1) ?_
  refine j_iload_n C dX1_fails_4 rfl ?_
  replace hf := gB1_e hf
  obtain ⟨a2, ea2, hf⟩ := hf
  subst ea2
  replace hf := gB1_e hf
  obtain ⟨x3, ex3, hf⟩ := hf
  refine j_iald C ex3 dX1_fails_5 ?_
  replace hf := gBd_x hf
  obtain ⟨k4, ek4, hf⟩ := hf
  have jk4 : ∀ (x6 : Int32) (x7 : Int32) (w5 : gw), k4 x6 x7 w5 = some (rr, ww) → gJ D dA A K p l e R s m args below meth c (gEnd D dA A K below args s w0 (some (gi rr)) ww) 3 14 [(0, (ga (some a0))), (1, (gi x6))] [(gi x7)] w5 := by
    intro x6 x7 w5 hf
    rw [ek4] at hf
    dsimp only at hf
    refine j_istore_n (lv' := [(2, (gi x7)), (0, (ga (some a0))), (1, (gi x6))]) C dX1_fails_14 (by decide) rfl ?_
    refine j_aload_n C dX1_fails_15 rfl ?_
    replace hf := gB1_e hf
    obtain ⟨r8, er8, hf⟩ := hf
    refine j_get C fl_X1_19_1 dX1_fails_16 (gR_F er8) ?_
    refine j_iload_n C dX1_fails_19 rfl ?_
    refine j_dup2 C dX1_fails_20 ?_
    replace hf := gB1_e hf
    obtain ⟨a9, ea9, hf⟩ := hf
    subst ea9
    replace hf := gB1_e hf
    obtain ⟨x10, ex10, hf⟩ := hf
    refine j_iald C ex10 dX1_fails_21 ?_
    refine j_iload_n C dX1_fails_22 rfl ?_
    replace hf := gB2_e hf
    obtain ⟨x12, w11, ew11, hf⟩ := hf
    refine j_callSN (As := [(gi x7)]) (rest := [(gi x10), (gi x6), (ga (some a9))]) (v := (some (gi x12))) C (by omega) (k_X0_bit (by omega) ew11) nq1149 q347 q91 q348 hd_X0_bit (by decide) rfl (Nat.le_of_ble_eq_true rfl) dX1_fails_23 ?_
    refine j_isub C dX1_fails_26 ?_
    replace hf := gB1_e hf
    obtain ⟨w13, ew13, hf⟩ := hf
    refine j_iast C ew13 dX1_fails_27 ?_
    refine j_iload_n C dX1_fails_28 rfl ?_
    replace hf := gB1_e hf
    obtain ⟨_, ez, hf⟩ := hf
    obtain ⟨rfl, rfl⟩ := gSome hf
    exact j_zret C hr (gZ_n (gZ_e ez)) hw dX1_fails_29
  clear ek4
  refine j_if_le (tgt := 13) C dX1_fails_6 (by decide) (fun c14 => ?_) (fun c14 => ?_)
  · replace hf := gIf_t hf c14
    refine j_iconst (v := (nI 0)) C dX1_fails_13 (by decide) ?_
    exact jk4 _ _ _ hf
  · replace hf := gIf_f hf c14
    refine j_iconst (v := (nI 1)) C dX1_fails_9 (by decide) ?_
    refine j_goto (tgt := 14) C dX1_fails_10 (by decide) ?_
    exact jk4 _ _ _ hf
def dkwX1_many_2 : List UInt8 := [132, 3, 1, 167, 255, 210, 28, 172]
abbrev dktX1_many_2 : List UInt8 := dkwX1_many_2 ++ []
def dkwX1_many_1 : List UInt8 := [42, 180, 0, 24, 29, 50, 180, 0, 49, 27, 160, 0, 7, 4, 167, 0, 4, 3, 184, 0, 42, 96, 61]
abbrev dktX1_many_1 : List UInt8 := dkwX1_many_1 ++ dktX1_many_2
def dkwX1_many_0 : List UInt8 := [3, 61, 3, 62, 29, 16, 6, 162, 0, 46, 28, 42, 180, 0, 24, 29, 50, 198, 0, 24, 27, 155, 0, 16]
abbrev dktX1_many_0 : List UInt8 := dkwX1_many_0 ++ dktX1_many_1
theorem dksX1_many_0 : cX1_many.data.toList.drop 0 = dktX1_many_0 := by decide +kernel
theorem dksX1_many_1 : cX1_many.data.toList.drop 24 = dktX1_many_1 := dk_seg dksX1_many_0 24 rfl rfl
theorem dksX1_many_2 : cX1_many.data.toList.drop 47 = dktX1_many_2 := dk_seg dksX1_many_1 23 rfl rfl
theorem dX1_many_0 : decode cX1_many 0 = .ok (.iconst 0, 1) := dk_3 (dk_at dksX1_many_0 0 rfl rfl)
theorem dX1_many_1 : decode cX1_many 1 = .ok (.istore_n 2, 1) := dk_61 (dk_at dksX1_many_0 1 rfl rfl)
theorem dX1_many_2 : decode cX1_many 2 = .ok (.iconst 0, 1) := dk_3 (dk_at dksX1_many_0 2 rfl rfl)
theorem dX1_many_3 : decode cX1_many 3 = .ok (.istore_n 3, 1) := dk_62 (dk_at dksX1_many_0 3 rfl rfl)
theorem dX1_many_4 : decode cX1_many 4 = .ok (.iload_n 3, 1) := dk_29 (dk_at dksX1_many_0 4 rfl rfl)
theorem dX1_many_5 : decode cX1_many 5 = .ok (.bipush 6, 2) := dk_16 6 (dk_at dksX1_many_0 5 rfl rfl)
theorem dX1_many_7 : decode cX1_many 7 = .ok (.if_icmp .ge 46, 3) := dk_162 0 46 (dk_at dksX1_many_0 7 rfl rfl)
theorem dX1_many_10 : decode cX1_many 10 = .ok (.iload_n 2, 1) := dk_28 (dk_at dksX1_many_0 10 rfl rfl)
theorem dX1_many_11 : decode cX1_many 11 = .ok (.aload_n 0, 1) := dk_42 (dk_at dksX1_many_0 11 rfl rfl)
theorem dX1_many_12 : decode cX1_many 12 = .ok (.getfield 24, 3) := dk_180 0 24 (dk_at dksX1_many_0 12 rfl rfl)
theorem dX1_many_15 : decode cX1_many 15 = .ok (.iload_n 3, 1) := dk_29 (dk_at dksX1_many_0 15 rfl rfl)
theorem dX1_many_16 : decode cX1_many 16 = .ok (.aaload, 1) := dk_50 (dk_at dksX1_many_0 16 rfl rfl)
theorem dX1_many_17 : decode cX1_many 17 = .ok (.ifnull 24, 3) := dk_198 0 24 (dk_at dksX1_many_0 17 rfl rfl)
theorem dX1_many_20 : decode cX1_many 20 = .ok (.iload_n 1, 1) := dk_27 (dk_at dksX1_many_0 20 rfl rfl)
theorem dX1_many_21 : decode cX1_many 21 = .ok (.ifCond .lt 16, 3) := dk_155 0 16 (dk_at dksX1_many_0 21 rfl rfl)
theorem dX1_many_24 : decode cX1_many 24 = .ok (.aload_n 0, 1) := dk_42 (dk_at dksX1_many_1 0 rfl rfl)
theorem dX1_many_25 : decode cX1_many 25 = .ok (.getfield 24, 3) := dk_180 0 24 (dk_at dksX1_many_1 1 rfl rfl)
theorem dX1_many_28 : decode cX1_many 28 = .ok (.iload_n 3, 1) := dk_29 (dk_at dksX1_many_1 4 rfl rfl)
theorem dX1_many_29 : decode cX1_many 29 = .ok (.aaload, 1) := dk_50 (dk_at dksX1_many_1 5 rfl rfl)
theorem dX1_many_30 : decode cX1_many 30 = .ok (.getfield 49, 3) := dk_180 0 49 (dk_at dksX1_many_1 6 rfl rfl)
theorem dX1_many_33 : decode cX1_many 33 = .ok (.iload_n 1, 1) := dk_27 (dk_at dksX1_many_1 9 rfl rfl)
theorem dX1_many_34 : decode cX1_many 34 = .ok (.if_icmp .ne 7, 3) := dk_160 0 7 (dk_at dksX1_many_1 10 rfl rfl)
theorem dX1_many_37 : decode cX1_many 37 = .ok (.iconst 1, 1) := dk_4 (dk_at dksX1_many_1 13 rfl rfl)
theorem dX1_many_38 : decode cX1_many 38 = .ok (.goto 4, 3) := dk_167 0 4 (dk_at dksX1_many_1 14 rfl rfl)
theorem dX1_many_41 : decode cX1_many 41 = .ok (.iconst 0, 1) := dk_3 (dk_at dksX1_many_1 17 rfl rfl)
theorem dX1_many_42 : decode cX1_many 42 = .ok (.invokestatic 42, 3) := dk_184 0 42 (dk_at dksX1_many_1 18 rfl rfl)
theorem dX1_many_45 : decode cX1_many 45 = .ok (.iadd, 1) := dk_96 (dk_at dksX1_many_1 21 rfl rfl)
theorem dX1_many_46 : decode cX1_many 46 = .ok (.istore_n 2, 1) := dk_61 (dk_at dksX1_many_1 22 rfl rfl)
theorem dX1_many_47 : decode cX1_many 47 = .ok (.iinc 3 1, 3) := dk_132 3 1 (dk_at dksX1_many_2 0 rfl rfl)
theorem dX1_many_50 : decode cX1_many 50 = .ok (.goto (-46), 3) := dk_167 255 210 (dk_at dksX1_many_2 3 rfl rfl)
theorem dX1_many_53 : decode cX1_many 53 = .ok (.iload_n 2, 1) := dk_28 (dk_at dksX1_many_2 6 rfl rfl)
theorem dX1_many_54 : decode cX1_many 54 = .ok (.ireturn, 1) := dk_172 (dk_at dksX1_many_2 7 rfl rfl)
theorem fl_X1_49_16 : gFL RX1 49 16 9 := gFL.mkN (Cn := RX16) (T := TX16) (N := 16) (ref := "WorkflowEngine$Instance") rfl in_X16 (by decide) nq828 rfl rfl (Or.inl rfl)
def f_X1_many (a0 : Nat) (p1 : Int32) (w0 : gw) : Option (Int32 × gw) := gL3 (fun k5 (x2 : Int32) (x3 : Int32) (x4 : Int32) (w1 : gw) => if (nI 6) ≤ x4 then some (x3, w1) else gB1 (gR w1 a0 1 2) fun r7 => gB1 r7 fun a8 => gB1 (gLdR w1 a8 4 x4) fun r9 => gBd (fun (x12 : Int32) (x13 : Int32) (x14 : Int32) (x15 : Int32) (w11 : gw) => gB2 (f_X0_bit x15 w11) fun x17 w16 => gBd (x14 + x17) fun x18 => gBd (x13 + (nI 1)) fun x19 => k5 x12 x18 x19 w16) fun k10 => gBd (fun (x22 : Int32) (x23 : Int32) (x24 : Int32) (w21 : gw) => k10 x22 x23 x24 (nI 0) w21) fun k20 => gNl r9 (k20 x2 x4 x3 w1) (fun a26 => gBd (fun (x29 : Int32) (x30 : Int32) (x31 : Int32) (w28 : gw) => k10 x29 x30 x31 (nI 1) w28) fun k27 => if x2 < 0 then k27 x2 x4 x3 w1 else gB1 (gR w1 a0 1 2) fun r33 => gB1 r33 fun a34 => gB1 (gLdR w1 a34 4 x4) fun r35 => gB1 r35 fun a36 => gB1 (gI w1 a36 16 9) fun x37 => if x37 = x2 then k27 x2 x4 x3 w1 else k20 x2 x4 x3 w1)) 20000 p1 (nI 0) (nI 0) w0
set_option maxHeartbeats 4000000 in
set_option maxRecDepth 100000 in
theorem k_X1_many {D : va_G} {dA : Nat → ClassId} {A : Nat → Prop} {K : Nat → Nat} {l : Launch} {h : Nat} (hh : 1 ≤ h) {a0 : Nat} {p1 : Int32} {w0 ww : gw} {rr : Int32} (hf : f_X1_many a0 p1 w0 = some (rr, ww)) : gMet D dA A K l yX1_many (ws_ yX1_many cX1_many 4 (some .int)) h [(ga (some a0)), (gi p1)] (some (gi rr)) w0 ww := by
  refine j_start (own := RX1) (by decide +kernel) rfl (Nat.le_of_ble_eq_true rfl) ?_
  intro p e R s m args below meth c C hr hin hw
  unfold f_X1_many at hf
  show gJ D dA A K p l e R s m args below meth c (gEnd D dA A K below args s w0 (some (gi rr)) ww) 4 0 [(0, (ga (some a0))), (1, (gi p1))] [] w0
  refine j_iconst (v := (nI 0)) C dX1_many_0 (by decide) ?_
  refine j_istore_n (lv' := [(2, (gi (nI 0))), (0, (ga (some a0))), (1, (gi p1))]) C dX1_many_1 (by decide) rfl ?_
  refine j_iconst (v := (nI 0)) C dX1_many_2 (by decide) ?_
  refine j_istore_n (lv' := [(3, (gi (nI 0))), (2, (gi (nI 0))), (0, (ga (some a0))), (1, (gi p1))]) C dX1_many_3 (by decide) rfl ?_
  refine j_sub (lv' := [(0, (ga (some a0))), (1, (gi p1)), (2, (gi (nI 0))), (3, (gi (nI 0)))]) (gL_cons rfl (gL_cons rfl (gL_cons rfl (gL_cons rfl (gL_nil))))) ?_
  refine gL3_e (fun (x2 : Int32) (x3 : Int32) (x4 : Int32) (w1 : gw) => gJ D dA A K p l e R s m args below meth c (gEnd D dA A K below args s w0 (some (gi rr)) ww) 4 4 [(0, (ga (some a0))), (1, (gi x2)), (2, (gi x3)), (3, (gi x4))] [] w1) ?_ _ _ _ _ _ hf
  intro k5 jk5 x2 x3 x4 w1 hf
  refine j_iload_n C dX1_many_4 rfl ?_
  refine j_bipush (v := (nI 6)) C dX1_many_5 (by decide) ?_
  refine j_icmp_ge (tgt := 53) C dX1_many_7 (by decide) (fun c6 => ?_) (fun c6 => ?_)
  · replace hf := gIf_t hf c6
    refine j_iload_n C dX1_many_53 rfl ?_
    obtain ⟨rfl, rfl⟩ := gSome hf
    exact j_iret C hr hw dX1_many_54
  · replace hf := gIf_f hf c6
    refine j_iload_n C dX1_many_10 rfl ?_
    refine j_aload_n C dX1_many_11 rfl ?_
    replace hf := gB1_e hf
    obtain ⟨r7, er7, hf⟩ := hf
    refine j_get C fl_X1_24_1 dX1_many_12 (gR_F er7) ?_
    refine j_iload_n C dX1_many_15 rfl ?_
    replace hf := gB1_e hf
    obtain ⟨a8, ea8, hf⟩ := hf
    subst ea8
    replace hf := gB1_e hf
    obtain ⟨r9, er9, hf⟩ := hf
    refine j_aald C (t := 4) rfl er9 dX1_many_16 ?_
    replace hf := gBd_x hf
    obtain ⟨k10, ek10, hf⟩ := hf
    have jk10 : ∀ (x12 : Int32) (x13 : Int32) (x14 : Int32) (x15 : Int32) (w11 : gw), k10 x12 x13 x14 x15 w11 = some (rr, ww) → gJ D dA A K p l e R s m args below meth c (gEnd D dA A K below args s w0 (some (gi rr)) ww) 4 42 [(0, (ga (some a0))), (1, (gi x12)), (3, (gi x13))] [(gi x15), (gi x14)] w11 := by
      intro x12 x13 x14 x15 w11 hf
      rw [ek10] at hf
      dsimp only at hf
      replace hf := gB2_e hf
      obtain ⟨x17, w16, ew16, hf⟩ := hf
      refine j_callSN (As := [(gi x15)]) (rest := [(gi x14)]) (v := (some (gi x17))) C (by omega) (k_X0_bit (by omega) ew16) nq1149 q347 q91 q348 hd_X0_bit (by decide) rfl (Nat.le_of_ble_eq_true rfl) dX1_many_42 ?_
      refine j_iadd C dX1_many_45 ?_
      replace hf := gBd_x hf
      obtain ⟨x18, ex18, hf⟩ := hf
      refine j_nm ex18 ?_
      refine j_istore_n (lv' := [(2, (gi x18)), (0, (ga (some a0))), (1, (gi x12)), (3, (gi x13))]) C dX1_many_46 (by decide) rfl ?_
      replace hf := gBd_x hf
      obtain ⟨x19, ex19, hf⟩ := hf
      refine j_iinc (v := x19) (lv' := [(3, (gi x19)), (2, (gi x18)), (0, (ga (some a0))), (1, (gi x12))]) C dX1_many_47 rfl (by rw [ex19]; rfl) (by decide) rfl ?_
      refine j_goto (tgt := 4) C dX1_many_50 (by decide) ?_
      refine j_sub (lv' := [(0, (ga (some a0))), (1, (gi x12)), (2, (gi x18)), (3, (gi x19))]) (gL_cons rfl (gL_cons rfl (gL_cons rfl (gL_cons rfl (gL_nil))))) ?_
      exact jk5 _ _ _ _ hf
    clear ek10
    replace hf := gBd_x hf
    obtain ⟨k20, ek20, hf⟩ := hf
    have jk20 : ∀ (x22 : Int32) (x23 : Int32) (x24 : Int32) (w21 : gw), k20 x22 x23 x24 w21 = some (rr, ww) → gJ D dA A K p l e R s m args below meth c (gEnd D dA A K below args s w0 (some (gi rr)) ww) 4 41 [(0, (ga (some a0))), (1, (gi x22)), (3, (gi x23))] [(gi x24)] w21 := by
      intro x22 x23 x24 w21 hf
      rw [ek20] at hf
      dsimp only at hf
      refine j_iconst (v := (nI 0)) C dX1_many_41 (by decide) ?_
      exact jk10 _ _ _ _ _ hf
    clear ek20
    refine j_ifnull (tgt := 41) C dX1_many_17 (by decide) (fun c25 => ?_) (fun a26 c25 => ?_)
    · subst c25
      replace hf := gNl_n hf
      refine j_sub (lv' := [(0, (ga (some a0))), (1, (gi x2)), (3, (gi x4))]) (gL_cons rfl (gL_cons rfl (gL_cons rfl (gL_nil)))) ?_
      exact jk20 _ _ _ _ hf
    · subst c25
      replace hf := gNl_s hf
      refine j_iload_n C dX1_many_20 rfl ?_
      replace hf := gBd_x hf
      obtain ⟨k27, ek27, hf⟩ := hf
      have jk27 : ∀ (x29 : Int32) (x30 : Int32) (x31 : Int32) (w28 : gw), k27 x29 x30 x31 w28 = some (rr, ww) → gJ D dA A K p l e R s m args below meth c (gEnd D dA A K below args s w0 (some (gi rr)) ww) 4 37 [(0, (ga (some a0))), (1, (gi x29)), (3, (gi x30))] [(gi x31)] w28 := by
        intro x29 x30 x31 w28 hf
        rw [ek27] at hf
        dsimp only at hf
        refine j_iconst (v := (nI 1)) C dX1_many_37 (by decide) ?_
        refine j_goto (tgt := 42) C dX1_many_38 (by decide) ?_
        exact jk10 _ _ _ _ _ hf
      clear ek27
      refine j_if_lt (tgt := 37) C dX1_many_21 (by decide) (fun c32 => ?_) (fun c32 => ?_)
      · replace hf := gIf_t hf c32
        refine j_sub (lv' := [(0, (ga (some a0))), (1, (gi x2)), (3, (gi x4))]) (gL_cons rfl (gL_cons rfl (gL_cons rfl (gL_nil)))) ?_
        exact jk27 _ _ _ _ hf
      · replace hf := gIf_f hf c32
        refine j_aload_n C dX1_many_24 rfl ?_
        replace hf := gB1_e hf
        obtain ⟨r33, er33, hf⟩ := hf
        refine j_get C fl_X1_24_1 dX1_many_25 (gR_F er33) ?_
        refine j_iload_n C dX1_many_28 rfl ?_
        replace hf := gB1_e hf
        obtain ⟨a34, ea34, hf⟩ := hf
        subst ea34
        replace hf := gB1_e hf
        obtain ⟨r35, er35, hf⟩ := hf
        refine j_aald C (t := 4) rfl er35 dX1_many_29 ?_
        replace hf := gB1_e hf
        obtain ⟨a36, ea36, hf⟩ := hf
        subst ea36
        replace hf := gB1_e hf
        obtain ⟨x37, ex37, hf⟩ := hf
        refine j_get C fl_X1_49_16 dX1_many_30 (gI_F ex37) ?_
        refine j_iload_n C dX1_many_33 rfl ?_
        refine j_icmp_ne (tgt := 41) C dX1_many_34 (by decide) (fun c38 => ?_) (fun c38 => ?_)
        · replace hf := gIf_f hf c38
          refine j_sub (lv' := [(0, (ga (some a0))), (1, (gi x2)), (3, (gi x4))]) (gL_cons rfl (gL_cons rfl (gL_cons rfl (gL_nil)))) ?_
          exact jk20 _ _ _ _ hf
        · replace hf := gIf_t hf c38
          refine j_sub (lv' := [(0, (ga (some a0))), (1, (gi x2)), (3, (gi x4))]) (gL_cons rfl (gL_cons rfl (gL_cons rfl (gL_nil)))) ?_
          exact jk27 _ _ _ _ hf
def dkwX16_notes_2 : List UInt8 := [180, 0, 89, 104, 5, 96, 28, 79, 42, 89, 180, 0, 89, 4, 96, 181, 0, 89, 177]
abbrev dktX16_notes_2 : List UInt8 := dkwX16_notes_2 ++ []
def dkwX16_notes_1 : List UInt8 := [180, 0, 119, 79, 42, 180, 0, 29, 6, 42, 180, 0, 89, 104, 4, 96, 27, 79, 42, 180, 0, 29, 6, 42]
abbrev dktX16_notes_1 : List UInt8 := dkwX16_notes_1 ++ dktX16_notes_2
def dkwX16_notes_0 : List UInt8 := [42, 180, 0, 89, 17, 0, 200, 162, 0, 49, 42, 180, 0, 29, 6, 42, 180, 0, 89, 104, 42, 180, 0, 36]
abbrev dktX16_notes_0 : List UInt8 := dkwX16_notes_0 ++ dktX16_notes_1
theorem dksX16_notes_0 : cX16_notes.data.toList.drop 0 = dktX16_notes_0 := by decide +kernel
theorem dksX16_notes_1 : cX16_notes.data.toList.drop 24 = dktX16_notes_1 := dk_seg dksX16_notes_0 24 rfl rfl
theorem dksX16_notes_2 : cX16_notes.data.toList.drop 48 = dktX16_notes_2 := dk_seg dksX16_notes_1 24 rfl rfl
theorem dX16_notes_0 : decode cX16_notes 0 = .ok (.aload_n 0, 1) := dk_42 (dk_at dksX16_notes_0 0 rfl rfl)
theorem dX16_notes_1 : decode cX16_notes 1 = .ok (.getfield 89, 3) := dk_180 0 89 (dk_at dksX16_notes_0 1 rfl rfl)
theorem dX16_notes_4 : decode cX16_notes 4 = .ok (.sipush 200, 3) := dk_17 0 200 (dk_at dksX16_notes_0 4 rfl rfl)
theorem dX16_notes_7 : decode cX16_notes 7 = .ok (.if_icmp .ge 49, 3) := dk_162 0 49 (dk_at dksX16_notes_0 7 rfl rfl)
theorem dX16_notes_10 : decode cX16_notes 10 = .ok (.aload_n 0, 1) := dk_42 (dk_at dksX16_notes_0 10 rfl rfl)
theorem dX16_notes_11 : decode cX16_notes 11 = .ok (.getfield 29, 3) := dk_180 0 29 (dk_at dksX16_notes_0 11 rfl rfl)
theorem dX16_notes_14 : decode cX16_notes 14 = .ok (.iconst 3, 1) := dk_6 (dk_at dksX16_notes_0 14 rfl rfl)
theorem dX16_notes_15 : decode cX16_notes 15 = .ok (.aload_n 0, 1) := dk_42 (dk_at dksX16_notes_0 15 rfl rfl)
theorem dX16_notes_16 : decode cX16_notes 16 = .ok (.getfield 89, 3) := dk_180 0 89 (dk_at dksX16_notes_0 16 rfl rfl)
theorem dX16_notes_19 : decode cX16_notes 19 = .ok (.imul, 1) := dk_104 (dk_at dksX16_notes_0 19 rfl rfl)
theorem dX16_notes_20 : decode cX16_notes 20 = .ok (.aload_n 0, 1) := dk_42 (dk_at dksX16_notes_0 20 rfl rfl)
theorem dX16_notes_21 : decode cX16_notes 21 = .ok (.getfield 36, 3) := dk_180 0 36 (dk_at dksX16_notes_0 21 rfl rfl)
theorem dX16_notes_24 : decode cX16_notes 24 = .ok (.getfield 119, 3) := dk_180 0 119 (dk_at dksX16_notes_1 0 rfl rfl)
theorem dX16_notes_27 : decode cX16_notes 27 = .ok (.iastore, 1) := dk_79 (dk_at dksX16_notes_1 3 rfl rfl)
theorem dX16_notes_28 : decode cX16_notes 28 = .ok (.aload_n 0, 1) := dk_42 (dk_at dksX16_notes_1 4 rfl rfl)
theorem dX16_notes_29 : decode cX16_notes 29 = .ok (.getfield 29, 3) := dk_180 0 29 (dk_at dksX16_notes_1 5 rfl rfl)
theorem dX16_notes_32 : decode cX16_notes 32 = .ok (.iconst 3, 1) := dk_6 (dk_at dksX16_notes_1 8 rfl rfl)
theorem dX16_notes_33 : decode cX16_notes 33 = .ok (.aload_n 0, 1) := dk_42 (dk_at dksX16_notes_1 9 rfl rfl)
theorem dX16_notes_34 : decode cX16_notes 34 = .ok (.getfield 89, 3) := dk_180 0 89 (dk_at dksX16_notes_1 10 rfl rfl)
theorem dX16_notes_37 : decode cX16_notes 37 = .ok (.imul, 1) := dk_104 (dk_at dksX16_notes_1 13 rfl rfl)
theorem dX16_notes_38 : decode cX16_notes 38 = .ok (.iconst 1, 1) := dk_4 (dk_at dksX16_notes_1 14 rfl rfl)
theorem dX16_notes_39 : decode cX16_notes 39 = .ok (.iadd, 1) := dk_96 (dk_at dksX16_notes_1 15 rfl rfl)
theorem dX16_notes_40 : decode cX16_notes 40 = .ok (.iload_n 1, 1) := dk_27 (dk_at dksX16_notes_1 16 rfl rfl)
theorem dX16_notes_41 : decode cX16_notes 41 = .ok (.iastore, 1) := dk_79 (dk_at dksX16_notes_1 17 rfl rfl)
theorem dX16_notes_42 : decode cX16_notes 42 = .ok (.aload_n 0, 1) := dk_42 (dk_at dksX16_notes_1 18 rfl rfl)
theorem dX16_notes_43 : decode cX16_notes 43 = .ok (.getfield 29, 3) := dk_180 0 29 (dk_at dksX16_notes_1 19 rfl rfl)
theorem dX16_notes_46 : decode cX16_notes 46 = .ok (.iconst 3, 1) := dk_6 (dk_at dksX16_notes_1 22 rfl rfl)
theorem dX16_notes_47 : decode cX16_notes 47 = .ok (.aload_n 0, 1) := dk_42 (dk_at dksX16_notes_1 23 rfl rfl)
theorem dX16_notes_48 : decode cX16_notes 48 = .ok (.getfield 89, 3) := dk_180 0 89 (dk_at dksX16_notes_2 0 rfl rfl)
theorem dX16_notes_51 : decode cX16_notes 51 = .ok (.imul, 1) := dk_104 (dk_at dksX16_notes_2 3 rfl rfl)
theorem dX16_notes_52 : decode cX16_notes 52 = .ok (.iconst 2, 1) := dk_5 (dk_at dksX16_notes_2 4 rfl rfl)
theorem dX16_notes_53 : decode cX16_notes 53 = .ok (.iadd, 1) := dk_96 (dk_at dksX16_notes_2 5 rfl rfl)
theorem dX16_notes_54 : decode cX16_notes 54 = .ok (.iload_n 2, 1) := dk_28 (dk_at dksX16_notes_2 6 rfl rfl)
theorem dX16_notes_55 : decode cX16_notes 55 = .ok (.iastore, 1) := dk_79 (dk_at dksX16_notes_2 7 rfl rfl)
theorem dX16_notes_56 : decode cX16_notes 56 = .ok (.aload_n 0, 1) := dk_42 (dk_at dksX16_notes_2 8 rfl rfl)
theorem dX16_notes_57 : decode cX16_notes 57 = .ok (.dup, 1) := dk_89 (dk_at dksX16_notes_2 9 rfl rfl)
theorem dX16_notes_58 : decode cX16_notes 58 = .ok (.getfield 89, 3) := dk_180 0 89 (dk_at dksX16_notes_2 10 rfl rfl)
theorem dX16_notes_61 : decode cX16_notes 61 = .ok (.iconst 1, 1) := dk_4 (dk_at dksX16_notes_2 13 rfl rfl)
theorem dX16_notes_62 : decode cX16_notes 62 = .ok (.iadd, 1) := dk_96 (dk_at dksX16_notes_2 14 rfl rfl)
theorem dX16_notes_63 : decode cX16_notes 63 = .ok (.putfield 89, 3) := dk_181 0 89 (dk_at dksX16_notes_2 15 rfl rfl)
theorem dX16_notes_66 : decode cX16_notes 66 = .ok (.return_, 1) := dk_177 (dk_at dksX16_notes_2 18 rfl rfl)
theorem fl_X16_89_16 : gFL RX16 89 16 8 := gFL.mk (Cn := RX16) (T := TX16) (N := 16) (ref := "WorkflowEngine$Instance") rfl in_X16 (by decide) q825 rfl rfl (Or.inl rfl)
theorem nm_16 : gNm TX16 16 := by
  unfold gNm
  decide +kernel
theorem tb_16 : gTb 16 := fun Cn T N h => by
  have h : (RX16, TX16, 16) = (Cn, T, N) := Option.some.inj h
  cases h
  exact ⟨nm_16, tyX16, tyX16_ok⟩
theorem fk_16_8 : gFk 16 8 "I" false "WorkflowEngine$Instance" := fun Cn T N h => by
  have h : (RX16, TX16, 16) = (Cn, T, N) := Option.some.inj h
  cases h
  exact ⟨rfl, rfl, rfl⟩
theorem fl_X16_29_16 : gFL RX16 29 16 7 := gFL.mk (Cn := RX16) (T := TX16) (N := 16) (ref := "WorkflowEngine$Instance") rfl in_X16 (by decide) q823 rfl rfl (Or.inl rfl)
theorem fl_X16_36_16 : gFL RX16 36 16 0 := gFL.mk (Cn := RX16) (T := TX16) (N := 16) (ref := "WorkflowEngine$Instance") rfl in_X16 (by decide) q806 rfl rfl (Or.inl rfl)
theorem fl_X16_119_1 : gFL RX16 119 1 3 := gFL.mkN (Cn := RX1) (T := TX1) (N := 5) (ref := "WorkflowEngine$Moment") rfl in_X1 (by decide) nq746 rfl rfl (Or.inl rfl)
def f_X16_notes (a0 : Nat) (p1 : Int32) (p2 : Int32) (w0 : gw) : Option (Unit × gw) := gB1 (gI w0 a0 16 8) fun x1 => gBd (fun (w3 : gw) => gB1 (gI w3 a0 16 8) fun x4 => gB1 (gPut w3 a0 16 8 (gi (x4 + (nI 1)))) fun w5 => some ((), w5)) fun k2 => if (nI 200) ≤ x1 then k2 w0 else gB1 (gR w0 a0 16 7) fun r7 => gB1 (gI w0 a0 16 8) fun x8 => gB1 (gR w0 a0 16 0) fun r9 => gB1 r9 fun a10 => gB1 (gI w0 a10 1 3) fun x11 => gB1 r7 fun a12 => gB1 (gStI w0 a12 0 ((nI 3) * x8) x11) fun w13 => gB1 (gR w13 a0 16 7) fun r14 => gB1 (gI w13 a0 16 8) fun x15 => gB1 r14 fun a16 => gB1 (gStI w13 a16 0 (((nI 3) * x15) + (nI 1)) p1) fun w17 => gB1 (gR w17 a0 16 7) fun r18 => gB1 (gI w17 a0 16 8) fun x19 => gB1 r18 fun a20 => gB1 (gStI w17 a20 0 (((nI 3) * x19) + (nI 2)) p2) fun w21 => k2 w21
set_option maxHeartbeats 4000000 in
set_option maxRecDepth 100000 in
theorem k_X16_notes {D : va_G} {dA : Nat → ClassId} {A : Nat → Prop} {K : Nat → Nat} {l : Launch} {h : Nat} (hh : 0 ≤ h) {a0 : Nat} {p1 : Int32} {p2 : Int32} {w0 ww : gw} {rr : Unit} (hf : f_X16_notes a0 p1 p2 w0 = some (rr, ww)) : gMet D dA A K l yX16_notes (ws_ yX16_notes cX16_notes 3 none) h [(ga (some a0)), (gi p1), (gi p2)] none w0 ww := by
  refine j_start (own := RX16) (by decide +kernel) rfl (Nat.le_of_ble_eq_true rfl) ?_
  intro p e R s m args below meth c C hr hin hw
  unfold f_X16_notes at hf
  show gJ D dA A K p l e R s m args below meth c (gEnd D dA A K below args s w0 none ww) 3 0 [(0, (ga (some a0))), (1, (gi p1)), (2, (gi p2))] [] w0
  refine j_aload_n C dX16_notes_0 rfl ?_
  replace hf := gB1_e hf
  obtain ⟨x1, ex1, hf⟩ := hf
  refine j_get C fl_X16_89_16 dX16_notes_1 (gI_F ex1) ?_
  refine j_sipush (v := (nI 200)) C dX16_notes_4 (by decide) ?_
  replace hf := gBd_x hf
  obtain ⟨k2, ek2, hf⟩ := hf
  have jk2 : ∀ (w3 : gw), k2 w3 = some (rr, ww) → gJ D dA A K p l e R s m args below meth c (gEnd D dA A K below args s w0 none ww) 3 56 [(0, (ga (some a0)))] [] w3 := by
    intro w3 hf
    rw [ek2] at hf
    dsimp only at hf
    refine j_aload_n C dX16_notes_56 rfl ?_
    refine j_dup C dX16_notes_57 ?_
    replace hf := gB1_e hf
    obtain ⟨x4, ex4, hf⟩ := hf
    refine j_get C fl_X16_89_16 dX16_notes_58 (gI_F ex4) ?_
    refine j_iconst (v := (nI 1)) C dX16_notes_61 (by decide) ?_
    refine j_iadd C dX16_notes_62 ?_
    replace hf := gB1_e hf
    obtain ⟨w5, ew5, hf⟩ := hf
    refine j_put C fl_X16_89_16 tb_16 ew5 fk_16_8 (fit_I (x4 + (nI 1))) dX16_notes_63 ?_
    obtain ⟨rfl, rfl⟩ := gSome hf
    exact j_vret C hr hw dX16_notes_66
  clear ek2
  refine j_icmp_ge (tgt := 56) C dX16_notes_7 (by decide) (fun c6 => ?_) (fun c6 => ?_)
  · replace hf := gIf_t hf c6
    refine j_sub (lv' := [(0, (ga (some a0)))]) (gL_cons rfl (gL_nil)) ?_
    exact jk2 _ hf
  · replace hf := gIf_f hf c6
    refine j_aload_n C dX16_notes_10 rfl ?_
    replace hf := gB1_e hf
    obtain ⟨r7, er7, hf⟩ := hf
    refine j_get C fl_X16_29_16 dX16_notes_11 (gR_F er7) ?_
    refine j_iconst (v := (nI 3)) C dX16_notes_14 (by decide) ?_
    refine j_aload_n C dX16_notes_15 rfl ?_
    replace hf := gB1_e hf
    obtain ⟨x8, ex8, hf⟩ := hf
    refine j_get C fl_X16_89_16 dX16_notes_16 (gI_F ex8) ?_
    refine j_imul C dX16_notes_19 ?_
    refine j_aload_n C dX16_notes_20 rfl ?_
    replace hf := gB1_e hf
    obtain ⟨r9, er9, hf⟩ := hf
    refine j_get C fl_X16_36_16 dX16_notes_21 (gR_F er9) ?_
    replace hf := gB1_e hf
    obtain ⟨a10, ea10, hf⟩ := hf
    subst ea10
    replace hf := gB1_e hf
    obtain ⟨x11, ex11, hf⟩ := hf
    refine j_get C fl_X16_119_1 dX16_notes_24 (gI_F ex11) ?_
    replace hf := gB1_e hf
    obtain ⟨a12, ea12, hf⟩ := hf
    subst ea12
    replace hf := gB1_e hf
    obtain ⟨w13, ew13, hf⟩ := hf
    refine j_iast C ew13 dX16_notes_27 ?_
    refine j_aload_n C dX16_notes_28 rfl ?_
    replace hf := gB1_e hf
    obtain ⟨r14, er14, hf⟩ := hf
    refine j_get C fl_X16_29_16 dX16_notes_29 (gR_F er14) ?_
    refine j_iconst (v := (nI 3)) C dX16_notes_32 (by decide) ?_
    refine j_aload_n C dX16_notes_33 rfl ?_
    replace hf := gB1_e hf
    obtain ⟨x15, ex15, hf⟩ := hf
    refine j_get C fl_X16_89_16 dX16_notes_34 (gI_F ex15) ?_
    refine j_imul C dX16_notes_37 ?_
    refine j_iconst (v := (nI 1)) C dX16_notes_38 (by decide) ?_
    refine j_iadd C dX16_notes_39 ?_
    refine j_iload_n C dX16_notes_40 rfl ?_
    replace hf := gB1_e hf
    obtain ⟨a16, ea16, hf⟩ := hf
    subst ea16
    replace hf := gB1_e hf
    obtain ⟨w17, ew17, hf⟩ := hf
    refine j_iast C ew17 dX16_notes_41 ?_
    refine j_aload_n C dX16_notes_42 rfl ?_
    replace hf := gB1_e hf
    obtain ⟨r18, er18, hf⟩ := hf
    refine j_get C fl_X16_29_16 dX16_notes_43 (gR_F er18) ?_
    refine j_iconst (v := (nI 3)) C dX16_notes_46 (by decide) ?_
    refine j_aload_n C dX16_notes_47 rfl ?_
    replace hf := gB1_e hf
    obtain ⟨x19, ex19, hf⟩ := hf
    refine j_get C fl_X16_89_16 dX16_notes_48 (gI_F ex19) ?_
    refine j_imul C dX16_notes_51 ?_
    refine j_iconst (v := (nI 2)) C dX16_notes_52 (by decide) ?_
    refine j_iadd C dX16_notes_53 ?_
    refine j_iload_n C dX16_notes_54 rfl ?_
    replace hf := gB1_e hf
    obtain ⟨a20, ea20, hf⟩ := hf
    subst ea20
    replace hf := gB1_e hf
    obtain ⟨w21, ew21, hf⟩ := hf
    refine j_iast C ew21 dX16_notes_55 ?_
    refine j_sub (lv' := [(0, (ga (some a0)))]) (gL_cons rfl (gL_nil)) ?_
    exact jk2 _ hf
theorem dX16_engine_0 : decode cX16_engine 0 = .ok (.aload_n 0, 1) := by decide +kernel
theorem dX16_engine_1 : decode cX16_engine 1 = .ok (.getfield 3, 3) := by decide +kernel
theorem dX16_engine_4 : decode cX16_engine 4 = .ok (.areturn, 1) := by decide +kernel
theorem fl_X16_3_16 : gFL RX16 3 16 15 := gFL.mk (Cn := RX16) (T := TX16) (N := 16) (ref := "WorkflowEngine$Instance") rfl in_X16 (by decide) q839 rfl rfl (Or.inl rfl)
def f_X16_engine (a0 : Nat) (w0 : gw) : Option (Option Nat × gw) := gB1 (gR w0 a0 16 15) fun r1 => some (r1, w0)
set_option maxHeartbeats 4000000 in
set_option maxRecDepth 100000 in
theorem k_X16_engine {D : va_G} {dA : Nat → ClassId} {A : Nat → Prop} {K : Nat → Nat} {l : Launch} {h : Nat} (hh : 0 ≤ h) {a0 : Nat} {w0 ww : gw} {rr : Option Nat} (hf : f_X16_engine a0 w0 = some (rr, ww)) : gMet D dA A K l yX16_engine (ws_ yX16_engine cX16_engine 1 (some (.object "WorkflowEngine"))) h [(ga (some a0))] (some (ga rr)) w0 ww := by
  refine j_start (own := RX16) (by decide +kernel) rfl (Nat.le_of_ble_eq_true rfl) ?_
  intro p e R s m args below meth c C hr hin hw
  unfold f_X16_engine at hf
  show gJ D dA A K p l e R s m args below meth c (gEnd D dA A K below args s w0 (some (ga rr)) ww) 1 0 [(0, (ga (some a0)))] [] w0
  refine j_aload_n C dX16_engine_0 rfl ?_
  replace hf := gB1_e hf
  obtain ⟨r1, er1, hf⟩ := hf
  refine j_get C fl_X16_3_16 dX16_engine_1 (gR_F er1) ?_
  obtain ⟨rfl, rfl⟩ := gSome hf
  exact j_aret C hr (Or.inl ⟨_, rfl⟩) hw dX16_engine_4
def dkwX16_ends_2 : List UInt8 := [16, 7, 160, 0, 7, 4, 167, 0, 4, 3, 184, 0, 132, 96, 181, 0, 98, 177]
abbrev dktX16_ends_2 : List UInt8 := dkwX16_ends_2 ++ []
def dkwX16_ends_1 : List UInt8 := [160, 0, 7, 4, 167, 0, 4, 3, 184, 0, 132, 96, 181, 0, 95, 42, 89, 180, 0, 98, 43, 180, 0, 74]
abbrev dktX16_ends_1 : List UInt8 := dkwX16_ends_1 ++ dktX16_ends_2
def dkwX16_ends_0 : List UInt8 := [42, 43, 180, 0, 74, 43, 180, 0, 68, 182, 0, 128, 42, 89, 180, 0, 95, 43, 180, 0, 74, 16, 6]
abbrev dktX16_ends_0 : List UInt8 := dkwX16_ends_0 ++ dktX16_ends_1
theorem dksX16_ends_0 : cX16_ends.data.toList.drop 0 = dktX16_ends_0 := by decide +kernel
theorem dksX16_ends_1 : cX16_ends.data.toList.drop 23 = dktX16_ends_1 := dk_seg dksX16_ends_0 23 rfl rfl
theorem dksX16_ends_2 : cX16_ends.data.toList.drop 47 = dktX16_ends_2 := dk_seg dksX16_ends_1 24 rfl rfl
theorem dX16_ends_0 : decode cX16_ends 0 = .ok (.aload_n 0, 1) := dk_42 (dk_at dksX16_ends_0 0 rfl rfl)
theorem dX16_ends_1 : decode cX16_ends 1 = .ok (.aload_n 1, 1) := dk_43 (dk_at dksX16_ends_0 1 rfl rfl)
theorem dX16_ends_2 : decode cX16_ends 2 = .ok (.getfield 74, 3) := dk_180 0 74 (dk_at dksX16_ends_0 2 rfl rfl)
theorem dX16_ends_5 : decode cX16_ends 5 = .ok (.aload_n 1, 1) := dk_43 (dk_at dksX16_ends_0 5 rfl rfl)
theorem dX16_ends_6 : decode cX16_ends 6 = .ok (.getfield 68, 3) := dk_180 0 68 (dk_at dksX16_ends_0 6 rfl rfl)
theorem dX16_ends_9 : decode cX16_ends 9 = .ok (.invokevirtual 128, 3) := dk_182 0 128 (dk_at dksX16_ends_0 9 rfl rfl)
theorem dX16_ends_12 : decode cX16_ends 12 = .ok (.aload_n 0, 1) := dk_42 (dk_at dksX16_ends_0 12 rfl rfl)
theorem dX16_ends_13 : decode cX16_ends 13 = .ok (.dup, 1) := dk_89 (dk_at dksX16_ends_0 13 rfl rfl)
theorem dX16_ends_14 : decode cX16_ends 14 = .ok (.getfield 95, 3) := dk_180 0 95 (dk_at dksX16_ends_0 14 rfl rfl)
theorem dX16_ends_17 : decode cX16_ends 17 = .ok (.aload_n 1, 1) := dk_43 (dk_at dksX16_ends_0 17 rfl rfl)
theorem dX16_ends_18 : decode cX16_ends 18 = .ok (.getfield 74, 3) := dk_180 0 74 (dk_at dksX16_ends_0 18 rfl rfl)
theorem dX16_ends_21 : decode cX16_ends 21 = .ok (.bipush 6, 2) := dk_16 6 (dk_at dksX16_ends_0 21 rfl rfl)
theorem dX16_ends_23 : decode cX16_ends 23 = .ok (.if_icmp .ne 7, 3) := dk_160 0 7 (dk_at dksX16_ends_1 0 rfl rfl)
theorem dX16_ends_26 : decode cX16_ends 26 = .ok (.iconst 1, 1) := dk_4 (dk_at dksX16_ends_1 3 rfl rfl)
theorem dX16_ends_27 : decode cX16_ends 27 = .ok (.goto 4, 3) := dk_167 0 4 (dk_at dksX16_ends_1 4 rfl rfl)
theorem dX16_ends_30 : decode cX16_ends 30 = .ok (.iconst 0, 1) := dk_3 (dk_at dksX16_ends_1 7 rfl rfl)
theorem dX16_ends_31 : decode cX16_ends 31 = .ok (.invokestatic 132, 3) := dk_184 0 132 (dk_at dksX16_ends_1 8 rfl rfl)
theorem dX16_ends_34 : decode cX16_ends 34 = .ok (.iadd, 1) := dk_96 (dk_at dksX16_ends_1 11 rfl rfl)
theorem dX16_ends_35 : decode cX16_ends 35 = .ok (.putfield 95, 3) := dk_181 0 95 (dk_at dksX16_ends_1 12 rfl rfl)
theorem dX16_ends_38 : decode cX16_ends 38 = .ok (.aload_n 0, 1) := dk_42 (dk_at dksX16_ends_1 15 rfl rfl)
theorem dX16_ends_39 : decode cX16_ends 39 = .ok (.dup, 1) := dk_89 (dk_at dksX16_ends_1 16 rfl rfl)
theorem dX16_ends_40 : decode cX16_ends 40 = .ok (.getfield 98, 3) := dk_180 0 98 (dk_at dksX16_ends_1 17 rfl rfl)
theorem dX16_ends_43 : decode cX16_ends 43 = .ok (.aload_n 1, 1) := dk_43 (dk_at dksX16_ends_1 20 rfl rfl)
theorem dX16_ends_44 : decode cX16_ends 44 = .ok (.getfield 74, 3) := dk_180 0 74 (dk_at dksX16_ends_1 21 rfl rfl)
theorem dX16_ends_47 : decode cX16_ends 47 = .ok (.bipush 7, 2) := dk_16 7 (dk_at dksX16_ends_2 0 rfl rfl)
theorem dX16_ends_49 : decode cX16_ends 49 = .ok (.if_icmp .ne 7, 3) := dk_160 0 7 (dk_at dksX16_ends_2 2 rfl rfl)
theorem dX16_ends_52 : decode cX16_ends 52 = .ok (.iconst 1, 1) := dk_4 (dk_at dksX16_ends_2 5 rfl rfl)
theorem dX16_ends_53 : decode cX16_ends 53 = .ok (.goto 4, 3) := dk_167 0 4 (dk_at dksX16_ends_2 6 rfl rfl)
theorem dX16_ends_56 : decode cX16_ends 56 = .ok (.iconst 0, 1) := dk_3 (dk_at dksX16_ends_2 9 rfl rfl)
theorem dX16_ends_57 : decode cX16_ends 57 = .ok (.invokestatic 132, 3) := dk_184 0 132 (dk_at dksX16_ends_2 10 rfl rfl)
theorem dX16_ends_60 : decode cX16_ends 60 = .ok (.iadd, 1) := dk_96 (dk_at dksX16_ends_2 13 rfl rfl)
theorem dX16_ends_61 : decode cX16_ends 61 = .ok (.putfield 98, 3) := dk_181 0 98 (dk_at dksX16_ends_2 14 rfl rfl)
theorem dX16_ends_64 : decode cX16_ends 64 = .ok (.return_, 1) := dk_177 (dk_at dksX16_ends_2 17 rfl rfl)
theorem fl_X16_74_25 : gFL RX16 74 25 2 := gFL.mkN (Cn := RX25) (T := TX25) (N := 3) (ref := "WorkflowEngine$Done") rfl in_X25 (by decide) nq1166 rfl rfl (Or.inl rfl)
theorem fl_X16_68_25 : gFL RX16 68 25 0 := gFL.mkN (Cn := RX25) (T := TX25) (N := 3) (ref := "WorkflowEngine$Done") rfl in_X25 (by decide) nq1161 rfl rfl (Or.inl rfl)
theorem hd_X16_notes : (yX16_notes.cls ≠ "java/lang/invoke/MethodHandle" ∧ yX16_notes.cls ≠ "java/lang/invoke/VarHandle" ∧ (parseMethodDescriptor yX16_notes.desc).map (fun d => d.parameters.length) = some 2) := ⟨by decide +kernel, by decide +kernel, by decide +kernel⟩
theorem fl_X16_95_16 : gFL RX16 95 16 11 := gFL.mk (Cn := RX16) (T := TX16) (N := 16) (ref := "WorkflowEngine$Instance") rfl in_X16 (by decide) q832 rfl rfl (Or.inl rfl)
theorem fk_16_11 : gFk 16 11 "I" false "WorkflowEngine$Instance" := fun Cn T N h => by
  have h : (RX16, TX16, 16) = (Cn, T, N) := Option.some.inj h
  cases h
  exact ⟨rfl, rfl, rfl⟩
theorem fl_X16_98_16 : gFL RX16 98 16 12 := gFL.mk (Cn := RX16) (T := TX16) (N := 16) (ref := "WorkflowEngine$Instance") rfl in_X16 (by decide) q834 rfl rfl (Or.inl rfl)
theorem fk_16_12 : gFk 16 12 "I" false "WorkflowEngine$Instance" := fun Cn T N h => by
  have h : (RX16, TX16, 16) = (Cn, T, N) := Option.some.inj h
  cases h
  exact ⟨rfl, rfl, rfl⟩
def f_X16_ends (a0 : Nat) (p1 : Option Nat) (w0 : gw) : Option (Unit × gw) := gB1 p1 fun a1 => gB1 (gI w0 a1 25 2) fun x2 => gB1 (gI w0 a1 25 0) fun x3 => gB1 (gOb w0 a0 16) fun _ => gB2 (f_X16_notes a0 x2 x3 w0) fun _ w4 => gB1 (gI w4 a0 16 11) fun x5 => gB1 (gI w4 a1 25 2) fun x6 => gBd (fun (r9 : Option Nat) (r10 : Option Nat) (x11 : Int32) (x12 : Int32) (w8 : gw) => gB2 (f_X0_bit x12 w8) fun x14 w13 => gB1 r10 fun a15 => gB1 (gPut w13 a15 16 11 (gi (x11 + x14))) fun w16 => gB1 (gI w16 a0 16 12) fun x17 => gB1 r9 fun a18 => gB1 (gI w16 a18 25 2) fun x19 => gBd (fun (r22 : Option Nat) (x23 : Int32) (x24 : Int32) (w21 : gw) => gB2 (f_X0_bit x24 w21) fun x26 w25 => gB1 r22 fun a27 => gB1 (gPut w25 a27 16 12 (gi (x23 + x26))) fun w28 => some ((), w28)) fun k20 => if x19 = (nI 7) then k20 (some a0) x17 (nI 1) w16 else k20 (some a0) x17 (nI 0) w16) fun k7 => if x6 = (nI 6) then k7 (some a1) (some a0) x5 (nI 1) w4 else k7 (some a1) (some a0) x5 (nI 0) w4
set_option maxHeartbeats 4000000 in
set_option maxRecDepth 100000 in
theorem k_X16_ends {D : va_G} {dA : Nat → ClassId} {A : Nat → Prop} {K : Nat → Nat} {l : Launch} {h : Nat} (hh : 1 ≤ h) {a0 : Nat} {p1 : Option Nat} {w0 ww : gw} {rr : Unit} (hf : f_X16_ends a0 p1 w0 = some (rr, ww)) : gMet D dA A K l yX16_ends (ws_ yX16_ends cX16_ends 2 none) h [(ga (some a0)), (ga p1)] none w0 ww := by
  refine j_start (own := RX16) (by decide +kernel) rfl (Nat.le_of_ble_eq_true rfl) ?_
  intro p e R s m args below meth c C hr hin hw
  unfold f_X16_ends at hf
  show gJ D dA A K p l e R s m args below meth c (gEnd D dA A K below args s w0 none ww) 2 0 [(0, (ga (some a0))), (1, (ga p1))] [] w0
  refine j_aload_n C dX16_ends_0 rfl ?_
  refine j_aload_n C dX16_ends_1 rfl ?_
  replace hf := gB1_e hf
  obtain ⟨a1, ea1, hf⟩ := hf
  subst ea1
  replace hf := gB1_e hf
  obtain ⟨x2, ex2, hf⟩ := hf
  refine j_get C fl_X16_74_25 dX16_ends_2 (gI_F ex2) ?_
  refine j_aload_n C dX16_ends_5 rfl ?_
  replace hf := gB1_e hf
  obtain ⟨x3, ex3, hf⟩ := hf
  refine j_get C fl_X16_68_25 dX16_ends_6 (gI_F ex3) ?_
  replace hf := gB1_e hf
  obtain ⟨_, eo, hf⟩ := hf
  replace hf := gB2_e hf
  obtain ⟨_, w4, ew4, hf⟩ := hf
  refine j_callV (As := [(gi x2), (gi x3)]) (rest := []) (v := none) C (by omega) (k_X16_notes (by omega) ew4) (gOb_e eo) rfl q1176 q944 q945 q118 q946 ⟨rfl, hd_X16_notes⟩ (by decide) rfl (Nat.le_of_ble_eq_true rfl) dX16_ends_9 ?_
  refine j_aload_n C dX16_ends_12 rfl ?_
  refine j_dup C dX16_ends_13 ?_
  replace hf := gB1_e hf
  obtain ⟨x5, ex5, hf⟩ := hf
  refine j_get C fl_X16_95_16 dX16_ends_14 (gI_F ex5) ?_
  refine j_aload_n C dX16_ends_17 rfl ?_
  replace hf := gB1_e hf
  obtain ⟨x6, ex6, hf⟩ := hf
  refine j_get C fl_X16_74_25 dX16_ends_18 (gI_F ex6) ?_
  refine j_bipush (v := (nI 6)) C dX16_ends_21 (by decide) ?_
  replace hf := gBd_x hf
  obtain ⟨k7, ek7, hf⟩ := hf
  have jk7 : ∀ (r9 : Option Nat) (r10 : Option Nat) (x11 : Int32) (x12 : Int32) (w8 : gw), k7 r9 r10 x11 x12 w8 = some (rr, ww) → gJ D dA A K p l e R s m args below meth c (gEnd D dA A K below args s w0 none ww) 2 31 [(0, (ga (some a0))), (1, (ga r9))] [(gi x12), (gi x11), (ga r10)] w8 := by
    intro r9 r10 x11 x12 w8 hf
    rw [ek7] at hf
    dsimp only at hf
    replace hf := gB2_e hf
    obtain ⟨x14, w13, ew13, hf⟩ := hf
    refine j_callSN (As := [(gi x12)]) (rest := [(gi x11), (ga r10)]) (v := (some (gi x14))) C (by omega) (k_X0_bit (by omega) ew13) nq1272 q347 q91 q348 hd_X0_bit (by decide) rfl (Nat.le_of_ble_eq_true rfl) dX16_ends_31 ?_
    refine j_iadd C dX16_ends_34 ?_
    replace hf := gB1_e hf
    obtain ⟨a15, ea15, hf⟩ := hf
    subst ea15
    replace hf := gB1_e hf
    obtain ⟨w16, ew16, hf⟩ := hf
    refine j_put C fl_X16_95_16 tb_16 ew16 fk_16_11 (fit_I (x11 + x14)) dX16_ends_35 ?_
    refine j_aload_n C dX16_ends_38 rfl ?_
    refine j_dup C dX16_ends_39 ?_
    replace hf := gB1_e hf
    obtain ⟨x17, ex17, hf⟩ := hf
    refine j_get C fl_X16_98_16 dX16_ends_40 (gI_F ex17) ?_
    refine j_aload_n C dX16_ends_43 rfl ?_
    replace hf := gB1_e hf
    obtain ⟨a18, ea18, hf⟩ := hf
    subst ea18
    replace hf := gB1_e hf
    obtain ⟨x19, ex19, hf⟩ := hf
    refine j_get C fl_X16_74_25 dX16_ends_44 (gI_F ex19) ?_
    refine j_bipush (v := (nI 7)) C dX16_ends_47 (by decide) ?_
    replace hf := gBd_x hf
    obtain ⟨k20, ek20, hf⟩ := hf
    have jk20 : ∀ (r22 : Option Nat) (x23 : Int32) (x24 : Int32) (w21 : gw), k20 r22 x23 x24 w21 = some (rr, ww) → gJ D dA A K p l e R s m args below meth c (gEnd D dA A K below args s w0 none ww) 2 57 [] [(gi x24), (gi x23), (ga r22)] w21 := by
      intro r22 x23 x24 w21 hf
      rw [ek20] at hf
      dsimp only at hf
      replace hf := gB2_e hf
      obtain ⟨x26, w25, ew25, hf⟩ := hf
      refine j_callSN (As := [(gi x24)]) (rest := [(gi x23), (ga r22)]) (v := (some (gi x26))) C (by omega) (k_X0_bit (by omega) ew25) nq1272 q347 q91 q348 hd_X0_bit (by decide) rfl (Nat.le_of_ble_eq_true rfl) dX16_ends_57 ?_
      refine j_iadd C dX16_ends_60 ?_
      replace hf := gB1_e hf
      obtain ⟨a27, ea27, hf⟩ := hf
      subst ea27
      replace hf := gB1_e hf
      obtain ⟨w28, ew28, hf⟩ := hf
      refine j_put C fl_X16_98_16 tb_16 ew28 fk_16_12 (fit_I (x23 + x26)) dX16_ends_61 ?_
      obtain ⟨rfl, rfl⟩ := gSome hf
      exact j_vret C hr hw dX16_ends_64
    clear ek20
    refine j_icmp_ne (tgt := 56) C dX16_ends_49 (by decide) (fun c29 => ?_) (fun c29 => ?_)
    · replace hf := gIf_f hf c29
      refine j_iconst (v := (nI 0)) C dX16_ends_56 (by decide) ?_
      refine j_sub (lv' := []) (gL_nil) ?_
      exact jk20 _ _ _ _ hf
    · replace hf := gIf_t hf c29
      refine j_iconst (v := (nI 1)) C dX16_ends_52 (by decide) ?_
      refine j_goto (tgt := 57) C dX16_ends_53 (by decide) ?_
      refine j_sub (lv' := []) (gL_nil) ?_
      exact jk20 _ _ _ _ hf
  clear ek7
  refine j_icmp_ne (tgt := 30) C dX16_ends_23 (by decide) (fun c30 => ?_) (fun c30 => ?_)
  · replace hf := gIf_f hf c30
    refine j_iconst (v := (nI 0)) C dX16_ends_30 (by decide) ?_
    exact jk7 _ _ _ _ _ hf
  · replace hf := gIf_t hf c30
    refine j_iconst (v := (nI 1)) C dX16_ends_26 (by decide) ?_
    refine j_goto (tgt := 31) C dX16_ends_27 (by decide) ?_
    exact jk7 _ _ _ _ _ hf
def dkwX16_turns_1 : List UInt8 := [180, 0, 119, 181, 0, 32, 42, 1, 181, 0, 101, 42, 1, 181, 0, 111, 177]
abbrev dktX16_turns_1 : List UInt8 := dkwX16_turns_1 ++ []
def dkwX16_turns_0 : List UInt8 := [42, 27, 181, 0, 92, 42, 16, 11, 27, 182, 0, 128, 27, 5, 159, 0, 24, 42, 42, 180, 0, 36]
abbrev dktX16_turns_0 : List UInt8 := dkwX16_turns_0 ++ dktX16_turns_1
theorem dksX16_turns_0 : cX16_turns.data.toList.drop 0 = dktX16_turns_0 := by decide +kernel
theorem dksX16_turns_1 : cX16_turns.data.toList.drop 22 = dktX16_turns_1 := dk_seg dksX16_turns_0 22 rfl rfl
theorem dX16_turns_0 : decode cX16_turns 0 = .ok (.aload_n 0, 1) := dk_42 (dk_at dksX16_turns_0 0 rfl rfl)
theorem dX16_turns_1 : decode cX16_turns 1 = .ok (.iload_n 1, 1) := dk_27 (dk_at dksX16_turns_0 1 rfl rfl)
theorem dX16_turns_2 : decode cX16_turns 2 = .ok (.putfield 92, 3) := dk_181 0 92 (dk_at dksX16_turns_0 2 rfl rfl)
theorem dX16_turns_5 : decode cX16_turns 5 = .ok (.aload_n 0, 1) := dk_42 (dk_at dksX16_turns_0 5 rfl rfl)
theorem dX16_turns_6 : decode cX16_turns 6 = .ok (.bipush 11, 2) := dk_16 11 (dk_at dksX16_turns_0 6 rfl rfl)
theorem dX16_turns_8 : decode cX16_turns 8 = .ok (.iload_n 1, 1) := dk_27 (dk_at dksX16_turns_0 8 rfl rfl)
theorem dX16_turns_9 : decode cX16_turns 9 = .ok (.invokevirtual 128, 3) := dk_182 0 128 (dk_at dksX16_turns_0 9 rfl rfl)
theorem dX16_turns_12 : decode cX16_turns 12 = .ok (.iload_n 1, 1) := dk_27 (dk_at dksX16_turns_0 12 rfl rfl)
theorem dX16_turns_13 : decode cX16_turns 13 = .ok (.iconst 2, 1) := dk_5 (dk_at dksX16_turns_0 13 rfl rfl)
theorem dX16_turns_14 : decode cX16_turns 14 = .ok (.if_icmp .eq 24, 3) := dk_159 0 24 (dk_at dksX16_turns_0 14 rfl rfl)
theorem dX16_turns_17 : decode cX16_turns 17 = .ok (.aload_n 0, 1) := dk_42 (dk_at dksX16_turns_0 17 rfl rfl)
theorem dX16_turns_18 : decode cX16_turns 18 = .ok (.aload_n 0, 1) := dk_42 (dk_at dksX16_turns_0 18 rfl rfl)
theorem dX16_turns_19 : decode cX16_turns 19 = .ok (.getfield 36, 3) := dk_180 0 36 (dk_at dksX16_turns_0 19 rfl rfl)
theorem dX16_turns_22 : decode cX16_turns 22 = .ok (.getfield 119, 3) := dk_180 0 119 (dk_at dksX16_turns_1 0 rfl rfl)
theorem dX16_turns_25 : decode cX16_turns 25 = .ok (.putfield 32, 3) := dk_181 0 32 (dk_at dksX16_turns_1 3 rfl rfl)
theorem dX16_turns_28 : decode cX16_turns 28 = .ok (.aload_n 0, 1) := dk_42 (dk_at dksX16_turns_1 6 rfl rfl)
theorem dX16_turns_29 : decode cX16_turns 29 = .ok (.aconst_null, 1) := dk_1 (dk_at dksX16_turns_1 7 rfl rfl)
theorem dX16_turns_30 : decode cX16_turns 30 = .ok (.putfield 101, 3) := dk_181 0 101 (dk_at dksX16_turns_1 8 rfl rfl)
theorem dX16_turns_33 : decode cX16_turns 33 = .ok (.aload_n 0, 1) := dk_42 (dk_at dksX16_turns_1 11 rfl rfl)
theorem dX16_turns_34 : decode cX16_turns 34 = .ok (.aconst_null, 1) := dk_1 (dk_at dksX16_turns_1 12 rfl rfl)
theorem dX16_turns_35 : decode cX16_turns 35 = .ok (.putfield 111, 3) := dk_181 0 111 (dk_at dksX16_turns_1 13 rfl rfl)
theorem dX16_turns_38 : decode cX16_turns 38 = .ok (.return_, 1) := dk_177 (dk_at dksX16_turns_1 16 rfl rfl)
theorem fl_X16_92_16 : gFL RX16 92 16 9 := gFL.mk (Cn := RX16) (T := TX16) (N := 16) (ref := "WorkflowEngine$Instance") rfl in_X16 (by decide) q827 rfl rfl (Or.inl rfl)
theorem fk_16_9 : gFk 16 9 "I" false "WorkflowEngine$Instance" := fun Cn T N h => by
  have h : (RX16, TX16, 16) = (Cn, T, N) := Option.some.inj h
  cases h
  exact ⟨rfl, rfl, rfl⟩
theorem fl_X16_32_16 : gFL RX16 32 16 10 := gFL.mk (Cn := RX16) (T := TX16) (N := 16) (ref := "WorkflowEngine$Instance") rfl in_X16 (by decide) q830 rfl rfl (Or.inl rfl)
theorem fk_16_10 : gFk 16 10 "I" false "WorkflowEngine$Instance" := fun Cn T N h => by
  have h : (RX16, TX16, 16) = (Cn, T, N) := Option.some.inj h
  cases h
  exact ⟨rfl, rfl, rfl⟩
theorem fl_X16_101_16 : gFL RX16 101 16 13 := gFL.mk (Cn := RX16) (T := TX16) (N := 16) (ref := "WorkflowEngine$Instance") rfl in_X16 (by decide) q836 rfl rfl (Or.inl rfl)
theorem ft_LWorkflowEngine_Run_ (r : Option Nat) : gFit "LWorkflowEngine$Run;" (ga r) := ⟨.object "WorkflowEngine$Run", by decide +kernel, by cases r <;> rfl, by cases r <;> rfl⟩
theorem fk_16_13 : gFk 16 13 "LWorkflowEngine$Run;" false "WorkflowEngine$Instance" := fun Cn T N h => by
  have h : (RX16, TX16, 16) = (Cn, T, N) := Option.some.inj h
  cases h
  exact ⟨rfl, rfl, rfl⟩
theorem fl_X16_111_16 : gFL RX16 111 16 14 := gFL.mk (Cn := RX16) (T := TX16) (N := 16) (ref := "WorkflowEngine$Instance") rfl in_X16 (by decide) q838 rfl rfl (Or.inl rfl)
theorem ft_LWorkflowEngine_Undo_ (r : Option Nat) : gFit "LWorkflowEngine$Undo;" (ga r) := ⟨.object "WorkflowEngine$Undo", by decide +kernel, by cases r <;> rfl, by cases r <;> rfl⟩
theorem fk_16_14 : gFk 16 14 "LWorkflowEngine$Undo;" false "WorkflowEngine$Instance" := fun Cn T N h => by
  have h : (RX16, TX16, 16) = (Cn, T, N) := Option.some.inj h
  cases h
  exact ⟨rfl, rfl, rfl⟩
def f_X16_turns (a0 : Nat) (p1 : Int32) (w0 : gw) : Option (Unit × gw) := gB1 (gPut w0 a0 16 9 (gi p1)) fun w1 => gB1 (gOb w1 a0 16) fun _ => gB2 (f_X16_notes a0 (nI 11) p1 w1) fun _ w2 => if p1 = (nI 2) then some ((), w2) else gB1 (gR w2 a0 16 0) fun r4 => gB1 r4 fun a5 => gB1 (gI w2 a5 1 3) fun x6 => gB1 (gPut w2 a0 16 10 (gi x6)) fun w7 => gB1 (gPut w7 a0 16 13 (ga none)) fun w8 => gB1 (gPut w8 a0 16 14 (ga none)) fun w9 => some ((), w9)
set_option maxHeartbeats 4000000 in
set_option maxRecDepth 100000 in
theorem k_X16_turns {D : va_G} {dA : Nat → ClassId} {A : Nat → Prop} {K : Nat → Nat} {l : Launch} {h : Nat} (hh : 1 ≤ h) {a0 : Nat} {p1 : Int32} {w0 ww : gw} {rr : Unit} (hf : f_X16_turns a0 p1 w0 = some (rr, ww)) : gMet D dA A K l yX16_turns (ws_ yX16_turns cX16_turns 2 none) h [(ga (some a0)), (gi p1)] none w0 ww := by
  refine j_start (own := RX16) (by decide +kernel) rfl (Nat.le_of_ble_eq_true rfl) ?_
  intro p e R s m args below meth c C hr hin hw
  unfold f_X16_turns at hf
  show gJ D dA A K p l e R s m args below meth c (gEnd D dA A K below args s w0 none ww) 2 0 [(0, (ga (some a0))), (1, (gi p1))] [] w0
  refine j_aload_n C dX16_turns_0 rfl ?_
  refine j_iload_n C dX16_turns_1 rfl ?_
  replace hf := gB1_e hf
  obtain ⟨w1, ew1, hf⟩ := hf
  refine j_put C fl_X16_92_16 tb_16 ew1 fk_16_9 (fit_I p1) dX16_turns_2 ?_
  refine j_aload_n C dX16_turns_5 rfl ?_
  refine j_bipush (v := (nI 11)) C dX16_turns_6 (by decide) ?_
  refine j_iload_n C dX16_turns_8 rfl ?_
  replace hf := gB1_e hf
  obtain ⟨_, eo, hf⟩ := hf
  replace hf := gB2_e hf
  obtain ⟨_, w2, ew2, hf⟩ := hf
  refine j_callV (As := [(gi (nI 11)), (gi p1)]) (rest := []) (v := none) C (by omega) (k_X16_notes (by omega) ew2) (gOb_e eo) rfl q1176 q944 q945 q118 q946 ⟨rfl, hd_X16_notes⟩ (by decide) rfl (Nat.le_of_ble_eq_true rfl) dX16_turns_9 ?_
  refine j_iload_n C dX16_turns_12 rfl ?_
  refine j_iconst (v := (nI 2)) C dX16_turns_13 (by decide) ?_
  refine j_icmp_eq (tgt := 38) C dX16_turns_14 (by decide) (fun c3 => ?_) (fun c3 => ?_)
  · replace hf := gIf_t hf c3
    obtain ⟨rfl, rfl⟩ := gSome hf
    exact j_vret C hr hw dX16_turns_38
  · replace hf := gIf_f hf c3
    refine j_aload_n C dX16_turns_17 rfl ?_
    refine j_aload_n C dX16_turns_18 rfl ?_
    replace hf := gB1_e hf
    obtain ⟨r4, er4, hf⟩ := hf
    refine j_get C fl_X16_36_16 dX16_turns_19 (gR_F er4) ?_
    replace hf := gB1_e hf
    obtain ⟨a5, ea5, hf⟩ := hf
    subst ea5
    replace hf := gB1_e hf
    obtain ⟨x6, ex6, hf⟩ := hf
    refine j_get C fl_X16_119_1 dX16_turns_22 (gI_F ex6) ?_
    replace hf := gB1_e hf
    obtain ⟨w7, ew7, hf⟩ := hf
    refine j_put C fl_X16_32_16 tb_16 ew7 fk_16_10 (fit_I x6) dX16_turns_25 ?_
    refine j_aload_n C dX16_turns_28 rfl ?_
    refine j_null C dX16_turns_29 ?_
    replace hf := gB1_e hf
    obtain ⟨w8, ew8, hf⟩ := hf
    refine j_put C fl_X16_101_16 tb_16 ew8 fk_16_13 (ft_LWorkflowEngine_Run_ none) dX16_turns_30 ?_
    refine j_aload_n C dX16_turns_33 rfl ?_
    refine j_null C dX16_turns_34 ?_
    replace hf := gB1_e hf
    obtain ⟨w9, ew9, hf⟩ := hf
    refine j_put C fl_X16_111_16 tb_16 ew9 fk_16_14 (ft_LWorkflowEngine_Undo_ none) dX16_turns_35 ?_
    obtain ⟨rfl, rfl⟩ := gSome hf
    exact j_vret C hr hw dX16_turns_38
def dkwX16_hasEnded_0 : List UInt8 := [42, 180, 0, 92, 153, 0, 15, 42, 180, 0, 92, 5, 159, 0, 7, 4, 167, 0, 4, 3, 172]
abbrev dktX16_hasEnded_0 : List UInt8 := dkwX16_hasEnded_0 ++ []
theorem dksX16_hasEnded_0 : cX16_hasEnded.data.toList.drop 0 = dktX16_hasEnded_0 := by decide +kernel
theorem dX16_hasEnded_0 : decode cX16_hasEnded 0 = .ok (.aload_n 0, 1) := dk_42 (dk_at dksX16_hasEnded_0 0 rfl rfl)
theorem dX16_hasEnded_1 : decode cX16_hasEnded 1 = .ok (.getfield 92, 3) := dk_180 0 92 (dk_at dksX16_hasEnded_0 1 rfl rfl)
theorem dX16_hasEnded_4 : decode cX16_hasEnded 4 = .ok (.ifCond .eq 15, 3) := dk_153 0 15 (dk_at dksX16_hasEnded_0 4 rfl rfl)
theorem dX16_hasEnded_7 : decode cX16_hasEnded 7 = .ok (.aload_n 0, 1) := dk_42 (dk_at dksX16_hasEnded_0 7 rfl rfl)
theorem dX16_hasEnded_8 : decode cX16_hasEnded 8 = .ok (.getfield 92, 3) := dk_180 0 92 (dk_at dksX16_hasEnded_0 8 rfl rfl)
theorem dX16_hasEnded_11 : decode cX16_hasEnded 11 = .ok (.iconst 2, 1) := dk_5 (dk_at dksX16_hasEnded_0 11 rfl rfl)
theorem dX16_hasEnded_12 : decode cX16_hasEnded 12 = .ok (.if_icmp .eq 7, 3) := dk_159 0 7 (dk_at dksX16_hasEnded_0 12 rfl rfl)
theorem dX16_hasEnded_15 : decode cX16_hasEnded 15 = .ok (.iconst 1, 1) := dk_4 (dk_at dksX16_hasEnded_0 15 rfl rfl)
theorem dX16_hasEnded_16 : decode cX16_hasEnded 16 = .ok (.goto 4, 3) := dk_167 0 4 (dk_at dksX16_hasEnded_0 16 rfl rfl)
theorem dX16_hasEnded_19 : decode cX16_hasEnded 19 = .ok (.iconst 0, 1) := dk_3 (dk_at dksX16_hasEnded_0 19 rfl rfl)
theorem dX16_hasEnded_20 : decode cX16_hasEnded 20 = .ok (.ireturn, 1) := dk_172 (dk_at dksX16_hasEnded_0 20 rfl rfl)
def f_X16_hasEnded (a0 : Nat) (w0 : gw) : Option (Int32 × gw) := gB1 (gI w0 a0 16 9) fun x1 => gBd (fun (w3 : gw) => some ((nI 0), w3)) fun k2 => if x1 = 0 then k2 w0 else gB1 (gI w0 a0 16 9) fun x5 => if x5 = (nI 2) then k2 w0 else some ((nI 1), w0)
set_option maxHeartbeats 4000000 in
set_option maxRecDepth 100000 in
theorem k_X16_hasEnded {D : va_G} {dA : Nat → ClassId} {A : Nat → Prop} {K : Nat → Nat} {l : Launch} {h : Nat} (hh : 0 ≤ h) {a0 : Nat} {w0 ww : gw} {rr : Int32} (hf : f_X16_hasEnded a0 w0 = some (rr, ww)) : gMet D dA A K l yX16_hasEnded (ws_ yX16_hasEnded cX16_hasEnded 1 (some .boolean)) h [(ga (some a0))] (some (gi rr)) w0 ww := by
  refine j_start (own := RX16) (by decide +kernel) rfl (Nat.le_of_ble_eq_true rfl) ?_
  intro p e R s m args below meth c C hr hin hw
  unfold f_X16_hasEnded at hf
  show gJ D dA A K p l e R s m args below meth c (gEnd D dA A K below args s w0 (some (gi rr)) ww) 1 0 [(0, (ga (some a0)))] [] w0
  refine j_aload_n C dX16_hasEnded_0 rfl ?_
  replace hf := gB1_e hf
  obtain ⟨x1, ex1, hf⟩ := hf
  refine j_get C fl_X16_92_16 dX16_hasEnded_1 (gI_F ex1) ?_
  replace hf := gBd_x hf
  obtain ⟨k2, ek2, hf⟩ := hf
  have jk2 : ∀ (w3 : gw), k2 w3 = some (rr, ww) → gJ D dA A K p l e R s m args below meth c (gEnd D dA A K below args s w0 (some (gi rr)) ww) 1 19 [] [] w3 := by
    intro w3 hf
    rw [ek2] at hf
    dsimp only at hf
    refine j_iconst (v := (nI 0)) C dX16_hasEnded_19 (by decide) ?_
    obtain ⟨rfl, rfl⟩ := gSome hf
    exact j_zret C hr (by decide) hw dX16_hasEnded_20
  clear ek2
  refine j_if_eq (tgt := 19) C dX16_hasEnded_4 (by decide) (fun c4 => ?_) (fun c4 => ?_)
  · replace hf := gIf_t hf c4
    refine j_sub (lv' := []) (gL_nil) ?_
    exact jk2 _ hf
  · replace hf := gIf_f hf c4
    refine j_aload_n C dX16_hasEnded_7 rfl ?_
    replace hf := gB1_e hf
    obtain ⟨x5, ex5, hf⟩ := hf
    refine j_get C fl_X16_92_16 dX16_hasEnded_8 (gI_F ex5) ?_
    refine j_iconst (v := (nI 2)) C dX16_hasEnded_11 (by decide) ?_
    refine j_icmp_eq (tgt := 19) C dX16_hasEnded_12 (by decide) (fun c6 => ?_) (fun c6 => ?_)
    · replace hf := gIf_t hf c6
      refine j_sub (lv' := []) (gL_nil) ?_
      exact jk2 _ hf
    · replace hf := gIf_f hf c6
      refine j_iconst (v := (nI 1)) C dX16_hasEnded_15 (by decide) ?_
      refine j_goto (tgt := 20) C dX16_hasEnded_16 (by decide) ?_
      obtain ⟨rfl, rfl⟩ := gSome hf
      exact j_zret C hr (by decide) hw dX16_hasEnded_20
def dkwX16_replayed_7 : List UInt8 := [96, 79, 132, 3, 1, 167, 255, 94, 44, 27, 46, 172]
abbrev dktX16_replayed_7 : List UInt8 := dkwX16_replayed_7 ++ []
def dkwX16_replayed_6 : List UInt8 := [3, 184, 0, 132, 96, 79, 44, 8, 92, 46, 21, 4, 4, 160, 0, 7, 4, 167, 0, 4, 3, 184, 0, 132]
abbrev dktX16_replayed_6 : List UInt8 := dkwX16_replayed_6 ++ dktX16_replayed_7
def dkwX16_replayed_5 : List UInt8 := [184, 0, 132, 96, 79, 44, 7, 92, 46, 21, 4, 153, 0, 9, 21, 4, 8, 160, 0, 7, 4, 167, 0, 4]
abbrev dktX16_replayed_5 : List UInt8 := dkwX16_replayed_5 ++ dktX16_replayed_6
def dkwX16_replayed_4 : List UInt8 := [3, 184, 0, 132, 96, 79, 44, 6, 92, 46, 21, 4, 16, 7, 160, 0, 7, 4, 167, 0, 4, 3]
abbrev dktX16_replayed_4 : List UInt8 := dkwX16_replayed_4 ++ dktX16_replayed_5
def dkwX16_replayed_3 : List UInt8 := [167, 0, 4, 3, 184, 0, 132, 96, 79, 44, 5, 92, 46, 21, 4, 16, 6, 160, 0, 7, 4, 167, 0, 4]
abbrev dktX16_replayed_3 : List UInt8 := dkwX16_replayed_3 ++ dktX16_replayed_4
def dkwX16_replayed_2 : List UInt8 := [6, 29, 104, 5, 96, 46, 167, 0, 6, 44, 3, 46, 79, 44, 4, 92, 46, 21, 4, 5, 160, 0, 7, 4]
abbrev dktX16_replayed_2 : List UInt8 := dkwX16_replayed_2 ++ dktX16_replayed_3
def dkwX16_replayed_1 : List UInt8 := [180, 0, 29, 6, 29, 104, 4, 96, 46, 54, 4, 44, 3, 21, 4, 16, 11, 160, 0, 16, 42, 180, 0, 29]
abbrev dktX16_replayed_1 : List UInt8 := dkwX16_replayed_1 ++ dktX16_replayed_2
def dkwX16_replayed_0 : List UInt8 := [16, 6, 188, 10, 77, 3, 62, 29, 17, 0, 200, 42, 180, 0, 89, 184, 0, 179, 162, 0, 154, 42]
abbrev dktX16_replayed_0 : List UInt8 := dkwX16_replayed_0 ++ dktX16_replayed_1
theorem dksX16_replayed_0 : cX16_replayed.data.toList.drop 0 = dktX16_replayed_0 := by decide +kernel
theorem dksX16_replayed_1 : cX16_replayed.data.toList.drop 22 = dktX16_replayed_1 := dk_seg dksX16_replayed_0 22 rfl rfl
theorem dksX16_replayed_2 : cX16_replayed.data.toList.drop 46 = dktX16_replayed_2 := dk_seg dksX16_replayed_1 24 rfl rfl
theorem dksX16_replayed_3 : cX16_replayed.data.toList.drop 70 = dktX16_replayed_3 := dk_seg dksX16_replayed_2 24 rfl rfl
theorem dksX16_replayed_4 : cX16_replayed.data.toList.drop 94 = dktX16_replayed_4 := dk_seg dksX16_replayed_3 24 rfl rfl
theorem dksX16_replayed_5 : cX16_replayed.data.toList.drop 116 = dktX16_replayed_5 := dk_seg dksX16_replayed_4 22 rfl rfl
theorem dksX16_replayed_6 : cX16_replayed.data.toList.drop 140 = dktX16_replayed_6 := dk_seg dksX16_replayed_5 24 rfl rfl
theorem dksX16_replayed_7 : cX16_replayed.data.toList.drop 164 = dktX16_replayed_7 := dk_seg dksX16_replayed_6 24 rfl rfl
theorem dX16_replayed_0 : decode cX16_replayed 0 = .ok (.bipush 6, 2) := dk_16 6 (dk_at dksX16_replayed_0 0 rfl rfl)
theorem dX16_replayed_2 : decode cX16_replayed 2 = .ok (.newarray .int, 2) := dk_188_10 (dk_at dksX16_replayed_0 2 rfl rfl)
theorem dX16_replayed_4 : decode cX16_replayed 4 = .ok (.astore_n 2, 1) := dk_77 (dk_at dksX16_replayed_0 4 rfl rfl)
theorem dX16_replayed_5 : decode cX16_replayed 5 = .ok (.iconst 0, 1) := dk_3 (dk_at dksX16_replayed_0 5 rfl rfl)
theorem dX16_replayed_6 : decode cX16_replayed 6 = .ok (.istore_n 3, 1) := dk_62 (dk_at dksX16_replayed_0 6 rfl rfl)
theorem dX16_replayed_7 : decode cX16_replayed 7 = .ok (.iload_n 3, 1) := dk_29 (dk_at dksX16_replayed_0 7 rfl rfl)
theorem dX16_replayed_8 : decode cX16_replayed 8 = .ok (.sipush 200, 3) := dk_17 0 200 (dk_at dksX16_replayed_0 8 rfl rfl)
theorem dX16_replayed_11 : decode cX16_replayed 11 = .ok (.aload_n 0, 1) := dk_42 (dk_at dksX16_replayed_0 11 rfl rfl)
theorem dX16_replayed_12 : decode cX16_replayed 12 = .ok (.getfield 89, 3) := dk_180 0 89 (dk_at dksX16_replayed_0 12 rfl rfl)
theorem dX16_replayed_15 : decode cX16_replayed 15 = .ok (.invokestatic 179, 3) := dk_184 0 179 (dk_at dksX16_replayed_0 15 rfl rfl)
theorem dX16_replayed_18 : decode cX16_replayed 18 = .ok (.if_icmp .ge 154, 3) := dk_162 0 154 (dk_at dksX16_replayed_0 18 rfl rfl)
theorem dX16_replayed_21 : decode cX16_replayed 21 = .ok (.aload_n 0, 1) := dk_42 (dk_at dksX16_replayed_0 21 rfl rfl)
theorem dX16_replayed_22 : decode cX16_replayed 22 = .ok (.getfield 29, 3) := dk_180 0 29 (dk_at dksX16_replayed_1 0 rfl rfl)
theorem dX16_replayed_25 : decode cX16_replayed 25 = .ok (.iconst 3, 1) := dk_6 (dk_at dksX16_replayed_1 3 rfl rfl)
theorem dX16_replayed_26 : decode cX16_replayed 26 = .ok (.iload_n 3, 1) := dk_29 (dk_at dksX16_replayed_1 4 rfl rfl)
theorem dX16_replayed_27 : decode cX16_replayed 27 = .ok (.imul, 1) := dk_104 (dk_at dksX16_replayed_1 5 rfl rfl)
theorem dX16_replayed_28 : decode cX16_replayed 28 = .ok (.iconst 1, 1) := dk_4 (dk_at dksX16_replayed_1 6 rfl rfl)
theorem dX16_replayed_29 : decode cX16_replayed 29 = .ok (.iadd, 1) := dk_96 (dk_at dksX16_replayed_1 7 rfl rfl)
theorem dX16_replayed_30 : decode cX16_replayed 30 = .ok (.iaload, 1) := dk_46 (dk_at dksX16_replayed_1 8 rfl rfl)
theorem dX16_replayed_31 : decode cX16_replayed 31 = .ok (.istore 4, 2) := dk_54 4 (dk_at dksX16_replayed_1 9 rfl rfl)
theorem dX16_replayed_33 : decode cX16_replayed 33 = .ok (.aload_n 2, 1) := dk_44 (dk_at dksX16_replayed_1 11 rfl rfl)
theorem dX16_replayed_34 : decode cX16_replayed 34 = .ok (.iconst 0, 1) := dk_3 (dk_at dksX16_replayed_1 12 rfl rfl)
theorem dX16_replayed_35 : decode cX16_replayed 35 = .ok (.iload 4, 2) := dk_21 4 (dk_at dksX16_replayed_1 13 rfl rfl)
theorem dX16_replayed_37 : decode cX16_replayed 37 = .ok (.bipush 11, 2) := dk_16 11 (dk_at dksX16_replayed_1 15 rfl rfl)
theorem dX16_replayed_39 : decode cX16_replayed 39 = .ok (.if_icmp .ne 16, 3) := dk_160 0 16 (dk_at dksX16_replayed_1 17 rfl rfl)
theorem dX16_replayed_42 : decode cX16_replayed 42 = .ok (.aload_n 0, 1) := dk_42 (dk_at dksX16_replayed_1 20 rfl rfl)
theorem dX16_replayed_43 : decode cX16_replayed 43 = .ok (.getfield 29, 3) := dk_180 0 29 (dk_at dksX16_replayed_1 21 rfl rfl)
theorem dX16_replayed_46 : decode cX16_replayed 46 = .ok (.iconst 3, 1) := dk_6 (dk_at dksX16_replayed_2 0 rfl rfl)
theorem dX16_replayed_47 : decode cX16_replayed 47 = .ok (.iload_n 3, 1) := dk_29 (dk_at dksX16_replayed_2 1 rfl rfl)
theorem dX16_replayed_48 : decode cX16_replayed 48 = .ok (.imul, 1) := dk_104 (dk_at dksX16_replayed_2 2 rfl rfl)
theorem dX16_replayed_49 : decode cX16_replayed 49 = .ok (.iconst 2, 1) := dk_5 (dk_at dksX16_replayed_2 3 rfl rfl)
theorem dX16_replayed_50 : decode cX16_replayed 50 = .ok (.iadd, 1) := dk_96 (dk_at dksX16_replayed_2 4 rfl rfl)
theorem dX16_replayed_51 : decode cX16_replayed 51 = .ok (.iaload, 1) := dk_46 (dk_at dksX16_replayed_2 5 rfl rfl)
theorem dX16_replayed_52 : decode cX16_replayed 52 = .ok (.goto 6, 3) := dk_167 0 6 (dk_at dksX16_replayed_2 6 rfl rfl)
theorem dX16_replayed_55 : decode cX16_replayed 55 = .ok (.aload_n 2, 1) := dk_44 (dk_at dksX16_replayed_2 9 rfl rfl)
theorem dX16_replayed_56 : decode cX16_replayed 56 = .ok (.iconst 0, 1) := dk_3 (dk_at dksX16_replayed_2 10 rfl rfl)
theorem dX16_replayed_57 : decode cX16_replayed 57 = .ok (.iaload, 1) := dk_46 (dk_at dksX16_replayed_2 11 rfl rfl)
theorem dX16_replayed_58 : decode cX16_replayed 58 = .ok (.iastore, 1) := dk_79 (dk_at dksX16_replayed_2 12 rfl rfl)
theorem dX16_replayed_59 : decode cX16_replayed 59 = .ok (.aload_n 2, 1) := dk_44 (dk_at dksX16_replayed_2 13 rfl rfl)
theorem dX16_replayed_60 : decode cX16_replayed 60 = .ok (.iconst 1, 1) := dk_4 (dk_at dksX16_replayed_2 14 rfl rfl)
theorem dX16_replayed_61 : decode cX16_replayed 61 = .ok (.dup2, 1) := dk_92 (dk_at dksX16_replayed_2 15 rfl rfl)
theorem dX16_replayed_62 : decode cX16_replayed 62 = .ok (.iaload, 1) := dk_46 (dk_at dksX16_replayed_2 16 rfl rfl)
theorem dX16_replayed_63 : decode cX16_replayed 63 = .ok (.iload 4, 2) := dk_21 4 (dk_at dksX16_replayed_2 17 rfl rfl)
theorem dX16_replayed_65 : decode cX16_replayed 65 = .ok (.iconst 2, 1) := dk_5 (dk_at dksX16_replayed_2 19 rfl rfl)
theorem dX16_replayed_66 : decode cX16_replayed 66 = .ok (.if_icmp .ne 7, 3) := dk_160 0 7 (dk_at dksX16_replayed_2 20 rfl rfl)
theorem dX16_replayed_69 : decode cX16_replayed 69 = .ok (.iconst 1, 1) := dk_4 (dk_at dksX16_replayed_2 23 rfl rfl)
theorem dX16_replayed_70 : decode cX16_replayed 70 = .ok (.goto 4, 3) := dk_167 0 4 (dk_at dksX16_replayed_3 0 rfl rfl)
theorem dX16_replayed_73 : decode cX16_replayed 73 = .ok (.iconst 0, 1) := dk_3 (dk_at dksX16_replayed_3 3 rfl rfl)
theorem dX16_replayed_74 : decode cX16_replayed 74 = .ok (.invokestatic 132, 3) := dk_184 0 132 (dk_at dksX16_replayed_3 4 rfl rfl)
theorem dX16_replayed_77 : decode cX16_replayed 77 = .ok (.iadd, 1) := dk_96 (dk_at dksX16_replayed_3 7 rfl rfl)
theorem dX16_replayed_78 : decode cX16_replayed 78 = .ok (.iastore, 1) := dk_79 (dk_at dksX16_replayed_3 8 rfl rfl)
theorem dX16_replayed_79 : decode cX16_replayed 79 = .ok (.aload_n 2, 1) := dk_44 (dk_at dksX16_replayed_3 9 rfl rfl)
theorem dX16_replayed_80 : decode cX16_replayed 80 = .ok (.iconst 2, 1) := dk_5 (dk_at dksX16_replayed_3 10 rfl rfl)
theorem dX16_replayed_81 : decode cX16_replayed 81 = .ok (.dup2, 1) := dk_92 (dk_at dksX16_replayed_3 11 rfl rfl)
theorem dX16_replayed_82 : decode cX16_replayed 82 = .ok (.iaload, 1) := dk_46 (dk_at dksX16_replayed_3 12 rfl rfl)
theorem dX16_replayed_83 : decode cX16_replayed 83 = .ok (.iload 4, 2) := dk_21 4 (dk_at dksX16_replayed_3 13 rfl rfl)
theorem dX16_replayed_85 : decode cX16_replayed 85 = .ok (.bipush 6, 2) := dk_16 6 (dk_at dksX16_replayed_3 15 rfl rfl)
theorem dX16_replayed_87 : decode cX16_replayed 87 = .ok (.if_icmp .ne 7, 3) := dk_160 0 7 (dk_at dksX16_replayed_3 17 rfl rfl)
theorem dX16_replayed_90 : decode cX16_replayed 90 = .ok (.iconst 1, 1) := dk_4 (dk_at dksX16_replayed_3 20 rfl rfl)
theorem dX16_replayed_91 : decode cX16_replayed 91 = .ok (.goto 4, 3) := dk_167 0 4 (dk_at dksX16_replayed_3 21 rfl rfl)
theorem dX16_replayed_94 : decode cX16_replayed 94 = .ok (.iconst 0, 1) := dk_3 (dk_at dksX16_replayed_4 0 rfl rfl)
theorem dX16_replayed_95 : decode cX16_replayed 95 = .ok (.invokestatic 132, 3) := dk_184 0 132 (dk_at dksX16_replayed_4 1 rfl rfl)
theorem dX16_replayed_98 : decode cX16_replayed 98 = .ok (.iadd, 1) := dk_96 (dk_at dksX16_replayed_4 4 rfl rfl)
theorem dX16_replayed_99 : decode cX16_replayed 99 = .ok (.iastore, 1) := dk_79 (dk_at dksX16_replayed_4 5 rfl rfl)
theorem dX16_replayed_100 : decode cX16_replayed 100 = .ok (.aload_n 2, 1) := dk_44 (dk_at dksX16_replayed_4 6 rfl rfl)
theorem dX16_replayed_101 : decode cX16_replayed 101 = .ok (.iconst 3, 1) := dk_6 (dk_at dksX16_replayed_4 7 rfl rfl)
theorem dX16_replayed_102 : decode cX16_replayed 102 = .ok (.dup2, 1) := dk_92 (dk_at dksX16_replayed_4 8 rfl rfl)
theorem dX16_replayed_103 : decode cX16_replayed 103 = .ok (.iaload, 1) := dk_46 (dk_at dksX16_replayed_4 9 rfl rfl)
theorem dX16_replayed_104 : decode cX16_replayed 104 = .ok (.iload 4, 2) := dk_21 4 (dk_at dksX16_replayed_4 10 rfl rfl)
theorem dX16_replayed_106 : decode cX16_replayed 106 = .ok (.bipush 7, 2) := dk_16 7 (dk_at dksX16_replayed_4 12 rfl rfl)
theorem dX16_replayed_108 : decode cX16_replayed 108 = .ok (.if_icmp .ne 7, 3) := dk_160 0 7 (dk_at dksX16_replayed_4 14 rfl rfl)
theorem dX16_replayed_111 : decode cX16_replayed 111 = .ok (.iconst 1, 1) := dk_4 (dk_at dksX16_replayed_4 17 rfl rfl)
theorem dX16_replayed_112 : decode cX16_replayed 112 = .ok (.goto 4, 3) := dk_167 0 4 (dk_at dksX16_replayed_4 18 rfl rfl)
theorem dX16_replayed_115 : decode cX16_replayed 115 = .ok (.iconst 0, 1) := dk_3 (dk_at dksX16_replayed_4 21 rfl rfl)
theorem dX16_replayed_116 : decode cX16_replayed 116 = .ok (.invokestatic 132, 3) := dk_184 0 132 (dk_at dksX16_replayed_5 0 rfl rfl)
theorem dX16_replayed_119 : decode cX16_replayed 119 = .ok (.iadd, 1) := dk_96 (dk_at dksX16_replayed_5 3 rfl rfl)
theorem dX16_replayed_120 : decode cX16_replayed 120 = .ok (.iastore, 1) := dk_79 (dk_at dksX16_replayed_5 4 rfl rfl)
theorem dX16_replayed_121 : decode cX16_replayed 121 = .ok (.aload_n 2, 1) := dk_44 (dk_at dksX16_replayed_5 5 rfl rfl)
theorem dX16_replayed_122 : decode cX16_replayed 122 = .ok (.iconst 4, 1) := dk_7 (dk_at dksX16_replayed_5 6 rfl rfl)
theorem dX16_replayed_123 : decode cX16_replayed 123 = .ok (.dup2, 1) := dk_92 (dk_at dksX16_replayed_5 7 rfl rfl)
theorem dX16_replayed_124 : decode cX16_replayed 124 = .ok (.iaload, 1) := dk_46 (dk_at dksX16_replayed_5 8 rfl rfl)
theorem dX16_replayed_125 : decode cX16_replayed 125 = .ok (.iload 4, 2) := dk_21 4 (dk_at dksX16_replayed_5 9 rfl rfl)
theorem dX16_replayed_127 : decode cX16_replayed 127 = .ok (.ifCond .eq 9, 3) := dk_153 0 9 (dk_at dksX16_replayed_5 11 rfl rfl)
theorem dX16_replayed_130 : decode cX16_replayed 130 = .ok (.iload 4, 2) := dk_21 4 (dk_at dksX16_replayed_5 14 rfl rfl)
theorem dX16_replayed_132 : decode cX16_replayed 132 = .ok (.iconst 5, 1) := dk_8 (dk_at dksX16_replayed_5 16 rfl rfl)
theorem dX16_replayed_133 : decode cX16_replayed 133 = .ok (.if_icmp .ne 7, 3) := dk_160 0 7 (dk_at dksX16_replayed_5 17 rfl rfl)
theorem dX16_replayed_136 : decode cX16_replayed 136 = .ok (.iconst 1, 1) := dk_4 (dk_at dksX16_replayed_5 20 rfl rfl)
theorem dX16_replayed_137 : decode cX16_replayed 137 = .ok (.goto 4, 3) := dk_167 0 4 (dk_at dksX16_replayed_5 21 rfl rfl)
theorem dX16_replayed_140 : decode cX16_replayed 140 = .ok (.iconst 0, 1) := dk_3 (dk_at dksX16_replayed_6 0 rfl rfl)
theorem dX16_replayed_141 : decode cX16_replayed 141 = .ok (.invokestatic 132, 3) := dk_184 0 132 (dk_at dksX16_replayed_6 1 rfl rfl)
theorem dX16_replayed_144 : decode cX16_replayed 144 = .ok (.iadd, 1) := dk_96 (dk_at dksX16_replayed_6 4 rfl rfl)
theorem dX16_replayed_145 : decode cX16_replayed 145 = .ok (.iastore, 1) := dk_79 (dk_at dksX16_replayed_6 5 rfl rfl)
theorem dX16_replayed_146 : decode cX16_replayed 146 = .ok (.aload_n 2, 1) := dk_44 (dk_at dksX16_replayed_6 6 rfl rfl)
theorem dX16_replayed_147 : decode cX16_replayed 147 = .ok (.iconst 5, 1) := dk_8 (dk_at dksX16_replayed_6 7 rfl rfl)
theorem dX16_replayed_148 : decode cX16_replayed 148 = .ok (.dup2, 1) := dk_92 (dk_at dksX16_replayed_6 8 rfl rfl)
theorem dX16_replayed_149 : decode cX16_replayed 149 = .ok (.iaload, 1) := dk_46 (dk_at dksX16_replayed_6 9 rfl rfl)
theorem dX16_replayed_150 : decode cX16_replayed 150 = .ok (.iload 4, 2) := dk_21 4 (dk_at dksX16_replayed_6 10 rfl rfl)
theorem dX16_replayed_152 : decode cX16_replayed 152 = .ok (.iconst 1, 1) := dk_4 (dk_at dksX16_replayed_6 12 rfl rfl)
theorem dX16_replayed_153 : decode cX16_replayed 153 = .ok (.if_icmp .ne 7, 3) := dk_160 0 7 (dk_at dksX16_replayed_6 13 rfl rfl)
theorem dX16_replayed_156 : decode cX16_replayed 156 = .ok (.iconst 1, 1) := dk_4 (dk_at dksX16_replayed_6 16 rfl rfl)
theorem dX16_replayed_157 : decode cX16_replayed 157 = .ok (.goto 4, 3) := dk_167 0 4 (dk_at dksX16_replayed_6 17 rfl rfl)
theorem dX16_replayed_160 : decode cX16_replayed 160 = .ok (.iconst 0, 1) := dk_3 (dk_at dksX16_replayed_6 20 rfl rfl)
theorem dX16_replayed_161 : decode cX16_replayed 161 = .ok (.invokestatic 132, 3) := dk_184 0 132 (dk_at dksX16_replayed_6 21 rfl rfl)
theorem dX16_replayed_164 : decode cX16_replayed 164 = .ok (.iadd, 1) := dk_96 (dk_at dksX16_replayed_7 0 rfl rfl)
theorem dX16_replayed_165 : decode cX16_replayed 165 = .ok (.iastore, 1) := dk_79 (dk_at dksX16_replayed_7 1 rfl rfl)
theorem dX16_replayed_166 : decode cX16_replayed 166 = .ok (.iinc 3 1, 3) := dk_132 3 1 (dk_at dksX16_replayed_7 2 rfl rfl)
theorem dX16_replayed_169 : decode cX16_replayed 169 = .ok (.goto (-162), 3) := dk_167 255 94 (dk_at dksX16_replayed_7 5 rfl rfl)
theorem dX16_replayed_172 : decode cX16_replayed 172 = .ok (.aload_n 2, 1) := dk_44 (dk_at dksX16_replayed_7 8 rfl rfl)
theorem dX16_replayed_173 : decode cX16_replayed 173 = .ok (.iload_n 1, 1) := dk_27 (dk_at dksX16_replayed_7 9 rfl rfl)
theorem dX16_replayed_174 : decode cX16_replayed 174 = .ok (.iaload, 1) := dk_46 (dk_at dksX16_replayed_7 10 rfl rfl)
theorem dX16_replayed_175 : decode cX16_replayed 175 = .ok (.ireturn, 1) := dk_172 (dk_at dksX16_replayed_7 11 rfl rfl)
def f_X16_replayed (a0 : Nat) (p1 : Int32) (w0 : gw) : Option (Int32 × gw) := gB2 (gNewI w0 0 (nI 6)) fun a1 w2 => gL3 (fun k7 (x4 : Int32) (r5 : Option Nat) (x6 : Int32) (w3 : gw) => gB1 (gI w3 a0 16 8) fun x8 => gB2 (f_J6_min (nI 200) x8 w3) fun x10 w9 => if x10 ≤ x6 then gB1 r5 fun a12 => gB1 (gLdI w9 a12 0 x4) fun x13 => some (x13, w9) else gB1 (gR w9 a0 16 7) fun r14 => gB1 r14 fun a15 => gB1 (gLdI w9 a15 0 (((nI 3) * x6) + (nI 1))) fun x16 => gBd (fun (x19 : Int32) (r20 : Option Nat) (x21 : Int32) (x22 : Int32) (r23 : Option Nat) (x24 : Int32) (x25 : Int32) (w18 : gw) => gB1 r23 fun a26 => gB1 (gStI w18 a26 0 x24 x25) fun w27 => gB1 r20 fun a28 => gB1 (gLdI w27 a28 0 (nI 1)) fun x29 => gBd (fun (x32 : Int32) (r33 : Option Nat) (x34 : Int32) (x35 : Int32) (r36 : Option Nat) (x37 : Int32) (x38 : Int32) (x39 : Int32) (w31 : gw) => gB2 (f_X0_bit x39 w31) fun x41 w40 => gB1 r36 fun a42 => gB1 (gStI w40 a42 0 x37 (x38 + x41)) fun w43 => gB1 r33 fun a44 => gB1 (gLdI w43 a44 0 (nI 2)) fun x45 => gBd (fun (x48 : Int32) (r49 : Option Nat) (x50 : Int32) (x51 : Int32) (r52 : Option Nat) (x53 : Int32) (x54 : Int32) (x55 : Int32) (w47 : gw) => gB2 (f_X0_bit x55 w47) fun x57 w56 => gB1 r52 fun a58 => gB1 (gStI w56 a58 0 x53 (x54 + x57)) fun w59 => gB1 r49 fun a60 => gB1 (gLdI w59 a60 0 (nI 3)) fun x61 => gBd (fun (x64 : Int32) (r65 : Option Nat) (x66 : Int32) (x67 : Int32) (r68 : Option Nat) (x69 : Int32) (x70 : Int32) (x71 : Int32) (w63 : gw) => gB2 (f_X0_bit x71 w63) fun x73 w72 => gB1 r68 fun a74 => gB1 (gStI w72 a74 0 x69 (x70 + x73)) fun w75 => gB1 r65 fun a76 => gB1 (gLdI w75 a76 0 (nI 4)) fun x77 => gBd (fun (x80 : Int32) (r81 : Option Nat) (x82 : Int32) (x83 : Int32) (r84 : Option Nat) (x85 : Int32) (x86 : Int32) (x87 : Int32) (w79 : gw) => gB2 (f_X0_bit x87 w79) fun x89 w88 => gB1 r84 fun a90 => gB1 (gStI w88 a90 0 x85 (x86 + x89)) fun w91 => gB1 r81 fun a92 => gB1 (gLdI w91 a92 0 (nI 5)) fun x93 => gBd (fun (x96 : Int32) (r97 : Option Nat) (x98 : Int32) (r99 : Option Nat) (x100 : Int32) (x101 : Int32) (x102 : Int32) (w95 : gw) => gB2 (f_X0_bit x102 w95) fun x104 w103 => gB1 r99 fun a105 => gB1 (gStI w103 a105 0 x100 (x101 + x104)) fun w106 => gBd (x98 + (nI 1)) fun x107 => k7 x96 r97 x107 w106) fun k94 => if x83 = (nI 1) then k94 x80 (some a92) x82 (some a92) (nI 5) x93 (nI 1) w91 else k94 x80 (some a92) x82 (some a92) (nI 5) x93 (nI 0) w91) fun k78 => gBd (fun (x111 : Int32) (r112 : Option Nat) (x113 : Int32) (x114 : Int32) (r115 : Option Nat) (x116 : Int32) (x117 : Int32) (w110 : gw) => k78 x111 r112 x113 x114 r115 x116 x117 (nI 1) w110) fun k109 => if x67 = 0 then k109 x64 (some a76) x66 x67 (some a76) (nI 4) x77 w75 else if x67 = (nI 5) then k109 x64 (some a76) x66 x67 (some a76) (nI 4) x77 w75 else k78 x64 (some a76) x66 x67 (some a76) (nI 4) x77 (nI 0) w75) fun k62 => if x51 = (nI 7) then k62 x48 (some a60) x50 x51 (some a60) (nI 3) x61 (nI 1) w59 else k62 x48 (some a60) x50 x51 (some a60) (nI 3) x61 (nI 0) w59) fun k46 => if x35 = (nI 6) then k46 x32 (some a44) x34 x35 (some a44) (nI 2) x45 (nI 1) w43 else k46 x32 (some a44) x34 x35 (some a44) (nI 2) x45 (nI 0) w43) fun k30 => if x22 = (nI 2) then k30 x19 (some a28) x21 x22 (some a28) (nI 1) x29 (nI 1) w27 else k30 x19 (some a28) x21 x22 (some a28) (nI 1) x29 (nI 0) w27) fun k17 => if x16 = (nI 11) then gB1 (gR w9 a0 16 7) fun r126 => gB1 r126 fun a127 => gB1 (gLdI w9 a127 0 (((nI 3) * x6) + (nI 2))) fun x128 => k17 x4 r5 x6 x16 r5 (nI 0) x128 w9 else gB1 r5 fun a124 => gB1 (gLdI w9 a124 0 (nI 0)) fun x125 => k17 x4 (some a124) x6 x16 (some a124) (nI 0) x125 w9) 20000 p1 (some a1) (nI 0) w2
set_option maxHeartbeats 4000000 in
set_option maxRecDepth 100000 in
theorem k_X16_replayed {D : va_G} {dA : Nat → ClassId} {A : Nat → Prop} {K : Nat → Nat} {l : Launch} {h : Nat} (hh : 1 ≤ h) {a0 : Nat} {p1 : Int32} {w0 ww : gw} {rr : Int32} (hf : f_X16_replayed a0 p1 w0 = some (rr, ww)) : gMet D dA A K l yX16_replayed (ws_ yX16_replayed cX16_replayed 5 (some .int)) h [(ga (some a0)), (gi p1)] (some (gi rr)) w0 ww := by
  refine j_start (own := RX16) (by decide +kernel) rfl (Nat.le_of_ble_eq_true rfl) ?_
  intro p e R s m args below meth c C hr hin hw
  unfold f_X16_replayed at hf
  show gJ D dA A K p l e R s m args below meth c (gEnd D dA A K below args s w0 (some (gi rr)) ww) 5 0 [(0, (ga (some a0))), (1, (gi p1))] [] w0
  refine j_bipush (v := (nI 6)) C dX16_replayed_0 (by decide) ?_
  replace hf := gB2_e hf
  obtain ⟨a1, w2, ew2, hf⟩ := hf
  refine j_newi C (t := 0) (atype := .int) rfl (by decide) rfl rfl q761 ew2 dX16_replayed_2 ?_
  refine j_astore_n (lv' := [(2, (ga (some a1))), (0, (ga (some a0))), (1, (gi p1))]) C dX16_replayed_4 (by decide) rfl ?_
  refine j_iconst (v := (nI 0)) C dX16_replayed_5 (by decide) ?_
  refine j_istore_n (lv' := [(3, (gi (nI 0))), (2, (ga (some a1))), (0, (ga (some a0))), (1, (gi p1))]) C dX16_replayed_6 (by decide) rfl ?_
  refine j_sub (lv' := [(0, (ga (some a0))), (1, (gi p1)), (2, (ga (some a1))), (3, (gi (nI 0)))]) (gL_cons rfl (gL_cons rfl (gL_cons rfl (gL_cons rfl (gL_nil))))) ?_
  refine gL3_e (fun (x4 : Int32) (r5 : Option Nat) (x6 : Int32) (w3 : gw) => gJ D dA A K p l e R s m args below meth c (gEnd D dA A K below args s w0 (some (gi rr)) ww) 5 7 [(0, (ga (some a0))), (1, (gi x4)), (2, (ga r5)), (3, (gi x6))] [] w3) ?_ _ _ _ _ _ hf
  intro k7 jk7 x4 r5 x6 w3 hf
  refine j_iload_n C dX16_replayed_7 rfl ?_
  refine j_sipush (v := (nI 200)) C dX16_replayed_8 (by decide) ?_
  refine j_aload_n C dX16_replayed_11 rfl ?_
  replace hf := gB1_e hf
  obtain ⟨x8, ex8, hf⟩ := hf
  refine j_get C fl_X16_89_16 dX16_replayed_12 (gI_F ex8) ?_
  replace hf := gB2_e hf
  obtain ⟨x10, w9, ew9, hf⟩ := hf
  refine j_callS (As := [(gi (nI 200)), (gi x8)]) (rest := [(gi x6)]) (v := (some (gi x10))) C (by omega) (k_J6_min (by omega) ew9) q1503 q552 q111 q553 hd_J6_min (by decide) rfl (Nat.le_of_ble_eq_true rfl) dX16_replayed_15 ?_
  refine j_icmp_ge (tgt := 172) C dX16_replayed_18 (by decide) (fun c11 => ?_) (fun c11 => ?_)
  · replace hf := gIf_t hf c11
    refine j_aload_n C dX16_replayed_172 rfl ?_
    refine j_iload_n C dX16_replayed_173 rfl ?_
    replace hf := gB1_e hf
    obtain ⟨a12, ea12, hf⟩ := hf
    subst ea12
    replace hf := gB1_e hf
    obtain ⟨x13, ex13, hf⟩ := hf
    refine j_iald C ex13 dX16_replayed_174 ?_
    obtain ⟨rfl, rfl⟩ := gSome hf
    exact j_iret C hr hw dX16_replayed_175
  · replace hf := gIf_f hf c11
    refine j_aload_n C dX16_replayed_21 rfl ?_
    replace hf := gB1_e hf
    obtain ⟨r14, er14, hf⟩ := hf
    refine j_get C fl_X16_29_16 dX16_replayed_22 (gR_F er14) ?_
    refine j_iconst (v := (nI 3)) C dX16_replayed_25 (by decide) ?_
    refine j_iload_n C dX16_replayed_26 rfl ?_
    refine j_imul C dX16_replayed_27 ?_
    refine j_iconst (v := (nI 1)) C dX16_replayed_28 (by decide) ?_
    refine j_iadd C dX16_replayed_29 ?_
    replace hf := gB1_e hf
    obtain ⟨a15, ea15, hf⟩ := hf
    subst ea15
    replace hf := gB1_e hf
    obtain ⟨x16, ex16, hf⟩ := hf
    refine j_iald C ex16 dX16_replayed_30 ?_
    refine j_istore (lv' := [(4, (gi x16)), (0, (ga (some a0))), (1, (gi x4)), (2, (ga r5)), (3, (gi x6))]) C dX16_replayed_31 (by decide) rfl ?_
    refine j_aload_n C dX16_replayed_33 rfl ?_
    refine j_iconst (v := (nI 0)) C dX16_replayed_34 (by decide) ?_
    refine j_iload C dX16_replayed_35 rfl ?_
    refine j_bipush (v := (nI 11)) C dX16_replayed_37 (by decide) ?_
    replace hf := gBd_x hf
    obtain ⟨k17, ek17, hf⟩ := hf
    have jk17 : ∀ (x19 : Int32) (r20 : Option Nat) (x21 : Int32) (x22 : Int32) (r23 : Option Nat) (x24 : Int32) (x25 : Int32) (w18 : gw), k17 x19 r20 x21 x22 r23 x24 x25 w18 = some (rr, ww) → gJ D dA A K p l e R s m args below meth c (gEnd D dA A K below args s w0 (some (gi rr)) ww) 5 58 [(0, (ga (some a0))), (1, (gi x19)), (2, (ga r20)), (3, (gi x21)), (4, (gi x22))] [(gi x25), (gi x24), (ga r23)] w18 := by
      intro x19 r20 x21 x22 r23 x24 x25 w18 hf
      rw [ek17] at hf
      dsimp only at hf
      replace hf := gB1_e hf
      obtain ⟨a26, ea26, hf⟩ := hf
      subst ea26
      replace hf := gB1_e hf
      obtain ⟨w27, ew27, hf⟩ := hf
      refine j_iast C ew27 dX16_replayed_58 ?_
      refine j_aload_n C dX16_replayed_59 rfl ?_
      refine j_iconst (v := (nI 1)) C dX16_replayed_60 (by decide) ?_
      refine j_dup2 C dX16_replayed_61 ?_
      replace hf := gB1_e hf
      obtain ⟨a28, ea28, hf⟩ := hf
      subst ea28
      replace hf := gB1_e hf
      obtain ⟨x29, ex29, hf⟩ := hf
      refine j_iald C ex29 dX16_replayed_62 ?_
      refine j_iload C dX16_replayed_63 rfl ?_
      refine j_iconst (v := (nI 2)) C dX16_replayed_65 (by decide) ?_
      replace hf := gBd_x hf
      obtain ⟨k30, ek30, hf⟩ := hf
      have jk30 : ∀ (x32 : Int32) (r33 : Option Nat) (x34 : Int32) (x35 : Int32) (r36 : Option Nat) (x37 : Int32) (x38 : Int32) (x39 : Int32) (w31 : gw), k30 x32 r33 x34 x35 r36 x37 x38 x39 w31 = some (rr, ww) → gJ D dA A K p l e R s m args below meth c (gEnd D dA A K below args s w0 (some (gi rr)) ww) 5 74 [(0, (ga (some a0))), (1, (gi x32)), (2, (ga r33)), (3, (gi x34)), (4, (gi x35))] [(gi x39), (gi x38), (gi x37), (ga r36)] w31 := by
        intro x32 r33 x34 x35 r36 x37 x38 x39 w31 hf
        rw [ek30] at hf
        dsimp only at hf
        replace hf := gB2_e hf
        obtain ⟨x41, w40, ew40, hf⟩ := hf
        refine j_callSN (As := [(gi x39)]) (rest := [(gi x38), (gi x37), (ga r36)]) (v := (some (gi x41))) C (by omega) (k_X0_bit (by omega) ew40) nq1272 q347 q91 q348 hd_X0_bit (by decide) rfl (Nat.le_of_ble_eq_true rfl) dX16_replayed_74 ?_
        refine j_iadd C dX16_replayed_77 ?_
        replace hf := gB1_e hf
        obtain ⟨a42, ea42, hf⟩ := hf
        subst ea42
        replace hf := gB1_e hf
        obtain ⟨w43, ew43, hf⟩ := hf
        refine j_iast C ew43 dX16_replayed_78 ?_
        refine j_aload_n C dX16_replayed_79 rfl ?_
        refine j_iconst (v := (nI 2)) C dX16_replayed_80 (by decide) ?_
        refine j_dup2 C dX16_replayed_81 ?_
        replace hf := gB1_e hf
        obtain ⟨a44, ea44, hf⟩ := hf
        subst ea44
        replace hf := gB1_e hf
        obtain ⟨x45, ex45, hf⟩ := hf
        refine j_iald C ex45 dX16_replayed_82 ?_
        refine j_iload C dX16_replayed_83 rfl ?_
        refine j_bipush (v := (nI 6)) C dX16_replayed_85 (by decide) ?_
        replace hf := gBd_x hf
        obtain ⟨k46, ek46, hf⟩ := hf
        have jk46 : ∀ (x48 : Int32) (r49 : Option Nat) (x50 : Int32) (x51 : Int32) (r52 : Option Nat) (x53 : Int32) (x54 : Int32) (x55 : Int32) (w47 : gw), k46 x48 r49 x50 x51 r52 x53 x54 x55 w47 = some (rr, ww) → gJ D dA A K p l e R s m args below meth c (gEnd D dA A K below args s w0 (some (gi rr)) ww) 5 95 [(0, (ga (some a0))), (1, (gi x48)), (2, (ga r49)), (3, (gi x50)), (4, (gi x51))] [(gi x55), (gi x54), (gi x53), (ga r52)] w47 := by
          intro x48 r49 x50 x51 r52 x53 x54 x55 w47 hf
          rw [ek46] at hf
          dsimp only at hf
          replace hf := gB2_e hf
          obtain ⟨x57, w56, ew56, hf⟩ := hf
          refine j_callSN (As := [(gi x55)]) (rest := [(gi x54), (gi x53), (ga r52)]) (v := (some (gi x57))) C (by omega) (k_X0_bit (by omega) ew56) nq1272 q347 q91 q348 hd_X0_bit (by decide) rfl (Nat.le_of_ble_eq_true rfl) dX16_replayed_95 ?_
          refine j_iadd C dX16_replayed_98 ?_
          replace hf := gB1_e hf
          obtain ⟨a58, ea58, hf⟩ := hf
          subst ea58
          replace hf := gB1_e hf
          obtain ⟨w59, ew59, hf⟩ := hf
          refine j_iast C ew59 dX16_replayed_99 ?_
          refine j_aload_n C dX16_replayed_100 rfl ?_
          refine j_iconst (v := (nI 3)) C dX16_replayed_101 (by decide) ?_
          refine j_dup2 C dX16_replayed_102 ?_
          replace hf := gB1_e hf
          obtain ⟨a60, ea60, hf⟩ := hf
          subst ea60
          replace hf := gB1_e hf
          obtain ⟨x61, ex61, hf⟩ := hf
          refine j_iald C ex61 dX16_replayed_103 ?_
          refine j_iload C dX16_replayed_104 rfl ?_
          refine j_bipush (v := (nI 7)) C dX16_replayed_106 (by decide) ?_
          replace hf := gBd_x hf
          obtain ⟨k62, ek62, hf⟩ := hf
          have jk62 : ∀ (x64 : Int32) (r65 : Option Nat) (x66 : Int32) (x67 : Int32) (r68 : Option Nat) (x69 : Int32) (x70 : Int32) (x71 : Int32) (w63 : gw), k62 x64 r65 x66 x67 r68 x69 x70 x71 w63 = some (rr, ww) → gJ D dA A K p l e R s m args below meth c (gEnd D dA A K below args s w0 (some (gi rr)) ww) 5 116 [(0, (ga (some a0))), (1, (gi x64)), (2, (ga r65)), (3, (gi x66)), (4, (gi x67))] [(gi x71), (gi x70), (gi x69), (ga r68)] w63 := by
            intro x64 r65 x66 x67 r68 x69 x70 x71 w63 hf
            rw [ek62] at hf
            dsimp only at hf
            replace hf := gB2_e hf
            obtain ⟨x73, w72, ew72, hf⟩ := hf
            refine j_callSN (As := [(gi x71)]) (rest := [(gi x70), (gi x69), (ga r68)]) (v := (some (gi x73))) C (by omega) (k_X0_bit (by omega) ew72) nq1272 q347 q91 q348 hd_X0_bit (by decide) rfl (Nat.le_of_ble_eq_true rfl) dX16_replayed_116 ?_
            refine j_iadd C dX16_replayed_119 ?_
            replace hf := gB1_e hf
            obtain ⟨a74, ea74, hf⟩ := hf
            subst ea74
            replace hf := gB1_e hf
            obtain ⟨w75, ew75, hf⟩ := hf
            refine j_iast C ew75 dX16_replayed_120 ?_
            refine j_aload_n C dX16_replayed_121 rfl ?_
            refine j_iconst (v := (nI 4)) C dX16_replayed_122 (by decide) ?_
            refine j_dup2 C dX16_replayed_123 ?_
            replace hf := gB1_e hf
            obtain ⟨a76, ea76, hf⟩ := hf
            subst ea76
            replace hf := gB1_e hf
            obtain ⟨x77, ex77, hf⟩ := hf
            refine j_iald C ex77 dX16_replayed_124 ?_
            refine j_iload C dX16_replayed_125 rfl ?_
            replace hf := gBd_x hf
            obtain ⟨k78, ek78, hf⟩ := hf
            have jk78 : ∀ (x80 : Int32) (r81 : Option Nat) (x82 : Int32) (x83 : Int32) (r84 : Option Nat) (x85 : Int32) (x86 : Int32) (x87 : Int32) (w79 : gw), k78 x80 r81 x82 x83 r84 x85 x86 x87 w79 = some (rr, ww) → gJ D dA A K p l e R s m args below meth c (gEnd D dA A K below args s w0 (some (gi rr)) ww) 5 141 [(0, (ga (some a0))), (1, (gi x80)), (2, (ga r81)), (3, (gi x82)), (4, (gi x83))] [(gi x87), (gi x86), (gi x85), (ga r84)] w79 := by
              intro x80 r81 x82 x83 r84 x85 x86 x87 w79 hf
              rw [ek78] at hf
              dsimp only at hf
              replace hf := gB2_e hf
              obtain ⟨x89, w88, ew88, hf⟩ := hf
              refine j_callSN (As := [(gi x87)]) (rest := [(gi x86), (gi x85), (ga r84)]) (v := (some (gi x89))) C (by omega) (k_X0_bit (by omega) ew88) nq1272 q347 q91 q348 hd_X0_bit (by decide) rfl (Nat.le_of_ble_eq_true rfl) dX16_replayed_141 ?_
              refine j_iadd C dX16_replayed_144 ?_
              replace hf := gB1_e hf
              obtain ⟨a90, ea90, hf⟩ := hf
              subst ea90
              replace hf := gB1_e hf
              obtain ⟨w91, ew91, hf⟩ := hf
              refine j_iast C ew91 dX16_replayed_145 ?_
              refine j_aload_n C dX16_replayed_146 rfl ?_
              refine j_iconst (v := (nI 5)) C dX16_replayed_147 (by decide) ?_
              refine j_dup2 C dX16_replayed_148 ?_
              replace hf := gB1_e hf
              obtain ⟨a92, ea92, hf⟩ := hf
              subst ea92
              replace hf := gB1_e hf
              obtain ⟨x93, ex93, hf⟩ := hf
              refine j_iald C ex93 dX16_replayed_149 ?_
              refine j_iload C dX16_replayed_150 rfl ?_
              refine j_iconst (v := (nI 1)) C dX16_replayed_152 (by decide) ?_
              replace hf := gBd_x hf
              obtain ⟨k94, ek94, hf⟩ := hf
              have jk94 : ∀ (x96 : Int32) (r97 : Option Nat) (x98 : Int32) (r99 : Option Nat) (x100 : Int32) (x101 : Int32) (x102 : Int32) (w95 : gw), k94 x96 r97 x98 r99 x100 x101 x102 w95 = some (rr, ww) → gJ D dA A K p l e R s m args below meth c (gEnd D dA A K below args s w0 (some (gi rr)) ww) 5 161 [(0, (ga (some a0))), (1, (gi x96)), (2, (ga r97)), (3, (gi x98))] [(gi x102), (gi x101), (gi x100), (ga r99)] w95 := by
                intro x96 r97 x98 r99 x100 x101 x102 w95 hf
                rw [ek94] at hf
                dsimp only at hf
                replace hf := gB2_e hf
                obtain ⟨x104, w103, ew103, hf⟩ := hf
                refine j_callSN (As := [(gi x102)]) (rest := [(gi x101), (gi x100), (ga r99)]) (v := (some (gi x104))) C (by omega) (k_X0_bit (by omega) ew103) nq1272 q347 q91 q348 hd_X0_bit (by decide) rfl (Nat.le_of_ble_eq_true rfl) dX16_replayed_161 ?_
                refine j_iadd C dX16_replayed_164 ?_
                replace hf := gB1_e hf
                obtain ⟨a105, ea105, hf⟩ := hf
                subst ea105
                replace hf := gB1_e hf
                obtain ⟨w106, ew106, hf⟩ := hf
                refine j_iast C ew106 dX16_replayed_165 ?_
                replace hf := gBd_x hf
                obtain ⟨x107, ex107, hf⟩ := hf
                refine j_iinc (v := x107) (lv' := [(3, (gi x107)), (0, (ga (some a0))), (1, (gi x96)), (2, (ga r97))]) C dX16_replayed_166 rfl (by rw [ex107]; rfl) (by decide) rfl ?_
                refine j_goto (tgt := 7) C dX16_replayed_169 (by decide) ?_
                refine j_sub (lv' := [(0, (ga (some a0))), (1, (gi x96)), (2, (ga r97)), (3, (gi x107))]) (gL_cons rfl (gL_cons rfl (gL_cons rfl (gL_cons rfl (gL_nil))))) ?_
                exact jk7 _ _ _ _ hf
              clear ek94
              refine j_icmp_ne (tgt := 160) C dX16_replayed_153 (by decide) (fun c108 => ?_) (fun c108 => ?_)
              · replace hf := gIf_f hf c108
                refine j_iconst (v := (nI 0)) C dX16_replayed_160 (by decide) ?_
                refine j_sub (lv' := [(0, (ga (some a0))), (1, (gi x80)), (2, (ga (some a92))), (3, (gi x82))]) (gL_cons rfl (gL_cons rfl (gL_cons rfl (gL_cons rfl (gL_nil))))) ?_
                exact jk94 _ _ _ _ _ _ _ _ hf
              · replace hf := gIf_t hf c108
                refine j_iconst (v := (nI 1)) C dX16_replayed_156 (by decide) ?_
                refine j_goto (tgt := 161) C dX16_replayed_157 (by decide) ?_
                refine j_sub (lv' := [(0, (ga (some a0))), (1, (gi x80)), (2, (ga (some a92))), (3, (gi x82))]) (gL_cons rfl (gL_cons rfl (gL_cons rfl (gL_cons rfl (gL_nil))))) ?_
                exact jk94 _ _ _ _ _ _ _ _ hf
            clear ek78
            replace hf := gBd_x hf
            obtain ⟨k109, ek109, hf⟩ := hf
            have jk109 : ∀ (x111 : Int32) (r112 : Option Nat) (x113 : Int32) (x114 : Int32) (r115 : Option Nat) (x116 : Int32) (x117 : Int32) (w110 : gw), k109 x111 r112 x113 x114 r115 x116 x117 w110 = some (rr, ww) → gJ D dA A K p l e R s m args below meth c (gEnd D dA A K below args s w0 (some (gi rr)) ww) 5 136 [(0, (ga (some a0))), (1, (gi x111)), (2, (ga r112)), (3, (gi x113)), (4, (gi x114))] [(gi x117), (gi x116), (ga r115)] w110 := by
              intro x111 r112 x113 x114 r115 x116 x117 w110 hf
              rw [ek109] at hf
              dsimp only at hf
              refine j_iconst (v := (nI 1)) C dX16_replayed_136 (by decide) ?_
              refine j_goto (tgt := 141) C dX16_replayed_137 (by decide) ?_
              exact jk78 _ _ _ _ _ _ _ _ _ hf
            clear ek109
            refine j_if_eq (tgt := 136) C dX16_replayed_127 (by decide) (fun c118 => ?_) (fun c118 => ?_)
            · replace hf := gIf_t hf c118
              exact jk109 _ _ _ _ _ _ _ _ hf
            · replace hf := gIf_f hf c118
              refine j_iload C dX16_replayed_130 rfl ?_
              refine j_iconst (v := (nI 5)) C dX16_replayed_132 (by decide) ?_
              refine j_icmp_ne (tgt := 140) C dX16_replayed_133 (by decide) (fun c119 => ?_) (fun c119 => ?_)
              · replace hf := gIf_f hf c119
                refine j_iconst (v := (nI 0)) C dX16_replayed_140 (by decide) ?_
                exact jk78 _ _ _ _ _ _ _ _ _ hf
              · replace hf := gIf_t hf c119
                exact jk109 _ _ _ _ _ _ _ _ hf
          clear ek62
          refine j_icmp_ne (tgt := 115) C dX16_replayed_108 (by decide) (fun c120 => ?_) (fun c120 => ?_)
          · replace hf := gIf_f hf c120
            refine j_iconst (v := (nI 0)) C dX16_replayed_115 (by decide) ?_
            exact jk62 _ _ _ _ _ _ _ _ _ hf
          · replace hf := gIf_t hf c120
            refine j_iconst (v := (nI 1)) C dX16_replayed_111 (by decide) ?_
            refine j_goto (tgt := 116) C dX16_replayed_112 (by decide) ?_
            exact jk62 _ _ _ _ _ _ _ _ _ hf
        clear ek46
        refine j_icmp_ne (tgt := 94) C dX16_replayed_87 (by decide) (fun c121 => ?_) (fun c121 => ?_)
        · replace hf := gIf_f hf c121
          refine j_iconst (v := (nI 0)) C dX16_replayed_94 (by decide) ?_
          exact jk46 _ _ _ _ _ _ _ _ _ hf
        · replace hf := gIf_t hf c121
          refine j_iconst (v := (nI 1)) C dX16_replayed_90 (by decide) ?_
          refine j_goto (tgt := 95) C dX16_replayed_91 (by decide) ?_
          exact jk46 _ _ _ _ _ _ _ _ _ hf
      clear ek30
      refine j_icmp_ne (tgt := 73) C dX16_replayed_66 (by decide) (fun c122 => ?_) (fun c122 => ?_)
      · replace hf := gIf_f hf c122
        refine j_iconst (v := (nI 0)) C dX16_replayed_73 (by decide) ?_
        exact jk30 _ _ _ _ _ _ _ _ _ hf
      · replace hf := gIf_t hf c122
        refine j_iconst (v := (nI 1)) C dX16_replayed_69 (by decide) ?_
        refine j_goto (tgt := 74) C dX16_replayed_70 (by decide) ?_
        exact jk30 _ _ _ _ _ _ _ _ _ hf
    clear ek17
    refine j_icmp_ne (tgt := 55) C dX16_replayed_39 (by decide) (fun c123 => ?_) (fun c123 => ?_)
    · replace hf := gIf_f hf c123
      refine j_aload_n C dX16_replayed_55 rfl ?_
      refine j_iconst (v := (nI 0)) C dX16_replayed_56 (by decide) ?_
      replace hf := gB1_e hf
      obtain ⟨a124, ea124, hf⟩ := hf
      subst ea124
      replace hf := gB1_e hf
      obtain ⟨x125, ex125, hf⟩ := hf
      refine j_iald C ex125 dX16_replayed_57 ?_
      refine j_sub (lv' := [(0, (ga (some a0))), (1, (gi x4)), (2, (ga (some a124))), (3, (gi x6)), (4, (gi x16))]) (gL_cons rfl (gL_cons rfl (gL_cons rfl (gL_cons rfl (gL_cons rfl (gL_nil)))))) ?_
      exact jk17 _ _ _ _ _ _ _ _ hf
    · replace hf := gIf_t hf c123
      refine j_aload_n C dX16_replayed_42 rfl ?_
      replace hf := gB1_e hf
      obtain ⟨r126, er126, hf⟩ := hf
      refine j_get C fl_X16_29_16 dX16_replayed_43 (gR_F er126) ?_
      refine j_iconst (v := (nI 3)) C dX16_replayed_46 (by decide) ?_
      refine j_iload_n C dX16_replayed_47 rfl ?_
      refine j_imul C dX16_replayed_48 ?_
      refine j_iconst (v := (nI 2)) C dX16_replayed_49 (by decide) ?_
      refine j_iadd C dX16_replayed_50 ?_
      replace hf := gB1_e hf
      obtain ⟨a127, ea127, hf⟩ := hf
      subst ea127
      replace hf := gB1_e hf
      obtain ⟨x128, ex128, hf⟩ := hf
      refine j_iald C ex128 dX16_replayed_51 ?_
      refine j_goto (tgt := 58) C dX16_replayed_52 (by decide) ?_
      refine j_sub (lv' := [(0, (ga (some a0))), (1, (gi x4)), (2, (ga r5)), (3, (gi x6)), (4, (gi x16))]) (gL_cons rfl (gL_cons rfl (gL_cons rfl (gL_cons rfl (gL_cons rfl (gL_nil)))))) ?_
      exact jk17 _ _ _ _ _ _ _ _ hf
theorem dX17_gathers_0 : decode cX17_gathers 0 = .ok (.return_, 1) := by decide +kernel
def f_X17_gathers (a0 : Nat) (p1 : Option Nat) (w0 : gw) : Option (Unit × gw) := some ((), w0)
set_option maxHeartbeats 4000000 in
set_option maxRecDepth 100000 in
theorem k_X17_gathers {D : va_G} {dA : Nat → ClassId} {A : Nat → Prop} {K : Nat → Nat} {l : Launch} {h : Nat} (hh : 0 ≤ h) {a0 : Nat} {p1 : Option Nat} {w0 ww : gw} {rr : Unit} (hf : f_X17_gathers a0 p1 w0 = some (rr, ww)) : gMet D dA A K l yX17_gathers (ws_ yX17_gathers cX17_gathers 2 none) h [(ga (some a0)), (ga p1)] none w0 ww := by
  refine j_start (own := RX17) (by decide +kernel) rfl (Nat.le_of_ble_eq_true rfl) ?_
  intro p e R s m args below meth c C hr hin hw
  unfold f_X17_gathers at hf
  show gJ D dA A K p l e R s m args below meth c (gEnd D dA A K below args s w0 none ww) 2 0 [(0, (ga (some a0))), (1, (ga p1))] [] w0
  obtain ⟨rfl, rfl⟩ := gSome hf
  exact j_vret C hr hw dX17_gathers_0
theorem dX17_lists_0 : decode cX17_lists 0 = .ok (.return_, 1) := by decide +kernel
def f_X17_lists (a0 : Nat) (p1 : Option Nat) (w0 : gw) : Option (Unit × gw) := some ((), w0)
set_option maxHeartbeats 4000000 in
set_option maxRecDepth 100000 in
theorem k_X17_lists {D : va_G} {dA : Nat → ClassId} {A : Nat → Prop} {K : Nat → Nat} {l : Launch} {h : Nat} (hh : 0 ≤ h) {a0 : Nat} {p1 : Option Nat} {w0 ww : gw} {rr : Unit} (hf : f_X17_lists a0 p1 w0 = some (rr, ww)) : gMet D dA A K l yX17_lists (ws_ yX17_lists cX17_lists 2 none) h [(ga (some a0)), (ga p1)] none w0 ww := by
  refine j_start (own := RX17) (by decide +kernel) rfl (Nat.le_of_ble_eq_true rfl) ?_
  intro p e R s m args below meth c C hr hin hw
  unfold f_X17_lists at hf
  show gJ D dA A K p l e R s m args below meth c (gEnd D dA A K below args s w0 none ww) 2 0 [(0, (ga (some a0))), (1, (ga p1))] [] w0
  obtain ⟨rfl, rfl⟩ := gSome hf
  exact j_vret C hr hw dX17_lists_0
def dkwX19_init_0 : List UInt8 := [42, 183, 0, 3, 42, 16, 24, 188, 10, 181, 0, 9, 177]
abbrev dktX19_init_0 : List UInt8 := dkwX19_init_0 ++ []
theorem dksX19_init_0 : cX19_init.data.toList.drop 0 = dktX19_init_0 := by decide +kernel
theorem dX19_init_0 : decode cX19_init 0 = .ok (.aload_n 0, 1) := dk_42 (dk_at dksX19_init_0 0 rfl rfl)
theorem dX19_init_1 : decode cX19_init 1 = .ok (.invokespecial 3, 3) := dk_183 0 3 (dk_at dksX19_init_0 1 rfl rfl)
theorem dX19_init_4 : decode cX19_init 4 = .ok (.aload_n 0, 1) := dk_42 (dk_at dksX19_init_0 4 rfl rfl)
theorem dX19_init_5 : decode cX19_init 5 = .ok (.bipush 24, 2) := dk_16 24 (dk_at dksX19_init_0 5 rfl rfl)
theorem dX19_init_7 : decode cX19_init 7 = .ok (.newarray .int, 2) := dk_188_10 (dk_at dksX19_init_0 7 rfl rfl)
theorem dX19_init_9 : decode cX19_init 9 = .ok (.putfield 9, 3) := dk_181 0 9 (dk_at dksX19_init_0 9 rfl rfl)
theorem dX19_init_12 : decode cX19_init 12 = .ok (.return_, 1) := dk_177 (dk_at dksX19_init_0 12 rfl rfl)
theorem fl_X19_9_19 : gFL RX19 9 19 0 := gFL.mk (Cn := RX19) (T := TX19) (N := 2) (ref := "WorkflowEngine$Dones") rfl in_X19 (by decide) q888 rfl rfl (Or.inl rfl)
theorem nm_19 : gNm TX19 2 := by
  unfold gNm
  decide +kernel
theorem tb_19 : gTb 19 := fun Cn T N h => by
  have h : (RX19, TX19, 2) = (Cn, T, N) := Option.some.inj h
  cases h
  exact ⟨nm_19, tyX19, tyX19_ok⟩
theorem fk_19_0 : gFk 19 0 "[I" false "WorkflowEngine$Dones" := fun Cn T N h => by
  have h : (RX19, TX19, 2) = (Cn, T, N) := Option.some.inj h
  cases h
  exact ⟨rfl, rfl, rfl⟩
def f_X19_init (a0 : Nat) (w0 : gw) : Option (Unit × gw) := gB2 (gNewI w0 0 (nI 24)) fun a1 w2 => gB1 (gPut w2 a0 19 0 (ga (some a1))) fun w3 => some ((), w3)
set_option maxHeartbeats 4000000 in
set_option maxRecDepth 100000 in
theorem k_X19_init {D : va_G} {dA : Nat → ClassId} {A : Nat → Prop} {K : Nat → Nat} {l : Launch} {h : Nat} (hh : 1 ≤ h) {a0 : Nat} {w0 ww : gw} {rr : Unit} (hf : f_X19_init a0 w0 = some (rr, ww)) : gMet D dA A K l yX19_init (ws_ yX19_init cX19_init 1 none) h [(ga (some a0))] none w0 ww := by
  refine j_start (own := RX19) (by decide +kernel) rfl (Nat.le_of_ble_eq_true rfl) ?_
  intro p e R s m args below meth c C hr hin hw
  unfold f_X19_init at hf
  show gJ D dA A K p l e R s m args below meth c (gEnd D dA A K below args s w0 none ww) 1 0 [(0, (ga (some a0)))] [] w0
  refine j_aload_n C dX19_init_0 rfl ?_
  refine j_objInit C (by omega) q887 q164 q165 (by decide) dX19_init_1 ?_
  refine j_aload_n C dX19_init_4 rfl ?_
  refine j_bipush (v := (nI 24)) C dX19_init_5 (by decide) ?_
  replace hf := gB2_e hf
  obtain ⟨a1, w2, ew2, hf⟩ := hf
  refine j_newi C (t := 0) (atype := .int) rfl (by decide) rfl rfl q761 ew2 dX19_init_7 ?_
  replace hf := gB1_e hf
  obtain ⟨w3, ew3, hf⟩ := hf
  refine j_put C fl_X19_9_19 tb_19 ew3 fk_19_0 (ft__I (some a1)) dX19_init_9 ?_
  obtain ⟨rfl, rfl⟩ := gSome hf
  exact j_vret C hr hw dX19_init_12
def dkwX19_adds_2 : List UInt8 := [27, 79, 42, 89, 180, 0, 21, 4, 96, 181, 0, 21, 177]
abbrev dktX19_adds_2 : List UInt8 := dkwX19_adds_2 ++ []
def dkwX19_adds_1 : List UInt8 := [180, 0, 9, 28, 42, 180, 0, 9, 28, 4, 100, 46, 79, 132, 2, 255, 167, 255, 223, 42, 180, 0, 9, 28]
abbrev dktX19_adds_1 : List UInt8 := dkwX19_adds_1 ++ dktX19_adds_2
def dkwX19_adds_0 : List UInt8 := [42, 180, 0, 21, 61, 28, 158, 0, 35, 42, 180, 0, 9, 28, 4, 100, 46, 27, 164, 0, 23, 42]
abbrev dktX19_adds_0 : List UInt8 := dkwX19_adds_0 ++ dktX19_adds_1
theorem dksX19_adds_0 : cX19_adds.data.toList.drop 0 = dktX19_adds_0 := by decide +kernel
theorem dksX19_adds_1 : cX19_adds.data.toList.drop 22 = dktX19_adds_1 := dk_seg dksX19_adds_0 22 rfl rfl
theorem dksX19_adds_2 : cX19_adds.data.toList.drop 46 = dktX19_adds_2 := dk_seg dksX19_adds_1 24 rfl rfl
theorem dX19_adds_0 : decode cX19_adds 0 = .ok (.aload_n 0, 1) := dk_42 (dk_at dksX19_adds_0 0 rfl rfl)
theorem dX19_adds_1 : decode cX19_adds 1 = .ok (.getfield 21, 3) := dk_180 0 21 (dk_at dksX19_adds_0 1 rfl rfl)
theorem dX19_adds_4 : decode cX19_adds 4 = .ok (.istore_n 2, 1) := dk_61 (dk_at dksX19_adds_0 4 rfl rfl)
theorem dX19_adds_5 : decode cX19_adds 5 = .ok (.iload_n 2, 1) := dk_28 (dk_at dksX19_adds_0 5 rfl rfl)
theorem dX19_adds_6 : decode cX19_adds 6 = .ok (.ifCond .le 35, 3) := dk_158 0 35 (dk_at dksX19_adds_0 6 rfl rfl)
theorem dX19_adds_9 : decode cX19_adds 9 = .ok (.aload_n 0, 1) := dk_42 (dk_at dksX19_adds_0 9 rfl rfl)
theorem dX19_adds_10 : decode cX19_adds 10 = .ok (.getfield 9, 3) := dk_180 0 9 (dk_at dksX19_adds_0 10 rfl rfl)
theorem dX19_adds_13 : decode cX19_adds 13 = .ok (.iload_n 2, 1) := dk_28 (dk_at dksX19_adds_0 13 rfl rfl)
theorem dX19_adds_14 : decode cX19_adds 14 = .ok (.iconst 1, 1) := dk_4 (dk_at dksX19_adds_0 14 rfl rfl)
theorem dX19_adds_15 : decode cX19_adds 15 = .ok (.isub, 1) := dk_100 (dk_at dksX19_adds_0 15 rfl rfl)
theorem dX19_adds_16 : decode cX19_adds 16 = .ok (.iaload, 1) := dk_46 (dk_at dksX19_adds_0 16 rfl rfl)
theorem dX19_adds_17 : decode cX19_adds 17 = .ok (.iload_n 1, 1) := dk_27 (dk_at dksX19_adds_0 17 rfl rfl)
theorem dX19_adds_18 : decode cX19_adds 18 = .ok (.if_icmp .le 23, 3) := dk_164 0 23 (dk_at dksX19_adds_0 18 rfl rfl)
theorem dX19_adds_21 : decode cX19_adds 21 = .ok (.aload_n 0, 1) := dk_42 (dk_at dksX19_adds_0 21 rfl rfl)
theorem dX19_adds_22 : decode cX19_adds 22 = .ok (.getfield 9, 3) := dk_180 0 9 (dk_at dksX19_adds_1 0 rfl rfl)
theorem dX19_adds_25 : decode cX19_adds 25 = .ok (.iload_n 2, 1) := dk_28 (dk_at dksX19_adds_1 3 rfl rfl)
theorem dX19_adds_26 : decode cX19_adds 26 = .ok (.aload_n 0, 1) := dk_42 (dk_at dksX19_adds_1 4 rfl rfl)
theorem dX19_adds_27 : decode cX19_adds 27 = .ok (.getfield 9, 3) := dk_180 0 9 (dk_at dksX19_adds_1 5 rfl rfl)
theorem dX19_adds_30 : decode cX19_adds 30 = .ok (.iload_n 2, 1) := dk_28 (dk_at dksX19_adds_1 8 rfl rfl)
theorem dX19_adds_31 : decode cX19_adds 31 = .ok (.iconst 1, 1) := dk_4 (dk_at dksX19_adds_1 9 rfl rfl)
theorem dX19_adds_32 : decode cX19_adds 32 = .ok (.isub, 1) := dk_100 (dk_at dksX19_adds_1 10 rfl rfl)
theorem dX19_adds_33 : decode cX19_adds 33 = .ok (.iaload, 1) := dk_46 (dk_at dksX19_adds_1 11 rfl rfl)
theorem dX19_adds_34 : decode cX19_adds 34 = .ok (.iastore, 1) := dk_79 (dk_at dksX19_adds_1 12 rfl rfl)
theorem dX19_adds_35 : decode cX19_adds 35 = .ok (.iinc 2 (-1), 3) := dk_132 2 255 (dk_at dksX19_adds_1 13 rfl rfl)
theorem dX19_adds_38 : decode cX19_adds 38 = .ok (.goto (-33), 3) := dk_167 255 223 (dk_at dksX19_adds_1 16 rfl rfl)
theorem dX19_adds_41 : decode cX19_adds 41 = .ok (.aload_n 0, 1) := dk_42 (dk_at dksX19_adds_1 19 rfl rfl)
theorem dX19_adds_42 : decode cX19_adds 42 = .ok (.getfield 9, 3) := dk_180 0 9 (dk_at dksX19_adds_1 20 rfl rfl)
theorem dX19_adds_45 : decode cX19_adds 45 = .ok (.iload_n 2, 1) := dk_28 (dk_at dksX19_adds_1 23 rfl rfl)
theorem dX19_adds_46 : decode cX19_adds 46 = .ok (.iload_n 1, 1) := dk_27 (dk_at dksX19_adds_2 0 rfl rfl)
theorem dX19_adds_47 : decode cX19_adds 47 = .ok (.iastore, 1) := dk_79 (dk_at dksX19_adds_2 1 rfl rfl)
theorem dX19_adds_48 : decode cX19_adds 48 = .ok (.aload_n 0, 1) := dk_42 (dk_at dksX19_adds_2 2 rfl rfl)
theorem dX19_adds_49 : decode cX19_adds 49 = .ok (.dup, 1) := dk_89 (dk_at dksX19_adds_2 3 rfl rfl)
theorem dX19_adds_50 : decode cX19_adds 50 = .ok (.getfield 21, 3) := dk_180 0 21 (dk_at dksX19_adds_2 4 rfl rfl)
theorem dX19_adds_53 : decode cX19_adds 53 = .ok (.iconst 1, 1) := dk_4 (dk_at dksX19_adds_2 7 rfl rfl)
theorem dX19_adds_54 : decode cX19_adds 54 = .ok (.iadd, 1) := dk_96 (dk_at dksX19_adds_2 8 rfl rfl)
theorem dX19_adds_55 : decode cX19_adds 55 = .ok (.putfield 21, 3) := dk_181 0 21 (dk_at dksX19_adds_2 9 rfl rfl)
theorem dX19_adds_58 : decode cX19_adds 58 = .ok (.return_, 1) := dk_177 (dk_at dksX19_adds_2 12 rfl rfl)
theorem fl_X19_21_19 : gFL RX19 21 19 1 := gFL.mk (Cn := RX19) (T := TX19) (N := 2) (ref := "WorkflowEngine$Dones") rfl in_X19 (by decide) q892 rfl rfl (Or.inl rfl)
theorem fk_19_1 : gFk 19 1 "I" false "WorkflowEngine$Dones" := fun Cn T N h => by
  have h : (RX19, TX19, 2) = (Cn, T, N) := Option.some.inj h
  cases h
  exact ⟨rfl, rfl, rfl⟩
def f_X19_adds (a0 : Nat) (p1 : Int32) (w0 : gw) : Option (Unit × gw) := gB1 (gI w0 a0 19 1) fun x1 => gL2 (fun k5 (x3 : Int32) (x4 : Int32) (w2 : gw) => gBd (fun (x8 : Int32) (x9 : Int32) (w7 : gw) => gB1 (gR w7 a0 19 0) fun r10 => gB1 r10 fun a11 => gB1 (gStI w7 a11 0 x9 x8) fun w12 => gB1 (gI w12 a0 19 1) fun x13 => gB1 (gPut w12 a0 19 1 (gi (x13 + (nI 1)))) fun w14 => some ((), w14)) fun k6 => if x4 ≤ 0 then k6 x3 x4 w2 else gB1 (gR w2 a0 19 0) fun r16 => gB1 r16 fun a17 => gB1 (gLdI w2 a17 0 (x4 - (nI 1))) fun x18 => if x18 ≤ x3 then k6 x3 x4 w2 else gB1 (gR w2 a0 19 0) fun r20 => gB1 (gR w2 a0 19 0) fun r21 => gB1 r21 fun a22 => gB1 (gLdI w2 a22 0 (x4 - (nI 1))) fun x23 => gB1 r20 fun a24 => gB1 (gStI w2 a24 0 x4 x23) fun w25 => gBd (x4 + (-1)) fun x26 => k5 x3 x26 w25) 20000 p1 x1 w0
set_option maxHeartbeats 4000000 in
set_option maxRecDepth 100000 in
theorem k_X19_adds {D : va_G} {dA : Nat → ClassId} {A : Nat → Prop} {K : Nat → Nat} {l : Launch} {h : Nat} (hh : 0 ≤ h) {a0 : Nat} {p1 : Int32} {w0 ww : gw} {rr : Unit} (hf : f_X19_adds a0 p1 w0 = some (rr, ww)) : gMet D dA A K l yX19_adds (ws_ yX19_adds cX19_adds 3 none) h [(ga (some a0)), (gi p1)] none w0 ww := by
  refine j_start (own := RX19) (by decide +kernel) rfl (Nat.le_of_ble_eq_true rfl) ?_
  intro p e R s m args below meth c C hr hin hw
  unfold f_X19_adds at hf
  show gJ D dA A K p l e R s m args below meth c (gEnd D dA A K below args s w0 none ww) 3 0 [(0, (ga (some a0))), (1, (gi p1))] [] w0
  refine j_aload_n C dX19_adds_0 rfl ?_
  replace hf := gB1_e hf
  obtain ⟨x1, ex1, hf⟩ := hf
  refine j_get C fl_X19_21_19 dX19_adds_1 (gI_F ex1) ?_
  refine j_istore_n (lv' := [(2, (gi x1)), (0, (ga (some a0))), (1, (gi p1))]) C dX19_adds_4 (by decide) rfl ?_
  refine j_sub (lv' := [(0, (ga (some a0))), (1, (gi p1)), (2, (gi x1))]) (gL_cons rfl (gL_cons rfl (gL_cons rfl (gL_nil)))) ?_
  refine gL2_e (fun (x3 : Int32) (x4 : Int32) (w2 : gw) => gJ D dA A K p l e R s m args below meth c (gEnd D dA A K below args s w0 none ww) 3 5 [(0, (ga (some a0))), (1, (gi x3)), (2, (gi x4))] [] w2) ?_ _ _ _ _ hf
  intro k5 jk5 x3 x4 w2 hf
  refine j_iload_n C dX19_adds_5 rfl ?_
  replace hf := gBd_x hf
  obtain ⟨k6, ek6, hf⟩ := hf
  have jk6 : ∀ (x8 : Int32) (x9 : Int32) (w7 : gw), k6 x8 x9 w7 = some (rr, ww) → gJ D dA A K p l e R s m args below meth c (gEnd D dA A K below args s w0 none ww) 3 41 [(0, (ga (some a0))), (1, (gi x8)), (2, (gi x9))] [] w7 := by
    intro x8 x9 w7 hf
    rw [ek6] at hf
    dsimp only at hf
    refine j_aload_n C dX19_adds_41 rfl ?_
    replace hf := gB1_e hf
    obtain ⟨r10, er10, hf⟩ := hf
    refine j_get C fl_X19_9_19 dX19_adds_42 (gR_F er10) ?_
    refine j_iload_n C dX19_adds_45 rfl ?_
    refine j_iload_n C dX19_adds_46 rfl ?_
    replace hf := gB1_e hf
    obtain ⟨a11, ea11, hf⟩ := hf
    subst ea11
    replace hf := gB1_e hf
    obtain ⟨w12, ew12, hf⟩ := hf
    refine j_iast C ew12 dX19_adds_47 ?_
    refine j_aload_n C dX19_adds_48 rfl ?_
    refine j_dup C dX19_adds_49 ?_
    replace hf := gB1_e hf
    obtain ⟨x13, ex13, hf⟩ := hf
    refine j_get C fl_X19_21_19 dX19_adds_50 (gI_F ex13) ?_
    refine j_iconst (v := (nI 1)) C dX19_adds_53 (by decide) ?_
    refine j_iadd C dX19_adds_54 ?_
    replace hf := gB1_e hf
    obtain ⟨w14, ew14, hf⟩ := hf
    refine j_put C fl_X19_21_19 tb_19 ew14 fk_19_1 (fit_I (x13 + (nI 1))) dX19_adds_55 ?_
    obtain ⟨rfl, rfl⟩ := gSome hf
    exact j_vret C hr hw dX19_adds_58
  clear ek6
  refine j_if_le (tgt := 41) C dX19_adds_6 (by decide) (fun c15 => ?_) (fun c15 => ?_)
  · replace hf := gIf_t hf c15
    exact jk6 _ _ _ hf
  · replace hf := gIf_f hf c15
    refine j_aload_n C dX19_adds_9 rfl ?_
    replace hf := gB1_e hf
    obtain ⟨r16, er16, hf⟩ := hf
    refine j_get C fl_X19_9_19 dX19_adds_10 (gR_F er16) ?_
    refine j_iload_n C dX19_adds_13 rfl ?_
    refine j_iconst (v := (nI 1)) C dX19_adds_14 (by decide) ?_
    refine j_isub C dX19_adds_15 ?_
    replace hf := gB1_e hf
    obtain ⟨a17, ea17, hf⟩ := hf
    subst ea17
    replace hf := gB1_e hf
    obtain ⟨x18, ex18, hf⟩ := hf
    refine j_iald C ex18 dX19_adds_16 ?_
    refine j_iload_n C dX19_adds_17 rfl ?_
    refine j_icmp_le (tgt := 41) C dX19_adds_18 (by decide) (fun c19 => ?_) (fun c19 => ?_)
    · replace hf := gIf_t hf c19
      exact jk6 _ _ _ hf
    · replace hf := gIf_f hf c19
      refine j_aload_n C dX19_adds_21 rfl ?_
      replace hf := gB1_e hf
      obtain ⟨r20, er20, hf⟩ := hf
      refine j_get C fl_X19_9_19 dX19_adds_22 (gR_F er20) ?_
      refine j_iload_n C dX19_adds_25 rfl ?_
      refine j_aload_n C dX19_adds_26 rfl ?_
      replace hf := gB1_e hf
      obtain ⟨r21, er21, hf⟩ := hf
      refine j_get C fl_X19_9_19 dX19_adds_27 (gR_F er21) ?_
      refine j_iload_n C dX19_adds_30 rfl ?_
      refine j_iconst (v := (nI 1)) C dX19_adds_31 (by decide) ?_
      refine j_isub C dX19_adds_32 ?_
      replace hf := gB1_e hf
      obtain ⟨a22, ea22, hf⟩ := hf
      subst ea22
      replace hf := gB1_e hf
      obtain ⟨x23, ex23, hf⟩ := hf
      refine j_iald C ex23 dX19_adds_33 ?_
      replace hf := gB1_e hf
      obtain ⟨a24, ea24, hf⟩ := hf
      subst ea24
      replace hf := gB1_e hf
      obtain ⟨w25, ew25, hf⟩ := hf
      refine j_iast C ew25 dX19_adds_34 ?_
      replace hf := gBd_x hf
      obtain ⟨x26, ex26, hf⟩ := hf
      refine j_iinc (v := x26) (lv' := [(2, (gi x26)), (0, (ga (some a0))), (1, (gi x3))]) C dX19_adds_35 rfl (by rw [ex26]; rfl) (by decide) rfl ?_
      refine j_goto (tgt := 5) C dX19_adds_38 (by decide) ?_
      refine j_sub (lv' := [(0, (ga (some a0))), (1, (gi x3)), (2, (gi x26))]) (gL_cons rfl (gL_cons rfl (gL_cons rfl (gL_nil)))) ?_
      exact jk5 _ _ _ hf
def dkwX19_copy_1 : List UInt8 := [180, 0, 21, 181, 0, 21, 43, 176]
abbrev dktX19_copy_1 : List UInt8 := dkwX19_copy_1 ++ []
def dkwX19_copy_0 : List UInt8 := [187, 0, 10, 89, 183, 0, 15, 76, 43, 42, 180, 0, 9, 182, 0, 16, 192, 0, 17, 181, 0, 9, 43, 42]
abbrev dktX19_copy_0 : List UInt8 := dkwX19_copy_0 ++ dktX19_copy_1
theorem dksX19_copy_0 : cX19_copy.data.toList.drop 0 = dktX19_copy_0 := by decide +kernel
theorem dksX19_copy_1 : cX19_copy.data.toList.drop 24 = dktX19_copy_1 := dk_seg dksX19_copy_0 24 rfl rfl
theorem dX19_copy_0 : decode cX19_copy 0 = .ok (.new 10, 3) := dk_187 0 10 (dk_at dksX19_copy_0 0 rfl rfl)
theorem dX19_copy_3 : decode cX19_copy 3 = .ok (.dup, 1) := dk_89 (dk_at dksX19_copy_0 3 rfl rfl)
theorem dX19_copy_4 : decode cX19_copy 4 = .ok (.invokespecial 15, 3) := dk_183 0 15 (dk_at dksX19_copy_0 4 rfl rfl)
theorem dX19_copy_7 : decode cX19_copy 7 = .ok (.astore_n 1, 1) := dk_76 (dk_at dksX19_copy_0 7 rfl rfl)
theorem dX19_copy_8 : decode cX19_copy 8 = .ok (.aload_n 1, 1) := dk_43 (dk_at dksX19_copy_0 8 rfl rfl)
theorem dX19_copy_9 : decode cX19_copy 9 = .ok (.aload_n 0, 1) := dk_42 (dk_at dksX19_copy_0 9 rfl rfl)
theorem dX19_copy_10 : decode cX19_copy 10 = .ok (.getfield 9, 3) := dk_180 0 9 (dk_at dksX19_copy_0 10 rfl rfl)
theorem dX19_copy_13 : decode cX19_copy 13 = .ok (.invokevirtual 16, 3) := dk_182 0 16 (dk_at dksX19_copy_0 13 rfl rfl)
theorem dX19_copy_16 : decode cX19_copy 16 = .ok (.checkcast 17, 3) := dk_192 0 17 (dk_at dksX19_copy_0 16 rfl rfl)
theorem dX19_copy_19 : decode cX19_copy 19 = .ok (.putfield 9, 3) := dk_181 0 9 (dk_at dksX19_copy_0 19 rfl rfl)
theorem dX19_copy_22 : decode cX19_copy 22 = .ok (.aload_n 1, 1) := dk_43 (dk_at dksX19_copy_0 22 rfl rfl)
theorem dX19_copy_23 : decode cX19_copy 23 = .ok (.aload_n 0, 1) := dk_42 (dk_at dksX19_copy_0 23 rfl rfl)
theorem dX19_copy_24 : decode cX19_copy 24 = .ok (.getfield 21, 3) := dk_180 0 21 (dk_at dksX19_copy_1 0 rfl rfl)
theorem dX19_copy_27 : decode cX19_copy 27 = .ok (.putfield 21, 3) := dk_181 0 21 (dk_at dksX19_copy_1 3 rfl rfl)
theorem dX19_copy_30 : decode cX19_copy 30 = .ok (.aload_n 1, 1) := dk_43 (dk_at dksX19_copy_1 6 rfl rfl)
theorem dX19_copy_31 : decode cX19_copy 31 = .ok (.areturn, 1) := dk_176 (dk_at dksX19_copy_1 7 rfl rfl)
theorem nl_X19_10 : gNL RX19 10 19 := ⟨RX19, TX19, 2, 2, tyX19, _, rfl, rfl, in_X19, tyX19_ok, q1487, q883, q121, fun j hj => by rcases (show j = 0 ∨ j = 1 by omega) with rfl | rfl <;> rfl⟩
theorem hd_X19_init : (yX19_init.cls ≠ "java/lang/invoke/MethodHandle" ∧ yX19_init.cls ≠ "java/lang/invoke/VarHandle" ∧ (parseMethodDescriptor yX19_init.desc).map (fun d => d.parameters.length) = some 0) := ⟨by decide +kernel, by decide +kernel, by decide +kernel⟩
def f_X19_copy (a0 : Nat) (w0 : gw) : Option (Option Nat × gw) := gB2 (gNew w0 19) fun a1 w2 => gB2 (f_X19_init a1  w2) fun _ w3 => gB1 (gR w3 a0 19 0) fun r4 => gB1 r4 fun a5 => gB2 (gCln w3 a5 0) fun a6 w7 => gB1 (gCkA w7 0 (some a6)) fun r8 => gB1 (gPut w7 a1 19 0 (ga r8)) fun w9 => gB1 (gI w9 a0 19 1) fun x10 => gB1 (gPut w9 a1 19 1 (gi x10)) fun w11 => some ((some a1), w11)
set_option maxHeartbeats 4000000 in
set_option maxRecDepth 100000 in
theorem k_X19_copy {D : va_G} {dA : Nat → ClassId} {A : Nat → Prop} {K : Nat → Nat} {l : Launch} {h : Nat} (hh : 2 ≤ h) {a0 : Nat} {w0 ww : gw} {rr : Option Nat} (hf : f_X19_copy a0 w0 = some (rr, ww)) : gMet D dA A K l yX19_copy (ws_ yX19_copy cX19_copy 2 (some (.object "WorkflowEngine$Dones"))) h [(ga (some a0))] (some (ga rr)) w0 ww := by
  refine j_start (own := RX19) (by decide +kernel) rfl (Nat.le_of_ble_eq_true rfl) ?_
  intro p e R s m args below meth c C hr hin hw
  unfold f_X19_copy at hf
  show gJ D dA A K p l e R s m args below meth c (gEnd D dA A K below args s w0 (some (ga rr)) ww) 2 0 [(0, (ga (some a0)))] [] w0
  replace hf := gB2_e hf
  obtain ⟨a1, w2, ew2, hf⟩ := hf
  refine j_new C nl_X19_10 ew2 dX19_copy_0 ?_
  refine j_dup C dX19_copy_3 ?_
  replace hf := gB2_e hf
  obtain ⟨_, w3, ew3, hf⟩ := hf
  refine j_callI (As := []) (rest := [(ga (some a1))]) C (by omega) (k_X19_init (by omega) ew3) rfl q1488 q885 q121 q886 hd_X19_init (by decide) rfl (Nat.le_of_ble_eq_true rfl) dX19_copy_4 ?_
  refine j_astore_n (lv' := [(1, (ga (some a1))), (0, (ga (some a0)))]) C dX19_copy_7 (by decide) rfl ?_
  refine j_aload_n C dX19_copy_8 rfl ?_
  refine j_aload_n C dX19_copy_9 rfl ?_
  replace hf := gB1_e hf
  obtain ⟨r4, er4, hf⟩ := hf
  refine j_get C fl_X19_9_19 dX19_copy_10 (gR_F er4) ?_
  replace hf := gB1_e hf
  obtain ⟨a5, ea5, hf⟩ := hf
  subst ea5
  replace hf := gB2_e hf
  obtain ⟨a6, w7, ew7, hf⟩ := hf
  refine j_clone C (t := 0) rfl (g_nm0 C) (Or.inl ⟨by decide, rfl⟩) q1489 q1439 q1440 q1441 q1442 nq1443 ew7 (Nat.le_of_ble_eq_true rfl) (by omega) dX19_copy_13 ?_
  replace hf := gB1_e hf
  obtain ⟨r8, er8, hf⟩ := hf
  refine j_castA C (t := 0) q1490 (g_nm0 C) er8 dX19_copy_16 ?_
  replace hf := gB1_e hf
  obtain ⟨w9, ew9, hf⟩ := hf
  refine j_put C fl_X19_9_19 tb_19 ew9 fk_19_0 (ft__I r8) dX19_copy_19 ?_
  refine j_aload_n C dX19_copy_22 rfl ?_
  refine j_aload_n C dX19_copy_23 rfl ?_
  replace hf := gB1_e hf
  obtain ⟨x10, ex10, hf⟩ := hf
  refine j_get C fl_X19_21_19 dX19_copy_24 (gI_F ex10) ?_
  replace hf := gB1_e hf
  obtain ⟨w11, ew11, hf⟩ := hf
  refine j_put C fl_X19_21_19 tb_19 ew11 fk_19_1 (fit_I x10) dX19_copy_27 ?_
  refine j_aload_n C dX19_copy_30 rfl ?_
  obtain ⟨rfl, rfl⟩ := gSome hf
  exact j_aret C hr (Or.inl ⟨_, rfl⟩) hw dX19_copy_31
def dkwX20_looks_3 : List UInt8 := [178, 0, 46, 176]
abbrev dktX20_looks_3 : List UInt8 := dkwX20_looks_3 ++ []
def dkwX20_looks_2 : List UInt8 := [180, 0, 15, 180, 0, 39, 96, 79, 42, 180, 0, 25, 16, 8, 42, 180, 0, 15, 180, 0, 35, 182, 0, 42]
abbrev dktX20_looks_2 : List UInt8 := dkwX20_looks_2 ++ dktX20_looks_3
def dkwX20_looks_1 : List UInt8 := [46, 167, 0, 4, 3, 60, 42, 180, 0, 25, 180, 0, 29, 42, 180, 0, 15, 180, 0, 35, 27, 42]
abbrev dktX20_looks_1 : List UInt8 := dkwX20_looks_1 ++ dktX20_looks_2
def dkwX20_looks_0 : List UInt8 := [42, 180, 0, 15, 180, 0, 19, 153, 0, 21, 42, 180, 0, 25, 180, 0, 29, 42, 180, 0, 15, 180, 0, 35]
abbrev dktX20_looks_0 : List UInt8 := dkwX20_looks_0 ++ dktX20_looks_1
theorem dksX20_looks_0 : cX20_looks.data.toList.drop 0 = dktX20_looks_0 := by decide +kernel
theorem dksX20_looks_1 : cX20_looks.data.toList.drop 24 = dktX20_looks_1 := dk_seg dksX20_looks_0 24 rfl rfl
theorem dksX20_looks_2 : cX20_looks.data.toList.drop 46 = dktX20_looks_2 := dk_seg dksX20_looks_1 22 rfl rfl
theorem dksX20_looks_3 : cX20_looks.data.toList.drop 70 = dktX20_looks_3 := dk_seg dksX20_looks_2 24 rfl rfl
theorem dX20_looks_0 : decode cX20_looks 0 = .ok (.aload_n 0, 1) := dk_42 (dk_at dksX20_looks_0 0 rfl rfl)
theorem dX20_looks_1 : decode cX20_looks 1 = .ok (.getfield 15, 3) := dk_180 0 15 (dk_at dksX20_looks_0 1 rfl rfl)
theorem dX20_looks_4 : decode cX20_looks 4 = .ok (.getfield 19, 3) := dk_180 0 19 (dk_at dksX20_looks_0 4 rfl rfl)
theorem dX20_looks_7 : decode cX20_looks 7 = .ok (.ifCond .eq 21, 3) := dk_153 0 21 (dk_at dksX20_looks_0 7 rfl rfl)
theorem dX20_looks_10 : decode cX20_looks 10 = .ok (.aload_n 0, 1) := dk_42 (dk_at dksX20_looks_0 10 rfl rfl)
theorem dX20_looks_11 : decode cX20_looks 11 = .ok (.getfield 25, 3) := dk_180 0 25 (dk_at dksX20_looks_0 11 rfl rfl)
theorem dX20_looks_14 : decode cX20_looks 14 = .ok (.getfield 29, 3) := dk_180 0 29 (dk_at dksX20_looks_0 14 rfl rfl)
theorem dX20_looks_17 : decode cX20_looks 17 = .ok (.aload_n 0, 1) := dk_42 (dk_at dksX20_looks_0 17 rfl rfl)
theorem dX20_looks_18 : decode cX20_looks 18 = .ok (.getfield 15, 3) := dk_180 0 15 (dk_at dksX20_looks_0 18 rfl rfl)
theorem dX20_looks_21 : decode cX20_looks 21 = .ok (.getfield 35, 3) := dk_180 0 35 (dk_at dksX20_looks_0 21 rfl rfl)
theorem dX20_looks_24 : decode cX20_looks 24 = .ok (.iaload, 1) := dk_46 (dk_at dksX20_looks_1 0 rfl rfl)
theorem dX20_looks_25 : decode cX20_looks 25 = .ok (.goto 4, 3) := dk_167 0 4 (dk_at dksX20_looks_1 1 rfl rfl)
theorem dX20_looks_28 : decode cX20_looks 28 = .ok (.iconst 0, 1) := dk_3 (dk_at dksX20_looks_1 4 rfl rfl)
theorem dX20_looks_29 : decode cX20_looks 29 = .ok (.istore_n 1, 1) := dk_60 (dk_at dksX20_looks_1 5 rfl rfl)
theorem dX20_looks_30 : decode cX20_looks 30 = .ok (.aload_n 0, 1) := dk_42 (dk_at dksX20_looks_1 6 rfl rfl)
theorem dX20_looks_31 : decode cX20_looks 31 = .ok (.getfield 25, 3) := dk_180 0 25 (dk_at dksX20_looks_1 7 rfl rfl)
theorem dX20_looks_34 : decode cX20_looks 34 = .ok (.getfield 29, 3) := dk_180 0 29 (dk_at dksX20_looks_1 10 rfl rfl)
theorem dX20_looks_37 : decode cX20_looks 37 = .ok (.aload_n 0, 1) := dk_42 (dk_at dksX20_looks_1 13 rfl rfl)
theorem dX20_looks_38 : decode cX20_looks 38 = .ok (.getfield 15, 3) := dk_180 0 15 (dk_at dksX20_looks_1 14 rfl rfl)
theorem dX20_looks_41 : decode cX20_looks 41 = .ok (.getfield 35, 3) := dk_180 0 35 (dk_at dksX20_looks_1 17 rfl rfl)
theorem dX20_looks_44 : decode cX20_looks 44 = .ok (.iload_n 1, 1) := dk_27 (dk_at dksX20_looks_1 20 rfl rfl)
theorem dX20_looks_45 : decode cX20_looks 45 = .ok (.aload_n 0, 1) := dk_42 (dk_at dksX20_looks_1 21 rfl rfl)
theorem dX20_looks_46 : decode cX20_looks 46 = .ok (.getfield 15, 3) := dk_180 0 15 (dk_at dksX20_looks_2 0 rfl rfl)
theorem dX20_looks_49 : decode cX20_looks 49 = .ok (.getfield 39, 3) := dk_180 0 39 (dk_at dksX20_looks_2 3 rfl rfl)
theorem dX20_looks_52 : decode cX20_looks 52 = .ok (.iadd, 1) := dk_96 (dk_at dksX20_looks_2 6 rfl rfl)
theorem dX20_looks_53 : decode cX20_looks 53 = .ok (.iastore, 1) := dk_79 (dk_at dksX20_looks_2 7 rfl rfl)
theorem dX20_looks_54 : decode cX20_looks 54 = .ok (.aload_n 0, 1) := dk_42 (dk_at dksX20_looks_2 8 rfl rfl)
theorem dX20_looks_55 : decode cX20_looks 55 = .ok (.getfield 25, 3) := dk_180 0 25 (dk_at dksX20_looks_2 9 rfl rfl)
theorem dX20_looks_58 : decode cX20_looks 58 = .ok (.bipush 8, 2) := dk_16 8 (dk_at dksX20_looks_2 12 rfl rfl)
theorem dX20_looks_60 : decode cX20_looks 60 = .ok (.aload_n 0, 1) := dk_42 (dk_at dksX20_looks_2 14 rfl rfl)
theorem dX20_looks_61 : decode cX20_looks 61 = .ok (.getfield 15, 3) := dk_180 0 15 (dk_at dksX20_looks_2 15 rfl rfl)
theorem dX20_looks_64 : decode cX20_looks 64 = .ok (.getfield 35, 3) := dk_180 0 35 (dk_at dksX20_looks_2 18 rfl rfl)
theorem dX20_looks_67 : decode cX20_looks 67 = .ok (.invokevirtual 42, 3) := dk_182 0 42 (dk_at dksX20_looks_2 21 rfl rfl)
theorem dX20_looks_70 : decode cX20_looks 70 = .ok (.getstatic 46, 3) := dk_178 0 46 (dk_at dksX20_looks_3 0 rfl rfl)
theorem dX20_looks_73 : decode cX20_looks 73 = .ok (.areturn, 1) := dk_176 (dk_at dksX20_looks_3 3 rfl rfl)
theorem fl_X20_15_20 : gFL RX20 15 20 2 := gFL.mk (Cn := RX20) (T := TX20) (N := 4) (ref := "WorkflowEngine$AssignRun") rfl in_X20 (by decide) q983 rfl rfl (Or.inl rfl)
theorem fl_X20_19_12 : gFL RX20 19 12 2 := gFL.mkN (Cn := RX12) (T := TX12) (N := 4) (ref := "WorkflowEngine$Assign") rfl in_X12 (by decide) nq434 rfl rfl (Or.inl rfl)
theorem fl_X20_25_20 : gFL RX20 25 20 0 := gFL.mk (Cn := RX20) (T := TX20) (N := 4) (ref := "WorkflowEngine$AssignRun") rfl in_X20 (by decide) q909 rfl rfl (Or.inr q910)
theorem fl_X20_29_16 : gFL RX20 29 16 4 := gFL.mkN (Cn := RX16) (T := TX16) (N := 16) (ref := "WorkflowEngine$Instance") rfl in_X16 (by decide) nq814 rfl rfl (Or.inl rfl)
theorem fl_X20_35_12 : gFL RX20 35 12 1 := gFL.mkN (Cn := RX12) (T := TX12) (N := 4) (ref := "WorkflowEngine$Assign") rfl in_X12 (by decide) nq432 rfl rfl (Or.inl rfl)
theorem fl_X20_39_12 : gFL RX20 39 12 3 := gFL.mkN (Cn := RX12) (T := TX12) (N := 4) (ref := "WorkflowEngine$Assign") rfl in_X12 (by decide) nq436 rfl rfl (Or.inl rfl)
def f_X20_looks (a0 : Nat) (w0 : gw) : Option (Option Nat × gw) := gB1 (gR w0 a0 20 2) fun r1 => gB1 r1 fun a2 => gB1 (gI w0 a2 12 2) fun x3 => gBd (fun (x6 : Int32) (w5 : gw) => gB1 (gR w5 a0 20 0) fun r7 => gB1 r7 fun a8 => gB1 (gR w5 a8 16 4) fun r9 => gB1 (gR w5 a0 20 2) fun r10 => gB1 r10 fun a11 => gB1 (gI w5 a11 12 1) fun x12 => gB1 (gR w5 a0 20 2) fun r13 => gB1 r13 fun a14 => gB1 (gI w5 a14 12 3) fun x15 => gB1 r9 fun a16 => gB1 (gStI w5 a16 0 x12 (x6 + x15)) fun w17 => gB1 (gR w17 a0 20 0) fun r18 => gB1 (gR w17 a0 20 2) fun r19 => gB1 r19 fun a20 => gB1 (gI w17 a20 12 1) fun x21 => gB1 r18 fun a22 => gB1 (gOb w17 a22 16) fun _ => gB2 (f_X16_notes a22 (nI 8) x21 w17) fun _ w23 => some ((some (w23.2.2.2 3)), w23)) fun k4 => if x3 = 0 then k4 (nI 0) w0 else gB1 (gR w0 a0 20 0) fun r25 => gB1 r25 fun a26 => gB1 (gR w0 a26 16 4) fun r27 => gB1 (gR w0 a0 20 2) fun r28 => gB1 r28 fun a29 => gB1 (gI w0 a29 12 1) fun x30 => gB1 r27 fun a31 => gB1 (gLdI w0 a31 0 x30) fun x32 => k4 x32 w0
set_option maxHeartbeats 4000000 in
set_option maxRecDepth 100000 in
theorem k_X20_looks {D : va_G} {dA : Nat → ClassId} {A : Nat → Prop} {K : Nat → Nat} {l : Launch} {h : Nat} (hh : 1 ≤ h) {a0 : Nat} {w0 ww : gw} {rr : Option Nat} (hf : f_X20_looks a0 w0 = some (rr, ww)) : gMet D dA A K l yX20_looks (ws_ yX20_looks cX20_looks 2 (some (.object "WorkflowEngine$Outcome"))) h [(ga (some a0))] (some (ga rr)) w0 ww := by
  refine j_start (own := RX20) (by decide +kernel) rfl (Nat.le_of_ble_eq_true rfl) ?_
  intro p e R s m args below meth c C hr hin hw
  unfold f_X20_looks at hf
  show gJ D dA A K p l e R s m args below meth c (gEnd D dA A K below args s w0 (some (ga rr)) ww) 2 0 [(0, (ga (some a0)))] [] w0
  refine j_aload_n C dX20_looks_0 rfl ?_
  replace hf := gB1_e hf
  obtain ⟨r1, er1, hf⟩ := hf
  refine j_get C fl_X20_15_20 dX20_looks_1 (gR_F er1) ?_
  replace hf := gB1_e hf
  obtain ⟨a2, ea2, hf⟩ := hf
  subst ea2
  replace hf := gB1_e hf
  obtain ⟨x3, ex3, hf⟩ := hf
  refine j_get C fl_X20_19_12 dX20_looks_4 (gI_F ex3) ?_
  replace hf := gBd_x hf
  obtain ⟨k4, ek4, hf⟩ := hf
  have jk4 : ∀ (x6 : Int32) (w5 : gw), k4 x6 w5 = some (rr, ww) → gJ D dA A K p l e R s m args below meth c (gEnd D dA A K below args s w0 (some (ga rr)) ww) 2 29 [(0, (ga (some a0)))] [(gi x6)] w5 := by
    intro x6 w5 hf
    rw [ek4] at hf
    dsimp only at hf
    refine j_istore_n (lv' := [(1, (gi x6)), (0, (ga (some a0)))]) C dX20_looks_29 (by decide) rfl ?_
    refine j_aload_n C dX20_looks_30 rfl ?_
    replace hf := gB1_e hf
    obtain ⟨r7, er7, hf⟩ := hf
    refine j_get C fl_X20_25_20 dX20_looks_31 (gR_F er7) ?_
    replace hf := gB1_e hf
    obtain ⟨a8, ea8, hf⟩ := hf
    subst ea8
    replace hf := gB1_e hf
    obtain ⟨r9, er9, hf⟩ := hf
    refine j_get C fl_X20_29_16 dX20_looks_34 (gR_F er9) ?_
    refine j_aload_n C dX20_looks_37 rfl ?_
    replace hf := gB1_e hf
    obtain ⟨r10, er10, hf⟩ := hf
    refine j_get C fl_X20_15_20 dX20_looks_38 (gR_F er10) ?_
    replace hf := gB1_e hf
    obtain ⟨a11, ea11, hf⟩ := hf
    subst ea11
    replace hf := gB1_e hf
    obtain ⟨x12, ex12, hf⟩ := hf
    refine j_get C fl_X20_35_12 dX20_looks_41 (gI_F ex12) ?_
    refine j_iload_n C dX20_looks_44 rfl ?_
    refine j_aload_n C dX20_looks_45 rfl ?_
    replace hf := gB1_e hf
    obtain ⟨r13, er13, hf⟩ := hf
    refine j_get C fl_X20_15_20 dX20_looks_46 (gR_F er13) ?_
    replace hf := gB1_e hf
    obtain ⟨a14, ea14, hf⟩ := hf
    subst ea14
    replace hf := gB1_e hf
    obtain ⟨x15, ex15, hf⟩ := hf
    refine j_get C fl_X20_39_12 dX20_looks_49 (gI_F ex15) ?_
    refine j_iadd C dX20_looks_52 ?_
    replace hf := gB1_e hf
    obtain ⟨a16, ea16, hf⟩ := hf
    subst ea16
    replace hf := gB1_e hf
    obtain ⟨w17, ew17, hf⟩ := hf
    refine j_iast C ew17 dX20_looks_53 ?_
    refine j_aload_n C dX20_looks_54 rfl ?_
    replace hf := gB1_e hf
    obtain ⟨r18, er18, hf⟩ := hf
    refine j_get C fl_X20_25_20 dX20_looks_55 (gR_F er18) ?_
    refine j_bipush (v := (nI 8)) C dX20_looks_58 (by decide) ?_
    refine j_aload_n C dX20_looks_60 rfl ?_
    replace hf := gB1_e hf
    obtain ⟨r19, er19, hf⟩ := hf
    refine j_get C fl_X20_15_20 dX20_looks_61 (gR_F er19) ?_
    replace hf := gB1_e hf
    obtain ⟨a20, ea20, hf⟩ := hf
    subst ea20
    replace hf := gB1_e hf
    obtain ⟨x21, ex21, hf⟩ := hf
    refine j_get C fl_X20_35_12 dX20_looks_64 (gI_F ex21) ?_
    replace hf := gB1_e hf
    obtain ⟨a22, ea22, hf⟩ := hf
    subst ea22
    replace hf := gB1_e hf
    obtain ⟨_, eo, hf⟩ := hf
    replace hf := gB2_e hf
    obtain ⟨_, w23, ew23, hf⟩ := hf
    refine j_callV (As := [(gi (nI 8)), (gi x21)]) (rest := []) (v := none) C (by omega) (k_X16_notes (by omega) ew23) (gOb_e eo) rfl q943 q944 q945 q118 q946 ⟨rfl, hd_X16_notes⟩ (by decide) rfl (Nat.le_of_ble_eq_true rfl) dX20_looks_67 ?_
    refine j_gets (i := 3) C C.2.2.2.2.2.1.2.2.2.2.1.2.1 q947 dX20_looks_70 ?_
    obtain ⟨rfl, rfl⟩ := gSome hf
    exact j_aret C hr (Or.inl ⟨_, rfl⟩) hw dX20_looks_73
  clear ek4
  refine j_if_eq (tgt := 28) C dX20_looks_7 (by decide) (fun c24 => ?_) (fun c24 => ?_)
  · replace hf := gIf_t hf c24
    refine j_iconst (v := (nI 0)) C dX20_looks_28 (by decide) ?_
    exact jk4 _ _ hf
  · replace hf := gIf_f hf c24
    refine j_aload_n C dX20_looks_10 rfl ?_
    replace hf := gB1_e hf
    obtain ⟨r25, er25, hf⟩ := hf
    refine j_get C fl_X20_25_20 dX20_looks_11 (gR_F er25) ?_
    replace hf := gB1_e hf
    obtain ⟨a26, ea26, hf⟩ := hf
    subst ea26
    replace hf := gB1_e hf
    obtain ⟨r27, er27, hf⟩ := hf
    refine j_get C fl_X20_29_16 dX20_looks_14 (gR_F er27) ?_
    refine j_aload_n C dX20_looks_17 rfl ?_
    replace hf := gB1_e hf
    obtain ⟨r28, er28, hf⟩ := hf
    refine j_get C fl_X20_15_20 dX20_looks_18 (gR_F er28) ?_
    replace hf := gB1_e hf
    obtain ⟨a29, ea29, hf⟩ := hf
    subst ea29
    replace hf := gB1_e hf
    obtain ⟨x30, ex30, hf⟩ := hf
    refine j_get C fl_X20_35_12 dX20_looks_21 (gI_F ex30) ?_
    replace hf := gB1_e hf
    obtain ⟨a31, ea31, hf⟩ := hf
    subst ea31
    replace hf := gB1_e hf
    obtain ⟨x32, ex32, hf⟩ := hf
    refine j_iald C ex32 dX20_looks_24 ?_
    refine j_goto (tgt := 29) C dX20_looks_25 (by decide) ?_
    exact jk4 _ _ hf
theorem dX20_due_0 : decode cX20_due 0 = .ok (.ldc 55, 2) := by decide +kernel
theorem dX20_due_2 : decode cX20_due 2 = .ok (.ireturn, 1) := by decide +kernel
def f_X20_due (a0 : Nat) (w0 : gw) : Option (Int32 × gw) := some ((nI 2147483647), w0)
set_option maxHeartbeats 4000000 in
set_option maxRecDepth 100000 in
theorem k_X20_due {D : va_G} {dA : Nat → ClassId} {A : Nat → Prop} {K : Nat → Nat} {l : Launch} {h : Nat} (hh : 0 ≤ h) {a0 : Nat} {w0 ww : gw} {rr : Int32} (hf : f_X20_due a0 w0 = some (rr, ww)) : gMet D dA A K l yX20_due (ws_ yX20_due cX20_due 1 (some .int)) h [(ga (some a0))] (some (gi rr)) w0 ww := by
  refine j_start (own := RX20) (by decide +kernel) rfl (Nat.le_of_ble_eq_true rfl) ?_
  intro p e R s m args below meth c C hr hin hw
  unfold f_X20_due at hf
  show gJ D dA A K p l e R s m args below meth c (gEnd D dA A K below args s w0 (some (gi rr)) ww) 1 0 [(0, (ga (some a0)))] [] w0
  refine j_ldc (v := (nI 2147483647)) C q1399 dX20_due_0 ?_
  obtain ⟨rfl, rfl⟩ := gSome hf
  exact j_iret C hr hw dX20_due_2
def dkwX21_looks_4 : List UInt8 := [178, 0, 64, 176]
abbrev dktX21_looks_4 : List UInt8 := dkwX21_looks_4 ++ []
def dkwX21_looks_3 : List UInt8 := [164, 0, 7, 178, 0, 61, 176, 42, 180, 0, 40, 7, 42, 180, 0, 15, 180, 0, 48, 182, 0, 51]
abbrev dktX21_looks_3 : List UInt8 := dkwX21_looks_3 ++ dktX21_looks_4
def dkwX21_looks_2 : List UInt8 := [180, 0, 48, 182, 0, 51, 178, 0, 55, 176, 42, 180, 0, 37, 42, 180, 0, 40, 180, 0, 26, 180, 0, 32]
abbrev dktX21_looks_2 : List UInt8 := dkwX21_looks_2 ++ dktX21_looks_3
def dkwX21_looks_1 : List UInt8 := [180, 0, 44, 42, 180, 0, 15, 180, 0, 48, 92, 46, 4, 100, 79, 42, 180, 0, 40, 6, 42, 180, 0, 15]
abbrev dktX21_looks_1 : List UInt8 := dkwX21_looks_1 ++ dktX21_looks_2
def dkwX21_looks_0 : List UInt8 := [42, 180, 0, 40, 180, 0, 44, 42, 180, 0, 15, 180, 0, 48, 46, 158, 0, 41, 42, 180, 0, 40]
abbrev dktX21_looks_0 : List UInt8 := dkwX21_looks_0 ++ dktX21_looks_1
theorem dksX21_looks_0 : cX21_looks.data.toList.drop 0 = dktX21_looks_0 := by decide +kernel
theorem dksX21_looks_1 : cX21_looks.data.toList.drop 22 = dktX21_looks_1 := dk_seg dksX21_looks_0 22 rfl rfl
theorem dksX21_looks_2 : cX21_looks.data.toList.drop 46 = dktX21_looks_2 := dk_seg dksX21_looks_1 24 rfl rfl
theorem dksX21_looks_3 : cX21_looks.data.toList.drop 70 = dktX21_looks_3 := dk_seg dksX21_looks_2 24 rfl rfl
theorem dksX21_looks_4 : cX21_looks.data.toList.drop 92 = dktX21_looks_4 := dk_seg dksX21_looks_3 22 rfl rfl
theorem dX21_looks_0 : decode cX21_looks 0 = .ok (.aload_n 0, 1) := dk_42 (dk_at dksX21_looks_0 0 rfl rfl)
theorem dX21_looks_1 : decode cX21_looks 1 = .ok (.getfield 40, 3) := dk_180 0 40 (dk_at dksX21_looks_0 1 rfl rfl)
theorem dX21_looks_4 : decode cX21_looks 4 = .ok (.getfield 44, 3) := dk_180 0 44 (dk_at dksX21_looks_0 4 rfl rfl)
theorem dX21_looks_7 : decode cX21_looks 7 = .ok (.aload_n 0, 1) := dk_42 (dk_at dksX21_looks_0 7 rfl rfl)
theorem dX21_looks_8 : decode cX21_looks 8 = .ok (.getfield 15, 3) := dk_180 0 15 (dk_at dksX21_looks_0 8 rfl rfl)
theorem dX21_looks_11 : decode cX21_looks 11 = .ok (.getfield 48, 3) := dk_180 0 48 (dk_at dksX21_looks_0 11 rfl rfl)
theorem dX21_looks_14 : decode cX21_looks 14 = .ok (.iaload, 1) := dk_46 (dk_at dksX21_looks_0 14 rfl rfl)
theorem dX21_looks_15 : decode cX21_looks 15 = .ok (.ifCond .le 41, 3) := dk_158 0 41 (dk_at dksX21_looks_0 15 rfl rfl)
theorem dX21_looks_18 : decode cX21_looks 18 = .ok (.aload_n 0, 1) := dk_42 (dk_at dksX21_looks_0 18 rfl rfl)
theorem dX21_looks_19 : decode cX21_looks 19 = .ok (.getfield 40, 3) := dk_180 0 40 (dk_at dksX21_looks_0 19 rfl rfl)
theorem dX21_looks_22 : decode cX21_looks 22 = .ok (.getfield 44, 3) := dk_180 0 44 (dk_at dksX21_looks_1 0 rfl rfl)
theorem dX21_looks_25 : decode cX21_looks 25 = .ok (.aload_n 0, 1) := dk_42 (dk_at dksX21_looks_1 3 rfl rfl)
theorem dX21_looks_26 : decode cX21_looks 26 = .ok (.getfield 15, 3) := dk_180 0 15 (dk_at dksX21_looks_1 4 rfl rfl)
theorem dX21_looks_29 : decode cX21_looks 29 = .ok (.getfield 48, 3) := dk_180 0 48 (dk_at dksX21_looks_1 7 rfl rfl)
theorem dX21_looks_32 : decode cX21_looks 32 = .ok (.dup2, 1) := dk_92 (dk_at dksX21_looks_1 10 rfl rfl)
theorem dX21_looks_33 : decode cX21_looks 33 = .ok (.iaload, 1) := dk_46 (dk_at dksX21_looks_1 11 rfl rfl)
theorem dX21_looks_34 : decode cX21_looks 34 = .ok (.iconst 1, 1) := dk_4 (dk_at dksX21_looks_1 12 rfl rfl)
theorem dX21_looks_35 : decode cX21_looks 35 = .ok (.isub, 1) := dk_100 (dk_at dksX21_looks_1 13 rfl rfl)
theorem dX21_looks_36 : decode cX21_looks 36 = .ok (.iastore, 1) := dk_79 (dk_at dksX21_looks_1 14 rfl rfl)
theorem dX21_looks_37 : decode cX21_looks 37 = .ok (.aload_n 0, 1) := dk_42 (dk_at dksX21_looks_1 15 rfl rfl)
theorem dX21_looks_38 : decode cX21_looks 38 = .ok (.getfield 40, 3) := dk_180 0 40 (dk_at dksX21_looks_1 16 rfl rfl)
theorem dX21_looks_41 : decode cX21_looks 41 = .ok (.iconst 3, 1) := dk_6 (dk_at dksX21_looks_1 19 rfl rfl)
theorem dX21_looks_42 : decode cX21_looks 42 = .ok (.aload_n 0, 1) := dk_42 (dk_at dksX21_looks_1 20 rfl rfl)
theorem dX21_looks_43 : decode cX21_looks 43 = .ok (.getfield 15, 3) := dk_180 0 15 (dk_at dksX21_looks_1 21 rfl rfl)
theorem dX21_looks_46 : decode cX21_looks 46 = .ok (.getfield 48, 3) := dk_180 0 48 (dk_at dksX21_looks_2 0 rfl rfl)
theorem dX21_looks_49 : decode cX21_looks 49 = .ok (.invokevirtual 51, 3) := dk_182 0 51 (dk_at dksX21_looks_2 3 rfl rfl)
theorem dX21_looks_52 : decode cX21_looks 52 = .ok (.getstatic 55, 3) := dk_178 0 55 (dk_at dksX21_looks_2 6 rfl rfl)
theorem dX21_looks_55 : decode cX21_looks 55 = .ok (.areturn, 1) := dk_176 (dk_at dksX21_looks_2 9 rfl rfl)
theorem dX21_looks_56 : decode cX21_looks 56 = .ok (.aload_n 0, 1) := dk_42 (dk_at dksX21_looks_2 10 rfl rfl)
theorem dX21_looks_57 : decode cX21_looks 57 = .ok (.getfield 37, 3) := dk_180 0 37 (dk_at dksX21_looks_2 11 rfl rfl)
theorem dX21_looks_60 : decode cX21_looks 60 = .ok (.aload_n 0, 1) := dk_42 (dk_at dksX21_looks_2 14 rfl rfl)
theorem dX21_looks_61 : decode cX21_looks 61 = .ok (.getfield 40, 3) := dk_180 0 40 (dk_at dksX21_looks_2 15 rfl rfl)
theorem dX21_looks_64 : decode cX21_looks 64 = .ok (.getfield 26, 3) := dk_180 0 26 (dk_at dksX21_looks_2 18 rfl rfl)
theorem dX21_looks_67 : decode cX21_looks 67 = .ok (.getfield 32, 3) := dk_180 0 32 (dk_at dksX21_looks_2 21 rfl rfl)
theorem dX21_looks_70 : decode cX21_looks 70 = .ok (.if_icmp .le 7, 3) := dk_164 0 7 (dk_at dksX21_looks_3 0 rfl rfl)
theorem dX21_looks_73 : decode cX21_looks 73 = .ok (.getstatic 61, 3) := dk_178 0 61 (dk_at dksX21_looks_3 3 rfl rfl)
theorem dX21_looks_76 : decode cX21_looks 76 = .ok (.areturn, 1) := dk_176 (dk_at dksX21_looks_3 6 rfl rfl)
theorem dX21_looks_77 : decode cX21_looks 77 = .ok (.aload_n 0, 1) := dk_42 (dk_at dksX21_looks_3 7 rfl rfl)
theorem dX21_looks_78 : decode cX21_looks 78 = .ok (.getfield 40, 3) := dk_180 0 40 (dk_at dksX21_looks_3 8 rfl rfl)
theorem dX21_looks_81 : decode cX21_looks 81 = .ok (.iconst 4, 1) := dk_7 (dk_at dksX21_looks_3 11 rfl rfl)
theorem dX21_looks_82 : decode cX21_looks 82 = .ok (.aload_n 0, 1) := dk_42 (dk_at dksX21_looks_3 12 rfl rfl)
theorem dX21_looks_83 : decode cX21_looks 83 = .ok (.getfield 15, 3) := dk_180 0 15 (dk_at dksX21_looks_3 13 rfl rfl)
theorem dX21_looks_86 : decode cX21_looks 86 = .ok (.getfield 48, 3) := dk_180 0 48 (dk_at dksX21_looks_3 16 rfl rfl)
theorem dX21_looks_89 : decode cX21_looks 89 = .ok (.invokevirtual 51, 3) := dk_182 0 51 (dk_at dksX21_looks_3 19 rfl rfl)
theorem dX21_looks_92 : decode cX21_looks 92 = .ok (.getstatic 64, 3) := dk_178 0 64 (dk_at dksX21_looks_4 0 rfl rfl)
theorem dX21_looks_95 : decode cX21_looks 95 = .ok (.areturn, 1) := dk_176 (dk_at dksX21_looks_4 3 rfl rfl)
theorem fl_X21_40_21 : gFL RX21 40 21 0 := gFL.mk (Cn := RX21) (T := TX21) (N := 5) (ref := "WorkflowEngine$AwaitRun") rfl in_X21 (by decide) q905 rfl rfl (Or.inr q906)
theorem fl_X21_44_16 : gFL RX21 44 16 5 := gFL.mkN (Cn := RX16) (T := TX16) (N := 16) (ref := "WorkflowEngine$Instance") rfl in_X16 (by decide) nq818 rfl rfl (Or.inl rfl)
theorem fl_X21_15_21 : gFL RX21 15 21 2 := gFL.mk (Cn := RX21) (T := TX21) (N := 5) (ref := "WorkflowEngine$AwaitRun") rfl in_X21 (by decide) q1004 rfl rfl (Or.inl rfl)
theorem fl_X21_48_11 : gFL RX21 48 11 1 := gFL.mkN (Cn := RX11) (T := TX11) (N := 3) (ref := "WorkflowEngine$Await") rfl in_X11 (by decide) nq408 rfl rfl (Or.inl rfl)
theorem fl_X21_37_21 : gFL RX21 37 21 3 := gFL.mk (Cn := RX21) (T := TX21) (N := 5) (ref := "WorkflowEngine$AwaitRun") rfl in_X21 (by decide) q1005 rfl rfl (Or.inl rfl)
theorem fl_X21_26_16 : gFL RX21 26 16 0 := gFL.mkN (Cn := RX16) (T := TX16) (N := 16) (ref := "WorkflowEngine$Instance") rfl in_X16 (by decide) nq805 rfl rfl (Or.inl rfl)
theorem fl_X21_32_1 : gFL RX21 32 1 3 := gFL.mkN (Cn := RX1) (T := TX1) (N := 5) (ref := "WorkflowEngine$Moment") rfl in_X1 (by decide) nq744 rfl rfl (Or.inl rfl)
def f_X21_looks (a0 : Nat) (w0 : gw) : Option (Option Nat × gw) := gB1 (gR w0 a0 21 0) fun r1 => gB1 r1 fun a2 => gB1 (gR w0 a2 16 5) fun r3 => gB1 (gR w0 a0 21 2) fun r4 => gB1 r4 fun a5 => gB1 (gI w0 a5 11 1) fun x6 => gB1 r3 fun a7 => gB1 (gLdI w0 a7 0 x6) fun x8 => if x8 ≤ 0 then gB1 (gI w0 a0 21 3) fun x10 => gB1 (gR w0 a0 21 0) fun r11 => gB1 r11 fun a12 => gB1 (gR w0 a12 16 0) fun r13 => gB1 r13 fun a14 => gB1 (gI w0 a14 1 3) fun x15 => if x10 ≤ x15 then gB1 (gR w0 a0 21 0) fun r17 => gB1 (gR w0 a0 21 2) fun r18 => gB1 r18 fun a19 => gB1 (gI w0 a19 11 1) fun x20 => gB1 r17 fun a21 => gB1 (gOb w0 a21 16) fun _ => gB2 (f_X16_notes a21 (nI 4) x20 w0) fun _ w22 => some ((some (w22.2.2.2 4)), w22) else some ((some (w0.2.2.2 2)), w0) else gB1 (gR w0 a0 21 0) fun r23 => gB1 r23 fun a24 => gB1 (gR w0 a24 16 5) fun r25 => gB1 (gR w0 a0 21 2) fun r26 => gB1 r26 fun a27 => gB1 (gI w0 a27 11 1) fun x28 => gB1 r25 fun a29 => gB1 (gLdI w0 a29 0 x28) fun x30 => gB1 (gStI w0 a29 0 x28 (x30 - (nI 1))) fun w31 => gB1 (gR w31 a0 21 0) fun r32 => gB1 (gR w31 a0 21 2) fun r33 => gB1 r33 fun a34 => gB1 (gI w31 a34 11 1) fun x35 => gB1 r32 fun a36 => gB1 (gOb w31 a36 16) fun _ => gB2 (f_X16_notes a36 (nI 3) x35 w31) fun _ w37 => some ((some (w37.2.2.2 3)), w37)
set_option maxHeartbeats 4000000 in
set_option maxRecDepth 100000 in
theorem k_X21_looks {D : va_G} {dA : Nat → ClassId} {A : Nat → Prop} {K : Nat → Nat} {l : Launch} {h : Nat} (hh : 1 ≤ h) {a0 : Nat} {w0 ww : gw} {rr : Option Nat} (hf : f_X21_looks a0 w0 = some (rr, ww)) : gMet D dA A K l yX21_looks (ws_ yX21_looks cX21_looks 1 (some (.object "WorkflowEngine$Outcome"))) h [(ga (some a0))] (some (ga rr)) w0 ww := by
  refine j_start (own := RX21) (by decide +kernel) rfl (Nat.le_of_ble_eq_true rfl) ?_
  intro p e R s m args below meth c C hr hin hw
  unfold f_X21_looks at hf
  show gJ D dA A K p l e R s m args below meth c (gEnd D dA A K below args s w0 (some (ga rr)) ww) 1 0 [(0, (ga (some a0)))] [] w0
  refine j_aload_n C dX21_looks_0 rfl ?_
  replace hf := gB1_e hf
  obtain ⟨r1, er1, hf⟩ := hf
  refine j_get C fl_X21_40_21 dX21_looks_1 (gR_F er1) ?_
  replace hf := gB1_e hf
  obtain ⟨a2, ea2, hf⟩ := hf
  subst ea2
  replace hf := gB1_e hf
  obtain ⟨r3, er3, hf⟩ := hf
  refine j_get C fl_X21_44_16 dX21_looks_4 (gR_F er3) ?_
  refine j_aload_n C dX21_looks_7 rfl ?_
  replace hf := gB1_e hf
  obtain ⟨r4, er4, hf⟩ := hf
  refine j_get C fl_X21_15_21 dX21_looks_8 (gR_F er4) ?_
  replace hf := gB1_e hf
  obtain ⟨a5, ea5, hf⟩ := hf
  subst ea5
  replace hf := gB1_e hf
  obtain ⟨x6, ex6, hf⟩ := hf
  refine j_get C fl_X21_48_11 dX21_looks_11 (gI_F ex6) ?_
  replace hf := gB1_e hf
  obtain ⟨a7, ea7, hf⟩ := hf
  subst ea7
  replace hf := gB1_e hf
  obtain ⟨x8, ex8, hf⟩ := hf
  refine j_iald C ex8 dX21_looks_14 ?_
  refine j_if_le (tgt := 56) C dX21_looks_15 (by decide) (fun c9 => ?_) (fun c9 => ?_)
  · replace hf := gIf_t hf c9
    refine j_aload_n C dX21_looks_56 rfl ?_
    replace hf := gB1_e hf
    obtain ⟨x10, ex10, hf⟩ := hf
    refine j_get C fl_X21_37_21 dX21_looks_57 (gI_F ex10) ?_
    refine j_aload_n C dX21_looks_60 rfl ?_
    replace hf := gB1_e hf
    obtain ⟨r11, er11, hf⟩ := hf
    refine j_get C fl_X21_40_21 dX21_looks_61 (gR_F er11) ?_
    replace hf := gB1_e hf
    obtain ⟨a12, ea12, hf⟩ := hf
    subst ea12
    replace hf := gB1_e hf
    obtain ⟨r13, er13, hf⟩ := hf
    refine j_get C fl_X21_26_16 dX21_looks_64 (gR_F er13) ?_
    replace hf := gB1_e hf
    obtain ⟨a14, ea14, hf⟩ := hf
    subst ea14
    replace hf := gB1_e hf
    obtain ⟨x15, ex15, hf⟩ := hf
    refine j_get C fl_X21_32_1 dX21_looks_67 (gI_F ex15) ?_
    refine j_icmp_le (tgt := 77) C dX21_looks_70 (by decide) (fun c16 => ?_) (fun c16 => ?_)
    · replace hf := gIf_t hf c16
      refine j_aload_n C dX21_looks_77 rfl ?_
      replace hf := gB1_e hf
      obtain ⟨r17, er17, hf⟩ := hf
      refine j_get C fl_X21_40_21 dX21_looks_78 (gR_F er17) ?_
      refine j_iconst (v := (nI 4)) C dX21_looks_81 (by decide) ?_
      refine j_aload_n C dX21_looks_82 rfl ?_
      replace hf := gB1_e hf
      obtain ⟨r18, er18, hf⟩ := hf
      refine j_get C fl_X21_15_21 dX21_looks_83 (gR_F er18) ?_
      replace hf := gB1_e hf
      obtain ⟨a19, ea19, hf⟩ := hf
      subst ea19
      replace hf := gB1_e hf
      obtain ⟨x20, ex20, hf⟩ := hf
      refine j_get C fl_X21_48_11 dX21_looks_86 (gI_F ex20) ?_
      replace hf := gB1_e hf
      obtain ⟨a21, ea21, hf⟩ := hf
      subst ea21
      replace hf := gB1_e hf
      obtain ⟨_, eo, hf⟩ := hf
      replace hf := gB2_e hf
      obtain ⟨_, w22, ew22, hf⟩ := hf
      refine j_callV (As := [(gi (nI 4)), (gi x20)]) (rest := []) (v := none) C (by omega) (k_X16_notes (by omega) ew22) (gOb_e eo) rfl q952 q944 q945 q118 q946 ⟨rfl, hd_X16_notes⟩ (by decide) rfl (Nat.le_of_ble_eq_true rfl) dX21_looks_89 ?_
      refine j_gets (i := 4) C C.2.2.2.2.2.1.2.2.2.2.1.2.2.1 q956 dX21_looks_92 ?_
      obtain ⟨rfl, rfl⟩ := gSome hf
      exact j_aret C hr (Or.inl ⟨_, rfl⟩) hw dX21_looks_95
    · replace hf := gIf_f hf c16
      refine j_gets (i := 2) C C.2.2.2.2.2.1.2.2.2.2.1.1 q954 dX21_looks_73 ?_
      obtain ⟨rfl, rfl⟩ := gSome hf
      exact j_aret C hr (Or.inl ⟨_, rfl⟩) hw dX21_looks_76
  · replace hf := gIf_f hf c9
    refine j_aload_n C dX21_looks_18 rfl ?_
    replace hf := gB1_e hf
    obtain ⟨r23, er23, hf⟩ := hf
    refine j_get C fl_X21_40_21 dX21_looks_19 (gR_F er23) ?_
    replace hf := gB1_e hf
    obtain ⟨a24, ea24, hf⟩ := hf
    subst ea24
    replace hf := gB1_e hf
    obtain ⟨r25, er25, hf⟩ := hf
    refine j_get C fl_X21_44_16 dX21_looks_22 (gR_F er25) ?_
    refine j_aload_n C dX21_looks_25 rfl ?_
    replace hf := gB1_e hf
    obtain ⟨r26, er26, hf⟩ := hf
    refine j_get C fl_X21_15_21 dX21_looks_26 (gR_F er26) ?_
    replace hf := gB1_e hf
    obtain ⟨a27, ea27, hf⟩ := hf
    subst ea27
    replace hf := gB1_e hf
    obtain ⟨x28, ex28, hf⟩ := hf
    refine j_get C fl_X21_48_11 dX21_looks_29 (gI_F ex28) ?_
    refine j_dup2 C dX21_looks_32 ?_
    replace hf := gB1_e hf
    obtain ⟨a29, ea29, hf⟩ := hf
    subst ea29
    replace hf := gB1_e hf
    obtain ⟨x30, ex30, hf⟩ := hf
    refine j_iald C ex30 dX21_looks_33 ?_
    refine j_iconst (v := (nI 1)) C dX21_looks_34 (by decide) ?_
    refine j_isub C dX21_looks_35 ?_
    replace hf := gB1_e hf
    obtain ⟨w31, ew31, hf⟩ := hf
    refine j_iast C ew31 dX21_looks_36 ?_
    refine j_aload_n C dX21_looks_37 rfl ?_
    replace hf := gB1_e hf
    obtain ⟨r32, er32, hf⟩ := hf
    refine j_get C fl_X21_40_21 dX21_looks_38 (gR_F er32) ?_
    refine j_iconst (v := (nI 3)) C dX21_looks_41 (by decide) ?_
    refine j_aload_n C dX21_looks_42 rfl ?_
    replace hf := gB1_e hf
    obtain ⟨r33, er33, hf⟩ := hf
    refine j_get C fl_X21_15_21 dX21_looks_43 (gR_F er33) ?_
    replace hf := gB1_e hf
    obtain ⟨a34, ea34, hf⟩ := hf
    subst ea34
    replace hf := gB1_e hf
    obtain ⟨x35, ex35, hf⟩ := hf
    refine j_get C fl_X21_48_11 dX21_looks_46 (gI_F ex35) ?_
    replace hf := gB1_e hf
    obtain ⟨a36, ea36, hf⟩ := hf
    subst ea36
    replace hf := gB1_e hf
    obtain ⟨_, eo, hf⟩ := hf
    replace hf := gB2_e hf
    obtain ⟨_, w37, ew37, hf⟩ := hf
    refine j_callV (As := [(gi (nI 3)), (gi x35)]) (rest := []) (v := none) C (by omega) (k_X16_notes (by omega) ew37) (gOb_e eo) rfl q952 q944 q945 q118 q946 ⟨rfl, hd_X16_notes⟩ (by decide) rfl (Nat.le_of_ble_eq_true rfl) dX21_looks_49 ?_
    refine j_gets (i := 3) C C.2.2.2.2.2.1.2.2.2.2.1.2.1 q953 dX21_looks_52 ?_
    obtain ⟨rfl, rfl⟩ := gSome hf
    exact j_aret C hr (Or.inl ⟨_, rfl⟩) hw dX21_looks_55
theorem dX21_due_0 : decode cX21_due 0 = .ok (.aload_n 0, 1) := by decide +kernel
theorem dX21_due_1 : decode cX21_due 1 = .ok (.getfield 37, 3) := by decide +kernel
theorem dX21_due_4 : decode cX21_due 4 = .ok (.ireturn, 1) := by decide +kernel
def f_X21_due (a0 : Nat) (w0 : gw) : Option (Int32 × gw) := gB1 (gI w0 a0 21 3) fun x1 => some (x1, w0)
set_option maxHeartbeats 4000000 in
set_option maxRecDepth 100000 in
theorem k_X21_due {D : va_G} {dA : Nat → ClassId} {A : Nat → Prop} {K : Nat → Nat} {l : Launch} {h : Nat} (hh : 0 ≤ h) {a0 : Nat} {w0 ww : gw} {rr : Int32} (hf : f_X21_due a0 w0 = some (rr, ww)) : gMet D dA A K l yX21_due (ws_ yX21_due cX21_due 1 (some .int)) h [(ga (some a0))] (some (gi rr)) w0 ww := by
  refine j_start (own := RX21) (by decide +kernel) rfl (Nat.le_of_ble_eq_true rfl) ?_
  intro p e R s m args below meth c C hr hin hw
  unfold f_X21_due at hf
  show gJ D dA A K p l e R s m args below meth c (gEnd D dA A K below args s w0 (some (gi rr)) ww) 1 0 [(0, (ga (some a0)))] [] w0
  refine j_aload_n C dX21_due_0 rfl ?_
  replace hf := gB1_e hf
  obtain ⟨x1, ex1, hf⟩ := hf
  refine j_get C fl_X21_37_21 dX21_due_1 (gI_F ex1) ?_
  obtain ⟨rfl, rfl⟩ := gSome hf
  exact j_iret C hr hw dX21_due_4
def dkwX22_many_1 : List UInt8 := [4, 167, 0, 4, 3, 184, 0, 40, 96, 61, 132, 3, 1, 167, 255, 223, 28, 172]
abbrev dktX22_many_1 : List UInt8 := dkwX22_many_1 ++ []
def dkwX22_many_0 : List UInt8 := [3, 61, 3, 62, 29, 42, 180, 0, 36, 190, 162, 0, 30, 28, 42, 180, 0, 36, 29, 50, 43, 166, 0, 7]
abbrev dktX22_many_0 : List UInt8 := dkwX22_many_0 ++ dktX22_many_1
theorem dksX22_many_0 : cX22_many.data.toList.drop 0 = dktX22_many_0 := by decide +kernel
theorem dksX22_many_1 : cX22_many.data.toList.drop 24 = dktX22_many_1 := dk_seg dksX22_many_0 24 rfl rfl
theorem dX22_many_0 : decode cX22_many 0 = .ok (.iconst 0, 1) := dk_3 (dk_at dksX22_many_0 0 rfl rfl)
theorem dX22_many_1 : decode cX22_many 1 = .ok (.istore_n 2, 1) := dk_61 (dk_at dksX22_many_0 1 rfl rfl)
theorem dX22_many_2 : decode cX22_many 2 = .ok (.iconst 0, 1) := dk_3 (dk_at dksX22_many_0 2 rfl rfl)
theorem dX22_many_3 : decode cX22_many 3 = .ok (.istore_n 3, 1) := dk_62 (dk_at dksX22_many_0 3 rfl rfl)
theorem dX22_many_4 : decode cX22_many 4 = .ok (.iload_n 3, 1) := dk_29 (dk_at dksX22_many_0 4 rfl rfl)
theorem dX22_many_5 : decode cX22_many 5 = .ok (.aload_n 0, 1) := dk_42 (dk_at dksX22_many_0 5 rfl rfl)
theorem dX22_many_6 : decode cX22_many 6 = .ok (.getfield 36, 3) := dk_180 0 36 (dk_at dksX22_many_0 6 rfl rfl)
theorem dX22_many_9 : decode cX22_many 9 = .ok (.arraylength, 1) := dk_190 (dk_at dksX22_many_0 9 rfl rfl)
theorem dX22_many_10 : decode cX22_many 10 = .ok (.if_icmp .ge 30, 3) := dk_162 0 30 (dk_at dksX22_many_0 10 rfl rfl)
theorem dX22_many_13 : decode cX22_many 13 = .ok (.iload_n 2, 1) := dk_28 (dk_at dksX22_many_0 13 rfl rfl)
theorem dX22_many_14 : decode cX22_many 14 = .ok (.aload_n 0, 1) := dk_42 (dk_at dksX22_many_0 14 rfl rfl)
theorem dX22_many_15 : decode cX22_many 15 = .ok (.getfield 36, 3) := dk_180 0 36 (dk_at dksX22_many_0 15 rfl rfl)
theorem dX22_many_18 : decode cX22_many 18 = .ok (.iload_n 3, 1) := dk_29 (dk_at dksX22_many_0 18 rfl rfl)
theorem dX22_many_19 : decode cX22_many 19 = .ok (.aaload, 1) := dk_50 (dk_at dksX22_many_0 19 rfl rfl)
theorem dX22_many_20 : decode cX22_many 20 = .ok (.aload_n 1, 1) := dk_43 (dk_at dksX22_many_0 20 rfl rfl)
theorem dX22_many_21 : decode cX22_many 21 = .ok (.if_acmp .ne 7, 3) := dk_166 0 7 (dk_at dksX22_many_0 21 rfl rfl)
theorem dX22_many_24 : decode cX22_many 24 = .ok (.iconst 1, 1) := dk_4 (dk_at dksX22_many_1 0 rfl rfl)
theorem dX22_many_25 : decode cX22_many 25 = .ok (.goto 4, 3) := dk_167 0 4 (dk_at dksX22_many_1 1 rfl rfl)
theorem dX22_many_28 : decode cX22_many 28 = .ok (.iconst 0, 1) := dk_3 (dk_at dksX22_many_1 4 rfl rfl)
theorem dX22_many_29 : decode cX22_many 29 = .ok (.invokestatic 40, 3) := dk_184 0 40 (dk_at dksX22_many_1 5 rfl rfl)
theorem dX22_many_32 : decode cX22_many 32 = .ok (.iadd, 1) := dk_96 (dk_at dksX22_many_1 8 rfl rfl)
theorem dX22_many_33 : decode cX22_many 33 = .ok (.istore_n 2, 1) := dk_61 (dk_at dksX22_many_1 9 rfl rfl)
theorem dX22_many_34 : decode cX22_many 34 = .ok (.iinc 3 1, 3) := dk_132 3 1 (dk_at dksX22_many_1 10 rfl rfl)
theorem dX22_many_37 : decode cX22_many 37 = .ok (.goto (-33), 3) := dk_167 255 223 (dk_at dksX22_many_1 13 rfl rfl)
theorem dX22_many_40 : decode cX22_many 40 = .ok (.iload_n 2, 1) := dk_28 (dk_at dksX22_many_1 16 rfl rfl)
theorem dX22_many_41 : decode cX22_many 41 = .ok (.ireturn, 1) := dk_172 (dk_at dksX22_many_1 17 rfl rfl)
theorem fl_X22_36_22 : gFL RX22 36 22 4 := gFL.mk (Cn := RX22) (T := TX22) (N := 7) (ref := "WorkflowEngine$ParallelRun") rfl in_X22 (by decide) q1041 rfl rfl (Or.inl rfl)
def f_X22_many (a0 : Nat) (p1 : Option Nat) (w0 : gw) : Option (Int32 × gw) := gL3 (fun k5 (r2 : Option Nat) (x3 : Int32) (x4 : Int32) (w1 : gw) => gB1 (gR w1 a0 22 4) fun r6 => gB1 r6 fun a7 => gB1 (gLen w1 a7 6) fun x8 => if x8 ≤ x4 then some (x3, w1) else gB1 (gR w1 a0 22 4) fun r10 => gB1 r10 fun a11 => gB1 (gLdR w1 a11 6 x4) fun r12 => gBd (fun (r15 : Option Nat) (x16 : Int32) (x17 : Int32) (x18 : Int32) (w14 : gw) => gB2 (f_X0_bit x18 w14) fun x20 w19 => gBd (x17 + x20) fun x21 => gBd (x16 + (nI 1)) fun x22 => k5 r15 x21 x22 w19) fun k13 => if r12 = r2 then k13 r2 x4 x3 (nI 1) w1 else k13 r2 x4 x3 (nI 0) w1) 20000 p1 (nI 0) (nI 0) w0
set_option maxHeartbeats 4000000 in
set_option maxRecDepth 100000 in
theorem k_X22_many {D : va_G} {dA : Nat → ClassId} {A : Nat → Prop} {K : Nat → Nat} {l : Launch} {h : Nat} (hh : 1 ≤ h) {a0 : Nat} {p1 : Option Nat} {w0 ww : gw} {rr : Int32} (hf : f_X22_many a0 p1 w0 = some (rr, ww)) : gMet D dA A K l yX22_many (ws_ yX22_many cX22_many 4 (some .int)) h [(ga (some a0)), (ga p1)] (some (gi rr)) w0 ww := by
  refine j_start (own := RX22) (by decide +kernel) rfl (Nat.le_of_ble_eq_true rfl) ?_
  intro p e R s m args below meth c C hr hin hw
  unfold f_X22_many at hf
  show gJ D dA A K p l e R s m args below meth c (gEnd D dA A K below args s w0 (some (gi rr)) ww) 4 0 [(0, (ga (some a0))), (1, (ga p1))] [] w0
  refine j_iconst (v := (nI 0)) C dX22_many_0 (by decide) ?_
  refine j_istore_n (lv' := [(2, (gi (nI 0))), (0, (ga (some a0))), (1, (ga p1))]) C dX22_many_1 (by decide) rfl ?_
  refine j_iconst (v := (nI 0)) C dX22_many_2 (by decide) ?_
  refine j_istore_n (lv' := [(3, (gi (nI 0))), (2, (gi (nI 0))), (0, (ga (some a0))), (1, (ga p1))]) C dX22_many_3 (by decide) rfl ?_
  refine j_sub (lv' := [(0, (ga (some a0))), (1, (ga p1)), (2, (gi (nI 0))), (3, (gi (nI 0)))]) (gL_cons rfl (gL_cons rfl (gL_cons rfl (gL_cons rfl (gL_nil))))) ?_
  refine gL3_e (fun (r2 : Option Nat) (x3 : Int32) (x4 : Int32) (w1 : gw) => gJ D dA A K p l e R s m args below meth c (gEnd D dA A K below args s w0 (some (gi rr)) ww) 4 4 [(0, (ga (some a0))), (1, (ga r2)), (2, (gi x3)), (3, (gi x4))] [] w1) ?_ _ _ _ _ _ hf
  intro k5 jk5 r2 x3 x4 w1 hf
  refine j_iload_n C dX22_many_4 rfl ?_
  refine j_aload_n C dX22_many_5 rfl ?_
  replace hf := gB1_e hf
  obtain ⟨r6, er6, hf⟩ := hf
  refine j_get C fl_X22_36_22 dX22_many_6 (gR_F er6) ?_
  replace hf := gB1_e hf
  obtain ⟨a7, ea7, hf⟩ := hf
  subst ea7
  replace hf := gB1_e hf
  obtain ⟨x8, ex8, hf⟩ := hf
  refine j_alen C (t := 6) rfl ex8 dX22_many_9 ?_
  refine j_icmp_ge (tgt := 40) C dX22_many_10 (by decide) (fun c9 => ?_) (fun c9 => ?_)
  · replace hf := gIf_t hf c9
    refine j_iload_n C dX22_many_40 rfl ?_
    obtain ⟨rfl, rfl⟩ := gSome hf
    exact j_iret C hr hw dX22_many_41
  · replace hf := gIf_f hf c9
    refine j_iload_n C dX22_many_13 rfl ?_
    refine j_aload_n C dX22_many_14 rfl ?_
    replace hf := gB1_e hf
    obtain ⟨r10, er10, hf⟩ := hf
    refine j_get C fl_X22_36_22 dX22_many_15 (gR_F er10) ?_
    refine j_iload_n C dX22_many_18 rfl ?_
    replace hf := gB1_e hf
    obtain ⟨a11, ea11, hf⟩ := hf
    subst ea11
    replace hf := gB1_e hf
    obtain ⟨r12, er12, hf⟩ := hf
    refine j_aald C (t := 6) rfl er12 dX22_many_19 ?_
    refine j_aload_n C dX22_many_20 rfl ?_
    replace hf := gBd_x hf
    obtain ⟨k13, ek13, hf⟩ := hf
    have jk13 : ∀ (r15 : Option Nat) (x16 : Int32) (x17 : Int32) (x18 : Int32) (w14 : gw), k13 r15 x16 x17 x18 w14 = some (rr, ww) → gJ D dA A K p l e R s m args below meth c (gEnd D dA A K below args s w0 (some (gi rr)) ww) 4 29 [(0, (ga (some a0))), (1, (ga r15)), (3, (gi x16))] [(gi x18), (gi x17)] w14 := by
      intro r15 x16 x17 x18 w14 hf
      rw [ek13] at hf
      dsimp only at hf
      replace hf := gB2_e hf
      obtain ⟨x20, w19, ew19, hf⟩ := hf
      refine j_callSN (As := [(gi x18)]) (rest := [(gi x17)]) (v := (some (gi x20))) C (by omega) (k_X0_bit (by omega) ew19) nq1194 q347 q91 q348 hd_X0_bit (by decide) rfl (Nat.le_of_ble_eq_true rfl) dX22_many_29 ?_
      refine j_iadd C dX22_many_32 ?_
      replace hf := gBd_x hf
      obtain ⟨x21, ex21, hf⟩ := hf
      refine j_nm ex21 ?_
      refine j_istore_n (lv' := [(2, (gi x21)), (0, (ga (some a0))), (1, (ga r15)), (3, (gi x16))]) C dX22_many_33 (by decide) rfl ?_
      replace hf := gBd_x hf
      obtain ⟨x22, ex22, hf⟩ := hf
      refine j_iinc (v := x22) (lv' := [(3, (gi x22)), (2, (gi x21)), (0, (ga (some a0))), (1, (ga r15))]) C dX22_many_34 rfl (by rw [ex22]; rfl) (by decide) rfl ?_
      refine j_goto (tgt := 4) C dX22_many_37 (by decide) ?_
      refine j_sub (lv' := [(0, (ga (some a0))), (1, (ga r15)), (2, (gi x21)), (3, (gi x22))]) (gL_cons rfl (gL_cons rfl (gL_cons rfl (gL_cons rfl (gL_nil))))) ?_
      exact jk5 _ _ _ _ hf
    clear ek13
    refine j_acmp_ne (tgt := 28) C dX22_many_21 (by decide) (fun c23 => ?_) (fun c23 => ?_)
    · replace hf := gIf_f hf c23
      refine j_iconst (v := (nI 0)) C dX22_many_28 (by decide) ?_
      refine j_sub (lv' := [(0, (ga (some a0))), (1, (ga r2)), (3, (gi x4))]) (gL_cons rfl (gL_cons rfl (gL_cons rfl (gL_nil)))) ?_
      exact jk13 _ _ _ _ _ hf
    · replace hf := gIf_t hf c23
      refine j_iconst (v := (nI 1)) C dX22_many_24 (by decide) ?_
      refine j_goto (tgt := 29) C dX22_many_25 (by decide) ?_
      refine j_sub (lv' := [(0, (ga (some a0))), (1, (ga r2)), (3, (gi x4))]) (gL_cons rfl (gL_cons rfl (gL_cons rfl (gL_nil)))) ?_
      exact jk13 _ _ _ _ _ hf
def dkwX23_tries_2 : List UInt8 := [181, 0, 34, 42, 180, 0, 44, 3, 42, 180, 0, 19, 180, 0, 52, 182, 0, 57, 177]
abbrev dktX23_tries_2 : List UInt8 := dkwX23_tries_2 ++ []
def dkwX23_tries_1 : List UInt8 := [180, 0, 29, 42, 180, 0, 44, 180, 0, 23, 180, 0, 48, 42, 180, 0, 19, 180, 0, 52, 46, 96]
abbrev dktX23_tries_1 : List UInt8 := dkwX23_tries_1 ++ dktX23_tries_2
def dkwX23_tries_0 : List UInt8 := [42, 4, 181, 0, 37, 42, 89, 180, 0, 41, 4, 96, 181, 0, 41, 42, 42, 180, 0, 44, 180, 0, 23]
abbrev dktX23_tries_0 : List UInt8 := dkwX23_tries_0 ++ dktX23_tries_1
theorem dksX23_tries_0 : cX23_tries.data.toList.drop 0 = dktX23_tries_0 := by decide +kernel
theorem dksX23_tries_1 : cX23_tries.data.toList.drop 23 = dktX23_tries_1 := dk_seg dksX23_tries_0 23 rfl rfl
theorem dksX23_tries_2 : cX23_tries.data.toList.drop 45 = dktX23_tries_2 := dk_seg dksX23_tries_1 22 rfl rfl
theorem dX23_tries_0 : decode cX23_tries 0 = .ok (.aload_n 0, 1) := dk_42 (dk_at dksX23_tries_0 0 rfl rfl)
theorem dX23_tries_1 : decode cX23_tries 1 = .ok (.iconst 1, 1) := dk_4 (dk_at dksX23_tries_0 1 rfl rfl)
theorem dX23_tries_2 : decode cX23_tries 2 = .ok (.putfield 37, 3) := dk_181 0 37 (dk_at dksX23_tries_0 2 rfl rfl)
theorem dX23_tries_5 : decode cX23_tries 5 = .ok (.aload_n 0, 1) := dk_42 (dk_at dksX23_tries_0 5 rfl rfl)
theorem dX23_tries_6 : decode cX23_tries 6 = .ok (.dup, 1) := dk_89 (dk_at dksX23_tries_0 6 rfl rfl)
theorem dX23_tries_7 : decode cX23_tries 7 = .ok (.getfield 41, 3) := dk_180 0 41 (dk_at dksX23_tries_0 7 rfl rfl)
theorem dX23_tries_10 : decode cX23_tries 10 = .ok (.iconst 1, 1) := dk_4 (dk_at dksX23_tries_0 10 rfl rfl)
theorem dX23_tries_11 : decode cX23_tries 11 = .ok (.iadd, 1) := dk_96 (dk_at dksX23_tries_0 11 rfl rfl)
theorem dX23_tries_12 : decode cX23_tries 12 = .ok (.putfield 41, 3) := dk_181 0 41 (dk_at dksX23_tries_0 12 rfl rfl)
theorem dX23_tries_15 : decode cX23_tries 15 = .ok (.aload_n 0, 1) := dk_42 (dk_at dksX23_tries_0 15 rfl rfl)
theorem dX23_tries_16 : decode cX23_tries 16 = .ok (.aload_n 0, 1) := dk_42 (dk_at dksX23_tries_0 16 rfl rfl)
theorem dX23_tries_17 : decode cX23_tries 17 = .ok (.getfield 44, 3) := dk_180 0 44 (dk_at dksX23_tries_0 17 rfl rfl)
theorem dX23_tries_20 : decode cX23_tries 20 = .ok (.getfield 23, 3) := dk_180 0 23 (dk_at dksX23_tries_0 20 rfl rfl)
theorem dX23_tries_23 : decode cX23_tries 23 = .ok (.getfield 29, 3) := dk_180 0 29 (dk_at dksX23_tries_1 0 rfl rfl)
theorem dX23_tries_26 : decode cX23_tries 26 = .ok (.aload_n 0, 1) := dk_42 (dk_at dksX23_tries_1 3 rfl rfl)
theorem dX23_tries_27 : decode cX23_tries 27 = .ok (.getfield 44, 3) := dk_180 0 44 (dk_at dksX23_tries_1 4 rfl rfl)
theorem dX23_tries_30 : decode cX23_tries 30 = .ok (.getfield 23, 3) := dk_180 0 23 (dk_at dksX23_tries_1 7 rfl rfl)
theorem dX23_tries_33 : decode cX23_tries 33 = .ok (.getfield 48, 3) := dk_180 0 48 (dk_at dksX23_tries_1 10 rfl rfl)
theorem dX23_tries_36 : decode cX23_tries 36 = .ok (.aload_n 0, 1) := dk_42 (dk_at dksX23_tries_1 13 rfl rfl)
theorem dX23_tries_37 : decode cX23_tries 37 = .ok (.getfield 19, 3) := dk_180 0 19 (dk_at dksX23_tries_1 14 rfl rfl)
theorem dX23_tries_40 : decode cX23_tries 40 = .ok (.getfield 52, 3) := dk_180 0 52 (dk_at dksX23_tries_1 17 rfl rfl)
theorem dX23_tries_43 : decode cX23_tries 43 = .ok (.iaload, 1) := dk_46 (dk_at dksX23_tries_1 20 rfl rfl)
theorem dX23_tries_44 : decode cX23_tries 44 = .ok (.iadd, 1) := dk_96 (dk_at dksX23_tries_1 21 rfl rfl)
theorem dX23_tries_45 : decode cX23_tries 45 = .ok (.putfield 34, 3) := dk_181 0 34 (dk_at dksX23_tries_2 0 rfl rfl)
theorem dX23_tries_48 : decode cX23_tries 48 = .ok (.aload_n 0, 1) := dk_42 (dk_at dksX23_tries_2 3 rfl rfl)
theorem dX23_tries_49 : decode cX23_tries 49 = .ok (.getfield 44, 3) := dk_180 0 44 (dk_at dksX23_tries_2 4 rfl rfl)
theorem dX23_tries_52 : decode cX23_tries 52 = .ok (.iconst 0, 1) := dk_3 (dk_at dksX23_tries_2 7 rfl rfl)
theorem dX23_tries_53 : decode cX23_tries 53 = .ok (.aload_n 0, 1) := dk_42 (dk_at dksX23_tries_2 8 rfl rfl)
theorem dX23_tries_54 : decode cX23_tries 54 = .ok (.getfield 19, 3) := dk_180 0 19 (dk_at dksX23_tries_2 9 rfl rfl)
theorem dX23_tries_57 : decode cX23_tries 57 = .ok (.getfield 52, 3) := dk_180 0 52 (dk_at dksX23_tries_2 12 rfl rfl)
theorem dX23_tries_60 : decode cX23_tries 60 = .ok (.invokevirtual 57, 3) := dk_182 0 57 (dk_at dksX23_tries_2 15 rfl rfl)
theorem dX23_tries_63 : decode cX23_tries 63 = .ok (.return_, 1) := dk_177 (dk_at dksX23_tries_2 18 rfl rfl)
theorem fl_X23_37_23 : gFL RX23 37 23 3 := gFL.mk (Cn := RX23) (T := TX23) (N := 8) (ref := "WorkflowEngine$TaskRun") rfl in_X23 (by decide) q1069 rfl rfl (Or.inl rfl)
theorem nm_23 : gNm TX23 8 := by
  unfold gNm
  decide +kernel
theorem tb_23 : gTb 23 := fun Cn T N h => by
  have h : (RX23, TX23, 8) = (Cn, T, N) := Option.some.inj h
  cases h
  exact ⟨nm_23, tyX23, tyX23_ok⟩
theorem fk_23_3 : gFk 23 3 "Z" false "WorkflowEngine$TaskRun" := fun Cn T N h => by
  have h : (RX23, TX23, 8) = (Cn, T, N) := Option.some.inj h
  cases h
  exact ⟨rfl, rfl, rfl⟩
theorem fl_X23_41_23 : gFL RX23 41 23 5 := gFL.mk (Cn := RX23) (T := TX23) (N := 8) (ref := "WorkflowEngine$TaskRun") rfl in_X23 (by decide) q1071 rfl rfl (Or.inl rfl)
theorem fk_23_5 : gFk 23 5 "I" false "WorkflowEngine$TaskRun" := fun Cn T N h => by
  have h : (RX23, TX23, 8) = (Cn, T, N) := Option.some.inj h
  cases h
  exact ⟨rfl, rfl, rfl⟩
theorem fl_X23_44_23 : gFL RX23 44 23 0 := gFL.mk (Cn := RX23) (T := TX23) (N := 8) (ref := "WorkflowEngine$TaskRun") rfl in_X23 (by decide) q911 rfl rfl (Or.inr q912)
theorem fl_X23_23_16 : gFL RX23 23 16 0 := gFL.mkN (Cn := RX16) (T := TX16) (N := 16) (ref := "WorkflowEngine$Instance") rfl in_X16 (by decide) nq803 rfl rfl (Or.inl rfl)
theorem fl_X23_29_1 : gFL RX23 29 1 3 := gFL.mkN (Cn := RX1) (T := TX1) (N := 5) (ref := "WorkflowEngine$Moment") rfl in_X1 (by decide) nq742 rfl rfl (Or.inl rfl)
theorem fl_X23_48_1 : gFL RX23 48 1 0 := gFL.mkN (Cn := RX1) (T := TX1) (N := 5) (ref := "WorkflowEngine$Moment") rfl in_X1 (by decide) nq734 rfl rfl (Or.inl rfl)
theorem fl_X23_19_23 : gFL RX23 19 23 2 := gFL.mk (Cn := RX23) (T := TX23) (N := 8) (ref := "WorkflowEngine$TaskRun") rfl in_X23 (by decide) q1068 rfl rfl (Or.inl rfl)
theorem fl_X23_52_9 : gFL RX23 52 9 1 := gFL.mkN (Cn := RX9) (T := TX9) (N := 5) (ref := "WorkflowEngine$Task") rfl in_X9 (by decide) nq363 rfl rfl (Or.inl rfl)
theorem fl_X23_34_23 : gFL RX23 34 23 4 := gFL.mk (Cn := RX23) (T := TX23) (N := 8) (ref := "WorkflowEngine$TaskRun") rfl in_X23 (by decide) q1070 rfl rfl (Or.inl rfl)
theorem fk_23_4 : gFk 23 4 "I" false "WorkflowEngine$TaskRun" := fun Cn T N h => by
  have h : (RX23, TX23, 8) = (Cn, T, N) := Option.some.inj h
  cases h
  exact ⟨rfl, rfl, rfl⟩
def f_X23_tries (a0 : Nat) (w0 : gw) : Option (Unit × gw) := gB1 (gPut w0 a0 23 3 (gi (nI 1))) fun w1 => gB1 (gI w1 a0 23 5) fun x2 => gB1 (gPut w1 a0 23 5 (gi (x2 + (nI 1)))) fun w3 => gB1 (gR w3 a0 23 0) fun r4 => gB1 r4 fun a5 => gB1 (gR w3 a5 16 0) fun r6 => gB1 r6 fun a7 => gB1 (gI w3 a7 1 3) fun x8 => gB1 (gR w3 a0 23 0) fun r9 => gB1 r9 fun a10 => gB1 (gR w3 a10 16 0) fun r11 => gB1 r11 fun a12 => gB1 (gR w3 a12 1 0) fun r13 => gB1 (gR w3 a0 23 2) fun r14 => gB1 r14 fun a15 => gB1 (gI w3 a15 9 1) fun x16 => gB1 r13 fun a17 => gB1 (gLdI w3 a17 0 x16) fun x18 => gB1 (gPut w3 a0 23 4 (gi (x8 + x18))) fun w19 => gB1 (gR w19 a0 23 0) fun r20 => gB1 (gR w19 a0 23 2) fun r21 => gB1 r21 fun a22 => gB1 (gI w19 a22 9 1) fun x23 => gB1 r20 fun a24 => gB1 (gOb w19 a24 16) fun _ => gB2 (f_X16_notes a24 (nI 0) x23 w19) fun _ w25 => some ((), w25)
set_option maxHeartbeats 4000000 in
set_option maxRecDepth 100000 in
theorem k_X23_tries {D : va_G} {dA : Nat → ClassId} {A : Nat → Prop} {K : Nat → Nat} {l : Launch} {h : Nat} (hh : 1 ≤ h) {a0 : Nat} {w0 ww : gw} {rr : Unit} (hf : f_X23_tries a0 w0 = some (rr, ww)) : gMet D dA A K l yX23_tries (ws_ yX23_tries cX23_tries 1 none) h [(ga (some a0))] none w0 ww := by
  refine j_start (own := RX23) (by decide +kernel) rfl (Nat.le_of_ble_eq_true rfl) ?_
  intro p e R s m args below meth c C hr hin hw
  unfold f_X23_tries at hf
  show gJ D dA A K p l e R s m args below meth c (gEnd D dA A K below args s w0 none ww) 1 0 [(0, (ga (some a0)))] [] w0
  refine j_aload_n C dX23_tries_0 rfl ?_
  refine j_iconst (v := (nI 1)) C dX23_tries_1 (by decide) ?_
  replace hf := gB1_e hf
  obtain ⟨w1, ew1, hf⟩ := hf
  refine j_put C fl_X23_37_23 tb_23 ew1 fk_23_3 (fit_Z (by decide)) dX23_tries_2 ?_
  refine j_aload_n C dX23_tries_5 rfl ?_
  refine j_dup C dX23_tries_6 ?_
  replace hf := gB1_e hf
  obtain ⟨x2, ex2, hf⟩ := hf
  refine j_get C fl_X23_41_23 dX23_tries_7 (gI_F ex2) ?_
  refine j_iconst (v := (nI 1)) C dX23_tries_10 (by decide) ?_
  refine j_iadd C dX23_tries_11 ?_
  replace hf := gB1_e hf
  obtain ⟨w3, ew3, hf⟩ := hf
  refine j_put C fl_X23_41_23 tb_23 ew3 fk_23_5 (fit_I (x2 + (nI 1))) dX23_tries_12 ?_
  refine j_aload_n C dX23_tries_15 rfl ?_
  refine j_aload_n C dX23_tries_16 rfl ?_
  replace hf := gB1_e hf
  obtain ⟨r4, er4, hf⟩ := hf
  refine j_get C fl_X23_44_23 dX23_tries_17 (gR_F er4) ?_
  replace hf := gB1_e hf
  obtain ⟨a5, ea5, hf⟩ := hf
  subst ea5
  replace hf := gB1_e hf
  obtain ⟨r6, er6, hf⟩ := hf
  refine j_get C fl_X23_23_16 dX23_tries_20 (gR_F er6) ?_
  replace hf := gB1_e hf
  obtain ⟨a7, ea7, hf⟩ := hf
  subst ea7
  replace hf := gB1_e hf
  obtain ⟨x8, ex8, hf⟩ := hf
  refine j_get C fl_X23_29_1 dX23_tries_23 (gI_F ex8) ?_
  refine j_aload_n C dX23_tries_26 rfl ?_
  replace hf := gB1_e hf
  obtain ⟨r9, er9, hf⟩ := hf
  refine j_get C fl_X23_44_23 dX23_tries_27 (gR_F er9) ?_
  replace hf := gB1_e hf
  obtain ⟨a10, ea10, hf⟩ := hf
  subst ea10
  replace hf := gB1_e hf
  obtain ⟨r11, er11, hf⟩ := hf
  refine j_get C fl_X23_23_16 dX23_tries_30 (gR_F er11) ?_
  replace hf := gB1_e hf
  obtain ⟨a12, ea12, hf⟩ := hf
  subst ea12
  replace hf := gB1_e hf
  obtain ⟨r13, er13, hf⟩ := hf
  refine j_get C fl_X23_48_1 dX23_tries_33 (gR_F er13) ?_
  refine j_aload_n C dX23_tries_36 rfl ?_
  replace hf := gB1_e hf
  obtain ⟨r14, er14, hf⟩ := hf
  refine j_get C fl_X23_19_23 dX23_tries_37 (gR_F er14) ?_
  replace hf := gB1_e hf
  obtain ⟨a15, ea15, hf⟩ := hf
  subst ea15
  replace hf := gB1_e hf
  obtain ⟨x16, ex16, hf⟩ := hf
  refine j_get C fl_X23_52_9 dX23_tries_40 (gI_F ex16) ?_
  replace hf := gB1_e hf
  obtain ⟨a17, ea17, hf⟩ := hf
  subst ea17
  replace hf := gB1_e hf
  obtain ⟨x18, ex18, hf⟩ := hf
  refine j_iald C ex18 dX23_tries_43 ?_
  refine j_iadd C dX23_tries_44 ?_
  replace hf := gB1_e hf
  obtain ⟨w19, ew19, hf⟩ := hf
  refine j_put C fl_X23_34_23 tb_23 ew19 fk_23_4 (fit_I (x8 + x18)) dX23_tries_45 ?_
  refine j_aload_n C dX23_tries_48 rfl ?_
  replace hf := gB1_e hf
  obtain ⟨r20, er20, hf⟩ := hf
  refine j_get C fl_X23_44_23 dX23_tries_49 (gR_F er20) ?_
  refine j_iconst (v := (nI 0)) C dX23_tries_52 (by decide) ?_
  refine j_aload_n C dX23_tries_53 rfl ?_
  replace hf := gB1_e hf
  obtain ⟨r21, er21, hf⟩ := hf
  refine j_get C fl_X23_19_23 dX23_tries_54 (gR_F er21) ?_
  replace hf := gB1_e hf
  obtain ⟨a22, ea22, hf⟩ := hf
  subst ea22
  replace hf := gB1_e hf
  obtain ⟨x23, ex23, hf⟩ := hf
  refine j_get C fl_X23_52_9 dX23_tries_57 (gI_F ex23) ?_
  replace hf := gB1_e hf
  obtain ⟨a24, ea24, hf⟩ := hf
  subst ea24
  replace hf := gB1_e hf
  obtain ⟨_, eo, hf⟩ := hf
  replace hf := gB2_e hf
  obtain ⟨_, w25, ew25, hf⟩ := hf
  refine j_callV (As := [(gi (nI 0)), (gi x23)]) (rest := []) (v := none) C (by omega) (k_X16_notes (by omega) ew25) (gOb_e eo) rfl q1179 q944 q945 q118 q946 ⟨rfl, hd_X16_notes⟩ (by decide) rfl (Nat.le_of_ble_eq_true rfl) dX23_tries_60 ?_
  obtain ⟨rfl, rfl⟩ := gSome hf
  exact j_vret C hr hw dX23_tries_63
def dkwX23_gathers_0 : List UInt8 := [42, 180, 0, 15, 155, 0, 11, 43, 42, 180, 0, 15, 182, 0, 111, 177]
abbrev dktX23_gathers_0 : List UInt8 := dkwX23_gathers_0 ++ []
theorem dksX23_gathers_0 : cX23_gathers.data.toList.drop 0 = dktX23_gathers_0 := by decide +kernel
theorem dX23_gathers_0 : decode cX23_gathers 0 = .ok (.aload_n 0, 1) := dk_42 (dk_at dksX23_gathers_0 0 rfl rfl)
theorem dX23_gathers_1 : decode cX23_gathers 1 = .ok (.getfield 15, 3) := dk_180 0 15 (dk_at dksX23_gathers_0 1 rfl rfl)
theorem dX23_gathers_4 : decode cX23_gathers 4 = .ok (.ifCond .lt 11, 3) := dk_155 0 11 (dk_at dksX23_gathers_0 4 rfl rfl)
theorem dX23_gathers_7 : decode cX23_gathers 7 = .ok (.aload_n 1, 1) := dk_43 (dk_at dksX23_gathers_0 7 rfl rfl)
theorem dX23_gathers_8 : decode cX23_gathers 8 = .ok (.aload_n 0, 1) := dk_42 (dk_at dksX23_gathers_0 8 rfl rfl)
theorem dX23_gathers_9 : decode cX23_gathers 9 = .ok (.getfield 15, 3) := dk_180 0 15 (dk_at dksX23_gathers_0 9 rfl rfl)
theorem dX23_gathers_12 : decode cX23_gathers 12 = .ok (.invokevirtual 111, 3) := dk_182 0 111 (dk_at dksX23_gathers_0 12 rfl rfl)
theorem dX23_gathers_15 : decode cX23_gathers 15 = .ok (.return_, 1) := dk_177 (dk_at dksX23_gathers_0 15 rfl rfl)
theorem fl_X23_15_23 : gFL RX23 15 23 6 := gFL.mk (Cn := RX23) (T := TX23) (N := 8) (ref := "WorkflowEngine$TaskRun") rfl in_X23 (by decide) q1072 rfl rfl (Or.inl rfl)
theorem hd_X19_adds : (yX19_adds.cls ≠ "java/lang/invoke/MethodHandle" ∧ yX19_adds.cls ≠ "java/lang/invoke/VarHandle" ∧ (parseMethodDescriptor yX19_adds.desc).map (fun d => d.parameters.length) = some 1) := ⟨by decide +kernel, by decide +kernel, by decide +kernel⟩
def f_X23_gathers (a0 : Nat) (p1 : Option Nat) (w0 : gw) : Option (Unit × gw) := gB1 (gI w0 a0 23 6) fun x1 => if x1 < 0 then some ((), w0) else gB1 (gI w0 a0 23 6) fun x3 => gB1 p1 fun a4 => gB1 (gOb w0 a4 19) fun _ => gB2 (f_X19_adds a4 x3 w0) fun _ w5 => some ((), w5)
set_option maxHeartbeats 4000000 in
set_option maxRecDepth 100000 in
theorem k_X23_gathers {D : va_G} {dA : Nat → ClassId} {A : Nat → Prop} {K : Nat → Nat} {l : Launch} {h : Nat} (hh : 1 ≤ h) {a0 : Nat} {p1 : Option Nat} {w0 ww : gw} {rr : Unit} (hf : f_X23_gathers a0 p1 w0 = some (rr, ww)) : gMet D dA A K l yX23_gathers (ws_ yX23_gathers cX23_gathers 2 none) h [(ga (some a0)), (ga p1)] none w0 ww := by
  refine j_start (own := RX23) (by decide +kernel) rfl (Nat.le_of_ble_eq_true rfl) ?_
  intro p e R s m args below meth c C hr hin hw
  unfold f_X23_gathers at hf
  show gJ D dA A K p l e R s m args below meth c (gEnd D dA A K below args s w0 none ww) 2 0 [(0, (ga (some a0))), (1, (ga p1))] [] w0
  refine j_aload_n C dX23_gathers_0 rfl ?_
  replace hf := gB1_e hf
  obtain ⟨x1, ex1, hf⟩ := hf
  refine j_get C fl_X23_15_23 dX23_gathers_1 (gI_F ex1) ?_
  refine j_if_lt (tgt := 15) C dX23_gathers_4 (by decide) (fun c2 => ?_) (fun c2 => ?_)
  · replace hf := gIf_t hf c2
    obtain ⟨rfl, rfl⟩ := gSome hf
    exact j_vret C hr hw dX23_gathers_15
  · replace hf := gIf_f hf c2
    refine j_aload_n C dX23_gathers_7 rfl ?_
    refine j_aload_n C dX23_gathers_8 rfl ?_
    replace hf := gB1_e hf
    obtain ⟨x3, ex3, hf⟩ := hf
    refine j_get C fl_X23_15_23 dX23_gathers_9 (gI_F ex3) ?_
    replace hf := gB1_e hf
    obtain ⟨a4, ea4, hf⟩ := hf
    subst ea4
    replace hf := gB1_e hf
    obtain ⟨_, eo, hf⟩ := hf
    replace hf := gB2_e hf
    obtain ⟨_, w5, ew5, hf⟩ := hf
    refine j_callV (As := [(gi x3)]) (rest := []) (v := none) C (by omega) (k_X19_adds (by omega) ew5) (gOb_e eo) rfl q1220 q1212 q1213 q121 q1214 ⟨rfl, hd_X19_adds⟩ (by decide) rfl (Nat.le_of_ble_eq_true rfl) dX23_gathers_12 ?_
    obtain ⟨rfl, rfl⟩ := gSome hf
    exact j_vret C hr hw dX23_gathers_15
theorem dX23_due_0 : decode cX23_due 0 = .ok (.aload_n 0, 1) := by decide +kernel
theorem dX23_due_1 : decode cX23_due 1 = .ok (.getfield 34, 3) := by decide +kernel
theorem dX23_due_4 : decode cX23_due 4 = .ok (.ireturn, 1) := by decide +kernel
def f_X23_due (a0 : Nat) (w0 : gw) : Option (Int32 × gw) := gB1 (gI w0 a0 23 4) fun x1 => some (x1, w0)
set_option maxHeartbeats 4000000 in
set_option maxRecDepth 100000 in
theorem k_X23_due {D : va_G} {dA : Nat → ClassId} {A : Nat → Prop} {K : Nat → Nat} {l : Launch} {h : Nat} (hh : 0 ≤ h) {a0 : Nat} {w0 ww : gw} {rr : Int32} (hf : f_X23_due a0 w0 = some (rr, ww)) : gMet D dA A K l yX23_due (ws_ yX23_due cX23_due 1 (some .int)) h [(ga (some a0))] (some (gi rr)) w0 ww := by
  refine j_start (own := RX23) (by decide +kernel) rfl (Nat.le_of_ble_eq_true rfl) ?_
  intro p e R s m args below meth c C hr hin hw
  unfold f_X23_due at hf
  show gJ D dA A K p l e R s m args below meth c (gEnd D dA A K below args s w0 (some (gi rr)) ww) 1 0 [(0, (ga (some a0)))] [] w0
  refine j_aload_n C dX23_due_0 rfl ?_
  replace hf := gB1_e hf
  obtain ⟨x1, ex1, hf⟩ := hf
  refine j_get C fl_X23_34_23 dX23_due_1 (gI_F ex1) ?_
  obtain ⟨rfl, rfl⟩ := gSome hf
  exact j_iret C hr hw dX23_due_4
def dkwX24_looks_1 : List UInt8 := [178, 0, 47, 176]
abbrev dktX24_looks_1 : List UInt8 := dkwX24_looks_1 ++ []
def dkwX24_looks_0 : List UInt8 := [42, 180, 0, 34, 42, 180, 0, 37, 180, 0, 17, 180, 0, 23, 163, 0, 9, 178, 0, 41, 167, 0, 6]
abbrev dktX24_looks_0 : List UInt8 := dkwX24_looks_0 ++ dktX24_looks_1
theorem dksX24_looks_0 : cX24_looks.data.toList.drop 0 = dktX24_looks_0 := by decide +kernel
theorem dksX24_looks_1 : cX24_looks.data.toList.drop 23 = dktX24_looks_1 := dk_seg dksX24_looks_0 23 rfl rfl
theorem dX24_looks_0 : decode cX24_looks 0 = .ok (.aload_n 0, 1) := dk_42 (dk_at dksX24_looks_0 0 rfl rfl)
theorem dX24_looks_1 : decode cX24_looks 1 = .ok (.getfield 34, 3) := dk_180 0 34 (dk_at dksX24_looks_0 1 rfl rfl)
theorem dX24_looks_4 : decode cX24_looks 4 = .ok (.aload_n 0, 1) := dk_42 (dk_at dksX24_looks_0 4 rfl rfl)
theorem dX24_looks_5 : decode cX24_looks 5 = .ok (.getfield 37, 3) := dk_180 0 37 (dk_at dksX24_looks_0 5 rfl rfl)
theorem dX24_looks_8 : decode cX24_looks 8 = .ok (.getfield 17, 3) := dk_180 0 17 (dk_at dksX24_looks_0 8 rfl rfl)
theorem dX24_looks_11 : decode cX24_looks 11 = .ok (.getfield 23, 3) := dk_180 0 23 (dk_at dksX24_looks_0 11 rfl rfl)
theorem dX24_looks_14 : decode cX24_looks 14 = .ok (.if_icmp .gt 9, 3) := dk_163 0 9 (dk_at dksX24_looks_0 14 rfl rfl)
theorem dX24_looks_17 : decode cX24_looks 17 = .ok (.getstatic 41, 3) := dk_178 0 41 (dk_at dksX24_looks_0 17 rfl rfl)
theorem dX24_looks_20 : decode cX24_looks 20 = .ok (.goto 6, 3) := dk_167 0 6 (dk_at dksX24_looks_0 20 rfl rfl)
theorem dX24_looks_23 : decode cX24_looks 23 = .ok (.getstatic 47, 3) := dk_178 0 47 (dk_at dksX24_looks_1 0 rfl rfl)
theorem dX24_looks_26 : decode cX24_looks 26 = .ok (.areturn, 1) := dk_176 (dk_at dksX24_looks_1 3 rfl rfl)
theorem fl_X24_34_24 : gFL RX24 34 24 3 := gFL.mk (Cn := RX24) (T := TX24) (N := 5) (ref := "WorkflowEngine$WaitRun") rfl in_X24 (by decide) q1101 rfl rfl (Or.inl rfl)
theorem fl_X24_37_24 : gFL RX24 37 24 0 := gFL.mk (Cn := RX24) (T := TX24) (N := 5) (ref := "WorkflowEngine$WaitRun") rfl in_X24 (by decide) q907 rfl rfl (Or.inr q908)
theorem fl_X24_17_16 : gFL RX24 17 16 0 := gFL.mkN (Cn := RX16) (T := TX16) (N := 16) (ref := "WorkflowEngine$Instance") rfl in_X16 (by decide) nq802 rfl rfl (Or.inl rfl)
theorem fl_X24_23_1 : gFL RX24 23 1 3 := gFL.mkN (Cn := RX1) (T := TX1) (N := 5) (ref := "WorkflowEngine$Moment") rfl in_X1 (by decide) nq741 rfl rfl (Or.inl rfl)
def f_X24_looks (a0 : Nat) (w0 : gw) : Option (Option Nat × gw) := gB1 (gI w0 a0 24 3) fun x1 => gB1 (gR w0 a0 24 0) fun r2 => gB1 r2 fun a3 => gB1 (gR w0 a3 16 0) fun r4 => gB1 r4 fun a5 => gB1 (gI w0 a5 1 3) fun x6 => if x6 < x1 then some ((some (w0.2.2.2 2)), w0) else some ((some (w0.2.2.2 3)), w0)
set_option maxHeartbeats 4000000 in
set_option maxRecDepth 100000 in
theorem k_X24_looks {D : va_G} {dA : Nat → ClassId} {A : Nat → Prop} {K : Nat → Nat} {l : Launch} {h : Nat} (hh : 0 ≤ h) {a0 : Nat} {w0 ww : gw} {rr : Option Nat} (hf : f_X24_looks a0 w0 = some (rr, ww)) : gMet D dA A K l yX24_looks (ws_ yX24_looks cX24_looks 1 (some (.object "WorkflowEngine$Outcome"))) h [(ga (some a0))] (some (ga rr)) w0 ww := by
  refine j_start (own := RX24) (by decide +kernel) rfl (Nat.le_of_ble_eq_true rfl) ?_
  intro p e R s m args below meth c C hr hin hw
  unfold f_X24_looks at hf
  show gJ D dA A K p l e R s m args below meth c (gEnd D dA A K below args s w0 (some (ga rr)) ww) 1 0 [(0, (ga (some a0)))] [] w0
  refine j_aload_n C dX24_looks_0 rfl ?_
  replace hf := gB1_e hf
  obtain ⟨x1, ex1, hf⟩ := hf
  refine j_get C fl_X24_34_24 dX24_looks_1 (gI_F ex1) ?_
  refine j_aload_n C dX24_looks_4 rfl ?_
  replace hf := gB1_e hf
  obtain ⟨r2, er2, hf⟩ := hf
  refine j_get C fl_X24_37_24 dX24_looks_5 (gR_F er2) ?_
  replace hf := gB1_e hf
  obtain ⟨a3, ea3, hf⟩ := hf
  subst ea3
  replace hf := gB1_e hf
  obtain ⟨r4, er4, hf⟩ := hf
  refine j_get C fl_X24_17_16 dX24_looks_8 (gR_F er4) ?_
  replace hf := gB1_e hf
  obtain ⟨a5, ea5, hf⟩ := hf
  subst ea5
  replace hf := gB1_e hf
  obtain ⟨x6, ex6, hf⟩ := hf
  refine j_get C fl_X24_23_1 dX24_looks_11 (gI_F ex6) ?_
  refine j_icmp_gt (tgt := 23) C dX24_looks_14 (by decide) (fun c7 => ?_) (fun c7 => ?_)
  · replace hf := gIf_t hf c7
    refine j_gets (i := 2) C C.2.2.2.2.2.1.2.2.2.2.1.1 q1188 dX24_looks_23 ?_
    obtain ⟨rfl, rfl⟩ := gSome hf
    exact j_aret C hr (Or.inl ⟨_, rfl⟩) hw dX24_looks_26
  · replace hf := gIf_f hf c7
    refine j_gets (i := 3) C C.2.2.2.2.2.1.2.2.2.2.1.2.1 q1187 dX24_looks_17 ?_
    refine j_goto (tgt := 26) C dX24_looks_20 (by decide) ?_
    obtain ⟨rfl, rfl⟩ := gSome hf
    exact j_aret C hr (Or.inl ⟨_, rfl⟩) hw dX24_looks_26
theorem dX24_due_0 : decode cX24_due 0 = .ok (.aload_n 0, 1) := by decide +kernel
theorem dX24_due_1 : decode cX24_due 1 = .ok (.getfield 34, 3) := by decide +kernel
theorem dX24_due_4 : decode cX24_due 4 = .ok (.ireturn, 1) := by decide +kernel
def f_X24_due (a0 : Nat) (w0 : gw) : Option (Int32 × gw) := gB1 (gI w0 a0 24 3) fun x1 => some (x1, w0)
set_option maxHeartbeats 4000000 in
set_option maxRecDepth 100000 in
theorem k_X24_due {D : va_G} {dA : Nat → ClassId} {A : Nat → Prop} {K : Nat → Nat} {l : Launch} {h : Nat} (hh : 0 ≤ h) {a0 : Nat} {w0 ww : gw} {rr : Int32} (hf : f_X24_due a0 w0 = some (rr, ww)) : gMet D dA A K l yX24_due (ws_ yX24_due cX24_due 1 (some .int)) h [(ga (some a0))] (some (gi rr)) w0 ww := by
  refine j_start (own := RX24) (by decide +kernel) rfl (Nat.le_of_ble_eq_true rfl) ?_
  intro p e R s m args below meth c C hr hin hw
  unfold f_X24_due at hf
  show gJ D dA A K p l e R s m args below meth c (gEnd D dA A K below args s w0 (some (gi rr)) ww) 1 0 [(0, (ga (some a0)))] [] w0
  refine j_aload_n C dX24_due_0 rfl ?_
  replace hf := gB1_e hf
  obtain ⟨x1, ex1, hf⟩ := hf
  refine j_get C fl_X24_34_24 dX24_due_1 (gI_F ex1) ?_
  obtain ⟨rfl, rfl⟩ := gSome hf
  exact j_iret C hr hw dX24_due_4
def dkwX25_init_0 : List UInt8 := [42, 183, 0, 1, 42, 27, 181, 0, 7, 42, 28, 181, 0, 13, 42, 29, 181, 0, 16, 177]
abbrev dktX25_init_0 : List UInt8 := dkwX25_init_0 ++ []
theorem dksX25_init_0 : cX25_init.data.toList.drop 0 = dktX25_init_0 := by decide +kernel
theorem dX25_init_0 : decode cX25_init 0 = .ok (.aload_n 0, 1) := dk_42 (dk_at dksX25_init_0 0 rfl rfl)
theorem dX25_init_1 : decode cX25_init 1 = .ok (.invokespecial 1, 3) := dk_183 0 1 (dk_at dksX25_init_0 1 rfl rfl)
theorem dX25_init_4 : decode cX25_init 4 = .ok (.aload_n 0, 1) := dk_42 (dk_at dksX25_init_0 4 rfl rfl)
theorem dX25_init_5 : decode cX25_init 5 = .ok (.iload_n 1, 1) := dk_27 (dk_at dksX25_init_0 5 rfl rfl)
theorem dX25_init_6 : decode cX25_init 6 = .ok (.putfield 7, 3) := dk_181 0 7 (dk_at dksX25_init_0 6 rfl rfl)
theorem dX25_init_9 : decode cX25_init 9 = .ok (.aload_n 0, 1) := dk_42 (dk_at dksX25_init_0 9 rfl rfl)
theorem dX25_init_10 : decode cX25_init 10 = .ok (.iload_n 2, 1) := dk_28 (dk_at dksX25_init_0 10 rfl rfl)
theorem dX25_init_11 : decode cX25_init 11 = .ok (.putfield 13, 3) := dk_181 0 13 (dk_at dksX25_init_0 11 rfl rfl)
theorem dX25_init_14 : decode cX25_init 14 = .ok (.aload_n 0, 1) := dk_42 (dk_at dksX25_init_0 14 rfl rfl)
theorem dX25_init_15 : decode cX25_init 15 = .ok (.iload_n 3, 1) := dk_29 (dk_at dksX25_init_0 15 rfl rfl)
theorem dX25_init_16 : decode cX25_init 16 = .ok (.putfield 16, 3) := dk_181 0 16 (dk_at dksX25_init_0 16 rfl rfl)
theorem dX25_init_19 : decode cX25_init 19 = .ok (.return_, 1) := dk_177 (dk_at dksX25_init_0 19 rfl rfl)
theorem fl_X25_7_25 : gFL RX25 7 25 0 := gFL.mk (Cn := RX25) (T := TX25) (N := 3) (ref := "WorkflowEngine$Done") rfl in_X25 (by decide) q1160 rfl rfl (Or.inl rfl)
theorem nm_25 : gNm TX25 3 := by
  unfold gNm
  decide +kernel
theorem tb_25 : gTb 25 := fun Cn T N h => by
  have h : (RX25, TX25, 3) = (Cn, T, N) := Option.some.inj h
  cases h
  exact ⟨nm_25, tyX25, tyX25_ok⟩
theorem fk_25_0 : gFk 25 0 "I" true "WorkflowEngine$Done" := fun Cn T N h => by
  have h : (RX25, TX25, 3) = (Cn, T, N) := Option.some.inj h
  cases h
  exact ⟨rfl, rfl, rfl⟩
theorem fl_X25_13_25 : gFL RX25 13 25 1 := gFL.mk (Cn := RX25) (T := TX25) (N := 3) (ref := "WorkflowEngine$Done") rfl in_X25 (by decide) q1162 rfl rfl (Or.inl rfl)
theorem fk_25_1 : gFk 25 1 "I" true "WorkflowEngine$Done" := fun Cn T N h => by
  have h : (RX25, TX25, 3) = (Cn, T, N) := Option.some.inj h
  cases h
  exact ⟨rfl, rfl, rfl⟩
theorem fl_X25_16_25 : gFL RX25 16 25 2 := gFL.mk (Cn := RX25) (T := TX25) (N := 3) (ref := "WorkflowEngine$Done") rfl in_X25 (by decide) q1165 rfl rfl (Or.inl rfl)
theorem fk_25_2 : gFk 25 2 "I" false "WorkflowEngine$Done" := fun Cn T N h => by
  have h : (RX25, TX25, 3) = (Cn, T, N) := Option.some.inj h
  cases h
  exact ⟨rfl, rfl, rfl⟩
def f_X25_init (a0 : Nat) (p1 : Int32) (p2 : Int32) (p3 : Int32) (w0 : gw) : Option (Unit × gw) := gB1 (gPut w0 a0 25 0 (gi p1)) fun w1 => gB1 (gPut w1 a0 25 1 (gi p2)) fun w2 => gB1 (gPut w2 a0 25 2 (gi p3)) fun w3 => some ((), w3)
set_option maxHeartbeats 4000000 in
set_option maxRecDepth 100000 in
theorem k_X25_init {D : va_G} {dA : Nat → ClassId} {A : Nat → Prop} {K : Nat → Nat} {l : Launch} {h : Nat} (hh : 1 ≤ h) {a0 : Nat} {p1 : Int32} {p2 : Int32} {p3 : Int32} {w0 ww : gw} {rr : Unit} (hf : f_X25_init a0 p1 p2 p3 w0 = some (rr, ww)) : gMet D dA A K l yX25_init (ws_ yX25_init cX25_init 4 none) h [(ga (some a0)), (gi p1), (gi p2), (gi p3)] none w0 ww := by
  refine j_start (own := RX25) (by decide +kernel) rfl (Nat.le_of_ble_eq_true rfl) ?_
  intro p e R s m args below meth c C hr hin hw
  unfold f_X25_init at hf
  show gJ D dA A K p l e R s m args below meth c (gEnd D dA A K below args s w0 none ww) 4 0 [(0, (ga (some a0))), (1, (gi p1)), (2, (gi p2)), (3, (gi p3))] [] w0
  refine j_aload_n C dX25_init_0 rfl ?_
  refine j_objInit C (by omega) q1159 q164 q165 (by decide) dX25_init_1 ?_
  refine j_aload_n C dX25_init_4 rfl ?_
  refine j_iload_n C dX25_init_5 rfl ?_
  replace hf := gB1_e hf
  obtain ⟨w1, ew1, hf⟩ := hf
  refine j_putF C fl_X25_7_25 tb_25 hin ew1 fk_25_0 rfl (fit_I p1) dX25_init_6 ?_
  refine j_aload_n C dX25_init_9 rfl ?_
  refine j_iload_n C dX25_init_10 rfl ?_
  replace hf := gB1_e hf
  obtain ⟨w2, ew2, hf⟩ := hf
  refine j_putF C fl_X25_13_25 tb_25 hin ew2 fk_25_1 rfl (fit_I p2) dX25_init_11 ?_
  refine j_aload_n C dX25_init_14 rfl ?_
  refine j_iload_n C dX25_init_15 rfl ?_
  replace hf := gB1_e hf
  obtain ⟨w3, ew3, hf⟩ := hf
  refine j_put C fl_X25_16_25 tb_25 ew3 fk_25_2 (fit_I p3) dX25_init_16 ?_
  obtain ⟨rfl, rfl⟩ := gSome hf
  exact j_vret C hr hw dX25_init_19
def dkwX26_init_1 : List UInt8 := [181, 0, 29, 42, 44, 180, 0, 32, 180, 0, 38, 181, 0, 43, 177]
abbrev dktX26_init_1 : List UInt8 := dkwX26_init_1 ++ []
def dkwX26_init_0 : List UInt8 := [42, 43, 181, 0, 3, 42, 183, 0, 9, 42, 44, 181, 0, 15, 42, 45, 181, 0, 19, 42, 45, 180, 0, 23]
abbrev dktX26_init_0 : List UInt8 := dkwX26_init_0 ++ dktX26_init_1
theorem dksX26_init_0 : cX26_init.data.toList.drop 0 = dktX26_init_0 := by decide +kernel
theorem dksX26_init_1 : cX26_init.data.toList.drop 24 = dktX26_init_1 := dk_seg dksX26_init_0 24 rfl rfl
theorem dX26_init_0 : decode cX26_init 0 = .ok (.aload_n 0, 1) := dk_42 (dk_at dksX26_init_0 0 rfl rfl)
theorem dX26_init_1 : decode cX26_init 1 = .ok (.aload_n 1, 1) := dk_43 (dk_at dksX26_init_0 1 rfl rfl)
theorem dX26_init_2 : decode cX26_init 2 = .ok (.putfield 3, 3) := dk_181 0 3 (dk_at dksX26_init_0 2 rfl rfl)
theorem dX26_init_5 : decode cX26_init 5 = .ok (.aload_n 0, 1) := dk_42 (dk_at dksX26_init_0 5 rfl rfl)
theorem dX26_init_6 : decode cX26_init 6 = .ok (.invokespecial 9, 3) := dk_183 0 9 (dk_at dksX26_init_0 6 rfl rfl)
theorem dX26_init_9 : decode cX26_init 9 = .ok (.aload_n 0, 1) := dk_42 (dk_at dksX26_init_0 9 rfl rfl)
theorem dX26_init_10 : decode cX26_init 10 = .ok (.aload_n 2, 1) := dk_44 (dk_at dksX26_init_0 10 rfl rfl)
theorem dX26_init_11 : decode cX26_init 11 = .ok (.putfield 15, 3) := dk_181 0 15 (dk_at dksX26_init_0 11 rfl rfl)
theorem dX26_init_14 : decode cX26_init 14 = .ok (.aload_n 0, 1) := dk_42 (dk_at dksX26_init_0 14 rfl rfl)
theorem dX26_init_15 : decode cX26_init 15 = .ok (.aload_n 3, 1) := dk_45 (dk_at dksX26_init_0 15 rfl rfl)
theorem dX26_init_16 : decode cX26_init 16 = .ok (.putfield 19, 3) := dk_181 0 19 (dk_at dksX26_init_0 16 rfl rfl)
theorem dX26_init_19 : decode cX26_init 19 = .ok (.aload_n 0, 1) := dk_42 (dk_at dksX26_init_0 19 rfl rfl)
theorem dX26_init_20 : decode cX26_init 20 = .ok (.aload_n 3, 1) := dk_45 (dk_at dksX26_init_0 20 rfl rfl)
theorem dX26_init_21 : decode cX26_init 21 = .ok (.getfield 23, 3) := dk_180 0 23 (dk_at dksX26_init_0 21 rfl rfl)
theorem dX26_init_24 : decode cX26_init 24 = .ok (.putfield 29, 3) := dk_181 0 29 (dk_at dksX26_init_1 0 rfl rfl)
theorem dX26_init_27 : decode cX26_init 27 = .ok (.aload_n 0, 1) := dk_42 (dk_at dksX26_init_1 3 rfl rfl)
theorem dX26_init_28 : decode cX26_init 28 = .ok (.aload_n 2, 1) := dk_44 (dk_at dksX26_init_1 4 rfl rfl)
theorem dX26_init_29 : decode cX26_init 29 = .ok (.getfield 32, 3) := dk_180 0 32 (dk_at dksX26_init_1 5 rfl rfl)
theorem dX26_init_32 : decode cX26_init 32 = .ok (.getfield 38, 3) := dk_180 0 38 (dk_at dksX26_init_1 8 rfl rfl)
theorem dX26_init_35 : decode cX26_init 35 = .ok (.putfield 43, 3) := dk_181 0 43 (dk_at dksX26_init_1 11 rfl rfl)
theorem dX26_init_38 : decode cX26_init 38 = .ok (.return_, 1) := dk_177 (dk_at dksX26_init_1 14 rfl rfl)
theorem fl_X26_3_26 : gFL RX26 3 26 5 := gFL.mk (Cn := RX26) (T := TX26) (N := 6) (ref := "WorkflowEngine$Undo") rfl in_X26 (by decide) q1238 rfl rfl (Or.inl rfl)
theorem nm_26 : gNm TX26 6 := by
  unfold gNm
  decide +kernel
theorem tb_26 : gTb 26 := fun Cn T N h => by
  have h : (RX26, TX26, 6) = (Cn, T, N) := Option.some.inj h
  cases h
  exact ⟨nm_26, tyX26, tyX26_ok⟩
theorem fk_26_5 : gFk 26 5 "LWorkflowEngine;" true "WorkflowEngine$Undo" := fun Cn T N h => by
  have h : (RX26, TX26, 6) = (Cn, T, N) := Option.some.inj h
  cases h
  exact ⟨rfl, rfl, rfl⟩
theorem fl_X26_15_26 : gFL RX26 15 26 0 := gFL.mk (Cn := RX26) (T := TX26) (N := 6) (ref := "WorkflowEngine$Undo") rfl in_X26 (by decide) q1231 rfl rfl (Or.inl rfl)
theorem ft_LWorkflowEngine_Instance_ (r : Option Nat) : gFit "LWorkflowEngine$Instance;" (ga r) := ⟨.object "WorkflowEngine$Instance", by decide +kernel, by cases r <;> rfl, by cases r <;> rfl⟩
theorem fk_26_0 : gFk 26 0 "LWorkflowEngine$Instance;" true "WorkflowEngine$Undo" := fun Cn T N h => by
  have h : (RX26, TX26, 6) = (Cn, T, N) := Option.some.inj h
  cases h
  exact ⟨rfl, rfl, rfl⟩
theorem fl_X26_19_26 : gFL RX26 19 26 1 := gFL.mk (Cn := RX26) (T := TX26) (N := 6) (ref := "WorkflowEngine$Undo") rfl in_X26 (by decide) q1232 rfl rfl (Or.inl rfl)
theorem ft_LWorkflowEngine_Dones_ (r : Option Nat) : gFit "LWorkflowEngine$Dones;" (ga r) := ⟨.object "WorkflowEngine$Dones", by decide +kernel, by cases r <;> rfl, by cases r <;> rfl⟩
theorem fk_26_1 : gFk 26 1 "LWorkflowEngine$Dones;" true "WorkflowEngine$Undo" := fun Cn T N h => by
  have h : (RX26, TX26, 6) = (Cn, T, N) := Option.some.inj h
  cases h
  exact ⟨rfl, rfl, rfl⟩
theorem fl_X26_23_19 : gFL RX26 23 19 1 := gFL.mkN (Cn := RX19) (T := TX19) (N := 2) (ref := "WorkflowEngine$Dones") rfl in_X19 (by decide) nq891 rfl rfl (Or.inl rfl)
theorem fl_X26_29_26 : gFL RX26 29 26 2 := gFL.mk (Cn := RX26) (T := TX26) (N := 6) (ref := "WorkflowEngine$Undo") rfl in_X26 (by decide) q1233 rfl rfl (Or.inl rfl)
theorem fk_26_2 : gFk 26 2 "I" false "WorkflowEngine$Undo" := fun Cn T N h => by
  have h : (RX26, TX26, 6) = (Cn, T, N) := Option.some.inj h
  cases h
  exact ⟨rfl, rfl, rfl⟩
theorem fl_X26_32_16 : gFL RX26 32 16 0 := gFL.mkN (Cn := RX16) (T := TX16) (N := 16) (ref := "WorkflowEngine$Instance") rfl in_X16 (by decide) nq804 rfl rfl (Or.inl rfl)
theorem fl_X26_38_1 : gFL RX26 38 1 3 := gFL.mkN (Cn := RX1) (T := TX1) (N := 5) (ref := "WorkflowEngine$Moment") rfl in_X1 (by decide) nq743 rfl rfl (Or.inl rfl)
theorem fl_X26_43_26 : gFL RX26 43 26 4 := gFL.mk (Cn := RX26) (T := TX26) (N := 6) (ref := "WorkflowEngine$Undo") rfl in_X26 (by decide) q1235 rfl rfl (Or.inl rfl)
theorem fk_26_4 : gFk 26 4 "I" false "WorkflowEngine$Undo" := fun Cn T N h => by
  have h : (RX26, TX26, 6) = (Cn, T, N) := Option.some.inj h
  cases h
  exact ⟨rfl, rfl, rfl⟩
def f_X26_init (a0 : Nat) (p1 : Option Nat) (p2 : Option Nat) (p3 : Option Nat) (w0 : gw) : Option (Unit × gw) := gB1 (gPut w0 a0 26 5 (ga p1)) fun w1 => gB1 (gPut w1 a0 26 0 (ga p2)) fun w2 => gB1 (gPut w2 a0 26 1 (ga p3)) fun w3 => gB1 p3 fun a4 => gB1 (gI w3 a4 19 1) fun x5 => gB1 (gPut w3 a0 26 2 (gi x5)) fun w6 => gB1 p2 fun a7 => gB1 (gR w6 a7 16 0) fun r8 => gB1 r8 fun a9 => gB1 (gI w6 a9 1 3) fun x10 => gB1 (gPut w6 a0 26 4 (gi x10)) fun w11 => some ((), w11)
set_option maxHeartbeats 4000000 in
set_option maxRecDepth 100000 in
theorem k_X26_init {D : va_G} {dA : Nat → ClassId} {A : Nat → Prop} {K : Nat → Nat} {l : Launch} {h : Nat} (hh : 1 ≤ h) {a0 : Nat} {p1 : Option Nat} {p2 : Option Nat} {p3 : Option Nat} {w0 ww : gw} {rr : Unit} (hf : f_X26_init a0 p1 p2 p3 w0 = some (rr, ww)) : gMet D dA A K l yX26_init (ws_ yX26_init cX26_init 4 none) h [(ga (some a0)), (ga p1), (ga p2), (ga p3)] none w0 ww := by
  refine j_start (own := RX26) (by decide +kernel) rfl (Nat.le_of_ble_eq_true rfl) ?_
  intro p e R s m args below meth c C hr hin hw
  unfold f_X26_init at hf
  show gJ D dA A K p l e R s m args below meth c (gEnd D dA A K below args s w0 none ww) 4 0 [(0, (ga (some a0))), (1, (ga p1)), (2, (ga p2)), (3, (ga p3))] [] w0
  refine j_aload_n C dX26_init_0 rfl ?_
  refine j_aload_n C dX26_init_1 rfl ?_
  replace hf := gB1_e hf
  obtain ⟨w1, ew1, hf⟩ := hf
  refine j_putF C fl_X26_3_26 tb_26 hin ew1 fk_26_5 rfl (ft_LWorkflowEngine_ p1) dX26_init_2 ?_
  refine j_aload_n C dX26_init_5 rfl ?_
  refine j_objInit C (by omega) q1230 q164 q165 (by decide) dX26_init_6 ?_
  refine j_aload_n C dX26_init_9 rfl ?_
  refine j_aload_n C dX26_init_10 rfl ?_
  replace hf := gB1_e hf
  obtain ⟨w2, ew2, hf⟩ := hf
  refine j_putF C fl_X26_15_26 tb_26 hin ew2 fk_26_0 rfl (ft_LWorkflowEngine_Instance_ p2) dX26_init_11 ?_
  refine j_aload_n C dX26_init_14 rfl ?_
  refine j_aload_n C dX26_init_15 rfl ?_
  replace hf := gB1_e hf
  obtain ⟨w3, ew3, hf⟩ := hf
  refine j_putF C fl_X26_19_26 tb_26 hin ew3 fk_26_1 rfl (ft_LWorkflowEngine_Dones_ p3) dX26_init_16 ?_
  refine j_aload_n C dX26_init_19 rfl ?_
  refine j_aload_n C dX26_init_20 rfl ?_
  replace hf := gB1_e hf
  obtain ⟨a4, ea4, hf⟩ := hf
  subst ea4
  replace hf := gB1_e hf
  obtain ⟨x5, ex5, hf⟩ := hf
  refine j_get C fl_X26_23_19 dX26_init_21 (gI_F ex5) ?_
  replace hf := gB1_e hf
  obtain ⟨w6, ew6, hf⟩ := hf
  refine j_put C fl_X26_29_26 tb_26 ew6 fk_26_2 (fit_I x5) dX26_init_24 ?_
  refine j_aload_n C dX26_init_27 rfl ?_
  refine j_aload_n C dX26_init_28 rfl ?_
  replace hf := gB1_e hf
  obtain ⟨a7, ea7, hf⟩ := hf
  subst ea7
  replace hf := gB1_e hf
  obtain ⟨r8, er8, hf⟩ := hf
  refine j_get C fl_X26_32_16 dX26_init_29 (gR_F er8) ?_
  replace hf := gB1_e hf
  obtain ⟨a9, ea9, hf⟩ := hf
  subst ea9
  replace hf := gB1_e hf
  obtain ⟨x10, ex10, hf⟩ := hf
  refine j_get C fl_X26_38_1 dX26_init_32 (gI_F ex10) ?_
  replace hf := gB1_e hf
  obtain ⟨w11, ew11, hf⟩ := hf
  refine j_put C fl_X26_43_26 tb_26 ew11 fk_26_4 (fit_I x10) dX26_init_35 ?_
  obtain ⟨rfl, rfl⟩ := gSome hf
  exact j_vret C hr hw dX26_init_38
def dkwX26_tries_2 : List UInt8 := [180, 0, 56, 182, 0, 61, 177]
abbrev dktX26_tries_2 : List UInt8 := dkwX26_tries_2 ++ []
def dkwX26_tries_1 : List UInt8 := [180, 0, 15, 180, 0, 32, 180, 0, 52, 43, 180, 0, 56, 46, 96, 181, 0, 43, 42, 180, 0, 15, 8, 43]
abbrev dktX26_tries_1 : List UInt8 := dkwX26_tries_1 ++ dktX26_tries_2
def dkwX26_tries_0 : List UInt8 := [42, 89, 180, 0, 49, 4, 96, 181, 0, 49, 42, 42, 180, 0, 15, 180, 0, 32, 180, 0, 38, 42]
abbrev dktX26_tries_0 : List UInt8 := dkwX26_tries_0 ++ dktX26_tries_1
theorem dksX26_tries_0 : cX26_tries.data.toList.drop 0 = dktX26_tries_0 := by decide +kernel
theorem dksX26_tries_1 : cX26_tries.data.toList.drop 22 = dktX26_tries_1 := dk_seg dksX26_tries_0 22 rfl rfl
theorem dksX26_tries_2 : cX26_tries.data.toList.drop 46 = dktX26_tries_2 := dk_seg dksX26_tries_1 24 rfl rfl
theorem dX26_tries_0 : decode cX26_tries 0 = .ok (.aload_n 0, 1) := dk_42 (dk_at dksX26_tries_0 0 rfl rfl)
theorem dX26_tries_1 : decode cX26_tries 1 = .ok (.dup, 1) := dk_89 (dk_at dksX26_tries_0 1 rfl rfl)
theorem dX26_tries_2 : decode cX26_tries 2 = .ok (.getfield 49, 3) := dk_180 0 49 (dk_at dksX26_tries_0 2 rfl rfl)
theorem dX26_tries_5 : decode cX26_tries 5 = .ok (.iconst 1, 1) := dk_4 (dk_at dksX26_tries_0 5 rfl rfl)
theorem dX26_tries_6 : decode cX26_tries 6 = .ok (.iadd, 1) := dk_96 (dk_at dksX26_tries_0 6 rfl rfl)
theorem dX26_tries_7 : decode cX26_tries 7 = .ok (.putfield 49, 3) := dk_181 0 49 (dk_at dksX26_tries_0 7 rfl rfl)
theorem dX26_tries_10 : decode cX26_tries 10 = .ok (.aload_n 0, 1) := dk_42 (dk_at dksX26_tries_0 10 rfl rfl)
theorem dX26_tries_11 : decode cX26_tries 11 = .ok (.aload_n 0, 1) := dk_42 (dk_at dksX26_tries_0 11 rfl rfl)
theorem dX26_tries_12 : decode cX26_tries 12 = .ok (.getfield 15, 3) := dk_180 0 15 (dk_at dksX26_tries_0 12 rfl rfl)
theorem dX26_tries_15 : decode cX26_tries 15 = .ok (.getfield 32, 3) := dk_180 0 32 (dk_at dksX26_tries_0 15 rfl rfl)
theorem dX26_tries_18 : decode cX26_tries 18 = .ok (.getfield 38, 3) := dk_180 0 38 (dk_at dksX26_tries_0 18 rfl rfl)
theorem dX26_tries_21 : decode cX26_tries 21 = .ok (.aload_n 0, 1) := dk_42 (dk_at dksX26_tries_0 21 rfl rfl)
theorem dX26_tries_22 : decode cX26_tries 22 = .ok (.getfield 15, 3) := dk_180 0 15 (dk_at dksX26_tries_1 0 rfl rfl)
theorem dX26_tries_25 : decode cX26_tries 25 = .ok (.getfield 32, 3) := dk_180 0 32 (dk_at dksX26_tries_1 3 rfl rfl)
theorem dX26_tries_28 : decode cX26_tries 28 = .ok (.getfield 52, 3) := dk_180 0 52 (dk_at dksX26_tries_1 6 rfl rfl)
theorem dX26_tries_31 : decode cX26_tries 31 = .ok (.aload_n 1, 1) := dk_43 (dk_at dksX26_tries_1 9 rfl rfl)
theorem dX26_tries_32 : decode cX26_tries 32 = .ok (.getfield 56, 3) := dk_180 0 56 (dk_at dksX26_tries_1 10 rfl rfl)
theorem dX26_tries_35 : decode cX26_tries 35 = .ok (.iaload, 1) := dk_46 (dk_at dksX26_tries_1 13 rfl rfl)
theorem dX26_tries_36 : decode cX26_tries 36 = .ok (.iadd, 1) := dk_96 (dk_at dksX26_tries_1 14 rfl rfl)
theorem dX26_tries_37 : decode cX26_tries 37 = .ok (.putfield 43, 3) := dk_181 0 43 (dk_at dksX26_tries_1 15 rfl rfl)
theorem dX26_tries_40 : decode cX26_tries 40 = .ok (.aload_n 0, 1) := dk_42 (dk_at dksX26_tries_1 18 rfl rfl)
theorem dX26_tries_41 : decode cX26_tries 41 = .ok (.getfield 15, 3) := dk_180 0 15 (dk_at dksX26_tries_1 19 rfl rfl)
theorem dX26_tries_44 : decode cX26_tries 44 = .ok (.iconst 5, 1) := dk_8 (dk_at dksX26_tries_1 22 rfl rfl)
theorem dX26_tries_45 : decode cX26_tries 45 = .ok (.aload_n 1, 1) := dk_43 (dk_at dksX26_tries_1 23 rfl rfl)
theorem dX26_tries_46 : decode cX26_tries 46 = .ok (.getfield 56, 3) := dk_180 0 56 (dk_at dksX26_tries_2 0 rfl rfl)
theorem dX26_tries_49 : decode cX26_tries 49 = .ok (.invokevirtual 61, 3) := dk_182 0 61 (dk_at dksX26_tries_2 3 rfl rfl)
theorem dX26_tries_52 : decode cX26_tries 52 = .ok (.return_, 1) := dk_177 (dk_at dksX26_tries_2 6 rfl rfl)
theorem fl_X26_49_26 : gFL RX26 49 26 3 := gFL.mk (Cn := RX26) (T := TX26) (N := 6) (ref := "WorkflowEngine$Undo") rfl in_X26 (by decide) q1234 rfl rfl (Or.inl rfl)
theorem fk_26_3 : gFk 26 3 "I" false "WorkflowEngine$Undo" := fun Cn T N h => by
  have h : (RX26, TX26, 6) = (Cn, T, N) := Option.some.inj h
  cases h
  exact ⟨rfl, rfl, rfl⟩
theorem fl_X26_52_1 : gFL RX26 52 1 0 := gFL.mkN (Cn := RX1) (T := TX1) (N := 5) (ref := "WorkflowEngine$Moment") rfl in_X1 (by decide) nq735 rfl rfl (Or.inl rfl)
theorem fl_X26_56_25 : gFL RX26 56 25 1 := gFL.mkN (Cn := RX25) (T := TX25) (N := 3) (ref := "WorkflowEngine$Done") rfl in_X25 (by decide) nq1163 rfl rfl (Or.inl rfl)
def f_X26_tries (a0 : Nat) (p1 : Option Nat) (w0 : gw) : Option (Unit × gw) := gB1 (gI w0 a0 26 3) fun x1 => gB1 (gPut w0 a0 26 3 (gi (x1 + (nI 1)))) fun w2 => gB1 (gR w2 a0 26 0) fun r3 => gB1 r3 fun a4 => gB1 (gR w2 a4 16 0) fun r5 => gB1 r5 fun a6 => gB1 (gI w2 a6 1 3) fun x7 => gB1 (gR w2 a0 26 0) fun r8 => gB1 r8 fun a9 => gB1 (gR w2 a9 16 0) fun r10 => gB1 r10 fun a11 => gB1 (gR w2 a11 1 0) fun r12 => gB1 p1 fun a13 => gB1 (gI w2 a13 25 1) fun x14 => gB1 r12 fun a15 => gB1 (gLdI w2 a15 0 x14) fun x16 => gB1 (gPut w2 a0 26 4 (gi (x7 + x16))) fun w17 => gB1 (gR w17 a0 26 0) fun r18 => gB1 (gI w17 a13 25 1) fun x19 => gB1 r18 fun a20 => gB1 (gOb w17 a20 16) fun _ => gB2 (f_X16_notes a20 (nI 5) x19 w17) fun _ w21 => some ((), w21)
set_option maxHeartbeats 4000000 in
set_option maxRecDepth 100000 in
theorem k_X26_tries {D : va_G} {dA : Nat → ClassId} {A : Nat → Prop} {K : Nat → Nat} {l : Launch} {h : Nat} (hh : 1 ≤ h) {a0 : Nat} {p1 : Option Nat} {w0 ww : gw} {rr : Unit} (hf : f_X26_tries a0 p1 w0 = some (rr, ww)) : gMet D dA A K l yX26_tries (ws_ yX26_tries cX26_tries 2 none) h [(ga (some a0)), (ga p1)] none w0 ww := by
  refine j_start (own := RX26) (by decide +kernel) rfl (Nat.le_of_ble_eq_true rfl) ?_
  intro p e R s m args below meth c C hr hin hw
  unfold f_X26_tries at hf
  show gJ D dA A K p l e R s m args below meth c (gEnd D dA A K below args s w0 none ww) 2 0 [(0, (ga (some a0))), (1, (ga p1))] [] w0
  refine j_aload_n C dX26_tries_0 rfl ?_
  refine j_dup C dX26_tries_1 ?_
  replace hf := gB1_e hf
  obtain ⟨x1, ex1, hf⟩ := hf
  refine j_get C fl_X26_49_26 dX26_tries_2 (gI_F ex1) ?_
  refine j_iconst (v := (nI 1)) C dX26_tries_5 (by decide) ?_
  refine j_iadd C dX26_tries_6 ?_
  replace hf := gB1_e hf
  obtain ⟨w2, ew2, hf⟩ := hf
  refine j_put C fl_X26_49_26 tb_26 ew2 fk_26_3 (fit_I (x1 + (nI 1))) dX26_tries_7 ?_
  refine j_aload_n C dX26_tries_10 rfl ?_
  refine j_aload_n C dX26_tries_11 rfl ?_
  replace hf := gB1_e hf
  obtain ⟨r3, er3, hf⟩ := hf
  refine j_get C fl_X26_15_26 dX26_tries_12 (gR_F er3) ?_
  replace hf := gB1_e hf
  obtain ⟨a4, ea4, hf⟩ := hf
  subst ea4
  replace hf := gB1_e hf
  obtain ⟨r5, er5, hf⟩ := hf
  refine j_get C fl_X26_32_16 dX26_tries_15 (gR_F er5) ?_
  replace hf := gB1_e hf
  obtain ⟨a6, ea6, hf⟩ := hf
  subst ea6
  replace hf := gB1_e hf
  obtain ⟨x7, ex7, hf⟩ := hf
  refine j_get C fl_X26_38_1 dX26_tries_18 (gI_F ex7) ?_
  refine j_aload_n C dX26_tries_21 rfl ?_
  replace hf := gB1_e hf
  obtain ⟨r8, er8, hf⟩ := hf
  refine j_get C fl_X26_15_26 dX26_tries_22 (gR_F er8) ?_
  replace hf := gB1_e hf
  obtain ⟨a9, ea9, hf⟩ := hf
  subst ea9
  replace hf := gB1_e hf
  obtain ⟨r10, er10, hf⟩ := hf
  refine j_get C fl_X26_32_16 dX26_tries_25 (gR_F er10) ?_
  replace hf := gB1_e hf
  obtain ⟨a11, ea11, hf⟩ := hf
  subst ea11
  replace hf := gB1_e hf
  obtain ⟨r12, er12, hf⟩ := hf
  refine j_get C fl_X26_52_1 dX26_tries_28 (gR_F er12) ?_
  refine j_aload_n C dX26_tries_31 rfl ?_
  replace hf := gB1_e hf
  obtain ⟨a13, ea13, hf⟩ := hf
  subst ea13
  replace hf := gB1_e hf
  obtain ⟨x14, ex14, hf⟩ := hf
  refine j_get C fl_X26_56_25 dX26_tries_32 (gI_F ex14) ?_
  replace hf := gB1_e hf
  obtain ⟨a15, ea15, hf⟩ := hf
  subst ea15
  replace hf := gB1_e hf
  obtain ⟨x16, ex16, hf⟩ := hf
  refine j_iald C ex16 dX26_tries_35 ?_
  refine j_iadd C dX26_tries_36 ?_
  replace hf := gB1_e hf
  obtain ⟨w17, ew17, hf⟩ := hf
  refine j_put C fl_X26_43_26 tb_26 ew17 fk_26_4 (fit_I (x7 + x16)) dX26_tries_37 ?_
  refine j_aload_n C dX26_tries_40 rfl ?_
  replace hf := gB1_e hf
  obtain ⟨r18, er18, hf⟩ := hf
  refine j_get C fl_X26_15_26 dX26_tries_41 (gR_F er18) ?_
  refine j_iconst (v := (nI 5)) C dX26_tries_44 (by decide) ?_
  refine j_aload_n C dX26_tries_45 rfl ?_
  replace hf := gB1_e hf
  obtain ⟨x19, ex19, hf⟩ := hf
  refine j_get C fl_X26_56_25 dX26_tries_46 (gI_F ex19) ?_
  replace hf := gB1_e hf
  obtain ⟨a20, ea20, hf⟩ := hf
  subst ea20
  replace hf := gB1_e hf
  obtain ⟨_, eo, hf⟩ := hf
  replace hf := gB2_e hf
  obtain ⟨_, w21, ew21, hf⟩ := hf
  refine j_callV (As := [(gi (nI 5)), (gi x19)]) (rest := []) (v := none) C (by omega) (k_X16_notes (by omega) ew21) (gOb_e eo) rfl q1262 q944 q945 q118 q946 ⟨rfl, hd_X16_notes⟩ (by decide) rfl (Nat.le_of_ble_eq_true rfl) dX26_tries_49 ?_
  obtain ⟨rfl, rfl⟩ := gSome hf
  exact j_vret C hr hw dX26_tries_52
def dkwX26_ends_2 : List UInt8 := [43, 28, 153, 0, 8, 16, 7, 167, 0, 5, 16, 6, 181, 0, 73, 42, 180, 0, 15, 43, 182, 0, 76, 177]
abbrev dktX26_ends_2 : List UInt8 := dkwX26_ends_2 ++ []
def dkwX26_ends_1 : List UInt8 := [162, 0, 9, 42, 43, 182, 0, 69, 177, 42, 3, 181, 0, 49, 42, 89, 180, 0, 29, 4, 100, 181, 0, 29]
abbrev dktX26_ends_1 : List UInt8 := dkwX26_ends_1 ++ dktX26_ends_2
def dkwX26_ends_0 : List UInt8 := [42, 180, 0, 15, 180, 0, 32, 43, 180, 0, 56, 182, 0, 65, 61, 28, 153, 0, 17, 42, 180, 0, 49, 6]
abbrev dktX26_ends_0 : List UInt8 := dkwX26_ends_0 ++ dktX26_ends_1
theorem dksX26_ends_0 : cX26_ends.data.toList.drop 0 = dktX26_ends_0 := by decide +kernel
theorem dksX26_ends_1 : cX26_ends.data.toList.drop 24 = dktX26_ends_1 := dk_seg dksX26_ends_0 24 rfl rfl
theorem dksX26_ends_2 : cX26_ends.data.toList.drop 48 = dktX26_ends_2 := dk_seg dksX26_ends_1 24 rfl rfl
theorem dX26_ends_0 : decode cX26_ends 0 = .ok (.aload_n 0, 1) := dk_42 (dk_at dksX26_ends_0 0 rfl rfl)
theorem dX26_ends_1 : decode cX26_ends 1 = .ok (.getfield 15, 3) := dk_180 0 15 (dk_at dksX26_ends_0 1 rfl rfl)
theorem dX26_ends_4 : decode cX26_ends 4 = .ok (.getfield 32, 3) := dk_180 0 32 (dk_at dksX26_ends_0 4 rfl rfl)
theorem dX26_ends_7 : decode cX26_ends 7 = .ok (.aload_n 1, 1) := dk_43 (dk_at dksX26_ends_0 7 rfl rfl)
theorem dX26_ends_8 : decode cX26_ends 8 = .ok (.getfield 56, 3) := dk_180 0 56 (dk_at dksX26_ends_0 8 rfl rfl)
theorem dX26_ends_11 : decode cX26_ends 11 = .ok (.invokevirtual 65, 3) := dk_182 0 65 (dk_at dksX26_ends_0 11 rfl rfl)
theorem dX26_ends_14 : decode cX26_ends 14 = .ok (.istore_n 2, 1) := dk_61 (dk_at dksX26_ends_0 14 rfl rfl)
theorem dX26_ends_15 : decode cX26_ends 15 = .ok (.iload_n 2, 1) := dk_28 (dk_at dksX26_ends_0 15 rfl rfl)
theorem dX26_ends_16 : decode cX26_ends 16 = .ok (.ifCond .eq 17, 3) := dk_153 0 17 (dk_at dksX26_ends_0 16 rfl rfl)
theorem dX26_ends_19 : decode cX26_ends 19 = .ok (.aload_n 0, 1) := dk_42 (dk_at dksX26_ends_0 19 rfl rfl)
theorem dX26_ends_20 : decode cX26_ends 20 = .ok (.getfield 49, 3) := dk_180 0 49 (dk_at dksX26_ends_0 20 rfl rfl)
theorem dX26_ends_23 : decode cX26_ends 23 = .ok (.iconst 3, 1) := dk_6 (dk_at dksX26_ends_0 23 rfl rfl)
theorem dX26_ends_24 : decode cX26_ends 24 = .ok (.if_icmp .ge 9, 3) := dk_162 0 9 (dk_at dksX26_ends_1 0 rfl rfl)
theorem dX26_ends_27 : decode cX26_ends 27 = .ok (.aload_n 0, 1) := dk_42 (dk_at dksX26_ends_1 3 rfl rfl)
theorem dX26_ends_28 : decode cX26_ends 28 = .ok (.aload_n 1, 1) := dk_43 (dk_at dksX26_ends_1 4 rfl rfl)
theorem dX26_ends_29 : decode cX26_ends 29 = .ok (.invokevirtual 69, 3) := dk_182 0 69 (dk_at dksX26_ends_1 5 rfl rfl)
theorem dX26_ends_32 : decode cX26_ends 32 = .ok (.return_, 1) := dk_177 (dk_at dksX26_ends_1 8 rfl rfl)
theorem dX26_ends_33 : decode cX26_ends 33 = .ok (.aload_n 0, 1) := dk_42 (dk_at dksX26_ends_1 9 rfl rfl)
theorem dX26_ends_34 : decode cX26_ends 34 = .ok (.iconst 0, 1) := dk_3 (dk_at dksX26_ends_1 10 rfl rfl)
theorem dX26_ends_35 : decode cX26_ends 35 = .ok (.putfield 49, 3) := dk_181 0 49 (dk_at dksX26_ends_1 11 rfl rfl)
theorem dX26_ends_38 : decode cX26_ends 38 = .ok (.aload_n 0, 1) := dk_42 (dk_at dksX26_ends_1 14 rfl rfl)
theorem dX26_ends_39 : decode cX26_ends 39 = .ok (.dup, 1) := dk_89 (dk_at dksX26_ends_1 15 rfl rfl)
theorem dX26_ends_40 : decode cX26_ends 40 = .ok (.getfield 29, 3) := dk_180 0 29 (dk_at dksX26_ends_1 16 rfl rfl)
theorem dX26_ends_43 : decode cX26_ends 43 = .ok (.iconst 1, 1) := dk_4 (dk_at dksX26_ends_1 19 rfl rfl)
theorem dX26_ends_44 : decode cX26_ends 44 = .ok (.isub, 1) := dk_100 (dk_at dksX26_ends_1 20 rfl rfl)
theorem dX26_ends_45 : decode cX26_ends 45 = .ok (.putfield 29, 3) := dk_181 0 29 (dk_at dksX26_ends_1 21 rfl rfl)
theorem dX26_ends_48 : decode cX26_ends 48 = .ok (.aload_n 1, 1) := dk_43 (dk_at dksX26_ends_2 0 rfl rfl)
theorem dX26_ends_49 : decode cX26_ends 49 = .ok (.iload_n 2, 1) := dk_28 (dk_at dksX26_ends_2 1 rfl rfl)
theorem dX26_ends_50 : decode cX26_ends 50 = .ok (.ifCond .eq 8, 3) := dk_153 0 8 (dk_at dksX26_ends_2 2 rfl rfl)
theorem dX26_ends_53 : decode cX26_ends 53 = .ok (.bipush 7, 2) := dk_16 7 (dk_at dksX26_ends_2 5 rfl rfl)
theorem dX26_ends_55 : decode cX26_ends 55 = .ok (.goto 5, 3) := dk_167 0 5 (dk_at dksX26_ends_2 7 rfl rfl)
theorem dX26_ends_58 : decode cX26_ends 58 = .ok (.bipush 6, 2) := dk_16 6 (dk_at dksX26_ends_2 10 rfl rfl)
theorem dX26_ends_60 : decode cX26_ends 60 = .ok (.putfield 73, 3) := dk_181 0 73 (dk_at dksX26_ends_2 12 rfl rfl)
theorem dX26_ends_63 : decode cX26_ends 63 = .ok (.aload_n 0, 1) := dk_42 (dk_at dksX26_ends_2 15 rfl rfl)
theorem dX26_ends_64 : decode cX26_ends 64 = .ok (.getfield 15, 3) := dk_180 0 15 (dk_at dksX26_ends_2 16 rfl rfl)
theorem dX26_ends_67 : decode cX26_ends 67 = .ok (.aload_n 1, 1) := dk_43 (dk_at dksX26_ends_2 19 rfl rfl)
theorem dX26_ends_68 : decode cX26_ends 68 = .ok (.invokevirtual 76, 3) := dk_182 0 76 (dk_at dksX26_ends_2 20 rfl rfl)
theorem dX26_ends_71 : decode cX26_ends 71 = .ok (.return_, 1) := dk_177 (dk_at dksX26_ends_2 23 rfl rfl)
theorem hd_X1_fails : (yX1_fails.cls ≠ "java/lang/invoke/MethodHandle" ∧ yX1_fails.cls ≠ "java/lang/invoke/VarHandle" ∧ (parseMethodDescriptor yX1_fails.desc).map (fun d => d.parameters.length) = some 1) := ⟨by decide +kernel, by decide +kernel, by decide +kernel⟩
theorem fl_X26_73_25 : gFL RX26 73 25 2 := gFL.mkN (Cn := RX25) (T := TX25) (N := 3) (ref := "WorkflowEngine$Done") rfl in_X25 (by decide) nq1167 rfl rfl (Or.inl rfl)
theorem hd_X16_ends : (yX16_ends.cls ≠ "java/lang/invoke/MethodHandle" ∧ yX16_ends.cls ≠ "java/lang/invoke/VarHandle" ∧ (parseMethodDescriptor yX16_ends.desc).map (fun d => d.parameters.length) = some 1) := ⟨by decide +kernel, by decide +kernel, by decide +kernel⟩
theorem hd_X26_tries : (yX26_tries.cls ≠ "java/lang/invoke/MethodHandle" ∧ yX26_tries.cls ≠ "java/lang/invoke/VarHandle" ∧ (parseMethodDescriptor yX26_tries.desc).map (fun d => d.parameters.length) = some 1) := ⟨by decide +kernel, by decide +kernel, by decide +kernel⟩
def f_X26_ends (a0 : Nat) (p1 : Option Nat) (w0 : gw) : Option (Unit × gw) := gB1 (gR w0 a0 26 0) fun r1 => gB1 r1 fun a2 => gB1 (gR w0 a2 16 0) fun r3 => gB1 p1 fun a4 => gB1 (gI w0 a4 25 1) fun x5 => gB1 r3 fun a6 => gB1 (gOb w0 a6 1) fun _ => gB2 (f_X1_fails a6 x5 w0) fun x8 w7 => gBd (fun (r11 : Option Nat) (x12 : Int32) (w10 : gw) => gB1 (gPut w10 a0 26 3 (gi (nI 0))) fun w13 => gB1 (gI w13 a0 26 2) fun x14 => gB1 (gPut w13 a0 26 2 (gi (x14 - (nI 1)))) fun w15 => gBd (fun (r18 : Option Nat) (r19 : Option Nat) (x20 : Int32) (w17 : gw) => gB1 r19 fun a21 => gB1 (gPut w17 a21 25 2 (gi x20)) fun w22 => gB1 (gR w22 a0 26 0) fun r23 => gB1 r23 fun a24 => gB1 (gOb w22 a24 16) fun _ => gB2 (f_X16_ends a24 r18 w22) fun _ w25 => some ((), w25)) fun k16 => if x12 = 0 then k16 r11 r11 (nI 6) w15 else k16 r11 r11 (nI 7) w15) fun k9 => if x8 = 0 then k9 (some a4) x8 w7 else gB1 (gI w7 a0 26 3) fun x28 => if (nI 3) ≤ x28 then k9 (some a4) x8 w7 else gB1 (gOb w7 a0 26) fun _ => gB2 (f_X26_tries a0 (some a4) w7) fun _ w30 => some ((), w30)
set_option maxHeartbeats 4000000 in
set_option maxRecDepth 100000 in
theorem k_X26_ends {D : va_G} {dA : Nat → ClassId} {A : Nat → Prop} {K : Nat → Nat} {l : Launch} {h : Nat} (hh : 2 ≤ h) {a0 : Nat} {p1 : Option Nat} {w0 ww : gw} {rr : Unit} (hf : f_X26_ends a0 p1 w0 = some (rr, ww)) : gMet D dA A K l yX26_ends (ws_ yX26_ends cX26_ends 3 none) h [(ga (some a0)), (ga p1)] none w0 ww := by
  refine j_start (own := RX26) (by decide +kernel) rfl (Nat.le_of_ble_eq_true rfl) ?_
  intro p e R s m args below meth c C hr hin hw
  unfold f_X26_ends at hf
  show gJ D dA A K p l e R s m args below meth c (gEnd D dA A K below args s w0 none ww) 3 0 [(0, (ga (some a0))), (1, (ga p1))] [] w0
  refine j_aload_n C dX26_ends_0 rfl ?_
  replace hf := gB1_e hf
  obtain ⟨r1, er1, hf⟩ := hf
  refine j_get C fl_X26_15_26 dX26_ends_1 (gR_F er1) ?_
  replace hf := gB1_e hf
  obtain ⟨a2, ea2, hf⟩ := hf
  subst ea2
  replace hf := gB1_e hf
  obtain ⟨r3, er3, hf⟩ := hf
  refine j_get C fl_X26_32_16 dX26_ends_4 (gR_F er3) ?_
  refine j_aload_n C dX26_ends_7 rfl ?_
  replace hf := gB1_e hf
  obtain ⟨a4, ea4, hf⟩ := hf
  subst ea4
  replace hf := gB1_e hf
  obtain ⟨x5, ex5, hf⟩ := hf
  refine j_get C fl_X26_56_25 dX26_ends_8 (gI_F ex5) ?_
  replace hf := gB1_e hf
  obtain ⟨a6, ea6, hf⟩ := hf
  subst ea6
  replace hf := gB1_e hf
  obtain ⟨_, eo, hf⟩ := hf
  replace hf := gB2_e hf
  obtain ⟨x8, w7, ew7, hf⟩ := hf
  refine j_callV (As := [(gi x5)]) (rest := []) (v := (some (gi x8))) C (by omega) (k_X1_fails (by omega) ew7) (gOb_e eo) rfl q1267 q1146 q1147 q92 q1148 ⟨rfl, hd_X1_fails⟩ (by decide) rfl (Nat.le_of_ble_eq_true rfl) dX26_ends_11 ?_
  refine j_istore_n (lv' := [(2, (gi x8)), (0, (ga (some a0))), (1, (ga (some a4)))]) C dX26_ends_14 (by decide) rfl ?_
  refine j_iload_n C dX26_ends_15 rfl ?_
  replace hf := gBd_x hf
  obtain ⟨k9, ek9, hf⟩ := hf
  have jk9 : ∀ (r11 : Option Nat) (x12 : Int32) (w10 : gw), k9 r11 x12 w10 = some (rr, ww) → gJ D dA A K p l e R s m args below meth c (gEnd D dA A K below args s w0 none ww) 3 33 [(0, (ga (some a0))), (1, (ga r11)), (2, (gi x12))] [] w10 := by
    intro r11 x12 w10 hf
    rw [ek9] at hf
    dsimp only at hf
    refine j_aload_n C dX26_ends_33 rfl ?_
    refine j_iconst (v := (nI 0)) C dX26_ends_34 (by decide) ?_
    replace hf := gB1_e hf
    obtain ⟨w13, ew13, hf⟩ := hf
    refine j_put C fl_X26_49_26 tb_26 ew13 fk_26_3 (fit_I (nI 0)) dX26_ends_35 ?_
    refine j_aload_n C dX26_ends_38 rfl ?_
    refine j_dup C dX26_ends_39 ?_
    replace hf := gB1_e hf
    obtain ⟨x14, ex14, hf⟩ := hf
    refine j_get C fl_X26_29_26 dX26_ends_40 (gI_F ex14) ?_
    refine j_iconst (v := (nI 1)) C dX26_ends_43 (by decide) ?_
    refine j_isub C dX26_ends_44 ?_
    replace hf := gB1_e hf
    obtain ⟨w15, ew15, hf⟩ := hf
    refine j_put C fl_X26_29_26 tb_26 ew15 fk_26_2 (fit_I (x14 - (nI 1))) dX26_ends_45 ?_
    refine j_aload_n C dX26_ends_48 rfl ?_
    refine j_iload_n C dX26_ends_49 rfl ?_
    replace hf := gBd_x hf
    obtain ⟨k16, ek16, hf⟩ := hf
    have jk16 : ∀ (r18 : Option Nat) (r19 : Option Nat) (x20 : Int32) (w17 : gw), k16 r18 r19 x20 w17 = some (rr, ww) → gJ D dA A K p l e R s m args below meth c (gEnd D dA A K below args s w0 none ww) 3 60 [(0, (ga (some a0))), (1, (ga r18))] [(gi x20), (ga r19)] w17 := by
      intro r18 r19 x20 w17 hf
      rw [ek16] at hf
      dsimp only at hf
      replace hf := gB1_e hf
      obtain ⟨a21, ea21, hf⟩ := hf
      subst ea21
      replace hf := gB1_e hf
      obtain ⟨w22, ew22, hf⟩ := hf
      refine j_put C fl_X26_73_25 tb_25 ew22 fk_25_2 (fit_I x20) dX26_ends_60 ?_
      refine j_aload_n C dX26_ends_63 rfl ?_
      replace hf := gB1_e hf
      obtain ⟨r23, er23, hf⟩ := hf
      refine j_get C fl_X26_15_26 dX26_ends_64 (gR_F er23) ?_
      refine j_aload_n C dX26_ends_67 rfl ?_
      replace hf := gB1_e hf
      obtain ⟨a24, ea24, hf⟩ := hf
      subst ea24
      replace hf := gB1_e hf
      obtain ⟨_, eo, hf⟩ := hf
      replace hf := gB2_e hf
      obtain ⟨_, w25, ew25, hf⟩ := hf
      refine j_callV (As := [(ga r18)]) (rest := []) (v := none) C (by omega) (k_X16_ends (by omega) ew25) (gOb_e eo) rfl q1268 q1269 q1270 q118 q1271 ⟨rfl, hd_X16_ends⟩ (by decide) rfl (Nat.le_of_ble_eq_true rfl) dX26_ends_68 ?_
      obtain ⟨rfl, rfl⟩ := gSome hf
      exact j_vret C hr hw dX26_ends_71
    clear ek16
    refine j_if_eq (tgt := 58) C dX26_ends_50 (by decide) (fun c26 => ?_) (fun c26 => ?_)
    · replace hf := gIf_t hf c26
      refine j_bipush (v := (nI 6)) C dX26_ends_58 (by decide) ?_
      refine j_sub (lv' := [(0, (ga (some a0))), (1, (ga r11))]) (gL_cons rfl (gL_cons rfl (gL_nil))) ?_
      exact jk16 _ _ _ _ hf
    · replace hf := gIf_f hf c26
      refine j_bipush (v := (nI 7)) C dX26_ends_53 (by decide) ?_
      refine j_goto (tgt := 60) C dX26_ends_55 (by decide) ?_
      refine j_sub (lv' := [(0, (ga (some a0))), (1, (ga r11))]) (gL_cons rfl (gL_cons rfl (gL_nil))) ?_
      exact jk16 _ _ _ _ hf
  clear ek9
  refine j_if_eq (tgt := 33) C dX26_ends_16 (by decide) (fun c27 => ?_) (fun c27 => ?_)
  · replace hf := gIf_t hf c27
    refine j_sub (lv' := [(0, (ga (some a0))), (1, (ga (some a4))), (2, (gi x8))]) (gL_cons rfl (gL_cons rfl (gL_cons rfl (gL_nil)))) ?_
    exact jk9 _ _ _ hf
  · replace hf := gIf_f hf c27
    refine j_aload_n C dX26_ends_19 rfl ?_
    replace hf := gB1_e hf
    obtain ⟨x28, ex28, hf⟩ := hf
    refine j_get C fl_X26_49_26 dX26_ends_20 (gI_F ex28) ?_
    refine j_iconst (v := (nI 3)) C dX26_ends_23 (by decide) ?_
    refine j_icmp_ge (tgt := 33) C dX26_ends_24 (by decide) (fun c29 => ?_) (fun c29 => ?_)
    · replace hf := gIf_t hf c29
      refine j_sub (lv' := [(0, (ga (some a0))), (1, (ga (some a4))), (2, (gi x8))]) (gL_cons rfl (gL_cons rfl (gL_cons rfl (gL_nil)))) ?_
      exact jk9 _ _ _ hf
    · replace hf := gIf_f hf c29
      refine j_aload_n C dX26_ends_27 rfl ?_
      refine j_aload_n C dX26_ends_28 rfl ?_
      replace hf := gB1_e hf
      obtain ⟨_, eo, hf⟩ := hf
      replace hf := gB2_e hf
      obtain ⟨_, w30, ew30, hf⟩ := hf
      refine j_callV (As := [(ga (some a4))]) (rest := []) (v := none) C (by omega) (k_X26_tries (by omega) ew30) (gOb_e eo) rfl q1258 q1260 qs26 q130 q1261 ⟨rfl, hd_X26_tries⟩ (by decide) rfl (Nat.le_of_ble_eq_true rfl) dX26_ends_29 ?_
      obtain ⟨rfl, rfl⟩ := gSome hf
      exact j_vret C hr hw dX26_ends_32
def dkwX26_copy_1 : List UInt8 := [181, 0, 29, 44, 42, 180, 0, 49, 181, 0, 49, 44, 42, 180, 0, 43, 181, 0, 43, 44, 176]
abbrev dktX26_copy_1 : List UInt8 := dkwX26_copy_1 ++ []
def dkwX26_copy_0 : List UInt8 := [187, 0, 4, 89, 42, 180, 0, 3, 43, 42, 180, 0, 19, 183, 0, 46, 77, 44, 42, 180, 0, 29]
abbrev dktX26_copy_0 : List UInt8 := dkwX26_copy_0 ++ dktX26_copy_1
theorem dksX26_copy_0 : cX26_copy.data.toList.drop 0 = dktX26_copy_0 := by decide +kernel
theorem dksX26_copy_1 : cX26_copy.data.toList.drop 22 = dktX26_copy_1 := dk_seg dksX26_copy_0 22 rfl rfl
theorem dX26_copy_0 : decode cX26_copy 0 = .ok (.new 4, 3) := dk_187 0 4 (dk_at dksX26_copy_0 0 rfl rfl)
theorem dX26_copy_3 : decode cX26_copy 3 = .ok (.dup, 1) := dk_89 (dk_at dksX26_copy_0 3 rfl rfl)
theorem dX26_copy_4 : decode cX26_copy 4 = .ok (.aload_n 0, 1) := dk_42 (dk_at dksX26_copy_0 4 rfl rfl)
theorem dX26_copy_5 : decode cX26_copy 5 = .ok (.getfield 3, 3) := dk_180 0 3 (dk_at dksX26_copy_0 5 rfl rfl)
theorem dX26_copy_8 : decode cX26_copy 8 = .ok (.aload_n 1, 1) := dk_43 (dk_at dksX26_copy_0 8 rfl rfl)
theorem dX26_copy_9 : decode cX26_copy 9 = .ok (.aload_n 0, 1) := dk_42 (dk_at dksX26_copy_0 9 rfl rfl)
theorem dX26_copy_10 : decode cX26_copy 10 = .ok (.getfield 19, 3) := dk_180 0 19 (dk_at dksX26_copy_0 10 rfl rfl)
theorem dX26_copy_13 : decode cX26_copy 13 = .ok (.invokespecial 46, 3) := dk_183 0 46 (dk_at dksX26_copy_0 13 rfl rfl)
theorem dX26_copy_16 : decode cX26_copy 16 = .ok (.astore_n 2, 1) := dk_77 (dk_at dksX26_copy_0 16 rfl rfl)
theorem dX26_copy_17 : decode cX26_copy 17 = .ok (.aload_n 2, 1) := dk_44 (dk_at dksX26_copy_0 17 rfl rfl)
theorem dX26_copy_18 : decode cX26_copy 18 = .ok (.aload_n 0, 1) := dk_42 (dk_at dksX26_copy_0 18 rfl rfl)
theorem dX26_copy_19 : decode cX26_copy 19 = .ok (.getfield 29, 3) := dk_180 0 29 (dk_at dksX26_copy_0 19 rfl rfl)
theorem dX26_copy_22 : decode cX26_copy 22 = .ok (.putfield 29, 3) := dk_181 0 29 (dk_at dksX26_copy_1 0 rfl rfl)
theorem dX26_copy_25 : decode cX26_copy 25 = .ok (.aload_n 2, 1) := dk_44 (dk_at dksX26_copy_1 3 rfl rfl)
theorem dX26_copy_26 : decode cX26_copy 26 = .ok (.aload_n 0, 1) := dk_42 (dk_at dksX26_copy_1 4 rfl rfl)
theorem dX26_copy_27 : decode cX26_copy 27 = .ok (.getfield 49, 3) := dk_180 0 49 (dk_at dksX26_copy_1 5 rfl rfl)
theorem dX26_copy_30 : decode cX26_copy 30 = .ok (.putfield 49, 3) := dk_181 0 49 (dk_at dksX26_copy_1 8 rfl rfl)
theorem dX26_copy_33 : decode cX26_copy 33 = .ok (.aload_n 2, 1) := dk_44 (dk_at dksX26_copy_1 11 rfl rfl)
theorem dX26_copy_34 : decode cX26_copy 34 = .ok (.aload_n 0, 1) := dk_42 (dk_at dksX26_copy_1 12 rfl rfl)
theorem dX26_copy_35 : decode cX26_copy 35 = .ok (.getfield 43, 3) := dk_180 0 43 (dk_at dksX26_copy_1 13 rfl rfl)
theorem dX26_copy_38 : decode cX26_copy 38 = .ok (.putfield 43, 3) := dk_181 0 43 (dk_at dksX26_copy_1 16 rfl rfl)
theorem dX26_copy_41 : decode cX26_copy 41 = .ok (.aload_n 2, 1) := dk_44 (dk_at dksX26_copy_1 19 rfl rfl)
theorem dX26_copy_42 : decode cX26_copy 42 = .ok (.areturn, 1) := dk_176 (dk_at dksX26_copy_1 20 rfl rfl)
theorem nl_X26_4 : gNL RX26 4 26 := ⟨RX26, TX26, 6, 6, tyX26, _, rfl, rfl, in_X26, tyX26_ok, q1481, q1226, q130, fun j hj => by rcases (show j = 0 ∨ j = 1 ∨ j = 2 ∨ j = 3 ∨ j = 4 ∨ j = 5 by omega) with rfl | rfl | rfl | rfl | rfl | rfl <;> rfl⟩
theorem hd_X26_init : (yX26_init.cls ≠ "java/lang/invoke/MethodHandle" ∧ yX26_init.cls ≠ "java/lang/invoke/VarHandle" ∧ (parseMethodDescriptor yX26_init.desc).map (fun d => d.parameters.length) = some 3) := ⟨by decide +kernel, by decide +kernel, by decide +kernel⟩
def f_X26_copy (a0 : Nat) (p1 : Option Nat) (w0 : gw) : Option (Option Nat × gw) := gB2 (gNew w0 26) fun a1 w2 => gB1 (gR w2 a0 26 5) fun r3 => gB1 (gR w2 a0 26 1) fun r4 => gB2 (f_X26_init a1 r3 p1 r4 w2) fun _ w5 => gB1 (gI w5 a0 26 2) fun x6 => gB1 (gPut w5 a1 26 2 (gi x6)) fun w7 => gB1 (gI w7 a0 26 3) fun x8 => gB1 (gPut w7 a1 26 3 (gi x8)) fun w9 => gB1 (gI w9 a0 26 4) fun x10 => gB1 (gPut w9 a1 26 4 (gi x10)) fun w11 => some ((some a1), w11)
set_option maxHeartbeats 4000000 in
set_option maxRecDepth 100000 in
theorem k_X26_copy {D : va_G} {dA : Nat → ClassId} {A : Nat → Prop} {K : Nat → Nat} {l : Launch} {h : Nat} (hh : 2 ≤ h) {a0 : Nat} {p1 : Option Nat} {w0 ww : gw} {rr : Option Nat} (hf : f_X26_copy a0 p1 w0 = some (rr, ww)) : gMet D dA A K l yX26_copy (ws_ yX26_copy cX26_copy 3 (some (.object "WorkflowEngine$Undo"))) h [(ga (some a0)), (ga p1)] (some (ga rr)) w0 ww := by
  refine j_start (own := RX26) (by decide +kernel) rfl (Nat.le_of_ble_eq_true rfl) ?_
  intro p e R s m args below meth c C hr hin hw
  unfold f_X26_copy at hf
  show gJ D dA A K p l e R s m args below meth c (gEnd D dA A K below args s w0 (some (ga rr)) ww) 3 0 [(0, (ga (some a0))), (1, (ga p1))] [] w0
  replace hf := gB2_e hf
  obtain ⟨a1, w2, ew2, hf⟩ := hf
  refine j_new C nl_X26_4 ew2 dX26_copy_0 ?_
  refine j_dup C dX26_copy_3 ?_
  refine j_aload_n C dX26_copy_4 rfl ?_
  replace hf := gB1_e hf
  obtain ⟨r3, er3, hf⟩ := hf
  refine j_get C fl_X26_3_26 dX26_copy_5 (gR_F er3) ?_
  refine j_aload_n C dX26_copy_8 rfl ?_
  refine j_aload_n C dX26_copy_9 rfl ?_
  replace hf := gB1_e hf
  obtain ⟨r4, er4, hf⟩ := hf
  refine j_get C fl_X26_19_26 dX26_copy_10 (gR_F er4) ?_
  replace hf := gB2_e hf
  obtain ⟨_, w5, ew5, hf⟩ := hf
  refine j_callI (As := [(ga r3), (ga p1), (ga r4)]) (rest := [(ga (some a1))]) C (by omega) (k_X26_init (by omega) ew5) rfl q1482 q1228 q130 q1229 hd_X26_init (by decide) rfl (Nat.le_of_ble_eq_true rfl) dX26_copy_13 ?_
  refine j_astore_n (lv' := [(2, (ga (some a1))), (0, (ga (some a0))), (1, (ga p1))]) C dX26_copy_16 (by decide) rfl ?_
  refine j_aload_n C dX26_copy_17 rfl ?_
  refine j_aload_n C dX26_copy_18 rfl ?_
  replace hf := gB1_e hf
  obtain ⟨x6, ex6, hf⟩ := hf
  refine j_get C fl_X26_29_26 dX26_copy_19 (gI_F ex6) ?_
  replace hf := gB1_e hf
  obtain ⟨w7, ew7, hf⟩ := hf
  refine j_put C fl_X26_29_26 tb_26 ew7 fk_26_2 (fit_I x6) dX26_copy_22 ?_
  refine j_aload_n C dX26_copy_25 rfl ?_
  refine j_aload_n C dX26_copy_26 rfl ?_
  replace hf := gB1_e hf
  obtain ⟨x8, ex8, hf⟩ := hf
  refine j_get C fl_X26_49_26 dX26_copy_27 (gI_F ex8) ?_
  replace hf := gB1_e hf
  obtain ⟨w9, ew9, hf⟩ := hf
  refine j_put C fl_X26_49_26 tb_26 ew9 fk_26_3 (fit_I x8) dX26_copy_30 ?_
  refine j_aload_n C dX26_copy_33 rfl ?_
  refine j_aload_n C dX26_copy_34 rfl ?_
  replace hf := gB1_e hf
  obtain ⟨x10, ex10, hf⟩ := hf
  refine j_get C fl_X26_43_26 dX26_copy_35 (gI_F ex10) ?_
  replace hf := gB1_e hf
  obtain ⟨w11, ew11, hf⟩ := hf
  refine j_put C fl_X26_43_26 tb_26 ew11 fk_26_4 (fit_I x10) dX26_copy_38 ?_
  refine j_aload_n C dX26_copy_41 rfl ?_
  obtain ⟨rfl, rfl⟩ := gSome hf
  exact j_aret C hr (Or.inl ⟨_, rfl⟩) hw dX26_copy_42
def dkwX27_init_0 : List UInt8 := [42, 183, 0, 3, 42, 16, 24, 188, 10, 181, 0, 9, 177]
abbrev dktX27_init_0 : List UInt8 := dkwX27_init_0 ++ []
theorem dksX27_init_0 : cX27_init.data.toList.drop 0 = dktX27_init_0 := by decide +kernel
theorem dX27_init_0 : decode cX27_init 0 = .ok (.aload_n 0, 1) := dk_42 (dk_at dksX27_init_0 0 rfl rfl)
theorem dX27_init_1 : decode cX27_init 1 = .ok (.invokespecial 3, 3) := dk_183 0 3 (dk_at dksX27_init_0 1 rfl rfl)
theorem dX27_init_4 : decode cX27_init 4 = .ok (.aload_n 0, 1) := dk_42 (dk_at dksX27_init_0 4 rfl rfl)
theorem dX27_init_5 : decode cX27_init 5 = .ok (.bipush 24, 2) := dk_16 24 (dk_at dksX27_init_0 5 rfl rfl)
theorem dX27_init_7 : decode cX27_init 7 = .ok (.newarray .int, 2) := dk_188_10 (dk_at dksX27_init_0 7 rfl rfl)
theorem dX27_init_9 : decode cX27_init 9 = .ok (.putfield 9, 3) := dk_181 0 9 (dk_at dksX27_init_0 9 rfl rfl)
theorem dX27_init_12 : decode cX27_init 12 = .ok (.return_, 1) := dk_177 (dk_at dksX27_init_0 12 rfl rfl)
theorem fl_X27_9_27 : gFL RX27 9 27 0 := gFL.mk (Cn := RX27) (T := TX27) (N := 2) (ref := "WorkflowEngine$Places") rfl in_X27 (by decide) q1348 rfl rfl (Or.inl rfl)
theorem nm_27 : gNm TX27 2 := by
  unfold gNm
  decide +kernel
theorem tb_27 : gTb 27 := fun Cn T N h => by
  have h : (RX27, TX27, 2) = (Cn, T, N) := Option.some.inj h
  cases h
  exact ⟨nm_27, tyX27, tyX27_ok⟩
theorem fk_27_0 : gFk 27 0 "[I" true "WorkflowEngine$Places" := fun Cn T N h => by
  have h : (RX27, TX27, 2) = (Cn, T, N) := Option.some.inj h
  cases h
  exact ⟨rfl, rfl, rfl⟩
def f_X27_init (a0 : Nat) (w0 : gw) : Option (Unit × gw) := gB2 (gNewI w0 0 (nI 24)) fun a1 w2 => gB1 (gPut w2 a0 27 0 (ga (some a1))) fun w3 => some ((), w3)
set_option maxHeartbeats 4000000 in
set_option maxRecDepth 100000 in
theorem k_X27_init {D : va_G} {dA : Nat → ClassId} {A : Nat → Prop} {K : Nat → Nat} {l : Launch} {h : Nat} (hh : 1 ≤ h) {a0 : Nat} {w0 ww : gw} {rr : Unit} (hf : f_X27_init a0 w0 = some (rr, ww)) : gMet D dA A K l yX27_init (ws_ yX27_init cX27_init 1 none) h [(ga (some a0))] none w0 ww := by
  refine j_start (own := RX27) (by decide +kernel) rfl (Nat.le_of_ble_eq_true rfl) ?_
  intro p e R s m args below meth c C hr hin hw
  unfold f_X27_init at hf
  show gJ D dA A K p l e R s m args below meth c (gEnd D dA A K below args s w0 none ww) 1 0 [(0, (ga (some a0)))] [] w0
  refine j_aload_n C dX27_init_0 rfl ?_
  refine j_objInit C (by omega) q1347 q164 q165 (by decide) dX27_init_1 ?_
  refine j_aload_n C dX27_init_4 rfl ?_
  refine j_bipush (v := (nI 24)) C dX27_init_5 (by decide) ?_
  replace hf := gB2_e hf
  obtain ⟨a1, w2, ew2, hf⟩ := hf
  refine j_newi C (t := 0) (atype := .int) rfl (by decide) rfl rfl q761 ew2 dX27_init_7 ?_
  replace hf := gB1_e hf
  obtain ⟨w3, ew3, hf⟩ := hf
  refine j_putF C fl_X27_9_27 tb_27 hin ew3 fk_27_0 rfl (ft__I (some a1)) dX27_init_9 ?_
  obtain ⟨rfl, rfl⟩ := gSome hf
  exact j_vret C hr hw dX27_init_12
def dkwX27_adds_2 : List UInt8 := [27, 79, 42, 89, 180, 0, 15, 4, 96, 181, 0, 15, 177]
abbrev dktX27_adds_2 : List UInt8 := dkwX27_adds_2 ++ []
def dkwX27_adds_1 : List UInt8 := [180, 0, 9, 28, 42, 180, 0, 9, 28, 4, 100, 46, 79, 132, 2, 255, 167, 255, 223, 42, 180, 0, 9, 28]
abbrev dktX27_adds_1 : List UInt8 := dkwX27_adds_1 ++ dktX27_adds_2
def dkwX27_adds_0 : List UInt8 := [42, 180, 0, 15, 61, 28, 158, 0, 35, 42, 180, 0, 9, 28, 4, 100, 46, 27, 164, 0, 23, 42]
abbrev dktX27_adds_0 : List UInt8 := dkwX27_adds_0 ++ dktX27_adds_1
theorem dksX27_adds_0 : cX27_adds.data.toList.drop 0 = dktX27_adds_0 := by decide +kernel
theorem dksX27_adds_1 : cX27_adds.data.toList.drop 22 = dktX27_adds_1 := dk_seg dksX27_adds_0 22 rfl rfl
theorem dksX27_adds_2 : cX27_adds.data.toList.drop 46 = dktX27_adds_2 := dk_seg dksX27_adds_1 24 rfl rfl
theorem dX27_adds_0 : decode cX27_adds 0 = .ok (.aload_n 0, 1) := dk_42 (dk_at dksX27_adds_0 0 rfl rfl)
theorem dX27_adds_1 : decode cX27_adds 1 = .ok (.getfield 15, 3) := dk_180 0 15 (dk_at dksX27_adds_0 1 rfl rfl)
theorem dX27_adds_4 : decode cX27_adds 4 = .ok (.istore_n 2, 1) := dk_61 (dk_at dksX27_adds_0 4 rfl rfl)
theorem dX27_adds_5 : decode cX27_adds 5 = .ok (.iload_n 2, 1) := dk_28 (dk_at dksX27_adds_0 5 rfl rfl)
theorem dX27_adds_6 : decode cX27_adds 6 = .ok (.ifCond .le 35, 3) := dk_158 0 35 (dk_at dksX27_adds_0 6 rfl rfl)
theorem dX27_adds_9 : decode cX27_adds 9 = .ok (.aload_n 0, 1) := dk_42 (dk_at dksX27_adds_0 9 rfl rfl)
theorem dX27_adds_10 : decode cX27_adds 10 = .ok (.getfield 9, 3) := dk_180 0 9 (dk_at dksX27_adds_0 10 rfl rfl)
theorem dX27_adds_13 : decode cX27_adds 13 = .ok (.iload_n 2, 1) := dk_28 (dk_at dksX27_adds_0 13 rfl rfl)
theorem dX27_adds_14 : decode cX27_adds 14 = .ok (.iconst 1, 1) := dk_4 (dk_at dksX27_adds_0 14 rfl rfl)
theorem dX27_adds_15 : decode cX27_adds 15 = .ok (.isub, 1) := dk_100 (dk_at dksX27_adds_0 15 rfl rfl)
theorem dX27_adds_16 : decode cX27_adds 16 = .ok (.iaload, 1) := dk_46 (dk_at dksX27_adds_0 16 rfl rfl)
theorem dX27_adds_17 : decode cX27_adds 17 = .ok (.iload_n 1, 1) := dk_27 (dk_at dksX27_adds_0 17 rfl rfl)
theorem dX27_adds_18 : decode cX27_adds 18 = .ok (.if_icmp .le 23, 3) := dk_164 0 23 (dk_at dksX27_adds_0 18 rfl rfl)
theorem dX27_adds_21 : decode cX27_adds 21 = .ok (.aload_n 0, 1) := dk_42 (dk_at dksX27_adds_0 21 rfl rfl)
theorem dX27_adds_22 : decode cX27_adds 22 = .ok (.getfield 9, 3) := dk_180 0 9 (dk_at dksX27_adds_1 0 rfl rfl)
theorem dX27_adds_25 : decode cX27_adds 25 = .ok (.iload_n 2, 1) := dk_28 (dk_at dksX27_adds_1 3 rfl rfl)
theorem dX27_adds_26 : decode cX27_adds 26 = .ok (.aload_n 0, 1) := dk_42 (dk_at dksX27_adds_1 4 rfl rfl)
theorem dX27_adds_27 : decode cX27_adds 27 = .ok (.getfield 9, 3) := dk_180 0 9 (dk_at dksX27_adds_1 5 rfl rfl)
theorem dX27_adds_30 : decode cX27_adds 30 = .ok (.iload_n 2, 1) := dk_28 (dk_at dksX27_adds_1 8 rfl rfl)
theorem dX27_adds_31 : decode cX27_adds 31 = .ok (.iconst 1, 1) := dk_4 (dk_at dksX27_adds_1 9 rfl rfl)
theorem dX27_adds_32 : decode cX27_adds 32 = .ok (.isub, 1) := dk_100 (dk_at dksX27_adds_1 10 rfl rfl)
theorem dX27_adds_33 : decode cX27_adds 33 = .ok (.iaload, 1) := dk_46 (dk_at dksX27_adds_1 11 rfl rfl)
theorem dX27_adds_34 : decode cX27_adds 34 = .ok (.iastore, 1) := dk_79 (dk_at dksX27_adds_1 12 rfl rfl)
theorem dX27_adds_35 : decode cX27_adds 35 = .ok (.iinc 2 (-1), 3) := dk_132 2 255 (dk_at dksX27_adds_1 13 rfl rfl)
theorem dX27_adds_38 : decode cX27_adds 38 = .ok (.goto (-33), 3) := dk_167 255 223 (dk_at dksX27_adds_1 16 rfl rfl)
theorem dX27_adds_41 : decode cX27_adds 41 = .ok (.aload_n 0, 1) := dk_42 (dk_at dksX27_adds_1 19 rfl rfl)
theorem dX27_adds_42 : decode cX27_adds 42 = .ok (.getfield 9, 3) := dk_180 0 9 (dk_at dksX27_adds_1 20 rfl rfl)
theorem dX27_adds_45 : decode cX27_adds 45 = .ok (.iload_n 2, 1) := dk_28 (dk_at dksX27_adds_1 23 rfl rfl)
theorem dX27_adds_46 : decode cX27_adds 46 = .ok (.iload_n 1, 1) := dk_27 (dk_at dksX27_adds_2 0 rfl rfl)
theorem dX27_adds_47 : decode cX27_adds 47 = .ok (.iastore, 1) := dk_79 (dk_at dksX27_adds_2 1 rfl rfl)
theorem dX27_adds_48 : decode cX27_adds 48 = .ok (.aload_n 0, 1) := dk_42 (dk_at dksX27_adds_2 2 rfl rfl)
theorem dX27_adds_49 : decode cX27_adds 49 = .ok (.dup, 1) := dk_89 (dk_at dksX27_adds_2 3 rfl rfl)
theorem dX27_adds_50 : decode cX27_adds 50 = .ok (.getfield 15, 3) := dk_180 0 15 (dk_at dksX27_adds_2 4 rfl rfl)
theorem dX27_adds_53 : decode cX27_adds 53 = .ok (.iconst 1, 1) := dk_4 (dk_at dksX27_adds_2 7 rfl rfl)
theorem dX27_adds_54 : decode cX27_adds 54 = .ok (.iadd, 1) := dk_96 (dk_at dksX27_adds_2 8 rfl rfl)
theorem dX27_adds_55 : decode cX27_adds 55 = .ok (.putfield 15, 3) := dk_181 0 15 (dk_at dksX27_adds_2 9 rfl rfl)
theorem dX27_adds_58 : decode cX27_adds 58 = .ok (.return_, 1) := dk_177 (dk_at dksX27_adds_2 12 rfl rfl)
theorem fl_X27_15_27 : gFL RX27 15 27 1 := gFL.mk (Cn := RX27) (T := TX27) (N := 2) (ref := "WorkflowEngine$Places") rfl in_X27 (by decide) q1350 rfl rfl (Or.inl rfl)
theorem fk_27_1 : gFk 27 1 "I" false "WorkflowEngine$Places" := fun Cn T N h => by
  have h : (RX27, TX27, 2) = (Cn, T, N) := Option.some.inj h
  cases h
  exact ⟨rfl, rfl, rfl⟩
def f_X27_adds (a0 : Nat) (p1 : Int32) (w0 : gw) : Option (Unit × gw) := gB1 (gI w0 a0 27 1) fun x1 => gL2 (fun k5 (x3 : Int32) (x4 : Int32) (w2 : gw) => gBd (fun (x8 : Int32) (x9 : Int32) (w7 : gw) => gB1 (gR w7 a0 27 0) fun r10 => gB1 r10 fun a11 => gB1 (gStI w7 a11 0 x9 x8) fun w12 => gB1 (gI w12 a0 27 1) fun x13 => gB1 (gPut w12 a0 27 1 (gi (x13 + (nI 1)))) fun w14 => some ((), w14)) fun k6 => if x4 ≤ 0 then k6 x3 x4 w2 else gB1 (gR w2 a0 27 0) fun r16 => gB1 r16 fun a17 => gB1 (gLdI w2 a17 0 (x4 - (nI 1))) fun x18 => if x18 ≤ x3 then k6 x3 x4 w2 else gB1 (gR w2 a0 27 0) fun r20 => gB1 (gR w2 a0 27 0) fun r21 => gB1 r21 fun a22 => gB1 (gLdI w2 a22 0 (x4 - (nI 1))) fun x23 => gB1 r20 fun a24 => gB1 (gStI w2 a24 0 x4 x23) fun w25 => gBd (x4 + (-1)) fun x26 => k5 x3 x26 w25) 20000 p1 x1 w0
set_option maxHeartbeats 4000000 in
set_option maxRecDepth 100000 in
theorem k_X27_adds {D : va_G} {dA : Nat → ClassId} {A : Nat → Prop} {K : Nat → Nat} {l : Launch} {h : Nat} (hh : 0 ≤ h) {a0 : Nat} {p1 : Int32} {w0 ww : gw} {rr : Unit} (hf : f_X27_adds a0 p1 w0 = some (rr, ww)) : gMet D dA A K l yX27_adds (ws_ yX27_adds cX27_adds 3 none) h [(ga (some a0)), (gi p1)] none w0 ww := by
  refine j_start (own := RX27) (by decide +kernel) rfl (Nat.le_of_ble_eq_true rfl) ?_
  intro p e R s m args below meth c C hr hin hw
  unfold f_X27_adds at hf
  show gJ D dA A K p l e R s m args below meth c (gEnd D dA A K below args s w0 none ww) 3 0 [(0, (ga (some a0))), (1, (gi p1))] [] w0
  refine j_aload_n C dX27_adds_0 rfl ?_
  replace hf := gB1_e hf
  obtain ⟨x1, ex1, hf⟩ := hf
  refine j_get C fl_X27_15_27 dX27_adds_1 (gI_F ex1) ?_
  refine j_istore_n (lv' := [(2, (gi x1)), (0, (ga (some a0))), (1, (gi p1))]) C dX27_adds_4 (by decide) rfl ?_
  refine j_sub (lv' := [(0, (ga (some a0))), (1, (gi p1)), (2, (gi x1))]) (gL_cons rfl (gL_cons rfl (gL_cons rfl (gL_nil)))) ?_
  refine gL2_e (fun (x3 : Int32) (x4 : Int32) (w2 : gw) => gJ D dA A K p l e R s m args below meth c (gEnd D dA A K below args s w0 none ww) 3 5 [(0, (ga (some a0))), (1, (gi x3)), (2, (gi x4))] [] w2) ?_ _ _ _ _ hf
  intro k5 jk5 x3 x4 w2 hf
  refine j_iload_n C dX27_adds_5 rfl ?_
  replace hf := gBd_x hf
  obtain ⟨k6, ek6, hf⟩ := hf
  have jk6 : ∀ (x8 : Int32) (x9 : Int32) (w7 : gw), k6 x8 x9 w7 = some (rr, ww) → gJ D dA A K p l e R s m args below meth c (gEnd D dA A K below args s w0 none ww) 3 41 [(0, (ga (some a0))), (1, (gi x8)), (2, (gi x9))] [] w7 := by
    intro x8 x9 w7 hf
    rw [ek6] at hf
    dsimp only at hf
    refine j_aload_n C dX27_adds_41 rfl ?_
    replace hf := gB1_e hf
    obtain ⟨r10, er10, hf⟩ := hf
    refine j_get C fl_X27_9_27 dX27_adds_42 (gR_F er10) ?_
    refine j_iload_n C dX27_adds_45 rfl ?_
    refine j_iload_n C dX27_adds_46 rfl ?_
    replace hf := gB1_e hf
    obtain ⟨a11, ea11, hf⟩ := hf
    subst ea11
    replace hf := gB1_e hf
    obtain ⟨w12, ew12, hf⟩ := hf
    refine j_iast C ew12 dX27_adds_47 ?_
    refine j_aload_n C dX27_adds_48 rfl ?_
    refine j_dup C dX27_adds_49 ?_
    replace hf := gB1_e hf
    obtain ⟨x13, ex13, hf⟩ := hf
    refine j_get C fl_X27_15_27 dX27_adds_50 (gI_F ex13) ?_
    refine j_iconst (v := (nI 1)) C dX27_adds_53 (by decide) ?_
    refine j_iadd C dX27_adds_54 ?_
    replace hf := gB1_e hf
    obtain ⟨w14, ew14, hf⟩ := hf
    refine j_put C fl_X27_15_27 tb_27 ew14 fk_27_1 (fit_I (x13 + (nI 1))) dX27_adds_55 ?_
    obtain ⟨rfl, rfl⟩ := gSome hf
    exact j_vret C hr hw dX27_adds_58
  clear ek6
  refine j_if_le (tgt := 41) C dX27_adds_6 (by decide) (fun c15 => ?_) (fun c15 => ?_)
  · replace hf := gIf_t hf c15
    exact jk6 _ _ _ hf
  · replace hf := gIf_f hf c15
    refine j_aload_n C dX27_adds_9 rfl ?_
    replace hf := gB1_e hf
    obtain ⟨r16, er16, hf⟩ := hf
    refine j_get C fl_X27_9_27 dX27_adds_10 (gR_F er16) ?_
    refine j_iload_n C dX27_adds_13 rfl ?_
    refine j_iconst (v := (nI 1)) C dX27_adds_14 (by decide) ?_
    refine j_isub C dX27_adds_15 ?_
    replace hf := gB1_e hf
    obtain ⟨a17, ea17, hf⟩ := hf
    subst ea17
    replace hf := gB1_e hf
    obtain ⟨x18, ex18, hf⟩ := hf
    refine j_iald C ex18 dX27_adds_16 ?_
    refine j_iload_n C dX27_adds_17 rfl ?_
    refine j_icmp_le (tgt := 41) C dX27_adds_18 (by decide) (fun c19 => ?_) (fun c19 => ?_)
    · replace hf := gIf_t hf c19
      exact jk6 _ _ _ hf
    · replace hf := gIf_f hf c19
      refine j_aload_n C dX27_adds_21 rfl ?_
      replace hf := gB1_e hf
      obtain ⟨r20, er20, hf⟩ := hf
      refine j_get C fl_X27_9_27 dX27_adds_22 (gR_F er20) ?_
      refine j_iload_n C dX27_adds_25 rfl ?_
      refine j_aload_n C dX27_adds_26 rfl ?_
      replace hf := gB1_e hf
      obtain ⟨r21, er21, hf⟩ := hf
      refine j_get C fl_X27_9_27 dX27_adds_27 (gR_F er21) ?_
      refine j_iload_n C dX27_adds_30 rfl ?_
      refine j_iconst (v := (nI 1)) C dX27_adds_31 (by decide) ?_
      refine j_isub C dX27_adds_32 ?_
      replace hf := gB1_e hf
      obtain ⟨a22, ea22, hf⟩ := hf
      subst ea22
      replace hf := gB1_e hf
      obtain ⟨x23, ex23, hf⟩ := hf
      refine j_iald C ex23 dX27_adds_33 ?_
      replace hf := gB1_e hf
      obtain ⟨a24, ea24, hf⟩ := hf
      subst ea24
      replace hf := gB1_e hf
      obtain ⟨w25, ew25, hf⟩ := hf
      refine j_iast C ew25 dX27_adds_34 ?_
      replace hf := gBd_x hf
      obtain ⟨x26, ex26, hf⟩ := hf
      refine j_iinc (v := x26) (lv' := [(2, (gi x26)), (0, (ga (some a0))), (1, (gi x3))]) C dX27_adds_35 rfl (by rw [ex26]; rfl) (by decide) rfl ?_
      refine j_goto (tgt := 5) C dX27_adds_38 (by decide) ?_
      refine j_sub (lv' := [(0, (ga (some a0))), (1, (gi x3)), (2, (gi x26))]) (gL_cons rfl (gL_cons rfl (gL_cons rfl (gL_nil)))) ?_
      exact jk5 _ _ _ hf
theorem dX29_isOver_0 : decode cX29_isOver 0 = .ok (.iconst 0, 1) := by decide +kernel
theorem dX29_isOver_1 : decode cX29_isOver 1 = .ok (.ireturn, 1) := by decide +kernel
def f_X29_isOver (a0 : Nat) (w0 : gw) : Option (Int32 × gw) := some ((nI 0), w0)
set_option maxHeartbeats 4000000 in
set_option maxRecDepth 100000 in
theorem k_X29_isOver {D : va_G} {dA : Nat → ClassId} {A : Nat → Prop} {K : Nat → Nat} {l : Launch} {h : Nat} (hh : 0 ≤ h) {a0 : Nat} {w0 ww : gw} {rr : Int32} (hf : f_X29_isOver a0 w0 = some (rr, ww)) : gMet D dA A K l yX29_isOver (ws_ yX29_isOver cX29_isOver 1 (some .boolean)) h [(ga (some a0))] (some (gi rr)) w0 ww := by
  refine j_start (own := RX29) (by decide +kernel) rfl (Nat.le_of_ble_eq_true rfl) ?_
  intro p e R s m args below meth c C hr hin hw
  unfold f_X29_isOver at hf
  show gJ D dA A K p l e R s m args below meth c (gEnd D dA A K below args s w0 (some (gi rr)) ww) 1 0 [(0, (ga (some a0)))] [] w0
  refine j_iconst (v := (nI 0)) C dX29_isOver_0 (by decide) ?_
  obtain ⟨rfl, rfl⟩ := gSome hf
  exact j_zret C hr (by decide) hw dX29_isOver_1
def dkwX3_init_0 : List UInt8 := [42, 183, 0, 1, 42, 43, 181, 0, 7, 42, 28, 181, 0, 13, 177]
abbrev dktX3_init_0 : List UInt8 := dkwX3_init_0 ++ []
theorem dksX3_init_0 : cX3_init.data.toList.drop 0 = dktX3_init_0 := by decide +kernel
theorem dX3_init_0 : decode cX3_init 0 = .ok (.aload_n 0, 1) := dk_42 (dk_at dksX3_init_0 0 rfl rfl)
theorem dX3_init_1 : decode cX3_init 1 = .ok (.invokespecial 1, 3) := dk_183 0 1 (dk_at dksX3_init_0 1 rfl rfl)
theorem dX3_init_4 : decode cX3_init 4 = .ok (.aload_n 0, 1) := dk_42 (dk_at dksX3_init_0 4 rfl rfl)
theorem dX3_init_5 : decode cX3_init 5 = .ok (.aload_n 1, 1) := dk_43 (dk_at dksX3_init_0 5 rfl rfl)
theorem dX3_init_6 : decode cX3_init 6 = .ok (.putfield 7, 3) := dk_181 0 7 (dk_at dksX3_init_0 6 rfl rfl)
theorem dX3_init_9 : decode cX3_init 9 = .ok (.aload_n 0, 1) := dk_42 (dk_at dksX3_init_0 9 rfl rfl)
theorem dX3_init_10 : decode cX3_init 10 = .ok (.iload_n 2, 1) := dk_28 (dk_at dksX3_init_0 10 rfl rfl)
theorem dX3_init_11 : decode cX3_init 11 = .ok (.putfield 13, 3) := dk_181 0 13 (dk_at dksX3_init_0 11 rfl rfl)
theorem dX3_init_14 : decode cX3_init 14 = .ok (.return_, 1) := dk_177 (dk_at dksX3_init_0 14 rfl rfl)
theorem fl_X3_7_3 : gFL RX3 7 3 0 := gFL.mk (Cn := RX3) (T := TX3) (N := 2) (ref := "WorkflowEngine$Version") rfl in_X3 (by decide) q598 rfl rfl (Or.inl rfl)
theorem ft_LWorkflowEngine_Body_ (r : Option Nat) : gFit "LWorkflowEngine$Body;" (ga r) := ⟨.object "WorkflowEngine$Body", by decide +kernel, by cases r <;> rfl, by cases r <;> rfl⟩
theorem nm_3 : gNm TX3 2 := by
  unfold gNm
  decide +kernel
theorem tb_3 : gTb 3 := fun Cn T N h => by
  have h : (RX3, TX3, 2) = (Cn, T, N) := Option.some.inj h
  cases h
  exact ⟨nm_3, tyX3, tyX3_ok⟩
theorem fk_3_0 : gFk 3 0 "LWorkflowEngine$Body;" true "WorkflowEngine$Version" := fun Cn T N h => by
  have h : (RX3, TX3, 2) = (Cn, T, N) := Option.some.inj h
  cases h
  exact ⟨rfl, rfl, rfl⟩
theorem fl_X3_13_3 : gFL RX3 13 3 1 := gFL.mk (Cn := RX3) (T := TX3) (N := 2) (ref := "WorkflowEngine$Version") rfl in_X3 (by decide) q600 rfl rfl (Or.inl rfl)
theorem fk_3_1 : gFk 3 1 "I" true "WorkflowEngine$Version" := fun Cn T N h => by
  have h : (RX3, TX3, 2) = (Cn, T, N) := Option.some.inj h
  cases h
  exact ⟨rfl, rfl, rfl⟩
def f_X3_init (a0 : Nat) (p1 : Option Nat) (p2 : Int32) (w0 : gw) : Option (Unit × gw) := gB1 (gPut w0 a0 3 0 (ga p1)) fun w1 => gB1 (gPut w1 a0 3 1 (gi p2)) fun w2 => some ((), w2)
set_option maxHeartbeats 4000000 in
set_option maxRecDepth 100000 in
theorem k_X3_init {D : va_G} {dA : Nat → ClassId} {A : Nat → Prop} {K : Nat → Nat} {l : Launch} {h : Nat} (hh : 1 ≤ h) {a0 : Nat} {p1 : Option Nat} {p2 : Int32} {w0 ww : gw} {rr : Unit} (hf : f_X3_init a0 p1 p2 w0 = some (rr, ww)) : gMet D dA A K l yX3_init (ws_ yX3_init cX3_init 3 none) h [(ga (some a0)), (ga p1), (gi p2)] none w0 ww := by
  refine j_start (own := RX3) (by decide +kernel) rfl (Nat.le_of_ble_eq_true rfl) ?_
  intro p e R s m args below meth c C hr hin hw
  unfold f_X3_init at hf
  show gJ D dA A K p l e R s m args below meth c (gEnd D dA A K below args s w0 none ww) 3 0 [(0, (ga (some a0))), (1, (ga p1)), (2, (gi p2))] [] w0
  refine j_aload_n C dX3_init_0 rfl ?_
  refine j_objInit C (by omega) q597 q164 q165 (by decide) dX3_init_1 ?_
  refine j_aload_n C dX3_init_4 rfl ?_
  refine j_aload_n C dX3_init_5 rfl ?_
  replace hf := gB1_e hf
  obtain ⟨w1, ew1, hf⟩ := hf
  refine j_putF C fl_X3_7_3 tb_3 hin ew1 fk_3_0 rfl (ft_LWorkflowEngine_Body_ p1) dX3_init_6 ?_
  refine j_aload_n C dX3_init_9 rfl ?_
  refine j_iload_n C dX3_init_10 rfl ?_
  replace hf := gB1_e hf
  obtain ⟨w2, ew2, hf⟩ := hf
  refine j_putF C fl_X3_13_3 tb_3 hin ew2 fk_3_1 rfl (fit_I p2) dX3_init_11 ?_
  obtain ⟨rfl, rfl⟩ := gSome hf
  exact j_vret C hr hw dX3_init_14
theorem dX30_isOver_0 : decode cX30_isOver 0 = .ok (.iconst 1, 1) := by decide +kernel
theorem dX30_isOver_1 : decode cX30_isOver 1 = .ok (.ireturn, 1) := by decide +kernel
def f_X30_isOver (a0 : Nat) (w0 : gw) : Option (Int32 × gw) := some ((nI 1), w0)
set_option maxHeartbeats 4000000 in
set_option maxRecDepth 100000 in
theorem k_X30_isOver {D : va_G} {dA : Nat → ClassId} {A : Nat → Prop} {K : Nat → Nat} {l : Launch} {h : Nat} (hh : 0 ≤ h) {a0 : Nat} {w0 ww : gw} {rr : Int32} (hf : f_X30_isOver a0 w0 = some (rr, ww)) : gMet D dA A K l yX30_isOver (ws_ yX30_isOver cX30_isOver 1 (some .boolean)) h [(ga (some a0))] (some (gi rr)) w0 ww := by
  refine j_start (own := RX30) (by decide +kernel) rfl (Nat.le_of_ble_eq_true rfl) ?_
  intro p e R s m args below meth c C hr hin hw
  unfold f_X30_isOver at hf
  show gJ D dA A K p l e R s m args below meth c (gEnd D dA A K below args s w0 (some (gi rr)) ww) 1 0 [(0, (ga (some a0)))] [] w0
  refine j_iconst (v := (nI 1)) C dX30_isOver_0 (by decide) ?_
  obtain ⟨rfl, rfl⟩ := gSome hf
  exact j_zret C hr (by decide) hw dX30_isOver_1
theorem dX31_isOver_0 : decode cX31_isOver 0 = .ok (.iconst 1, 1) := by decide +kernel
theorem dX31_isOver_1 : decode cX31_isOver 1 = .ok (.ireturn, 1) := by decide +kernel
def f_X31_isOver (a0 : Nat) (w0 : gw) : Option (Int32 × gw) := some ((nI 1), w0)
set_option maxHeartbeats 4000000 in
set_option maxRecDepth 100000 in
theorem k_X31_isOver {D : va_G} {dA : Nat → ClassId} {A : Nat → Prop} {K : Nat → Nat} {l : Launch} {h : Nat} (hh : 0 ≤ h) {a0 : Nat} {w0 ww : gw} {rr : Int32} (hf : f_X31_isOver a0 w0 = some (rr, ww)) : gMet D dA A K l yX31_isOver (ws_ yX31_isOver cX31_isOver 1 (some .boolean)) h [(ga (some a0))] (some (gi rr)) w0 ww := by
  refine j_start (own := RX31) (by decide +kernel) rfl (Nat.le_of_ble_eq_true rfl) ?_
  intro p e R s m args below meth c C hr hin hw
  unfold f_X31_isOver at hf
  show gJ D dA A K p l e R s m args below meth c (gEnd D dA A K below args s w0 (some (gi rr)) ww) 1 0 [(0, (ga (some a0)))] [] w0
  refine j_iconst (v := (nI 1)) C dX31_isOver_0 (by decide) ?_
  obtain ⟨rfl, rfl⟩ := gSome hf
  exact j_zret C hr (by decide) hw dX31_isOver_1
def dkwX4_init_0 : List UInt8 := [42, 43, 181, 0, 3, 42, 183, 0, 9, 177]
abbrev dktX4_init_0 : List UInt8 := dkwX4_init_0 ++ []
theorem dksX4_init_0 : cX4_init.data.toList.drop 0 = dktX4_init_0 := by decide +kernel
theorem dX4_init_0 : decode cX4_init 0 = .ok (.aload_n 0, 1) := dk_42 (dk_at dksX4_init_0 0 rfl rfl)
theorem dX4_init_1 : decode cX4_init 1 = .ok (.aload_n 1, 1) := dk_43 (dk_at dksX4_init_0 1 rfl rfl)
theorem dX4_init_2 : decode cX4_init 2 = .ok (.putfield 3, 3) := dk_181 0 3 (dk_at dksX4_init_0 2 rfl rfl)
theorem dX4_init_5 : decode cX4_init 5 = .ok (.aload_n 0, 1) := dk_42 (dk_at dksX4_init_0 5 rfl rfl)
theorem dX4_init_6 : decode cX4_init 6 = .ok (.invokespecial 9, 3) := dk_183 0 9 (dk_at dksX4_init_0 6 rfl rfl)
theorem dX4_init_9 : decode cX4_init 9 = .ok (.return_, 1) := dk_177 (dk_at dksX4_init_0 9 rfl rfl)
theorem fl_X4_3_4 : gFL RX4 3 4 3 := gFL.mk (Cn := RX4) (T := TX4) (N := 4) (ref := "WorkflowEngine$Reader") rfl in_X4 (by decide) q169 rfl rfl (Or.inl rfl)
theorem nm_4 : gNm TX4 4 := by
  unfold gNm
  decide +kernel
theorem tb_4 : gTb 4 := fun Cn T N h => by
  have h : (RX4, TX4, 4) = (Cn, T, N) := Option.some.inj h
  cases h
  exact ⟨nm_4, tyX4, tyX4_ok⟩
theorem fk_4_3 : gFk 4 3 "LWorkflowEngine;" true "WorkflowEngine$Reader" := fun Cn T N h => by
  have h : (RX4, TX4, 4) = (Cn, T, N) := Option.some.inj h
  cases h
  exact ⟨rfl, rfl, rfl⟩
def f_X4_init (a0 : Nat) (p1 : Option Nat) (w0 : gw) : Option (Unit × gw) := gB1 (gPut w0 a0 4 3 (ga p1)) fun w1 => some ((), w1)
set_option maxHeartbeats 4000000 in
set_option maxRecDepth 100000 in
theorem k_X4_init {D : va_G} {dA : Nat → ClassId} {A : Nat → Prop} {K : Nat → Nat} {l : Launch} {h : Nat} (hh : 1 ≤ h) {a0 : Nat} {p1 : Option Nat} {w0 ww : gw} {rr : Unit} (hf : f_X4_init a0 p1 w0 = some (rr, ww)) : gMet D dA A K l yX4_init (ws_ yX4_init cX4_init 2 none) h [(ga (some a0)), (ga p1)] none w0 ww := by
  refine j_start (own := RX4) (by decide +kernel) rfl (Nat.le_of_ble_eq_true rfl) ?_
  intro p e R s m args below meth c C hr hin hw
  unfold f_X4_init at hf
  show gJ D dA A K p l e R s m args below meth c (gEnd D dA A K below args s w0 none ww) 2 0 [(0, (ga (some a0))), (1, (ga p1))] [] w0
  refine j_aload_n C dX4_init_0 rfl ?_
  refine j_aload_n C dX4_init_1 rfl ?_
  replace hf := gB1_e hf
  obtain ⟨w1, ew1, hf⟩ := hf
  refine j_putF C fl_X4_3_4 tb_4 hin ew1 fk_4_3 rfl (ft_LWorkflowEngine_ p1) dX4_init_2 ?_
  refine j_aload_n C dX4_init_5 rfl ?_
  refine j_objInit C (by omega) q163 q164 q165 (by decide) dX4_init_6 ?_
  obtain ⟨rfl, rfl⟩ := gSome hf
  exact j_vret C hr hw dX4_init_9
def dkwX4_sign_1 : List UInt8 := [180, 0, 15, 51, 167, 0, 4, 2, 172]
abbrev dktX4_sign_1 : List UInt8 := dkwX4_sign_1 ++ []
def dkwX4_sign_0 : List UInt8 := [42, 180, 0, 15, 42, 180, 0, 3, 180, 0, 19, 162, 0, 18, 42, 180, 0, 3, 180, 0, 22, 42]
abbrev dktX4_sign_0 : List UInt8 := dkwX4_sign_0 ++ dktX4_sign_1
theorem dksX4_sign_0 : cX4_sign.data.toList.drop 0 = dktX4_sign_0 := by decide +kernel
theorem dksX4_sign_1 : cX4_sign.data.toList.drop 22 = dktX4_sign_1 := dk_seg dksX4_sign_0 22 rfl rfl
theorem dX4_sign_0 : decode cX4_sign 0 = .ok (.aload_n 0, 1) := dk_42 (dk_at dksX4_sign_0 0 rfl rfl)
theorem dX4_sign_1 : decode cX4_sign 1 = .ok (.getfield 15, 3) := dk_180 0 15 (dk_at dksX4_sign_0 1 rfl rfl)
theorem dX4_sign_4 : decode cX4_sign 4 = .ok (.aload_n 0, 1) := dk_42 (dk_at dksX4_sign_0 4 rfl rfl)
theorem dX4_sign_5 : decode cX4_sign 5 = .ok (.getfield 3, 3) := dk_180 0 3 (dk_at dksX4_sign_0 5 rfl rfl)
theorem dX4_sign_8 : decode cX4_sign 8 = .ok (.getfield 19, 3) := dk_180 0 19 (dk_at dksX4_sign_0 8 rfl rfl)
theorem dX4_sign_11 : decode cX4_sign 11 = .ok (.if_icmp .ge 18, 3) := dk_162 0 18 (dk_at dksX4_sign_0 11 rfl rfl)
theorem dX4_sign_14 : decode cX4_sign 14 = .ok (.aload_n 0, 1) := dk_42 (dk_at dksX4_sign_0 14 rfl rfl)
theorem dX4_sign_15 : decode cX4_sign 15 = .ok (.getfield 3, 3) := dk_180 0 3 (dk_at dksX4_sign_0 15 rfl rfl)
theorem dX4_sign_18 : decode cX4_sign 18 = .ok (.getfield 22, 3) := dk_180 0 22 (dk_at dksX4_sign_0 18 rfl rfl)
theorem dX4_sign_21 : decode cX4_sign 21 = .ok (.aload_n 0, 1) := dk_42 (dk_at dksX4_sign_0 21 rfl rfl)
theorem dX4_sign_22 : decode cX4_sign 22 = .ok (.getfield 15, 3) := dk_180 0 15 (dk_at dksX4_sign_1 0 rfl rfl)
theorem dX4_sign_25 : decode cX4_sign 25 = .ok (.baload, 1) := dk_51 (dk_at dksX4_sign_1 3 rfl rfl)
theorem dX4_sign_26 : decode cX4_sign 26 = .ok (.goto 4, 3) := dk_167 0 4 (dk_at dksX4_sign_1 4 rfl rfl)
theorem dX4_sign_29 : decode cX4_sign 29 = .ok (.iconst (-1), 1) := dk_2 (dk_at dksX4_sign_1 7 rfl rfl)
theorem dX4_sign_30 : decode cX4_sign 30 = .ok (.ireturn, 1) := dk_172 (dk_at dksX4_sign_1 8 rfl rfl)
theorem fl_X4_15_4 : gFL RX4 15 4 0 := gFL.mk (Cn := RX4) (T := TX4) (N := 4) (ref := "WorkflowEngine$Reader") rfl in_X4 (by decide) q166 rfl rfl (Or.inl rfl)
theorem fl_X4_19_0 : gFL RX4 19 0 1 := gFL.mkN (Cn := RX0) (T := TX0) (N := 7) (ref := "WorkflowEngine") rfl in_X0 (by decide) nq764 rfl rfl (Or.inl rfl)
theorem fl_X4_22_0 : gFL RX4 22 0 0 := gFL.mkN (Cn := RX0) (T := TX0) (N := 7) (ref := "WorkflowEngine") rfl in_X0 (by decide) nq762 rfl rfl (Or.inl rfl)
def f_X4_sign (a0 : Nat) (w0 : gw) : Option (Int32 × gw) := gB1 (gI w0 a0 4 0) fun x1 => gB1 (gR w0 a0 4 3) fun r2 => gB1 r2 fun a3 => gB1 (gI w0 a3 0 1) fun x4 => if x4 ≤ x1 then some ((-1), w0) else gB1 (gR w0 a0 4 3) fun r6 => gB1 r6 fun a7 => gB1 (gR w0 a7 0 0) fun r8 => gB1 (gI w0 a0 4 0) fun x9 => gB1 r8 fun a10 => gB1 (gLdI w0 a10 1 x9) fun x11 => some (x11, w0)
set_option maxHeartbeats 4000000 in
set_option maxRecDepth 100000 in
theorem k_X4_sign {D : va_G} {dA : Nat → ClassId} {A : Nat → Prop} {K : Nat → Nat} {l : Launch} {h : Nat} (hh : 0 ≤ h) {a0 : Nat} {w0 ww : gw} {rr : Int32} (hf : f_X4_sign a0 w0 = some (rr, ww)) : gMet D dA A K l yX4_sign (ws_ yX4_sign cX4_sign 1 (some .int)) h [(ga (some a0))] (some (gi rr)) w0 ww := by
  refine j_start (own := RX4) (by decide +kernel) rfl (Nat.le_of_ble_eq_true rfl) ?_
  intro p e R s m args below meth c C hr hin hw
  unfold f_X4_sign at hf
  show gJ D dA A K p l e R s m args below meth c (gEnd D dA A K below args s w0 (some (gi rr)) ww) 1 0 [(0, (ga (some a0)))] [] w0
  refine j_aload_n C dX4_sign_0 rfl ?_
  replace hf := gB1_e hf
  obtain ⟨x1, ex1, hf⟩ := hf
  refine j_get C fl_X4_15_4 dX4_sign_1 (gI_F ex1) ?_
  refine j_aload_n C dX4_sign_4 rfl ?_
  replace hf := gB1_e hf
  obtain ⟨r2, er2, hf⟩ := hf
  refine j_get C fl_X4_3_4 dX4_sign_5 (gR_F er2) ?_
  replace hf := gB1_e hf
  obtain ⟨a3, ea3, hf⟩ := hf
  subst ea3
  replace hf := gB1_e hf
  obtain ⟨x4, ex4, hf⟩ := hf
  refine j_get C fl_X4_19_0 dX4_sign_8 (gI_F ex4) ?_
  refine j_icmp_ge (tgt := 29) C dX4_sign_11 (by decide) (fun c5 => ?_) (fun c5 => ?_)
  · replace hf := gIf_t hf c5
    refine j_iconst (v := (-1)) C dX4_sign_29 (by decide) ?_
    obtain ⟨rfl, rfl⟩ := gSome hf
    exact j_iret C hr hw dX4_sign_30
  · replace hf := gIf_f hf c5
    refine j_aload_n C dX4_sign_14 rfl ?_
    replace hf := gB1_e hf
    obtain ⟨r6, er6, hf⟩ := hf
    refine j_get C fl_X4_3_4 dX4_sign_15 (gR_F er6) ?_
    replace hf := gB1_e hf
    obtain ⟨a7, ea7, hf⟩ := hf
    subst ea7
    replace hf := gB1_e hf
    obtain ⟨r8, er8, hf⟩ := hf
    refine j_get C fl_X4_22_0 dX4_sign_18 (gR_F er8) ?_
    refine j_aload_n C dX4_sign_21 rfl ?_
    replace hf := gB1_e hf
    obtain ⟨x9, ex9, hf⟩ := hf
    refine j_get C fl_X4_15_4 dX4_sign_22 (gI_F ex9) ?_
    replace hf := gB1_e hf
    obtain ⟨a10, ea10, hf⟩ := hf
    subst ea10
    replace hf := gB1_e hf
    obtain ⟨x11, ex11, hf⟩ := hf
    refine j_bald C ex11 dX4_sign_25 ?_
    refine j_goto (tgt := 30) C dX4_sign_26 (by decide) ?_
    obtain ⟨rfl, rfl⟩ := gSome hf
    exact j_iret C hr hw dX4_sign_30
def dkwX4_skips_1 : List UInt8 := [181, 0, 15, 28, 172]
abbrev dktX4_skips_1 : List UInt8 := dkwX4_skips_1 ++ []
def dkwX4_skips_0 : List UInt8 := [42, 182, 0, 34, 27, 160, 0, 7, 4, 167, 0, 4, 3, 61, 42, 89, 180, 0, 15, 28, 184, 0, 46, 96]
abbrev dktX4_skips_0 : List UInt8 := dkwX4_skips_0 ++ dktX4_skips_1
theorem dksX4_skips_0 : cX4_skips.data.toList.drop 0 = dktX4_skips_0 := by decide +kernel
theorem dksX4_skips_1 : cX4_skips.data.toList.drop 24 = dktX4_skips_1 := dk_seg dksX4_skips_0 24 rfl rfl
theorem dX4_skips_0 : decode cX4_skips 0 = .ok (.aload_n 0, 1) := dk_42 (dk_at dksX4_skips_0 0 rfl rfl)
theorem dX4_skips_1 : decode cX4_skips 1 = .ok (.invokevirtual 34, 3) := dk_182 0 34 (dk_at dksX4_skips_0 1 rfl rfl)
theorem dX4_skips_4 : decode cX4_skips 4 = .ok (.iload_n 1, 1) := dk_27 (dk_at dksX4_skips_0 4 rfl rfl)
theorem dX4_skips_5 : decode cX4_skips 5 = .ok (.if_icmp .ne 7, 3) := dk_160 0 7 (dk_at dksX4_skips_0 5 rfl rfl)
theorem dX4_skips_8 : decode cX4_skips 8 = .ok (.iconst 1, 1) := dk_4 (dk_at dksX4_skips_0 8 rfl rfl)
theorem dX4_skips_9 : decode cX4_skips 9 = .ok (.goto 4, 3) := dk_167 0 4 (dk_at dksX4_skips_0 9 rfl rfl)
theorem dX4_skips_12 : decode cX4_skips 12 = .ok (.iconst 0, 1) := dk_3 (dk_at dksX4_skips_0 12 rfl rfl)
theorem dX4_skips_13 : decode cX4_skips 13 = .ok (.istore_n 2, 1) := dk_61 (dk_at dksX4_skips_0 13 rfl rfl)
theorem dX4_skips_14 : decode cX4_skips 14 = .ok (.aload_n 0, 1) := dk_42 (dk_at dksX4_skips_0 14 rfl rfl)
theorem dX4_skips_15 : decode cX4_skips 15 = .ok (.dup, 1) := dk_89 (dk_at dksX4_skips_0 15 rfl rfl)
theorem dX4_skips_16 : decode cX4_skips 16 = .ok (.getfield 15, 3) := dk_180 0 15 (dk_at dksX4_skips_0 16 rfl rfl)
theorem dX4_skips_19 : decode cX4_skips 19 = .ok (.iload_n 2, 1) := dk_28 (dk_at dksX4_skips_0 19 rfl rfl)
theorem dX4_skips_20 : decode cX4_skips 20 = .ok (.invokestatic 46, 3) := dk_184 0 46 (dk_at dksX4_skips_0 20 rfl rfl)
theorem dX4_skips_23 : decode cX4_skips 23 = .ok (.iadd, 1) := dk_96 (dk_at dksX4_skips_0 23 rfl rfl)
theorem dX4_skips_24 : decode cX4_skips 24 = .ok (.putfield 15, 3) := dk_181 0 15 (dk_at dksX4_skips_1 0 rfl rfl)
theorem dX4_skips_27 : decode cX4_skips 27 = .ok (.iload_n 2, 1) := dk_28 (dk_at dksX4_skips_1 3 rfl rfl)
theorem dX4_skips_28 : decode cX4_skips 28 = .ok (.ireturn, 1) := dk_172 (dk_at dksX4_skips_1 4 rfl rfl)
theorem hd_X4_sign : (yX4_sign.cls ≠ "java/lang/invoke/MethodHandle" ∧ yX4_sign.cls ≠ "java/lang/invoke/VarHandle" ∧ (parseMethodDescriptor yX4_sign.desc).map (fun d => d.parameters.length) = some 0) := ⟨by decide +kernel, by decide +kernel, by decide +kernel⟩
theorem fk_4_0 : gFk 4 0 "I" false "WorkflowEngine$Reader" := fun Cn T N h => by
  have h : (RX4, TX4, 4) = (Cn, T, N) := Option.some.inj h
  cases h
  exact ⟨rfl, rfl, rfl⟩
def f_X4_skips (a0 : Nat) (p1 : Int32) (w0 : gw) : Option (Int32 × gw) := gB1 (gOb w0 a0 4) fun _ => gB2 (f_X4_sign a0  w0) fun x2 w1 => gBd (fun (x5 : Int32) (w4 : gw) => gB1 (gI w4 a0 4 0) fun x6 => gB2 (f_X0_bit x5 w4) fun x8 w7 => gB1 (gPut w7 a0 4 0 (gi (x6 + x8))) fun w9 => gB1 (gZ x5) fun _ => some (x5, w9)) fun k3 => if x2 = p1 then k3 (nI 1) w1 else k3 (nI 0) w1
set_option maxHeartbeats 4000000 in
set_option maxRecDepth 100000 in
theorem k_X4_skips {D : va_G} {dA : Nat → ClassId} {A : Nat → Prop} {K : Nat → Nat} {l : Launch} {h : Nat} (hh : 1 ≤ h) {a0 : Nat} {p1 : Int32} {w0 ww : gw} {rr : Int32} (hf : f_X4_skips a0 p1 w0 = some (rr, ww)) : gMet D dA A K l yX4_skips (ws_ yX4_skips cX4_skips 3 (some .boolean)) h [(ga (some a0)), (gi p1)] (some (gi rr)) w0 ww := by
  refine j_start (own := RX4) (by decide +kernel) rfl (Nat.le_of_ble_eq_true rfl) ?_
  intro p e R s m args below meth c C hr hin hw
  unfold f_X4_skips at hf
  show gJ D dA A K p l e R s m args below meth c (gEnd D dA A K below args s w0 (some (gi rr)) ww) 3 0 [(0, (ga (some a0))), (1, (gi p1))] [] w0
  refine j_aload_n C dX4_skips_0 rfl ?_
  replace hf := gB1_e hf
  obtain ⟨_, eo, hf⟩ := hf
  replace hf := gB2_e hf
  obtain ⟨x2, w1, ew1, hf⟩ := hf
  refine j_callV (As := []) (rest := []) (v := (some (gi x2))) C (by omega) (k_X4_sign (by omega) ew1) (gOb_e eo) rfl q233 q235 qs4 q95 q236 ⟨rfl, hd_X4_sign⟩ (by decide) rfl (Nat.le_of_ble_eq_true rfl) dX4_skips_1 ?_
  refine j_iload_n C dX4_skips_4 rfl ?_
  replace hf := gBd_x hf
  obtain ⟨k3, ek3, hf⟩ := hf
  have jk3 : ∀ (x5 : Int32) (w4 : gw), k3 x5 w4 = some (rr, ww) → gJ D dA A K p l e R s m args below meth c (gEnd D dA A K below args s w0 (some (gi rr)) ww) 3 13 [(0, (ga (some a0)))] [(gi x5)] w4 := by
    intro x5 w4 hf
    rw [ek3] at hf
    dsimp only at hf
    refine j_istore_n (lv' := [(2, (gi x5)), (0, (ga (some a0)))]) C dX4_skips_13 (by decide) rfl ?_
    refine j_aload_n C dX4_skips_14 rfl ?_
    refine j_dup C dX4_skips_15 ?_
    replace hf := gB1_e hf
    obtain ⟨x6, ex6, hf⟩ := hf
    refine j_get C fl_X4_15_4 dX4_skips_16 (gI_F ex6) ?_
    refine j_iload_n C dX4_skips_19 rfl ?_
    replace hf := gB2_e hf
    obtain ⟨x8, w7, ew7, hf⟩ := hf
    refine j_callSN (As := [(gi x5)]) (rest := [(gi x6), (ga (some a0))]) (v := (some (gi x8))) C (by omega) (k_X0_bit (by omega) ew7) nq346 q347 q91 q348 hd_X0_bit (by decide) rfl (Nat.le_of_ble_eq_true rfl) dX4_skips_20 ?_
    refine j_iadd C dX4_skips_23 ?_
    replace hf := gB1_e hf
    obtain ⟨w9, ew9, hf⟩ := hf
    refine j_put C fl_X4_15_4 tb_4 ew9 fk_4_0 (fit_I (x6 + x8)) dX4_skips_24 ?_
    refine j_iload_n C dX4_skips_27 rfl ?_
    replace hf := gB1_e hf
    obtain ⟨_, ez, hf⟩ := hf
    obtain ⟨rfl, rfl⟩ := gSome hf
    exact j_zret C hr (gZ_n (gZ_e ez)) hw dX4_skips_28
  clear ek3
  refine j_icmp_ne (tgt := 12) C dX4_skips_5 (by decide) (fun c10 => ?_) (fun c10 => ?_)
  · replace hf := gIf_f hf c10
    refine j_iconst (v := (nI 0)) C dX4_skips_12 (by decide) ?_
    refine j_sub (lv' := [(0, (ga (some a0)))]) (gL_cons rfl (gL_nil)) ?_
    exact jk3 _ _ hf
  · replace hf := gIf_t hf c10
    refine j_iconst (v := (nI 1)) C dX4_skips_8 (by decide) ?_
    refine j_goto (tgt := 13) C dX4_skips_9 (by decide) ?_
    refine j_sub (lv' := [(0, (ga (some a0)))]) (gL_cons rfl (gL_nil)) ?_
    exact jk3 _ _ hf
theorem dX8_depth_0 : decode cX8_depth 0 = .ok (.iconst 0, 1) := by decide +kernel
theorem dX8_depth_1 : decode cX8_depth 1 = .ok (.ireturn, 1) := by decide +kernel
def f_X8_depth (a0 : Nat) (w0 : gw) : Option (Int32 × gw) := some ((nI 0), w0)
set_option maxHeartbeats 4000000 in
set_option maxRecDepth 100000 in
theorem k_X8_depth {D : va_G} {dA : Nat → ClassId} {A : Nat → Prop} {K : Nat → Nat} {l : Launch} {h : Nat} (hh : 0 ≤ h) {a0 : Nat} {w0 ww : gw} {rr : Int32} (hf : f_X8_depth a0 w0 = some (rr, ww)) : gMet D dA A K l yX8_depth (ws_ yX8_depth cX8_depth 1 (some .int)) h [(ga (some a0))] (some (gi rr)) w0 ww := by
  refine j_start (own := RX8) (by decide +kernel) rfl (Nat.le_of_ble_eq_true rfl) ?_
  intro p e R s m args below meth c C hr hin hw
  unfold f_X8_depth at hf
  show gJ D dA A K p l e R s m args below meth c (gEnd D dA A K below args s w0 (some (gi rr)) ww) 1 0 [(0, (ga (some a0)))] [] w0
  refine j_iconst (v := (nI 0)) C dX8_depth_0 (by decide) ?_
  obtain ⟨rfl, rfl⟩ := gSome hf
  exact j_iret C hr hw dX8_depth_1
theorem dX8_width_0 : decode cX8_width 0 = .ok (.iconst 1, 1) := by decide +kernel
theorem dX8_width_1 : decode cX8_width 1 = .ok (.ireturn, 1) := by decide +kernel
def f_X8_width (a0 : Nat) (w0 : gw) : Option (Int32 × gw) := some ((nI 1), w0)
set_option maxHeartbeats 4000000 in
set_option maxRecDepth 100000 in
theorem k_X8_width {D : va_G} {dA : Nat → ClassId} {A : Nat → Prop} {K : Nat → Nat} {l : Launch} {h : Nat} (hh : 0 ≤ h) {a0 : Nat} {w0 ww : gw} {rr : Int32} (hf : f_X8_width a0 w0 = some (rr, ww)) : gMet D dA A K l yX8_width (ws_ yX8_width cX8_width 1 (some .int)) h [(ga (some a0))] (some (gi rr)) w0 ww := by
  refine j_start (own := RX8) (by decide +kernel) rfl (Nat.le_of_ble_eq_true rfl) ?_
  intro p e R s m args below meth c C hr hin hw
  unfold f_X8_width at hf
  show gJ D dA A K p l e R s m args below meth c (gEnd D dA A K below args s w0 (some (gi rr)) ww) 1 0 [(0, (ga (some a0)))] [] w0
  refine j_iconst (v := (nI 1)) C dX8_width_0 (by decide) ?_
  obtain ⟨rfl, rfl⟩ := gSome hf
  exact j_iret C hr hw dX8_width_1
def dkwX17_init_0 : List UInt8 := [42, 43, 181, 0, 1, 42, 183, 0, 7, 42, 44, 181, 0, 13, 177]
abbrev dktX17_init_0 : List UInt8 := dkwX17_init_0 ++ []
theorem dksX17_init_0 : cX17_init.data.toList.drop 0 = dktX17_init_0 := by decide +kernel
theorem dX17_init_0 : decode cX17_init 0 = .ok (.aload_n 0, 1) := dk_42 (dk_at dksX17_init_0 0 rfl rfl)
theorem dX17_init_1 : decode cX17_init 1 = .ok (.aload_n 1, 1) := dk_43 (dk_at dksX17_init_0 1 rfl rfl)
theorem dX17_init_2 : decode cX17_init 2 = .ok (.putfield 1, 3) := dk_181 0 1 (dk_at dksX17_init_0 2 rfl rfl)
theorem dX17_init_5 : decode cX17_init 5 = .ok (.aload_n 0, 1) := dk_42 (dk_at dksX17_init_0 5 rfl rfl)
theorem dX17_init_6 : decode cX17_init 6 = .ok (.invokespecial 7, 3) := dk_183 0 7 (dk_at dksX17_init_0 6 rfl rfl)
theorem dX17_init_9 : decode cX17_init 9 = .ok (.aload_n 0, 1) := dk_42 (dk_at dksX17_init_0 9 rfl rfl)
theorem dX17_init_10 : decode cX17_init 10 = .ok (.aload_n 2, 1) := dk_44 (dk_at dksX17_init_0 10 rfl rfl)
theorem dX17_init_11 : decode cX17_init 11 = .ok (.putfield 13, 3) := dk_181 0 13 (dk_at dksX17_init_0 11 rfl rfl)
theorem dX17_init_14 : decode cX17_init 14 = .ok (.return_, 1) := dk_177 (dk_at dksX17_init_0 14 rfl rfl)
theorem fl_X17_1_18 : gFL RX17 1 18 1 := gFL.mk (Cn := RX18) (T := TX18) (N := 7) (ref := "WorkflowEngine$Run") rfl in_X18 (by decide) q917 rfl rfl (Or.inl rfl)
theorem nm_18 : gNm TX18 7 := by
  unfold gNm
  decide +kernel
theorem tb_18 : gTb 18 := fun Cn T N h => by
  have h : (RX18, TX18, 7) = (Cn, T, N) := Option.some.inj h
  cases h
  exact ⟨nm_18, tyX18, tyX18_ok⟩
theorem fk_18_1 : gFk 18 1 "LWorkflowEngine;" true "WorkflowEngine$Run" := fun Cn T N h => by
  have h : (RX18, TX18, 7) = (Cn, T, N) := Option.some.inj h
  cases h
  exact ⟨rfl, rfl, rfl⟩
theorem fl_X17_13_18 : gFL RX17 13 18 0 := gFL.mk (Cn := RX18) (T := TX18) (N := 7) (ref := "WorkflowEngine$Run") rfl in_X18 (by decide) q904 rfl rfl (Or.inl rfl)
theorem fk_18_0 : gFk 18 0 "LWorkflowEngine$Instance;" true "WorkflowEngine$Run" := fun Cn T N h => by
  have h : (RX18, TX18, 7) = (Cn, T, N) := Option.some.inj h
  cases h
  exact ⟨rfl, rfl, rfl⟩
def f_X17_init_c18 (a0 : Nat) (p1 : Option Nat) (p2 : Option Nat) (w0 : gw) : Option (Unit × gw) := gB1 (gPut w0 a0 18 1 (ga p1)) fun w1 => gB1 (gPut w1 a0 18 0 (ga p2)) fun w2 => some ((), w2)
set_option maxHeartbeats 4000000 in
set_option maxRecDepth 100000 in
theorem k_X17_init_c18 {D : va_G} {dA : Nat → ClassId} {A : Nat → Prop} {K : Nat → Nat} {l : Launch} {h : Nat} (hh : 1 ≤ h) {a0 : Nat} {p1 : Option Nat} {p2 : Option Nat} {w0 ww : gw} {rr : Unit} (hf : f_X17_init_c18 a0 p1 p2 w0 = some (rr, ww)) : gMet D dA A K l yX17_init (ws_ yX17_init cX17_init 3 none) h [(ga (some a0)), (ga p1), (ga p2)] none w0 ww := by
  refine j_start (own := RX17) (by decide +kernel) rfl (Nat.le_of_ble_eq_true rfl) ?_
  intro p e R s m args below meth c C hr hin hw
  unfold f_X17_init_c18 at hf
  show gJ D dA A K p l e R s m args below meth c (gEnd D dA A K below args s w0 none ww) 3 0 [(0, (ga (some a0))), (1, (ga p1)), (2, (ga p2))] [] w0
  refine j_aload_n C dX17_init_0 rfl ?_
  refine j_aload_n C dX17_init_1 rfl ?_
  replace hf := gB1_e hf
  obtain ⟨w1, ew1, hf⟩ := hf
  refine j_putF C fl_X17_1_18 tb_18 hin ew1 fk_18_1 rfl (ft_LWorkflowEngine_ p1) dX17_init_2 ?_
  refine j_aload_n C dX17_init_5 rfl ?_
  refine j_objInit C (by omega) q881 q164 q165 (by decide) dX17_init_6 ?_
  refine j_aload_n C dX17_init_9 rfl ?_
  refine j_aload_n C dX17_init_10 rfl ?_
  replace hf := gB1_e hf
  obtain ⟨w2, ew2, hf⟩ := hf
  refine j_putF C fl_X17_13_18 tb_18 hin ew2 fk_18_0 rfl (ft_LWorkflowEngine_Instance_ p2) dX17_init_11 ?_
  obtain ⟨rfl, rfl⟩ := gSome hf
  exact j_vret C hr hw dX17_init_14
theorem fl_X17_1_20 : gFL RX17 1 20 1 := gFL.mk (Cn := RX20) (T := TX20) (N := 4) (ref := "WorkflowEngine$Run") rfl in_X20 (by decide) q917 rfl rfl (Or.inl rfl)
theorem nm_20 : gNm TX20 4 := by
  unfold gNm
  decide +kernel
theorem tb_20 : gTb 20 := fun Cn T N h => by
  have h : (RX20, TX20, 4) = (Cn, T, N) := Option.some.inj h
  cases h
  exact ⟨nm_20, tyX20, tyX20_ok⟩
theorem fk_20_1 : gFk 20 1 "LWorkflowEngine;" true "WorkflowEngine$Run" := fun Cn T N h => by
  have h : (RX20, TX20, 4) = (Cn, T, N) := Option.some.inj h
  cases h
  exact ⟨rfl, rfl, rfl⟩
theorem fl_X17_13_20 : gFL RX17 13 20 0 := gFL.mk (Cn := RX20) (T := TX20) (N := 4) (ref := "WorkflowEngine$Run") rfl in_X20 (by decide) q904 rfl rfl (Or.inl rfl)
theorem fk_20_0 : gFk 20 0 "LWorkflowEngine$Instance;" true "WorkflowEngine$Run" := fun Cn T N h => by
  have h : (RX20, TX20, 4) = (Cn, T, N) := Option.some.inj h
  cases h
  exact ⟨rfl, rfl, rfl⟩
def f_X17_init_c20 (a0 : Nat) (p1 : Option Nat) (p2 : Option Nat) (w0 : gw) : Option (Unit × gw) := gB1 (gPut w0 a0 20 1 (ga p1)) fun w1 => gB1 (gPut w1 a0 20 0 (ga p2)) fun w2 => some ((), w2)
set_option maxHeartbeats 4000000 in
set_option maxRecDepth 100000 in
theorem k_X17_init_c20 {D : va_G} {dA : Nat → ClassId} {A : Nat → Prop} {K : Nat → Nat} {l : Launch} {h : Nat} (hh : 1 ≤ h) {a0 : Nat} {p1 : Option Nat} {p2 : Option Nat} {w0 ww : gw} {rr : Unit} (hf : f_X17_init_c20 a0 p1 p2 w0 = some (rr, ww)) : gMet D dA A K l yX17_init (ws_ yX17_init cX17_init 3 none) h [(ga (some a0)), (ga p1), (ga p2)] none w0 ww := by
  refine j_start (own := RX17) (by decide +kernel) rfl (Nat.le_of_ble_eq_true rfl) ?_
  intro p e R s m args below meth c C hr hin hw
  unfold f_X17_init_c20 at hf
  show gJ D dA A K p l e R s m args below meth c (gEnd D dA A K below args s w0 none ww) 3 0 [(0, (ga (some a0))), (1, (ga p1)), (2, (ga p2))] [] w0
  refine j_aload_n C dX17_init_0 rfl ?_
  refine j_aload_n C dX17_init_1 rfl ?_
  replace hf := gB1_e hf
  obtain ⟨w1, ew1, hf⟩ := hf
  refine j_putF C fl_X17_1_20 tb_20 hin ew1 fk_20_1 rfl (ft_LWorkflowEngine_ p1) dX17_init_2 ?_
  refine j_aload_n C dX17_init_5 rfl ?_
  refine j_objInit C (by omega) q881 q164 q165 (by decide) dX17_init_6 ?_
  refine j_aload_n C dX17_init_9 rfl ?_
  refine j_aload_n C dX17_init_10 rfl ?_
  replace hf := gB1_e hf
  obtain ⟨w2, ew2, hf⟩ := hf
  refine j_putF C fl_X17_13_20 tb_20 hin ew2 fk_20_0 rfl (ft_LWorkflowEngine_Instance_ p2) dX17_init_11 ?_
  obtain ⟨rfl, rfl⟩ := gSome hf
  exact j_vret C hr hw dX17_init_14
theorem fl_X17_1_21 : gFL RX17 1 21 1 := gFL.mk (Cn := RX21) (T := TX21) (N := 5) (ref := "WorkflowEngine$Run") rfl in_X21 (by decide) q917 rfl rfl (Or.inl rfl)
theorem nm_21 : gNm TX21 5 := by
  unfold gNm
  decide +kernel
theorem tb_21 : gTb 21 := fun Cn T N h => by
  have h : (RX21, TX21, 5) = (Cn, T, N) := Option.some.inj h
  cases h
  exact ⟨nm_21, tyX21, tyX21_ok⟩
theorem fk_21_1 : gFk 21 1 "LWorkflowEngine;" true "WorkflowEngine$Run" := fun Cn T N h => by
  have h : (RX21, TX21, 5) = (Cn, T, N) := Option.some.inj h
  cases h
  exact ⟨rfl, rfl, rfl⟩
theorem fl_X17_13_21 : gFL RX17 13 21 0 := gFL.mk (Cn := RX21) (T := TX21) (N := 5) (ref := "WorkflowEngine$Run") rfl in_X21 (by decide) q904 rfl rfl (Or.inl rfl)
theorem fk_21_0 : gFk 21 0 "LWorkflowEngine$Instance;" true "WorkflowEngine$Run" := fun Cn T N h => by
  have h : (RX21, TX21, 5) = (Cn, T, N) := Option.some.inj h
  cases h
  exact ⟨rfl, rfl, rfl⟩
def f_X17_init_c21 (a0 : Nat) (p1 : Option Nat) (p2 : Option Nat) (w0 : gw) : Option (Unit × gw) := gB1 (gPut w0 a0 21 1 (ga p1)) fun w1 => gB1 (gPut w1 a0 21 0 (ga p2)) fun w2 => some ((), w2)
set_option maxHeartbeats 4000000 in
set_option maxRecDepth 100000 in
theorem k_X17_init_c21 {D : va_G} {dA : Nat → ClassId} {A : Nat → Prop} {K : Nat → Nat} {l : Launch} {h : Nat} (hh : 1 ≤ h) {a0 : Nat} {p1 : Option Nat} {p2 : Option Nat} {w0 ww : gw} {rr : Unit} (hf : f_X17_init_c21 a0 p1 p2 w0 = some (rr, ww)) : gMet D dA A K l yX17_init (ws_ yX17_init cX17_init 3 none) h [(ga (some a0)), (ga p1), (ga p2)] none w0 ww := by
  refine j_start (own := RX17) (by decide +kernel) rfl (Nat.le_of_ble_eq_true rfl) ?_
  intro p e R s m args below meth c C hr hin hw
  unfold f_X17_init_c21 at hf
  show gJ D dA A K p l e R s m args below meth c (gEnd D dA A K below args s w0 none ww) 3 0 [(0, (ga (some a0))), (1, (ga p1)), (2, (ga p2))] [] w0
  refine j_aload_n C dX17_init_0 rfl ?_
  refine j_aload_n C dX17_init_1 rfl ?_
  replace hf := gB1_e hf
  obtain ⟨w1, ew1, hf⟩ := hf
  refine j_putF C fl_X17_1_21 tb_21 hin ew1 fk_21_1 rfl (ft_LWorkflowEngine_ p1) dX17_init_2 ?_
  refine j_aload_n C dX17_init_5 rfl ?_
  refine j_objInit C (by omega) q881 q164 q165 (by decide) dX17_init_6 ?_
  refine j_aload_n C dX17_init_9 rfl ?_
  refine j_aload_n C dX17_init_10 rfl ?_
  replace hf := gB1_e hf
  obtain ⟨w2, ew2, hf⟩ := hf
  refine j_putF C fl_X17_13_21 tb_21 hin ew2 fk_21_0 rfl (ft_LWorkflowEngine_Instance_ p2) dX17_init_11 ?_
  obtain ⟨rfl, rfl⟩ := gSome hf
  exact j_vret C hr hw dX17_init_14
theorem fl_X17_1_22 : gFL RX17 1 22 1 := gFL.mk (Cn := RX22) (T := TX22) (N := 7) (ref := "WorkflowEngine$Run") rfl in_X22 (by decide) q917 rfl rfl (Or.inl rfl)
theorem nm_22 : gNm TX22 7 := by
  unfold gNm
  decide +kernel
theorem tb_22 : gTb 22 := fun Cn T N h => by
  have h : (RX22, TX22, 7) = (Cn, T, N) := Option.some.inj h
  cases h
  exact ⟨nm_22, tyX22, tyX22_ok⟩
theorem fk_22_1 : gFk 22 1 "LWorkflowEngine;" true "WorkflowEngine$Run" := fun Cn T N h => by
  have h : (RX22, TX22, 7) = (Cn, T, N) := Option.some.inj h
  cases h
  exact ⟨rfl, rfl, rfl⟩
theorem fl_X17_13_22 : gFL RX17 13 22 0 := gFL.mk (Cn := RX22) (T := TX22) (N := 7) (ref := "WorkflowEngine$Run") rfl in_X22 (by decide) q904 rfl rfl (Or.inl rfl)
theorem fk_22_0 : gFk 22 0 "LWorkflowEngine$Instance;" true "WorkflowEngine$Run" := fun Cn T N h => by
  have h : (RX22, TX22, 7) = (Cn, T, N) := Option.some.inj h
  cases h
  exact ⟨rfl, rfl, rfl⟩
def f_X17_init_c22 (a0 : Nat) (p1 : Option Nat) (p2 : Option Nat) (w0 : gw) : Option (Unit × gw) := gB1 (gPut w0 a0 22 1 (ga p1)) fun w1 => gB1 (gPut w1 a0 22 0 (ga p2)) fun w2 => some ((), w2)
set_option maxHeartbeats 4000000 in
set_option maxRecDepth 100000 in
theorem k_X17_init_c22 {D : va_G} {dA : Nat → ClassId} {A : Nat → Prop} {K : Nat → Nat} {l : Launch} {h : Nat} (hh : 1 ≤ h) {a0 : Nat} {p1 : Option Nat} {p2 : Option Nat} {w0 ww : gw} {rr : Unit} (hf : f_X17_init_c22 a0 p1 p2 w0 = some (rr, ww)) : gMet D dA A K l yX17_init (ws_ yX17_init cX17_init 3 none) h [(ga (some a0)), (ga p1), (ga p2)] none w0 ww := by
  refine j_start (own := RX17) (by decide +kernel) rfl (Nat.le_of_ble_eq_true rfl) ?_
  intro p e R s m args below meth c C hr hin hw
  unfold f_X17_init_c22 at hf
  show gJ D dA A K p l e R s m args below meth c (gEnd D dA A K below args s w0 none ww) 3 0 [(0, (ga (some a0))), (1, (ga p1)), (2, (ga p2))] [] w0
  refine j_aload_n C dX17_init_0 rfl ?_
  refine j_aload_n C dX17_init_1 rfl ?_
  replace hf := gB1_e hf
  obtain ⟨w1, ew1, hf⟩ := hf
  refine j_putF C fl_X17_1_22 tb_22 hin ew1 fk_22_1 rfl (ft_LWorkflowEngine_ p1) dX17_init_2 ?_
  refine j_aload_n C dX17_init_5 rfl ?_
  refine j_objInit C (by omega) q881 q164 q165 (by decide) dX17_init_6 ?_
  refine j_aload_n C dX17_init_9 rfl ?_
  refine j_aload_n C dX17_init_10 rfl ?_
  replace hf := gB1_e hf
  obtain ⟨w2, ew2, hf⟩ := hf
  refine j_putF C fl_X17_13_22 tb_22 hin ew2 fk_22_0 rfl (ft_LWorkflowEngine_Instance_ p2) dX17_init_11 ?_
  obtain ⟨rfl, rfl⟩ := gSome hf
  exact j_vret C hr hw dX17_init_14
theorem fl_X17_1_23 : gFL RX17 1 23 1 := gFL.mk (Cn := RX23) (T := TX23) (N := 8) (ref := "WorkflowEngine$Run") rfl in_X23 (by decide) q917 rfl rfl (Or.inl rfl)
theorem fk_23_1 : gFk 23 1 "LWorkflowEngine;" true "WorkflowEngine$Run" := fun Cn T N h => by
  have h : (RX23, TX23, 8) = (Cn, T, N) := Option.some.inj h
  cases h
  exact ⟨rfl, rfl, rfl⟩
theorem fl_X17_13_23 : gFL RX17 13 23 0 := gFL.mk (Cn := RX23) (T := TX23) (N := 8) (ref := "WorkflowEngine$Run") rfl in_X23 (by decide) q904 rfl rfl (Or.inl rfl)
theorem fk_23_0 : gFk 23 0 "LWorkflowEngine$Instance;" true "WorkflowEngine$Run" := fun Cn T N h => by
  have h : (RX23, TX23, 8) = (Cn, T, N) := Option.some.inj h
  cases h
  exact ⟨rfl, rfl, rfl⟩
def f_X17_init_c23 (a0 : Nat) (p1 : Option Nat) (p2 : Option Nat) (w0 : gw) : Option (Unit × gw) := gB1 (gPut w0 a0 23 1 (ga p1)) fun w1 => gB1 (gPut w1 a0 23 0 (ga p2)) fun w2 => some ((), w2)
set_option maxHeartbeats 4000000 in
set_option maxRecDepth 100000 in
theorem k_X17_init_c23 {D : va_G} {dA : Nat → ClassId} {A : Nat → Prop} {K : Nat → Nat} {l : Launch} {h : Nat} (hh : 1 ≤ h) {a0 : Nat} {p1 : Option Nat} {p2 : Option Nat} {w0 ww : gw} {rr : Unit} (hf : f_X17_init_c23 a0 p1 p2 w0 = some (rr, ww)) : gMet D dA A K l yX17_init (ws_ yX17_init cX17_init 3 none) h [(ga (some a0)), (ga p1), (ga p2)] none w0 ww := by
  refine j_start (own := RX17) (by decide +kernel) rfl (Nat.le_of_ble_eq_true rfl) ?_
  intro p e R s m args below meth c C hr hin hw
  unfold f_X17_init_c23 at hf
  show gJ D dA A K p l e R s m args below meth c (gEnd D dA A K below args s w0 none ww) 3 0 [(0, (ga (some a0))), (1, (ga p1)), (2, (ga p2))] [] w0
  refine j_aload_n C dX17_init_0 rfl ?_
  refine j_aload_n C dX17_init_1 rfl ?_
  replace hf := gB1_e hf
  obtain ⟨w1, ew1, hf⟩ := hf
  refine j_putF C fl_X17_1_23 tb_23 hin ew1 fk_23_1 rfl (ft_LWorkflowEngine_ p1) dX17_init_2 ?_
  refine j_aload_n C dX17_init_5 rfl ?_
  refine j_objInit C (by omega) q881 q164 q165 (by decide) dX17_init_6 ?_
  refine j_aload_n C dX17_init_9 rfl ?_
  refine j_aload_n C dX17_init_10 rfl ?_
  replace hf := gB1_e hf
  obtain ⟨w2, ew2, hf⟩ := hf
  refine j_putF C fl_X17_13_23 tb_23 hin ew2 fk_23_0 rfl (ft_LWorkflowEngine_Instance_ p2) dX17_init_11 ?_
  obtain ⟨rfl, rfl⟩ := gSome hf
  exact j_vret C hr hw dX17_init_14
theorem fl_X17_1_24 : gFL RX17 1 24 1 := gFL.mk (Cn := RX24) (T := TX24) (N := 5) (ref := "WorkflowEngine$Run") rfl in_X24 (by decide) q917 rfl rfl (Or.inl rfl)
theorem nm_24 : gNm TX24 5 := by
  unfold gNm
  decide +kernel
theorem tb_24 : gTb 24 := fun Cn T N h => by
  have h : (RX24, TX24, 5) = (Cn, T, N) := Option.some.inj h
  cases h
  exact ⟨nm_24, tyX24, tyX24_ok⟩
theorem fk_24_1 : gFk 24 1 "LWorkflowEngine;" true "WorkflowEngine$Run" := fun Cn T N h => by
  have h : (RX24, TX24, 5) = (Cn, T, N) := Option.some.inj h
  cases h
  exact ⟨rfl, rfl, rfl⟩
theorem fl_X17_13_24 : gFL RX17 13 24 0 := gFL.mk (Cn := RX24) (T := TX24) (N := 5) (ref := "WorkflowEngine$Run") rfl in_X24 (by decide) q904 rfl rfl (Or.inl rfl)
theorem fk_24_0 : gFk 24 0 "LWorkflowEngine$Instance;" true "WorkflowEngine$Run" := fun Cn T N h => by
  have h : (RX24, TX24, 5) = (Cn, T, N) := Option.some.inj h
  cases h
  exact ⟨rfl, rfl, rfl⟩
def f_X17_init_c24 (a0 : Nat) (p1 : Option Nat) (p2 : Option Nat) (w0 : gw) : Option (Unit × gw) := gB1 (gPut w0 a0 24 1 (ga p1)) fun w1 => gB1 (gPut w1 a0 24 0 (ga p2)) fun w2 => some ((), w2)
set_option maxHeartbeats 4000000 in
set_option maxRecDepth 100000 in
theorem k_X17_init_c24 {D : va_G} {dA : Nat → ClassId} {A : Nat → Prop} {K : Nat → Nat} {l : Launch} {h : Nat} (hh : 1 ≤ h) {a0 : Nat} {p1 : Option Nat} {p2 : Option Nat} {w0 ww : gw} {rr : Unit} (hf : f_X17_init_c24 a0 p1 p2 w0 = some (rr, ww)) : gMet D dA A K l yX17_init (ws_ yX17_init cX17_init 3 none) h [(ga (some a0)), (ga p1), (ga p2)] none w0 ww := by
  refine j_start (own := RX17) (by decide +kernel) rfl (Nat.le_of_ble_eq_true rfl) ?_
  intro p e R s m args below meth c C hr hin hw
  unfold f_X17_init_c24 at hf
  show gJ D dA A K p l e R s m args below meth c (gEnd D dA A K below args s w0 none ww) 3 0 [(0, (ga (some a0))), (1, (ga p1)), (2, (ga p2))] [] w0
  refine j_aload_n C dX17_init_0 rfl ?_
  refine j_aload_n C dX17_init_1 rfl ?_
  replace hf := gB1_e hf
  obtain ⟨w1, ew1, hf⟩ := hf
  refine j_putF C fl_X17_1_24 tb_24 hin ew1 fk_24_1 rfl (ft_LWorkflowEngine_ p1) dX17_init_2 ?_
  refine j_aload_n C dX17_init_5 rfl ?_
  refine j_objInit C (by omega) q881 q164 q165 (by decide) dX17_init_6 ?_
  refine j_aload_n C dX17_init_9 rfl ?_
  refine j_aload_n C dX17_init_10 rfl ?_
  replace hf := gB1_e hf
  obtain ⟨w2, ew2, hf⟩ := hf
  refine j_putF C fl_X17_13_24 tb_24 hin ew2 fk_24_0 rfl (ft_LWorkflowEngine_Instance_ p2) dX17_init_11 ?_
  obtain ⟨rfl, rfl⟩ := gSome hf
  exact j_vret C hr hw dX17_init_14
def dkwX8_init_0 : List UInt8 := [42, 183, 0, 1, 42, 27, 181, 0, 7, 177]
abbrev dktX8_init_0 : List UInt8 := dkwX8_init_0 ++ []
theorem dksX8_init_0 : cX8_init.data.toList.drop 0 = dktX8_init_0 := by decide +kernel
theorem dX8_init_0 : decode cX8_init 0 = .ok (.aload_n 0, 1) := dk_42 (dk_at dksX8_init_0 0 rfl rfl)
theorem dX8_init_1 : decode cX8_init 1 = .ok (.invokespecial 1, 3) := dk_183 0 1 (dk_at dksX8_init_0 1 rfl rfl)
theorem dX8_init_4 : decode cX8_init 4 = .ok (.aload_n 0, 1) := dk_42 (dk_at dksX8_init_0 4 rfl rfl)
theorem dX8_init_5 : decode cX8_init 5 = .ok (.iload_n 1, 1) := dk_27 (dk_at dksX8_init_0 5 rfl rfl)
theorem dX8_init_6 : decode cX8_init 6 = .ok (.putfield 7, 3) := dk_181 0 7 (dk_at dksX8_init_0 6 rfl rfl)
theorem dX8_init_9 : decode cX8_init 9 = .ok (.return_, 1) := dk_177 (dk_at dksX8_init_0 9 rfl rfl)
theorem fl_X8_7_9 : gFL RX8 7 9 0 := gFL.mk (Cn := RX9) (T := TX9) (N := 5) (ref := "WorkflowEngine$Node") rfl in_X9 (by decide) q371 rfl rfl (Or.inl rfl)
theorem nm_9 : gNm TX9 5 := by
  unfold gNm
  decide +kernel
theorem tb_9 : gTb 9 := fun Cn T N h => by
  have h : (RX9, TX9, 5) = (Cn, T, N) := Option.some.inj h
  cases h
  exact ⟨nm_9, tyX9, tyX9_ok⟩
theorem fk_9_0 : gFk 9 0 "I" true "WorkflowEngine$Node" := fun Cn T N h => by
  have h : (RX9, TX9, 5) = (Cn, T, N) := Option.some.inj h
  cases h
  exact ⟨rfl, rfl, rfl⟩
def f_X8_init_c9 (a0 : Nat) (p1 : Int32) (w0 : gw) : Option (Unit × gw) := gB1 (gPut w0 a0 9 0 (gi p1)) fun w1 => some ((), w1)
set_option maxHeartbeats 4000000 in
set_option maxRecDepth 100000 in
theorem k_X8_init_c9 {D : va_G} {dA : Nat → ClassId} {A : Nat → Prop} {K : Nat → Nat} {l : Launch} {h : Nat} (hh : 1 ≤ h) {a0 : Nat} {p1 : Int32} {w0 ww : gw} {rr : Unit} (hf : f_X8_init_c9 a0 p1 w0 = some (rr, ww)) : gMet D dA A K l yX8_init (ws_ yX8_init cX8_init 2 none) h [(ga (some a0)), (gi p1)] none w0 ww := by
  refine j_start (own := RX8) (by decide +kernel) rfl (Nat.le_of_ble_eq_true rfl) ?_
  intro p e R s m args below meth c C hr hin hw
  unfold f_X8_init_c9 at hf
  show gJ D dA A K p l e R s m args below meth c (gEnd D dA A K below args s w0 none ww) 2 0 [(0, (ga (some a0))), (1, (gi p1))] [] w0
  refine j_aload_n C dX8_init_0 rfl ?_
  refine j_objInit C (by omega) q361 q164 q165 (by decide) dX8_init_1 ?_
  refine j_aload_n C dX8_init_4 rfl ?_
  refine j_iload_n C dX8_init_5 rfl ?_
  replace hf := gB1_e hf
  obtain ⟨w1, ew1, hf⟩ := hf
  refine j_putF C fl_X8_7_9 tb_9 hin ew1 fk_9_0 rfl (fit_I p1) dX8_init_6 ?_
  obtain ⟨rfl, rfl⟩ := gSome hf
  exact j_vret C hr hw dX8_init_9
