set_option maxRecDepth 100000
theorem dX34_run_0 : decode cX34_run 0 = .ok (.aload_n 3, 1) := by decide +kernel
theorem dX34_run_1 : decode cX34_run 1 = .ok (.getfield 11, 3) := by decide +kernel
theorem dX34_run_4 : decode cX34_run 4 = .ok (.lstore 4, 2) := by decide +kernel
theorem dX34_run_6 : decode cX34_run 6 = .ok (.aload_n 3, 1) := by decide +kernel
theorem dX34_run_7 : decode cX34_run 7 = .ok (.aload_n 3, 1) := by decide +kernel
theorem dX34_run_8 : decode cX34_run 8 = .ok (.getfield 17, 3) := by decide +kernel
theorem dX34_run_11 : decode cX34_run 11 = .ok (.putfield 11, 3) := by decide +kernel
theorem dX34_run_14 : decode cX34_run 14 = .ok (.aload_n 3, 1) := by decide +kernel
theorem dX34_run_15 : decode cX34_run 15 = .ok (.lload 4, 2) := by decide +kernel
theorem dX34_run_17 : decode cX34_run 17 = .ok (.putfield 17, 3) := by decide +kernel
theorem dX34_run_20 : decode cX34_run 20 = .ok (.aload_n 3, 1) := by decide +kernel
theorem dX34_run_21 : decode cX34_run 21 = .ok (.aload_n 3, 1) := by decide +kernel
theorem dX34_run_22 : decode cX34_run 22 = .ok (.getfield 11, 3) := by decide +kernel
theorem dX34_run_25 : decode cX34_run 25 = .ok (.invokevirtual 20, 3) := by decide +kernel
theorem dX34_run_28 : decode cX34_run 28 = .ok (.iconst 1, 1) := by decide +kernel
theorem dX34_run_29 : decode cX34_run 29 = .ok (.ireturn, 1) := by decide +kernel
theorem zy_X34_run : yX34_run.cls ≠ "java/lang/invoke/MethodHandle" ∧ yX34_run.cls ≠ "java/lang/invoke/VarHandle" ∧ (parseMethodDescriptor yX34_run.desc).map (fun d => d.parameters.length) = some 3 := by decide +kernel
theorem w_fX34_run_36 {K : zK} (E : zE K cX34_run "RingHouse$Exchange" (some .boolean) 1) (hN : zNl K = 6) (hT : zTr K = (some 0)) (x2 : Int) (x3 : Int) : zR K 0 [(0, 16, 36), (1, 14, 0), (2, 9, x2), (3, 11, x3)] [] (fX34_run_36 x2 x3) := by
  refine r_aload_n E dX34_run_0 rfl 3 rfl ?_
  refine r_nn E (fun hn1 => ?_)
  refine r_getN E zc_11 zt_1000 dX34_run_1 q686 zr_11 (zg_1000 _) hn1 (fun v2 => ?_)
  refine r_lstore (ls' := [(4, 1, v2), (0, 16, 36), (1, 14, 0), (2, 9, x2), (3, 11, x3)]) E dX34_run_4 (by rw [hN]; decide) rfl ?_
  refine r_aload_n E dX34_run_6 rfl 4 rfl ?_
  refine r_aload_n E dX34_run_7 rfl 4 rfl ?_
  refine r_getN E zc_11 zt_1001 dX34_run_8 q715 zr_11 (zg_1001 _) hn1 (fun v3 => ?_)
  refine r_putN E zc_11 zt_1000 zo_1000 dX34_run_11 q686 zr_11 zw_X9 zp_1000 (fun _ => rfl) (fun _ => rfl) hn1 ?_
  refine r_aload_n E dX34_run_14 rfl 4 rfl ?_
  refine r_lload E dX34_run_15 0 rfl ?_
  refine r_putN E zc_11 zt_1001 zo_1001 dX34_run_17 q715 zr_11 zw_X9 zp_1001 (fun _ => rfl) (fun _ => rfl) hn1 ?_
  refine r_aload_n E dX34_run_20 rfl 4 rfl ?_
  refine r_aload_n E dX34_run_21 rfl 4 rfl ?_
  refine r_getN E zc_11 zt_1000 dX34_run_22 q686 zr_11 (zg_1000 _) hn1 (fun v4 => ?_)
  refine r_callV E [(1, v4)] [] rfl zc_11 zr_11 (fun o _ => ⟨_, zw_X9.1 o, rfl⟩) (lw_V q2434 q2367 q2368 q236 q2369) dX34_run_25 zy_X9_tell rfl (by omega) (by decide) (Nat.le_of_ble_eq_true rfl) hn1 (fun l G => k_fX9_tell l G x3 v4 hn1) (fun _ => ?_)
  refine r_iconst E dX34_run_28 (zkI (by decide) (by decide)) ?_
  exact r_zreturn E rfl hT (by decide) dX34_run_29
theorem k_fX34_run_36 (l : Launch) (G : zG) (x2 : Int) (x3 : Int) : zCt l G yX34_run cX34_run 6 (some .boolean) 1 [(16, 36), (14, 0), (9, x2), (11, x3)] (some 0) (fX34_run_36 x2 x3) := zCt.of (by decide) (Nat.le_of_ble_eq_true rfl) (fun K E _ _ hN hT => w_fX34_run_36 E hN hT x2 x3)
theorem dX35_run_0 : decode cX35_run 0 = .ok (.aload_n 3, 1) := by decide +kernel
theorem dX35_run_1 : decode cX35_run 1 = .ok (.aload_n 3, 1) := by decide +kernel
theorem dX35_run_2 : decode cX35_run 2 = .ok (.getfield 11, 3) := by decide +kernel
theorem dX35_run_5 : decode cX35_run 5 = .ok (.lneg, 1) := by decide +kernel
theorem dX35_run_6 : decode cX35_run 6 = .ok (.ldc2_w 17, 3) := by decide +kernel
theorem dX35_run_9 : decode cX35_run 9 = .ok (.land, 1) := by decide +kernel
theorem dX35_run_10 : decode cX35_run 10 = .ok (.putfield 11, 3) := by decide +kernel
theorem dX35_run_13 : decode cX35_run 13 = .ok (.aload_n 3, 1) := by decide +kernel
theorem dX35_run_14 : decode cX35_run 14 = .ok (.aload_n 3, 1) := by decide +kernel
theorem dX35_run_15 : decode cX35_run 15 = .ok (.getfield 11, 3) := by decide +kernel
theorem dX35_run_18 : decode cX35_run 18 = .ok (.invokevirtual 19, 3) := by decide +kernel
theorem dX35_run_21 : decode cX35_run 21 = .ok (.iconst 1, 1) := by decide +kernel
theorem dX35_run_22 : decode cX35_run 22 = .ok (.ireturn, 1) := by decide +kernel
theorem zy_X35_run : yX35_run.cls ≠ "java/lang/invoke/MethodHandle" ∧ yX35_run.cls ≠ "java/lang/invoke/VarHandle" ∧ (parseMethodDescriptor yX35_run.desc).map (fun d => d.parameters.length) = some 3 := by decide +kernel
theorem w_fX35_run_37 {K : zK} (E : zE K cX35_run "RingHouse$Negate" (some .boolean) 1) (hN : zNl K = 4) (hT : zTr K = (some 0)) (x2 : Int) (x3 : Int) : zR K 0 [(0, 16, 37), (1, 14, 0), (2, 9, x2), (3, 11, x3)] [] (fX35_run_37 x2 x3) := by
  refine r_aload_n E dX35_run_0 rfl 3 rfl ?_
  refine r_aload_n E dX35_run_1 rfl 3 rfl ?_
  refine r_nn E (fun hn1 => ?_)
  refine r_getN E zc_11 zt_1000 dX35_run_2 q690 zr_11 (zg_1000 _) hn1 (fun v2 => ?_)
  refine r_lneg E dX35_run_5 ?_
  refine r_ldc2 (v := 68719476735) E dX35_run_6 q2471 (by decide) (zkJ (by decide) (by decide)) ?_
  refine r_lmask (P := 68719476736) E 36 (by decide) (by decide) (by decide) dX35_run_9 ?_
  refine r_putN E zc_11 zt_1000 zo_1000 dX35_run_10 q690 zr_11 zw_X9 zp_1000 (fun _ => rfl) (fun _ => rfl) hn1 ?_
  refine r_aload_n E dX35_run_13 rfl 3 rfl ?_
  refine r_aload_n E dX35_run_14 rfl 3 rfl ?_
  refine r_getN E zc_11 zt_1000 dX35_run_15 q690 zr_11 (zg_1000 _) hn1 (fun v3 => ?_)
  refine r_callV E [(1, v3)] [] rfl zc_11 zr_11 (fun o _ => ⟨_, zw_X9.1 o, rfl⟩) (lw_V q2472 q2367 q2368 q236 q2369) dX35_run_18 zy_X9_tell rfl (by omega) (by decide) (Nat.le_of_ble_eq_true rfl) hn1 (fun l G => k_fX9_tell l G x3 v3 hn1) (fun _ => ?_)
  refine r_iconst E dX35_run_21 (zkI (by decide) (by decide)) ?_
  exact r_zreturn E rfl hT (by decide) dX35_run_22
theorem k_fX35_run_37 (l : Launch) (G : zG) (x2 : Int) (x3 : Int) : zCt l G yX35_run cX35_run 4 (some .boolean) 1 [(16, 37), (14, 0), (9, x2), (11, x3)] (some 0) (fX35_run_37 x2 x3) := zCt.of (by decide) (Nat.le_of_ble_eq_true rfl) (fun K E _ _ hN hT => w_fX35_run_37 E hN hT x2 x3)
theorem dX12_at_0 : decode cX12_at 0 = .ok (.aload_n 0, 1) := by decide +kernel
theorem dX12_at_1 : decode cX12_at 1 = .ok (.iload_n 1, 1) := by decide +kernel
theorem dX12_at_2 : decode cX12_at 2 = .ok (.putfield 321, 3) := by decide +kernel
theorem dX12_at_5 : decode cX12_at 5 = .ok (.aload_n 0, 1) := by decide +kernel
theorem dX12_at_6 : decode cX12_at 6 = .ok (.iload_n 2, 1) := by decide +kernel
theorem dX12_at_7 : decode cX12_at 7 = .ok (.putfield 324, 3) := by decide +kernel
theorem dX12_at_10 : decode cX12_at 10 = .ok (.aload_n 0, 1) := by decide +kernel
theorem dX12_at_11 : decode cX12_at 11 = .ok (.iload_n 3, 1) := by decide +kernel
theorem dX12_at_12 : decode cX12_at 12 = .ok (.putfield 335, 3) := by decide +kernel
theorem dX12_at_15 : decode cX12_at 15 = .ok (.return_, 1) := by decide +kernel
theorem zy_X12_at : yX12_at.cls ≠ "java/lang/invoke/MethodHandle" ∧ yX12_at.cls ≠ "java/lang/invoke/VarHandle" ∧ (parseMethodDescriptor yX12_at.desc).map (fun d => d.parameters.length) = some 3 := by decide +kernel
theorem w_fX12_at {K : zK} (E : zE K cX12_at "RingHouse$Machine" none 0) (hN : zNl K = 4) (hT : zTr K = none) (x1 : Int) (x2 : Int) (x3 : Int) : zR K 0 [(0, 14, 0), (1, 0, x1), (2, 0, x2), (3, 0, x3)] [] (fX12_at x1 x2 x3) := by
  refine r_aload_n E dX12_at_0 rfl 0 rfl ?_
  refine r_iload_n E dX12_at_1 rfl 1 rfl ?_
  refine r_put E zc_14 zt_1308 zo_1308 dX12_at_2 q1559 zr_14 zw_X12 zp_1308 (fun _ => rfl) (fun _ => rfl) (by decide) ?_
  refine r_aload_n E dX12_at_5 rfl 0 rfl ?_
  refine r_iload_n E dX12_at_6 rfl 2 rfl ?_
  refine r_put E zc_14 zt_1309 zo_1309 dX12_at_7 q1569 zr_14 zw_X12 zp_1309 (fun _ => rfl) (fun _ => rfl) (by decide) ?_
  refine r_aload_n E dX12_at_10 rfl 0 rfl ?_
  refine r_iload_n E dX12_at_11 rfl 3 rfl ?_
  refine r_put E zc_14 zt_1310 zo_1310 dX12_at_12 q1576 zr_14 zw_X12 zp_1310 (fun _ => rfl) (fun _ => rfl) (by decide) ?_
  exact r_return E rfl hT dX12_at_15
theorem k_fX12_at (l : Launch) (G : zG) (x1 : Int) (x2 : Int) (x3 : Int) : zCt l G yX12_at cX12_at 4 none 0 [(14, 0), (0, x1), (0, x2), (0, x3)] none (fX12_at x1 x2 x3) := zCt.of (by decide) (Nat.le_of_ble_eq_true rfl) (fun K E _ _ hN hT => w_fX12_at E hN hT x1 x2 x3)
theorem dX0_isPointer_0 : decode cX0_isPointer 0 = .ok (.lload_n 0, 1) := by decide +kernel
theorem dX0_isPointer_1 : decode cX0_isPointer 1 = .ok (.bipush 33, 2) := by decide +kernel
theorem dX0_isPointer_3 : decode cX0_isPointer 3 = .ok (.lshr, 1) := by decide +kernel
theorem dX0_isPointer_4 : decode cX0_isPointer 4 = .ok (.ldc2_w 21, 3) := by decide +kernel
theorem dX0_isPointer_7 : decode cX0_isPointer 7 = .ok (.lcmp, 1) := by decide +kernel
theorem dX0_isPointer_8 : decode cX0_isPointer 8 = .ok (.ifCond .ne 20, 3) := by decide +kernel
theorem dX0_isPointer_11 : decode cX0_isPointer 11 = .ok (.lload_n 0, 1) := by decide +kernel
theorem dX0_isPointer_12 : decode cX0_isPointer 12 = .ok (.bipush 18, 2) := by decide +kernel
theorem dX0_isPointer_14 : decode cX0_isPointer 14 = .ok (.lshr, 1) := by decide +kernel
theorem dX0_isPointer_15 : decode cX0_isPointer 15 = .ok (.ldc2_w 13, 3) := by decide +kernel
theorem dX0_isPointer_18 : decode cX0_isPointer 18 = .ok (.land, 1) := by decide +kernel
theorem dX0_isPointer_19 : decode cX0_isPointer 19 = .ok (.lconst 0, 1) := by decide +kernel
theorem dX0_isPointer_20 : decode cX0_isPointer 20 = .ok (.lcmp, 1) := by decide +kernel
theorem dX0_isPointer_21 : decode cX0_isPointer 21 = .ok (.ifCond .ne 7, 3) := by decide +kernel
theorem dX0_isPointer_24 : decode cX0_isPointer 24 = .ok (.iconst 1, 1) := by decide +kernel
theorem dX0_isPointer_25 : decode cX0_isPointer 25 = .ok (.goto 4, 3) := by decide +kernel
theorem dX0_isPointer_28 : decode cX0_isPointer 28 = .ok (.iconst 0, 1) := by decide +kernel
theorem dX0_isPointer_29 : decode cX0_isPointer 29 = .ok (.ireturn, 1) := by decide +kernel
theorem zy_X0_isPointer : yX0_isPointer.cls ≠ "java/lang/invoke/MethodHandle" ∧ yX0_isPointer.cls ≠ "java/lang/invoke/VarHandle" ∧ (parseMethodDescriptor yX0_isPointer.desc).map (fun d => d.parameters.length) = some 1 := by decide +kernel
theorem w_fX0_isPointer {K : zK} (E : zE K cX0_isPointer "RingHouse" (some .boolean) 0) (hN : zNl K = 2) (hT : zTr K = (some 0)) (x0 : Int) : zR K 0 [(0, 1, x0)] [] (fX0_isPointer x0) := by
  refine r_lload_n E dX0_isPointer_0 rfl 0 rfl ?_
  refine r_bipush E dX0_isPointer_1 (by decide) (zkI (by decide) (by decide)) ?_
  refine r_lshr (P := 8589934592) E (by decide) dX0_isPointer_3 ?_
  refine r_ldc2 (v := 5) E dX0_isPointer_4 q2339 (by decide) (zkJ (by decide) (by decide)) ?_
  refine r_lcmp_ne E 28 (by decide) dX0_isPointer_7 dX0_isPointer_8 (fun _ => ?_) (fun _ => ?_)
  · refine r_iconst E dX0_isPointer_28 (zkI (by decide) (by decide)) ?_
    exact r_zreturn E rfl hT (by decide) dX0_isPointer_29
  · refine r_lload_n E dX0_isPointer_11 rfl 0 rfl ?_
    refine r_bipush E dX0_isPointer_12 (by decide) (zkI (by decide) (by decide)) ?_
    refine r_lshr (P := 262144) E (by decide) dX0_isPointer_14 ?_
    refine r_ldc2 (v := 63) E dX0_isPointer_15 q1848 (by decide) (zkJ (by decide) (by decide)) ?_
    refine r_lmask (P := 64) E 6 (by decide) (by decide) (by decide) dX0_isPointer_18 ?_
    refine r_lconst (v := 0) E dX0_isPointer_19 (by decide) (zkJ (by decide) (by decide)) ?_
    refine r_lcmp_ne E 28 (by decide) dX0_isPointer_20 dX0_isPointer_21 (fun _ => ?_) (fun _ => ?_)
    · refine r_iconst E dX0_isPointer_28 (zkI (by decide) (by decide)) ?_
      exact r_zreturn E rfl hT (by decide) dX0_isPointer_29
    · refine r_iconst E dX0_isPointer_24 (zkI (by decide) (by decide)) ?_
      refine r_goto E 29 (by decide) dX0_isPointer_25 ?_
      exact r_zreturn E rfl hT (by decide) dX0_isPointer_29
theorem k_fX0_isPointer (l : Launch) (G : zG) (x0 : Int) : zCt l G yX0_isPointer cX0_isPointer 2 (some .boolean) 0 [(1, x0)] (some 0) (fX0_isPointer x0) := zCt.of (by decide) (Nat.le_of_ble_eq_true rfl) (fun K E _ _ hN hT => w_fX0_isPointer E hN hT x0)
theorem dX0_numberOf_0 : decode cX0_numberOf 0 = .ok (.lload_n 0, 1) := by decide +kernel
theorem dX0_numberOf_1 : decode cX0_numberOf 1 = .ok (.bipush 24, 2) := by decide +kernel
theorem dX0_numberOf_3 : decode cX0_numberOf 3 = .ok (.lshr, 1) := by decide +kernel
theorem dX0_numberOf_4 : decode cX0_numberOf 4 = .ok (.ldc2_w 15, 3) := by decide +kernel
theorem dX0_numberOf_7 : decode cX0_numberOf 7 = .ok (.land, 1) := by decide +kernel
theorem dX0_numberOf_8 : decode cX0_numberOf 8 = .ok (.l2i, 1) := by decide +kernel
theorem dX0_numberOf_9 : decode cX0_numberOf 9 = .ok (.ireturn, 1) := by decide +kernel
theorem zy_X0_numberOf : yX0_numberOf.cls ≠ "java/lang/invoke/MethodHandle" ∧ yX0_numberOf.cls ≠ "java/lang/invoke/VarHandle" ∧ (parseMethodDescriptor yX0_numberOf.desc).map (fun d => d.parameters.length) = some 1 := by decide +kernel
theorem w_fX0_numberOf {K : zK} (E : zE K cX0_numberOf "RingHouse" (some .int) 0) (hN : zNl K = 2) (hT : zTr K = (some 0)) (x0 : Int) : zR K 0 [(0, 1, x0)] [] (fX0_numberOf x0) := by
  refine r_lload_n E dX0_numberOf_0 rfl 0 rfl ?_
  refine r_bipush E dX0_numberOf_1 (by decide) (zkI (by decide) (by decide)) ?_
  refine r_lshr (P := 16777216) E (by decide) dX0_numberOf_3 ?_
  refine r_ldc2 (v := 31) E dX0_numberOf_4 q1852 (by decide) (zkJ (by decide) (by decide)) ?_
  refine r_lmask (P := 32) E 5 (by decide) (by decide) (by decide) dX0_numberOf_7 ?_
  refine r_l2i E dX0_numberOf_8 ?_
  exact r_ireturn E rfl hT dX0_numberOf_9
theorem k_fX0_numberOf (l : Launch) (G : zG) (x0 : Int) : zCt l G yX0_numberOf cX0_numberOf 2 (some .int) 0 [(1, x0)] (some 0) (fX0_numberOf x0) := zCt.of (by decide) (Nat.le_of_ble_eq_true rfl) (fun K E _ _ hN hT => w_fX0_numberOf E hN hT x0)
theorem dX0_placeOf_0 : decode cX0_placeOf 0 = .ok (.lload_n 0, 1) := by decide +kernel
theorem dX0_placeOf_1 : decode cX0_placeOf 1 = .ok (.ldc2_w 7, 3) := by decide +kernel
theorem dX0_placeOf_4 : decode cX0_placeOf 4 = .ok (.land, 1) := by decide +kernel
theorem dX0_placeOf_5 : decode cX0_placeOf 5 = .ok (.l2i, 1) := by decide +kernel
theorem dX0_placeOf_6 : decode cX0_placeOf 6 = .ok (.ireturn, 1) := by decide +kernel
theorem zy_X0_placeOf : yX0_placeOf.cls ≠ "java/lang/invoke/MethodHandle" ∧ yX0_placeOf.cls ≠ "java/lang/invoke/VarHandle" ∧ (parseMethodDescriptor yX0_placeOf.desc).map (fun d => d.parameters.length) = some 1 := by decide +kernel
theorem w_fX0_placeOf {K : zK} (E : zE K cX0_placeOf "RingHouse" (some .int) 0) (hN : zNl K = 2) (hT : zTr K = (some 0)) (x0 : Int) : zR K 0 [(0, 1, x0)] [] (fX0_placeOf x0) := by
  refine r_lload_n E dX0_placeOf_0 rfl 0 rfl ?_
  refine r_ldc2 (v := 262143) E dX0_placeOf_1 q2129 (by decide) (zkJ (by decide) (by decide)) ?_
  refine r_lmask (P := 262144) E 18 (by decide) (by decide) (by decide) dX0_placeOf_4 ?_
  refine r_l2i E dX0_placeOf_5 ?_
  exact r_ireturn E rfl hT dX0_placeOf_6
theorem k_fX0_placeOf (l : Launch) (G : zG) (x0 : Int) : zCt l G yX0_placeOf cX0_placeOf 2 (some .int) 0 [(1, x0)] (some 0) (fX0_placeOf x0) := zCt.of (by decide) (Nat.le_of_ble_eq_true rfl) (fun K E _ _ hN hT => w_fX0_placeOf E hN hT x0)
theorem dX0_ringOf_0 : decode cX0_ringOf 0 = .ok (.lload_n 0, 1) := by decide +kernel
theorem dX0_ringOf_1 : decode cX0_ringOf 1 = .ok (.bipush 30, 2) := by decide +kernel
theorem dX0_ringOf_3 : decode cX0_ringOf 3 = .ok (.lshr, 1) := by decide +kernel
theorem dX0_ringOf_4 : decode cX0_ringOf 4 = .ok (.ldc2_w 25, 3) := by decide +kernel
theorem dX0_ringOf_7 : decode cX0_ringOf 7 = .ok (.land, 1) := by decide +kernel
theorem dX0_ringOf_8 : decode cX0_ringOf 8 = .ok (.l2i, 1) := by decide +kernel
theorem dX0_ringOf_9 : decode cX0_ringOf 9 = .ok (.ireturn, 1) := by decide +kernel
theorem zy_X0_ringOf : yX0_ringOf.cls ≠ "java/lang/invoke/MethodHandle" ∧ yX0_ringOf.cls ≠ "java/lang/invoke/VarHandle" ∧ (parseMethodDescriptor yX0_ringOf.desc).map (fun d => d.parameters.length) = some 1 := by decide +kernel
theorem w_fX0_ringOf {K : zK} (E : zE K cX0_ringOf "RingHouse" (some .int) 0) (hN : zNl K = 2) (hT : zTr K = (some 0)) (x0 : Int) : zR K 0 [(0, 1, x0)] [] (fX0_ringOf x0) := by
  refine r_lload_n E dX0_ringOf_0 rfl 0 rfl ?_
  refine r_bipush E dX0_ringOf_1 (by decide) (zkI (by decide) (by decide)) ?_
  refine r_lshr (P := 1073741824) E (by decide) dX0_ringOf_3 ?_
  refine r_ldc2 (v := 7) E dX0_ringOf_4 q2072 (by decide) (zkJ (by decide) (by decide)) ?_
  refine r_lmask (P := 8) E 3 (by decide) (by decide) (by decide) dX0_ringOf_7 ?_
  refine r_l2i E dX0_ringOf_8 ?_
  exact r_ireturn E rfl hT dX0_ringOf_9
theorem k_fX0_ringOf (l : Launch) (G : zG) (x0 : Int) : zCt l G yX0_ringOf cX0_ringOf 2 (some .int) 0 [(1, x0)] (some 0) (fX0_ringOf x0) := zCt.of (by decide) (Nat.le_of_ble_eq_true rfl) (fun K E _ _ hN hT => w_fX0_ringOf E hN hT x0)
theorem dX0_isChained_0 : decode cX0_isChained 0 = .ok (.lload_n 0, 1) := by decide +kernel
theorem dX0_isChained_1 : decode cX0_isChained 1 = .ok (.bipush 29, 2) := by decide +kernel
theorem dX0_isChained_3 : decode cX0_isChained 3 = .ok (.lshr, 1) := by decide +kernel
theorem dX0_isChained_4 : decode cX0_isChained 4 = .ok (.lconst 1, 1) := by decide +kernel
theorem dX0_isChained_5 : decode cX0_isChained 5 = .ok (.land, 1) := by decide +kernel
theorem dX0_isChained_6 : decode cX0_isChained 6 = .ok (.lconst 1, 1) := by decide +kernel
theorem dX0_isChained_7 : decode cX0_isChained 7 = .ok (.lcmp, 1) := by decide +kernel
theorem dX0_isChained_8 : decode cX0_isChained 8 = .ok (.ifCond .ne 7, 3) := by decide +kernel
theorem dX0_isChained_11 : decode cX0_isChained 11 = .ok (.iconst 1, 1) := by decide +kernel
theorem dX0_isChained_12 : decode cX0_isChained 12 = .ok (.goto 4, 3) := by decide +kernel
theorem dX0_isChained_15 : decode cX0_isChained 15 = .ok (.iconst 0, 1) := by decide +kernel
theorem dX0_isChained_16 : decode cX0_isChained 16 = .ok (.ireturn, 1) := by decide +kernel
theorem zy_X0_isChained : yX0_isChained.cls ≠ "java/lang/invoke/MethodHandle" ∧ yX0_isChained.cls ≠ "java/lang/invoke/VarHandle" ∧ (parseMethodDescriptor yX0_isChained.desc).map (fun d => d.parameters.length) = some 1 := by decide +kernel
theorem w_fX0_isChained {K : zK} (E : zE K cX0_isChained "RingHouse" (some .boolean) 0) (hN : zNl K = 2) (hT : zTr K = (some 0)) (x0 : Int) : zR K 0 [(0, 1, x0)] [] (fX0_isChained x0) := by
  refine r_lload_n E dX0_isChained_0 rfl 0 rfl ?_
  refine r_bipush E dX0_isChained_1 (by decide) (zkI (by decide) (by decide)) ?_
  refine r_lshr (P := 536870912) E (by decide) dX0_isChained_3 ?_
  refine r_lconst (v := 1) E dX0_isChained_4 (by decide) (zkJ (by decide) (by decide)) ?_
  refine r_lmask (P := 2) E 1 (by decide) (by decide) (by decide) dX0_isChained_5 ?_
  refine r_lconst (v := 1) E dX0_isChained_6 (by decide) (zkJ (by decide) (by decide)) ?_
  refine r_lcmp_ne E 15 (by decide) dX0_isChained_7 dX0_isChained_8 (fun _ => ?_) (fun _ => ?_)
  · refine r_iconst E dX0_isChained_15 (zkI (by decide) (by decide)) ?_
    exact r_zreturn E rfl hT (by decide) dX0_isChained_16
  · refine r_iconst E dX0_isChained_11 (zkI (by decide) (by decide)) ?_
    refine r_goto E 16 (by decide) dX0_isChained_12 ?_
    exact r_zreturn E rfl hT (by decide) dX0_isChained_16
theorem k_fX0_isChained (l : Launch) (G : zG) (x0 : Int) : zCt l G yX0_isChained cX0_isChained 2 (some .boolean) 0 [(1, x0)] (some 0) (fX0_isChained x0) := zCt.of (by decide) (Nat.le_of_ble_eq_true rfl) (fun K E _ _ hN hT => w_fX0_isChained E hN hT x0)
theorem dX12_indirect_0 : decode cX12_indirect 0 = .ok (.iconst 0, 1) := by decide +kernel
theorem dX12_indirect_1 : decode cX12_indirect 1 = .ok (.istore_n 1, 1) := by decide +kernel
theorem dX12_indirect_2 : decode cX12_indirect 2 = .ok (.iload_n 1, 1) := by decide +kernel
theorem dX12_indirect_3 : decode cX12_indirect 3 = .ok (.iconst 5, 1) := by decide +kernel
theorem dX12_indirect_4 : decode cX12_indirect 4 = .ok (.if_icmp .ge 140, 3) := by decide +kernel
theorem dX12_indirect_7 : decode cX12_indirect 7 = .ok (.aload_n 0, 1) := by decide +kernel
theorem dX12_indirect_8 : decode cX12_indirect 8 = .ok (.aload_n 0, 1) := by decide +kernel
theorem dX12_indirect_9 : decode cX12_indirect 9 = .ok (.getfield 321, 3) := by decide +kernel
theorem dX12_indirect_12 : decode cX12_indirect 12 = .ok (.aload_n 0, 1) := by decide +kernel
theorem dX12_indirect_13 : decode cX12_indirect 13 = .ok (.getfield 324, 3) := by decide +kernel
theorem dX12_indirect_16 : decode cX12_indirect 16 = .ok (.aload_n 0, 1) := by decide +kernel
theorem dX12_indirect_17 : decode cX12_indirect 17 = .ok (.getfield 335, 3) := by decide +kernel
theorem dX12_indirect_20 : decode cX12_indirect 20 = .ok (.iconst 1, 1) := by decide +kernel
theorem dX12_indirect_21 : decode cX12_indirect 21 = .ok (.invokevirtual 338, 3) := by decide +kernel
theorem dX12_indirect_24 : decode cX12_indirect 24 = .ok (.ifCond .ne 5, 3) := by decide +kernel
theorem dX12_indirect_27 : decode cX12_indirect 27 = .ok (.iconst 0, 1) := by decide +kernel
theorem dX12_indirect_28 : decode cX12_indirect 28 = .ok (.ireturn, 1) := by decide +kernel
theorem dX12_indirect_29 : decode cX12_indirect 29 = .ok (.aload_n 0, 1) := by decide +kernel
theorem dX12_indirect_30 : decode cX12_indirect 30 = .ok (.aload_n 0, 1) := by decide +kernel
theorem dX12_indirect_31 : decode cX12_indirect 31 = .ok (.getfield 321, 3) := by decide +kernel
theorem dX12_indirect_34 : decode cX12_indirect 34 = .ok (.aload_n 0, 1) := by decide +kernel
theorem dX12_indirect_35 : decode cX12_indirect 35 = .ok (.getfield 324, 3) := by decide +kernel
theorem dX12_indirect_38 : decode cX12_indirect 38 = .ok (.invokevirtual 341, 3) := by decide +kernel
theorem dX12_indirect_41 : decode cX12_indirect 41 = .ok (.lstore_n 2, 1) := by decide +kernel
theorem dX12_indirect_42 : decode cX12_indirect 42 = .ok (.lload_n 2, 1) := by decide +kernel
theorem dX12_indirect_43 : decode cX12_indirect 43 = .ok (.invokestatic 389, 3) := by decide +kernel
theorem dX12_indirect_46 : decode cX12_indirect 46 = .ok (.ifCond .ne 22, 3) := by decide +kernel
theorem dX12_indirect_49 : decode cX12_indirect 49 = .ok (.aload_n 0, 1) := by decide +kernel
theorem dX12_indirect_50 : decode cX12_indirect 50 = .ok (.bipush 9, 2) := by decide +kernel
theorem dX12_indirect_52 : decode cX12_indirect 52 = .ok (.aload_n 0, 1) := by decide +kernel
theorem dX12_indirect_53 : decode cX12_indirect 53 = .ok (.getfield 321, 3) := by decide +kernel
theorem dX12_indirect_56 : decode cX12_indirect 56 = .ok (.aload_n 0, 1) := by decide +kernel
theorem dX12_indirect_57 : decode cX12_indirect 57 = .ok (.getfield 324, 3) := by decide +kernel
theorem dX12_indirect_60 : decode cX12_indirect 60 = .ok (.aload_n 0, 1) := by decide +kernel
theorem dX12_indirect_61 : decode cX12_indirect 61 = .ok (.getfield 335, 3) := by decide +kernel
theorem dX12_indirect_64 : decode cX12_indirect 64 = .ok (.invokevirtual 272, 3) := by decide +kernel
theorem dX12_indirect_67 : decode cX12_indirect 67 = .ok (.ireturn, 1) := by decide +kernel
theorem dX12_indirect_68 : decode cX12_indirect 68 = .ok (.aload_n 0, 1) := by decide +kernel
theorem dX12_indirect_69 : decode cX12_indirect 69 = .ok (.getfield 321, 3) := by decide +kernel
theorem dX12_indirect_72 : decode cX12_indirect 72 = .ok (.bipush 8, 2) := by decide +kernel
theorem dX12_indirect_74 : decode cX12_indirect 74 = .ok (.if_icmp .ge 10, 3) := by decide +kernel
theorem dX12_indirect_77 : decode cX12_indirect 77 = .ok (.aload_n 0, 1) := by decide +kernel
theorem dX12_indirect_78 : decode cX12_indirect 78 = .ok (.getfield 321, 3) := by decide +kernel
theorem dX12_indirect_81 : decode cX12_indirect 81 = .ok (.goto 18, 3) := by decide +kernel
theorem dX12_indirect_84 : decode cX12_indirect 84 = .ok (.aload_n 0, 1) := by decide +kernel
theorem dX12_indirect_85 : decode cX12_indirect 85 = .ok (.getfield 246, 3) := by decide +kernel
theorem dX12_indirect_88 : decode cX12_indirect 88 = .ok (.getfield 276, 3) := by decide +kernel
theorem dX12_indirect_91 : decode cX12_indirect 91 = .ok (.aload_n 0, 1) := by decide +kernel
theorem dX12_indirect_92 : decode cX12_indirect 92 = .ok (.getfield 321, 3) := by decide +kernel
theorem dX12_indirect_95 : decode cX12_indirect 95 = .ok (.aaload, 1) := by decide +kernel
theorem dX12_indirect_96 : decode cX12_indirect 96 = .ok (.getfield 393, 3) := by decide +kernel
theorem dX12_indirect_99 : decode cX12_indirect 99 = .ok (.istore 4, 2) := by decide +kernel
theorem dX12_indirect_101 : decode cX12_indirect 101 = .ok (.aload_n 0, 1) := by decide +kernel
theorem dX12_indirect_102 : decode cX12_indirect 102 = .ok (.lload_n 2, 1) := by decide +kernel
theorem dX12_indirect_103 : decode cX12_indirect 103 = .ok (.invokestatic 396, 3) := by decide +kernel
theorem dX12_indirect_106 : decode cX12_indirect 106 = .ok (.lload_n 2, 1) := by decide +kernel
theorem dX12_indirect_107 : decode cX12_indirect 107 = .ok (.invokestatic 400, 3) := by decide +kernel
theorem dX12_indirect_110 : decode cX12_indirect 110 = .ok (.aload_n 0, 1) := by decide +kernel
theorem dX12_indirect_111 : decode cX12_indirect 111 = .ok (.getfield 335, 3) := by decide +kernel
theorem dX12_indirect_114 : decode cX12_indirect 114 = .ok (.lload_n 2, 1) := by decide +kernel
theorem dX12_indirect_115 : decode cX12_indirect 115 = .ok (.invokestatic 403, 3) := by decide +kernel
theorem dX12_indirect_118 : decode cX12_indirect 118 = .ok (.iload 4, 2) := by decide +kernel
theorem dX12_indirect_120 : decode cX12_indirect 120 = .ok (.invokestatic 375, 3) := by decide +kernel
theorem dX12_indirect_123 : decode cX12_indirect 123 = .ok (.invokestatic 375, 3) := by decide +kernel
theorem dX12_indirect_126 : decode cX12_indirect 126 = .ok (.invokevirtual 359, 3) := by decide +kernel
theorem dX12_indirect_129 : decode cX12_indirect 129 = .ok (.lload_n 2, 1) := by decide +kernel
theorem dX12_indirect_130 : decode cX12_indirect 130 = .ok (.invokestatic 406, 3) := by decide +kernel
theorem dX12_indirect_133 : decode cX12_indirect 133 = .ok (.ifCond .ne 5, 3) := by decide +kernel
theorem dX12_indirect_136 : decode cX12_indirect 136 = .ok (.iconst 1, 1) := by decide +kernel
theorem dX12_indirect_137 : decode cX12_indirect 137 = .ok (.ireturn, 1) := by decide +kernel
theorem dX12_indirect_138 : decode cX12_indirect 138 = .ok (.iinc 1 1, 3) := by decide +kernel
theorem dX12_indirect_141 : decode cX12_indirect 141 = .ok (.goto (-139), 3) := by decide +kernel
theorem dX12_indirect_144 : decode cX12_indirect 144 = .ok (.aload_n 0, 1) := by decide +kernel
theorem dX12_indirect_145 : decode cX12_indirect 145 = .ok (.bipush 10, 2) := by decide +kernel
theorem dX12_indirect_147 : decode cX12_indirect 147 = .ok (.aload_n 0, 1) := by decide +kernel
theorem dX12_indirect_148 : decode cX12_indirect 148 = .ok (.getfield 321, 3) := by decide +kernel
theorem dX12_indirect_151 : decode cX12_indirect 151 = .ok (.aload_n 0, 1) := by decide +kernel
theorem dX12_indirect_152 : decode cX12_indirect 152 = .ok (.getfield 324, 3) := by decide +kernel
theorem dX12_indirect_155 : decode cX12_indirect 155 = .ok (.aload_n 0, 1) := by decide +kernel
theorem dX12_indirect_156 : decode cX12_indirect 156 = .ok (.getfield 335, 3) := by decide +kernel
theorem dX12_indirect_159 : decode cX12_indirect 159 = .ok (.invokevirtual 272, 3) := by decide +kernel
theorem dX12_indirect_162 : decode cX12_indirect 162 = .ok (.ireturn, 1) := by decide +kernel
theorem zy_X12_indirect : yX12_indirect.cls ≠ "java/lang/invoke/MethodHandle" ∧ yX12_indirect.cls ≠ "java/lang/invoke/VarHandle" ∧ (parseMethodDescriptor yX12_indirect.desc).map (fun d => d.parameters.length) = some 0 := by decide +kernel
theorem w_fX12_indirect_J144 {K : zK} (E : zE K cX12_indirect "RingHouse$Machine" (some .boolean) 8) (hN : zNl K = 5) (hT : zTr K = (some 0)) : zR K 144 [(0, 14, 0)] [] (fX12_indirect_J144) := by
  refine r_aload_n E dX12_indirect_144 rfl 0 rfl ?_
  refine r_bipush E dX12_indirect_145 (by decide) (zkI (by decide) (by decide)) ?_
  refine r_aload_n E dX12_indirect_147 rfl 0 rfl ?_
  refine r_get E zc_14 zt_1308 dX12_indirect_148 q1559 zr_14 (zg_1308 _) (by decide) (fun v1 => ?_)
  refine r_aload_n E dX12_indirect_151 rfl 0 rfl ?_
  refine r_get E zc_14 zt_1309 dX12_indirect_152 q1569 zr_14 (zg_1309 _) (by decide) (fun v2 => ?_)
  refine r_aload_n E dX12_indirect_155 rfl 0 rfl ?_
  refine r_get E zc_14 zt_1310 dX12_indirect_156 q1576 zr_14 (zg_1310 _) (by decide) (fun v3 => ?_)
  refine r_callV E [(0, 10), (0, v1), (0, v2), (0, v3)] [] rfl zc_14 zr_14 (fun o _ => ⟨_, zw_X12.1 o, rfl⟩) (lw_V q2209 q2211 qs15 q239 q2212) dX12_indirect_159 zy_X12_refuse rfl (by omega) (by decide) (Nat.le_of_ble_eq_true rfl) (by decide) (fun l G => k_fX12_refuse l G 10 v1 v2 v3) (fun v4 => ?_)
  exact r_zreturnb E rfl hT dX12_indirect_162
theorem w_fX12_indirect_J99 {K : zK} (E : zE K cX12_indirect "RingHouse$Machine" (some .boolean) 8) (hN : zNl K = 5) (hT : zTr K = (some 0)) (x1 : Int) (x2 : Int) (s0 : Int) {r2 : Int → zX} (hr2 : ∀ s : Int, zR K 2 [(0, 14, 0), (1, 0, s)] [] (r2 s)) : zR K 99 [(0, 14, 0), (1, 0, x1), (2, 1, x2)] [(0, s0)] (fX12_indirect_J99 r2 x1 x2 s0) := by
  refine r_istore (ls' := [(4, 0, s0), (0, 14, 0), (1, 0, x1), (2, 1, x2)]) E dX12_indirect_99 (by rw [hN]; decide) rfl ?_
  refine r_aload_n E dX12_indirect_101 rfl 1 rfl ?_
  refine r_lload_n E dX12_indirect_102 rfl 3 rfl ?_
  refine r_callSN E [(1, x2)] [(14, 0)] rfl q2340 q2341 q227 q2342 dX12_indirect_103 zy_X0_numberOf rfl (by omega) (by decide) (Nat.le_of_ble_eq_true rfl) (fun l G => k_fX0_numberOf l G x2) (fun v20 => ?_)
  refine r_lload_n E dX12_indirect_106 rfl 3 rfl ?_
  refine r_callSN E [(1, x2)] [(0, v20), (14, 0)] rfl q2343 q2344 q227 q2345 dX12_indirect_107 zy_X0_placeOf rfl (by omega) (by decide) (Nat.le_of_ble_eq_true rfl) (fun l G => k_fX0_placeOf l G x2) (fun v21 => ?_)
  refine r_aload_n E dX12_indirect_110 rfl 1 rfl ?_
  refine r_get E zc_14 zt_1310 dX12_indirect_111 q1576 zr_14 (zg_1310 _) (by decide) (fun v22 => ?_)
  refine r_lload_n E dX12_indirect_114 rfl 3 rfl ?_
  refine r_callSN E [(1, x2)] [(0, v22), (0, v21), (0, v20), (14, 0)] rfl q2346 q2347 q227 q2348 dX12_indirect_115 zy_X0_ringOf rfl (by omega) (by decide) (Nat.le_of_ble_eq_true rfl) (fun l G => k_fX0_ringOf l G x2) (fun v23 => ?_)
  refine r_iload E dX12_indirect_118 0 rfl ?_
  refine r_max E q2296 dX12_indirect_120 (Nat.le_of_ble_eq_true rfl) ?_
  refine r_max E q2296 dX12_indirect_123 (Nat.le_of_ble_eq_true rfl) ?_
  refine r_callV E [(0, v20), (0, v21), (0, (max v22 (max v23 s0)))] [] rfl zc_14 zr_14 (fun o _ => ⟨_, zw_X12.1 o, rfl⟩) (lw_V q2292 q2294 qs21 q239 q2295) dX12_indirect_126 zy_X12_at rfl (by omega) (by decide) (Nat.le_of_ble_eq_true rfl) (by decide) (fun l G => k_fX12_at l G v20 v21 (max v22 (max v23 s0))) (fun _ => ?_)
  refine r_lload_n E dX12_indirect_129 rfl 3 rfl ?_
  refine r_callSN E [(1, x2)] [] rfl q2349 q2350 q227 q2351 dX12_indirect_130 zy_X0_isChained rfl (by omega) (by decide) (Nat.le_of_ble_eq_true rfl) (fun l G => k_fX0_isChained l G x2) (fun v25 => ?_)
  refine r_if_ne E 138 (by decide) dX12_indirect_133 (fun _ => ?_) (fun _ => ?_)
  · refine r_iinc (ls' := fun v26 => [(1, 0, v26), (4, 0, s0), (0, 14, 0), (2, 1, x2)]) E 2 rfl (by rw [hN]; decide) (fun _ => rfl) dX12_indirect_138 (fun v26 _ => ?_)
    refine r_goto E 2 (by decide) dX12_indirect_141 ?_
    refine r_pick E [2, 0] rfl ?_
    exact hr2 v26
  · refine r_iconst E dX12_indirect_136 (zkI (by decide) (by decide)) ?_
    exact r_zreturn E rfl hT (by decide) dX12_indirect_137
theorem w_fX12_indirect_J49 {K : zK} (E : zE K cX12_indirect "RingHouse$Machine" (some .boolean) 8) (hN : zNl K = 5) (hT : zTr K = (some 0)) : zR K 49 [(0, 14, 0)] [] (fX12_indirect_J49) := by
  refine r_aload_n E dX12_indirect_49 rfl 0 rfl ?_
  refine r_bipush E dX12_indirect_50 (by decide) (zkI (by decide) (by decide)) ?_
  refine r_aload_n E dX12_indirect_52 rfl 0 rfl ?_
  refine r_get E zc_14 zt_1308 dX12_indirect_53 q1559 zr_14 (zg_1308 _) (by decide) (fun v28 => ?_)
  refine r_aload_n E dX12_indirect_56 rfl 0 rfl ?_
  refine r_get E zc_14 zt_1309 dX12_indirect_57 q1569 zr_14 (zg_1309 _) (by decide) (fun v29 => ?_)
  refine r_aload_n E dX12_indirect_60 rfl 0 rfl ?_
  refine r_get E zc_14 zt_1310 dX12_indirect_61 q1576 zr_14 (zg_1310 _) (by decide) (fun v30 => ?_)
  refine r_callV E [(0, 9), (0, v28), (0, v29), (0, v30)] [] rfl zc_14 zr_14 (fun o _ => ⟨_, zw_X12.1 o, rfl⟩) (lw_V q2209 q2211 qs15 q239 q2212) dX12_indirect_64 zy_X12_refuse rfl (by omega) (by decide) (Nat.le_of_ble_eq_true rfl) (by decide) (fun l G => k_fX12_refuse l G 9 v28 v29 v30) (fun v31 => ?_)
  exact r_zreturnb E rfl hT dX12_indirect_67
theorem w_fX12_indirect_B2 {K : zK} (E : zE K cX12_indirect "RingHouse$Machine" (some .boolean) 8) (hN : zNl K = 5) (hT : zTr K = (some 0)) : ∀ r2 : Int → zX, (∀ s : Int, zR K 2 [(0, 14, 0), (1, 0, s)] [] (r2 s)) → ∀ s : Int, zR K 2 [(0, 14, 0), (1, 0, s)] [] (fX12_indirect_B2 r2 s) := by
  intro r2 hr2 x1
  refine r_iload_n E dX12_indirect_2 rfl 1 rfl ?_
  refine r_iconst E dX12_indirect_3 (zkI (by decide) (by decide)) ?_
  refine r_icmp_ge E 144 (by decide) dX12_indirect_4 (fun _ => ?_) (fun _ => ?_)
  · refine r_pick E [0] rfl ?_
    exact w_fX12_indirect_J144 E hN hT
  · refine r_aload_n E dX12_indirect_7 rfl 0 rfl ?_
    refine r_aload_n E dX12_indirect_8 rfl 0 rfl ?_
    refine r_get E zc_14 zt_1308 dX12_indirect_9 q1559 zr_14 (zg_1308 _) (by decide) (fun v5 => ?_)
    refine r_aload_n E dX12_indirect_12 rfl 0 rfl ?_
    refine r_get E zc_14 zt_1309 dX12_indirect_13 q1569 zr_14 (zg_1309 _) (by decide) (fun v6 => ?_)
    refine r_aload_n E dX12_indirect_16 rfl 0 rfl ?_
    refine r_get E zc_14 zt_1310 dX12_indirect_17 q1576 zr_14 (zg_1310 _) (by decide) (fun v7 => ?_)
    refine r_iconst E dX12_indirect_20 (zkI (by decide) (by decide)) ?_
    refine r_callV E [(0, v5), (0, v6), (0, v7), (0, 1)] [] rfl zc_14 zr_14 (fun o _ => ⟨_, zw_X12.1 o, rfl⟩) (lw_V q2201 q2203 qs13 q239 q2204) dX12_indirect_21 zy_X12_may rfl (by omega) (by decide) (Nat.le_of_ble_eq_true rfl) (by decide) (fun l G => k_fX12_may l G v5 v6 v7 1) (fun v8 => ?_)
    refine r_if_ne E 29 (by decide) dX12_indirect_24 (fun _ => ?_) (fun _ => ?_)
    · refine r_aload_n E dX12_indirect_29 rfl 0 rfl ?_
      refine r_aload_n E dX12_indirect_30 rfl 0 rfl ?_
      refine r_get E zc_14 zt_1308 dX12_indirect_31 q1559 zr_14 (zg_1308 _) (by decide) (fun v9 => ?_)
      refine r_aload_n E dX12_indirect_34 rfl 0 rfl ?_
      refine r_get E zc_14 zt_1309 dX12_indirect_35 q1569 zr_14 (zg_1309 _) (by decide) (fun v10 => ?_)
      refine r_callV E [(0, v9), (0, v10)] [] rfl zc_14 zr_14 (fun o _ => ⟨_, zw_X12.1 o, rfl⟩) (lw_V q2244 q2246 qs17 q239 q2247) dX12_indirect_38 zy_X12_load rfl (by omega) (by decide) (Nat.le_of_ble_eq_true rfl) (by decide) (fun l G => k_fX12_load l G v9 v10) (fun v11 => ?_)
      refine r_lstore_n (ls' := [(2, 1, v11), (0, 14, 0), (1, 0, x1)]) E dX12_indirect_41 rfl (by rw [hN]; decide) rfl ?_
      refine r_lload_n E dX12_indirect_42 rfl 0 rfl ?_
      refine r_callSN E [(1, v11)] [] rfl q2336 q2337 q227 q2338 dX12_indirect_43 zy_X0_isPointer rfl (by omega) (by decide) (Nat.le_of_ble_eq_true rfl) (fun l G => k_fX0_isPointer l G v11) (fun v12 => ?_)
      refine r_if_ne E 68 (by decide) dX12_indirect_46 (fun _ => ?_) (fun _ => ?_)
      · refine r_aload_n E dX12_indirect_68 rfl 1 rfl ?_
        refine r_get E zc_14 zt_1308 dX12_indirect_69 q1559 zr_14 (zg_1308 _) (by decide) (fun v13 => ?_)
        refine r_bipush E dX12_indirect_72 (by decide) (zkI (by decide) (by decide)) ?_
        refine r_icmp_ge E 84 (by decide) dX12_indirect_74 (fun _ => ?_) (fun _ => ?_)
        · refine r_aload_n E dX12_indirect_84 rfl 1 rfl ?_
          refine r_get E zc_14 zt_1307 dX12_indirect_85 q1550 zr_14 (zg_1307 _) (by decide) (fun v14 => ?_)
          refine r_nn E (fun hn15 => ?_)
          refine r_gecN (y := v14) E zc_10 dX12_indirect_88 q913 zr_10 (zh_916 (by omega)) hn15 ?_
          refine r_aload_n E dX12_indirect_91 rfl 1 rfl ?_
          refine r_get E zc_14 zt_1308 dX12_indirect_92 q1559 zr_14 (zg_1308 _) (by decide) (fun v16 => ?_)
          refine r_aaload E zc_916 za_916 zt_916 zx_916 rfl rfl dX12_indirect_95 hn15 (fun v17 => ?_)
          refine r_nn E (fun hn18 => ?_)
          refine r_getN E zc_6 zt_509 dX12_indirect_96 q426 zr_6 (zg_509 _) hn18 (fun v19 => ?_)
          refine r_pick E [1, 2, 0] rfl ?_
          exact w_fX12_indirect_J99 E hN hT x1 v11 v19 hr2
        · refine r_aload_n E dX12_indirect_77 rfl 1 rfl ?_
          refine r_get E zc_14 zt_1308 dX12_indirect_78 q1559 zr_14 (zg_1308 _) (by decide) (fun v27 => ?_)
          refine r_goto E 99 (by decide) dX12_indirect_81 ?_
          refine r_pick E [1, 2, 0] rfl ?_
          exact w_fX12_indirect_J99 E hN hT x1 v11 v27 hr2
      · refine r_pick E [1] rfl ?_
        exact w_fX12_indirect_J49 E hN hT
    · refine r_iconst E dX12_indirect_27 (zkI (by decide) (by decide)) ?_
      exact r_zreturn E rfl hT (by decide) dX12_indirect_28
theorem w_fX12_indirect {K : zK} (E : zE K cX12_indirect "RingHouse$Machine" (some .boolean) 8) (hN : zNl K = 5) (hT : zTr K = (some 0)) : zR K 0 [(0, 14, 0)] [] (fX12_indirect) := by
  refine r_iconst E dX12_indirect_0 (zkI (by decide) (by decide)) ?_
  refine r_istore_n (ls' := [(1, 0, 0), (0, 14, 0)]) E dX12_indirect_1 rfl (by rw [hN]; decide) rfl ?_
  refine r_pick E [1, 0] rfl ?_
  exact r_loop (L := fun s => [(0, 14, 0), (1, 0, s)]) (w_fX12_indirect_B2 E hN hT) zBIG 0
theorem k_fX12_indirect (l : Launch) (G : zG) : zCt l G yX12_indirect cX12_indirect 5 (some .boolean) 8 [(14, 0)] (some 0) (fX12_indirect) := zCt.of (by decide) (Nat.le_of_ble_eq_true rfl) (fun K E _ _ hN hT => w_fX12_indirect E hN hT)
theorem dX12_isObject_0 : decode cX12_isObject 0 = .ok (.aload_n 1, 1) := by decide +kernel
theorem dX12_isObject_1 : decode cX12_isObject 1 = .ok (.getfield 280, 3) := by decide +kernel
theorem dX12_isObject_4 : decode cX12_isObject 4 = .ok (.iconst 1, 1) := by decide +kernel
theorem dX12_isObject_5 : decode cX12_isObject 5 = .ok (.if_icmp .le 26, 3) := by decide +kernel
theorem dX12_isObject_8 : decode cX12_isObject 8 = .ok (.aload_n 0, 1) := by decide +kernel
theorem dX12_isObject_9 : decode cX12_isObject 9 = .ok (.getfield 24, 3) := by decide +kernel
theorem dX12_isObject_12 : decode cX12_isObject 12 = .ok (.aload_n 1, 1) := by decide +kernel
theorem dX12_isObject_13 : decode cX12_isObject 13 = .ok (.iconst 0, 1) := by decide +kernel
theorem dX12_isObject_14 : decode cX12_isObject 14 = .ok (.invokevirtual 311, 3) := by decide +kernel
theorem dX12_isObject_17 : decode cX12_isObject 17 = .ok (.bipush 27, 2) := by decide +kernel
theorem dX12_isObject_19 : decode cX12_isObject 19 = .ok (.lshr, 1) := by decide +kernel
theorem dX12_isObject_20 : decode cX12_isObject 20 = .ok (.ldc2_w 472, 3) := by decide +kernel
theorem dX12_isObject_23 : decode cX12_isObject 23 = .ok (.lcmp, 1) := by decide +kernel
theorem dX12_isObject_24 : decode cX12_isObject 24 = .ok (.ifCond .ne 7, 3) := by decide +kernel
theorem dX12_isObject_27 : decode cX12_isObject 27 = .ok (.iconst 1, 1) := by decide +kernel
theorem dX12_isObject_28 : decode cX12_isObject 28 = .ok (.goto 4, 3) := by decide +kernel
theorem dX12_isObject_31 : decode cX12_isObject 31 = .ok (.iconst 0, 1) := by decide +kernel
theorem dX12_isObject_32 : decode cX12_isObject 32 = .ok (.ireturn, 1) := by decide +kernel
theorem zy_X12_isObject : yX12_isObject.cls ≠ "java/lang/invoke/MethodHandle" ∧ yX12_isObject.cls ≠ "java/lang/invoke/VarHandle" ∧ (parseMethodDescriptor yX12_isObject.desc).map (fun d => d.parameters.length) = some 1 := by decide +kernel
theorem w_fX12_isObject {K : zK} (E : zE K cX12_isObject "RingHouse$Machine" (some .boolean) 2) (hN : zNl K = 2) (hT : zTr K = (some 0)) (x1 : Int) : zR K 0 [(0, 14, 0), (1, 6, x1)] [] (fX12_isObject x1) := by
  refine r_aload_n E dX12_isObject_0 rfl 1 rfl ?_
  refine r_nn E (fun hn1 => ?_)
  refine r_getN E zc_6 zt_522 dX12_isObject_1 q476 zr_6 (zg_522 _) hn1 (fun v2 => ?_)
  refine r_iconst E dX12_isObject_4 (zkI (by decide) (by decide)) ?_
  refine r_icmp_le E 31 (by decide) dX12_isObject_5 (fun _ => ?_) (fun _ => ?_)
  · refine r_iconst E dX12_isObject_31 (zkI (by decide) (by decide)) ?_
    exact r_zreturn E rfl hT (by decide) dX12_isObject_32
  · refine r_aload_n E dX12_isObject_8 rfl 0 rfl ?_
    refine r_gec (y := 0) E zc_14 dX12_isObject_9 q1526 zr_14 (zh_1300 (by decide)) (by decide) ?_
    refine r_aload_n E dX12_isObject_12 rfl 1 rfl ?_
    refine r_iconst E dX12_isObject_13 (zkI (by decide) (by decide)) ?_
    refine r_callV E [(6, x1), (0, 0)] [] rfl zc_3 zr_3 (fun o _ => ⟨_, zw_X1.1 o, rfl⟩) (lw_V q2248 q2086 q2087 q228 q2088) dX12_isObject_14 zy_X1_get rfl (by omega) (by decide) (Nat.le_of_ble_eq_true rfl) (by decide) (fun l G => k_fX1_get l G x1 0) (fun v3 => ?_)
    refine r_bipush E dX12_isObject_17 (by decide) (zkI (by decide) (by decide)) ?_
    refine r_lshr (P := 134217728) E (by decide) dX12_isObject_19 ?_
    refine r_ldc2 (v := 365) E dX12_isObject_20 q2311 (by decide) (zkJ (by decide) (by decide)) ?_
    refine r_lcmp_ne E 31 (by decide) dX12_isObject_23 dX12_isObject_24 (fun _ => ?_) (fun _ => ?_)
    · refine r_iconst E dX12_isObject_31 (zkI (by decide) (by decide)) ?_
      exact r_zreturn E rfl hT (by decide) dX12_isObject_32
    · refine r_iconst E dX12_isObject_27 (zkI (by decide) (by decide)) ?_
      refine r_goto E 32 (by decide) dX12_isObject_28 ?_
      exact r_zreturn E rfl hT (by decide) dX12_isObject_32
theorem k_fX12_isObject (l : Launch) (G : zG) (x1 : Int) : zCt l G yX12_isObject cX12_isObject 2 (some .boolean) 2 [(14, 0), (6, x1)] (some 0) (fX12_isObject x1) := zCt.of (by decide) (Nat.le_of_ble_eq_true rfl) (fun K E _ _ hN hT => w_fX12_isObject E hN hT x1)
theorem dX12_searched_0 : decode cX12_searched 0 = .ok (.iconst 0, 1) := by decide +kernel
theorem dX12_searched_1 : decode cX12_searched 1 = .ok (.istore_n 3, 1) := by decide +kernel
theorem dX12_searched_2 : decode cX12_searched 2 = .ok (.iload_n 3, 1) := by decide +kernel
theorem dX12_searched_3 : decode cX12_searched 3 = .ok (.iconst 4, 1) := by decide +kernel
theorem dX12_searched_4 : decode cX12_searched 4 = .ok (.if_icmp .ge 96, 3) := by decide +kernel
theorem dX12_searched_7 : decode cX12_searched 7 = .ok (.aload_n 0, 1) := by decide +kernel
theorem dX12_searched_8 : decode cX12_searched 8 = .ok (.getfield 246, 3) := by decide +kernel
theorem dX12_searched_11 : decode cX12_searched 11 = .ok (.getfield 504, 3) := by decide +kernel
theorem dX12_searched_14 : decode cX12_searched 14 = .ok (.iload_n 3, 1) := by decide +kernel
theorem dX12_searched_15 : decode cX12_searched 15 = .ok (.aaload, 1) := by decide +kernel
theorem dX12_searched_16 : decode cX12_searched 16 = .ok (.astore 4, 2) := by decide +kernel
theorem dX12_searched_18 : decode cX12_searched 18 = .ok (.aload 4, 2) := by decide +kernel
theorem dX12_searched_20 : decode cX12_searched 20 = .ok (.ifnull 74, 3) := by decide +kernel
theorem dX12_searched_23 : decode cX12_searched 23 = .ok (.aload_n 0, 1) := by decide +kernel
theorem dX12_searched_24 : decode cX12_searched 24 = .ok (.getfield 246, 3) := by decide +kernel
theorem dX12_searched_27 : decode cX12_searched 27 = .ok (.aload 4, 2) := by decide +kernel
theorem dX12_searched_29 : decode cX12_searched 29 = .ok (.iconst 1, 1) := by decide +kernel
theorem dX12_searched_30 : decode cX12_searched 30 = .ok (.invokevirtual 507, 3) := by decide +kernel
theorem dX12_searched_33 : decode cX12_searched 33 = .ok (.ifCond .ne 61, 3) := by decide +kernel
theorem dX12_searched_36 : decode cX12_searched 36 = .ok (.aload_n 0, 1) := by decide +kernel
theorem dX12_searched_37 : decode cX12_searched 37 = .ok (.getfield 24, 3) := by decide +kernel
theorem dX12_searched_40 : decode cX12_searched 40 = .ok (.getfield 510, 3) := by decide +kernel
theorem dX12_searched_43 : decode cX12_searched 43 = .ok (.aload 4, 2) := by decide +kernel
theorem dX12_searched_45 : decode cX12_searched 45 = .ok (.lload_n 1, 1) := by decide +kernel
theorem dX12_searched_46 : decode cX12_searched 46 = .ok (.invokevirtual 513, 3) := by decide +kernel
theorem dX12_searched_49 : decode cX12_searched 49 = .ok (.astore 5, 2) := by decide +kernel
theorem dX12_searched_51 : decode cX12_searched 51 = .ok (.aload 5, 2) := by decide +kernel
theorem dX12_searched_53 : decode cX12_searched 53 = .ok (.ifnull 41, 3) := by decide +kernel
theorem dX12_searched_56 : decode cX12_searched 56 = .ok (.aload 5, 2) := by decide +kernel
theorem dX12_searched_58 : decode cX12_searched 58 = .ok (.invokevirtual 519, 3) := by decide +kernel
theorem dX12_searched_61 : decode cX12_searched 61 = .ok (.ifCond .eq 33, 3) := by decide +kernel
theorem dX12_searched_64 : decode cX12_searched 64 = .ok (.aload 5, 2) := by decide +kernel
theorem dX12_searched_66 : decode cX12_searched 66 = .ok (.getfield 522, 3) := by decide +kernel
theorem dX12_searched_69 : decode cX12_searched 69 = .ok (.aload_n 0, 1) := by decide +kernel
theorem dX12_searched_70 : decode cX12_searched 70 = .ok (.getfield 246, 3) := by decide +kernel
theorem dX12_searched_73 : decode cX12_searched 73 = .ok (.getfield 526, 3) := by decide +kernel
theorem dX12_searched_76 : decode cX12_searched 76 = .ok (.aload_n 0, 1) := by decide +kernel
theorem dX12_searched_77 : decode cX12_searched 77 = .ok (.getfield 246, 3) := by decide +kernel
theorem dX12_searched_80 : decode cX12_searched 80 = .ok (.getfield 529, 3) := by decide +kernel
theorem dX12_searched_83 : decode cX12_searched 83 = .ok (.invokevirtual 532, 3) := by decide +kernel
theorem dX12_searched_86 : decode cX12_searched 86 = .ok (.iconst 3, 1) := by decide +kernel
theorem dX12_searched_87 : decode cX12_searched 87 = .ok (.iand, 1) := by decide +kernel
theorem dX12_searched_88 : decode cX12_searched 88 = .ok (.ifCond .eq 6, 3) := by decide +kernel
theorem dX12_searched_91 : decode cX12_searched 91 = .ok (.aload 5, 2) := by decide +kernel
theorem dX12_searched_93 : decode cX12_searched 93 = .ok (.areturn, 1) := by decide +kernel
theorem dX12_searched_94 : decode cX12_searched 94 = .ok (.iinc 3 1, 3) := by decide +kernel
theorem dX12_searched_97 : decode cX12_searched 97 = .ok (.goto (-95), 3) := by decide +kernel
theorem dX12_searched_100 : decode cX12_searched 100 = .ok (.aconst_null, 1) := by decide +kernel
theorem dX12_searched_101 : decode cX12_searched 101 = .ok (.areturn, 1) := by decide +kernel
theorem zy_X12_searched : yX12_searched.cls ≠ "java/lang/invoke/MethodHandle" ∧ yX12_searched.cls ≠ "java/lang/invoke/VarHandle" ∧ (parseMethodDescriptor yX12_searched.desc).map (fun d => d.parameters.length) = some 1 := by decide +kernel
theorem w_fX12_searched_J94 {K : zK} (E : zE K cX12_searched "RingHouse$Machine" (some (.object "RingHouse$Node")) 4) (hN : zNl K = 6) (hT : zTr K = (some 6)) (x1 : Int) (x3 : Int) {r2 : Int → zX} (hr2 : ∀ s : Int, zR K 2 [(0, 14, 0), (1, 1, x1), (3, 0, s)] [] (r2 s)) : zR K 94 [(0, 14, 0), (1, 1, x1), (3, 0, x3)] [] (fX12_searched_J94 r2 x1 x3) := by
  refine r_iinc (ls' := fun v5 => [(3, 0, v5), (0, 14, 0), (1, 1, x1)]) E 2 rfl (by rw [hN]; decide) (fun _ => rfl) dX12_searched_94 (fun v5 _ => ?_)
  refine r_goto E 2 (by decide) dX12_searched_97 ?_
  refine r_pick E [1, 2, 0] rfl ?_
  exact hr2 v5
theorem w_fX12_searched_B2 {K : zK} (E : zE K cX12_searched "RingHouse$Machine" (some (.object "RingHouse$Node")) 4) (hN : zNl K = 6) (hT : zTr K = (some 6)) (x1 : Int) : ∀ r2 : Int → zX, (∀ s : Int, zR K 2 [(0, 14, 0), (1, 1, x1), (3, 0, s)] [] (r2 s)) → ∀ s : Int, zR K 2 [(0, 14, 0), (1, 1, x1), (3, 0, s)] [] (fX12_searched_B2 x1 r2 s) := by
  intro r2 hr2 x3
  refine r_iload_n E dX12_searched_2 rfl 2 rfl ?_
  refine r_iconst E dX12_searched_3 (zkI (by decide) (by decide)) ?_
  refine r_icmp_ge E 100 (by decide) dX12_searched_4 (fun _ => ?_) (fun _ => ?_)
  · refine r_null E 4 dX12_searched_100 ?_
    exact r_areturn E rfl hT dX12_searched_101
  · refine r_aload_n E dX12_searched_7 rfl 0 rfl ?_
    refine r_get E zc_14 zt_1307 dX12_searched_8 q1550 zr_14 (zg_1307 _) (by decide) (fun v1 => ?_)
    refine r_nn E (fun hn2 => ?_)
    refine r_gecN (y := v1) E zc_10 dX12_searched_11 q934 zr_10 (zh_921 (by omega)) hn2 ?_
    refine r_iload_n E dX12_searched_14 rfl 2 rfl ?_
    refine r_aaload E zc_921 za_921 zt_921 zx_921 rfl rfl dX12_searched_15 hn2 (fun v3 => ?_)
    refine r_astore (ls' := [(4, 6, v3), (0, 14, 0), (1, 1, x1), (3, 0, x3)]) E dX12_searched_16 (by rw [hN]; decide) rfl ?_
    refine r_aload E dX12_searched_18 0 rfl ?_
    refine r_ifnull E 94 (by decide) dX12_searched_20 (fun _ => ?_) (fun hz4 => ?_)
    · refine r_pick E [1, 2, 3] rfl ?_
      exact w_fX12_searched_J94 E hN hT x1 x3 hr2
    · refine r_aload_n E dX12_searched_23 rfl 1 rfl ?_
      refine r_get E zc_14 zt_1307 dX12_searched_24 q1550 zr_14 (zg_1307 _) (by decide) (fun v6 => ?_)
      refine r_aload E dX12_searched_27 0 rfl ?_
      refine r_iconst E dX12_searched_29 (zkI (by decide) (by decide)) ?_
      refine r_nn E (fun hn7 => ?_)
      refine r_callV E [(6, v3), (0, 1)] [] rfl zc_10 zr_10 (fun o _ => ⟨_, zw_X8.1 o, rfl⟩) (lw_V q2318 q2319 q2320 q235 q2321) dX12_searched_30 zy_X8_refusal_2 rfl (by omega) (by decide) (Nat.le_of_ble_eq_true rfl) hn7 (fun l G => k_fX8_refusal_2 l G v6 v3 1 hn7) (fun v8 => ?_)
      refine r_if_ne E 94 (by decide) dX12_searched_33 (fun _ => ?_) (fun _ => ?_)
      · refine r_pick E [1, 2, 3] rfl ?_
        exact w_fX12_searched_J94 E hN hT x1 x3 hr2
      · refine r_aload_n E dX12_searched_36 rfl 1 rfl ?_
        refine r_gec (y := 0) E zc_14 dX12_searched_37 q1526 zr_14 (zh_1300 (by decide)) (by decide) ?_
        refine r_gecN (y := 0) E zc_3 dX12_searched_40 q590 zr_3 (zh_201 (by decide)) (by decide) ?_
        refine r_aload E dX12_searched_43 0 rfl ?_
        refine r_lload_n E dX12_searched_45 rfl 2 rfl ?_
        refine r_callV E [(6, v3), (1, x1)] [] rfl zc_4 zr_4 (fun o _ => ⟨_, zw_X2.1 o, rfl⟩) (lw_V q1865 q1866 q1867 q229 q1868) dX12_searched_46 zy_X2_find rfl (by omega) (by decide) (Nat.le_of_ble_eq_true rfl) (by decide) (fun l G => k_fX2_find l G v3 x1) (fun v9 => ?_)
        refine r_astore (ls' := [(5, 6, v9), (4, 6, v3), (0, 14, 0), (1, 1, x1), (3, 0, x3)]) E dX12_searched_49 (by rw [hN]; decide) rfl ?_
        refine r_aload E dX12_searched_51 0 rfl ?_
        refine r_ifnull E 94 (by decide) dX12_searched_53 (fun _ => ?_) (fun hz10 => ?_)
        · refine r_pick E [2, 3, 4] rfl ?_
          exact w_fX12_searched_J94 E hN hT x1 x3 hr2
        · refine r_aload E dX12_searched_56 0 rfl ?_
          refine r_callV E [] [] rfl zc_6 zr_6 (fun o _ => ⟨_, zw_X4.1 o, rfl⟩) (lw_V q2322 q1925 q1926 q231 q1927) dX12_searched_58 zy_X4_isSegment rfl (by omega) (by decide) (Nat.le_of_ble_eq_true rfl) (Int.not_lt.mp hz10) (fun l G => k_fX4_isSegment l G v9 (Int.not_lt.mp hz10)) (fun v11 => ?_)
          refine r_if_eq E 94 (by decide) dX12_searched_61 (fun _ => ?_) (fun _ => ?_)
          · refine r_pick E [2, 3, 4] rfl ?_
            exact w_fX12_searched_J94 E hN hT x1 x3 hr2
          · refine r_aload E dX12_searched_64 0 rfl ?_
            refine r_gecN (y := (3 * v9)) E zc_6 dX12_searched_66 q414 zr_6 (zh_508 (by omega)) (Int.not_lt.mp hz10) ?_
            refine r_aload_n E dX12_searched_69 rfl 2 rfl ?_
            refine r_get E zc_14 zt_1307 dX12_searched_70 q1550 zr_14 (zg_1307 _) (by decide) (fun v12 => ?_)
            refine r_nn E (fun hn13 => ?_)
            refine r_getN E zc_10 zt_904 dX12_searched_73 q870 zr_10 (zg_904 _) hn13 (fun v14 => ?_)
            refine r_aload_n E dX12_searched_76 rfl 2 rfl ?_
            refine r_get E zc_14 zt_1307 dX12_searched_77 q1550 zr_14 (zg_1307 _) (by decide) (fun v15 => ?_)
            refine r_nn E (fun hn16 => ?_)
            refine r_getN E zc_10 zt_905 dX12_searched_80 q876 zr_10 (zg_905 _) hn16 (fun v17 => ?_)
            refine r_callV E [(0, v14), (0, v17)] [] rfl zc_7 zr_7 (fun o _ => ⟨_, zw_X5.1 o, rfl⟩) (lw_V q2323 q2074 q2075 q232 q2076) dX12_searched_83 zy_X5_of rfl (by omega) (by decide) (Nat.le_of_ble_eq_true rfl) (by omega) (fun l G => k_fX5_of l G (3 * v9) v14 v17 (by omega)) (fun v18 => ?_)
            refine r_iconst E dX12_searched_86 (zkI (by decide) (by decide)) ?_
            refine r_imask (P := 4) E 2 (by decide) (by decide) (by decide) dX12_searched_87 ?_
            refine r_if_eq E 94 (by decide) dX12_searched_88 (fun _ => ?_) (fun _ => ?_)
            · refine r_pick E [2, 3, 4] rfl ?_
              exact w_fX12_searched_J94 E hN hT x1 x3 hr2
            · refine r_aload E dX12_searched_91 0 rfl ?_
              exact r_areturn E rfl hT dX12_searched_93
theorem w_fX12_searched {K : zK} (E : zE K cX12_searched "RingHouse$Machine" (some (.object "RingHouse$Node")) 4) (hN : zNl K = 6) (hT : zTr K = (some 6)) (x1 : Int) : zR K 0 [(0, 14, 0), (1, 1, x1)] [] (fX12_searched x1) := by
  refine r_iconst E dX12_searched_0 (zkI (by decide) (by decide)) ?_
  refine r_istore_n (ls' := [(3, 0, 0), (0, 14, 0), (1, 1, x1)]) E dX12_searched_1 rfl (by rw [hN]; decide) rfl ?_
  refine r_pick E [1, 2, 0] rfl ?_
  exact r_loop (L := fun s => [(0, 14, 0), (1, 1, x1), (3, 0, s)]) (w_fX12_searched_B2 E hN hT x1) zBIG 0
theorem k_fX12_searched (l : Launch) (G : zG) (x1 : Int) : zCt l G yX12_searched cX12_searched 6 (some (.object "RingHouse$Node")) 4 [(14, 0), (1, x1)] (some 6) (fX12_searched x1) := zCt.of (by decide) (Nat.le_of_ble_eq_true rfl) (fun K E _ _ hN hT => w_fX12_searched E hN hT x1)
theorem dX12_definition_0 : decode cX12_definition 0 = .ok (.aload_n 0, 1) := by decide +kernel
theorem dX12_definition_1 : decode cX12_definition 1 = .ok (.aload_n 1, 1) := by decide +kernel
theorem dX12_definition_2 : decode cX12_definition 2 = .ok (.invokevirtual 484, 3) := by decide +kernel
theorem dX12_definition_5 : decode cX12_definition 5 = .ok (.ifCond .ne 5, 3) := by decide +kernel
theorem dX12_definition_8 : decode cX12_definition 8 = .ok (.iconst (-1), 1) := by decide +kernel
theorem dX12_definition_9 : decode cX12_definition 9 = .ok (.ireturn, 1) := by decide +kernel
theorem dX12_definition_10 : decode cX12_definition 10 = .ok (.aload_n 0, 1) := by decide +kernel
theorem dX12_definition_11 : decode cX12_definition 11 = .ok (.getfield 24, 3) := by decide +kernel
theorem dX12_definition_14 : decode cX12_definition 14 = .ok (.aload_n 1, 1) := by decide +kernel
theorem dX12_definition_15 : decode cX12_definition 15 = .ok (.iconst 1, 1) := by decide +kernel
theorem dX12_definition_16 : decode cX12_definition 16 = .ok (.invokevirtual 311, 3) := by decide +kernel
theorem dX12_definition_19 : decode cX12_definition 19 = .ok (.bipush 18, 2) := by decide +kernel
theorem dX12_definition_21 : decode cX12_definition 21 = .ok (.lshr, 1) := by decide +kernel
theorem dX12_definition_22 : decode cX12_definition 22 = .ok (.lstore 4, 2) := by decide +kernel
theorem dX12_definition_24 : decode cX12_definition 24 = .ok (.aload_n 0, 1) := by decide +kernel
theorem dX12_definition_25 : decode cX12_definition 25 = .ok (.getfield 24, 3) := by decide +kernel
theorem dX12_definition_28 : decode cX12_definition 28 = .ok (.aload_n 1, 1) := by decide +kernel
theorem dX12_definition_29 : decode cX12_definition 29 = .ok (.iconst 1, 1) := by decide +kernel
theorem dX12_definition_30 : decode cX12_definition 30 = .ok (.invokevirtual 311, 3) := by decide +kernel
theorem dX12_definition_33 : decode cX12_definition 33 = .ok (.ldc2_w 490, 3) := by decide +kernel
theorem dX12_definition_36 : decode cX12_definition 36 = .ok (.land, 1) := by decide +kernel
theorem dX12_definition_37 : decode cX12_definition 37 = .ok (.l2i, 1) := by decide +kernel
theorem dX12_definition_38 : decode cX12_definition 38 = .ok (.istore 6, 2) := by decide +kernel
theorem dX12_definition_40 : decode cX12_definition 40 = .ok (.iconst 0, 1) := by decide +kernel
theorem dX12_definition_41 : decode cX12_definition 41 = .ok (.istore 7, 2) := by decide +kernel
theorem dX12_definition_43 : decode cX12_definition 43 = .ok (.iload 7, 2) := by decide +kernel
theorem dX12_definition_45 : decode cX12_definition 45 = .ok (.i2l, 1) := by decide +kernel
theorem dX12_definition_46 : decode cX12_definition 46 = .ok (.lload 4, 2) := by decide +kernel
theorem dX12_definition_48 : decode cX12_definition 48 = .ok (.lcmp, 1) := by decide +kernel
theorem dX12_definition_49 : decode cX12_definition 49 = .ok (.ifCond .ge 68, 3) := by decide +kernel
theorem dX12_definition_52 : decode cX12_definition 52 = .ok (.iload 6, 2) := by decide +kernel
theorem dX12_definition_54 : decode cX12_definition 54 = .ok (.iconst 2, 1) := by decide +kernel
theorem dX12_definition_55 : decode cX12_definition 55 = .ok (.iload 7, 2) := by decide +kernel
theorem dX12_definition_57 : decode cX12_definition 57 = .ok (.imul, 1) := by decide +kernel
theorem dX12_definition_58 : decode cX12_definition 58 = .ok (.iadd, 1) := by decide +kernel
theorem dX12_definition_59 : decode cX12_definition 59 = .ok (.iconst 1, 1) := by decide +kernel
theorem dX12_definition_60 : decode cX12_definition 60 = .ok (.iadd, 1) := by decide +kernel
theorem dX12_definition_61 : decode cX12_definition 61 = .ok (.aload_n 1, 1) := by decide +kernel
theorem dX12_definition_62 : decode cX12_definition 62 = .ok (.getfield 280, 3) := by decide +kernel
theorem dX12_definition_65 : decode cX12_definition 65 = .ok (.if_icmp .ge 52, 3) := by decide +kernel
theorem dX12_definition_68 : decode cX12_definition 68 = .ok (.aload_n 0, 1) := by decide +kernel
theorem dX12_definition_69 : decode cX12_definition 69 = .ok (.getfield 24, 3) := by decide +kernel
theorem dX12_definition_72 : decode cX12_definition 72 = .ok (.aload_n 1, 1) := by decide +kernel
theorem dX12_definition_73 : decode cX12_definition 73 = .ok (.iload 6, 2) := by decide +kernel
theorem dX12_definition_75 : decode cX12_definition 75 = .ok (.iconst 2, 1) := by decide +kernel
theorem dX12_definition_76 : decode cX12_definition 76 = .ok (.iload 7, 2) := by decide +kernel
theorem dX12_definition_78 : decode cX12_definition 78 = .ok (.imul, 1) := by decide +kernel
theorem dX12_definition_79 : decode cX12_definition 79 = .ok (.iadd, 1) := by decide +kernel
theorem dX12_definition_80 : decode cX12_definition 80 = .ok (.invokevirtual 311, 3) := by decide +kernel
theorem dX12_definition_83 : decode cX12_definition 83 = .ok (.lload_n 2, 1) := by decide +kernel
theorem dX12_definition_84 : decode cX12_definition 84 = .ok (.lcmp, 1) := by decide +kernel
theorem dX12_definition_85 : decode cX12_definition 85 = .ok (.ifCond .ne 26, 3) := by decide +kernel
theorem dX12_definition_88 : decode cX12_definition 88 = .ok (.aload_n 0, 1) := by decide +kernel
theorem dX12_definition_89 : decode cX12_definition 89 = .ok (.getfield 24, 3) := by decide +kernel
theorem dX12_definition_92 : decode cX12_definition 92 = .ok (.aload_n 1, 1) := by decide +kernel
theorem dX12_definition_93 : decode cX12_definition 93 = .ok (.iload 6, 2) := by decide +kernel
theorem dX12_definition_95 : decode cX12_definition 95 = .ok (.iconst 2, 1) := by decide +kernel
theorem dX12_definition_96 : decode cX12_definition 96 = .ok (.iload 7, 2) := by decide +kernel
theorem dX12_definition_98 : decode cX12_definition 98 = .ok (.imul, 1) := by decide +kernel
theorem dX12_definition_99 : decode cX12_definition 99 = .ok (.iadd, 1) := by decide +kernel
theorem dX12_definition_100 : decode cX12_definition 100 = .ok (.iconst 1, 1) := by decide +kernel
theorem dX12_definition_101 : decode cX12_definition 101 = .ok (.iadd, 1) := by decide +kernel
theorem dX12_definition_102 : decode cX12_definition 102 = .ok (.invokevirtual 311, 3) := by decide +kernel
theorem dX12_definition_105 : decode cX12_definition 105 = .ok (.ldc2_w 490, 3) := by decide +kernel
theorem dX12_definition_108 : decode cX12_definition 108 = .ok (.land, 1) := by decide +kernel
theorem dX12_definition_109 : decode cX12_definition 109 = .ok (.l2i, 1) := by decide +kernel
theorem dX12_definition_110 : decode cX12_definition 110 = .ok (.ireturn, 1) := by decide +kernel
theorem dX12_definition_111 : decode cX12_definition 111 = .ok (.iinc 7 1, 3) := by decide +kernel
theorem dX12_definition_114 : decode cX12_definition 114 = .ok (.goto (-71), 3) := by decide +kernel
theorem dX12_definition_117 : decode cX12_definition 117 = .ok (.iconst (-1), 1) := by decide +kernel
theorem dX12_definition_118 : decode cX12_definition 118 = .ok (.ireturn, 1) := by decide +kernel
theorem zy_X12_definition : yX12_definition.cls ≠ "java/lang/invoke/MethodHandle" ∧ yX12_definition.cls ≠ "java/lang/invoke/VarHandle" ∧ (parseMethodDescriptor yX12_definition.desc).map (fun d => d.parameters.length) = some 2 := by decide +kernel
theorem w_fX12_definition_J88 {K : zK} (E : zE K cX12_definition "RingHouse$Machine" (some .int) 3) (hN : zNl K = 8) (hT : zTr K = (some 0)) (x1 : Int) (x6 : Int) (x7 : Int) : zR K 88 [(0, 14, 0), (1, 6, x1), (6, 0, x6), (7, 0, x7)] [] (fX12_definition_J88 x1 x6 x7) := by
  refine r_aload_n E dX12_definition_88 rfl 0 rfl ?_
  refine r_gec (y := 0) E zc_14 dX12_definition_89 q1526 zr_14 (zh_1300 (by decide)) (by decide) ?_
  refine r_aload_n E dX12_definition_92 rfl 1 rfl ?_
  refine r_iload E dX12_definition_93 2 rfl ?_
  refine r_iconst E dX12_definition_95 (zkI (by decide) (by decide)) ?_
  refine r_iload E dX12_definition_96 3 rfl ?_
  refine r_imul E dX12_definition_98 ?_
  refine r_iadd E dX12_definition_99 ?_
  refine r_iconst E dX12_definition_100 (zkI (by decide) (by decide)) ?_
  refine r_iadd E dX12_definition_101 ?_
  refine r_callV E [(6, x1), (0, (zi ((zi (x6 + (zi (2 * x7)))) + 1)))] [] rfl zc_3 zr_3 (fun o _ => ⟨_, zw_X1.1 o, rfl⟩) (lw_V q2248 q2086 q2087 q228 q2088) dX12_definition_102 zy_X1_get rfl (by omega) (by decide) (Nat.le_of_ble_eq_true rfl) (by decide) (fun l G => k_fX1_get l G x1 (zi ((zi (x6 + (zi (2 * x7)))) + 1))) (fun v10 => ?_)
  refine r_ldc2 (v := 262143) E dX12_definition_105 q2313 (by decide) (zkJ (by decide) (by decide)) ?_
  refine r_lmask (P := 262144) E 18 (by decide) (by decide) (by decide) dX12_definition_108 ?_
  refine r_l2i E dX12_definition_109 ?_
  exact r_ireturn E rfl hT dX12_definition_110
theorem w_fX12_definition_B43 {K : zK} (E : zE K cX12_definition "RingHouse$Machine" (some .int) 3) (hN : zNl K = 8) (hT : zTr K = (some 0)) (x1 : Int) (x2 : Int) (x4 : Int) (x6 : Int) : ∀ r43 : Int → zX, (∀ s : Int, zR K 43 [(0, 14, 0), (1, 6, x1), (2, 1, x2), (4, 1, x4), (6, 0, x6), (7, 0, s)] [] (r43 s)) → ∀ s : Int, zR K 43 [(0, 14, 0), (1, 6, x1), (2, 1, x2), (4, 1, x4), (6, 0, x6), (7, 0, s)] [] (fX12_definition_B43 x1 x2 x4 x6 r43 s) := by
  intro r43 hr43 x7
  refine r_iload E dX12_definition_43 5 rfl ?_
  refine r_i2l E dX12_definition_45 ?_
  refine r_lload E dX12_definition_46 3 rfl ?_
  refine r_lcmp_ge E 117 (by decide) dX12_definition_48 dX12_definition_49 (fun _ => ?_) (fun _ => ?_)
  · refine r_iconst E dX12_definition_117 (zkI (by decide) (by decide)) ?_
    exact r_ireturn E rfl hT dX12_definition_118
  · refine r_iload E dX12_definition_52 4 rfl ?_
    refine r_iconst E dX12_definition_54 (zkI (by decide) (by decide)) ?_
    refine r_iload E dX12_definition_55 5 rfl ?_
    refine r_imul E dX12_definition_57 ?_
    refine r_iadd E dX12_definition_58 ?_
    refine r_iconst E dX12_definition_59 (zkI (by decide) (by decide)) ?_
    refine r_iadd E dX12_definition_60 ?_
    refine r_aload_n E dX12_definition_61 rfl 1 rfl ?_
    refine r_nn E (fun hn6 => ?_)
    refine r_getN E zc_6 zt_522 dX12_definition_62 q476 zr_6 (zg_522 _) hn6 (fun v7 => ?_)
    refine r_icmp_ge E 117 (by decide) dX12_definition_65 (fun _ => ?_) (fun _ => ?_)
    · refine r_iconst E dX12_definition_117 (zkI (by decide) (by decide)) ?_
      exact r_ireturn E rfl hT dX12_definition_118
    · refine r_aload_n E dX12_definition_68 rfl 0 rfl ?_
      refine r_gec (y := 0) E zc_14 dX12_definition_69 q1526 zr_14 (zh_1300 (by decide)) (by decide) ?_
      refine r_aload_n E dX12_definition_72 rfl 1 rfl ?_
      refine r_iload E dX12_definition_73 4 rfl ?_
      refine r_iconst E dX12_definition_75 (zkI (by decide) (by decide)) ?_
      refine r_iload E dX12_definition_76 5 rfl ?_
      refine r_imul E dX12_definition_78 ?_
      refine r_iadd E dX12_definition_79 ?_
      refine r_callV E [(6, x1), (0, (zi (x6 + (zi (2 * x7)))))] [] rfl zc_3 zr_3 (fun o _ => ⟨_, zw_X1.1 o, rfl⟩) (lw_V q2248 q2086 q2087 q228 q2088) dX12_definition_80 zy_X1_get rfl (by omega) (by decide) (Nat.le_of_ble_eq_true rfl) (by decide) (fun l G => k_fX1_get l G x1 (zi (x6 + (zi (2 * x7))))) (fun v8 => ?_)
      refine r_lload_n E dX12_definition_83 rfl 2 rfl ?_
      refine r_lcmp_ne E 111 (by decide) dX12_definition_84 dX12_definition_85 (fun _ => ?_) (fun _ => ?_)
      · refine r_iinc (ls' := fun v9 => [(7, 0, v9), (0, 14, 0), (1, 6, x1), (2, 1, x2), (4, 1, x4), (6, 0, x6)]) E 5 rfl (by rw [hN]; decide) (fun _ => rfl) dX12_definition_111 (fun v9 _ => ?_)
        refine r_goto E 43 (by decide) dX12_definition_114 ?_
        refine r_pick E [1, 2, 3, 4, 5, 0] rfl ?_
        exact hr43 v9
      · refine r_pick E [0, 1, 4, 5] rfl ?_
        exact w_fX12_definition_J88 E hN hT x1 x6 x7
theorem w_fX12_definition {K : zK} (E : zE K cX12_definition "RingHouse$Machine" (some .int) 3) (hN : zNl K = 8) (hT : zTr K = (some 0)) (x1 : Int) (x2 : Int) : zR K 0 [(0, 14, 0), (1, 6, x1), (2, 1, x2)] [] (fX12_definition x1 x2) := by
  refine r_aload_n E dX12_definition_0 rfl 0 rfl ?_
  refine r_aload_n E dX12_definition_1 rfl 1 rfl ?_
  refine r_callV E [(6, x1)] [] rfl zc_14 zr_14 (fun o _ => ⟨_, zw_X12.1 o, rfl⟩) (lw_V q2307 q2309 qs24 q239 q2310) dX12_definition_2 zy_X12_isObject rfl (by omega) (by decide) (Nat.le_of_ble_eq_true rfl) (by decide) (fun l G => k_fX12_isObject l G x1) (fun v1 => ?_)
  refine r_if_ne E 10 (by decide) dX12_definition_5 (fun _ => ?_) (fun _ => ?_)
  · refine r_aload_n E dX12_definition_10 rfl 0 rfl ?_
    refine r_gec (y := 0) E zc_14 dX12_definition_11 q1526 zr_14 (zh_1300 (by decide)) (by decide) ?_
    refine r_aload_n E dX12_definition_14 rfl 1 rfl ?_
    refine r_iconst E dX12_definition_15 (zkI (by decide) (by decide)) ?_
    refine r_callV E [(6, x1), (0, 1)] [] rfl zc_3 zr_3 (fun o _ => ⟨_, zw_X1.1 o, rfl⟩) (lw_V q2248 q2086 q2087 q228 q2088) dX12_definition_16 zy_X1_get rfl (by omega) (by decide) (Nat.le_of_ble_eq_true rfl) (by decide) (fun l G => k_fX1_get l G x1 1) (fun v2 => ?_)
    refine r_bipush E dX12_definition_19 (by decide) (zkI (by decide) (by decide)) ?_
    refine r_lshr (P := 262144) E (by decide) dX12_definition_21 ?_
    refine r_let E (fun v3 ev3 => ?_)
    refine r_lstore (ls' := [(4, 1, v3), (0, 14, 0), (1, 6, x1), (2, 1, x2)]) E dX12_definition_22 (by rw [hN]; decide) rfl ?_
    refine r_aload_n E dX12_definition_24 rfl 1 rfl ?_
    refine r_gec (y := 0) E zc_14 dX12_definition_25 q1526 zr_14 (zh_1300 (by decide)) (by decide) ?_
    refine r_aload_n E dX12_definition_28 rfl 2 rfl ?_
    refine r_iconst E dX12_definition_29 (zkI (by decide) (by decide)) ?_
    refine r_callV E [(6, x1), (0, 1)] [] rfl zc_3 zr_3 (fun o _ => ⟨_, zw_X1.1 o, rfl⟩) (lw_V q2248 q2086 q2087 q228 q2088) dX12_definition_30 zy_X1_get rfl (by omega) (by decide) (Nat.le_of_ble_eq_true rfl) (by decide) (fun l G => k_fX1_get l G x1 1) (fun v4 => ?_)
    refine r_ldc2 (v := 262143) E dX12_definition_33 q2313 (by decide) (zkJ (by decide) (by decide)) ?_
    refine r_lmask (P := 262144) E 18 (by decide) (by decide) (by decide) dX12_definition_36 ?_
    refine r_l2i E dX12_definition_37 ?_
    refine r_let E (fun v5 ev5 => ?_)
    refine r_istore (ls' := [(6, 0, v5), (4, 1, v3), (0, 14, 0), (1, 6, x1), (2, 1, x2)]) E dX12_definition_38 (by rw [hN]; decide) rfl ?_
    refine r_iconst E dX12_definition_40 (zkI (by decide) (by decide)) ?_
    refine r_istore (ls' := [(7, 0, 0), (6, 0, v5), (4, 1, v3), (0, 14, 0), (1, 6, x1), (2, 1, x2)]) E dX12_definition_41 (by rw [hN]; decide) rfl ?_
    refine r_pick E [3, 4, 5, 2, 1, 0] rfl ?_
    exact r_loop (L := fun s => [(0, 14, 0), (1, 6, x1), (2, 1, x2), (4, 1, v3), (6, 0, v5), (7, 0, s)]) (w_fX12_definition_B43 E hN hT x1 x2 v3 v5) zBIG 0
  · refine r_iconst E dX12_definition_8 (zkI (by decide) (by decide)) ?_
    exact r_ireturn E rfl hT dX12_definition_9
theorem k_fX12_definition (l : Launch) (G : zG) (x1 : Int) (x2 : Int) : zCt l G yX12_definition cX12_definition 8 (some .int) 3 [(14, 0), (6, x1), (1, x2)] (some 0) (fX12_definition x1 x2) := zCt.of (by decide) (Nat.le_of_ble_eq_true rfl) (fun K E _ _ hN hT => w_fX12_definition E hN hT x1 x2)
theorem dX12_bind_0 : decode cX12_bind 0 = .ok (.aload_n 0, 1) := by decide +kernel
theorem dX12_bind_1 : decode cX12_bind 1 = .ok (.getfield 246, 3) := by decide +kernel
theorem dX12_bind_4 : decode cX12_bind 4 = .ok (.getfield 276, 3) := by decide +kernel
theorem dX12_bind_7 : decode cX12_bind 7 = .ok (.iload_n 1, 1) := by decide +kernel
theorem dX12_bind_8 : decode cX12_bind 8 = .ok (.aaload, 1) := by decide +kernel
theorem dX12_bind_9 : decode cX12_bind 9 = .ok (.astore_n 3, 1) := by decide +kernel
theorem dX12_bind_10 : decode cX12_bind 10 = .ok (.aload_n 0, 1) := by decide +kernel
theorem dX12_bind_11 : decode cX12_bind 11 = .ok (.aload_n 3, 1) := by decide +kernel
theorem dX12_bind_12 : decode cX12_bind 12 = .ok (.invokevirtual 484, 3) := by decide +kernel
theorem dX12_bind_15 : decode cX12_bind 15 = .ok (.ifCond .eq 25, 3) := by decide +kernel
theorem dX12_bind_18 : decode cX12_bind 18 = .ok (.iload_n 2, 1) := by decide +kernel
theorem dX12_bind_19 : decode cX12_bind 19 = .ok (.i2l, 1) := by decide +kernel
theorem dX12_bind_20 : decode cX12_bind 20 = .ok (.aload_n 0, 1) := by decide +kernel
theorem dX12_bind_21 : decode cX12_bind 21 = .ok (.getfield 24, 3) := by decide +kernel
theorem dX12_bind_24 : decode cX12_bind 24 = .ok (.aload_n 3, 1) := by decide +kernel
theorem dX12_bind_25 : decode cX12_bind 25 = .ok (.iconst 0, 1) := by decide +kernel
theorem dX12_bind_26 : decode cX12_bind 26 = .ok (.invokevirtual 311, 3) := by decide +kernel
theorem dX12_bind_29 : decode cX12_bind 29 = .ok (.bipush 18, 2) := by decide +kernel
theorem dX12_bind_31 : decode cX12_bind 31 = .ok (.lshr, 1) := by decide +kernel
theorem dX12_bind_32 : decode cX12_bind 32 = .ok (.ldc2_w 488, 3) := by decide +kernel
theorem dX12_bind_35 : decode cX12_bind 35 = .ok (.land, 1) := by decide +kernel
theorem dX12_bind_36 : decode cX12_bind 36 = .ok (.lcmp, 1) := by decide +kernel
theorem dX12_bind_37 : decode cX12_bind 37 = .ok (.ifCond .lt 5, 3) := by decide +kernel
theorem dX12_bind_40 : decode cX12_bind 40 = .ok (.iconst 0, 1) := by decide +kernel
theorem dX12_bind_41 : decode cX12_bind 41 = .ok (.ireturn, 1) := by decide +kernel
theorem dX12_bind_42 : decode cX12_bind 42 = .ok (.aload_n 0, 1) := by decide +kernel
theorem dX12_bind_43 : decode cX12_bind 43 = .ok (.getfield 24, 3) := by decide +kernel
theorem dX12_bind_46 : decode cX12_bind 46 = .ok (.aload_n 3, 1) := by decide +kernel
theorem dX12_bind_47 : decode cX12_bind 47 = .ok (.iconst 0, 1) := by decide +kernel
theorem dX12_bind_48 : decode cX12_bind 48 = .ok (.invokevirtual 311, 3) := by decide +kernel
theorem dX12_bind_51 : decode cX12_bind 51 = .ok (.ldc2_w 490, 3) := by decide +kernel
theorem dX12_bind_54 : decode cX12_bind 54 = .ok (.land, 1) := by decide +kernel
theorem dX12_bind_55 : decode cX12_bind 55 = .ok (.l2i, 1) := by decide +kernel
theorem dX12_bind_56 : decode cX12_bind 56 = .ok (.iconst 2, 1) := by decide +kernel
theorem dX12_bind_57 : decode cX12_bind 57 = .ok (.iload_n 2, 1) := by decide +kernel
theorem dX12_bind_58 : decode cX12_bind 58 = .ok (.imul, 1) := by decide +kernel
theorem dX12_bind_59 : decode cX12_bind 59 = .ok (.iadd, 1) := by decide +kernel
theorem dX12_bind_60 : decode cX12_bind 60 = .ok (.istore 4, 2) := by decide +kernel
theorem dX12_bind_62 : decode cX12_bind 62 = .ok (.iload 4, 2) := by decide +kernel
theorem dX12_bind_64 : decode cX12_bind 64 = .ok (.iconst 1, 1) := by decide +kernel
theorem dX12_bind_65 : decode cX12_bind 65 = .ok (.iadd, 1) := by decide +kernel
theorem dX12_bind_66 : decode cX12_bind 66 = .ok (.aload_n 3, 1) := by decide +kernel
theorem dX12_bind_67 : decode cX12_bind 67 = .ok (.getfield 280, 3) := by decide +kernel
theorem dX12_bind_70 : decode cX12_bind 70 = .ok (.if_icmp .lt 5, 3) := by decide +kernel
theorem dX12_bind_73 : decode cX12_bind 73 = .ok (.iconst 0, 1) := by decide +kernel
theorem dX12_bind_74 : decode cX12_bind 74 = .ok (.ireturn, 1) := by decide +kernel
theorem dX12_bind_75 : decode cX12_bind 75 = .ok (.aload_n 0, 1) := by decide +kernel
theorem dX12_bind_76 : decode cX12_bind 76 = .ok (.aload_n 0, 1) := by decide +kernel
theorem dX12_bind_77 : decode cX12_bind 77 = .ok (.getfield 24, 3) := by decide +kernel
theorem dX12_bind_80 : decode cX12_bind 80 = .ok (.aload_n 3, 1) := by decide +kernel
theorem dX12_bind_81 : decode cX12_bind 81 = .ok (.iload 4, 2) := by decide +kernel
theorem dX12_bind_83 : decode cX12_bind 83 = .ok (.invokevirtual 311, 3) := by decide +kernel
theorem dX12_bind_86 : decode cX12_bind 86 = .ok (.invokevirtual 492, 3) := by decide +kernel
theorem dX12_bind_89 : decode cX12_bind 89 = .ok (.astore 5, 2) := by decide +kernel
theorem dX12_bind_91 : decode cX12_bind 91 = .ok (.aload 5, 2) := by decide +kernel
theorem dX12_bind_93 : decode cX12_bind 93 = .ok (.ifnonnull 7, 3) := by decide +kernel
theorem dX12_bind_96 : decode cX12_bind 96 = .ok (.iconst (-1), 1) := by decide +kernel
theorem dX12_bind_97 : decode cX12_bind 97 = .ok (.goto 12, 3) := by decide +kernel
theorem dX12_bind_100 : decode cX12_bind 100 = .ok (.aload_n 0, 1) := by decide +kernel
theorem dX12_bind_101 : decode cX12_bind 101 = .ok (.getfield 246, 3) := by decide +kernel
theorem dX12_bind_104 : decode cX12_bind 104 = .ok (.aload 5, 2) := by decide +kernel
theorem dX12_bind_106 : decode cX12_bind 106 = .ok (.invokevirtual 496, 3) := by decide +kernel
theorem dX12_bind_109 : decode cX12_bind 109 = .ok (.istore 6, 2) := by decide +kernel
theorem dX12_bind_111 : decode cX12_bind 111 = .ok (.iload 6, 2) := by decide +kernel
theorem dX12_bind_113 : decode cX12_bind 113 = .ok (.ifCond .ge 7, 3) := by decide +kernel
theorem dX12_bind_116 : decode cX12_bind 116 = .ok (.iconst (-1), 1) := by decide +kernel
theorem dX12_bind_117 : decode cX12_bind 117 = .ok (.goto 21, 3) := by decide +kernel
theorem dX12_bind_120 : decode cX12_bind 120 = .ok (.aload_n 0, 1) := by decide +kernel
theorem dX12_bind_121 : decode cX12_bind 121 = .ok (.aload 5, 2) := by decide +kernel
theorem dX12_bind_123 : decode cX12_bind 123 = .ok (.aload_n 0, 1) := by decide +kernel
theorem dX12_bind_124 : decode cX12_bind 124 = .ok (.getfield 24, 3) := by decide +kernel
theorem dX12_bind_127 : decode cX12_bind 127 = .ok (.aload_n 3, 1) := by decide +kernel
theorem dX12_bind_128 : decode cX12_bind 128 = .ok (.iload 4, 2) := by decide +kernel
theorem dX12_bind_130 : decode cX12_bind 130 = .ok (.iconst 1, 1) := by decide +kernel
theorem dX12_bind_131 : decode cX12_bind 131 = .ok (.iadd, 1) := by decide +kernel
theorem dX12_bind_132 : decode cX12_bind 132 = .ok (.invokevirtual 311, 3) := by decide +kernel
theorem dX12_bind_135 : decode cX12_bind 135 = .ok (.invokevirtual 500, 3) := by decide +kernel
theorem dX12_bind_138 : decode cX12_bind 138 = .ok (.istore 7, 2) := by decide +kernel
theorem dX12_bind_140 : decode cX12_bind 140 = .ok (.iload 7, 2) := by decide +kernel
theorem dX12_bind_142 : decode cX12_bind 142 = .ok (.ifCond .ge 5, 3) := by decide +kernel
theorem dX12_bind_145 : decode cX12_bind 145 = .ok (.iconst 0, 1) := by decide +kernel
theorem dX12_bind_146 : decode cX12_bind 146 = .ok (.ireturn, 1) := by decide +kernel
theorem dX12_bind_147 : decode cX12_bind 147 = .ok (.aload_n 0, 1) := by decide +kernel
theorem dX12_bind_148 : decode cX12_bind 148 = .ok (.getfield 246, 3) := by decide +kernel
theorem dX12_bind_151 : decode cX12_bind 151 = .ok (.getfield 474, 3) := by decide +kernel
theorem dX12_bind_154 : decode cX12_bind 154 = .ok (.bipush 16, 2) := by decide +kernel
theorem dX12_bind_156 : decode cX12_bind 156 = .ok (.iload_n 1, 1) := by decide +kernel
theorem dX12_bind_157 : decode cX12_bind 157 = .ok (.imul, 1) := by decide +kernel
theorem dX12_bind_158 : decode cX12_bind 158 = .ok (.iload_n 2, 1) := by decide +kernel
theorem dX12_bind_159 : decode cX12_bind 159 = .ok (.iadd, 1) := by decide +kernel
theorem dX12_bind_160 : decode cX12_bind 160 = .ok (.iload 6, 2) := by decide +kernel
theorem dX12_bind_162 : decode cX12_bind 162 = .ok (.iastore, 1) := by decide +kernel
theorem dX12_bind_163 : decode cX12_bind 163 = .ok (.aload_n 0, 1) := by decide +kernel
theorem dX12_bind_164 : decode cX12_bind 164 = .ok (.getfield 246, 3) := by decide +kernel
theorem dX12_bind_167 : decode cX12_bind 167 = .ok (.getfield 481, 3) := by decide +kernel
theorem dX12_bind_170 : decode cX12_bind 170 = .ok (.bipush 16, 2) := by decide +kernel
theorem dX12_bind_172 : decode cX12_bind 172 = .ok (.iload_n 1, 1) := by decide +kernel
theorem dX12_bind_173 : decode cX12_bind 173 = .ok (.imul, 1) := by decide +kernel
theorem dX12_bind_174 : decode cX12_bind 174 = .ok (.iload_n 2, 1) := by decide +kernel
theorem dX12_bind_175 : decode cX12_bind 175 = .ok (.iadd, 1) := by decide +kernel
theorem dX12_bind_176 : decode cX12_bind 176 = .ok (.iload 7, 2) := by decide +kernel
theorem dX12_bind_178 : decode cX12_bind 178 = .ok (.iastore, 1) := by decide +kernel
theorem dX12_bind_179 : decode cX12_bind 179 = .ok (.aload_n 0, 1) := by decide +kernel
theorem dX12_bind_180 : decode cX12_bind 180 = .ok (.getfield 246, 3) := by decide +kernel
theorem dX12_bind_183 : decode cX12_bind 183 = .ok (.iconst 5, 1) := by decide +kernel
theorem dX12_bind_184 : decode cX12_bind 184 = .ok (.iload_n 2, 1) := by decide +kernel
theorem dX12_bind_185 : decode cX12_bind 185 = .ok (.i2l, 1) := by decide +kernel
theorem dX12_bind_186 : decode cX12_bind 186 = .ok (.iload 6, 2) := by decide +kernel
theorem dX12_bind_188 : decode cX12_bind 188 = .ok (.i2l, 1) := by decide +kernel
theorem dX12_bind_189 : decode cX12_bind 189 = .ok (.iload 7, 2) := by decide +kernel
theorem dX12_bind_191 : decode cX12_bind 191 = .ok (.i2l, 1) := by decide +kernel
theorem dX12_bind_192 : decode cX12_bind 192 = .ok (.invokevirtual 422, 3) := by decide +kernel
theorem dX12_bind_195 : decode cX12_bind 195 = .ok (.iconst 1, 1) := by decide +kernel
theorem dX12_bind_196 : decode cX12_bind 196 = .ok (.ireturn, 1) := by decide +kernel
theorem zy_X12_bind : yX12_bind.cls ≠ "java/lang/invoke/MethodHandle" ∧ yX12_bind.cls ≠ "java/lang/invoke/VarHandle" ∧ (parseMethodDescriptor yX12_bind.desc).map (fun d => d.parameters.length) = some 2 := by decide +kernel
theorem w_fX12_bind_J138 {K : zK} (E : zE K cX12_bind "RingHouse$Machine" (some .boolean) 5) (hN : zNl K = 8) (hT : zTr K = (some 0)) (x1 : Int) (x2 : Int) (x6 : Int) (s0 : Int) : zR K 138 [(0, 14, 0), (1, 0, x1), (2, 0, x2), (6, 0, x6)] [(0, s0)] (fX12_bind_J138 x1 x2 x6 s0) := by
  refine r_istore (ls' := [(7, 0, s0), (0, 14, 0), (1, 0, x1), (2, 0, x2), (6, 0, x6)]) E dX12_bind_138 (by rw [hN]; decide) rfl ?_
  refine r_iload E dX12_bind_140 0 rfl ?_
  refine r_if_ge E 147 (by decide) dX12_bind_142 (fun _ => ?_) (fun _ => ?_)
  · refine r_aload_n E dX12_bind_147 rfl 1 rfl ?_
    refine r_get E zc_14 zt_1307 dX12_bind_148 q1550 zr_14 (zg_1307 _) (by decide) (fun v15 => ?_)
    refine r_nn E (fun hn16 => ?_)
    refine r_gecN (y := v15) E zc_10 dX12_bind_151 q917 zr_10 (zh_918 (by omega)) hn16 ?_
    refine r_bipush E dX12_bind_154 (by decide) (zkI (by decide) (by decide)) ?_
    refine r_iload_n E dX12_bind_156 rfl 2 rfl ?_
    refine r_imul E dX12_bind_157 ?_
    refine r_iload_n E dX12_bind_158 rfl 3 rfl ?_
    refine r_iadd E dX12_bind_159 ?_
    refine r_iload E dX12_bind_160 4 rfl ?_
    refine r_iastore E zc_918 za_918 zt_918 zo_918 zx_918 rfl rfl dX12_bind_162 hn16 ?_
    refine r_aload_n E dX12_bind_163 rfl 1 rfl ?_
    refine r_get E zc_14 zt_1307 dX12_bind_164 q1550 zr_14 (zg_1307 _) (by decide) (fun v17 => ?_)
    refine r_nn E (fun hn18 => ?_)
    refine r_gecN (y := v17) E zc_10 dX12_bind_167 q920 zr_10 (zh_919 (by omega)) hn18 ?_
    refine r_bipush E dX12_bind_170 (by decide) (zkI (by decide) (by decide)) ?_
    refine r_iload_n E dX12_bind_172 rfl 2 rfl ?_
    refine r_imul E dX12_bind_173 ?_
    refine r_iload_n E dX12_bind_174 rfl 3 rfl ?_
    refine r_iadd E dX12_bind_175 ?_
    refine r_iload E dX12_bind_176 0 rfl ?_
    refine r_iastore E zc_919 za_919 zt_919 zo_919 zx_919 rfl rfl dX12_bind_178 hn18 ?_
    refine r_aload_n E dX12_bind_179 rfl 1 rfl ?_
    refine r_get E zc_14 zt_1307 dX12_bind_180 q1550 zr_14 (zg_1307 _) (by decide) (fun v19 => ?_)
    refine r_iconst E dX12_bind_183 (zkI (by decide) (by decide)) ?_
    refine r_iload_n E dX12_bind_184 rfl 3 rfl ?_
    refine r_i2l E dX12_bind_185 ?_
    refine r_iload E dX12_bind_186 4 rfl ?_
    refine r_i2l E dX12_bind_188 ?_
    refine r_iload E dX12_bind_189 0 rfl ?_
    refine r_i2l E dX12_bind_191 ?_
    refine r_nn E (fun hn20 => ?_)
    refine r_callV E [(0, 5), (1, x2), (1, x6), (1, s0)] [] rfl zc_10 zr_10 (fun o _ => ⟨_, zw_X8.1 o, rfl⟩) (lw_V q2188 q2189 q2190 q235 q2191) dX12_bind_192 zy_X8_event rfl (by omega) (by decide) (Nat.le_of_ble_eq_true rfl) hn20 (fun l G => k_fX8_event l G v19 5 x2 x6 s0 hn20) (fun _ => ?_)
    refine r_iconst E dX12_bind_195 (zkI (by decide) (by decide)) ?_
    exact r_zreturn E rfl hT (by decide) dX12_bind_196
  · refine r_iconst E dX12_bind_145 (zkI (by decide) (by decide)) ?_
    exact r_zreturn E rfl hT (by decide) dX12_bind_146
theorem w_fX12_bind_J109 {K : zK} (E : zE K cX12_bind "RingHouse$Machine" (some .boolean) 5) (hN : zNl K = 8) (hT : zTr K = (some 0)) (x1 : Int) (x2 : Int) (x3 : Int) (x4 : Int) (x5 : Int) (s0 : Int) : zR K 109 [(0, 14, 0), (1, 0, x1), (2, 0, x2), (3, 6, x3), (4, 0, x4), (5, 6, x5)] [(0, s0)] (fX12_bind_J109 x1 x2 x3 x4 x5 s0) := by
  refine r_istore (ls' := [(6, 0, s0), (0, 14, 0), (1, 0, x1), (2, 0, x2), (3, 6, x3), (4, 0, x4), (5, 6, x5)]) E dX12_bind_109 (by rw [hN]; decide) rfl ?_
  refine r_iload E dX12_bind_111 0 rfl ?_
  refine r_if_ge E 120 (by decide) dX12_bind_113 (fun _ => ?_) (fun _ => ?_)
  · refine r_aload_n E dX12_bind_120 rfl 1 rfl ?_
    refine r_aload E dX12_bind_121 6 rfl ?_
    refine r_aload_n E dX12_bind_123 rfl 1 rfl ?_
    refine r_gec (y := 0) E zc_14 dX12_bind_124 q1526 zr_14 (zh_1300 (by decide)) (by decide) ?_
    refine r_aload_n E dX12_bind_127 rfl 4 rfl ?_
    refine r_iload E dX12_bind_128 5 rfl ?_
    refine r_iconst E dX12_bind_130 (zkI (by decide) (by decide)) ?_
    refine r_iadd E dX12_bind_131 ?_
    refine r_callV E [(6, x3), (0, (zi (x4 + 1)))] [(6, x5), (14, 0)] rfl zc_3 zr_3 (fun o _ => ⟨_, zw_X1.1 o, rfl⟩) (lw_V q2248 q2086 q2087 q228 q2088) dX12_bind_132 zy_X1_get rfl (by omega) (by decide) (Nat.le_of_ble_eq_true rfl) (by decide) (fun l G => k_fX1_get l G x3 (zi (x4 + 1))) (fun v13 => ?_)
    refine r_callV E [(6, x5), (1, v13)] [] rfl zc_14 zr_14 (fun o _ => ⟨_, zw_X12.1 o, rfl⟩) (lw_V q2328 q2330 qs26 q239 q2331) dX12_bind_135 zy_X12_definition rfl (by omega) (by decide) (Nat.le_of_ble_eq_true rfl) (by decide) (fun l G => k_fX12_definition l G x5 v13) (fun v14 => ?_)
    refine r_pick E [1, 2, 3, 0] rfl ?_
    exact w_fX12_bind_J138 E hN hT x1 x2 s0 v14
  · refine r_iconst E dX12_bind_116 (zkI (by decide) (by decide)) ?_
    refine r_goto E 138 (by decide) dX12_bind_117 ?_
    refine r_pick E [1, 2, 3, 0] rfl ?_
    exact w_fX12_bind_J138 E hN hT x1 x2 s0 (-1)
theorem w_fX12_bind {K : zK} (E : zE K cX12_bind "RingHouse$Machine" (some .boolean) 5) (hN : zNl K = 8) (hT : zTr K = (some 0)) (x1 : Int) (x2 : Int) : zR K 0 [(0, 14, 0), (1, 0, x1), (2, 0, x2)] [] (fX12_bind x1 x2) := by
  refine r_aload_n E dX12_bind_0 rfl 0 rfl ?_
  refine r_get E zc_14 zt_1307 dX12_bind_1 q1550 zr_14 (zg_1307 _) (by decide) (fun v1 => ?_)
  refine r_nn E (fun hn2 => ?_)
  refine r_gecN (y := v1) E zc_10 dX12_bind_4 q913 zr_10 (zh_916 (by omega)) hn2 ?_
  refine r_iload_n E dX12_bind_7 rfl 1 rfl ?_
  refine r_aaload E zc_916 za_916 zt_916 zx_916 rfl rfl dX12_bind_8 hn2 (fun v3 => ?_)
  refine r_astore_n (ls' := [(3, 6, v3), (0, 14, 0), (1, 0, x1), (2, 0, x2)]) E dX12_bind_9 rfl (by rw [hN]; decide) rfl ?_
  refine r_aload_n E dX12_bind_10 rfl 1 rfl ?_
  refine r_aload_n E dX12_bind_11 rfl 0 rfl ?_
  refine r_callV E [(6, v3)] [] rfl zc_14 zr_14 (fun o _ => ⟨_, zw_X12.1 o, rfl⟩) (lw_V q2307 q2309 qs24 q239 q2310) dX12_bind_12 zy_X12_isObject rfl (by omega) (by decide) (Nat.le_of_ble_eq_true rfl) (by decide) (fun l G => k_fX12_isObject l G v3) (fun v4 => ?_)
  refine r_if_eq E 40 (by decide) dX12_bind_15 (fun _ => ?_) (fun _ => ?_)
  · refine r_iconst E dX12_bind_40 (zkI (by decide) (by decide)) ?_
    exact r_zreturn E rfl hT (by decide) dX12_bind_41
  · refine r_iload_n E dX12_bind_18 rfl 3 rfl ?_
    refine r_i2l E dX12_bind_19 ?_
    refine r_aload_n E dX12_bind_20 rfl 1 rfl ?_
    refine r_gec (y := 0) E zc_14 dX12_bind_21 q1526 zr_14 (zh_1300 (by decide)) (by decide) ?_
    refine r_aload_n E dX12_bind_24 rfl 0 rfl ?_
    refine r_iconst E dX12_bind_25 (zkI (by decide) (by decide)) ?_
    refine r_callV E [(6, v3), (0, 0)] [(1, x2)] rfl zc_3 zr_3 (fun o _ => ⟨_, zw_X1.1 o, rfl⟩) (lw_V q2248 q2086 q2087 q228 q2088) dX12_bind_26 zy_X1_get rfl (by omega) (by decide) (Nat.le_of_ble_eq_true rfl) (by decide) (fun l G => k_fX1_get l G v3 0) (fun v5 => ?_)
    refine r_bipush E dX12_bind_29 (by decide) (zkI (by decide) (by decide)) ?_
    refine r_lshr (P := 262144) E (by decide) dX12_bind_31 ?_
    refine r_ldc2 (v := 511) E dX12_bind_32 q2312 (by decide) (zkJ (by decide) (by decide)) ?_
    refine r_lmask (P := 512) E 9 (by decide) (by decide) (by decide) dX12_bind_35 ?_
    refine r_lcmp_lt E 42 (by decide) dX12_bind_36 dX12_bind_37 (fun _ => ?_) (fun _ => ?_)
    · refine r_aload_n E dX12_bind_42 rfl 1 rfl ?_
      refine r_gec (y := 0) E zc_14 dX12_bind_43 q1526 zr_14 (zh_1300 (by decide)) (by decide) ?_
      refine r_aload_n E dX12_bind_46 rfl 0 rfl ?_
      refine r_iconst E dX12_bind_47 (zkI (by decide) (by decide)) ?_
      refine r_callV E [(6, v3), (0, 0)] [] rfl zc_3 zr_3 (fun o _ => ⟨_, zw_X1.1 o, rfl⟩) (lw_V q2248 q2086 q2087 q228 q2088) dX12_bind_48 zy_X1_get rfl (by omega) (by decide) (Nat.le_of_ble_eq_true rfl) (by decide) (fun l G => k_fX1_get l G v3 0) (fun v6 => ?_)
      refine r_ldc2 (v := 262143) E dX12_bind_51 q2313 (by decide) (zkJ (by decide) (by decide)) ?_
      refine r_lmask (P := 262144) E 18 (by decide) (by decide) (by decide) dX12_bind_54 ?_
      refine r_l2i E dX12_bind_55 ?_
      refine r_iconst E dX12_bind_56 (zkI (by decide) (by decide)) ?_
      refine r_iload_n E dX12_bind_57 rfl 3 rfl ?_
      refine r_imul E dX12_bind_58 ?_
      refine r_iadd E dX12_bind_59 ?_
      refine r_let E (fun v7 ev7 => ?_)
      refine r_istore (ls' := [(4, 0, v7), (3, 6, v3), (0, 14, 0), (1, 0, x1), (2, 0, x2)]) E dX12_bind_60 (by rw [hN]; decide) rfl ?_
      refine r_iload E dX12_bind_62 0 rfl ?_
      refine r_iconst E dX12_bind_64 (zkI (by decide) (by decide)) ?_
      refine r_iadd E dX12_bind_65 ?_
      refine r_aload_n E dX12_bind_66 rfl 1 rfl ?_
      refine r_nn E (fun hn8 => ?_)
      refine r_getN E zc_6 zt_522 dX12_bind_67 q476 zr_6 (zg_522 _) hn8 (fun v9 => ?_)
      refine r_icmp_lt E 75 (by decide) dX12_bind_70 (fun _ => ?_) (fun _ => ?_)
      · refine r_aload_n E dX12_bind_75 rfl 2 rfl ?_
        refine r_aload_n E dX12_bind_76 rfl 2 rfl ?_
        refine r_gec (y := 0) E zc_14 dX12_bind_77 q1526 zr_14 (zh_1300 (by decide)) (by decide) ?_
        refine r_aload_n E dX12_bind_80 rfl 1 rfl ?_
        refine r_iload E dX12_bind_81 0 rfl ?_
        refine r_callV E [(6, v3), (0, v7)] [(14, 0)] rfl zc_3 zr_3 (fun o _ => ⟨_, zw_X1.1 o, rfl⟩) (lw_V q2248 q2086 q2087 q228 q2088) dX12_bind_83 zy_X1_get rfl (by omega) (by decide) (Nat.le_of_ble_eq_true rfl) (by decide) (fun l G => k_fX1_get l G v3 v7) (fun v10 => ?_)
        refine r_callV E [(1, v10)] [] rfl zc_14 zr_14 (fun o _ => ⟨_, zw_X12.1 o, rfl⟩) (lw_V q2314 q2316 qs25 q239 q2317) dX12_bind_86 zy_X12_searched rfl (by omega) (by decide) (Nat.le_of_ble_eq_true rfl) (by decide) (fun l G => k_fX12_searched l G v10) (fun v11 => ?_)
        refine r_astore (ls' := [(5, 6, v11), (4, 0, v7), (3, 6, v3), (0, 14, 0), (1, 0, x1), (2, 0, x2)]) E dX12_bind_89 (by rw [hN]; decide) rfl ?_
        refine r_aload E dX12_bind_91 0 rfl ?_
        refine r_ifnonnull E 100 (by decide) dX12_bind_93 (fun _ => ?_) (fun hz12 => ?_)
        · refine r_iconst E dX12_bind_96 (zkI (by decide) (by decide)) ?_
          refine r_goto E 109 (by decide) dX12_bind_97 ?_
          refine r_pick E [3, 4, 5, 2, 1, 0] rfl ?_
          exact w_fX12_bind_J109 E hN hT x1 x2 v3 v7 v11 (-1)
        · refine r_aload_n E dX12_bind_100 rfl 3 rfl ?_
          refine r_get E zc_14 zt_1307 dX12_bind_101 q1550 zr_14 (zg_1307 _) (by decide) (fun v22 => ?_)
          refine r_aload E dX12_bind_104 0 rfl ?_
          refine r_nn E (fun hn23 => ?_)
          refine r_callV E [(6, v11)] [] rfl zc_10 zr_10 (fun o _ => ⟨_, zw_X8.1 o, rfl⟩) (lw_V q2324 q2325 q2326 q235 q2327) dX12_bind_106 zy_X8_numberFor rfl (by omega) (by decide) (Nat.le_of_ble_eq_true rfl) hn23 (fun l G => k_fX8_numberFor l G v22 v11 hn23) (fun v24 => ?_)
          refine r_pick E [3, 4, 5, 2, 1, 0] rfl ?_
          exact w_fX12_bind_J109 E hN hT x1 x2 v3 v7 v11 v24
      · refine r_iconst E dX12_bind_73 (zkI (by decide) (by decide)) ?_
        exact r_zreturn E rfl hT (by decide) dX12_bind_74
    · refine r_iconst E dX12_bind_40 (zkI (by decide) (by decide)) ?_
      exact r_zreturn E rfl hT (by decide) dX12_bind_41
theorem k_fX12_bind (l : Launch) (G : zG) (x1 : Int) (x2 : Int) : zCt l G yX12_bind cX12_bind 8 (some .boolean) 5 [(14, 0), (0, x1), (0, x2)] (some 0) (fX12_bind x1 x2) := zCt.of (by decide) (Nat.le_of_ble_eq_true rfl) (fun K E _ _ hN hT => w_fX12_bind E hN hT x1 x2)
theorem dX12_link_0 : decode cX12_link 0 = .ok (.aload_n 0, 1) := by decide +kernel
theorem dX12_link_1 : decode cX12_link 1 = .ok (.getfield 246, 3) := by decide +kernel
theorem dX12_link_4 : decode cX12_link 4 = .ok (.getfield 256, 3) := by decide +kernel
theorem dX12_link_7 : decode cX12_link 7 = .ok (.astore_n 2, 1) := by decide +kernel
theorem dX12_link_8 : decode cX12_link 8 = .ok (.bipush 16, 2) := by decide +kernel
theorem dX12_link_10 : decode cX12_link 10 = .ok (.aload_n 2, 1) := by decide +kernel
theorem dX12_link_11 : decode cX12_link 11 = .ok (.getfield 260, 3) := by decide +kernel
theorem dX12_link_14 : decode cX12_link 14 = .ok (.imul, 1) := by decide +kernel
theorem dX12_link_15 : decode cX12_link 15 = .ok (.iload_n 1, 1) := by decide +kernel
theorem dX12_link_16 : decode cX12_link 16 = .ok (.iadd, 1) := by decide +kernel
theorem dX12_link_17 : decode cX12_link 17 = .ok (.istore_n 3, 1) := by decide +kernel
theorem dX12_link_18 : decode cX12_link 18 = .ok (.iload_n 1, 1) := by decide +kernel
theorem dX12_link_19 : decode cX12_link 19 = .ok (.bipush 16, 2) := by decide +kernel
theorem dX12_link_21 : decode cX12_link 21 = .ok (.if_icmp .ge 27, 3) := by decide +kernel
theorem dX12_link_24 : decode cX12_link 24 = .ok (.aload_n 0, 1) := by decide +kernel
theorem dX12_link_25 : decode cX12_link 25 = .ok (.getfield 246, 3) := by decide +kernel
theorem dX12_link_28 : decode cX12_link 28 = .ok (.getfield 474, 3) := by decide +kernel
theorem dX12_link_31 : decode cX12_link 31 = .ok (.iload_n 3, 1) := by decide +kernel
theorem dX12_link_32 : decode cX12_link 32 = .ok (.iaload, 1) := by decide +kernel
theorem dX12_link_33 : decode cX12_link 33 = .ok (.ifCond .ge 22, 3) := by decide +kernel
theorem dX12_link_36 : decode cX12_link 36 = .ok (.aload_n 0, 1) := by decide +kernel
theorem dX12_link_37 : decode cX12_link 37 = .ok (.aload_n 2, 1) := by decide +kernel
theorem dX12_link_38 : decode cX12_link 38 = .ok (.getfield 260, 3) := by decide +kernel
theorem dX12_link_41 : decode cX12_link 41 = .ok (.iload_n 1, 1) := by decide +kernel
theorem dX12_link_42 : decode cX12_link 42 = .ok (.invokevirtual 477, 3) := by decide +kernel
theorem dX12_link_45 : decode cX12_link 45 = .ok (.ifCond .ne 10, 3) := by decide +kernel
theorem dX12_link_48 : decode cX12_link 48 = .ok (.aload_n 0, 1) := by decide +kernel
theorem dX12_link_49 : decode cX12_link 49 = .ok (.bipush 11, 2) := by decide +kernel
theorem dX12_link_51 : decode cX12_link 51 = .ok (.invokevirtual 437, 3) := by decide +kernel
theorem dX12_link_54 : decode cX12_link 54 = .ok (.ireturn, 1) := by decide +kernel
theorem dX12_link_55 : decode cX12_link 55 = .ok (.aload_n 0, 1) := by decide +kernel
theorem dX12_link_56 : decode cX12_link 56 = .ok (.aload_n 0, 1) := by decide +kernel
theorem dX12_link_57 : decode cX12_link 57 = .ok (.getfield 246, 3) := by decide +kernel
theorem dX12_link_60 : decode cX12_link 60 = .ok (.getfield 474, 3) := by decide +kernel
theorem dX12_link_63 : decode cX12_link 63 = .ok (.iload_n 3, 1) := by decide +kernel
theorem dX12_link_64 : decode cX12_link 64 = .ok (.iaload, 1) := by decide +kernel
theorem dX12_link_65 : decode cX12_link 65 = .ok (.aload_n 0, 1) := by decide +kernel
theorem dX12_link_66 : decode cX12_link 66 = .ok (.getfield 246, 3) := by decide +kernel
theorem dX12_link_69 : decode cX12_link 69 = .ok (.getfield 481, 3) := by decide +kernel
theorem dX12_link_72 : decode cX12_link 72 = .ok (.iload_n 3, 1) := by decide +kernel
theorem dX12_link_73 : decode cX12_link 73 = .ok (.iaload, 1) := by decide +kernel
theorem dX12_link_74 : decode cX12_link 74 = .ok (.aload_n 2, 1) := by decide +kernel
theorem dX12_link_75 : decode cX12_link 75 = .ok (.getfield 269, 3) := by decide +kernel
theorem dX12_link_78 : decode cX12_link 78 = .ok (.invokevirtual 359, 3) := by decide +kernel
theorem dX12_link_81 : decode cX12_link 81 = .ok (.iconst 1, 1) := by decide +kernel
theorem dX12_link_82 : decode cX12_link 82 = .ok (.ireturn, 1) := by decide +kernel
theorem zy_X12_link : yX12_link.cls ≠ "java/lang/invoke/MethodHandle" ∧ yX12_link.cls ≠ "java/lang/invoke/VarHandle" ∧ (parseMethodDescriptor yX12_link.desc).map (fun d => d.parameters.length) = some 1 := by decide +kernel
theorem w_fX12_link_J48 {K : zK} (E : zE K cX12_link "RingHouse$Machine" (some .boolean) 6) (hN : zNl K = 4) (hT : zTr K = (some 0)) : zR K 48 [(0, 14, 0)] [] (fX12_link_J48) := by
  refine r_aload_n E dX12_link_48 rfl 0 rfl ?_
  refine r_bipush E dX12_link_49 (by decide) (zkI (by decide) (by decide)) ?_
  refine r_callV E [(0, 11)] [] rfl zc_14 zr_14 (fun o _ => ⟨_, zw_X12.1 o, rfl⟩) (lw_V q2283 q2285 qs19 q239 q2286) dX12_link_51 zy_X12_refuseHere rfl (by omega) (by decide) (Nat.le_of_ble_eq_true rfl) (by decide) (fun l G => k_fX12_refuseHere l G 11) (fun v5 => ?_)
  exact r_zreturnb E rfl hT dX12_link_54
theorem w_fX12_link_J55 {K : zK} (E : zE K cX12_link "RingHouse$Machine" (some .boolean) 6) (hN : zNl K = 4) (hT : zTr K = (some 0)) (x2 : Int) (x3 : Int) : zR K 55 [(0, 14, 0), (2, 11, x2), (3, 0, x3)] [] (fX12_link_J55 x2 x3) := by
  refine r_aload_n E dX12_link_55 rfl 0 rfl ?_
  refine r_aload_n E dX12_link_56 rfl 0 rfl ?_
  refine r_get E zc_14 zt_1307 dX12_link_57 q1550 zr_14 (zg_1307 _) (by decide) (fun v9 => ?_)
  refine r_nn E (fun hn10 => ?_)
  refine r_gecN (y := v9) E zc_10 dX12_link_60 q917 zr_10 (zh_918 (by omega)) hn10 ?_
  refine r_iload_n E dX12_link_63 rfl 2 rfl ?_
  refine r_iaload E zc_918 za_918 zt_918 zx_918 rfl rfl dX12_link_64 hn10 (fun v11 => ?_)
  refine r_aload_n E dX12_link_65 rfl 0 rfl ?_
  refine r_get E zc_14 zt_1307 dX12_link_66 q1550 zr_14 (zg_1307 _) (by decide) (fun v12 => ?_)
  refine r_nn E (fun hn13 => ?_)
  refine r_gecN (y := v12) E zc_10 dX12_link_69 q920 zr_10 (zh_919 (by omega)) hn13 ?_
  refine r_iload_n E dX12_link_72 rfl 2 rfl ?_
  refine r_iaload E zc_919 za_919 zt_919 zx_919 rfl rfl dX12_link_73 hn13 (fun v14 => ?_)
  refine r_aload_n E dX12_link_74 rfl 1 rfl ?_
  refine r_nn E (fun hn15 => ?_)
  refine r_getN E zc_11 zt_1008 dX12_link_75 q775 zr_11 (zg_1008 _) hn15 (fun v16 => ?_)
  refine r_callV E [(0, v11), (0, v14), (0, v16)] [] rfl zc_14 zr_14 (fun o _ => ⟨_, zw_X12.1 o, rfl⟩) (lw_V q2292 q2294 qs21 q239 q2295) dX12_link_78 zy_X12_at rfl (by omega) (by decide) (Nat.le_of_ble_eq_true rfl) (by decide) (fun l G => k_fX12_at l G v11 v14 v16) (fun _ => ?_)
  refine r_iconst E dX12_link_81 (zkI (by decide) (by decide)) ?_
  exact r_zreturn E rfl hT (by decide) dX12_link_82
theorem w_fX12_link {K : zK} (E : zE K cX12_link "RingHouse$Machine" (some .boolean) 6) (hN : zNl K = 4) (hT : zTr K = (some 0)) (x1 : Int) : zR K 0 [(0, 14, 0), (1, 0, x1)] [] (fX12_link x1) := by
  refine r_aload_n E dX12_link_0 rfl 0 rfl ?_
  refine r_get E zc_14 zt_1307 dX12_link_1 q1550 zr_14 (zg_1307 _) (by decide) (fun v1 => ?_)
  refine r_nn E (fun hn2 => ?_)
  refine r_gecN (y := v1) E zc_10 dX12_link_4 q891 zr_10 (zh_908 (by omega)) hn2 ?_
  refine r_astore_n (ls' := [(2, 11, v1), (0, 14, 0), (1, 0, x1)]) E dX12_link_7 rfl (by rw [hN]; decide) rfl ?_
  refine r_bipush E dX12_link_8 (by decide) (zkI (by decide) (by decide)) ?_
  refine r_aload_n E dX12_link_10 rfl 0 rfl ?_
  refine r_getN E zc_11 zt_1006 dX12_link_11 q755 zr_11 (zg_1006 _) hn2 (fun v3 => ?_)
  refine r_imul E dX12_link_14 ?_
  refine r_iload_n E dX12_link_15 rfl 2 rfl ?_
  refine r_iadd E dX12_link_16 ?_
  refine r_let E (fun v4 ev4 => ?_)
  refine r_istore_n (ls' := [(3, 0, v4), (2, 11, v1), (0, 14, 0), (1, 0, x1)]) E dX12_link_17 rfl (by rw [hN]; decide) rfl ?_
  refine r_iload_n E dX12_link_18 rfl 3 rfl ?_
  refine r_bipush E dX12_link_19 (by decide) (zkI (by decide) (by decide)) ?_
  refine r_icmp_ge E 48 (by decide) dX12_link_21 (fun _ => ?_) (fun _ => ?_)
  · refine r_pick E [2] rfl ?_
    exact w_fX12_link_J48 E hN hT
  · refine r_aload_n E dX12_link_24 rfl 2 rfl ?_
    refine r_get E zc_14 zt_1307 dX12_link_25 q1550 zr_14 (zg_1307 _) (by decide) (fun v6 => ?_)
    refine r_nn E (fun hn7 => ?_)
    refine r_gecN (y := v6) E zc_10 dX12_link_28 q917 zr_10 (zh_918 (by omega)) hn7 ?_
    refine r_iload_n E dX12_link_31 rfl 0 rfl ?_
    refine r_iaload E zc_918 za_918 zt_918 zx_918 rfl rfl dX12_link_32 hn7 (fun v8 => ?_)
    refine r_if_ge E 55 (by decide) dX12_link_33 (fun _ => ?_) (fun _ => ?_)
    · refine r_pick E [2, 1, 0] rfl ?_
      exact w_fX12_link_J55 E hN hT v1 v4
    · refine r_aload_n E dX12_link_36 rfl 2 rfl ?_
      refine r_aload_n E dX12_link_37 rfl 1 rfl ?_
      refine r_getN E zc_11 zt_1006 dX12_link_38 q755 zr_11 (zg_1006 _) hn2 (fun v18 => ?_)
      refine r_iload_n E dX12_link_41 rfl 3 rfl ?_
      refine r_callV E [(0, v18), (0, x1)] [] rfl zc_14 zr_14 (fun o _ => ⟨_, zw_X12.1 o, rfl⟩) (lw_V q2303 q2305 qs23 q239 q2306) dX12_link_42 zy_X12_bind rfl (by omega) (by decide) (Nat.le_of_ble_eq_true rfl) (by decide) (fun l G => k_fX12_bind l G v18 x1) (fun v19 => ?_)
      refine r_if_ne E 55 (by decide) dX12_link_45 (fun _ => ?_) (fun _ => ?_)
      · refine r_pick E [2, 1, 0] rfl ?_
        exact w_fX12_link_J55 E hN hT v1 v4
      · refine r_pick E [2] rfl ?_
        exact w_fX12_link_J48 E hN hT
theorem k_fX12_link (l : Launch) (G : zG) (x1 : Int) : zCt l G yX12_link cX12_link 4 (some .boolean) 6 [(14, 0), (0, x1)] (some 0) (fX12_link x1) := zCt.of (by decide) (Nat.le_of_ble_eq_true rfl) (fun K E _ _ hN hT => w_fX12_link E hN hT x1)
theorem dX12_address_0 : decode cX12_address 0 = .ok (.aload_n 0, 1) := by decide +kernel
theorem dX12_address_1 : decode cX12_address 1 = .ok (.getfield 246, 3) := by decide +kernel
theorem dX12_address_4 : decode cX12_address 4 = .ok (.getfield 256, 3) := by decide +kernel
theorem dX12_address_7 : decode cX12_address 7 = .ok (.astore_n 2, 1) := by decide +kernel
theorem dX12_address_8 : decode cX12_address 8 = .ok (.aload_n 1, 1) := by decide +kernel
theorem dX12_address_9 : decode cX12_address 9 = .ok (.getfield 345, 3) := by decide +kernel
theorem dX12_address_12 : decode cX12_address 12 = .ok (.ifCond .ne 10, 3) := by decide +kernel
theorem dX12_address_15 : decode cX12_address 15 = .ok (.aload_n 1, 1) := by decide +kernel
theorem dX12_address_16 : decode cX12_address 16 = .ok (.getfield 348, 3) := by decide +kernel
theorem dX12_address_19 : decode cX12_address 19 = .ok (.goto 23, 3) := by decide +kernel
theorem dX12_address_22 : decode cX12_address 22 = .ok (.aload_n 1, 1) := by decide +kernel
theorem dX12_address_23 : decode cX12_address 23 = .ok (.getfield 348, 3) := by decide +kernel
theorem dX12_address_26 : decode cX12_address 26 = .ok (.aload_n 2, 1) := by decide +kernel
theorem dX12_address_27 : decode cX12_address 27 = .ok (.getfield 351, 3) := by decide +kernel
theorem dX12_address_30 : decode cX12_address 30 = .ok (.aload_n 1, 1) := by decide +kernel
theorem dX12_address_31 : decode cX12_address 31 = .ok (.getfield 345, 3) := by decide +kernel
theorem dX12_address_34 : decode cX12_address 34 = .ok (.iconst 1, 1) := by decide +kernel
theorem dX12_address_35 : decode cX12_address 35 = .ok (.isub, 1) := by decide +kernel
theorem dX12_address_36 : decode cX12_address 36 = .ok (.iaload, 1) := by decide +kernel
theorem dX12_address_37 : decode cX12_address 37 = .ok (.iadd, 1) := by decide +kernel
theorem dX12_address_38 : decode cX12_address 38 = .ok (.ldc_w 355, 3) := by decide +kernel
theorem dX12_address_41 : decode cX12_address 41 = .ok (.iand, 1) := by decide +kernel
theorem dX12_address_42 : decode cX12_address 42 = .ok (.istore_n 3, 1) := by decide +kernel
theorem dX12_address_43 : decode cX12_address 43 = .ok (.aload_n 1, 1) := by decide +kernel
theorem dX12_address_44 : decode cX12_address 44 = .ok (.getfield 356, 3) := by decide +kernel
theorem dX12_address_47 : decode cX12_address 47 = .ok (.tableswitch 112 0 5 #[49, 65, 37, 112, 49, 65], 37) := by decide +kernel
theorem dX12_address_84 : decode cX12_address 84 = .ok (.aload_n 0, 1) := by decide +kernel
theorem dX12_address_85 : decode cX12_address 85 = .ok (.iconst (-1), 1) := by decide +kernel
theorem dX12_address_86 : decode cX12_address 86 = .ok (.iload_n 3, 1) := by decide +kernel
theorem dX12_address_87 : decode cX12_address 87 = .ok (.aload_n 2, 1) := by decide +kernel
theorem dX12_address_88 : decode cX12_address 88 = .ok (.getfield 269, 3) := by decide +kernel
theorem dX12_address_91 : decode cX12_address 91 = .ok (.invokevirtual 359, 3) := by decide +kernel
theorem dX12_address_94 : decode cX12_address 94 = .ok (.iconst 1, 1) := by decide +kernel
theorem dX12_address_95 : decode cX12_address 95 = .ok (.ireturn, 1) := by decide +kernel
theorem dX12_address_96 : decode cX12_address 96 = .ok (.aload_n 0, 1) := by decide +kernel
theorem dX12_address_97 : decode cX12_address 97 = .ok (.aload_n 2, 1) := by decide +kernel
theorem dX12_address_98 : decode cX12_address 98 = .ok (.getfield 260, 3) := by decide +kernel
theorem dX12_address_101 : decode cX12_address 101 = .ok (.iload_n 3, 1) := by decide +kernel
theorem dX12_address_102 : decode cX12_address 102 = .ok (.aload_n 2, 1) := by decide +kernel
theorem dX12_address_103 : decode cX12_address 103 = .ok (.getfield 269, 3) := by decide +kernel
theorem dX12_address_106 : decode cX12_address 106 = .ok (.invokevirtual 359, 3) := by decide +kernel
theorem dX12_address_109 : decode cX12_address 109 = .ok (.goto 60, 3) := by decide +kernel
theorem dX12_address_112 : decode cX12_address 112 = .ok (.aload_n 0, 1) := by decide +kernel
theorem dX12_address_113 : decode cX12_address 113 = .ok (.aload_n 2, 1) := by decide +kernel
theorem dX12_address_114 : decode cX12_address 114 = .ok (.getfield 363, 3) := by decide +kernel
theorem dX12_address_117 : decode cX12_address 117 = .ok (.aload_n 1, 1) := by decide +kernel
theorem dX12_address_118 : decode cX12_address 118 = .ok (.getfield 366, 3) := by decide +kernel
theorem dX12_address_121 : decode cX12_address 121 = .ok (.iaload, 1) := by decide +kernel
theorem dX12_address_122 : decode cX12_address 122 = .ok (.aload_n 2, 1) := by decide +kernel
theorem dX12_address_123 : decode cX12_address 123 = .ok (.getfield 369, 3) := by decide +kernel
theorem dX12_address_126 : decode cX12_address 126 = .ok (.aload_n 1, 1) := by decide +kernel
theorem dX12_address_127 : decode cX12_address 127 = .ok (.getfield 366, 3) := by decide +kernel
theorem dX12_address_130 : decode cX12_address 130 = .ok (.iaload, 1) := by decide +kernel
theorem dX12_address_131 : decode cX12_address 131 = .ok (.iload_n 3, 1) := by decide +kernel
theorem dX12_address_132 : decode cX12_address 132 = .ok (.iadd, 1) := by decide +kernel
theorem dX12_address_133 : decode cX12_address 133 = .ok (.ldc_w 355, 3) := by decide +kernel
theorem dX12_address_136 : decode cX12_address 136 = .ok (.iand, 1) := by decide +kernel
theorem dX12_address_137 : decode cX12_address 137 = .ok (.aload_n 2, 1) := by decide +kernel
theorem dX12_address_138 : decode cX12_address 138 = .ok (.getfield 269, 3) := by decide +kernel
theorem dX12_address_141 : decode cX12_address 141 = .ok (.aload_n 2, 1) := by decide +kernel
theorem dX12_address_142 : decode cX12_address 142 = .ok (.getfield 372, 3) := by decide +kernel
theorem dX12_address_145 : decode cX12_address 145 = .ok (.aload_n 1, 1) := by decide +kernel
theorem dX12_address_146 : decode cX12_address 146 = .ok (.getfield 366, 3) := by decide +kernel
theorem dX12_address_149 : decode cX12_address 149 = .ok (.iaload, 1) := by decide +kernel
theorem dX12_address_150 : decode cX12_address 150 = .ok (.invokestatic 375, 3) := by decide +kernel
theorem dX12_address_153 : decode cX12_address 153 = .ok (.invokevirtual 359, 3) := by decide +kernel
theorem dX12_address_156 : decode cX12_address 156 = .ok (.goto 13, 3) := by decide +kernel
theorem dX12_address_159 : decode cX12_address 159 = .ok (.aload_n 0, 1) := by decide +kernel
theorem dX12_address_160 : decode cX12_address 160 = .ok (.iload_n 3, 1) := by decide +kernel
theorem dX12_address_161 : decode cX12_address 161 = .ok (.invokevirtual 381, 3) := by decide +kernel
theorem dX12_address_164 : decode cX12_address 164 = .ok (.ifCond .ne 5, 3) := by decide +kernel
theorem dX12_address_167 : decode cX12_address 167 = .ok (.iconst 0, 1) := by decide +kernel
theorem dX12_address_168 : decode cX12_address 168 = .ok (.ireturn, 1) := by decide +kernel
theorem dX12_address_169 : decode cX12_address 169 = .ok (.aload_n 1, 1) := by decide +kernel
theorem dX12_address_170 : decode cX12_address 170 = .ok (.getfield 356, 3) := by decide +kernel
theorem dX12_address_173 : decode cX12_address 173 = .ok (.iconst 4, 1) := by decide +kernel
theorem dX12_address_174 : decode cX12_address 174 = .ok (.if_icmp .lt 10, 3) := by decide +kernel
theorem dX12_address_177 : decode cX12_address 177 = .ok (.aload_n 0, 1) := by decide +kernel
theorem dX12_address_178 : decode cX12_address 178 = .ok (.invokevirtual 385, 3) := by decide +kernel
theorem dX12_address_181 : decode cX12_address 181 = .ok (.ifCond .eq 7, 3) := by decide +kernel
theorem dX12_address_184 : decode cX12_address 184 = .ok (.iconst 1, 1) := by decide +kernel
theorem dX12_address_185 : decode cX12_address 185 = .ok (.goto 4, 3) := by decide +kernel
theorem dX12_address_188 : decode cX12_address 188 = .ok (.iconst 0, 1) := by decide +kernel
theorem dX12_address_189 : decode cX12_address 189 = .ok (.ireturn, 1) := by decide +kernel
theorem zy_X12_address : yX12_address.cls ≠ "java/lang/invoke/MethodHandle" ∧ yX12_address.cls ≠ "java/lang/invoke/VarHandle" ∧ (parseMethodDescriptor yX12_address.desc).map (fun d => d.parameters.length) = some 1 := by decide +kernel
theorem w_fX12_address_J169 {K : zK} (E : zE K cX12_address "RingHouse$Machine" (some .boolean) 9) (hN : zNl K = 4) (hT : zTr K = (some 0)) (x1 : Int) : zR K 169 [(0, 14, 0), (1, 9, x1)] [] (fX12_address_J169 x1) := by
  refine r_aload_n E dX12_address_169 rfl 1 rfl ?_
  refine r_nn E (fun hn15 => ?_)
  refine r_getN E zc_9 zt_802 dX12_address_170 q643 zr_9 (zg_802 _) hn15 (fun v16 => ?_)
  refine r_iconst E dX12_address_173 (zkI (by decide) (by decide)) ?_
  refine r_icmp_lt E 184 (by decide) dX12_address_174 (fun _ => ?_) (fun _ => ?_)
  · refine r_iconst E dX12_address_184 (zkI (by decide) (by decide)) ?_
    refine r_goto E 189 (by decide) dX12_address_185 ?_
    exact r_zreturn E rfl hT (by decide) dX12_address_189
  · refine r_aload_n E dX12_address_177 rfl 0 rfl ?_
    refine r_callV E [] [] rfl zc_14 zr_14 (fun o _ => ⟨_, zw_X12.1 o, rfl⟩) (lw_V q2332 q2334 qs27 q239 q2335) dX12_address_178 zy_X12_indirect rfl (by omega) (by decide) (Nat.le_of_ble_eq_true rfl) (by decide) (fun l G => k_fX12_indirect l G) (fun v17 => ?_)
    refine r_if_eq E 188 (by decide) dX12_address_181 (fun _ => ?_) (fun _ => ?_)
    · refine r_iconst E dX12_address_188 (zkI (by decide) (by decide)) ?_
      exact r_zreturn E rfl hT (by decide) dX12_address_189
    · refine r_iconst E dX12_address_184 (zkI (by decide) (by decide)) ?_
      refine r_goto E 189 (by decide) dX12_address_185 ?_
      exact r_zreturn E rfl hT (by decide) dX12_address_189
theorem w_fX12_address_J42 {K : zK} (E : zE K cX12_address "RingHouse$Machine" (some .boolean) 9) (hN : zNl K = 4) (hT : zTr K = (some 0)) (x1 : Int) (x2 : Int) (s0 : Int) : zR K 42 [(0, 14, 0), (1, 9, x1), (2, 11, x2)] [(0, s0)] (fX12_address_J42 x1 x2 s0) := by
  refine r_istore_n (ls' := [(3, 0, s0), (0, 14, 0), (1, 9, x1), (2, 11, x2)]) E dX12_address_42 rfl (by rw [hN]; decide) rfl ?_
  refine r_aload_n E dX12_address_43 rfl 2 rfl ?_
  refine r_nn E (fun hn8 => ?_)
  refine r_getN E zc_9 zt_802 dX12_address_44 q643 zr_9 (zg_802 _) hn8 (fun v9 => ?_)
  refine r_tabc E dX12_address_47 0 96 (by decide) (by decide) rfl (by decide) (fun _ => ?_) (fun ht10 => ?_)
  · refine r_aload_n E dX12_address_96 rfl 1 rfl ?_
    refine r_aload_n E dX12_address_97 rfl 3 rfl ?_
    refine r_nn E (fun hn11 => ?_)
    refine r_getN E zc_11 zt_1006 dX12_address_98 q755 zr_11 (zg_1006 _) hn11 (fun v12 => ?_)
    refine r_iload_n E dX12_address_101 rfl 0 rfl ?_
    refine r_aload_n E dX12_address_102 rfl 3 rfl ?_
    refine r_getN E zc_11 zt_1008 dX12_address_103 q775 zr_11 (zg_1008 _) hn11 (fun v13 => ?_)
    refine r_callV E [(0, v12), (0, s0), (0, v13)] [] rfl zc_14 zr_14 (fun o _ => ⟨_, zw_X12.1 o, rfl⟩) (lw_V q2292 q2294 qs21 q239 q2295) dX12_address_106 zy_X12_at rfl (by omega) (by decide) (Nat.le_of_ble_eq_true rfl) (by decide) (fun l G => k_fX12_at l G v12 s0 v13) (fun _ => ?_)
    refine r_goto E 169 (by decide) dX12_address_109 ?_
    refine r_pick E [1, 2] rfl ?_
    exact w_fX12_address_J169 E hN hT x1
  · refine r_tabc E dX12_address_47 1 112 (by decide) (by decide) rfl (by decide) (fun _ => ?_) (fun ht18 => ?_)
    · refine r_aload_n E dX12_address_112 rfl 1 rfl ?_
      refine r_aload_n E dX12_address_113 rfl 3 rfl ?_
      refine r_nn E (fun hn19 => ?_)
      refine r_gecN (y := x2) E zc_11 dX12_address_114 q749 zr_11 (zh_1003 (by omega)) hn19 ?_
      refine r_aload_n E dX12_address_117 rfl 2 rfl ?_
      refine r_getN E zc_9 zt_803 dX12_address_118 q646 zr_9 (zg_803 _) hn8 (fun v20 => ?_)
      refine r_iaload E zc_1003 za_1003 zt_1003 zx_1003 rfl rfl dX12_address_121 hn19 (fun v21 => ?_)
      refine r_aload_n E dX12_address_122 rfl 3 rfl ?_
      refine r_gecN (y := x2) E zc_11 dX12_address_123 q752 zr_11 (zh_1004 (by omega)) hn19 ?_
      refine r_aload_n E dX12_address_126 rfl 2 rfl ?_
      refine r_getN E zc_9 zt_803 dX12_address_127 q646 zr_9 (zg_803 _) hn8 (fun v22 => ?_)
      refine r_iaload E zc_1004 za_1004 zt_1004 zx_1004 rfl rfl dX12_address_130 hn19 (fun v23 => ?_)
      refine r_iload_n E dX12_address_131 rfl 0 rfl ?_
      refine r_iadd E dX12_address_132 ?_
      refine r_ldcw (v := 262143) E dX12_address_133 q2291 (by decide) (zkI (by decide) (by decide)) ?_
      refine r_imask (P := 262144) E 18 (by decide) (by decide) (by decide) dX12_address_136 ?_
      refine r_aload_n E dX12_address_137 rfl 3 rfl ?_
      refine r_getN E zc_11 zt_1008 dX12_address_138 q775 zr_11 (zg_1008 _) hn19 (fun v24 => ?_)
      refine r_aload_n E dX12_address_141 rfl 3 rfl ?_
      refine r_gecN (y := x2) E zc_11 dX12_address_142 q754 zr_11 (zh_1005 (by omega)) hn19 ?_
      refine r_aload_n E dX12_address_145 rfl 2 rfl ?_
      refine r_getN E zc_9 zt_803 dX12_address_146 q646 zr_9 (zg_803 _) hn8 (fun v25 => ?_)
      refine r_iaload E zc_1005 za_1005 zt_1005 zx_1005 rfl rfl dX12_address_149 hn19 (fun v26 => ?_)
      refine r_max E q2296 dX12_address_150 (Nat.le_of_ble_eq_true rfl) ?_
      refine r_callV E [(0, v21), (0, ((zi (v23 + s0)) % 262144)), (0, (max v24 v26))] [] rfl zc_14 zr_14 (fun o _ => ⟨_, zw_X12.1 o, rfl⟩) (lw_V q2292 q2294 qs21 q239 q2295) dX12_address_153 zy_X12_at rfl (by omega) (by decide) (Nat.le_of_ble_eq_true rfl) (by decide) (fun l G => k_fX12_at l G v21 ((zi (v23 + s0)) % 262144) (max v24 v26)) (fun _ => ?_)
      refine r_goto E 169 (by decide) dX12_address_156 ?_
      refine r_pick E [1, 2] rfl ?_
      exact w_fX12_address_J169 E hN hT x1
    · refine r_tabc E dX12_address_47 2 84 (by decide) (by decide) rfl (by decide) (fun _ => ?_) (fun ht28 => ?_)
      · refine r_aload_n E dX12_address_84 rfl 1 rfl ?_
        refine r_iconst E dX12_address_85 (zkI (by decide) (by decide)) ?_
        refine r_iload_n E dX12_address_86 rfl 0 rfl ?_
        refine r_aload_n E dX12_address_87 rfl 3 rfl ?_
        refine r_nn E (fun hn29 => ?_)
        refine r_getN E zc_11 zt_1008 dX12_address_88 q775 zr_11 (zg_1008 _) hn29 (fun v30 => ?_)
        refine r_callV E [(0, (-1)), (0, s0), (0, v30)] [] rfl zc_14 zr_14 (fun o _ => ⟨_, zw_X12.1 o, rfl⟩) (lw_V q2292 q2294 qs21 q239 q2295) dX12_address_91 zy_X12_at rfl (by omega) (by decide) (Nat.le_of_ble_eq_true rfl) (by decide) (fun l G => k_fX12_at l G (-1) s0 v30) (fun _ => ?_)
        refine r_iconst E dX12_address_94 (zkI (by decide) (by decide)) ?_
        exact r_zreturn E rfl hT (by decide) dX12_address_95
      · refine r_tabc E dX12_address_47 4 96 (by decide) (by decide) rfl (by decide) (fun _ => ?_) (fun ht32 => ?_)
        · refine r_aload_n E dX12_address_96 rfl 1 rfl ?_
          refine r_aload_n E dX12_address_97 rfl 3 rfl ?_
          refine r_nn E (fun hn33 => ?_)
          refine r_getN E zc_11 zt_1006 dX12_address_98 q755 zr_11 (zg_1006 _) hn33 (fun v34 => ?_)
          refine r_iload_n E dX12_address_101 rfl 0 rfl ?_
          refine r_aload_n E dX12_address_102 rfl 3 rfl ?_
          refine r_getN E zc_11 zt_1008 dX12_address_103 q775 zr_11 (zg_1008 _) hn33 (fun v35 => ?_)
          refine r_callV E [(0, v34), (0, s0), (0, v35)] [] rfl zc_14 zr_14 (fun o _ => ⟨_, zw_X12.1 o, rfl⟩) (lw_V q2292 q2294 qs21 q239 q2295) dX12_address_106 zy_X12_at rfl (by omega) (by decide) (Nat.le_of_ble_eq_true rfl) (by decide) (fun l G => k_fX12_at l G v34 s0 v35) (fun _ => ?_)
          refine r_goto E 169 (by decide) dX12_address_109 ?_
          refine r_pick E [1, 2] rfl ?_
          exact w_fX12_address_J169 E hN hT x1
        · refine r_tabc E dX12_address_47 5 112 (by decide) (by decide) rfl (by decide) (fun _ => ?_) (fun ht37 => ?_)
          · refine r_aload_n E dX12_address_112 rfl 1 rfl ?_
            refine r_aload_n E dX12_address_113 rfl 3 rfl ?_
            refine r_nn E (fun hn38 => ?_)
            refine r_gecN (y := x2) E zc_11 dX12_address_114 q749 zr_11 (zh_1003 (by omega)) hn38 ?_
            refine r_aload_n E dX12_address_117 rfl 2 rfl ?_
            refine r_getN E zc_9 zt_803 dX12_address_118 q646 zr_9 (zg_803 _) hn8 (fun v39 => ?_)
            refine r_iaload E zc_1003 za_1003 zt_1003 zx_1003 rfl rfl dX12_address_121 hn38 (fun v40 => ?_)
            refine r_aload_n E dX12_address_122 rfl 3 rfl ?_
            refine r_gecN (y := x2) E zc_11 dX12_address_123 q752 zr_11 (zh_1004 (by omega)) hn38 ?_
            refine r_aload_n E dX12_address_126 rfl 2 rfl ?_
            refine r_getN E zc_9 zt_803 dX12_address_127 q646 zr_9 (zg_803 _) hn8 (fun v41 => ?_)
            refine r_iaload E zc_1004 za_1004 zt_1004 zx_1004 rfl rfl dX12_address_130 hn38 (fun v42 => ?_)
            refine r_iload_n E dX12_address_131 rfl 0 rfl ?_
            refine r_iadd E dX12_address_132 ?_
            refine r_ldcw (v := 262143) E dX12_address_133 q2291 (by decide) (zkI (by decide) (by decide)) ?_
            refine r_imask (P := 262144) E 18 (by decide) (by decide) (by decide) dX12_address_136 ?_
            refine r_aload_n E dX12_address_137 rfl 3 rfl ?_
            refine r_getN E zc_11 zt_1008 dX12_address_138 q775 zr_11 (zg_1008 _) hn38 (fun v43 => ?_)
            refine r_aload_n E dX12_address_141 rfl 3 rfl ?_
            refine r_gecN (y := x2) E zc_11 dX12_address_142 q754 zr_11 (zh_1005 (by omega)) hn38 ?_
            refine r_aload_n E dX12_address_145 rfl 2 rfl ?_
            refine r_getN E zc_9 zt_803 dX12_address_146 q646 zr_9 (zg_803 _) hn8 (fun v44 => ?_)
            refine r_iaload E zc_1005 za_1005 zt_1005 zx_1005 rfl rfl dX12_address_149 hn38 (fun v45 => ?_)
            refine r_max E q2296 dX12_address_150 (Nat.le_of_ble_eq_true rfl) ?_
            refine r_callV E [(0, v40), (0, ((zi (v42 + s0)) % 262144)), (0, (max v43 v45))] [] rfl zc_14 zr_14 (fun o _ => ⟨_, zw_X12.1 o, rfl⟩) (lw_V q2292 q2294 qs21 q239 q2295) dX12_address_153 zy_X12_at rfl (by omega) (by decide) (Nat.le_of_ble_eq_true rfl) (by decide) (fun l G => k_fX12_at l G v40 ((zi (v42 + s0)) % 262144) (max v43 v45)) (fun _ => ?_)
            refine r_goto E 169 (by decide) dX12_address_156 ?_
            refine r_pick E [1, 2] rfl ?_
            exact w_fX12_address_J169 E hN hT x1
          · refine r_tabd E dX12_address_47 159 [0, 1, 2, 4, 5] (by decide) (by decide) (by decide) ⟨ht10, ht18, ht28, ht32, ht37, trivial⟩ ?_
            refine r_aload_n E dX12_address_159 rfl 1 rfl ?_
            refine r_iload_n E dX12_address_160 rfl 0 rfl ?_
            refine r_callV E [(0, s0)] [] rfl zc_14 zr_14 (fun o _ => ⟨_, zw_X12.1 o, rfl⟩) (lw_V q2299 q2301 qs22 q239 q2302) dX12_address_161 zy_X12_link rfl (by omega) (by decide) (Nat.le_of_ble_eq_true rfl) (by decide) (fun l G => k_fX12_link l G s0) (fun v47 => ?_)
            refine r_if_ne E 169 (by decide) dX12_address_164 (fun _ => ?_) (fun _ => ?_)
            · refine r_pick E [1, 2] rfl ?_
              exact w_fX12_address_J169 E hN hT x1
            · refine r_iconst E dX12_address_167 (zkI (by decide) (by decide)) ?_
              exact r_zreturn E rfl hT (by decide) dX12_address_168
theorem w_fX12_address {K : zK} (E : zE K cX12_address "RingHouse$Machine" (some .boolean) 9) (hN : zNl K = 4) (hT : zTr K = (some 0)) (x1 : Int) : zR K 0 [(0, 14, 0), (1, 9, x1)] [] (fX12_address x1) := by
  refine r_aload_n E dX12_address_0 rfl 0 rfl ?_
  refine r_get E zc_14 zt_1307 dX12_address_1 q1550 zr_14 (zg_1307 _) (by decide) (fun v1 => ?_)
  refine r_nn E (fun hn2 => ?_)
  refine r_gecN (y := v1) E zc_10 dX12_address_4 q891 zr_10 (zh_908 (by omega)) hn2 ?_
  refine r_astore_n (ls' := [(2, 11, v1), (0, 14, 0), (1, 9, x1)]) E dX12_address_7 rfl (by rw [hN]; decide) rfl ?_
  refine r_aload_n E dX12_address_8 rfl 2 rfl ?_
  refine r_nn E (fun hn3 => ?_)
  refine r_getN E zc_9 zt_805 dX12_address_9 q656 zr_9 (zg_805 _) hn3 (fun v4 => ?_)
  refine r_if_ne E 22 (by decide) dX12_address_12 (fun _ => ?_) (fun _ => ?_)
  · refine r_aload_n E dX12_address_22 rfl 2 rfl ?_
    refine r_getN E zc_9 zt_806 dX12_address_23 q659 zr_9 (zg_806 _) hn3 (fun v5 => ?_)
    refine r_aload_n E dX12_address_26 rfl 0 rfl ?_
    refine r_gecN (y := v1) E zc_11 dX12_address_27 q745 zr_11 (zh_1002 (by omega)) hn2 ?_
    refine r_aload_n E dX12_address_30 rfl 2 rfl ?_
    refine r_getN E zc_9 zt_805 dX12_address_31 q656 zr_9 (zg_805 _) hn3 (fun v6 => ?_)
    refine r_iconst E dX12_address_34 (zkI (by decide) (by decide)) ?_
    refine r_isub E dX12_address_35 ?_
    refine r_iaload E zc_1002 za_1002 zt_1002 zx_1002 rfl rfl dX12_address_36 hn2 (fun v7 => ?_)
    refine r_iadd E dX12_address_37 ?_
    refine r_ldcw (v := 262143) E dX12_address_38 q2291 (by decide) (zkI (by decide) (by decide)) ?_
    refine r_imask (P := 262144) E 18 (by decide) (by decide) (by decide) dX12_address_41 ?_
    refine r_pick E [1, 2, 0] rfl ?_
    exact w_fX12_address_J42 E hN hT x1 v1 ((zi (v5 + v7)) % 262144)
  · refine r_aload_n E dX12_address_15 rfl 2 rfl ?_
    refine r_getN E zc_9 zt_806 dX12_address_16 q659 zr_9 (zg_806 _) hn3 (fun v48 => ?_)
    refine r_goto E 42 (by decide) dX12_address_19 ?_
    refine r_pick E [1, 2, 0] rfl ?_
    exact w_fX12_address_J42 E hN hT x1 v1 v48
theorem k_fX12_address (l : Launch) (G : zG) (x1 : Int) : zCt l G yX12_address cX12_address 4 (some .boolean) 9 [(14, 0), (9, x1)] (some 0) (fX12_address x1) := zCt.of (by decide) (Nat.le_of_ble_eq_true rfl) (fun K E _ _ hN hT => w_fX12_address E hN hT x1)
theorem dX12_step_0 : decode cX12_step 0 = .ok (.aload_n 0, 1) := by decide +kernel
theorem dX12_step_1 : decode cX12_step 1 = .ok (.aload_n 1, 1) := by decide +kernel
theorem dX12_step_2 : decode cX12_step 2 = .ok (.putfield 246, 3) := by decide +kernel
theorem dX12_step_5 : decode cX12_step 5 = .ok (.aload_n 1, 1) := by decide +kernel
theorem dX12_step_6 : decode cX12_step 6 = .ok (.dup, 1) := by decide +kernel
theorem dX12_step_7 : decode cX12_step 7 = .ok (.getfield 426, 3) := by decide +kernel
theorem dX12_step_10 : decode cX12_step 10 = .ok (.iconst 1, 1) := by decide +kernel
theorem dX12_step_11 : decode cX12_step 11 = .ok (.iadd, 1) := by decide +kernel
theorem dX12_step_12 : decode cX12_step 12 = .ok (.putfield 426, 3) := by decide +kernel
theorem dX12_step_15 : decode cX12_step 15 = .ok (.aload_n 1, 1) := by decide +kernel
theorem dX12_step_16 : decode cX12_step 16 = .ok (.getfield 256, 3) := by decide +kernel
theorem dX12_step_19 : decode cX12_step 19 = .ok (.astore_n 2, 1) := by decide +kernel
theorem dX12_step_20 : decode cX12_step 20 = .ok (.aload_n 0, 1) := by decide +kernel
theorem dX12_step_21 : decode cX12_step 21 = .ok (.aload_n 2, 1) := by decide +kernel
theorem dX12_step_22 : decode cX12_step 22 = .ok (.getfield 260, 3) := by decide +kernel
theorem dX12_step_25 : decode cX12_step 25 = .ok (.aload_n 2, 1) := by decide +kernel
theorem dX12_step_26 : decode cX12_step 26 = .ok (.getfield 266, 3) := by decide +kernel
theorem dX12_step_29 : decode cX12_step 29 = .ok (.aload_n 2, 1) := by decide +kernel
theorem dX12_step_30 : decode cX12_step 30 = .ok (.getfield 269, 3) := by decide +kernel
theorem dX12_step_33 : decode cX12_step 33 = .ok (.iconst 2, 1) := by decide +kernel
theorem dX12_step_34 : decode cX12_step 34 = .ok (.invokevirtual 338, 3) := by decide +kernel
theorem dX12_step_37 : decode cX12_step 37 = .ok (.ifCond .ne 4, 3) := by decide +kernel
theorem dX12_step_40 : decode cX12_step 40 = .ok (.return_, 1) := by decide +kernel
theorem dX12_step_41 : decode cX12_step 41 = .ok (.aload_n 0, 1) := by decide +kernel
theorem dX12_step_42 : decode cX12_step 42 = .ok (.aload_n 0, 1) := by decide +kernel
theorem dX12_step_43 : decode cX12_step 43 = .ok (.aload_n 2, 1) := by decide +kernel
theorem dX12_step_44 : decode cX12_step 44 = .ok (.getfield 260, 3) := by decide +kernel
theorem dX12_step_47 : decode cX12_step 47 = .ok (.aload_n 2, 1) := by decide +kernel
theorem dX12_step_48 : decode cX12_step 48 = .ok (.getfield 266, 3) := by decide +kernel
theorem dX12_step_51 : decode cX12_step 51 = .ok (.invokevirtual 341, 3) := by decide +kernel
theorem dX12_step_54 : decode cX12_step 54 = .ok (.invokevirtual 429, 3) := by decide +kernel
theorem dX12_step_57 : decode cX12_step 57 = .ok (.astore_n 3, 1) := by decide +kernel
theorem dX12_step_58 : decode cX12_step 58 = .ok (.aload_n 3, 1) := by decide +kernel
theorem dX12_step_59 : decode cX12_step 59 = .ok (.getfield 433, 3) := by decide +kernel
theorem dX12_step_62 : decode cX12_step 62 = .ok (.astore 4, 2) := by decide +kernel
theorem dX12_step_64 : decode cX12_step 64 = .ok (.aload 4, 2) := by decide +kernel
theorem dX12_step_66 : decode cX12_step 66 = .ok (.ifnonnull 11, 3) := by decide +kernel
theorem dX12_step_69 : decode cX12_step 69 = .ok (.aload_n 0, 1) := by decide +kernel
theorem dX12_step_70 : decode cX12_step 70 = .ok (.bipush 8, 2) := by decide +kernel
theorem dX12_step_72 : decode cX12_step 72 = .ok (.invokevirtual 437, 3) := by decide +kernel
theorem dX12_step_75 : decode cX12_step 75 = .ok (.pop, 1) := by decide +kernel
theorem dX12_step_76 : decode cX12_step 76 = .ok (.return_, 1) := by decide +kernel
theorem dX12_step_77 : decode cX12_step 77 = .ok (.aload 4, 2) := by decide +kernel
theorem dX12_step_79 : decode cX12_step 79 = .ok (.getfield 440, 3) := by decide +kernel
theorem dX12_step_82 : decode cX12_step 82 = .ok (.ifCond .eq 12, 3) := by decide +kernel
theorem dX12_step_85 : decode cX12_step 85 = .ok (.aload_n 0, 1) := by decide +kernel
theorem dX12_step_86 : decode cX12_step 86 = .ok (.aload_n 3, 1) := by decide +kernel
theorem dX12_step_87 : decode cX12_step 87 = .ok (.invokevirtual 443, 3) := by decide +kernel
theorem dX12_step_90 : decode cX12_step 90 = .ok (.ifCond .ne 4, 3) := by decide +kernel
theorem dX12_step_93 : decode cX12_step 93 = .ok (.return_, 1) := by decide +kernel
theorem dX12_step_94 : decode cX12_step 94 = .ok (.aload_n 0, 1) := by decide +kernel
theorem dX12_step_95 : decode cX12_step 95 = .ok (.aload_n 2, 1) := by decide +kernel
theorem dX12_step_96 : decode cX12_step 96 = .ok (.getfield 260, 3) := by decide +kernel
theorem dX12_step_99 : decode cX12_step 99 = .ok (.putfield 416, 3) := by decide +kernel
theorem dX12_step_102 : decode cX12_step 102 = .ok (.aload_n 0, 1) := by decide +kernel
theorem dX12_step_103 : decode cX12_step 103 = .ok (.aload_n 2, 1) := by decide +kernel
theorem dX12_step_104 : decode cX12_step 104 = .ok (.getfield 266, 3) := by decide +kernel
theorem dX12_step_107 : decode cX12_step 107 = .ok (.iconst 1, 1) := by decide +kernel
theorem dX12_step_108 : decode cX12_step 108 = .ok (.iadd, 1) := by decide +kernel
theorem dX12_step_109 : decode cX12_step 109 = .ok (.ldc_w 355, 3) := by decide +kernel
theorem dX12_step_112 : decode cX12_step 112 = .ok (.iand, 1) := by decide +kernel
theorem dX12_step_113 : decode cX12_step 113 = .ok (.putfield 419, 3) := by decide +kernel
theorem dX12_step_116 : decode cX12_step 116 = .ok (.aload_n 0, 1) := by decide +kernel
theorem dX12_step_117 : decode cX12_step 117 = .ok (.iconst 0, 1) := by decide +kernel
theorem dX12_step_118 : decode cX12_step 118 = .ok (.putfield 447, 3) := by decide +kernel
theorem dX12_step_121 : decode cX12_step 121 = .ok (.aload 4, 2) := by decide +kernel
theorem dX12_step_123 : decode cX12_step 123 = .ok (.aload_n 0, 1) := by decide +kernel
theorem dX12_step_124 : decode cX12_step 124 = .ok (.aload_n 3, 1) := by decide +kernel
theorem dX12_step_125 : decode cX12_step 125 = .ok (.aload_n 2, 1) := by decide +kernel
theorem dX12_step_126 : decode cX12_step 126 = .ok (.invokevirtual 451, 3) := by decide +kernel
theorem dX12_step_129 : decode cX12_step 129 = .ok (.ifCond .eq 26, 3) := by decide +kernel
theorem dX12_step_132 : decode cX12_step 132 = .ok (.aload_n 0, 1) := by decide +kernel
theorem dX12_step_133 : decode cX12_step 133 = .ok (.getfield 447, 3) := by decide +kernel
theorem dX12_step_136 : decode cX12_step 136 = .ok (.ifCond .ne 19, 3) := by decide +kernel
theorem dX12_step_139 : decode cX12_step 139 = .ok (.aload_n 2, 1) := by decide +kernel
theorem dX12_step_140 : decode cX12_step 140 = .ok (.aload_n 0, 1) := by decide +kernel
theorem dX12_step_141 : decode cX12_step 141 = .ok (.getfield 416, 3) := by decide +kernel
theorem dX12_step_144 : decode cX12_step 144 = .ok (.putfield 260, 3) := by decide +kernel
theorem dX12_step_147 : decode cX12_step 147 = .ok (.aload_n 2, 1) := by decide +kernel
theorem dX12_step_148 : decode cX12_step 148 = .ok (.aload_n 0, 1) := by decide +kernel
theorem dX12_step_149 : decode cX12_step 149 = .ok (.getfield 419, 3) := by decide +kernel
theorem dX12_step_152 : decode cX12_step 152 = .ok (.putfield 266, 3) := by decide +kernel
theorem dX12_step_155 : decode cX12_step 155 = .ok (.return_, 1) := by decide +kernel
theorem zy_X12_step : yX12_step.cls ≠ "java/lang/invoke/MethodHandle" ∧ yX12_step.cls ≠ "java/lang/invoke/VarHandle" ∧ (parseMethodDescriptor yX12_step.desc).map (fun d => d.parameters.length) = some 1 := by decide +kernel
theorem w_fX12_step_J129 {K : zK} (E : zE K cX12_step "RingHouse$Machine" none 308) (hN : zNl K = 5) (hT : zTr K = none) (x2 : Int) (s0 : Int) : zR K 129 [(0, 14, 0), (2, 11, x2)] [(0, s0)] (fX12_step_J129 x2 s0) := by
  refine r_if_eq E 155 (by decide) dX12_step_129 (fun _ => ?_) (fun _ => ?_)
  · exact r_return E rfl hT dX12_step_155
  · refine r_aload_n E dX12_step_132 rfl 0 rfl ?_
    refine r_get E zc_14 zt_1314 dX12_step_133 q1589 zr_14 (zg_1314 _) (by decide) (fun v20 => ?_)
    refine r_if_ne E 155 (by decide) dX12_step_136 (fun _ => ?_) (fun _ => ?_)
    · exact r_return E rfl hT dX12_step_155
    · refine r_aload_n E dX12_step_139 rfl 1 rfl ?_
      refine r_aload_n E dX12_step_140 rfl 0 rfl ?_
      refine r_get E zc_14 zt_1312 dX12_step_141 q1584 zr_14 (zg_1312 _) (by decide) (fun v21 => ?_)
      refine r_nn E (fun hn22 => ?_)
      refine r_putN E zc_11 zt_1006 zo_1006 dX12_step_144 q755 zr_11 zw_X9 zp_1006 (fun _ => rfl) (fun _ => rfl) hn22 ?_
      refine r_aload_n E dX12_step_147 rfl 1 rfl ?_
      refine r_aload_n E dX12_step_148 rfl 0 rfl ?_
      refine r_get E zc_14 zt_1313 dX12_step_149 q1586 zr_14 (zg_1313 _) (by decide) (fun v23 => ?_)
      refine r_putN E zc_11 zt_1007 zo_1007 dX12_step_152 q760 zr_11 zw_X9 zp_1007 (fun _ => rfl) (fun _ => rfl) hn22 ?_
      exact r_return E rfl hT dX12_step_155
theorem w_fX12_step_J94 {K : zK} (E : zE K cX12_step "RingHouse$Machine" none 308) (hN : zNl K = 5) (hT : zTr K = none) (x2 : Int) (x3 : Int) (x4 : Int) : zR K 94 [(0, 14, 0), (2, 11, x2), (3, 9, x3), (4, 16, x4)] [] (fX12_step_J94 x2 x3 x4) := by
  refine r_aload_n E dX12_step_94 rfl 0 rfl ?_
  refine r_aload_n E dX12_step_95 rfl 1 rfl ?_
  refine r_nn E (fun hn15 => ?_)
  refine r_getN E zc_11 zt_1006 dX12_step_96 q755 zr_11 (zg_1006 _) hn15 (fun v16 => ?_)
  refine r_put E zc_14 zt_1312 zo_1312 dX12_step_99 q1584 zr_14 zw_X12 zp_1312 (fun _ => rfl) (fun _ => rfl) (by decide) ?_
  refine r_aload_n E dX12_step_102 rfl 0 rfl ?_
  refine r_aload_n E dX12_step_103 rfl 1 rfl ?_
  refine r_getN E zc_11 zt_1007 dX12_step_104 q760 zr_11 (zg_1007 _) hn15 (fun v17 => ?_)
  refine r_iconst E dX12_step_107 (zkI (by decide) (by decide)) ?_
  refine r_iadd E dX12_step_108 ?_
  refine r_ldcw (v := 262143) E dX12_step_109 q2291 (by decide) (zkI (by decide) (by decide)) ?_
  refine r_imask (P := 262144) E 18 (by decide) (by decide) (by decide) dX12_step_112 ?_
  refine r_put E zc_14 zt_1313 zo_1313 dX12_step_113 q1586 zr_14 zw_X12 zp_1313 (fun _ => rfl) (fun _ => rfl) (by decide) ?_
  refine r_aload_n E dX12_step_116 rfl 0 rfl ?_
  refine r_iconst E dX12_step_117 (zkI (by decide) (by decide)) ?_
  refine r_put E zc_14 zt_1314 zo_1314 dX12_step_118 q1589 zr_14 zw_X12 zp_1314 (znb (by decide)) (zfb (by decide)) (by decide) ?_
  refine r_aload E dX12_step_121 3 rfl ?_
  refine r_aload_n E dX12_step_123 rfl 0 rfl ?_
  refine r_aload_n E dX12_step_124 rfl 2 rfl ?_
  refine r_aload_n E dX12_step_125 rfl 1 rfl ?_
  refine r_nn E (fun hn18 => ?_)
  unfold fDisp_14_run
  refine r_dcase (fun hv => ?_) (fun _ => ?_)
  · subst hv
    refine r_callU (n := 3) (x := ⟨"RingHouse$Operation", "run", "(LRingHouse$Machine;LRingHouse$Decoded;LRingHouse$Registers;)Z"⟩) (owner := "RingHouse$Operation") E [(14, 0), (9, x3), (11, x2)] [] rfl zc_16 zr_16 zk_16_0 q2352 q2354 q2473 q2474 q242 q2475 (Or.inr q2353) dX12_step_126 (by decide +kernel) rfl (by omega) (by decide) (Nat.le_of_ble_eq_true rfl) (by decide) (fun l G => k_fX15_run_0 l G x3 x2) (fun v19 => ?_)
    refine r_pick E [0, 1] rfl ?_
    exact w_fX12_step_J129 E hN hT x2 v19
  refine r_dcase (fun hv => ?_) (fun _ => ?_)
  · subst hv
    refine r_callU (n := 3) (x := ⟨"RingHouse$Operation", "run", "(LRingHouse$Machine;LRingHouse$Decoded;LRingHouse$Registers;)Z"⟩) (owner := "RingHouse$Operation") E [(14, 0), (9, x3), (11, x2)] [] rfl zc_16 zr_16 zk_16_1 q2352 q2354 q2473 q2474 q242 q2475 (Or.inr q2353) dX12_step_126 (by decide +kernel) rfl (by omega) (by decide) (Nat.le_of_ble_eq_true rfl) (by decide) (fun l G => k_fX15_run_1 l G x3 x2) (fun v19 => ?_)
    refine r_pick E [0, 1] rfl ?_
    exact w_fX12_step_J129 E hN hT x2 v19
  refine r_dcase (fun hv => ?_) (fun _ => ?_)
  · subst hv
    refine r_callU (n := 3) (x := ⟨"RingHouse$Operation", "run", "(LRingHouse$Machine;LRingHouse$Decoded;LRingHouse$Registers;)Z"⟩) (owner := "RingHouse$Operation") E [(14, 0), (9, x3), (11, x2)] [] rfl zc_16 zr_16 zk_16_2 q2352 q2354 q2456 q2457 q243 q2458 (Or.inr q2353) dX12_step_126 (by decide +kernel) rfl (by omega) (by decide) (Nat.le_of_ble_eq_true rfl) (by decide) (fun l G => k_fX16_run_2 l G x3 x2) (fun v19 => ?_)
    refine r_pick E [0, 1] rfl ?_
    exact w_fX12_step_J129 E hN hT x2 v19
  refine r_dcase (fun hv => ?_) (fun _ => ?_)
  · subst hv
    refine r_callU (n := 3) (x := ⟨"RingHouse$Operation", "run", "(LRingHouse$Machine;LRingHouse$Decoded;LRingHouse$Registers;)Z"⟩) (owner := "RingHouse$Operation") E [(14, 0), (9, x3), (11, x2)] [] rfl zc_16 zr_16 zk_16_3 q2352 q2354 q2456 q2457 q243 q2458 (Or.inr q2353) dX12_step_126 (by decide +kernel) rfl (by omega) (by decide) (Nat.le_of_ble_eq_true rfl) (by decide) (fun l G => k_fX16_run_3 l G x3 x2) (fun v19 => ?_)
    refine r_pick E [0, 1] rfl ?_
    exact w_fX12_step_J129 E hN hT x2 v19
  refine r_dcase (fun hv => ?_) (fun _ => ?_)
  · subst hv
    refine r_callU (n := 3) (x := ⟨"RingHouse$Operation", "run", "(LRingHouse$Machine;LRingHouse$Decoded;LRingHouse$Registers;)Z"⟩) (owner := "RingHouse$Operation") E [(14, 0), (9, x3), (11, x2)] [] rfl zc_16 zr_16 zk_16_4 q2352 q2354 q2496 q2371 q244 q2372 (Or.inr q2353) dX12_step_126 (by decide +kernel) rfl (by omega) (by decide) (Nat.le_of_ble_eq_true rfl) (by decide) (fun l G => k_fX17_run_4 l G x3 x2) (fun v19 => ?_)
    refine r_pick E [0, 1] rfl ?_
    exact w_fX12_step_J129 E hN hT x2 v19
  refine r_dcase (fun hv => ?_) (fun _ => ?_)
  · subst hv
    refine r_callU (n := 3) (x := ⟨"RingHouse$Operation", "run", "(LRingHouse$Machine;LRingHouse$Decoded;LRingHouse$Registers;)Z"⟩) (owner := "RingHouse$Operation") E [(14, 0), (9, x3), (11, x2)] [] rfl zc_16 zr_16 zk_16_5 q2352 q2354 q2496 q2371 q244 q2372 (Or.inr q2353) dX12_step_126 (by decide +kernel) rfl (by omega) (by decide) (Nat.le_of_ble_eq_true rfl) (by decide) (fun l G => k_fX17_run_5 l G x3 x2) (fun v19 => ?_)
    refine r_pick E [0, 1] rfl ?_
    exact w_fX12_step_J129 E hN hT x2 v19
  refine r_dcase (fun hv => ?_) (fun _ => ?_)
  · subst hv
    refine r_callU (n := 3) (x := ⟨"RingHouse$Operation", "run", "(LRingHouse$Machine;LRingHouse$Decoded;LRingHouse$Registers;)Z"⟩) (owner := "RingHouse$Operation") E [(14, 0), (9, x3), (11, x2)] [] rfl zc_16 zr_16 zk_16_6 q2352 q2354 q2485 q2371 q244 q2372 (Or.inr q2353) dX12_step_126 (by decide +kernel) rfl (by omega) (by decide) (Nat.le_of_ble_eq_true rfl) (by decide) (fun l G => k_fX17_run_6 l G x3 x2) (fun v19 => ?_)
    refine r_pick E [0, 1] rfl ?_
    exact w_fX12_step_J129 E hN hT x2 v19
  refine r_dcase (fun hv => ?_) (fun _ => ?_)
  · subst hv
    refine r_callU (n := 3) (x := ⟨"RingHouse$Operation", "run", "(LRingHouse$Machine;LRingHouse$Decoded;LRingHouse$Registers;)Z"⟩) (owner := "RingHouse$Operation") E [(14, 0), (9, x3), (11, x2)] [] rfl zc_16 zr_16 zk_16_7 q2352 q2354 q2423 q2424 q247 q2425 (Or.inr q2353) dX12_step_126 (by decide +kernel) rfl (by omega) (by decide) (Nat.le_of_ble_eq_true rfl) (by decide) (fun l G => k_fX20_run_7 l G x3 x2) (fun v19 => ?_)
    refine r_pick E [0, 1] rfl ?_
    exact w_fX12_step_J129 E hN hT x2 v19
  refine r_dcase (fun hv => ?_) (fun _ => ?_)
  · subst hv
    refine r_callU (n := 3) (x := ⟨"RingHouse$Operation", "run", "(LRingHouse$Machine;LRingHouse$Decoded;LRingHouse$Registers;)Z"⟩) (owner := "RingHouse$Operation") E [(14, 0), (9, x3), (11, x2)] [] rfl zc_16 zr_16 zk_16_8 q2352 q2354 q2370 q2371 q244 q2372 (Or.inr q2353) dX12_step_126 (by decide +kernel) rfl (by omega) (by decide) (Nat.le_of_ble_eq_true rfl) (by decide) (fun l G => k_fX17_run_8 l G x3 x2) (fun v19 => ?_)
    refine r_pick E [0, 1] rfl ?_
    exact w_fX12_step_J129 E hN hT x2 v19
  refine r_dcase (fun hv => ?_) (fun _ => ?_)
  · subst hv
    refine r_callU (n := 3) (x := ⟨"RingHouse$Operation", "run", "(LRingHouse$Machine;LRingHouse$Decoded;LRingHouse$Registers;)Z"⟩) (owner := "RingHouse$Operation") E [(14, 0), (9, x3), (11, x2)] [] rfl zc_16 zr_16 zk_16_9 q2352 q2354 q2370 q2371 q244 q2372 (Or.inr q2353) dX12_step_126 (by decide +kernel) rfl (by omega) (by decide) (Nat.le_of_ble_eq_true rfl) (by decide) (fun l G => k_fX17_run_9 l G x3 x2) (fun v19 => ?_)
    refine r_pick E [0, 1] rfl ?_
    exact w_fX12_step_J129 E hN hT x2 v19
  refine r_dcase (fun hv => ?_) (fun _ => ?_)
  · subst hv
    refine r_callU (n := 3) (x := ⟨"RingHouse$Operation", "run", "(LRingHouse$Machine;LRingHouse$Decoded;LRingHouse$Registers;)Z"⟩) (owner := "RingHouse$Operation") E [(14, 0), (9, x3), (11, x2)] [] rfl zc_16 zr_16 zk_16_10 q2352 q2354 q2370 q2371 q244 q2372 (Or.inr q2353) dX12_step_126 (by decide +kernel) rfl (by omega) (by decide) (Nat.le_of_ble_eq_true rfl) (by decide) (fun l G => k_fX17_run_10 l G x3 x2) (fun v19 => ?_)
    refine r_pick E [0, 1] rfl ?_
    exact w_fX12_step_J129 E hN hT x2 v19
  refine r_dcase (fun hv => ?_) (fun _ => ?_)
  · subst hv
    refine r_callU (n := 3) (x := ⟨"RingHouse$Operation", "run", "(LRingHouse$Machine;LRingHouse$Decoded;LRingHouse$Registers;)Z"⟩) (owner := "RingHouse$Operation") E [(14, 0), (9, x3), (11, x2)] [] rfl zc_16 zr_16 zk_16_11 q2352 q2354 q2415 q2416 q249 q2417 (Or.inr q2353) dX12_step_126 (by decide +kernel) rfl (by omega) (by decide) (Nat.le_of_ble_eq_true rfl) (by decide) (fun l G => k_fX22_run_11 l G x3 x2) (fun v19 => ?_)
    refine r_pick E [0, 1] rfl ?_
    exact w_fX12_step_J129 E hN hT x2 v19
  refine r_dcase (fun hv => ?_) (fun _ => ?_)
  · subst hv
    refine r_callU (n := 3) (x := ⟨"RingHouse$Operation", "run", "(LRingHouse$Machine;LRingHouse$Decoded;LRingHouse$Registers;)Z"⟩) (owner := "RingHouse$Operation") E [(14, 0), (9, x3), (11, x2)] [] rfl zc_16 zr_16 zk_16_12 q2352 q2354 q2461 q2462 q250 q2463 (Or.inr q2353) dX12_step_126 (by decide +kernel) rfl (by omega) (by decide) (Nat.le_of_ble_eq_true rfl) (by decide) (fun l G => k_fX23_run_12 l G x3 x2) (fun v19 => ?_)
    refine r_pick E [0, 1] rfl ?_
    exact w_fX12_step_J129 E hN hT x2 v19
  refine r_dcase (fun hv => ?_) (fun _ => ?_)
  · subst hv
    refine r_callU (n := 3) (x := ⟨"RingHouse$Operation", "run", "(LRingHouse$Machine;LRingHouse$Decoded;LRingHouse$Registers;)Z"⟩) (owner := "RingHouse$Operation") E [(14, 0), (9, x3), (11, x2)] [] rfl zc_16 zr_16 zk_16_13 q2352 q2354 q2461 q2462 q250 q2463 (Or.inr q2353) dX12_step_126 (by decide +kernel) rfl (by omega) (by decide) (Nat.le_of_ble_eq_true rfl) (by decide) (fun l G => k_fX23_run_13 l G x3 x2) (fun v19 => ?_)
    refine r_pick E [0, 1] rfl ?_
    exact w_fX12_step_J129 E hN hT x2 v19
  refine r_dcase (fun hv => ?_) (fun _ => ?_)
  · subst hv
    refine r_callU (n := 3) (x := ⟨"RingHouse$Operation", "run", "(LRingHouse$Machine;LRingHouse$Decoded;LRingHouse$Registers;)Z"⟩) (owner := "RingHouse$Operation") E [(14, 0), (9, x3), (11, x2)] [] rfl zc_16 zr_16 zk_16_14 q2352 q2354 q2446 q2447 q251 q2448 (Or.inr q2353) dX12_step_126 (by decide +kernel) rfl (by omega) (by decide) (Nat.le_of_ble_eq_true rfl) (by decide) (fun l G => k_fX24_run_14 l G x3 x2) (fun v19 => ?_)
    refine r_pick E [0, 1] rfl ?_
    exact w_fX12_step_J129 E hN hT x2 v19
  refine r_dcase (fun hv => ?_) (fun _ => ?_)
  · subst hv
    refine r_callU (n := 3) (x := ⟨"RingHouse$Operation", "run", "(LRingHouse$Machine;LRingHouse$Decoded;LRingHouse$Registers;)Z"⟩) (owner := "RingHouse$Operation") E [(14, 0), (9, x3), (11, x2)] [] rfl zc_16 zr_16 zk_16_15 q2352 q2354 q2446 q2447 q251 q2448 (Or.inr q2353) dX12_step_126 (by decide +kernel) rfl (by omega) (by decide) (Nat.le_of_ble_eq_true rfl) (by decide) (fun l G => k_fX24_run_15 l G x3 x2) (fun v19 => ?_)
    refine r_pick E [0, 1] rfl ?_
    exact w_fX12_step_J129 E hN hT x2 v19
  refine r_dcase (fun hv => ?_) (fun _ => ?_)
  · subst hv
    refine r_callU (n := 3) (x := ⟨"RingHouse$Operation", "run", "(LRingHouse$Machine;LRingHouse$Decoded;LRingHouse$Registers;)Z"⟩) (owner := "RingHouse$Operation") E [(14, 0), (9, x3), (11, x2)] [] rfl zc_16 zr_16 zk_16_16 q2352 q2354 q2446 q2447 q251 q2448 (Or.inr q2353) dX12_step_126 (by decide +kernel) rfl (by omega) (by decide) (Nat.le_of_ble_eq_true rfl) (by decide) (fun l G => k_fX24_run_16 l G x3 x2) (fun v19 => ?_)
    refine r_pick E [0, 1] rfl ?_
    exact w_fX12_step_J129 E hN hT x2 v19
  refine r_dcase (fun hv => ?_) (fun _ => ?_)
  · subst hv
    refine r_callU (n := 3) (x := ⟨"RingHouse$Operation", "run", "(LRingHouse$Machine;LRingHouse$Decoded;LRingHouse$Registers;)Z"⟩) (owner := "RingHouse$Operation") E [(14, 0), (9, x3), (11, x2)] [] rfl zc_16 zr_16 zk_16_17 q2352 q2354 q2446 q2447 q251 q2448 (Or.inr q2353) dX12_step_126 (by decide +kernel) rfl (by omega) (by decide) (Nat.le_of_ble_eq_true rfl) (by decide) (fun l G => k_fX24_run_17 l G x3 x2) (fun v19 => ?_)
    refine r_pick E [0, 1] rfl ?_
    exact w_fX12_step_J129 E hN hT x2 v19
  refine r_dcase (fun hv => ?_) (fun _ => ?_)
  · subst hv
    refine r_callU (n := 3) (x := ⟨"RingHouse$Operation", "run", "(LRingHouse$Machine;LRingHouse$Decoded;LRingHouse$Registers;)Z"⟩) (owner := "RingHouse$Operation") E [(14, 0), (9, x3), (11, x2)] [] rfl zc_16 zr_16 zk_16_18 q2352 q2354 q2355 q2356 q252 q2357 (Or.inr q2353) dX12_step_126 (by decide +kernel) rfl (by omega) (by decide) (Nat.le_of_ble_eq_true rfl) (by decide) (fun l G => k_fX25_run_18 l G x3 x2) (fun v19 => ?_)
    refine r_pick E [0, 1] rfl ?_
    exact w_fX12_step_J129 E hN hT x2 v19
  refine r_dcase (fun hv => ?_) (fun _ => ?_)
  · subst hv
    refine r_callU (n := 3) (x := ⟨"RingHouse$Operation", "run", "(LRingHouse$Machine;LRingHouse$Decoded;LRingHouse$Registers;)Z"⟩) (owner := "RingHouse$Operation") E [(14, 0), (9, x3), (11, x2)] [] rfl zc_16 zr_16 zk_16_19 q2352 q2354 q2718 q2719 q253 q2720 (Or.inr q2353) dX12_step_126 (by decide +kernel) rfl (by omega) (by decide) (Nat.le_of_ble_eq_true rfl) (by decide) (fun l G => k_fX26_run_19 l G x3 x2) (fun v19 => ?_)
    refine r_pick E [0, 1] rfl ?_
    exact w_fX12_step_J129 E hN hT x2 v19
  refine r_dcase (fun hv => ?_) (fun _ => ?_)
  · subst hv
    refine r_callU (n := 3) (x := ⟨"RingHouse$Operation", "run", "(LRingHouse$Machine;LRingHouse$Decoded;LRingHouse$Registers;)Z"⟩) (owner := "RingHouse$Operation") E [(14, 0), (9, x3), (11, x2)] [] rfl zc_16 zr_16 zk_16_20 q2352 q2354 q2725 q2726 q254 q2727 (Or.inr q2353) dX12_step_126 (by decide +kernel) rfl (by omega) (by decide) (Nat.le_of_ble_eq_true rfl) (by decide) (fun l G => k_fX27_run_20 l G x3 x2) (fun v19 => ?_)
    refine r_pick E [0, 1] rfl ?_
    exact w_fX12_step_J129 E hN hT x2 v19
  refine r_dcase (fun hv => ?_) (fun _ => ?_)
  · subst hv
    refine r_callU (n := 3) (x := ⟨"RingHouse$Operation", "run", "(LRingHouse$Machine;LRingHouse$Decoded;LRingHouse$Registers;)Z"⟩) (owner := "RingHouse$Operation") E [(14, 0), (9, x3), (11, x2)] [] rfl zc_16 zr_16 zk_16_21 q2352 q2354 q2725 q2726 q254 q2727 (Or.inr q2353) dX12_step_126 (by decide +kernel) rfl (by omega) (by decide) (Nat.le_of_ble_eq_true rfl) (by decide) (fun l G => k_fX27_run_21 l G x3 x2) (fun v19 => ?_)
    refine r_pick E [0, 1] rfl ?_
    exact w_fX12_step_J129 E hN hT x2 v19
  refine r_dcase (fun hv => ?_) (fun _ => ?_)
  · subst hv
    refine r_callU (n := 3) (x := ⟨"RingHouse$Operation", "run", "(LRingHouse$Machine;LRingHouse$Decoded;LRingHouse$Registers;)Z"⟩) (owner := "RingHouse$Operation") E [(14, 0), (9, x3), (11, x2)] [] rfl zc_16 zr_16 zk_16_22 q2352 q2354 q2490 q2491 q255 q2492 (Or.inr q2353) dX12_step_126 (by decide +kernel) rfl (by omega) (by decide) (Nat.le_of_ble_eq_true rfl) (by decide) (fun l G => k_fX28_run_22 l G x3 x2) (fun v19 => ?_)
    refine r_pick E [0, 1] rfl ?_
    exact w_fX12_step_J129 E hN hT x2 v19
  refine r_dcase (fun hv => ?_) (fun _ => ?_)
  · subst hv
    refine r_callU (n := 3) (x := ⟨"RingHouse$Operation", "run", "(LRingHouse$Machine;LRingHouse$Decoded;LRingHouse$Registers;)Z"⟩) (owner := "RingHouse$Operation") E [(14, 0), (9, x3), (11, x2)] [] rfl zc_16 zr_16 zk_16_23 q2352 q2354 q2490 q2491 q255 q2492 (Or.inr q2353) dX12_step_126 (by decide +kernel) rfl (by omega) (by decide) (Nat.le_of_ble_eq_true rfl) (by decide) (fun l G => k_fX28_run_23 l G x3 x2) (fun v19 => ?_)
    refine r_pick E [0, 1] rfl ?_
    exact w_fX12_step_J129 E hN hT x2 v19
  refine r_dcase (fun hv => ?_) (fun _ => ?_)
  · subst hv
    refine r_callU (n := 3) (x := ⟨"RingHouse$Operation", "run", "(LRingHouse$Machine;LRingHouse$Decoded;LRingHouse$Registers;)Z"⟩) (owner := "RingHouse$Operation") E [(14, 0), (9, x3), (11, x2)] [] rfl zc_16 zr_16 zk_16_24 q2352 q2354 q2490 q2491 q255 q2492 (Or.inr q2353) dX12_step_126 (by decide +kernel) rfl (by omega) (by decide) (Nat.le_of_ble_eq_true rfl) (by decide) (fun l G => k_fX28_run_24 l G x3 x2) (fun v19 => ?_)
    refine r_pick E [0, 1] rfl ?_
    exact w_fX12_step_J129 E hN hT x2 v19
  refine r_dcase (fun hv => ?_) (fun _ => ?_)
  · subst hv
    refine r_callU (n := 3) (x := ⟨"RingHouse$Operation", "run", "(LRingHouse$Machine;LRingHouse$Decoded;LRingHouse$Registers;)Z"⟩) (owner := "RingHouse$Operation") E [(14, 0), (9, x3), (11, x2)] [] rfl zc_16 zr_16 zk_16_25 q2352 q2354 q2480 q2481 q256 q2482 (Or.inr q2353) dX12_step_126 (by decide +kernel) rfl (by omega) (by decide) (Nat.le_of_ble_eq_true rfl) (by decide) (fun l G => k_fX29_run_25 l G x3 x2) (fun v19 => ?_)
    refine r_pick E [0, 1] rfl ?_
    exact w_fX12_step_J129 E hN hT x2 v19
  refine r_dcase (fun hv => ?_) (fun _ => ?_)
  · subst hv
    refine r_callU (n := 3) (x := ⟨"RingHouse$Operation", "run", "(LRingHouse$Machine;LRingHouse$Decoded;LRingHouse$Registers;)Z"⟩) (owner := "RingHouse$Operation") E [(14, 0), (9, x3), (11, x2)] [] rfl zc_16 zr_16 zk_16_26 q2352 q2354 q2480 q2481 q256 q2482 (Or.inr q2353) dX12_step_126 (by decide +kernel) rfl (by omega) (by decide) (Nat.le_of_ble_eq_true rfl) (by decide) (fun l G => k_fX29_run_26 l G x3 x2) (fun v19 => ?_)
    refine r_pick E [0, 1] rfl ?_
    exact w_fX12_step_J129 E hN hT x2 v19
  refine r_dcase (fun hv => ?_) (fun _ => ?_)
  · subst hv
    refine r_callU (n := 3) (x := ⟨"RingHouse$Operation", "run", "(LRingHouse$Machine;LRingHouse$Decoded;LRingHouse$Registers;)Z"⟩) (owner := "RingHouse$Operation") E [(14, 0), (9, x3), (11, x2)] [] rfl zc_16 zr_16 zk_16_27 q2352 q2354 q2435 q2436 q257 q2437 (Or.inr q2353) dX12_step_126 (by decide +kernel) rfl (by omega) (by decide) (Nat.le_of_ble_eq_true rfl) (by decide) (fun l G => k_fX30_run_27 l G x3 x2) (fun v19 => ?_)
    refine r_pick E [0, 1] rfl ?_
    exact w_fX12_step_J129 E hN hT x2 v19
  refine r_dcase (fun hv => ?_) (fun _ => ?_)
  · subst hv
    refine r_callU (n := 3) (x := ⟨"RingHouse$Operation", "run", "(LRingHouse$Machine;LRingHouse$Decoded;LRingHouse$Registers;)Z"⟩) (owner := "RingHouse$Operation") E [(14, 0), (9, x3), (11, x2)] [] rfl zc_16 zr_16 zk_16_28 q2352 q2354 q2435 q2436 q257 q2437 (Or.inr q2353) dX12_step_126 (by decide +kernel) rfl (by omega) (by decide) (Nat.le_of_ble_eq_true rfl) (by decide) (fun l G => k_fX30_run_28 l G x3 x2) (fun v19 => ?_)
    refine r_pick E [0, 1] rfl ?_
    exact w_fX12_step_J129 E hN hT x2 v19
  refine r_dcase (fun hv => ?_) (fun _ => ?_)
  · subst hv
    refine r_callU (n := 3) (x := ⟨"RingHouse$Operation", "run", "(LRingHouse$Machine;LRingHouse$Decoded;LRingHouse$Registers;)Z"⟩) (owner := "RingHouse$Operation") E [(14, 0), (9, x3), (11, x2)] [] rfl zc_16 zr_16 zk_16_29 q2352 q2354 q2435 q2436 q257 q2437 (Or.inr q2353) dX12_step_126 (by decide +kernel) rfl (by omega) (by decide) (Nat.le_of_ble_eq_true rfl) (by decide) (fun l G => k_fX30_run_29 l G x3 x2) (fun v19 => ?_)
    refine r_pick E [0, 1] rfl ?_
    exact w_fX12_step_J129 E hN hT x2 v19
  refine r_dcase (fun hv => ?_) (fun _ => ?_)
  · subst hv
    refine r_callU (n := 3) (x := ⟨"RingHouse$Operation", "run", "(LRingHouse$Machine;LRingHouse$Decoded;LRingHouse$Registers;)Z"⟩) (owner := "RingHouse$Operation") E [(14, 0), (9, x3), (11, x2)] [] rfl zc_16 zr_16 zk_16_30 q2352 q2354 q2435 q2436 q257 q2437 (Or.inr q2353) dX12_step_126 (by decide +kernel) rfl (by omega) (by decide) (Nat.le_of_ble_eq_true rfl) (by decide) (fun l G => k_fX30_run_30 l G x3 x2) (fun v19 => ?_)
    refine r_pick E [0, 1] rfl ?_
    exact w_fX12_step_J129 E hN hT x2 v19
  refine r_dcase (fun hv => ?_) (fun _ => ?_)
  · subst hv
    refine r_callU (n := 3) (x := ⟨"RingHouse$Operation", "run", "(LRingHouse$Machine;LRingHouse$Decoded;LRingHouse$Registers;)Z"⟩) (owner := "RingHouse$Operation") E [(14, 0), (9, x3), (11, x2)] [] rfl zc_16 zr_16 zk_16_31 q2352 q2354 q2435 q2436 q257 q2437 (Or.inr q2353) dX12_step_126 (by decide +kernel) rfl (by omega) (by decide) (Nat.le_of_ble_eq_true rfl) (by decide) (fun l G => k_fX30_run_31 l G x3 x2) (fun v19 => ?_)
    refine r_pick E [0, 1] rfl ?_
    exact w_fX12_step_J129 E hN hT x2 v19
  refine r_dcase (fun hv => ?_) (fun _ => ?_)
  · subst hv
    refine r_callU (n := 3) (x := ⟨"RingHouse$Operation", "run", "(LRingHouse$Machine;LRingHouse$Decoded;LRingHouse$Registers;)Z"⟩) (owner := "RingHouse$Operation") E [(14, 0), (9, x3), (11, x2)] [] rfl zc_16 zr_16 zk_16_32 q2352 q2354 q2435 q2436 q257 q2437 (Or.inr q2353) dX12_step_126 (by decide +kernel) rfl (by omega) (by decide) (Nat.le_of_ble_eq_true rfl) (by decide) (fun l G => k_fX30_run_32 l G x3 x2) (fun v19 => ?_)
    refine r_pick E [0, 1] rfl ?_
    exact w_fX12_step_J129 E hN hT x2 v19
  refine r_dcase (fun hv => ?_) (fun _ => ?_)
  · subst hv
    refine r_callU (n := 3) (x := ⟨"RingHouse$Operation", "run", "(LRingHouse$Machine;LRingHouse$Decoded;LRingHouse$Registers;)Z"⟩) (owner := "RingHouse$Operation") E [(14, 0), (9, x3), (11, x2)] [] rfl zc_16 zr_16 zk_16_33 q2352 q2354 q2393 q2394 q258 q2395 (Or.inr q2353) dX12_step_126 (by decide +kernel) rfl (by omega) (by decide) (Nat.le_of_ble_eq_true rfl) (by decide) (fun l G => k_fX31_run_33 l G x3 x2) (fun v19 => ?_)
    refine r_pick E [0, 1] rfl ?_
    exact w_fX12_step_J129 E hN hT x2 v19
  refine r_dcase (fun hv => ?_) (fun _ => ?_)
  · subst hv
    refine r_callU (n := 3) (x := ⟨"RingHouse$Operation", "run", "(LRingHouse$Machine;LRingHouse$Decoded;LRingHouse$Registers;)Z"⟩) (owner := "RingHouse$Operation") E [(14, 0), (9, x3), (11, x2)] [] rfl zc_16 zr_16 zk_16_34 q2352 q2354 q2486 q2487 q259 q2488 (Or.inr q2353) dX12_step_126 (by decide +kernel) rfl (by omega) (by decide) (Nat.le_of_ble_eq_true rfl) (by decide) (fun l G => k_fX32_run_34 l G x3 x2) (fun v19 => ?_)
    refine r_pick E [0, 1] rfl ?_
    exact w_fX12_step_J129 E hN hT x2 v19
  refine r_dcase (fun hv => ?_) (fun _ => ?_)
  · subst hv
    refine r_callU (n := 3) (x := ⟨"RingHouse$Operation", "run", "(LRingHouse$Machine;LRingHouse$Decoded;LRingHouse$Registers;)Z"⟩) (owner := "RingHouse$Operation") E [(14, 0), (9, x3), (11, x2)] [] rfl zc_16 zr_16 zk_16_35 q2352 q2354 q2497 q2498 q260 q2499 (Or.inr q2353) dX12_step_126 (by decide +kernel) rfl (by omega) (by decide) (Nat.le_of_ble_eq_true rfl) (by decide) (fun l G => k_fX33_run_35 l G x3 x2) (fun v19 => ?_)
    refine r_pick E [0, 1] rfl ?_
    exact w_fX12_step_J129 E hN hT x2 v19
  refine r_dcase (fun hv => ?_) (fun _ => ?_)
  · subst hv
    refine r_callU (n := 3) (x := ⟨"RingHouse$Operation", "run", "(LRingHouse$Machine;LRingHouse$Decoded;LRingHouse$Registers;)Z"⟩) (owner := "RingHouse$Operation") E [(14, 0), (9, x3), (11, x2)] [] rfl zc_16 zr_16 zk_16_36 q2352 q2354 q2431 q2432 q261 q2433 (Or.inr q2353) dX12_step_126 (by decide +kernel) rfl (by omega) (by decide) (Nat.le_of_ble_eq_true rfl) (by decide) (fun l G => k_fX34_run_36 l G x3 x2) (fun v19 => ?_)
    refine r_pick E [0, 1] rfl ?_
    exact w_fX12_step_J129 E hN hT x2 v19
  refine r_dcase (fun hv => ?_) (fun _ => ?_)
  · subst hv
    refine r_callU (n := 3) (x := ⟨"RingHouse$Operation", "run", "(LRingHouse$Machine;LRingHouse$Decoded;LRingHouse$Registers;)Z"⟩) (owner := "RingHouse$Operation") E [(14, 0), (9, x3), (11, x2)] [] rfl zc_16 zr_16 zk_16_37 q2352 q2354 q2468 q2469 q262 q2470 (Or.inr q2353) dX12_step_126 (by decide +kernel) rfl (by omega) (by decide) (Nat.le_of_ble_eq_true rfl) (by decide) (fun l G => k_fX35_run_37 l G x3 x2) (fun v19 => ?_)
    refine r_pick E [0, 1] rfl ?_
    exact w_fX12_step_J129 E hN hT x2 v19
  exact r_clno
theorem w_fX12_step {K : zK} (E : zE K cX12_step "RingHouse$Machine" none 308) (hN : zNl K = 5) (hT : zTr K = none) (x1 : Int) : zR K 0 [(0, 14, 0), (1, 10, x1)] [] (fX12_step x1) := by
  refine r_aload_n E dX12_step_0 rfl 0 rfl ?_
  refine r_aload_n E dX12_step_1 rfl 1 rfl ?_
  refine r_put E zc_14 zt_1307 zo_1307 dX12_step_2 q1550 zr_14 zw_X12 zp_1307 (fun _ => rfl) (fun G => zfo G) (by decide) ?_
  refine r_aload_n E dX12_step_5 rfl 1 rfl ?_
  refine r_dup E (zn1 rfl) dX12_step_6 ?_
  refine r_nn E (fun hn1 => ?_)
  refine r_getN E zc_10 zt_907 dX12_step_7 q888 zr_10 (zg_907 _) hn1 (fun v2 => ?_)
  refine r_iconst E dX12_step_10 (zkI (by decide) (by decide)) ?_
  refine r_iadd E dX12_step_11 ?_
  refine r_putN E zc_10 zt_907 zo_907 dX12_step_12 q888 zr_10 zw_X8 zp_907 (fun _ => rfl) (fun _ => rfl) hn1 ?_
  refine r_aload_n E dX12_step_15 rfl 1 rfl ?_
  refine r_gecN (y := x1) E zc_10 dX12_step_16 q891 zr_10 (zh_908 (by omega)) hn1 ?_
  refine r_astore_n (ls' := [(2, 11, x1), (0, 14, 0), (1, 10, x1)]) E dX12_step_19 rfl (by rw [hN]; decide) rfl ?_
  refine r_aload_n E dX12_step_20 rfl 1 rfl ?_
  refine r_aload_n E dX12_step_21 rfl 0 rfl ?_
  refine r_getN E zc_11 zt_1006 dX12_step_22 q755 zr_11 (zg_1006 _) hn1 (fun v3 => ?_)
  refine r_aload_n E dX12_step_25 rfl 0 rfl ?_
  refine r_getN E zc_11 zt_1007 dX12_step_26 q760 zr_11 (zg_1007 _) hn1 (fun v4 => ?_)
  refine r_aload_n E dX12_step_29 rfl 0 rfl ?_
  refine r_getN E zc_11 zt_1008 dX12_step_30 q775 zr_11 (zg_1008 _) hn1 (fun v5 => ?_)
  refine r_iconst E dX12_step_33 (zkI (by decide) (by decide)) ?_
  refine r_callV E [(0, v3), (0, v4), (0, v5), (0, 2)] [] rfl zc_14 zr_14 (fun o _ => ⟨_, zw_X12.1 o, rfl⟩) (lw_V q2201 q2203 qs13 q239 q2204) dX12_step_34 zy_X12_may rfl (by omega) (by decide) (Nat.le_of_ble_eq_true rfl) (by decide) (fun l G => k_fX12_may l G v3 v4 v5 2) (fun v6 => ?_)
  refine r_if_ne E 41 (by decide) dX12_step_37 (fun _ => ?_) (fun _ => ?_)
  · refine r_aload_n E dX12_step_41 rfl 1 rfl ?_
    refine r_aload_n E dX12_step_42 rfl 1 rfl ?_
    refine r_aload_n E dX12_step_43 rfl 0 rfl ?_
    refine r_getN E zc_11 zt_1006 dX12_step_44 q755 zr_11 (zg_1006 _) hn1 (fun v7 => ?_)
    refine r_aload_n E dX12_step_47 rfl 0 rfl ?_
    refine r_getN E zc_11 zt_1007 dX12_step_48 q760 zr_11 (zg_1007 _) hn1 (fun v8 => ?_)
    refine r_callV E [(0, v7), (0, v8)] [(14, 0)] rfl zc_14 zr_14 (fun o _ => ⟨_, zw_X12.1 o, rfl⟩) (lw_V q2244 q2246 qs17 q239 q2247) dX12_step_51 zy_X12_load rfl (by omega) (by decide) (Nat.le_of_ble_eq_true rfl) (by decide) (fun l G => k_fX12_load l G v7 v8) (fun v9 => ?_)
    refine r_callV E [(1, v9)] [] rfl zc_14 zr_14 (fun o _ => ⟨_, zw_X12.1 o, rfl⟩) (lw_V q2249 q2251 qs18 q239 q2252) dX12_step_54 zy_X12_decode rfl (by omega) (by decide) (Nat.le_of_ble_eq_true rfl) (by decide) (fun l G => k_fX12_decode l G v9) (fun v10 => ?_)
    refine r_astore_n (ls' := [(3, 9, v10), (2, 11, x1), (0, 14, 0), (1, 10, x1)]) E dX12_step_57 rfl (by rw [hN]; decide) rfl ?_
    refine r_aload_n E dX12_step_58 rfl 0 rfl ?_
    refine r_nn E (fun hn11 => ?_)
    refine r_getN E zc_9 zt_801 dX12_step_59 q640 zr_9 (zg_801 _) hn11 (fun v12 => ?_)
    refine r_astore (ls' := [(4, 16, v12), (3, 9, v10), (2, 11, x1), (0, 14, 0), (1, 10, x1)]) E dX12_step_62 (by rw [hN]; decide) rfl ?_
    refine r_aload E dX12_step_64 0 rfl ?_
    refine r_ifnonnull E 77 (by decide) dX12_step_66 (fun _ => ?_) (fun hz13 => ?_)
    · refine r_aload_n E dX12_step_69 rfl 3 rfl ?_
      refine r_bipush E dX12_step_70 (by decide) (zkI (by decide) (by decide)) ?_
      refine r_callV E [(0, 8)] [] rfl zc_14 zr_14 (fun o _ => ⟨_, zw_X12.1 o, rfl⟩) (lw_V q2283 q2285 qs19 q239 q2286) dX12_step_72 zy_X12_refuseHere rfl (by omega) (by decide) (Nat.le_of_ble_eq_true rfl) (by decide) (fun l G => k_fX12_refuseHere l G 8) (fun v14 => ?_)
      refine r_pop E (zn1 rfl) dX12_step_75 ?_
      exact r_return E rfl hT dX12_step_76
    · refine r_aload E dX12_step_77 0 rfl ?_
      refine r_gecN (y := (zsort v12)) E zc_16 dX12_step_79 q1040 zr_16 (zhv_sort _) (Int.not_lt.mp hz13) ?_
      refine r_if_eq E 94 (by decide) dX12_step_82 (fun _ => ?_) (fun _ => ?_)
      · refine r_pick E [3, 2, 1, 0] rfl ?_
        exact w_fX12_step_J94 E hN hT x1 v10 v12
      · refine r_aload_n E dX12_step_85 rfl 3 rfl ?_
        refine r_aload_n E dX12_step_86 rfl 1 rfl ?_
        refine r_callV E [(9, v10)] [] rfl zc_14 zr_14 (fun o _ => ⟨_, zw_X12.1 o, rfl⟩) (lw_V q2287 q2289 qs20 q239 q2290) dX12_step_87 zy_X12_address rfl (by omega) (by decide) (Nat.le_of_ble_eq_true rfl) (by decide) (fun l G => k_fX12_address l G v10) (fun v24 => ?_)
        refine r_if_ne E 94 (by decide) dX12_step_90 (fun _ => ?_) (fun _ => ?_)
        · refine r_pick E [3, 2, 1, 0] rfl ?_
          exact w_fX12_step_J94 E hN hT x1 v10 v12
        · exact r_return E rfl hT dX12_step_93
  · exact r_return E rfl hT dX12_step_40
theorem k_fX12_step (l : Launch) (G : zG) (x1 : Int) : zCt l G yX12_step cX12_step 5 none 308 [(14, 0), (10, x1)] none (fX12_step x1) := zCt.of (by decide) (Nat.le_of_ble_eq_true rfl) (fun K E _ _ hN hT => w_fX12_step E hN hT x1)
theorem dX8_oldest_0 : decode cX8_oldest 0 = .ok (.aload_n 0, 1) := by decide +kernel
theorem dX8_oldest_1 : decode cX8_oldest 1 = .ok (.getfield 48, 3) := by decide +kernel
theorem dX8_oldest_4 : decode cX8_oldest 4 = .ok (.aload_n 0, 1) := by decide +kernel
theorem dX8_oldest_5 : decode cX8_oldest 5 = .ok (.getfield 116, 3) := by decide +kernel
theorem dX8_oldest_8 : decode cX8_oldest 8 = .ok (.laload, 1) := by decide +kernel
theorem dX8_oldest_9 : decode cX8_oldest 9 = .ok (.lreturn, 1) := by decide +kernel
theorem zy_X8_oldest : yX8_oldest.cls ≠ "java/lang/invoke/MethodHandle" ∧ yX8_oldest.cls ≠ "java/lang/invoke/VarHandle" ∧ (parseMethodDescriptor yX8_oldest.desc).map (fun d => d.parameters.length) = some 0 := by decide +kernel
theorem w_fX8_oldest {K : zK} (E : zE K cX8_oldest "RingHouse$Process" (some .long) 0) (hN : zNl K = 1) (hT : zTr K = (some 1)) (x0 : Int) (h0 : 0 ≤ x0) : zR K 0 [(0, 10, x0)] [] (fX8_oldest x0) := by
  refine r_aload_n E dX8_oldest_0 rfl 0 rfl ?_
  refine r_gec (y := x0) E zc_10 dX8_oldest_1 q936 zr_10 (zh_922 (by omega)) h0 ?_
  refine r_aload_n E dX8_oldest_4 rfl 0 rfl ?_
  refine r_get E zc_10 zt_923 dX8_oldest_5 q937 zr_10 (zg_923 _) h0 (fun v1 => ?_)
  refine r_laload E zc_922 za_922 zt_922 zx_922 rfl rfl dX8_oldest_8 h0 (fun v2 => ?_)
  exact r_lreturn E rfl hT dX8_oldest_9
theorem k_fX8_oldest (l : Launch) (G : zG) (x0 : Int) (h0 : 0 ≤ x0) : zCt l G yX8_oldest cX8_oldest 1 (some .long) 0 [(10, x0)] (some 1) (fX8_oldest x0) := zCt.of (by decide) (Nat.le_of_ble_eq_true rfl) (fun K E _ _ hN hT => w_fX8_oldest E hN hT x0 h0)
theorem dX12_tickOf_0 : decode cX12_tickOf 0 = .ok (.aload_n 1, 1) := by decide +kernel
theorem dX12_tickOf_1 : decode cX12_tickOf 1 = .ok (.getfield 455, 3) := by decide +kernel
theorem dX12_tickOf_4 : decode cX12_tickOf 4 = .ok (.ifCond .ne 5, 3) := by decide +kernel
theorem dX12_tickOf_7 : decode cX12_tickOf 7 = .ok (.iconst 0, 1) := by decide +kernel
theorem dX12_tickOf_8 : decode cX12_tickOf 8 = .ok (.ireturn, 1) := by decide +kernel
theorem dX12_tickOf_9 : decode cX12_tickOf 9 = .ok (.aload_n 1, 1) := by decide +kernel
theorem dX12_tickOf_10 : decode cX12_tickOf 10 = .ok (.getfield 458, 3) := by decide +kernel
theorem dX12_tickOf_13 : decode cX12_tickOf 13 = .ok (.iconst 1, 1) := by decide +kernel
theorem dX12_tickOf_14 : decode cX12_tickOf 14 = .ok (.if_icmp .ne 27, 3) := by decide +kernel
theorem dX12_tickOf_17 : decode cX12_tickOf 17 = .ok (.aload_n 1, 1) := by decide +kernel
theorem dX12_tickOf_18 : decode cX12_tickOf 18 = .ok (.getfield 461, 3) := by decide +kernel
theorem dX12_tickOf_21 : decode cX12_tickOf 21 = .ok (.ifCond .le 20, 3) := by decide +kernel
theorem dX12_tickOf_24 : decode cX12_tickOf 24 = .ok (.aload_n 1, 1) := by decide +kernel
theorem dX12_tickOf_25 : decode cX12_tickOf 25 = .ok (.iconst 0, 1) := by decide +kernel
theorem dX12_tickOf_26 : decode cX12_tickOf 26 = .ok (.putfield 458, 3) := by decide +kernel
theorem dX12_tickOf_29 : decode cX12_tickOf 29 = .ok (.aload_n 1, 1) := by decide +kernel
theorem dX12_tickOf_30 : decode cX12_tickOf 30 = .ok (.bipush 8, 2) := by decide +kernel
theorem dX12_tickOf_32 : decode cX12_tickOf 32 = .ok (.aload_n 1, 1) := by decide +kernel
theorem dX12_tickOf_33 : decode cX12_tickOf 33 = .ok (.invokevirtual 464, 3) := by decide +kernel
theorem dX12_tickOf_36 : decode cX12_tickOf 36 = .ok (.lconst 0, 1) := by decide +kernel
theorem dX12_tickOf_37 : decode cX12_tickOf 37 = .ok (.lconst 0, 1) := by decide +kernel
theorem dX12_tickOf_38 : decode cX12_tickOf 38 = .ok (.invokevirtual 422, 3) := by decide +kernel
theorem dX12_tickOf_41 : decode cX12_tickOf 41 = .ok (.aload_n 1, 1) := by decide +kernel
theorem dX12_tickOf_42 : decode cX12_tickOf 42 = .ok (.getfield 458, 3) := by decide +kernel
theorem dX12_tickOf_45 : decode cX12_tickOf 45 = .ok (.ifCond .eq 5, 3) := by decide +kernel
theorem dX12_tickOf_48 : decode cX12_tickOf 48 = .ok (.iconst 0, 1) := by decide +kernel
theorem dX12_tickOf_49 : decode cX12_tickOf 49 = .ok (.ireturn, 1) := by decide +kernel
theorem dX12_tickOf_50 : decode cX12_tickOf 50 = .ok (.aload_n 0, 1) := by decide +kernel
theorem dX12_tickOf_51 : decode cX12_tickOf 51 = .ok (.aload_n 1, 1) := by decide +kernel
theorem dX12_tickOf_52 : decode cX12_tickOf 52 = .ok (.invokevirtual 468, 3) := by decide +kernel
theorem dX12_tickOf_55 : decode cX12_tickOf 55 = .ok (.iconst 1, 1) := by decide +kernel
theorem dX12_tickOf_56 : decode cX12_tickOf 56 = .ok (.ireturn, 1) := by decide +kernel
theorem zy_X12_tickOf : yX12_tickOf.cls ≠ "java/lang/invoke/MethodHandle" ∧ yX12_tickOf.cls ≠ "java/lang/invoke/VarHandle" ∧ (parseMethodDescriptor yX12_tickOf.desc).map (fun d => d.parameters.length) = some 1 := by decide +kernel
theorem w_fX12_tickOf_J41 {K : zK} (E : zE K cX12_tickOf "RingHouse$Machine" (some .boolean) 309) (hN : zNl K = 2) (hT : zTr K = (some 0)) (x1 : Int) : zR K 41 [(0, 14, 0), (1, 10, x1)] [] (fX12_tickOf_J41 x1) := by
  refine r_aload_n E dX12_tickOf_41 rfl 1 rfl ?_
  refine r_nn E (fun hn4 => ?_)
  refine r_getN E zc_10 zt_903 dX12_tickOf_42 q864 zr_10 (zg_903 _) hn4 (fun v5 => ?_)
  refine r_if_eq E 50 (by decide) dX12_tickOf_45 (fun _ => ?_) (fun _ => ?_)
  · refine r_aload_n E dX12_tickOf_50 rfl 0 rfl ?_
    refine r_aload_n E dX12_tickOf_51 rfl 1 rfl ?_
    refine r_callV E [(10, x1)] [] rfl zc_14 zr_14 (fun o _ => ⟨_, zw_X12.1 o, rfl⟩) (lw_V q2197 q2199 qs12 q239 q2200) dX12_tickOf_52 zy_X12_step rfl (by omega) (by decide) (Nat.le_of_ble_eq_true rfl) (by decide) (fun l G => k_fX12_step l G x1) (fun _ => ?_)
    refine r_iconst E dX12_tickOf_55 (zkI (by decide) (by decide)) ?_
    exact r_zreturn E rfl hT (by decide) dX12_tickOf_56
  · refine r_iconst E dX12_tickOf_48 (zkI (by decide) (by decide)) ?_
    exact r_zreturn E rfl hT (by decide) dX12_tickOf_49
theorem w_fX12_tickOf {K : zK} (E : zE K cX12_tickOf "RingHouse$Machine" (some .boolean) 309) (hN : zNl K = 2) (hT : zTr K = (some 0)) (x1 : Int) : zR K 0 [(0, 14, 0), (1, 10, x1)] [] (fX12_tickOf x1) := by
  refine r_aload_n E dX12_tickOf_0 rfl 1 rfl ?_
  refine r_nn E (fun hn1 => ?_)
  refine r_getN E zc_10 zt_902 dX12_tickOf_1 q860 zr_10 (zg_902 _) hn1 (fun v2 => ?_)
  refine r_if_ne E 9 (by decide) dX12_tickOf_4 (fun _ => ?_) (fun _ => ?_)
  · refine r_aload_n E dX12_tickOf_9 rfl 1 rfl ?_
    refine r_getN E zc_10 zt_903 dX12_tickOf_10 q864 zr_10 (zg_903 _) hn1 (fun v3 => ?_)
    refine r_iconst E dX12_tickOf_13 (zkI (by decide) (by decide)) ?_
    refine r_icmp_ne E 41 (by decide) dX12_tickOf_14 (fun _ => ?_) (fun _ => ?_)
    · exact w_fX12_tickOf_J41 E hN hT x1
    · refine r_aload_n E dX12_tickOf_17 rfl 1 rfl ?_
      refine r_getN E zc_10 zt_924 dX12_tickOf_18 q940 zr_10 (zg_924 _) hn1 (fun v7 => ?_)
      refine r_if_le E 41 (by decide) dX12_tickOf_21 (fun _ => ?_) (fun _ => ?_)
      · exact w_fX12_tickOf_J41 E hN hT x1
      · refine r_aload_n E dX12_tickOf_24 rfl 1 rfl ?_
        refine r_iconst E dX12_tickOf_25 (zkI (by decide) (by decide)) ?_
        refine r_putN E zc_10 zt_903 zo_903 dX12_tickOf_26 q864 zr_10 zw_X8 zp_903 (fun _ => rfl) (fun _ => rfl) hn1 ?_
        refine r_aload_n E dX12_tickOf_29 rfl 1 rfl ?_
        refine r_bipush E dX12_tickOf_30 (by decide) (zkI (by decide) (by decide)) ?_
        refine r_aload_n E dX12_tickOf_32 rfl 1 rfl ?_
        refine r_callV E [] [(0, 8), (10, x1)] rfl zc_10 zr_10 (fun o _ => ⟨_, zw_X8.1 o, rfl⟩) (lw_V q2184 q2185 q2186 q235 q2187) dX12_tickOf_33 zy_X8_oldest rfl (by omega) (by decide) (Nat.le_of_ble_eq_true rfl) hn1 (fun l G => k_fX8_oldest l G x1 hn1) (fun v8 => ?_)
        refine r_lconst (v := 0) E dX12_tickOf_36 (by decide) (zkJ (by decide) (by decide)) ?_
        refine r_lconst (v := 0) E dX12_tickOf_37 (by decide) (zkJ (by decide) (by decide)) ?_
        refine r_callV E [(0, 8), (1, v8), (1, 0), (1, 0)] [] rfl zc_10 zr_10 (fun o _ => ⟨_, zw_X8.1 o, rfl⟩) (lw_V q2188 q2189 q2190 q235 q2191) dX12_tickOf_38 zy_X8_event rfl (by omega) (by decide) (Nat.le_of_ble_eq_true rfl) hn1 (fun l G => k_fX8_event l G x1 8 v8 0 0 hn1) (fun _ => ?_)
        exact w_fX12_tickOf_J41 E hN hT x1
  · refine r_iconst E dX12_tickOf_7 (zkI (by decide) (by decide)) ?_
    exact r_zreturn E rfl hT (by decide) dX12_tickOf_8
theorem k_fX12_tickOf (l : Launch) (G : zG) (x1 : Int) : zCt l G yX12_tickOf cX12_tickOf 2 (some .boolean) 309 [(14, 0), (10, x1)] (some 0) (fX12_tickOf x1) := zCt.of (by decide) (Nat.le_of_ble_eq_true rfl) (fun K E _ _ hN hT => w_fX12_tickOf E hN hT x1)
theorem dX0_tick_0 : decode cX0_tick 0 = .ok (.aload_n 0, 1) := by decide +kernel
theorem dX0_tick_1 : decode cX0_tick 1 = .ok (.iload_n 1, 1) := by decide +kernel
theorem dX0_tick_2 : decode cX0_tick 2 = .ok (.invokevirtual 330, 3) := by decide +kernel
theorem dX0_tick_5 : decode cX0_tick 5 = .ok (.astore_n 3, 1) := by decide +kernel
theorem dX0_tick_6 : decode cX0_tick 6 = .ok (.aload_n 3, 1) := by decide +kernel
theorem dX0_tick_7 : decode cX0_tick 7 = .ok (.ifnull 15, 3) := by decide +kernel
theorem dX0_tick_10 : decode cX0_tick 10 = .ok (.iload_n 2, 1) := by decide +kernel
theorem dX0_tick_11 : decode cX0_tick 11 = .ok (.i2l, 1) := by decide +kernel
theorem dX0_tick_12 : decode cX0_tick 12 = .ok (.lconst 1, 1) := by decide +kernel
theorem dX0_tick_13 : decode cX0_tick 13 = .ok (.ldc2_w 344, 3) := by decide +kernel
theorem dX0_tick_16 : decode cX0_tick 16 = .ok (.invokestatic 17, 3) := by decide +kernel
theorem dX0_tick_19 : decode cX0_tick 19 = .ok (.ifCond .ne 6, 3) := by decide +kernel
theorem dX0_tick_22 : decode cX0_tick 22 = .ok (.bipush (-8), 2) := by decide +kernel
theorem dX0_tick_24 : decode cX0_tick 24 = .ok (.ireturn, 1) := by decide +kernel
theorem dX0_tick_25 : decode cX0_tick 25 = .ok (.iconst 0, 1) := by decide +kernel
theorem dX0_tick_26 : decode cX0_tick 26 = .ok (.istore 4, 2) := by decide +kernel
theorem dX0_tick_28 : decode cX0_tick 28 = .ok (.iconst 0, 1) := by decide +kernel
theorem dX0_tick_29 : decode cX0_tick 29 = .ok (.istore 5, 2) := by decide +kernel
theorem dX0_tick_31 : decode cX0_tick 31 = .ok (.iload 5, 2) := by decide +kernel
theorem dX0_tick_33 : decode cX0_tick 33 = .ok (.iload_n 2, 1) := by decide +kernel
theorem dX0_tick_34 : decode cX0_tick 34 = .ok (.if_icmp .ge 30, 3) := by decide +kernel
theorem dX0_tick_37 : decode cX0_tick 37 = .ok (.iload 4, 2) := by decide +kernel
theorem dX0_tick_39 : decode cX0_tick 39 = .ok (.aload_n 0, 1) := by decide +kernel
theorem dX0_tick_40 : decode cX0_tick 40 = .ok (.getfield 76, 3) := by decide +kernel
theorem dX0_tick_43 : decode cX0_tick 43 = .ok (.aload_n 3, 1) := by decide +kernel
theorem dX0_tick_44 : decode cX0_tick 44 = .ok (.invokevirtual 346, 3) := by decide +kernel
theorem dX0_tick_47 : decode cX0_tick 47 = .ok (.ifCond .eq 7, 3) := by decide +kernel
theorem dX0_tick_50 : decode cX0_tick 50 = .ok (.iconst 1, 1) := by decide +kernel
theorem dX0_tick_51 : decode cX0_tick 51 = .ok (.goto 4, 3) := by decide +kernel
theorem dX0_tick_54 : decode cX0_tick 54 = .ok (.iconst 0, 1) := by decide +kernel
theorem dX0_tick_55 : decode cX0_tick 55 = .ok (.iadd, 1) := by decide +kernel
theorem dX0_tick_56 : decode cX0_tick 56 = .ok (.istore 4, 2) := by decide +kernel
theorem dX0_tick_58 : decode cX0_tick 58 = .ok (.iinc 5 1, 3) := by decide +kernel
theorem dX0_tick_61 : decode cX0_tick 61 = .ok (.goto (-30), 3) := by decide +kernel
theorem dX0_tick_64 : decode cX0_tick 64 = .ok (.iload 4, 2) := by decide +kernel
theorem dX0_tick_66 : decode cX0_tick 66 = .ok (.ireturn, 1) := by decide +kernel
theorem zy_X0_tick : yX0_tick.cls ≠ "java/lang/invoke/MethodHandle" ∧ yX0_tick.cls ≠ "java/lang/invoke/VarHandle" ∧ (parseMethodDescriptor yX0_tick.desc).map (fun d => d.parameters.length) = some 2 := by decide +kernel
theorem w_fX0_tick_J55 {K : zK} (E : zE K cX0_tick "RingHouse" (some .int) 310) (hN : zNl K = 6) (hT : zTr K = (some 0)) (x2 : Int) (x3 : Int) (x5 : Int) (s0 : Int) (s1 : Int) {r31 : Int × Int → zX} (hr31 : ∀ s : Int × Int, zR K 31 [(0, 2, 0), (2, 0, x2), (3, 10, x3), (4, 0, s.1), (5, 0, s.2)] [] (r31 s)) : zR K 55 [(0, 2, 0), (2, 0, x2), (3, 10, x3), (5, 0, x5)] [(0, s1), (0, s0)] (fX0_tick_J55 r31 x2 x3 x5 s0 s1) := by
  refine r_iadd E dX0_tick_55 ?_
  refine r_let E (fun v5 ev5 => ?_)
  refine r_istore (ls' := [(4, 0, v5), (0, 2, 0), (2, 0, x2), (3, 10, x3), (5, 0, x5)]) E dX0_tick_56 (by rw [hN]; decide) rfl ?_
  refine r_iinc (ls' := fun v6 => [(5, 0, v6), (4, 0, v5), (0, 2, 0), (2, 0, x2), (3, 10, x3)]) E 4 rfl (by rw [hN]; decide) (fun _ => rfl) dX0_tick_58 (fun v6 _ => ?_)
  refine r_goto E 31 (by decide) dX0_tick_61 ?_
  refine r_pick E [2, 3, 4, 1, 0] rfl ?_
  exact hr31 (v5, v6)
theorem w_fX0_tick_B31 {K : zK} (E : zE K cX0_tick "RingHouse" (some .int) 310) (hN : zNl K = 6) (hT : zTr K = (some 0)) (x2 : Int) (x3 : Int) : ∀ r31 : Int × Int → zX, (∀ s : Int × Int, zR K 31 [(0, 2, 0), (2, 0, x2), (3, 10, x3), (4, 0, s.1), (5, 0, s.2)] [] (r31 s)) → ∀ s : Int × Int, zR K 31 [(0, 2, 0), (2, 0, x2), (3, 10, x3), (4, 0, s.1), (5, 0, s.2)] [] (fX0_tick_B31 x2 x3 r31 s) := by
  intro r31 hr31 s
  obtain ⟨x4, x5⟩ := s
  refine r_iload E dX0_tick_31 4 rfl ?_
  refine r_iload_n E dX0_tick_33 rfl 1 rfl ?_
  refine r_icmp_ge E 64 (by decide) dX0_tick_34 (fun _ => ?_) (fun _ => ?_)
  · refine r_iload E dX0_tick_64 3 rfl ?_
    exact r_ireturn E rfl hT dX0_tick_66
  · refine r_iload E dX0_tick_37 3 rfl ?_
    refine r_aload_n E dX0_tick_39 rfl 0 rfl ?_
    refine r_gec (y := 0) E zc_2 dX0_tick_40 q1792 zr_2 (zh_102 (by decide)) (by decide) ?_
    refine r_aload_n E dX0_tick_43 rfl 2 rfl ?_
    refine r_callVN E [(10, x3)] [(0, x4)] rfl zc_14 zr_14 (fun o _ => ⟨_, zw_X12.1 o, rfl⟩) q2180 q2182 qs11 q239 q2183 dX0_tick_44 zy_X12_tickOf rfl (by omega) (by decide) (Nat.le_of_ble_eq_true rfl) (by decide) (fun l G => k_fX12_tickOf l G x3) (fun v4 => ?_)
    refine r_if_eq E 54 (by decide) dX0_tick_47 (fun _ => ?_) (fun _ => ?_)
    · refine r_iconst E dX0_tick_54 (zkI (by decide) (by decide)) ?_
      refine r_pick E [0, 1, 2, 4] rfl ?_
      exact w_fX0_tick_J55 E hN hT x2 x3 x5 x4 0 hr31
    · refine r_iconst E dX0_tick_50 (zkI (by decide) (by decide)) ?_
      refine r_goto E 55 (by decide) dX0_tick_51 ?_
      refine r_pick E [0, 1, 2, 4] rfl ?_
      exact w_fX0_tick_J55 E hN hT x2 x3 x5 x4 1 hr31
theorem w_fX0_tick {K : zK} (E : zE K cX0_tick "RingHouse" (some .int) 310) (hN : zNl K = 6) (hT : zTr K = (some 0)) (x1 : Int) (x2 : Int) : zR K 0 [(0, 2, 0), (1, 0, x1), (2, 0, x2)] [] (fX0_tick x1 x2) := by
  refine r_aload_n E dX0_tick_0 rfl 0 rfl ?_
  refine r_iload_n E dX0_tick_1 rfl 1 rfl ?_
  refine r_callV E [(0, x1)] [] rfl zc_2 zr_2 (fun o _ => ⟨_, zw_X0.1 o, rfl⟩) (lw_V q2159 q2161 qs10 q227 q2162) dX0_tick_2 zy_X0_processAt rfl (by omega) (by decide) (Nat.le_of_ble_eq_true rfl) (by decide) (fun l G => k_fX0_processAt l G x1) (fun v1 => ?_)
  refine r_astore_n (ls' := [(3, 10, v1), (0, 2, 0), (1, 0, x1), (2, 0, x2)]) E dX0_tick_5 rfl (by rw [hN]; decide) rfl ?_
  refine r_aload_n E dX0_tick_6 rfl 0 rfl ?_
  refine r_ifnull E 22 (by decide) dX0_tick_7 (fun _ => ?_) (fun hz2 => ?_)
  · refine r_bipush E dX0_tick_22 (by decide) (zkI (by decide) (by decide)) ?_
    exact r_ireturn E rfl hT dX0_tick_24
  · refine r_iload_n E dX0_tick_10 rfl 3 rfl ?_
    refine r_i2l E dX0_tick_11 ?_
    refine r_lconst (v := 1) E dX0_tick_12 (by decide) (zkJ (by decide) (by decide)) ?_
    refine r_ldc2 (v := 1000) E dX0_tick_13 q2179 (by decide) (zkJ (by decide) (by decide)) ?_
    refine r_callS E [(1, x2), (1, 1), (1, 1000)] [] rfl q1853 q1835 q227 q1836 dX0_tick_16 zy_X0_isIn rfl (by omega) (by decide) (Nat.le_of_ble_eq_true rfl) (fun l G => k_fX0_isIn l G x2 1 1000) (fun v3 => ?_)
    refine r_if_ne E 25 (by decide) dX0_tick_19 (fun _ => ?_) (fun _ => ?_)
    · refine r_iconst E dX0_tick_25 (zkI (by decide) (by decide)) ?_
      refine r_istore (ls' := [(4, 0, 0), (3, 10, v1), (0, 2, 0), (1, 0, x1), (2, 0, x2)]) E dX0_tick_26 (by rw [hN]; decide) rfl ?_
      refine r_iconst E dX0_tick_28 (zkI (by decide) (by decide)) ?_
      refine r_istore (ls' := [(5, 0, 0), (4, 0, 0), (3, 10, v1), (0, 2, 0), (1, 0, x1), (2, 0, x2)]) E dX0_tick_29 (by rw [hN]; decide) rfl ?_
      refine r_pick E [3, 5, 2, 1, 0] rfl ?_
      exact r_loop (L := fun s => [(0, 2, 0), (2, 0, x2), (3, 10, v1), (4, 0, s.1), (5, 0, s.2)]) (w_fX0_tick_B31 E hN hT x2 v1) zBIG (0, 0)
    · refine r_bipush E dX0_tick_22 (by decide) (zkI (by decide) (by decide)) ?_
      exact r_ireturn E rfl hT dX0_tick_24
theorem k_fX0_tick (l : Launch) (G : zG) (x1 : Int) (x2 : Int) : zCt l G yX0_tick cX0_tick 6 (some .int) 310 [(2, 0), (0, x1), (0, x2)] (some 0) (fX0_tick x1 x2) := zCt.of (by decide) (Nat.le_of_ble_eq_true rfl) (fun K E _ _ hN hT => w_fX0_tick E hN hT x1 x2)
theorem dX0_schedule_0 : decode cX0_schedule 0 = .ok (.iload_n 1, 1) := by decide +kernel
theorem dX0_schedule_1 : decode cX0_schedule 1 = .ok (.i2l, 1) := by decide +kernel
theorem dX0_schedule_2 : decode cX0_schedule 2 = .ok (.lconst 0, 1) := by decide +kernel
theorem dX0_schedule_3 : decode cX0_schedule 3 = .ok (.ldc2_w 281, 3) := by decide +kernel
theorem dX0_schedule_6 : decode cX0_schedule 6 = .ok (.invokestatic 17, 3) := by decide +kernel
theorem dX0_schedule_9 : decode cX0_schedule 9 = .ok (.ifCond .eq 17, 3) := by decide +kernel
theorem dX0_schedule_12 : decode cX0_schedule 12 = .ok (.iload_n 2, 1) := by decide +kernel
theorem dX0_schedule_13 : decode cX0_schedule 13 = .ok (.i2l, 1) := by decide +kernel
theorem dX0_schedule_14 : decode cX0_schedule 14 = .ok (.ldc2_w 234, 3) := by decide +kernel
theorem dX0_schedule_17 : decode cX0_schedule 17 = .ok (.ldc2_w 25, 3) := by decide +kernel
theorem dX0_schedule_20 : decode cX0_schedule 20 = .ok (.invokestatic 17, 3) := by decide +kernel
theorem dX0_schedule_23 : decode cX0_schedule 23 = .ok (.ifCond .ne 6, 3) := by decide +kernel
theorem dX0_schedule_26 : decode cX0_schedule 26 = .ok (.bipush (-8), 2) := by decide +kernel
theorem dX0_schedule_28 : decode cX0_schedule 28 = .ok (.ireturn, 1) := by decide +kernel
theorem dX0_schedule_29 : decode cX0_schedule 29 = .ok (.aload_n 0, 1) := by decide +kernel
theorem dX0_schedule_30 : decode cX0_schedule 30 = .ok (.getfield 59, 3) := by decide +kernel
theorem dX0_schedule_33 : decode cX0_schedule 33 = .ok (.iload_n 1, 1) := by decide +kernel
theorem dX0_schedule_34 : decode cX0_schedule 34 = .ok (.iaload, 1) := by decide +kernel
theorem dX0_schedule_35 : decode cX0_schedule 35 = .ok (.istore_n 3, 1) := by decide +kernel
theorem dX0_schedule_36 : decode cX0_schedule 36 = .ok (.aload_n 0, 1) := by decide +kernel
theorem dX0_schedule_37 : decode cX0_schedule 37 = .ok (.getfield 59, 3) := by decide +kernel
theorem dX0_schedule_40 : decode cX0_schedule 40 = .ok (.iload_n 1, 1) := by decide +kernel
theorem dX0_schedule_41 : decode cX0_schedule 41 = .ok (.iload_n 2, 1) := by decide +kernel
theorem dX0_schedule_42 : decode cX0_schedule 42 = .ok (.iastore, 1) := by decide +kernel
theorem dX0_schedule_43 : decode cX0_schedule 43 = .ok (.iload_n 3, 1) := by decide +kernel
theorem dX0_schedule_44 : decode cX0_schedule 44 = .ok (.ireturn, 1) := by decide +kernel
theorem zy_X0_schedule : yX0_schedule.cls ≠ "java/lang/invoke/MethodHandle" ∧ yX0_schedule.cls ≠ "java/lang/invoke/VarHandle" ∧ (parseMethodDescriptor yX0_schedule.desc).map (fun d => d.parameters.length) = some 2 := by decide +kernel
theorem w_fX0_schedule {K : zK} (E : zE K cX0_schedule "RingHouse" (some .int) 1) (hN : zNl K = 4) (hT : zTr K = (some 0)) (x1 : Int) (x2 : Int) : zR K 0 [(0, 2, 0), (1, 0, x1), (2, 0, x2)] [] (fX0_schedule x1 x2) := by
  refine r_iload_n E dX0_schedule_0 rfl 1 rfl ?_
  refine r_i2l E dX0_schedule_1 ?_
  refine r_lconst (v := 0) E dX0_schedule_2 (by decide) (zkJ (by decide) (by decide)) ?_
  refine r_ldc2 (v := 15) E dX0_schedule_3 q2071 (by decide) (zkJ (by decide) (by decide)) ?_
  refine r_callS E [(1, x1), (1, 0), (1, 15)] [] rfl q1853 q1835 q227 q1836 dX0_schedule_6 zy_X0_isIn rfl (by omega) (by decide) (Nat.le_of_ble_eq_true rfl) (fun l G => k_fX0_isIn l G x1 0 15) (fun v1 => ?_)
  refine r_if_eq E 26 (by decide) dX0_schedule_9 (fun _ => ?_) (fun _ => ?_)
  · refine r_bipush E dX0_schedule_26 (by decide) (zkI (by decide) (by decide)) ?_
    exact r_ireturn E rfl hT dX0_schedule_28
  · refine r_iload_n E dX0_schedule_12 rfl 2 rfl ?_
    refine r_i2l E dX0_schedule_13 ?_
    refine r_ldc2 (v := (-1)) E dX0_schedule_14 q2064 (by decide) (zkJ (by decide) (by decide)) ?_
    refine r_ldc2 (v := 7) E dX0_schedule_17 q2072 (by decide) (zkJ (by decide) (by decide)) ?_
    refine r_callS E [(1, x2), (1, (-1)), (1, 7)] [] rfl q1853 q1835 q227 q1836 dX0_schedule_20 zy_X0_isIn rfl (by omega) (by decide) (Nat.le_of_ble_eq_true rfl) (fun l G => k_fX0_isIn l G x2 (-1) 7) (fun v2 => ?_)
    refine r_if_ne E 29 (by decide) dX0_schedule_23 (fun _ => ?_) (fun _ => ?_)
    · refine r_aload_n E dX0_schedule_29 rfl 0 rfl ?_
      refine r_gec (y := 0) E zc_2 dX0_schedule_30 q1797 zr_2 (zh_107 (by decide)) (by decide) ?_
      refine r_iload_n E dX0_schedule_33 rfl 1 rfl ?_
      refine r_iaload E zc_107 za_107 zt_107 zx_107 rfl rfl dX0_schedule_34 (by decide) (fun v3 => ?_)
      refine r_istore_n (ls' := [(3, 0, v3), (0, 2, 0), (1, 0, x1), (2, 0, x2)]) E dX0_schedule_35 rfl (by rw [hN]; decide) rfl ?_
      refine r_aload_n E dX0_schedule_36 rfl 1 rfl ?_
      refine r_gec (y := 0) E zc_2 dX0_schedule_37 q1797 zr_2 (zh_107 (by decide)) (by decide) ?_
      refine r_iload_n E dX0_schedule_40 rfl 2 rfl ?_
      refine r_iload_n E dX0_schedule_41 rfl 3 rfl ?_
      refine r_iastore E zc_107 za_107 zt_107 zo_107 zx_107 rfl rfl dX0_schedule_42 (by decide) ?_
      refine r_iload_n E dX0_schedule_43 rfl 0 rfl ?_
      exact r_ireturn E rfl hT dX0_schedule_44
    · refine r_bipush E dX0_schedule_26 (by decide) (zkI (by decide) (by decide)) ?_
      exact r_ireturn E rfl hT dX0_schedule_28
theorem k_fX0_schedule (l : Launch) (G : zG) (x1 : Int) (x2 : Int) : zCt l G yX0_schedule cX0_schedule 4 (some .int) 1 [(2, 0), (0, x1), (0, x2)] (some 0) (fX0_schedule x1 x2) := zCt.of (by decide) (Nat.le_of_ble_eq_true rfl) (fun K E _ _ hN hT => w_fX0_schedule E hN hT x1 x2)
theorem dX0_run_0 : decode cX0_run 0 = .ok (.iload_n 1, 1) := by decide +kernel
theorem dX0_run_1 : decode cX0_run 1 = .ok (.i2l, 1) := by decide +kernel
theorem dX0_run_2 : decode cX0_run 2 = .ok (.lconst 1, 1) := by decide +kernel
theorem dX0_run_3 : decode cX0_run 3 = .ok (.ldc2_w 350, 3) := by decide +kernel
theorem dX0_run_6 : decode cX0_run 6 = .ok (.invokestatic 17, 3) := by decide +kernel
theorem dX0_run_9 : decode cX0_run 9 = .ok (.ifCond .ne 6, 3) := by decide +kernel
theorem dX0_run_12 : decode cX0_run 12 = .ok (.bipush (-8), 2) := by decide +kernel
theorem dX0_run_14 : decode cX0_run 14 = .ok (.ireturn, 1) := by decide +kernel
theorem dX0_run_15 : decode cX0_run 15 = .ok (.iconst 0, 1) := by decide +kernel
theorem dX0_run_16 : decode cX0_run 16 = .ok (.istore_n 2, 1) := by decide +kernel
theorem dX0_run_17 : decode cX0_run 17 = .ok (.iconst 0, 1) := by decide +kernel
theorem dX0_run_18 : decode cX0_run 18 = .ok (.istore_n 3, 1) := by decide +kernel
theorem dX0_run_19 : decode cX0_run 19 = .ok (.iload_n 3, 1) := by decide +kernel
theorem dX0_run_20 : decode cX0_run 20 = .ok (.iload_n 1, 1) := by decide +kernel
theorem dX0_run_21 : decode cX0_run 21 = .ok (.if_icmp .ge 63, 3) := by decide +kernel
theorem dX0_run_24 : decode cX0_run 24 = .ok (.aload_n 0, 1) := by decide +kernel
theorem dX0_run_25 : decode cX0_run 25 = .ok (.getfield 59, 3) := by decide +kernel
theorem dX0_run_28 : decode cX0_run 28 = .ok (.aload_n 0, 1) := by decide +kernel
theorem dX0_run_29 : decode cX0_run 29 = .ok (.getfield 352, 3) := by decide +kernel
theorem dX0_run_32 : decode cX0_run 32 = .ok (.iaload, 1) := by decide +kernel
theorem dX0_run_33 : decode cX0_run 33 = .ok (.istore 4, 2) := by decide +kernel
theorem dX0_run_35 : decode cX0_run 35 = .ok (.aload_n 0, 1) := by decide +kernel
theorem dX0_run_36 : decode cX0_run 36 = .ok (.aload_n 0, 1) := by decide +kernel
theorem dX0_run_37 : decode cX0_run 37 = .ok (.getfield 352, 3) := by decide +kernel
theorem dX0_run_40 : decode cX0_run 40 = .ok (.iconst 1, 1) := by decide +kernel
theorem dX0_run_41 : decode cX0_run 41 = .ok (.iadd, 1) := by decide +kernel
theorem dX0_run_42 : decode cX0_run 42 = .ok (.bipush 16, 2) := by decide +kernel
theorem dX0_run_44 : decode cX0_run 44 = .ok (.irem, 1) := by decide +kernel
theorem dX0_run_45 : decode cX0_run 45 = .ok (.putfield 352, 3) := by decide +kernel
theorem dX0_run_48 : decode cX0_run 48 = .ok (.iload_n 2, 1) := by decide +kernel
theorem dX0_run_49 : decode cX0_run 49 = .ok (.iload 4, 2) := by decide +kernel
theorem dX0_run_51 : decode cX0_run 51 = .ok (.ifCond .lt 24, 3) := by decide +kernel
theorem dX0_run_54 : decode cX0_run 54 = .ok (.aload_n 0, 1) := by decide +kernel
theorem dX0_run_55 : decode cX0_run 55 = .ok (.getfield 76, 3) := by decide +kernel
theorem dX0_run_58 : decode cX0_run 58 = .ok (.aload_n 0, 1) := by decide +kernel
theorem dX0_run_59 : decode cX0_run 59 = .ok (.getfield 48, 3) := by decide +kernel
theorem dX0_run_62 : decode cX0_run 62 = .ok (.iload 4, 2) := by decide +kernel
theorem dX0_run_64 : decode cX0_run 64 = .ok (.aaload, 1) := by decide +kernel
theorem dX0_run_65 : decode cX0_run 65 = .ok (.invokevirtual 346, 3) := by decide +kernel
theorem dX0_run_68 : decode cX0_run 68 = .ok (.ifCond .eq 7, 3) := by decide +kernel
theorem dX0_run_71 : decode cX0_run 71 = .ok (.iconst 1, 1) := by decide +kernel
theorem dX0_run_72 : decode cX0_run 72 = .ok (.goto 4, 3) := by decide +kernel
theorem dX0_run_75 : decode cX0_run 75 = .ok (.iconst 0, 1) := by decide +kernel
theorem dX0_run_76 : decode cX0_run 76 = .ok (.iadd, 1) := by decide +kernel
theorem dX0_run_77 : decode cX0_run 77 = .ok (.istore_n 2, 1) := by decide +kernel
theorem dX0_run_78 : decode cX0_run 78 = .ok (.iinc 3 1, 3) := by decide +kernel
theorem dX0_run_81 : decode cX0_run 81 = .ok (.goto (-62), 3) := by decide +kernel
theorem dX0_run_84 : decode cX0_run 84 = .ok (.iload_n 2, 1) := by decide +kernel
theorem dX0_run_85 : decode cX0_run 85 = .ok (.ireturn, 1) := by decide +kernel
theorem zy_X0_run : yX0_run.cls ≠ "java/lang/invoke/MethodHandle" ∧ yX0_run.cls ≠ "java/lang/invoke/VarHandle" ∧ (parseMethodDescriptor yX0_run.desc).map (fun d => d.parameters.length) = some 1 := by decide +kernel
theorem w_fX0_run_J76 {K : zK} (E : zE K cX0_run "RingHouse" (some .int) 310) (hN : zNl K = 5) (hT : zTr K = (some 0)) (x1 : Int) (x3 : Int) (s0 : Int) (s1 : Int) {r19 : Int × Int → zX} (hr19 : ∀ s : Int × Int, zR K 19 [(0, 2, 0), (1, 0, x1), (2, 0, s.1), (3, 0, s.2)] [] (r19 s)) : zR K 76 [(0, 2, 0), (1, 0, x1), (3, 0, x3)] [(0, s1), (0, s0)] (fX0_run_J76 r19 x1 x3 s0 s1) := by
  refine r_iadd E dX0_run_76 ?_
  refine r_let E (fun v5 ev5 => ?_)
  refine r_istore_n (ls' := [(2, 0, v5), (0, 2, 0), (1, 0, x1), (3, 0, x3)]) E dX0_run_77 rfl (by rw [hN]; decide) rfl ?_
  refine r_iinc (ls' := fun v6 => [(3, 0, v6), (2, 0, v5), (0, 2, 0), (1, 0, x1)]) E 3 rfl (by rw [hN]; decide) (fun _ => rfl) dX0_run_78 (fun v6 _ => ?_)
  refine r_goto E 19 (by decide) dX0_run_81 ?_
  refine r_pick E [2, 3, 1, 0] rfl ?_
  exact hr19 (v5, v6)
theorem w_fX0_run_J75 {K : zK} (E : zE K cX0_run "RingHouse" (some .int) 310) (hN : zNl K = 5) (hT : zTr K = (some 0)) (x1 : Int) (x3 : Int) (s0 : Int) {r19 : Int × Int → zX} (hr19 : ∀ s : Int × Int, zR K 19 [(0, 2, 0), (1, 0, x1), (2, 0, s.1), (3, 0, s.2)] [] (r19 s)) : zR K 75 [(0, 2, 0), (1, 0, x1), (3, 0, x3)] [(0, s0)] (fX0_run_J75 r19 x1 x3 s0) := by
  refine r_iconst E dX0_run_75 (zkI (by decide) (by decide)) ?_
  exact w_fX0_run_J76 E hN hT x1 x3 s0 0 hr19
theorem w_fX0_run_B19 {K : zK} (E : zE K cX0_run "RingHouse" (some .int) 310) (hN : zNl K = 5) (hT : zTr K = (some 0)) (x1 : Int) : ∀ r19 : Int × Int → zX, (∀ s : Int × Int, zR K 19 [(0, 2, 0), (1, 0, x1), (2, 0, s.1), (3, 0, s.2)] [] (r19 s)) → ∀ s : Int × Int, zR K 19 [(0, 2, 0), (1, 0, x1), (2, 0, s.1), (3, 0, s.2)] [] (fX0_run_B19 x1 r19 s) := by
  intro r19 hr19 s
  obtain ⟨x2, x3⟩ := s
  refine r_iload_n E dX0_run_19 rfl 3 rfl ?_
  refine r_iload_n E dX0_run_20 rfl 1 rfl ?_
  refine r_icmp_ge E 84 (by decide) dX0_run_21 (fun _ => ?_) (fun _ => ?_)
  · refine r_iload_n E dX0_run_84 rfl 2 rfl ?_
    exact r_ireturn E rfl hT dX0_run_85
  · refine r_aload_n E dX0_run_24 rfl 0 rfl ?_
    refine r_gec (y := 0) E zc_2 dX0_run_25 q1797 zr_2 (zh_107 (by decide)) (by decide) ?_
    refine r_aload_n E dX0_run_28 rfl 0 rfl ?_
    refine r_get E zc_2 zt_108 dX0_run_29 q1798 zr_2 (zg_108 _) (by decide) (fun v2 => ?_)
    refine r_iaload E zc_107 za_107 zt_107 zx_107 rfl rfl dX0_run_32 (by decide) (fun v3 => ?_)
    refine r_istore (ls' := [(4, 0, v3), (0, 2, 0), (1, 0, x1), (2, 0, x2), (3, 0, x3)]) E dX0_run_33 (by rw [hN]; decide) rfl ?_
    refine r_aload_n E dX0_run_35 rfl 1 rfl ?_
    refine r_aload_n E dX0_run_36 rfl 1 rfl ?_
    refine r_get E zc_2 zt_108 dX0_run_37 q1798 zr_2 (zg_108 _) (by decide) (fun v4 => ?_)
    refine r_iconst E dX0_run_40 (zkI (by decide) (by decide)) ?_
    refine r_iadd E dX0_run_41 ?_
    refine r_bipush E dX0_run_42 (by decide) (zkI (by decide) (by decide)) ?_
    refine r_irem E (by decide) dX0_run_44 ?_
    refine r_put E zc_2 zt_108 zo_108 dX0_run_45 q1798 zr_2 zw_X0 zp_108 (fun _ => rfl) (fun _ => rfl) (by decide) ?_
    refine r_iload_n E dX0_run_48 rfl 3 rfl ?_
    refine r_iload E dX0_run_49 0 rfl ?_
    refine r_if_lt E 75 (by decide) dX0_run_51 (fun _ => ?_) (fun _ => ?_)
    · refine r_pick E [1, 2, 4] rfl ?_
      exact w_fX0_run_J75 E hN hT x1 x3 x2 hr19
    · refine r_aload_n E dX0_run_54 rfl 1 rfl ?_
      refine r_gec (y := 0) E zc_2 dX0_run_55 q1792 zr_2 (zh_102 (by decide)) (by decide) ?_
      refine r_aload_n E dX0_run_58 rfl 1 rfl ?_
      refine r_gec (y := 0) E zc_2 dX0_run_59 q1791 zr_2 (zh_101 (by decide)) (by decide) ?_
      refine r_iload E dX0_run_62 0 rfl ?_
      refine r_aaloc (y := v3) E zc_101 za_101 zt_101 zx_101 rfl rfl (by omega) dX0_run_64 (by decide) (fun hi8 => ?_)
      refine r_callVN E [(10, v3)] [(0, x2)] rfl zc_14 zr_14 (fun o _ => ⟨_, zw_X12.1 o, rfl⟩) q2180 q2182 qs11 q239 q2183 dX0_run_65 zy_X12_tickOf rfl (by omega) (by decide) (Nat.le_of_ble_eq_true rfl) (by decide) (fun l G => k_fX12_tickOf l G v3) (fun v9 => ?_)
      refine r_if_eq E 75 (by decide) dX0_run_68 (fun _ => ?_) (fun _ => ?_)
      · refine r_pick E [1, 2, 4] rfl ?_
        exact w_fX0_run_J75 E hN hT x1 x3 x2 hr19
      · refine r_iconst E dX0_run_71 (zkI (by decide) (by decide)) ?_
        refine r_goto E 76 (by decide) dX0_run_72 ?_
        refine r_pick E [1, 2, 4] rfl ?_
        exact w_fX0_run_J76 E hN hT x1 x3 x2 1 hr19
theorem w_fX0_run {K : zK} (E : zE K cX0_run "RingHouse" (some .int) 310) (hN : zNl K = 5) (hT : zTr K = (some 0)) (x1 : Int) : zR K 0 [(0, 2, 0), (1, 0, x1)] [] (fX0_run x1) := by
  refine r_iload_n E dX0_run_0 rfl 1 rfl ?_
  refine r_i2l E dX0_run_1 ?_
  refine r_lconst (v := 1) E dX0_run_2 (by decide) (zkJ (by decide) (by decide)) ?_
  refine r_ldc2 (v := 2000) E dX0_run_3 q2738 (by decide) (zkJ (by decide) (by decide)) ?_
  refine r_callS E [(1, x1), (1, 1), (1, 2000)] [] rfl q1853 q1835 q227 q1836 dX0_run_6 zy_X0_isIn rfl (by omega) (by decide) (Nat.le_of_ble_eq_true rfl) (fun l G => k_fX0_isIn l G x1 1 2000) (fun v1 => ?_)
  refine r_if_ne E 15 (by decide) dX0_run_9 (fun _ => ?_) (fun _ => ?_)
  · refine r_iconst E dX0_run_15 (zkI (by decide) (by decide)) ?_
    refine r_istore_n (ls' := [(2, 0, 0), (0, 2, 0), (1, 0, x1)]) E dX0_run_16 rfl (by rw [hN]; decide) rfl ?_
    refine r_iconst E dX0_run_17 (zkI (by decide) (by decide)) ?_
    refine r_istore_n (ls' := [(3, 0, 0), (2, 0, 0), (0, 2, 0), (1, 0, x1)]) E dX0_run_18 rfl (by rw [hN]; decide) rfl ?_
    refine r_pick E [2, 3, 1, 0] rfl ?_
    exact r_loop (L := fun s => [(0, 2, 0), (1, 0, x1), (2, 0, s.1), (3, 0, s.2)]) (w_fX0_run_B19 E hN hT x1) zBIG (0, 0)
  · refine r_bipush E dX0_run_12 (by decide) (zkI (by decide) (by decide)) ?_
    exact r_ireturn E rfl hT dX0_run_14
theorem k_fX0_run (l : Launch) (G : zG) (x1 : Int) : zCt l G yX0_run cX0_run 5 (some .int) 310 [(2, 0), (0, x1)] (some 0) (fX0_run x1) := zCt.of (by decide) (Nat.le_of_ble_eq_true rfl) (fun K E _ _ hN hT => w_fX0_run E hN hT x1)
theorem dX0_register_0 : decode cX0_register 0 = .ok (.aload_n 0, 1) := by decide +kernel
theorem dX0_register_1 : decode cX0_register 1 = .ok (.iload_n 1, 1) := by decide +kernel
theorem dX0_register_2 : decode cX0_register 2 = .ok (.invokevirtual 330, 3) := by decide +kernel
theorem dX0_register_5 : decode cX0_register 5 = .ok (.astore_n 3, 1) := by decide +kernel
theorem dX0_register_6 : decode cX0_register 6 = .ok (.aload_n 3, 1) := by decide +kernel
theorem dX0_register_7 : decode cX0_register 7 = .ok (.ifnonnull 7, 3) := by decide +kernel
theorem dX0_register_10 : decode cX0_register 10 = .ok (.ldc2_w 234, 3) := by decide +kernel
theorem dX0_register_13 : decode cX0_register 13 = .ok (.lreturn, 1) := by decide +kernel
theorem dX0_register_14 : decode cX0_register 14 = .ok (.aload_n 3, 1) := by decide +kernel
theorem dX0_register_15 : decode cX0_register 15 = .ok (.getfield 355, 3) := by decide +kernel
theorem dX0_register_18 : decode cX0_register 18 = .ok (.astore 4, 2) := by decide +kernel
theorem dX0_register_20 : decode cX0_register 20 = .ok (.iload_n 2, 1) := by decide +kernel
theorem dX0_register_21 : decode cX0_register 21 = .ok (.i2l, 1) := by decide +kernel
theorem dX0_register_22 : decode cX0_register 22 = .ok (.ldc2_w 148, 3) := by decide +kernel
theorem dX0_register_25 : decode cX0_register 25 = .ok (.ldc2_w 21, 3) := by decide +kernel
theorem dX0_register_28 : decode cX0_register 28 = .ok (.invokestatic 17, 3) := by decide +kernel
theorem dX0_register_31 : decode cX0_register 31 = .ok (.ifCond .eq 14, 3) := by decide +kernel
theorem dX0_register_34 : decode cX0_register 34 = .ok (.aload 4, 2) := by decide +kernel
theorem dX0_register_36 : decode cX0_register 36 = .ok (.getfield 359, 3) := by decide +kernel
theorem dX0_register_39 : decode cX0_register 39 = .ok (.iload_n 2, 1) := by decide +kernel
theorem dX0_register_40 : decode cX0_register 40 = .ok (.iconst 2, 1) := by decide +kernel
theorem dX0_register_41 : decode cX0_register 41 = .ok (.isub, 1) := by decide +kernel
theorem dX0_register_42 : decode cX0_register 42 = .ok (.iaload, 1) := by decide +kernel
theorem dX0_register_43 : decode cX0_register 43 = .ok (.i2l, 1) := by decide +kernel
theorem dX0_register_44 : decode cX0_register 44 = .ok (.lreturn, 1) := by decide +kernel
theorem dX0_register_45 : decode cX0_register 45 = .ok (.iload_n 2, 1) := by decide +kernel
theorem dX0_register_46 : decode cX0_register 46 = .ok (.i2l, 1) := by decide +kernel
theorem dX0_register_47 : decode cX0_register 47 = .ok (.ldc2_w 150, 3) := by decide +kernel
theorem dX0_register_50 : decode cX0_register 50 = .ok (.ldc2_w 364, 3) := by decide +kernel
theorem dX0_register_53 : decode cX0_register 53 = .ok (.invokestatic 17, 3) := by decide +kernel
theorem dX0_register_56 : decode cX0_register 56 = .ok (.ifCond .eq 13, 3) := by decide +kernel
theorem dX0_register_59 : decode cX0_register 59 = .ok (.aload 4, 2) := by decide +kernel
theorem dX0_register_61 : decode cX0_register 61 = .ok (.iload_n 2, 1) := by decide +kernel
theorem dX0_register_62 : decode cX0_register 62 = .ok (.bipush 16, 2) := by decide +kernel
theorem dX0_register_64 : decode cX0_register 64 = .ok (.isub, 1) := by decide +kernel
theorem dX0_register_65 : decode cX0_register 65 = .ok (.invokevirtual 366, 3) := by decide +kernel
theorem dX0_register_68 : decode cX0_register 68 = .ok (.lreturn, 1) := by decide +kernel
theorem dX0_register_69 : decode cX0_register 69 = .ok (.iload_n 2, 1) := by decide +kernel
theorem dX0_register_70 : decode cX0_register 70 = .ok (.tableswitch 119 0 10 #[58, 64, 119, 119, 119, 119, 70, 77, 84, 91, 105], 58) := by decide +kernel
theorem dX0_register_128 : decode cX0_register 128 = .ok (.aload 4, 2) := by decide +kernel
theorem dX0_register_130 : decode cX0_register 130 = .ok (.getfield 370, 3) := by decide +kernel
theorem dX0_register_133 : decode cX0_register 133 = .ok (.lreturn, 1) := by decide +kernel
theorem dX0_register_134 : decode cX0_register 134 = .ok (.aload 4, 2) := by decide +kernel
theorem dX0_register_136 : decode cX0_register 136 = .ok (.getfield 373, 3) := by decide +kernel
theorem dX0_register_139 : decode cX0_register 139 = .ok (.lreturn, 1) := by decide +kernel
theorem dX0_register_140 : decode cX0_register 140 = .ok (.aload 4, 2) := by decide +kernel
theorem dX0_register_142 : decode cX0_register 142 = .ok (.getfield 376, 3) := by decide +kernel
theorem dX0_register_145 : decode cX0_register 145 = .ok (.i2l, 1) := by decide +kernel
theorem dX0_register_146 : decode cX0_register 146 = .ok (.lreturn, 1) := by decide +kernel
theorem dX0_register_147 : decode cX0_register 147 = .ok (.aload 4, 2) := by decide +kernel
theorem dX0_register_149 : decode cX0_register 149 = .ok (.getfield 377, 3) := by decide +kernel
theorem dX0_register_152 : decode cX0_register 152 = .ok (.i2l, 1) := by decide +kernel
theorem dX0_register_153 : decode cX0_register 153 = .ok (.lreturn, 1) := by decide +kernel
theorem dX0_register_154 : decode cX0_register 154 = .ok (.aload 4, 2) := by decide +kernel
theorem dX0_register_156 : decode cX0_register 156 = .ok (.getfield 380, 3) := by decide +kernel
theorem dX0_register_159 : decode cX0_register 159 = .ok (.i2l, 1) := by decide +kernel
theorem dX0_register_160 : decode cX0_register 160 = .ok (.lreturn, 1) := by decide +kernel
theorem dX0_register_161 : decode cX0_register 161 = .ok (.aload 4, 2) := by decide +kernel
theorem dX0_register_163 : decode cX0_register 163 = .ok (.getfield 383, 3) := by decide +kernel
theorem dX0_register_166 : decode cX0_register 166 = .ok (.ifCond .eq 7, 3) := by decide +kernel
theorem dX0_register_169 : decode cX0_register 169 = .ok (.lconst 1, 1) := by decide +kernel
theorem dX0_register_170 : decode cX0_register 170 = .ok (.goto 4, 3) := by decide +kernel
theorem dX0_register_173 : decode cX0_register 173 = .ok (.lconst 0, 1) := by decide +kernel
theorem dX0_register_174 : decode cX0_register 174 = .ok (.lreturn, 1) := by decide +kernel
theorem dX0_register_175 : decode cX0_register 175 = .ok (.aload 4, 2) := by decide +kernel
theorem dX0_register_177 : decode cX0_register 177 = .ok (.getfield 386, 3) := by decide +kernel
theorem dX0_register_180 : decode cX0_register 180 = .ok (.ifCond .eq 7, 3) := by decide +kernel
theorem dX0_register_183 : decode cX0_register 183 = .ok (.lconst 1, 1) := by decide +kernel
theorem dX0_register_184 : decode cX0_register 184 = .ok (.goto 4, 3) := by decide +kernel
theorem dX0_register_187 : decode cX0_register 187 = .ok (.lconst 0, 1) := by decide +kernel
theorem dX0_register_188 : decode cX0_register 188 = .ok (.lreturn, 1) := by decide +kernel
theorem dX0_register_189 : decode cX0_register 189 = .ok (.ldc2_w 279, 3) := by decide +kernel
theorem dX0_register_192 : decode cX0_register 192 = .ok (.lreturn, 1) := by decide +kernel
theorem zy_X0_register : yX0_register.cls ≠ "java/lang/invoke/MethodHandle" ∧ yX0_register.cls ≠ "java/lang/invoke/VarHandle" ∧ (parseMethodDescriptor yX0_register.desc).map (fun d => d.parameters.length) = some 2 := by decide +kernel
theorem w_fX0_register {K : zK} (E : zE K cX0_register "RingHouse" (some .long) 2) (hN : zNl K = 5) (hT : zTr K = (some 1)) (x1 : Int) (x2 : Int) : zR K 0 [(0, 2, 0), (1, 0, x1), (2, 0, x2)] [] (fX0_register x1 x2) := by
  refine r_aload_n E dX0_register_0 rfl 0 rfl ?_
  refine r_iload_n E dX0_register_1 rfl 1 rfl ?_
  refine r_callV E [(0, x1)] [] rfl zc_2 zr_2 (fun o _ => ⟨_, zw_X0.1 o, rfl⟩) (lw_V q2159 q2161 qs10 q227 q2162) dX0_register_2 zy_X0_processAt rfl (by omega) (by decide) (Nat.le_of_ble_eq_true rfl) (by decide) (fun l G => k_fX0_processAt l G x1) (fun v1 => ?_)
  refine r_astore_n (ls' := [(3, 10, v1), (0, 2, 0), (1, 0, x1), (2, 0, x2)]) E dX0_register_5 rfl (by rw [hN]; decide) rfl ?_
  refine r_aload_n E dX0_register_6 rfl 0 rfl ?_
  refine r_ifnonnull E 14 (by decide) dX0_register_7 (fun _ => ?_) (fun hz2 => ?_)
  · refine r_ldc2 (v := (-1)) E dX0_register_10 q2064 (by decide) (zkJ (by decide) (by decide)) ?_
    exact r_lreturn E rfl hT dX0_register_13
  · refine r_aload_n E dX0_register_14 rfl 0 rfl ?_
    refine r_gecN (y := v1) E zc_10 dX0_register_15 q892 zr_10 (zh_908 (by omega)) (Int.not_lt.mp hz2) ?_
    refine r_astore (ls' := [(4, 11, v1), (3, 10, v1), (0, 2, 0), (1, 0, x1), (2, 0, x2)]) E dX0_register_18 (by rw [hN]; decide) rfl ?_
    refine r_iload_n E dX0_register_20 rfl 4 rfl ?_
    refine r_i2l E dX0_register_21 ?_
    refine r_ldc2 (v := 2) E dX0_register_22 q1975 (by decide) (zkJ (by decide) (by decide)) ?_
    refine r_ldc2 (v := 5) E dX0_register_25 q2339 (by decide) (zkJ (by decide) (by decide)) ?_
    refine r_callS E [(1, x2), (1, 2), (1, 5)] [] rfl q1853 q1835 q227 q1836 dX0_register_28 zy_X0_isIn rfl (by omega) (by decide) (Nat.le_of_ble_eq_true rfl) (fun l G => k_fX0_isIn l G x2 2 5) (fun v3 => ?_)
    refine r_if_eq E 45 (by decide) dX0_register_31 (fun _ => ?_) (fun _ => ?_)
    · refine r_iload_n E dX0_register_45 rfl 4 rfl ?_
      refine r_i2l E dX0_register_46 ?_
      refine r_ldc2 (v := 16) E dX0_register_47 q1976 (by decide) (zkJ (by decide) (by decide)) ?_
      refine r_ldc2 (v := 23) E dX0_register_50 q2743 (by decide) (zkJ (by decide) (by decide)) ?_
      refine r_callS E [(1, x2), (1, 16), (1, 23)] [] rfl q1853 q1835 q227 q1836 dX0_register_53 zy_X0_isIn rfl (by omega) (by decide) (Nat.le_of_ble_eq_true rfl) (fun l G => k_fX0_isIn l G x2 16 23) (fun v4 => ?_)
      refine r_if_eq E 69 (by decide) dX0_register_56 (fun _ => ?_) (fun _ => ?_)
      · refine r_iload_n E dX0_register_69 rfl 4 rfl ?_
        refine r_tabc E dX0_register_70 0 128 (by decide) (by decide) rfl (by decide) (fun _ => ?_) (fun ht5 => ?_)
        · refine r_aload E dX0_register_128 0 rfl ?_
          refine r_getN E zc_11 zt_1000 dX0_register_130 q710 zr_11 (zg_1000 _) (Int.not_lt.mp hz2) (fun v6 => ?_)
          exact r_lreturn E rfl hT dX0_register_133
        · refine r_tabc E dX0_register_70 1 134 (by decide) (by decide) rfl (by decide) (fun _ => ?_) (fun ht7 => ?_)
          · refine r_aload E dX0_register_134 0 rfl ?_
            refine r_getN E zc_11 zt_1001 dX0_register_136 q732 zr_11 (zg_1001 _) (Int.not_lt.mp hz2) (fun v8 => ?_)
            exact r_lreturn E rfl hT dX0_register_139
          · refine r_tabc E dX0_register_70 6 140 (by decide) (by decide) rfl (by decide) (fun _ => ?_) (fun ht9 => ?_)
            · refine r_aload E dX0_register_140 0 rfl ?_
              refine r_getN E zc_11 zt_1006 dX0_register_142 q758 zr_11 (zg_1006 _) (Int.not_lt.mp hz2) (fun v10 => ?_)
              refine r_i2l E dX0_register_145 ?_
              exact r_lreturn E rfl hT dX0_register_146
            · refine r_tabc E dX0_register_70 7 147 (by decide) (by decide) rfl (by decide) (fun _ => ?_) (fun ht11 => ?_)
              · refine r_aload E dX0_register_147 0 rfl ?_
                refine r_getN E zc_11 zt_1007 dX0_register_149 q763 zr_11 (zg_1007 _) (Int.not_lt.mp hz2) (fun v12 => ?_)
                refine r_i2l E dX0_register_152 ?_
                exact r_lreturn E rfl hT dX0_register_153
              · refine r_tabc E dX0_register_70 8 154 (by decide) (by decide) rfl (by decide) (fun _ => ?_) (fun ht13 => ?_)
                · refine r_aload E dX0_register_154 0 rfl ?_
                  refine r_getN E zc_11 zt_1008 dX0_register_156 q780 zr_11 (zg_1008 _) (Int.not_lt.mp hz2) (fun v14 => ?_)
                  refine r_i2l E dX0_register_159 ?_
                  exact r_lreturn E rfl hT dX0_register_160
                · refine r_tabc E dX0_register_70 9 161 (by decide) (by decide) rfl (by decide) (fun _ => ?_) (fun ht15 => ?_)
                  · refine r_aload E dX0_register_161 0 rfl ?_
                    refine r_getN E zc_11 zt_1009 dX0_register_163 q784 zr_11 (zg_1009 _) (Int.not_lt.mp hz2) (fun v16 => ?_)
                    refine r_if_eq E 173 (by decide) dX0_register_166 (fun _ => ?_) (fun _ => ?_)
                    · refine r_lconst (v := 0) E dX0_register_173 (by decide) (zkJ (by decide) (by decide)) ?_
                      exact r_lreturn E rfl hT dX0_register_174
                    · refine r_lconst (v := 1) E dX0_register_169 (by decide) (zkJ (by decide) (by decide)) ?_
                      refine r_goto E 174 (by decide) dX0_register_170 ?_
                      exact r_lreturn E rfl hT dX0_register_174
                  · refine r_tabc E dX0_register_70 10 175 (by decide) (by decide) rfl (by decide) (fun _ => ?_) (fun ht17 => ?_)
                    · refine r_aload E dX0_register_175 0 rfl ?_
                      refine r_getN E zc_11 zt_1010 dX0_register_177 q788 zr_11 (zg_1010 _) (Int.not_lt.mp hz2) (fun v18 => ?_)
                      refine r_if_eq E 187 (by decide) dX0_register_180 (fun _ => ?_) (fun _ => ?_)
                      · refine r_lconst (v := 0) E dX0_register_187 (by decide) (zkJ (by decide) (by decide)) ?_
                        exact r_lreturn E rfl hT dX0_register_188
                      · refine r_lconst (v := 1) E dX0_register_183 (by decide) (zkJ (by decide) (by decide)) ?_
                        refine r_goto E 188 (by decide) dX0_register_184 ?_
                        exact r_lreturn E rfl hT dX0_register_188
                    · refine r_tabd E dX0_register_70 189 [0, 1, 6, 7, 8, 9, 10] (by decide) (by decide) (by decide) ⟨ht5, ht7, ht9, ht11, ht13, ht15, ht17, trivial⟩ ?_
                      refine r_ldc2 (v := (-8)) E dX0_register_189 q2066 (by decide) (zkJ (by decide) (by decide)) ?_
                      exact r_lreturn E rfl hT dX0_register_192
      · refine r_aload E dX0_register_59 0 rfl ?_
        refine r_iload_n E dX0_register_61 rfl 4 rfl ?_
        refine r_bipush E dX0_register_62 (by decide) (zkI (by decide) (by decide)) ?_
        refine r_isub E dX0_register_64 ?_
        refine r_callV E [(0, (zi (x2 - 16)))] [] rfl zc_11 zr_11 (fun o _ => ⟨_, zw_X9.1 o, rfl⟩) (lw_V q2744 q2451 q2452 q236 q2453) dX0_register_65 zy_X9_pointer rfl (by omega) (by decide) (Nat.le_of_ble_eq_true rfl) (Int.not_lt.mp hz2) (fun l G => k_fX9_pointer l G v1 (zi (x2 - 16)) (Int.not_lt.mp hz2)) (fun v19 => ?_)
        exact r_lreturn E rfl hT dX0_register_68
    · refine r_aload E dX0_register_34 0 rfl ?_
      refine r_gecN (y := v1) E zc_11 dX0_register_36 q746 zr_11 (zh_1002 (by omega)) (Int.not_lt.mp hz2) ?_
      refine r_iload_n E dX0_register_39 rfl 4 rfl ?_
      refine r_iconst E dX0_register_40 (zkI (by decide) (by decide)) ?_
      refine r_isub E dX0_register_41 ?_
      refine r_iaload E zc_1002 za_1002 zt_1002 zx_1002 rfl rfl dX0_register_42 (Int.not_lt.mp hz2) (fun v20 => ?_)
      refine r_i2l E dX0_register_43 ?_
      exact r_lreturn E rfl hT dX0_register_44
theorem k_fX0_register (l : Launch) (G : zG) (x1 : Int) (x2 : Int) : zCt l G yX0_register cX0_register 5 (some .long) 2 [(2, 0), (0, x1), (0, x2)] (some 1) (fX0_register x1 x2) := zCt.of (by decide) (Nat.le_of_ble_eq_true rfl) (fun K E _ _ hN hT => w_fX0_register E hN hT x1 x2)
theorem dX0_process_0 : decode cX0_process 0 = .ok (.aload_n 0, 1) := by decide +kernel
theorem dX0_process_1 : decode cX0_process 1 = .ok (.iload_n 1, 1) := by decide +kernel
theorem dX0_process_2 : decode cX0_process 2 = .ok (.invokevirtual 330, 3) := by decide +kernel
theorem dX0_process_5 : decode cX0_process 5 = .ok (.astore_n 3, 1) := by decide +kernel
theorem dX0_process_6 : decode cX0_process 6 = .ok (.aload_n 3, 1) := by decide +kernel
theorem dX0_process_7 : decode cX0_process 7 = .ok (.ifnonnull 5, 3) := by decide +kernel
theorem dX0_process_10 : decode cX0_process 10 = .ok (.iconst (-1), 1) := by decide +kernel
theorem dX0_process_11 : decode cX0_process 11 = .ok (.ireturn, 1) := by decide +kernel
theorem dX0_process_12 : decode cX0_process 12 = .ok (.iload_n 2, 1) := by decide +kernel
theorem dX0_process_13 : decode cX0_process 13 = .ok (.i2l, 1) := by decide +kernel
theorem dX0_process_14 : decode cX0_process 14 = .ok (.ldc2_w 152, 3) := by decide +kernel
theorem dX0_process_17 : decode cX0_process 17 = .ok (.ldc2_w 389, 3) := by decide +kernel
theorem dX0_process_20 : decode cX0_process 20 = .ok (.invokestatic 17, 3) := by decide +kernel
theorem dX0_process_23 : decode cX0_process 23 = .ok (.ifCond .eq 29, 3) := by decide +kernel
theorem dX0_process_26 : decode cX0_process 26 = .ok (.aload_n 3, 1) := by decide +kernel
theorem dX0_process_27 : decode cX0_process 27 = .ok (.getfield 391, 3) := by decide +kernel
theorem dX0_process_30 : decode cX0_process 30 = .ok (.iload_n 2, 1) := by decide +kernel
theorem dX0_process_31 : decode cX0_process 31 = .ok (.bipush 8, 2) := by decide +kernel
theorem dX0_process_33 : decode cX0_process 33 = .ok (.isub, 1) := by decide +kernel
theorem dX0_process_34 : decode cX0_process 34 = .ok (.aaload, 1) := by decide +kernel
theorem dX0_process_35 : decode cX0_process 35 = .ok (.astore 4, 2) := by decide +kernel
theorem dX0_process_37 : decode cX0_process 37 = .ok (.aload 4, 2) := by decide +kernel
theorem dX0_process_39 : decode cX0_process 39 = .ok (.ifnonnull 7, 3) := by decide +kernel
theorem dX0_process_42 : decode cX0_process 42 = .ok (.iconst (-1), 1) := by decide +kernel
theorem dX0_process_43 : decode cX0_process 43 = .ok (.goto 8, 3) := by decide +kernel
theorem dX0_process_46 : decode cX0_process 46 = .ok (.aload 4, 2) := by decide +kernel
theorem dX0_process_48 : decode cX0_process 48 = .ok (.getfield 231, 3) := by decide +kernel
theorem dX0_process_51 : decode cX0_process 51 = .ok (.ireturn, 1) := by decide +kernel
theorem dX0_process_52 : decode cX0_process 52 = .ok (.iload_n 2, 1) := by decide +kernel
theorem dX0_process_53 : decode cX0_process 53 = .ok (.tableswitch 135 0 13 #[71, 76, 81, 86, 91, 96, 101, 106, 135, 135, 135, 135, 114, 127], 71) := by decide +kernel
theorem dX0_process_124 : decode cX0_process 124 = .ok (.aload_n 3, 1) := by decide +kernel
theorem dX0_process_125 : decode cX0_process 125 = .ok (.getfield 395, 3) := by decide +kernel
theorem dX0_process_128 : decode cX0_process 128 = .ok (.ireturn, 1) := by decide +kernel
theorem dX0_process_129 : decode cX0_process 129 = .ok (.aload_n 3, 1) := by decide +kernel
theorem dX0_process_130 : decode cX0_process 130 = .ok (.getfield 398, 3) := by decide +kernel
theorem dX0_process_133 : decode cX0_process 133 = .ok (.ireturn, 1) := by decide +kernel
theorem dX0_process_134 : decode cX0_process 134 = .ok (.aload_n 3, 1) := by decide +kernel
theorem dX0_process_135 : decode cX0_process 135 = .ok (.getfield 401, 3) := by decide +kernel
theorem dX0_process_138 : decode cX0_process 138 = .ok (.ireturn, 1) := by decide +kernel
theorem dX0_process_139 : decode cX0_process 139 = .ok (.aload_n 3, 1) := by decide +kernel
theorem dX0_process_140 : decode cX0_process 140 = .ok (.getfield 404, 3) := by decide +kernel
theorem dX0_process_143 : decode cX0_process 143 = .ok (.ireturn, 1) := by decide +kernel
theorem dX0_process_144 : decode cX0_process 144 = .ok (.aload_n 3, 1) := by decide +kernel
theorem dX0_process_145 : decode cX0_process 145 = .ok (.getfield 405, 3) := by decide +kernel
theorem dX0_process_148 : decode cX0_process 148 = .ok (.ireturn, 1) := by decide +kernel
theorem dX0_process_149 : decode cX0_process 149 = .ok (.aload_n 3, 1) := by decide +kernel
theorem dX0_process_150 : decode cX0_process 150 = .ok (.getfield 341, 3) := by decide +kernel
theorem dX0_process_153 : decode cX0_process 153 = .ok (.ireturn, 1) := by decide +kernel
theorem dX0_process_154 : decode cX0_process 154 = .ok (.aload_n 3, 1) := by decide +kernel
theorem dX0_process_155 : decode cX0_process 155 = .ok (.getfield 408, 3) := by decide +kernel
theorem dX0_process_158 : decode cX0_process 158 = .ok (.ireturn, 1) := by decide +kernel
theorem dX0_process_159 : decode cX0_process 159 = .ok (.aload_n 3, 1) := by decide +kernel
theorem dX0_process_160 : decode cX0_process 160 = .ok (.getfield 411, 3) := by decide +kernel
theorem dX0_process_163 : decode cX0_process 163 = .ok (.getfield 231, 3) := by decide +kernel
theorem dX0_process_166 : decode cX0_process 166 = .ok (.ireturn, 1) := by decide +kernel
theorem dX0_process_167 : decode cX0_process 167 = .ok (.aload_n 3, 1) := by decide +kernel
theorem dX0_process_168 : decode cX0_process 168 = .ok (.getfield 414, 3) := by decide +kernel
theorem dX0_process_171 : decode cX0_process 171 = .ok (.ifCond .eq 7, 3) := by decide +kernel
theorem dX0_process_174 : decode cX0_process 174 = .ok (.iconst 1, 1) := by decide +kernel
theorem dX0_process_175 : decode cX0_process 175 = .ok (.goto 4, 3) := by decide +kernel
theorem dX0_process_178 : decode cX0_process 178 = .ok (.iconst 0, 1) := by decide +kernel
theorem dX0_process_179 : decode cX0_process 179 = .ok (.ireturn, 1) := by decide +kernel
theorem dX0_process_180 : decode cX0_process 180 = .ok (.aload_n 3, 1) := by decide +kernel
theorem dX0_process_181 : decode cX0_process 181 = .ok (.getfield 417, 3) := by decide +kernel
theorem dX0_process_184 : decode cX0_process 184 = .ok (.getfield 421, 3) := by decide +kernel
theorem dX0_process_187 : decode cX0_process 187 = .ok (.ireturn, 1) := by decide +kernel
theorem dX0_process_188 : decode cX0_process 188 = .ok (.bipush (-8), 2) := by decide +kernel
theorem dX0_process_190 : decode cX0_process 190 = .ok (.ireturn, 1) := by decide +kernel
theorem zy_X0_process : yX0_process.cls ≠ "java/lang/invoke/MethodHandle" ∧ yX0_process.cls ≠ "java/lang/invoke/VarHandle" ∧ (parseMethodDescriptor yX0_process.desc).map (fun d => d.parameters.length) = some 2 := by decide +kernel
theorem w_fX0_process {K : zK} (E : zE K cX0_process "RingHouse" (some .int) 2) (hN : zNl K = 5) (hT : zTr K = (some 0)) (x1 : Int) (x2 : Int) : zR K 0 [(0, 2, 0), (1, 0, x1), (2, 0, x2)] [] (fX0_process x1 x2) := by
  refine r_aload_n E dX0_process_0 rfl 0 rfl ?_
  refine r_iload_n E dX0_process_1 rfl 1 rfl ?_
  refine r_callV E [(0, x1)] [] rfl zc_2 zr_2 (fun o _ => ⟨_, zw_X0.1 o, rfl⟩) (lw_V q2159 q2161 qs10 q227 q2162) dX0_process_2 zy_X0_processAt rfl (by omega) (by decide) (Nat.le_of_ble_eq_true rfl) (by decide) (fun l G => k_fX0_processAt l G x1) (fun v1 => ?_)
  refine r_astore_n (ls' := [(3, 10, v1), (0, 2, 0), (1, 0, x1), (2, 0, x2)]) E dX0_process_5 rfl (by rw [hN]; decide) rfl ?_
  refine r_aload_n E dX0_process_6 rfl 0 rfl ?_
  refine r_ifnonnull E 12 (by decide) dX0_process_7 (fun _ => ?_) (fun hz2 => ?_)
  · refine r_iconst E dX0_process_10 (zkI (by decide) (by decide)) ?_
    exact r_ireturn E rfl hT dX0_process_11
  · refine r_iload_n E dX0_process_12 rfl 3 rfl ?_
    refine r_i2l E dX0_process_13 ?_
    refine r_ldc2 (v := 8) E dX0_process_14 q1977 (by decide) (zkJ (by decide) (by decide)) ?_
    refine r_ldc2 (v := 11) E dX0_process_17 q2749 (by decide) (zkJ (by decide) (by decide)) ?_
    refine r_callS E [(1, x2), (1, 8), (1, 11)] [] rfl q1853 q1835 q227 q1836 dX0_process_20 zy_X0_isIn rfl (by omega) (by decide) (Nat.le_of_ble_eq_true rfl) (fun l G => k_fX0_isIn l G x2 8 11) (fun v3 => ?_)
    refine r_if_eq E 52 (by decide) dX0_process_23 (fun _ => ?_) (fun _ => ?_)
    · refine r_iload_n E dX0_process_52 rfl 3 rfl ?_
      refine r_tabc E dX0_process_53 0 124 (by decide) (by decide) rfl (by decide) (fun _ => ?_) (fun ht4 => ?_)
      · refine r_aload_n E dX0_process_124 rfl 0 rfl ?_
        refine r_getN E zc_10 zt_903 dX0_process_125 q865 zr_10 (zg_903 _) (Int.not_lt.mp hz2) (fun v5 => ?_)
        exact r_ireturn E rfl hT dX0_process_128
      · refine r_tabc E dX0_process_53 1 129 (by decide) (by decide) rfl (by decide) (fun _ => ?_) (fun ht6 => ?_)
        · refine r_aload_n E dX0_process_129 rfl 0 rfl ?_
          refine r_getN E zc_10 zt_904 dX0_process_130 q871 zr_10 (zg_904 _) (Int.not_lt.mp hz2) (fun v7 => ?_)
          exact r_ireturn E rfl hT dX0_process_133
        · refine r_tabc E dX0_process_53 2 134 (by decide) (by decide) rfl (by decide) (fun _ => ?_) (fun ht8 => ?_)
          · refine r_aload_n E dX0_process_134 rfl 0 rfl ?_
            refine r_getN E zc_10 zt_905 dX0_process_135 q877 zr_10 (zg_905 _) (Int.not_lt.mp hz2) (fun v9 => ?_)
            exact r_ireturn E rfl hT dX0_process_138
          · refine r_tabc E dX0_process_53 3 139 (by decide) (by decide) rfl (by decide) (fun _ => ?_) (fun ht10 => ?_)
            · refine r_aload_n E dX0_process_139 rfl 0 rfl ?_
              refine r_getN E zc_10 zt_906 dX0_process_140 q885 zr_10 (zg_906 _) (Int.not_lt.mp hz2) (fun v11 => ?_)
              exact r_ireturn E rfl hT dX0_process_143
            · refine r_tabc E dX0_process_53 4 144 (by decide) (by decide) rfl (by decide) (fun _ => ?_) (fun ht12 => ?_)
              · refine r_aload_n E dX0_process_144 rfl 0 rfl ?_
                refine r_getN E zc_10 zt_907 dX0_process_145 q889 zr_10 (zg_907 _) (Int.not_lt.mp hz2) (fun v13 => ?_)
                exact r_ireturn E rfl hT dX0_process_148
              · refine r_tabc E dX0_process_53 5 149 (by decide) (by decide) rfl (by decide) (fun _ => ?_) (fun ht14 => ?_)
                · refine r_aload_n E dX0_process_149 rfl 0 rfl ?_
                  refine r_getN E zc_10 zt_924 dX0_process_150 q941 zr_10 (zg_924 _) (Int.not_lt.mp hz2) (fun v15 => ?_)
                  exact r_ireturn E rfl hT dX0_process_153
                · refine r_tabc E dX0_process_53 6 154 (by decide) (by decide) rfl (by decide) (fun _ => ?_) (fun ht16 => ?_)
                  · refine r_aload_n E dX0_process_154 rfl 0 rfl ?_
                    refine r_getN E zc_10 zt_910 dX0_process_155 q897 zr_10 (zg_910 _) (Int.not_lt.mp hz2) (fun v17 => ?_)
                    exact r_ireturn E rfl hT dX0_process_158
                  · refine r_tabc E dX0_process_53 7 159 (by decide) (by decide) rfl (by decide) (fun _ => ?_) (fun ht18 => ?_)
                    · refine r_aload_n E dX0_process_159 rfl 0 rfl ?_
                      refine r_getN E zc_10 zt_920 dX0_process_160 q931 zr_10 (zg_920 _) (Int.not_lt.mp hz2) (fun v19 => ?_)
                      refine r_nn E (fun hn20 => ?_)
                      refine r_gecN (y := v19) E zc_6 dX0_process_163 q376 zr_6 (zh_500 (by omega)) hn20 ?_
                      exact r_ireturn E rfl hT dX0_process_166
                    · refine r_tabc E dX0_process_53 12 167 (by decide) (by decide) rfl (by decide) (fun _ => ?_) (fun ht21 => ?_)
                      · refine r_aload_n E dX0_process_167 rfl 0 rfl ?_
                        refine r_getN E zc_10 zt_911 dX0_process_168 q900 zr_10 (zg_911 _) (Int.not_lt.mp hz2) (fun v22 => ?_)
                        refine r_if_eq E 178 (by decide) dX0_process_171 (fun _ => ?_) (fun _ => ?_)
                        · refine r_iconst E dX0_process_178 (zkI (by decide) (by decide)) ?_
                          exact r_ireturn E rfl hT dX0_process_179
                        · refine r_iconst E dX0_process_174 (zkI (by decide) (by decide)) ?_
                          refine r_goto E 179 (by decide) dX0_process_175 ?_
                          exact r_ireturn E rfl hT dX0_process_179
                      · refine r_tabc E dX0_process_53 13 180 (by decide) (by decide) rfl (by decide) (fun _ => ?_) (fun ht23 => ?_)
                        · refine r_aload_n E dX0_process_180 rfl 0 rfl ?_
                          refine r_gecN (y := v1) E zc_10 dX0_process_181 q943 zr_10 (zh_925 (by omega)) (Int.not_lt.mp hz2) ?_
                          refine r_getN E zc_12 zt_1101 dX0_process_184 q826 zr_12 (zg_1101 _) (Int.not_lt.mp hz2) (fun v24 => ?_)
                          exact r_ireturn E rfl hT dX0_process_187
                        · refine r_tabd E dX0_process_53 188 [0, 1, 2, 3, 4, 5, 6, 7, 12, 13] (by decide) (by decide) (by decide) ⟨ht4, ht6, ht8, ht10, ht12, ht14, ht16, ht18, ht21, ht23, trivial⟩ ?_
                          refine r_bipush E dX0_process_188 (by decide) (zkI (by decide) (by decide)) ?_
                          exact r_ireturn E rfl hT dX0_process_190
    · refine r_aload_n E dX0_process_26 rfl 0 rfl ?_
      refine r_gecN (y := v1) E zc_10 dX0_process_27 q935 zr_10 (zh_921 (by omega)) (Int.not_lt.mp hz2) ?_
      refine r_iload_n E dX0_process_30 rfl 3 rfl ?_
      refine r_bipush E dX0_process_31 (by decide) (zkI (by decide) (by decide)) ?_
      refine r_isub E dX0_process_33 ?_
      refine r_aaload E zc_921 za_921 zt_921 zx_921 rfl rfl dX0_process_34 (Int.not_lt.mp hz2) (fun v25 => ?_)
      refine r_astore (ls' := [(4, 6, v25), (3, 10, v1), (0, 2, 0), (1, 0, x1), (2, 0, x2)]) E dX0_process_35 (by rw [hN]; decide) rfl ?_
      refine r_aload E dX0_process_37 0 rfl ?_
      refine r_ifnonnull E 46 (by decide) dX0_process_39 (fun _ => ?_) (fun hz26 => ?_)
      · refine r_iconst E dX0_process_42 (zkI (by decide) (by decide)) ?_
        refine r_goto E 51 (by decide) dX0_process_43 ?_
        exact r_ireturn E rfl hT dX0_process_51
      · refine r_aload E dX0_process_46 0 rfl ?_
        refine r_gecN (y := v25) E zc_6 dX0_process_48 q376 zr_6 (zh_500 (by omega)) (Int.not_lt.mp hz26) ?_
        exact r_ireturn E rfl hT dX0_process_51
theorem k_fX0_process (l : Launch) (G : zG) (x1 : Int) (x2 : Int) : zCt l G yX0_process cX0_process 5 (some .int) 2 [(2, 0), (0, x1), (0, x2)] (some 0) (fX0_process x1 x2) := zCt.of (by decide) (Nat.le_of_ble_eq_true rfl) (fun K E _ _ hN hT => w_fX0_process E hN hT x1 x2)
theorem dX0_stack_0 : decode cX0_stack 0 = .ok (.aload_n 0, 1) := by decide +kernel
theorem dX0_stack_1 : decode cX0_stack 1 = .ok (.iload_n 1, 1) := by decide +kernel
theorem dX0_stack_2 : decode cX0_stack 2 = .ok (.invokevirtual 330, 3) := by decide +kernel
theorem dX0_stack_5 : decode cX0_stack 5 = .ok (.astore 4, 2) := by decide +kernel
theorem dX0_stack_7 : decode cX0_stack 7 = .ok (.aload 4, 2) := by decide +kernel
theorem dX0_stack_9 : decode cX0_stack 9 = .ok (.ifnull 27, 3) := by decide +kernel
theorem dX0_stack_12 : decode cX0_stack 12 = .ok (.iload_n 2, 1) := by decide +kernel
theorem dX0_stack_13 : decode cX0_stack 13 = .ok (.i2l, 1) := by decide +kernel
theorem dX0_stack_14 : decode cX0_stack 14 = .ok (.lconst 0, 1) := by decide +kernel
theorem dX0_stack_15 : decode cX0_stack 15 = .ok (.ldc2_w 25, 3) := by decide +kernel
theorem dX0_stack_18 : decode cX0_stack 18 = .ok (.invokestatic 17, 3) := by decide +kernel
theorem dX0_stack_21 : decode cX0_stack 21 = .ok (.ifCond .eq 15, 3) := by decide +kernel
theorem dX0_stack_24 : decode cX0_stack 24 = .ok (.iload_n 3, 1) := by decide +kernel
theorem dX0_stack_25 : decode cX0_stack 25 = .ok (.i2l, 1) := by decide +kernel
theorem dX0_stack_26 : decode cX0_stack 26 = .ok (.lconst 0, 1) := by decide +kernel
theorem dX0_stack_27 : decode cX0_stack 27 = .ok (.ldc2_w 13, 3) := by decide +kernel
theorem dX0_stack_30 : decode cX0_stack 30 = .ok (.invokestatic 17, 3) := by decide +kernel
theorem dX0_stack_33 : decode cX0_stack 33 = .ok (.ifCond .ne 9, 3) := by decide +kernel
theorem dX0_stack_36 : decode cX0_stack 36 = .ok (.ldc2_w 234, 3) := by decide +kernel
theorem dX0_stack_39 : decode cX0_stack 39 = .ok (.goto 15, 3) := by decide +kernel
theorem dX0_stack_42 : decode cX0_stack 42 = .ok (.aload 4, 2) := by decide +kernel
theorem dX0_stack_44 : decode cX0_stack 44 = .ok (.getfield 426, 3) := by decide +kernel
theorem dX0_stack_47 : decode cX0_stack 47 = .ok (.bipush 64, 2) := by decide +kernel
theorem dX0_stack_49 : decode cX0_stack 49 = .ok (.iload_n 2, 1) := by decide +kernel
theorem dX0_stack_50 : decode cX0_stack 50 = .ok (.imul, 1) := by decide +kernel
theorem dX0_stack_51 : decode cX0_stack 51 = .ok (.iload_n 3, 1) := by decide +kernel
theorem dX0_stack_52 : decode cX0_stack 52 = .ok (.iadd, 1) := by decide +kernel
theorem dX0_stack_53 : decode cX0_stack 53 = .ok (.laload, 1) := by decide +kernel
theorem dX0_stack_54 : decode cX0_stack 54 = .ok (.lreturn, 1) := by decide +kernel
theorem zy_X0_stack : yX0_stack.cls ≠ "java/lang/invoke/MethodHandle" ∧ yX0_stack.cls ≠ "java/lang/invoke/VarHandle" ∧ (parseMethodDescriptor yX0_stack.desc).map (fun d => d.parameters.length) = some 3 := by decide +kernel
theorem w_fX0_stack {K : zK} (E : zE K cX0_stack "RingHouse" (some .long) 2) (hN : zNl K = 5) (hT : zTr K = (some 1)) (x1 : Int) (x2 : Int) (x3 : Int) : zR K 0 [(0, 2, 0), (1, 0, x1), (2, 0, x2), (3, 0, x3)] [] (fX0_stack x1 x2 x3) := by
  refine r_aload_n E dX0_stack_0 rfl 0 rfl ?_
  refine r_iload_n E dX0_stack_1 rfl 1 rfl ?_
  refine r_callV E [(0, x1)] [] rfl zc_2 zr_2 (fun o _ => ⟨_, zw_X0.1 o, rfl⟩) (lw_V q2159 q2161 qs10 q227 q2162) dX0_stack_2 zy_X0_processAt rfl (by omega) (by decide) (Nat.le_of_ble_eq_true rfl) (by decide) (fun l G => k_fX0_processAt l G x1) (fun v1 => ?_)
  refine r_astore (ls' := [(4, 10, v1), (0, 2, 0), (1, 0, x1), (2, 0, x2), (3, 0, x3)]) E dX0_stack_5 (by rw [hN]; decide) rfl ?_
  refine r_aload E dX0_stack_7 0 rfl ?_
  refine r_ifnull E 36 (by decide) dX0_stack_9 (fun _ => ?_) (fun hz2 => ?_)
  · refine r_ldc2 (v := (-1)) E dX0_stack_36 q2064 (by decide) (zkJ (by decide) (by decide)) ?_
    refine r_goto E 54 (by decide) dX0_stack_39 ?_
    exact r_lreturn E rfl hT dX0_stack_54
  · refine r_iload_n E dX0_stack_12 rfl 3 rfl ?_
    refine r_i2l E dX0_stack_13 ?_
    refine r_lconst (v := 0) E dX0_stack_14 (by decide) (zkJ (by decide) (by decide)) ?_
    refine r_ldc2 (v := 7) E dX0_stack_15 q2072 (by decide) (zkJ (by decide) (by decide)) ?_
    refine r_callS E [(1, x2), (1, 0), (1, 7)] [] rfl q1853 q1835 q227 q1836 dX0_stack_18 zy_X0_isIn rfl (by omega) (by decide) (Nat.le_of_ble_eq_true rfl) (fun l G => k_fX0_isIn l G x2 0 7) (fun v3 => ?_)
    refine r_if_eq E 36 (by decide) dX0_stack_21 (fun _ => ?_) (fun _ => ?_)
    · refine r_ldc2 (v := (-1)) E dX0_stack_36 q2064 (by decide) (zkJ (by decide) (by decide)) ?_
      refine r_goto E 54 (by decide) dX0_stack_39 ?_
      exact r_lreturn E rfl hT dX0_stack_54
    · refine r_iload_n E dX0_stack_24 rfl 4 rfl ?_
      refine r_i2l E dX0_stack_25 ?_
      refine r_lconst (v := 0) E dX0_stack_26 (by decide) (zkJ (by decide) (by decide)) ?_
      refine r_ldc2 (v := 63) E dX0_stack_27 q1848 (by decide) (zkJ (by decide) (by decide)) ?_
      refine r_callS E [(1, x3), (1, 0), (1, 63)] [] rfl q1853 q1835 q227 q1836 dX0_stack_30 zy_X0_isIn rfl (by omega) (by decide) (Nat.le_of_ble_eq_true rfl) (fun l G => k_fX0_isIn l G x3 0 63) (fun v4 => ?_)
      refine r_if_ne E 42 (by decide) dX0_stack_33 (fun _ => ?_) (fun _ => ?_)
      · refine r_aload E dX0_stack_42 0 rfl ?_
        refine r_gecN (y := v1) E zc_10 dX0_stack_44 q909 zr_10 (zh_915 (by omega)) (Int.not_lt.mp hz2) ?_
        refine r_bipush E dX0_stack_47 (by decide) (zkI (by decide) (by decide)) ?_
        refine r_iload_n E dX0_stack_49 rfl 3 rfl ?_
        refine r_imul E dX0_stack_50 ?_
        refine r_iload_n E dX0_stack_51 rfl 4 rfl ?_
        refine r_iadd E dX0_stack_52 ?_
        refine r_laload E zc_915 za_915 zt_915 zx_915 rfl rfl dX0_stack_53 (Int.not_lt.mp hz2) (fun v5 => ?_)
        exact r_lreturn E rfl hT dX0_stack_54
      · refine r_ldc2 (v := (-1)) E dX0_stack_36 q2064 (by decide) (zkJ (by decide) (by decide)) ?_
        refine r_goto E 54 (by decide) dX0_stack_39 ?_
        exact r_lreturn E rfl hT dX0_stack_54
theorem k_fX0_stack (l : Launch) (G : zG) (x1 : Int) (x2 : Int) (x3 : Int) : zCt l G yX0_stack cX0_stack 5 (some .long) 2 [(2, 0), (0, x1), (0, x2), (0, x3)] (some 1) (fX0_stack x1 x2 x3) := zCt.of (by decide) (Nat.le_of_ble_eq_true rfl) (fun K E _ _ hN hT => w_fX0_stack E hN hT x1 x2 x3)
theorem dX0_known_0 : decode cX0_known 0 = .ok (.aload_n 0, 1) := by decide +kernel
theorem dX0_known_1 : decode cX0_known 1 = .ok (.iload_n 1, 1) := by decide +kernel
theorem dX0_known_2 : decode cX0_known 2 = .ok (.invokevirtual 330, 3) := by decide +kernel
theorem dX0_known_5 : decode cX0_known 5 = .ok (.astore_n 3, 1) := by decide +kernel
theorem dX0_known_6 : decode cX0_known 6 = .ok (.aload_n 3, 1) := by decide +kernel
theorem dX0_known_7 : decode cX0_known 7 = .ok (.ifnull 12, 3) := by decide +kernel
theorem dX0_known_10 : decode cX0_known 10 = .ok (.aload_n 3, 1) := by decide +kernel
theorem dX0_known_11 : decode cX0_known 11 = .ok (.iload_n 2, 1) := by decide +kernel
theorem dX0_known_12 : decode cX0_known 12 = .ok (.i2l, 1) := by decide +kernel
theorem dX0_known_13 : decode cX0_known 13 = .ok (.invokestatic 429, 3) := by decide +kernel
theorem dX0_known_16 : decode cX0_known 16 = .ok (.ifCond .ne 7, 3) := by decide +kernel
theorem dX0_known_19 : decode cX0_known 19 = .ok (.iconst (-1), 1) := by decide +kernel
theorem dX0_known_20 : decode cX0_known 20 = .ok (.goto 12, 3) := by decide +kernel
theorem dX0_known_23 : decode cX0_known 23 = .ok (.aload_n 3, 1) := by decide +kernel
theorem dX0_known_24 : decode cX0_known 24 = .ok (.getfield 433, 3) := by decide +kernel
theorem dX0_known_27 : decode cX0_known 27 = .ok (.iload_n 2, 1) := by decide +kernel
theorem dX0_known_28 : decode cX0_known 28 = .ok (.aaload, 1) := by decide +kernel
theorem dX0_known_29 : decode cX0_known 29 = .ok (.getfield 231, 3) := by decide +kernel
theorem dX0_known_32 : decode cX0_known 32 = .ok (.ireturn, 1) := by decide +kernel
theorem zy_X0_known : yX0_known.cls ≠ "java/lang/invoke/MethodHandle" ∧ yX0_known.cls ≠ "java/lang/invoke/VarHandle" ∧ (parseMethodDescriptor yX0_known.desc).map (fun d => d.parameters.length) = some 2 := by decide +kernel
theorem w_fX0_known {K : zK} (E : zE K cX0_known "RingHouse" (some .int) 2) (hN : zNl K = 4) (hT : zTr K = (some 0)) (x1 : Int) (x2 : Int) : zR K 0 [(0, 2, 0), (1, 0, x1), (2, 0, x2)] [] (fX0_known x1 x2) := by
  refine r_aload_n E dX0_known_0 rfl 0 rfl ?_
  refine r_iload_n E dX0_known_1 rfl 1 rfl ?_
  refine r_callV E [(0, x1)] [] rfl zc_2 zr_2 (fun o _ => ⟨_, zw_X0.1 o, rfl⟩) (lw_V q2159 q2161 qs10 q227 q2162) dX0_known_2 zy_X0_processAt rfl (by omega) (by decide) (Nat.le_of_ble_eq_true rfl) (by decide) (fun l G => k_fX0_processAt l G x1) (fun v1 => ?_)
  refine r_astore_n (ls' := [(3, 10, v1), (0, 2, 0), (1, 0, x1), (2, 0, x2)]) E dX0_known_5 rfl (by rw [hN]; decide) rfl ?_
  refine r_aload_n E dX0_known_6 rfl 0 rfl ?_
  refine r_ifnull E 19 (by decide) dX0_known_7 (fun _ => ?_) (fun hz2 => ?_)
  · refine r_iconst E dX0_known_19 (zkI (by decide) (by decide)) ?_
    refine r_goto E 32 (by decide) dX0_known_20 ?_
    exact r_ireturn E rfl hT dX0_known_32
  · refine r_aload_n E dX0_known_10 rfl 0 rfl ?_
    refine r_iload_n E dX0_known_11 rfl 3 rfl ?_
    refine r_i2l E dX0_known_12 ?_
    refine r_callSN E [(10, v1), (1, x2)] [] rfl q2758 q2637 q239 q2638 dX0_known_13 zy_X12_isKnown rfl (by omega) (by decide) (Nat.le_of_ble_eq_true rfl) (fun l G => k_fX12_isKnown l G v1 x2) (fun v3 => ?_)
    refine r_if_ne E 23 (by decide) dX0_known_16 (fun _ => ?_) (fun _ => ?_)
    · refine r_aload_n E dX0_known_23 rfl 0 rfl ?_
      refine r_gecN (y := v1) E zc_10 dX0_known_24 q914 zr_10 (zh_916 (by omega)) (Int.not_lt.mp hz2) ?_
      refine r_iload_n E dX0_known_27 rfl 3 rfl ?_
      refine r_aaload E zc_916 za_916 zt_916 zx_916 rfl rfl dX0_known_28 (Int.not_lt.mp hz2) (fun v4 => ?_)
      refine r_nn E (fun hn5 => ?_)
      refine r_gecN (y := v4) E zc_6 dX0_known_29 q376 zr_6 (zh_500 (by omega)) hn5 ?_
      exact r_ireturn E rfl hT dX0_known_32
    · refine r_iconst E dX0_known_19 (zkI (by decide) (by decide)) ?_
      refine r_goto E 32 (by decide) dX0_known_20 ?_
      exact r_ireturn E rfl hT dX0_known_32
theorem k_fX0_known (l : Launch) (G : zG) (x1 : Int) (x2 : Int) : zCt l G yX0_known cX0_known 4 (some .int) 2 [(2, 0), (0, x1), (0, x2)] (some 0) (fX0_known x1 x2) := zCt.of (by decide) (Nat.le_of_ble_eq_true rfl) (fun K E _ _ hN hT => w_fX0_known E hN hT x1 x2)
theorem dX0_link_0 : decode cX0_link 0 = .ok (.aload_n 0, 1) := by decide +kernel
theorem dX0_link_1 : decode cX0_link 1 = .ok (.iload_n 1, 1) := by decide +kernel
theorem dX0_link_2 : decode cX0_link 2 = .ok (.invokevirtual 330, 3) := by decide +kernel
theorem dX0_link_5 : decode cX0_link 5 = .ok (.astore 4, 2) := by decide +kernel
theorem dX0_link_7 : decode cX0_link 7 = .ok (.aload 4, 2) := by decide +kernel
theorem dX0_link_9 : decode cX0_link 9 = .ok (.ifnull 44, 3) := by decide +kernel
theorem dX0_link_12 : decode cX0_link 12 = .ok (.iload_n 2, 1) := by decide +kernel
theorem dX0_link_13 : decode cX0_link 13 = .ok (.i2l, 1) := by decide +kernel
theorem dX0_link_14 : decode cX0_link 14 = .ok (.ldc2_w 152, 3) := by decide +kernel
theorem dX0_link_17 : decode cX0_link 17 = .ok (.ldc2_w 15, 3) := by decide +kernel
theorem dX0_link_20 : decode cX0_link 20 = .ok (.invokestatic 17, 3) := by decide +kernel
theorem dX0_link_23 : decode cX0_link 23 = .ok (.ifCond .eq 30, 3) := by decide +kernel
theorem dX0_link_26 : decode cX0_link 26 = .ok (.iload_n 3, 1) := by decide +kernel
theorem dX0_link_27 : decode cX0_link 27 = .ok (.i2l, 1) := by decide +kernel
theorem dX0_link_28 : decode cX0_link 28 = .ok (.lconst 0, 1) := by decide +kernel
theorem dX0_link_29 : decode cX0_link 29 = .ok (.ldc2_w 281, 3) := by decide +kernel
theorem dX0_link_32 : decode cX0_link 32 = .ok (.invokestatic 17, 3) := by decide +kernel
theorem dX0_link_35 : decode cX0_link 35 = .ok (.ifCond .eq 18, 3) := by decide +kernel
theorem dX0_link_38 : decode cX0_link 38 = .ok (.aload 4, 2) := by decide +kernel
theorem dX0_link_40 : decode cX0_link 40 = .ok (.getfield 436, 3) := by decide +kernel
theorem dX0_link_43 : decode cX0_link 43 = .ok (.bipush 16, 2) := by decide +kernel
theorem dX0_link_45 : decode cX0_link 45 = .ok (.iload_n 2, 1) := by decide +kernel
theorem dX0_link_46 : decode cX0_link 46 = .ok (.imul, 1) := by decide +kernel
theorem dX0_link_47 : decode cX0_link 47 = .ok (.iload_n 3, 1) := by decide +kernel
theorem dX0_link_48 : decode cX0_link 48 = .ok (.iadd, 1) := by decide +kernel
theorem dX0_link_49 : decode cX0_link 49 = .ok (.iaload, 1) := by decide +kernel
theorem dX0_link_50 : decode cX0_link 50 = .ok (.ifCond .ge 7, 3) := by decide +kernel
theorem dX0_link_53 : decode cX0_link 53 = .ok (.ldc2_w 234, 3) := by decide +kernel
theorem dX0_link_56 : decode cX0_link 56 = .ok (.lreturn, 1) := by decide +kernel
theorem dX0_link_57 : decode cX0_link 57 = .ok (.ldc2_w 439, 3) := by decide +kernel
theorem dX0_link_60 : decode cX0_link 60 = .ok (.aload 4, 2) := by decide +kernel
theorem dX0_link_62 : decode cX0_link 62 = .ok (.getfield 436, 3) := by decide +kernel
theorem dX0_link_65 : decode cX0_link 65 = .ok (.bipush 16, 2) := by decide +kernel
theorem dX0_link_67 : decode cX0_link 67 = .ok (.iload_n 2, 1) := by decide +kernel
theorem dX0_link_68 : decode cX0_link 68 = .ok (.imul, 1) := by decide +kernel
theorem dX0_link_69 : decode cX0_link 69 = .ok (.iload_n 3, 1) := by decide +kernel
theorem dX0_link_70 : decode cX0_link 70 = .ok (.iadd, 1) := by decide +kernel
theorem dX0_link_71 : decode cX0_link 71 = .ok (.iaload, 1) := by decide +kernel
theorem dX0_link_72 : decode cX0_link 72 = .ok (.i2l, 1) := by decide +kernel
theorem dX0_link_73 : decode cX0_link 73 = .ok (.lmul, 1) := by decide +kernel
theorem dX0_link_74 : decode cX0_link 74 = .ok (.aload 4, 2) := by decide +kernel
theorem dX0_link_76 : decode cX0_link 76 = .ok (.getfield 441, 3) := by decide +kernel
theorem dX0_link_79 : decode cX0_link 79 = .ok (.bipush 16, 2) := by decide +kernel
theorem dX0_link_81 : decode cX0_link 81 = .ok (.iload_n 2, 1) := by decide +kernel
theorem dX0_link_82 : decode cX0_link 82 = .ok (.imul, 1) := by decide +kernel
theorem dX0_link_83 : decode cX0_link 83 = .ok (.iload_n 3, 1) := by decide +kernel
theorem dX0_link_84 : decode cX0_link 84 = .ok (.iadd, 1) := by decide +kernel
theorem dX0_link_85 : decode cX0_link 85 = .ok (.iaload, 1) := by decide +kernel
theorem dX0_link_86 : decode cX0_link 86 = .ok (.i2l, 1) := by decide +kernel
theorem dX0_link_87 : decode cX0_link 87 = .ok (.ladd, 1) := by decide +kernel
theorem dX0_link_88 : decode cX0_link 88 = .ok (.lreturn, 1) := by decide +kernel
theorem zy_X0_link : yX0_link.cls ≠ "java/lang/invoke/MethodHandle" ∧ yX0_link.cls ≠ "java/lang/invoke/VarHandle" ∧ (parseMethodDescriptor yX0_link.desc).map (fun d => d.parameters.length) = some 3 := by decide +kernel
theorem w_fX0_link {K : zK} (E : zE K cX0_link "RingHouse" (some .long) 2) (hN : zNl K = 5) (hT : zTr K = (some 1)) (x1 : Int) (x2 : Int) (x3 : Int) : zR K 0 [(0, 2, 0), (1, 0, x1), (2, 0, x2), (3, 0, x3)] [] (fX0_link x1 x2 x3) := by
  refine r_aload_n E dX0_link_0 rfl 0 rfl ?_
  refine r_iload_n E dX0_link_1 rfl 1 rfl ?_
  refine r_callV E [(0, x1)] [] rfl zc_2 zr_2 (fun o _ => ⟨_, zw_X0.1 o, rfl⟩) (lw_V q2159 q2161 qs10 q227 q2162) dX0_link_2 zy_X0_processAt rfl (by omega) (by decide) (Nat.le_of_ble_eq_true rfl) (by decide) (fun l G => k_fX0_processAt l G x1) (fun v1 => ?_)
  refine r_astore (ls' := [(4, 10, v1), (0, 2, 0), (1, 0, x1), (2, 0, x2), (3, 0, x3)]) E dX0_link_5 (by rw [hN]; decide) rfl ?_
  refine r_aload E dX0_link_7 0 rfl ?_
  refine r_ifnull E 53 (by decide) dX0_link_9 (fun _ => ?_) (fun hz2 => ?_)
  · refine r_ldc2 (v := (-1)) E dX0_link_53 q2064 (by decide) (zkJ (by decide) (by decide)) ?_
    exact r_lreturn E rfl hT dX0_link_56
  · refine r_iload_n E dX0_link_12 rfl 3 rfl ?_
    refine r_i2l E dX0_link_13 ?_
    refine r_ldc2 (v := 8) E dX0_link_14 q1977 (by decide) (zkJ (by decide) (by decide)) ?_
    refine r_ldc2 (v := 31) E dX0_link_17 q1852 (by decide) (zkJ (by decide) (by decide)) ?_
    refine r_callS E [(1, x2), (1, 8), (1, 31)] [] rfl q1853 q1835 q227 q1836 dX0_link_20 zy_X0_isIn rfl (by omega) (by decide) (Nat.le_of_ble_eq_true rfl) (fun l G => k_fX0_isIn l G x2 8 31) (fun v3 => ?_)
    refine r_if_eq E 53 (by decide) dX0_link_23 (fun _ => ?_) (fun _ => ?_)
    · refine r_ldc2 (v := (-1)) E dX0_link_53 q2064 (by decide) (zkJ (by decide) (by decide)) ?_
      exact r_lreturn E rfl hT dX0_link_56
    · refine r_iload_n E dX0_link_26 rfl 4 rfl ?_
      refine r_i2l E dX0_link_27 ?_
      refine r_lconst (v := 0) E dX0_link_28 (by decide) (zkJ (by decide) (by decide)) ?_
      refine r_ldc2 (v := 15) E dX0_link_29 q2071 (by decide) (zkJ (by decide) (by decide)) ?_
      refine r_callS E [(1, x3), (1, 0), (1, 15)] [] rfl q1853 q1835 q227 q1836 dX0_link_32 zy_X0_isIn rfl (by omega) (by decide) (Nat.le_of_ble_eq_true rfl) (fun l G => k_fX0_isIn l G x3 0 15) (fun v4 => ?_)
      refine r_if_eq E 53 (by decide) dX0_link_35 (fun _ => ?_) (fun _ => ?_)
      · refine r_ldc2 (v := (-1)) E dX0_link_53 q2064 (by decide) (zkJ (by decide) (by decide)) ?_
        exact r_lreturn E rfl hT dX0_link_56
      · refine r_aload E dX0_link_38 0 rfl ?_
        refine r_gecN (y := v1) E zc_10 dX0_link_40 q918 zr_10 (zh_918 (by omega)) (Int.not_lt.mp hz2) ?_
        refine r_bipush E dX0_link_43 (by decide) (zkI (by decide) (by decide)) ?_
        refine r_iload_n E dX0_link_45 rfl 3 rfl ?_
        refine r_imul E dX0_link_46 ?_
        refine r_iload_n E dX0_link_47 rfl 4 rfl ?_
        refine r_iadd E dX0_link_48 ?_
        refine r_iaload E zc_918 za_918 zt_918 zx_918 rfl rfl dX0_link_49 (Int.not_lt.mp hz2) (fun v5 => ?_)
        refine r_if_ge E 57 (by decide) dX0_link_50 (fun _ => ?_) (fun _ => ?_)
        · refine r_ldc2 (v := 262144) E dX0_link_57 q2763 (by decide) (zkJ (by decide) (by decide)) ?_
          refine r_aload E dX0_link_60 0 rfl ?_
          refine r_gecN (y := v1) E zc_10 dX0_link_62 q918 zr_10 (zh_918 (by omega)) (Int.not_lt.mp hz2) ?_
          refine r_bipush E dX0_link_65 (by decide) (zkI (by decide) (by decide)) ?_
          refine r_iload_n E dX0_link_67 rfl 3 rfl ?_
          refine r_imul E dX0_link_68 ?_
          refine r_iload_n E dX0_link_69 rfl 4 rfl ?_
          refine r_iadd E dX0_link_70 ?_
          refine r_iaload E zc_918 za_918 zt_918 zx_918 rfl rfl dX0_link_71 (Int.not_lt.mp hz2) (fun v6 => ?_)
          refine r_i2l E dX0_link_72 ?_
          refine r_lmul E dX0_link_73 ?_
          refine r_aload E dX0_link_74 0 rfl ?_
          refine r_gecN (y := v1) E zc_10 dX0_link_76 q921 zr_10 (zh_919 (by omega)) (Int.not_lt.mp hz2) ?_
          refine r_bipush E dX0_link_79 (by decide) (zkI (by decide) (by decide)) ?_
          refine r_iload_n E dX0_link_81 rfl 3 rfl ?_
          refine r_imul E dX0_link_82 ?_
          refine r_iload_n E dX0_link_83 rfl 4 rfl ?_
          refine r_iadd E dX0_link_84 ?_
          refine r_iaload E zc_919 za_919 zt_919 zx_919 rfl rfl dX0_link_85 (Int.not_lt.mp hz2) (fun v7 => ?_)
          refine r_i2l E dX0_link_86 ?_
          refine r_ladd E dX0_link_87 ?_
          exact r_lreturn E rfl hT dX0_link_88
        · refine r_ldc2 (v := (-1)) E dX0_link_53 q2064 (by decide) (zkJ (by decide) (by decide)) ?_
          exact r_lreturn E rfl hT dX0_link_56
theorem k_fX0_link (l : Launch) (G : zG) (x1 : Int) (x2 : Int) (x3 : Int) : zCt l G yX0_link cX0_link 5 (some .long) 2 [(2, 0), (0, x1), (0, x2), (0, x3)] (some 1) (fX0_link x1 x2 x3) := zCt.of (by decide) (Nat.le_of_ble_eq_true rfl) (fun K E _ _ hN hT => w_fX0_link E hN hT x1 x2 x3)
theorem dX10_has_0 : decode cX10_has 0 = .ok (.iload_n 1, 1) := by decide +kernel
theorem dX10_has_1 : decode cX10_has 1 = .ok (.ifCond .lt 26, 3) := by decide +kernel
theorem dX10_has_4 : decode cX10_has 4 = .ok (.iload_n 1, 1) := by decide +kernel
theorem dX10_has_5 : decode cX10_has 5 = .ok (.aload_n 0, 1) := by decide +kernel
theorem dX10_has_6 : decode cX10_has 6 = .ok (.getfield 21, 3) := by decide +kernel
theorem dX10_has_9 : decode cX10_has 9 = .ok (.if_icmp .ge 18, 3) := by decide +kernel
theorem dX10_has_12 : decode cX10_has 12 = .ok (.iload_n 1, 1) := by decide +kernel
theorem dX10_has_13 : decode cX10_has 13 = .ok (.aload_n 0, 1) := by decide +kernel
theorem dX10_has_14 : decode cX10_has 14 = .ok (.getfield 21, 3) := by decide +kernel
theorem dX10_has_17 : decode cX10_has 17 = .ok (.bipush 64, 2) := by decide +kernel
theorem dX10_has_19 : decode cX10_has 19 = .ok (.isub, 1) := by decide +kernel
theorem dX10_has_20 : decode cX10_has 20 = .ok (.if_icmp .lt 7, 3) := by decide +kernel
theorem dX10_has_23 : decode cX10_has 23 = .ok (.iconst 1, 1) := by decide +kernel
theorem dX10_has_24 : decode cX10_has 24 = .ok (.goto 4, 3) := by decide +kernel
theorem dX10_has_27 : decode cX10_has 27 = .ok (.iconst 0, 1) := by decide +kernel
theorem dX10_has_28 : decode cX10_has 28 = .ok (.ireturn, 1) := by decide +kernel
theorem zy_X10_has : yX10_has.cls ≠ "java/lang/invoke/MethodHandle" ∧ yX10_has.cls ≠ "java/lang/invoke/VarHandle" ∧ (parseMethodDescriptor yX10_has.desc).map (fun d => d.parameters.length) = some 1 := by decide +kernel
theorem w_fX10_has {K : zK} (E : zE K cX10_has "RingHouse$Trace" (some .boolean) 0) (hN : zNl K = 2) (hT : zTr K = (some 0)) (x0 : Int) (x1 : Int) (h0 : 0 ≤ x0) : zR K 0 [(0, 12, x0), (1, 0, x1)] [] (fX10_has x0 x1) := by
  refine r_iload_n E dX10_has_0 rfl 1 rfl ?_
  refine r_if_lt E 27 (by decide) dX10_has_1 (fun _ => ?_) (fun _ => ?_)
  · refine r_iconst E dX10_has_27 (zkI (by decide) (by decide)) ?_
    exact r_zreturn E rfl hT (by decide) dX10_has_28
  · refine r_iload_n E dX10_has_4 rfl 1 rfl ?_
    refine r_aload_n E dX10_has_5 rfl 0 rfl ?_
    refine r_get E zc_12 zt_1101 dX10_has_6 q825 zr_12 (zg_1101 _) h0 (fun v1 => ?_)
    refine r_icmp_ge E 27 (by decide) dX10_has_9 (fun _ => ?_) (fun _ => ?_)
    · refine r_iconst E dX10_has_27 (zkI (by decide) (by decide)) ?_
      exact r_zreturn E rfl hT (by decide) dX10_has_28
    · refine r_iload_n E dX10_has_12 rfl 1 rfl ?_
      refine r_aload_n E dX10_has_13 rfl 0 rfl ?_
      refine r_get E zc_12 zt_1101 dX10_has_14 q825 zr_12 (zg_1101 _) h0 (fun v2 => ?_)
      refine r_bipush E dX10_has_17 (by decide) (zkI (by decide) (by decide)) ?_
      refine r_isub E dX10_has_19 ?_
      refine r_icmp_lt E 27 (by decide) dX10_has_20 (fun _ => ?_) (fun _ => ?_)
      · refine r_iconst E dX10_has_27 (zkI (by decide) (by decide)) ?_
        exact r_zreturn E rfl hT (by decide) dX10_has_28
      · refine r_iconst E dX10_has_23 (zkI (by decide) (by decide)) ?_
        refine r_goto E 28 (by decide) dX10_has_24 ?_
        exact r_zreturn E rfl hT (by decide) dX10_has_28
theorem k_fX10_has (l : Launch) (G : zG) (x0 : Int) (x1 : Int) (h0 : 0 ≤ x0) : zCt l G yX10_has cX10_has 2 (some .boolean) 0 [(12, x0), (0, x1)] (some 0) (fX10_has x0 x1) := zCt.of (by decide) (Nat.le_of_ble_eq_true rfl) (fun K E _ _ hN hT => w_fX10_has E hN hT x0 x1 h0)
theorem dX0_event_0 : decode cX0_event 0 = .ok (.aload_n 0, 1) := by decide +kernel
theorem dX0_event_1 : decode cX0_event 1 = .ok (.iload_n 1, 1) := by decide +kernel
theorem dX0_event_2 : decode cX0_event 2 = .ok (.invokevirtual 330, 3) := by decide +kernel
theorem dX0_event_5 : decode cX0_event 5 = .ok (.astore 4, 2) := by decide +kernel
theorem dX0_event_7 : decode cX0_event 7 = .ok (.aload 4, 2) := by decide +kernel
theorem dX0_event_9 : decode cX0_event 9 = .ok (.ifnull 15, 3) := by decide +kernel
theorem dX0_event_12 : decode cX0_event 12 = .ok (.aload 4, 2) := by decide +kernel
theorem dX0_event_14 : decode cX0_event 14 = .ok (.getfield 417, 3) := by decide +kernel
theorem dX0_event_17 : decode cX0_event 17 = .ok (.iload_n 2, 1) := by decide +kernel
theorem dX0_event_18 : decode cX0_event 18 = .ok (.invokevirtual 444, 3) := by decide +kernel
theorem dX0_event_21 : decode cX0_event 21 = .ok (.ifCond .ne 7, 3) := by decide +kernel
theorem dX0_event_24 : decode cX0_event 24 = .ok (.ldc2_w 234, 3) := by decide +kernel
theorem dX0_event_27 : decode cX0_event 27 = .ok (.lreturn, 1) := by decide +kernel
theorem dX0_event_28 : decode cX0_event 28 = .ok (.iload_n 3, 1) := by decide +kernel
theorem dX0_event_29 : decode cX0_event 29 = .ok (.i2l, 1) := by decide +kernel
theorem dX0_event_30 : decode cX0_event 30 = .ok (.lconst 0, 1) := by decide +kernel
theorem dX0_event_31 : decode cX0_event 31 = .ok (.ldc2_w 318, 3) := by decide +kernel
theorem dX0_event_34 : decode cX0_event 34 = .ok (.invokestatic 17, 3) := by decide +kernel
theorem dX0_event_37 : decode cX0_event 37 = .ok (.ifCond .eq 23, 3) := by decide +kernel
theorem dX0_event_40 : decode cX0_event 40 = .ok (.aload 4, 2) := by decide +kernel
theorem dX0_event_42 : decode cX0_event 42 = .ok (.getfield 417, 3) := by decide +kernel
theorem dX0_event_45 : decode cX0_event 45 = .ok (.getfield 445, 3) := by decide +kernel
theorem dX0_event_48 : decode cX0_event 48 = .ok (.iconst 4, 1) := by decide +kernel
theorem dX0_event_49 : decode cX0_event 49 = .ok (.iload_n 2, 1) := by decide +kernel
theorem dX0_event_50 : decode cX0_event 50 = .ok (.bipush 64, 2) := by decide +kernel
theorem dX0_event_52 : decode cX0_event 52 = .ok (.irem, 1) := by decide +kernel
theorem dX0_event_53 : decode cX0_event 53 = .ok (.imul, 1) := by decide +kernel
theorem dX0_event_54 : decode cX0_event 54 = .ok (.iload_n 3, 1) := by decide +kernel
theorem dX0_event_55 : decode cX0_event 55 = .ok (.iadd, 1) := by decide +kernel
theorem dX0_event_56 : decode cX0_event 56 = .ok (.laload, 1) := by decide +kernel
theorem dX0_event_57 : decode cX0_event 57 = .ok (.goto 6, 3) := by decide +kernel
theorem dX0_event_60 : decode cX0_event 60 = .ok (.ldc2_w 279, 3) := by decide +kernel
theorem dX0_event_63 : decode cX0_event 63 = .ok (.lreturn, 1) := by decide +kernel
theorem zy_X0_event : yX0_event.cls ≠ "java/lang/invoke/MethodHandle" ∧ yX0_event.cls ≠ "java/lang/invoke/VarHandle" ∧ (parseMethodDescriptor yX0_event.desc).map (fun d => d.parameters.length) = some 3 := by decide +kernel
theorem w_fX0_event {K : zK} (E : zE K cX0_event "RingHouse" (some .long) 2) (hN : zNl K = 5) (hT : zTr K = (some 1)) (x1 : Int) (x2 : Int) (x3 : Int) : zR K 0 [(0, 2, 0), (1, 0, x1), (2, 0, x2), (3, 0, x3)] [] (fX0_event x1 x2 x3) := by
  refine r_aload_n E dX0_event_0 rfl 0 rfl ?_
  refine r_iload_n E dX0_event_1 rfl 1 rfl ?_
  refine r_callV E [(0, x1)] [] rfl zc_2 zr_2 (fun o _ => ⟨_, zw_X0.1 o, rfl⟩) (lw_V q2159 q2161 qs10 q227 q2162) dX0_event_2 zy_X0_processAt rfl (by omega) (by decide) (Nat.le_of_ble_eq_true rfl) (by decide) (fun l G => k_fX0_processAt l G x1) (fun v1 => ?_)
  refine r_astore (ls' := [(4, 10, v1), (0, 2, 0), (1, 0, x1), (2, 0, x2), (3, 0, x3)]) E dX0_event_5 (by rw [hN]; decide) rfl ?_
  refine r_aload E dX0_event_7 0 rfl ?_
  refine r_ifnull E 24 (by decide) dX0_event_9 (fun _ => ?_) (fun hz2 => ?_)
  · refine r_ldc2 (v := (-1)) E dX0_event_24 q2064 (by decide) (zkJ (by decide) (by decide)) ?_
    exact r_lreturn E rfl hT dX0_event_27
  · refine r_aload E dX0_event_12 0 rfl ?_
    refine r_gecN (y := v1) E zc_10 dX0_event_14 q943 zr_10 (zh_925 (by omega)) (Int.not_lt.mp hz2) ?_
    refine r_iload_n E dX0_event_17 rfl 3 rfl ?_
    refine r_callV E [(0, x2)] [] rfl zc_12 zr_12 (fun o _ => ⟨_, zw_X10.1 o, rfl⟩) (lw_V q2768 q2769 q2770 q237 q2771) dX0_event_18 zy_X10_has rfl (by omega) (by decide) (Nat.le_of_ble_eq_true rfl) (Int.not_lt.mp hz2) (fun l G => k_fX10_has l G v1 x2 (Int.not_lt.mp hz2)) (fun v3 => ?_)
    refine r_if_ne E 28 (by decide) dX0_event_21 (fun _ => ?_) (fun _ => ?_)
    · refine r_iload_n E dX0_event_28 rfl 4 rfl ?_
      refine r_i2l E dX0_event_29 ?_
      refine r_lconst (v := 0) E dX0_event_30 (by decide) (zkJ (by decide) (by decide)) ?_
      refine r_ldc2 (v := 3) E dX0_event_31 q2121 (by decide) (zkJ (by decide) (by decide)) ?_
      refine r_callS E [(1, x3), (1, 0), (1, 3)] [] rfl q1853 q1835 q227 q1836 dX0_event_34 zy_X0_isIn rfl (by omega) (by decide) (Nat.le_of_ble_eq_true rfl) (fun l G => k_fX0_isIn l G x3 0 3) (fun v4 => ?_)
      refine r_if_eq E 60 (by decide) dX0_event_37 (fun _ => ?_) (fun _ => ?_)
      · refine r_ldc2 (v := (-8)) E dX0_event_60 q2066 (by decide) (zkJ (by decide) (by decide)) ?_
        exact r_lreturn E rfl hT dX0_event_63
      · refine r_aload E dX0_event_40 0 rfl ?_
        refine r_gecN (y := v1) E zc_10 dX0_event_42 q943 zr_10 (zh_925 (by omega)) (Int.not_lt.mp hz2) ?_
        refine r_gecN (y := v1) E zc_12 dX0_event_45 q824 zr_12 (zh_1100 (by omega)) (Int.not_lt.mp hz2) ?_
        refine r_iconst E dX0_event_48 (zkI (by decide) (by decide)) ?_
        refine r_iload_n E dX0_event_49 rfl 3 rfl ?_
        refine r_bipush E dX0_event_50 (by decide) (zkI (by decide) (by decide)) ?_
        refine r_irem E (by decide) dX0_event_52 ?_
        refine r_imul E dX0_event_53 ?_
        refine r_iload_n E dX0_event_54 rfl 4 rfl ?_
        refine r_iadd E dX0_event_55 ?_
        refine r_laload E zc_1100 za_1100 zt_1100 zx_1100 rfl rfl dX0_event_56 (Int.not_lt.mp hz2) (fun v5 => ?_)
        refine r_goto E 63 (by decide) dX0_event_57 ?_
        exact r_lreturn E rfl hT dX0_event_63
    · refine r_ldc2 (v := (-1)) E dX0_event_24 q2064 (by decide) (zkJ (by decide) (by decide)) ?_
      exact r_lreturn E rfl hT dX0_event_27
theorem k_fX0_event (l : Launch) (G : zG) (x1 : Int) (x2 : Int) (x3 : Int) : zCt l G yX0_event cX0_event 5 (some .long) 2 [(2, 0), (0, x1), (0, x2), (0, x3)] (some 1) (fX0_event x1 x2 x3) := zCt.of (by decide) (Nat.le_of_ble_eq_true rfl) (fun K E _ _ hN hT => w_fX0_event E hN hT x1 x2 x3)
theorem dX0_sum_0 : decode cX0_sum 0 = .ok (.aload_n 0, 1) := by decide +kernel
theorem dX0_sum_1 : decode cX0_sum 1 = .ok (.iload_n 1, 1) := by decide +kernel
theorem dX0_sum_2 : decode cX0_sum 2 = .ok (.invokevirtual 330, 3) := by decide +kernel
theorem dX0_sum_5 : decode cX0_sum 5 = .ok (.astore_n 2, 1) := by decide +kernel
theorem dX0_sum_6 : decode cX0_sum 6 = .ok (.aload_n 2, 1) := by decide +kernel
theorem dX0_sum_7 : decode cX0_sum 7 = .ok (.ifnonnull 7, 3) := by decide +kernel
theorem dX0_sum_10 : decode cX0_sum 10 = .ok (.lconst 0, 1) := by decide +kernel
theorem dX0_sum_11 : decode cX0_sum 11 = .ok (.goto 10, 3) := by decide +kernel
theorem dX0_sum_14 : decode cX0_sum 14 = .ok (.aload_n 2, 1) := by decide +kernel
theorem dX0_sum_15 : decode cX0_sum 15 = .ok (.getfield 417, 3) := by decide +kernel
theorem dX0_sum_18 : decode cX0_sum 18 = .ok (.getfield 447, 3) := by decide +kernel
theorem dX0_sum_21 : decode cX0_sum 21 = .ok (.lreturn, 1) := by decide +kernel
theorem zy_X0_sum : yX0_sum.cls ≠ "java/lang/invoke/MethodHandle" ∧ yX0_sum.cls ≠ "java/lang/invoke/VarHandle" ∧ (parseMethodDescriptor yX0_sum.desc).map (fun d => d.parameters.length) = some 1 := by decide +kernel
theorem w_fX0_sum {K : zK} (E : zE K cX0_sum "RingHouse" (some .long) 2) (hN : zNl K = 3) (hT : zTr K = (some 1)) (x1 : Int) : zR K 0 [(0, 2, 0), (1, 0, x1)] [] (fX0_sum x1) := by
  refine r_aload_n E dX0_sum_0 rfl 0 rfl ?_
  refine r_iload_n E dX0_sum_1 rfl 1 rfl ?_
  refine r_callV E [(0, x1)] [] rfl zc_2 zr_2 (fun o _ => ⟨_, zw_X0.1 o, rfl⟩) (lw_V q2159 q2161 qs10 q227 q2162) dX0_sum_2 zy_X0_processAt rfl (by omega) (by decide) (Nat.le_of_ble_eq_true rfl) (by decide) (fun l G => k_fX0_processAt l G x1) (fun v1 => ?_)
  refine r_astore_n (ls' := [(2, 10, v1), (0, 2, 0), (1, 0, x1)]) E dX0_sum_5 rfl (by rw [hN]; decide) rfl ?_
  refine r_aload_n E dX0_sum_6 rfl 0 rfl ?_
  refine r_ifnonnull E 14 (by decide) dX0_sum_7 (fun _ => ?_) (fun hz2 => ?_)
  · refine r_lconst (v := 0) E dX0_sum_10 (by decide) (zkJ (by decide) (by decide)) ?_
    refine r_goto E 21 (by decide) dX0_sum_11 ?_
    exact r_lreturn E rfl hT dX0_sum_21
  · refine r_aload_n E dX0_sum_14 rfl 0 rfl ?_
    refine r_gecN (y := v1) E zc_10 dX0_sum_15 q943 zr_10 (zh_925 (by omega)) (Int.not_lt.mp hz2) ?_
    refine r_getN E zc_12 zt_1102 dX0_sum_18 q828 zr_12 (zg_1102 _) (Int.not_lt.mp hz2) (fun v3 => ?_)
    exact r_lreturn E rfl hT dX0_sum_21
theorem k_fX0_sum (l : Launch) (G : zG) (x1 : Int) : zCt l G yX0_sum cX0_sum 3 (some .long) 2 [(2, 0), (0, x1)] (some 1) (fX0_sum x1) := zCt.of (by decide) (Nat.le_of_ble_eq_true rfl) (fun K E _ _ hN hT => w_fX0_sum E hN hT x1)
theorem dX0_type_0 : decode cX0_type 0 = .ok (.iload_n 3, 1) := by decide +kernel
theorem dX0_type_1 : decode cX0_type 1 = .ok (.i2l, 1) := by decide +kernel
theorem dX0_type_2 : decode cX0_type 2 = .ok (.lconst 1, 1) := by decide +kernel
theorem dX0_type_3 : decode cX0_type 3 = .ok (.ldc2_w 152, 3) := by decide +kernel
theorem dX0_type_6 : decode cX0_type 6 = .ok (.invokestatic 17, 3) := by decide +kernel
theorem dX0_type_9 : decode cX0_type 9 = .ok (.ifCond .ne 6, 3) := by decide +kernel
theorem dX0_type_12 : decode cX0_type 12 = .ok (.bipush (-8), 2) := by decide +kernel
theorem dX0_type_14 : decode cX0_type 14 = .ok (.ireturn, 1) := by decide +kernel
theorem dX0_type_15 : decode cX0_type 15 = .ok (.aload_n 0, 1) := by decide +kernel
theorem dX0_type_16 : decode cX0_type 16 = .ok (.getfield 89, 3) := by decide +kernel
theorem dX0_type_19 : decode cX0_type 19 = .ok (.getfield 450, 3) := by decide +kernel
theorem dX0_type_22 : decode cX0_type 22 = .ok (.iload_n 3, 1) := by decide +kernel
theorem dX0_type_23 : decode cX0_type 23 = .ok (.iadd, 1) := by decide +kernel
theorem dX0_type_24 : decode cX0_type 24 = .ok (.sipush 4096, 3) := by decide +kernel
theorem dX0_type_27 : decode cX0_type 27 = .ok (.if_icmp .le 6, 3) := by decide +kernel
theorem dX0_type_30 : decode cX0_type 30 = .ok (.bipush (-5), 2) := by decide +kernel
theorem dX0_type_32 : decode cX0_type 32 = .ok (.ireturn, 1) := by decide +kernel
theorem dX0_type_33 : decode cX0_type 33 = .ok (.iconst 0, 1) := by decide +kernel
theorem dX0_type_34 : decode cX0_type 34 = .ok (.istore 4, 2) := by decide +kernel
theorem dX0_type_36 : decode cX0_type 36 = .ok (.iload 4, 2) := by decide +kernel
theorem dX0_type_38 : decode cX0_type 38 = .ok (.iload_n 3, 1) := by decide +kernel
theorem dX0_type_39 : decode cX0_type 39 = .ok (.if_icmp .ge 49, 3) := by decide +kernel
theorem dX0_type_42 : decode cX0_type 42 = .ok (.aload_n 0, 1) := by decide +kernel
theorem dX0_type_43 : decode cX0_type 43 = .ok (.getfield 89, 3) := by decide +kernel
theorem dX0_type_46 : decode cX0_type 46 = .ok (.getfield 453, 3) := by decide +kernel
theorem dX0_type_49 : decode cX0_type 49 = .ok (.aload_n 0, 1) := by decide +kernel
theorem dX0_type_50 : decode cX0_type 50 = .ok (.getfield 89, 3) := by decide +kernel
theorem dX0_type_53 : decode cX0_type 53 = .ok (.getfield 450, 3) := by decide +kernel
theorem dX0_type_56 : decode cX0_type 56 = .ok (.lload_n 1, 1) := by decide +kernel
theorem dX0_type_57 : decode cX0_type 57 = .ok (.bipush 8, 2) := by decide +kernel
theorem dX0_type_59 : decode cX0_type 59 = .ok (.iload 4, 2) := by decide +kernel
theorem dX0_type_61 : decode cX0_type 61 = .ok (.imul, 1) := by decide +kernel
theorem dX0_type_62 : decode cX0_type 62 = .ok (.lshr, 1) := by decide +kernel
theorem dX0_type_63 : decode cX0_type 63 = .ok (.ldc2_w 31, 3) := by decide +kernel
theorem dX0_type_66 : decode cX0_type 66 = .ok (.land, 1) := by decide +kernel
theorem dX0_type_67 : decode cX0_type 67 = .ok (.l2i, 1) := by decide +kernel
theorem dX0_type_68 : decode cX0_type 68 = .ok (.iastore, 1) := by decide +kernel
theorem dX0_type_69 : decode cX0_type 69 = .ok (.aload_n 0, 1) := by decide +kernel
theorem dX0_type_70 : decode cX0_type 70 = .ok (.getfield 89, 3) := by decide +kernel
theorem dX0_type_73 : decode cX0_type 73 = .ok (.dup, 1) := by decide +kernel
theorem dX0_type_74 : decode cX0_type 74 = .ok (.getfield 450, 3) := by decide +kernel
theorem dX0_type_77 : decode cX0_type 77 = .ok (.iconst 1, 1) := by decide +kernel
theorem dX0_type_78 : decode cX0_type 78 = .ok (.iadd, 1) := by decide +kernel
theorem dX0_type_79 : decode cX0_type 79 = .ok (.putfield 450, 3) := by decide +kernel
theorem dX0_type_82 : decode cX0_type 82 = .ok (.iinc 4 1, 3) := by decide +kernel
theorem dX0_type_85 : decode cX0_type 85 = .ok (.goto (-49), 3) := by decide +kernel
theorem dX0_type_88 : decode cX0_type 88 = .ok (.aload_n 0, 1) := by decide +kernel
theorem dX0_type_89 : decode cX0_type 89 = .ok (.getfield 89, 3) := by decide +kernel
theorem dX0_type_92 : decode cX0_type 92 = .ok (.getfield 450, 3) := by decide +kernel
theorem dX0_type_95 : decode cX0_type 95 = .ok (.ireturn, 1) := by decide +kernel
theorem zy_X0_type : yX0_type.cls ≠ "java/lang/invoke/MethodHandle" ∧ yX0_type.cls ≠ "java/lang/invoke/VarHandle" ∧ (parseMethodDescriptor yX0_type.desc).map (fun d => d.parameters.length) = some 2 := by decide +kernel
theorem w_fX0_type_J88 {K : zK} (E : zE K cX0_type "RingHouse" (some .int) 1) (hN : zNl K = 5) (hT : zTr K = (some 0)) : zR K 88 [(0, 2, 0)] [] (fX0_type_J88) := by
  refine r_aload_n E dX0_type_88 rfl 0 rfl ?_
  refine r_gec (y := 0) E zc_2 dX0_type_89 q1793 zr_2 (zh_103 (by decide)) (by decide) ?_
  refine r_getN E zc_66 zt_6503 dX0_type_92 q1632 zr_66 (zg_6503 _) (by decide) (fun v3 => ?_)
  exact r_ireturn E rfl hT dX0_type_95
theorem w_fX0_type_B36 {K : zK} (E : zE K cX0_type "RingHouse" (some .int) 1) (hN : zNl K = 5) (hT : zTr K = (some 0)) (x1 : Int) (x3 : Int) : ∀ r36 : Int → zX, (∀ s : Int, zR K 36 [(0, 2, 0), (1, 1, x1), (3, 0, x3), (4, 0, s)] [] (r36 s)) → ∀ s : Int, zR K 36 [(0, 2, 0), (1, 1, x1), (3, 0, x3), (4, 0, s)] [] (fX0_type_B36 x1 x3 r36 s) := by
  intro r36 hr36 x4
  refine r_iload E dX0_type_36 3 rfl ?_
  refine r_iload_n E dX0_type_38 rfl 2 rfl ?_
  refine r_icmp_ge E 88 (by decide) dX0_type_39 (fun _ => ?_) (fun _ => ?_)
  · refine r_pick E [0] rfl ?_
    exact w_fX0_type_J88 E hN hT
  · refine r_aload_n E dX0_type_42 rfl 0 rfl ?_
    refine r_gec (y := 0) E zc_2 dX0_type_43 q1793 zr_2 (zh_103 (by decide)) (by decide) ?_
    refine r_gecN (y := 0) E zc_66 dX0_type_46 q1630 zr_66 (zh_6502 (by decide)) (by decide) ?_
    refine r_aload_n E dX0_type_49 rfl 0 rfl ?_
    refine r_gec (y := 0) E zc_2 dX0_type_50 q1793 zr_2 (zh_103 (by decide)) (by decide) ?_
    refine r_getN E zc_66 zt_6503 dX0_type_53 q1632 zr_66 (zg_6503 _) (by decide) (fun v4 => ?_)
    refine r_lload_n E dX0_type_56 rfl 1 rfl ?_
    refine r_bipush E dX0_type_57 (by decide) (zkI (by decide) (by decide)) ?_
    refine r_iload E dX0_type_59 3 rfl ?_
    refine r_imul E dX0_type_61 ?_
    refine r_lshr E rfl dX0_type_62 ?_
    refine r_ldc2 (v := 255) E dX0_type_63 q1860 (by decide) (zkJ (by decide) (by decide)) ?_
    refine r_lmask (P := 256) E 8 (by decide) (by decide) (by decide) dX0_type_66 ?_
    refine r_l2i E dX0_type_67 ?_
    refine r_iastore E zc_6502 za_6502 zt_6502 zo_6502 zx_6502 rfl rfl dX0_type_68 (by decide) ?_
    refine r_aload_n E dX0_type_69 rfl 0 rfl ?_
    refine r_gec (y := 0) E zc_2 dX0_type_70 q1793 zr_2 (zh_103 (by decide)) (by decide) ?_
    refine r_dup E (zn1 rfl) dX0_type_73 ?_
    refine r_getN E zc_66 zt_6503 dX0_type_74 q1632 zr_66 (zg_6503 _) (by decide) (fun v5 => ?_)
    refine r_iconst E dX0_type_77 (zkI (by decide) (by decide)) ?_
    refine r_iadd E dX0_type_78 ?_
    refine r_putN E zc_66 zt_6503 zo_6503 dX0_type_79 q1632 zr_66 zw_X64 zp_6503 (fun _ => rfl) (fun _ => rfl) (by decide) ?_
    refine r_iinc (ls' := fun v6 => [(4, 0, v6), (0, 2, 0), (1, 1, x1), (3, 0, x3)]) E 3 rfl (by rw [hN]; decide) (fun _ => rfl) dX0_type_82 (fun v6 _ => ?_)
    refine r_goto E 36 (by decide) dX0_type_85 ?_
    refine r_pick E [1, 2, 3, 0] rfl ?_
    exact hr36 v6
theorem w_fX0_type {K : zK} (E : zE K cX0_type "RingHouse" (some .int) 1) (hN : zNl K = 5) (hT : zTr K = (some 0)) (x1 : Int) (x3 : Int) : zR K 0 [(0, 2, 0), (1, 1, x1), (3, 0, x3)] [] (fX0_type x1 x3) := by
  refine r_iload_n E dX0_type_0 rfl 2 rfl ?_
  refine r_i2l E dX0_type_1 ?_
  refine r_lconst (v := 1) E dX0_type_2 (by decide) (zkJ (by decide) (by decide)) ?_
  refine r_ldc2 (v := 8) E dX0_type_3 q1977 (by decide) (zkJ (by decide) (by decide)) ?_
  refine r_callS E [(1, x3), (1, 1), (1, 8)] [] rfl q1853 q1835 q227 q1836 dX0_type_6 zy_X0_isIn rfl (by omega) (by decide) (Nat.le_of_ble_eq_true rfl) (fun l G => k_fX0_isIn l G x3 1 8) (fun v1 => ?_)
  refine r_if_ne E 15 (by decide) dX0_type_9 (fun _ => ?_) (fun _ => ?_)
  · refine r_aload_n E dX0_type_15 rfl 0 rfl ?_
    refine r_gec (y := 0) E zc_2 dX0_type_16 q1793 zr_2 (zh_103 (by decide)) (by decide) ?_
    refine r_getN E zc_66 zt_6503 dX0_type_19 q1632 zr_66 (zg_6503 _) (by decide) (fun v2 => ?_)
    refine r_iload_n E dX0_type_22 rfl 2 rfl ?_
    refine r_iadd E dX0_type_23 ?_
    refine r_sipush E dX0_type_24 (by decide) (zkI (by decide) (by decide)) ?_
    refine r_icmp_le E 33 (by decide) dX0_type_27 (fun _ => ?_) (fun _ => ?_)
    · refine r_iconst E dX0_type_33 (zkI (by decide) (by decide)) ?_
      refine r_istore (ls' := [(4, 0, 0), (0, 2, 0), (1, 1, x1), (3, 0, x3)]) E dX0_type_34 (by rw [hN]; decide) rfl ?_
      refine r_pick E [1, 2, 3, 0] rfl ?_
      exact r_loop (L := fun s => [(0, 2, 0), (1, 1, x1), (3, 0, x3), (4, 0, s)]) (w_fX0_type_B36 E hN hT x1 x3) zBIG 0
    · refine r_bipush E dX0_type_30 (by decide) (zkI (by decide) (by decide)) ?_
      exact r_ireturn E rfl hT dX0_type_32
  · refine r_bipush E dX0_type_12 (by decide) (zkI (by decide) (by decide)) ?_
    exact r_ireturn E rfl hT dX0_type_14
theorem k_fX0_type (l : Launch) (G : zG) (x1 : Int) (x3 : Int) : zCt l G yX0_type cX0_type 5 (some .int) 1 [(2, 0), (1, x1), (0, x3)] (some 0) (fX0_type x1 x3) := zCt.of (by decide) (Nat.le_of_ble_eq_true rfl) (fun K E _ _ hN hT => w_fX0_type E hN hT x1 x3)
theorem dX0_sign_0 : decode cX0_sign 0 = .ok (.iload_n 0, 1) := by decide +kernel
theorem dX0_sign_1 : decode cX0_sign 1 = .ok (.bipush 97, 2) := by decide +kernel
theorem dX0_sign_3 : decode cX0_sign 3 = .ok (.if_icmp .lt 18, 3) := by decide +kernel
theorem dX0_sign_6 : decode cX0_sign 6 = .ok (.iload_n 0, 1) := by decide +kernel
theorem dX0_sign_7 : decode cX0_sign 7 = .ok (.bipush 122, 2) := by decide +kernel
theorem dX0_sign_9 : decode cX0_sign 9 = .ok (.if_icmp .gt 12, 3) := by decide +kernel
theorem dX0_sign_12 : decode cX0_sign 12 = .ok (.iload_n 0, 1) := by decide +kernel
theorem dX0_sign_13 : decode cX0_sign 13 = .ok (.bipush 97, 2) := by decide +kernel
theorem dX0_sign_15 : decode cX0_sign 15 = .ok (.isub, 1) := by decide +kernel
theorem dX0_sign_16 : decode cX0_sign 16 = .ok (.iconst 1, 1) := by decide +kernel
theorem dX0_sign_17 : decode cX0_sign 17 = .ok (.iadd, 1) := by decide +kernel
theorem dX0_sign_18 : decode cX0_sign 18 = .ok (.goto 48, 3) := by decide +kernel
theorem dX0_sign_21 : decode cX0_sign 21 = .ok (.iload_n 0, 1) := by decide +kernel
theorem dX0_sign_22 : decode cX0_sign 22 = .ok (.bipush 48, 2) := by decide +kernel
theorem dX0_sign_24 : decode cX0_sign 24 = .ok (.if_icmp .lt 19, 3) := by decide +kernel
theorem dX0_sign_27 : decode cX0_sign 27 = .ok (.iload_n 0, 1) := by decide +kernel
theorem dX0_sign_28 : decode cX0_sign 28 = .ok (.bipush 57, 2) := by decide +kernel
theorem dX0_sign_30 : decode cX0_sign 30 = .ok (.if_icmp .gt 13, 3) := by decide +kernel
theorem dX0_sign_33 : decode cX0_sign 33 = .ok (.iload_n 0, 1) := by decide +kernel
theorem dX0_sign_34 : decode cX0_sign 34 = .ok (.bipush 48, 2) := by decide +kernel
theorem dX0_sign_36 : decode cX0_sign 36 = .ok (.isub, 1) := by decide +kernel
theorem dX0_sign_37 : decode cX0_sign 37 = .ok (.bipush 27, 2) := by decide +kernel
theorem dX0_sign_39 : decode cX0_sign 39 = .ok (.iadd, 1) := by decide +kernel
theorem dX0_sign_40 : decode cX0_sign 40 = .ok (.goto 26, 3) := by decide +kernel
theorem dX0_sign_43 : decode cX0_sign 43 = .ok (.iload_n 0, 1) := by decide +kernel
theorem dX0_sign_44 : decode cX0_sign 44 = .ok (.bipush 95, 2) := by decide +kernel
theorem dX0_sign_46 : decode cX0_sign 46 = .ok (.if_icmp .ne 8, 3) := by decide +kernel
theorem dX0_sign_49 : decode cX0_sign 49 = .ok (.bipush 37, 2) := by decide +kernel
theorem dX0_sign_51 : decode cX0_sign 51 = .ok (.goto 15, 3) := by decide +kernel
theorem dX0_sign_54 : decode cX0_sign 54 = .ok (.iload_n 0, 1) := by decide +kernel
theorem dX0_sign_55 : decode cX0_sign 55 = .ok (.bipush 46, 2) := by decide +kernel
theorem dX0_sign_57 : decode cX0_sign 57 = .ok (.if_icmp .ne 8, 3) := by decide +kernel
theorem dX0_sign_60 : decode cX0_sign 60 = .ok (.bipush 38, 2) := by decide +kernel
theorem dX0_sign_62 : decode cX0_sign 62 = .ok (.goto 4, 3) := by decide +kernel
theorem dX0_sign_65 : decode cX0_sign 65 = .ok (.iconst 0, 1) := by decide +kernel
theorem dX0_sign_66 : decode cX0_sign 66 = .ok (.ireturn, 1) := by decide +kernel
theorem zy_X0_sign : yX0_sign.cls ≠ "java/lang/invoke/MethodHandle" ∧ yX0_sign.cls ≠ "java/lang/invoke/VarHandle" ∧ (parseMethodDescriptor yX0_sign.desc).map (fun d => d.parameters.length) = some 1 := by decide +kernel
theorem w_fX0_sign_J43 {K : zK} (E : zE K cX0_sign "RingHouse" (some .int) 0) (hN : zNl K = 1) (hT : zTr K = (some 0)) (x0 : Int) : zR K 43 [(0, 0, x0)] [] (fX0_sign_J43 x0) := by
  refine r_iload_n E dX0_sign_43 rfl 0 rfl ?_
  refine r_bipush E dX0_sign_44 (by decide) (zkI (by decide) (by decide)) ?_
  refine r_icmp_ne E 54 (by decide) dX0_sign_46 (fun _ => ?_) (fun _ => ?_)
  · refine r_iload_n E dX0_sign_54 rfl 0 rfl ?_
    refine r_bipush E dX0_sign_55 (by decide) (zkI (by decide) (by decide)) ?_
    refine r_icmp_ne E 65 (by decide) dX0_sign_57 (fun _ => ?_) (fun _ => ?_)
    · refine r_iconst E dX0_sign_65 (zkI (by decide) (by decide)) ?_
      exact r_ireturn E rfl hT dX0_sign_66
    · refine r_bipush E dX0_sign_60 (by decide) (zkI (by decide) (by decide)) ?_
      refine r_goto E 66 (by decide) dX0_sign_62 ?_
      exact r_ireturn E rfl hT dX0_sign_66
  · refine r_bipush E dX0_sign_49 (by decide) (zkI (by decide) (by decide)) ?_
    refine r_goto E 66 (by decide) dX0_sign_51 ?_
    exact r_ireturn E rfl hT dX0_sign_66
theorem w_fX0_sign_J21 {K : zK} (E : zE K cX0_sign "RingHouse" (some .int) 0) (hN : zNl K = 1) (hT : zTr K = (some 0)) (x0 : Int) : zR K 21 [(0, 0, x0)] [] (fX0_sign_J21 x0) := by
  refine r_iload_n E dX0_sign_21 rfl 0 rfl ?_
  refine r_bipush E dX0_sign_22 (by decide) (zkI (by decide) (by decide)) ?_
  refine r_icmp_lt E 43 (by decide) dX0_sign_24 (fun _ => ?_) (fun _ => ?_)
  · exact w_fX0_sign_J43 E hN hT x0
  · refine r_iload_n E dX0_sign_27 rfl 0 rfl ?_
    refine r_bipush E dX0_sign_28 (by decide) (zkI (by decide) (by decide)) ?_
    refine r_icmp_gt E 43 (by decide) dX0_sign_30 (fun _ => ?_) (fun _ => ?_)
    · exact w_fX0_sign_J43 E hN hT x0
    · refine r_iload_n E dX0_sign_33 rfl 0 rfl ?_
      refine r_bipush E dX0_sign_34 (by decide) (zkI (by decide) (by decide)) ?_
      refine r_isub E dX0_sign_36 ?_
      refine r_bipush E dX0_sign_37 (by decide) (zkI (by decide) (by decide)) ?_
      refine r_iadd E dX0_sign_39 ?_
      refine r_goto E 66 (by decide) dX0_sign_40 ?_
      exact r_ireturn E rfl hT dX0_sign_66
theorem w_fX0_sign {K : zK} (E : zE K cX0_sign "RingHouse" (some .int) 0) (hN : zNl K = 1) (hT : zTr K = (some 0)) (x0 : Int) : zR K 0 [(0, 0, x0)] [] (fX0_sign x0) := by
  refine r_iload_n E dX0_sign_0 rfl 0 rfl ?_
  refine r_bipush E dX0_sign_1 (by decide) (zkI (by decide) (by decide)) ?_
  refine r_icmp_lt E 21 (by decide) dX0_sign_3 (fun _ => ?_) (fun _ => ?_)
  · exact w_fX0_sign_J21 E hN hT x0
  · refine r_iload_n E dX0_sign_6 rfl 0 rfl ?_
    refine r_bipush E dX0_sign_7 (by decide) (zkI (by decide) (by decide)) ?_
    refine r_icmp_gt E 21 (by decide) dX0_sign_9 (fun _ => ?_) (fun _ => ?_)
    · exact w_fX0_sign_J21 E hN hT x0
    · refine r_iload_n E dX0_sign_12 rfl 0 rfl ?_
      refine r_bipush E dX0_sign_13 (by decide) (zkI (by decide) (by decide)) ?_
      refine r_isub E dX0_sign_15 ?_
      refine r_iconst E dX0_sign_16 (zkI (by decide) (by decide)) ?_
      refine r_iadd E dX0_sign_17 ?_
      refine r_goto E 66 (by decide) dX0_sign_18 ?_
      exact r_ireturn E rfl hT dX0_sign_66
theorem k_fX0_sign (l : Launch) (G : zG) (x0 : Int) : zCt l G yX0_sign cX0_sign 1 (some .int) 0 [(0, x0)] (some 0) (fX0_sign x0) := zCt.of (by decide) (Nat.le_of_ble_eq_true rfl) (fun K E _ _ hN hT => w_fX0_sign E hN hT x0)
theorem dX64_next_0 : decode cX64_next 0 = .ok (.aload_n 0, 1) := by decide +kernel
theorem dX64_next_1 : decode cX64_next 1 = .ok (.aload_n 0, 1) := by decide +kernel
theorem dX64_next_2 : decode cX64_next 2 = .ok (.getfield 52, 3) := by decide +kernel
theorem dX64_next_5 : decode cX64_next 5 = .ok (.putfield 55, 3) := by decide +kernel
theorem dX64_next_8 : decode cX64_next 8 = .ok (.aload_n 0, 1) := by decide +kernel
theorem dX64_next_9 : decode cX64_next 9 = .ok (.getfield 55, 3) := by decide +kernel
theorem dX64_next_12 : decode cX64_next 12 = .ok (.aload_n 0, 1) := by decide +kernel
theorem dX64_next_13 : decode cX64_next 13 = .ok (.getfield 58, 3) := by decide +kernel
theorem dX64_next_16 : decode cX64_next 16 = .ok (.if_icmp .ge 30, 3) := by decide +kernel
theorem dX64_next_19 : decode cX64_next 19 = .ok (.aload_n 0, 1) := by decide +kernel
theorem dX64_next_20 : decode cX64_next 20 = .ok (.getfield 9, 3) := by decide +kernel
theorem dX64_next_23 : decode cX64_next 23 = .ok (.aload_n 0, 1) := by decide +kernel
theorem dX64_next_24 : decode cX64_next 24 = .ok (.getfield 55, 3) := by decide +kernel
theorem dX64_next_27 : decode cX64_next 27 = .ok (.iaload, 1) := by decide +kernel
theorem dX64_next_28 : decode cX64_next 28 = .ok (.bipush 32, 2) := by decide +kernel
theorem dX64_next_30 : decode cX64_next 30 = .ok (.if_icmp .ne 16, 3) := by decide +kernel
theorem dX64_next_33 : decode cX64_next 33 = .ok (.aload_n 0, 1) := by decide +kernel
theorem dX64_next_34 : decode cX64_next 34 = .ok (.dup, 1) := by decide +kernel
theorem dX64_next_35 : decode cX64_next 35 = .ok (.getfield 55, 3) := by decide +kernel
theorem dX64_next_38 : decode cX64_next 38 = .ok (.iconst 1, 1) := by decide +kernel
theorem dX64_next_39 : decode cX64_next 39 = .ok (.iadd, 1) := by decide +kernel
theorem dX64_next_40 : decode cX64_next 40 = .ok (.putfield 55, 3) := by decide +kernel
theorem dX64_next_43 : decode cX64_next 43 = .ok (.goto (-35), 3) := by decide +kernel
theorem dX64_next_46 : decode cX64_next 46 = .ok (.aload_n 0, 1) := by decide +kernel
theorem dX64_next_47 : decode cX64_next 47 = .ok (.aload_n 0, 1) := by decide +kernel
theorem dX64_next_48 : decode cX64_next 48 = .ok (.getfield 55, 3) := by decide +kernel
theorem dX64_next_51 : decode cX64_next 51 = .ok (.putfield 52, 3) := by decide +kernel
theorem dX64_next_54 : decode cX64_next 54 = .ok (.aload_n 0, 1) := by decide +kernel
theorem dX64_next_55 : decode cX64_next 55 = .ok (.getfield 55, 3) := by decide +kernel
theorem dX64_next_58 : decode cX64_next 58 = .ok (.aload_n 0, 1) := by decide +kernel
theorem dX64_next_59 : decode cX64_next 59 = .ok (.getfield 58, 3) := by decide +kernel
theorem dX64_next_62 : decode cX64_next 62 = .ok (.if_icmp .ne 9, 3) := by decide +kernel
theorem dX64_next_65 : decode cX64_next 65 = .ok (.aload_n 0, 1) := by decide +kernel
theorem dX64_next_66 : decode cX64_next 66 = .ok (.iconst 0, 1) := by decide +kernel
theorem dX64_next_67 : decode cX64_next 67 = .ok (.putfield 61, 3) := by decide +kernel
theorem dX64_next_70 : decode cX64_next 70 = .ok (.return_, 1) := by decide +kernel
theorem dX64_next_71 : decode cX64_next 71 = .ok (.aload_n 0, 1) := by decide +kernel
theorem dX64_next_72 : decode cX64_next 72 = .ok (.getfield 52, 3) := by decide +kernel
theorem dX64_next_75 : decode cX64_next 75 = .ok (.aload_n 0, 1) := by decide +kernel
theorem dX64_next_76 : decode cX64_next 76 = .ok (.getfield 58, 3) := by decide +kernel
theorem dX64_next_79 : decode cX64_next 79 = .ok (.if_icmp .ge 31, 3) := by decide +kernel
theorem dX64_next_82 : decode cX64_next 82 = .ok (.aload_n 0, 1) := by decide +kernel
theorem dX64_next_83 : decode cX64_next 83 = .ok (.getfield 9, 3) := by decide +kernel
theorem dX64_next_86 : decode cX64_next 86 = .ok (.aload_n 0, 1) := by decide +kernel
theorem dX64_next_87 : decode cX64_next 87 = .ok (.getfield 52, 3) := by decide +kernel
theorem dX64_next_90 : decode cX64_next 90 = .ok (.iaload, 1) := by decide +kernel
theorem dX64_next_91 : decode cX64_next 91 = .ok (.invokestatic 64, 3) := by decide +kernel
theorem dX64_next_94 : decode cX64_next 94 = .ok (.ifCond .le 16, 3) := by decide +kernel
theorem dX64_next_97 : decode cX64_next 97 = .ok (.aload_n 0, 1) := by decide +kernel
theorem dX64_next_98 : decode cX64_next 98 = .ok (.dup, 1) := by decide +kernel
theorem dX64_next_99 : decode cX64_next 99 = .ok (.getfield 52, 3) := by decide +kernel
theorem dX64_next_102 : decode cX64_next 102 = .ok (.iconst 1, 1) := by decide +kernel
theorem dX64_next_103 : decode cX64_next 103 = .ok (.iadd, 1) := by decide +kernel
theorem dX64_next_104 : decode cX64_next 104 = .ok (.putfield 52, 3) := by decide +kernel
theorem dX64_next_107 : decode cX64_next 107 = .ok (.goto (-36), 3) := by decide +kernel
theorem dX64_next_110 : decode cX64_next 110 = .ok (.aload_n 0, 1) := by decide +kernel
theorem dX64_next_111 : decode cX64_next 111 = .ok (.aload_n 0, 1) := by decide +kernel
theorem dX64_next_112 : decode cX64_next 112 = .ok (.getfield 52, 3) := by decide +kernel
theorem dX64_next_115 : decode cX64_next 115 = .ok (.aload_n 0, 1) := by decide +kernel
theorem dX64_next_116 : decode cX64_next 116 = .ok (.getfield 55, 3) := by decide +kernel
theorem dX64_next_119 : decode cX64_next 119 = .ok (.if_icmp .le 7, 3) := by decide +kernel
theorem dX64_next_122 : decode cX64_next 122 = .ok (.iconst 1, 1) := by decide +kernel
theorem dX64_next_123 : decode cX64_next 123 = .ok (.goto 4, 3) := by decide +kernel
theorem dX64_next_126 : decode cX64_next 126 = .ok (.iconst 2, 1) := by decide +kernel
theorem dX64_next_127 : decode cX64_next 127 = .ok (.putfield 61, 3) := by decide +kernel
theorem dX64_next_130 : decode cX64_next 130 = .ok (.aload_n 0, 1) := by decide +kernel
theorem dX64_next_131 : decode cX64_next 131 = .ok (.aload_n 0, 1) := by decide +kernel
theorem dX64_next_132 : decode cX64_next 132 = .ok (.getfield 52, 3) := by decide +kernel
theorem dX64_next_135 : decode cX64_next 135 = .ok (.aload_n 0, 1) := by decide +kernel
theorem dX64_next_136 : decode cX64_next 136 = .ok (.getfield 55, 3) := by decide +kernel
theorem dX64_next_139 : decode cX64_next 139 = .ok (.if_icmp .le 10, 3) := by decide +kernel
theorem dX64_next_142 : decode cX64_next 142 = .ok (.aload_n 0, 1) := by decide +kernel
theorem dX64_next_143 : decode cX64_next 143 = .ok (.getfield 52, 3) := by decide +kernel
theorem dX64_next_146 : decode cX64_next 146 = .ok (.goto 9, 3) := by decide +kernel
theorem dX64_next_149 : decode cX64_next 149 = .ok (.aload_n 0, 1) := by decide +kernel
theorem dX64_next_150 : decode cX64_next 150 = .ok (.getfield 55, 3) := by decide +kernel
theorem dX64_next_153 : decode cX64_next 153 = .ok (.iconst 1, 1) := by decide +kernel
theorem dX64_next_154 : decode cX64_next 154 = .ok (.iadd, 1) := by decide +kernel
theorem dX64_next_155 : decode cX64_next 155 = .ok (.putfield 52, 3) := by decide +kernel
theorem dX64_next_158 : decode cX64_next 158 = .ok (.return_, 1) := by decide +kernel
theorem zy_X64_next : yX64_next.cls ≠ "java/lang/invoke/MethodHandle" ∧ yX64_next.cls ≠ "java/lang/invoke/VarHandle" ∧ (parseMethodDescriptor yX64_next.desc).map (fun d => d.parameters.length) = some 0 := by decide +kernel
theorem w_fX64_next_J155 {K : zK} (E : zE K cX64_next "RingHouse$Assembler" none 1) (hN : zNl K = 1) (hT : zTr K = none) (s1 : Int) : zR K 155 [] [(0, s1), (66, 0)] (fX64_next_J155 s1) := by
  refine r_put E zc_66 zt_6506 zo_6506 dX64_next_155 q1635 zr_66 zw_X64 zp_6506 (fun _ => rfl) (fun _ => rfl) (by decide) ?_
  exact r_return E rfl hT dX64_next_158
theorem w_fX64_next_J127 {K : zK} (E : zE K cX64_next "RingHouse$Assembler" none 1) (hN : zNl K = 1) (hT : zTr K = none) (s1 : Int) : zR K 127 [(0, 66, 0)] [(0, s1), (66, 0)] (fX64_next_J127 s1) := by
  refine r_put E zc_66 zt_6504 zo_6504 dX64_next_127 q1633 zr_66 zw_X64 zp_6504 (fun _ => rfl) (fun _ => rfl) (by decide) ?_
  refine r_aload_n E dX64_next_130 rfl 0 rfl ?_
  refine r_aload_n E dX64_next_131 rfl 0 rfl ?_
  refine r_get E zc_66 zt_6506 dX64_next_132 q1635 zr_66 (zg_6506 _) (by decide) (fun v11 => ?_)
  refine r_aload_n E dX64_next_135 rfl 0 rfl ?_
  refine r_get E zc_66 zt_6505 dX64_next_136 q1634 zr_66 (zg_6505 _) (by decide) (fun v12 => ?_)
  refine r_icmp_le E 149 (by decide) dX64_next_139 (fun _ => ?_) (fun _ => ?_)
  · refine r_aload_n E dX64_next_149 rfl 0 rfl ?_
    refine r_get E zc_66 zt_6505 dX64_next_150 q1634 zr_66 (zg_6505 _) (by decide) (fun v13 => ?_)
    refine r_iconst E dX64_next_153 (zkI (by decide) (by decide)) ?_
    refine r_iadd E dX64_next_154 ?_
    refine r_pick E [] rfl ?_
    exact w_fX64_next_J155 E hN hT (zi (v13 + 1))
  · refine r_aload_n E dX64_next_142 rfl 0 rfl ?_
    refine r_get E zc_66 zt_6506 dX64_next_143 q1635 zr_66 (zg_6506 _) (by decide) (fun v14 => ?_)
    refine r_goto E 155 (by decide) dX64_next_146 ?_
    refine r_pick E [] rfl ?_
    exact w_fX64_next_J155 E hN hT v14
theorem w_fX64_next_J110 {K : zK} (E : zE K cX64_next "RingHouse$Assembler" none 1) (hN : zNl K = 1) (hT : zTr K = none) : zR K 110 [(0, 66, 0)] [] (fX64_next_J110) := by
  refine r_aload_n E dX64_next_110 rfl 0 rfl ?_
  refine r_aload_n E dX64_next_111 rfl 0 rfl ?_
  refine r_get E zc_66 zt_6506 dX64_next_112 q1635 zr_66 (zg_6506 _) (by decide) (fun v9 => ?_)
  refine r_aload_n E dX64_next_115 rfl 0 rfl ?_
  refine r_get E zc_66 zt_6505 dX64_next_116 q1634 zr_66 (zg_6505 _) (by decide) (fun v10 => ?_)
  refine r_icmp_le E 126 (by decide) dX64_next_119 (fun _ => ?_) (fun _ => ?_)
  · refine r_iconst E dX64_next_126 (zkI (by decide) (by decide)) ?_
    exact w_fX64_next_J127 E hN hT 2
  · refine r_iconst E dX64_next_122 (zkI (by decide) (by decide)) ?_
    refine r_goto E 127 (by decide) dX64_next_123 ?_
    exact w_fX64_next_J127 E hN hT 1
theorem w_fX64_next_B71 {K : zK} (E : zE K cX64_next "RingHouse$Assembler" none 1) (hN : zNl K = 1) (hT : zTr K = none) : ∀ r71 : Int → zX, (∀ s : Int, zR K 71 [(0, 66, 0)] [] (r71 s)) → ∀ s : Int, zR K 71 [(0, 66, 0)] [] (fX64_next_B71 r71 s) := by
  intro r71 hr71 s
  refine r_aload_n E dX64_next_71 rfl 0 rfl ?_
  refine r_get E zc_66 zt_6506 dX64_next_72 q1635 zr_66 (zg_6506 _) (by decide) (fun v7 => ?_)
  refine r_aload_n E dX64_next_75 rfl 0 rfl ?_
  refine r_get E zc_66 zt_6507 dX64_next_76 q1636 zr_66 (zg_6507 _) (by decide) (fun v8 => ?_)
  refine r_icmp_ge E 110 (by decide) dX64_next_79 (fun _ => ?_) (fun _ => ?_)
  · exact w_fX64_next_J110 E hN hT
  · refine r_aload_n E dX64_next_82 rfl 0 rfl ?_
    refine r_gec (y := 0) E zc_66 dX64_next_83 q1629 zr_66 (zh_6502 (by decide)) (by decide) ?_
    refine r_aload_n E dX64_next_86 rfl 0 rfl ?_
    refine r_get E zc_66 zt_6506 dX64_next_87 q1635 zr_66 (zg_6506 _) (by decide) (fun v15 => ?_)
    refine r_iaload E zc_6502 za_6502 zt_6502 zx_6502 rfl rfl dX64_next_90 (by decide) (fun v16 => ?_)
    refine r_callSN E [(0, v16)] [] rfl q2800 q2801 q227 q2802 dX64_next_91 zy_X0_sign rfl (by omega) (by decide) (Nat.le_of_ble_eq_true rfl) (fun l G => k_fX0_sign l G v16) (fun v17 => ?_)
    refine r_if_le E 110 (by decide) dX64_next_94 (fun _ => ?_) (fun _ => ?_)
    · exact w_fX64_next_J110 E hN hT
    · refine r_aload_n E dX64_next_97 rfl 0 rfl ?_
      refine r_dup E (zn1 rfl) dX64_next_98 ?_
      refine r_get E zc_66 zt_6506 dX64_next_99 q1635 zr_66 (zg_6506 _) (by decide) (fun v18 => ?_)
      refine r_iconst E dX64_next_102 (zkI (by decide) (by decide)) ?_
      refine r_iadd E dX64_next_103 ?_
      refine r_put E zc_66 zt_6506 zo_6506 dX64_next_104 q1635 zr_66 zw_X64 zp_6506 (fun _ => rfl) (fun _ => rfl) (by decide) ?_
      refine r_goto E 71 (by decide) dX64_next_107 ?_
      exact hr71 0
theorem w_fX64_next_J46 {K : zK} (E : zE K cX64_next "RingHouse$Assembler" none 1) (hN : zNl K = 1) (hT : zTr K = none) : zR K 46 [(0, 66, 0)] [] (fX64_next_J46) := by
  refine r_aload_n E dX64_next_46 rfl 0 rfl ?_
  refine r_aload_n E dX64_next_47 rfl 0 rfl ?_
  refine r_get E zc_66 zt_6505 dX64_next_48 q1634 zr_66 (zg_6505 _) (by decide) (fun v4 => ?_)
  refine r_put E zc_66 zt_6506 zo_6506 dX64_next_51 q1635 zr_66 zw_X64 zp_6506 (fun _ => rfl) (fun _ => rfl) (by decide) ?_
  refine r_aload_n E dX64_next_54 rfl 0 rfl ?_
  refine r_get E zc_66 zt_6505 dX64_next_55 q1634 zr_66 (zg_6505 _) (by decide) (fun v5 => ?_)
  refine r_aload_n E dX64_next_58 rfl 0 rfl ?_
  refine r_get E zc_66 zt_6507 dX64_next_59 q1636 zr_66 (zg_6507 _) (by decide) (fun v6 => ?_)
  refine r_icmp_ne E 71 (by decide) dX64_next_62 (fun _ => ?_) (fun _ => ?_)
  · exact r_loop (L := fun s => [(0, 66, 0)]) (w_fX64_next_B71 E hN hT) zBIG 0
  · refine r_aload_n E dX64_next_65 rfl 0 rfl ?_
    refine r_iconst E dX64_next_66 (zkI (by decide) (by decide)) ?_
    refine r_put E zc_66 zt_6504 zo_6504 dX64_next_67 q1633 zr_66 zw_X64 zp_6504 (fun _ => rfl) (fun _ => rfl) (by decide) ?_
    exact r_return E rfl hT dX64_next_70
theorem w_fX64_next_B8 {K : zK} (E : zE K cX64_next "RingHouse$Assembler" none 1) (hN : zNl K = 1) (hT : zTr K = none) : ∀ r8 : Int → zX, (∀ s : Int, zR K 8 [(0, 66, 0)] [] (r8 s)) → ∀ s : Int, zR K 8 [(0, 66, 0)] [] (fX64_next_B8 r8 s) := by
  intro r8 hr8 s
  refine r_aload_n E dX64_next_8 rfl 0 rfl ?_
  refine r_get E zc_66 zt_6505 dX64_next_9 q1634 zr_66 (zg_6505 _) (by decide) (fun v2 => ?_)
  refine r_aload_n E dX64_next_12 rfl 0 rfl ?_
  refine r_get E zc_66 zt_6507 dX64_next_13 q1636 zr_66 (zg_6507 _) (by decide) (fun v3 => ?_)
  refine r_icmp_ge E 46 (by decide) dX64_next_16 (fun _ => ?_) (fun _ => ?_)
  · exact w_fX64_next_J46 E hN hT
  · refine r_aload_n E dX64_next_19 rfl 0 rfl ?_
    refine r_gec (y := 0) E zc_66 dX64_next_20 q1629 zr_66 (zh_6502 (by decide)) (by decide) ?_
    refine r_aload_n E dX64_next_23 rfl 0 rfl ?_
    refine r_get E zc_66 zt_6505 dX64_next_24 q1634 zr_66 (zg_6505 _) (by decide) (fun v19 => ?_)
    refine r_iaload E zc_6502 za_6502 zt_6502 zx_6502 rfl rfl dX64_next_27 (by decide) (fun v20 => ?_)
    refine r_bipush E dX64_next_28 (by decide) (zkI (by decide) (by decide)) ?_
    refine r_icmp_ne E 46 (by decide) dX64_next_30 (fun _ => ?_) (fun _ => ?_)
    · exact w_fX64_next_J46 E hN hT
    · refine r_aload_n E dX64_next_33 rfl 0 rfl ?_
      refine r_dup E (zn1 rfl) dX64_next_34 ?_
      refine r_get E zc_66 zt_6505 dX64_next_35 q1634 zr_66 (zg_6505 _) (by decide) (fun v21 => ?_)
      refine r_iconst E dX64_next_38 (zkI (by decide) (by decide)) ?_
      refine r_iadd E dX64_next_39 ?_
      refine r_put E zc_66 zt_6505 zo_6505 dX64_next_40 q1634 zr_66 zw_X64 zp_6505 (fun _ => rfl) (fun _ => rfl) (by decide) ?_
      refine r_goto E 8 (by decide) dX64_next_43 ?_
      exact hr8 0
theorem w_fX64_next {K : zK} (E : zE K cX64_next "RingHouse$Assembler" none 1) (hN : zNl K = 1) (hT : zTr K = none) : zR K 0 [(0, 66, 0)] [] (fX64_next) := by
  refine r_aload_n E dX64_next_0 rfl 0 rfl ?_
  refine r_aload_n E dX64_next_1 rfl 0 rfl ?_
  refine r_get E zc_66 zt_6506 dX64_next_2 q1635 zr_66 (zg_6506 _) (by decide) (fun v1 => ?_)
  refine r_put E zc_66 zt_6505 zo_6505 dX64_next_5 q1634 zr_66 zw_X64 zp_6505 (fun _ => rfl) (fun _ => rfl) (by decide) ?_
  exact r_loop (L := fun s => [(0, 66, 0)]) (w_fX64_next_B8 E hN hT) zBIG 0
theorem k_fX64_next (l : Launch) (G : zG) : zCt l G yX64_next cX64_next 1 none 1 [(66, 0)] none (fX64_next) := zCt.of (by decide) (Nat.le_of_ble_eq_true rfl) (fun K E _ _ hN hT => w_fX64_next E hN hT)
theorem dX64_is_0 : decode cX64_is 0 = .ok (.aload_n 0, 1) := by decide +kernel
theorem dX64_is_1 : decode cX64_is 1 = .ok (.getfield 61, 3) := by decide +kernel
theorem dX64_is_4 : decode cX64_is 4 = .ok (.iconst 2, 1) := by decide +kernel
theorem dX64_is_5 : decode cX64_is 5 = .ok (.if_icmp .ne 20, 3) := by decide +kernel
theorem dX64_is_8 : decode cX64_is 8 = .ok (.aload_n 0, 1) := by decide +kernel
theorem dX64_is_9 : decode cX64_is 9 = .ok (.getfield 9, 3) := by decide +kernel
theorem dX64_is_12 : decode cX64_is 12 = .ok (.aload_n 0, 1) := by decide +kernel
theorem dX64_is_13 : decode cX64_is 13 = .ok (.getfield 55, 3) := by decide +kernel
theorem dX64_is_16 : decode cX64_is 16 = .ok (.iaload, 1) := by decide +kernel
theorem dX64_is_17 : decode cX64_is 17 = .ok (.iload_n 1, 1) := by decide +kernel
theorem dX64_is_18 : decode cX64_is 18 = .ok (.if_icmp .ne 7, 3) := by decide +kernel
theorem dX64_is_21 : decode cX64_is 21 = .ok (.iconst 1, 1) := by decide +kernel
theorem dX64_is_22 : decode cX64_is 22 = .ok (.goto 4, 3) := by decide +kernel
theorem dX64_is_25 : decode cX64_is 25 = .ok (.iconst 0, 1) := by decide +kernel
theorem dX64_is_26 : decode cX64_is 26 = .ok (.ireturn, 1) := by decide +kernel
theorem zy_X64_is : yX64_is.cls ≠ "java/lang/invoke/MethodHandle" ∧ yX64_is.cls ≠ "java/lang/invoke/VarHandle" ∧ (parseMethodDescriptor yX64_is.desc).map (fun d => d.parameters.length) = some 1 := by decide +kernel
theorem w_fX64_is {K : zK} (E : zE K cX64_is "RingHouse$Assembler" (some .boolean) 0) (hN : zNl K = 2) (hT : zTr K = (some 0)) (x1 : Int) : zR K 0 [(0, 66, 0), (1, 0, x1)] [] (fX64_is x1) := by
  refine r_aload_n E dX64_is_0 rfl 0 rfl ?_
  refine r_get E zc_66 zt_6504 dX64_is_1 q1633 zr_66 (zg_6504 _) (by decide) (fun v1 => ?_)
  refine r_iconst E dX64_is_4 (zkI (by decide) (by decide)) ?_
  refine r_icmp_ne E 25 (by decide) dX64_is_5 (fun _ => ?_) (fun _ => ?_)
  · refine r_iconst E dX64_is_25 (zkI (by decide) (by decide)) ?_
    exact r_zreturn E rfl hT (by decide) dX64_is_26
  · refine r_aload_n E dX64_is_8 rfl 0 rfl ?_
    refine r_gec (y := 0) E zc_66 dX64_is_9 q1629 zr_66 (zh_6502 (by decide)) (by decide) ?_
    refine r_aload_n E dX64_is_12 rfl 0 rfl ?_
    refine r_get E zc_66 zt_6505 dX64_is_13 q1634 zr_66 (zg_6505 _) (by decide) (fun v2 => ?_)
    refine r_iaload E zc_6502 za_6502 zt_6502 zx_6502 rfl rfl dX64_is_16 (by decide) (fun v3 => ?_)
    refine r_iload_n E dX64_is_17 rfl 1 rfl ?_
    refine r_icmp_ne E 25 (by decide) dX64_is_18 (fun _ => ?_) (fun _ => ?_)
    · refine r_iconst E dX64_is_25 (zkI (by decide) (by decide)) ?_
      exact r_zreturn E rfl hT (by decide) dX64_is_26
    · refine r_iconst E dX64_is_21 (zkI (by decide) (by decide)) ?_
      refine r_goto E 26 (by decide) dX64_is_22 ?_
      exact r_zreturn E rfl hT (by decide) dX64_is_26
theorem k_fX64_is (l : Launch) (G : zG) (x1 : Int) : zCt l G yX64_is cX64_is 2 (some .boolean) 0 [(66, 0), (0, x1)] (some 0) (fX64_is x1) := zCt.of (by decide) (Nat.le_of_ble_eq_true rfl) (fun K E _ _ hN hT => w_fX64_is E hN hT x1)
theorem dX64_isDirective_0 : decode cX64_isDirective 0 = .ok (.iload_n 2, 1) := by decide +kernel
theorem dX64_isDirective_1 : decode cX64_isDirective 1 = .ok (.iload_n 1, 1) := by decide +kernel
theorem dX64_isDirective_2 : decode cX64_isDirective 2 = .ok (.isub, 1) := by decide +kernel
theorem dX64_isDirective_3 : decode cX64_isDirective 3 = .ok (.aload_n 3, 1) := by decide +kernel
theorem dX64_isDirective_4 : decode cX64_isDirective 4 = .ok (.invokevirtual 143, 3) := by decide +kernel
theorem dX64_isDirective_7 : decode cX64_isDirective 7 = .ok (.if_icmp .ne 7, 3) := by decide +kernel
theorem dX64_isDirective_10 : decode cX64_isDirective 10 = .ok (.iconst 1, 1) := by decide +kernel
theorem dX64_isDirective_11 : decode cX64_isDirective 11 = .ok (.goto 4, 3) := by decide +kernel
theorem dX64_isDirective_14 : decode cX64_isDirective 14 = .ok (.iconst 0, 1) := by decide +kernel
theorem dX64_isDirective_15 : decode cX64_isDirective 15 = .ok (.istore 4, 2) := by decide +kernel
theorem dX64_isDirective_17 : decode cX64_isDirective 17 = .ok (.iconst 0, 1) := by decide +kernel
theorem dX64_isDirective_18 : decode cX64_isDirective 18 = .ok (.istore 5, 2) := by decide +kernel
theorem dX64_isDirective_20 : decode cX64_isDirective 20 = .ok (.iload 5, 2) := by decide +kernel
theorem dX64_isDirective_22 : decode cX64_isDirective 22 = .ok (.aload_n 3, 1) := by decide +kernel
theorem dX64_isDirective_23 : decode cX64_isDirective 23 = .ok (.invokevirtual 143, 3) := by decide +kernel
theorem dX64_isDirective_26 : decode cX64_isDirective 26 = .ok (.if_icmp .ge 39, 3) := by decide +kernel
theorem dX64_isDirective_29 : decode cX64_isDirective 29 = .ok (.iload 4, 2) := by decide +kernel
theorem dX64_isDirective_31 : decode cX64_isDirective 31 = .ok (.ifCond .eq 34, 3) := by decide +kernel
theorem dX64_isDirective_34 : decode cX64_isDirective 34 = .ok (.aload_n 0, 1) := by decide +kernel
theorem dX64_isDirective_35 : decode cX64_isDirective 35 = .ok (.getfield 9, 3) := by decide +kernel
theorem dX64_isDirective_38 : decode cX64_isDirective 38 = .ok (.iload_n 1, 1) := by decide +kernel
theorem dX64_isDirective_39 : decode cX64_isDirective 39 = .ok (.iload 5, 2) := by decide +kernel
theorem dX64_isDirective_41 : decode cX64_isDirective 41 = .ok (.iadd, 1) := by decide +kernel
theorem dX64_isDirective_42 : decode cX64_isDirective 42 = .ok (.iaload, 1) := by decide +kernel
theorem dX64_isDirective_43 : decode cX64_isDirective 43 = .ok (.aload_n 3, 1) := by decide +kernel
theorem dX64_isDirective_44 : decode cX64_isDirective 44 = .ok (.iload 5, 2) := by decide +kernel
theorem dX64_isDirective_46 : decode cX64_isDirective 46 = .ok (.invokevirtual 152, 3) := by decide +kernel
theorem dX64_isDirective_49 : decode cX64_isDirective 49 = .ok (.if_icmp .ne 7, 3) := by decide +kernel
theorem dX64_isDirective_52 : decode cX64_isDirective 52 = .ok (.iconst 1, 1) := by decide +kernel
theorem dX64_isDirective_53 : decode cX64_isDirective 53 = .ok (.goto 4, 3) := by decide +kernel
theorem dX64_isDirective_56 : decode cX64_isDirective 56 = .ok (.iconst 0, 1) := by decide +kernel
theorem dX64_isDirective_57 : decode cX64_isDirective 57 = .ok (.istore 4, 2) := by decide +kernel
theorem dX64_isDirective_59 : decode cX64_isDirective 59 = .ok (.iinc 5 1, 3) := by decide +kernel
theorem dX64_isDirective_62 : decode cX64_isDirective 62 = .ok (.goto (-42), 3) := by decide +kernel
theorem dX64_isDirective_65 : decode cX64_isDirective 65 = .ok (.iload 4, 2) := by decide +kernel
theorem dX64_isDirective_67 : decode cX64_isDirective 67 = .ok (.ireturn, 1) := by decide +kernel
theorem zy_X64_isDirective : yX64_isDirective.cls ≠ "java/lang/invoke/MethodHandle" ∧ yX64_isDirective.cls ≠ "java/lang/invoke/VarHandle" ∧ (parseMethodDescriptor yX64_isDirective.desc).map (fun d => d.parameters.length) = some 3 := by decide +kernel
theorem w_fX64_isDirective_J57 {K : zK} (E : zE K cX64_isDirective "RingHouse$Assembler" (some .boolean) 8) (hN : zNl K = 6) (hT : zTr K = (some 0)) (x1 : Int) (x3 : Int) (x5 : Int) (s0 : Int) {r20 : Int × Int → zX} (hr20 : ∀ s : Int × Int, zR K 20 [(0, 66, 0), (1, 0, x1), (3, 70, x3), (4, 0, s.1), (5, 0, s.2)] [] (r20 s)) : zR K 57 [(0, 66, 0), (1, 0, x1), (3, 70, x3), (5, 0, x5)] [(0, s0)] (fX64_isDirective_J57 r20 x1 x3 x5 s0) := by
  refine r_istore (ls' := [(4, 0, s0), (0, 66, 0), (1, 0, x1), (3, 70, x3), (5, 0, x5)]) E dX64_isDirective_57 (by rw [hN]; decide) rfl ?_
  refine r_iinc (ls' := fun v7 => [(5, 0, v7), (4, 0, s0), (0, 66, 0), (1, 0, x1), (3, 70, x3)]) E 4 rfl (by rw [hN]; decide) (fun _ => rfl) dX64_isDirective_59 (fun v7 _ => ?_)
  refine r_goto E 20 (by decide) dX64_isDirective_62 ?_
  refine r_pick E [2, 3, 4, 1, 0] rfl ?_
  exact hr20 (s0, v7)
theorem w_fX64_isDirective_B20 {K : zK} (E : zE K cX64_isDirective "RingHouse$Assembler" (some .boolean) 8) (hN : zNl K = 6) (hT : zTr K = (some 0)) (x1 : Int) (x3 : Int) : ∀ r20 : Int × Int → zX, (∀ s : Int × Int, zR K 20 [(0, 66, 0), (1, 0, x1), (3, 70, x3), (4, 0, s.1), (5, 0, s.2)] [] (r20 s)) → ∀ s : Int × Int, zR K 20 [(0, 66, 0), (1, 0, x1), (3, 70, x3), (4, 0, s.1), (5, 0, s.2)] [] (fX64_isDirective_B20 x1 x3 r20 s) := by
  intro r20 hr20 s
  obtain ⟨x4, x5⟩ := s
  unfold fX64_isDirective_B20
  refine r_iload E dX64_isDirective_20 4 rfl ?_
  refine r_aload_n E dX64_isDirective_22 rfl 2 rfl ?_
  refine r_nn E (fun hn4 => ?_)
  refine r_slen E q2831 dX64_isDirective_23 hn4 (Nat.le_of_ble_eq_true rfl) (by omega) ?_
  refine r_icmp_ge E 65 (by decide) dX64_isDirective_26 (fun _ => ?_) (fun _ => ?_)
  · refine r_iload E dX64_isDirective_65 3 rfl ?_
    exact r_zreturnb E rfl hT dX64_isDirective_67
  · refine r_iload E dX64_isDirective_29 3 rfl ?_
    refine r_if_eq E 65 (by decide) dX64_isDirective_31 (fun _ => ?_) (fun _ => ?_)
    · refine r_iload E dX64_isDirective_65 3 rfl ?_
      exact r_zreturnb E rfl hT dX64_isDirective_67
    · refine r_aload_n E dX64_isDirective_34 rfl 0 rfl ?_
      refine r_gec (y := 0) E zc_66 dX64_isDirective_35 q1629 zr_66 (zh_6502 (by decide)) (by decide) ?_
      refine r_iload_n E dX64_isDirective_38 rfl 1 rfl ?_
      refine r_iload E dX64_isDirective_39 4 rfl ?_
      refine r_iadd E dX64_isDirective_41 ?_
      refine r_iaload E zc_6502 za_6502 zt_6502 zx_6502 rfl rfl dX64_isDirective_42 (by decide) (fun v5 => ?_)
      refine r_aload_n E dX64_isDirective_43 rfl 2 rfl ?_
      refine r_iload E dX64_isDirective_44 4 rfl ?_
      refine r_scha E q2841 dX64_isDirective_46 hn4 (Nat.le_of_ble_eq_true rfl) (by omega) (fun v6 => ?_)
      refine r_icmp_ne E 56 (by decide) dX64_isDirective_49 (fun _ => ?_) (fun _ => ?_)
      · refine r_iconst E dX64_isDirective_56 (zkI (by decide) (by decide)) ?_
        refine r_pick E [0, 1, 2, 4] rfl ?_
        exact w_fX64_isDirective_J57 E hN hT x1 x3 x5 0 hr20
      · refine r_iconst E dX64_isDirective_52 (zkI (by decide) (by decide)) ?_
        refine r_goto E 57 (by decide) dX64_isDirective_53 ?_
        refine r_pick E [0, 1, 2, 4] rfl ?_
        exact w_fX64_isDirective_J57 E hN hT x1 x3 x5 1 hr20
theorem w_fX64_isDirective_J15 {K : zK} (E : zE K cX64_isDirective "RingHouse$Assembler" (some .boolean) 8) (hN : zNl K = 6) (hT : zTr K = (some 0)) (x1 : Int) (x3 : Int) (s0 : Int) : zR K 15 [(0, 66, 0), (1, 0, x1), (3, 70, x3)] [(0, s0)] (fX64_isDirective_J15 x1 x3 s0) := by
  refine r_istore (ls' := [(4, 0, s0), (0, 66, 0), (1, 0, x1), (3, 70, x3)]) E dX64_isDirective_15 (by rw [hN]; decide) rfl ?_
  refine r_iconst E dX64_isDirective_17 (zkI (by decide) (by decide)) ?_
  refine r_istore (ls' := [(5, 0, 0), (4, 0, s0), (0, 66, 0), (1, 0, x1), (3, 70, x3)]) E dX64_isDirective_18 (by rw [hN]; decide) rfl ?_
  refine r_pick E [2, 3, 4, 1, 0] rfl ?_
  exact r_loop (L := fun s => [(0, 66, 0), (1, 0, x1), (3, 70, x3), (4, 0, s.1), (5, 0, s.2)]) (w_fX64_isDirective_B20 E hN hT x1 x3) zBIG (s0, 0)
theorem w_fX64_isDirective {K : zK} (E : zE K cX64_isDirective "RingHouse$Assembler" (some .boolean) 8) (hN : zNl K = 6) (hT : zTr K = (some 0)) (x1 : Int) (x2 : Int) (x3 : Int) : zR K 0 [(0, 66, 0), (1, 0, x1), (2, 0, x2), (3, 70, x3)] [] (fX64_isDirective x1 x2 x3) := by
  refine r_iload_n E dX64_isDirective_0 rfl 2 rfl ?_
  refine r_iload_n E dX64_isDirective_1 rfl 1 rfl ?_
  refine r_isub E dX64_isDirective_2 ?_
  refine r_aload_n E dX64_isDirective_3 rfl 3 rfl ?_
  refine r_nn E (fun hn2 => ?_)
  refine r_slen E q2831 dX64_isDirective_4 hn2 (Nat.le_of_ble_eq_true rfl) (by omega) ?_
  refine r_icmp_ne E 14 (by decide) dX64_isDirective_7 (fun _ => ?_) (fun _ => ?_)
  · refine r_iconst E dX64_isDirective_14 (zkI (by decide) (by decide)) ?_
    refine r_pick E [0, 1, 3] rfl ?_
    exact w_fX64_isDirective_J15 E hN hT x1 x3 0
  · refine r_iconst E dX64_isDirective_10 (zkI (by decide) (by decide)) ?_
    refine r_goto E 15 (by decide) dX64_isDirective_11 ?_
    refine r_pick E [0, 1, 3] rfl ?_
    exact w_fX64_isDirective_J15 E hN hT x1 x3 1
theorem k_fX64_isDirective (l : Launch) (G : zG) (x1 : Int) (x2 : Int) (x3 : Int) : zCt l G yX64_isDirective cX64_isDirective 6 (some .boolean) 8 [(66, 0), (0, x1), (0, x2), (70, x3)] (some 0) (fX64_isDirective x1 x2 x3) := zCt.of (by decide) (Nat.le_of_ble_eq_true rfl) (fun K E _ _ hN hT => w_fX64_isDirective E hN hT x1 x2 x3)
theorem dX64_wrong_0 : decode cX64_wrong 0 = .ok (.aload_n 0, 1) := by decide +kernel
theorem dX64_wrong_1 : decode cX64_wrong 1 = .ok (.getfield 49, 3) := by decide +kernel
theorem dX64_wrong_4 : decode cX64_wrong 4 = .ok (.ifCond .ne 13, 3) := by decide +kernel
theorem dX64_wrong_7 : decode cX64_wrong 7 = .ok (.aload_n 0, 1) := by decide +kernel
theorem dX64_wrong_8 : decode cX64_wrong 8 = .ok (.iload_n 1, 1) := by decide +kernel
theorem dX64_wrong_9 : decode cX64_wrong 9 = .ok (.putfield 49, 3) := by decide +kernel
theorem dX64_wrong_12 : decode cX64_wrong 12 = .ok (.aload_n 0, 1) := by decide +kernel
theorem dX64_wrong_13 : decode cX64_wrong 13 = .ok (.iload_n 2, 1) := by decide +kernel
theorem dX64_wrong_14 : decode cX64_wrong 14 = .ok (.putfield 15, 3) := by decide +kernel
theorem dX64_wrong_17 : decode cX64_wrong 17 = .ok (.iconst 0, 1) := by decide +kernel
theorem dX64_wrong_18 : decode cX64_wrong 18 = .ok (.ireturn, 1) := by decide +kernel
theorem zy_X64_wrong : yX64_wrong.cls ≠ "java/lang/invoke/MethodHandle" ∧ yX64_wrong.cls ≠ "java/lang/invoke/VarHandle" ∧ (parseMethodDescriptor yX64_wrong.desc).map (fun d => d.parameters.length) = some 2 := by decide +kernel
theorem w_fX64_wrong {K : zK} (E : zE K cX64_wrong "RingHouse$Assembler" (some .boolean) 0) (hN : zNl K = 3) (hT : zTr K = (some 0)) (x1 : Int) (x2 : Int) : zR K 0 [(0, 66, 0), (1, 0, x1), (2, 0, x2)] [] (fX64_wrong x1 x2) := by
  refine r_aload_n E dX64_wrong_0 rfl 0 rfl ?_
  refine r_get E zc_66 zt_6508 dX64_wrong_1 q1637 zr_66 (zg_6508 _) (by decide) (fun v1 => ?_)
  refine r_if_ne E 17 (by decide) dX64_wrong_4 (fun _ => ?_) (fun _ => ?_)
  · refine r_iconst E dX64_wrong_17 (zkI (by decide) (by decide)) ?_
    exact r_zreturn E rfl hT (by decide) dX64_wrong_18
  · refine r_aload_n E dX64_wrong_7 rfl 0 rfl ?_
    refine r_iload_n E dX64_wrong_8 rfl 1 rfl ?_
    refine r_put E zc_66 zt_6508 zo_6508 dX64_wrong_9 q1637 zr_66 zw_X64 zp_6508 (fun _ => rfl) (fun _ => rfl) (by decide) ?_
    refine r_aload_n E dX64_wrong_12 rfl 0 rfl ?_
    refine r_iload_n E dX64_wrong_13 rfl 2 rfl ?_
    refine r_put E zc_66 zt_6509 zo_6509 dX64_wrong_14 q1638 zr_66 zw_X64 zp_6509 (fun _ => rfl) (fun _ => rfl) (by decide) ?_
    refine r_iconst E dX64_wrong_17 (zkI (by decide) (by decide)) ?_
    exact r_zreturn E rfl hT (by decide) dX64_wrong_18
theorem k_fX64_wrong (l : Launch) (G : zG) (x1 : Int) (x2 : Int) : zCt l G yX64_wrong cX64_wrong 3 (some .boolean) 0 [(66, 0), (0, x1), (0, x2)] (some 0) (fX64_wrong x1 x2) := zCt.of (by decide) (Nat.le_of_ble_eq_true rfl) (fun K E _ _ hN hT => w_fX64_wrong E hN hT x1 x2)
theorem dX64_isLabelWord_0 : decode cX64_isLabelWord 0 = .ok (.aload_n 0, 1) := by decide +kernel
theorem dX64_isLabelWord_1 : decode cX64_isLabelWord 1 = .ok (.getfield 9, 3) := by decide +kernel
theorem dX64_isLabelWord_4 : decode cX64_isLabelWord 4 = .ok (.aload_n 0, 1) := by decide +kernel
theorem dX64_isLabelWord_5 : decode cX64_isLabelWord 5 = .ok (.getfield 55, 3) := by decide +kernel
theorem dX64_isLabelWord_8 : decode cX64_isLabelWord 8 = .ok (.iaload, 1) := by decide +kernel
theorem dX64_isLabelWord_9 : decode cX64_isLabelWord 9 = .ok (.bipush 97, 2) := by decide +kernel
theorem dX64_isLabelWord_11 : decode cX64_isLabelWord 11 = .ok (.if_icmp .lt 35, 3) := by decide +kernel
theorem dX64_isLabelWord_14 : decode cX64_isLabelWord 14 = .ok (.aload_n 0, 1) := by decide +kernel
theorem dX64_isLabelWord_15 : decode cX64_isLabelWord 15 = .ok (.getfield 9, 3) := by decide +kernel
theorem dX64_isLabelWord_18 : decode cX64_isLabelWord 18 = .ok (.aload_n 0, 1) := by decide +kernel
theorem dX64_isLabelWord_19 : decode cX64_isLabelWord 19 = .ok (.getfield 55, 3) := by decide +kernel
theorem dX64_isLabelWord_22 : decode cX64_isLabelWord 22 = .ok (.iaload, 1) := by decide +kernel
theorem dX64_isLabelWord_23 : decode cX64_isLabelWord 23 = .ok (.bipush 122, 2) := by decide +kernel
theorem dX64_isLabelWord_25 : decode cX64_isLabelWord 25 = .ok (.if_icmp .gt 21, 3) := by decide +kernel
theorem dX64_isLabelWord_28 : decode cX64_isLabelWord 28 = .ok (.aload_n 0, 1) := by decide +kernel
theorem dX64_isLabelWord_29 : decode cX64_isLabelWord 29 = .ok (.getfield 52, 3) := by decide +kernel
theorem dX64_isLabelWord_32 : decode cX64_isLabelWord 32 = .ok (.aload_n 0, 1) := by decide +kernel
theorem dX64_isLabelWord_33 : decode cX64_isLabelWord 33 = .ok (.getfield 55, 3) := by decide +kernel
theorem dX64_isLabelWord_36 : decode cX64_isLabelWord 36 = .ok (.isub, 1) := by decide +kernel
theorem dX64_isLabelWord_37 : decode cX64_isLabelWord 37 = .ok (.bipush 6, 2) := by decide +kernel
theorem dX64_isLabelWord_39 : decode cX64_isLabelWord 39 = .ok (.if_icmp .gt 7, 3) := by decide +kernel
theorem dX64_isLabelWord_42 : decode cX64_isLabelWord 42 = .ok (.iconst 1, 1) := by decide +kernel
theorem dX64_isLabelWord_43 : decode cX64_isLabelWord 43 = .ok (.goto 4, 3) := by decide +kernel
theorem dX64_isLabelWord_46 : decode cX64_isLabelWord 46 = .ok (.iconst 0, 1) := by decide +kernel
theorem dX64_isLabelWord_47 : decode cX64_isLabelWord 47 = .ok (.ireturn, 1) := by decide +kernel
theorem zy_X64_isLabelWord : yX64_isLabelWord.cls ≠ "java/lang/invoke/MethodHandle" ∧ yX64_isLabelWord.cls ≠ "java/lang/invoke/VarHandle" ∧ (parseMethodDescriptor yX64_isLabelWord.desc).map (fun d => d.parameters.length) = some 0 := by decide +kernel
theorem w_fX64_isLabelWord {K : zK} (E : zE K cX64_isLabelWord "RingHouse$Assembler" (some .boolean) 0) (hN : zNl K = 1) (hT : zTr K = (some 0)) : zR K 0 [(0, 66, 0)] [] (fX64_isLabelWord) := by
  refine r_aload_n E dX64_isLabelWord_0 rfl 0 rfl ?_
  refine r_gec (y := 0) E zc_66 dX64_isLabelWord_1 q1629 zr_66 (zh_6502 (by decide)) (by decide) ?_
  refine r_aload_n E dX64_isLabelWord_4 rfl 0 rfl ?_
  refine r_get E zc_66 zt_6505 dX64_isLabelWord_5 q1634 zr_66 (zg_6505 _) (by decide) (fun v1 => ?_)
  refine r_iaload E zc_6502 za_6502 zt_6502 zx_6502 rfl rfl dX64_isLabelWord_8 (by decide) (fun v2 => ?_)
  refine r_bipush E dX64_isLabelWord_9 (by decide) (zkI (by decide) (by decide)) ?_
  refine r_icmp_lt E 46 (by decide) dX64_isLabelWord_11 (fun _ => ?_) (fun _ => ?_)
  · refine r_iconst E dX64_isLabelWord_46 (zkI (by decide) (by decide)) ?_
    exact r_zreturn E rfl hT (by decide) dX64_isLabelWord_47
  · refine r_aload_n E dX64_isLabelWord_14 rfl 0 rfl ?_
    refine r_gec (y := 0) E zc_66 dX64_isLabelWord_15 q1629 zr_66 (zh_6502 (by decide)) (by decide) ?_
    refine r_aload_n E dX64_isLabelWord_18 rfl 0 rfl ?_
    refine r_get E zc_66 zt_6505 dX64_isLabelWord_19 q1634 zr_66 (zg_6505 _) (by decide) (fun v3 => ?_)
    refine r_iaload E zc_6502 za_6502 zt_6502 zx_6502 rfl rfl dX64_isLabelWord_22 (by decide) (fun v4 => ?_)
    refine r_bipush E dX64_isLabelWord_23 (by decide) (zkI (by decide) (by decide)) ?_
    refine r_icmp_gt E 46 (by decide) dX64_isLabelWord_25 (fun _ => ?_) (fun _ => ?_)
    · refine r_iconst E dX64_isLabelWord_46 (zkI (by decide) (by decide)) ?_
      exact r_zreturn E rfl hT (by decide) dX64_isLabelWord_47
    · refine r_aload_n E dX64_isLabelWord_28 rfl 0 rfl ?_
      refine r_get E zc_66 zt_6506 dX64_isLabelWord_29 q1635 zr_66 (zg_6506 _) (by decide) (fun v5 => ?_)
      refine r_aload_n E dX64_isLabelWord_32 rfl 0 rfl ?_
      refine r_get E zc_66 zt_6505 dX64_isLabelWord_33 q1634 zr_66 (zg_6505 _) (by decide) (fun v6 => ?_)
      refine r_isub E dX64_isLabelWord_36 ?_
      refine r_bipush E dX64_isLabelWord_37 (by decide) (zkI (by decide) (by decide)) ?_
      refine r_icmp_gt E 46 (by decide) dX64_isLabelWord_39 (fun _ => ?_) (fun _ => ?_)
      · refine r_iconst E dX64_isLabelWord_46 (zkI (by decide) (by decide)) ?_
        exact r_zreturn E rfl hT (by decide) dX64_isLabelWord_47
      · refine r_iconst E dX64_isLabelWord_42 (zkI (by decide) (by decide)) ?_
        refine r_goto E 47 (by decide) dX64_isLabelWord_43 ?_
        exact r_zreturn E rfl hT (by decide) dX64_isLabelWord_47
theorem k_fX64_isLabelWord (l : Launch) (G : zG) : zCt l G yX64_isLabelWord cX64_isLabelWord 1 (some .boolean) 0 [(66, 0)] (some 0) (fX64_isLabelWord) := zCt.of (by decide) (Nat.le_of_ble_eq_true rfl) (fun K E _ _ hN hT => w_fX64_isLabelWord E hN hT)
theorem dX64_packed_0 : decode cX64_packed 0 = .ok (.lconst 0, 1) := by decide +kernel
theorem dX64_packed_1 : decode cX64_packed 1 = .ok (.lstore_n 3, 1) := by decide +kernel
theorem dX64_packed_2 : decode cX64_packed 2 = .ok (.iconst 0, 1) := by decide +kernel
theorem dX64_packed_3 : decode cX64_packed 3 = .ok (.istore 5, 2) := by decide +kernel
theorem dX64_packed_5 : decode cX64_packed 5 = .ok (.iload 5, 2) := by decide +kernel
theorem dX64_packed_7 : decode cX64_packed 7 = .ok (.bipush 6, 2) := by decide +kernel
theorem dX64_packed_9 : decode cX64_packed 9 = .ok (.if_icmp .ge 40, 3) := by decide +kernel
theorem dX64_packed_12 : decode cX64_packed 12 = .ok (.lload_n 3, 1) := by decide +kernel
theorem dX64_packed_13 : decode cX64_packed 13 = .ok (.bipush 6, 2) := by decide +kernel
theorem dX64_packed_15 : decode cX64_packed 15 = .ok (.lshl, 1) := by decide +kernel
theorem dX64_packed_16 : decode cX64_packed 16 = .ok (.iload_n 1, 1) := by decide +kernel
theorem dX64_packed_17 : decode cX64_packed 17 = .ok (.iload 5, 2) := by decide +kernel
theorem dX64_packed_19 : decode cX64_packed 19 = .ok (.iadd, 1) := by decide +kernel
theorem dX64_packed_20 : decode cX64_packed 20 = .ok (.iload_n 2, 1) := by decide +kernel
theorem dX64_packed_21 : decode cX64_packed 21 = .ok (.if_icmp .ge 18, 3) := by decide +kernel
theorem dX64_packed_24 : decode cX64_packed 24 = .ok (.aload_n 0, 1) := by decide +kernel
theorem dX64_packed_25 : decode cX64_packed 25 = .ok (.getfield 9, 3) := by decide +kernel
theorem dX64_packed_28 : decode cX64_packed 28 = .ok (.iload_n 1, 1) := by decide +kernel
theorem dX64_packed_29 : decode cX64_packed 29 = .ok (.iload 5, 2) := by decide +kernel
theorem dX64_packed_31 : decode cX64_packed 31 = .ok (.iadd, 1) := by decide +kernel
theorem dX64_packed_32 : decode cX64_packed 32 = .ok (.iaload, 1) := by decide +kernel
theorem dX64_packed_33 : decode cX64_packed 33 = .ok (.invokestatic 64, 3) := by decide +kernel
theorem dX64_packed_36 : decode cX64_packed 36 = .ok (.goto 4, 3) := by decide +kernel
theorem dX64_packed_39 : decode cX64_packed 39 = .ok (.iconst 0, 1) := by decide +kernel
theorem dX64_packed_40 : decode cX64_packed 40 = .ok (.i2l, 1) := by decide +kernel
theorem dX64_packed_41 : decode cX64_packed 41 = .ok (.lor, 1) := by decide +kernel
theorem dX64_packed_42 : decode cX64_packed 42 = .ok (.lstore_n 3, 1) := by decide +kernel
theorem dX64_packed_43 : decode cX64_packed 43 = .ok (.iinc 5 1, 3) := by decide +kernel
theorem dX64_packed_46 : decode cX64_packed 46 = .ok (.goto (-41), 3) := by decide +kernel
theorem dX64_packed_49 : decode cX64_packed 49 = .ok (.lload_n 3, 1) := by decide +kernel
theorem dX64_packed_50 : decode cX64_packed 50 = .ok (.lreturn, 1) := by decide +kernel
theorem zy_X64_packed : yX64_packed.cls ≠ "java/lang/invoke/MethodHandle" ∧ yX64_packed.cls ≠ "java/lang/invoke/VarHandle" ∧ (parseMethodDescriptor yX64_packed.desc).map (fun d => d.parameters.length) = some 2 := by decide +kernel
theorem w_fX64_packed_J40 {K : zK} (E : zE K cX64_packed "RingHouse$Assembler" (some .long) 1) (hN : zNl K = 6) (hT : zTr K = (some 1)) (x1 : Int) (x2 : Int) (x5 : Int) (s0 : Int) (s1 : Int) {r5 : Int × Int → zX} (hr5 : ∀ s : Int × Int, zR K 5 [(0, 66, 0), (1, 0, x1), (2, 0, x2), (3, 1, s.1), (5, 0, s.2)] [] (r5 s)) : zR K 40 [(0, 66, 0), (1, 0, x1), (2, 0, x2), (5, 0, x5)] [(0, s1), (1, s0)] (fX64_packed_J40 r5 x1 x2 x5 s0 s1) := by
  refine r_i2l E dX64_packed_40 ?_
  refine r_lor E dX64_packed_41 ?_
  refine r_let E (fun v1 ev1 => ?_)
  refine r_lstore_n (ls' := [(3, 1, v1), (0, 66, 0), (1, 0, x1), (2, 0, x2), (5, 0, x5)]) E dX64_packed_42 rfl (by rw [hN]; decide) rfl ?_
  refine r_iinc (ls' := fun v2 => [(5, 0, v2), (3, 1, v1), (0, 66, 0), (1, 0, x1), (2, 0, x2)]) E 4 rfl (by rw [hN]; decide) (fun _ => rfl) dX64_packed_43 (fun v2 _ => ?_)
  refine r_goto E 5 (by decide) dX64_packed_46 ?_
  refine r_pick E [2, 3, 4, 1, 0] rfl ?_
  exact hr5 (v1, v2)
theorem w_fX64_packed_B5 {K : zK} (E : zE K cX64_packed "RingHouse$Assembler" (some .long) 1) (hN : zNl K = 6) (hT : zTr K = (some 1)) (x1 : Int) (x2 : Int) : ∀ r5 : Int × Int → zX, (∀ s : Int × Int, zR K 5 [(0, 66, 0), (1, 0, x1), (2, 0, x2), (3, 1, s.1), (5, 0, s.2)] [] (r5 s)) → ∀ s : Int × Int, zR K 5 [(0, 66, 0), (1, 0, x1), (2, 0, x2), (3, 1, s.1), (5, 0, s.2)] [] (fX64_packed_B5 x1 x2 r5 s) := by
  intro r5 hr5 s
  obtain ⟨x3, x5⟩ := s
  refine r_iload E dX64_packed_5 4 rfl ?_
  refine r_bipush E dX64_packed_7 (by decide) (zkI (by decide) (by decide)) ?_
  refine r_icmp_ge E 49 (by decide) dX64_packed_9 (fun _ => ?_) (fun _ => ?_)
  · refine r_lload_n E dX64_packed_49 rfl 3 rfl ?_
    exact r_lreturn E rfl hT dX64_packed_50
  · refine r_lload_n E dX64_packed_12 rfl 3 rfl ?_
    refine r_bipush E dX64_packed_13 (by decide) (zkI (by decide) (by decide)) ?_
    refine r_lshl (P := 64) E (by decide) dX64_packed_15 ?_
    refine r_iload_n E dX64_packed_16 rfl 1 rfl ?_
    refine r_iload E dX64_packed_17 4 rfl ?_
    refine r_iadd E dX64_packed_19 ?_
    refine r_iload_n E dX64_packed_20 rfl 2 rfl ?_
    refine r_icmp_ge E 39 (by decide) dX64_packed_21 (fun _ => ?_) (fun _ => ?_)
    · refine r_iconst E dX64_packed_39 (zkI (by decide) (by decide)) ?_
      refine r_pick E [0, 1, 2, 4] rfl ?_
      exact w_fX64_packed_J40 E hN hT x1 x2 x5 (zl (x3 * 64)) 0 hr5
    · refine r_aload_n E dX64_packed_24 rfl 0 rfl ?_
      refine r_gec (y := 0) E zc_66 dX64_packed_25 q1629 zr_66 (zh_6502 (by decide)) (by decide) ?_
      refine r_iload_n E dX64_packed_28 rfl 1 rfl ?_
      refine r_iload E dX64_packed_29 4 rfl ?_
      refine r_iadd E dX64_packed_31 ?_
      refine r_iaload E zc_6502 za_6502 zt_6502 zx_6502 rfl rfl dX64_packed_32 (by decide) (fun v3 => ?_)
      refine r_callSN E [(0, v3)] [(1, (zl (x3 * 64)))] rfl q2800 q2801 q227 q2802 dX64_packed_33 zy_X0_sign rfl (by omega) (by decide) (Nat.le_of_ble_eq_true rfl) (fun l G => k_fX0_sign l G v3) (fun v4 => ?_)
      refine r_goto E 40 (by decide) dX64_packed_36 ?_
      refine r_pick E [0, 1, 2, 4] rfl ?_
      exact w_fX64_packed_J40 E hN hT x1 x2 x5 (zl (x3 * 64)) v4 hr5
theorem w_fX64_packed {K : zK} (E : zE K cX64_packed "RingHouse$Assembler" (some .long) 1) (hN : zNl K = 6) (hT : zTr K = (some 1)) (x1 : Int) (x2 : Int) : zR K 0 [(0, 66, 0), (1, 0, x1), (2, 0, x2)] [] (fX64_packed x1 x2) := by
  refine r_lconst (v := 0) E dX64_packed_0 (by decide) (zkJ (by decide) (by decide)) ?_
  refine r_lstore_n (ls' := [(3, 1, 0), (0, 66, 0), (1, 0, x1), (2, 0, x2)]) E dX64_packed_1 rfl (by rw [hN]; decide) rfl ?_
  refine r_iconst E dX64_packed_2 (zkI (by decide) (by decide)) ?_
  refine r_istore (ls' := [(5, 0, 0), (3, 1, 0), (0, 66, 0), (1, 0, x1), (2, 0, x2)]) E dX64_packed_3 (by rw [hN]; decide) rfl ?_
  refine r_pick E [2, 3, 4, 1, 0] rfl ?_
  exact r_loop (L := fun s => [(0, 66, 0), (1, 0, x1), (2, 0, x2), (3, 1, s.1), (5, 0, s.2)]) (w_fX64_packed_B5 E hN hT x1 x2) zBIG (0, 0)
theorem k_fX64_packed (l : Launch) (G : zG) (x1 : Int) (x2 : Int) : zCt l G yX64_packed cX64_packed 6 (some .long) 1 [(66, 0), (0, x1), (0, x2)] (some 1) (fX64_packed x1 x2) := zCt.of (by decide) (Nat.le_of_ble_eq_true rfl) (fun K E _ _ hN hT => w_fX64_packed E hN hT x1 x2)
theorem dX64_name_0 : decode cX64_name 0 = .ok (.aload_n 0, 1) := by decide +kernel
theorem dX64_name_1 : decode cX64_name 1 = .ok (.getfield 61, 3) := by decide +kernel
theorem dX64_name_4 : decode cX64_name 4 = .ok (.iconst 1, 1) := by decide +kernel
theorem dX64_name_5 : decode cX64_name 5 = .ok (.if_icmp .eq 15, 3) := by decide +kernel
theorem dX64_name_8 : decode cX64_name 8 = .ok (.aload_n 0, 1) := by decide +kernel
theorem dX64_name_9 : decode cX64_name 9 = .ok (.iconst 1, 1) := by decide +kernel
theorem dX64_name_10 : decode cX64_name 10 = .ok (.aload_n 0, 1) := by decide +kernel
theorem dX64_name_11 : decode cX64_name 11 = .ok (.getfield 55, 3) := by decide +kernel
theorem dX64_name_14 : decode cX64_name 14 = .ok (.invokevirtual 68, 3) := by decide +kernel
theorem dX64_name_17 : decode cX64_name 17 = .ok (.pop, 1) := by decide +kernel
theorem dX64_name_18 : decode cX64_name 18 = .ok (.lconst 0, 1) := by decide +kernel
theorem dX64_name_19 : decode cX64_name 19 = .ok (.lreturn, 1) := by decide +kernel
theorem dX64_name_20 : decode cX64_name 20 = .ok (.aload_n 0, 1) := by decide +kernel
theorem dX64_name_21 : decode cX64_name 21 = .ok (.invokevirtual 82, 3) := by decide +kernel
theorem dX64_name_24 : decode cX64_name 24 = .ok (.ifCond .ne 15, 3) := by decide +kernel
theorem dX64_name_27 : decode cX64_name 27 = .ok (.aload_n 0, 1) := by decide +kernel
theorem dX64_name_28 : decode cX64_name 28 = .ok (.iconst 2, 1) := by decide +kernel
theorem dX64_name_29 : decode cX64_name 29 = .ok (.aload_n 0, 1) := by decide +kernel
theorem dX64_name_30 : decode cX64_name 30 = .ok (.getfield 55, 3) := by decide +kernel
theorem dX64_name_33 : decode cX64_name 33 = .ok (.invokevirtual 68, 3) := by decide +kernel
theorem dX64_name_36 : decode cX64_name 36 = .ok (.pop, 1) := by decide +kernel
theorem dX64_name_37 : decode cX64_name 37 = .ok (.lconst 0, 1) := by decide +kernel
theorem dX64_name_38 : decode cX64_name 38 = .ok (.lreturn, 1) := by decide +kernel
theorem dX64_name_39 : decode cX64_name 39 = .ok (.aload_n 0, 1) := by decide +kernel
theorem dX64_name_40 : decode cX64_name 40 = .ok (.aload_n 0, 1) := by decide +kernel
theorem dX64_name_41 : decode cX64_name 41 = .ok (.getfield 55, 3) := by decide +kernel
theorem dX64_name_44 : decode cX64_name 44 = .ok (.aload_n 0, 1) := by decide +kernel
theorem dX64_name_45 : decode cX64_name 45 = .ok (.getfield 52, 3) := by decide +kernel
theorem dX64_name_48 : decode cX64_name 48 = .ok (.invokevirtual 86, 3) := by decide +kernel
theorem dX64_name_51 : decode cX64_name 51 = .ok (.lstore_n 1, 1) := by decide +kernel
theorem dX64_name_52 : decode cX64_name 52 = .ok (.aload_n 0, 1) := by decide +kernel
theorem dX64_name_53 : decode cX64_name 53 = .ok (.invokevirtual 76, 3) := by decide +kernel
theorem dX64_name_56 : decode cX64_name 56 = .ok (.lload_n 1, 1) := by decide +kernel
theorem dX64_name_57 : decode cX64_name 57 = .ok (.lreturn, 1) := by decide +kernel
theorem zy_X64_name : yX64_name.cls ≠ "java/lang/invoke/MethodHandle" ∧ yX64_name.cls ≠ "java/lang/invoke/VarHandle" ∧ (parseMethodDescriptor yX64_name.desc).map (fun d => d.parameters.length) = some 0 := by decide +kernel
theorem w_fX64_name {K : zK} (E : zE K cX64_name "RingHouse$Assembler" (some .long) 2) (hN : zNl K = 3) (hT : zTr K = (some 1)) : zR K 0 [(0, 66, 0)] [] (fX64_name) := by
  refine r_aload_n E dX64_name_0 rfl 0 rfl ?_
  refine r_get E zc_66 zt_6504 dX64_name_1 q1633 zr_66 (zg_6504 _) (by decide) (fun v1 => ?_)
  refine r_iconst E dX64_name_4 (zkI (by decide) (by decide)) ?_
  refine r_icmp_eq E 20 (by decide) dX64_name_5 (fun _ => ?_) (fun _ => ?_)
  · refine r_aload_n E dX64_name_20 rfl 0 rfl ?_
    refine r_callV E [] [] rfl zc_66 zr_66 (fun o _ => ⟨_, zw_X64.1 o, rfl⟩) (lw_V q2933 q2935 qs57 q291 q2936) dX64_name_21 zy_X64_isLabelWord rfl (by omega) (by decide) (Nat.le_of_ble_eq_true rfl) (by decide) (fun l G => k_fX64_isLabelWord l G) (fun v2 => ?_)
    refine r_if_ne E 39 (by decide) dX64_name_24 (fun _ => ?_) (fun _ => ?_)
    · refine r_aload_n E dX64_name_39 rfl 0 rfl ?_
      refine r_aload_n E dX64_name_40 rfl 0 rfl ?_
      refine r_get E zc_66 zt_6505 dX64_name_41 q1634 zr_66 (zg_6505 _) (by decide) (fun v3 => ?_)
      refine r_aload_n E dX64_name_44 rfl 0 rfl ?_
      refine r_get E zc_66 zt_6506 dX64_name_45 q1635 zr_66 (zg_6506 _) (by decide) (fun v4 => ?_)
      refine r_callV E [(0, v3), (0, v4)] [] rfl zc_66 zr_66 (fun o _ => ⟨_, zw_X64.1 o, rfl⟩) (lw_V q2815 q2817 qs41 q291 q2818) dX64_name_48 zy_X64_packed rfl (by omega) (by decide) (Nat.le_of_ble_eq_true rfl) (by decide) (fun l G => k_fX64_packed l G v3 v4) (fun v5 => ?_)
      refine r_lstore_n (ls' := [(1, 1, v5), (0, 66, 0)]) E dX64_name_51 rfl (by rw [hN]; decide) rfl ?_
      refine r_aload_n E dX64_name_52 rfl 1 rfl ?_
      refine r_callV E [] [] rfl zc_66 zr_66 (fun o _ => ⟨_, zw_X64.1 o, rfl⟩) (lw_V q2796 q2798 qs37 q291 q2799) dX64_name_53 zy_X64_next rfl (by omega) (by decide) (Nat.le_of_ble_eq_true rfl) (by decide) (fun l G => k_fX64_next l G) (fun _ => ?_)
      refine r_lload_n E dX64_name_56 rfl 0 rfl ?_
      exact r_lreturn E rfl hT dX64_name_57
    · refine r_aload_n E dX64_name_27 rfl 0 rfl ?_
      refine r_iconst E dX64_name_28 (zkI (by decide) (by decide)) ?_
      refine r_aload_n E dX64_name_29 rfl 0 rfl ?_
      refine r_get E zc_66 zt_6505 dX64_name_30 q1634 zr_66 (zg_6505 _) (by decide) (fun v7 => ?_)
      refine r_callV E [(0, 2), (0, v7)] [] rfl zc_66 zr_66 (fun o _ => ⟨_, zw_X64.1 o, rfl⟩) (lw_V q2803 q2805 qs38 q291 q2806) dX64_name_33 zy_X64_wrong rfl (by omega) (by decide) (Nat.le_of_ble_eq_true rfl) (by decide) (fun l G => k_fX64_wrong l G 2 v7) (fun v8 => ?_)
      refine r_pop E (zn1 rfl) dX64_name_36 ?_
      refine r_lconst (v := 0) E dX64_name_37 (by decide) (zkJ (by decide) (by decide)) ?_
      exact r_lreturn E rfl hT dX64_name_38
  · refine r_aload_n E dX64_name_8 rfl 0 rfl ?_
    refine r_iconst E dX64_name_9 (zkI (by decide) (by decide)) ?_
    refine r_aload_n E dX64_name_10 rfl 0 rfl ?_
    refine r_get E zc_66 zt_6505 dX64_name_11 q1634 zr_66 (zg_6505 _) (by decide) (fun v9 => ?_)
    refine r_callV E [(0, 1), (0, v9)] [] rfl zc_66 zr_66 (fun o _ => ⟨_, zw_X64.1 o, rfl⟩) (lw_V q2803 q2805 qs38 q291 q2806) dX64_name_14 zy_X64_wrong rfl (by omega) (by decide) (Nat.le_of_ble_eq_true rfl) (by decide) (fun l G => k_fX64_wrong l G 1 v9) (fun v10 => ?_)
    refine r_pop E (zn1 rfl) dX64_name_17 ?_
    refine r_lconst (v := 0) E dX64_name_18 (by decide) (zkJ (by decide) (by decide)) ?_
    exact r_lreturn E rfl hT dX64_name_19
theorem k_fX64_name (l : Launch) (G : zG) : zCt l G yX64_name cX64_name 3 (some .long) 2 [(66, 0)] (some 1) (fX64_name) := zCt.of (by decide) (Nat.le_of_ble_eq_true rfl) (fun K E _ _ hN hT => w_fX64_name E hN hT)
theorem dX64_isEnd_0 : decode cX64_isEnd 0 = .ok (.aload_n 0, 1) := by decide +kernel
theorem dX64_isEnd_1 : decode cX64_isEnd 1 = .ok (.getfield 61, 3) := by decide +kernel
theorem dX64_isEnd_4 : decode cX64_isEnd 4 = .ok (.ifCond .eq 15, 3) := by decide +kernel
theorem dX64_isEnd_7 : decode cX64_isEnd 7 = .ok (.aload_n 0, 1) := by decide +kernel
theorem dX64_isEnd_8 : decode cX64_isEnd 8 = .ok (.iconst 1, 1) := by decide +kernel
theorem dX64_isEnd_9 : decode cX64_isEnd 9 = .ok (.aload_n 0, 1) := by decide +kernel
theorem dX64_isEnd_10 : decode cX64_isEnd 10 = .ok (.getfield 55, 3) := by decide +kernel
theorem dX64_isEnd_13 : decode cX64_isEnd 13 = .ok (.invokevirtual 68, 3) := by decide +kernel
theorem dX64_isEnd_16 : decode cX64_isEnd 16 = .ok (.ifCond .eq 7, 3) := by decide +kernel
theorem dX64_isEnd_19 : decode cX64_isEnd 19 = .ok (.iconst 1, 1) := by decide +kernel
theorem dX64_isEnd_20 : decode cX64_isEnd 20 = .ok (.goto 4, 3) := by decide +kernel
theorem dX64_isEnd_23 : decode cX64_isEnd 23 = .ok (.iconst 0, 1) := by decide +kernel
theorem dX64_isEnd_24 : decode cX64_isEnd 24 = .ok (.ireturn, 1) := by decide +kernel
theorem zy_X64_isEnd : yX64_isEnd.cls ≠ "java/lang/invoke/MethodHandle" ∧ yX64_isEnd.cls ≠ "java/lang/invoke/VarHandle" ∧ (parseMethodDescriptor yX64_isEnd.desc).map (fun d => d.parameters.length) = some 0 := by decide +kernel
theorem w_fX64_isEnd {K : zK} (E : zE K cX64_isEnd "RingHouse$Assembler" (some .boolean) 1) (hN : zNl K = 1) (hT : zTr K = (some 0)) : zR K 0 [(0, 66, 0)] [] (fX64_isEnd) := by
  refine r_aload_n E dX64_isEnd_0 rfl 0 rfl ?_
  refine r_get E zc_66 zt_6504 dX64_isEnd_1 q1633 zr_66 (zg_6504 _) (by decide) (fun v1 => ?_)
  refine r_if_eq E 19 (by decide) dX64_isEnd_4 (fun _ => ?_) (fun _ => ?_)
  · refine r_iconst E dX64_isEnd_19 (zkI (by decide) (by decide)) ?_
    refine r_goto E 24 (by decide) dX64_isEnd_20 ?_
    exact r_zreturn E rfl hT (by decide) dX64_isEnd_24
  · refine r_aload_n E dX64_isEnd_7 rfl 0 rfl ?_
    refine r_iconst E dX64_isEnd_8 (zkI (by decide) (by decide)) ?_
    refine r_aload_n E dX64_isEnd_9 rfl 0 rfl ?_
    refine r_get E zc_66 zt_6505 dX64_isEnd_10 q1634 zr_66 (zg_6505 _) (by decide) (fun v2 => ?_)
    refine r_callV E [(0, 1), (0, v2)] [] rfl zc_66 zr_66 (fun o _ => ⟨_, zw_X64.1 o, rfl⟩) (lw_V q2803 q2805 qs38 q291 q2806) dX64_isEnd_13 zy_X64_wrong rfl (by omega) (by decide) (Nat.le_of_ble_eq_true rfl) (by decide) (fun l G => k_fX64_wrong l G 1 v2) (fun v3 => ?_)
    refine r_if_eq E 23 (by decide) dX64_isEnd_16 (fun _ => ?_) (fun _ => ?_)
    · refine r_iconst E dX64_isEnd_23 (zkI (by decide) (by decide)) ?_
      exact r_zreturn E rfl hT (by decide) dX64_isEnd_24
    · refine r_iconst E dX64_isEnd_19 (zkI (by decide) (by decide)) ?_
      refine r_goto E 24 (by decide) dX64_isEnd_20 ?_
      exact r_zreturn E rfl hT (by decide) dX64_isEnd_24
theorem k_fX64_isEnd (l : Launch) (G : zG) : zCt l G yX64_isEnd cX64_isEnd 1 (some .boolean) 1 [(66, 0)] (some 0) (fX64_isEnd) := zCt.of (by decide) (Nat.le_of_ble_eq_true rfl) (fun K E _ _ hN hT => w_fX64_isEnd E hN hT)
theorem dX64_findLabel_0 : decode cX64_findLabel 0 = .ok (.iconst 0, 1) := by decide +kernel
theorem dX64_findLabel_1 : decode cX64_findLabel 1 = .ok (.istore_n 3, 1) := by decide +kernel
theorem dX64_findLabel_2 : decode cX64_findLabel 2 = .ok (.iload_n 3, 1) := by decide +kernel
theorem dX64_findLabel_3 : decode cX64_findLabel 3 = .ok (.aload_n 0, 1) := by decide +kernel
theorem dX64_findLabel_4 : decode cX64_findLabel 4 = .ok (.getfield 103, 3) := by decide +kernel
theorem dX64_findLabel_7 : decode cX64_findLabel 7 = .ok (.if_icmp .ge 22, 3) := by decide +kernel
theorem dX64_findLabel_10 : decode cX64_findLabel 10 = .ok (.aload_n 0, 1) := by decide +kernel
theorem dX64_findLabel_11 : decode cX64_findLabel 11 = .ok (.getfield 19, 3) := by decide +kernel
theorem dX64_findLabel_14 : decode cX64_findLabel 14 = .ok (.iload_n 3, 1) := by decide +kernel
theorem dX64_findLabel_15 : decode cX64_findLabel 15 = .ok (.laload, 1) := by decide +kernel
theorem dX64_findLabel_16 : decode cX64_findLabel 16 = .ok (.lload_n 1, 1) := by decide +kernel
theorem dX64_findLabel_17 : decode cX64_findLabel 17 = .ok (.lcmp, 1) := by decide +kernel
theorem dX64_findLabel_18 : decode cX64_findLabel 18 = .ok (.ifCond .ne 5, 3) := by decide +kernel
theorem dX64_findLabel_21 : decode cX64_findLabel 21 = .ok (.iload_n 3, 1) := by decide +kernel
theorem dX64_findLabel_22 : decode cX64_findLabel 22 = .ok (.ireturn, 1) := by decide +kernel
theorem dX64_findLabel_23 : decode cX64_findLabel 23 = .ok (.iinc 3 1, 3) := by decide +kernel
theorem dX64_findLabel_26 : decode cX64_findLabel 26 = .ok (.goto (-24), 3) := by decide +kernel
theorem dX64_findLabel_29 : decode cX64_findLabel 29 = .ok (.iconst (-1), 1) := by decide +kernel
theorem dX64_findLabel_30 : decode cX64_findLabel 30 = .ok (.ireturn, 1) := by decide +kernel
theorem zy_X64_findLabel : yX64_findLabel.cls ≠ "java/lang/invoke/MethodHandle" ∧ yX64_findLabel.cls ≠ "java/lang/invoke/VarHandle" ∧ (parseMethodDescriptor yX64_findLabel.desc).map (fun d => d.parameters.length) = some 1 := by decide +kernel
theorem w_fX64_findLabel_B2 {K : zK} (E : zE K cX64_findLabel "RingHouse$Assembler" (some .int) 0) (hN : zNl K = 4) (hT : zTr K = (some 0)) (x1 : Int) : ∀ r2 : Int → zX, (∀ s : Int, zR K 2 [(0, 66, 0), (1, 1, x1), (3, 0, s)] [] (r2 s)) → ∀ s : Int, zR K 2 [(0, 66, 0), (1, 1, x1), (3, 0, s)] [] (fX64_findLabel_B2 x1 r2 s) := by
  intro r2 hr2 x3
  refine r_iload_n E dX64_findLabel_2 rfl 2 rfl ?_
  refine r_aload_n E dX64_findLabel_3 rfl 0 rfl ?_
  refine r_get E zc_66 zt_6512 dX64_findLabel_4 q1642 zr_66 (zg_6512 _) (by decide) (fun v1 => ?_)
  refine r_icmp_ge E 29 (by decide) dX64_findLabel_7 (fun _ => ?_) (fun _ => ?_)
  · refine r_iconst E dX64_findLabel_29 (zkI (by decide) (by decide)) ?_
    exact r_ireturn E rfl hT dX64_findLabel_30
  · refine r_aload_n E dX64_findLabel_10 rfl 0 rfl ?_
    refine r_gec (y := 0) E zc_66 dX64_findLabel_11 q1640 zr_66 (zh_6510 (by decide)) (by decide) ?_
    refine r_iload_n E dX64_findLabel_14 rfl 2 rfl ?_
    refine r_laload E zc_6510 za_6510 zt_6510 zx_6510 rfl rfl dX64_findLabel_15 (by decide) (fun v2 => ?_)
    refine r_lload_n E dX64_findLabel_16 rfl 1 rfl ?_
    refine r_lcmp_ne E 23 (by decide) dX64_findLabel_17 dX64_findLabel_18 (fun _ => ?_) (fun _ => ?_)
    · refine r_iinc (ls' := fun v3 => [(3, 0, v3), (0, 66, 0), (1, 1, x1)]) E 2 rfl (by rw [hN]; decide) (fun _ => rfl) dX64_findLabel_23 (fun v3 _ => ?_)
      refine r_goto E 2 (by decide) dX64_findLabel_26 ?_
      refine r_pick E [1, 2, 0] rfl ?_
      exact hr2 v3
    · refine r_iload_n E dX64_findLabel_21 rfl 2 rfl ?_
      exact r_ireturn E rfl hT dX64_findLabel_22
theorem w_fX64_findLabel {K : zK} (E : zE K cX64_findLabel "RingHouse$Assembler" (some .int) 0) (hN : zNl K = 4) (hT : zTr K = (some 0)) (x1 : Int) : zR K 0 [(0, 66, 0), (1, 1, x1)] [] (fX64_findLabel x1) := by
  refine r_iconst E dX64_findLabel_0 (zkI (by decide) (by decide)) ?_
  refine r_istore_n (ls' := [(3, 0, 0), (0, 66, 0), (1, 1, x1)]) E dX64_findLabel_1 rfl (by rw [hN]; decide) rfl ?_
  refine r_pick E [1, 2, 0] rfl ?_
  exact r_loop (L := fun s => [(0, 66, 0), (1, 1, x1), (3, 0, s)]) (w_fX64_findLabel_B2 E hN hT x1) zBIG 0
theorem k_fX64_findLabel (l : Launch) (G : zG) (x1 : Int) : zCt l G yX64_findLabel cX64_findLabel 4 (some .int) 0 [(66, 0), (1, x1)] (some 0) (fX64_findLabel x1) := zCt.of (by decide) (Nat.le_of_ble_eq_true rfl) (fun K E _ _ hN hT => w_fX64_findLabel E hN hT x1)
theorem dX64_define_0 : decode cX64_define 0 = .ok (.aload_n 0, 1) := by decide +kernel
theorem dX64_define_1 : decode cX64_define 1 = .ok (.getfield 55, 3) := by decide +kernel
theorem dX64_define_4 : decode cX64_define 4 = .ok (.istore_n 1, 1) := by decide +kernel
theorem dX64_define_5 : decode cX64_define 5 = .ok (.aload_n 0, 1) := by decide +kernel
theorem dX64_define_6 : decode cX64_define 6 = .ok (.invokevirtual 110, 3) := by decide +kernel
theorem dX64_define_9 : decode cX64_define 9 = .ok (.lstore_n 2, 1) := by decide +kernel
theorem dX64_define_10 : decode cX64_define 10 = .ok (.aload_n 0, 1) := by decide +kernel
theorem dX64_define_11 : decode cX64_define 11 = .ok (.getfield 49, 3) := by decide +kernel
theorem dX64_define_14 : decode cX64_define 14 = .ok (.ifCond .le 5, 3) := by decide +kernel
theorem dX64_define_17 : decode cX64_define 17 = .ok (.iconst 0, 1) := by decide +kernel
theorem dX64_define_18 : decode cX64_define 18 = .ok (.ireturn, 1) := by decide +kernel
theorem dX64_define_19 : decode cX64_define 19 = .ok (.aload_n 0, 1) := by decide +kernel
theorem dX64_define_20 : decode cX64_define 20 = .ok (.getfield 117, 3) := by decide +kernel
theorem dX64_define_23 : decode cX64_define 23 = .ok (.ifCond .eq 26, 3) := by decide +kernel
theorem dX64_define_26 : decode cX64_define 26 = .ok (.aload_n 0, 1) := by decide +kernel
theorem dX64_define_27 : decode cX64_define 27 = .ok (.lload_n 2, 1) := by decide +kernel
theorem dX64_define_28 : decode cX64_define 28 = .ok (.invokevirtual 113, 3) := by decide +kernel
theorem dX64_define_31 : decode cX64_define 31 = .ok (.ifCond .ge 12, 3) := by decide +kernel
theorem dX64_define_34 : decode cX64_define 34 = .ok (.aload_n 0, 1) := by decide +kernel
theorem dX64_define_35 : decode cX64_define 35 = .ok (.iconst 5, 1) := by decide +kernel
theorem dX64_define_36 : decode cX64_define 36 = .ok (.iload_n 1, 1) := by decide +kernel
theorem dX64_define_37 : decode cX64_define 37 = .ok (.invokevirtual 68, 3) := by decide +kernel
theorem dX64_define_40 : decode cX64_define 40 = .ok (.ifCond .eq 7, 3) := by decide +kernel
theorem dX64_define_43 : decode cX64_define 43 = .ok (.iconst 1, 1) := by decide +kernel
theorem dX64_define_44 : decode cX64_define 44 = .ok (.goto 4, 3) := by decide +kernel
theorem dX64_define_47 : decode cX64_define 47 = .ok (.iconst 0, 1) := by decide +kernel
theorem dX64_define_48 : decode cX64_define 48 = .ok (.ireturn, 1) := by decide +kernel
theorem dX64_define_49 : decode cX64_define 49 = .ok (.aload_n 0, 1) := by decide +kernel
theorem dX64_define_50 : decode cX64_define 50 = .ok (.getfield 206, 3) := by decide +kernel
theorem dX64_define_53 : decode cX64_define 53 = .ok (.bipush 32, 2) := by decide +kernel
theorem dX64_define_55 : decode cX64_define 55 = .ok (.if_icmp .ne 11, 3) := by decide +kernel
theorem dX64_define_58 : decode cX64_define 58 = .ok (.aload_n 0, 1) := by decide +kernel
theorem dX64_define_59 : decode cX64_define 59 = .ok (.bipush 6, 2) := by decide +kernel
theorem dX64_define_61 : decode cX64_define 61 = .ok (.iload_n 1, 1) := by decide +kernel
theorem dX64_define_62 : decode cX64_define 62 = .ok (.invokevirtual 68, 3) := by decide +kernel
theorem dX64_define_65 : decode cX64_define 65 = .ok (.ireturn, 1) := by decide +kernel
theorem dX64_define_66 : decode cX64_define 66 = .ok (.aload_n 0, 1) := by decide +kernel
theorem dX64_define_67 : decode cX64_define 67 = .ok (.getfield 35, 3) := by decide +kernel
theorem dX64_define_70 : decode cX64_define 70 = .ok (.aload_n 0, 1) := by decide +kernel
theorem dX64_define_71 : decode cX64_define 71 = .ok (.getfield 206, 3) := by decide +kernel
theorem dX64_define_74 : decode cX64_define 74 = .ok (.lload_n 2, 1) := by decide +kernel
theorem dX64_define_75 : decode cX64_define 75 = .ok (.lastore, 1) := by decide +kernel
theorem dX64_define_76 : decode cX64_define 76 = .ok (.aload_n 0, 1) := by decide +kernel
theorem dX64_define_77 : decode cX64_define 77 = .ok (.dup, 1) := by decide +kernel
theorem dX64_define_78 : decode cX64_define 78 = .ok (.getfield 206, 3) := by decide +kernel
theorem dX64_define_81 : decode cX64_define 81 = .ok (.iconst 1, 1) := by decide +kernel
theorem dX64_define_82 : decode cX64_define 82 = .ok (.iadd, 1) := by decide +kernel
theorem dX64_define_83 : decode cX64_define 83 = .ok (.putfield 206, 3) := by decide +kernel
theorem dX64_define_86 : decode cX64_define 86 = .ok (.aload_n 0, 1) := by decide +kernel
theorem dX64_define_87 : decode cX64_define 87 = .ok (.invokevirtual 186, 3) := by decide +kernel
theorem dX64_define_90 : decode cX64_define 90 = .ok (.ireturn, 1) := by decide +kernel
theorem zy_X64_define : yX64_define.cls ≠ "java/lang/invoke/MethodHandle" ∧ yX64_define.cls ≠ "java/lang/invoke/VarHandle" ∧ (parseMethodDescriptor yX64_define.desc).map (fun d => d.parameters.length) = some 0 := by decide +kernel
theorem w_fX64_define {K : zK} (E : zE K cX64_define "RingHouse$Assembler" (some .boolean) 3) (hN : zNl K = 4) (hT : zTr K = (some 0)) : zR K 0 [(0, 66, 0)] [] (fX64_define) := by
  refine r_aload_n E dX64_define_0 rfl 0 rfl ?_
  refine r_get E zc_66 zt_6505 dX64_define_1 q1634 zr_66 (zg_6505 _) (by decide) (fun v1 => ?_)
  refine r_istore_n (ls' := [(1, 0, v1), (0, 66, 0)]) E dX64_define_4 rfl (by rw [hN]; decide) rfl ?_
  refine r_aload_n E dX64_define_5 rfl 1 rfl ?_
  refine r_callV E [] [] rfl zc_66 zr_66 (fun o _ => ⟨_, zw_X64.1 o, rfl⟩) (lw_V q2929 q2931 qs56 q291 q2932) dX64_define_6 zy_X64_name rfl (by omega) (by decide) (Nat.le_of_ble_eq_true rfl) (by decide) (fun l G => k_fX64_name l G) (fun v2 => ?_)
  refine r_lstore_n (ls' := [(2, 1, v2), (1, 0, v1), (0, 66, 0)]) E dX64_define_9 rfl (by rw [hN]; decide) rfl ?_
  refine r_aload_n E dX64_define_10 rfl 2 rfl ?_
  refine r_get E zc_66 zt_6508 dX64_define_11 q1637 zr_66 (zg_6508 _) (by decide) (fun v3 => ?_)
  refine r_if_le E 19 (by decide) dX64_define_14 (fun _ => ?_) (fun _ => ?_)
  · refine r_aload_n E dX64_define_19 rfl 2 rfl ?_
    refine r_get E zc_66 zt_6519 dX64_define_20 q1649 zr_66 (zg_6519 _) (by decide) (fun v4 => ?_)
    refine r_if_eq E 49 (by decide) dX64_define_23 (fun _ => ?_) (fun _ => ?_)
    · refine r_aload_n E dX64_define_49 rfl 2 rfl ?_
      refine r_get E zc_66 zt_6518 dX64_define_50 q1648 zr_66 (zg_6518 _) (by decide) (fun v5 => ?_)
      refine r_bipush E dX64_define_53 (by decide) (zkI (by decide) (by decide)) ?_
      refine r_icmp_ne E 66 (by decide) dX64_define_55 (fun _ => ?_) (fun _ => ?_)
      · refine r_aload_n E dX64_define_66 rfl 2 rfl ?_
        refine r_gec (y := 0) E zc_66 dX64_define_67 q1647 zr_66 (zh_6517 (by decide)) (by decide) ?_
        refine r_aload_n E dX64_define_70 rfl 2 rfl ?_
        refine r_get E zc_66 zt_6518 dX64_define_71 q1648 zr_66 (zg_6518 _) (by decide) (fun v6 => ?_)
        refine r_lload_n E dX64_define_74 rfl 0 rfl ?_
        refine r_lastore E zc_6517 za_6517 zt_6517 zo_6517 zx_6517 rfl rfl dX64_define_75 (by decide) ?_
        refine r_aload_n E dX64_define_76 rfl 2 rfl ?_
        refine r_dup E (zn1 rfl) dX64_define_77 ?_
        refine r_get E zc_66 zt_6518 dX64_define_78 q1648 zr_66 (zg_6518 _) (by decide) (fun v7 => ?_)
        refine r_iconst E dX64_define_81 (zkI (by decide) (by decide)) ?_
        refine r_iadd E dX64_define_82 ?_
        refine r_put E zc_66 zt_6518 zo_6518 dX64_define_83 q1648 zr_66 zw_X64 zp_6518 (fun _ => rfl) (fun _ => rfl) (by decide) ?_
        refine r_aload_n E dX64_define_86 rfl 2 rfl ?_
        refine r_callV E [] [] rfl zc_66 zr_66 (fun o _ => ⟨_, zw_X64.1 o, rfl⟩) (lw_V q2892 q2894 qs48 q291 q2895) dX64_define_87 zy_X64_isEnd rfl (by omega) (by decide) (Nat.le_of_ble_eq_true rfl) (by decide) (fun l G => k_fX64_isEnd l G) (fun v8 => ?_)
        exact r_zreturnb E rfl hT dX64_define_90
      · refine r_aload_n E dX64_define_58 rfl 2 rfl ?_
        refine r_bipush E dX64_define_59 (by decide) (zkI (by decide) (by decide)) ?_
        refine r_iload_n E dX64_define_61 rfl 1 rfl ?_
        refine r_callV E [(0, 6), (0, v1)] [] rfl zc_66 zr_66 (fun o _ => ⟨_, zw_X64.1 o, rfl⟩) (lw_V q2803 q2805 qs38 q291 q2806) dX64_define_62 zy_X64_wrong rfl (by omega) (by decide) (Nat.le_of_ble_eq_true rfl) (by decide) (fun l G => k_fX64_wrong l G 6 v1) (fun v9 => ?_)
        exact r_zreturnb E rfl hT dX64_define_65
    · refine r_aload_n E dX64_define_26 rfl 2 rfl ?_
      refine r_lload_n E dX64_define_27 rfl 0 rfl ?_
      refine r_callV E [(1, v2)] [] rfl zc_66 zr_66 (fun o _ => ⟨_, zw_X64.1 o, rfl⟩) (lw_V q2819 q2821 qs42 q291 q2822) dX64_define_28 zy_X64_findLabel rfl (by omega) (by decide) (Nat.le_of_ble_eq_true rfl) (by decide) (fun l G => k_fX64_findLabel l G v2) (fun v10 => ?_)
      refine r_if_ge E 43 (by decide) dX64_define_31 (fun _ => ?_) (fun _ => ?_)
      · refine r_iconst E dX64_define_43 (zkI (by decide) (by decide)) ?_
        refine r_goto E 48 (by decide) dX64_define_44 ?_
        exact r_zreturn E rfl hT (by decide) dX64_define_48
      · refine r_aload_n E dX64_define_34 rfl 2 rfl ?_
        refine r_iconst E dX64_define_35 (zkI (by decide) (by decide)) ?_
        refine r_iload_n E dX64_define_36 rfl 1 rfl ?_
        refine r_callV E [(0, 5), (0, v1)] [] rfl zc_66 zr_66 (fun o _ => ⟨_, zw_X64.1 o, rfl⟩) (lw_V q2803 q2805 qs38 q291 q2806) dX64_define_37 zy_X64_wrong rfl (by omega) (by decide) (Nat.le_of_ble_eq_true rfl) (by decide) (fun l G => k_fX64_wrong l G 5 v1) (fun v11 => ?_)
        refine r_if_eq E 47 (by decide) dX64_define_40 (fun _ => ?_) (fun _ => ?_)
        · refine r_iconst E dX64_define_47 (zkI (by decide) (by decide)) ?_
          exact r_zreturn E rfl hT (by decide) dX64_define_48
        · refine r_iconst E dX64_define_43 (zkI (by decide) (by decide)) ?_
          refine r_goto E 48 (by decide) dX64_define_44 ?_
          exact r_zreturn E rfl hT (by decide) dX64_define_48
  · refine r_iconst E dX64_define_17 (zkI (by decide) (by decide)) ?_
    exact r_zreturn E rfl hT (by decide) dX64_define_18
theorem k_fX64_define (l : Launch) (G : zG) : zCt l G yX64_define cX64_define 4 (some .boolean) 3 [(66, 0)] (some 0) (fX64_define) := zCt.of (by decide) (Nat.le_of_ble_eq_true rfl) (fun K E _ _ hN hT => w_fX64_define E hN hT)
theorem dX64_isDigits_0 : decode cX64_isDigits 0 = .ok (.iload_n 2, 1) := by decide +kernel
theorem dX64_isDigits_1 : decode cX64_isDigits 1 = .ok (.iload_n 1, 1) := by decide +kernel
theorem dX64_isDigits_2 : decode cX64_isDigits 2 = .ok (.if_icmp .le 7, 3) := by decide +kernel
theorem dX64_isDigits_5 : decode cX64_isDigits 5 = .ok (.iconst 1, 1) := by decide +kernel
theorem dX64_isDigits_6 : decode cX64_isDigits 6 = .ok (.goto 4, 3) := by decide +kernel
theorem dX64_isDigits_9 : decode cX64_isDigits 9 = .ok (.iconst 0, 1) := by decide +kernel
theorem dX64_isDigits_10 : decode cX64_isDigits 10 = .ok (.istore_n 3, 1) := by decide +kernel
theorem dX64_isDigits_11 : decode cX64_isDigits 11 = .ok (.iload_n 1, 1) := by decide +kernel
theorem dX64_isDigits_12 : decode cX64_isDigits 12 = .ok (.istore 4, 2) := by decide +kernel
theorem dX64_isDigits_14 : decode cX64_isDigits 14 = .ok (.iload 4, 2) := by decide +kernel
theorem dX64_isDigits_16 : decode cX64_isDigits 16 = .ok (.iload_n 2, 1) := by decide +kernel
theorem dX64_isDigits_17 : decode cX64_isDigits 17 = .ok (.if_icmp .ge 43, 3) := by decide +kernel
theorem dX64_isDigits_20 : decode cX64_isDigits 20 = .ok (.iload_n 3, 1) := by decide +kernel
theorem dX64_isDigits_21 : decode cX64_isDigits 21 = .ok (.ifCond .eq 31, 3) := by decide +kernel
theorem dX64_isDigits_24 : decode cX64_isDigits 24 = .ok (.aload_n 0, 1) := by decide +kernel
theorem dX64_isDigits_25 : decode cX64_isDigits 25 = .ok (.getfield 9, 3) := by decide +kernel
theorem dX64_isDigits_28 : decode cX64_isDigits 28 = .ok (.iload 4, 2) := by decide +kernel
theorem dX64_isDigits_30 : decode cX64_isDigits 30 = .ok (.iaload, 1) := by decide +kernel
theorem dX64_isDigits_31 : decode cX64_isDigits 31 = .ok (.bipush 48, 2) := by decide +kernel
theorem dX64_isDigits_33 : decode cX64_isDigits 33 = .ok (.if_icmp .lt 19, 3) := by decide +kernel
theorem dX64_isDigits_36 : decode cX64_isDigits 36 = .ok (.aload_n 0, 1) := by decide +kernel
theorem dX64_isDigits_37 : decode cX64_isDigits 37 = .ok (.getfield 9, 3) := by decide +kernel
theorem dX64_isDigits_40 : decode cX64_isDigits 40 = .ok (.iload 4, 2) := by decide +kernel
theorem dX64_isDigits_42 : decode cX64_isDigits 42 = .ok (.iaload, 1) := by decide +kernel
theorem dX64_isDigits_43 : decode cX64_isDigits 43 = .ok (.bipush 57, 2) := by decide +kernel
theorem dX64_isDigits_45 : decode cX64_isDigits 45 = .ok (.if_icmp .gt 7, 3) := by decide +kernel
theorem dX64_isDigits_48 : decode cX64_isDigits 48 = .ok (.iconst 1, 1) := by decide +kernel
theorem dX64_isDigits_49 : decode cX64_isDigits 49 = .ok (.goto 4, 3) := by decide +kernel
theorem dX64_isDigits_52 : decode cX64_isDigits 52 = .ok (.iconst 0, 1) := by decide +kernel
theorem dX64_isDigits_53 : decode cX64_isDigits 53 = .ok (.istore_n 3, 1) := by decide +kernel
theorem dX64_isDigits_54 : decode cX64_isDigits 54 = .ok (.iinc 4 1, 3) := by decide +kernel
theorem dX64_isDigits_57 : decode cX64_isDigits 57 = .ok (.goto (-43), 3) := by decide +kernel
theorem dX64_isDigits_60 : decode cX64_isDigits 60 = .ok (.iload_n 3, 1) := by decide +kernel
theorem dX64_isDigits_61 : decode cX64_isDigits 61 = .ok (.ireturn, 1) := by decide +kernel
theorem zy_X64_isDigits : yX64_isDigits.cls ≠ "java/lang/invoke/MethodHandle" ∧ yX64_isDigits.cls ≠ "java/lang/invoke/VarHandle" ∧ (parseMethodDescriptor yX64_isDigits.desc).map (fun d => d.parameters.length) = some 2 := by decide +kernel
theorem w_fX64_isDigits_J53 {K : zK} (E : zE K cX64_isDigits "RingHouse$Assembler" (some .boolean) 0) (hN : zNl K = 5) (hT : zTr K = (some 0)) (x2 : Int) (x4 : Int) (s0 : Int) {r14 : Int × Int → zX} (hr14 : ∀ s : Int × Int, zR K 14 [(0, 66, 0), (2, 0, x2), (3, 0, s.1), (4, 0, s.2)] [] (r14 s)) : zR K 53 [(0, 66, 0), (2, 0, x2), (4, 0, x4)] [(0, s0)] (fX64_isDigits_J53 r14 x2 x4 s0) := by
  refine r_istore_n (ls' := [(3, 0, s0), (0, 66, 0), (2, 0, x2), (4, 0, x4)]) E dX64_isDigits_53 rfl (by rw [hN]; decide) rfl ?_
  refine r_iinc (ls' := fun v1 => [(4, 0, v1), (3, 0, s0), (0, 66, 0), (2, 0, x2)]) E 3 rfl (by rw [hN]; decide) (fun _ => rfl) dX64_isDigits_54 (fun v1 _ => ?_)
  refine r_goto E 14 (by decide) dX64_isDigits_57 ?_
  refine r_pick E [2, 3, 1, 0] rfl ?_
  exact hr14 (s0, v1)
theorem w_fX64_isDigits_J52 {K : zK} (E : zE K cX64_isDigits "RingHouse$Assembler" (some .boolean) 0) (hN : zNl K = 5) (hT : zTr K = (some 0)) (x2 : Int) (x4 : Int) {r14 : Int × Int → zX} (hr14 : ∀ s : Int × Int, zR K 14 [(0, 66, 0), (2, 0, x2), (3, 0, s.1), (4, 0, s.2)] [] (r14 s)) : zR K 52 [(0, 66, 0), (2, 0, x2), (4, 0, x4)] [] (fX64_isDigits_J52 r14 x2 x4) := by
  refine r_iconst E dX64_isDigits_52 (zkI (by decide) (by decide)) ?_
  exact w_fX64_isDigits_J53 E hN hT x2 x4 0 hr14
theorem w_fX64_isDigits_B14 {K : zK} (E : zE K cX64_isDigits "RingHouse$Assembler" (some .boolean) 0) (hN : zNl K = 5) (hT : zTr K = (some 0)) (x2 : Int) : ∀ r14 : Int × Int → zX, (∀ s : Int × Int, zR K 14 [(0, 66, 0), (2, 0, x2), (3, 0, s.1), (4, 0, s.2)] [] (r14 s)) → ∀ s : Int × Int, zR K 14 [(0, 66, 0), (2, 0, x2), (3, 0, s.1), (4, 0, s.2)] [] (fX64_isDigits_B14 x2 r14 s) := by
  intro r14 hr14 s
  obtain ⟨x3, x4⟩ := s
  refine r_iload E dX64_isDigits_14 3 rfl ?_
  refine r_iload_n E dX64_isDigits_16 rfl 1 rfl ?_
  refine r_icmp_ge E 60 (by decide) dX64_isDigits_17 (fun _ => ?_) (fun _ => ?_)
  · refine r_iload_n E dX64_isDigits_60 rfl 2 rfl ?_
    exact r_zreturnb E rfl hT dX64_isDigits_61
  · refine r_iload_n E dX64_isDigits_20 rfl 2 rfl ?_
    refine r_if_eq E 52 (by decide) dX64_isDigits_21 (fun _ => ?_) (fun _ => ?_)
    · refine r_pick E [0, 1, 3] rfl ?_
      exact w_fX64_isDigits_J52 E hN hT x2 x4 hr14
    · refine r_aload_n E dX64_isDigits_24 rfl 0 rfl ?_
      refine r_gec (y := 0) E zc_66 dX64_isDigits_25 q1629 zr_66 (zh_6502 (by decide)) (by decide) ?_
      refine r_iload E dX64_isDigits_28 3 rfl ?_
      refine r_iaload E zc_6502 za_6502 zt_6502 zx_6502 rfl rfl dX64_isDigits_30 (by decide) (fun v2 => ?_)
      refine r_bipush E dX64_isDigits_31 (by decide) (zkI (by decide) (by decide)) ?_
      refine r_icmp_lt E 52 (by decide) dX64_isDigits_33 (fun _ => ?_) (fun _ => ?_)
      · refine r_pick E [0, 1, 3] rfl ?_
        exact w_fX64_isDigits_J52 E hN hT x2 x4 hr14
      · refine r_aload_n E dX64_isDigits_36 rfl 0 rfl ?_
        refine r_gec (y := 0) E zc_66 dX64_isDigits_37 q1629 zr_66 (zh_6502 (by decide)) (by decide) ?_
        refine r_iload E dX64_isDigits_40 3 rfl ?_
        refine r_iaload E zc_6502 za_6502 zt_6502 zx_6502 rfl rfl dX64_isDigits_42 (by decide) (fun v3 => ?_)
        refine r_bipush E dX64_isDigits_43 (by decide) (zkI (by decide) (by decide)) ?_
        refine r_icmp_gt E 52 (by decide) dX64_isDigits_45 (fun _ => ?_) (fun _ => ?_)
        · refine r_pick E [0, 1, 3] rfl ?_
          exact w_fX64_isDigits_J52 E hN hT x2 x4 hr14
        · refine r_iconst E dX64_isDigits_48 (zkI (by decide) (by decide)) ?_
          refine r_goto E 53 (by decide) dX64_isDigits_49 ?_
          refine r_pick E [0, 1, 3] rfl ?_
          exact w_fX64_isDigits_J53 E hN hT x2 x4 1 hr14
theorem w_fX64_isDigits_J10 {K : zK} (E : zE K cX64_isDigits "RingHouse$Assembler" (some .boolean) 0) (hN : zNl K = 5) (hT : zTr K = (some 0)) (x1 : Int) (x2 : Int) (s0 : Int) : zR K 10 [(0, 66, 0), (1, 0, x1), (2, 0, x2)] [(0, s0)] (fX64_isDigits_J10 x1 x2 s0) := by
  refine r_istore_n (ls' := [(3, 0, s0), (0, 66, 0), (1, 0, x1), (2, 0, x2)]) E dX64_isDigits_10 rfl (by rw [hN]; decide) rfl ?_
  refine r_iload_n E dX64_isDigits_11 rfl 2 rfl ?_
  refine r_istore (ls' := [(4, 0, x1), (3, 0, s0), (0, 66, 0), (1, 0, x1), (2, 0, x2)]) E dX64_isDigits_12 (by rw [hN]; decide) rfl ?_
  refine r_pick E [2, 4, 1, 0] rfl ?_
  exact r_loop (L := fun s => [(0, 66, 0), (2, 0, x2), (3, 0, s.1), (4, 0, s.2)]) (w_fX64_isDigits_B14 E hN hT x2) zBIG (s0, x1)
theorem w_fX64_isDigits {K : zK} (E : zE K cX64_isDigits "RingHouse$Assembler" (some .boolean) 0) (hN : zNl K = 5) (hT : zTr K = (some 0)) (x1 : Int) (x2 : Int) : zR K 0 [(0, 66, 0), (1, 0, x1), (2, 0, x2)] [] (fX64_isDigits x1 x2) := by
  refine r_iload_n E dX64_isDigits_0 rfl 2 rfl ?_
  refine r_iload_n E dX64_isDigits_1 rfl 1 rfl ?_
  refine r_icmp_le E 9 (by decide) dX64_isDigits_2 (fun _ => ?_) (fun _ => ?_)
  · refine r_iconst E dX64_isDigits_9 (zkI (by decide) (by decide)) ?_
    exact w_fX64_isDigits_J10 E hN hT x1 x2 0
  · refine r_iconst E dX64_isDigits_5 (zkI (by decide) (by decide)) ?_
    refine r_goto E 10 (by decide) dX64_isDigits_6 ?_
    exact w_fX64_isDigits_J10 E hN hT x1 x2 1
theorem k_fX64_isDigits (l : Launch) (G : zG) (x1 : Int) (x2 : Int) : zCt l G yX64_isDigits cX64_isDigits 5 (some .boolean) 0 [(66, 0), (0, x1), (0, x2)] (some 0) (fX64_isDigits x1 x2) := zCt.of (by decide) (Nat.le_of_ble_eq_true rfl) (fun K E _ _ hN hT => w_fX64_isDigits E hN hT x1 x2)
theorem dX64_isNumber_0 : decode cX64_isNumber 0 = .ok (.aload_n 0, 1) := by decide +kernel
theorem dX64_isNumber_1 : decode cX64_isNumber 1 = .ok (.getfield 61, 3) := by decide +kernel
theorem dX64_isNumber_4 : decode cX64_isNumber 4 = .ok (.iconst 1, 1) := by decide +kernel
theorem dX64_isNumber_5 : decode cX64_isNumber 5 = .ok (.if_icmp .ne 22, 3) := by decide +kernel
theorem dX64_isNumber_8 : decode cX64_isNumber 8 = .ok (.aload_n 0, 1) := by decide +kernel
theorem dX64_isNumber_9 : decode cX64_isNumber 9 = .ok (.aload_n 0, 1) := by decide +kernel
theorem dX64_isNumber_10 : decode cX64_isNumber 10 = .ok (.getfield 55, 3) := by decide +kernel
theorem dX64_isNumber_13 : decode cX64_isNumber 13 = .ok (.aload_n 0, 1) := by decide +kernel
theorem dX64_isNumber_14 : decode cX64_isNumber 14 = .ok (.getfield 52, 3) := by decide +kernel
theorem dX64_isNumber_17 : decode cX64_isNumber 17 = .ok (.invokevirtual 79, 3) := by decide +kernel
theorem dX64_isNumber_20 : decode cX64_isNumber 20 = .ok (.ifCond .eq 7, 3) := by decide +kernel
theorem dX64_isNumber_23 : decode cX64_isNumber 23 = .ok (.iconst 1, 1) := by decide +kernel
theorem dX64_isNumber_24 : decode cX64_isNumber 24 = .ok (.goto 4, 3) := by decide +kernel
theorem dX64_isNumber_27 : decode cX64_isNumber 27 = .ok (.iconst 0, 1) := by decide +kernel
theorem dX64_isNumber_28 : decode cX64_isNumber 28 = .ok (.ireturn, 1) := by decide +kernel
theorem zy_X64_isNumber : yX64_isNumber.cls ≠ "java/lang/invoke/MethodHandle" ∧ yX64_isNumber.cls ≠ "java/lang/invoke/VarHandle" ∧ (parseMethodDescriptor yX64_isNumber.desc).map (fun d => d.parameters.length) = some 0 := by decide +kernel
theorem w_fX64_isNumber {K : zK} (E : zE K cX64_isNumber "RingHouse$Assembler" (some .boolean) 1) (hN : zNl K = 1) (hT : zTr K = (some 0)) : zR K 0 [(0, 66, 0)] [] (fX64_isNumber) := by
  refine r_aload_n E dX64_isNumber_0 rfl 0 rfl ?_
  refine r_get E zc_66 zt_6504 dX64_isNumber_1 q1633 zr_66 (zg_6504 _) (by decide) (fun v1 => ?_)
  refine r_iconst E dX64_isNumber_4 (zkI (by decide) (by decide)) ?_
  refine r_icmp_ne E 27 (by decide) dX64_isNumber_5 (fun _ => ?_) (fun _ => ?_)
  · refine r_iconst E dX64_isNumber_27 (zkI (by decide) (by decide)) ?_
    exact r_zreturn E rfl hT (by decide) dX64_isNumber_28
  · refine r_aload_n E dX64_isNumber_8 rfl 0 rfl ?_
    refine r_aload_n E dX64_isNumber_9 rfl 0 rfl ?_
    refine r_get E zc_66 zt_6505 dX64_isNumber_10 q1634 zr_66 (zg_6505 _) (by decide) (fun v2 => ?_)
    refine r_aload_n E dX64_isNumber_13 rfl 0 rfl ?_
    refine r_get E zc_66 zt_6506 dX64_isNumber_14 q1635 zr_66 (zg_6506 _) (by decide) (fun v3 => ?_)
    refine r_callV E [(0, v2), (0, v3)] [] rfl zc_66 zr_66 (fun o _ => ⟨_, zw_X64.1 o, rfl⟩) (lw_V q2919 q2921 qs54 q291 q2922) dX64_isNumber_17 zy_X64_isDigits rfl (by omega) (by decide) (Nat.le_of_ble_eq_true rfl) (by decide) (fun l G => k_fX64_isDigits l G v2 v3) (fun v4 => ?_)
    refine r_if_eq E 27 (by decide) dX64_isNumber_20 (fun _ => ?_) (fun _ => ?_)
    · refine r_iconst E dX64_isNumber_27 (zkI (by decide) (by decide)) ?_
      exact r_zreturn E rfl hT (by decide) dX64_isNumber_28
    · refine r_iconst E dX64_isNumber_23 (zkI (by decide) (by decide)) ?_
      refine r_goto E 28 (by decide) dX64_isNumber_24 ?_
      exact r_zreturn E rfl hT (by decide) dX64_isNumber_28
theorem k_fX64_isNumber (l : Launch) (G : zG) : zCt l G yX64_isNumber cX64_isNumber 1 (some .boolean) 1 [(66, 0)] (some 0) (fX64_isNumber) := zCt.of (by decide) (Nat.le_of_ble_eq_true rfl) (fun K E _ _ hN hT => w_fX64_isNumber E hN hT)
theorem dX64_digits_0 : decode cX64_digits 0 = .ok (.aload_n 0, 1) := by decide +kernel
theorem dX64_digits_1 : decode cX64_digits 1 = .ok (.getfield 52, 3) := by decide +kernel
theorem dX64_digits_4 : decode cX64_digits 4 = .ok (.aload_n 0, 1) := by decide +kernel
theorem dX64_digits_5 : decode cX64_digits 5 = .ok (.getfield 55, 3) := by decide +kernel
theorem dX64_digits_8 : decode cX64_digits 8 = .ok (.isub, 1) := by decide +kernel
theorem dX64_digits_9 : decode cX64_digits 9 = .ok (.bipush 11, 2) := by decide +kernel
theorem dX64_digits_11 : decode cX64_digits 11 = .ok (.if_icmp .le 7, 3) := by decide +kernel
theorem dX64_digits_14 : decode cX64_digits 14 = .ok (.ldc2_w 97, 3) := by decide +kernel
theorem dX64_digits_17 : decode cX64_digits 17 = .ok (.lreturn, 1) := by decide +kernel
theorem dX64_digits_18 : decode cX64_digits 18 = .ok (.lconst 0, 1) := by decide +kernel
theorem dX64_digits_19 : decode cX64_digits 19 = .ok (.lstore_n 1, 1) := by decide +kernel
theorem dX64_digits_20 : decode cX64_digits 20 = .ok (.aload_n 0, 1) := by decide +kernel
theorem dX64_digits_21 : decode cX64_digits 21 = .ok (.getfield 55, 3) := by decide +kernel
theorem dX64_digits_24 : decode cX64_digits 24 = .ok (.istore_n 3, 1) := by decide +kernel
theorem dX64_digits_25 : decode cX64_digits 25 = .ok (.iload_n 3, 1) := by decide +kernel
theorem dX64_digits_26 : decode cX64_digits 26 = .ok (.aload_n 0, 1) := by decide +kernel
theorem dX64_digits_27 : decode cX64_digits 27 = .ok (.getfield 52, 3) := by decide +kernel
theorem dX64_digits_30 : decode cX64_digits 30 = .ok (.if_icmp .ge 27, 3) := by decide +kernel
theorem dX64_digits_33 : decode cX64_digits 33 = .ok (.ldc2_w 99, 3) := by decide +kernel
theorem dX64_digits_36 : decode cX64_digits 36 = .ok (.lload_n 1, 1) := by decide +kernel
theorem dX64_digits_37 : decode cX64_digits 37 = .ok (.lmul, 1) := by decide +kernel
theorem dX64_digits_38 : decode cX64_digits 38 = .ok (.aload_n 0, 1) := by decide +kernel
theorem dX64_digits_39 : decode cX64_digits 39 = .ok (.getfield 9, 3) := by decide +kernel
theorem dX64_digits_42 : decode cX64_digits 42 = .ok (.iload_n 3, 1) := by decide +kernel
theorem dX64_digits_43 : decode cX64_digits 43 = .ok (.iaload, 1) := by decide +kernel
theorem dX64_digits_44 : decode cX64_digits 44 = .ok (.i2l, 1) := by decide +kernel
theorem dX64_digits_45 : decode cX64_digits 45 = .ok (.ladd, 1) := by decide +kernel
theorem dX64_digits_46 : decode cX64_digits 46 = .ok (.ldc2_w 101, 3) := by decide +kernel
theorem dX64_digits_49 : decode cX64_digits 49 = .ok (.lsub, 1) := by decide +kernel
theorem dX64_digits_50 : decode cX64_digits 50 = .ok (.lstore_n 1, 1) := by decide +kernel
theorem dX64_digits_51 : decode cX64_digits 51 = .ok (.iinc 3 1, 3) := by decide +kernel
theorem dX64_digits_54 : decode cX64_digits 54 = .ok (.goto (-29), 3) := by decide +kernel
theorem dX64_digits_57 : decode cX64_digits 57 = .ok (.lload_n 1, 1) := by decide +kernel
theorem dX64_digits_58 : decode cX64_digits 58 = .ok (.lreturn, 1) := by decide +kernel
theorem zy_X64_digits : yX64_digits.cls ≠ "java/lang/invoke/MethodHandle" ∧ yX64_digits.cls ≠ "java/lang/invoke/VarHandle" ∧ (parseMethodDescriptor yX64_digits.desc).map (fun d => d.parameters.length) = some 0 := by decide +kernel
theorem w_fX64_digits_B25 {K : zK} (E : zE K cX64_digits "RingHouse$Assembler" (some .long) 0) (hN : zNl K = 4) (hT : zTr K = (some 1)) : ∀ r25 : Int × Int → zX, (∀ s : Int × Int, zR K 25 [(0, 66, 0), (1, 1, s.1), (3, 0, s.2)] [] (r25 s)) → ∀ s : Int × Int, zR K 25 [(0, 66, 0), (1, 1, s.1), (3, 0, s.2)] [] (fX64_digits_B25 r25 s) := by
  intro r25 hr25 s
  obtain ⟨x1, x3⟩ := s
  unfold fX64_digits_B25
  refine r_iload_n E dX64_digits_25 rfl 2 rfl ?_
  refine r_aload_n E dX64_digits_26 rfl 0 rfl ?_
  refine r_get E zc_66 zt_6506 dX64_digits_27 q1635 zr_66 (zg_6506 _) (by decide) (fun v4 => ?_)
  refine r_icmp_ge E 57 (by decide) dX64_digits_30 (fun _ => ?_) (fun _ => ?_)
  · refine r_lload_n E dX64_digits_57 rfl 1 rfl ?_
    exact r_lreturn E rfl hT dX64_digits_58
  · refine r_ldc2 (v := 10) E dX64_digits_33 q2927 (by decide) (zkJ (by decide) (by decide)) ?_
    refine r_lload_n E dX64_digits_36 rfl 1 rfl ?_
    refine r_lmul E dX64_digits_37 ?_
    refine r_aload_n E dX64_digits_38 rfl 0 rfl ?_
    refine r_gec (y := 0) E zc_66 dX64_digits_39 q1629 zr_66 (zh_6502 (by decide)) (by decide) ?_
    refine r_iload_n E dX64_digits_42 rfl 2 rfl ?_
    refine r_iaload E zc_6502 za_6502 zt_6502 zx_6502 rfl rfl dX64_digits_43 (by decide) (fun v5 => ?_)
    refine r_i2l E dX64_digits_44 ?_
    refine r_ladd E dX64_digits_45 ?_
    refine r_ldc2 (v := 48) E dX64_digits_46 q2928 (by decide) (zkJ (by decide) (by decide)) ?_
    refine r_lsub E dX64_digits_49 ?_
    refine r_let E (fun v6 ev6 => ?_)
    refine r_lstore_n (ls' := [(1, 1, v6), (0, 66, 0), (3, 0, x3)]) E dX64_digits_50 rfl (by rw [hN]; decide) rfl ?_
    refine r_iinc (ls' := fun v7 => [(3, 0, v7), (1, 1, v6), (0, 66, 0)]) E 2 rfl (by rw [hN]; decide) (fun _ => rfl) dX64_digits_51 (fun v7 _ => ?_)
    refine r_goto E 25 (by decide) dX64_digits_54 ?_
    refine r_pick E [2, 1, 0] rfl ?_
    exact hr25 (v6, v7)
theorem w_fX64_digits {K : zK} (E : zE K cX64_digits "RingHouse$Assembler" (some .long) 0) (hN : zNl K = 4) (hT : zTr K = (some 1)) : zR K 0 [(0, 66, 0)] [] (fX64_digits) := by
  refine r_aload_n E dX64_digits_0 rfl 0 rfl ?_
  refine r_get E zc_66 zt_6506 dX64_digits_1 q1635 zr_66 (zg_6506 _) (by decide) (fun v1 => ?_)
  refine r_aload_n E dX64_digits_4 rfl 0 rfl ?_
  refine r_get E zc_66 zt_6505 dX64_digits_5 q1634 zr_66 (zg_6505 _) (by decide) (fun v2 => ?_)
  refine r_isub E dX64_digits_8 ?_
  refine r_bipush E dX64_digits_9 (by decide) (zkI (by decide) (by decide)) ?_
  refine r_icmp_le E 18 (by decide) dX64_digits_11 (fun _ => ?_) (fun _ => ?_)
  · refine r_lconst (v := 0) E dX64_digits_18 (by decide) (zkJ (by decide) (by decide)) ?_
    refine r_lstore_n (ls' := [(1, 1, 0), (0, 66, 0)]) E dX64_digits_19 rfl (by rw [hN]; decide) rfl ?_
    refine r_aload_n E dX64_digits_20 rfl 1 rfl ?_
    refine r_get E zc_66 zt_6505 dX64_digits_21 q1634 zr_66 (zg_6505 _) (by decide) (fun v3 => ?_)
    refine r_istore_n (ls' := [(3, 0, v3), (1, 1, 0), (0, 66, 0)]) E dX64_digits_24 rfl (by rw [hN]; decide) rfl ?_
    refine r_pick E [2, 1, 0] rfl ?_
    exact r_loop (L := fun s => [(0, 66, 0), (1, 1, s.1), (3, 0, s.2)]) (w_fX64_digits_B25 E hN hT) zBIG (0, v3)
  · refine r_ldc2 (v := (-1)) E dX64_digits_14 q2910 (by decide) (zkJ (by decide) (by decide)) ?_
    exact r_lreturn E rfl hT dX64_digits_17
theorem k_fX64_digits (l : Launch) (G : zG) : zCt l G yX64_digits cX64_digits 4 (some .long) 0 [(66, 0)] (some 1) (fX64_digits) := zCt.of (by decide) (Nat.le_of_ble_eq_true rfl) (fun K E _ _ hN hT => w_fX64_digits E hN hT)
theorem dX64_number_0 : decode cX64_number 0 = .ok (.aload_n 0, 1) := by decide +kernel
theorem dX64_number_1 : decode cX64_number 1 = .ok (.invokevirtual 90, 3) := by decide +kernel
theorem dX64_number_4 : decode cX64_number 4 = .ok (.ifCond .ne 15, 3) := by decide +kernel
theorem dX64_number_7 : decode cX64_number 7 = .ok (.aload_n 0, 1) := by decide +kernel
theorem dX64_number_8 : decode cX64_number 8 = .ok (.iconst 1, 1) := by decide +kernel
theorem dX64_number_9 : decode cX64_number 9 = .ok (.aload_n 0, 1) := by decide +kernel
theorem dX64_number_10 : decode cX64_number 10 = .ok (.getfield 55, 3) := by decide +kernel
theorem dX64_number_13 : decode cX64_number 13 = .ok (.invokevirtual 68, 3) := by decide +kernel
theorem dX64_number_16 : decode cX64_number 16 = .ok (.pop, 1) := by decide +kernel
theorem dX64_number_17 : decode cX64_number 17 = .ok (.iconst (-1), 1) := by decide +kernel
theorem dX64_number_18 : decode cX64_number 18 = .ok (.ireturn, 1) := by decide +kernel
theorem dX64_number_19 : decode cX64_number 19 = .ok (.aload_n 0, 1) := by decide +kernel
theorem dX64_number_20 : decode cX64_number 20 = .ok (.invokevirtual 93, 3) := by decide +kernel
theorem dX64_number_23 : decode cX64_number 23 = .ok (.lstore_n 2, 1) := by decide +kernel
theorem dX64_number_24 : decode cX64_number 24 = .ok (.lload_n 2, 1) := by decide +kernel
theorem dX64_number_25 : decode cX64_number 25 = .ok (.lconst 0, 1) := by decide +kernel
theorem dX64_number_26 : decode cX64_number 26 = .ok (.lcmp, 1) := by decide +kernel
theorem dX64_number_27 : decode cX64_number 27 = .ok (.ifCond .lt 10, 3) := by decide +kernel
theorem dX64_number_30 : decode cX64_number 30 = .ok (.lload_n 2, 1) := by decide +kernel
theorem dX64_number_31 : decode cX64_number 31 = .ok (.iload_n 1, 1) := by decide +kernel
theorem dX64_number_32 : decode cX64_number 32 = .ok (.i2l, 1) := by decide +kernel
theorem dX64_number_33 : decode cX64_number 33 = .ok (.lcmp, 1) := by decide +kernel
theorem dX64_number_34 : decode cX64_number 34 = .ok (.ifCond .le 15, 3) := by decide +kernel
theorem dX64_number_37 : decode cX64_number 37 = .ok (.aload_n 0, 1) := by decide +kernel
theorem dX64_number_38 : decode cX64_number 38 = .ok (.iconst 3, 1) := by decide +kernel
theorem dX64_number_39 : decode cX64_number 39 = .ok (.aload_n 0, 1) := by decide +kernel
theorem dX64_number_40 : decode cX64_number 40 = .ok (.getfield 55, 3) := by decide +kernel
theorem dX64_number_43 : decode cX64_number 43 = .ok (.invokevirtual 68, 3) := by decide +kernel
theorem dX64_number_46 : decode cX64_number 46 = .ok (.pop, 1) := by decide +kernel
theorem dX64_number_47 : decode cX64_number 47 = .ok (.iconst (-1), 1) := by decide +kernel
theorem dX64_number_48 : decode cX64_number 48 = .ok (.ireturn, 1) := by decide +kernel
theorem dX64_number_49 : decode cX64_number 49 = .ok (.aload_n 0, 1) := by decide +kernel
theorem dX64_number_50 : decode cX64_number 50 = .ok (.invokevirtual 76, 3) := by decide +kernel
theorem dX64_number_53 : decode cX64_number 53 = .ok (.lload_n 2, 1) := by decide +kernel
theorem dX64_number_54 : decode cX64_number 54 = .ok (.l2i, 1) := by decide +kernel
theorem dX64_number_55 : decode cX64_number 55 = .ok (.ireturn, 1) := by decide +kernel
theorem zy_X64_number : yX64_number.cls ≠ "java/lang/invoke/MethodHandle" ∧ yX64_number.cls ≠ "java/lang/invoke/VarHandle" ∧ (parseMethodDescriptor yX64_number.desc).map (fun d => d.parameters.length) = some 1 := by decide +kernel
theorem w_fX64_number_J37 {K : zK} (E : zE K cX64_number "RingHouse$Assembler" (some .int) 2) (hN : zNl K = 4) (hT : zTr K = (some 0)) : zR K 37 [(0, 66, 0)] [] (fX64_number_J37) := by
  refine r_aload_n E dX64_number_37 rfl 0 rfl ?_
  refine r_iconst E dX64_number_38 (zkI (by decide) (by decide)) ?_
  refine r_aload_n E dX64_number_39 rfl 0 rfl ?_
  refine r_get E zc_66 zt_6505 dX64_number_40 q1634 zr_66 (zg_6505 _) (by decide) (fun v3 => ?_)
  refine r_callV E [(0, 3), (0, v3)] [] rfl zc_66 zr_66 (fun o _ => ⟨_, zw_X64.1 o, rfl⟩) (lw_V q2803 q2805 qs38 q291 q2806) dX64_number_43 zy_X64_wrong rfl (by omega) (by decide) (Nat.le_of_ble_eq_true rfl) (by decide) (fun l G => k_fX64_wrong l G 3 v3) (fun v4 => ?_)
  refine r_pop E (zn1 rfl) dX64_number_46 ?_
  refine r_iconst E dX64_number_47 (zkI (by decide) (by decide)) ?_
  exact r_ireturn E rfl hT dX64_number_48
theorem w_fX64_number {K : zK} (E : zE K cX64_number "RingHouse$Assembler" (some .int) 2) (hN : zNl K = 4) (hT : zTr K = (some 0)) (x1 : Int) : zR K 0 [(0, 66, 0), (1, 0, x1)] [] (fX64_number x1) := by
  refine r_aload_n E dX64_number_0 rfl 0 rfl ?_
  refine r_callV E [] [] rfl zc_66 zr_66 (fun o _ => ⟨_, zw_X64.1 o, rfl⟩) (lw_V q2915 q2917 qs53 q291 q2918) dX64_number_1 zy_X64_isNumber rfl (by omega) (by decide) (Nat.le_of_ble_eq_true rfl) (by decide) (fun l G => k_fX64_isNumber l G) (fun v1 => ?_)
  refine r_if_ne E 19 (by decide) dX64_number_4 (fun _ => ?_) (fun _ => ?_)
  · refine r_aload_n E dX64_number_19 rfl 0 rfl ?_
    refine r_callV E [] [] rfl zc_66 zr_66 (fun o _ => ⟨_, zw_X64.1 o, rfl⟩) (lw_V q2923 q2925 qs55 q291 q2926) dX64_number_20 zy_X64_digits rfl (by omega) (by decide) (Nat.le_of_ble_eq_true rfl) (by decide) (fun l G => k_fX64_digits l G) (fun v2 => ?_)
    refine r_lstore_n (ls' := [(2, 1, v2), (0, 66, 0), (1, 0, x1)]) E dX64_number_23 rfl (by rw [hN]; decide) rfl ?_
    refine r_lload_n E dX64_number_24 rfl 0 rfl ?_
    refine r_lconst (v := 0) E dX64_number_25 (by decide) (zkJ (by decide) (by decide)) ?_
    refine r_lcmp_lt E 37 (by decide) dX64_number_26 dX64_number_27 (fun _ => ?_) (fun _ => ?_)
    · refine r_pick E [1] rfl ?_
      exact w_fX64_number_J37 E hN hT
    · refine r_lload_n E dX64_number_30 rfl 0 rfl ?_
      refine r_iload_n E dX64_number_31 rfl 2 rfl ?_
      refine r_i2l E dX64_number_32 ?_
      refine r_lcmp_le E 49 (by decide) dX64_number_33 dX64_number_34 (fun _ => ?_) (fun _ => ?_)
      · refine r_aload_n E dX64_number_49 rfl 1 rfl ?_
        refine r_callV E [] [] rfl zc_66 zr_66 (fun o _ => ⟨_, zw_X64.1 o, rfl⟩) (lw_V q2796 q2798 qs37 q291 q2799) dX64_number_50 zy_X64_next rfl (by omega) (by decide) (Nat.le_of_ble_eq_true rfl) (by decide) (fun l G => k_fX64_next l G) (fun _ => ?_)
        refine r_lload_n E dX64_number_53 rfl 0 rfl ?_
        refine r_l2i E dX64_number_54 ?_
        exact r_ireturn E rfl hT dX64_number_55
      · refine r_pick E [1] rfl ?_
        exact w_fX64_number_J37 E hN hT
  · refine r_aload_n E dX64_number_7 rfl 0 rfl ?_
    refine r_iconst E dX64_number_8 (zkI (by decide) (by decide)) ?_
    refine r_aload_n E dX64_number_9 rfl 0 rfl ?_
    refine r_get E zc_66 zt_6505 dX64_number_10 q1634 zr_66 (zg_6505 _) (by decide) (fun v6 => ?_)
    refine r_callV E [(0, 1), (0, v6)] [] rfl zc_66 zr_66 (fun o _ => ⟨_, zw_X64.1 o, rfl⟩) (lw_V q2803 q2805 qs38 q291 q2806) dX64_number_13 zy_X64_wrong rfl (by omega) (by decide) (Nat.le_of_ble_eq_true rfl) (by decide) (fun l G => k_fX64_wrong l G 1 v6) (fun v7 => ?_)
    refine r_pop E (zn1 rfl) dX64_number_16 ?_
    refine r_iconst E dX64_number_17 (zkI (by decide) (by decide)) ?_
    exact r_ireturn E rfl hT dX64_number_18
theorem k_fX64_number (l : Launch) (G : zG) (x1 : Int) : zCt l G yX64_number cX64_number 4 (some .int) 2 [(66, 0), (0, x1)] (some 0) (fX64_number x1) := zCt.of (by decide) (Nat.le_of_ble_eq_true rfl) (fun K E _ _ hN hT => w_fX64_number E hN hT x1)
theorem dX64_put_0 : decode cX64_put 0 = .ok (.aload_n 0, 1) := by decide +kernel
theorem dX64_put_1 : decode cX64_put 1 = .ok (.getfield 117, 3) := by decide +kernel
theorem dX64_put_4 : decode cX64_put 4 = .ok (.ifCond .eq 27, 3) := by decide +kernel
theorem dX64_put_7 : decode cX64_put 7 = .ok (.aload_n 0, 1) := by decide +kernel
theorem dX64_put_8 : decode cX64_put 8 = .ok (.getfield 133, 3) := by decide +kernel
theorem dX64_put_11 : decode cX64_put 11 = .ok (.sipush 1024, 3) := by decide +kernel
theorem dX64_put_14 : decode cX64_put 14 = .ok (.if_icmp .ge 17, 3) := by decide +kernel
theorem dX64_put_17 : decode cX64_put 17 = .ok (.aload_n 0, 1) := by decide +kernel
theorem dX64_put_18 : decode cX64_put 18 = .ok (.getfield 38, 3) := by decide +kernel
theorem dX64_put_21 : decode cX64_put 21 = .ok (.aload_n 0, 1) := by decide +kernel
theorem dX64_put_22 : decode cX64_put 22 = .ok (.getfield 133, 3) := by decide +kernel
theorem dX64_put_25 : decode cX64_put 25 = .ok (.lload_n 1, 1) := by decide +kernel
theorem dX64_put_26 : decode cX64_put 26 = .ok (.ldc2_w 136, 3) := by decide +kernel
theorem dX64_put_29 : decode cX64_put 29 = .ok (.land, 1) := by decide +kernel
theorem dX64_put_30 : decode cX64_put 30 = .ok (.lastore, 1) := by decide +kernel
theorem dX64_put_31 : decode cX64_put 31 = .ok (.aload_n 0, 1) := by decide +kernel
theorem dX64_put_32 : decode cX64_put 32 = .ok (.dup, 1) := by decide +kernel
theorem dX64_put_33 : decode cX64_put 33 = .ok (.getfield 133, 3) := by decide +kernel
theorem dX64_put_36 : decode cX64_put 36 = .ok (.iconst 1, 1) := by decide +kernel
theorem dX64_put_37 : decode cX64_put 37 = .ok (.iadd, 1) := by decide +kernel
theorem dX64_put_38 : decode cX64_put 38 = .ok (.putfield 133, 3) := by decide +kernel
theorem dX64_put_41 : decode cX64_put 41 = .ok (.return_, 1) := by decide +kernel
theorem zy_X64_put : yX64_put.cls ≠ "java/lang/invoke/MethodHandle" ∧ yX64_put.cls ≠ "java/lang/invoke/VarHandle" ∧ (parseMethodDescriptor yX64_put.desc).map (fun d => d.parameters.length) = some 1 := by decide +kernel
theorem w_fX64_put_J31 {K : zK} (E : zE K cX64_put "RingHouse$Assembler" none 0) (hN : zNl K = 3) (hT : zTr K = none) : zR K 31 [(0, 66, 0)] [] (fX64_put_J31) := by
  refine r_aload_n E dX64_put_31 rfl 0 rfl ?_
  refine r_dup E (zn1 rfl) dX64_put_32 ?_
  refine r_get E zc_66 zt_6520 dX64_put_33 q1650 zr_66 (zg_6520 _) (by decide) (fun v2 => ?_)
  refine r_iconst E dX64_put_36 (zkI (by decide) (by decide)) ?_
  refine r_iadd E dX64_put_37 ?_
  refine r_put E zc_66 zt_6520 zo_6520 dX64_put_38 q1650 zr_66 zw_X64 zp_6520 (fun _ => rfl) (fun _ => rfl) (by decide) ?_
  exact r_return E rfl hT dX64_put_41
theorem w_fX64_put {K : zK} (E : zE K cX64_put "RingHouse$Assembler" none 0) (hN : zNl K = 3) (hT : zTr K = none) (x1 : Int) : zR K 0 [(0, 66, 0), (1, 1, x1)] [] (fX64_put x1) := by
  refine r_aload_n E dX64_put_0 rfl 0 rfl ?_
  refine r_get E zc_66 zt_6519 dX64_put_1 q1649 zr_66 (zg_6519 _) (by decide) (fun v1 => ?_)
  refine r_if_eq E 31 (by decide) dX64_put_4 (fun _ => ?_) (fun _ => ?_)
  · refine r_pick E [0] rfl ?_
    exact w_fX64_put_J31 E hN hT
  · refine r_aload_n E dX64_put_7 rfl 0 rfl ?_
    refine r_get E zc_66 zt_6520 dX64_put_8 q1650 zr_66 (zg_6520 _) (by decide) (fun v3 => ?_)
    refine r_sipush E dX64_put_11 (by decide) (zkI (by decide) (by decide)) ?_
    refine r_icmp_ge E 31 (by decide) dX64_put_14 (fun _ => ?_) (fun _ => ?_)
    · refine r_pick E [0] rfl ?_
      exact w_fX64_put_J31 E hN hT
    · refine r_aload_n E dX64_put_17 rfl 0 rfl ?_
      refine r_gec (y := 0) E zc_66 dX64_put_18 q1651 zr_66 (zh_6521 (by decide)) (by decide) ?_
      refine r_aload_n E dX64_put_21 rfl 0 rfl ?_
      refine r_get E zc_66 zt_6520 dX64_put_22 q1650 zr_66 (zg_6520 _) (by decide) (fun v4 => ?_)
      refine r_lload_n E dX64_put_25 rfl 1 rfl ?_
      refine r_ldc2 (v := 68719476735) E dX64_put_26 q2891 (by decide) (zkJ (by decide) (by decide)) ?_
      refine r_lmask (P := 68719476736) E 36 (by decide) (by decide) (by decide) dX64_put_29 ?_
      refine r_lastore E zc_6521 za_6521 zt_6521 zo_6521 zx_6521 rfl rfl dX64_put_30 (by decide) ?_
      refine r_pick E [0] rfl ?_
      exact w_fX64_put_J31 E hN hT
theorem k_fX64_put (l : Launch) (G : zG) (x1 : Int) : zCt l G yX64_put cX64_put 3 none 0 [(66, 0), (1, x1)] none (fX64_put x1) := zCt.of (by decide) (Nat.le_of_ble_eq_true rfl) (fun K E _ _ hN hT => w_fX64_put E hN hT x1)
theorem dX64_space_0 : decode cX64_space 0 = .ok (.aload_n 0, 1) := by decide +kernel
theorem dX64_space_1 : decode cX64_space 1 = .ok (.sipush 1023, 3) := by decide +kernel
theorem dX64_space_4 : decode cX64_space 4 = .ok (.invokevirtual 194, 3) := by decide +kernel
theorem dX64_space_7 : decode cX64_space 7 = .ok (.istore_n 1, 1) := by decide +kernel
theorem dX64_space_8 : decode cX64_space 8 = .ok (.aload_n 0, 1) := by decide +kernel
theorem dX64_space_9 : decode cX64_space 9 = .ok (.getfield 49, 3) := by decide +kernel
theorem dX64_space_12 : decode cX64_space 12 = .ok (.ifCond .le 5, 3) := by decide +kernel
theorem dX64_space_15 : decode cX64_space 15 = .ok (.iconst 0, 1) := by decide +kernel
theorem dX64_space_16 : decode cX64_space 16 = .ok (.ireturn, 1) := by decide +kernel
theorem dX64_space_17 : decode cX64_space 17 = .ok (.iconst 0, 1) := by decide +kernel
theorem dX64_space_18 : decode cX64_space 18 = .ok (.istore_n 2, 1) := by decide +kernel
theorem dX64_space_19 : decode cX64_space 19 = .ok (.iload_n 2, 1) := by decide +kernel
theorem dX64_space_20 : decode cX64_space 20 = .ok (.iload_n 1, 1) := by decide +kernel
theorem dX64_space_21 : decode cX64_space 21 = .ok (.if_icmp .ge 14, 3) := by decide +kernel
theorem dX64_space_24 : decode cX64_space 24 = .ok (.aload_n 0, 1) := by decide +kernel
theorem dX64_space_25 : decode cX64_space 25 = .ok (.lconst 0, 1) := by decide +kernel
theorem dX64_space_26 : decode cX64_space 26 = .ok (.invokevirtual 182, 3) := by decide +kernel
theorem dX64_space_29 : decode cX64_space 29 = .ok (.iinc 2 1, 3) := by decide +kernel
theorem dX64_space_32 : decode cX64_space 32 = .ok (.goto (-13), 3) := by decide +kernel
theorem dX64_space_35 : decode cX64_space 35 = .ok (.aload_n 0, 1) := by decide +kernel
theorem dX64_space_36 : decode cX64_space 36 = .ok (.invokevirtual 186, 3) := by decide +kernel
theorem dX64_space_39 : decode cX64_space 39 = .ok (.ireturn, 1) := by decide +kernel
theorem zy_X64_space : yX64_space.cls ≠ "java/lang/invoke/MethodHandle" ∧ yX64_space.cls ≠ "java/lang/invoke/VarHandle" ∧ (parseMethodDescriptor yX64_space.desc).map (fun d => d.parameters.length) = some 0 := by decide +kernel
theorem w_fX64_space_J35 {K : zK} (E : zE K cX64_space "RingHouse$Assembler" (some .boolean) 3) (hN : zNl K = 3) (hT : zTr K = (some 0)) : zR K 35 [(0, 66, 0)] [] (fX64_space_J35) := by
  refine r_aload_n E dX64_space_35 rfl 0 rfl ?_
  refine r_callV E [] [] rfl zc_66 zr_66 (fun o _ => ⟨_, zw_X64.1 o, rfl⟩) (lw_V q2892 q2894 qs48 q291 q2895) dX64_space_36 zy_X64_isEnd rfl (by omega) (by decide) (Nat.le_of_ble_eq_true rfl) (by decide) (fun l G => k_fX64_isEnd l G) (fun v3 => ?_)
  exact r_zreturnb E rfl hT dX64_space_39
theorem w_fX64_space_B19 {K : zK} (E : zE K cX64_space "RingHouse$Assembler" (some .boolean) 3) (hN : zNl K = 3) (hT : zTr K = (some 0)) (x1 : Int) : ∀ r19 : Int → zX, (∀ s : Int, zR K 19 [(0, 66, 0), (1, 0, x1), (2, 0, s)] [] (r19 s)) → ∀ s : Int, zR K 19 [(0, 66, 0), (1, 0, x1), (2, 0, s)] [] (fX64_space_B19 x1 r19 s) := by
  intro r19 hr19 x2
  refine r_iload_n E dX64_space_19 rfl 2 rfl ?_
  refine r_iload_n E dX64_space_20 rfl 1 rfl ?_
  refine r_icmp_ge E 35 (by decide) dX64_space_21 (fun _ => ?_) (fun _ => ?_)
  · refine r_pick E [0] rfl ?_
    exact w_fX64_space_J35 E hN hT
  · refine r_aload_n E dX64_space_24 rfl 0 rfl ?_
    refine r_lconst (v := 0) E dX64_space_25 (by decide) (zkJ (by decide) (by decide)) ?_
    refine r_callV E [(1, 0)] [] rfl zc_66 zr_66 (fun o _ => ⟨_, zw_X64.1 o, rfl⟩) (lw_V q2887 q2889 qs47 q291 q2890) dX64_space_26 zy_X64_put rfl (by omega) (by decide) (Nat.le_of_ble_eq_true rfl) (by decide) (fun l G => k_fX64_put l G 0) (fun _ => ?_)
    refine r_iinc (ls' := fun v5 => [(2, 0, v5), (0, 66, 0), (1, 0, x1)]) E 2 rfl (by rw [hN]; decide) (fun _ => rfl) dX64_space_29 (fun v5 _ => ?_)
    refine r_goto E 19 (by decide) dX64_space_32 ?_
    refine r_pick E [1, 2, 0] rfl ?_
    exact hr19 v5
theorem w_fX64_space {K : zK} (E : zE K cX64_space "RingHouse$Assembler" (some .boolean) 3) (hN : zNl K = 3) (hT : zTr K = (some 0)) : zR K 0 [(0, 66, 0)] [] (fX64_space) := by
  refine r_aload_n E dX64_space_0 rfl 0 rfl ?_
  refine r_sipush E dX64_space_1 (by decide) (zkI (by decide) (by decide)) ?_
  refine r_callV E [(0, 1023)] [] rfl zc_66 zr_66 (fun o _ => ⟨_, zw_X64.1 o, rfl⟩) (lw_V q2960 q2962 qs63 q291 q2963) dX64_space_4 zy_X64_number rfl (by omega) (by decide) (Nat.le_of_ble_eq_true rfl) (by decide) (fun l G => k_fX64_number l G 1023) (fun v1 => ?_)
  refine r_istore_n (ls' := [(1, 0, v1), (0, 66, 0)]) E dX64_space_7 rfl (by rw [hN]; decide) rfl ?_
  refine r_aload_n E dX64_space_8 rfl 1 rfl ?_
  refine r_get E zc_66 zt_6508 dX64_space_9 q1637 zr_66 (zg_6508 _) (by decide) (fun v2 => ?_)
  refine r_if_le E 17 (by decide) dX64_space_12 (fun _ => ?_) (fun _ => ?_)
  · refine r_iconst E dX64_space_17 (zkI (by decide) (by decide)) ?_
    refine r_istore_n (ls' := [(2, 0, 0), (1, 0, v1), (0, 66, 0)]) E dX64_space_18 rfl (by rw [hN]; decide) rfl ?_
    refine r_pick E [2, 1, 0] rfl ?_
    exact r_loop (L := fun s => [(0, 66, 0), (1, 0, v1), (2, 0, s)]) (w_fX64_space_B19 E hN hT v1) zBIG 0
  · refine r_iconst E dX64_space_15 (zkI (by decide) (by decide)) ?_
    exact r_zreturn E rfl hT (by decide) dX64_space_16
theorem k_fX64_space (l : Launch) (G : zG) : zCt l G yX64_space cX64_space 3 (some .boolean) 3 [(66, 0)] (some 0) (fX64_space) := zCt.of (by decide) (Nat.le_of_ble_eq_true rfl) (fun K E _ _ hN hT => w_fX64_space E hN hT)
theorem dX64_takes_0 : decode cX64_takes 0 = .ok (.aload_n 0, 1) := by decide +kernel
theorem dX64_takes_1 : decode cX64_takes 1 = .ok (.iload_n 1, 1) := by decide +kernel
theorem dX64_takes_2 : decode cX64_takes 2 = .ok (.invokevirtual 72, 3) := by decide +kernel
theorem dX64_takes_5 : decode cX64_takes 5 = .ok (.ifCond .ne 13, 3) := by decide +kernel
theorem dX64_takes_8 : decode cX64_takes 8 = .ok (.aload_n 0, 1) := by decide +kernel
theorem dX64_takes_9 : decode cX64_takes 9 = .ok (.iconst 1, 1) := by decide +kernel
theorem dX64_takes_10 : decode cX64_takes 10 = .ok (.aload_n 0, 1) := by decide +kernel
theorem dX64_takes_11 : decode cX64_takes 11 = .ok (.getfield 55, 3) := by decide +kernel
theorem dX64_takes_14 : decode cX64_takes 14 = .ok (.invokevirtual 68, 3) := by decide +kernel
theorem dX64_takes_17 : decode cX64_takes 17 = .ok (.ireturn, 1) := by decide +kernel
theorem dX64_takes_18 : decode cX64_takes 18 = .ok (.aload_n 0, 1) := by decide +kernel
theorem dX64_takes_19 : decode cX64_takes 19 = .ok (.invokevirtual 76, 3) := by decide +kernel
theorem dX64_takes_22 : decode cX64_takes 22 = .ok (.iconst 1, 1) := by decide +kernel
theorem dX64_takes_23 : decode cX64_takes 23 = .ok (.ireturn, 1) := by decide +kernel
theorem zy_X64_takes : yX64_takes.cls ≠ "java/lang/invoke/MethodHandle" ∧ yX64_takes.cls ≠ "java/lang/invoke/VarHandle" ∧ (parseMethodDescriptor yX64_takes.desc).map (fun d => d.parameters.length) = some 1 := by decide +kernel
theorem w_fX64_takes {K : zK} (E : zE K cX64_takes "RingHouse$Assembler" (some .boolean) 2) (hN : zNl K = 2) (hT : zTr K = (some 0)) (x1 : Int) : zR K 0 [(0, 66, 0), (1, 0, x1)] [] (fX64_takes x1) := by
  refine r_aload_n E dX64_takes_0 rfl 0 rfl ?_
  refine r_iload_n E dX64_takes_1 rfl 1 rfl ?_
  refine r_callV E [(0, x1)] [] rfl zc_66 zr_66 (fun o _ => ⟨_, zw_X64.1 o, rfl⟩) (lw_V q2807 q2809 qs39 q291 q2810) dX64_takes_2 zy_X64_is rfl (by omega) (by decide) (Nat.le_of_ble_eq_true rfl) (by decide) (fun l G => k_fX64_is l G x1) (fun v1 => ?_)
  refine r_if_ne E 18 (by decide) dX64_takes_5 (fun _ => ?_) (fun _ => ?_)
  · refine r_aload_n E dX64_takes_18 rfl 0 rfl ?_
    refine r_callV E [] [] rfl zc_66 zr_66 (fun o _ => ⟨_, zw_X64.1 o, rfl⟩) (lw_V q2796 q2798 qs37 q291 q2799) dX64_takes_19 zy_X64_next rfl (by omega) (by decide) (Nat.le_of_ble_eq_true rfl) (by decide) (fun l G => k_fX64_next l G) (fun _ => ?_)
    refine r_iconst E dX64_takes_22 (zkI (by decide) (by decide)) ?_
    exact r_zreturn E rfl hT (by decide) dX64_takes_23
  · refine r_aload_n E dX64_takes_8 rfl 0 rfl ?_
    refine r_iconst E dX64_takes_9 (zkI (by decide) (by decide)) ?_
    refine r_aload_n E dX64_takes_10 rfl 0 rfl ?_
    refine r_get E zc_66 zt_6505 dX64_takes_11 q1634 zr_66 (zg_6505 _) (by decide) (fun v3 => ?_)
    refine r_callV E [(0, 1), (0, v3)] [] rfl zc_66 zr_66 (fun o _ => ⟨_, zw_X64.1 o, rfl⟩) (lw_V q2803 q2805 qs38 q291 q2806) dX64_takes_14 zy_X64_wrong rfl (by omega) (by decide) (Nat.le_of_ble_eq_true rfl) (by decide) (fun l G => k_fX64_wrong l G 1 v3) (fun v4 => ?_)
    exact r_zreturnb E rfl hT dX64_takes_17
theorem k_fX64_takes (l : Launch) (G : zG) (x1 : Int) : zCt l G yX64_takes cX64_takes 2 (some .boolean) 2 [(66, 0), (0, x1)] (some 0) (fX64_takes x1) := zCt.of (by decide) (Nat.le_of_ble_eq_true rfl) (fun K E _ _ hN hT => w_fX64_takes E hN hT x1)
theorem dX64_term_0 : decode cX64_term 0 = .ok (.aload_n 0, 1) := by decide +kernel
theorem dX64_term_1 : decode cX64_term 1 = .ok (.getfield 55, 3) := by decide +kernel
theorem dX64_term_4 : decode cX64_term 4 = .ok (.istore_n 3, 1) := by decide +kernel
theorem dX64_term_5 : decode cX64_term 5 = .ok (.aload_n 0, 1) := by decide +kernel
theorem dX64_term_6 : decode cX64_term 6 = .ok (.invokevirtual 90, 3) := by decide +kernel
theorem dX64_term_9 : decode cX64_term 9 = .ok (.ifCond .eq 42, 3) := by decide +kernel
theorem dX64_term_12 : decode cX64_term 12 = .ok (.aload_n 0, 1) := by decide +kernel
theorem dX64_term_13 : decode cX64_term 13 = .ok (.invokevirtual 93, 3) := by decide +kernel
theorem dX64_term_16 : decode cX64_term 16 = .ok (.lstore 4, 2) := by decide +kernel
theorem dX64_term_18 : decode cX64_term 18 = .ok (.lload 4, 2) := by decide +kernel
theorem dX64_term_20 : decode cX64_term 20 = .ok (.lconst 0, 1) := by decide +kernel
theorem dX64_term_21 : decode cX64_term 21 = .ok (.lcmp, 1) := by decide +kernel
theorem dX64_term_22 : decode cX64_term 22 = .ok (.ifCond .ge 10, 3) := by decide +kernel
theorem dX64_term_25 : decode cX64_term 25 = .ok (.aload_n 0, 1) := by decide +kernel
theorem dX64_term_26 : decode cX64_term 26 = .ok (.iconst 3, 1) := by decide +kernel
theorem dX64_term_27 : decode cX64_term 27 = .ok (.iload_n 3, 1) := by decide +kernel
theorem dX64_term_28 : decode cX64_term 28 = .ok (.invokevirtual 68, 3) := by decide +kernel
theorem dX64_term_31 : decode cX64_term 31 = .ok (.ireturn, 1) := by decide +kernel
theorem dX64_term_32 : decode cX64_term 32 = .ok (.aload_n 0, 1) := by decide +kernel
theorem dX64_term_33 : decode cX64_term 33 = .ok (.dup, 1) := by decide +kernel
theorem dX64_term_34 : decode cX64_term 34 = .ok (.getfield 106, 3) := by decide +kernel
theorem dX64_term_37 : decode cX64_term 37 = .ok (.lload_n 1, 1) := by decide +kernel
theorem dX64_term_38 : decode cX64_term 38 = .ok (.lload 4, 2) := by decide +kernel
theorem dX64_term_40 : decode cX64_term 40 = .ok (.lmul, 1) := by decide +kernel
theorem dX64_term_41 : decode cX64_term 41 = .ok (.ladd, 1) := by decide +kernel
theorem dX64_term_42 : decode cX64_term 42 = .ok (.putfield 106, 3) := by decide +kernel
theorem dX64_term_45 : decode cX64_term 45 = .ok (.aload_n 0, 1) := by decide +kernel
theorem dX64_term_46 : decode cX64_term 46 = .ok (.invokevirtual 76, 3) := by decide +kernel
theorem dX64_term_49 : decode cX64_term 49 = .ok (.iconst 1, 1) := by decide +kernel
theorem dX64_term_50 : decode cX64_term 50 = .ok (.ireturn, 1) := by decide +kernel
theorem dX64_term_51 : decode cX64_term 51 = .ok (.aload_n 0, 1) := by decide +kernel
theorem dX64_term_52 : decode cX64_term 52 = .ok (.invokevirtual 110, 3) := by decide +kernel
theorem dX64_term_55 : decode cX64_term 55 = .ok (.lstore 4, 2) := by decide +kernel
theorem dX64_term_57 : decode cX64_term 57 = .ok (.aload_n 0, 1) := by decide +kernel
theorem dX64_term_58 : decode cX64_term 58 = .ok (.getfield 49, 3) := by decide +kernel
theorem dX64_term_61 : decode cX64_term 61 = .ok (.ifCond .le 5, 3) := by decide +kernel
theorem dX64_term_64 : decode cX64_term 64 = .ok (.iconst 0, 1) := by decide +kernel
theorem dX64_term_65 : decode cX64_term 65 = .ok (.ireturn, 1) := by decide +kernel
theorem dX64_term_66 : decode cX64_term 66 = .ok (.aload_n 0, 1) := by decide +kernel
theorem dX64_term_67 : decode cX64_term 67 = .ok (.lload 4, 2) := by decide +kernel
theorem dX64_term_69 : decode cX64_term 69 = .ok (.invokevirtual 113, 3) := by decide +kernel
theorem dX64_term_72 : decode cX64_term 72 = .ok (.istore 6, 2) := by decide +kernel
theorem dX64_term_74 : decode cX64_term 74 = .ok (.aload_n 0, 1) := by decide +kernel
theorem dX64_term_75 : decode cX64_term 75 = .ok (.getfield 117, 3) := by decide +kernel
theorem dX64_term_78 : decode cX64_term 78 = .ok (.ifCond .eq 15, 3) := by decide +kernel
theorem dX64_term_81 : decode cX64_term 81 = .ok (.iload 6, 2) := by decide +kernel
theorem dX64_term_83 : decode cX64_term 83 = .ok (.ifCond .ge 10, 3) := by decide +kernel
theorem dX64_term_86 : decode cX64_term 86 = .ok (.aload_n 0, 1) := by decide +kernel
theorem dX64_term_87 : decode cX64_term 87 = .ok (.iconst 5, 1) := by decide +kernel
theorem dX64_term_88 : decode cX64_term 88 = .ok (.iload_n 3, 1) := by decide +kernel
theorem dX64_term_89 : decode cX64_term 89 = .ok (.invokevirtual 68, 3) := by decide +kernel
theorem dX64_term_92 : decode cX64_term 92 = .ok (.ireturn, 1) := by decide +kernel
theorem dX64_term_93 : decode cX64_term 93 = .ok (.aload_n 0, 1) := by decide +kernel
theorem dX64_term_94 : decode cX64_term 94 = .ok (.dup, 1) := by decide +kernel
theorem dX64_term_95 : decode cX64_term 95 = .ok (.getfield 106, 3) := by decide +kernel
theorem dX64_term_98 : decode cX64_term 98 = .ok (.lload_n 1, 1) := by decide +kernel
theorem dX64_term_99 : decode cX64_term 99 = .ok (.iload 6, 2) := by decide +kernel
theorem dX64_term_101 : decode cX64_term 101 = .ok (.ifCond .ge 7, 3) := by decide +kernel
theorem dX64_term_104 : decode cX64_term 104 = .ok (.iconst 0, 1) := by decide +kernel
theorem dX64_term_105 : decode cX64_term 105 = .ok (.goto 10, 3) := by decide +kernel
theorem dX64_term_108 : decode cX64_term 108 = .ok (.aload_n 0, 1) := by decide +kernel
theorem dX64_term_109 : decode cX64_term 109 = .ok (.getfield 23, 3) := by decide +kernel
theorem dX64_term_112 : decode cX64_term 112 = .ok (.iload 6, 2) := by decide +kernel
theorem dX64_term_114 : decode cX64_term 114 = .ok (.iaload, 1) := by decide +kernel
theorem dX64_term_115 : decode cX64_term 115 = .ok (.i2l, 1) := by decide +kernel
theorem dX64_term_116 : decode cX64_term 116 = .ok (.lmul, 1) := by decide +kernel
theorem dX64_term_117 : decode cX64_term 117 = .ok (.ladd, 1) := by decide +kernel
theorem dX64_term_118 : decode cX64_term 118 = .ok (.putfield 106, 3) := by decide +kernel
theorem dX64_term_121 : decode cX64_term 121 = .ok (.iconst 1, 1) := by decide +kernel
theorem dX64_term_122 : decode cX64_term 122 = .ok (.ireturn, 1) := by decide +kernel
theorem zy_X64_term : yX64_term.cls ≠ "java/lang/invoke/MethodHandle" ∧ yX64_term.cls ≠ "java/lang/invoke/VarHandle" ∧ (parseMethodDescriptor yX64_term.desc).map (fun d => d.parameters.length) = some 1 := by decide +kernel
theorem w_fX64_term_J115 {K : zK} (E : zE K cX64_term "RingHouse$Assembler" (some .boolean) 3) (hN : zNl K = 7) (hT : zTr K = (some 0)) (s1 : Int) (s2 : Int) (s3 : Int) : zR K 115 [] [(0, s3), (1, s2), (1, s1), (66, 0)] (fX64_term_J115 s1 s2 s3) := by
  refine r_i2l E dX64_term_115 ?_
  refine r_lmul E dX64_term_116 ?_
  refine r_ladd E dX64_term_117 ?_
  refine r_put E zc_66 zt_6522 zo_6522 dX64_term_118 q1652 zr_66 zw_X64 zp_6522 (fun _ => rfl) (fun _ => rfl) (by decide) ?_
  refine r_iconst E dX64_term_121 (zkI (by decide) (by decide)) ?_
  exact r_zreturn E rfl hT (by decide) dX64_term_122
theorem w_fX64_term_J93 {K : zK} (E : zE K cX64_term "RingHouse$Assembler" (some .boolean) 3) (hN : zNl K = 7) (hT : zTr K = (some 0)) (x1 : Int) (x6 : Int) : zR K 93 [(0, 66, 0), (1, 1, x1), (6, 0, x6)] [] (fX64_term_J93 x1 x6) := by
  refine r_aload_n E dX64_term_93 rfl 0 rfl ?_
  refine r_dup E (zn1 rfl) dX64_term_94 ?_
  refine r_get E zc_66 zt_6522 dX64_term_95 q1652 zr_66 (zg_6522 _) (by decide) (fun v7 => ?_)
  refine r_lload_n E dX64_term_98 rfl 1 rfl ?_
  refine r_iload E dX64_term_99 2 rfl ?_
  refine r_if_ge E 108 (by decide) dX64_term_101 (fun _ => ?_) (fun _ => ?_)
  · refine r_aload_n E dX64_term_108 rfl 0 rfl ?_
    refine r_gec (y := 0) E zc_66 dX64_term_109 q1641 zr_66 (zh_6511 (by decide)) (by decide) ?_
    refine r_iload E dX64_term_112 2 rfl ?_
    refine r_iaload E zc_6511 za_6511 zt_6511 zx_6511 rfl rfl dX64_term_114 (by decide) (fun v8 => ?_)
    refine r_pick E [] rfl ?_
    exact w_fX64_term_J115 E hN hT v7 x1 v8
  · refine r_iconst E dX64_term_104 (zkI (by decide) (by decide)) ?_
    refine r_goto E 115 (by decide) dX64_term_105 ?_
    refine r_pick E [] rfl ?_
    exact w_fX64_term_J115 E hN hT v7 x1 0
theorem w_fX64_term {K : zK} (E : zE K cX64_term "RingHouse$Assembler" (some .boolean) 3) (hN : zNl K = 7) (hT : zTr K = (some 0)) (x1 : Int) : zR K 0 [(0, 66, 0), (1, 1, x1)] [] (fX64_term x1) := by
  refine r_aload_n E dX64_term_0 rfl 0 rfl ?_
  refine r_get E zc_66 zt_6505 dX64_term_1 q1634 zr_66 (zg_6505 _) (by decide) (fun v1 => ?_)
  refine r_istore_n (ls' := [(3, 0, v1), (0, 66, 0), (1, 1, x1)]) E dX64_term_4 rfl (by rw [hN]; decide) rfl ?_
  refine r_aload_n E dX64_term_5 rfl 1 rfl ?_
  refine r_callV E [] [] rfl zc_66 zr_66 (fun o _ => ⟨_, zw_X64.1 o, rfl⟩) (lw_V q2915 q2917 qs53 q291 q2918) dX64_term_6 zy_X64_isNumber rfl (by omega) (by decide) (Nat.le_of_ble_eq_true rfl) (by decide) (fun l G => k_fX64_isNumber l G) (fun v2 => ?_)
  refine r_if_eq E 51 (by decide) dX64_term_9 (fun _ => ?_) (fun _ => ?_)
  · refine r_aload_n E dX64_term_51 rfl 1 rfl ?_
    refine r_callV E [] [] rfl zc_66 zr_66 (fun o _ => ⟨_, zw_X64.1 o, rfl⟩) (lw_V q2929 q2931 qs56 q291 q2932) dX64_term_52 zy_X64_name rfl (by omega) (by decide) (Nat.le_of_ble_eq_true rfl) (by decide) (fun l G => k_fX64_name l G) (fun v3 => ?_)
    refine r_lstore (ls' := [(4, 1, v3), (3, 0, v1), (0, 66, 0), (1, 1, x1)]) E dX64_term_55 (by rw [hN]; decide) rfl ?_
    refine r_aload_n E dX64_term_57 rfl 2 rfl ?_
    refine r_get E zc_66 zt_6508 dX64_term_58 q1637 zr_66 (zg_6508 _) (by decide) (fun v4 => ?_)
    refine r_if_le E 66 (by decide) dX64_term_61 (fun _ => ?_) (fun _ => ?_)
    · refine r_aload_n E dX64_term_66 rfl 2 rfl ?_
      refine r_lload E dX64_term_67 0 rfl ?_
      refine r_callV E [(1, v3)] [] rfl zc_66 zr_66 (fun o _ => ⟨_, zw_X64.1 o, rfl⟩) (lw_V q2819 q2821 qs42 q291 q2822) dX64_term_69 zy_X64_findLabel rfl (by omega) (by decide) (Nat.le_of_ble_eq_true rfl) (by decide) (fun l G => k_fX64_findLabel l G v3) (fun v5 => ?_)
      refine r_istore (ls' := [(6, 0, v5), (4, 1, v3), (3, 0, v1), (0, 66, 0), (1, 1, x1)]) E dX64_term_72 (by rw [hN]; decide) rfl ?_
      refine r_aload_n E dX64_term_74 rfl 3 rfl ?_
      refine r_get E zc_66 zt_6519 dX64_term_75 q1649 zr_66 (zg_6519 _) (by decide) (fun v6 => ?_)
      refine r_if_eq E 93 (by decide) dX64_term_78 (fun _ => ?_) (fun _ => ?_)
      · refine r_pick E [3, 4, 0] rfl ?_
        exact w_fX64_term_J93 E hN hT x1 v5
      · refine r_iload E dX64_term_81 0 rfl ?_
        refine r_if_ge E 93 (by decide) dX64_term_83 (fun _ => ?_) (fun _ => ?_)
        · refine r_pick E [3, 4, 0] rfl ?_
          exact w_fX64_term_J93 E hN hT x1 v5
        · refine r_aload_n E dX64_term_86 rfl 3 rfl ?_
          refine r_iconst E dX64_term_87 (zkI (by decide) (by decide)) ?_
          refine r_iload_n E dX64_term_88 rfl 2 rfl ?_
          refine r_callV E [(0, 5), (0, v1)] [] rfl zc_66 zr_66 (fun o _ => ⟨_, zw_X64.1 o, rfl⟩) (lw_V q2803 q2805 qs38 q291 q2806) dX64_term_89 zy_X64_wrong rfl (by omega) (by decide) (Nat.le_of_ble_eq_true rfl) (by decide) (fun l G => k_fX64_wrong l G 5 v1) (fun v9 => ?_)
          exact r_zreturnb E rfl hT dX64_term_92
    · refine r_iconst E dX64_term_64 (zkI (by decide) (by decide)) ?_
      exact r_zreturn E rfl hT (by decide) dX64_term_65
  · refine r_aload_n E dX64_term_12 rfl 1 rfl ?_
    refine r_callV E [] [] rfl zc_66 zr_66 (fun o _ => ⟨_, zw_X64.1 o, rfl⟩) (lw_V q2923 q2925 qs55 q291 q2926) dX64_term_13 zy_X64_digits rfl (by omega) (by decide) (Nat.le_of_ble_eq_true rfl) (by decide) (fun l G => k_fX64_digits l G) (fun v10 => ?_)
    refine r_lstore (ls' := [(4, 1, v10), (3, 0, v1), (0, 66, 0), (1, 1, x1)]) E dX64_term_16 (by rw [hN]; decide) rfl ?_
    refine r_lload E dX64_term_18 0 rfl ?_
    refine r_lconst (v := 0) E dX64_term_20 (by decide) (zkJ (by decide) (by decide)) ?_
    refine r_lcmp_ge E 32 (by decide) dX64_term_21 dX64_term_22 (fun _ => ?_) (fun _ => ?_)
    · refine r_aload_n E dX64_term_32 rfl 2 rfl ?_
      refine r_dup E (zn1 rfl) dX64_term_33 ?_
      refine r_get E zc_66 zt_6522 dX64_term_34 q1652 zr_66 (zg_6522 _) (by decide) (fun v11 => ?_)
      refine r_lload_n E dX64_term_37 rfl 3 rfl ?_
      refine r_lload E dX64_term_38 0 rfl ?_
      refine r_lmul E dX64_term_40 ?_
      refine r_ladd E dX64_term_41 ?_
      refine r_put E zc_66 zt_6522 zo_6522 dX64_term_42 q1652 zr_66 zw_X64 zp_6522 (fun _ => rfl) (fun _ => rfl) (by decide) ?_
      refine r_aload_n E dX64_term_45 rfl 2 rfl ?_
      refine r_callV E [] [] rfl zc_66 zr_66 (fun o _ => ⟨_, zw_X64.1 o, rfl⟩) (lw_V q2796 q2798 qs37 q291 q2799) dX64_term_46 zy_X64_next rfl (by omega) (by decide) (Nat.le_of_ble_eq_true rfl) (by decide) (fun l G => k_fX64_next l G) (fun _ => ?_)
      refine r_iconst E dX64_term_49 (zkI (by decide) (by decide)) ?_
      exact r_zreturn E rfl hT (by decide) dX64_term_50
    · refine r_aload_n E dX64_term_25 rfl 2 rfl ?_
      refine r_iconst E dX64_term_26 (zkI (by decide) (by decide)) ?_
      refine r_iload_n E dX64_term_27 rfl 1 rfl ?_
      refine r_callV E [(0, 3), (0, v1)] [] rfl zc_66 zr_66 (fun o _ => ⟨_, zw_X64.1 o, rfl⟩) (lw_V q2803 q2805 qs38 q291 q2806) dX64_term_28 zy_X64_wrong rfl (by omega) (by decide) (Nat.le_of_ble_eq_true rfl) (by decide) (fun l G => k_fX64_wrong l G 3 v1) (fun v13 => ?_)
      exact r_zreturnb E rfl hT dX64_term_31
theorem k_fX64_term (l : Launch) (G : zG) (x1 : Int) : zCt l G yX64_term cX64_term 7 (some .boolean) 3 [(66, 0), (1, x1)] (some 0) (fX64_term x1) := zCt.of (by decide) (Nat.le_of_ble_eq_true rfl) (fun K E _ _ hN hT => w_fX64_term E hN hT x1)
theorem dX64_expression_0 : decode cX64_expression 0 = .ok (.aload_n 0, 1) := by decide +kernel
theorem dX64_expression_1 : decode cX64_expression 1 = .ok (.getfield 55, 3) := by decide +kernel
theorem dX64_expression_4 : decode cX64_expression 4 = .ok (.istore 5, 2) := by decide +kernel
theorem dX64_expression_6 : decode cX64_expression 6 = .ok (.aload_n 0, 1) := by decide +kernel
theorem dX64_expression_7 : decode cX64_expression 7 = .ok (.lconst 0, 1) := by decide +kernel
theorem dX64_expression_8 : decode cX64_expression 8 = .ok (.putfield 106, 3) := by decide +kernel
theorem dX64_expression_11 : decode cX64_expression 11 = .ok (.lconst 1, 1) := by decide +kernel
theorem dX64_expression_12 : decode cX64_expression 12 = .ok (.lstore 6, 2) := by decide +kernel
theorem dX64_expression_14 : decode cX64_expression 14 = .ok (.aload_n 0, 1) := by decide +kernel
theorem dX64_expression_15 : decode cX64_expression 15 = .ok (.bipush 45, 2) := by decide +kernel
theorem dX64_expression_17 : decode cX64_expression 17 = .ok (.invokevirtual 72, 3) := by decide +kernel
theorem dX64_expression_20 : decode cX64_expression 20 = .ok (.ifCond .eq 12, 3) := by decide +kernel
theorem dX64_expression_23 : decode cX64_expression 23 = .ok (.ldc2_w 97, 3) := by decide +kernel
theorem dX64_expression_26 : decode cX64_expression 26 = .ok (.lstore 6, 2) := by decide +kernel
theorem dX64_expression_28 : decode cX64_expression 28 = .ok (.aload_n 0, 1) := by decide +kernel
theorem dX64_expression_29 : decode cX64_expression 29 = .ok (.invokevirtual 76, 3) := by decide +kernel
theorem dX64_expression_32 : decode cX64_expression 32 = .ok (.iconst 1, 1) := by decide +kernel
theorem dX64_expression_33 : decode cX64_expression 33 = .ok (.istore 8, 2) := by decide +kernel
theorem dX64_expression_35 : decode cX64_expression 35 = .ok (.iload 8, 2) := by decide +kernel
theorem dX64_expression_37 : decode cX64_expression 37 = .ok (.ifCond .eq 69, 3) := by decide +kernel
theorem dX64_expression_40 : decode cX64_expression 40 = .ok (.aload_n 0, 1) := by decide +kernel
theorem dX64_expression_41 : decode cX64_expression 41 = .ok (.lload 6, 2) := by decide +kernel
theorem dX64_expression_43 : decode cX64_expression 43 = .ok (.invokevirtual 121, 3) := by decide +kernel
theorem dX64_expression_46 : decode cX64_expression 46 = .ok (.ifCond .ne 5, 3) := by decide +kernel
theorem dX64_expression_49 : decode cX64_expression 49 = .ok (.iconst 0, 1) := by decide +kernel
theorem dX64_expression_50 : decode cX64_expression 50 = .ok (.ireturn, 1) := by decide +kernel
theorem dX64_expression_51 : decode cX64_expression 51 = .ok (.aload_n 0, 1) := by decide +kernel
theorem dX64_expression_52 : decode cX64_expression 52 = .ok (.bipush 43, 2) := by decide +kernel
theorem dX64_expression_54 : decode cX64_expression 54 = .ok (.invokevirtual 72, 3) := by decide +kernel
theorem dX64_expression_57 : decode cX64_expression 57 = .ok (.ifCond .ne 12, 3) := by decide +kernel
theorem dX64_expression_60 : decode cX64_expression 60 = .ok (.aload_n 0, 1) := by decide +kernel
theorem dX64_expression_61 : decode cX64_expression 61 = .ok (.bipush 45, 2) := by decide +kernel
theorem dX64_expression_63 : decode cX64_expression 63 = .ok (.invokevirtual 72, 3) := by decide +kernel
theorem dX64_expression_66 : decode cX64_expression 66 = .ok (.ifCond .eq 7, 3) := by decide +kernel
theorem dX64_expression_69 : decode cX64_expression 69 = .ok (.iconst 1, 1) := by decide +kernel
theorem dX64_expression_70 : decode cX64_expression 70 = .ok (.goto 4, 3) := by decide +kernel
theorem dX64_expression_73 : decode cX64_expression 73 = .ok (.iconst 0, 1) := by decide +kernel
theorem dX64_expression_74 : decode cX64_expression 74 = .ok (.istore 8, 2) := by decide +kernel
theorem dX64_expression_76 : decode cX64_expression 76 = .ok (.iload 8, 2) := by decide +kernel
theorem dX64_expression_78 : decode cX64_expression 78 = .ok (.ifCond .eq (-43), 3) := by decide +kernel
theorem dX64_expression_81 : decode cX64_expression 81 = .ok (.aload_n 0, 1) := by decide +kernel
theorem dX64_expression_82 : decode cX64_expression 82 = .ok (.bipush 43, 2) := by decide +kernel
theorem dX64_expression_84 : decode cX64_expression 84 = .ok (.invokevirtual 72, 3) := by decide +kernel
theorem dX64_expression_87 : decode cX64_expression 87 = .ok (.ifCond .eq 7, 3) := by decide +kernel
theorem dX64_expression_90 : decode cX64_expression 90 = .ok (.lconst 1, 1) := by decide +kernel
theorem dX64_expression_91 : decode cX64_expression 91 = .ok (.goto 6, 3) := by decide +kernel
theorem dX64_expression_94 : decode cX64_expression 94 = .ok (.ldc2_w 97, 3) := by decide +kernel
theorem dX64_expression_97 : decode cX64_expression 97 = .ok (.lstore 6, 2) := by decide +kernel
theorem dX64_expression_99 : decode cX64_expression 99 = .ok (.aload_n 0, 1) := by decide +kernel
theorem dX64_expression_100 : decode cX64_expression 100 = .ok (.invokevirtual 76, 3) := by decide +kernel
theorem dX64_expression_103 : decode cX64_expression 103 = .ok (.goto (-68), 3) := by decide +kernel
theorem dX64_expression_106 : decode cX64_expression 106 = .ok (.aload_n 0, 1) := by decide +kernel
theorem dX64_expression_107 : decode cX64_expression 107 = .ok (.getfield 117, 3) := by decide +kernel
theorem dX64_expression_110 : decode cX64_expression 110 = .ok (.ifCond .eq 31, 3) := by decide +kernel
theorem dX64_expression_113 : decode cX64_expression 113 = .ok (.aload_n 0, 1) := by decide +kernel
theorem dX64_expression_114 : decode cX64_expression 114 = .ok (.getfield 106, 3) := by decide +kernel
theorem dX64_expression_117 : decode cX64_expression 117 = .ok (.lload_n 1, 1) := by decide +kernel
theorem dX64_expression_118 : decode cX64_expression 118 = .ok (.lcmp, 1) := by decide +kernel
theorem dX64_expression_119 : decode cX64_expression 119 = .ok (.ifCond .lt 12, 3) := by decide +kernel
theorem dX64_expression_122 : decode cX64_expression 122 = .ok (.aload_n 0, 1) := by decide +kernel
theorem dX64_expression_123 : decode cX64_expression 123 = .ok (.getfield 106, 3) := by decide +kernel
theorem dX64_expression_126 : decode cX64_expression 126 = .ok (.lload_n 3, 1) := by decide +kernel
theorem dX64_expression_127 : decode cX64_expression 127 = .ok (.lcmp, 1) := by decide +kernel
theorem dX64_expression_128 : decode cX64_expression 128 = .ok (.ifCond .le 13, 3) := by decide +kernel
theorem dX64_expression_131 : decode cX64_expression 131 = .ok (.aload_n 0, 1) := by decide +kernel
theorem dX64_expression_132 : decode cX64_expression 132 = .ok (.iconst 3, 1) := by decide +kernel
theorem dX64_expression_133 : decode cX64_expression 133 = .ok (.iload 5, 2) := by decide +kernel
theorem dX64_expression_135 : decode cX64_expression 135 = .ok (.invokevirtual 68, 3) := by decide +kernel
theorem dX64_expression_138 : decode cX64_expression 138 = .ok (.ifCond .eq 7, 3) := by decide +kernel
theorem dX64_expression_141 : decode cX64_expression 141 = .ok (.iconst 1, 1) := by decide +kernel
theorem dX64_expression_142 : decode cX64_expression 142 = .ok (.goto 4, 3) := by decide +kernel
theorem dX64_expression_145 : decode cX64_expression 145 = .ok (.iconst 0, 1) := by decide +kernel
theorem dX64_expression_146 : decode cX64_expression 146 = .ok (.ireturn, 1) := by decide +kernel
theorem zy_X64_expression : yX64_expression.cls ≠ "java/lang/invoke/MethodHandle" ∧ yX64_expression.cls ≠ "java/lang/invoke/VarHandle" ∧ (parseMethodDescriptor yX64_expression.desc).map (fun d => d.parameters.length) = some 2 := by decide +kernel
theorem w_fX64_expression_J131 {K : zK} (E : zE K cX64_expression "RingHouse$Assembler" (some .boolean) 4) (hN : zNl K = 9) (hT : zTr K = (some 0)) (x5 : Int) : zR K 131 [(0, 66, 0), (5, 0, x5)] [] (fX64_expression_J131 x5) := by
  refine r_aload_n E dX64_expression_131 rfl 0 rfl ?_
  refine r_iconst E dX64_expression_132 (zkI (by decide) (by decide)) ?_
  refine r_iload E dX64_expression_133 1 rfl ?_
  refine r_callV E [(0, 3), (0, x5)] [] rfl zc_66 zr_66 (fun o _ => ⟨_, zw_X64.1 o, rfl⟩) (lw_V q2803 q2805 qs38 q291 q2806) dX64_expression_135 zy_X64_wrong rfl (by omega) (by decide) (Nat.le_of_ble_eq_true rfl) (by decide) (fun l G => k_fX64_wrong l G 3 x5) (fun v5 => ?_)
  refine r_if_eq E 145 (by decide) dX64_expression_138 (fun _ => ?_) (fun _ => ?_)
  · refine r_iconst E dX64_expression_145 (zkI (by decide) (by decide)) ?_
    exact r_zreturn E rfl hT (by decide) dX64_expression_146
  · refine r_iconst E dX64_expression_141 (zkI (by decide) (by decide)) ?_
    refine r_goto E 146 (by decide) dX64_expression_142 ?_
    exact r_zreturn E rfl hT (by decide) dX64_expression_146
theorem w_fX64_expression_J106 {K : zK} (E : zE K cX64_expression "RingHouse$Assembler" (some .boolean) 4) (hN : zNl K = 9) (hT : zTr K = (some 0)) (x1 : Int) (x3 : Int) (x5 : Int) : zR K 106 [(0, 66, 0), (1, 1, x1), (3, 1, x3), (5, 0, x5)] [] (fX64_expression_J106 x1 x3 x5) := by
  refine r_aload_n E dX64_expression_106 rfl 0 rfl ?_
  refine r_get E zc_66 zt_6519 dX64_expression_107 q1649 zr_66 (zg_6519 _) (by decide) (fun v3 => ?_)
  refine r_if_eq E 141 (by decide) dX64_expression_110 (fun _ => ?_) (fun _ => ?_)
  · refine r_iconst E dX64_expression_141 (zkI (by decide) (by decide)) ?_
    refine r_goto E 146 (by decide) dX64_expression_142 ?_
    exact r_zreturn E rfl hT (by decide) dX64_expression_146
  · refine r_aload_n E dX64_expression_113 rfl 0 rfl ?_
    refine r_get E zc_66 zt_6522 dX64_expression_114 q1652 zr_66 (zg_6522 _) (by decide) (fun v4 => ?_)
    refine r_lload_n E dX64_expression_117 rfl 1 rfl ?_
    refine r_lcmp_lt E 131 (by decide) dX64_expression_118 dX64_expression_119 (fun _ => ?_) (fun _ => ?_)
    · refine r_pick E [0, 3] rfl ?_
      exact w_fX64_expression_J131 E hN hT x5
    · refine r_aload_n E dX64_expression_122 rfl 0 rfl ?_
      refine r_get E zc_66 zt_6522 dX64_expression_123 q1652 zr_66 (zg_6522 _) (by decide) (fun v6 => ?_)
      refine r_lload_n E dX64_expression_126 rfl 2 rfl ?_
      refine r_lcmp_le E 141 (by decide) dX64_expression_127 dX64_expression_128 (fun _ => ?_) (fun _ => ?_)
      · refine r_iconst E dX64_expression_141 (zkI (by decide) (by decide)) ?_
        refine r_goto E 146 (by decide) dX64_expression_142 ?_
        exact r_zreturn E rfl hT (by decide) dX64_expression_146
      · refine r_pick E [0, 3] rfl ?_
        exact w_fX64_expression_J131 E hN hT x5
theorem w_fX64_expression_J97 {K : zK} (E : zE K cX64_expression "RingHouse$Assembler" (some .boolean) 4) (hN : zNl K = 9) (hT : zTr K = (some 0)) (x1 : Int) (x3 : Int) (x5 : Int) (x8 : Int) (s0 : Int) {r35 : Int × Int → zX} (hr35 : ∀ s : Int × Int, zR K 35 [(0, 66, 0), (1, 1, x1), (3, 1, x3), (5, 0, x5), (6, 1, s.1), (8, 0, s.2)] [] (r35 s)) : zR K 97 [(0, 66, 0), (1, 1, x1), (3, 1, x3), (5, 0, x5), (8, 0, x8)] [(1, s0)] (fX64_expression_J97 r35 x1 x3 x5 x8 s0) := by
  refine r_lstore (ls' := [(6, 1, s0), (0, 66, 0), (1, 1, x1), (3, 1, x3), (5, 0, x5), (8, 0, x8)]) E dX64_expression_97 (by rw [hN]; decide) rfl ?_
  refine r_aload_n E dX64_expression_99 rfl 1 rfl ?_
  refine r_callV E [] [] rfl zc_66 zr_66 (fun o _ => ⟨_, zw_X64.1 o, rfl⟩) (lw_V q2796 q2798 qs37 q291 q2799) dX64_expression_100 zy_X64_next rfl (by omega) (by decide) (Nat.le_of_ble_eq_true rfl) (by decide) (fun l G => k_fX64_next l G) (fun _ => ?_)
  refine r_goto E 35 (by decide) dX64_expression_103 ?_
  refine r_pick E [1, 2, 3, 4, 0, 5] rfl ?_
  exact hr35 (s0, x8)
theorem w_fX64_expression_J74 {K : zK} (E : zE K cX64_expression "RingHouse$Assembler" (some .boolean) 4) (hN : zNl K = 9) (hT : zTr K = (some 0)) (x1 : Int) (x3 : Int) (x5 : Int) (x6 : Int) (s0 : Int) {r35 : Int × Int → zX} (hr35 : ∀ s : Int × Int, zR K 35 [(0, 66, 0), (1, 1, x1), (3, 1, x3), (5, 0, x5), (6, 1, s.1), (8, 0, s.2)] [] (r35 s)) : zR K 74 [(0, 66, 0), (1, 1, x1), (3, 1, x3), (5, 0, x5), (6, 1, x6)] [(0, s0)] (fX64_expression_J74 r35 x1 x3 x5 x6 s0) := by
  refine r_istore (ls' := [(8, 0, s0), (0, 66, 0), (1, 1, x1), (3, 1, x3), (5, 0, x5), (6, 1, x6)]) E dX64_expression_74 (by rw [hN]; decide) rfl ?_
  refine r_iload E dX64_expression_76 0 rfl ?_
  refine r_if_eq E 35 (by decide) dX64_expression_78 (fun _ => ?_) (fun _ => ?_)
  · refine r_pick E [1, 2, 3, 4, 5, 0] rfl ?_
    exact hr35 (x6, s0)
  · refine r_aload_n E dX64_expression_81 rfl 1 rfl ?_
    refine r_bipush E dX64_expression_82 (by decide) (zkI (by decide) (by decide)) ?_
    refine r_callV E [(0, 43)] [] rfl zc_66 zr_66 (fun o _ => ⟨_, zw_X64.1 o, rfl⟩) (lw_V q2807 q2809 qs39 q291 q2810) dX64_expression_84 zy_X64_is rfl (by omega) (by decide) (Nat.le_of_ble_eq_true rfl) (by decide) (fun l G => k_fX64_is l G 43) (fun v9 => ?_)
    refine r_if_eq E 94 (by decide) dX64_expression_87 (fun _ => ?_) (fun _ => ?_)
    · refine r_ldc2 (v := (-1)) E dX64_expression_94 q2910 (by decide) (zkJ (by decide) (by decide)) ?_
      refine r_pick E [1, 2, 3, 4, 0] rfl ?_
      exact w_fX64_expression_J97 E hN hT x1 x3 x5 s0 (-1) hr35
    · refine r_lconst (v := 1) E dX64_expression_90 (by decide) (zkJ (by decide) (by decide)) ?_
      refine r_goto E 97 (by decide) dX64_expression_91 ?_
      refine r_pick E [1, 2, 3, 4, 0] rfl ?_
      exact w_fX64_expression_J97 E hN hT x1 x3 x5 s0 1 hr35
theorem w_fX64_expression_J69 {K : zK} (E : zE K cX64_expression "RingHouse$Assembler" (some .boolean) 4) (hN : zNl K = 9) (hT : zTr K = (some 0)) (x1 : Int) (x3 : Int) (x5 : Int) (x6 : Int) {r35 : Int × Int → zX} (hr35 : ∀ s : Int × Int, zR K 35 [(0, 66, 0), (1, 1, x1), (3, 1, x3), (5, 0, x5), (6, 1, s.1), (8, 0, s.2)] [] (r35 s)) : zR K 69 [(0, 66, 0), (1, 1, x1), (3, 1, x3), (5, 0, x5), (6, 1, x6)] [] (fX64_expression_J69 r35 x1 x3 x5 x6) := by
  refine r_iconst E dX64_expression_69 (zkI (by decide) (by decide)) ?_
  refine r_goto E 74 (by decide) dX64_expression_70 ?_
  exact w_fX64_expression_J74 E hN hT x1 x3 x5 x6 1 hr35
theorem w_fX64_expression_B35 {K : zK} (E : zE K cX64_expression "RingHouse$Assembler" (some .boolean) 4) (hN : zNl K = 9) (hT : zTr K = (some 0)) (x1 : Int) (x3 : Int) (x5 : Int) : ∀ r35 : Int × Int → zX, (∀ s : Int × Int, zR K 35 [(0, 66, 0), (1, 1, x1), (3, 1, x3), (5, 0, x5), (6, 1, s.1), (8, 0, s.2)] [] (r35 s)) → ∀ s : Int × Int, zR K 35 [(0, 66, 0), (1, 1, x1), (3, 1, x3), (5, 0, x5), (6, 1, s.1), (8, 0, s.2)] [] (fX64_expression_B35 x1 x3 x5 r35 s) := by
  intro r35 hr35 s
  obtain ⟨x6, x8⟩ := s
  refine r_iload E dX64_expression_35 5 rfl ?_
  refine r_if_eq E 106 (by decide) dX64_expression_37 (fun _ => ?_) (fun _ => ?_)
  · refine r_pick E [0, 1, 2, 3] rfl ?_
    exact w_fX64_expression_J106 E hN hT x1 x3 x5
  · refine r_aload_n E dX64_expression_40 rfl 0 rfl ?_
    refine r_lload E dX64_expression_41 4 rfl ?_
    refine r_callV E [(1, x6)] [] rfl zc_66 zr_66 (fun o _ => ⟨_, zw_X64.1 o, rfl⟩) (lw_V q2911 q2913 qs52 q291 q2914) dX64_expression_43 zy_X64_term rfl (by omega) (by decide) (Nat.le_of_ble_eq_true rfl) (by decide) (fun l G => k_fX64_term l G x6) (fun v7 => ?_)
    refine r_if_ne E 51 (by decide) dX64_expression_46 (fun _ => ?_) (fun _ => ?_)
    · refine r_aload_n E dX64_expression_51 rfl 0 rfl ?_
      refine r_bipush E dX64_expression_52 (by decide) (zkI (by decide) (by decide)) ?_
      refine r_callV E [(0, 43)] [] rfl zc_66 zr_66 (fun o _ => ⟨_, zw_X64.1 o, rfl⟩) (lw_V q2807 q2809 qs39 q291 q2810) dX64_expression_54 zy_X64_is rfl (by omega) (by decide) (Nat.le_of_ble_eq_true rfl) (by decide) (fun l G => k_fX64_is l G 43) (fun v8 => ?_)
      refine r_if_ne E 69 (by decide) dX64_expression_57 (fun _ => ?_) (fun _ => ?_)
      · refine r_pick E [0, 1, 2, 3, 4] rfl ?_
        exact w_fX64_expression_J69 E hN hT x1 x3 x5 x6 hr35
      · refine r_aload_n E dX64_expression_60 rfl 0 rfl ?_
        refine r_bipush E dX64_expression_61 (by decide) (zkI (by decide) (by decide)) ?_
        refine r_callV E [(0, 45)] [] rfl zc_66 zr_66 (fun o _ => ⟨_, zw_X64.1 o, rfl⟩) (lw_V q2807 q2809 qs39 q291 q2810) dX64_expression_63 zy_X64_is rfl (by omega) (by decide) (Nat.le_of_ble_eq_true rfl) (by decide) (fun l G => k_fX64_is l G 45) (fun v11 => ?_)
        refine r_if_eq E 73 (by decide) dX64_expression_66 (fun _ => ?_) (fun _ => ?_)
        · refine r_iconst E dX64_expression_73 (zkI (by decide) (by decide)) ?_
          refine r_pick E [0, 1, 2, 3, 4] rfl ?_
          exact w_fX64_expression_J74 E hN hT x1 x3 x5 x6 0 hr35
        · refine r_pick E [0, 1, 2, 3, 4] rfl ?_
          exact w_fX64_expression_J69 E hN hT x1 x3 x5 x6 hr35
    · refine r_iconst E dX64_expression_49 (zkI (by decide) (by decide)) ?_
      exact r_zreturn E rfl hT (by decide) dX64_expression_50
theorem w_fX64_expression_J32 {K : zK} (E : zE K cX64_expression "RingHouse$Assembler" (some .boolean) 4) (hN : zNl K = 9) (hT : zTr K = (some 0)) (x1 : Int) (x3 : Int) (x5 : Int) (x6 : Int) : zR K 32 [(0, 66, 0), (1, 1, x1), (3, 1, x3), (5, 0, x5), (6, 1, x6)] [] (fX64_expression_J32 x1 x3 x5 x6) := by
  refine r_iconst E dX64_expression_32 (zkI (by decide) (by decide)) ?_
  refine r_istore (ls' := [(8, 0, 1), (0, 66, 0), (1, 1, x1), (3, 1, x3), (5, 0, x5), (6, 1, x6)]) E dX64_expression_33 (by rw [hN]; decide) rfl ?_
  refine r_pick E [1, 2, 3, 4, 5, 0] rfl ?_
  exact r_loop (L := fun s => [(0, 66, 0), (1, 1, x1), (3, 1, x3), (5, 0, x5), (6, 1, s.1), (8, 0, s.2)]) (w_fX64_expression_B35 E hN hT x1 x3 x5) zBIG (x6, 1)
theorem w_fX64_expression {K : zK} (E : zE K cX64_expression "RingHouse$Assembler" (some .boolean) 4) (hN : zNl K = 9) (hT : zTr K = (some 0)) (x1 : Int) (x3 : Int) : zR K 0 [(0, 66, 0), (1, 1, x1), (3, 1, x3)] [] (fX64_expression x1 x3) := by
  refine r_aload_n E dX64_expression_0 rfl 0 rfl ?_
  refine r_get E zc_66 zt_6505 dX64_expression_1 q1634 zr_66 (zg_6505 _) (by decide) (fun v1 => ?_)
  refine r_istore (ls' := [(5, 0, v1), (0, 66, 0), (1, 1, x1), (3, 1, x3)]) E dX64_expression_4 (by rw [hN]; decide) rfl ?_
  refine r_aload_n E dX64_expression_6 rfl 1 rfl ?_
  refine r_lconst (v := 0) E dX64_expression_7 (by decide) (zkJ (by decide) (by decide)) ?_
  refine r_put E zc_66 zt_6522 zo_6522 dX64_expression_8 q1652 zr_66 zw_X64 zp_6522 (fun _ => rfl) (fun _ => rfl) (by decide) ?_
  refine r_lconst (v := 1) E dX64_expression_11 (by decide) (zkJ (by decide) (by decide)) ?_
  refine r_lstore (ls' := [(6, 1, 1), (5, 0, v1), (0, 66, 0), (1, 1, x1), (3, 1, x3)]) E dX64_expression_12 (by rw [hN]; decide) rfl ?_
  refine r_aload_n E dX64_expression_14 rfl 2 rfl ?_
  refine r_bipush E dX64_expression_15 (by decide) (zkI (by decide) (by decide)) ?_
  refine r_callV E [(0, 45)] [] rfl zc_66 zr_66 (fun o _ => ⟨_, zw_X64.1 o, rfl⟩) (lw_V q2807 q2809 qs39 q291 q2810) dX64_expression_17 zy_X64_is rfl (by omega) (by decide) (Nat.le_of_ble_eq_true rfl) (by decide) (fun l G => k_fX64_is l G 45) (fun v2 => ?_)
  refine r_if_eq E 32 (by decide) dX64_expression_20 (fun _ => ?_) (fun _ => ?_)
  · refine r_pick E [2, 3, 4, 1, 0] rfl ?_
    exact w_fX64_expression_J32 E hN hT x1 x3 v1 1
  · refine r_ldc2 (v := (-1)) E dX64_expression_23 q2910 (by decide) (zkJ (by decide) (by decide)) ?_
    refine r_lstore (ls' := [(6, 1, (-1)), (5, 0, v1), (0, 66, 0), (1, 1, x1), (3, 1, x3)]) E dX64_expression_26 (by rw [hN]; decide) rfl ?_
    refine r_aload_n E dX64_expression_28 rfl 2 rfl ?_
    refine r_callV E [] [] rfl zc_66 zr_66 (fun o _ => ⟨_, zw_X64.1 o, rfl⟩) (lw_V q2796 q2798 qs37 q291 q2799) dX64_expression_29 zy_X64_next rfl (by omega) (by decide) (Nat.le_of_ble_eq_true rfl) (by decide) (fun l G => k_fX64_next l G) (fun _ => ?_)
    refine r_pick E [2, 3, 4, 1, 0] rfl ?_
    exact w_fX64_expression_J32 E hN hT x1 x3 v1 (-1)
theorem k_fX64_expression (l : Launch) (G : zG) (x1 : Int) (x3 : Int) : zCt l G yX64_expression cX64_expression 9 (some .boolean) 4 [(66, 0), (1, x1), (1, x3)] (some 0) (fX64_expression x1 x3) := zCt.of (by decide) (Nat.le_of_ble_eq_true rfl) (fun K E _ _ hN hT => w_fX64_expression E hN hT x1 x3)
theorem dX64_offset_0 : decode cX64_offset 0 = .ok (.aload_n 0, 1) := by decide +kernel
theorem dX64_offset_1 : decode cX64_offset 1 = .ok (.ldc2_w 125, 3) := by decide +kernel
theorem dX64_offset_4 : decode cX64_offset 4 = .ok (.ldc2_w 127, 3) := by decide +kernel
theorem dX64_offset_7 : decode cX64_offset 7 = .ok (.invokevirtual 129, 3) := by decide +kernel
theorem dX64_offset_10 : decode cX64_offset 10 = .ok (.ireturn, 1) := by decide +kernel
theorem zy_X64_offset : yX64_offset.cls ≠ "java/lang/invoke/MethodHandle" ∧ yX64_offset.cls ≠ "java/lang/invoke/VarHandle" ∧ (parseMethodDescriptor yX64_offset.desc).map (fun d => d.parameters.length) = some 0 := by decide +kernel
theorem w_fX64_offset {K : zK} (E : zE K cX64_offset "RingHouse$Assembler" (some .boolean) 5) (hN : zNl K = 1) (hT : zTr K = (some 0)) : zR K 0 [(0, 66, 0)] [] (fX64_offset) := by
  refine r_aload_n E dX64_offset_0 rfl 0 rfl ?_
  refine r_ldc2 (v := (-131072)) E dX64_offset_1 q2904 (by decide) (zkJ (by decide) (by decide)) ?_
  refine r_ldc2 (v := 262143) E dX64_offset_4 q2905 (by decide) (zkJ (by decide) (by decide)) ?_
  refine r_callV E [(1, (-131072)), (1, 262143)] [] rfl zc_66 zr_66 (fun o _ => ⟨_, zw_X64.1 o, rfl⟩) (lw_V q2906 q2908 qs51 q291 q2909) dX64_offset_7 zy_X64_expression rfl (by omega) (by decide) (Nat.le_of_ble_eq_true rfl) (by decide) (fun l G => k_fX64_expression l G (-131072) 262143) (fun v1 => ?_)
  exact r_zreturnb E rfl hT dX64_offset_10
theorem k_fX64_offset (l : Launch) (G : zG) : zCt l G yX64_offset cX64_offset 1 (some .boolean) 5 [(66, 0)] (some 0) (fX64_offset) := zCt.of (by decide) (Nat.le_of_ble_eq_true rfl) (fun K E _ _ hN hT => w_fX64_offset E hN hT)
theorem dX64_pointer_0 : decode cX64_pointer 0 = .ok (.aload_n 0, 1) := by decide +kernel
theorem dX64_pointer_1 : decode cX64_pointer 1 = .ok (.bipush 31, 2) := by decide +kernel
theorem dX64_pointer_3 : decode cX64_pointer 3 = .ok (.invokevirtual 194, 3) := by decide +kernel
theorem dX64_pointer_6 : decode cX64_pointer 6 = .ok (.istore_n 1, 1) := by decide +kernel
theorem dX64_pointer_7 : decode cX64_pointer 7 = .ok (.aload_n 0, 1) := by decide +kernel
theorem dX64_pointer_8 : decode cX64_pointer 8 = .ok (.getfield 49, 3) := by decide +kernel
theorem dX64_pointer_11 : decode cX64_pointer 11 = .ok (.ifCond .gt 12, 3) := by decide +kernel
theorem dX64_pointer_14 : decode cX64_pointer 14 = .ok (.aload_n 0, 1) := by decide +kernel
theorem dX64_pointer_15 : decode cX64_pointer 15 = .ok (.bipush 44, 2) := by decide +kernel
theorem dX64_pointer_17 : decode cX64_pointer 17 = .ok (.invokevirtual 197, 3) := by decide +kernel
theorem dX64_pointer_20 : decode cX64_pointer 20 = .ok (.ifCond .ne 5, 3) := by decide +kernel
theorem dX64_pointer_23 : decode cX64_pointer 23 = .ok (.iconst 0, 1) := by decide +kernel
theorem dX64_pointer_24 : decode cX64_pointer 24 = .ok (.ireturn, 1) := by decide +kernel
theorem dX64_pointer_25 : decode cX64_pointer 25 = .ok (.aload_n 0, 1) := by decide +kernel
theorem dX64_pointer_26 : decode cX64_pointer 26 = .ok (.bipush 7, 2) := by decide +kernel
theorem dX64_pointer_28 : decode cX64_pointer 28 = .ok (.invokevirtual 194, 3) := by decide +kernel
theorem dX64_pointer_31 : decode cX64_pointer 31 = .ok (.istore_n 2, 1) := by decide +kernel
theorem dX64_pointer_32 : decode cX64_pointer 32 = .ok (.aload_n 0, 1) := by decide +kernel
theorem dX64_pointer_33 : decode cX64_pointer 33 = .ok (.getfield 49, 3) := by decide +kernel
theorem dX64_pointer_36 : decode cX64_pointer 36 = .ok (.ifCond .gt 19, 3) := by decide +kernel
theorem dX64_pointer_39 : decode cX64_pointer 39 = .ok (.aload_n 0, 1) := by decide +kernel
theorem dX64_pointer_40 : decode cX64_pointer 40 = .ok (.bipush 44, 2) := by decide +kernel
theorem dX64_pointer_42 : decode cX64_pointer 42 = .ok (.invokevirtual 197, 3) := by decide +kernel
theorem dX64_pointer_45 : decode cX64_pointer 45 = .ok (.ifCond .eq 10, 3) := by decide +kernel
theorem dX64_pointer_48 : decode cX64_pointer 48 = .ok (.aload_n 0, 1) := by decide +kernel
theorem dX64_pointer_49 : decode cX64_pointer 49 = .ok (.invokevirtual 165, 3) := by decide +kernel
theorem dX64_pointer_52 : decode cX64_pointer 52 = .ok (.ifCond .ne 5, 3) := by decide +kernel
theorem dX64_pointer_55 : decode cX64_pointer 55 = .ok (.iconst 0, 1) := by decide +kernel
theorem dX64_pointer_56 : decode cX64_pointer 56 = .ok (.ireturn, 1) := by decide +kernel
theorem dX64_pointer_57 : decode cX64_pointer 57 = .ok (.iload_n 1, 1) := by decide +kernel
theorem dX64_pointer_58 : decode cX64_pointer 58 = .ok (.aload_n 0, 1) := by decide +kernel
theorem dX64_pointer_59 : decode cX64_pointer 59 = .ok (.getfield 106, 3) := by decide +kernel
theorem dX64_pointer_62 : decode cX64_pointer 62 = .ok (.ldc2_w 127, 3) := by decide +kernel
theorem dX64_pointer_65 : decode cX64_pointer 65 = .ok (.land, 1) := by decide +kernel
theorem dX64_pointer_66 : decode cX64_pointer 66 = .ok (.l2i, 1) := by decide +kernel
theorem dX64_pointer_67 : decode cX64_pointer 67 = .ok (.iload_n 2, 1) := by decide +kernel
theorem dX64_pointer_68 : decode cX64_pointer 68 = .ok (.invokestatic 200, 3) := by decide +kernel
theorem dX64_pointer_71 : decode cX64_pointer 71 = .ok (.lstore_n 3, 1) := by decide +kernel
theorem dX64_pointer_72 : decode cX64_pointer 72 = .ok (.aload_n 0, 1) := by decide +kernel
theorem dX64_pointer_73 : decode cX64_pointer 73 = .ok (.bipush 42, 2) := by decide +kernel
theorem dX64_pointer_75 : decode cX64_pointer 75 = .ok (.invokevirtual 72, 3) := by decide +kernel
theorem dX64_pointer_78 : decode cX64_pointer 78 = .ok (.ifCond .eq 13, 3) := by decide +kernel
theorem dX64_pointer_81 : decode cX64_pointer 81 = .ok (.lload_n 3, 1) := by decide +kernel
theorem dX64_pointer_82 : decode cX64_pointer 82 = .ok (.ldc2_w 204, 3) := by decide +kernel
theorem dX64_pointer_85 : decode cX64_pointer 85 = .ok (.lor, 1) := by decide +kernel
theorem dX64_pointer_86 : decode cX64_pointer 86 = .ok (.lstore_n 3, 1) := by decide +kernel
theorem dX64_pointer_87 : decode cX64_pointer 87 = .ok (.aload_n 0, 1) := by decide +kernel
theorem dX64_pointer_88 : decode cX64_pointer 88 = .ok (.invokevirtual 76, 3) := by decide +kernel
theorem dX64_pointer_91 : decode cX64_pointer 91 = .ok (.aload_n 0, 1) := by decide +kernel
theorem dX64_pointer_92 : decode cX64_pointer 92 = .ok (.lload_n 3, 1) := by decide +kernel
theorem dX64_pointer_93 : decode cX64_pointer 93 = .ok (.invokevirtual 182, 3) := by decide +kernel
theorem dX64_pointer_96 : decode cX64_pointer 96 = .ok (.aload_n 0, 1) := by decide +kernel
theorem dX64_pointer_97 : decode cX64_pointer 97 = .ok (.invokevirtual 186, 3) := by decide +kernel
theorem dX64_pointer_100 : decode cX64_pointer 100 = .ok (.ireturn, 1) := by decide +kernel
theorem zy_X64_pointer : yX64_pointer.cls ≠ "java/lang/invoke/MethodHandle" ∧ yX64_pointer.cls ≠ "java/lang/invoke/VarHandle" ∧ (parseMethodDescriptor yX64_pointer.desc).map (fun d => d.parameters.length) = some 0 := by decide +kernel
theorem w_fX64_pointer_J91 {K : zK} (E : zE K cX64_pointer "RingHouse$Assembler" (some .boolean) 6) (hN : zNl K = 5) (hT : zTr K = (some 0)) (x3 : Int) : zR K 91 [(0, 66, 0), (3, 1, x3)] [] (fX64_pointer_J91 x3) := by
  refine r_aload_n E dX64_pointer_91 rfl 0 rfl ?_
  refine r_lload_n E dX64_pointer_92 rfl 1 rfl ?_
  refine r_callV E [(1, x3)] [] rfl zc_66 zr_66 (fun o _ => ⟨_, zw_X64.1 o, rfl⟩) (lw_V q2887 q2889 qs47 q291 q2890) dX64_pointer_93 zy_X64_put rfl (by omega) (by decide) (Nat.le_of_ble_eq_true rfl) (by decide) (fun l G => k_fX64_put l G x3) (fun _ => ?_)
  refine r_aload_n E dX64_pointer_96 rfl 0 rfl ?_
  refine r_callV E [] [] rfl zc_66 zr_66 (fun o _ => ⟨_, zw_X64.1 o, rfl⟩) (lw_V q2892 q2894 qs48 q291 q2895) dX64_pointer_97 zy_X64_isEnd rfl (by omega) (by decide) (Nat.le_of_ble_eq_true rfl) (by decide) (fun l G => k_fX64_isEnd l G) (fun v12 => ?_)
  exact r_zreturnb E rfl hT dX64_pointer_100
theorem w_fX64_pointer {K : zK} (E : zE K cX64_pointer "RingHouse$Assembler" (some .boolean) 6) (hN : zNl K = 5) (hT : zTr K = (some 0)) : zR K 0 [(0, 66, 0)] [] (fX64_pointer) := by
  refine r_aload_n E dX64_pointer_0 rfl 0 rfl ?_
  refine r_bipush E dX64_pointer_1 (by decide) (zkI (by decide) (by decide)) ?_
  refine r_callV E [(0, 31)] [] rfl zc_66 zr_66 (fun o _ => ⟨_, zw_X64.1 o, rfl⟩) (lw_V q2960 q2962 qs63 q291 q2963) dX64_pointer_3 zy_X64_number rfl (by omega) (by decide) (Nat.le_of_ble_eq_true rfl) (by decide) (fun l G => k_fX64_number l G 31) (fun v1 => ?_)
  refine r_istore_n (ls' := [(1, 0, v1), (0, 66, 0)]) E dX64_pointer_6 rfl (by rw [hN]; decide) rfl ?_
  refine r_aload_n E dX64_pointer_7 rfl 1 rfl ?_
  refine r_get E zc_66 zt_6508 dX64_pointer_8 q1637 zr_66 (zg_6508 _) (by decide) (fun v2 => ?_)
  refine r_if_gt E 23 (by decide) dX64_pointer_11 (fun _ => ?_) (fun _ => ?_)
  · refine r_iconst E dX64_pointer_23 (zkI (by decide) (by decide)) ?_
    exact r_zreturn E rfl hT (by decide) dX64_pointer_24
  · refine r_aload_n E dX64_pointer_14 rfl 1 rfl ?_
    refine r_bipush E dX64_pointer_15 (by decide) (zkI (by decide) (by decide)) ?_
    refine r_callV E [(0, 44)] [] rfl zc_66 zr_66 (fun o _ => ⟨_, zw_X64.1 o, rfl⟩) (lw_V q2964 q2966 qs64 q291 q2967) dX64_pointer_17 zy_X64_takes rfl (by omega) (by decide) (Nat.le_of_ble_eq_true rfl) (by decide) (fun l G => k_fX64_takes l G 44) (fun v3 => ?_)
    refine r_if_ne E 25 (by decide) dX64_pointer_20 (fun _ => ?_) (fun _ => ?_)
    · refine r_aload_n E dX64_pointer_25 rfl 1 rfl ?_
      refine r_bipush E dX64_pointer_26 (by decide) (zkI (by decide) (by decide)) ?_
      refine r_callV E [(0, 7)] [] rfl zc_66 zr_66 (fun o _ => ⟨_, zw_X64.1 o, rfl⟩) (lw_V q2960 q2962 qs63 q291 q2963) dX64_pointer_28 zy_X64_number rfl (by omega) (by decide) (Nat.le_of_ble_eq_true rfl) (by decide) (fun l G => k_fX64_number l G 7) (fun v4 => ?_)
      refine r_istore_n (ls' := [(2, 0, v4), (1, 0, v1), (0, 66, 0)]) E dX64_pointer_31 rfl (by rw [hN]; decide) rfl ?_
      refine r_aload_n E dX64_pointer_32 rfl 2 rfl ?_
      refine r_get E zc_66 zt_6508 dX64_pointer_33 q1637 zr_66 (zg_6508 _) (by decide) (fun v5 => ?_)
      refine r_if_gt E 55 (by decide) dX64_pointer_36 (fun _ => ?_) (fun _ => ?_)
      · refine r_iconst E dX64_pointer_55 (zkI (by decide) (by decide)) ?_
        exact r_zreturn E rfl hT (by decide) dX64_pointer_56
      · refine r_aload_n E dX64_pointer_39 rfl 2 rfl ?_
        refine r_bipush E dX64_pointer_40 (by decide) (zkI (by decide) (by decide)) ?_
        refine r_callV E [(0, 44)] [] rfl zc_66 zr_66 (fun o _ => ⟨_, zw_X64.1 o, rfl⟩) (lw_V q2964 q2966 qs64 q291 q2967) dX64_pointer_42 zy_X64_takes rfl (by omega) (by decide) (Nat.le_of_ble_eq_true rfl) (by decide) (fun l G => k_fX64_takes l G 44) (fun v6 => ?_)
        refine r_if_eq E 55 (by decide) dX64_pointer_45 (fun _ => ?_) (fun _ => ?_)
        · refine r_iconst E dX64_pointer_55 (zkI (by decide) (by decide)) ?_
          exact r_zreturn E rfl hT (by decide) dX64_pointer_56
        · refine r_aload_n E dX64_pointer_48 rfl 2 rfl ?_
          refine r_callV E [] [] rfl zc_66 zr_66 (fun o _ => ⟨_, zw_X64.1 o, rfl⟩) (lw_V q2900 q2902 qs50 q291 q2903) dX64_pointer_49 zy_X64_offset rfl (by omega) (by decide) (Nat.le_of_ble_eq_true rfl) (by decide) (fun l G => k_fX64_offset l G) (fun v7 => ?_)
          refine r_if_ne E 57 (by decide) dX64_pointer_52 (fun _ => ?_) (fun _ => ?_)
          · refine r_iload_n E dX64_pointer_57 rfl 1 rfl ?_
            refine r_aload_n E dX64_pointer_58 rfl 2 rfl ?_
            refine r_get E zc_66 zt_6522 dX64_pointer_59 q1652 zr_66 (zg_6522 _) (by decide) (fun v8 => ?_)
            refine r_ldc2 (v := 262143) E dX64_pointer_62 q2905 (by decide) (zkJ (by decide) (by decide)) ?_
            refine r_lmask (P := 262144) E 18 (by decide) (by decide) (by decide) dX64_pointer_65 ?_
            refine r_l2i E dX64_pointer_66 ?_
            refine r_iload_n E dX64_pointer_67 rfl 0 rfl ?_
            refine r_callSN E [(0, v1), (0, (zi (v8 % 262144))), (0, v4)] [] rfl q2968 q2223 q227 q2224 dX64_pointer_68 zy_X0_pointerWord rfl (by omega) (by decide) (Nat.le_of_ble_eq_true rfl) (fun l G => k_fX0_pointerWord l G v1 (zi (v8 % 262144)) v4) (fun v9 => ?_)
            refine r_lstore_n (ls' := [(3, 1, v9), (2, 0, v4), (1, 0, v1), (0, 66, 0)]) E dX64_pointer_71 rfl (by rw [hN]; decide) rfl ?_
            refine r_aload_n E dX64_pointer_72 rfl 3 rfl ?_
            refine r_bipush E dX64_pointer_73 (by decide) (zkI (by decide) (by decide)) ?_
            refine r_callV E [(0, 42)] [] rfl zc_66 zr_66 (fun o _ => ⟨_, zw_X64.1 o, rfl⟩) (lw_V q2807 q2809 qs39 q291 q2810) dX64_pointer_75 zy_X64_is rfl (by omega) (by decide) (Nat.le_of_ble_eq_true rfl) (by decide) (fun l G => k_fX64_is l G 42) (fun v10 => ?_)
            refine r_if_eq E 91 (by decide) dX64_pointer_78 (fun _ => ?_) (fun _ => ?_)
            · refine r_pick E [3, 0] rfl ?_
              exact w_fX64_pointer_J91 E hN hT v9
            · refine r_lload_n E dX64_pointer_81 rfl 0 rfl ?_
              refine r_ldc2 (v := 536870912) E dX64_pointer_82 q2969 (by decide) (zkJ (by decide) (by decide)) ?_
              refine r_lor E dX64_pointer_85 ?_
              refine r_let E (fun v13 ev13 => ?_)
              refine r_lstore_n (ls' := [(3, 1, v13), (2, 0, v4), (1, 0, v1), (0, 66, 0)]) E dX64_pointer_86 rfl (by rw [hN]; decide) rfl ?_
              refine r_aload_n E dX64_pointer_87 rfl 3 rfl ?_
              refine r_callV E [] [] rfl zc_66 zr_66 (fun o _ => ⟨_, zw_X64.1 o, rfl⟩) (lw_V q2796 q2798 qs37 q291 q2799) dX64_pointer_88 zy_X64_next rfl (by omega) (by decide) (Nat.le_of_ble_eq_true rfl) (by decide) (fun l G => k_fX64_next l G) (fun _ => ?_)
              refine r_pick E [3, 0] rfl ?_
              exact w_fX64_pointer_J91 E hN hT v13
          · refine r_iconst E dX64_pointer_55 (zkI (by decide) (by decide)) ?_
            exact r_zreturn E rfl hT (by decide) dX64_pointer_56
    · refine r_iconst E dX64_pointer_23 (zkI (by decide) (by decide)) ?_
      exact r_zreturn E rfl hT (by decide) dX64_pointer_24
theorem k_fX64_pointer (l : Launch) (G : zG) : zCt l G yX64_pointer cX64_pointer 5 (some .boolean) 6 [(66, 0)] (some 0) (fX64_pointer) := zCt.of (by decide) (Nat.le_of_ble_eq_true rfl) (fun K E _ _ hN hT => w_fX64_pointer E hN hT)
theorem dX64_wordList_0 : decode cX64_wordList 0 = .ok (.iconst 1, 1) := by decide +kernel
theorem dX64_wordList_1 : decode cX64_wordList 1 = .ok (.istore_n 1, 1) := by decide +kernel
theorem dX64_wordList_2 : decode cX64_wordList 2 = .ok (.iload_n 1, 1) := by decide +kernel
theorem dX64_wordList_3 : decode cX64_wordList 3 = .ok (.ifCond .eq 122, 3) := by decide +kernel
theorem dX64_wordList_6 : decode cX64_wordList 6 = .ok (.aload_n 0, 1) := by decide +kernel
theorem dX64_wordList_7 : decode cX64_wordList 7 = .ok (.bipush 39, 2) := by decide +kernel
theorem dX64_wordList_9 : decode cX64_wordList 9 = .ok (.invokevirtual 72, 3) := by decide +kernel
theorem dX64_wordList_12 : decode cX64_wordList 12 = .ok (.ifCond .eq 72, 3) := by decide +kernel
theorem dX64_wordList_15 : decode cX64_wordList 15 = .ok (.aload_n 0, 1) := by decide +kernel
theorem dX64_wordList_16 : decode cX64_wordList 16 = .ok (.invokevirtual 76, 3) := by decide +kernel
theorem dX64_wordList_19 : decode cX64_wordList 19 = .ok (.aload_n 0, 1) := by decide +kernel
theorem dX64_wordList_20 : decode cX64_wordList 20 = .ok (.getfield 61, 3) := by decide +kernel
theorem dX64_wordList_23 : decode cX64_wordList 23 = .ok (.iconst 1, 1) := by decide +kernel
theorem dX64_wordList_24 : decode cX64_wordList 24 = .ok (.if_icmp .eq 13, 3) := by decide +kernel
theorem dX64_wordList_27 : decode cX64_wordList 27 = .ok (.aload_n 0, 1) := by decide +kernel
theorem dX64_wordList_28 : decode cX64_wordList 28 = .ok (.iconst 1, 1) := by decide +kernel
theorem dX64_wordList_29 : decode cX64_wordList 29 = .ok (.aload_n 0, 1) := by decide +kernel
theorem dX64_wordList_30 : decode cX64_wordList 30 = .ok (.getfield 55, 3) := by decide +kernel
theorem dX64_wordList_33 : decode cX64_wordList 33 = .ok (.invokevirtual 68, 3) := by decide +kernel
theorem dX64_wordList_36 : decode cX64_wordList 36 = .ok (.ireturn, 1) := by decide +kernel
theorem dX64_wordList_37 : decode cX64_wordList 37 = .ok (.aload_n 0, 1) := by decide +kernel
theorem dX64_wordList_38 : decode cX64_wordList 38 = .ok (.getfield 52, 3) := by decide +kernel
theorem dX64_wordList_41 : decode cX64_wordList 41 = .ok (.aload_n 0, 1) := by decide +kernel
theorem dX64_wordList_42 : decode cX64_wordList 42 = .ok (.getfield 55, 3) := by decide +kernel
theorem dX64_wordList_45 : decode cX64_wordList 45 = .ok (.isub, 1) := by decide +kernel
theorem dX64_wordList_46 : decode cX64_wordList 46 = .ok (.bipush 6, 2) := by decide +kernel
theorem dX64_wordList_48 : decode cX64_wordList 48 = .ok (.if_icmp .le 13, 3) := by decide +kernel
theorem dX64_wordList_51 : decode cX64_wordList 51 = .ok (.aload_n 0, 1) := by decide +kernel
theorem dX64_wordList_52 : decode cX64_wordList 52 = .ok (.iconst 2, 1) := by decide +kernel
theorem dX64_wordList_53 : decode cX64_wordList 53 = .ok (.aload_n 0, 1) := by decide +kernel
theorem dX64_wordList_54 : decode cX64_wordList 54 = .ok (.getfield 55, 3) := by decide +kernel
theorem dX64_wordList_57 : decode cX64_wordList 57 = .ok (.invokevirtual 68, 3) := by decide +kernel
theorem dX64_wordList_60 : decode cX64_wordList 60 = .ok (.ireturn, 1) := by decide +kernel
theorem dX64_wordList_61 : decode cX64_wordList 61 = .ok (.aload_n 0, 1) := by decide +kernel
theorem dX64_wordList_62 : decode cX64_wordList 62 = .ok (.aload_n 0, 1) := by decide +kernel
theorem dX64_wordList_63 : decode cX64_wordList 63 = .ok (.aload_n 0, 1) := by decide +kernel
theorem dX64_wordList_64 : decode cX64_wordList 64 = .ok (.getfield 55, 3) := by decide +kernel
theorem dX64_wordList_67 : decode cX64_wordList 67 = .ok (.aload_n 0, 1) := by decide +kernel
theorem dX64_wordList_68 : decode cX64_wordList 68 = .ok (.getfield 52, 3) := by decide +kernel
theorem dX64_wordList_71 : decode cX64_wordList 71 = .ok (.invokevirtual 86, 3) := by decide +kernel
theorem dX64_wordList_74 : decode cX64_wordList 74 = .ok (.invokevirtual 182, 3) := by decide +kernel
theorem dX64_wordList_77 : decode cX64_wordList 77 = .ok (.aload_n 0, 1) := by decide +kernel
theorem dX64_wordList_78 : decode cX64_wordList 78 = .ok (.invokevirtual 76, 3) := by decide +kernel
theorem dX64_wordList_81 : decode cX64_wordList 81 = .ok (.goto 26, 3) := by decide +kernel
theorem dX64_wordList_84 : decode cX64_wordList 84 = .ok (.aload_n 0, 1) := by decide +kernel
theorem dX64_wordList_85 : decode cX64_wordList 85 = .ok (.ldc2_w 192, 3) := by decide +kernel
theorem dX64_wordList_88 : decode cX64_wordList 88 = .ok (.ldc2_w 136, 3) := by decide +kernel
theorem dX64_wordList_91 : decode cX64_wordList 91 = .ok (.invokevirtual 129, 3) := by decide +kernel
theorem dX64_wordList_94 : decode cX64_wordList 94 = .ok (.ifCond .ne 5, 3) := by decide +kernel
theorem dX64_wordList_97 : decode cX64_wordList 97 = .ok (.iconst 0, 1) := by decide +kernel
theorem dX64_wordList_98 : decode cX64_wordList 98 = .ok (.ireturn, 1) := by decide +kernel
theorem dX64_wordList_99 : decode cX64_wordList 99 = .ok (.aload_n 0, 1) := by decide +kernel
theorem dX64_wordList_100 : decode cX64_wordList 100 = .ok (.aload_n 0, 1) := by decide +kernel
theorem dX64_wordList_101 : decode cX64_wordList 101 = .ok (.getfield 106, 3) := by decide +kernel
theorem dX64_wordList_104 : decode cX64_wordList 104 = .ok (.invokevirtual 182, 3) := by decide +kernel
theorem dX64_wordList_107 : decode cX64_wordList 107 = .ok (.aload_n 0, 1) := by decide +kernel
theorem dX64_wordList_108 : decode cX64_wordList 108 = .ok (.bipush 44, 2) := by decide +kernel
theorem dX64_wordList_110 : decode cX64_wordList 110 = .ok (.invokevirtual 72, 3) := by decide +kernel
theorem dX64_wordList_113 : decode cX64_wordList 113 = .ok (.istore_n 1, 1) := by decide +kernel
theorem dX64_wordList_114 : decode cX64_wordList 114 = .ok (.iload_n 1, 1) := by decide +kernel
theorem dX64_wordList_115 : decode cX64_wordList 115 = .ok (.ifCond .eq (-113), 3) := by decide +kernel
theorem dX64_wordList_118 : decode cX64_wordList 118 = .ok (.aload_n 0, 1) := by decide +kernel
theorem dX64_wordList_119 : decode cX64_wordList 119 = .ok (.invokevirtual 76, 3) := by decide +kernel
theorem dX64_wordList_122 : decode cX64_wordList 122 = .ok (.goto (-120), 3) := by decide +kernel
theorem dX64_wordList_125 : decode cX64_wordList 125 = .ok (.aload_n 0, 1) := by decide +kernel
theorem dX64_wordList_126 : decode cX64_wordList 126 = .ok (.invokevirtual 186, 3) := by decide +kernel
theorem dX64_wordList_129 : decode cX64_wordList 129 = .ok (.ireturn, 1) := by decide +kernel
theorem zy_X64_wordList : yX64_wordList.cls ≠ "java/lang/invoke/MethodHandle" ∧ yX64_wordList.cls ≠ "java/lang/invoke/VarHandle" ∧ (parseMethodDescriptor yX64_wordList.desc).map (fun d => d.parameters.length) = some 0 := by decide +kernel
theorem w_fX64_wordList_J125 {K : zK} (E : zE K cX64_wordList "RingHouse$Assembler" (some .boolean) 5) (hN : zNl K = 2) (hT : zTr K = (some 0)) : zR K 125 [(0, 66, 0)] [] (fX64_wordList_J125) := by
  refine r_aload_n E dX64_wordList_125 rfl 0 rfl ?_
  refine r_callV E [] [] rfl zc_66 zr_66 (fun o _ => ⟨_, zw_X64.1 o, rfl⟩) (lw_V q2892 q2894 qs48 q291 q2895) dX64_wordList_126 zy_X64_isEnd rfl (by omega) (by decide) (Nat.le_of_ble_eq_true rfl) (by decide) (fun l G => k_fX64_isEnd l G) (fun v1 => ?_)
  exact r_zreturnb E rfl hT dX64_wordList_129
theorem w_fX64_wordList_J107 {K : zK} (E : zE K cX64_wordList "RingHouse$Assembler" (some .boolean) 5) (hN : zNl K = 2) (hT : zTr K = (some 0)) {r2 : Int → zX} (hr2 : ∀ s : Int, zR K 2 [(0, 66, 0), (1, 0, s)] [] (r2 s)) : zR K 107 [(0, 66, 0)] [] (fX64_wordList_J107 r2) := by
  refine r_aload_n E dX64_wordList_107 rfl 0 rfl ?_
  refine r_bipush E dX64_wordList_108 (by decide) (zkI (by decide) (by decide)) ?_
  refine r_callV E [(0, 44)] [] rfl zc_66 zr_66 (fun o _ => ⟨_, zw_X64.1 o, rfl⟩) (lw_V q2807 q2809 qs39 q291 q2810) dX64_wordList_110 zy_X64_is rfl (by omega) (by decide) (Nat.le_of_ble_eq_true rfl) (by decide) (fun l G => k_fX64_is l G 44) (fun v6 => ?_)
  refine r_istore_n (ls' := [(1, 0, v6), (0, 66, 0)]) E dX64_wordList_113 rfl (by rw [hN]; decide) rfl ?_
  refine r_iload_n E dX64_wordList_114 rfl 0 rfl ?_
  refine r_if_eq E 2 (by decide) dX64_wordList_115 (fun _ => ?_) (fun _ => ?_)
  · refine r_pick E [1, 0] rfl ?_
    exact hr2 v6
  · refine r_aload_n E dX64_wordList_118 rfl 1 rfl ?_
    refine r_callV E [] [] rfl zc_66 zr_66 (fun o _ => ⟨_, zw_X64.1 o, rfl⟩) (lw_V q2796 q2798 qs37 q291 q2799) dX64_wordList_119 zy_X64_next rfl (by omega) (by decide) (Nat.le_of_ble_eq_true rfl) (by decide) (fun l G => k_fX64_next l G) (fun _ => ?_)
    refine r_goto E 2 (by decide) dX64_wordList_122 ?_
    refine r_pick E [1, 0] rfl ?_
    exact hr2 v6
theorem w_fX64_wordList_J51 {K : zK} (E : zE K cX64_wordList "RingHouse$Assembler" (some .boolean) 5) (hN : zNl K = 2) (hT : zTr K = (some 0)) : zR K 51 [(0, 66, 0)] [] (fX64_wordList_J51) := by
  refine r_aload_n E dX64_wordList_51 rfl 0 rfl ?_
  refine r_iconst E dX64_wordList_52 (zkI (by decide) (by decide)) ?_
  refine r_aload_n E dX64_wordList_53 rfl 0 rfl ?_
  refine r_get E zc_66 zt_6505 dX64_wordList_54 q1634 zr_66 (zg_6505 _) (by decide) (fun v17 => ?_)
  refine r_callV E [(0, 2), (0, v17)] [] rfl zc_66 zr_66 (fun o _ => ⟨_, zw_X64.1 o, rfl⟩) (lw_V q2803 q2805 qs38 q291 q2806) dX64_wordList_57 zy_X64_wrong rfl (by omega) (by decide) (Nat.le_of_ble_eq_true rfl) (by decide) (fun l G => k_fX64_wrong l G 2 v17) (fun v18 => ?_)
  exact r_zreturnb E rfl hT dX64_wordList_60
theorem w_fX64_wordList_J27 {K : zK} (E : zE K cX64_wordList "RingHouse$Assembler" (some .boolean) 5) (hN : zNl K = 2) (hT : zTr K = (some 0)) : zR K 27 [(0, 66, 0)] [] (fX64_wordList_J27) := by
  refine r_aload_n E dX64_wordList_27 rfl 0 rfl ?_
  refine r_iconst E dX64_wordList_28 (zkI (by decide) (by decide)) ?_
  refine r_aload_n E dX64_wordList_29 rfl 0 rfl ?_
  refine r_get E zc_66 zt_6505 dX64_wordList_30 q1634 zr_66 (zg_6505 _) (by decide) (fun v19 => ?_)
  refine r_callV E [(0, 1), (0, v19)] [] rfl zc_66 zr_66 (fun o _ => ⟨_, zw_X64.1 o, rfl⟩) (lw_V q2803 q2805 qs38 q291 q2806) dX64_wordList_33 zy_X64_wrong rfl (by omega) (by decide) (Nat.le_of_ble_eq_true rfl) (by decide) (fun l G => k_fX64_wrong l G 1 v19) (fun v20 => ?_)
  exact r_zreturnb E rfl hT dX64_wordList_36
theorem w_fX64_wordList_B2 {K : zK} (E : zE K cX64_wordList "RingHouse$Assembler" (some .boolean) 5) (hN : zNl K = 2) (hT : zTr K = (some 0)) : ∀ r2 : Int → zX, (∀ s : Int, zR K 2 [(0, 66, 0), (1, 0, s)] [] (r2 s)) → ∀ s : Int, zR K 2 [(0, 66, 0), (1, 0, s)] [] (fX64_wordList_B2 r2 s) := by
  intro r2 hr2 x1
  refine r_iload_n E dX64_wordList_2 rfl 1 rfl ?_
  refine r_if_eq E 125 (by decide) dX64_wordList_3 (fun _ => ?_) (fun _ => ?_)
  · refine r_pick E [0] rfl ?_
    exact w_fX64_wordList_J125 E hN hT
  · refine r_aload_n E dX64_wordList_6 rfl 0 rfl ?_
    refine r_bipush E dX64_wordList_7 (by decide) (zkI (by decide) (by decide)) ?_
    refine r_callV E [(0, 39)] [] rfl zc_66 zr_66 (fun o _ => ⟨_, zw_X64.1 o, rfl⟩) (lw_V q2807 q2809 qs39 q291 q2810) dX64_wordList_9 zy_X64_is rfl (by omega) (by decide) (Nat.le_of_ble_eq_true rfl) (by decide) (fun l G => k_fX64_is l G 39) (fun v2 => ?_)
    refine r_if_eq E 84 (by decide) dX64_wordList_12 (fun _ => ?_) (fun _ => ?_)
    · refine r_aload_n E dX64_wordList_84 rfl 0 rfl ?_
      refine r_ldc2 (v := (-34359738368)) E dX64_wordList_85 q2954 (by decide) (zkJ (by decide) (by decide)) ?_
      refine r_ldc2 (v := 68719476735) E dX64_wordList_88 q2891 (by decide) (zkJ (by decide) (by decide)) ?_
      refine r_callV E [(1, (-34359738368)), (1, 68719476735)] [] rfl zc_66 zr_66 (fun o _ => ⟨_, zw_X64.1 o, rfl⟩) (lw_V q2906 q2908 qs51 q291 q2909) dX64_wordList_91 zy_X64_expression rfl (by omega) (by decide) (Nat.le_of_ble_eq_true rfl) (by decide) (fun l G => k_fX64_expression l G (-34359738368) 68719476735) (fun v3 => ?_)
      refine r_if_ne E 99 (by decide) dX64_wordList_94 (fun _ => ?_) (fun _ => ?_)
      · refine r_aload_n E dX64_wordList_99 rfl 0 rfl ?_
        refine r_aload_n E dX64_wordList_100 rfl 0 rfl ?_
        refine r_get E zc_66 zt_6522 dX64_wordList_101 q1652 zr_66 (zg_6522 _) (by decide) (fun v4 => ?_)
        refine r_callV E [(1, v4)] [] rfl zc_66 zr_66 (fun o _ => ⟨_, zw_X64.1 o, rfl⟩) (lw_V q2887 q2889 qs47 q291 q2890) dX64_wordList_104 zy_X64_put rfl (by omega) (by decide) (Nat.le_of_ble_eq_true rfl) (by decide) (fun l G => k_fX64_put l G v4) (fun _ => ?_)
        refine r_pick E [0] rfl ?_
        exact w_fX64_wordList_J107 E hN hT hr2
      · refine r_iconst E dX64_wordList_97 (zkI (by decide) (by decide)) ?_
        exact r_zreturn E rfl hT (by decide) dX64_wordList_98
    · refine r_aload_n E dX64_wordList_15 rfl 0 rfl ?_
      refine r_callV E [] [] rfl zc_66 zr_66 (fun o _ => ⟨_, zw_X64.1 o, rfl⟩) (lw_V q2796 q2798 qs37 q291 q2799) dX64_wordList_16 zy_X64_next rfl (by omega) (by decide) (Nat.le_of_ble_eq_true rfl) (by decide) (fun l G => k_fX64_next l G) (fun _ => ?_)
      refine r_aload_n E dX64_wordList_19 rfl 0 rfl ?_
      refine r_get E zc_66 zt_6504 dX64_wordList_20 q1633 zr_66 (zg_6504 _) (by decide) (fun v9 => ?_)
      refine r_iconst E dX64_wordList_23 (zkI (by decide) (by decide)) ?_
      refine r_icmp_eq E 37 (by decide) dX64_wordList_24 (fun _ => ?_) (fun _ => ?_)
      · refine r_aload_n E dX64_wordList_37 rfl 0 rfl ?_
        refine r_get E zc_66 zt_6506 dX64_wordList_38 q1635 zr_66 (zg_6506 _) (by decide) (fun v10 => ?_)
        refine r_aload_n E dX64_wordList_41 rfl 0 rfl ?_
        refine r_get E zc_66 zt_6505 dX64_wordList_42 q1634 zr_66 (zg_6505 _) (by decide) (fun v11 => ?_)
        refine r_isub E dX64_wordList_45 ?_
        refine r_bipush E dX64_wordList_46 (by decide) (zkI (by decide) (by decide)) ?_
        refine r_icmp_le E 61 (by decide) dX64_wordList_48 (fun _ => ?_) (fun _ => ?_)
        · refine r_aload_n E dX64_wordList_61 rfl 0 rfl ?_
          refine r_aload_n E dX64_wordList_62 rfl 0 rfl ?_
          refine r_aload_n E dX64_wordList_63 rfl 0 rfl ?_
          refine r_get E zc_66 zt_6505 dX64_wordList_64 q1634 zr_66 (zg_6505 _) (by decide) (fun v12 => ?_)
          refine r_aload_n E dX64_wordList_67 rfl 0 rfl ?_
          refine r_get E zc_66 zt_6506 dX64_wordList_68 q1635 zr_66 (zg_6506 _) (by decide) (fun v13 => ?_)
          refine r_callV E [(0, v12), (0, v13)] [(66, 0)] rfl zc_66 zr_66 (fun o _ => ⟨_, zw_X64.1 o, rfl⟩) (lw_V q2815 q2817 qs41 q291 q2818) dX64_wordList_71 zy_X64_packed rfl (by omega) (by decide) (Nat.le_of_ble_eq_true rfl) (by decide) (fun l G => k_fX64_packed l G v12 v13) (fun v14 => ?_)
          refine r_callV E [(1, v14)] [] rfl zc_66 zr_66 (fun o _ => ⟨_, zw_X64.1 o, rfl⟩) (lw_V q2887 q2889 qs47 q291 q2890) dX64_wordList_74 zy_X64_put rfl (by omega) (by decide) (Nat.le_of_ble_eq_true rfl) (by decide) (fun l G => k_fX64_put l G v14) (fun _ => ?_)
          refine r_aload_n E dX64_wordList_77 rfl 0 rfl ?_
          refine r_callV E [] [] rfl zc_66 zr_66 (fun o _ => ⟨_, zw_X64.1 o, rfl⟩) (lw_V q2796 q2798 qs37 q291 q2799) dX64_wordList_78 zy_X64_next rfl (by omega) (by decide) (Nat.le_of_ble_eq_true rfl) (by decide) (fun l G => k_fX64_next l G) (fun _ => ?_)
          refine r_goto E 107 (by decide) dX64_wordList_81 ?_
          refine r_pick E [0] rfl ?_
          exact w_fX64_wordList_J107 E hN hT hr2
        · refine r_pick E [0] rfl ?_
          exact w_fX64_wordList_J51 E hN hT
      · refine r_pick E [0] rfl ?_
        exact w_fX64_wordList_J27 E hN hT
theorem w_fX64_wordList {K : zK} (E : zE K cX64_wordList "RingHouse$Assembler" (some .boolean) 5) (hN : zNl K = 2) (hT : zTr K = (some 0)) : zR K 0 [(0, 66, 0)] [] (fX64_wordList) := by
  refine r_iconst E dX64_wordList_0 (zkI (by decide) (by decide)) ?_
  refine r_istore_n (ls' := [(1, 0, 1), (0, 66, 0)]) E dX64_wordList_1 rfl (by rw [hN]; decide) rfl ?_
  refine r_pick E [1, 0] rfl ?_
  exact r_loop (L := fun s => [(0, 66, 0), (1, 0, s)]) (w_fX64_wordList_B2 E hN hT) zBIG 1
theorem k_fX64_wordList (l : Launch) (G : zG) : zCt l G yX64_wordList cX64_wordList 2 (some .boolean) 5 [(66, 0)] (some 0) (fX64_wordList) := zCt.of (by decide) (Nat.le_of_ble_eq_true rfl) (fun K E _ _ hN hT => w_fX64_wordList E hN hT)
theorem dX64_operation_0 : decode cX64_operation 0 = .ok (.iconst 0, 1) := by decide +kernel
theorem dX64_operation_1 : decode cX64_operation 1 = .ok (.istore_n 3, 1) := by decide +kernel
theorem dX64_operation_2 : decode cX64_operation 2 = .ok (.iload_n 3, 1) := by decide +kernel
theorem dX64_operation_3 : decode cX64_operation 3 = .ok (.aload_n 0, 1) := by decide +kernel
theorem dX64_operation_4 : decode cX64_operation 4 = .ok (.getfield 45, 3) := by decide +kernel
theorem dX64_operation_7 : decode cX64_operation 7 = .ok (.arraylength, 1) := by decide +kernel
theorem dX64_operation_8 : decode cX64_operation 8 = .ok (.if_icmp .ge 155, 3) := by decide +kernel
theorem dX64_operation_11 : decode cX64_operation 11 = .ok (.aload_n 0, 1) := by decide +kernel
theorem dX64_operation_12 : decode cX64_operation 12 = .ok (.getfield 45, 3) := by decide +kernel
theorem dX64_operation_15 : decode cX64_operation 15 = .ok (.iload_n 3, 1) := by decide +kernel
theorem dX64_operation_16 : decode cX64_operation 16 = .ok (.aaload, 1) := by decide +kernel
theorem dX64_operation_17 : decode cX64_operation 17 = .ok (.astore 4, 2) := by decide +kernel
theorem dX64_operation_19 : decode cX64_operation 19 = .ok (.aload 4, 2) := by decide +kernel
theorem dX64_operation_21 : decode cX64_operation 21 = .ok (.getfield 138, 3) := by decide +kernel
theorem dX64_operation_24 : decode cX64_operation 24 = .ok (.invokevirtual 143, 3) := by decide +kernel
theorem dX64_operation_27 : decode cX64_operation 27 = .ok (.istore 5, 2) := by decide +kernel
theorem dX64_operation_29 : decode cX64_operation 29 = .ok (.iload_n 2, 1) := by decide +kernel
theorem dX64_operation_30 : decode cX64_operation 30 = .ok (.iload_n 1, 1) := by decide +kernel
theorem dX64_operation_31 : decode cX64_operation 31 = .ok (.isub, 1) := by decide +kernel
theorem dX64_operation_32 : decode cX64_operation 32 = .ok (.aload 4, 2) := by decide +kernel
theorem dX64_operation_34 : decode cX64_operation 34 = .ok (.getfield 149, 3) := by decide +kernel
theorem dX64_operation_37 : decode cX64_operation 37 = .ok (.ifCond .le 10, 3) := by decide +kernel
theorem dX64_operation_40 : decode cX64_operation 40 = .ok (.iload 5, 2) := by decide +kernel
theorem dX64_operation_42 : decode cX64_operation 42 = .ok (.iconst 1, 1) := by decide +kernel
theorem dX64_operation_43 : decode cX64_operation 43 = .ok (.iadd, 1) := by decide +kernel
theorem dX64_operation_44 : decode cX64_operation 44 = .ok (.goto 5, 3) := by decide +kernel
theorem dX64_operation_47 : decode cX64_operation 47 = .ok (.iload 5, 2) := by decide +kernel
theorem dX64_operation_49 : decode cX64_operation 49 = .ok (.if_icmp .ne 7, 3) := by decide +kernel
theorem dX64_operation_52 : decode cX64_operation 52 = .ok (.iconst 1, 1) := by decide +kernel
theorem dX64_operation_53 : decode cX64_operation 53 = .ok (.goto 4, 3) := by decide +kernel
theorem dX64_operation_56 : decode cX64_operation 56 = .ok (.iconst 0, 1) := by decide +kernel
theorem dX64_operation_57 : decode cX64_operation 57 = .ok (.istore 6, 2) := by decide +kernel
theorem dX64_operation_59 : decode cX64_operation 59 = .ok (.iconst 0, 1) := by decide +kernel
theorem dX64_operation_60 : decode cX64_operation 60 = .ok (.istore 7, 2) := by decide +kernel
theorem dX64_operation_62 : decode cX64_operation 62 = .ok (.iload 7, 2) := by decide +kernel
theorem dX64_operation_64 : decode cX64_operation 64 = .ok (.iload 5, 2) := by decide +kernel
theorem dX64_operation_66 : decode cX64_operation 66 = .ok (.if_icmp .ge 43, 3) := by decide +kernel
theorem dX64_operation_69 : decode cX64_operation 69 = .ok (.iload 6, 2) := by decide +kernel
theorem dX64_operation_71 : decode cX64_operation 71 = .ok (.ifCond .eq 38, 3) := by decide +kernel
theorem dX64_operation_74 : decode cX64_operation 74 = .ok (.aload_n 0, 1) := by decide +kernel
theorem dX64_operation_75 : decode cX64_operation 75 = .ok (.getfield 9, 3) := by decide +kernel
theorem dX64_operation_78 : decode cX64_operation 78 = .ok (.iload_n 1, 1) := by decide +kernel
theorem dX64_operation_79 : decode cX64_operation 79 = .ok (.iload 7, 2) := by decide +kernel
theorem dX64_operation_81 : decode cX64_operation 81 = .ok (.iadd, 1) := by decide +kernel
theorem dX64_operation_82 : decode cX64_operation 82 = .ok (.iaload, 1) := by decide +kernel
theorem dX64_operation_83 : decode cX64_operation 83 = .ok (.aload 4, 2) := by decide +kernel
theorem dX64_operation_85 : decode cX64_operation 85 = .ok (.getfield 138, 3) := by decide +kernel
theorem dX64_operation_88 : decode cX64_operation 88 = .ok (.iload 7, 2) := by decide +kernel
theorem dX64_operation_90 : decode cX64_operation 90 = .ok (.invokevirtual 152, 3) := by decide +kernel
theorem dX64_operation_93 : decode cX64_operation 93 = .ok (.if_icmp .ne 7, 3) := by decide +kernel
theorem dX64_operation_96 : decode cX64_operation 96 = .ok (.iconst 1, 1) := by decide +kernel
theorem dX64_operation_97 : decode cX64_operation 97 = .ok (.goto 4, 3) := by decide +kernel
theorem dX64_operation_100 : decode cX64_operation 100 = .ok (.iconst 0, 1) := by decide +kernel
theorem dX64_operation_101 : decode cX64_operation 101 = .ok (.istore 6, 2) := by decide +kernel
theorem dX64_operation_103 : decode cX64_operation 103 = .ok (.iinc 7 1, 3) := by decide +kernel
theorem dX64_operation_106 : decode cX64_operation 106 = .ok (.goto (-44), 3) := by decide +kernel
theorem dX64_operation_109 : decode cX64_operation 109 = .ok (.iload 6, 2) := by decide +kernel
theorem dX64_operation_111 : decode cX64_operation 111 = .ok (.ifCond .eq 46, 3) := by decide +kernel
theorem dX64_operation_114 : decode cX64_operation 114 = .ok (.aload 4, 2) := by decide +kernel
theorem dX64_operation_116 : decode cX64_operation 116 = .ok (.getfield 149, 3) := by decide +kernel
theorem dX64_operation_119 : decode cX64_operation 119 = .ok (.ifCond .eq 35, 3) := by decide +kernel
theorem dX64_operation_122 : decode cX64_operation 122 = .ok (.aload_n 0, 1) := by decide +kernel
theorem dX64_operation_123 : decode cX64_operation 123 = .ok (.getfield 9, 3) := by decide +kernel
theorem dX64_operation_126 : decode cX64_operation 126 = .ok (.iload_n 2, 1) := by decide +kernel
theorem dX64_operation_127 : decode cX64_operation 127 = .ok (.iconst 1, 1) := by decide +kernel
theorem dX64_operation_128 : decode cX64_operation 128 = .ok (.isub, 1) := by decide +kernel
theorem dX64_operation_129 : decode cX64_operation 129 = .ok (.iaload, 1) := by decide +kernel
theorem dX64_operation_130 : decode cX64_operation 130 = .ok (.bipush 48, 2) := by decide +kernel
theorem dX64_operation_132 : decode cX64_operation 132 = .ok (.if_icmp .lt 25, 3) := by decide +kernel
theorem dX64_operation_135 : decode cX64_operation 135 = .ok (.aload_n 0, 1) := by decide +kernel
theorem dX64_operation_136 : decode cX64_operation 136 = .ok (.getfield 9, 3) := by decide +kernel
theorem dX64_operation_139 : decode cX64_operation 139 = .ok (.iload_n 2, 1) := by decide +kernel
theorem dX64_operation_140 : decode cX64_operation 140 = .ok (.iconst 1, 1) := by decide +kernel
theorem dX64_operation_141 : decode cX64_operation 141 = .ok (.isub, 1) := by decide +kernel
theorem dX64_operation_142 : decode cX64_operation 142 = .ok (.iaload, 1) := by decide +kernel
theorem dX64_operation_143 : decode cX64_operation 143 = .ok (.bipush 48, 2) := by decide +kernel
theorem dX64_operation_145 : decode cX64_operation 145 = .ok (.aload 4, 2) := by decide +kernel
theorem dX64_operation_147 : decode cX64_operation 147 = .ok (.getfield 149, 3) := by decide +kernel
theorem dX64_operation_150 : decode cX64_operation 150 = .ok (.iadd, 1) := by decide +kernel
theorem dX64_operation_151 : decode cX64_operation 151 = .ok (.if_icmp .ge 6, 3) := by decide +kernel
theorem dX64_operation_154 : decode cX64_operation 154 = .ok (.aload 4, 2) := by decide +kernel
theorem dX64_operation_156 : decode cX64_operation 156 = .ok (.areturn, 1) := by decide +kernel
theorem dX64_operation_157 : decode cX64_operation 157 = .ok (.iinc 3 1, 3) := by decide +kernel
theorem dX64_operation_160 : decode cX64_operation 160 = .ok (.goto (-158), 3) := by decide +kernel
theorem dX64_operation_163 : decode cX64_operation 163 = .ok (.aconst_null, 1) := by decide +kernel
theorem dX64_operation_164 : decode cX64_operation 164 = .ok (.areturn, 1) := by decide +kernel
theorem zy_X64_operation : yX64_operation.cls ≠ "java/lang/invoke/MethodHandle" ∧ yX64_operation.cls ≠ "java/lang/invoke/VarHandle" ∧ (parseMethodDescriptor yX64_operation.desc).map (fun d => d.parameters.length) = some 2 := by decide +kernel
theorem w_fX64_operation_J157 {K : zK} (E : zE K cX64_operation "RingHouse$Assembler" (some (.object "RingHouse$Operation")) 8) (hN : zNl K = 8) (hT : zTr K = (some 16)) (x1 : Int) (x2 : Int) (x3 : Int) {r2 : Int → zX} (hr2 : ∀ s : Int, zR K 2 [(0, 66, 0), (1, 0, x1), (2, 0, x2), (3, 0, s)] [] (r2 s)) : zR K 157 [(0, 66, 0), (1, 0, x1), (2, 0, x2), (3, 0, x3)] [] (fX64_operation_J157 r2 x1 x2 x3) := by
  refine r_iinc (ls' := fun v5 => [(3, 0, v5), (0, 66, 0), (1, 0, x1), (2, 0, x2)]) E 3 rfl (by rw [hN]; decide) (fun _ => rfl) dX64_operation_157 (fun v5 _ => ?_)
  refine r_goto E 2 (by decide) dX64_operation_160 ?_
  refine r_pick E [1, 2, 3, 0] rfl ?_
  exact hr2 v5
theorem w_fX64_operation_J109 {K : zK} (E : zE K cX64_operation "RingHouse$Assembler" (some (.object "RingHouse$Operation")) 8) (hN : zNl K = 8) (hT : zTr K = (some 16)) (x1 : Int) (x2 : Int) (x3 : Int) (x4 : Int) (x6 : Int) {r2 : Int → zX} (hr2 : ∀ s : Int, zR K 2 [(0, 66, 0), (1, 0, x1), (2, 0, x2), (3, 0, s)] [] (r2 s)) : zR K 109 [(0, 66, 0), (1, 0, x1), (2, 0, x2), (3, 0, x3), (4, 16, x4), (6, 0, x6)] [] (fX64_operation_J109 r2 x1 x2 x3 x4 x6) := by
  refine r_iload E dX64_operation_109 5 rfl ?_
  refine r_if_eq E 157 (by decide) dX64_operation_111 (fun _ => ?_) (fun _ => ?_)
  · refine r_pick E [0, 1, 2, 3] rfl ?_
    exact w_fX64_operation_J157 E hN hT x1 x2 x3 hr2
  · refine r_aload E dX64_operation_114 4 rfl ?_
    refine r_nn E (fun hn6 => ?_)
    refine r_gecN (y := (zregs x4)) E zc_16 dX64_operation_116 q1045 zr_16 (zhv_registers _) hn6 ?_
    refine r_if_eq E 154 (by decide) dX64_operation_119 (fun _ => ?_) (fun _ => ?_)
    · refine r_aload E dX64_operation_154 4 rfl ?_
      exact r_areturn E rfl hT dX64_operation_156
    · refine r_aload_n E dX64_operation_122 rfl 0 rfl ?_
      refine r_gec (y := 0) E zc_66 dX64_operation_123 q1629 zr_66 (zh_6502 (by decide)) (by decide) ?_
      refine r_iload_n E dX64_operation_126 rfl 2 rfl ?_
      refine r_iconst E dX64_operation_127 (zkI (by decide) (by decide)) ?_
      refine r_isub E dX64_operation_128 ?_
      refine r_iaload E zc_6502 za_6502 zt_6502 zx_6502 rfl rfl dX64_operation_129 (by decide) (fun v7 => ?_)
      refine r_bipush E dX64_operation_130 (by decide) (zkI (by decide) (by decide)) ?_
      refine r_icmp_lt E 157 (by decide) dX64_operation_132 (fun _ => ?_) (fun _ => ?_)
      · refine r_pick E [0, 1, 2, 3] rfl ?_
        exact w_fX64_operation_J157 E hN hT x1 x2 x3 hr2
      · refine r_aload_n E dX64_operation_135 rfl 0 rfl ?_
        refine r_gec (y := 0) E zc_66 dX64_operation_136 q1629 zr_66 (zh_6502 (by decide)) (by decide) ?_
        refine r_iload_n E dX64_operation_139 rfl 2 rfl ?_
        refine r_iconst E dX64_operation_140 (zkI (by decide) (by decide)) ?_
        refine r_isub E dX64_operation_141 ?_
        refine r_iaload E zc_6502 za_6502 zt_6502 zx_6502 rfl rfl dX64_operation_142 (by decide) (fun v8 => ?_)
        refine r_bipush E dX64_operation_143 (by decide) (zkI (by decide) (by decide)) ?_
        refine r_aload E dX64_operation_145 4 rfl ?_
        refine r_gecN (y := (zregs x4)) E zc_16 dX64_operation_147 q1045 zr_16 (zhv_registers _) hn6 ?_
        refine r_iadd E dX64_operation_150 ?_
        refine r_icmp_ge E 157 (by decide) dX64_operation_151 (fun _ => ?_) (fun _ => ?_)
        · refine r_pick E [0, 1, 2, 3] rfl ?_
          exact w_fX64_operation_J157 E hN hT x1 x2 x3 hr2
        · refine r_aload E dX64_operation_154 4 rfl ?_
          exact r_areturn E rfl hT dX64_operation_156
theorem w_fX64_operation_J101 {K : zK} (E : zE K cX64_operation "RingHouse$Assembler" (some (.object "RingHouse$Operation")) 8) (hN : zNl K = 8) (hT : zTr K = (some 16)) (x1 : Int) (x2 : Int) (x3 : Int) (x4 : Int) (x5 : Int) (x7 : Int) (s0 : Int) {r2 : Int → zX} (hr2 : ∀ s : Int, zR K 2 [(0, 66, 0), (1, 0, x1), (2, 0, x2), (3, 0, s)] [] (r2 s)) {r62 : Int × Int → zX} (hr62 : ∀ s : Int × Int, zR K 62 [(0, 66, 0), (1, 0, x1), (2, 0, x2), (3, 0, x3), (4, 16, x4), (5, 0, x5), (6, 0, s.1), (7, 0, s.2)] [] (r62 s)) : zR K 101 [(0, 66, 0), (1, 0, x1), (2, 0, x2), (3, 0, x3), (4, 16, x4), (5, 0, x5), (7, 0, x7)] [(0, s0)] (fX64_operation_J101 r2 r62 x1 x2 x3 x4 x5 x7 s0) := by
  refine r_istore (ls' := [(6, 0, s0), (0, 66, 0), (1, 0, x1), (2, 0, x2), (3, 0, x3), (4, 16, x4), (5, 0, x5), (7, 0, x7)]) E dX64_operation_101 (by rw [hN]; decide) rfl ?_
  refine r_iinc (ls' := fun v12 => [(7, 0, v12), (6, 0, s0), (0, 66, 0), (1, 0, x1), (2, 0, x2), (3, 0, x3), (4, 16, x4), (5, 0, x5)]) E 7 rfl (by rw [hN]; decide) (fun _ => rfl) dX64_operation_103 (fun v12 _ => ?_)
  refine r_goto E 62 (by decide) dX64_operation_106 ?_
  refine r_pick E [2, 3, 4, 5, 6, 7, 1, 0] rfl ?_
  exact hr62 (s0, v12)
theorem w_fX64_operation_B62 {K : zK} (E : zE K cX64_operation "RingHouse$Assembler" (some (.object "RingHouse$Operation")) 8) (hN : zNl K = 8) (hT : zTr K = (some 16)) (x1 : Int) (x2 : Int) (x3 : Int) (x4 : Int) (x5 : Int) {r2 : Int → zX} (hr2 : ∀ s : Int, zR K 2 [(0, 66, 0), (1, 0, x1), (2, 0, x2), (3, 0, s)] [] (r2 s)) : ∀ r62 : Int × Int → zX, (∀ s : Int × Int, zR K 62 [(0, 66, 0), (1, 0, x1), (2, 0, x2), (3, 0, x3), (4, 16, x4), (5, 0, x5), (6, 0, s.1), (7, 0, s.2)] [] (r62 s)) → ∀ s : Int × Int, zR K 62 [(0, 66, 0), (1, 0, x1), (2, 0, x2), (3, 0, x3), (4, 16, x4), (5, 0, x5), (6, 0, s.1), (7, 0, s.2)] [] (fX64_operation_B62 r2 x1 x2 x3 x4 x5 r62 s) := by
  intro r62 hr62 s
  obtain ⟨x6, x7⟩ := s
  refine r_iload E dX64_operation_62 7 rfl ?_
  refine r_iload E dX64_operation_64 5 rfl ?_
  refine r_icmp_ge E 109 (by decide) dX64_operation_66 (fun _ => ?_) (fun _ => ?_)
  · refine r_pick E [0, 1, 2, 3, 4, 6] rfl ?_
    exact w_fX64_operation_J109 E hN hT x1 x2 x3 x4 x6 hr2
  · refine r_iload E dX64_operation_69 6 rfl ?_
    refine r_if_eq E 109 (by decide) dX64_operation_71 (fun _ => ?_) (fun _ => ?_)
    · refine r_pick E [0, 1, 2, 3, 4, 6] rfl ?_
      exact w_fX64_operation_J109 E hN hT x1 x2 x3 x4 x6 hr2
    · refine r_aload_n E dX64_operation_74 rfl 0 rfl ?_
      refine r_gec (y := 0) E zc_66 dX64_operation_75 q1629 zr_66 (zh_6502 (by decide)) (by decide) ?_
      refine r_iload_n E dX64_operation_78 rfl 1 rfl ?_
      refine r_iload E dX64_operation_79 7 rfl ?_
      refine r_iadd E dX64_operation_81 ?_
      refine r_iaload E zc_6502 za_6502 zt_6502 zx_6502 rfl rfl dX64_operation_82 (by decide) (fun v9 => ?_)
      refine r_aload E dX64_operation_83 4 rfl ?_
      refine r_nn E (fun hn10 => ?_)
      refine r_gecN (y := x4) E zc_16 dX64_operation_85 q1036 zr_16 (zhv_name _) hn10 ?_
      refine r_iload E dX64_operation_88 7 rfl ?_
      refine r_scha E q2841 dX64_operation_90 hn10 (Nat.le_of_ble_eq_true rfl) (by omega) (fun v11 => ?_)
      refine r_icmp_ne E 100 (by decide) dX64_operation_93 (fun _ => ?_) (fun _ => ?_)
      · refine r_iconst E dX64_operation_100 (zkI (by decide) (by decide)) ?_
        refine r_pick E [0, 1, 2, 3, 4, 5, 7] rfl ?_
        exact w_fX64_operation_J101 E hN hT x1 x2 x3 x4 x5 x7 0 hr2 hr62
      · refine r_iconst E dX64_operation_96 (zkI (by decide) (by decide)) ?_
        refine r_goto E 101 (by decide) dX64_operation_97 ?_
        refine r_pick E [0, 1, 2, 3, 4, 5, 7] rfl ?_
        exact w_fX64_operation_J101 E hN hT x1 x2 x3 x4 x5 x7 1 hr2 hr62
theorem w_fX64_operation_J57 {K : zK} (E : zE K cX64_operation "RingHouse$Assembler" (some (.object "RingHouse$Operation")) 8) (hN : zNl K = 8) (hT : zTr K = (some 16)) (x1 : Int) (x2 : Int) (x3 : Int) (x4 : Int) (x5 : Int) (s0 : Int) {r2 : Int → zX} (hr2 : ∀ s : Int, zR K 2 [(0, 66, 0), (1, 0, x1), (2, 0, x2), (3, 0, s)] [] (r2 s)) : zR K 57 [(0, 66, 0), (1, 0, x1), (2, 0, x2), (3, 0, x3), (4, 16, x4), (5, 0, x5)] [(0, s0)] (fX64_operation_J57 r2 x1 x2 x3 x4 x5 s0) := by
  refine r_istore (ls' := [(6, 0, s0), (0, 66, 0), (1, 0, x1), (2, 0, x2), (3, 0, x3), (4, 16, x4), (5, 0, x5)]) E dX64_operation_57 (by rw [hN]; decide) rfl ?_
  refine r_iconst E dX64_operation_59 (zkI (by decide) (by decide)) ?_
  refine r_istore (ls' := [(7, 0, 0), (6, 0, s0), (0, 66, 0), (1, 0, x1), (2, 0, x2), (3, 0, x3), (4, 16, x4), (5, 0, x5)]) E dX64_operation_60 (by rw [hN]; decide) rfl ?_
  refine r_pick E [2, 3, 4, 5, 6, 7, 1, 0] rfl ?_
  exact r_loop (L := fun s => [(0, 66, 0), (1, 0, x1), (2, 0, x2), (3, 0, x3), (4, 16, x4), (5, 0, x5), (6, 0, s.1), (7, 0, s.2)]) (w_fX64_operation_B62 E hN hT x1 x2 x3 x4 x5 hr2) zBIG (s0, 0)
theorem w_fX64_operation_J49 {K : zK} (E : zE K cX64_operation "RingHouse$Assembler" (some (.object "RingHouse$Operation")) 8) (hN : zNl K = 8) (hT : zTr K = (some 16)) (x1 : Int) (x2 : Int) (x3 : Int) (x4 : Int) (x5 : Int) (s0 : Int) (s1 : Int) {r2 : Int → zX} (hr2 : ∀ s : Int, zR K 2 [(0, 66, 0), (1, 0, x1), (2, 0, x2), (3, 0, s)] [] (r2 s)) : zR K 49 [(0, 66, 0), (1, 0, x1), (2, 0, x2), (3, 0, x3), (4, 16, x4), (5, 0, x5)] [(0, s1), (0, s0)] (fX64_operation_J49 r2 x1 x2 x3 x4 x5 s0 s1) := by
  refine r_icmp_ne E 56 (by decide) dX64_operation_49 (fun _ => ?_) (fun _ => ?_)
  · refine r_iconst E dX64_operation_56 (zkI (by decide) (by decide)) ?_
    exact w_fX64_operation_J57 E hN hT x1 x2 x3 x4 x5 0 hr2
  · refine r_iconst E dX64_operation_52 (zkI (by decide) (by decide)) ?_
    refine r_goto E 57 (by decide) dX64_operation_53 ?_
    exact w_fX64_operation_J57 E hN hT x1 x2 x3 x4 x5 1 hr2
theorem w_fX64_operation_B2 {K : zK} (E : zE K cX64_operation "RingHouse$Assembler" (some (.object "RingHouse$Operation")) 8) (hN : zNl K = 8) (hT : zTr K = (some 16)) (x1 : Int) (x2 : Int) : ∀ r2 : Int → zX, (∀ s : Int, zR K 2 [(0, 66, 0), (1, 0, x1), (2, 0, x2), (3, 0, s)] [] (r2 s)) → ∀ s : Int, zR K 2 [(0, 66, 0), (1, 0, x1), (2, 0, x2), (3, 0, s)] [] (fX64_operation_B2 x1 x2 r2 s) := by
  intro r2 hr2 x3
  refine r_iload_n E dX64_operation_2 rfl 3 rfl ?_
  refine r_aload_n E dX64_operation_3 rfl 0 rfl ?_
  refine r_gec (y := 0) E zc_66 dX64_operation_4 q1628 zr_66 (zh_6501 (by decide)) (by decide) ?_
  refine r_alen (n := 38) E zc_1302 za_1302 zx_1302 rfl (zkI (by decide) (by decide)) dX64_operation_7 (by decide) ?_
  refine r_icmp_ge E 163 (by decide) dX64_operation_8 (fun _ => ?_) (fun _ => ?_)
  · refine r_null E 14 dX64_operation_163 ?_
    exact r_areturn E rfl hT dX64_operation_164
  · refine r_aload_n E dX64_operation_11 rfl 0 rfl ?_
    refine r_gec (y := 0) E zc_66 dX64_operation_12 q1628 zr_66 (zh_6501 (by decide)) (by decide) ?_
    refine r_iload_n E dX64_operation_15 rfl 3 rfl ?_
    refine r_aaloc (y := x3) E zc_1302 za_1302 zt_1302 zx_1302 rfl rfl (by omega) dX64_operation_16 (by decide) (fun hi2 => ?_)
    refine r_astore (ls' := [(4, 16, x3), (0, 66, 0), (1, 0, x1), (2, 0, x2), (3, 0, x3)]) E dX64_operation_17 (by rw [hN]; decide) rfl ?_
    refine r_aload E dX64_operation_19 0 rfl ?_
    refine r_gecN (y := x3) E zc_16 dX64_operation_21 q1036 zr_16 (zhv_name _) hi2 ?_
    refine r_slen E q2831 dX64_operation_24 hi2 (Nat.le_of_ble_eq_true rfl) (by omega) ?_
    refine r_let E (fun v4 ev4 => ?_)
    refine r_istore (ls' := [(5, 0, v4), (4, 16, x3), (0, 66, 0), (1, 0, x1), (2, 0, x2), (3, 0, x3)]) E dX64_operation_27 (by rw [hN]; decide) rfl ?_
    refine r_iload_n E dX64_operation_29 rfl 4 rfl ?_
    refine r_iload_n E dX64_operation_30 rfl 3 rfl ?_
    refine r_isub E dX64_operation_31 ?_
    refine r_aload E dX64_operation_32 1 rfl ?_
    refine r_gecN (y := (zregs x3)) E zc_16 dX64_operation_34 q1045 zr_16 (zhv_registers _) hi2 ?_
    refine r_if_le E 47 (by decide) dX64_operation_37 (fun _ => ?_) (fun _ => ?_)
    · refine r_iload E dX64_operation_47 0 rfl ?_
      refine r_pick E [2, 3, 4, 5, 1, 0] rfl ?_
      exact w_fX64_operation_J49 E hN hT x1 x2 x3 x3 v4 (zi (x2 - x1)) v4 hr2
    · refine r_iload E dX64_operation_40 0 rfl ?_
      refine r_iconst E dX64_operation_42 (zkI (by decide) (by decide)) ?_
      refine r_iadd E dX64_operation_43 ?_
      refine r_goto E 49 (by decide) dX64_operation_44 ?_
      refine r_pick E [2, 3, 4, 5, 1, 0] rfl ?_
      exact w_fX64_operation_J49 E hN hT x1 x2 x3 x3 v4 (zi (x2 - x1)) (zi (v4 + 1)) hr2
theorem w_fX64_operation {K : zK} (E : zE K cX64_operation "RingHouse$Assembler" (some (.object "RingHouse$Operation")) 8) (hN : zNl K = 8) (hT : zTr K = (some 16)) (x1 : Int) (x2 : Int) : zR K 0 [(0, 66, 0), (1, 0, x1), (2, 0, x2)] [] (fX64_operation x1 x2) := by
  refine r_iconst E dX64_operation_0 (zkI (by decide) (by decide)) ?_
  refine r_istore_n (ls' := [(3, 0, 0), (0, 66, 0), (1, 0, x1), (2, 0, x2)]) E dX64_operation_1 rfl (by rw [hN]; decide) rfl ?_
  refine r_pick E [1, 2, 3, 0] rfl ?_
  exact r_loop (L := fun s => [(0, 66, 0), (1, 0, x1), (2, 0, x2), (3, 0, s)]) (w_fX64_operation_B2 E hN hT x1 x2) zBIG 0
theorem k_fX64_operation (l : Launch) (G : zG) (x1 : Int) (x2 : Int) : zCt l G yX64_operation cX64_operation 8 (some (.object "RingHouse$Operation")) 8 [(66, 0), (0, x1), (0, x2)] (some 16) (fX64_operation x1 x2) := zCt.of (by decide) (Nat.le_of_ble_eq_true rfl) (fun K E _ _ hN hT => w_fX64_operation E hN hT x1 x2)
theorem dX64_which_0 : decode cX64_which 0 = .ok (.iconst 0, 1) := by decide +kernel
theorem dX64_which_1 : decode cX64_which 1 = .ok (.istore_n 2, 1) := by decide +kernel
theorem dX64_which_2 : decode cX64_which 2 = .ok (.aload_n 0, 1) := by decide +kernel
theorem dX64_which_3 : decode cX64_which 3 = .ok (.getfield 45, 3) := by decide +kernel
theorem dX64_which_6 : decode cX64_which 6 = .ok (.iload_n 2, 1) := by decide +kernel
theorem dX64_which_7 : decode cX64_which 7 = .ok (.aaload, 1) := by decide +kernel
theorem dX64_which_8 : decode cX64_which 8 = .ok (.aload_n 1, 1) := by decide +kernel
theorem dX64_which_9 : decode cX64_which 9 = .ok (.if_acmp .eq 9, 3) := by decide +kernel
theorem dX64_which_12 : decode cX64_which 12 = .ok (.iinc 2 1, 3) := by decide +kernel
theorem dX64_which_15 : decode cX64_which 15 = .ok (.goto (-13), 3) := by decide +kernel
theorem dX64_which_18 : decode cX64_which 18 = .ok (.iload_n 2, 1) := by decide +kernel
theorem dX64_which_19 : decode cX64_which 19 = .ok (.ireturn, 1) := by decide +kernel
theorem zy_X64_which : yX64_which.cls ≠ "java/lang/invoke/MethodHandle" ∧ yX64_which.cls ≠ "java/lang/invoke/VarHandle" ∧ (parseMethodDescriptor yX64_which.desc).map (fun d => d.parameters.length) = some 1 := by decide +kernel
theorem w_fX64_which_B2 {K : zK} (E : zE K cX64_which "RingHouse$Assembler" (some .int) 0) (hN : zNl K = 3) (hT : zTr K = (some 0)) (x1 : Int) : ∀ r2 : Int → zX, (∀ s : Int, zR K 2 [(0, 66, 0), (1, 16, x1), (2, 0, s)] [] (r2 s)) → ∀ s : Int, zR K 2 [(0, 66, 0), (1, 16, x1), (2, 0, s)] [] (fX64_which_B2 x1 r2 s) := by
  intro r2 hr2 x2
  refine r_aload_n E dX64_which_2 rfl 0 rfl ?_
  refine r_gec (y := 0) E zc_66 dX64_which_3 q1628 zr_66 (zh_6501 (by decide)) (by decide) ?_
  refine r_iload_n E dX64_which_6 rfl 2 rfl ?_
  refine r_aaloc (y := x2) E zc_1302 za_1302 zt_1302 zx_1302 rfl rfl (by omega) dX64_which_7 (by decide) (fun hi2 => ?_)
  refine r_aload_n E dX64_which_8 rfl 1 rfl ?_
  refine r_acmp_eq E rfl 18 (by decide) dX64_which_9 (fun _ => ?_) (fun _ => ?_)
  · refine r_iload_n E dX64_which_18 rfl 2 rfl ?_
    exact r_ireturn E rfl hT dX64_which_19
  · refine r_iinc (ls' := fun v3 => [(2, 0, v3), (0, 66, 0), (1, 16, x1)]) E 2 rfl (by rw [hN]; decide) (fun _ => rfl) dX64_which_12 (fun v3 _ => ?_)
    refine r_goto E 2 (by decide) dX64_which_15 ?_
    refine r_pick E [1, 2, 0] rfl ?_
    exact hr2 v3
theorem w_fX64_which {K : zK} (E : zE K cX64_which "RingHouse$Assembler" (some .int) 0) (hN : zNl K = 3) (hT : zTr K = (some 0)) (x1 : Int) : zR K 0 [(0, 66, 0), (1, 16, x1)] [] (fX64_which x1) := by
  refine r_iconst E dX64_which_0 (zkI (by decide) (by decide)) ?_
  refine r_istore_n (ls' := [(2, 0, 0), (0, 66, 0), (1, 16, x1)]) E dX64_which_1 rfl (by rw [hN]; decide) rfl ?_
  refine r_pick E [1, 2, 0] rfl ?_
  exact r_loop (L := fun s => [(0, 66, 0), (1, 16, x1), (2, 0, s)]) (w_fX64_which_B2 E hN hT x1) zBIG 0
theorem k_fX64_which (l : Launch) (G : zG) (x1 : Int) : zCt l G yX64_which cX64_which 3 (some .int) 0 [(66, 0), (16, x1)] (some 0) (fX64_which x1) := zCt.of (by decide) (Nat.le_of_ble_eq_true rfl) (fun K E _ _ hN hT => w_fX64_which E hN hT x1)
theorem dX64_ahead_0 : decode cX64_ahead 0 = .ok (.aload_n 0, 1) := by decide +kernel
theorem dX64_ahead_1 : decode cX64_ahead 1 = .ok (.getfield 52, 3) := by decide +kernel
theorem dX64_ahead_4 : decode cX64_ahead 4 = .ok (.istore_n 1, 1) := by decide +kernel
theorem dX64_ahead_5 : decode cX64_ahead 5 = .ok (.iload_n 1, 1) := by decide +kernel
theorem dX64_ahead_6 : decode cX64_ahead 6 = .ok (.aload_n 0, 1) := by decide +kernel
theorem dX64_ahead_7 : decode cX64_ahead 7 = .ok (.getfield 58, 3) := by decide +kernel
theorem dX64_ahead_10 : decode cX64_ahead 10 = .ok (.if_icmp .ge 20, 3) := by decide +kernel
theorem dX64_ahead_13 : decode cX64_ahead 13 = .ok (.aload_n 0, 1) := by decide +kernel
theorem dX64_ahead_14 : decode cX64_ahead 14 = .ok (.getfield 9, 3) := by decide +kernel
theorem dX64_ahead_17 : decode cX64_ahead 17 = .ok (.iload_n 1, 1) := by decide +kernel
theorem dX64_ahead_18 : decode cX64_ahead 18 = .ok (.iaload, 1) := by decide +kernel
theorem dX64_ahead_19 : decode cX64_ahead 19 = .ok (.bipush 32, 2) := by decide +kernel
theorem dX64_ahead_21 : decode cX64_ahead 21 = .ok (.if_icmp .ne 9, 3) := by decide +kernel
theorem dX64_ahead_24 : decode cX64_ahead 24 = .ok (.iinc 1 1, 3) := by decide +kernel
theorem dX64_ahead_27 : decode cX64_ahead 27 = .ok (.goto (-22), 3) := by decide +kernel
theorem dX64_ahead_30 : decode cX64_ahead 30 = .ok (.iload_n 1, 1) := by decide +kernel
theorem dX64_ahead_31 : decode cX64_ahead 31 = .ok (.aload_n 0, 1) := by decide +kernel
theorem dX64_ahead_32 : decode cX64_ahead 32 = .ok (.getfield 58, 3) := by decide +kernel
theorem dX64_ahead_35 : decode cX64_ahead 35 = .ok (.if_icmp .ge 12, 3) := by decide +kernel
theorem dX64_ahead_38 : decode cX64_ahead 38 = .ok (.aload_n 0, 1) := by decide +kernel
theorem dX64_ahead_39 : decode cX64_ahead 39 = .ok (.getfield 9, 3) := by decide +kernel
theorem dX64_ahead_42 : decode cX64_ahead 42 = .ok (.iload_n 1, 1) := by decide +kernel
theorem dX64_ahead_43 : decode cX64_ahead 43 = .ok (.iaload, 1) := by decide +kernel
theorem dX64_ahead_44 : decode cX64_ahead 44 = .ok (.goto 4, 3) := by decide +kernel
theorem dX64_ahead_47 : decode cX64_ahead 47 = .ok (.iconst 0, 1) := by decide +kernel
theorem dX64_ahead_48 : decode cX64_ahead 48 = .ok (.ireturn, 1) := by decide +kernel
theorem zy_X64_ahead : yX64_ahead.cls ≠ "java/lang/invoke/MethodHandle" ∧ yX64_ahead.cls ≠ "java/lang/invoke/VarHandle" ∧ (parseMethodDescriptor yX64_ahead.desc).map (fun d => d.parameters.length) = some 0 := by decide +kernel
theorem w_fX64_ahead_J30 {K : zK} (E : zE K cX64_ahead "RingHouse$Assembler" (some .int) 0) (hN : zNl K = 2) (hT : zTr K = (some 0)) (x1 : Int) : zR K 30 [(0, 66, 0), (1, 0, x1)] [] (fX64_ahead_J30 x1) := by
  refine r_iload_n E dX64_ahead_30 rfl 1 rfl ?_
  refine r_aload_n E dX64_ahead_31 rfl 0 rfl ?_
  refine r_get E zc_66 zt_6507 dX64_ahead_32 q1636 zr_66 (zg_6507 _) (by decide) (fun v3 => ?_)
  refine r_icmp_ge E 47 (by decide) dX64_ahead_35 (fun _ => ?_) (fun _ => ?_)
  · refine r_iconst E dX64_ahead_47 (zkI (by decide) (by decide)) ?_
    exact r_ireturn E rfl hT dX64_ahead_48
  · refine r_aload_n E dX64_ahead_38 rfl 0 rfl ?_
    refine r_gec (y := 0) E zc_66 dX64_ahead_39 q1629 zr_66 (zh_6502 (by decide)) (by decide) ?_
    refine r_iload_n E dX64_ahead_42 rfl 1 rfl ?_
    refine r_iaload E zc_6502 za_6502 zt_6502 zx_6502 rfl rfl dX64_ahead_43 (by decide) (fun v4 => ?_)
    refine r_goto E 48 (by decide) dX64_ahead_44 ?_
    exact r_ireturn E rfl hT dX64_ahead_48
theorem w_fX64_ahead_B5 {K : zK} (E : zE K cX64_ahead "RingHouse$Assembler" (some .int) 0) (hN : zNl K = 2) (hT : zTr K = (some 0)) : ∀ r5 : Int → zX, (∀ s : Int, zR K 5 [(0, 66, 0), (1, 0, s)] [] (r5 s)) → ∀ s : Int, zR K 5 [(0, 66, 0), (1, 0, s)] [] (fX64_ahead_B5 r5 s) := by
  intro r5 hr5 x1
  refine r_iload_n E dX64_ahead_5 rfl 1 rfl ?_
  refine r_aload_n E dX64_ahead_6 rfl 0 rfl ?_
  refine r_get E zc_66 zt_6507 dX64_ahead_7 q1636 zr_66 (zg_6507 _) (by decide) (fun v2 => ?_)
  refine r_icmp_ge E 30 (by decide) dX64_ahead_10 (fun _ => ?_) (fun _ => ?_)
  · exact w_fX64_ahead_J30 E hN hT x1
  · refine r_aload_n E dX64_ahead_13 rfl 0 rfl ?_
    refine r_gec (y := 0) E zc_66 dX64_ahead_14 q1629 zr_66 (zh_6502 (by decide)) (by decide) ?_
    refine r_iload_n E dX64_ahead_17 rfl 1 rfl ?_
    refine r_iaload E zc_6502 za_6502 zt_6502 zx_6502 rfl rfl dX64_ahead_18 (by decide) (fun v5 => ?_)
    refine r_bipush E dX64_ahead_19 (by decide) (zkI (by decide) (by decide)) ?_
    refine r_icmp_ne E 30 (by decide) dX64_ahead_21 (fun _ => ?_) (fun _ => ?_)
    · exact w_fX64_ahead_J30 E hN hT x1
    · refine r_iinc (ls' := fun v6 => [(1, 0, v6), (0, 66, 0)]) E 1 rfl (by rw [hN]; decide) (fun _ => rfl) dX64_ahead_24 (fun v6 _ => ?_)
      refine r_goto E 5 (by decide) dX64_ahead_27 ?_
      refine r_pick E [1, 0] rfl ?_
      exact hr5 v6
theorem w_fX64_ahead {K : zK} (E : zE K cX64_ahead "RingHouse$Assembler" (some .int) 0) (hN : zNl K = 2) (hT : zTr K = (some 0)) : zR K 0 [(0, 66, 0)] [] (fX64_ahead) := by
  refine r_aload_n E dX64_ahead_0 rfl 0 rfl ?_
  refine r_get E zc_66 zt_6506 dX64_ahead_1 q1635 zr_66 (zg_6506 _) (by decide) (fun v1 => ?_)
  refine r_istore_n (ls' := [(1, 0, v1), (0, 66, 0)]) E dX64_ahead_4 rfl (by rw [hN]; decide) rfl ?_
  refine r_pick E [1, 0] rfl ?_
  exact r_loop (L := fun s => [(0, 66, 0), (1, 0, s)]) (w_fX64_ahead_B5 E hN hT) zBIG v1
theorem k_fX64_ahead (l : Launch) (G : zG) : zCt l G yX64_ahead cX64_ahead 2 (some .int) 0 [(66, 0)] (some 0) (fX64_ahead) := zCt.of (by decide) (Nat.le_of_ble_eq_true rfl) (fun K E _ _ hN hT => w_fX64_ahead E hN hT)
theorem dX64_linkFor_0 : decode cX64_linkFor 0 = .ok (.iconst 0, 1) := by decide +kernel
theorem dX64_linkFor_1 : decode cX64_linkFor 1 = .ok (.istore 6, 2) := by decide +kernel
theorem dX64_linkFor_3 : decode cX64_linkFor 3 = .ok (.iload 6, 2) := by decide +kernel
theorem dX64_linkFor_5 : decode cX64_linkFor 5 = .ok (.aload_n 0, 1) := by decide +kernel
theorem dX64_linkFor_6 : decode cX64_linkFor 6 = .ok (.getfield 156, 3) := by decide +kernel
theorem dX64_linkFor_9 : decode cX64_linkFor 9 = .ok (.if_icmp .ge 36, 3) := by decide +kernel
theorem dX64_linkFor_12 : decode cX64_linkFor 12 = .ok (.aload_n 0, 1) := by decide +kernel
theorem dX64_linkFor_13 : decode cX64_linkFor 13 = .ok (.getfield 26, 3) := by decide +kernel
theorem dX64_linkFor_16 : decode cX64_linkFor 16 = .ok (.iload 6, 2) := by decide +kernel
theorem dX64_linkFor_18 : decode cX64_linkFor 18 = .ok (.laload, 1) := by decide +kernel
theorem dX64_linkFor_19 : decode cX64_linkFor 19 = .ok (.lload_n 1, 1) := by decide +kernel
theorem dX64_linkFor_20 : decode cX64_linkFor 20 = .ok (.lcmp, 1) := by decide +kernel
theorem dX64_linkFor_21 : decode cX64_linkFor 21 = .ok (.ifCond .ne 18, 3) := by decide +kernel
theorem dX64_linkFor_24 : decode cX64_linkFor 24 = .ok (.aload_n 0, 1) := by decide +kernel
theorem dX64_linkFor_25 : decode cX64_linkFor 25 = .ok (.getfield 29, 3) := by decide +kernel
theorem dX64_linkFor_28 : decode cX64_linkFor 28 = .ok (.iload 6, 2) := by decide +kernel
theorem dX64_linkFor_30 : decode cX64_linkFor 30 = .ok (.laload, 1) := by decide +kernel
theorem dX64_linkFor_31 : decode cX64_linkFor 31 = .ok (.lload_n 3, 1) := by decide +kernel
theorem dX64_linkFor_32 : decode cX64_linkFor 32 = .ok (.lcmp, 1) := by decide +kernel
theorem dX64_linkFor_33 : decode cX64_linkFor 33 = .ok (.ifCond .ne 6, 3) := by decide +kernel
theorem dX64_linkFor_36 : decode cX64_linkFor 36 = .ok (.iload 6, 2) := by decide +kernel
theorem dX64_linkFor_38 : decode cX64_linkFor 38 = .ok (.ireturn, 1) := by decide +kernel
theorem dX64_linkFor_39 : decode cX64_linkFor 39 = .ok (.iinc 6 1, 3) := by decide +kernel
theorem dX64_linkFor_42 : decode cX64_linkFor 42 = .ok (.goto (-39), 3) := by decide +kernel
theorem dX64_linkFor_45 : decode cX64_linkFor 45 = .ok (.aload_n 0, 1) := by decide +kernel
theorem dX64_linkFor_46 : decode cX64_linkFor 46 = .ok (.getfield 156, 3) := by decide +kernel
theorem dX64_linkFor_49 : decode cX64_linkFor 49 = .ok (.bipush 16, 2) := by decide +kernel
theorem dX64_linkFor_51 : decode cX64_linkFor 51 = .ok (.if_icmp .ne 14, 3) := by decide +kernel
theorem dX64_linkFor_54 : decode cX64_linkFor 54 = .ok (.aload_n 0, 1) := by decide +kernel
theorem dX64_linkFor_55 : decode cX64_linkFor 55 = .ok (.bipush 6, 2) := by decide +kernel
theorem dX64_linkFor_57 : decode cX64_linkFor 57 = .ok (.iload 5, 2) := by decide +kernel
theorem dX64_linkFor_59 : decode cX64_linkFor 59 = .ok (.invokevirtual 68, 3) := by decide +kernel
theorem dX64_linkFor_62 : decode cX64_linkFor 62 = .ok (.pop, 1) := by decide +kernel
theorem dX64_linkFor_63 : decode cX64_linkFor 63 = .ok (.iconst 0, 1) := by decide +kernel
theorem dX64_linkFor_64 : decode cX64_linkFor 64 = .ok (.ireturn, 1) := by decide +kernel
theorem dX64_linkFor_65 : decode cX64_linkFor 65 = .ok (.aload_n 0, 1) := by decide +kernel
theorem dX64_linkFor_66 : decode cX64_linkFor 66 = .ok (.getfield 26, 3) := by decide +kernel
theorem dX64_linkFor_69 : decode cX64_linkFor 69 = .ok (.aload_n 0, 1) := by decide +kernel
theorem dX64_linkFor_70 : decode cX64_linkFor 70 = .ok (.getfield 156, 3) := by decide +kernel
theorem dX64_linkFor_73 : decode cX64_linkFor 73 = .ok (.lload_n 1, 1) := by decide +kernel
theorem dX64_linkFor_74 : decode cX64_linkFor 74 = .ok (.lastore, 1) := by decide +kernel
theorem dX64_linkFor_75 : decode cX64_linkFor 75 = .ok (.aload_n 0, 1) := by decide +kernel
theorem dX64_linkFor_76 : decode cX64_linkFor 76 = .ok (.getfield 29, 3) := by decide +kernel
theorem dX64_linkFor_79 : decode cX64_linkFor 79 = .ok (.aload_n 0, 1) := by decide +kernel
theorem dX64_linkFor_80 : decode cX64_linkFor 80 = .ok (.getfield 156, 3) := by decide +kernel
theorem dX64_linkFor_83 : decode cX64_linkFor 83 = .ok (.lload_n 3, 1) := by decide +kernel
theorem dX64_linkFor_84 : decode cX64_linkFor 84 = .ok (.lastore, 1) := by decide +kernel
theorem dX64_linkFor_85 : decode cX64_linkFor 85 = .ok (.aload_n 0, 1) := by decide +kernel
theorem dX64_linkFor_86 : decode cX64_linkFor 86 = .ok (.dup, 1) := by decide +kernel
theorem dX64_linkFor_87 : decode cX64_linkFor 87 = .ok (.getfield 156, 3) := by decide +kernel
theorem dX64_linkFor_90 : decode cX64_linkFor 90 = .ok (.iconst 1, 1) := by decide +kernel
theorem dX64_linkFor_91 : decode cX64_linkFor 91 = .ok (.iadd, 1) := by decide +kernel
theorem dX64_linkFor_92 : decode cX64_linkFor 92 = .ok (.putfield 156, 3) := by decide +kernel
theorem dX64_linkFor_95 : decode cX64_linkFor 95 = .ok (.aload_n 0, 1) := by decide +kernel
theorem dX64_linkFor_96 : decode cX64_linkFor 96 = .ok (.getfield 156, 3) := by decide +kernel
theorem dX64_linkFor_99 : decode cX64_linkFor 99 = .ok (.iconst 1, 1) := by decide +kernel
theorem dX64_linkFor_100 : decode cX64_linkFor 100 = .ok (.isub, 1) := by decide +kernel
theorem dX64_linkFor_101 : decode cX64_linkFor 101 = .ok (.ireturn, 1) := by decide +kernel
theorem zy_X64_linkFor : yX64_linkFor.cls ≠ "java/lang/invoke/MethodHandle" ∧ yX64_linkFor.cls ≠ "java/lang/invoke/VarHandle" ∧ (parseMethodDescriptor yX64_linkFor.desc).map (fun d => d.parameters.length) = some 3 := by decide +kernel
theorem w_fX64_linkFor_J45 {K : zK} (E : zE K cX64_linkFor "RingHouse$Assembler" (some .int) 1) (hN : zNl K = 7) (hT : zTr K = (some 0)) (x1 : Int) (x3 : Int) (x5 : Int) : zR K 45 [(0, 66, 0), (1, 1, x1), (3, 1, x3), (5, 0, x5)] [] (fX64_linkFor_J45 x1 x3 x5) := by
  refine r_aload_n E dX64_linkFor_45 rfl 0 rfl ?_
  refine r_get E zc_66 zt_6515 dX64_linkFor_46 q1645 zr_66 (zg_6515 _) (by decide) (fun v2 => ?_)
  refine r_bipush E dX64_linkFor_49 (by decide) (zkI (by decide) (by decide)) ?_
  refine r_icmp_ne E 65 (by decide) dX64_linkFor_51 (fun _ => ?_) (fun _ => ?_)
  · refine r_aload_n E dX64_linkFor_65 rfl 0 rfl ?_
    refine r_gec (y := 0) E zc_66 dX64_linkFor_66 q1643 zr_66 (zh_6513 (by decide)) (by decide) ?_
    refine r_aload_n E dX64_linkFor_69 rfl 0 rfl ?_
    refine r_get E zc_66 zt_6515 dX64_linkFor_70 q1645 zr_66 (zg_6515 _) (by decide) (fun v3 => ?_)
    refine r_lload_n E dX64_linkFor_73 rfl 1 rfl ?_
    refine r_lastore E zc_6513 za_6513 zt_6513 zo_6513 zx_6513 rfl rfl dX64_linkFor_74 (by decide) ?_
    refine r_aload_n E dX64_linkFor_75 rfl 0 rfl ?_
    refine r_gec (y := 0) E zc_66 dX64_linkFor_76 q1644 zr_66 (zh_6514 (by decide)) (by decide) ?_
    refine r_aload_n E dX64_linkFor_79 rfl 0 rfl ?_
    refine r_get E zc_66 zt_6515 dX64_linkFor_80 q1645 zr_66 (zg_6515 _) (by decide) (fun v4 => ?_)
    refine r_lload_n E dX64_linkFor_83 rfl 2 rfl ?_
    refine r_lastore E zc_6514 za_6514 zt_6514 zo_6514 zx_6514 rfl rfl dX64_linkFor_84 (by decide) ?_
    refine r_aload_n E dX64_linkFor_85 rfl 0 rfl ?_
    refine r_dup E (zn1 rfl) dX64_linkFor_86 ?_
    refine r_get E zc_66 zt_6515 dX64_linkFor_87 q1645 zr_66 (zg_6515 _) (by decide) (fun v5 => ?_)
    refine r_iconst E dX64_linkFor_90 (zkI (by decide) (by decide)) ?_
    refine r_iadd E dX64_linkFor_91 ?_
    refine r_put E zc_66 zt_6515 zo_6515 dX64_linkFor_92 q1645 zr_66 zw_X64 zp_6515 (fun _ => rfl) (fun _ => rfl) (by decide) ?_
    refine r_aload_n E dX64_linkFor_95 rfl 0 rfl ?_
    refine r_get E zc_66 zt_6515 dX64_linkFor_96 q1645 zr_66 (zg_6515 _) (by decide) (fun v6 => ?_)
    refine r_iconst E dX64_linkFor_99 (zkI (by decide) (by decide)) ?_
    refine r_isub E dX64_linkFor_100 ?_
    exact r_ireturn E rfl hT dX64_linkFor_101
  · refine r_aload_n E dX64_linkFor_54 rfl 0 rfl ?_
    refine r_bipush E dX64_linkFor_55 (by decide) (zkI (by decide) (by decide)) ?_
    refine r_iload E dX64_linkFor_57 3 rfl ?_
    refine r_callV E [(0, 6), (0, x5)] [] rfl zc_66 zr_66 (fun o _ => ⟨_, zw_X64.1 o, rfl⟩) (lw_V q2803 q2805 qs38 q291 q2806) dX64_linkFor_59 zy_X64_wrong rfl (by omega) (by decide) (Nat.le_of_ble_eq_true rfl) (by decide) (fun l G => k_fX64_wrong l G 6 x5) (fun v7 => ?_)
    refine r_pop E (zn1 rfl) dX64_linkFor_62 ?_
    refine r_iconst E dX64_linkFor_63 (zkI (by decide) (by decide)) ?_
    exact r_ireturn E rfl hT dX64_linkFor_64
theorem w_fX64_linkFor_J39 {K : zK} (E : zE K cX64_linkFor "RingHouse$Assembler" (some .int) 1) (hN : zNl K = 7) (hT : zTr K = (some 0)) (x1 : Int) (x3 : Int) (x5 : Int) (x6 : Int) {r3 : Int → zX} (hr3 : ∀ s : Int, zR K 3 [(0, 66, 0), (1, 1, x1), (3, 1, x3), (5, 0, x5), (6, 0, s)] [] (r3 s)) : zR K 39 [(0, 66, 0), (1, 1, x1), (3, 1, x3), (5, 0, x5), (6, 0, x6)] [] (fX64_linkFor_J39 r3 x1 x3 x5 x6) := by
  refine r_iinc (ls' := fun v9 => [(6, 0, v9), (0, 66, 0), (1, 1, x1), (3, 1, x3), (5, 0, x5)]) E 4 rfl (by rw [hN]; decide) (fun _ => rfl) dX64_linkFor_39 (fun v9 _ => ?_)
  refine r_goto E 3 (by decide) dX64_linkFor_42 ?_
  refine r_pick E [1, 2, 3, 4, 0] rfl ?_
  exact hr3 v9
theorem w_fX64_linkFor_B3 {K : zK} (E : zE K cX64_linkFor "RingHouse$Assembler" (some .int) 1) (hN : zNl K = 7) (hT : zTr K = (some 0)) (x1 : Int) (x3 : Int) (x5 : Int) : ∀ r3 : Int → zX, (∀ s : Int, zR K 3 [(0, 66, 0), (1, 1, x1), (3, 1, x3), (5, 0, x5), (6, 0, s)] [] (r3 s)) → ∀ s : Int, zR K 3 [(0, 66, 0), (1, 1, x1), (3, 1, x3), (5, 0, x5), (6, 0, s)] [] (fX64_linkFor_B3 x1 x3 x5 r3 s) := by
  intro r3 hr3 x6
  refine r_iload E dX64_linkFor_3 4 rfl ?_
  refine r_aload_n E dX64_linkFor_5 rfl 0 rfl ?_
  refine r_get E zc_66 zt_6515 dX64_linkFor_6 q1645 zr_66 (zg_6515 _) (by decide) (fun v1 => ?_)
  refine r_icmp_ge E 45 (by decide) dX64_linkFor_9 (fun _ => ?_) (fun _ => ?_)
  · refine r_pick E [0, 1, 2, 3] rfl ?_
    exact w_fX64_linkFor_J45 E hN hT x1 x3 x5
  · refine r_aload_n E dX64_linkFor_12 rfl 0 rfl ?_
    refine r_gec (y := 0) E zc_66 dX64_linkFor_13 q1643 zr_66 (zh_6513 (by decide)) (by decide) ?_
    refine r_iload E dX64_linkFor_16 4 rfl ?_
    refine r_laload E zc_6513 za_6513 zt_6513 zx_6513 rfl rfl dX64_linkFor_18 (by decide) (fun v8 => ?_)
    refine r_lload_n E dX64_linkFor_19 rfl 1 rfl ?_
    refine r_lcmp_ne E 39 (by decide) dX64_linkFor_20 dX64_linkFor_21 (fun _ => ?_) (fun _ => ?_)
    · exact w_fX64_linkFor_J39 E hN hT x1 x3 x5 x6 hr3
    · refine r_aload_n E dX64_linkFor_24 rfl 0 rfl ?_
      refine r_gec (y := 0) E zc_66 dX64_linkFor_25 q1644 zr_66 (zh_6514 (by decide)) (by decide) ?_
      refine r_iload E dX64_linkFor_28 4 rfl ?_
      refine r_laload E zc_6514 za_6514 zt_6514 zx_6514 rfl rfl dX64_linkFor_30 (by decide) (fun v10 => ?_)
      refine r_lload_n E dX64_linkFor_31 rfl 2 rfl ?_
      refine r_lcmp_ne E 39 (by decide) dX64_linkFor_32 dX64_linkFor_33 (fun _ => ?_) (fun _ => ?_)
      · exact w_fX64_linkFor_J39 E hN hT x1 x3 x5 x6 hr3
      · refine r_iload E dX64_linkFor_36 4 rfl ?_
        exact r_ireturn E rfl hT dX64_linkFor_38
theorem w_fX64_linkFor {K : zK} (E : zE K cX64_linkFor "RingHouse$Assembler" (some .int) 1) (hN : zNl K = 7) (hT : zTr K = (some 0)) (x1 : Int) (x3 : Int) (x5 : Int) : zR K 0 [(0, 66, 0), (1, 1, x1), (3, 1, x3), (5, 0, x5)] [] (fX64_linkFor x1 x3 x5) := by
  refine r_iconst E dX64_linkFor_0 (zkI (by decide) (by decide)) ?_
  refine r_istore (ls' := [(6, 0, 0), (0, 66, 0), (1, 1, x1), (3, 1, x3), (5, 0, x5)]) E dX64_linkFor_1 (by rw [hN]; decide) rfl ?_
  refine r_pick E [1, 2, 3, 4, 0] rfl ?_
  exact r_loop (L := fun s => [(0, 66, 0), (1, 1, x1), (3, 1, x3), (5, 0, x5), (6, 0, s)]) (w_fX64_linkFor_B3 E hN hT x1 x3 x5) zBIG 0
theorem k_fX64_linkFor (l : Launch) (G : zG) (x1 : Int) (x3 : Int) (x5 : Int) : zCt l G yX64_linkFor cX64_linkFor 7 (some .int) 1 [(66, 0), (1, x1), (1, x3), (0, x5)] (some 0) (fX64_linkFor x1 x3 x5) := zCt.of (by decide) (Nat.le_of_ble_eq_true rfl) (fun K E _ _ hN hT => w_fX64_linkFor E hN hT x1 x3 x5)
theorem dX64_addressed_0 : decode cX64_addressed 0 = .ok (.aload_n 0, 1) := by decide +kernel
theorem dX64_addressed_1 : decode cX64_addressed 1 = .ok (.iconst 0, 1) := by decide +kernel
theorem dX64_addressed_2 : decode cX64_addressed 2 = .ok (.putfield 159, 3) := by decide +kernel
theorem dX64_addressed_5 : decode cX64_addressed 5 = .ok (.aload_n 0, 1) := by decide +kernel
theorem dX64_addressed_6 : decode cX64_addressed 6 = .ok (.iconst 0, 1) := by decide +kernel
theorem dX64_addressed_7 : decode cX64_addressed 7 = .ok (.putfield 162, 3) := by decide +kernel
theorem dX64_addressed_10 : decode cX64_addressed 10 = .ok (.aload_n 0, 1) := by decide +kernel
theorem dX64_addressed_11 : decode cX64_addressed 11 = .ok (.bipush 35, 2) := by decide +kernel
theorem dX64_addressed_13 : decode cX64_addressed 13 = .ok (.invokevirtual 72, 3) := by decide +kernel
theorem dX64_addressed_16 : decode cX64_addressed 16 = .ok (.ifCond .eq 17, 3) := by decide +kernel
theorem dX64_addressed_19 : decode cX64_addressed 19 = .ok (.aload_n 0, 1) := by decide +kernel
theorem dX64_addressed_20 : decode cX64_addressed 20 = .ok (.invokevirtual 76, 3) := by decide +kernel
theorem dX64_addressed_23 : decode cX64_addressed 23 = .ok (.aload_n 0, 1) := by decide +kernel
theorem dX64_addressed_24 : decode cX64_addressed 24 = .ok (.iconst 2, 1) := by decide +kernel
theorem dX64_addressed_25 : decode cX64_addressed 25 = .ok (.putfield 159, 3) := by decide +kernel
theorem dX64_addressed_28 : decode cX64_addressed 28 = .ok (.aload_n 0, 1) := by decide +kernel
theorem dX64_addressed_29 : decode cX64_addressed 29 = .ok (.invokevirtual 165, 3) := by decide +kernel
theorem dX64_addressed_32 : decode cX64_addressed 32 = .ok (.ireturn, 1) := by decide +kernel
theorem dX64_addressed_33 : decode cX64_addressed 33 = .ok (.aload_n 0, 1) := by decide +kernel
theorem dX64_addressed_34 : decode cX64_addressed 34 = .ok (.getfield 61, 3) := by decide +kernel
theorem dX64_addressed_37 : decode cX64_addressed 37 = .ok (.iconst 1, 1) := by decide +kernel
theorem dX64_addressed_38 : decode cX64_addressed 38 = .ok (.if_icmp .ne 107, 3) := by decide +kernel
theorem dX64_addressed_41 : decode cX64_addressed 41 = .ok (.aload_n 0, 1) := by decide +kernel
theorem dX64_addressed_42 : decode cX64_addressed 42 = .ok (.invokevirtual 168, 3) := by decide +kernel
theorem dX64_addressed_45 : decode cX64_addressed 45 = .ok (.bipush 124, 2) := by decide +kernel
theorem dX64_addressed_47 : decode cX64_addressed 47 = .ok (.if_icmp .ne 98, 3) := by decide +kernel
theorem dX64_addressed_50 : decode cX64_addressed 50 = .ok (.aload_n 0, 1) := by decide +kernel
theorem dX64_addressed_51 : decode cX64_addressed 51 = .ok (.getfield 52, 3) := by decide +kernel
theorem dX64_addressed_54 : decode cX64_addressed 54 = .ok (.aload_n 0, 1) := by decide +kernel
theorem dX64_addressed_55 : decode cX64_addressed 55 = .ok (.getfield 55, 3) := by decide +kernel
theorem dX64_addressed_58 : decode cX64_addressed 58 = .ok (.isub, 1) := by decide +kernel
theorem dX64_addressed_59 : decode cX64_addressed 59 = .ok (.iconst 2, 1) := by decide +kernel
theorem dX64_addressed_60 : decode cX64_addressed 60 = .ok (.if_icmp .ne 85, 3) := by decide +kernel
theorem dX64_addressed_63 : decode cX64_addressed 63 = .ok (.aload_n 0, 1) := by decide +kernel
theorem dX64_addressed_64 : decode cX64_addressed 64 = .ok (.getfield 9, 3) := by decide +kernel
theorem dX64_addressed_67 : decode cX64_addressed 67 = .ok (.aload_n 0, 1) := by decide +kernel
theorem dX64_addressed_68 : decode cX64_addressed 68 = .ok (.getfield 55, 3) := by decide +kernel
theorem dX64_addressed_71 : decode cX64_addressed 71 = .ok (.iaload, 1) := by decide +kernel
theorem dX64_addressed_72 : decode cX64_addressed 72 = .ok (.bipush 112, 2) := by decide +kernel
theorem dX64_addressed_74 : decode cX64_addressed 74 = .ok (.if_icmp .ne 71, 3) := by decide +kernel
theorem dX64_addressed_77 : decode cX64_addressed 77 = .ok (.aload_n 0, 1) := by decide +kernel
theorem dX64_addressed_78 : decode cX64_addressed 78 = .ok (.getfield 9, 3) := by decide +kernel
theorem dX64_addressed_81 : decode cX64_addressed 81 = .ok (.aload_n 0, 1) := by decide +kernel
theorem dX64_addressed_82 : decode cX64_addressed 82 = .ok (.getfield 55, 3) := by decide +kernel
theorem dX64_addressed_85 : decode cX64_addressed 85 = .ok (.iconst 1, 1) := by decide +kernel
theorem dX64_addressed_86 : decode cX64_addressed 86 = .ok (.iadd, 1) := by decide +kernel
theorem dX64_addressed_87 : decode cX64_addressed 87 = .ok (.iaload, 1) := by decide +kernel
theorem dX64_addressed_88 : decode cX64_addressed 88 = .ok (.bipush 48, 2) := by decide +kernel
theorem dX64_addressed_90 : decode cX64_addressed 90 = .ok (.if_icmp .lt 55, 3) := by decide +kernel
theorem dX64_addressed_93 : decode cX64_addressed 93 = .ok (.aload_n 0, 1) := by decide +kernel
theorem dX64_addressed_94 : decode cX64_addressed 94 = .ok (.getfield 9, 3) := by decide +kernel
theorem dX64_addressed_97 : decode cX64_addressed 97 = .ok (.aload_n 0, 1) := by decide +kernel
theorem dX64_addressed_98 : decode cX64_addressed 98 = .ok (.getfield 55, 3) := by decide +kernel
theorem dX64_addressed_101 : decode cX64_addressed 101 = .ok (.iconst 1, 1) := by decide +kernel
theorem dX64_addressed_102 : decode cX64_addressed 102 = .ok (.iadd, 1) := by decide +kernel
theorem dX64_addressed_103 : decode cX64_addressed 103 = .ok (.iaload, 1) := by decide +kernel
theorem dX64_addressed_104 : decode cX64_addressed 104 = .ok (.bipush 55, 2) := by decide +kernel
theorem dX64_addressed_106 : decode cX64_addressed 106 = .ok (.if_icmp .gt 39, 3) := by decide +kernel
theorem dX64_addressed_109 : decode cX64_addressed 109 = .ok (.aload_n 0, 1) := by decide +kernel
theorem dX64_addressed_110 : decode cX64_addressed 110 = .ok (.iconst 1, 1) := by decide +kernel
theorem dX64_addressed_111 : decode cX64_addressed 111 = .ok (.putfield 159, 3) := by decide +kernel
theorem dX64_addressed_114 : decode cX64_addressed 114 = .ok (.aload_n 0, 1) := by decide +kernel
theorem dX64_addressed_115 : decode cX64_addressed 115 = .ok (.aload_n 0, 1) := by decide +kernel
theorem dX64_addressed_116 : decode cX64_addressed 116 = .ok (.getfield 9, 3) := by decide +kernel
theorem dX64_addressed_119 : decode cX64_addressed 119 = .ok (.aload_n 0, 1) := by decide +kernel
theorem dX64_addressed_120 : decode cX64_addressed 120 = .ok (.getfield 55, 3) := by decide +kernel
theorem dX64_addressed_123 : decode cX64_addressed 123 = .ok (.iconst 1, 1) := by decide +kernel
theorem dX64_addressed_124 : decode cX64_addressed 124 = .ok (.iadd, 1) := by decide +kernel
theorem dX64_addressed_125 : decode cX64_addressed 125 = .ok (.iaload, 1) := by decide +kernel
theorem dX64_addressed_126 : decode cX64_addressed 126 = .ok (.bipush 48, 2) := by decide +kernel
theorem dX64_addressed_128 : decode cX64_addressed 128 = .ok (.isub, 1) := by decide +kernel
theorem dX64_addressed_129 : decode cX64_addressed 129 = .ok (.putfield 162, 3) := by decide +kernel
theorem dX64_addressed_132 : decode cX64_addressed 132 = .ok (.aload_n 0, 1) := by decide +kernel
theorem dX64_addressed_133 : decode cX64_addressed 133 = .ok (.invokevirtual 76, 3) := by decide +kernel
theorem dX64_addressed_136 : decode cX64_addressed 136 = .ok (.aload_n 0, 1) := by decide +kernel
theorem dX64_addressed_137 : decode cX64_addressed 137 = .ok (.invokevirtual 76, 3) := by decide +kernel
theorem dX64_addressed_140 : decode cX64_addressed 140 = .ok (.aload_n 0, 1) := by decide +kernel
theorem dX64_addressed_141 : decode cX64_addressed 141 = .ok (.invokevirtual 165, 3) := by decide +kernel
theorem dX64_addressed_144 : decode cX64_addressed 144 = .ok (.ireturn, 1) := by decide +kernel
theorem dX64_addressed_145 : decode cX64_addressed 145 = .ok (.aload_n 0, 1) := by decide +kernel
theorem dX64_addressed_146 : decode cX64_addressed 146 = .ok (.getfield 61, 3) := by decide +kernel
theorem dX64_addressed_149 : decode cX64_addressed 149 = .ok (.iconst 1, 1) := by decide +kernel
theorem dX64_addressed_150 : decode cX64_addressed 150 = .ok (.if_icmp .ne 83, 3) := by decide +kernel
theorem dX64_addressed_153 : decode cX64_addressed 153 = .ok (.aload_n 0, 1) := by decide +kernel
theorem dX64_addressed_154 : decode cX64_addressed 154 = .ok (.invokevirtual 168, 3) := by decide +kernel
theorem dX64_addressed_157 : decode cX64_addressed 157 = .ok (.bipush 36, 2) := by decide +kernel
theorem dX64_addressed_159 : decode cX64_addressed 159 = .ok (.if_icmp .ne 74, 3) := by decide +kernel
theorem dX64_addressed_162 : decode cX64_addressed 162 = .ok (.aload_n 0, 1) := by decide +kernel
theorem dX64_addressed_163 : decode cX64_addressed 163 = .ok (.getfield 55, 3) := by decide +kernel
theorem dX64_addressed_166 : decode cX64_addressed 166 = .ok (.istore_n 1, 1) := by decide +kernel
theorem dX64_addressed_167 : decode cX64_addressed 167 = .ok (.aload_n 0, 1) := by decide +kernel
theorem dX64_addressed_168 : decode cX64_addressed 168 = .ok (.invokevirtual 110, 3) := by decide +kernel
theorem dX64_addressed_171 : decode cX64_addressed 171 = .ok (.lstore_n 2, 1) := by decide +kernel
theorem dX64_addressed_172 : decode cX64_addressed 172 = .ok (.aload_n 0, 1) := by decide +kernel
theorem dX64_addressed_173 : decode cX64_addressed 173 = .ok (.getfield 49, 3) := by decide +kernel
theorem dX64_addressed_176 : decode cX64_addressed 176 = .ok (.ifCond .le 5, 3) := by decide +kernel
theorem dX64_addressed_179 : decode cX64_addressed 179 = .ok (.iconst 0, 1) := by decide +kernel
theorem dX64_addressed_180 : decode cX64_addressed 180 = .ok (.ireturn, 1) := by decide +kernel
theorem dX64_addressed_181 : decode cX64_addressed 181 = .ok (.aload_n 0, 1) := by decide +kernel
theorem dX64_addressed_182 : decode cX64_addressed 182 = .ok (.invokevirtual 76, 3) := by decide +kernel
theorem dX64_addressed_185 : decode cX64_addressed 185 = .ok (.aload_n 0, 1) := by decide +kernel
theorem dX64_addressed_186 : decode cX64_addressed 186 = .ok (.invokevirtual 110, 3) := by decide +kernel
theorem dX64_addressed_189 : decode cX64_addressed 189 = .ok (.lstore 4, 2) := by decide +kernel
theorem dX64_addressed_191 : decode cX64_addressed 191 = .ok (.aload_n 0, 1) := by decide +kernel
theorem dX64_addressed_192 : decode cX64_addressed 192 = .ok (.iconst 3, 1) := by decide +kernel
theorem dX64_addressed_193 : decode cX64_addressed 193 = .ok (.putfield 159, 3) := by decide +kernel
theorem dX64_addressed_196 : decode cX64_addressed 196 = .ok (.aload_n 0, 1) := by decide +kernel
theorem dX64_addressed_197 : decode cX64_addressed 197 = .ok (.aload_n 0, 1) := by decide +kernel
theorem dX64_addressed_198 : decode cX64_addressed 198 = .ok (.getfield 49, 3) := by decide +kernel
theorem dX64_addressed_201 : decode cX64_addressed 201 = .ok (.ifCond .le 7, 3) := by decide +kernel
theorem dX64_addressed_204 : decode cX64_addressed 204 = .ok (.lconst 0, 1) := by decide +kernel
theorem dX64_addressed_205 : decode cX64_addressed 205 = .ok (.goto 12, 3) := by decide +kernel
theorem dX64_addressed_208 : decode cX64_addressed 208 = .ok (.aload_n 0, 1) := by decide +kernel
theorem dX64_addressed_209 : decode cX64_addressed 209 = .ok (.lload_n 2, 1) := by decide +kernel
theorem dX64_addressed_210 : decode cX64_addressed 210 = .ok (.lload 4, 2) := by decide +kernel
theorem dX64_addressed_212 : decode cX64_addressed 212 = .ok (.iload_n 1, 1) := by decide +kernel
theorem dX64_addressed_213 : decode cX64_addressed 213 = .ok (.invokevirtual 171, 3) := by decide +kernel
theorem dX64_addressed_216 : decode cX64_addressed 216 = .ok (.i2l, 1) := by decide +kernel
theorem dX64_addressed_217 : decode cX64_addressed 217 = .ok (.putfield 106, 3) := by decide +kernel
theorem dX64_addressed_220 : decode cX64_addressed 220 = .ok (.aload_n 0, 1) := by decide +kernel
theorem dX64_addressed_221 : decode cX64_addressed 221 = .ok (.getfield 49, 3) := by decide +kernel
theorem dX64_addressed_224 : decode cX64_addressed 224 = .ok (.ifCond .ne 7, 3) := by decide +kernel
theorem dX64_addressed_227 : decode cX64_addressed 227 = .ok (.iconst 1, 1) := by decide +kernel
theorem dX64_addressed_228 : decode cX64_addressed 228 = .ok (.goto 4, 3) := by decide +kernel
theorem dX64_addressed_231 : decode cX64_addressed 231 = .ok (.iconst 0, 1) := by decide +kernel
theorem dX64_addressed_232 : decode cX64_addressed 232 = .ok (.ireturn, 1) := by decide +kernel
theorem dX64_addressed_233 : decode cX64_addressed 233 = .ok (.aload_n 0, 1) := by decide +kernel
theorem dX64_addressed_234 : decode cX64_addressed 234 = .ok (.invokevirtual 165, 3) := by decide +kernel
theorem dX64_addressed_237 : decode cX64_addressed 237 = .ok (.ireturn, 1) := by decide +kernel
theorem zy_X64_addressed : yX64_addressed.cls ≠ "java/lang/invoke/MethodHandle" ∧ yX64_addressed.cls ≠ "java/lang/invoke/VarHandle" ∧ (parseMethodDescriptor yX64_addressed.desc).map (fun d => d.parameters.length) = some 0 := by decide +kernel
theorem w_fX64_addressed_J233 {K : zK} (E : zE K cX64_addressed "RingHouse$Assembler" (some .boolean) 6) (hN : zNl K = 6) (hT : zTr K = (some 0)) : zR K 233 [(0, 66, 0)] [] (fX64_addressed_J233) := by
  refine r_aload_n E dX64_addressed_233 rfl 0 rfl ?_
  refine r_callV E [] [] rfl zc_66 zr_66 (fun o _ => ⟨_, zw_X64.1 o, rfl⟩) (lw_V q2900 q2902 qs50 q291 q2903) dX64_addressed_234 zy_X64_offset rfl (by omega) (by decide) (Nat.le_of_ble_eq_true rfl) (by decide) (fun l G => k_fX64_offset l G) (fun v4 => ?_)
  exact r_zreturnb E rfl hT dX64_addressed_237
theorem w_fX64_addressed_J217 {K : zK} (E : zE K cX64_addressed "RingHouse$Assembler" (some .boolean) 6) (hN : zNl K = 6) (hT : zTr K = (some 0)) (s1 : Int) : zR K 217 [(0, 66, 0)] [(1, s1), (66, 0)] (fX64_addressed_J217 s1) := by
  refine r_put E zc_66 zt_6522 zo_6522 dX64_addressed_217 q1652 zr_66 zw_X64 zp_6522 (fun _ => rfl) (fun _ => rfl) (by decide) ?_
  refine r_aload_n E dX64_addressed_220 rfl 0 rfl ?_
  refine r_get E zc_66 zt_6508 dX64_addressed_221 q1637 zr_66 (zg_6508 _) (by decide) (fun v13 => ?_)
  refine r_if_ne E 231 (by decide) dX64_addressed_224 (fun _ => ?_) (fun _ => ?_)
  · refine r_iconst E dX64_addressed_231 (zkI (by decide) (by decide)) ?_
    exact r_zreturn E rfl hT (by decide) dX64_addressed_232
  · refine r_iconst E dX64_addressed_227 (zkI (by decide) (by decide)) ?_
    refine r_goto E 232 (by decide) dX64_addressed_228 ?_
    exact r_zreturn E rfl hT (by decide) dX64_addressed_232
theorem w_fX64_addressed_J145 {K : zK} (E : zE K cX64_addressed "RingHouse$Assembler" (some .boolean) 6) (hN : zNl K = 6) (hT : zTr K = (some 0)) : zR K 145 [(0, 66, 0)] [] (fX64_addressed_J145) := by
  refine r_aload_n E dX64_addressed_145 rfl 0 rfl ?_
  refine r_get E zc_66 zt_6504 dX64_addressed_146 q1633 zr_66 (zg_6504 _) (by decide) (fun v3 => ?_)
  refine r_iconst E dX64_addressed_149 (zkI (by decide) (by decide)) ?_
  refine r_icmp_ne E 233 (by decide) dX64_addressed_150 (fun _ => ?_) (fun _ => ?_)
  · exact w_fX64_addressed_J233 E hN hT
  · refine r_aload_n E dX64_addressed_153 rfl 0 rfl ?_
    refine r_callV E [] [] rfl zc_66 zr_66 (fun o _ => ⟨_, zw_X64.1 o, rfl⟩) (lw_V q2937 q2939 qs58 q291 q2940) dX64_addressed_154 zy_X64_ahead rfl (by omega) (by decide) (Nat.le_of_ble_eq_true rfl) (by decide) (fun l G => k_fX64_ahead l G) (fun v5 => ?_)
    refine r_bipush E dX64_addressed_157 (by decide) (zkI (by decide) (by decide)) ?_
    refine r_icmp_ne E 233 (by decide) dX64_addressed_159 (fun _ => ?_) (fun _ => ?_)
    · exact w_fX64_addressed_J233 E hN hT
    · refine r_aload_n E dX64_addressed_162 rfl 0 rfl ?_
      refine r_get E zc_66 zt_6505 dX64_addressed_163 q1634 zr_66 (zg_6505 _) (by decide) (fun v6 => ?_)
      refine r_istore_n (ls' := [(1, 0, v6), (0, 66, 0)]) E dX64_addressed_166 rfl (by rw [hN]; decide) rfl ?_
      refine r_aload_n E dX64_addressed_167 rfl 1 rfl ?_
      refine r_callV E [] [] rfl zc_66 zr_66 (fun o _ => ⟨_, zw_X64.1 o, rfl⟩) (lw_V q2929 q2931 qs56 q291 q2932) dX64_addressed_168 zy_X64_name rfl (by omega) (by decide) (Nat.le_of_ble_eq_true rfl) (by decide) (fun l G => k_fX64_name l G) (fun v7 => ?_)
      refine r_lstore_n (ls' := [(2, 1, v7), (1, 0, v6), (0, 66, 0)]) E dX64_addressed_171 rfl (by rw [hN]; decide) rfl ?_
      refine r_aload_n E dX64_addressed_172 rfl 2 rfl ?_
      refine r_get E zc_66 zt_6508 dX64_addressed_173 q1637 zr_66 (zg_6508 _) (by decide) (fun v8 => ?_)
      refine r_if_le E 181 (by decide) dX64_addressed_176 (fun _ => ?_) (fun _ => ?_)
      · refine r_aload_n E dX64_addressed_181 rfl 2 rfl ?_
        refine r_callV E [] [] rfl zc_66 zr_66 (fun o _ => ⟨_, zw_X64.1 o, rfl⟩) (lw_V q2796 q2798 qs37 q291 q2799) dX64_addressed_182 zy_X64_next rfl (by omega) (by decide) (Nat.le_of_ble_eq_true rfl) (by decide) (fun l G => k_fX64_next l G) (fun _ => ?_)
        refine r_aload_n E dX64_addressed_185 rfl 2 rfl ?_
        refine r_callV E [] [] rfl zc_66 zr_66 (fun o _ => ⟨_, zw_X64.1 o, rfl⟩) (lw_V q2929 q2931 qs56 q291 q2932) dX64_addressed_186 zy_X64_name rfl (by omega) (by decide) (Nat.le_of_ble_eq_true rfl) (by decide) (fun l G => k_fX64_name l G) (fun v10 => ?_)
        refine r_lstore (ls' := [(4, 1, v10), (2, 1, v7), (1, 0, v6), (0, 66, 0)]) E dX64_addressed_189 (by rw [hN]; decide) rfl ?_
        refine r_aload_n E dX64_addressed_191 rfl 3 rfl ?_
        refine r_iconst E dX64_addressed_192 (zkI (by decide) (by decide)) ?_
        refine r_put E zc_66 zt_6523 zo_6523 dX64_addressed_193 q1653 zr_66 zw_X64 zp_6523 (fun _ => rfl) (fun _ => rfl) (by decide) ?_
        refine r_aload_n E dX64_addressed_196 rfl 3 rfl ?_
        refine r_aload_n E dX64_addressed_197 rfl 3 rfl ?_
        refine r_get E zc_66 zt_6508 dX64_addressed_198 q1637 zr_66 (zg_6508 _) (by decide) (fun v11 => ?_)
        refine r_if_le E 208 (by decide) dX64_addressed_201 (fun _ => ?_) (fun _ => ?_)
        · refine r_aload_n E dX64_addressed_208 rfl 3 rfl ?_
          refine r_lload_n E dX64_addressed_209 rfl 1 rfl ?_
          refine r_lload E dX64_addressed_210 0 rfl ?_
          refine r_iload_n E dX64_addressed_212 rfl 2 rfl ?_
          refine r_callV E [(1, v7), (1, v10), (0, v6)] [(66, 0)] rfl zc_66 zr_66 (fun o _ => ⟨_, zw_X64.1 o, rfl⟩) (lw_V q2941 q2943 qs59 q291 q2944) dX64_addressed_213 zy_X64_linkFor rfl (by omega) (by decide) (Nat.le_of_ble_eq_true rfl) (by decide) (fun l G => k_fX64_linkFor l G v7 v10 v6) (fun v12 => ?_)
          refine r_i2l E dX64_addressed_216 ?_
          refine r_pick E [3] rfl ?_
          exact w_fX64_addressed_J217 E hN hT v12
        · refine r_lconst (v := 0) E dX64_addressed_204 (by decide) (zkJ (by decide) (by decide)) ?_
          refine r_goto E 217 (by decide) dX64_addressed_205 ?_
          refine r_pick E [3] rfl ?_
          exact w_fX64_addressed_J217 E hN hT 0
      · refine r_iconst E dX64_addressed_179 (zkI (by decide) (by decide)) ?_
        exact r_zreturn E rfl hT (by decide) dX64_addressed_180
theorem w_fX64_addressed {K : zK} (E : zE K cX64_addressed "RingHouse$Assembler" (some .boolean) 6) (hN : zNl K = 6) (hT : zTr K = (some 0)) : zR K 0 [(0, 66, 0)] [] (fX64_addressed) := by
  refine r_aload_n E dX64_addressed_0 rfl 0 rfl ?_
  refine r_iconst E dX64_addressed_1 (zkI (by decide) (by decide)) ?_
  refine r_put E zc_66 zt_6523 zo_6523 dX64_addressed_2 q1653 zr_66 zw_X64 zp_6523 (fun _ => rfl) (fun _ => rfl) (by decide) ?_
  refine r_aload_n E dX64_addressed_5 rfl 0 rfl ?_
  refine r_iconst E dX64_addressed_6 (zkI (by decide) (by decide)) ?_
  refine r_put E zc_66 zt_6524 zo_6524 dX64_addressed_7 q1654 zr_66 zw_X64 zp_6524 (fun _ => rfl) (fun _ => rfl) (by decide) ?_
  refine r_aload_n E dX64_addressed_10 rfl 0 rfl ?_
  refine r_bipush E dX64_addressed_11 (by decide) (zkI (by decide) (by decide)) ?_
  refine r_callV E [(0, 35)] [] rfl zc_66 zr_66 (fun o _ => ⟨_, zw_X64.1 o, rfl⟩) (lw_V q2807 q2809 qs39 q291 q2810) dX64_addressed_13 zy_X64_is rfl (by omega) (by decide) (Nat.le_of_ble_eq_true rfl) (by decide) (fun l G => k_fX64_is l G 35) (fun v1 => ?_)
  refine r_if_eq E 33 (by decide) dX64_addressed_16 (fun _ => ?_) (fun _ => ?_)
  · refine r_aload_n E dX64_addressed_33 rfl 0 rfl ?_
    refine r_get E zc_66 zt_6504 dX64_addressed_34 q1633 zr_66 (zg_6504 _) (by decide) (fun v2 => ?_)
    refine r_iconst E dX64_addressed_37 (zkI (by decide) (by decide)) ?_
    refine r_icmp_ne E 145 (by decide) dX64_addressed_38 (fun _ => ?_) (fun _ => ?_)
    · exact w_fX64_addressed_J145 E hN hT
    · refine r_aload_n E dX64_addressed_41 rfl 0 rfl ?_
      refine r_callV E [] [] rfl zc_66 zr_66 (fun o _ => ⟨_, zw_X64.1 o, rfl⟩) (lw_V q2937 q2939 qs58 q291 q2940) dX64_addressed_42 zy_X64_ahead rfl (by omega) (by decide) (Nat.le_of_ble_eq_true rfl) (by decide) (fun l G => k_fX64_ahead l G) (fun v14 => ?_)
      refine r_bipush E dX64_addressed_45 (by decide) (zkI (by decide) (by decide)) ?_
      refine r_icmp_ne E 145 (by decide) dX64_addressed_47 (fun _ => ?_) (fun _ => ?_)
      · exact w_fX64_addressed_J145 E hN hT
      · refine r_aload_n E dX64_addressed_50 rfl 0 rfl ?_
        refine r_get E zc_66 zt_6506 dX64_addressed_51 q1635 zr_66 (zg_6506 _) (by decide) (fun v15 => ?_)
        refine r_aload_n E dX64_addressed_54 rfl 0 rfl ?_
        refine r_get E zc_66 zt_6505 dX64_addressed_55 q1634 zr_66 (zg_6505 _) (by decide) (fun v16 => ?_)
        refine r_isub E dX64_addressed_58 ?_
        refine r_iconst E dX64_addressed_59 (zkI (by decide) (by decide)) ?_
        refine r_icmp_ne E 145 (by decide) dX64_addressed_60 (fun _ => ?_) (fun _ => ?_)
        · exact w_fX64_addressed_J145 E hN hT
        · refine r_aload_n E dX64_addressed_63 rfl 0 rfl ?_
          refine r_gec (y := 0) E zc_66 dX64_addressed_64 q1629 zr_66 (zh_6502 (by decide)) (by decide) ?_
          refine r_aload_n E dX64_addressed_67 rfl 0 rfl ?_
          refine r_get E zc_66 zt_6505 dX64_addressed_68 q1634 zr_66 (zg_6505 _) (by decide) (fun v17 => ?_)
          refine r_iaload E zc_6502 za_6502 zt_6502 zx_6502 rfl rfl dX64_addressed_71 (by decide) (fun v18 => ?_)
          refine r_bipush E dX64_addressed_72 (by decide) (zkI (by decide) (by decide)) ?_
          refine r_icmp_ne E 145 (by decide) dX64_addressed_74 (fun _ => ?_) (fun _ => ?_)
          · exact w_fX64_addressed_J145 E hN hT
          · refine r_aload_n E dX64_addressed_77 rfl 0 rfl ?_
            refine r_gec (y := 0) E zc_66 dX64_addressed_78 q1629 zr_66 (zh_6502 (by decide)) (by decide) ?_
            refine r_aload_n E dX64_addressed_81 rfl 0 rfl ?_
            refine r_get E zc_66 zt_6505 dX64_addressed_82 q1634 zr_66 (zg_6505 _) (by decide) (fun v19 => ?_)
            refine r_iconst E dX64_addressed_85 (zkI (by decide) (by decide)) ?_
            refine r_iadd E dX64_addressed_86 ?_
            refine r_iaload E zc_6502 za_6502 zt_6502 zx_6502 rfl rfl dX64_addressed_87 (by decide) (fun v20 => ?_)
            refine r_bipush E dX64_addressed_88 (by decide) (zkI (by decide) (by decide)) ?_
            refine r_icmp_lt E 145 (by decide) dX64_addressed_90 (fun _ => ?_) (fun _ => ?_)
            · exact w_fX64_addressed_J145 E hN hT
            · refine r_aload_n E dX64_addressed_93 rfl 0 rfl ?_
              refine r_gec (y := 0) E zc_66 dX64_addressed_94 q1629 zr_66 (zh_6502 (by decide)) (by decide) ?_
              refine r_aload_n E dX64_addressed_97 rfl 0 rfl ?_
              refine r_get E zc_66 zt_6505 dX64_addressed_98 q1634 zr_66 (zg_6505 _) (by decide) (fun v21 => ?_)
              refine r_iconst E dX64_addressed_101 (zkI (by decide) (by decide)) ?_
              refine r_iadd E dX64_addressed_102 ?_
              refine r_iaload E zc_6502 za_6502 zt_6502 zx_6502 rfl rfl dX64_addressed_103 (by decide) (fun v22 => ?_)
              refine r_bipush E dX64_addressed_104 (by decide) (zkI (by decide) (by decide)) ?_
              refine r_icmp_gt E 145 (by decide) dX64_addressed_106 (fun _ => ?_) (fun _ => ?_)
              · exact w_fX64_addressed_J145 E hN hT
              · refine r_aload_n E dX64_addressed_109 rfl 0 rfl ?_
                refine r_iconst E dX64_addressed_110 (zkI (by decide) (by decide)) ?_
                refine r_put E zc_66 zt_6523 zo_6523 dX64_addressed_111 q1653 zr_66 zw_X64 zp_6523 (fun _ => rfl) (fun _ => rfl) (by decide) ?_
                refine r_aload_n E dX64_addressed_114 rfl 0 rfl ?_
                refine r_aload_n E dX64_addressed_115 rfl 0 rfl ?_
                refine r_gec (y := 0) E zc_66 dX64_addressed_116 q1629 zr_66 (zh_6502 (by decide)) (by decide) ?_
                refine r_aload_n E dX64_addressed_119 rfl 0 rfl ?_
                refine r_get E zc_66 zt_6505 dX64_addressed_120 q1634 zr_66 (zg_6505 _) (by decide) (fun v23 => ?_)
                refine r_iconst E dX64_addressed_123 (zkI (by decide) (by decide)) ?_
                refine r_iadd E dX64_addressed_124 ?_
                refine r_iaload E zc_6502 za_6502 zt_6502 zx_6502 rfl rfl dX64_addressed_125 (by decide) (fun v24 => ?_)
                refine r_bipush E dX64_addressed_126 (by decide) (zkI (by decide) (by decide)) ?_
                refine r_isub E dX64_addressed_128 ?_
                refine r_put E zc_66 zt_6524 zo_6524 dX64_addressed_129 q1654 zr_66 zw_X64 zp_6524 (fun _ => rfl) (fun _ => rfl) (by decide) ?_
                refine r_aload_n E dX64_addressed_132 rfl 0 rfl ?_
                refine r_callV E [] [] rfl zc_66 zr_66 (fun o _ => ⟨_, zw_X64.1 o, rfl⟩) (lw_V q2796 q2798 qs37 q291 q2799) dX64_addressed_133 zy_X64_next rfl (by omega) (by decide) (Nat.le_of_ble_eq_true rfl) (by decide) (fun l G => k_fX64_next l G) (fun _ => ?_)
                refine r_aload_n E dX64_addressed_136 rfl 0 rfl ?_
                refine r_callV E [] [] rfl zc_66 zr_66 (fun o _ => ⟨_, zw_X64.1 o, rfl⟩) (lw_V q2796 q2798 qs37 q291 q2799) dX64_addressed_137 zy_X64_next rfl (by omega) (by decide) (Nat.le_of_ble_eq_true rfl) (by decide) (fun l G => k_fX64_next l G) (fun _ => ?_)
                refine r_aload_n E dX64_addressed_140 rfl 0 rfl ?_
                refine r_callV E [] [] rfl zc_66 zr_66 (fun o _ => ⟨_, zw_X64.1 o, rfl⟩) (lw_V q2900 q2902 qs50 q291 q2903) dX64_addressed_141 zy_X64_offset rfl (by omega) (by decide) (Nat.le_of_ble_eq_true rfl) (by decide) (fun l G => k_fX64_offset l G) (fun v27 => ?_)
                exact r_zreturnb E rfl hT dX64_addressed_144
  · refine r_aload_n E dX64_addressed_19 rfl 0 rfl ?_
    refine r_callV E [] [] rfl zc_66 zr_66 (fun o _ => ⟨_, zw_X64.1 o, rfl⟩) (lw_V q2796 q2798 qs37 q291 q2799) dX64_addressed_20 zy_X64_next rfl (by omega) (by decide) (Nat.le_of_ble_eq_true rfl) (by decide) (fun l G => k_fX64_next l G) (fun _ => ?_)
    refine r_aload_n E dX64_addressed_23 rfl 0 rfl ?_
    refine r_iconst E dX64_addressed_24 (zkI (by decide) (by decide)) ?_
    refine r_put E zc_66 zt_6523 zo_6523 dX64_addressed_25 q1653 zr_66 zw_X64 zp_6523 (fun _ => rfl) (fun _ => rfl) (by decide) ?_
    refine r_aload_n E dX64_addressed_28 rfl 0 rfl ?_
    refine r_callV E [] [] rfl zc_66 zr_66 (fun o _ => ⟨_, zw_X64.1 o, rfl⟩) (lw_V q2900 q2902 qs50 q291 q2903) dX64_addressed_29 zy_X64_offset rfl (by omega) (by decide) (Nat.le_of_ble_eq_true rfl) (by decide) (fun l G => k_fX64_offset l G) (fun v29 => ?_)
    exact r_zreturnb E rfl hT dX64_addressed_32
theorem k_fX64_addressed (l : Launch) (G : zG) : zCt l G yX64_addressed cX64_addressed 6 (some .boolean) 6 [(66, 0)] (some 0) (fX64_addressed) := zCt.of (by decide) (Nat.le_of_ble_eq_true rfl) (fun K E _ _ hN hT => w_fX64_addressed E hN hT)
