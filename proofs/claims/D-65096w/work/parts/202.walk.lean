set_option maxRecDepth 100000
theorem dX39_on_0 : decode cX39_on 0 = .ok (.aload_n 2, 1) := by decide +kernel
theorem dX39_on_1 : decode cX39_on 1 = .ok (.invokevirtual 9, 3) := by decide +kernel
theorem dX39_on_4 : decode cX39_on 4 = .ok (.ifCond .ne 6, 3) := by decide +kernel
theorem dX39_on_7 : decode cX39_on 7 = .ok (.bipush (-7), 2) := by decide +kernel
theorem dX39_on_9 : decode cX39_on 9 = .ok (.ireturn, 1) := by decide +kernel
theorem dX39_on_10 : decode cX39_on 10 = .ok (.aload_n 3, 1) := by decide +kernel
theorem dX39_on_11 : decode cX39_on 11 = .ok (.getfield 15, 3) := by decide +kernel
theorem dX39_on_14 : decode cX39_on 14 = .ok (.aload_n 2, 1) := by decide +kernel
theorem dX39_on_15 : decode cX39_on 15 = .ok (.getfield 21, 3) := by decide +kernel
theorem dX39_on_18 : decode cX39_on 18 = .ok (.invokestatic 22, 3) := by decide +kernel
theorem dX39_on_21 : decode cX39_on 21 = .ok (.ifCond .ne 6, 3) := by decide +kernel
theorem dX39_on_24 : decode cX39_on 24 = .ok (.bipush (-3), 2) := by decide +kernel
theorem dX39_on_26 : decode cX39_on 26 = .ok (.ireturn, 1) := by decide +kernel
theorem dX39_on_27 : decode cX39_on 27 = .ok (.aload_n 3, 1) := by decide +kernel
theorem dX39_on_28 : decode cX39_on 28 = .ok (.aload_n 2, 1) := by decide +kernel
theorem dX39_on_29 : decode cX39_on 29 = .ok (.putfield 26, 3) := by decide +kernel
theorem dX39_on_32 : decode cX39_on 32 = .ok (.iconst 0, 1) := by decide +kernel
theorem dX39_on_33 : decode cX39_on 33 = .ok (.ireturn, 1) := by decide +kernel
theorem zy_X39_on : yX39_on.cls ≠ "java/lang/invoke/MethodHandle" ∧ yX39_on.cls ≠ "java/lang/invoke/VarHandle" ∧ (parseMethodDescriptor yX39_on.desc).map (fun d => d.parameters.length) = some 4 := by decide +kernel
theorem w_fX39_on_1 {K : zK} (E : zE K cX39_on "RingHouse$Enter" (some .int) 1) (hN : zNl K = 5) (hT : zTr K = (some 0)) (x2 : Int) (x3 : Int) (x4 : Int) : zR K 0 [(0, 38, 1), (1, 14, 0), (2, 6, x2), (3, 10, x3), (4, 11, x4)] [] (fX39_on_1 x2 x3 x4) := by
  refine r_aload_n E dX39_on_0 rfl 2 rfl ?_
  refine r_nn E (fun hn1 => ?_)
  refine r_callV E [] [] rfl zc_6 zr_6 (fun o _ => ⟨_, zw_X4.1 o, rfl⟩) (lw_V q2548 q1838 q1839 q231 q1840) dX39_on_1 zy_X4_isDirectory rfl (by omega) (by decide) (Nat.le_of_ble_eq_true rfl) hn1 (fun l G => k_fX4_isDirectory l G x2 hn1) (fun v2 => ?_)
  refine r_if_ne E 10 (by decide) dX39_on_4 (fun _ => ?_) (fun _ => ?_)
  · refine r_aload_n E dX39_on_10 rfl 3 rfl ?_
    refine r_nn E (fun hn3 => ?_)
    refine r_getN E zc_10 zt_906 dX39_on_11 q881 zr_10 (zg_906 _) hn3 (fun v4 => ?_)
    refine r_aload_n E dX39_on_14 rfl 2 rfl ?_
    refine r_getN E zc_6 zt_503 dX39_on_15 q389 zr_6 (zg_503 _) hn1 (fun v5 => ?_)
    refine r_callSN E [(0, v4), (0, v5)] [] rfl q2549 q1858 q227 q1859 dX39_on_18 zy_X0_dominates rfl (by omega) (by decide) (Nat.le_of_ble_eq_true rfl) (fun l G => k_fX0_dominates l G v4 v5) (fun v6 => ?_)
    refine r_if_ne E 27 (by decide) dX39_on_21 (fun _ => ?_) (fun _ => ?_)
    · refine r_aload_n E dX39_on_27 rfl 3 rfl ?_
      refine r_aload_n E dX39_on_28 rfl 2 rfl ?_
      refine r_putN E zc_10 zt_920 zo_920 dX39_on_29 q926 zr_10 zw_X8 zp_920 (fun _ => rfl) (fun G => zfo G) hn3 ?_
      refine r_iconst E dX39_on_32 (zkI (by decide) (by decide)) ?_
      exact r_ireturn E rfl hT dX39_on_33
    · refine r_bipush E dX39_on_24 (by decide) (zkI (by decide) (by decide)) ?_
      exact r_ireturn E rfl hT dX39_on_26
  · refine r_bipush E dX39_on_7 (by decide) (zkI (by decide) (by decide)) ?_
    exact r_ireturn E rfl hT dX39_on_9
theorem k_fX39_on_1 (l : Launch) (G : zG) (x2 : Int) (x3 : Int) (x4 : Int) : zCt l G yX39_on cX39_on 5 (some .int) 1 [(38, 1), (14, 0), (6, x2), (10, x3), (11, x4)] (some 0) (fX39_on_1 x2 x3 x4) := zCt.of (by decide) (Nat.le_of_ble_eq_true rfl) (fun K E _ _ hN hT => w_fX39_on_1 E hN hT x2 x3 x4)
theorem dX38_run_0 : decode cX38_run 0 = .ok (.aload_n 1, 1) := by decide +kernel
theorem dX38_run_1 : decode cX38_run 1 = .ok (.aload_n 2, 1) := by decide +kernel
theorem dX38_run_2 : decode cX38_run 2 = .ok (.getfield 15, 3) := by decide +kernel
theorem dX38_run_5 : decode cX38_run 5 = .ok (.putfield 21, 3) := by decide +kernel
theorem dX38_run_8 : decode cX38_run 8 = .ok (.aload_n 2, 1) := by decide +kernel
theorem dX38_run_9 : decode cX38_run 9 = .ok (.aload_n 2, 1) := by decide +kernel
theorem dX38_run_10 : decode cX38_run 10 = .ok (.getfield 15, 3) := by decide +kernel
theorem dX38_run_13 : decode cX38_run 13 = .ok (.aload_n 0, 1) := by decide +kernel
theorem dX38_run_14 : decode cX38_run 14 = .ok (.getfield 9, 3) := by decide +kernel
theorem dX38_run_17 : decode cX38_run 17 = .ok (.invokevirtual 26, 3) := by decide +kernel
theorem dX38_run_20 : decode cX38_run 20 = .ok (.istore 4, 2) := by decide +kernel
theorem dX38_run_22 : decode cX38_run 22 = .ok (.iload 4, 2) := by decide +kernel
theorem dX38_run_24 : decode cX38_run 24 = .ok (.ifCond .eq 6, 3) := by decide +kernel
theorem dX38_run_27 : decode cX38_run 27 = .ok (.iload 4, 2) := by decide +kernel
theorem dX38_run_29 : decode cX38_run 29 = .ok (.ireturn, 1) := by decide +kernel
theorem dX38_run_30 : decode cX38_run 30 = .ok (.aload_n 3, 1) := by decide +kernel
theorem dX38_run_31 : decode cX38_run 31 = .ok (.getfield 30, 3) := by decide +kernel
theorem dX38_run_34 : decode cX38_run 34 = .ok (.invokestatic 36, 3) := by decide +kernel
theorem dX38_run_37 : decode cX38_run 37 = .ok (.ifCond .ne 6, 3) := by decide +kernel
theorem dX38_run_40 : decode cX38_run 40 = .ok (.bipush (-8), 2) := by decide +kernel
theorem dX38_run_42 : decode cX38_run 42 = .ok (.ireturn, 1) := by decide +kernel
theorem dX38_run_43 : decode cX38_run 43 = .ok (.aload_n 1, 1) := by decide +kernel
theorem dX38_run_44 : decode cX38_run 44 = .ok (.getfield 40, 3) := by decide +kernel
theorem dX38_run_47 : decode cX38_run 47 = .ok (.getfield 44, 3) := by decide +kernel
theorem dX38_run_50 : decode cX38_run 50 = .ok (.aload_n 2, 1) := by decide +kernel
theorem dX38_run_51 : decode cX38_run 51 = .ok (.getfield 15, 3) := by decide +kernel
theorem dX38_run_54 : decode cX38_run 54 = .ok (.aload_n 3, 1) := by decide +kernel
theorem dX38_run_55 : decode cX38_run 55 = .ok (.getfield 30, 3) := by decide +kernel
theorem dX38_run_58 : decode cX38_run 58 = .ok (.invokevirtual 50, 3) := by decide +kernel
theorem dX38_run_61 : decode cX38_run 61 = .ok (.astore 5, 2) := by decide +kernel
theorem dX38_run_63 : decode cX38_run 63 = .ok (.aload_n 1, 1) := by decide +kernel
theorem dX38_run_64 : decode cX38_run 64 = .ok (.aload 5, 2) := by decide +kernel
theorem dX38_run_66 : decode cX38_run 66 = .ok (.putfield 21, 3) := by decide +kernel
theorem dX38_run_69 : decode cX38_run 69 = .ok (.aload 5, 2) := by decide +kernel
theorem dX38_run_71 : decode cX38_run 71 = .ok (.ifnonnull 7, 3) := by decide +kernel
theorem dX38_run_74 : decode cX38_run 74 = .ok (.iconst (-1), 1) := by decide +kernel
theorem dX38_run_75 : decode cX38_run 75 = .ok (.goto 12, 3) := by decide +kernel
theorem dX38_run_78 : decode cX38_run 78 = .ok (.aload_n 0, 1) := by decide +kernel
theorem dX38_run_79 : decode cX38_run 79 = .ok (.aload_n 1, 1) := by decide +kernel
theorem dX38_run_80 : decode cX38_run 80 = .ok (.aload 5, 2) := by decide +kernel
theorem dX38_run_82 : decode cX38_run 82 = .ok (.aload_n 2, 1) := by decide +kernel
theorem dX38_run_83 : decode cX38_run 83 = .ok (.aload_n 3, 1) := by decide +kernel
theorem dX38_run_84 : decode cX38_run 84 = .ok (.invokevirtual 56, 3) := by decide +kernel
theorem dX38_run_87 : decode cX38_run 87 = .ok (.ireturn, 1) := by decide +kernel
theorem zy_X38_run : yX38_run.cls ≠ "java/lang/invoke/MethodHandle" ∧ yX38_run.cls ≠ "java/lang/invoke/VarHandle" ∧ (parseMethodDescriptor yX38_run.desc).map (fun d => d.parameters.length) = some 3 := by decide +kernel
theorem w_fX38_run_1 {K : zK} (E : zE K cX38_run "RingHouse$Entered" (some .int) 4) (hN : zNl K = 6) (hT : zTr K = (some 0)) (x2 : Int) (x3 : Int) : zR K 0 [(0, 38, 1), (1, 14, 0), (2, 10, x2), (3, 11, x3)] [] (fX38_run_1 x2 x3) := by
  refine r_aload_n E dX38_run_0 rfl 1 rfl ?_
  refine r_aload_n E dX38_run_1 rfl 2 rfl ?_
  refine r_nn E (fun hn1 => ?_)
  refine r_getN E zc_10 zt_920 dX38_run_2 q922 zr_10 (zg_920 _) hn1 (fun v2 => ?_)
  refine r_putN E zc_14 zt_1306 zo_1306 dX38_run_5 q1544 zr_14 zw_X12 zp_1306 (fun _ => rfl) (fun G => zfo G) (by decide) ?_
  refine r_aload_n E dX38_run_8 rfl 2 rfl ?_
  refine r_aload_n E dX38_run_9 rfl 2 rfl ?_
  refine r_getN E zc_10 zt_920 dX38_run_10 q922 zr_10 (zg_920 _) hn1 (fun v3 => ?_)
  refine r_aload_n E dX38_run_13 rfl 0 rfl ?_
  refine r_gec (y := 1) E zc_38 dX38_run_14 q1334 zr_38 (zh_38_1_0) (by decide) ?_
  refine r_callV E [(6, v3), (0, 1)] [] rfl zc_10 zr_10 (fun o _ => ⟨_, zw_X8.1 o, rfl⟩) (lw_V q2531 q2319 q2320 q235 q2321) dX38_run_17 zy_X8_refusal_2 rfl (by omega) (by decide) (Nat.le_of_ble_eq_true rfl) hn1 (fun l G => k_fX8_refusal_2 l G x2 v3 1 hn1) (fun v4 => ?_)
  refine r_istore (ls' := [(4, 0, v4), (0, 38, 1), (1, 14, 0), (2, 10, x2), (3, 11, x3)]) E dX38_run_20 (by rw [hN]; decide) rfl ?_
  refine r_iload E dX38_run_22 0 rfl ?_
  refine r_if_eq E 30 (by decide) dX38_run_24 (fun _ => ?_) (fun _ => ?_)
  · refine r_aload_n E dX38_run_30 rfl 4 rfl ?_
    refine r_nn E (fun hn5 => ?_)
    refine r_getN E zc_11 zt_1000 dX38_run_31 q701 zr_11 (zg_1000 _) hn5 (fun v6 => ?_)
    refine r_callSN E [(1, v6)] [] rfl q2532 q1842 q227 q1843 dX38_run_34 zy_X0_isName rfl (by omega) (by decide) (Nat.le_of_ble_eq_true rfl) (fun l G => k_fX0_isName l G v6) (fun v7 => ?_)
    refine r_if_ne E 43 (by decide) dX38_run_37 (fun _ => ?_) (fun _ => ?_)
    · refine r_aload_n E dX38_run_43 rfl 2 rfl ?_
      refine r_gecN (y := 0) E zc_14 dX38_run_44 q1530 zr_14 (zh_1300 (by decide)) (by decide) ?_
      refine r_gecN (y := 0) E zc_3 dX38_run_47 q589 zr_3 (zh_201 (by decide)) (by decide) ?_
      refine r_aload_n E dX38_run_50 rfl 3 rfl ?_
      refine r_getN E zc_10 zt_920 dX38_run_51 q922 zr_10 (zg_920 _) hn1 (fun v8 => ?_)
      refine r_aload_n E dX38_run_54 rfl 4 rfl ?_
      refine r_getN E zc_11 zt_1000 dX38_run_55 q701 zr_11 (zg_1000 _) hn5 (fun v9 => ?_)
      refine r_callV E [(6, v8), (1, v9)] [] rfl zc_4 zr_4 (fun o _ => ⟨_, zw_X2.1 o, rfl⟩) (lw_V q2533 q1866 q1867 q229 q1868) dX38_run_58 zy_X2_find rfl (by omega) (by decide) (Nat.le_of_ble_eq_true rfl) (by decide) (fun l G => k_fX2_find l G v8 v9) (fun v10 => ?_)
      refine r_astore (ls' := [(5, 6, v10), (4, 0, v4), (0, 38, 1), (1, 14, 0), (2, 10, x2), (3, 11, x3)]) E dX38_run_61 (by rw [hN]; decide) rfl ?_
      refine r_aload_n E dX38_run_63 rfl 3 rfl ?_
      refine r_aload E dX38_run_64 0 rfl ?_
      refine r_putN E zc_14 zt_1306 zo_1306 dX38_run_66 q1544 zr_14 zw_X12 zp_1306 (fun _ => rfl) (fun G => zfo G) (by decide) ?_
      refine r_aload E dX38_run_69 0 rfl ?_
      refine r_ifnonnull E 78 (by decide) dX38_run_71 (fun _ => ?_) (fun hz11 => ?_)
      · refine r_iconst E dX38_run_74 (zkI (by decide) (by decide)) ?_
        refine r_goto E 87 (by decide) dX38_run_75 ?_
        exact r_ireturn E rfl hT dX38_run_87
      · refine r_aload_n E dX38_run_78 rfl 2 rfl ?_
        refine r_aload_n E dX38_run_79 rfl 3 rfl ?_
        refine r_aload E dX38_run_80 0 rfl ?_
        refine r_aload_n E dX38_run_82 rfl 4 rfl ?_
        refine r_aload_n E dX38_run_83 rfl 5 rfl ?_
        refine r_callU (n := 4) (x := ⟨"RingHouse$Entered", "on", "(LRingHouse$Machine;LRingHouse$Node;LRingHouse$Process;LRingHouse$Registers;)I"⟩) (owner := "RingHouse$Entered") E [(14, 0), (6, v10), (10, x2), (11, x3)] [] rfl zc_38 zr_38 zk_38_1 q2534 q2536 q2545 q2546 q266 q2547 (Or.inr q2535) dX38_run_84 (by decide +kernel) rfl (by omega) (by decide) (Nat.le_of_ble_eq_true rfl) (by decide) (fun l G => k_fX39_on_1 l G v10 x2 x3) (fun v12 => ?_)
        exact r_ireturn E rfl hT dX38_run_87
    · refine r_bipush E dX38_run_40 (by decide) (zkI (by decide) (by decide)) ?_
      exact r_ireturn E rfl hT dX38_run_42
  · refine r_iload E dX38_run_27 0 rfl ?_
    exact r_ireturn E rfl hT dX38_run_29
theorem k_fX38_run_1 (l : Launch) (G : zG) (x2 : Int) (x3 : Int) : zCt l G yX38_run cX38_run 6 (some .int) 4 [(38, 1), (14, 0), (10, x2), (11, x3)] (some 0) (fX38_run_1 x2 x3) := zCt.of (by decide) (Nat.le_of_ble_eq_true rfl) (fun K E _ _ hN hT => w_fX38_run_1 E hN hT x2 x3)
theorem dX40_run_0 : decode cX40_run 0 = .ok (.aload_n 0, 1) := by decide +kernel
theorem dX40_run_1 : decode cX40_run 1 = .ok (.getfield 9, 3) := by decide +kernel
theorem dX40_run_4 : decode cX40_run 4 = .ok (.ifCond .ne 19, 3) := by decide +kernel
theorem dX40_run_7 : decode cX40_run 7 = .ok (.aload_n 2, 1) := by decide +kernel
theorem dX40_run_8 : decode cX40_run 8 = .ok (.getfield 15, 3) := by decide +kernel
theorem dX40_run_11 : decode cX40_run 11 = .ok (.aload_n 1, 1) := by decide +kernel
theorem dX40_run_12 : decode cX40_run 12 = .ok (.getfield 21, 3) := by decide +kernel
theorem dX40_run_15 : decode cX40_run 15 = .ok (.getfield 27, 3) := by decide +kernel
theorem dX40_run_18 : decode cX40_run 18 = .ok (.if_acmp .ne 5, 3) := by decide +kernel
theorem dX40_run_21 : decode cX40_run 21 = .ok (.iconst (-1), 1) := by decide +kernel
theorem dX40_run_22 : decode cX40_run 22 = .ok (.ireturn, 1) := by decide +kernel
theorem dX40_run_23 : decode cX40_run 23 = .ok (.aload_n 2, 1) := by decide +kernel
theorem dX40_run_24 : decode cX40_run 24 = .ok (.aload_n 0, 1) := by decide +kernel
theorem dX40_run_25 : decode cX40_run 25 = .ok (.getfield 9, 3) := by decide +kernel
theorem dX40_run_28 : decode cX40_run 28 = .ok (.ifCond .eq 13, 3) := by decide +kernel
theorem dX40_run_31 : decode cX40_run 31 = .ok (.aload_n 1, 1) := by decide +kernel
theorem dX40_run_32 : decode cX40_run 32 = .ok (.getfield 21, 3) := by decide +kernel
theorem dX40_run_35 : decode cX40_run 35 = .ok (.getfield 27, 3) := by decide +kernel
theorem dX40_run_38 : decode cX40_run 38 = .ok (.goto 10, 3) := by decide +kernel
theorem dX40_run_41 : decode cX40_run 41 = .ok (.aload_n 2, 1) := by decide +kernel
theorem dX40_run_42 : decode cX40_run 42 = .ok (.getfield 15, 3) := by decide +kernel
theorem dX40_run_45 : decode cX40_run 45 = .ok (.getfield 32, 3) := by decide +kernel
theorem dX40_run_48 : decode cX40_run 48 = .ok (.putfield 15, 3) := by decide +kernel
theorem dX40_run_51 : decode cX40_run 51 = .ok (.iconst 0, 1) := by decide +kernel
theorem dX40_run_52 : decode cX40_run 52 = .ok (.ireturn, 1) := by decide +kernel
theorem zy_X40_run : yX40_run.cls ≠ "java/lang/invoke/MethodHandle" ∧ yX40_run.cls ≠ "java/lang/invoke/VarHandle" ∧ (parseMethodDescriptor yX40_run.desc).map (fun d => d.parameters.length) = some 3 := by decide +kernel
theorem w_fX40_run_2_J48 {K : zK} (E : zE K cX40_run "RingHouse$Leave" (some .int) 0) (hN : zNl K = 4) (hT : zTr K = (some 0)) (s0 : Int) (s1 : Int) : zR K 48 [] [(6, s1), (10, s0)] (fX40_run_2_J48 s0 s1) := by
  refine r_nn E (fun hn7 => ?_)
  refine r_putN E zc_10 zt_920 zo_920 dX40_run_48 q925 zr_10 zw_X8 zp_920 (fun _ => rfl) (fun G => zfo G) hn7 ?_
  refine r_iconst E dX40_run_51 (zkI (by decide) (by decide)) ?_
  exact r_ireturn E rfl hT dX40_run_52
theorem w_fX40_run_2_J23 {K : zK} (E : zE K cX40_run "RingHouse$Leave" (some .int) 0) (hN : zNl K = 4) (hT : zTr K = (some 0)) (x2 : Int) : zR K 23 [(0, 38, 2), (1, 14, 0), (2, 10, x2)] [] (fX40_run_2_J23 x2) := by
  refine r_aload_n E dX40_run_23 rfl 2 rfl ?_
  refine r_aload_n E dX40_run_24 rfl 0 rfl ?_
  refine r_gec (y := 0) E zc_38 dX40_run_25 q1344 zr_38 (zh_38_2_0) (by decide) ?_
  refine r_litT (hdec := inferInstance) (P := (0 : Int) = (0 : Int)) (by decide) ?_
  refine r_if_eq E 41 (by decide) dX40_run_28 (fun _ => ?_) (fun _ => r_no E)
  refine r_aload_n E dX40_run_41 rfl 2 rfl ?_
  refine r_nn E (fun hn3 => ?_)
  refine r_getN E zc_10 zt_920 dX40_run_42 q925 zr_10 (zg_920 _) hn3 (fun v4 => ?_)
  refine r_nn E (fun hn5 => ?_)
  refine r_getN E zc_6 zt_504 dX40_run_45 q396 zr_6 (zg_504 _) hn5 (fun v6 => ?_)
  refine r_pick E [] rfl ?_
  exact w_fX40_run_2_J48 E hN hT x2 v6
theorem w_fX40_run_2 {K : zK} (E : zE K cX40_run "RingHouse$Leave" (some .int) 0) (hN : zNl K = 4) (hT : zTr K = (some 0)) (x2 : Int) (x3 : Int) : zR K 0 [(0, 38, 2), (1, 14, 0), (2, 10, x2), (3, 11, x3)] [] (fX40_run_2 x2 x3) := by
  refine r_aload_n E dX40_run_0 rfl 0 rfl ?_
  refine r_gec (y := 0) E zc_38 dX40_run_1 q1344 zr_38 (zh_38_2_0) (by decide) ?_
  refine r_litF (hdec := inferInstance) (P := ¬ (0 : Int) = (0 : Int)) (by decide) ?_
  refine r_if_ne E 23 (by decide) dX40_run_4 (fun _ => r_no E) (fun _ => ?_)
  refine r_aload_n E dX40_run_7 rfl 2 rfl ?_
  refine r_nn E (fun hn1 => ?_)
  refine r_getN E zc_10 zt_920 dX40_run_8 q925 zr_10 (zg_920 _) hn1 (fun v2 => ?_)
  refine r_aload_n E dX40_run_11 rfl 1 rfl ?_
  refine r_gecN (y := 0) E zc_14 dX40_run_12 q1527 zr_14 (zh_1300 (by decide)) (by decide) ?_
  refine r_gecN (y := 0) E zc_3 dX40_run_15 q596 zr_3 (zh_205 (by decide)) (by decide) ?_
  refine r_acmp_ne E rfl 23 (by decide) dX40_run_18 (fun _ => ?_) (fun _ => ?_)
  · refine r_pick E [0, 1, 2] rfl ?_
    exact w_fX40_run_2_J23 E hN hT x2
  · refine r_iconst E dX40_run_21 (zkI (by decide) (by decide)) ?_
    exact r_ireturn E rfl hT dX40_run_22
theorem k_fX40_run_2 (l : Launch) (G : zG) (x2 : Int) (x3 : Int) : zCt l G yX40_run cX40_run 4 (some .int) 0 [(38, 2), (14, 0), (10, x2), (11, x3)] (some 0) (fX40_run_2 x2 x3) := zCt.of (by decide) (Nat.le_of_ble_eq_true rfl) (fun K E _ _ hN hT => w_fX40_run_2 E hN hT x2 x3)
theorem w_fX40_run_3_J48 {K : zK} (E : zE K cX40_run "RingHouse$Leave" (some .int) 0) (hN : zNl K = 4) (hT : zTr K = (some 0)) (s0 : Int) (s1 : Int) : zR K 48 [] [(6, s1), (10, s0)] (fX40_run_3_J48 s0 s1) := by
  refine r_nn E (fun hn1 => ?_)
  refine r_putN E zc_10 zt_920 zo_920 dX40_run_48 q925 zr_10 zw_X8 zp_920 (fun _ => rfl) (fun G => zfo G) hn1 ?_
  refine r_iconst E dX40_run_51 (zkI (by decide) (by decide)) ?_
  exact r_ireturn E rfl hT dX40_run_52
theorem w_fX40_run_3_J23 {K : zK} (E : zE K cX40_run "RingHouse$Leave" (some .int) 0) (hN : zNl K = 4) (hT : zTr K = (some 0)) (x2 : Int) : zR K 23 [(0, 38, 3), (1, 14, 0), (2, 10, x2)] [] (fX40_run_3_J23 x2) := by
  refine r_aload_n E dX40_run_23 rfl 2 rfl ?_
  refine r_aload_n E dX40_run_24 rfl 0 rfl ?_
  refine r_gec (y := 1) E zc_38 dX40_run_25 q1344 zr_38 (zh_38_3_0) (by decide) ?_
  refine r_litF (hdec := inferInstance) (P := (1 : Int) = (0 : Int)) (by decide) ?_
  refine r_if_eq E 41 (by decide) dX40_run_28 (fun _ => r_no E) (fun _ => ?_)
  refine r_aload_n E dX40_run_31 rfl 1 rfl ?_
  refine r_gecN (y := 0) E zc_14 dX40_run_32 q1527 zr_14 (zh_1300 (by decide)) (by decide) ?_
  refine r_gecN (y := 0) E zc_3 dX40_run_35 q596 zr_3 (zh_205 (by decide)) (by decide) ?_
  refine r_goto E 48 (by decide) dX40_run_38 ?_
  refine r_pick E [] rfl ?_
  exact w_fX40_run_3_J48 E hN hT x2 0
theorem w_fX40_run_3 {K : zK} (E : zE K cX40_run "RingHouse$Leave" (some .int) 0) (hN : zNl K = 4) (hT : zTr K = (some 0)) (x2 : Int) (x3 : Int) : zR K 0 [(0, 38, 3), (1, 14, 0), (2, 10, x2), (3, 11, x3)] [] (fX40_run_3 x2 x3) := by
  refine r_aload_n E dX40_run_0 rfl 0 rfl ?_
  refine r_gec (y := 1) E zc_38 dX40_run_1 q1344 zr_38 (zh_38_3_0) (by decide) ?_
  refine r_litT (hdec := inferInstance) (P := ¬ (1 : Int) = (0 : Int)) (by decide) ?_
  refine r_if_ne E 23 (by decide) dX40_run_4 (fun _ => ?_) (fun _ => r_no E)
  refine r_pick E [0, 1, 2] rfl ?_
  exact w_fX40_run_3_J23 E hN hT x2
theorem k_fX40_run_3 (l : Launch) (G : zG) (x2 : Int) (x3 : Int) : zCt l G yX40_run cX40_run 4 (some .int) 0 [(38, 3), (14, 0), (10, x2), (11, x3)] (some 0) (fX40_run_3 x2 x3) := zCt.of (by decide) (Nat.le_of_ble_eq_true rfl) (fun K E _ _ hN hT => w_fX40_run_3 E hN hT x2 x3)
theorem dX8_numberFor_0 : decode cX8_numberFor 0 = .ok (.iconst (-1), 1) := by decide +kernel
theorem dX8_numberFor_1 : decode cX8_numberFor 1 = .ok (.istore_n 2, 1) := by decide +kernel
theorem dX8_numberFor_2 : decode cX8_numberFor 2 = .ok (.bipush 31, 2) := by decide +kernel
theorem dX8_numberFor_4 : decode cX8_numberFor 4 = .ok (.istore_n 3, 1) := by decide +kernel
theorem dX8_numberFor_5 : decode cX8_numberFor 5 = .ok (.iload_n 3, 1) := by decide +kernel
theorem dX8_numberFor_6 : decode cX8_numberFor 6 = .ok (.bipush 8, 2) := by decide +kernel
theorem dX8_numberFor_8 : decode cX8_numberFor 8 = .ok (.if_icmp .lt 36, 3) := by decide +kernel
theorem dX8_numberFor_11 : decode cX8_numberFor 11 = .ok (.aload_n 0, 1) := by decide +kernel
theorem dX8_numberFor_12 : decode cX8_numberFor 12 = .ok (.getfield 28, 3) := by decide +kernel
theorem dX8_numberFor_15 : decode cX8_numberFor 15 = .ok (.iload_n 3, 1) := by decide +kernel
theorem dX8_numberFor_16 : decode cX8_numberFor 16 = .ok (.aaload, 1) := by decide +kernel
theorem dX8_numberFor_17 : decode cX8_numberFor 17 = .ok (.aload_n 1, 1) := by decide +kernel
theorem dX8_numberFor_18 : decode cX8_numberFor 18 = .ok (.if_acmp .ne 5, 3) := by decide +kernel
theorem dX8_numberFor_21 : decode cX8_numberFor 21 = .ok (.iload_n 3, 1) := by decide +kernel
theorem dX8_numberFor_22 : decode cX8_numberFor 22 = .ok (.ireturn, 1) := by decide +kernel
theorem dX8_numberFor_23 : decode cX8_numberFor 23 = .ok (.aload_n 0, 1) := by decide +kernel
theorem dX8_numberFor_24 : decode cX8_numberFor 24 = .ok (.getfield 28, 3) := by decide +kernel
theorem dX8_numberFor_27 : decode cX8_numberFor 27 = .ok (.iload_n 3, 1) := by decide +kernel
theorem dX8_numberFor_28 : decode cX8_numberFor 28 = .ok (.aaload, 1) := by decide +kernel
theorem dX8_numberFor_29 : decode cX8_numberFor 29 = .ok (.ifnonnull 7, 3) := by decide +kernel
theorem dX8_numberFor_32 : decode cX8_numberFor 32 = .ok (.iload_n 3, 1) := by decide +kernel
theorem dX8_numberFor_33 : decode cX8_numberFor 33 = .ok (.goto 4, 3) := by decide +kernel
theorem dX8_numberFor_36 : decode cX8_numberFor 36 = .ok (.iload_n 2, 1) := by decide +kernel
theorem dX8_numberFor_37 : decode cX8_numberFor 37 = .ok (.istore_n 2, 1) := by decide +kernel
theorem dX8_numberFor_38 : decode cX8_numberFor 38 = .ok (.iinc 3 (-1), 3) := by decide +kernel
theorem dX8_numberFor_41 : decode cX8_numberFor 41 = .ok (.goto (-36), 3) := by decide +kernel
theorem dX8_numberFor_44 : decode cX8_numberFor 44 = .ok (.iload_n 2, 1) := by decide +kernel
theorem dX8_numberFor_45 : decode cX8_numberFor 45 = .ok (.ifCond .lt 9, 3) := by decide +kernel
theorem dX8_numberFor_48 : decode cX8_numberFor 48 = .ok (.aload_n 0, 1) := by decide +kernel
theorem dX8_numberFor_49 : decode cX8_numberFor 49 = .ok (.iload_n 2, 1) := by decide +kernel
theorem dX8_numberFor_50 : decode cX8_numberFor 50 = .ok (.aload_n 1, 1) := by decide +kernel
theorem dX8_numberFor_51 : decode cX8_numberFor 51 = .ok (.invokevirtual 103, 3) := by decide +kernel
theorem dX8_numberFor_54 : decode cX8_numberFor 54 = .ok (.iload_n 2, 1) := by decide +kernel
theorem dX8_numberFor_55 : decode cX8_numberFor 55 = .ok (.ireturn, 1) := by decide +kernel
theorem zy_X8_numberFor : yX8_numberFor.cls ≠ "java/lang/invoke/MethodHandle" ∧ yX8_numberFor.cls ≠ "java/lang/invoke/VarHandle" ∧ (parseMethodDescriptor yX8_numberFor.desc).map (fun d => d.parameters.length) = some 1 := by decide +kernel
theorem w_fX8_numberFor_J44 {K : zK} (E : zE K cX8_numberFor "RingHouse$Process" (some .int) 1) (hN : zNl K = 4) (hT : zTr K = (some 0)) (x0 : Int) (x1 : Int) (x2 : Int) (h0 : 0 ≤ x0) : zR K 44 [(0, 10, x0), (1, 6, x1), (2, 0, x2)] [] (fX8_numberFor_J44 x0 x1 x2) := by
  refine r_iload_n E dX8_numberFor_44 rfl 2 rfl ?_
  refine r_if_lt E 54 (by decide) dX8_numberFor_45 (fun _ => ?_) (fun _ => ?_)
  · refine r_iload_n E dX8_numberFor_54 rfl 2 rfl ?_
    exact r_ireturn E rfl hT dX8_numberFor_55
  · refine r_aload_n E dX8_numberFor_48 rfl 0 rfl ?_
    refine r_iload_n E dX8_numberFor_49 rfl 2 rfl ?_
    refine r_aload_n E dX8_numberFor_50 rfl 1 rfl ?_
    refine r_callV E [(0, x2), (6, x1)] [] rfl zc_10 zr_10 (fun o _ => ⟨_, zw_X8.1 o, rfl⟩) (lw_V q2147 q2149 qs9 q235 q2150) dX8_numberFor_51 zy_X8_know rfl (by omega) (by decide) (Nat.le_of_ble_eq_true rfl) h0 (fun l G => k_fX8_know l G x0 x2 x1 h0) (fun _ => ?_)
    refine r_iload_n E dX8_numberFor_54 rfl 2 rfl ?_
    exact r_ireturn E rfl hT dX8_numberFor_55
theorem w_fX8_numberFor_J37 {K : zK} (E : zE K cX8_numberFor "RingHouse$Process" (some .int) 1) (hN : zNl K = 4) (hT : zTr K = (some 0)) (x0 : Int) (x1 : Int) (x3 : Int) (s0 : Int) {r5 : Int × Int → zX} (hr5 : ∀ s : Int × Int, zR K 5 [(0, 10, x0), (1, 6, x1), (2, 0, s.1), (3, 0, s.2)] [] (r5 s)) (h0 : 0 ≤ x0) : zR K 37 [(0, 10, x0), (1, 6, x1), (3, 0, x3)] [(0, s0)] (fX8_numberFor_J37 r5 x0 x1 x3 s0) := by
  refine r_istore_n (ls' := [(2, 0, s0), (0, 10, x0), (1, 6, x1), (3, 0, x3)]) E dX8_numberFor_37 rfl (by rw [hN]; decide) rfl ?_
  refine r_iinc (ls' := fun v5 => [(3, 0, v5), (2, 0, s0), (0, 10, x0), (1, 6, x1)]) E 3 rfl (by rw [hN]; decide) (fun _ => rfl) dX8_numberFor_38 (fun v5 _ => ?_)
  refine r_goto E 5 (by decide) dX8_numberFor_41 ?_
  refine r_pick E [2, 3, 1, 0] rfl ?_
  exact hr5 (s0, v5)
theorem w_fX8_numberFor_B5 {K : zK} (E : zE K cX8_numberFor "RingHouse$Process" (some .int) 1) (hN : zNl K = 4) (hT : zTr K = (some 0)) (x0 : Int) (x1 : Int) (h0 : 0 ≤ x0) : ∀ r5 : Int × Int → zX, (∀ s : Int × Int, zR K 5 [(0, 10, x0), (1, 6, x1), (2, 0, s.1), (3, 0, s.2)] [] (r5 s)) → ∀ s : Int × Int, zR K 5 [(0, 10, x0), (1, 6, x1), (2, 0, s.1), (3, 0, s.2)] [] (fX8_numberFor_B5 x0 x1 r5 s) := by
  intro r5 hr5 s
  obtain ⟨x2, x3⟩ := s
  refine r_iload_n E dX8_numberFor_5 rfl 3 rfl ?_
  refine r_bipush E dX8_numberFor_6 (by decide) (zkI (by decide) (by decide)) ?_
  refine r_icmp_lt E 44 (by decide) dX8_numberFor_8 (fun _ => ?_) (fun _ => ?_)
  · refine r_pick E [0, 1, 2] rfl ?_
    exact w_fX8_numberFor_J44 E hN hT x0 x1 x2 h0
  · refine r_aload_n E dX8_numberFor_11 rfl 0 rfl ?_
    refine r_gec (y := x0) E zc_10 dX8_numberFor_12 q910 zr_10 (zh_916 (by omega)) h0 ?_
    refine r_iload_n E dX8_numberFor_15 rfl 3 rfl ?_
    refine r_aaload E zc_916 za_916 zt_916 zx_916 rfl rfl dX8_numberFor_16 h0 (fun v2 => ?_)
    refine r_aload_n E dX8_numberFor_17 rfl 1 rfl ?_
    refine r_acmp_ne E rfl 23 (by decide) dX8_numberFor_18 (fun _ => ?_) (fun _ => ?_)
    · refine r_aload_n E dX8_numberFor_23 rfl 0 rfl ?_
      refine r_gec (y := x0) E zc_10 dX8_numberFor_24 q910 zr_10 (zh_916 (by omega)) h0 ?_
      refine r_iload_n E dX8_numberFor_27 rfl 3 rfl ?_
      refine r_aaload E zc_916 za_916 zt_916 zx_916 rfl rfl dX8_numberFor_28 h0 (fun v3 => ?_)
      refine r_ifnonnull E 36 (by decide) dX8_numberFor_29 (fun _ => ?_) (fun hz4 => ?_)
      · refine r_iload_n E dX8_numberFor_32 rfl 3 rfl ?_
        refine r_goto E 37 (by decide) dX8_numberFor_33 ?_
        refine r_pick E [0, 1, 3] rfl ?_
        exact w_fX8_numberFor_J37 E hN hT x0 x1 x3 x3 hr5 h0
      · refine r_iload_n E dX8_numberFor_36 rfl 2 rfl ?_
        refine r_pick E [0, 1, 3] rfl ?_
        exact w_fX8_numberFor_J37 E hN hT x0 x1 x3 x2 hr5 h0
    · refine r_iload_n E dX8_numberFor_21 rfl 3 rfl ?_
      exact r_ireturn E rfl hT dX8_numberFor_22
theorem w_fX8_numberFor {K : zK} (E : zE K cX8_numberFor "RingHouse$Process" (some .int) 1) (hN : zNl K = 4) (hT : zTr K = (some 0)) (x0 : Int) (x1 : Int) (h0 : 0 ≤ x0) : zR K 0 [(0, 10, x0), (1, 6, x1)] [] (fX8_numberFor x0 x1) := by
  refine r_iconst E dX8_numberFor_0 (zkI (by decide) (by decide)) ?_
  refine r_istore_n (ls' := [(2, 0, (-1)), (0, 10, x0), (1, 6, x1)]) E dX8_numberFor_1 rfl (by rw [hN]; decide) rfl ?_
  refine r_bipush E dX8_numberFor_2 (by decide) (zkI (by decide) (by decide)) ?_
  refine r_istore_n (ls' := [(3, 0, 31), (2, 0, (-1)), (0, 10, x0), (1, 6, x1)]) E dX8_numberFor_4 rfl (by rw [hN]; decide) rfl ?_
  refine r_pick E [2, 3, 1, 0] rfl ?_
  exact r_loop (L := fun s => [(0, 10, x0), (1, 6, x1), (2, 0, s.1), (3, 0, s.2)]) (w_fX8_numberFor_B5 E hN hT x0 x1 h0) zBIG ((-1), 31)
theorem k_fX8_numberFor (l : Launch) (G : zG) (x0 : Int) (x1 : Int) (h0 : 0 ≤ x0) : zCt l G yX8_numberFor cX8_numberFor 4 (some .int) 1 [(10, x0), (6, x1)] (some 0) (fX8_numberFor x0 x1) := zCt.of (by decide) (Nat.le_of_ble_eq_true rfl) (fun K E _ _ hN hT => w_fX8_numberFor E hN hT x0 x1 h0)
theorem dX41_on_0 : decode cX41_on 0 = .ok (.aload_n 2, 1) := by decide +kernel
theorem dX41_on_1 : decode cX41_on 1 = .ok (.invokevirtual 9, 3) := by decide +kernel
theorem dX41_on_4 : decode cX41_on 4 = .ok (.ifCond .ne 6, 3) := by decide +kernel
theorem dX41_on_7 : decode cX41_on 7 = .ok (.bipush (-7), 2) := by decide +kernel
theorem dX41_on_9 : decode cX41_on 9 = .ok (.ireturn, 1) := by decide +kernel
theorem dX41_on_10 : decode cX41_on 10 = .ok (.aload_n 2, 1) := by decide +kernel
theorem dX41_on_11 : decode cX41_on 11 = .ok (.getfield 15, 3) := by decide +kernel
theorem dX41_on_14 : decode cX41_on 14 = .ok (.aload_n 3, 1) := by decide +kernel
theorem dX41_on_15 : decode cX41_on 15 = .ok (.getfield 19, 3) := by decide +kernel
theorem dX41_on_18 : decode cX41_on 18 = .ok (.aload_n 3, 1) := by decide +kernel
theorem dX41_on_19 : decode cX41_on 19 = .ok (.getfield 25, 3) := by decide +kernel
theorem dX41_on_22 : decode cX41_on 22 = .ok (.invokevirtual 28, 3) := by decide +kernel
theorem dX41_on_25 : decode cX41_on 25 = .ok (.ifCond .ne 6, 3) := by decide +kernel
theorem dX41_on_28 : decode cX41_on 28 = .ok (.bipush (-2), 2) := by decide +kernel
theorem dX41_on_30 : decode cX41_on 30 = .ok (.ireturn, 1) := by decide +kernel
theorem dX41_on_31 : decode cX41_on 31 = .ok (.aload_n 3, 1) := by decide +kernel
theorem dX41_on_32 : decode cX41_on 32 = .ok (.aload_n 2, 1) := by decide +kernel
theorem dX41_on_33 : decode cX41_on 33 = .ok (.invokevirtual 34, 3) := by decide +kernel
theorem dX41_on_36 : decode cX41_on 36 = .ok (.istore 5, 2) := by decide +kernel
theorem dX41_on_38 : decode cX41_on 38 = .ok (.iload 5, 2) := by decide +kernel
theorem dX41_on_40 : decode cX41_on 40 = .ok (.ifCond .ge 6, 3) := by decide +kernel
theorem dX41_on_43 : decode cX41_on 43 = .ok (.bipush (-5), 2) := by decide +kernel
theorem dX41_on_45 : decode cX41_on 45 = .ok (.ireturn, 1) := by decide +kernel
theorem dX41_on_46 : decode cX41_on 46 = .ok (.aload 4, 2) := by decide +kernel
theorem dX41_on_48 : decode cX41_on 48 = .ok (.iload 5, 2) := by decide +kernel
theorem dX41_on_50 : decode cX41_on 50 = .ok (.i2l, 1) := by decide +kernel
theorem dX41_on_51 : decode cX41_on 51 = .ok (.putfield 38, 3) := by decide +kernel
theorem dX41_on_54 : decode cX41_on 54 = .ok (.iconst 0, 1) := by decide +kernel
theorem dX41_on_55 : decode cX41_on 55 = .ok (.ireturn, 1) := by decide +kernel
theorem zy_X41_on : yX41_on.cls ≠ "java/lang/invoke/MethodHandle" ∧ yX41_on.cls ≠ "java/lang/invoke/VarHandle" ∧ (parseMethodDescriptor yX41_on.desc).map (fun d => d.parameters.length) = some 4 := by decide +kernel
theorem w_fX41_on_4 {K : zK} (E : zE K cX41_on "RingHouse$Know" (some .int) 3) (hN : zNl K = 6) (hT : zTr K = (some 0)) (x2 : Int) (x3 : Int) (x4 : Int) : zR K 0 [(0, 38, 4), (1, 14, 0), (2, 6, x2), (3, 10, x3), (4, 11, x4)] [] (fX41_on_4 x2 x3 x4) := by
  refine r_aload_n E dX41_on_0 rfl 2 rfl ?_
  refine r_nn E (fun hn1 => ?_)
  refine r_callV E [] [] rfl zc_6 zr_6 (fun o _ => ⟨_, zw_X4.1 o, rfl⟩) (lw_V q2553 q1925 q1926 q231 q1927) dX41_on_1 zy_X4_isSegment rfl (by omega) (by decide) (Nat.le_of_ble_eq_true rfl) hn1 (fun l G => k_fX4_isSegment l G x2 hn1) (fun v2 => ?_)
  refine r_if_ne E 10 (by decide) dX41_on_4 (fun _ => ?_) (fun _ => ?_)
  · refine r_aload_n E dX41_on_10 rfl 2 rfl ?_
    refine r_gecN (y := (3 * x2)) E zc_6 dX41_on_11 q409 zr_6 (zh_508 (by omega)) hn1 ?_
    refine r_aload_n E dX41_on_14 rfl 3 rfl ?_
    refine r_nn E (fun hn3 => ?_)
    refine r_getN E zc_10 zt_904 dX41_on_15 q867 zr_10 (zg_904 _) hn3 (fun v4 => ?_)
    refine r_aload_n E dX41_on_18 rfl 3 rfl ?_
    refine r_getN E zc_10 zt_905 dX41_on_19 q873 zr_10 (zg_905 _) hn3 (fun v5 => ?_)
    refine r_callV E [(0, v4), (0, v5)] [] rfl zc_7 zr_7 (fun o _ => ⟨_, zw_X5.1 o, rfl⟩) (lw_V q2554 q2074 q2075 q232 q2076) dX41_on_22 zy_X5_of rfl (by omega) (by decide) (Nat.le_of_ble_eq_true rfl) (by omega) (fun l G => k_fX5_of l G (3 * x2) v4 v5 (by omega)) (fun v6 => ?_)
    refine r_if_ne E 31 (by decide) dX41_on_25 (fun _ => ?_) (fun _ => ?_)
    · refine r_aload_n E dX41_on_31 rfl 3 rfl ?_
      refine r_aload_n E dX41_on_32 rfl 2 rfl ?_
      refine r_callV E [(6, x2)] [] rfl zc_10 zr_10 (fun o _ => ⟨_, zw_X8.1 o, rfl⟩) (lw_V q2555 q2325 q2326 q235 q2327) dX41_on_33 zy_X8_numberFor rfl (by omega) (by decide) (Nat.le_of_ble_eq_true rfl) hn3 (fun l G => k_fX8_numberFor l G x3 x2 hn3) (fun v7 => ?_)
      refine r_istore (ls' := [(5, 0, v7), (0, 38, 4), (1, 14, 0), (2, 6, x2), (3, 10, x3), (4, 11, x4)]) E dX41_on_36 (by rw [hN]; decide) rfl ?_
      refine r_iload E dX41_on_38 0 rfl ?_
      refine r_if_ge E 46 (by decide) dX41_on_40 (fun _ => ?_) (fun _ => ?_)
      · refine r_aload E dX41_on_46 5 rfl ?_
        refine r_iload E dX41_on_48 0 rfl ?_
        refine r_i2l E dX41_on_50 ?_
        refine r_nn E (fun hn8 => ?_)
        refine r_putN E zc_11 zt_1001 zo_1001 dX41_on_51 q723 zr_11 zw_X9 zp_1001 (fun _ => rfl) (fun _ => rfl) hn8 ?_
        refine r_iconst E dX41_on_54 (zkI (by decide) (by decide)) ?_
        exact r_ireturn E rfl hT dX41_on_55
      · refine r_bipush E dX41_on_43 (by decide) (zkI (by decide) (by decide)) ?_
        exact r_ireturn E rfl hT dX41_on_45
    · refine r_bipush E dX41_on_28 (by decide) (zkI (by decide) (by decide)) ?_
      exact r_ireturn E rfl hT dX41_on_30
  · refine r_bipush E dX41_on_7 (by decide) (zkI (by decide) (by decide)) ?_
    exact r_ireturn E rfl hT dX41_on_9
theorem k_fX41_on_4 (l : Launch) (G : zG) (x2 : Int) (x3 : Int) (x4 : Int) : zCt l G yX41_on cX41_on 6 (some .int) 3 [(38, 4), (14, 0), (6, x2), (10, x3), (11, x4)] (some 0) (fX41_on_4 x2 x3 x4) := zCt.of (by decide) (Nat.le_of_ble_eq_true rfl) (fun K E _ _ hN hT => w_fX41_on_4 E hN hT x2 x3 x4)
theorem w_fX38_run_4 {K : zK} (E : zE K cX38_run "RingHouse$Entered" (some .int) 4) (hN : zNl K = 6) (hT : zTr K = (some 0)) (x2 : Int) (x3 : Int) : zR K 0 [(0, 38, 4), (1, 14, 0), (2, 10, x2), (3, 11, x3)] [] (fX38_run_4 x2 x3) := by
  refine r_aload_n E dX38_run_0 rfl 1 rfl ?_
  refine r_aload_n E dX38_run_1 rfl 2 rfl ?_
  refine r_nn E (fun hn1 => ?_)
  refine r_getN E zc_10 zt_920 dX38_run_2 q922 zr_10 (zg_920 _) hn1 (fun v2 => ?_)
  refine r_putN E zc_14 zt_1306 zo_1306 dX38_run_5 q1544 zr_14 zw_X12 zp_1306 (fun _ => rfl) (fun G => zfo G) (by decide) ?_
  refine r_aload_n E dX38_run_8 rfl 2 rfl ?_
  refine r_aload_n E dX38_run_9 rfl 2 rfl ?_
  refine r_getN E zc_10 zt_920 dX38_run_10 q922 zr_10 (zg_920 _) hn1 (fun v3 => ?_)
  refine r_aload_n E dX38_run_13 rfl 0 rfl ?_
  refine r_gec (y := 1) E zc_38 dX38_run_14 q1334 zr_38 (zh_38_4_0) (by decide) ?_
  refine r_callV E [(6, v3), (0, 1)] [] rfl zc_10 zr_10 (fun o _ => ⟨_, zw_X8.1 o, rfl⟩) (lw_V q2531 q2319 q2320 q235 q2321) dX38_run_17 zy_X8_refusal_2 rfl (by omega) (by decide) (Nat.le_of_ble_eq_true rfl) hn1 (fun l G => k_fX8_refusal_2 l G x2 v3 1 hn1) (fun v4 => ?_)
  refine r_istore (ls' := [(4, 0, v4), (0, 38, 4), (1, 14, 0), (2, 10, x2), (3, 11, x3)]) E dX38_run_20 (by rw [hN]; decide) rfl ?_
  refine r_iload E dX38_run_22 0 rfl ?_
  refine r_if_eq E 30 (by decide) dX38_run_24 (fun _ => ?_) (fun _ => ?_)
  · refine r_aload_n E dX38_run_30 rfl 4 rfl ?_
    refine r_nn E (fun hn5 => ?_)
    refine r_getN E zc_11 zt_1000 dX38_run_31 q701 zr_11 (zg_1000 _) hn5 (fun v6 => ?_)
    refine r_callSN E [(1, v6)] [] rfl q2532 q1842 q227 q1843 dX38_run_34 zy_X0_isName rfl (by omega) (by decide) (Nat.le_of_ble_eq_true rfl) (fun l G => k_fX0_isName l G v6) (fun v7 => ?_)
    refine r_if_ne E 43 (by decide) dX38_run_37 (fun _ => ?_) (fun _ => ?_)
    · refine r_aload_n E dX38_run_43 rfl 2 rfl ?_
      refine r_gecN (y := 0) E zc_14 dX38_run_44 q1530 zr_14 (zh_1300 (by decide)) (by decide) ?_
      refine r_gecN (y := 0) E zc_3 dX38_run_47 q589 zr_3 (zh_201 (by decide)) (by decide) ?_
      refine r_aload_n E dX38_run_50 rfl 3 rfl ?_
      refine r_getN E zc_10 zt_920 dX38_run_51 q922 zr_10 (zg_920 _) hn1 (fun v8 => ?_)
      refine r_aload_n E dX38_run_54 rfl 4 rfl ?_
      refine r_getN E zc_11 zt_1000 dX38_run_55 q701 zr_11 (zg_1000 _) hn5 (fun v9 => ?_)
      refine r_callV E [(6, v8), (1, v9)] [] rfl zc_4 zr_4 (fun o _ => ⟨_, zw_X2.1 o, rfl⟩) (lw_V q2533 q1866 q1867 q229 q1868) dX38_run_58 zy_X2_find rfl (by omega) (by decide) (Nat.le_of_ble_eq_true rfl) (by decide) (fun l G => k_fX2_find l G v8 v9) (fun v10 => ?_)
      refine r_astore (ls' := [(5, 6, v10), (4, 0, v4), (0, 38, 4), (1, 14, 0), (2, 10, x2), (3, 11, x3)]) E dX38_run_61 (by rw [hN]; decide) rfl ?_
      refine r_aload_n E dX38_run_63 rfl 3 rfl ?_
      refine r_aload E dX38_run_64 0 rfl ?_
      refine r_putN E zc_14 zt_1306 zo_1306 dX38_run_66 q1544 zr_14 zw_X12 zp_1306 (fun _ => rfl) (fun G => zfo G) (by decide) ?_
      refine r_aload E dX38_run_69 0 rfl ?_
      refine r_ifnonnull E 78 (by decide) dX38_run_71 (fun _ => ?_) (fun hz11 => ?_)
      · refine r_iconst E dX38_run_74 (zkI (by decide) (by decide)) ?_
        refine r_goto E 87 (by decide) dX38_run_75 ?_
        exact r_ireturn E rfl hT dX38_run_87
      · refine r_aload_n E dX38_run_78 rfl 2 rfl ?_
        refine r_aload_n E dX38_run_79 rfl 3 rfl ?_
        refine r_aload E dX38_run_80 0 rfl ?_
        refine r_aload_n E dX38_run_82 rfl 4 rfl ?_
        refine r_aload_n E dX38_run_83 rfl 5 rfl ?_
        refine r_callU (n := 4) (x := ⟨"RingHouse$Entered", "on", "(LRingHouse$Machine;LRingHouse$Node;LRingHouse$Process;LRingHouse$Registers;)I"⟩) (owner := "RingHouse$Entered") E [(14, 0), (6, v10), (10, x2), (11, x3)] [] rfl zc_38 zr_38 zk_38_4 q2534 q2536 q2550 q2551 q268 q2552 (Or.inr q2535) dX38_run_84 (by decide +kernel) rfl (by omega) (by decide) (Nat.le_of_ble_eq_true rfl) (by decide) (fun l G => k_fX41_on_4 l G v10 x2 x3) (fun v12 => ?_)
        exact r_ireturn E rfl hT dX38_run_87
    · refine r_bipush E dX38_run_40 (by decide) (zkI (by decide) (by decide)) ?_
      exact r_ireturn E rfl hT dX38_run_42
  · refine r_iload E dX38_run_27 0 rfl ?_
    exact r_ireturn E rfl hT dX38_run_29
theorem k_fX38_run_4 (l : Launch) (G : zG) (x2 : Int) (x3 : Int) : zCt l G yX38_run cX38_run 6 (some .int) 4 [(38, 4), (14, 0), (10, x2), (11, x3)] (some 0) (fX38_run_4 x2 x3) := zCt.of (by decide) (Nat.le_of_ble_eq_true rfl) (fun K E _ _ hN hT => w_fX38_run_4 E hN hT x2 x3)
theorem dX12_isKnown_0 : decode cX12_isKnown 0 = .ok (.lload_n 1, 1) := by decide +kernel
theorem dX12_isKnown_1 : decode cX12_isKnown 1 = .ok (.ldc2_w 547, 3) := by decide +kernel
theorem dX12_isKnown_4 : decode cX12_isKnown 4 = .ok (.ldc2_w 549, 3) := by decide +kernel
theorem dX12_isKnown_7 : decode cX12_isKnown 7 = .ok (.invokestatic 551, 3) := by decide +kernel
theorem dX12_isKnown_10 : decode cX12_isKnown 10 = .ok (.ifCond .eq 17, 3) := by decide +kernel
theorem dX12_isKnown_13 : decode cX12_isKnown 13 = .ok (.aload_n 0, 1) := by decide +kernel
theorem dX12_isKnown_14 : decode cX12_isKnown 14 = .ok (.getfield 276, 3) := by decide +kernel
theorem dX12_isKnown_17 : decode cX12_isKnown 17 = .ok (.lload_n 1, 1) := by decide +kernel
theorem dX12_isKnown_18 : decode cX12_isKnown 18 = .ok (.l2i, 1) := by decide +kernel
theorem dX12_isKnown_19 : decode cX12_isKnown 19 = .ok (.aaload, 1) := by decide +kernel
theorem dX12_isKnown_20 : decode cX12_isKnown 20 = .ok (.ifnull 7, 3) := by decide +kernel
theorem dX12_isKnown_23 : decode cX12_isKnown 23 = .ok (.iconst 1, 1) := by decide +kernel
theorem dX12_isKnown_24 : decode cX12_isKnown 24 = .ok (.goto 4, 3) := by decide +kernel
theorem dX12_isKnown_27 : decode cX12_isKnown 27 = .ok (.iconst 0, 1) := by decide +kernel
theorem dX12_isKnown_28 : decode cX12_isKnown 28 = .ok (.ireturn, 1) := by decide +kernel
theorem zy_X12_isKnown : yX12_isKnown.cls ≠ "java/lang/invoke/MethodHandle" ∧ yX12_isKnown.cls ≠ "java/lang/invoke/VarHandle" ∧ (parseMethodDescriptor yX12_isKnown.desc).map (fun d => d.parameters.length) = some 2 := by decide +kernel
theorem w_fX12_isKnown {K : zK} (E : zE K cX12_isKnown "RingHouse$Machine" (some .boolean) 1) (hN : zNl K = 3) (hT : zTr K = (some 0)) (x0 : Int) (x1 : Int) : zR K 0 [(0, 10, x0), (1, 1, x1)] [] (fX12_isKnown x0 x1) := by
  refine r_lload_n E dX12_isKnown_0 rfl 1 rfl ?_
  refine r_ldc2 (v := 8) E dX12_isKnown_1 q2639 (by decide) (zkJ (by decide) (by decide)) ?_
  refine r_ldc2 (v := 31) E dX12_isKnown_4 q2640 (by decide) (zkJ (by decide) (by decide)) ?_
  refine r_callSN E [(1, x1), (1, 8), (1, 31)] [] rfl q2641 q1835 q227 q1836 dX12_isKnown_7 zy_X0_isIn rfl (by omega) (by decide) (Nat.le_of_ble_eq_true rfl) (fun l G => k_fX0_isIn l G x1 8 31) (fun v1 => ?_)
  refine r_if_eq E 27 (by decide) dX12_isKnown_10 (fun _ => ?_) (fun _ => ?_)
  · refine r_iconst E dX12_isKnown_27 (zkI (by decide) (by decide)) ?_
    exact r_zreturn E rfl hT (by decide) dX12_isKnown_28
  · refine r_aload_n E dX12_isKnown_13 rfl 0 rfl ?_
    refine r_nn E (fun hn2 => ?_)
    refine r_gecN (y := x0) E zc_10 dX12_isKnown_14 q913 zr_10 (zh_916 (by omega)) hn2 ?_
    refine r_lload_n E dX12_isKnown_17 rfl 1 rfl ?_
    refine r_l2i E dX12_isKnown_18 ?_
    refine r_aaload E zc_916 za_916 zt_916 zx_916 rfl rfl dX12_isKnown_19 hn2 (fun v3 => ?_)
    refine r_ifnull E 27 (by decide) dX12_isKnown_20 (fun _ => ?_) (fun hz4 => ?_)
    · refine r_iconst E dX12_isKnown_27 (zkI (by decide) (by decide)) ?_
      exact r_zreturn E rfl hT (by decide) dX12_isKnown_28
    · refine r_iconst E dX12_isKnown_23 (zkI (by decide) (by decide)) ?_
      refine r_goto E 28 (by decide) dX12_isKnown_24 ?_
      exact r_zreturn E rfl hT (by decide) dX12_isKnown_28
theorem k_fX12_isKnown (l : Launch) (G : zG) (x0 : Int) (x1 : Int) : zCt l G yX12_isKnown cX12_isKnown 3 (some .boolean) 1 [(10, x0), (1, x1)] (some 0) (fX12_isKnown x0 x1) := zCt.of (by decide) (Nat.le_of_ble_eq_true rfl) (fun K E _ _ hN hT => w_fX12_isKnown E hN hT x0 x1)
theorem dX42_run_0 : decode cX42_run 0 = .ok (.aload_n 2, 1) := by decide +kernel
theorem dX42_run_1 : decode cX42_run 1 = .ok (.aload_n 3, 1) := by decide +kernel
theorem dX42_run_2 : decode cX42_run 2 = .ok (.getfield 9, 3) := by decide +kernel
theorem dX42_run_5 : decode cX42_run 5 = .ok (.invokestatic 15, 3) := by decide +kernel
theorem dX42_run_8 : decode cX42_run 8 = .ok (.ifCond .ne 5, 3) := by decide +kernel
theorem dX42_run_11 : decode cX42_run 11 = .ok (.iconst (-1), 1) := by decide +kernel
theorem dX42_run_12 : decode cX42_run 12 = .ok (.ireturn, 1) := by decide +kernel
theorem dX42_run_13 : decode cX42_run 13 = .ok (.aload_n 2, 1) := by decide +kernel
theorem dX42_run_14 : decode cX42_run 14 = .ok (.aload_n 3, 1) := by decide +kernel
theorem dX42_run_15 : decode cX42_run 15 = .ok (.getfield 9, 3) := by decide +kernel
theorem dX42_run_18 : decode cX42_run 18 = .ok (.l2i, 1) := by decide +kernel
theorem dX42_run_19 : decode cX42_run 19 = .ok (.invokevirtual 21, 3) := by decide +kernel
theorem dX42_run_22 : decode cX42_run 22 = .ok (.iconst 0, 1) := by decide +kernel
theorem dX42_run_23 : decode cX42_run 23 = .ok (.ireturn, 1) := by decide +kernel
theorem zy_X42_run : yX42_run.cls ≠ "java/lang/invoke/MethodHandle" ∧ yX42_run.cls ≠ "java/lang/invoke/VarHandle" ∧ (parseMethodDescriptor yX42_run.desc).map (fun d => d.parameters.length) = some 3 := by decide +kernel
theorem w_fX42_run_5 {K : zK} (E : zE K cX42_run "RingHouse$Forget" (some .int) 2) (hN : zNl K = 4) (hT : zTr K = (some 0)) (x2 : Int) (x3 : Int) : zR K 0 [(0, 38, 5), (1, 14, 0), (2, 10, x2), (3, 11, x3)] [] (fX42_run_5 x2 x3) := by
  refine r_aload_n E dX42_run_0 rfl 2 rfl ?_
  refine r_aload_n E dX42_run_1 rfl 3 rfl ?_
  refine r_nn E (fun hn1 => ?_)
  refine r_getN E zc_11 zt_1000 dX42_run_2 q691 zr_11 (zg_1000 _) hn1 (fun v2 => ?_)
  refine r_callSN E [(10, x2), (1, v2)] [] rfl q2636 q2637 q239 q2638 dX42_run_5 zy_X12_isKnown rfl (by omega) (by decide) (Nat.le_of_ble_eq_true rfl) (fun l G => k_fX12_isKnown l G x2 v2) (fun v3 => ?_)
  refine r_if_ne E 13 (by decide) dX42_run_8 (fun _ => ?_) (fun _ => ?_)
  · refine r_aload_n E dX42_run_13 rfl 2 rfl ?_
    refine r_aload_n E dX42_run_14 rfl 3 rfl ?_
    refine r_getN E zc_11 zt_1000 dX42_run_15 q691 zr_11 (zg_1000 _) hn1 (fun v4 => ?_)
    refine r_l2i E dX42_run_18 ?_
    refine r_nn E (fun hn5 => ?_)
    refine r_callV E [(0, (zi v4))] [] rfl zc_10 zr_10 (fun o _ => ⟨_, zw_X8.1 o, rfl⟩) (lw_V q2642 q2049 q2050 q235 q2051) dX42_run_19 zy_X8_forget rfl (by omega) (by decide) (Nat.le_of_ble_eq_true rfl) hn5 (fun l G => k_fX8_forget l G x2 (zi v4) hn5) (fun _ => ?_)
    refine r_iconst E dX42_run_22 (zkI (by decide) (by decide)) ?_
    exact r_ireturn E rfl hT dX42_run_23
  · refine r_iconst E dX42_run_11 (zkI (by decide) (by decide)) ?_
    exact r_ireturn E rfl hT dX42_run_12
theorem k_fX42_run_5 (l : Launch) (G : zG) (x2 : Int) (x3 : Int) : zCt l G yX42_run cX42_run 4 (some .int) 2 [(38, 5), (14, 0), (10, x2), (11, x3)] (some 0) (fX42_run_5 x2 x3) := zCt.of (by decide) (Nat.le_of_ble_eq_true rfl) (fun K E _ _ hN hT => w_fX42_run_5 E hN hT x2 x3)
theorem dX43_run_0 : decode cX43_run 0 = .ok (.aload_n 1, 1) := by decide +kernel
theorem dX43_run_1 : decode cX43_run 1 = .ok (.aload_n 2, 1) := by decide +kernel
theorem dX43_run_2 : decode cX43_run 2 = .ok (.getfield 9, 3) := by decide +kernel
theorem dX43_run_5 : decode cX43_run 5 = .ok (.putfield 15, 3) := by decide +kernel
theorem dX43_run_8 : decode cX43_run 8 = .ok (.aload_n 2, 1) := by decide +kernel
theorem dX43_run_9 : decode cX43_run 9 = .ok (.aload_n 2, 1) := by decide +kernel
theorem dX43_run_10 : decode cX43_run 10 = .ok (.getfield 9, 3) := by decide +kernel
theorem dX43_run_13 : decode cX43_run 13 = .ok (.iconst 1, 1) := by decide +kernel
theorem dX43_run_14 : decode cX43_run 14 = .ok (.invokevirtual 20, 3) := by decide +kernel
theorem dX43_run_17 : decode cX43_run 17 = .ok (.istore 4, 2) := by decide +kernel
theorem dX43_run_19 : decode cX43_run 19 = .ok (.iload 4, 2) := by decide +kernel
theorem dX43_run_21 : decode cX43_run 21 = .ok (.ifCond .eq 6, 3) := by decide +kernel
theorem dX43_run_24 : decode cX43_run 24 = .ok (.iload 4, 2) := by decide +kernel
theorem dX43_run_26 : decode cX43_run 26 = .ok (.ireturn, 1) := by decide +kernel
theorem dX43_run_27 : decode cX43_run 27 = .ok (.aload_n 2, 1) := by decide +kernel
theorem dX43_run_28 : decode cX43_run 28 = .ok (.getfield 9, 3) := by decide +kernel
theorem dX43_run_31 : decode cX43_run 31 = .ok (.getfield 24, 3) := by decide +kernel
theorem dX43_run_34 : decode cX43_run 34 = .ok (.astore 5, 2) := by decide +kernel
theorem dX43_run_36 : decode cX43_run 36 = .ok (.aload_n 3, 1) := by decide +kernel
theorem dX43_run_37 : decode cX43_run 37 = .ok (.getfield 29, 3) := by decide +kernel
theorem dX43_run_40 : decode cX43_run 40 = .ok (.lstore 6, 2) := by decide +kernel
theorem dX43_run_42 : decode cX43_run 42 = .ok (.lload 6, 2) := by decide +kernel
theorem dX43_run_44 : decode cX43_run 44 = .ok (.lconst 0, 1) := by decide +kernel
theorem dX43_run_45 : decode cX43_run 45 = .ok (.lcmp, 1) := by decide +kernel
theorem dX43_run_46 : decode cX43_run 46 = .ok (.ifCond .le 24, 3) := by decide +kernel
theorem dX43_run_49 : decode cX43_run 49 = .ok (.aload 5, 2) := by decide +kernel
theorem dX43_run_51 : decode cX43_run 51 = .ok (.ifnull 19, 3) := by decide +kernel
theorem dX43_run_54 : decode cX43_run 54 = .ok (.aload 5, 2) := by decide +kernel
theorem dX43_run_56 : decode cX43_run 56 = .ok (.getfield 35, 3) := by decide +kernel
theorem dX43_run_59 : decode cX43_run 59 = .ok (.astore 5, 2) := by decide +kernel
theorem dX43_run_61 : decode cX43_run 61 = .ok (.lload 6, 2) := by decide +kernel
theorem dX43_run_63 : decode cX43_run 63 = .ok (.lconst 1, 1) := by decide +kernel
theorem dX43_run_64 : decode cX43_run 64 = .ok (.lsub, 1) := by decide +kernel
theorem dX43_run_65 : decode cX43_run 65 = .ok (.lstore 6, 2) := by decide +kernel
theorem dX43_run_67 : decode cX43_run 67 = .ok (.goto (-25), 3) := by decide +kernel
theorem dX43_run_70 : decode cX43_run 70 = .ok (.aload 5, 2) := by decide +kernel
theorem dX43_run_72 : decode cX43_run 72 = .ok (.ifnonnull 5, 3) := by decide +kernel
theorem dX43_run_75 : decode cX43_run 75 = .ok (.iconst (-1), 1) := by decide +kernel
theorem dX43_run_76 : decode cX43_run 76 = .ok (.ireturn, 1) := by decide +kernel
theorem dX43_run_77 : decode cX43_run 77 = .ok (.aload_n 3, 1) := by decide +kernel
theorem dX43_run_78 : decode cX43_run 78 = .ok (.aload 5, 2) := by decide +kernel
theorem dX43_run_80 : decode cX43_run 80 = .ok (.getfield 38, 3) := by decide +kernel
theorem dX43_run_83 : decode cX43_run 83 = .ok (.putfield 41, 3) := by decide +kernel
theorem dX43_run_86 : decode cX43_run 86 = .ok (.iconst 0, 1) := by decide +kernel
theorem dX43_run_87 : decode cX43_run 87 = .ok (.ireturn, 1) := by decide +kernel
theorem zy_X43_run : yX43_run.cls ≠ "java/lang/invoke/MethodHandle" ∧ yX43_run.cls ≠ "java/lang/invoke/VarHandle" ∧ (parseMethodDescriptor yX43_run.desc).map (fun d => d.parameters.length) = some 3 := by decide +kernel
theorem w_fX43_run_6_J70 {K : zK} (E : zE K cX43_run "RingHouse$NameOf" (some .int) 4) (hN : zNl K = 8) (hT : zTr K = (some 0)) (x3 : Int) (x5 : Int) : zR K 70 [(3, 11, x3), (5, 6, x5)] [] (fX43_run_6_J70 x3 x5) := by
  refine r_aload E dX43_run_70 1 rfl ?_
  refine r_ifnonnull E 77 (by decide) dX43_run_72 (fun _ => ?_) (fun hz10 => ?_)
  · refine r_iconst E dX43_run_75 (zkI (by decide) (by decide)) ?_
    exact r_ireturn E rfl hT dX43_run_76
  · refine r_aload_n E dX43_run_77 rfl 0 rfl ?_
    refine r_aload E dX43_run_78 1 rfl ?_
    refine r_getN E zc_6 zt_502 dX43_run_80 q382 zr_6 (zg_502 _) (Int.not_lt.mp hz10) (fun v11 => ?_)
    refine r_nn E (fun hn12 => ?_)
    refine r_putN E zc_11 zt_1001 zo_1001 dX43_run_83 q730 zr_11 zw_X9 zp_1001 (fun _ => rfl) (fun _ => rfl) hn12 ?_
    refine r_iconst E dX43_run_86 (zkI (by decide) (by decide)) ?_
    exact r_ireturn E rfl hT dX43_run_87
theorem w_fX43_run_6_B42 {K : zK} (E : zE K cX43_run "RingHouse$NameOf" (some .int) 4) (hN : zNl K = 8) (hT : zTr K = (some 0)) (x3 : Int) : ∀ r42 : Int × Int → zX, (∀ s : Int × Int, zR K 42 [(3, 11, x3), (5, 6, s.1), (6, 1, s.2)] [] (r42 s)) → ∀ s : Int × Int, zR K 42 [(3, 11, x3), (5, 6, s.1), (6, 1, s.2)] [] (fX43_run_6_B42 x3 r42 s) := by
  intro r42 hr42 s
  obtain ⟨x5, x6⟩ := s
  refine r_lload E dX43_run_42 2 rfl ?_
  refine r_lconst (v := 0) E dX43_run_44 (by decide) (zkJ (by decide) (by decide)) ?_
  refine r_lcmp_le E 70 (by decide) dX43_run_45 dX43_run_46 (fun _ => ?_) (fun _ => ?_)
  · refine r_pick E [0, 1] rfl ?_
    exact w_fX43_run_6_J70 E hN hT x3 x5
  · refine r_aload E dX43_run_49 1 rfl ?_
    refine r_ifnull E 70 (by decide) dX43_run_51 (fun _ => ?_) (fun hz13 => ?_)
    · refine r_pick E [0, 1] rfl ?_
      exact w_fX43_run_6_J70 E hN hT x3 x5
    · refine r_aload E dX43_run_54 1 rfl ?_
      refine r_getN E zc_6 zt_506 dX43_run_56 q403 zr_6 (zg_506 _) (Int.not_lt.mp hz13) (fun v14 => ?_)
      refine r_astore (ls' := [(5, 6, v14), (3, 11, x3), (6, 1, x6)]) E dX43_run_59 (by rw [hN]; decide) rfl ?_
      refine r_lload E dX43_run_61 2 rfl ?_
      refine r_lconst (v := 1) E dX43_run_63 (by decide) (zkJ (by decide) (by decide)) ?_
      refine r_lsub E dX43_run_64 ?_
      refine r_let E (fun v15 ev15 => ?_)
      refine r_lstore (ls' := [(6, 1, v15), (5, 6, v14), (3, 11, x3)]) E dX43_run_65 (by rw [hN]; decide) rfl ?_
      refine r_goto E 42 (by decide) dX43_run_67 ?_
      refine r_pick E [2, 1, 0] rfl ?_
      exact hr42 (v14, v15)
theorem w_fX43_run_6 {K : zK} (E : zE K cX43_run "RingHouse$NameOf" (some .int) 4) (hN : zNl K = 8) (hT : zTr K = (some 0)) (x2 : Int) (x3 : Int) : zR K 0 [(0, 38, 6), (1, 14, 0), (2, 10, x2), (3, 11, x3)] [] (fX43_run_6 x2 x3) := by
  refine r_aload_n E dX43_run_0 rfl 1 rfl ?_
  refine r_aload_n E dX43_run_1 rfl 2 rfl ?_
  refine r_nn E (fun hn1 => ?_)
  refine r_getN E zc_10 zt_920 dX43_run_2 q923 zr_10 (zg_920 _) hn1 (fun v2 => ?_)
  refine r_putN E zc_14 zt_1306 zo_1306 dX43_run_5 q1545 zr_14 zw_X12 zp_1306 (fun _ => rfl) (fun G => zfo G) (by decide) ?_
  refine r_aload_n E dX43_run_8 rfl 2 rfl ?_
  refine r_aload_n E dX43_run_9 rfl 2 rfl ?_
  refine r_getN E zc_10 zt_920 dX43_run_10 q923 zr_10 (zg_920 _) hn1 (fun v3 => ?_)
  refine r_iconst E dX43_run_13 (zkI (by decide) (by decide)) ?_
  refine r_callV E [(6, v3), (0, 1)] [] rfl zc_10 zr_10 (fun o _ => ⟨_, zw_X8.1 o, rfl⟩) (lw_V q2662 q2319 q2320 q235 q2321) dX43_run_14 zy_X8_refusal_2 rfl (by omega) (by decide) (Nat.le_of_ble_eq_true rfl) hn1 (fun l G => k_fX8_refusal_2 l G x2 v3 1 hn1) (fun v4 => ?_)
  refine r_istore (ls' := [(4, 0, v4), (0, 38, 6), (1, 14, 0), (2, 10, x2), (3, 11, x3)]) E dX43_run_17 (by rw [hN]; decide) rfl ?_
  refine r_iload E dX43_run_19 0 rfl ?_
  refine r_if_eq E 27 (by decide) dX43_run_21 (fun _ => ?_) (fun _ => ?_)
  · refine r_aload_n E dX43_run_27 rfl 3 rfl ?_
    refine r_getN E zc_10 zt_920 dX43_run_28 q923 zr_10 (zg_920 _) hn1 (fun v5 => ?_)
    refine r_nn E (fun hn6 => ?_)
    refine r_getN E zc_6 zt_513 dX43_run_31 q442 zr_6 (zg_513 _) hn6 (fun v7 => ?_)
    refine r_astore (ls' := [(5, 6, v7), (4, 0, v4), (0, 38, 6), (1, 14, 0), (2, 10, x2), (3, 11, x3)]) E dX43_run_34 (by rw [hN]; decide) rfl ?_
    refine r_aload_n E dX43_run_36 rfl 5 rfl ?_
    refine r_nn E (fun hn8 => ?_)
    refine r_getN E zc_11 zt_1000 dX43_run_37 q703 zr_11 (zg_1000 _) hn8 (fun v9 => ?_)
    refine r_lstore (ls' := [(6, 1, v9), (5, 6, v7), (4, 0, v4), (0, 38, 6), (1, 14, 0), (2, 10, x2), (3, 11, x3)]) E dX43_run_40 (by rw [hN]; decide) rfl ?_
    refine r_pick E [6, 1, 0] rfl ?_
    exact r_loop (L := fun s => [(3, 11, x3), (5, 6, s.1), (6, 1, s.2)]) (w_fX43_run_6_B42 E hN hT x3) zBIG (v7, v9)
  · refine r_iload E dX43_run_24 0 rfl ?_
    exact r_ireturn E rfl hT dX43_run_26
theorem k_fX43_run_6 (l : Launch) (G : zG) (x2 : Int) (x3 : Int) : zCt l G yX43_run cX43_run 8 (some .int) 4 [(38, 6), (14, 0), (10, x2), (11, x3)] (some 0) (fX43_run_6 x2 x3) := zCt.of (by decide) (Nat.le_of_ble_eq_true rfl) (fun K E _ _ hN hT => w_fX43_run_6 E hN hT x2 x3)
theorem dX44_on_0 : decode cX44_on 0 = .ok (.aload 4, 2) := by decide +kernel
theorem dX44_on_2 : decode cX44_on 2 = .ok (.aload_n 2, 1) := by decide +kernel
theorem dX44_on_3 : decode cX44_on 3 = .ok (.getfield 9, 3) := by decide +kernel
theorem dX44_on_6 : decode cX44_on 6 = .ok (.i2l, 1) := by decide +kernel
theorem dX44_on_7 : decode cX44_on 7 = .ok (.ldc2_w 15, 3) := by decide +kernel
theorem dX44_on_10 : decode cX44_on 10 = .ok (.aload_n 2, 1) := by decide +kernel
theorem dX44_on_11 : decode cX44_on 11 = .ok (.getfield 17, 3) := by decide +kernel
theorem dX44_on_14 : decode cX44_on 14 = .ok (.i2l, 1) := by decide +kernel
theorem dX44_on_15 : decode cX44_on 15 = .ok (.lmul, 1) := by decide +kernel
theorem dX44_on_16 : decode cX44_on 16 = .ok (.ladd, 1) := by decide +kernel
theorem dX44_on_17 : decode cX44_on 17 = .ok (.ldc2_w 20, 3) := by decide +kernel
theorem dX44_on_20 : decode cX44_on 20 = .ok (.aload_n 2, 1) := by decide +kernel
theorem dX44_on_21 : decode cX44_on 21 = .ok (.getfield 22, 3) := by decide +kernel
theorem dX44_on_24 : decode cX44_on 24 = .ok (.i2l, 1) := by decide +kernel
theorem dX44_on_25 : decode cX44_on 25 = .ok (.lmul, 1) := by decide +kernel
theorem dX44_on_26 : decode cX44_on 26 = .ok (.ladd, 1) := by decide +kernel
theorem dX44_on_27 : decode cX44_on 27 = .ok (.ldc2_w 25, 3) := by decide +kernel
theorem dX44_on_30 : decode cX44_on 30 = .ok (.aload_n 2, 1) := by decide +kernel
theorem dX44_on_31 : decode cX44_on 31 = .ok (.getfield 27, 3) := by decide +kernel
theorem dX44_on_34 : decode cX44_on 34 = .ok (.i2l, 1) := by decide +kernel
theorem dX44_on_35 : decode cX44_on 35 = .ok (.lmul, 1) := by decide +kernel
theorem dX44_on_36 : decode cX44_on 36 = .ok (.ladd, 1) := by decide +kernel
theorem dX44_on_37 : decode cX44_on 37 = .ok (.ldc2_w 30, 3) := by decide +kernel
theorem dX44_on_40 : decode cX44_on 40 = .ok (.aload_n 2, 1) := by decide +kernel
theorem dX44_on_41 : decode cX44_on 41 = .ok (.getfield 32, 3) := by decide +kernel
theorem dX44_on_44 : decode cX44_on 44 = .ok (.i2l, 1) := by decide +kernel
theorem dX44_on_45 : decode cX44_on 45 = .ok (.lmul, 1) := by decide +kernel
theorem dX44_on_46 : decode cX44_on 46 = .ok (.ladd, 1) := by decide +kernel
theorem dX44_on_47 : decode cX44_on 47 = .ok (.ldc2_w 35, 3) := by decide +kernel
theorem dX44_on_50 : decode cX44_on 50 = .ok (.aload_n 2, 1) := by decide +kernel
theorem dX44_on_51 : decode cX44_on 51 = .ok (.getfield 37, 3) := by decide +kernel
theorem dX44_on_54 : decode cX44_on 54 = .ok (.i2l, 1) := by decide +kernel
theorem dX44_on_55 : decode cX44_on 55 = .ok (.lmul, 1) := by decide +kernel
theorem dX44_on_56 : decode cX44_on 56 = .ok (.ladd, 1) := by decide +kernel
theorem dX44_on_57 : decode cX44_on 57 = .ok (.putfield 40, 3) := by decide +kernel
theorem dX44_on_60 : decode cX44_on 60 = .ok (.iconst 0, 1) := by decide +kernel
theorem dX44_on_61 : decode cX44_on 61 = .ok (.ireturn, 1) := by decide +kernel
theorem zy_X44_on : yX44_on.cls ≠ "java/lang/invoke/MethodHandle" ∧ yX44_on.cls ≠ "java/lang/invoke/VarHandle" ∧ (parseMethodDescriptor yX44_on.desc).map (fun d => d.parameters.length) = some 4 := by decide +kernel
theorem w_fX44_on_7 {K : zK} (E : zE K cX44_on "RingHouse$Tell" (some .int) 0) (hN : zNl K = 5) (hT : zTr K = (some 0)) (x2 : Int) (x3 : Int) (x4 : Int) : zR K 0 [(0, 38, 7), (1, 14, 0), (2, 6, x2), (3, 10, x3), (4, 11, x4)] [] (fX44_on_7 x2 x3 x4) := by
  refine r_aload E dX44_on_0 4 rfl ?_
  refine r_aload_n E dX44_on_2 rfl 2 rfl ?_
  refine r_nn E (fun hn1 => ?_)
  refine r_getN E zc_6 zt_501 dX44_on_3 q378 zr_6 (zg_501 _) hn1 (fun v2 => ?_)
  refine r_i2l E dX44_on_6 ?_
  refine r_ldc2 (v := 4) E dX44_on_7 q2627 (by decide) (zkJ (by decide) (by decide)) ?_
  refine r_aload_n E dX44_on_10 rfl 2 rfl ?_
  refine r_getN E zc_6 zt_503 dX44_on_11 q388 zr_6 (zg_503 _) hn1 (fun v3 => ?_)
  refine r_i2l E dX44_on_14 ?_
  refine r_lmul E dX44_on_15 ?_
  refine r_ladd E dX44_on_16 ?_
  refine r_ldc2 (v := 128) E dX44_on_17 q2628 (by decide) (zkJ (by decide) (by decide)) ?_
  refine r_aload_n E dX44_on_20 rfl 2 rfl ?_
  refine r_getN E zc_6 zt_509 dX44_on_21 q418 zr_6 (zg_509 _) hn1 (fun v4 => ?_)
  refine r_i2l E dX44_on_24 ?_
  refine r_lmul E dX44_on_25 ?_
  refine r_ladd E dX44_on_26 ?_
  refine r_ldc2 (v := 1024) E dX44_on_27 q2629 (by decide) (zkJ (by decide) (by decide)) ?_
  refine r_aload_n E dX44_on_30 rfl 2 rfl ?_
  refine r_getN E zc_6 zt_510 dX44_on_31 q428 zr_6 (zg_510 _) hn1 (fun v5 => ?_)
  refine r_i2l E dX44_on_34 ?_
  refine r_lmul E dX44_on_35 ?_
  refine r_ladd E dX44_on_36 ?_
  refine r_ldc2 (v := 8192) E dX44_on_37 q2630 (by decide) (zkJ (by decide) (by decide)) ?_
  refine r_aload_n E dX44_on_40 rfl 2 rfl ?_
  refine r_getN E zc_6 zt_511 dX44_on_41 q434 zr_6 (zg_511 _) hn1 (fun v6 => ?_)
  refine r_i2l E dX44_on_44 ?_
  refine r_lmul E dX44_on_45 ?_
  refine r_ladd E dX44_on_46 ?_
  refine r_ldc2 (v := 65536) E dX44_on_47 q2631 (by decide) (zkJ (by decide) (by decide)) ?_
  refine r_aload_n E dX44_on_50 rfl 2 rfl ?_
  refine r_getN E zc_6 zt_522 dX44_on_51 q475 zr_6 (zg_522 _) hn1 (fun v7 => ?_)
  refine r_i2l E dX44_on_54 ?_
  refine r_lmul E dX44_on_55 ?_
  refine r_ladd E dX44_on_56 ?_
  refine r_nn E (fun hn8 => ?_)
  refine r_putN E zc_11 zt_1001 zo_1001 dX44_on_57 q726 zr_11 zw_X9 zp_1001 (fun _ => rfl) (fun _ => rfl) hn8 ?_
  refine r_iconst E dX44_on_60 (zkI (by decide) (by decide)) ?_
  exact r_ireturn E rfl hT dX44_on_61
theorem k_fX44_on_7 (l : Launch) (G : zG) (x2 : Int) (x3 : Int) (x4 : Int) : zCt l G yX44_on cX44_on 5 (some .int) 0 [(38, 7), (14, 0), (6, x2), (10, x3), (11, x4)] (some 0) (fX44_on_7 x2 x3 x4) := zCt.of (by decide) (Nat.le_of_ble_eq_true rfl) (fun K E _ _ hN hT => w_fX44_on_7 E hN hT x2 x3 x4)
theorem w_fX38_run_7 {K : zK} (E : zE K cX38_run "RingHouse$Entered" (some .int) 4) (hN : zNl K = 6) (hT : zTr K = (some 0)) (x2 : Int) (x3 : Int) : zR K 0 [(0, 38, 7), (1, 14, 0), (2, 10, x2), (3, 11, x3)] [] (fX38_run_7 x2 x3) := by
  refine r_aload_n E dX38_run_0 rfl 1 rfl ?_
  refine r_aload_n E dX38_run_1 rfl 2 rfl ?_
  refine r_nn E (fun hn1 => ?_)
  refine r_getN E zc_10 zt_920 dX38_run_2 q922 zr_10 (zg_920 _) hn1 (fun v2 => ?_)
  refine r_putN E zc_14 zt_1306 zo_1306 dX38_run_5 q1544 zr_14 zw_X12 zp_1306 (fun _ => rfl) (fun G => zfo G) (by decide) ?_
  refine r_aload_n E dX38_run_8 rfl 2 rfl ?_
  refine r_aload_n E dX38_run_9 rfl 2 rfl ?_
  refine r_getN E zc_10 zt_920 dX38_run_10 q922 zr_10 (zg_920 _) hn1 (fun v3 => ?_)
  refine r_aload_n E dX38_run_13 rfl 0 rfl ?_
  refine r_gec (y := 1) E zc_38 dX38_run_14 q1334 zr_38 (zh_38_7_0) (by decide) ?_
  refine r_callV E [(6, v3), (0, 1)] [] rfl zc_10 zr_10 (fun o _ => ⟨_, zw_X8.1 o, rfl⟩) (lw_V q2531 q2319 q2320 q235 q2321) dX38_run_17 zy_X8_refusal_2 rfl (by omega) (by decide) (Nat.le_of_ble_eq_true rfl) hn1 (fun l G => k_fX8_refusal_2 l G x2 v3 1 hn1) (fun v4 => ?_)
  refine r_istore (ls' := [(4, 0, v4), (0, 38, 7), (1, 14, 0), (2, 10, x2), (3, 11, x3)]) E dX38_run_20 (by rw [hN]; decide) rfl ?_
  refine r_iload E dX38_run_22 0 rfl ?_
  refine r_if_eq E 30 (by decide) dX38_run_24 (fun _ => ?_) (fun _ => ?_)
  · refine r_aload_n E dX38_run_30 rfl 4 rfl ?_
    refine r_nn E (fun hn5 => ?_)
    refine r_getN E zc_11 zt_1000 dX38_run_31 q701 zr_11 (zg_1000 _) hn5 (fun v6 => ?_)
    refine r_callSN E [(1, v6)] [] rfl q2532 q1842 q227 q1843 dX38_run_34 zy_X0_isName rfl (by omega) (by decide) (Nat.le_of_ble_eq_true rfl) (fun l G => k_fX0_isName l G v6) (fun v7 => ?_)
    refine r_if_ne E 43 (by decide) dX38_run_37 (fun _ => ?_) (fun _ => ?_)
    · refine r_aload_n E dX38_run_43 rfl 2 rfl ?_
      refine r_gecN (y := 0) E zc_14 dX38_run_44 q1530 zr_14 (zh_1300 (by decide)) (by decide) ?_
      refine r_gecN (y := 0) E zc_3 dX38_run_47 q589 zr_3 (zh_201 (by decide)) (by decide) ?_
      refine r_aload_n E dX38_run_50 rfl 3 rfl ?_
      refine r_getN E zc_10 zt_920 dX38_run_51 q922 zr_10 (zg_920 _) hn1 (fun v8 => ?_)
      refine r_aload_n E dX38_run_54 rfl 4 rfl ?_
      refine r_getN E zc_11 zt_1000 dX38_run_55 q701 zr_11 (zg_1000 _) hn5 (fun v9 => ?_)
      refine r_callV E [(6, v8), (1, v9)] [] rfl zc_4 zr_4 (fun o _ => ⟨_, zw_X2.1 o, rfl⟩) (lw_V q2533 q1866 q1867 q229 q1868) dX38_run_58 zy_X2_find rfl (by omega) (by decide) (Nat.le_of_ble_eq_true rfl) (by decide) (fun l G => k_fX2_find l G v8 v9) (fun v10 => ?_)
      refine r_astore (ls' := [(5, 6, v10), (4, 0, v4), (0, 38, 7), (1, 14, 0), (2, 10, x2), (3, 11, x3)]) E dX38_run_61 (by rw [hN]; decide) rfl ?_
      refine r_aload_n E dX38_run_63 rfl 3 rfl ?_
      refine r_aload E dX38_run_64 0 rfl ?_
      refine r_putN E zc_14 zt_1306 zo_1306 dX38_run_66 q1544 zr_14 zw_X12 zp_1306 (fun _ => rfl) (fun G => zfo G) (by decide) ?_
      refine r_aload E dX38_run_69 0 rfl ?_
      refine r_ifnonnull E 78 (by decide) dX38_run_71 (fun _ => ?_) (fun hz11 => ?_)
      · refine r_iconst E dX38_run_74 (zkI (by decide) (by decide)) ?_
        refine r_goto E 87 (by decide) dX38_run_75 ?_
        exact r_ireturn E rfl hT dX38_run_87
      · refine r_aload_n E dX38_run_78 rfl 2 rfl ?_
        refine r_aload_n E dX38_run_79 rfl 3 rfl ?_
        refine r_aload E dX38_run_80 0 rfl ?_
        refine r_aload_n E dX38_run_82 rfl 4 rfl ?_
        refine r_aload_n E dX38_run_83 rfl 5 rfl ?_
        refine r_callU (n := 4) (x := ⟨"RingHouse$Entered", "on", "(LRingHouse$Machine;LRingHouse$Node;LRingHouse$Process;LRingHouse$Registers;)I"⟩) (owner := "RingHouse$Entered") E [(14, 0), (6, v10), (10, x2), (11, x3)] [] rfl zc_38 zr_38 zk_38_7 q2534 q2536 q2624 q2625 q271 q2626 (Or.inr q2535) dX38_run_84 (by decide +kernel) rfl (by omega) (by decide) (Nat.le_of_ble_eq_true rfl) (by decide) (fun l G => k_fX44_on_7 l G v10 x2 x3) (fun v12 => ?_)
        exact r_ireturn E rfl hT dX38_run_87
    · refine r_bipush E dX38_run_40 (by decide) (zkI (by decide) (by decide)) ?_
      exact r_ireturn E rfl hT dX38_run_42
  · refine r_iload E dX38_run_27 0 rfl ?_
    exact r_ireturn E rfl hT dX38_run_29
theorem k_fX38_run_7 (l : Launch) (G : zG) (x2 : Int) (x3 : Int) : zCt l G yX38_run cX38_run 6 (some .int) 4 [(38, 7), (14, 0), (10, x2), (11, x3)] (some 0) (fX38_run_7 x2 x3) := zCt.of (by decide) (Nat.le_of_ble_eq_true rfl) (fun K E _ _ hN hT => w_fX38_run_7 E hN hT x2 x3)
theorem dX45_isRight_0 : decode cX45_isRight 0 = .ok (.aload_n 2, 1) := by decide +kernel
theorem dX45_isRight_1 : decode cX45_isRight 1 = .ok (.getfield 15, 3) := by decide +kernel
theorem dX45_isRight_4 : decode cX45_isRight 4 = .ok (.invokestatic 21, 3) := by decide +kernel
theorem dX45_isRight_7 : decode cX45_isRight 7 = .ok (.ifCond .ne 5, 3) := by decide +kernel
theorem dX45_isRight_10 : decode cX45_isRight 10 = .ok (.iconst 0, 1) := by decide +kernel
theorem dX45_isRight_11 : decode cX45_isRight 11 = .ok (.ireturn, 1) := by decide +kernel
theorem dX45_isRight_12 : decode cX45_isRight 12 = .ok (.aload_n 0, 1) := by decide +kernel
theorem dX45_isRight_13 : decode cX45_isRight 13 = .ok (.getfield 9, 3) := by decide +kernel
theorem dX45_isRight_16 : decode cX45_isRight 16 = .ok (.iconst 2, 1) := by decide +kernel
theorem dX45_isRight_17 : decode cX45_isRight 17 = .ok (.if_icmp .ne 20, 3) := by decide +kernel
theorem dX45_isRight_20 : decode cX45_isRight 20 = .ok (.aload_n 2, 1) := by decide +kernel
theorem dX45_isRight_21 : decode cX45_isRight 21 = .ok (.getfield 25, 3) := by decide +kernel
theorem dX45_isRight_24 : decode cX45_isRight 24 = .ok (.ldc2_w 28, 3) := by decide +kernel
theorem dX45_isRight_27 : decode cX45_isRight 27 = .ok (.lcmp, 1) := by decide +kernel
theorem dX45_isRight_28 : decode cX45_isRight 28 = .ok (.ifCond .gt 7, 3) := by decide +kernel
theorem dX45_isRight_31 : decode cX45_isRight 31 = .ok (.iconst 1, 1) := by decide +kernel
theorem dX45_isRight_32 : decode cX45_isRight 32 = .ok (.goto 4, 3) := by decide +kernel
theorem dX45_isRight_35 : decode cX45_isRight 35 = .ok (.iconst 0, 1) := by decide +kernel
theorem dX45_isRight_36 : decode cX45_isRight 36 = .ok (.ireturn, 1) := by decide +kernel
theorem dX45_isRight_37 : decode cX45_isRight 37 = .ok (.aload_n 0, 1) := by decide +kernel
theorem dX45_isRight_38 : decode cX45_isRight 38 = .ok (.getfield 9, 3) := by decide +kernel
theorem dX45_isRight_41 : decode cX45_isRight 41 = .ok (.iconst 3, 1) := by decide +kernel
theorem dX45_isRight_42 : decode cX45_isRight 42 = .ok (.if_icmp .eq 37, 3) := by decide +kernel
theorem dX45_isRight_45 : decode cX45_isRight 45 = .ok (.aload_n 2, 1) := by decide +kernel
theorem dX45_isRight_46 : decode cX45_isRight 46 = .ok (.getfield 25, 3) := by decide +kernel
theorem dX45_isRight_49 : decode cX45_isRight 49 = .ok (.invokestatic 30, 3) := by decide +kernel
theorem dX45_isRight_52 : decode cX45_isRight 52 = .ok (.ifCond .eq 31, 3) := by decide +kernel
theorem dX45_isRight_55 : decode cX45_isRight 55 = .ok (.aload_n 2, 1) := by decide +kernel
theorem dX45_isRight_56 : decode cX45_isRight 56 = .ok (.getfield 25, 3) := by decide +kernel
theorem dX45_isRight_59 : decode cX45_isRight 59 = .ok (.l2i, 1) := by decide +kernel
theorem dX45_isRight_60 : decode cX45_isRight 60 = .ok (.aload_n 1, 1) := by decide +kernel
theorem dX45_isRight_61 : decode cX45_isRight 61 = .ok (.getfield 33, 3) := by decide +kernel
theorem dX45_isRight_64 : decode cX45_isRight 64 = .ok (.getfield 39, 3) := by decide +kernel
theorem dX45_isRight_67 : decode cX45_isRight 67 = .ok (.aload_n 2, 1) := by decide +kernel
theorem dX45_isRight_68 : decode cX45_isRight 68 = .ok (.getfield 44, 3) := by decide +kernel
theorem dX45_isRight_71 : decode cX45_isRight 71 = .ok (.iconst 0, 1) := by decide +kernel
theorem dX45_isRight_72 : decode cX45_isRight 72 = .ok (.iaload, 1) := by decide +kernel
theorem dX45_isRight_73 : decode cX45_isRight 73 = .ok (.invokestatic 48, 3) := by decide +kernel
theorem dX45_isRight_76 : decode cX45_isRight 76 = .ok (.ifCond .eq 7, 3) := by decide +kernel
theorem dX45_isRight_79 : decode cX45_isRight 79 = .ok (.iconst 1, 1) := by decide +kernel
theorem dX45_isRight_80 : decode cX45_isRight 80 = .ok (.goto 4, 3) := by decide +kernel
theorem dX45_isRight_83 : decode cX45_isRight 83 = .ok (.iconst 0, 1) := by decide +kernel
theorem dX45_isRight_84 : decode cX45_isRight 84 = .ok (.ireturn, 1) := by decide +kernel
theorem zy_X45_isRight : yX45_isRight.cls ≠ "java/lang/invoke/MethodHandle" ∧ yX45_isRight.cls ≠ "java/lang/invoke/VarHandle" ∧ (parseMethodDescriptor yX45_isRight.desc).map (fun d => d.parameters.length) = some 2 := by decide +kernel
theorem w_fX45_isRight_8 {K : zK} (E : zE K cX45_isRight "RingHouse$Create" (some .boolean) 2) (hN : zNl K = 3) (hT : zTr K = (some 0)) (x1 : Int) (x2 : Int) : zR K 0 [(0, 38, 8), (1, 10, x1), (2, 11, x2)] [] (fX45_isRight_8 x1 x2) := by
  refine r_aload_n E dX45_isRight_0 rfl 2 rfl ?_
  refine r_nn E (fun hn1 => ?_)
  refine r_getN E zc_11 zt_1000 dX45_isRight_1 q687 zr_11 (zg_1000 _) hn1 (fun v2 => ?_)
  refine r_callSN E [(1, v2)] [] rfl q2516 q1842 q227 q1843 dX45_isRight_4 zy_X0_isName rfl (by omega) (by decide) (Nat.le_of_ble_eq_true rfl) (fun l G => k_fX0_isName l G v2) (fun v3 => ?_)
  refine r_if_ne E 12 (by decide) dX45_isRight_7 (fun _ => ?_) (fun _ => ?_)
  · refine r_aload_n E dX45_isRight_12 rfl 0 rfl ?_
    refine r_gec (y := 2) E zc_38 dX45_isRight_13 q1384 zr_38 (zh_38_8_0) (by decide) ?_
    refine r_iconst E dX45_isRight_16 (zkI (by decide) (by decide)) ?_
    refine r_litF (hdec := inferInstance) (P := ¬ (2 : Int) = (2 : Int)) (by decide) ?_
    refine r_icmp_ne E 37 (by decide) dX45_isRight_17 (fun _ => r_no E) (fun _ => ?_)
    refine r_aload_n E dX45_isRight_20 rfl 2 rfl ?_
    refine r_getN E zc_11 zt_1001 dX45_isRight_21 q717 zr_11 (zg_1001 _) hn1 (fun v4 => ?_)
    refine r_ldc2 (v := 1024) E dX45_isRight_24 q2517 (by decide) (zkJ (by decide) (by decide)) ?_
    refine r_lcmp_gt E 35 (by decide) dX45_isRight_27 dX45_isRight_28 (fun _ => ?_) (fun _ => ?_)
    · refine r_iconst E dX45_isRight_35 (zkI (by decide) (by decide)) ?_
      exact r_zreturn E rfl hT (by decide) dX45_isRight_36
    · refine r_iconst E dX45_isRight_31 (zkI (by decide) (by decide)) ?_
      refine r_goto E 36 (by decide) dX45_isRight_32 ?_
      exact r_zreturn E rfl hT (by decide) dX45_isRight_36
  · refine r_iconst E dX45_isRight_10 (zkI (by decide) (by decide)) ?_
    exact r_zreturn E rfl hT (by decide) dX45_isRight_11
theorem k_fX45_isRight_8 (l : Launch) (G : zG) (x1 : Int) (x2 : Int) : zCt l G yX45_isRight cX45_isRight 3 (some .boolean) 2 [(38, 8), (10, x1), (11, x2)] (some 0) (fX45_isRight_8 x1 x2) := zCt.of (by decide) (Nat.le_of_ble_eq_true rfl) (fun K E _ _ hN hT => w_fX45_isRight_8 E hN hT x1 x2)
theorem dX45_run_0 : decode cX45_run 0 = .ok (.aload_n 1, 1) := by decide +kernel
theorem dX45_run_1 : decode cX45_run 1 = .ok (.aload_n 2, 1) := by decide +kernel
theorem dX45_run_2 : decode cX45_run 2 = .ok (.getfield 33, 3) := by decide +kernel
theorem dX45_run_5 : decode cX45_run 5 = .ok (.putfield 52, 3) := by decide +kernel
theorem dX45_run_8 : decode cX45_run 8 = .ok (.aload_n 2, 1) := by decide +kernel
theorem dX45_run_9 : decode cX45_run 9 = .ok (.aload_n 2, 1) := by decide +kernel
theorem dX45_run_10 : decode cX45_run 10 = .ok (.getfield 33, 3) := by decide +kernel
theorem dX45_run_13 : decode cX45_run 13 = .ok (.iconst 4, 1) := by decide +kernel
theorem dX45_run_14 : decode cX45_run 14 = .ok (.invokevirtual 57, 3) := by decide +kernel
theorem dX45_run_17 : decode cX45_run 17 = .ok (.istore 4, 2) := by decide +kernel
theorem dX45_run_19 : decode cX45_run 19 = .ok (.iload 4, 2) := by decide +kernel
theorem dX45_run_21 : decode cX45_run 21 = .ok (.ifCond .eq 6, 3) := by decide +kernel
theorem dX45_run_24 : decode cX45_run 24 = .ok (.iload 4, 2) := by decide +kernel
theorem dX45_run_26 : decode cX45_run 26 = .ok (.ireturn, 1) := by decide +kernel
theorem dX45_run_27 : decode cX45_run 27 = .ok (.aload_n 0, 1) := by decide +kernel
theorem dX45_run_28 : decode cX45_run 28 = .ok (.aload_n 2, 1) := by decide +kernel
theorem dX45_run_29 : decode cX45_run 29 = .ok (.aload_n 3, 1) := by decide +kernel
theorem dX45_run_30 : decode cX45_run 30 = .ok (.invokevirtual 61, 3) := by decide +kernel
theorem dX45_run_33 : decode cX45_run 33 = .ok (.ifCond .ne 6, 3) := by decide +kernel
theorem dX45_run_36 : decode cX45_run 36 = .ok (.bipush (-8), 2) := by decide +kernel
theorem dX45_run_38 : decode cX45_run 38 = .ok (.ireturn, 1) := by decide +kernel
theorem dX45_run_39 : decode cX45_run 39 = .ok (.aload_n 0, 1) := by decide +kernel
theorem dX45_run_40 : decode cX45_run 40 = .ok (.getfield 9, 3) := by decide +kernel
theorem dX45_run_43 : decode cX45_run 43 = .ok (.iconst 2, 1) := by decide +kernel
theorem dX45_run_44 : decode cX45_run 44 = .ok (.if_icmp .ne 23, 3) := by decide +kernel
theorem dX45_run_47 : decode cX45_run 47 = .ok (.aload_n 1, 1) := by decide +kernel
theorem dX45_run_48 : decode cX45_run 48 = .ok (.aload_n 2, 1) := by decide +kernel
theorem dX45_run_49 : decode cX45_run 49 = .ok (.getfield 33, 3) := by decide +kernel
theorem dX45_run_52 : decode cX45_run 52 = .ok (.aload_n 3, 1) := by decide +kernel
theorem dX45_run_53 : decode cX45_run 53 = .ok (.getfield 15, 3) := by decide +kernel
theorem dX45_run_56 : decode cX45_run 56 = .ok (.aload_n 3, 1) := by decide +kernel
theorem dX45_run_57 : decode cX45_run 57 = .ok (.getfield 25, 3) := by decide +kernel
theorem dX45_run_60 : decode cX45_run 60 = .ok (.l2i, 1) := by decide +kernel
theorem dX45_run_61 : decode cX45_run 61 = .ok (.invokevirtual 65, 3) := by decide +kernel
theorem dX45_run_64 : decode cX45_run 64 = .ok (.goto 49, 3) := by decide +kernel
theorem dX45_run_67 : decode cX45_run 67 = .ok (.aload_n 0, 1) := by decide +kernel
theorem dX45_run_68 : decode cX45_run 68 = .ok (.getfield 9, 3) := by decide +kernel
theorem dX45_run_71 : decode cX45_run 71 = .ok (.iconst 3, 1) := by decide +kernel
theorem dX45_run_72 : decode cX45_run 72 = .ok (.if_icmp .ne 18, 3) := by decide +kernel
theorem dX45_run_75 : decode cX45_run 75 = .ok (.aload_n 1, 1) := by decide +kernel
theorem dX45_run_76 : decode cX45_run 76 = .ok (.aload_n 2, 1) := by decide +kernel
theorem dX45_run_77 : decode cX45_run 77 = .ok (.getfield 33, 3) := by decide +kernel
theorem dX45_run_80 : decode cX45_run 80 = .ok (.aload_n 3, 1) := by decide +kernel
theorem dX45_run_81 : decode cX45_run 81 = .ok (.getfield 15, 3) := by decide +kernel
theorem dX45_run_84 : decode cX45_run 84 = .ok (.invokevirtual 69, 3) := by decide +kernel
theorem dX45_run_87 : decode cX45_run 87 = .ok (.goto 26, 3) := by decide +kernel
theorem dX45_run_90 : decode cX45_run 90 = .ok (.aload_n 1, 1) := by decide +kernel
theorem dX45_run_91 : decode cX45_run 91 = .ok (.aload_n 2, 1) := by decide +kernel
theorem dX45_run_92 : decode cX45_run 92 = .ok (.getfield 33, 3) := by decide +kernel
theorem dX45_run_95 : decode cX45_run 95 = .ok (.aload_n 3, 1) := by decide +kernel
theorem dX45_run_96 : decode cX45_run 96 = .ok (.getfield 15, 3) := by decide +kernel
theorem dX45_run_99 : decode cX45_run 99 = .ok (.aload_n 3, 1) := by decide +kernel
theorem dX45_run_100 : decode cX45_run 100 = .ok (.getfield 25, 3) := by decide +kernel
theorem dX45_run_103 : decode cX45_run 103 = .ok (.l2i, 1) := by decide +kernel
theorem dX45_run_104 : decode cX45_run 104 = .ok (.aload_n 3, 1) := by decide +kernel
theorem dX45_run_105 : decode cX45_run 105 = .ok (.getfield 44, 3) := by decide +kernel
theorem dX45_run_108 : decode cX45_run 108 = .ok (.iconst 0, 1) := by decide +kernel
theorem dX45_run_109 : decode cX45_run 109 = .ok (.iaload, 1) := by decide +kernel
theorem dX45_run_110 : decode cX45_run 110 = .ok (.invokevirtual 73, 3) := by decide +kernel
theorem dX45_run_113 : decode cX45_run 113 = .ok (.istore 5, 2) := by decide +kernel
theorem dX45_run_115 : decode cX45_run 115 = .ok (.iload 5, 2) := by decide +kernel
theorem dX45_run_117 : decode cX45_run 117 = .ok (.ifCond .ge 6, 3) := by decide +kernel
theorem dX45_run_120 : decode cX45_run 120 = .ok (.iload 5, 2) := by decide +kernel
theorem dX45_run_122 : decode cX45_run 122 = .ok (.ireturn, 1) := by decide +kernel
theorem dX45_run_123 : decode cX45_run 123 = .ok (.aload_n 1, 1) := by decide +kernel
theorem dX45_run_124 : decode cX45_run 124 = .ok (.getfield 77, 3) := by decide +kernel
theorem dX45_run_127 : decode cX45_run 127 = .ok (.getfield 81, 3) := by decide +kernel
theorem dX45_run_130 : decode cX45_run 130 = .ok (.iload 5, 2) := by decide +kernel
theorem dX45_run_132 : decode cX45_run 132 = .ok (.aaload, 1) := by decide +kernel
theorem dX45_run_133 : decode cX45_run 133 = .ok (.astore 6, 2) := by decide +kernel
theorem dX45_run_135 : decode cX45_run 135 = .ok (.aload 6, 2) := by decide +kernel
theorem dX45_run_137 : decode cX45_run 137 = .ok (.aload_n 3, 1) := by decide +kernel
theorem dX45_run_138 : decode cX45_run 138 = .ok (.getfield 87, 3) := by decide +kernel
theorem dX45_run_141 : decode cX45_run 141 = .ok (.aload_n 3, 1) := by decide +kernel
theorem dX45_run_142 : decode cX45_run 142 = .ok (.getfield 87, 3) := by decide +kernel
theorem dX45_run_145 : decode cX45_run 145 = .ok (.aload_n 3, 1) := by decide +kernel
theorem dX45_run_146 : decode cX45_run 146 = .ok (.getfield 87, 3) := by decide +kernel
theorem dX45_run_149 : decode cX45_run 149 = .ok (.invokevirtual 90, 3) := by decide +kernel
theorem dX45_run_152 : decode cX45_run 152 = .ok (.aload 6, 2) := by decide +kernel
theorem dX45_run_154 : decode cX45_run 154 = .ok (.getfield 94, 3) := by decide +kernel
theorem dX45_run_157 : decode cX45_run 157 = .ok (.invokevirtual 98, 3) := by decide +kernel
theorem dX45_run_160 : decode cX45_run 160 = .ok (.aload 6, 2) := by decide +kernel
theorem dX45_run_162 : decode cX45_run 162 = .ok (.getfield 94, 3) := by decide +kernel
theorem dX45_run_165 : decode cX45_run 165 = .ok (.aload_n 2, 1) := by decide +kernel
theorem dX45_run_166 : decode cX45_run 166 = .ok (.getfield 103, 3) := by decide +kernel
theorem dX45_run_169 : decode cX45_run 169 = .ok (.aload_n 2, 1) := by decide +kernel
theorem dX45_run_170 : decode cX45_run 170 = .ok (.getfield 106, 3) := by decide +kernel
theorem dX45_run_173 : decode cX45_run 173 = .ok (.bipush 7, 2) := by decide +kernel
theorem dX45_run_175 : decode cX45_run 175 = .ok (.invokevirtual 109, 3) := by decide +kernel
theorem dX45_run_178 : decode cX45_run 178 = .ok (.pop, 1) := by decide +kernel
theorem dX45_run_179 : decode cX45_run 179 = .ok (.aload 6, 2) := by decide +kernel
theorem dX45_run_181 : decode cX45_run 181 = .ok (.getfield 94, 3) := by decide +kernel
theorem dX45_run_184 : decode cX45_run 184 = .ok (.aload_n 2, 1) := by decide +kernel
theorem dX45_run_185 : decode cX45_run 185 = .ok (.getfield 33, 3) := by decide +kernel
theorem dX45_run_188 : decode cX45_run 188 = .ok (.aload_n 0, 1) := by decide +kernel
theorem dX45_run_189 : decode cX45_run 189 = .ok (.getfield 9, 3) := by decide +kernel
theorem dX45_run_192 : decode cX45_run 192 = .ok (.invokevirtual 113, 3) := by decide +kernel
theorem dX45_run_195 : decode cX45_run 195 = .ok (.invokevirtual 117, 3) := by decide +kernel
theorem dX45_run_198 : decode cX45_run 198 = .ok (.aload_n 1, 1) := by decide +kernel
theorem dX45_run_199 : decode cX45_run 199 = .ok (.getfield 77, 3) := by decide +kernel
theorem dX45_run_202 : decode cX45_run 202 = .ok (.dup, 1) := by decide +kernel
theorem dX45_run_203 : decode cX45_run 203 = .ok (.getfield 121, 3) := by decide +kernel
theorem dX45_run_206 : decode cX45_run 206 = .ok (.iconst 1, 1) := by decide +kernel
theorem dX45_run_207 : decode cX45_run 207 = .ok (.iadd, 1) := by decide +kernel
theorem dX45_run_208 : decode cX45_run 208 = .ok (.putfield 121, 3) := by decide +kernel
theorem dX45_run_211 : decode cX45_run 211 = .ok (.iconst 0, 1) := by decide +kernel
theorem dX45_run_212 : decode cX45_run 212 = .ok (.ireturn, 1) := by decide +kernel
theorem zy_X45_run : yX45_run.cls ≠ "java/lang/invoke/MethodHandle" ∧ yX45_run.cls ≠ "java/lang/invoke/VarHandle" ∧ (parseMethodDescriptor yX45_run.desc).map (fun d => d.parameters.length) = some 3 := by decide +kernel
theorem w_fX45_run_8_J113 {K : zK} (E : zE K cX45_run "RingHouse$Create" (some .int) 6) (hN : zNl K = 7) (hT : zTr K = (some 0)) (x2 : Int) (x3 : Int) (s0 : Int) : zR K 113 [(0, 38, 8), (1, 14, 0), (2, 10, x2), (3, 11, x3)] [(0, s0)] (fX45_run_8_J113 x2 x3 s0) := by
  refine r_istore (ls' := [(5, 0, s0), (0, 38, 8), (1, 14, 0), (2, 10, x2), (3, 11, x3)]) E dX45_run_113 (by rw [hN]; decide) rfl ?_
  refine r_iload E dX45_run_115 0 rfl ?_
  refine r_if_ge E 123 (by decide) dX45_run_117 (fun _ => ?_) (fun _ => ?_)
  · refine r_aload_n E dX45_run_123 rfl 2 rfl ?_
    refine r_gecN (y := 0) E zc_14 dX45_run_124 q1533 zr_14 (zh_1300 (by decide)) (by decide) ?_
    refine r_gecN (y := 0) E zc_3 dX45_run_127 q586 zr_3 (zh_200 (by decide)) (by decide) ?_
    refine r_iload E dX45_run_130 0 rfl ?_
    refine r_aaloc (y := s0) E zc_200 za_200 zt_200 zx_200 rfl rfl (by omega) dX45_run_132 (by decide) (fun hi12 => ?_)
    refine r_astore (ls' := [(6, 6, s0), (5, 0, s0), (0, 38, 8), (1, 14, 0), (2, 10, x2), (3, 11, x3)]) E dX45_run_133 (by rw [hN]; decide) rfl ?_
    refine r_aload E dX45_run_135 0 rfl ?_
    refine r_aload_n E dX45_run_137 rfl 5 rfl ?_
    refine r_nn E (fun hn13 => ?_)
    refine r_getN E zc_11 zt_1008 dX45_run_138 q776 zr_11 (zg_1008 _) hn13 (fun v14 => ?_)
    refine r_aload_n E dX45_run_141 rfl 5 rfl ?_
    refine r_getN E zc_11 zt_1008 dX45_run_142 q776 zr_11 (zg_1008 _) hn13 (fun v15 => ?_)
    refine r_aload_n E dX45_run_145 rfl 5 rfl ?_
    refine r_getN E zc_11 zt_1008 dX45_run_146 q776 zr_11 (zg_1008 _) hn13 (fun v16 => ?_)
    refine r_callV E [(0, v14), (0, v15), (0, v16)] [] rfl zc_6 zr_6 (fun o _ => ⟨_, zw_X4.1 o, rfl⟩) (lw_V q2523 q566 q567 q231 q568) dX45_run_149 zy_X4_setBrackets rfl (by omega) (by decide) (Nat.le_of_ble_eq_true rfl) hi12 (fun l G => k_fX4_setBrackets l G s0 v14 v15 v16 hi12) (fun _ => ?_)
    refine r_aload E dX45_run_152 0 rfl ?_
    refine r_gecN (y := (3 * s0)) E zc_6 dX45_run_154 q411 zr_6 (zh_508 (by omega)) hi12 ?_
    refine r_callV E [] [] rfl zc_7 zr_7 (fun o _ => ⟨_, zw_X5.1 o, rfl⟩) (lw_V q2524 q562 q563 q232 q564) dX45_run_157 zy_X5_clear rfl (by omega) (by decide) (Nat.le_of_ble_eq_true rfl) (by omega) (fun l G => k_fX5_clear l G (3 * s0) (by omega)) (fun _ => ?_)
    refine r_aload E dX45_run_160 0 rfl ?_
    refine r_gecN (y := (3 * s0)) E zc_6 dX45_run_162 q411 zr_6 (zh_508 (by omega)) hi12 ?_
    refine r_aload_n E dX45_run_165 rfl 4 rfl ?_
    refine r_nn E (fun hn19 => ?_)
    refine r_getN E zc_10 zt_904 dX45_run_166 q869 zr_10 (zg_904 _) hn19 (fun v20 => ?_)
    refine r_aload_n E dX45_run_169 rfl 4 rfl ?_
    refine r_getN E zc_10 zt_905 dX45_run_170 q875 zr_10 (zg_905 _) hn19 (fun v21 => ?_)
    refine r_bipush E dX45_run_173 (by decide) (zkI (by decide) (by decide)) ?_
    refine r_callV E [(0, v20), (0, v21), (0, 7)] [] rfl zc_7 zr_7 (fun o _ => ⟨_, zw_X5.1 o, rfl⟩) (lw_V q2525 q571 q572 q232 q573) dX45_run_175 zy_X5_set rfl (by omega) (by decide) (Nat.le_of_ble_eq_true rfl) (by omega) (fun l G => k_fX5_set l G (3 * s0) v20 v21 7 (by omega)) (fun v22 => ?_)
    refine r_pop E (zn1 rfl) dX45_run_178 ?_
    refine r_aload E dX45_run_179 0 rfl ?_
    refine r_gecN (y := (3 * s0)) E zc_6 dX45_run_181 q411 zr_6 (zh_508 (by omega)) hi12 ?_
    refine r_aload_n E dX45_run_184 rfl 4 rfl ?_
    refine r_getN E zc_10 zt_920 dX45_run_185 q929 zr_10 (zg_920 _) hn19 (fun v23 => ?_)
    refine r_aload_n E dX45_run_188 rfl 2 rfl ?_
    refine r_gec (y := 2) E zc_38 dX45_run_189 q1384 zr_38 (zh_38_8_0) (by decide) ?_
    refine r_nn E (fun hn24 => ?_)
    refine r_callV E [(0, 2)] [(7, (3 * s0))] rfl zc_6 zr_6 (fun o _ => ⟨_, zw_X4.1 o, rfl⟩) (lw_V q2526 q1892 q1893 q231 q1894) dX45_run_192 zy_X4_initial rfl (by omega) (by decide) (Nat.le_of_ble_eq_true rfl) hn24 (fun l G => k_fX4_initial l G v23 2 hn24) (fun v25 => ?_)
    refine r_callV E [(7, v25)] [] rfl zc_7 zr_7 (fun o _ => ⟨_, zw_X5.1 o, rfl⟩) (lw_V q2527 q1896 q1897 q232 q1898) dX45_run_195 zy_X5_take rfl (by omega) (by decide) (Nat.le_of_ble_eq_true rfl) (by omega) (fun l G => k_fX5_take l G (3 * s0) v25 (by omega)) (fun _ => ?_)
    refine r_aload_n E dX45_run_198 rfl 3 rfl ?_
    refine r_gecN (y := 0) E zc_14 dX45_run_199 q1533 zr_14 (zh_1300 (by decide)) (by decide) ?_
    refine r_dup E (zn1 rfl) dX45_run_202 ?_
    refine r_getN E zc_3 zt_207 dX45_run_203 q603 zr_3 (zg_207 _) (by decide) (fun v27 => ?_)
    refine r_iconst E dX45_run_206 (zkI (by decide) (by decide)) ?_
    refine r_iadd E dX45_run_207 ?_
    refine r_putN E zc_3 zt_207 zo_207 dX45_run_208 q603 zr_3 zw_X1 zp_207 (fun _ => rfl) (fun _ => rfl) (by decide) ?_
    refine r_iconst E dX45_run_211 (zkI (by decide) (by decide)) ?_
    exact r_ireturn E rfl hT dX45_run_212
  · refine r_iload E dX45_run_120 0 rfl ?_
    exact r_ireturn E rfl hT dX45_run_122
theorem w_fX45_run_8 {K : zK} (E : zE K cX45_run "RingHouse$Create" (some .int) 6) (hN : zNl K = 7) (hT : zTr K = (some 0)) (x2 : Int) (x3 : Int) : zR K 0 [(0, 38, 8), (1, 14, 0), (2, 10, x2), (3, 11, x3)] [] (fX45_run_8 x2 x3) := by
  refine r_aload_n E dX45_run_0 rfl 1 rfl ?_
  refine r_aload_n E dX45_run_1 rfl 2 rfl ?_
  refine r_nn E (fun hn1 => ?_)
  refine r_getN E zc_10 zt_920 dX45_run_2 q929 zr_10 (zg_920 _) hn1 (fun v2 => ?_)
  refine r_putN E zc_14 zt_1306 zo_1306 dX45_run_5 q1548 zr_14 zw_X12 zp_1306 (fun _ => rfl) (fun G => zfo G) (by decide) ?_
  refine r_aload_n E dX45_run_8 rfl 2 rfl ?_
  refine r_aload_n E dX45_run_9 rfl 2 rfl ?_
  refine r_getN E zc_10 zt_920 dX45_run_10 q929 zr_10 (zg_920 _) hn1 (fun v3 => ?_)
  refine r_iconst E dX45_run_13 (zkI (by decide) (by decide)) ?_
  refine r_callV E [(6, v3), (0, 4)] [] rfl zc_10 zr_10 (fun o _ => ⟨_, zw_X8.1 o, rfl⟩) (lw_V q2511 q2319 q2320 q235 q2321) dX45_run_14 zy_X8_refusal_2 rfl (by omega) (by decide) (Nat.le_of_ble_eq_true rfl) hn1 (fun l G => k_fX8_refusal_2 l G x2 v3 4 hn1) (fun v4 => ?_)
  refine r_istore (ls' := [(4, 0, v4), (0, 38, 8), (1, 14, 0), (2, 10, x2), (3, 11, x3)]) E dX45_run_17 (by rw [hN]; decide) rfl ?_
  refine r_iload E dX45_run_19 0 rfl ?_
  refine r_if_eq E 27 (by decide) dX45_run_21 (fun _ => ?_) (fun _ => ?_)
  · refine r_aload_n E dX45_run_27 rfl 1 rfl ?_
    refine r_aload_n E dX45_run_28 rfl 3 rfl ?_
    refine r_aload_n E dX45_run_29 rfl 4 rfl ?_
    refine r_callV E [(10, x2), (11, x3)] [] rfl zc_38 zr_38 (zk_38_8) (lw_V q2512 q2514 qs34 q272 q2515) dX45_run_30 zy_X45_isRight rfl (by omega) (by decide) (Nat.le_of_ble_eq_true rfl) (by decide) (fun l G => k_fX45_isRight_8 l G x2 x3) (fun v5 => ?_)
    refine r_if_ne E 39 (by decide) dX45_run_33 (fun _ => ?_) (fun _ => ?_)
    · refine r_aload_n E dX45_run_39 rfl 1 rfl ?_
      refine r_gec (y := 2) E zc_38 dX45_run_40 q1384 zr_38 (zh_38_8_0) (by decide) ?_
      refine r_iconst E dX45_run_43 (zkI (by decide) (by decide)) ?_
      refine r_litF (hdec := inferInstance) (P := ¬ (2 : Int) = (2 : Int)) (by decide) ?_
      refine r_icmp_ne E 67 (by decide) dX45_run_44 (fun _ => r_no E) (fun _ => ?_)
      refine r_aload_n E dX45_run_47 rfl 2 rfl ?_
      refine r_aload_n E dX45_run_48 rfl 3 rfl ?_
      refine r_getN E zc_10 zt_920 dX45_run_49 q929 zr_10 (zg_920 _) hn1 (fun v6 => ?_)
      refine r_aload_n E dX45_run_52 rfl 4 rfl ?_
      refine r_nn E (fun hn7 => ?_)
      refine r_getN E zc_11 zt_1000 dX45_run_53 q687 zr_11 (zg_1000 _) hn7 (fun v8 => ?_)
      refine r_aload_n E dX45_run_56 rfl 4 rfl ?_
      refine r_getN E zc_11 zt_1001 dX45_run_57 q717 zr_11 (zg_1001 _) hn7 (fun v9 => ?_)
      refine r_l2i E dX45_run_60 ?_
      refine r_callVN E [(6, v6), (1, v8), (0, (zi v9))] [] rfl zc_14 zr_14 (fun o _ => ⟨_, zw_X12.1 o, rfl⟩) q2520 q1942 qs4 q239 q1943 dX45_run_61 zy_X12_newSegment rfl (by omega) (by decide) (Nat.le_of_ble_eq_true rfl) (by decide) (fun l G => k_fX12_newSegment l G v6 v8 (zi v9)) (fun v10 => ?_)
      refine r_goto E 113 (by decide) dX45_run_64 ?_
      refine r_pick E [1, 2, 3, 4] rfl ?_
      exact w_fX45_run_8_J113 E hN hT x2 x3 v10
    · refine r_bipush E dX45_run_36 (by decide) (zkI (by decide) (by decide)) ?_
      exact r_ireturn E rfl hT dX45_run_38
  · refine r_iload E dX45_run_24 0 rfl ?_
    exact r_ireturn E rfl hT dX45_run_26
theorem k_fX45_run_8 (l : Launch) (G : zG) (x2 : Int) (x3 : Int) : zCt l G yX45_run cX45_run 7 (some .int) 6 [(38, 8), (14, 0), (10, x2), (11, x3)] (some 0) (fX45_run_8 x2 x3) := zCt.of (by decide) (Nat.le_of_ble_eq_true rfl) (fun K E _ _ hN hT => w_fX45_run_8 E hN hT x2 x3)
theorem w_fX45_isRight_9 {K : zK} (E : zE K cX45_isRight "RingHouse$Create" (some .boolean) 2) (hN : zNl K = 3) (hT : zTr K = (some 0)) (x1 : Int) (x2 : Int) : zR K 0 [(0, 38, 9), (1, 10, x1), (2, 11, x2)] [] (fX45_isRight_9 x1 x2) := by
  refine r_aload_n E dX45_isRight_0 rfl 2 rfl ?_
  refine r_nn E (fun hn1 => ?_)
  refine r_getN E zc_11 zt_1000 dX45_isRight_1 q687 zr_11 (zg_1000 _) hn1 (fun v2 => ?_)
  refine r_callSN E [(1, v2)] [] rfl q2516 q1842 q227 q1843 dX45_isRight_4 zy_X0_isName rfl (by omega) (by decide) (Nat.le_of_ble_eq_true rfl) (fun l G => k_fX0_isName l G v2) (fun v3 => ?_)
  refine r_if_ne E 12 (by decide) dX45_isRight_7 (fun _ => ?_) (fun _ => ?_)
  · refine r_aload_n E dX45_isRight_12 rfl 0 rfl ?_
    refine r_gec (y := 1) E zc_38 dX45_isRight_13 q1384 zr_38 (zh_38_9_0) (by decide) ?_
    refine r_iconst E dX45_isRight_16 (zkI (by decide) (by decide)) ?_
    refine r_litT (hdec := inferInstance) (P := ¬ (1 : Int) = (2 : Int)) (by decide) ?_
    refine r_icmp_ne E 37 (by decide) dX45_isRight_17 (fun _ => ?_) (fun _ => r_no E)
    refine r_aload_n E dX45_isRight_37 rfl 0 rfl ?_
    refine r_gec (y := 1) E zc_38 dX45_isRight_38 q1384 zr_38 (zh_38_9_0) (by decide) ?_
    refine r_iconst E dX45_isRight_41 (zkI (by decide) (by decide)) ?_
    refine r_litF (hdec := inferInstance) (P := (1 : Int) = (3 : Int)) (by decide) ?_
    refine r_icmp_eq E 79 (by decide) dX45_isRight_42 (fun _ => r_no E) (fun _ => ?_)
    refine r_aload_n E dX45_isRight_45 rfl 2 rfl ?_
    refine r_getN E zc_11 zt_1001 dX45_isRight_46 q717 zr_11 (zg_1001 _) hn1 (fun v4 => ?_)
    refine r_callSN E [(1, v4)] [] rfl q2518 q1850 q227 q1851 dX45_isRight_49 zy_X0_isLabel rfl (by omega) (by decide) (Nat.le_of_ble_eq_true rfl) (fun l G => k_fX0_isLabel l G v4) (fun v5 => ?_)
    refine r_if_eq E 83 (by decide) dX45_isRight_52 (fun _ => ?_) (fun _ => ?_)
    · refine r_iconst E dX45_isRight_83 (zkI (by decide) (by decide)) ?_
      exact r_zreturn E rfl hT (by decide) dX45_isRight_84
    · refine r_aload_n E dX45_isRight_55 rfl 2 rfl ?_
      refine r_getN E zc_11 zt_1001 dX45_isRight_56 q717 zr_11 (zg_1001 _) hn1 (fun v6 => ?_)
      refine r_l2i E dX45_isRight_59 ?_
      refine r_aload_n E dX45_isRight_60 rfl 1 rfl ?_
      refine r_nn E (fun hn7 => ?_)
      refine r_getN E zc_10 zt_920 dX45_isRight_61 q929 zr_10 (zg_920 _) hn7 (fun v8 => ?_)
      refine r_nn E (fun hn9 => ?_)
      refine r_getN E zc_6 zt_503 dX45_isRight_64 q390 zr_6 (zg_503 _) hn9 (fun v10 => ?_)
      refine r_aload_n E dX45_isRight_67 rfl 2 rfl ?_
      refine r_gecN (y := x2) E zc_11 dX45_isRight_68 q742 zr_11 (zh_1002 (by omega)) hn1 ?_
      refine r_iconst E dX45_isRight_71 (zkI (by decide) (by decide)) ?_
      refine r_iaload E zc_1002 za_1002 zt_1002 zx_1002 rfl rfl dX45_isRight_72 hn1 (fun v11 => ?_)
      refine r_callSN E [(0, (zi v6)), (0, v10), (0, v11)] [] rfl q2519 q1855 q227 q1856 dX45_isRight_73 zy_X0_isRightLimit rfl (by omega) (by decide) (Nat.le_of_ble_eq_true rfl) (fun l G => k_fX0_isRightLimit l G (zi v6) v10 v11) (fun v12 => ?_)
      refine r_if_eq E 83 (by decide) dX45_isRight_76 (fun _ => ?_) (fun _ => ?_)
      · refine r_iconst E dX45_isRight_83 (zkI (by decide) (by decide)) ?_
        exact r_zreturn E rfl hT (by decide) dX45_isRight_84
      · refine r_iconst E dX45_isRight_79 (zkI (by decide) (by decide)) ?_
        refine r_goto E 84 (by decide) dX45_isRight_80 ?_
        exact r_zreturn E rfl hT (by decide) dX45_isRight_84
  · refine r_iconst E dX45_isRight_10 (zkI (by decide) (by decide)) ?_
    exact r_zreturn E rfl hT (by decide) dX45_isRight_11
theorem k_fX45_isRight_9 (l : Launch) (G : zG) (x1 : Int) (x2 : Int) : zCt l G yX45_isRight cX45_isRight 3 (some .boolean) 2 [(38, 9), (10, x1), (11, x2)] (some 0) (fX45_isRight_9 x1 x2) := zCt.of (by decide) (Nat.le_of_ble_eq_true rfl) (fun K E _ _ hN hT => w_fX45_isRight_9 E hN hT x1 x2)
theorem w_fX45_run_9_J113 {K : zK} (E : zE K cX45_run "RingHouse$Create" (some .int) 6) (hN : zNl K = 7) (hT : zTr K = (some 0)) (x2 : Int) (x3 : Int) (s0 : Int) : zR K 113 [(0, 38, 9), (1, 14, 0), (2, 10, x2), (3, 11, x3)] [(0, s0)] (fX45_run_9_J113 x2 x3 s0) := by
  refine r_istore (ls' := [(5, 0, s0), (0, 38, 9), (1, 14, 0), (2, 10, x2), (3, 11, x3)]) E dX45_run_113 (by rw [hN]; decide) rfl ?_
  refine r_iload E dX45_run_115 0 rfl ?_
  refine r_if_ge E 123 (by decide) dX45_run_117 (fun _ => ?_) (fun _ => ?_)
  · refine r_aload_n E dX45_run_123 rfl 2 rfl ?_
    refine r_gecN (y := 0) E zc_14 dX45_run_124 q1533 zr_14 (zh_1300 (by decide)) (by decide) ?_
    refine r_gecN (y := 0) E zc_3 dX45_run_127 q586 zr_3 (zh_200 (by decide)) (by decide) ?_
    refine r_iload E dX45_run_130 0 rfl ?_
    refine r_aaloc (y := s0) E zc_200 za_200 zt_200 zx_200 rfl rfl (by omega) dX45_run_132 (by decide) (fun hi13 => ?_)
    refine r_astore (ls' := [(6, 6, s0), (5, 0, s0), (0, 38, 9), (1, 14, 0), (2, 10, x2), (3, 11, x3)]) E dX45_run_133 (by rw [hN]; decide) rfl ?_
    refine r_aload E dX45_run_135 0 rfl ?_
    refine r_aload_n E dX45_run_137 rfl 5 rfl ?_
    refine r_nn E (fun hn14 => ?_)
    refine r_getN E zc_11 zt_1008 dX45_run_138 q776 zr_11 (zg_1008 _) hn14 (fun v15 => ?_)
    refine r_aload_n E dX45_run_141 rfl 5 rfl ?_
    refine r_getN E zc_11 zt_1008 dX45_run_142 q776 zr_11 (zg_1008 _) hn14 (fun v16 => ?_)
    refine r_aload_n E dX45_run_145 rfl 5 rfl ?_
    refine r_getN E zc_11 zt_1008 dX45_run_146 q776 zr_11 (zg_1008 _) hn14 (fun v17 => ?_)
    refine r_callV E [(0, v15), (0, v16), (0, v17)] [] rfl zc_6 zr_6 (fun o _ => ⟨_, zw_X4.1 o, rfl⟩) (lw_V q2523 q566 q567 q231 q568) dX45_run_149 zy_X4_setBrackets rfl (by omega) (by decide) (Nat.le_of_ble_eq_true rfl) hi13 (fun l G => k_fX4_setBrackets l G s0 v15 v16 v17 hi13) (fun _ => ?_)
    refine r_aload E dX45_run_152 0 rfl ?_
    refine r_gecN (y := (3 * s0)) E zc_6 dX45_run_154 q411 zr_6 (zh_508 (by omega)) hi13 ?_
    refine r_callV E [] [] rfl zc_7 zr_7 (fun o _ => ⟨_, zw_X5.1 o, rfl⟩) (lw_V q2524 q562 q563 q232 q564) dX45_run_157 zy_X5_clear rfl (by omega) (by decide) (Nat.le_of_ble_eq_true rfl) (by omega) (fun l G => k_fX5_clear l G (3 * s0) (by omega)) (fun _ => ?_)
    refine r_aload E dX45_run_160 0 rfl ?_
    refine r_gecN (y := (3 * s0)) E zc_6 dX45_run_162 q411 zr_6 (zh_508 (by omega)) hi13 ?_
    refine r_aload_n E dX45_run_165 rfl 4 rfl ?_
    refine r_nn E (fun hn20 => ?_)
    refine r_getN E zc_10 zt_904 dX45_run_166 q869 zr_10 (zg_904 _) hn20 (fun v21 => ?_)
    refine r_aload_n E dX45_run_169 rfl 4 rfl ?_
    refine r_getN E zc_10 zt_905 dX45_run_170 q875 zr_10 (zg_905 _) hn20 (fun v22 => ?_)
    refine r_bipush E dX45_run_173 (by decide) (zkI (by decide) (by decide)) ?_
    refine r_callV E [(0, v21), (0, v22), (0, 7)] [] rfl zc_7 zr_7 (fun o _ => ⟨_, zw_X5.1 o, rfl⟩) (lw_V q2525 q571 q572 q232 q573) dX45_run_175 zy_X5_set rfl (by omega) (by decide) (Nat.le_of_ble_eq_true rfl) (by omega) (fun l G => k_fX5_set l G (3 * s0) v21 v22 7 (by omega)) (fun v23 => ?_)
    refine r_pop E (zn1 rfl) dX45_run_178 ?_
    refine r_aload E dX45_run_179 0 rfl ?_
    refine r_gecN (y := (3 * s0)) E zc_6 dX45_run_181 q411 zr_6 (zh_508 (by omega)) hi13 ?_
    refine r_aload_n E dX45_run_184 rfl 4 rfl ?_
    refine r_getN E zc_10 zt_920 dX45_run_185 q929 zr_10 (zg_920 _) hn20 (fun v24 => ?_)
    refine r_aload_n E dX45_run_188 rfl 2 rfl ?_
    refine r_gec (y := 1) E zc_38 dX45_run_189 q1384 zr_38 (zh_38_9_0) (by decide) ?_
    refine r_nn E (fun hn25 => ?_)
    refine r_callV E [(0, 1)] [(7, (3 * s0))] rfl zc_6 zr_6 (fun o _ => ⟨_, zw_X4.1 o, rfl⟩) (lw_V q2526 q1892 q1893 q231 q1894) dX45_run_192 zy_X4_initial rfl (by omega) (by decide) (Nat.le_of_ble_eq_true rfl) hn25 (fun l G => k_fX4_initial l G v24 1 hn25) (fun v26 => ?_)
    refine r_callV E [(7, v26)] [] rfl zc_7 zr_7 (fun o _ => ⟨_, zw_X5.1 o, rfl⟩) (lw_V q2527 q1896 q1897 q232 q1898) dX45_run_195 zy_X5_take rfl (by omega) (by decide) (Nat.le_of_ble_eq_true rfl) (by omega) (fun l G => k_fX5_take l G (3 * s0) v26 (by omega)) (fun _ => ?_)
    refine r_aload_n E dX45_run_198 rfl 3 rfl ?_
    refine r_gecN (y := 0) E zc_14 dX45_run_199 q1533 zr_14 (zh_1300 (by decide)) (by decide) ?_
    refine r_dup E (zn1 rfl) dX45_run_202 ?_
    refine r_getN E zc_3 zt_207 dX45_run_203 q603 zr_3 (zg_207 _) (by decide) (fun v28 => ?_)
    refine r_iconst E dX45_run_206 (zkI (by decide) (by decide)) ?_
    refine r_iadd E dX45_run_207 ?_
    refine r_putN E zc_3 zt_207 zo_207 dX45_run_208 q603 zr_3 zw_X1 zp_207 (fun _ => rfl) (fun _ => rfl) (by decide) ?_
    refine r_iconst E dX45_run_211 (zkI (by decide) (by decide)) ?_
    exact r_ireturn E rfl hT dX45_run_212
  · refine r_iload E dX45_run_120 0 rfl ?_
    exact r_ireturn E rfl hT dX45_run_122
theorem w_fX45_run_9 {K : zK} (E : zE K cX45_run "RingHouse$Create" (some .int) 6) (hN : zNl K = 7) (hT : zTr K = (some 0)) (x2 : Int) (x3 : Int) : zR K 0 [(0, 38, 9), (1, 14, 0), (2, 10, x2), (3, 11, x3)] [] (fX45_run_9 x2 x3) := by
  refine r_aload_n E dX45_run_0 rfl 1 rfl ?_
  refine r_aload_n E dX45_run_1 rfl 2 rfl ?_
  refine r_nn E (fun hn1 => ?_)
  refine r_getN E zc_10 zt_920 dX45_run_2 q929 zr_10 (zg_920 _) hn1 (fun v2 => ?_)
  refine r_putN E zc_14 zt_1306 zo_1306 dX45_run_5 q1548 zr_14 zw_X12 zp_1306 (fun _ => rfl) (fun G => zfo G) (by decide) ?_
  refine r_aload_n E dX45_run_8 rfl 2 rfl ?_
  refine r_aload_n E dX45_run_9 rfl 2 rfl ?_
  refine r_getN E zc_10 zt_920 dX45_run_10 q929 zr_10 (zg_920 _) hn1 (fun v3 => ?_)
  refine r_iconst E dX45_run_13 (zkI (by decide) (by decide)) ?_
  refine r_callV E [(6, v3), (0, 4)] [] rfl zc_10 zr_10 (fun o _ => ⟨_, zw_X8.1 o, rfl⟩) (lw_V q2511 q2319 q2320 q235 q2321) dX45_run_14 zy_X8_refusal_2 rfl (by omega) (by decide) (Nat.le_of_ble_eq_true rfl) hn1 (fun l G => k_fX8_refusal_2 l G x2 v3 4 hn1) (fun v4 => ?_)
  refine r_istore (ls' := [(4, 0, v4), (0, 38, 9), (1, 14, 0), (2, 10, x2), (3, 11, x3)]) E dX45_run_17 (by rw [hN]; decide) rfl ?_
  refine r_iload E dX45_run_19 0 rfl ?_
  refine r_if_eq E 27 (by decide) dX45_run_21 (fun _ => ?_) (fun _ => ?_)
  · refine r_aload_n E dX45_run_27 rfl 1 rfl ?_
    refine r_aload_n E dX45_run_28 rfl 3 rfl ?_
    refine r_aload_n E dX45_run_29 rfl 4 rfl ?_
    refine r_callV E [(10, x2), (11, x3)] [] rfl zc_38 zr_38 (zk_38_9) (lw_V q2512 q2514 qs34 q272 q2515) dX45_run_30 zy_X45_isRight rfl (by omega) (by decide) (Nat.le_of_ble_eq_true rfl) (by decide) (fun l G => k_fX45_isRight_9 l G x2 x3) (fun v5 => ?_)
    refine r_if_ne E 39 (by decide) dX45_run_33 (fun _ => ?_) (fun _ => ?_)
    · refine r_aload_n E dX45_run_39 rfl 1 rfl ?_
      refine r_gec (y := 1) E zc_38 dX45_run_40 q1384 zr_38 (zh_38_9_0) (by decide) ?_
      refine r_iconst E dX45_run_43 (zkI (by decide) (by decide)) ?_
      refine r_litT (hdec := inferInstance) (P := ¬ (1 : Int) = (2 : Int)) (by decide) ?_
      refine r_icmp_ne E 67 (by decide) dX45_run_44 (fun _ => ?_) (fun _ => r_no E)
      refine r_aload_n E dX45_run_67 rfl 1 rfl ?_
      refine r_gec (y := 1) E zc_38 dX45_run_68 q1384 zr_38 (zh_38_9_0) (by decide) ?_
      refine r_iconst E dX45_run_71 (zkI (by decide) (by decide)) ?_
      refine r_litT (hdec := inferInstance) (P := ¬ (1 : Int) = (3 : Int)) (by decide) ?_
      refine r_icmp_ne E 90 (by decide) dX45_run_72 (fun _ => ?_) (fun _ => r_no E)
      refine r_aload_n E dX45_run_90 rfl 2 rfl ?_
      refine r_aload_n E dX45_run_91 rfl 3 rfl ?_
      refine r_getN E zc_10 zt_920 dX45_run_92 q929 zr_10 (zg_920 _) hn1 (fun v6 => ?_)
      refine r_aload_n E dX45_run_95 rfl 4 rfl ?_
      refine r_nn E (fun hn7 => ?_)
      refine r_getN E zc_11 zt_1000 dX45_run_96 q687 zr_11 (zg_1000 _) hn7 (fun v8 => ?_)
      refine r_aload_n E dX45_run_99 rfl 4 rfl ?_
      refine r_getN E zc_11 zt_1001 dX45_run_100 q717 zr_11 (zg_1001 _) hn7 (fun v9 => ?_)
      refine r_l2i E dX45_run_103 ?_
      refine r_aload_n E dX45_run_104 rfl 4 rfl ?_
      refine r_gecN (y := x3) E zc_11 dX45_run_105 q742 zr_11 (zh_1002 (by omega)) hn7 ?_
      refine r_iconst E dX45_run_108 (zkI (by decide) (by decide)) ?_
      refine r_iaload E zc_1002 za_1002 zt_1002 zx_1002 rfl rfl dX45_run_109 hn7 (fun v10 => ?_)
      refine r_callVN E [(6, v6), (1, v8), (0, (zi v9)), (0, v10)] [] rfl zc_14 zr_14 (fun o _ => ⟨_, zw_X12.1 o, rfl⟩) q2522 q1863 qs1 q239 q1864 dX45_run_110 zy_X12_newDirectory rfl (by omega) (by decide) (Nat.le_of_ble_eq_true rfl) (by decide) (fun l G => k_fX12_newDirectory l G v6 v8 (zi v9) v10) (fun v11 => ?_)
      refine r_pick E [1, 2, 3, 4] rfl ?_
      exact w_fX45_run_9_J113 E hN hT x2 x3 v11
    · refine r_bipush E dX45_run_36 (by decide) (zkI (by decide) (by decide)) ?_
      exact r_ireturn E rfl hT dX45_run_38
  · refine r_iload E dX45_run_24 0 rfl ?_
    exact r_ireturn E rfl hT dX45_run_26
theorem k_fX45_run_9 (l : Launch) (G : zG) (x2 : Int) (x3 : Int) : zCt l G yX45_run cX45_run 7 (some .int) 6 [(38, 9), (14, 0), (10, x2), (11, x3)] (some 0) (fX45_run_9 x2 x3) := zCt.of (by decide) (Nat.le_of_ble_eq_true rfl) (fun K E _ _ hN hT => w_fX45_run_9 E hN hT x2 x3)
theorem dX4_isUpgraded_0 : decode cX4_isUpgraded 0 = .ok (.aload_n 0, 1) := by decide +kernel
theorem dX4_isUpgraded_1 : decode cX4_isUpgraded 1 = .ok (.getfield 37, 3) := by decide +kernel
theorem dX4_isUpgraded_4 : decode cX4_isUpgraded 4 = .ok (.ifnull 21, 3) := by decide +kernel
theorem dX4_isUpgraded_7 : decode cX4_isUpgraded 7 = .ok (.aload_n 0, 1) := by decide +kernel
theorem dX4_isUpgraded_8 : decode cX4_isUpgraded 8 = .ok (.getfield 41, 3) := by decide +kernel
theorem dX4_isUpgraded_11 : decode cX4_isUpgraded 11 = .ok (.aload_n 0, 1) := by decide +kernel
theorem dX4_isUpgraded_12 : decode cX4_isUpgraded 12 = .ok (.getfield 37, 3) := by decide +kernel
theorem dX4_isUpgraded_15 : decode cX4_isUpgraded 15 = .ok (.getfield 41, 3) := by decide +kernel
theorem dX4_isUpgraded_18 : decode cX4_isUpgraded 18 = .ok (.if_icmp .eq 7, 3) := by decide +kernel
theorem dX4_isUpgraded_21 : decode cX4_isUpgraded 21 = .ok (.iconst 1, 1) := by decide +kernel
theorem dX4_isUpgraded_22 : decode cX4_isUpgraded 22 = .ok (.goto 4, 3) := by decide +kernel
theorem dX4_isUpgraded_25 : decode cX4_isUpgraded 25 = .ok (.iconst 0, 1) := by decide +kernel
theorem dX4_isUpgraded_26 : decode cX4_isUpgraded 26 = .ok (.ireturn, 1) := by decide +kernel
theorem zy_X4_isUpgraded : yX4_isUpgraded.cls ≠ "java/lang/invoke/MethodHandle" ∧ yX4_isUpgraded.cls ≠ "java/lang/invoke/VarHandle" ∧ (parseMethodDescriptor yX4_isUpgraded.desc).map (fun d => d.parameters.length) = some 0 := by decide +kernel
theorem w_fX4_isUpgraded {K : zK} (E : zE K cX4_isUpgraded "RingHouse$Node" (some .boolean) 0) (hN : zNl K = 1) (hT : zTr K = (some 0)) (x0 : Int) (h0 : 0 ≤ x0) : zR K 0 [(0, 6, x0)] [] (fX4_isUpgraded x0) := by
  refine r_aload_n E dX4_isUpgraded_0 rfl 0 rfl ?_
  refine r_get E zc_6 zt_504 dX4_isUpgraded_1 q398 zr_6 (zg_504 _) h0 (fun v1 => ?_)
  refine r_ifnull E 25 (by decide) dX4_isUpgraded_4 (fun _ => ?_) (fun hz2 => ?_)
  · refine r_iconst E dX4_isUpgraded_25 (zkI (by decide) (by decide)) ?_
    exact r_zreturn E rfl hT (by decide) dX4_isUpgraded_26
  · refine r_aload_n E dX4_isUpgraded_7 rfl 0 rfl ?_
    refine r_get E zc_6 zt_503 dX4_isUpgraded_8 q392 zr_6 (zg_503 _) h0 (fun v3 => ?_)
    refine r_aload_n E dX4_isUpgraded_11 rfl 0 rfl ?_
    refine r_get E zc_6 zt_504 dX4_isUpgraded_12 q398 zr_6 (zg_504 _) h0 (fun v4 => ?_)
    refine r_nn E (fun hn5 => ?_)
    refine r_get E zc_6 zt_503 dX4_isUpgraded_15 q392 zr_6 (zg_503 _) hn5 (fun v6 => ?_)
    refine r_icmp_eq E 25 (by decide) dX4_isUpgraded_18 (fun _ => ?_) (fun _ => ?_)
    · refine r_iconst E dX4_isUpgraded_25 (zkI (by decide) (by decide)) ?_
      exact r_zreturn E rfl hT (by decide) dX4_isUpgraded_26
    · refine r_iconst E dX4_isUpgraded_21 (zkI (by decide) (by decide)) ?_
      refine r_goto E 26 (by decide) dX4_isUpgraded_22 ?_
      exact r_zreturn E rfl hT (by decide) dX4_isUpgraded_26
theorem k_fX4_isUpgraded (l : Launch) (G : zG) (x0 : Int) (h0 : 0 ≤ x0) : zCt l G yX4_isUpgraded cX4_isUpgraded 1 (some .boolean) 0 [(6, x0)] (some 0) (fX4_isUpgraded x0) := zCt.of (by decide) (Nat.le_of_ble_eq_true rfl) (fun K E _ _ hN hT => w_fX4_isUpgraded E hN hT x0 h0)
theorem dX46_on_0 : decode cX46_on 0 = .ok (.aload_n 2, 1) := by decide +kernel
theorem dX46_on_1 : decode cX46_on 1 = .ok (.invokevirtual 9, 3) := by decide +kernel
theorem dX46_on_4 : decode cX46_on 4 = .ok (.ifCond .eq 6, 3) := by decide +kernel
theorem dX46_on_7 : decode cX46_on 7 = .ok (.bipush (-3), 2) := by decide +kernel
theorem dX46_on_9 : decode cX46_on 9 = .ok (.ireturn, 1) := by decide +kernel
theorem dX46_on_10 : decode cX46_on 10 = .ok (.aload 4, 2) := by decide +kernel
theorem dX46_on_12 : decode cX46_on 12 = .ok (.getfield 15, 3) := by decide +kernel
theorem dX46_on_15 : decode cX46_on 15 = .ok (.aload_n 2, 1) := by decide +kernel
theorem dX46_on_16 : decode cX46_on 16 = .ok (.getfield 21, 3) := by decide +kernel
theorem dX46_on_19 : decode cX46_on 19 = .ok (.if_icmp .le 6, 3) := by decide +kernel
theorem dX46_on_22 : decode cX46_on 22 = .ok (.bipush (-4), 2) := by decide +kernel
theorem dX46_on_24 : decode cX46_on 24 = .ok (.ireturn, 1) := by decide +kernel
theorem dX46_on_25 : decode cX46_on 25 = .ok (.aload_n 2, 1) := by decide +kernel
theorem dX46_on_26 : decode cX46_on 26 = .ok (.getfield 24, 3) := by decide +kernel
theorem dX46_on_29 : decode cX46_on 29 = .ok (.ifCond .le 6, 3) := by decide +kernel
theorem dX46_on_32 : decode cX46_on 32 = .ok (.bipush (-7), 2) := by decide +kernel
theorem dX46_on_34 : decode cX46_on 34 = .ok (.ireturn, 1) := by decide +kernel
theorem dX46_on_35 : decode cX46_on 35 = .ok (.aload_n 1, 1) := by decide +kernel
theorem dX46_on_36 : decode cX46_on 36 = .ok (.getfield 27, 3) := by decide +kernel
theorem dX46_on_39 : decode cX46_on 39 = .ok (.aload_n 2, 1) := by decide +kernel
theorem dX46_on_40 : decode cX46_on 40 = .ok (.invokevirtual 33, 3) := by decide +kernel
theorem dX46_on_43 : decode cX46_on 43 = .ok (.pop, 1) := by decide +kernel
theorem dX46_on_44 : decode cX46_on 44 = .ok (.iconst 0, 1) := by decide +kernel
theorem dX46_on_45 : decode cX46_on 45 = .ok (.ireturn, 1) := by decide +kernel
theorem zy_X46_on : yX46_on.cls ≠ "java/lang/invoke/MethodHandle" ∧ yX46_on.cls ≠ "java/lang/invoke/VarHandle" ∧ (parseMethodDescriptor yX46_on.desc).map (fun d => d.parameters.length) = some 4 := by decide +kernel
theorem w_fX46_on_10 {K : zK} (E : zE K cX46_on "RingHouse$Delete" (some .int) 304) (hN : zNl K = 5) (hT : zTr K = (some 0)) (x2 : Int) (x3 : Int) (x4 : Int) : zR K 0 [(0, 38, 10), (1, 14, 0), (2, 6, x2), (3, 10, x3), (4, 11, x4)] [] (fX46_on_10 x2 x3 x4) := by
  refine r_aload_n E dX46_on_0 rfl 2 rfl ?_
  refine r_nn E (fun hn1 => ?_)
  refine r_callV E [] [] rfl zc_6 zr_6 (fun o _ => ⟨_, zw_X4.1 o, rfl⟩) (lw_V q2540 q2541 q2542 q231 q2543) dX46_on_1 zy_X4_isUpgraded rfl (by omega) (by decide) (Nat.le_of_ble_eq_true rfl) hn1 (fun l G => k_fX4_isUpgraded l G x2 hn1) (fun v2 => ?_)
  refine r_if_eq E 10 (by decide) dX46_on_4 (fun _ => ?_) (fun _ => ?_)
  · refine r_aload E dX46_on_10 4 rfl ?_
    refine r_nn E (fun hn3 => ?_)
    refine r_getN E zc_11 zt_1008 dX46_on_12 q765 zr_11 (zg_1008 _) hn3 (fun v4 => ?_)
    refine r_aload_n E dX46_on_15 rfl 2 rfl ?_
    refine r_getN E zc_6 zt_509 dX46_on_16 q416 zr_6 (zg_509 _) hn1 (fun v5 => ?_)
    refine r_icmp_le E 25 (by decide) dX46_on_19 (fun _ => ?_) (fun _ => ?_)
    · refine r_aload_n E dX46_on_25 rfl 2 rfl ?_
      refine r_getN E zc_6 zt_515 dX46_on_26 q447 zr_6 (zg_515 _) hn1 (fun v6 => ?_)
      refine r_if_le E 35 (by decide) dX46_on_29 (fun _ => ?_) (fun _ => ?_)
      · refine r_aload_n E dX46_on_35 rfl 1 rfl ?_
        refine r_gecN (y := 0) E zc_14 dX46_on_36 q1529 zr_14 (zh_1300 (by decide)) (by decide) ?_
        refine r_aload_n E dX46_on_39 rfl 2 rfl ?_
        refine r_callV E [(6, x2)] [] rfl zc_3 zr_3 (fun o _ => ⟨_, zw_X1.1 o, rfl⟩) (lw_V q2544 q2034 q2035 q228 q2036) dX46_on_40 zy_X1_remove rfl (by omega) (by decide) (Nat.le_of_ble_eq_true rfl) (by decide) (fun l G => k_fX1_remove l G x2) (fun v7 => ?_)
        refine r_pop E (zn1 rfl) dX46_on_43 ?_
        refine r_iconst E dX46_on_44 (zkI (by decide) (by decide)) ?_
        exact r_ireturn E rfl hT dX46_on_45
      · refine r_bipush E dX46_on_32 (by decide) (zkI (by decide) (by decide)) ?_
        exact r_ireturn E rfl hT dX46_on_34
    · refine r_bipush E dX46_on_22 (by decide) (zkI (by decide) (by decide)) ?_
      exact r_ireturn E rfl hT dX46_on_24
  · refine r_bipush E dX46_on_7 (by decide) (zkI (by decide) (by decide)) ?_
    exact r_ireturn E rfl hT dX46_on_9
theorem k_fX46_on_10 (l : Launch) (G : zG) (x2 : Int) (x3 : Int) (x4 : Int) : zCt l G yX46_on cX46_on 5 (some .int) 304 [(38, 10), (14, 0), (6, x2), (10, x3), (11, x4)] (some 0) (fX46_on_10 x2 x3 x4) := zCt.of (by decide) (Nat.le_of_ble_eq_true rfl) (fun K E _ _ hN hT => w_fX46_on_10 E hN hT x2 x3 x4)
theorem w_fX38_run_10 {K : zK} (E : zE K cX38_run "RingHouse$Entered" (some .int) 305) (hN : zNl K = 6) (hT : zTr K = (some 0)) (x2 : Int) (x3 : Int) : zR K 0 [(0, 38, 10), (1, 14, 0), (2, 10, x2), (3, 11, x3)] [] (fX38_run_10 x2 x3) := by
  refine r_aload_n E dX38_run_0 rfl 1 rfl ?_
  refine r_aload_n E dX38_run_1 rfl 2 rfl ?_
  refine r_nn E (fun hn1 => ?_)
  refine r_getN E zc_10 zt_920 dX38_run_2 q922 zr_10 (zg_920 _) hn1 (fun v2 => ?_)
  refine r_putN E zc_14 zt_1306 zo_1306 dX38_run_5 q1544 zr_14 zw_X12 zp_1306 (fun _ => rfl) (fun G => zfo G) (by decide) ?_
  refine r_aload_n E dX38_run_8 rfl 2 rfl ?_
  refine r_aload_n E dX38_run_9 rfl 2 rfl ?_
  refine r_getN E zc_10 zt_920 dX38_run_10 q922 zr_10 (zg_920 _) hn1 (fun v3 => ?_)
  refine r_aload_n E dX38_run_13 rfl 0 rfl ?_
  refine r_gec (y := 2) E zc_38 dX38_run_14 q1334 zr_38 (zh_38_10_0) (by decide) ?_
  refine r_callV E [(6, v3), (0, 2)] [] rfl zc_10 zr_10 (fun o _ => ⟨_, zw_X8.1 o, rfl⟩) (lw_V q2531 q2319 q2320 q235 q2321) dX38_run_17 zy_X8_refusal_2 rfl (by omega) (by decide) (Nat.le_of_ble_eq_true rfl) hn1 (fun l G => k_fX8_refusal_2 l G x2 v3 2 hn1) (fun v4 => ?_)
  refine r_istore (ls' := [(4, 0, v4), (0, 38, 10), (1, 14, 0), (2, 10, x2), (3, 11, x3)]) E dX38_run_20 (by rw [hN]; decide) rfl ?_
  refine r_iload E dX38_run_22 0 rfl ?_
  refine r_if_eq E 30 (by decide) dX38_run_24 (fun _ => ?_) (fun _ => ?_)
  · refine r_aload_n E dX38_run_30 rfl 4 rfl ?_
    refine r_nn E (fun hn5 => ?_)
    refine r_getN E zc_11 zt_1000 dX38_run_31 q701 zr_11 (zg_1000 _) hn5 (fun v6 => ?_)
    refine r_callSN E [(1, v6)] [] rfl q2532 q1842 q227 q1843 dX38_run_34 zy_X0_isName rfl (by omega) (by decide) (Nat.le_of_ble_eq_true rfl) (fun l G => k_fX0_isName l G v6) (fun v7 => ?_)
    refine r_if_ne E 43 (by decide) dX38_run_37 (fun _ => ?_) (fun _ => ?_)
    · refine r_aload_n E dX38_run_43 rfl 2 rfl ?_
      refine r_gecN (y := 0) E zc_14 dX38_run_44 q1530 zr_14 (zh_1300 (by decide)) (by decide) ?_
      refine r_gecN (y := 0) E zc_3 dX38_run_47 q589 zr_3 (zh_201 (by decide)) (by decide) ?_
      refine r_aload_n E dX38_run_50 rfl 3 rfl ?_
      refine r_getN E zc_10 zt_920 dX38_run_51 q922 zr_10 (zg_920 _) hn1 (fun v8 => ?_)
      refine r_aload_n E dX38_run_54 rfl 4 rfl ?_
      refine r_getN E zc_11 zt_1000 dX38_run_55 q701 zr_11 (zg_1000 _) hn5 (fun v9 => ?_)
      refine r_callV E [(6, v8), (1, v9)] [] rfl zc_4 zr_4 (fun o _ => ⟨_, zw_X2.1 o, rfl⟩) (lw_V q2533 q1866 q1867 q229 q1868) dX38_run_58 zy_X2_find rfl (by omega) (by decide) (Nat.le_of_ble_eq_true rfl) (by decide) (fun l G => k_fX2_find l G v8 v9) (fun v10 => ?_)
      refine r_astore (ls' := [(5, 6, v10), (4, 0, v4), (0, 38, 10), (1, 14, 0), (2, 10, x2), (3, 11, x3)]) E dX38_run_61 (by rw [hN]; decide) rfl ?_
      refine r_aload_n E dX38_run_63 rfl 3 rfl ?_
      refine r_aload E dX38_run_64 0 rfl ?_
      refine r_putN E zc_14 zt_1306 zo_1306 dX38_run_66 q1544 zr_14 zw_X12 zp_1306 (fun _ => rfl) (fun G => zfo G) (by decide) ?_
      refine r_aload E dX38_run_69 0 rfl ?_
      refine r_ifnonnull E 78 (by decide) dX38_run_71 (fun _ => ?_) (fun hz11 => ?_)
      · refine r_iconst E dX38_run_74 (zkI (by decide) (by decide)) ?_
        refine r_goto E 87 (by decide) dX38_run_75 ?_
        exact r_ireturn E rfl hT dX38_run_87
      · refine r_aload_n E dX38_run_78 rfl 2 rfl ?_
        refine r_aload_n E dX38_run_79 rfl 3 rfl ?_
        refine r_aload E dX38_run_80 0 rfl ?_
        refine r_aload_n E dX38_run_82 rfl 4 rfl ?_
        refine r_aload_n E dX38_run_83 rfl 5 rfl ?_
        refine r_callU (n := 4) (x := ⟨"RingHouse$Entered", "on", "(LRingHouse$Machine;LRingHouse$Node;LRingHouse$Process;LRingHouse$Registers;)I"⟩) (owner := "RingHouse$Entered") E [(14, 0), (6, v10), (10, x2), (11, x3)] [] rfl zc_38 zr_38 zk_38_10 q2534 q2536 q2537 q2538 q273 q2539 (Or.inr q2535) dX38_run_84 (by decide +kernel) rfl (by omega) (by decide) (Nat.le_of_ble_eq_true rfl) (by decide) (fun l G => k_fX46_on_10 l G v10 x2 x3) (fun v12 => ?_)
        exact r_ireturn E rfl hT dX38_run_87
    · refine r_bipush E dX38_run_40 (by decide) (zkI (by decide) (by decide)) ?_
      exact r_ireturn E rfl hT dX38_run_42
  · refine r_iload E dX38_run_27 0 rfl ?_
    exact r_ireturn E rfl hT dX38_run_29
theorem k_fX38_run_10 (l : Launch) (G : zG) (x2 : Int) (x3 : Int) : zCt l G yX38_run cX38_run 6 (some .int) 305 [(38, 10), (14, 0), (10, x2), (11, x3)] (some 0) (fX38_run_10 x2 x3) := zCt.of (by decide) (Nat.le_of_ble_eq_true rfl) (fun K E _ _ hN hT => w_fX38_run_10 E hN hT x2 x3)
theorem dX47_on_0 : decode cX47_on 0 = .ok (.aload 4, 2) := by decide +kernel
theorem dX47_on_2 : decode cX47_on 2 = .ok (.getfield 9, 3) := by decide +kernel
theorem dX47_on_5 : decode cX47_on 5 = .ok (.invokestatic 15, 3) := by decide +kernel
theorem dX47_on_8 : decode cX47_on 8 = .ok (.ifCond .ne 6, 3) := by decide +kernel
theorem dX47_on_11 : decode cX47_on 11 = .ok (.bipush (-8), 2) := by decide +kernel
theorem dX47_on_13 : decode cX47_on 13 = .ok (.ireturn, 1) := by decide +kernel
theorem dX47_on_14 : decode cX47_on 14 = .ok (.aload 4, 2) := by decide +kernel
theorem dX47_on_16 : decode cX47_on 16 = .ok (.getfield 19, 3) := by decide +kernel
theorem dX47_on_19 : decode cX47_on 19 = .ok (.aload_n 2, 1) := by decide +kernel
theorem dX47_on_20 : decode cX47_on 20 = .ok (.getfield 23, 3) := by decide +kernel
theorem dX47_on_23 : decode cX47_on 23 = .ok (.if_icmp .le 6, 3) := by decide +kernel
theorem dX47_on_26 : decode cX47_on 26 = .ok (.bipush (-4), 2) := by decide +kernel
theorem dX47_on_28 : decode cX47_on 28 = .ok (.ireturn, 1) := by decide +kernel
theorem dX47_on_29 : decode cX47_on 29 = .ok (.aload_n 1, 1) := by decide +kernel
theorem dX47_on_30 : decode cX47_on 30 = .ok (.getfield 28, 3) := by decide +kernel
theorem dX47_on_33 : decode cX47_on 33 = .ok (.getfield 34, 3) := by decide +kernel
theorem dX47_on_36 : decode cX47_on 36 = .ok (.aload_n 3, 1) := by decide +kernel
theorem dX47_on_37 : decode cX47_on 37 = .ok (.getfield 40, 3) := by decide +kernel
theorem dX47_on_40 : decode cX47_on 40 = .ok (.aload 4, 2) := by decide +kernel
theorem dX47_on_42 : decode cX47_on 42 = .ok (.getfield 9, 3) := by decide +kernel
theorem dX47_on_45 : decode cX47_on 45 = .ok (.invokevirtual 46, 3) := by decide +kernel
theorem dX47_on_48 : decode cX47_on 48 = .ok (.astore 5, 2) := by decide +kernel
theorem dX47_on_50 : decode cX47_on 50 = .ok (.aload 5, 2) := by decide +kernel
theorem dX47_on_52 : decode cX47_on 52 = .ok (.ifnull 12, 3) := by decide +kernel
theorem dX47_on_55 : decode cX47_on 55 = .ok (.aload 5, 2) := by decide +kernel
theorem dX47_on_57 : decode cX47_on 57 = .ok (.aload_n 2, 1) := by decide +kernel
theorem dX47_on_58 : decode cX47_on 58 = .ok (.if_acmp .eq 6, 3) := by decide +kernel
theorem dX47_on_61 : decode cX47_on 61 = .ok (.bipush (-6), 2) := by decide +kernel
theorem dX47_on_63 : decode cX47_on 63 = .ok (.ireturn, 1) := by decide +kernel
theorem dX47_on_64 : decode cX47_on 64 = .ok (.aload_n 1, 1) := by decide +kernel
theorem dX47_on_65 : decode cX47_on 65 = .ok (.getfield 28, 3) := by decide +kernel
theorem dX47_on_68 : decode cX47_on 68 = .ok (.aload_n 2, 1) := by decide +kernel
theorem dX47_on_69 : decode cX47_on 69 = .ok (.aload 4, 2) := by decide +kernel
theorem dX47_on_71 : decode cX47_on 71 = .ok (.getfield 9, 3) := by decide +kernel
theorem dX47_on_74 : decode cX47_on 74 = .ok (.invokevirtual 52, 3) := by decide +kernel
theorem dX47_on_77 : decode cX47_on 77 = .ok (.iconst 0, 1) := by decide +kernel
theorem dX47_on_78 : decode cX47_on 78 = .ok (.ireturn, 1) := by decide +kernel
theorem zy_X47_on : yX47_on.cls ≠ "java/lang/invoke/MethodHandle" ∧ yX47_on.cls ≠ "java/lang/invoke/VarHandle" ∧ (parseMethodDescriptor yX47_on.desc).map (fun d => d.parameters.length) = some 4 := by decide +kernel
theorem w_fX47_on_11_J64 {K : zK} (E : zE K cX47_on "RingHouse$Rename" (some .int) 3) (hN : zNl K = 6) (hT : zTr K = (some 0)) (x2 : Int) (x4 : Int) : zR K 64 [(1, 14, 0), (2, 6, x2), (4, 11, x4)] [] (fX47_on_11_J64 x2 x4) := by
  refine r_aload_n E dX47_on_64 rfl 0 rfl ?_
  refine r_gecN (y := 0) E zc_14 dX47_on_65 q1528 zr_14 (zh_1300 (by decide)) (by decide) ?_
  refine r_aload_n E dX47_on_68 rfl 1 rfl ?_
  refine r_aload E dX47_on_69 2 rfl ?_
  refine r_nn E (fun hn12 => ?_)
  refine r_getN E zc_11 zt_1001 dX47_on_71 q712 zr_11 (zg_1001 _) hn12 (fun v13 => ?_)
  refine r_callV E [(6, x2), (1, v13)] [] rfl zc_3 zr_3 (fun o _ => ⟨_, zw_X1.1 o, rfl⟩) (lw_V q2602 q2022 q2023 q228 q2024) dX47_on_74 zy_X1_rename rfl (by omega) (by decide) (Nat.le_of_ble_eq_true rfl) (by decide) (fun l G => k_fX1_rename l G x2 v13) (fun _ => ?_)
  refine r_iconst E dX47_on_77 (zkI (by decide) (by decide)) ?_
  exact r_ireturn E rfl hT dX47_on_78
theorem w_fX47_on_11 {K : zK} (E : zE K cX47_on "RingHouse$Rename" (some .int) 3) (hN : zNl K = 6) (hT : zTr K = (some 0)) (x2 : Int) (x3 : Int) (x4 : Int) : zR K 0 [(0, 38, 11), (1, 14, 0), (2, 6, x2), (3, 10, x3), (4, 11, x4)] [] (fX47_on_11 x2 x3 x4) := by
  refine r_aload E dX47_on_0 4 rfl ?_
  refine r_nn E (fun hn1 => ?_)
  refine r_getN E zc_11 zt_1001 dX47_on_2 q712 zr_11 (zg_1001 _) hn1 (fun v2 => ?_)
  refine r_callSN E [(1, v2)] [] rfl q2600 q1842 q227 q1843 dX47_on_5 zy_X0_isName rfl (by omega) (by decide) (Nat.le_of_ble_eq_true rfl) (fun l G => k_fX0_isName l G v2) (fun v3 => ?_)
  refine r_if_ne E 14 (by decide) dX47_on_8 (fun _ => ?_) (fun _ => ?_)
  · refine r_aload E dX47_on_14 4 rfl ?_
    refine r_getN E zc_11 zt_1008 dX47_on_16 q767 zr_11 (zg_1008 _) hn1 (fun v4 => ?_)
    refine r_aload_n E dX47_on_19 rfl 2 rfl ?_
    refine r_nn E (fun hn5 => ?_)
    refine r_getN E zc_6 zt_509 dX47_on_20 q417 zr_6 (zg_509 _) hn5 (fun v6 => ?_)
    refine r_icmp_le E 29 (by decide) dX47_on_23 (fun _ => ?_) (fun _ => ?_)
    · refine r_aload_n E dX47_on_29 rfl 1 rfl ?_
      refine r_gecN (y := 0) E zc_14 dX47_on_30 q1528 zr_14 (zh_1300 (by decide)) (by decide) ?_
      refine r_gecN (y := 0) E zc_3 dX47_on_33 q588 zr_3 (zh_201 (by decide)) (by decide) ?_
      refine r_aload_n E dX47_on_36 rfl 3 rfl ?_
      refine r_nn E (fun hn7 => ?_)
      refine r_getN E zc_10 zt_920 dX47_on_37 q927 zr_10 (zg_920 _) hn7 (fun v8 => ?_)
      refine r_aload E dX47_on_40 4 rfl ?_
      refine r_getN E zc_11 zt_1001 dX47_on_42 q712 zr_11 (zg_1001 _) hn1 (fun v9 => ?_)
      refine r_callV E [(6, v8), (1, v9)] [] rfl zc_4 zr_4 (fun o _ => ⟨_, zw_X2.1 o, rfl⟩) (lw_V q2601 q1866 q1867 q229 q1868) dX47_on_45 zy_X2_find rfl (by omega) (by decide) (Nat.le_of_ble_eq_true rfl) (by decide) (fun l G => k_fX2_find l G v8 v9) (fun v10 => ?_)
      refine r_astore (ls' := [(5, 6, v10), (0, 38, 11), (1, 14, 0), (2, 6, x2), (3, 10, x3), (4, 11, x4)]) E dX47_on_48 (by rw [hN]; decide) rfl ?_
      refine r_aload E dX47_on_50 0 rfl ?_
      refine r_ifnull E 64 (by decide) dX47_on_52 (fun _ => ?_) (fun hz11 => ?_)
      · refine r_pick E [2, 3, 5] rfl ?_
        exact w_fX47_on_11_J64 E hN hT x2 x4
      · refine r_aload E dX47_on_55 0 rfl ?_
        refine r_aload_n E dX47_on_57 rfl 3 rfl ?_
        refine r_acmp_eq E rfl 64 (by decide) dX47_on_58 (fun _ => ?_) (fun _ => ?_)
        · refine r_pick E [2, 3, 5] rfl ?_
          exact w_fX47_on_11_J64 E hN hT x2 x4
        · refine r_bipush E dX47_on_61 (by decide) (zkI (by decide) (by decide)) ?_
          exact r_ireturn E rfl hT dX47_on_63
    · refine r_bipush E dX47_on_26 (by decide) (zkI (by decide) (by decide)) ?_
      exact r_ireturn E rfl hT dX47_on_28
  · refine r_bipush E dX47_on_11 (by decide) (zkI (by decide) (by decide)) ?_
    exact r_ireturn E rfl hT dX47_on_13
theorem k_fX47_on_11 (l : Launch) (G : zG) (x2 : Int) (x3 : Int) (x4 : Int) : zCt l G yX47_on cX47_on 6 (some .int) 3 [(38, 11), (14, 0), (6, x2), (10, x3), (11, x4)] (some 0) (fX47_on_11 x2 x3 x4) := zCt.of (by decide) (Nat.le_of_ble_eq_true rfl) (fun K E _ _ hN hT => w_fX47_on_11 E hN hT x2 x3 x4)
theorem w_fX38_run_11 {K : zK} (E : zE K cX38_run "RingHouse$Entered" (some .int) 4) (hN : zNl K = 6) (hT : zTr K = (some 0)) (x2 : Int) (x3 : Int) : zR K 0 [(0, 38, 11), (1, 14, 0), (2, 10, x2), (3, 11, x3)] [] (fX38_run_11 x2 x3) := by
  refine r_aload_n E dX38_run_0 rfl 1 rfl ?_
  refine r_aload_n E dX38_run_1 rfl 2 rfl ?_
  refine r_nn E (fun hn1 => ?_)
  refine r_getN E zc_10 zt_920 dX38_run_2 q922 zr_10 (zg_920 _) hn1 (fun v2 => ?_)
  refine r_putN E zc_14 zt_1306 zo_1306 dX38_run_5 q1544 zr_14 zw_X12 zp_1306 (fun _ => rfl) (fun G => zfo G) (by decide) ?_
  refine r_aload_n E dX38_run_8 rfl 2 rfl ?_
  refine r_aload_n E dX38_run_9 rfl 2 rfl ?_
  refine r_getN E zc_10 zt_920 dX38_run_10 q922 zr_10 (zg_920 _) hn1 (fun v3 => ?_)
  refine r_aload_n E dX38_run_13 rfl 0 rfl ?_
  refine r_gec (y := 2) E zc_38 dX38_run_14 q1334 zr_38 (zh_38_11_0) (by decide) ?_
  refine r_callV E [(6, v3), (0, 2)] [] rfl zc_10 zr_10 (fun o _ => ⟨_, zw_X8.1 o, rfl⟩) (lw_V q2531 q2319 q2320 q235 q2321) dX38_run_17 zy_X8_refusal_2 rfl (by omega) (by decide) (Nat.le_of_ble_eq_true rfl) hn1 (fun l G => k_fX8_refusal_2 l G x2 v3 2 hn1) (fun v4 => ?_)
  refine r_istore (ls' := [(4, 0, v4), (0, 38, 11), (1, 14, 0), (2, 10, x2), (3, 11, x3)]) E dX38_run_20 (by rw [hN]; decide) rfl ?_
  refine r_iload E dX38_run_22 0 rfl ?_
  refine r_if_eq E 30 (by decide) dX38_run_24 (fun _ => ?_) (fun _ => ?_)
  · refine r_aload_n E dX38_run_30 rfl 4 rfl ?_
    refine r_nn E (fun hn5 => ?_)
    refine r_getN E zc_11 zt_1000 dX38_run_31 q701 zr_11 (zg_1000 _) hn5 (fun v6 => ?_)
    refine r_callSN E [(1, v6)] [] rfl q2532 q1842 q227 q1843 dX38_run_34 zy_X0_isName rfl (by omega) (by decide) (Nat.le_of_ble_eq_true rfl) (fun l G => k_fX0_isName l G v6) (fun v7 => ?_)
    refine r_if_ne E 43 (by decide) dX38_run_37 (fun _ => ?_) (fun _ => ?_)
    · refine r_aload_n E dX38_run_43 rfl 2 rfl ?_
      refine r_gecN (y := 0) E zc_14 dX38_run_44 q1530 zr_14 (zh_1300 (by decide)) (by decide) ?_
      refine r_gecN (y := 0) E zc_3 dX38_run_47 q589 zr_3 (zh_201 (by decide)) (by decide) ?_
      refine r_aload_n E dX38_run_50 rfl 3 rfl ?_
      refine r_getN E zc_10 zt_920 dX38_run_51 q922 zr_10 (zg_920 _) hn1 (fun v8 => ?_)
      refine r_aload_n E dX38_run_54 rfl 4 rfl ?_
      refine r_getN E zc_11 zt_1000 dX38_run_55 q701 zr_11 (zg_1000 _) hn5 (fun v9 => ?_)
      refine r_callV E [(6, v8), (1, v9)] [] rfl zc_4 zr_4 (fun o _ => ⟨_, zw_X2.1 o, rfl⟩) (lw_V q2533 q1866 q1867 q229 q1868) dX38_run_58 zy_X2_find rfl (by omega) (by decide) (Nat.le_of_ble_eq_true rfl) (by decide) (fun l G => k_fX2_find l G v8 v9) (fun v10 => ?_)
      refine r_astore (ls' := [(5, 6, v10), (4, 0, v4), (0, 38, 11), (1, 14, 0), (2, 10, x2), (3, 11, x3)]) E dX38_run_61 (by rw [hN]; decide) rfl ?_
      refine r_aload_n E dX38_run_63 rfl 3 rfl ?_
      refine r_aload E dX38_run_64 0 rfl ?_
      refine r_putN E zc_14 zt_1306 zo_1306 dX38_run_66 q1544 zr_14 zw_X12 zp_1306 (fun _ => rfl) (fun G => zfo G) (by decide) ?_
      refine r_aload E dX38_run_69 0 rfl ?_
      refine r_ifnonnull E 78 (by decide) dX38_run_71 (fun _ => ?_) (fun hz11 => ?_)
      · refine r_iconst E dX38_run_74 (zkI (by decide) (by decide)) ?_
        refine r_goto E 87 (by decide) dX38_run_75 ?_
        exact r_ireturn E rfl hT dX38_run_87
      · refine r_aload_n E dX38_run_78 rfl 2 rfl ?_
        refine r_aload_n E dX38_run_79 rfl 3 rfl ?_
        refine r_aload E dX38_run_80 0 rfl ?_
        refine r_aload_n E dX38_run_82 rfl 4 rfl ?_
        refine r_aload_n E dX38_run_83 rfl 5 rfl ?_
        refine r_callU (n := 4) (x := ⟨"RingHouse$Entered", "on", "(LRingHouse$Machine;LRingHouse$Node;LRingHouse$Process;LRingHouse$Registers;)I"⟩) (owner := "RingHouse$Entered") E [(14, 0), (6, v10), (10, x2), (11, x3)] [] rfl zc_38 zr_38 zk_38_11 q2534 q2536 q2597 q2598 q274 q2599 (Or.inr q2535) dX38_run_84 (by decide +kernel) rfl (by omega) (by decide) (Nat.le_of_ble_eq_true rfl) (by decide) (fun l G => k_fX47_on_11 l G v10 x2 x3) (fun v12 => ?_)
        exact r_ireturn E rfl hT dX38_run_87
    · refine r_bipush E dX38_run_40 (by decide) (zkI (by decide) (by decide)) ?_
      exact r_ireturn E rfl hT dX38_run_42
  · refine r_iload E dX38_run_27 0 rfl ?_
    exact r_ireturn E rfl hT dX38_run_29
theorem k_fX38_run_11 (l : Launch) (G : zG) (x2 : Int) (x3 : Int) : zCt l G yX38_run cX38_run 6 (some .int) 4 [(38, 11), (14, 0), (10, x2), (11, x3)] (some 0) (fX38_run_11 x2 x3) := zCt.of (by decide) (Nat.le_of_ble_eq_true rfl) (fun K E _ _ hN hT => w_fX38_run_11 E hN hT x2 x3)
theorem dX48_on_0 : decode cX48_on 0 = .ok (.aload 4, 2) := by decide +kernel
theorem dX48_on_2 : decode cX48_on 2 = .ok (.getfield 9, 3) := by decide +kernel
theorem dX48_on_5 : decode cX48_on 5 = .ok (.iconst 0, 1) := by decide +kernel
theorem dX48_on_6 : decode cX48_on 6 = .ok (.iaload, 1) := by decide +kernel
theorem dX48_on_7 : decode cX48_on 7 = .ok (.bipush 16, 2) := by decide +kernel
theorem dX48_on_9 : decode cX48_on 9 = .ok (.if_icmp .gt 27, 3) := by decide +kernel
theorem dX48_on_12 : decode cX48_on 12 = .ok (.aload 4, 2) := by decide +kernel
theorem dX48_on_14 : decode cX48_on 14 = .ok (.getfield 9, 3) := by decide +kernel
theorem dX48_on_17 : decode cX48_on 17 = .ok (.iconst 1, 1) := by decide +kernel
theorem dX48_on_18 : decode cX48_on 18 = .ok (.iaload, 1) := by decide +kernel
theorem dX48_on_19 : decode cX48_on 19 = .ok (.bipush 8, 2) := by decide +kernel
theorem dX48_on_21 : decode cX48_on 21 = .ok (.if_icmp .gt 15, 3) := by decide +kernel
theorem dX48_on_24 : decode cX48_on 24 = .ok (.aload 4, 2) := by decide +kernel
theorem dX48_on_26 : decode cX48_on 26 = .ok (.getfield 9, 3) := by decide +kernel
theorem dX48_on_29 : decode cX48_on 29 = .ok (.iconst 2, 1) := by decide +kernel
theorem dX48_on_30 : decode cX48_on 30 = .ok (.iaload, 1) := by decide +kernel
theorem dX48_on_31 : decode cX48_on 31 = .ok (.bipush 8, 2) := by decide +kernel
theorem dX48_on_33 : decode cX48_on 33 = .ok (.if_icmp .le 6, 3) := by decide +kernel
theorem dX48_on_36 : decode cX48_on 36 = .ok (.bipush (-8), 2) := by decide +kernel
theorem dX48_on_38 : decode cX48_on 38 = .ok (.ireturn, 1) := by decide +kernel
theorem dX48_on_39 : decode cX48_on 39 = .ok (.aload 4, 2) := by decide +kernel
theorem dX48_on_41 : decode cX48_on 41 = .ok (.getfield 15, 3) := by decide +kernel
theorem dX48_on_44 : decode cX48_on 44 = .ok (.aload_n 2, 1) := by decide +kernel
theorem dX48_on_45 : decode cX48_on 45 = .ok (.getfield 19, 3) := by decide +kernel
theorem dX48_on_48 : decode cX48_on 48 = .ok (.if_icmp .le 6, 3) := by decide +kernel
theorem dX48_on_51 : decode cX48_on 51 = .ok (.bipush (-4), 2) := by decide +kernel
theorem dX48_on_53 : decode cX48_on 53 = .ok (.ireturn, 1) := by decide +kernel
theorem dX48_on_54 : decode cX48_on 54 = .ok (.aload_n 1, 1) := by decide +kernel
theorem dX48_on_55 : decode cX48_on 55 = .ok (.getfield 24, 3) := by decide +kernel
theorem dX48_on_58 : decode cX48_on 58 = .ok (.dup, 1) := by decide +kernel
theorem dX48_on_59 : decode cX48_on 59 = .ok (.getfield 30, 3) := by decide +kernel
theorem dX48_on_62 : decode cX48_on 62 = .ok (.iconst 1, 1) := by decide +kernel
theorem dX48_on_63 : decode cX48_on 63 = .ok (.iadd, 1) := by decide +kernel
theorem dX48_on_64 : decode cX48_on 64 = .ok (.putfield 30, 3) := by decide +kernel
theorem dX48_on_67 : decode cX48_on 67 = .ok (.aload_n 2, 1) := by decide +kernel
theorem dX48_on_68 : decode cX48_on 68 = .ok (.getfield 35, 3) := by decide +kernel
theorem dX48_on_71 : decode cX48_on 71 = .ok (.aload 4, 2) := by decide +kernel
theorem dX48_on_73 : decode cX48_on 73 = .ok (.getfield 9, 3) := by decide +kernel
theorem dX48_on_76 : decode cX48_on 76 = .ok (.iconst 0, 1) := by decide +kernel
theorem dX48_on_77 : decode cX48_on 77 = .ok (.iaload, 1) := by decide +kernel
theorem dX48_on_78 : decode cX48_on 78 = .ok (.aload 4, 2) := by decide +kernel
theorem dX48_on_80 : decode cX48_on 80 = .ok (.getfield 9, 3) := by decide +kernel
theorem dX48_on_83 : decode cX48_on 83 = .ok (.iconst 1, 1) := by decide +kernel
theorem dX48_on_84 : decode cX48_on 84 = .ok (.iaload, 1) := by decide +kernel
theorem dX48_on_85 : decode cX48_on 85 = .ok (.aload 4, 2) := by decide +kernel
theorem dX48_on_87 : decode cX48_on 87 = .ok (.getfield 9, 3) := by decide +kernel
theorem dX48_on_90 : decode cX48_on 90 = .ok (.iconst 2, 1) := by decide +kernel
theorem dX48_on_91 : decode cX48_on 91 = .ok (.iaload, 1) := by decide +kernel
theorem dX48_on_92 : decode cX48_on 92 = .ok (.invokevirtual 39, 3) := by decide +kernel
theorem dX48_on_95 : decode cX48_on 95 = .ok (.ireturn, 1) := by decide +kernel
theorem zy_X48_on : yX48_on.cls ≠ "java/lang/invoke/MethodHandle" ∧ yX48_on.cls ≠ "java/lang/invoke/VarHandle" ∧ (parseMethodDescriptor yX48_on.desc).map (fun d => d.parameters.length) = some 4 := by decide +kernel
theorem w_fX48_on_12 {K : zK} (E : zE K cX48_on "RingHouse$SetItem" (some .int) 3) (hN : zNl K = 5) (hT : zTr K = (some 0)) (x2 : Int) (x3 : Int) (x4 : Int) : zR K 0 [(0, 38, 12), (1, 14, 0), (2, 6, x2), (3, 10, x3), (4, 11, x4)] [] (fX48_on_12 x2 x3 x4) := by
  refine r_aload E dX48_on_0 4 rfl ?_
  refine r_nn E (fun hn1 => ?_)
  refine r_gecN (y := x4) E zc_11 dX48_on_2 q736 zr_11 (zh_1002 (by omega)) hn1 ?_
  refine r_iconst E dX48_on_5 (zkI (by decide) (by decide)) ?_
  refine r_iaload E zc_1002 za_1002 zt_1002 zx_1002 rfl rfl dX48_on_6 hn1 (fun v2 => ?_)
  refine r_bipush E dX48_on_7 (by decide) (zkI (by decide) (by decide)) ?_
  refine r_icmp_gt E 36 (by decide) dX48_on_9 (fun _ => ?_) (fun _ => ?_)
  · refine r_bipush E dX48_on_36 (by decide) (zkI (by decide) (by decide)) ?_
    exact r_ireturn E rfl hT dX48_on_38
  · refine r_aload E dX48_on_12 4 rfl ?_
    refine r_gecN (y := x4) E zc_11 dX48_on_14 q736 zr_11 (zh_1002 (by omega)) hn1 ?_
    refine r_iconst E dX48_on_17 (zkI (by decide) (by decide)) ?_
    refine r_iaload E zc_1002 za_1002 zt_1002 zx_1002 rfl rfl dX48_on_18 hn1 (fun v3 => ?_)
    refine r_bipush E dX48_on_19 (by decide) (zkI (by decide) (by decide)) ?_
    refine r_icmp_gt E 36 (by decide) dX48_on_21 (fun _ => ?_) (fun _ => ?_)
    · refine r_bipush E dX48_on_36 (by decide) (zkI (by decide) (by decide)) ?_
      exact r_ireturn E rfl hT dX48_on_38
    · refine r_aload E dX48_on_24 4 rfl ?_
      refine r_gecN (y := x4) E zc_11 dX48_on_26 q736 zr_11 (zh_1002 (by omega)) hn1 ?_
      refine r_iconst E dX48_on_29 (zkI (by decide) (by decide)) ?_
      refine r_iaload E zc_1002 za_1002 zt_1002 zx_1002 rfl rfl dX48_on_30 hn1 (fun v4 => ?_)
      refine r_bipush E dX48_on_31 (by decide) (zkI (by decide) (by decide)) ?_
      refine r_icmp_le E 39 (by decide) dX48_on_33 (fun _ => ?_) (fun _ => ?_)
      · refine r_aload E dX48_on_39 4 rfl ?_
        refine r_getN E zc_11 zt_1008 dX48_on_41 q772 zr_11 (zg_1008 _) hn1 (fun v5 => ?_)
        refine r_aload_n E dX48_on_44 rfl 2 rfl ?_
        refine r_nn E (fun hn6 => ?_)
        refine r_getN E zc_6 zt_509 dX48_on_45 q420 zr_6 (zg_509 _) hn6 (fun v7 => ?_)
        refine r_icmp_le E 54 (by decide) dX48_on_48 (fun _ => ?_) (fun _ => ?_)
        · refine r_aload_n E dX48_on_54 rfl 1 rfl ?_
          refine r_gecN (y := 0) E zc_14 dX48_on_55 q1532 zr_14 (zh_1300 (by decide)) (by decide) ?_
          refine r_dup E (zn1 rfl) dX48_on_58 ?_
          refine r_getN E zc_3 zt_207 dX48_on_59 q602 zr_3 (zg_207 _) (by decide) (fun v8 => ?_)
          refine r_iconst E dX48_on_62 (zkI (by decide) (by decide)) ?_
          refine r_iadd E dX48_on_63 ?_
          refine r_putN E zc_3 zt_207 zo_207 dX48_on_64 q602 zr_3 zw_X1 zp_207 (fun _ => rfl) (fun _ => rfl) (by decide) ?_
          refine r_aload_n E dX48_on_67 rfl 2 rfl ?_
          refine r_gecN (y := (3 * x2)) E zc_6 dX48_on_68 q410 zr_6 (zh_508 (by omega)) hn6 ?_
          refine r_aload E dX48_on_71 4 rfl ?_
          refine r_gecN (y := x4) E zc_11 dX48_on_73 q736 zr_11 (zh_1002 (by omega)) hn1 ?_
          refine r_iconst E dX48_on_76 (zkI (by decide) (by decide)) ?_
          refine r_iaload E zc_1002 za_1002 zt_1002 zx_1002 rfl rfl dX48_on_77 hn1 (fun v9 => ?_)
          refine r_aload E dX48_on_78 4 rfl ?_
          refine r_gecN (y := x4) E zc_11 dX48_on_80 q736 zr_11 (zh_1002 (by omega)) hn1 ?_
          refine r_iconst E dX48_on_83 (zkI (by decide) (by decide)) ?_
          refine r_iaload E zc_1002 za_1002 zt_1002 zx_1002 rfl rfl dX48_on_84 hn1 (fun v10 => ?_)
          refine r_aload E dX48_on_85 4 rfl ?_
          refine r_gecN (y := x4) E zc_11 dX48_on_87 q736 zr_11 (zh_1002 (by omega)) hn1 ?_
          refine r_iconst E dX48_on_90 (zkI (by decide) (by decide)) ?_
          refine r_iaload E zc_1002 za_1002 zt_1002 zx_1002 rfl rfl dX48_on_91 hn1 (fun v11 => ?_)
          refine r_callV E [(0, v9), (0, v10), (0, v11)] [] rfl zc_7 zr_7 (fun o _ => ⟨_, zw_X5.1 o, rfl⟩) (lw_V q2615 q571 q572 q232 q573) dX48_on_92 zy_X5_set rfl (by omega) (by decide) (Nat.le_of_ble_eq_true rfl) (by omega) (fun l G => k_fX5_set l G (3 * x2) v9 v10 v11 (by omega)) (fun v12 => ?_)
          exact r_ireturn E rfl hT dX48_on_95
        · refine r_bipush E dX48_on_51 (by decide) (zkI (by decide) (by decide)) ?_
          exact r_ireturn E rfl hT dX48_on_53
      · refine r_bipush E dX48_on_36 (by decide) (zkI (by decide) (by decide)) ?_
        exact r_ireturn E rfl hT dX48_on_38
theorem k_fX48_on_12 (l : Launch) (G : zG) (x2 : Int) (x3 : Int) (x4 : Int) : zCt l G yX48_on cX48_on 5 (some .int) 3 [(38, 12), (14, 0), (6, x2), (10, x3), (11, x4)] (some 0) (fX48_on_12 x2 x3 x4) := zCt.of (by decide) (Nat.le_of_ble_eq_true rfl) (fun K E _ _ hN hT => w_fX48_on_12 E hN hT x2 x3 x4)
theorem w_fX38_run_12 {K : zK} (E : zE K cX38_run "RingHouse$Entered" (some .int) 4) (hN : zNl K = 6) (hT : zTr K = (some 0)) (x2 : Int) (x3 : Int) : zR K 0 [(0, 38, 12), (1, 14, 0), (2, 10, x2), (3, 11, x3)] [] (fX38_run_12 x2 x3) := by
  refine r_aload_n E dX38_run_0 rfl 1 rfl ?_
  refine r_aload_n E dX38_run_1 rfl 2 rfl ?_
  refine r_nn E (fun hn1 => ?_)
  refine r_getN E zc_10 zt_920 dX38_run_2 q922 zr_10 (zg_920 _) hn1 (fun v2 => ?_)
  refine r_putN E zc_14 zt_1306 zo_1306 dX38_run_5 q1544 zr_14 zw_X12 zp_1306 (fun _ => rfl) (fun G => zfo G) (by decide) ?_
  refine r_aload_n E dX38_run_8 rfl 2 rfl ?_
  refine r_aload_n E dX38_run_9 rfl 2 rfl ?_
  refine r_getN E zc_10 zt_920 dX38_run_10 q922 zr_10 (zg_920 _) hn1 (fun v3 => ?_)
  refine r_aload_n E dX38_run_13 rfl 0 rfl ?_
  refine r_gec (y := 2) E zc_38 dX38_run_14 q1334 zr_38 (zh_38_12_0) (by decide) ?_
  refine r_callV E [(6, v3), (0, 2)] [] rfl zc_10 zr_10 (fun o _ => ⟨_, zw_X8.1 o, rfl⟩) (lw_V q2531 q2319 q2320 q235 q2321) dX38_run_17 zy_X8_refusal_2 rfl (by omega) (by decide) (Nat.le_of_ble_eq_true rfl) hn1 (fun l G => k_fX8_refusal_2 l G x2 v3 2 hn1) (fun v4 => ?_)
  refine r_istore (ls' := [(4, 0, v4), (0, 38, 12), (1, 14, 0), (2, 10, x2), (3, 11, x3)]) E dX38_run_20 (by rw [hN]; decide) rfl ?_
  refine r_iload E dX38_run_22 0 rfl ?_
  refine r_if_eq E 30 (by decide) dX38_run_24 (fun _ => ?_) (fun _ => ?_)
  · refine r_aload_n E dX38_run_30 rfl 4 rfl ?_
    refine r_nn E (fun hn5 => ?_)
    refine r_getN E zc_11 zt_1000 dX38_run_31 q701 zr_11 (zg_1000 _) hn5 (fun v6 => ?_)
    refine r_callSN E [(1, v6)] [] rfl q2532 q1842 q227 q1843 dX38_run_34 zy_X0_isName rfl (by omega) (by decide) (Nat.le_of_ble_eq_true rfl) (fun l G => k_fX0_isName l G v6) (fun v7 => ?_)
    refine r_if_ne E 43 (by decide) dX38_run_37 (fun _ => ?_) (fun _ => ?_)
    · refine r_aload_n E dX38_run_43 rfl 2 rfl ?_
      refine r_gecN (y := 0) E zc_14 dX38_run_44 q1530 zr_14 (zh_1300 (by decide)) (by decide) ?_
      refine r_gecN (y := 0) E zc_3 dX38_run_47 q589 zr_3 (zh_201 (by decide)) (by decide) ?_
      refine r_aload_n E dX38_run_50 rfl 3 rfl ?_
      refine r_getN E zc_10 zt_920 dX38_run_51 q922 zr_10 (zg_920 _) hn1 (fun v8 => ?_)
      refine r_aload_n E dX38_run_54 rfl 4 rfl ?_
      refine r_getN E zc_11 zt_1000 dX38_run_55 q701 zr_11 (zg_1000 _) hn5 (fun v9 => ?_)
      refine r_callV E [(6, v8), (1, v9)] [] rfl zc_4 zr_4 (fun o _ => ⟨_, zw_X2.1 o, rfl⟩) (lw_V q2533 q1866 q1867 q229 q1868) dX38_run_58 zy_X2_find rfl (by omega) (by decide) (Nat.le_of_ble_eq_true rfl) (by decide) (fun l G => k_fX2_find l G v8 v9) (fun v10 => ?_)
      refine r_astore (ls' := [(5, 6, v10), (4, 0, v4), (0, 38, 12), (1, 14, 0), (2, 10, x2), (3, 11, x3)]) E dX38_run_61 (by rw [hN]; decide) rfl ?_
      refine r_aload_n E dX38_run_63 rfl 3 rfl ?_
      refine r_aload E dX38_run_64 0 rfl ?_
      refine r_putN E zc_14 zt_1306 zo_1306 dX38_run_66 q1544 zr_14 zw_X12 zp_1306 (fun _ => rfl) (fun G => zfo G) (by decide) ?_
      refine r_aload E dX38_run_69 0 rfl ?_
      refine r_ifnonnull E 78 (by decide) dX38_run_71 (fun _ => ?_) (fun hz11 => ?_)
      · refine r_iconst E dX38_run_74 (zkI (by decide) (by decide)) ?_
        refine r_goto E 87 (by decide) dX38_run_75 ?_
        exact r_ireturn E rfl hT dX38_run_87
      · refine r_aload_n E dX38_run_78 rfl 2 rfl ?_
        refine r_aload_n E dX38_run_79 rfl 3 rfl ?_
        refine r_aload E dX38_run_80 0 rfl ?_
        refine r_aload_n E dX38_run_82 rfl 4 rfl ?_
        refine r_aload_n E dX38_run_83 rfl 5 rfl ?_
        refine r_callU (n := 4) (x := ⟨"RingHouse$Entered", "on", "(LRingHouse$Machine;LRingHouse$Node;LRingHouse$Process;LRingHouse$Registers;)I"⟩) (owner := "RingHouse$Entered") E [(14, 0), (6, v10), (10, x2), (11, x3)] [] rfl zc_38 zr_38 zk_38_12 q2534 q2536 q2612 q2613 q275 q2614 (Or.inr q2535) dX38_run_84 (by decide +kernel) rfl (by omega) (by decide) (Nat.le_of_ble_eq_true rfl) (by decide) (fun l G => k_fX48_on_12 l G v10 x2 x3) (fun v12 => ?_)
        exact r_ireturn E rfl hT dX38_run_87
    · refine r_bipush E dX38_run_40 (by decide) (zkI (by decide) (by decide)) ?_
      exact r_ireturn E rfl hT dX38_run_42
  · refine r_iload E dX38_run_27 0 rfl ?_
    exact r_ireturn E rfl hT dX38_run_29
theorem k_fX38_run_12 (l : Launch) (G : zG) (x2 : Int) (x3 : Int) : zCt l G yX38_run cX38_run 6 (some .int) 4 [(38, 12), (14, 0), (10, x2), (11, x3)] (some 0) (fX38_run_12 x2 x3) := zCt.of (by decide) (Nat.le_of_ble_eq_true rfl) (fun K E _ _ hN hT => w_fX38_run_12 E hN hT x2 x3)
theorem dX49_on_0 : decode cX49_on 0 = .ok (.aload 4, 2) := by decide +kernel
theorem dX49_on_2 : decode cX49_on 2 = .ok (.getfield 9, 3) := by decide +kernel
theorem dX49_on_5 : decode cX49_on 5 = .ok (.ldc2_w 15, 3) := by decide +kernel
theorem dX49_on_8 : decode cX49_on 8 = .ok (.land, 1) := by decide +kernel
theorem dX49_on_9 : decode cX49_on 9 = .ok (.l2i, 1) := by decide +kernel
theorem dX49_on_10 : decode cX49_on 10 = .ok (.istore 5, 2) := by decide +kernel
theorem dX49_on_12 : decode cX49_on 12 = .ok (.aload 4, 2) := by decide +kernel
theorem dX49_on_14 : decode cX49_on 14 = .ok (.getfield 9, 3) := by decide +kernel
theorem dX49_on_17 : decode cX49_on 17 = .ok (.iconst 3, 1) := by decide +kernel
theorem dX49_on_18 : decode cX49_on 18 = .ok (.lshr, 1) := by decide +kernel
theorem dX49_on_19 : decode cX49_on 19 = .ok (.ldc2_w 15, 3) := by decide +kernel
theorem dX49_on_22 : decode cX49_on 22 = .ok (.land, 1) := by decide +kernel
theorem dX49_on_23 : decode cX49_on 23 = .ok (.l2i, 1) := by decide +kernel
theorem dX49_on_24 : decode cX49_on 24 = .ok (.istore 6, 2) := by decide +kernel
theorem dX49_on_26 : decode cX49_on 26 = .ok (.aload 4, 2) := by decide +kernel
theorem dX49_on_28 : decode cX49_on 28 = .ok (.getfield 9, 3) := by decide +kernel
theorem dX49_on_31 : decode cX49_on 31 = .ok (.bipush 6, 2) := by decide +kernel
theorem dX49_on_33 : decode cX49_on 33 = .ok (.lshr, 1) := by decide +kernel
theorem dX49_on_34 : decode cX49_on 34 = .ok (.ldc2_w 15, 3) := by decide +kernel
theorem dX49_on_37 : decode cX49_on 37 = .ok (.land, 1) := by decide +kernel
theorem dX49_on_38 : decode cX49_on 38 = .ok (.l2i, 1) := by decide +kernel
theorem dX49_on_39 : decode cX49_on 39 = .ok (.istore 7, 2) := by decide +kernel
theorem dX49_on_41 : decode cX49_on 41 = .ok (.aload 4, 2) := by decide +kernel
theorem dX49_on_43 : decode cX49_on 43 = .ok (.getfield 9, 3) := by decide +kernel
theorem dX49_on_46 : decode cX49_on 46 = .ok (.bipush 9, 2) := by decide +kernel
theorem dX49_on_48 : decode cX49_on 48 = .ok (.lshr, 1) := by decide +kernel
theorem dX49_on_49 : decode cX49_on 49 = .ok (.lstore 8, 2) := by decide +kernel
theorem dX49_on_51 : decode cX49_on 51 = .ok (.iload 5, 2) := by decide +kernel
theorem dX49_on_53 : decode cX49_on 53 = .ok (.iload 6, 2) := by decide +kernel
theorem dX49_on_55 : decode cX49_on 55 = .ok (.iload 7, 2) := by decide +kernel
theorem dX49_on_57 : decode cX49_on 57 = .ok (.invokestatic 17, 3) := by decide +kernel
theorem dX49_on_60 : decode cX49_on 60 = .ok (.ifCond .eq 23, 3) := by decide +kernel
theorem dX49_on_63 : decode cX49_on 63 = .ok (.lload 8, 2) := by decide +kernel
theorem dX49_on_65 : decode cX49_on 65 = .ok (.aload_n 2, 1) := by decide +kernel
theorem dX49_on_66 : decode cX49_on 66 = .ok (.invokevirtual 21, 3) := by decide +kernel
theorem dX49_on_69 : decode cX49_on 69 = .ok (.ifCond .eq 9, 3) := by decide +kernel
theorem dX49_on_72 : decode cX49_on 72 = .ok (.ldc2_w 27, 3) := by decide +kernel
theorem dX49_on_75 : decode cX49_on 75 = .ok (.goto 4, 3) := by decide +kernel
theorem dX49_on_78 : decode cX49_on 78 = .ok (.lconst 0, 1) := by decide +kernel
theorem dX49_on_79 : decode cX49_on 79 = .ok (.lcmp, 1) := by decide +kernel
theorem dX49_on_80 : decode cX49_on 80 = .ok (.ifCond .le 6, 3) := by decide +kernel
theorem dX49_on_83 : decode cX49_on 83 = .ok (.bipush (-8), 2) := by decide +kernel
theorem dX49_on_85 : decode cX49_on 85 = .ok (.ireturn, 1) := by decide +kernel
theorem dX49_on_86 : decode cX49_on 86 = .ok (.aload 4, 2) := by decide +kernel
theorem dX49_on_88 : decode cX49_on 88 = .ok (.getfield 29, 3) := by decide +kernel
theorem dX49_on_91 : decode cX49_on 91 = .ok (.aload_n 2, 1) := by decide +kernel
theorem dX49_on_92 : decode cX49_on 92 = .ok (.getfield 33, 3) := by decide +kernel
theorem dX49_on_95 : decode cX49_on 95 = .ok (.if_icmp .gt 13, 3) := by decide +kernel
theorem dX49_on_98 : decode cX49_on 98 = .ok (.aload 4, 2) := by decide +kernel
theorem dX49_on_100 : decode cX49_on 100 = .ok (.getfield 29, 3) := by decide +kernel
theorem dX49_on_103 : decode cX49_on 103 = .ok (.iload 5, 2) := by decide +kernel
theorem dX49_on_105 : decode cX49_on 105 = .ok (.if_icmp .le 6, 3) := by decide +kernel
theorem dX49_on_108 : decode cX49_on 108 = .ok (.bipush (-4), 2) := by decide +kernel
theorem dX49_on_110 : decode cX49_on 110 = .ok (.ireturn, 1) := by decide +kernel
theorem dX49_on_111 : decode cX49_on 111 = .ok (.aload_n 2, 1) := by decide +kernel
theorem dX49_on_112 : decode cX49_on 112 = .ok (.iload 5, 2) := by decide +kernel
theorem dX49_on_114 : decode cX49_on 114 = .ok (.iload 6, 2) := by decide +kernel
theorem dX49_on_116 : decode cX49_on 116 = .ok (.iload 7, 2) := by decide +kernel
theorem dX49_on_118 : decode cX49_on 118 = .ok (.invokevirtual 36, 3) := by decide +kernel
theorem dX49_on_121 : decode cX49_on 121 = .ok (.aload_n 2, 1) := by decide +kernel
theorem dX49_on_122 : decode cX49_on 122 = .ok (.lload 8, 2) := by decide +kernel
theorem dX49_on_124 : decode cX49_on 124 = .ok (.l2i, 1) := by decide +kernel
theorem dX49_on_125 : decode cX49_on 125 = .ok (.putfield 40, 3) := by decide +kernel
theorem dX49_on_128 : decode cX49_on 128 = .ok (.iconst 0, 1) := by decide +kernel
theorem dX49_on_129 : decode cX49_on 129 = .ok (.ireturn, 1) := by decide +kernel
theorem zy_X49_on : yX49_on.cls ≠ "java/lang/invoke/MethodHandle" ∧ yX49_on.cls ≠ "java/lang/invoke/VarHandle" ∧ (parseMethodDescriptor yX49_on.desc).map (fun d => d.parameters.length) = some 4 := by decide +kernel
theorem w_fX49_on_13_J79 {K : zK} (E : zE K cX49_on "RingHouse$SetBrackets" (some .int) 1) (hN : zNl K = 10) (hT : zTr K = (some 0)) (x2 : Int) (x4 : Int) (x5 : Int) (x6 : Int) (x7 : Int) (x8 : Int) (s0 : Int) (s1 : Int) : zR K 79 [(2, 6, x2), (4, 11, x4), (5, 0, x5), (6, 0, x6), (7, 0, x7), (8, 1, x8)] [(1, s1), (1, s0)] (fX49_on_13_J79 x2 x4 x5 x6 x7 x8 s0 s1) := by
  refine r_lcmp_le E 86 (by decide) dX49_on_79 dX49_on_80 (fun _ => ?_) (fun _ => ?_)
  · refine r_aload E dX49_on_86 1 rfl ?_
    refine r_nn E (fun hn13 => ?_)
    refine r_getN E zc_11 zt_1008 dX49_on_88 q774 zr_11 (zg_1008 _) hn13 (fun v14 => ?_)
    refine r_aload_n E dX49_on_91 rfl 0 rfl ?_
    refine r_nn E (fun hn15 => ?_)
    refine r_getN E zc_6 zt_509 dX49_on_92 q421 zr_6 (zg_509 _) hn15 (fun v16 => ?_)
    refine r_icmp_gt E 108 (by decide) dX49_on_95 (fun _ => ?_) (fun _ => ?_)
    · refine r_bipush E dX49_on_108 (by decide) (zkI (by decide) (by decide)) ?_
      exact r_ireturn E rfl hT dX49_on_110
    · refine r_aload E dX49_on_98 1 rfl ?_
      refine r_getN E zc_11 zt_1008 dX49_on_100 q774 zr_11 (zg_1008 _) hn13 (fun v17 => ?_)
      refine r_iload E dX49_on_103 2 rfl ?_
      refine r_icmp_le E 111 (by decide) dX49_on_105 (fun _ => ?_) (fun _ => ?_)
      · refine r_aload_n E dX49_on_111 rfl 0 rfl ?_
        refine r_iload E dX49_on_112 2 rfl ?_
        refine r_iload E dX49_on_114 3 rfl ?_
        refine r_iload E dX49_on_116 4 rfl ?_
        refine r_callV E [(0, x5), (0, x6), (0, x7)] [] rfl zc_6 zr_6 (fun o _ => ⟨_, zw_X4.1 o, rfl⟩) (lw_V q2611 q566 q567 q231 q568) dX49_on_118 zy_X4_setBrackets rfl (by omega) (by decide) (Nat.le_of_ble_eq_true rfl) hn15 (fun l G => k_fX4_setBrackets l G x2 x5 x6 x7 hn15) (fun _ => ?_)
        refine r_aload_n E dX49_on_121 rfl 0 rfl ?_
        refine r_lload E dX49_on_122 5 rfl ?_
        refine r_l2i E dX49_on_124 ?_
        refine r_putN E zc_6 zt_521 zo_521 dX49_on_125 q470 zr_6 zw_X4 zp_521 (fun _ => rfl) (fun _ => rfl) hn15 ?_
        refine r_iconst E dX49_on_128 (zkI (by decide) (by decide)) ?_
        exact r_ireturn E rfl hT dX49_on_129
      · refine r_bipush E dX49_on_108 (by decide) (zkI (by decide) (by decide)) ?_
        exact r_ireturn E rfl hT dX49_on_110
  · refine r_bipush E dX49_on_83 (by decide) (zkI (by decide) (by decide)) ?_
    exact r_ireturn E rfl hT dX49_on_85
theorem w_fX49_on_13 {K : zK} (E : zE K cX49_on "RingHouse$SetBrackets" (some .int) 1) (hN : zNl K = 10) (hT : zTr K = (some 0)) (x2 : Int) (x3 : Int) (x4 : Int) : zR K 0 [(0, 38, 13), (1, 14, 0), (2, 6, x2), (3, 10, x3), (4, 11, x4)] [] (fX49_on_13 x2 x3 x4) := by
  refine r_aload E dX49_on_0 4 rfl ?_
  refine r_nn E (fun hn1 => ?_)
  refine r_getN E zc_11 zt_1001 dX49_on_2 q713 zr_11 (zg_1001 _) hn1 (fun v2 => ?_)
  refine r_ldc2 (v := 7) E dX49_on_5 q2607 (by decide) (zkJ (by decide) (by decide)) ?_
  refine r_lmask (P := 8) E 3 (by decide) (by decide) (by decide) dX49_on_8 ?_
  refine r_l2i E dX49_on_9 ?_
  refine r_let E (fun v3 ev3 => ?_)
  refine r_istore (ls' := [(5, 0, v3), (0, 38, 13), (1, 14, 0), (2, 6, x2), (3, 10, x3), (4, 11, x4)]) E dX49_on_10 (by rw [hN]; decide) rfl ?_
  refine r_aload E dX49_on_12 5 rfl ?_
  refine r_getN E zc_11 zt_1001 dX49_on_14 q713 zr_11 (zg_1001 _) hn1 (fun v4 => ?_)
  refine r_iconst E dX49_on_17 (zkI (by decide) (by decide)) ?_
  refine r_lshr (P := 8) E (by decide) dX49_on_18 ?_
  refine r_ldc2 (v := 7) E dX49_on_19 q2607 (by decide) (zkJ (by decide) (by decide)) ?_
  refine r_lmask (P := 8) E 3 (by decide) (by decide) (by decide) dX49_on_22 ?_
  refine r_l2i E dX49_on_23 ?_
  refine r_let E (fun v5 ev5 => ?_)
  refine r_istore (ls' := [(6, 0, v5), (5, 0, v3), (0, 38, 13), (1, 14, 0), (2, 6, x2), (3, 10, x3), (4, 11, x4)]) E dX49_on_24 (by rw [hN]; decide) rfl ?_
  refine r_aload E dX49_on_26 6 rfl ?_
  refine r_getN E zc_11 zt_1001 dX49_on_28 q713 zr_11 (zg_1001 _) hn1 (fun v6 => ?_)
  refine r_bipush E dX49_on_31 (by decide) (zkI (by decide) (by decide)) ?_
  refine r_lshr (P := 64) E (by decide) dX49_on_33 ?_
  refine r_ldc2 (v := 7) E dX49_on_34 q2607 (by decide) (zkJ (by decide) (by decide)) ?_
  refine r_lmask (P := 8) E 3 (by decide) (by decide) (by decide) dX49_on_37 ?_
  refine r_l2i E dX49_on_38 ?_
  refine r_let E (fun v7 ev7 => ?_)
  refine r_istore (ls' := [(7, 0, v7), (6, 0, v5), (5, 0, v3), (0, 38, 13), (1, 14, 0), (2, 6, x2), (3, 10, x3), (4, 11, x4)]) E dX49_on_39 (by rw [hN]; decide) rfl ?_
  refine r_aload E dX49_on_41 7 rfl ?_
  refine r_getN E zc_11 zt_1001 dX49_on_43 q713 zr_11 (zg_1001 _) hn1 (fun v8 => ?_)
  refine r_bipush E dX49_on_46 (by decide) (zkI (by decide) (by decide)) ?_
  refine r_lshr (P := 512) E (by decide) dX49_on_48 ?_
  refine r_let E (fun v9 ev9 => ?_)
  refine r_lstore (ls' := [(8, 1, v9), (7, 0, v7), (6, 0, v5), (5, 0, v3), (0, 38, 13), (1, 14, 0), (2, 6, x2), (3, 10, x3), (4, 11, x4)]) E dX49_on_49 (by rw [hN]; decide) rfl ?_
  refine r_iload E dX49_on_51 3 rfl ?_
  refine r_iload E dX49_on_53 2 rfl ?_
  refine r_iload E dX49_on_55 1 rfl ?_
  refine r_callSN E [(0, v3), (0, v5), (0, v7)] [] rfl q2608 q1990 q227 q1991 dX49_on_57 zy_X0_areBrackets rfl (by omega) (by decide) (Nat.le_of_ble_eq_true rfl) (fun l G => k_fX0_areBrackets l G v3 v5 v7) (fun v10 => ?_)
  refine r_if_eq E 83 (by decide) dX49_on_60 (fun _ => ?_) (fun _ => ?_)
  · refine r_bipush E dX49_on_83 (by decide) (zkI (by decide) (by decide)) ?_
    exact r_ireturn E rfl hT dX49_on_85
  · refine r_lload E dX49_on_63 0 rfl ?_
    refine r_aload_n E dX49_on_65 rfl 6 rfl ?_
    refine r_nn E (fun hn11 => ?_)
    refine r_callV E [] [(1, v9)] rfl zc_6 zr_6 (fun o _ => ⟨_, zw_X4.1 o, rfl⟩) (lw_V q2609 q1925 q1926 q231 q1927) dX49_on_66 zy_X4_isSegment rfl (by omega) (by decide) (Nat.le_of_ble_eq_true rfl) hn11 (fun l G => k_fX4_isSegment l G x2 hn11) (fun v12 => ?_)
    refine r_if_eq E 78 (by decide) dX49_on_69 (fun _ => ?_) (fun _ => ?_)
    · refine r_lconst (v := 0) E dX49_on_78 (by decide) (zkJ (by decide) (by decide)) ?_
      refine r_pick E [6, 8, 3, 2, 1, 0] rfl ?_
      exact w_fX49_on_13_J79 E hN hT x2 x4 v3 v5 v7 v9 v9 0
    · refine r_ldc2 (v := 63) E dX49_on_72 q2610 (by decide) (zkJ (by decide) (by decide)) ?_
      refine r_goto E 79 (by decide) dX49_on_75 ?_
      refine r_pick E [6, 8, 3, 2, 1, 0] rfl ?_
      exact w_fX49_on_13_J79 E hN hT x2 x4 v3 v5 v7 v9 v9 63
theorem k_fX49_on_13 (l : Launch) (G : zG) (x2 : Int) (x3 : Int) (x4 : Int) : zCt l G yX49_on cX49_on 10 (some .int) 1 [(38, 13), (14, 0), (6, x2), (10, x3), (11, x4)] (some 0) (fX49_on_13 x2 x3 x4) := zCt.of (by decide) (Nat.le_of_ble_eq_true rfl) (fun K E _ _ hN hT => w_fX49_on_13 E hN hT x2 x3 x4)
theorem w_fX38_run_13 {K : zK} (E : zE K cX38_run "RingHouse$Entered" (some .int) 4) (hN : zNl K = 6) (hT : zTr K = (some 0)) (x2 : Int) (x3 : Int) : zR K 0 [(0, 38, 13), (1, 14, 0), (2, 10, x2), (3, 11, x3)] [] (fX38_run_13 x2 x3) := by
  refine r_aload_n E dX38_run_0 rfl 1 rfl ?_
  refine r_aload_n E dX38_run_1 rfl 2 rfl ?_
  refine r_nn E (fun hn1 => ?_)
  refine r_getN E zc_10 zt_920 dX38_run_2 q922 zr_10 (zg_920 _) hn1 (fun v2 => ?_)
  refine r_putN E zc_14 zt_1306 zo_1306 dX38_run_5 q1544 zr_14 zw_X12 zp_1306 (fun _ => rfl) (fun G => zfo G) (by decide) ?_
  refine r_aload_n E dX38_run_8 rfl 2 rfl ?_
  refine r_aload_n E dX38_run_9 rfl 2 rfl ?_
  refine r_getN E zc_10 zt_920 dX38_run_10 q922 zr_10 (zg_920 _) hn1 (fun v3 => ?_)
  refine r_aload_n E dX38_run_13 rfl 0 rfl ?_
  refine r_gec (y := 2) E zc_38 dX38_run_14 q1334 zr_38 (zh_38_13_0) (by decide) ?_
  refine r_callV E [(6, v3), (0, 2)] [] rfl zc_10 zr_10 (fun o _ => ⟨_, zw_X8.1 o, rfl⟩) (lw_V q2531 q2319 q2320 q235 q2321) dX38_run_17 zy_X8_refusal_2 rfl (by omega) (by decide) (Nat.le_of_ble_eq_true rfl) hn1 (fun l G => k_fX8_refusal_2 l G x2 v3 2 hn1) (fun v4 => ?_)
  refine r_istore (ls' := [(4, 0, v4), (0, 38, 13), (1, 14, 0), (2, 10, x2), (3, 11, x3)]) E dX38_run_20 (by rw [hN]; decide) rfl ?_
  refine r_iload E dX38_run_22 0 rfl ?_
  refine r_if_eq E 30 (by decide) dX38_run_24 (fun _ => ?_) (fun _ => ?_)
  · refine r_aload_n E dX38_run_30 rfl 4 rfl ?_
    refine r_nn E (fun hn5 => ?_)
    refine r_getN E zc_11 zt_1000 dX38_run_31 q701 zr_11 (zg_1000 _) hn5 (fun v6 => ?_)
    refine r_callSN E [(1, v6)] [] rfl q2532 q1842 q227 q1843 dX38_run_34 zy_X0_isName rfl (by omega) (by decide) (Nat.le_of_ble_eq_true rfl) (fun l G => k_fX0_isName l G v6) (fun v7 => ?_)
    refine r_if_ne E 43 (by decide) dX38_run_37 (fun _ => ?_) (fun _ => ?_)
    · refine r_aload_n E dX38_run_43 rfl 2 rfl ?_
      refine r_gecN (y := 0) E zc_14 dX38_run_44 q1530 zr_14 (zh_1300 (by decide)) (by decide) ?_
      refine r_gecN (y := 0) E zc_3 dX38_run_47 q589 zr_3 (zh_201 (by decide)) (by decide) ?_
      refine r_aload_n E dX38_run_50 rfl 3 rfl ?_
      refine r_getN E zc_10 zt_920 dX38_run_51 q922 zr_10 (zg_920 _) hn1 (fun v8 => ?_)
      refine r_aload_n E dX38_run_54 rfl 4 rfl ?_
      refine r_getN E zc_11 zt_1000 dX38_run_55 q701 zr_11 (zg_1000 _) hn5 (fun v9 => ?_)
      refine r_callV E [(6, v8), (1, v9)] [] rfl zc_4 zr_4 (fun o _ => ⟨_, zw_X2.1 o, rfl⟩) (lw_V q2533 q1866 q1867 q229 q1868) dX38_run_58 zy_X2_find rfl (by omega) (by decide) (Nat.le_of_ble_eq_true rfl) (by decide) (fun l G => k_fX2_find l G v8 v9) (fun v10 => ?_)
      refine r_astore (ls' := [(5, 6, v10), (4, 0, v4), (0, 38, 13), (1, 14, 0), (2, 10, x2), (3, 11, x3)]) E dX38_run_61 (by rw [hN]; decide) rfl ?_
      refine r_aload_n E dX38_run_63 rfl 3 rfl ?_
      refine r_aload E dX38_run_64 0 rfl ?_
      refine r_putN E zc_14 zt_1306 zo_1306 dX38_run_66 q1544 zr_14 zw_X12 zp_1306 (fun _ => rfl) (fun G => zfo G) (by decide) ?_
      refine r_aload E dX38_run_69 0 rfl ?_
      refine r_ifnonnull E 78 (by decide) dX38_run_71 (fun _ => ?_) (fun hz11 => ?_)
      · refine r_iconst E dX38_run_74 (zkI (by decide) (by decide)) ?_
        refine r_goto E 87 (by decide) dX38_run_75 ?_
        exact r_ireturn E rfl hT dX38_run_87
      · refine r_aload_n E dX38_run_78 rfl 2 rfl ?_
        refine r_aload_n E dX38_run_79 rfl 3 rfl ?_
        refine r_aload E dX38_run_80 0 rfl ?_
        refine r_aload_n E dX38_run_82 rfl 4 rfl ?_
        refine r_aload_n E dX38_run_83 rfl 5 rfl ?_
        refine r_callU (n := 4) (x := ⟨"RingHouse$Entered", "on", "(LRingHouse$Machine;LRingHouse$Node;LRingHouse$Process;LRingHouse$Registers;)I"⟩) (owner := "RingHouse$Entered") E [(14, 0), (6, v10), (10, x2), (11, x3)] [] rfl zc_38 zr_38 zk_38_13 q2534 q2536 q2604 q2605 q276 q2606 (Or.inr q2535) dX38_run_84 (by decide +kernel) rfl (by omega) (by decide) (Nat.le_of_ble_eq_true rfl) (by decide) (fun l G => k_fX49_on_13 l G v10 x2 x3) (fun v12 => ?_)
        exact r_ireturn E rfl hT dX38_run_87
    · refine r_bipush E dX38_run_40 (by decide) (zkI (by decide) (by decide)) ?_
      exact r_ireturn E rfl hT dX38_run_42
  · refine r_iload E dX38_run_27 0 rfl ?_
    exact r_ireturn E rfl hT dX38_run_29
theorem k_fX38_run_13 (l : Launch) (G : zG) (x2 : Int) (x3 : Int) : zCt l G yX38_run cX38_run 6 (some .int) 4 [(38, 13), (14, 0), (10, x2), (11, x3)] (some 0) (fX38_run_13 x2 x3) := zCt.of (by decide) (Nat.le_of_ble_eq_true rfl) (fun K E _ _ hN hT => w_fX38_run_13 E hN hT x2 x3)
theorem dX50_run_0 : decode cX50_run 0 = .ok (.aload_n 2, 1) := by decide +kernel
theorem dX50_run_1 : decode cX50_run 1 = .ok (.aload_n 3, 1) := by decide +kernel
theorem dX50_run_2 : decode cX50_run 2 = .ok (.getfield 9, 3) := by decide +kernel
theorem dX50_run_5 : decode cX50_run 5 = .ok (.invokestatic 15, 3) := by decide +kernel
theorem dX50_run_8 : decode cX50_run 8 = .ok (.ifCond .ne 5, 3) := by decide +kernel
theorem dX50_run_11 : decode cX50_run 11 = .ok (.iconst (-1), 1) := by decide +kernel
theorem dX50_run_12 : decode cX50_run 12 = .ok (.ireturn, 1) := by decide +kernel
theorem dX50_run_13 : decode cX50_run 13 = .ok (.aload_n 3, 1) := by decide +kernel
theorem dX50_run_14 : decode cX50_run 14 = .ok (.getfield 9, 3) := by decide +kernel
theorem dX50_run_17 : decode cX50_run 17 = .ok (.l2i, 1) := by decide +kernel
theorem dX50_run_18 : decode cX50_run 18 = .ok (.istore 4, 2) := by decide +kernel
theorem dX50_run_20 : decode cX50_run 20 = .ok (.aload_n 1, 1) := by decide +kernel
theorem dX50_run_21 : decode cX50_run 21 = .ok (.aload_n 2, 1) := by decide +kernel
theorem dX50_run_22 : decode cX50_run 22 = .ok (.getfield 21, 3) := by decide +kernel
theorem dX50_run_25 : decode cX50_run 25 = .ok (.iload 4, 2) := by decide +kernel
theorem dX50_run_27 : decode cX50_run 27 = .ok (.aaload, 1) := by decide +kernel
theorem dX50_run_28 : decode cX50_run 28 = .ok (.putfield 27, 3) := by decide +kernel
theorem dX50_run_31 : decode cX50_run 31 = .ok (.aload_n 2, 1) := by decide +kernel
theorem dX50_run_32 : decode cX50_run 32 = .ok (.iload 4, 2) := by decide +kernel
theorem dX50_run_34 : decode cX50_run 34 = .ok (.aload_n 3, 1) := by decide +kernel
theorem dX50_run_35 : decode cX50_run 35 = .ok (.getfield 31, 3) := by decide +kernel
theorem dX50_run_38 : decode cX50_run 38 = .ok (.iconst 4, 1) := by decide +kernel
theorem dX50_run_39 : decode cX50_run 39 = .ok (.invokevirtual 35, 3) := by decide +kernel
theorem dX50_run_42 : decode cX50_run 42 = .ok (.istore 5, 2) := by decide +kernel
theorem dX50_run_44 : decode cX50_run 44 = .ok (.iload 5, 2) := by decide +kernel
theorem dX50_run_46 : decode cX50_run 46 = .ok (.ifCond .eq 28, 3) := by decide +kernel
theorem dX50_run_49 : decode cX50_run 49 = .ok (.iload 5, 2) := by decide +kernel
theorem dX50_run_51 : decode cX50_run 51 = .ok (.iconst 3, 1) := by decide +kernel
theorem dX50_run_52 : decode cX50_run 52 = .ok (.if_icmp .ne 8, 3) := by decide +kernel
theorem dX50_run_55 : decode cX50_run 55 = .ok (.bipush (-2), 2) := by decide +kernel
theorem dX50_run_57 : decode cX50_run 57 = .ok (.goto 16, 3) := by decide +kernel
theorem dX50_run_60 : decode cX50_run 60 = .ok (.iload 5, 2) := by decide +kernel
theorem dX50_run_62 : decode cX50_run 62 = .ok (.iconst 4, 1) := by decide +kernel
theorem dX50_run_63 : decode cX50_run 63 = .ok (.if_icmp .ne 8, 3) := by decide +kernel
theorem dX50_run_66 : decode cX50_run 66 = .ok (.bipush (-3), 2) := by decide +kernel
theorem dX50_run_68 : decode cX50_run 68 = .ok (.goto 5, 3) := by decide +kernel
theorem dX50_run_71 : decode cX50_run 71 = .ok (.bipush (-4), 2) := by decide +kernel
theorem dX50_run_73 : decode cX50_run 73 = .ok (.ireturn, 1) := by decide +kernel
theorem dX50_run_74 : decode cX50_run 74 = .ok (.aload_n 3, 1) := by decide +kernel
theorem dX50_run_75 : decode cX50_run 75 = .ok (.getfield 39, 3) := by decide +kernel
theorem dX50_run_78 : decode cX50_run 78 = .ok (.ldc2_w 42, 3) := by decide +kernel
theorem dX50_run_81 : decode cX50_run 81 = .ok (.lcmp, 1) := by decide +kernel
theorem dX50_run_82 : decode cX50_run 82 = .ok (.ifCond .le 6, 3) := by decide +kernel
theorem dX50_run_85 : decode cX50_run 85 = .ok (.bipush (-8), 2) := by decide +kernel
theorem dX50_run_87 : decode cX50_run 87 = .ok (.ireturn, 1) := by decide +kernel
theorem dX50_run_88 : decode cX50_run 88 = .ok (.aload_n 1, 1) := by decide +kernel
theorem dX50_run_89 : decode cX50_run 89 = .ok (.aload_n 2, 1) := by decide +kernel
theorem dX50_run_90 : decode cX50_run 90 = .ok (.getfield 21, 3) := by decide +kernel
theorem dX50_run_93 : decode cX50_run 93 = .ok (.iload 4, 2) := by decide +kernel
theorem dX50_run_95 : decode cX50_run 95 = .ok (.aaload, 1) := by decide +kernel
theorem dX50_run_96 : decode cX50_run 96 = .ok (.aload_n 3, 1) := by decide +kernel
theorem dX50_run_97 : decode cX50_run 97 = .ok (.getfield 39, 3) := by decide +kernel
theorem dX50_run_100 : decode cX50_run 100 = .ok (.l2i, 1) := by decide +kernel
theorem dX50_run_101 : decode cX50_run 101 = .ok (.invokevirtual 44, 3) := by decide +kernel
theorem dX50_run_104 : decode cX50_run 104 = .ok (.ifCond .eq 7, 3) := by decide +kernel
theorem dX50_run_107 : decode cX50_run 107 = .ok (.iconst 0, 1) := by decide +kernel
theorem dX50_run_108 : decode cX50_run 108 = .ok (.goto 5, 3) := by decide +kernel
theorem dX50_run_111 : decode cX50_run 111 = .ok (.bipush (-5), 2) := by decide +kernel
theorem dX50_run_113 : decode cX50_run 113 = .ok (.ireturn, 1) := by decide +kernel
theorem zy_X50_run : yX50_run.cls ≠ "java/lang/invoke/MethodHandle" ∧ yX50_run.cls ≠ "java/lang/invoke/VarHandle" ∧ (parseMethodDescriptor yX50_run.desc).map (fun d => d.parameters.length) = some 3 := by decide +kernel
theorem w_fX50_run_14 {K : zK} (E : zE K cX50_run "RingHouse$SetLength" (some .int) 5) (hN : zNl K = 6) (hT : zTr K = (some 0)) (x2 : Int) (x3 : Int) : zR K 0 [(0, 38, 14), (1, 14, 0), (2, 10, x2), (3, 11, x3)] [] (fX50_run_14 x2 x3) := by
  refine r_aload_n E dX50_run_0 rfl 2 rfl ?_
  refine r_aload_n E dX50_run_1 rfl 3 rfl ?_
  refine r_nn E (fun hn1 => ?_)
  refine r_getN E zc_11 zt_1000 dX50_run_2 q693 zr_11 (zg_1000 _) hn1 (fun v2 => ?_)
  refine r_callSN E [(10, x2), (1, v2)] [] rfl q2711 q2637 q239 q2638 dX50_run_5 zy_X12_isKnown rfl (by omega) (by decide) (Nat.le_of_ble_eq_true rfl) (fun l G => k_fX12_isKnown l G x2 v2) (fun v3 => ?_)
  refine r_if_ne E 13 (by decide) dX50_run_8 (fun _ => ?_) (fun _ => ?_)
  · refine r_aload_n E dX50_run_13 rfl 3 rfl ?_
    refine r_getN E zc_11 zt_1000 dX50_run_14 q693 zr_11 (zg_1000 _) hn1 (fun v4 => ?_)
    refine r_l2i E dX50_run_17 ?_
    refine r_let E (fun v5 ev5 => ?_)
    refine r_istore (ls' := [(4, 0, v5), (0, 38, 14), (1, 14, 0), (2, 10, x2), (3, 11, x3)]) E dX50_run_18 (by rw [hN]; decide) rfl ?_
    refine r_aload_n E dX50_run_20 rfl 2 rfl ?_
    refine r_aload_n E dX50_run_21 rfl 3 rfl ?_
    refine r_nn E (fun hn6 => ?_)
    refine r_gecN (y := x2) E zc_10 dX50_run_22 q911 zr_10 (zh_916 (by omega)) hn6 ?_
    refine r_iload E dX50_run_25 0 rfl ?_
    refine r_aaload E zc_916 za_916 zt_916 zx_916 rfl rfl dX50_run_27 hn6 (fun v7 => ?_)
    refine r_putN E zc_14 zt_1306 zo_1306 dX50_run_28 q1547 zr_14 zw_X12 zp_1306 (fun _ => rfl) (fun G => zfo G) (by decide) ?_
    refine r_aload_n E dX50_run_31 rfl 3 rfl ?_
    refine r_iload E dX50_run_32 0 rfl ?_
    refine r_aload_n E dX50_run_34 rfl 4 rfl ?_
    refine r_getN E zc_11 zt_1008 dX50_run_35 q770 zr_11 (zg_1008 _) hn1 (fun v8 => ?_)
    refine r_iconst E dX50_run_38 (zkI (by decide) (by decide)) ?_
    refine r_callV E [(0, v5), (0, v8), (0, 4)] [] rfl zc_10 zr_10 (fun o _ => ⟨_, zw_X8.1 o, rfl⟩) (lw_V q2712 q2227 q2228 q235 q2229) dX50_run_39 zy_X8_refusal rfl (by omega) (by decide) (Nat.le_of_ble_eq_true rfl) hn6 (fun l G => k_fX8_refusal l G x2 v5 v8 4 hn6) (fun v9 => ?_)
    refine r_istore (ls' := [(5, 0, v9), (4, 0, v5), (0, 38, 14), (1, 14, 0), (2, 10, x2), (3, 11, x3)]) E dX50_run_42 (by rw [hN]; decide) rfl ?_
    refine r_iload E dX50_run_44 0 rfl ?_
    refine r_if_eq E 74 (by decide) dX50_run_46 (fun _ => ?_) (fun _ => ?_)
    · refine r_aload_n E dX50_run_74 rfl 5 rfl ?_
      refine r_getN E zc_11 zt_1001 dX50_run_75 q729 zr_11 (zg_1001 _) hn1 (fun v10 => ?_)
      refine r_ldc2 (v := 1024) E dX50_run_78 q2713 (by decide) (zkJ (by decide) (by decide)) ?_
      refine r_lcmp_le E 88 (by decide) dX50_run_81 dX50_run_82 (fun _ => ?_) (fun _ => ?_)
      · refine r_aload_n E dX50_run_88 rfl 3 rfl ?_
        refine r_aload_n E dX50_run_89 rfl 4 rfl ?_
        refine r_gecN (y := x2) E zc_10 dX50_run_90 q911 zr_10 (zh_916 (by omega)) hn6 ?_
        refine r_iload E dX50_run_93 1 rfl ?_
        refine r_aaload E zc_916 za_916 zt_916 zx_916 rfl rfl dX50_run_95 hn6 (fun v11 => ?_)
        refine r_aload_n E dX50_run_96 rfl 5 rfl ?_
        refine r_getN E zc_11 zt_1001 dX50_run_97 q729 zr_11 (zg_1001 _) hn1 (fun v12 => ?_)
        refine r_l2i E dX50_run_100 ?_
        refine r_callVN E [(6, v11), (0, (zi v12))] [] rfl zc_14 zr_14 (fun o _ => ⟨_, zw_X12.1 o, rfl⟩) q2714 q2005 qs6 q239 q2006 dX50_run_101 zy_X12_newLength rfl (by omega) (by decide) (Nat.le_of_ble_eq_true rfl) (by decide) (fun l G => k_fX12_newLength l G v11 (zi v12)) (fun v13 => ?_)
        refine r_if_eq E 111 (by decide) dX50_run_104 (fun _ => ?_) (fun _ => ?_)
        · refine r_bipush E dX50_run_111 (by decide) (zkI (by decide) (by decide)) ?_
          exact r_ireturn E rfl hT dX50_run_113
        · refine r_iconst E dX50_run_107 (zkI (by decide) (by decide)) ?_
          refine r_goto E 113 (by decide) dX50_run_108 ?_
          exact r_ireturn E rfl hT dX50_run_113
      · refine r_bipush E dX50_run_85 (by decide) (zkI (by decide) (by decide)) ?_
        exact r_ireturn E rfl hT dX50_run_87
    · refine r_iload E dX50_run_49 0 rfl ?_
      refine r_iconst E dX50_run_51 (zkI (by decide) (by decide)) ?_
      refine r_icmp_ne E 60 (by decide) dX50_run_52 (fun _ => ?_) (fun _ => ?_)
      · refine r_iload E dX50_run_60 0 rfl ?_
        refine r_iconst E dX50_run_62 (zkI (by decide) (by decide)) ?_
        refine r_icmp_ne E 71 (by decide) dX50_run_63 (fun _ => ?_) (fun _ => ?_)
        · refine r_bipush E dX50_run_71 (by decide) (zkI (by decide) (by decide)) ?_
          exact r_ireturn E rfl hT dX50_run_73
        · refine r_bipush E dX50_run_66 (by decide) (zkI (by decide) (by decide)) ?_
          refine r_goto E 73 (by decide) dX50_run_68 ?_
          exact r_ireturn E rfl hT dX50_run_73
      · refine r_bipush E dX50_run_55 (by decide) (zkI (by decide) (by decide)) ?_
        refine r_goto E 73 (by decide) dX50_run_57 ?_
        exact r_ireturn E rfl hT dX50_run_73
  · refine r_iconst E dX50_run_11 (zkI (by decide) (by decide)) ?_
    exact r_ireturn E rfl hT dX50_run_12
theorem k_fX50_run_14 (l : Launch) (G : zG) (x2 : Int) (x3 : Int) : zCt l G yX50_run cX50_run 6 (some .int) 5 [(38, 14), (14, 0), (10, x2), (11, x3)] (some 0) (fX50_run_14 x2 x3) := zCt.of (by decide) (Nat.le_of_ble_eq_true rfl) (fun K E _ _ hN hT => w_fX50_run_14 E hN hT x2 x3)
theorem dX51_on_0 : decode cX51_on 0 = .ok (.aload_n 2, 1) := by decide +kernel
theorem dX51_on_1 : decode cX51_on 1 = .ok (.getfield 9, 3) := by decide +kernel
theorem dX51_on_4 : decode cX51_on 4 = .ok (.ifCond .ne 6, 3) := by decide +kernel
theorem dX51_on_7 : decode cX51_on 7 = .ok (.bipush (-7), 2) := by decide +kernel
theorem dX51_on_9 : decode cX51_on 9 = .ok (.ireturn, 1) := by decide +kernel
theorem dX51_on_10 : decode cX51_on 10 = .ok (.aload_n 2, 1) := by decide +kernel
theorem dX51_on_11 : decode cX51_on 11 = .ok (.invokevirtual 15, 3) := by decide +kernel
theorem dX51_on_14 : decode cX51_on 14 = .ok (.ifCond .eq 6, 3) := by decide +kernel
theorem dX51_on_17 : decode cX51_on 17 = .ok (.bipush (-3), 2) := by decide +kernel
theorem dX51_on_19 : decode cX51_on 19 = .ok (.ireturn, 1) := by decide +kernel
theorem dX51_on_20 : decode cX51_on 20 = .ok (.aload 4, 2) := by decide +kernel
theorem dX51_on_22 : decode cX51_on 22 = .ok (.getfield 19, 3) := by decide +kernel
theorem dX51_on_25 : decode cX51_on 25 = .ok (.aload_n 2, 1) := by decide +kernel
theorem dX51_on_26 : decode cX51_on 26 = .ok (.getfield 24, 3) := by decide +kernel
theorem dX51_on_29 : decode cX51_on 29 = .ok (.if_icmp .le 6, 3) := by decide +kernel
theorem dX51_on_32 : decode cX51_on 32 = .ok (.bipush (-4), 2) := by decide +kernel
theorem dX51_on_34 : decode cX51_on 34 = .ok (.ireturn, 1) := by decide +kernel
theorem dX51_on_35 : decode cX51_on 35 = .ok (.aload 4, 2) := by decide +kernel
theorem dX51_on_37 : decode cX51_on 37 = .ok (.getfield 27, 3) := by decide +kernel
theorem dX51_on_40 : decode cX51_on 40 = .ok (.lconst 1, 1) := by decide +kernel
theorem dX51_on_41 : decode cX51_on 41 = .ok (.ldc2_w 31, 3) := by decide +kernel
theorem dX51_on_44 : decode cX51_on 44 = .ok (.invokestatic 33, 3) := by decide +kernel
theorem dX51_on_47 : decode cX51_on 47 = .ok (.ifCond .ne 6, 3) := by decide +kernel
theorem dX51_on_50 : decode cX51_on 50 = .ok (.bipush (-8), 2) := by decide +kernel
theorem dX51_on_52 : decode cX51_on 52 = .ok (.ireturn, 1) := by decide +kernel
theorem dX51_on_53 : decode cX51_on 53 = .ok (.aload_n 1, 1) := by decide +kernel
theorem dX51_on_54 : decode cX51_on 54 = .ok (.getfield 37, 3) := by decide +kernel
theorem dX51_on_57 : decode cX51_on 57 = .ok (.aload_n 2, 1) := by decide +kernel
theorem dX51_on_58 : decode cX51_on 58 = .ok (.aload 4, 2) := by decide +kernel
theorem dX51_on_60 : decode cX51_on 60 = .ok (.getfield 27, 3) := by decide +kernel
theorem dX51_on_63 : decode cX51_on 63 = .ok (.l2i, 1) := by decide +kernel
theorem dX51_on_64 : decode cX51_on 64 = .ok (.invokevirtual 43, 3) := by decide +kernel
theorem dX51_on_67 : decode cX51_on 67 = .ok (.ifCond .eq 7, 3) := by decide +kernel
theorem dX51_on_70 : decode cX51_on 70 = .ok (.iconst 0, 1) := by decide +kernel
theorem dX51_on_71 : decode cX51_on 71 = .ok (.goto 5, 3) := by decide +kernel
theorem dX51_on_74 : decode cX51_on 74 = .ok (.bipush (-5), 2) := by decide +kernel
theorem dX51_on_76 : decode cX51_on 76 = .ok (.ireturn, 1) := by decide +kernel
theorem zy_X51_on : yX51_on.cls ≠ "java/lang/invoke/MethodHandle" ∧ yX51_on.cls ≠ "java/lang/invoke/VarHandle" ∧ (parseMethodDescriptor yX51_on.desc).map (fun d => d.parameters.length) = some 4 := by decide +kernel
theorem w_fX51_on_15 {K : zK} (E : zE K cX51_on "RingHouse$SetLimit" (some .int) 3) (hN : zNl K = 5) (hT : zTr K = (some 0)) (x2 : Int) (x3 : Int) (x4 : Int) : zR K 0 [(0, 38, 15), (1, 14, 0), (2, 6, x2), (3, 10, x3), (4, 11, x4)] [] (fX51_on_15 x2 x3 x4) := by
  refine r_aload_n E dX51_on_0 rfl 2 rfl ?_
  refine r_nn E (fun hn1 => ?_)
  refine r_getN E zc_6 zt_516 dX51_on_1 q452 zr_6 (zg_516 _) hn1 (fun v2 => ?_)
  refine r_if_ne E 10 (by decide) dX51_on_4 (fun _ => ?_) (fun _ => ?_)
  · refine r_aload_n E dX51_on_10 rfl 2 rfl ?_
    refine r_callV E [] [] rfl zc_6 zr_6 (fun o _ => ⟨_, zw_X4.1 o, rfl⟩) (lw_V q2619 q2541 q2542 q231 q2543) dX51_on_11 zy_X4_isUpgraded rfl (by omega) (by decide) (Nat.le_of_ble_eq_true rfl) hn1 (fun l G => k_fX4_isUpgraded l G x2 hn1) (fun v3 => ?_)
    refine r_if_eq E 20 (by decide) dX51_on_14 (fun _ => ?_) (fun _ => ?_)
    · refine r_aload E dX51_on_20 4 rfl ?_
      refine r_nn E (fun hn4 => ?_)
      refine r_getN E zc_11 zt_1008 dX51_on_22 q768 zr_11 (zg_1008 _) hn4 (fun v5 => ?_)
      refine r_aload_n E dX51_on_25 rfl 2 rfl ?_
      refine r_getN E zc_6 zt_509 dX51_on_26 q419 zr_6 (zg_509 _) hn1 (fun v6 => ?_)
      refine r_icmp_le E 35 (by decide) dX51_on_29 (fun _ => ?_) (fun _ => ?_)
      · refine r_aload E dX51_on_35 4 rfl ?_
        refine r_getN E zc_11 zt_1001 dX51_on_37 q722 zr_11 (zg_1001 _) hn4 (fun v7 => ?_)
        refine r_lconst (v := 1) E dX51_on_40 (by decide) (zkJ (by decide) (by decide)) ?_
        refine r_ldc2 (v := 255) E dX51_on_41 q2620 (by decide) (zkJ (by decide) (by decide)) ?_
        refine r_callSN E [(1, v7), (1, 1), (1, 255)] [] rfl q2621 q1835 q227 q1836 dX51_on_44 zy_X0_isIn rfl (by omega) (by decide) (Nat.le_of_ble_eq_true rfl) (fun l G => k_fX0_isIn l G v7 1 255) (fun v8 => ?_)
        refine r_if_ne E 53 (by decide) dX51_on_47 (fun _ => ?_) (fun _ => ?_)
        · refine r_aload_n E dX51_on_53 rfl 1 rfl ?_
          refine r_gecN (y := 0) E zc_14 dX51_on_54 q1531 zr_14 (zh_1300 (by decide)) (by decide) ?_
          refine r_aload_n E dX51_on_57 rfl 2 rfl ?_
          refine r_aload E dX51_on_58 4 rfl ?_
          refine r_getN E zc_11 zt_1001 dX51_on_60 q722 zr_11 (zg_1001 _) hn4 (fun v9 => ?_)
          refine r_l2i E dX51_on_63 ?_
          refine r_callV E [(6, x2), (0, (zi v9))] [] rfl zc_3 zr_3 (fun o _ => ⟨_, zw_X1.1 o, rfl⟩) (lw_V q2622 q2012 q2013 q228 q2014) dX51_on_64 zy_X1_limit rfl (by omega) (by decide) (Nat.le_of_ble_eq_true rfl) (by decide) (fun l G => k_fX1_limit l G x2 (zi v9)) (fun v10 => ?_)
          refine r_if_eq E 74 (by decide) dX51_on_67 (fun _ => ?_) (fun _ => ?_)
          · refine r_bipush E dX51_on_74 (by decide) (zkI (by decide) (by decide)) ?_
            exact r_ireturn E rfl hT dX51_on_76
          · refine r_iconst E dX51_on_70 (zkI (by decide) (by decide)) ?_
            refine r_goto E 76 (by decide) dX51_on_71 ?_
            exact r_ireturn E rfl hT dX51_on_76
        · refine r_bipush E dX51_on_50 (by decide) (zkI (by decide) (by decide)) ?_
          exact r_ireturn E rfl hT dX51_on_52
      · refine r_bipush E dX51_on_32 (by decide) (zkI (by decide) (by decide)) ?_
        exact r_ireturn E rfl hT dX51_on_34
    · refine r_bipush E dX51_on_17 (by decide) (zkI (by decide) (by decide)) ?_
      exact r_ireturn E rfl hT dX51_on_19
  · refine r_bipush E dX51_on_7 (by decide) (zkI (by decide) (by decide)) ?_
    exact r_ireturn E rfl hT dX51_on_9
theorem k_fX51_on_15 (l : Launch) (G : zG) (x2 : Int) (x3 : Int) (x4 : Int) : zCt l G yX51_on cX51_on 5 (some .int) 3 [(38, 15), (14, 0), (6, x2), (10, x3), (11, x4)] (some 0) (fX51_on_15 x2 x3 x4) := zCt.of (by decide) (Nat.le_of_ble_eq_true rfl) (fun K E _ _ hN hT => w_fX51_on_15 E hN hT x2 x3 x4)
theorem w_fX38_run_15 {K : zK} (E : zE K cX38_run "RingHouse$Entered" (some .int) 4) (hN : zNl K = 6) (hT : zTr K = (some 0)) (x2 : Int) (x3 : Int) : zR K 0 [(0, 38, 15), (1, 14, 0), (2, 10, x2), (3, 11, x3)] [] (fX38_run_15 x2 x3) := by
  refine r_aload_n E dX38_run_0 rfl 1 rfl ?_
  refine r_aload_n E dX38_run_1 rfl 2 rfl ?_
  refine r_nn E (fun hn1 => ?_)
  refine r_getN E zc_10 zt_920 dX38_run_2 q922 zr_10 (zg_920 _) hn1 (fun v2 => ?_)
  refine r_putN E zc_14 zt_1306 zo_1306 dX38_run_5 q1544 zr_14 zw_X12 zp_1306 (fun _ => rfl) (fun G => zfo G) (by decide) ?_
  refine r_aload_n E dX38_run_8 rfl 2 rfl ?_
  refine r_aload_n E dX38_run_9 rfl 2 rfl ?_
  refine r_getN E zc_10 zt_920 dX38_run_10 q922 zr_10 (zg_920 _) hn1 (fun v3 => ?_)
  refine r_aload_n E dX38_run_13 rfl 0 rfl ?_
  refine r_gec (y := 2) E zc_38 dX38_run_14 q1334 zr_38 (zh_38_15_0) (by decide) ?_
  refine r_callV E [(6, v3), (0, 2)] [] rfl zc_10 zr_10 (fun o _ => ⟨_, zw_X8.1 o, rfl⟩) (lw_V q2531 q2319 q2320 q235 q2321) dX38_run_17 zy_X8_refusal_2 rfl (by omega) (by decide) (Nat.le_of_ble_eq_true rfl) hn1 (fun l G => k_fX8_refusal_2 l G x2 v3 2 hn1) (fun v4 => ?_)
  refine r_istore (ls' := [(4, 0, v4), (0, 38, 15), (1, 14, 0), (2, 10, x2), (3, 11, x3)]) E dX38_run_20 (by rw [hN]; decide) rfl ?_
  refine r_iload E dX38_run_22 0 rfl ?_
  refine r_if_eq E 30 (by decide) dX38_run_24 (fun _ => ?_) (fun _ => ?_)
  · refine r_aload_n E dX38_run_30 rfl 4 rfl ?_
    refine r_nn E (fun hn5 => ?_)
    refine r_getN E zc_11 zt_1000 dX38_run_31 q701 zr_11 (zg_1000 _) hn5 (fun v6 => ?_)
    refine r_callSN E [(1, v6)] [] rfl q2532 q1842 q227 q1843 dX38_run_34 zy_X0_isName rfl (by omega) (by decide) (Nat.le_of_ble_eq_true rfl) (fun l G => k_fX0_isName l G v6) (fun v7 => ?_)
    refine r_if_ne E 43 (by decide) dX38_run_37 (fun _ => ?_) (fun _ => ?_)
    · refine r_aload_n E dX38_run_43 rfl 2 rfl ?_
      refine r_gecN (y := 0) E zc_14 dX38_run_44 q1530 zr_14 (zh_1300 (by decide)) (by decide) ?_
      refine r_gecN (y := 0) E zc_3 dX38_run_47 q589 zr_3 (zh_201 (by decide)) (by decide) ?_
      refine r_aload_n E dX38_run_50 rfl 3 rfl ?_
      refine r_getN E zc_10 zt_920 dX38_run_51 q922 zr_10 (zg_920 _) hn1 (fun v8 => ?_)
      refine r_aload_n E dX38_run_54 rfl 4 rfl ?_
      refine r_getN E zc_11 zt_1000 dX38_run_55 q701 zr_11 (zg_1000 _) hn5 (fun v9 => ?_)
      refine r_callV E [(6, v8), (1, v9)] [] rfl zc_4 zr_4 (fun o _ => ⟨_, zw_X2.1 o, rfl⟩) (lw_V q2533 q1866 q1867 q229 q1868) dX38_run_58 zy_X2_find rfl (by omega) (by decide) (Nat.le_of_ble_eq_true rfl) (by decide) (fun l G => k_fX2_find l G v8 v9) (fun v10 => ?_)
      refine r_astore (ls' := [(5, 6, v10), (4, 0, v4), (0, 38, 15), (1, 14, 0), (2, 10, x2), (3, 11, x3)]) E dX38_run_61 (by rw [hN]; decide) rfl ?_
      refine r_aload_n E dX38_run_63 rfl 3 rfl ?_
      refine r_aload E dX38_run_64 0 rfl ?_
      refine r_putN E zc_14 zt_1306 zo_1306 dX38_run_66 q1544 zr_14 zw_X12 zp_1306 (fun _ => rfl) (fun G => zfo G) (by decide) ?_
      refine r_aload E dX38_run_69 0 rfl ?_
      refine r_ifnonnull E 78 (by decide) dX38_run_71 (fun _ => ?_) (fun hz11 => ?_)
      · refine r_iconst E dX38_run_74 (zkI (by decide) (by decide)) ?_
        refine r_goto E 87 (by decide) dX38_run_75 ?_
        exact r_ireturn E rfl hT dX38_run_87
      · refine r_aload_n E dX38_run_78 rfl 2 rfl ?_
        refine r_aload_n E dX38_run_79 rfl 3 rfl ?_
        refine r_aload E dX38_run_80 0 rfl ?_
        refine r_aload_n E dX38_run_82 rfl 4 rfl ?_
        refine r_aload_n E dX38_run_83 rfl 5 rfl ?_
        refine r_callU (n := 4) (x := ⟨"RingHouse$Entered", "on", "(LRingHouse$Machine;LRingHouse$Node;LRingHouse$Process;LRingHouse$Registers;)I"⟩) (owner := "RingHouse$Entered") E [(14, 0), (6, v10), (10, x2), (11, x3)] [] rfl zc_38 zr_38 zk_38_15 q2534 q2536 q2616 q2617 q278 q2618 (Or.inr q2535) dX38_run_84 (by decide +kernel) rfl (by omega) (by decide) (Nat.le_of_ble_eq_true rfl) (by decide) (fun l G => k_fX51_on_15 l G v10 x2 x3) (fun v12 => ?_)
        exact r_ireturn E rfl hT dX38_run_87
    · refine r_bipush E dX38_run_40 (by decide) (zkI (by decide) (by decide)) ?_
      exact r_ireturn E rfl hT dX38_run_42
  · refine r_iload E dX38_run_27 0 rfl ?_
    exact r_ireturn E rfl hT dX38_run_29
theorem k_fX38_run_15 (l : Launch) (G : zG) (x2 : Int) (x3 : Int) : zCt l G yX38_run cX38_run 6 (some .int) 4 [(38, 15), (14, 0), (10, x2), (11, x3)] (some 0) (fX38_run_15 x2 x3) := zCt.of (by decide) (Nat.le_of_ble_eq_true rfl) (fun K E _ _ hN hT => w_fX38_run_15 E hN hT x2 x3)
theorem dX52_run_0 : decode cX52_run 0 = .ok (.aload_n 3, 1) := by decide +kernel
theorem dX52_run_1 : decode cX52_run 1 = .ok (.getfield 9, 3) := by decide +kernel
theorem dX52_run_4 : decode cX52_run 4 = .ok (.iconst 0, 1) := by decide +kernel
theorem dX52_run_5 : decode cX52_run 5 = .ok (.iaload, 1) := by decide +kernel
theorem dX52_run_6 : decode cX52_run 6 = .ok (.iconst 4, 1) := by decide +kernel
theorem dX52_run_7 : decode cX52_run 7 = .ok (.if_icmp .lt 6, 3) := by decide +kernel
theorem dX52_run_10 : decode cX52_run 10 = .ok (.bipush (-8), 2) := by decide +kernel
theorem dX52_run_12 : decode cX52_run 12 = .ok (.ireturn, 1) := by decide +kernel
theorem dX52_run_13 : decode cX52_run 13 = .ok (.aload_n 2, 1) := by decide +kernel
theorem dX52_run_14 : decode cX52_run 14 = .ok (.getfield 15, 3) := by decide +kernel
theorem dX52_run_17 : decode cX52_run 17 = .ok (.aload_n 3, 1) := by decide +kernel
theorem dX52_run_18 : decode cX52_run 18 = .ok (.getfield 9, 3) := by decide +kernel
theorem dX52_run_21 : decode cX52_run 21 = .ok (.iconst 0, 1) := by decide +kernel
theorem dX52_run_22 : decode cX52_run 22 = .ok (.iaload, 1) := by decide +kernel
theorem dX52_run_23 : decode cX52_run 23 = .ok (.aload_n 3, 1) := by decide +kernel
theorem dX52_run_24 : decode cX52_run 24 = .ok (.getfield 21, 3) := by decide +kernel
theorem dX52_run_27 : decode cX52_run 27 = .ok (.lconst 0, 1) := by decide +kernel
theorem dX52_run_28 : decode cX52_run 28 = .ok (.lcmp, 1) := by decide +kernel
theorem dX52_run_29 : decode cX52_run 29 = .ok (.ifCond .ne 7, 3) := by decide +kernel
theorem dX52_run_32 : decode cX52_run 32 = .ok (.aconst_null, 1) := by decide +kernel
theorem dX52_run_33 : decode cX52_run 33 = .ok (.goto 7, 3) := by decide +kernel
theorem dX52_run_36 : decode cX52_run 36 = .ok (.aload_n 2, 1) := by decide +kernel
theorem dX52_run_37 : decode cX52_run 37 = .ok (.getfield 25, 3) := by decide +kernel
theorem dX52_run_40 : decode cX52_run 40 = .ok (.aastore, 1) := by decide +kernel
theorem dX52_run_41 : decode cX52_run 41 = .ok (.iconst 0, 1) := by decide +kernel
theorem dX52_run_42 : decode cX52_run 42 = .ok (.ireturn, 1) := by decide +kernel
theorem zy_X52_run : yX52_run.cls ≠ "java/lang/invoke/MethodHandle" ∧ yX52_run.cls ≠ "java/lang/invoke/VarHandle" ∧ (parseMethodDescriptor yX52_run.desc).map (fun d => d.parameters.length) = some 3 := by decide +kernel
theorem w_fX52_run_16_J40 {K : zK} (E : zE K cX52_run "RingHouse$Search" (some .int) 0) (hN : zNl K = 4) (hT : zTr K = (some 0)) (s0 : Int) (s1 : Int) (s2 : Int) (hs0 : 0 ≤ s0) : zR K 40 [] [(6, s2), (0, s1), (921, s0)] (fX52_run_16_J40 s0 s1 s2) := by
  refine r_aastore E zc_921 zc_6 za_921 zt_921 zo_921 zx_921 zr_6 zw_X4 rfl rfl dX52_run_40 hs0 ?_
  refine r_iconst E dX52_run_41 (zkI (by decide) (by decide)) ?_
  exact r_ireturn E rfl hT dX52_run_42
theorem w_fX52_run_16 {K : zK} (E : zE K cX52_run "RingHouse$Search" (some .int) 0) (hN : zNl K = 4) (hT : zTr K = (some 0)) (x2 : Int) (x3 : Int) : zR K 0 [(0, 38, 16), (1, 14, 0), (2, 10, x2), (3, 11, x3)] [] (fX52_run_16 x2 x3) := by
  refine r_aload_n E dX52_run_0 rfl 3 rfl ?_
  refine r_nn E (fun hn1 => ?_)
  refine r_gecN (y := x3) E zc_11 dX52_run_1 q734 zr_11 (zh_1002 (by omega)) hn1 ?_
  refine r_iconst E dX52_run_4 (zkI (by decide) (by decide)) ?_
  refine r_iaload E zc_1002 za_1002 zt_1002 zx_1002 rfl rfl dX52_run_5 hn1 (fun v2 => ?_)
  refine r_iconst E dX52_run_6 (zkI (by decide) (by decide)) ?_
  refine r_icmp_lt E 13 (by decide) dX52_run_7 (fun _ => ?_) (fun _ => ?_)
  · refine r_aload_n E dX52_run_13 rfl 2 rfl ?_
    refine r_nn E (fun hn3 => ?_)
    refine r_gecN (y := x2) E zc_10 dX52_run_14 q933 zr_10 (zh_921 (by omega)) hn3 ?_
    refine r_aload_n E dX52_run_17 rfl 3 rfl ?_
    refine r_gecN (y := x3) E zc_11 dX52_run_18 q734 zr_11 (zh_1002 (by omega)) hn1 ?_
    refine r_iconst E dX52_run_21 (zkI (by decide) (by decide)) ?_
    refine r_iaload E zc_1002 za_1002 zt_1002 zx_1002 rfl rfl dX52_run_22 hn1 (fun v4 => ?_)
    refine r_aload_n E dX52_run_23 rfl 3 rfl ?_
    refine r_getN E zc_11 zt_1000 dX52_run_24 q697 zr_11 (zg_1000 _) hn1 (fun v5 => ?_)
    refine r_lconst (v := 0) E dX52_run_27 (by decide) (zkJ (by decide) (by decide)) ?_
    refine r_lcmp_ne E 36 (by decide) dX52_run_28 dX52_run_29 (fun _ => ?_) (fun _ => ?_)
    · refine r_aload_n E dX52_run_36 rfl 2 rfl ?_
      refine r_getN E zc_10 zt_920 dX52_run_37 q928 zr_10 (zg_920 _) hn3 (fun v6 => ?_)
      refine r_pick E [] rfl ?_
      exact w_fX52_run_16_J40 E hN hT x2 v4 v6 hn3
    · refine r_null E 4 dX52_run_32 ?_
      refine r_goto E 40 (by decide) dX52_run_33 ?_
      refine r_pick E [] rfl ?_
      exact w_fX52_run_16_J40 E hN hT x2 v4 (-1) hn3
  · refine r_bipush E dX52_run_10 (by decide) (zkI (by decide) (by decide)) ?_
    exact r_ireturn E rfl hT dX52_run_12
theorem k_fX52_run_16 (l : Launch) (G : zG) (x2 : Int) (x3 : Int) : zCt l G yX52_run cX52_run 4 (some .int) 0 [(38, 16), (14, 0), (10, x2), (11, x3)] (some 0) (fX52_run_16 x2 x3) := zCt.of (by decide) (Nat.le_of_ble_eq_true rfl) (fun K E _ _ hN hT => w_fX52_run_16 E hN hT x2 x3)
theorem dX53_run_0 : decode cX53_run 0 = .ok (.aload_n 2, 1) := by decide +kernel
theorem dX53_run_1 : decode cX53_run 1 = .ok (.aload_n 3, 1) := by decide +kernel
theorem dX53_run_2 : decode cX53_run 2 = .ok (.getfield 7, 3) := by decide +kernel
theorem dX53_run_5 : decode cX53_run 5 = .ok (.lconst 0, 1) := by decide +kernel
theorem dX53_run_6 : decode cX53_run 6 = .ok (.lcmp, 1) := by decide +kernel
theorem dX53_run_7 : decode cX53_run 7 = .ok (.ifCond .eq 7, 3) := by decide +kernel
theorem dX53_run_10 : decode cX53_run 10 = .ok (.iconst 1, 1) := by decide +kernel
theorem dX53_run_11 : decode cX53_run 11 = .ok (.goto 4, 3) := by decide +kernel
theorem dX53_run_14 : decode cX53_run 14 = .ok (.iconst 0, 1) := by decide +kernel
theorem dX53_run_15 : decode cX53_run 15 = .ok (.putfield 13, 3) := by decide +kernel
theorem dX53_run_18 : decode cX53_run 18 = .ok (.aload_n 2, 1) := by decide +kernel
theorem dX53_run_19 : decode cX53_run 19 = .ok (.aload_n 3, 1) := by decide +kernel
theorem dX53_run_20 : decode cX53_run 20 = .ok (.getfield 19, 3) := by decide +kernel
theorem dX53_run_23 : decode cX53_run 23 = .ok (.iconst 0, 1) := by decide +kernel
theorem dX53_run_24 : decode cX53_run 24 = .ok (.iaload, 1) := by decide +kernel
theorem dX53_run_25 : decode cX53_run 25 = .ok (.putfield 23, 3) := by decide +kernel
theorem dX53_run_28 : decode cX53_run 28 = .ok (.aload_n 2, 1) := by decide +kernel
theorem dX53_run_29 : decode cX53_run 29 = .ok (.aload_n 3, 1) := by decide +kernel
theorem dX53_run_30 : decode cX53_run 30 = .ok (.getfield 27, 3) := by decide +kernel
theorem dX53_run_33 : decode cX53_run 33 = .ok (.iconst 0, 1) := by decide +kernel
theorem dX53_run_34 : decode cX53_run 34 = .ok (.iaload, 1) := by decide +kernel
theorem dX53_run_35 : decode cX53_run 35 = .ok (.putfield 30, 3) := by decide +kernel
theorem dX53_run_38 : decode cX53_run 38 = .ok (.aload_n 2, 1) := by decide +kernel
theorem dX53_run_39 : decode cX53_run 39 = .ok (.aload_n 3, 1) := by decide +kernel
theorem dX53_run_40 : decode cX53_run 40 = .ok (.getfield 33, 3) := by decide +kernel
theorem dX53_run_43 : decode cX53_run 43 = .ok (.putfield 36, 3) := by decide +kernel
theorem dX53_run_46 : decode cX53_run 46 = .ok (.iconst 0, 1) := by decide +kernel
theorem dX53_run_47 : decode cX53_run 47 = .ok (.ireturn, 1) := by decide +kernel
theorem zy_X53_run : yX53_run.cls ≠ "java/lang/invoke/MethodHandle" ∧ yX53_run.cls ≠ "java/lang/invoke/VarHandle" ∧ (parseMethodDescriptor yX53_run.desc).map (fun d => d.parameters.length) = some 3 := by decide +kernel
theorem w_fX53_run_17_J15 {K : zK} (E : zE K cX53_run "RingHouse$Handle" (some .int) 0) (hN : zNl K = 4) (hT : zTr K = (some 0)) (x2 : Int) (x3 : Int) (s0 : Int) (s1 : Int) : zR K 15 [(2, 10, x2), (3, 11, x3)] [(0, s1), (10, s0)] (fX53_run_17_J15 x2 x3 s0 s1) := by
  refine r_nn E (fun hn3 => ?_)
  refine r_pb (fun hb4 => ?_)
  refine r_putN E zc_10 zt_911 zo_911 dX53_run_15 q898 zr_10 zw_X8 zp_911 (znb hb4) (zfb hb4) hn3 ?_
  refine r_aload_n E dX53_run_18 rfl 0 rfl ?_
  refine r_aload_n E dX53_run_19 rfl 1 rfl ?_
  refine r_nn E (fun hn5 => ?_)
  refine r_gecN (y := x3) E zc_11 dX53_run_20 q748 zr_11 (zh_1003 (by omega)) hn5 ?_
  refine r_iconst E dX53_run_23 (zkI (by decide) (by decide)) ?_
  refine r_iaload E zc_1003 za_1003 zt_1003 zx_1003 rfl rfl dX53_run_24 hn5 (fun v6 => ?_)
  refine r_nn E (fun hn7 => ?_)
  refine r_putN E zc_10 zt_912 zo_912 dX53_run_25 q901 zr_10 zw_X8 zp_912 (fun _ => rfl) (fun _ => rfl) hn7 ?_
  refine r_aload_n E dX53_run_28 rfl 0 rfl ?_
  refine r_aload_n E dX53_run_29 rfl 1 rfl ?_
  refine r_gecN (y := x3) E zc_11 dX53_run_30 q751 zr_11 (zh_1004 (by omega)) hn5 ?_
  refine r_iconst E dX53_run_33 (zkI (by decide) (by decide)) ?_
  refine r_iaload E zc_1004 za_1004 zt_1004 zx_1004 rfl rfl dX53_run_34 hn5 (fun v8 => ?_)
  refine r_putN E zc_10 zt_913 zo_913 dX53_run_35 q903 zr_10 zw_X8 zp_913 (fun _ => rfl) (fun _ => rfl) hn7 ?_
  refine r_aload_n E dX53_run_38 rfl 0 rfl ?_
  refine r_aload_n E dX53_run_39 rfl 1 rfl ?_
  refine r_getN E zc_11 zt_1008 dX53_run_40 q771 zr_11 (zg_1008 _) hn5 (fun v9 => ?_)
  refine r_putN E zc_10 zt_914 zo_914 dX53_run_43 q905 zr_10 zw_X8 zp_914 (fun _ => rfl) (fun _ => rfl) hn7 ?_
  refine r_iconst E dX53_run_46 (zkI (by decide) (by decide)) ?_
  exact r_ireturn E rfl hT dX53_run_47
theorem w_fX53_run_17 {K : zK} (E : zE K cX53_run "RingHouse$Handle" (some .int) 0) (hN : zNl K = 4) (hT : zTr K = (some 0)) (x2 : Int) (x3 : Int) : zR K 0 [(0, 38, 17), (1, 14, 0), (2, 10, x2), (3, 11, x3)] [] (fX53_run_17 x2 x3) := by
  refine r_aload_n E dX53_run_0 rfl 2 rfl ?_
  refine r_aload_n E dX53_run_1 rfl 3 rfl ?_
  refine r_nn E (fun hn1 => ?_)
  refine r_getN E zc_11 zt_1000 dX53_run_2 q692 zr_11 (zg_1000 _) hn1 (fun v2 => ?_)
  refine r_lconst (v := 0) E dX53_run_5 (by decide) (zkJ (by decide) (by decide)) ?_
  refine r_lcmp_eq E 14 (by decide) dX53_run_6 dX53_run_7 (fun _ => ?_) (fun _ => ?_)
  · refine r_iconst E dX53_run_14 (zkI (by decide) (by decide)) ?_
    refine r_pick E [2, 3] rfl ?_
    exact w_fX53_run_17_J15 E hN hT x2 x3 x2 0
  · refine r_iconst E dX53_run_10 (zkI (by decide) (by decide)) ?_
    refine r_goto E 15 (by decide) dX53_run_11 ?_
    refine r_pick E [2, 3] rfl ?_
    exact w_fX53_run_17_J15 E hN hT x2 x3 x2 1
theorem k_fX53_run_17 (l : Launch) (G : zG) (x2 : Int) (x3 : Int) : zCt l G yX53_run cX53_run 4 (some .int) 0 [(38, 17), (14, 0), (10, x2), (11, x3)] (some 0) (fX53_run_17 x2 x3) := zCt.of (by decide) (Nat.le_of_ble_eq_true rfl) (fun K E _ _ hN hT => w_fX53_run_17 E hN hT x2 x3)
theorem dX54_run_0 : decode cX54_run 0 = .ok (.aload_n 2, 1) := by decide +kernel
theorem dX54_run_1 : decode cX54_run 1 = .ok (.getfield 9, 3) := by decide +kernel
theorem dX54_run_4 : decode cX54_run 4 = .ok (.ifCond .ne 5, 3) := by decide +kernel
theorem dX54_run_7 : decode cX54_run 7 = .ok (.iconst (-1), 1) := by decide +kernel
theorem dX54_run_8 : decode cX54_run 8 = .ok (.ireturn, 1) := by decide +kernel
theorem dX54_run_9 : decode cX54_run 9 = .ok (.aload_n 2, 1) := by decide +kernel
theorem dX54_run_10 : decode cX54_run 10 = .ok (.getfield 15, 3) := by decide +kernel
theorem dX54_run_13 : decode cX54_run 13 = .ok (.aload_n 2, 1) := by decide +kernel
theorem dX54_run_14 : decode cX54_run 14 = .ok (.getfield 9, 3) := by decide +kernel
theorem dX54_run_17 : decode cX54_run 17 = .ok (.iconst 1, 1) := by decide +kernel
theorem dX54_run_18 : decode cX54_run 18 = .ok (.isub, 1) := by decide +kernel
theorem dX54_run_19 : decode cX54_run 19 = .ok (.aaload, 1) := by decide +kernel
theorem dX54_run_20 : decode cX54_run 20 = .ok (.astore 4, 2) := by decide +kernel
theorem dX54_run_22 : decode cX54_run 22 = .ok (.aload_n 3, 1) := by decide +kernel
theorem dX54_run_23 : decode cX54_run 23 = .ok (.getfield 19, 3) := by decide +kernel
theorem dX54_run_26 : decode cX54_run 26 = .ok (.aload 4, 2) := by decide +kernel
theorem dX54_run_28 : decode cX54_run 28 = .ok (.getfield 19, 3) := by decide +kernel
theorem dX54_run_31 : decode cX54_run 31 = .ok (.if_icmp .le 6, 3) := by decide +kernel
theorem dX54_run_34 : decode cX54_run 34 = .ok (.bipush (-4), 2) := by decide +kernel
theorem dX54_run_36 : decode cX54_run 36 = .ok (.ireturn, 1) := by decide +kernel
theorem dX54_run_37 : decode cX54_run 37 = .ok (.aload_n 3, 1) := by decide +kernel
theorem dX54_run_38 : decode cX54_run 38 = .ok (.getfield 24, 3) := by decide +kernel
theorem dX54_run_41 : decode cX54_run 41 = .ok (.iconst 0, 1) := by decide +kernel
theorem dX54_run_42 : decode cX54_run 42 = .ok (.iaload, 1) := by decide +kernel
theorem dX54_run_43 : decode cX54_run 43 = .ok (.ifCond .ne 7, 3) := by decide +kernel
theorem dX54_run_46 : decode cX54_run 46 = .ok (.iconst 1, 1) := by decide +kernel
theorem dX54_run_47 : decode cX54_run 47 = .ok (.goto 4, 3) := by decide +kernel
theorem dX54_run_50 : decode cX54_run 50 = .ok (.iconst 0, 1) := by decide +kernel
theorem dX54_run_51 : decode cX54_run 51 = .ok (.istore 5, 2) := by decide +kernel
theorem dX54_run_53 : decode cX54_run 53 = .ok (.aload_n 3, 1) := by decide +kernel
theorem dX54_run_54 : decode cX54_run 54 = .ok (.aload 4, 2) := by decide +kernel
theorem dX54_run_56 : decode cX54_run 56 = .ok (.invokevirtual 28, 3) := by decide +kernel
theorem dX54_run_59 : decode cX54_run 59 = .ok (.aload_n 3, 1) := by decide +kernel
theorem dX54_run_60 : decode cX54_run 60 = .ok (.iload 5, 2) := by decide +kernel
theorem dX54_run_62 : decode cX54_run 62 = .ok (.ifCond .eq 10, 3) := by decide +kernel
theorem dX54_run_65 : decode cX54_run 65 = .ok (.aload_n 3, 1) := by decide +kernel
theorem dX54_run_66 : decode cX54_run 66 = .ok (.getfield 32, 3) := by decide +kernel
theorem dX54_run_69 : decode cX54_run 69 = .ok (.goto 12, 3) := by decide +kernel
theorem dX54_run_72 : decode cX54_run 72 = .ok (.aload_n 3, 1) := by decide +kernel
theorem dX54_run_73 : decode cX54_run 73 = .ok (.getfield 32, 3) := by decide +kernel
theorem dX54_run_76 : decode cX54_run 76 = .ok (.iconst 1, 1) := by decide +kernel
theorem dX54_run_77 : decode cX54_run 77 = .ok (.iadd, 1) := by decide +kernel
theorem dX54_run_78 : decode cX54_run 78 = .ok (.ldc 35, 2) := by decide +kernel
theorem dX54_run_80 : decode cX54_run 80 = .ok (.iand, 1) := by decide +kernel
theorem dX54_run_81 : decode cX54_run 81 = .ok (.putfield 32, 3) := by decide +kernel
theorem dX54_run_84 : decode cX54_run 84 = .ok (.aload_n 2, 1) := by decide +kernel
theorem dX54_run_85 : decode cX54_run 85 = .ok (.dup, 1) := by decide +kernel
theorem dX54_run_86 : decode cX54_run 86 = .ok (.getfield 9, 3) := by decide +kernel
theorem dX54_run_89 : decode cX54_run 89 = .ok (.iconst 1, 1) := by decide +kernel
theorem dX54_run_90 : decode cX54_run 90 = .ok (.isub, 1) := by decide +kernel
theorem dX54_run_91 : decode cX54_run 91 = .ok (.putfield 9, 3) := by decide +kernel
theorem dX54_run_94 : decode cX54_run 94 = .ok (.aload_n 1, 1) := by decide +kernel
theorem dX54_run_95 : decode cX54_run 95 = .ok (.iconst 1, 1) := by decide +kernel
theorem dX54_run_96 : decode cX54_run 96 = .ok (.putfield 36, 3) := by decide +kernel
theorem dX54_run_99 : decode cX54_run 99 = .ok (.iconst 1, 1) := by decide +kernel
theorem dX54_run_100 : decode cX54_run 100 = .ok (.ireturn, 1) := by decide +kernel
theorem zy_X54_run : yX54_run.cls ≠ "java/lang/invoke/MethodHandle" ∧ yX54_run.cls ≠ "java/lang/invoke/VarHandle" ∧ (parseMethodDescriptor yX54_run.desc).map (fun d => d.parameters.length) = some 3 := by decide +kernel
theorem w_fX54_run_18_J81 {K : zK} (E : zE K cX54_run "RingHouse$Resume" (some .int) 2) (hN : zNl K = 6) (hT : zTr K = (some 0)) (x2 : Int) (s0 : Int) (s1 : Int) : zR K 81 [(1, 14, 0), (2, 10, x2)] [(0, s1), (11, s0)] (fX54_run_18_J81 x2 s0 s1) := by
  refine r_nn E (fun hn14 => ?_)
  refine r_putN E zc_11 zt_1007 zo_1007 dX54_run_81 q759 zr_11 zw_X9 zp_1007 (fun _ => rfl) (fun _ => rfl) hn14 ?_
  refine r_aload_n E dX54_run_84 rfl 1 rfl ?_
  refine r_dup E (zn1 rfl) dX54_run_85 ?_
  refine r_nn E (fun hn15 => ?_)
  refine r_getN E zc_10 zt_910 dX54_run_86 q895 zr_10 (zg_910 _) hn15 (fun v16 => ?_)
  refine r_iconst E dX54_run_89 (zkI (by decide) (by decide)) ?_
  refine r_isub E dX54_run_90 ?_
  refine r_putN E zc_10 zt_910 zo_910 dX54_run_91 q895 zr_10 zw_X8 zp_910 (fun _ => rfl) (fun _ => rfl) hn15 ?_
  refine r_aload_n E dX54_run_94 rfl 0 rfl ?_
  refine r_iconst E dX54_run_95 (zkI (by decide) (by decide)) ?_
  refine r_putN E zc_14 zt_1314 zo_1314 dX54_run_96 q1588 zr_14 zw_X12 zp_1314 (znb (by decide)) (zfb (by decide)) (by decide) ?_
  refine r_iconst E dX54_run_99 (zkI (by decide) (by decide)) ?_
  exact r_ireturn E rfl hT dX54_run_100
theorem w_fX54_run_18_J51 {K : zK} (E : zE K cX54_run "RingHouse$Resume" (some .int) 2) (hN : zNl K = 6) (hT : zTr K = (some 0)) (x2 : Int) (x3 : Int) (x4 : Int) (s0 : Int) : zR K 51 [(1, 14, 0), (2, 10, x2), (3, 11, x3), (4, 11, x4)] [(0, s0)] (fX54_run_18_J51 x2 x3 x4 s0) := by
  refine r_istore (ls' := [(5, 0, s0), (1, 14, 0), (2, 10, x2), (3, 11, x3), (4, 11, x4)]) E dX54_run_51 (by rw [hN]; decide) rfl ?_
  refine r_aload_n E dX54_run_53 rfl 3 rfl ?_
  refine r_aload E dX54_run_54 4 rfl ?_
  refine r_nn E (fun hn11 => ?_)
  refine r_callV E [(11, x4)] [] rfl zc_11 zr_11 (fun o _ => ⟨_, zw_X9.1 o, rfl⟩) (lw_V q2680 q2219 q2220 q236 q2221) dX54_run_56 zy_X9_copy rfl (by omega) (by decide) (Nat.le_of_ble_eq_true rfl) hn11 (fun l G => k_fX9_copy l G x3 x4 hn11) (fun _ => ?_)
  refine r_aload_n E dX54_run_59 rfl 3 rfl ?_
  refine r_iload E dX54_run_60 0 rfl ?_
  refine r_if_eq E 72 (by decide) dX54_run_62 (fun _ => ?_) (fun _ => ?_)
  · refine r_aload_n E dX54_run_72 rfl 3 rfl ?_
    refine r_getN E zc_11 zt_1007 dX54_run_73 q759 zr_11 (zg_1007 _) hn11 (fun v13 => ?_)
    refine r_iconst E dX54_run_76 (zkI (by decide) (by decide)) ?_
    refine r_iadd E dX54_run_77 ?_
    refine r_ldc (v := 262143) E dX54_run_78 q2681 (by decide) (zkI (by decide) (by decide)) ?_
    refine r_imask (P := 262144) E 18 (by decide) (by decide) (by decide) dX54_run_80 ?_
    refine r_pick E [1, 2] rfl ?_
    exact w_fX54_run_18_J81 E hN hT x2 x3 ((zi (v13 + 1)) % 262144)
  · refine r_aload_n E dX54_run_65 rfl 3 rfl ?_
    refine r_getN E zc_11 zt_1007 dX54_run_66 q759 zr_11 (zg_1007 _) hn11 (fun v17 => ?_)
    refine r_goto E 81 (by decide) dX54_run_69 ?_
    refine r_pick E [1, 2] rfl ?_
    exact w_fX54_run_18_J81 E hN hT x2 x3 v17
theorem w_fX54_run_18 {K : zK} (E : zE K cX54_run "RingHouse$Resume" (some .int) 2) (hN : zNl K = 6) (hT : zTr K = (some 0)) (x2 : Int) (x3 : Int) : zR K 0 [(0, 38, 18), (1, 14, 0), (2, 10, x2), (3, 11, x3)] [] (fX54_run_18 x2 x3) := by
  refine r_aload_n E dX54_run_0 rfl 2 rfl ?_
  refine r_nn E (fun hn1 => ?_)
  refine r_getN E zc_10 zt_910 dX54_run_1 q895 zr_10 (zg_910 _) hn1 (fun v2 => ?_)
  refine r_if_ne E 9 (by decide) dX54_run_4 (fun _ => ?_) (fun _ => ?_)
  · refine r_aload_n E dX54_run_9 rfl 2 rfl ?_
    refine r_gecN (y := x2) E zc_10 dX54_run_10 q894 zr_10 (zh_909 (by omega)) hn1 ?_
    refine r_aload_n E dX54_run_13 rfl 2 rfl ?_
    refine r_getN E zc_10 zt_910 dX54_run_14 q895 zr_10 (zg_910 _) hn1 (fun v3 => ?_)
    refine r_iconst E dX54_run_17 (zkI (by decide) (by decide)) ?_
    refine r_isub E dX54_run_18 ?_
    refine r_aaloc (y := (4 * x2 + 8 + (zi (v3 - 1)))) E zc_909 za_909 zt_909 zx_909 rfl rfl (by omega) dX54_run_19 hn1 (fun hi5 => ?_)
    refine r_let E (fun v6 ev6 => ?_)
    refine r_astore (ls' := [(4, 11, v6), (0, 38, 18), (1, 14, 0), (2, 10, x2), (3, 11, x3)]) E dX54_run_20 (by rw [hN]; decide) rfl ?_
    refine r_aload_n E dX54_run_22 rfl 4 rfl ?_
    refine r_nn E (fun hn7 => ?_)
    refine r_getN E zc_11 zt_1008 dX54_run_23 q769 zr_11 (zg_1008 _) hn7 (fun v8 => ?_)
    refine r_aload E dX54_run_26 0 rfl ?_
    refine r_getN E zc_11 zt_1008 dX54_run_28 q769 zr_11 (zg_1008 _) (by omega) (fun v9 => ?_)
    refine r_icmp_le E 37 (by decide) dX54_run_31 (fun _ => ?_) (fun _ => ?_)
    · refine r_aload_n E dX54_run_37 rfl 4 rfl ?_
      refine r_gecN (y := x3) E zc_11 dX54_run_38 q740 zr_11 (zh_1002 (by omega)) hn7 ?_
      refine r_iconst E dX54_run_41 (zkI (by decide) (by decide)) ?_
      refine r_iaload E zc_1002 za_1002 zt_1002 zx_1002 rfl rfl dX54_run_42 hn7 (fun v10 => ?_)
      refine r_if_ne E 50 (by decide) dX54_run_43 (fun _ => ?_) (fun _ => ?_)
      · refine r_iconst E dX54_run_50 (zkI (by decide) (by decide)) ?_
        refine r_pick E [2, 3, 4, 0] rfl ?_
        exact w_fX54_run_18_J51 E hN hT x2 x3 v6 0
      · refine r_iconst E dX54_run_46 (zkI (by decide) (by decide)) ?_
        refine r_goto E 51 (by decide) dX54_run_47 ?_
        refine r_pick E [2, 3, 4, 0] rfl ?_
        exact w_fX54_run_18_J51 E hN hT x2 x3 v6 1
    · refine r_bipush E dX54_run_34 (by decide) (zkI (by decide) (by decide)) ?_
      exact r_ireturn E rfl hT dX54_run_36
  · refine r_iconst E dX54_run_7 (zkI (by decide) (by decide)) ?_
    exact r_ireturn E rfl hT dX54_run_8
theorem k_fX54_run_18 (l : Launch) (G : zG) (x2 : Int) (x3 : Int) : zCt l G yX54_run cX54_run 6 (some .int) 2 [(38, 18), (14, 0), (10, x2), (11, x3)] (some 0) (fX54_run_18 x2 x3) := zCt.of (by decide) (Nat.le_of_ble_eq_true rfl) (fun K E _ _ hN hT => w_fX54_run_18 E hN hT x2 x3)
theorem dX55_run_0 : decode cX55_run 0 = .ok (.aload_n 3, 1) := by decide +kernel
theorem dX55_run_1 : decode cX55_run 1 = .ok (.getfield 9, 3) := by decide +kernel
theorem dX55_run_4 : decode cX55_run 4 = .ok (.iconst 0, 1) := by decide +kernel
theorem dX55_run_5 : decode cX55_run 5 = .ok (.iaload, 1) := by decide +kernel
theorem dX55_run_6 : decode cX55_run 6 = .ok (.bipush 8, 2) := by decide +kernel
theorem dX55_run_8 : decode cX55_run 8 = .ok (.if_icmp .ge 56, 3) := by decide +kernel
theorem dX55_run_11 : decode cX55_run 11 = .ok (.aload_n 1, 1) := by decide +kernel
theorem dX55_run_12 : decode cX55_run 12 = .ok (.getfield 15, 3) := by decide +kernel
theorem dX55_run_15 : decode cX55_run 15 = .ok (.aload_n 3, 1) := by decide +kernel
theorem dX55_run_16 : decode cX55_run 16 = .ok (.getfield 9, 3) := by decide +kernel
theorem dX55_run_19 : decode cX55_run 19 = .ok (.iconst 0, 1) := by decide +kernel
theorem dX55_run_20 : decode cX55_run 20 = .ok (.iaload, 1) := by decide +kernel
theorem dX55_run_21 : decode cX55_run 21 = .ok (.aaload, 1) := by decide +kernel
theorem dX55_run_22 : decode cX55_run 22 = .ok (.astore 4, 2) := by decide +kernel
theorem dX55_run_24 : decode cX55_run 24 = .ok (.aload 4, 2) := by decide +kernel
theorem dX55_run_26 : decode cX55_run 26 = .ok (.getfield 21, 3) := by decide +kernel
theorem dX55_run_29 : decode cX55_run 29 = .ok (.ifCond .eq 35, 3) := by decide +kernel
theorem dX55_run_32 : decode cX55_run 32 = .ok (.aload 4, 2) := by decide +kernel
theorem dX55_run_34 : decode cX55_run 34 = .ok (.getfield 27, 3) := by decide +kernel
theorem dX55_run_37 : decode cX55_run 37 = .ok (.aload_n 2, 1) := by decide +kernel
theorem dX55_run_38 : decode cX55_run 38 = .ok (.getfield 27, 3) := by decide +kernel
theorem dX55_run_41 : decode cX55_run 41 = .ok (.invokestatic 31, 3) := by decide +kernel
theorem dX55_run_44 : decode cX55_run 44 = .ok (.ifCond .eq 20, 3) := by decide +kernel
theorem dX55_run_47 : decode cX55_run 47 = .ok (.aload 4, 2) := by decide +kernel
theorem dX55_run_49 : decode cX55_run 49 = .ok (.invokevirtual 35, 3) := by decide +kernel
theorem dX55_run_52 : decode cX55_run 52 = .ok (.ifCond .ne 12, 3) := by decide +kernel
theorem dX55_run_55 : decode cX55_run 55 = .ok (.aload 4, 2) := by decide +kernel
theorem dX55_run_57 : decode cX55_run 57 = .ok (.aload_n 3, 1) := by decide +kernel
theorem dX55_run_58 : decode cX55_run 58 = .ok (.getfield 39, 3) := by decide +kernel
theorem dX55_run_61 : decode cX55_run 61 = .ok (.invokevirtual 43, 3) := by decide +kernel
theorem dX55_run_64 : decode cX55_run 64 = .ok (.iconst 0, 1) := by decide +kernel
theorem dX55_run_65 : decode cX55_run 65 = .ok (.ireturn, 1) := by decide +kernel
theorem zy_X55_run : yX55_run.cls ≠ "java/lang/invoke/MethodHandle" ∧ yX55_run.cls ≠ "java/lang/invoke/VarHandle" ∧ (parseMethodDescriptor yX55_run.desc).map (fun d => d.parameters.length) = some 3 := by decide +kernel
theorem w_fX55_run_19 {K : zK} (E : zE K cX55_run "RingHouse$SendTo" (some .int) 1) (hN : zNl K = 5) (hT : zTr K = (some 0)) (x2 : Int) (x3 : Int) : zR K 0 [(0, 38, 19), (1, 14, 0), (2, 10, x2), (3, 11, x3)] [] (fX55_run_19 x2 x3) := by
  refine r_aload_n E dX55_run_0 rfl 3 rfl ?_
  refine r_nn E (fun hn1 => ?_)
  refine r_gecN (y := x3) E zc_11 dX55_run_1 q735 zr_11 (zh_1002 (by omega)) hn1 ?_
  refine r_iconst E dX55_run_4 (zkI (by decide) (by decide)) ?_
  refine r_iaload E zc_1002 za_1002 zt_1002 zx_1002 rfl rfl dX55_run_5 hn1 (fun v2 => ?_)
  refine r_bipush E dX55_run_6 (by decide) (zkI (by decide) (by decide)) ?_
  refine r_icmp_ge E 64 (by decide) dX55_run_8 (fun _ => ?_) (fun _ => ?_)
  · refine r_iconst E dX55_run_64 (zkI (by decide) (by decide)) ?_
    exact r_ireturn E rfl hT dX55_run_65
  · refine r_aload_n E dX55_run_11 rfl 1 rfl ?_
    refine r_gecN (y := 0) E zc_14 dX55_run_12 q1535 zr_14 (zh_1301 (by decide)) (by decide) ?_
    refine r_aload_n E dX55_run_15 rfl 3 rfl ?_
    refine r_gecN (y := x3) E zc_11 dX55_run_16 q735 zr_11 (zh_1002 (by omega)) hn1 ?_
    refine r_iconst E dX55_run_19 (zkI (by decide) (by decide)) ?_
    refine r_iaload E zc_1002 za_1002 zt_1002 zx_1002 rfl rfl dX55_run_20 hn1 (fun v3 => ?_)
    refine r_aaloc (y := v3) E zc_101 za_101 zt_101 zx_101 rfl rfl (by omega) dX55_run_21 (by decide) (fun hi5 => ?_)
    refine r_astore (ls' := [(4, 10, v3), (0, 38, 19), (1, 14, 0), (2, 10, x2), (3, 11, x3)]) E dX55_run_22 (by rw [hN]; decide) rfl ?_
    refine r_aload E dX55_run_24 0 rfl ?_
    refine r_getN E zc_10 zt_902 dX55_run_26 q859 zr_10 (zg_902 _) hi5 (fun v6 => ?_)
    refine r_if_eq E 64 (by decide) dX55_run_29 (fun _ => ?_) (fun _ => ?_)
    · refine r_iconst E dX55_run_64 (zkI (by decide) (by decide)) ?_
      exact r_ireturn E rfl hT dX55_run_65
    · refine r_aload E dX55_run_32 0 rfl ?_
      refine r_getN E zc_10 zt_906 dX55_run_34 q883 zr_10 (zg_906 _) hi5 (fun v7 => ?_)
      refine r_aload_n E dX55_run_37 rfl 3 rfl ?_
      refine r_nn E (fun hn8 => ?_)
      refine r_getN E zc_10 zt_906 dX55_run_38 q883 zr_10 (zg_906 _) hn8 (fun v9 => ?_)
      refine r_callSN E [(0, v7), (0, v9)] [] rfl q2695 q1858 q227 q1859 dX55_run_41 zy_X0_dominates rfl (by omega) (by decide) (Nat.le_of_ble_eq_true rfl) (fun l G => k_fX0_dominates l G v7 v9) (fun v10 => ?_)
      refine r_if_eq E 64 (by decide) dX55_run_44 (fun _ => ?_) (fun _ => ?_)
      · refine r_iconst E dX55_run_64 (zkI (by decide) (by decide)) ?_
        exact r_ireturn E rfl hT dX55_run_65
      · refine r_aload E dX55_run_47 0 rfl ?_
        refine r_callV E [] [] rfl zc_10 zr_10 (fun o _ => ⟨_, zw_X8.1 o, rfl⟩) (lw_V q2696 q2168 q2169 q235 q2170) dX55_run_49 zy_X8_isFull rfl (by omega) (by decide) (Nat.le_of_ble_eq_true rfl) hi5 (fun l G => k_fX8_isFull l G v3 hi5) (fun v11 => ?_)
        refine r_if_ne E 64 (by decide) dX55_run_52 (fun _ => ?_) (fun _ => ?_)
        · refine r_iconst E dX55_run_64 (zkI (by decide) (by decide)) ?_
          exact r_ireturn E rfl hT dX55_run_65
        · refine r_aload E dX55_run_55 0 rfl ?_
          refine r_aload_n E dX55_run_57 rfl 4 rfl ?_
          refine r_getN E zc_11 zt_1001 dX55_run_58 q727 zr_11 (zg_1001 _) hn1 (fun v12 => ?_)
          refine r_callV E [(1, v12)] [] rfl zc_10 zr_10 (fun o _ => ⟨_, zw_X8.1 o, rfl⟩) (lw_V q2697 q2172 q2173 q235 q2174) dX55_run_61 zy_X8_receive rfl (by omega) (by decide) (Nat.le_of_ble_eq_true rfl) hi5 (fun l G => k_fX8_receive l G v3 v12 hi5) (fun _ => ?_)
          refine r_iconst E dX55_run_64 (zkI (by decide) (by decide)) ?_
          exact r_ireturn E rfl hT dX55_run_65
theorem k_fX55_run_19 (l : Launch) (G : zG) (x2 : Int) (x3 : Int) : zCt l G yX55_run cX55_run 5 (some .int) 1 [(38, 19), (14, 0), (10, x2), (11, x3)] (some 0) (fX55_run_19 x2 x3) := zCt.of (by decide) (Nat.le_of_ble_eq_true rfl) (fun K E _ _ hN hT => w_fX55_run_19 E hN hT x2 x3)
theorem dX8_take_0 : decode cX8_take 0 = .ok (.aload_n 0, 1) := by decide +kernel
theorem dX8_take_1 : decode cX8_take 1 = .ok (.getfield 48, 3) := by decide +kernel
theorem dX8_take_4 : decode cX8_take 4 = .ok (.aload_n 0, 1) := by decide +kernel
theorem dX8_take_5 : decode cX8_take 5 = .ok (.getfield 116, 3) := by decide +kernel
theorem dX8_take_8 : decode cX8_take 8 = .ok (.laload, 1) := by decide +kernel
theorem dX8_take_9 : decode cX8_take 9 = .ok (.lstore_n 1, 1) := by decide +kernel
theorem dX8_take_10 : decode cX8_take 10 = .ok (.aload_n 0, 1) := by decide +kernel
theorem dX8_take_11 : decode cX8_take 11 = .ok (.aload_n 0, 1) := by decide +kernel
theorem dX8_take_12 : decode cX8_take 12 = .ok (.getfield 116, 3) := by decide +kernel
theorem dX8_take_15 : decode cX8_take 15 = .ok (.iconst 1, 1) := by decide +kernel
theorem dX8_take_16 : decode cX8_take 16 = .ok (.iadd, 1) := by decide +kernel
theorem dX8_take_17 : decode cX8_take 17 = .ok (.bipush 8, 2) := by decide +kernel
theorem dX8_take_19 : decode cX8_take 19 = .ok (.irem, 1) := by decide +kernel
theorem dX8_take_20 : decode cX8_take 20 = .ok (.putfield 116, 3) := by decide +kernel
theorem dX8_take_23 : decode cX8_take 23 = .ok (.aload_n 0, 1) := by decide +kernel
theorem dX8_take_24 : decode cX8_take 24 = .ok (.dup, 1) := by decide +kernel
theorem dX8_take_25 : decode cX8_take 25 = .ok (.getfield 119, 3) := by decide +kernel
theorem dX8_take_28 : decode cX8_take 28 = .ok (.iconst 1, 1) := by decide +kernel
theorem dX8_take_29 : decode cX8_take 29 = .ok (.isub, 1) := by decide +kernel
theorem dX8_take_30 : decode cX8_take 30 = .ok (.putfield 119, 3) := by decide +kernel
theorem dX8_take_33 : decode cX8_take 33 = .ok (.lload_n 1, 1) := by decide +kernel
theorem dX8_take_34 : decode cX8_take 34 = .ok (.lreturn, 1) := by decide +kernel
theorem zy_X8_take : yX8_take.cls ≠ "java/lang/invoke/MethodHandle" ∧ yX8_take.cls ≠ "java/lang/invoke/VarHandle" ∧ (parseMethodDescriptor yX8_take.desc).map (fun d => d.parameters.length) = some 0 := by decide +kernel
theorem w_fX8_take {K : zK} (E : zE K cX8_take "RingHouse$Process" (some .long) 0) (hN : zNl K = 3) (hT : zTr K = (some 1)) (x0 : Int) (h0 : 0 ≤ x0) : zR K 0 [(0, 10, x0)] [] (fX8_take x0) := by
  refine r_aload_n E dX8_take_0 rfl 0 rfl ?_
  refine r_gec (y := x0) E zc_10 dX8_take_1 q936 zr_10 (zh_922 (by omega)) h0 ?_
  refine r_aload_n E dX8_take_4 rfl 0 rfl ?_
  refine r_get E zc_10 zt_923 dX8_take_5 q937 zr_10 (zg_923 _) h0 (fun v1 => ?_)
  refine r_laload E zc_922 za_922 zt_922 zx_922 rfl rfl dX8_take_8 h0 (fun v2 => ?_)
  refine r_lstore_n (ls' := [(1, 1, v2), (0, 10, x0)]) E dX8_take_9 rfl (by rw [hN]; decide) rfl ?_
  refine r_aload_n E dX8_take_10 rfl 1 rfl ?_
  refine r_aload_n E dX8_take_11 rfl 1 rfl ?_
  refine r_get E zc_10 zt_923 dX8_take_12 q937 zr_10 (zg_923 _) h0 (fun v3 => ?_)
  refine r_iconst E dX8_take_15 (zkI (by decide) (by decide)) ?_
  refine r_iadd E dX8_take_16 ?_
  refine r_bipush E dX8_take_17 (by decide) (zkI (by decide) (by decide)) ?_
  refine r_irem E (by decide) dX8_take_19 ?_
  refine r_put E zc_10 zt_923 zo_923 dX8_take_20 q937 zr_10 zw_X8 zp_923 (fun _ => rfl) (fun _ => rfl) h0 ?_
  refine r_aload_n E dX8_take_23 rfl 1 rfl ?_
  refine r_dup E (zn1 rfl) dX8_take_24 ?_
  refine r_get E zc_10 zt_924 dX8_take_25 q939 zr_10 (zg_924 _) h0 (fun v4 => ?_)
  refine r_iconst E dX8_take_28 (zkI (by decide) (by decide)) ?_
  refine r_isub E dX8_take_29 ?_
  refine r_put E zc_10 zt_924 zo_924 dX8_take_30 q939 zr_10 zw_X8 zp_924 (fun _ => rfl) (fun _ => rfl) h0 ?_
  refine r_lload_n E dX8_take_33 rfl 0 rfl ?_
  exact r_lreturn E rfl hT dX8_take_34
theorem k_fX8_take (l : Launch) (G : zG) (x0 : Int) (h0 : 0 ≤ x0) : zCt l G yX8_take cX8_take 3 (some .long) 0 [(10, x0)] (some 1) (fX8_take x0) := zCt.of (by decide) (Nat.le_of_ble_eq_true rfl) (fun K E _ _ hN hT => w_fX8_take E hN hT x0 h0)
theorem dX56_run_0 : decode cX56_run 0 = .ok (.aload_n 2, 1) := by decide +kernel
theorem dX56_run_1 : decode cX56_run 1 = .ok (.getfield 9, 3) := by decide +kernel
theorem dX56_run_4 : decode cX56_run 4 = .ok (.ifCond .ne 24, 3) := by decide +kernel
theorem dX56_run_7 : decode cX56_run 7 = .ok (.aload_n 2, 1) := by decide +kernel
theorem dX56_run_8 : decode cX56_run 8 = .ok (.iconst 1, 1) := by decide +kernel
theorem dX56_run_9 : decode cX56_run 9 = .ok (.putfield 15, 3) := by decide +kernel
theorem dX56_run_12 : decode cX56_run 12 = .ok (.aload_n 2, 1) := by decide +kernel
theorem dX56_run_13 : decode cX56_run 13 = .ok (.bipush 7, 2) := by decide +kernel
theorem dX56_run_15 : decode cX56_run 15 = .ok (.lconst 0, 1) := by decide +kernel
theorem dX56_run_16 : decode cX56_run 16 = .ok (.lconst 0, 1) := by decide +kernel
theorem dX56_run_17 : decode cX56_run 17 = .ok (.lconst 0, 1) := by decide +kernel
theorem dX56_run_18 : decode cX56_run 18 = .ok (.invokevirtual 18, 3) := by decide +kernel
theorem dX56_run_21 : decode cX56_run 21 = .ok (.aload_n 1, 1) := by decide +kernel
theorem dX56_run_22 : decode cX56_run 22 = .ok (.iconst 1, 1) := by decide +kernel
theorem dX56_run_23 : decode cX56_run 23 = .ok (.putfield 22, 3) := by decide +kernel
theorem dX56_run_26 : decode cX56_run 26 = .ok (.iconst 1, 1) := by decide +kernel
theorem dX56_run_27 : decode cX56_run 27 = .ok (.ireturn, 1) := by decide +kernel
theorem dX56_run_28 : decode cX56_run 28 = .ok (.aload_n 3, 1) := by decide +kernel
theorem dX56_run_29 : decode cX56_run 29 = .ok (.aload_n 2, 1) := by decide +kernel
theorem dX56_run_30 : decode cX56_run 30 = .ok (.invokevirtual 28, 3) := by decide +kernel
theorem dX56_run_33 : decode cX56_run 33 = .ok (.putfield 32, 3) := by decide +kernel
theorem dX56_run_36 : decode cX56_run 36 = .ok (.iconst 0, 1) := by decide +kernel
theorem dX56_run_37 : decode cX56_run 37 = .ok (.ireturn, 1) := by decide +kernel
theorem zy_X56_run : yX56_run.cls ≠ "java/lang/invoke/MethodHandle" ∧ yX56_run.cls ≠ "java/lang/invoke/VarHandle" ∧ (parseMethodDescriptor yX56_run.desc).map (fun d => d.parameters.length) = some 3 := by decide +kernel
theorem w_fX56_run_20 {K : zK} (E : zE K cX56_run "RingHouse$Receive" (some .int) 2) (hN : zNl K = 4) (hT : zTr K = (some 0)) (x2 : Int) (x3 : Int) : zR K 0 [(0, 38, 20), (1, 14, 0), (2, 10, x2), (3, 11, x3)] [] (fX56_run_20 x2 x3) := by
  refine r_aload_n E dX56_run_0 rfl 2 rfl ?_
  refine r_nn E (fun hn1 => ?_)
  refine r_getN E zc_10 zt_924 dX56_run_1 q938 zr_10 (zg_924 _) hn1 (fun v2 => ?_)
  refine r_if_ne E 28 (by decide) dX56_run_4 (fun _ => ?_) (fun _ => ?_)
  · refine r_aload_n E dX56_run_28 rfl 3 rfl ?_
    refine r_aload_n E dX56_run_29 rfl 2 rfl ?_
    refine r_callV E [] [(11, x3)] rfl zc_10 zr_10 (fun o _ => ⟨_, zw_X8.1 o, rfl⟩) (lw_V q2672 q2673 q2674 q235 q2675) dX56_run_30 zy_X8_take rfl (by omega) (by decide) (Nat.le_of_ble_eq_true rfl) hn1 (fun l G => k_fX8_take l G x2 hn1) (fun v3 => ?_)
    refine r_nn E (fun hn4 => ?_)
    refine r_putN E zc_11 zt_1001 zo_1001 dX56_run_33 q721 zr_11 zw_X9 zp_1001 (fun _ => rfl) (fun _ => rfl) hn4 ?_
    refine r_iconst E dX56_run_36 (zkI (by decide) (by decide)) ?_
    exact r_ireturn E rfl hT dX56_run_37
  · refine r_aload_n E dX56_run_7 rfl 2 rfl ?_
    refine r_iconst E dX56_run_8 (zkI (by decide) (by decide)) ?_
    refine r_putN E zc_10 zt_903 zo_903 dX56_run_9 q863 zr_10 zw_X8 zp_903 (fun _ => rfl) (fun _ => rfl) hn1 ?_
    refine r_aload_n E dX56_run_12 rfl 2 rfl ?_
    refine r_bipush E dX56_run_13 (by decide) (zkI (by decide) (by decide)) ?_
    refine r_lconst (v := 0) E dX56_run_15 (by decide) (zkJ (by decide) (by decide)) ?_
    refine r_lconst (v := 0) E dX56_run_16 (by decide) (zkJ (by decide) (by decide)) ?_
    refine r_lconst (v := 0) E dX56_run_17 (by decide) (zkJ (by decide) (by decide)) ?_
    refine r_callV E [(0, 7), (1, 0), (1, 0), (1, 0)] [] rfl zc_10 zr_10 (fun o _ => ⟨_, zw_X8.1 o, rfl⟩) (lw_V q2671 q2189 q2190 q235 q2191) dX56_run_18 zy_X8_event rfl (by omega) (by decide) (Nat.le_of_ble_eq_true rfl) hn1 (fun l G => k_fX8_event l G x2 7 0 0 0 hn1) (fun _ => ?_)
    refine r_aload_n E dX56_run_21 rfl 1 rfl ?_
    refine r_iconst E dX56_run_22 (zkI (by decide) (by decide)) ?_
    refine r_putN E zc_14 zt_1314 zo_1314 dX56_run_23 q1587 zr_14 zw_X12 zp_1314 (znb (by decide)) (zfb (by decide)) (by decide) ?_
    refine r_iconst E dX56_run_26 (zkI (by decide) (by decide)) ?_
    exact r_ireturn E rfl hT dX56_run_27
theorem k_fX56_run_20 (l : Launch) (G : zG) (x2 : Int) (x3 : Int) : zCt l G yX56_run cX56_run 4 (some .int) 2 [(38, 20), (14, 0), (10, x2), (11, x3)] (some 0) (fX56_run_20 x2 x3) := zCt.of (by decide) (Nat.le_of_ble_eq_true rfl) (fun K E _ _ hN hT => w_fX56_run_20 E hN hT x2 x3)
theorem dX57_run_0 : decode cX57_run 0 = .ok (.aload_n 3, 1) := by decide +kernel
theorem dX57_run_1 : decode cX57_run 1 = .ok (.aload_n 0, 1) := by decide +kernel
theorem dX57_run_2 : decode cX57_run 2 = .ok (.getfield 7, 3) := by decide +kernel
theorem dX57_run_5 : decode cX57_run 5 = .ok (.ifCond .eq 11, 3) := by decide +kernel
theorem dX57_run_8 : decode cX57_run 8 = .ok (.aload_n 2, 1) := by decide +kernel
theorem dX57_run_9 : decode cX57_run 9 = .ok (.getfield 13, 3) := by decide +kernel
theorem dX57_run_12 : decode cX57_run 12 = .ok (.i2l, 1) := by decide +kernel
theorem dX57_run_13 : decode cX57_run 13 = .ok (.goto 38, 3) := by decide +kernel
theorem dX57_run_16 : decode cX57_run 16 = .ok (.aload_n 2, 1) := by decide +kernel
theorem dX57_run_17 : decode cX57_run 17 = .ok (.getfield 19, 3) := by decide +kernel
theorem dX57_run_20 : decode cX57_run 20 = .ok (.i2l, 1) := by decide +kernel
theorem dX57_run_21 : decode cX57_run 21 = .ok (.ldc2_w 22, 3) := by decide +kernel
theorem dX57_run_24 : decode cX57_run 24 = .ok (.aload_n 2, 1) := by decide +kernel
theorem dX57_run_25 : decode cX57_run 25 = .ok (.getfield 24, 3) := by decide +kernel
theorem dX57_run_28 : decode cX57_run 28 = .ok (.i2l, 1) := by decide +kernel
theorem dX57_run_29 : decode cX57_run 29 = .ok (.lmul, 1) := by decide +kernel
theorem dX57_run_30 : decode cX57_run 30 = .ok (.ladd, 1) := by decide +kernel
theorem dX57_run_31 : decode cX57_run 31 = .ok (.ldc2_w 27, 3) := by decide +kernel
theorem dX57_run_34 : decode cX57_run 34 = .ok (.aload_n 2, 1) := by decide +kernel
theorem dX57_run_35 : decode cX57_run 35 = .ok (.getfield 29, 3) := by decide +kernel
theorem dX57_run_38 : decode cX57_run 38 = .ok (.i2l, 1) := by decide +kernel
theorem dX57_run_39 : decode cX57_run 39 = .ok (.lmul, 1) := by decide +kernel
theorem dX57_run_40 : decode cX57_run 40 = .ok (.ladd, 1) := by decide +kernel
theorem dX57_run_41 : decode cX57_run 41 = .ok (.ldc2_w 32, 3) := by decide +kernel
theorem dX57_run_44 : decode cX57_run 44 = .ok (.aload_n 3, 1) := by decide +kernel
theorem dX57_run_45 : decode cX57_run 45 = .ok (.getfield 34, 3) := by decide +kernel
theorem dX57_run_48 : decode cX57_run 48 = .ok (.i2l, 1) := by decide +kernel
theorem dX57_run_49 : decode cX57_run 49 = .ok (.lmul, 1) := by decide +kernel
theorem dX57_run_50 : decode cX57_run 50 = .ok (.ladd, 1) := by decide +kernel
theorem dX57_run_51 : decode cX57_run 51 = .ok (.putfield 39, 3) := by decide +kernel
theorem dX57_run_54 : decode cX57_run 54 = .ok (.iconst 0, 1) := by decide +kernel
theorem dX57_run_55 : decode cX57_run 55 = .ok (.ireturn, 1) := by decide +kernel
theorem zy_X57_run : yX57_run.cls ≠ "java/lang/invoke/MethodHandle" ∧ yX57_run.cls ≠ "java/lang/invoke/VarHandle" ∧ (parseMethodDescriptor yX57_run.desc).map (fun d => d.parameters.length) = some 3 := by decide +kernel
theorem w_fX57_run_21_J51 {K : zK} (E : zE K cX57_run "RingHouse$Self" (some .int) 0) (hN : zNl K = 4) (hT : zTr K = (some 0)) (s0 : Int) (s1 : Int) : zR K 51 [] [(1, s1), (11, s0)] (fX57_run_21_J51 s0 s1) := by
  refine r_nn E (fun hn3 => ?_)
  refine r_putN E zc_11 zt_1001 zo_1001 dX57_run_51 q724 zr_11 zw_X9 zp_1001 (fun _ => rfl) (fun _ => rfl) hn3 ?_
  refine r_iconst E dX57_run_54 (zkI (by decide) (by decide)) ?_
  exact r_ireturn E rfl hT dX57_run_55
theorem w_fX57_run_21 {K : zK} (E : zE K cX57_run "RingHouse$Self" (some .int) 0) (hN : zNl K = 4) (hT : zTr K = (some 0)) (x2 : Int) (x3 : Int) : zR K 0 [(0, 38, 21), (1, 14, 0), (2, 10, x2), (3, 11, x3)] [] (fX57_run_21 x2 x3) := by
  refine r_aload_n E dX57_run_0 rfl 3 rfl ?_
  refine r_aload_n E dX57_run_1 rfl 0 rfl ?_
  refine r_gec (y := 1) E zc_38 dX57_run_2 q1476 zr_38 (zh_38_21_0) (by decide) ?_
  refine r_litF (hdec := inferInstance) (P := (1 : Int) = (0 : Int)) (by decide) ?_
  refine r_if_eq E 16 (by decide) dX57_run_5 (fun _ => r_no E) (fun _ => ?_)
  refine r_aload_n E dX57_run_8 rfl 2 rfl ?_
  refine r_nn E (fun hn1 => ?_)
  refine r_getN E zc_10 zt_907 dX57_run_9 q886 zr_10 (zg_907 _) hn1 (fun v2 => ?_)
  refine r_i2l E dX57_run_12 ?_
  refine r_goto E 51 (by decide) dX57_run_13 ?_
  refine r_pick E [] rfl ?_
  exact w_fX57_run_21_J51 E hN hT x3 v2
theorem k_fX57_run_21 (l : Launch) (G : zG) (x2 : Int) (x3 : Int) : zCt l G yX57_run cX57_run 4 (some .int) 0 [(38, 21), (14, 0), (10, x2), (11, x3)] (some 0) (fX57_run_21 x2 x3) := zCt.of (by decide) (Nat.le_of_ble_eq_true rfl) (fun K E _ _ hN hT => w_fX57_run_21 E hN hT x2 x3)
theorem w_fX57_run_22_J51 {K : zK} (E : zE K cX57_run "RingHouse$Self" (some .int) 0) (hN : zNl K = 4) (hT : zTr K = (some 0)) (s0 : Int) (s1 : Int) : zR K 51 [] [(1, s1), (11, s0)] (fX57_run_22_J51 s0 s1) := by
  refine r_nn E (fun hn7 => ?_)
  refine r_putN E zc_11 zt_1001 zo_1001 dX57_run_51 q724 zr_11 zw_X9 zp_1001 (fun _ => rfl) (fun _ => rfl) hn7 ?_
  refine r_iconst E dX57_run_54 (zkI (by decide) (by decide)) ?_
  exact r_ireturn E rfl hT dX57_run_55
theorem w_fX57_run_22 {K : zK} (E : zE K cX57_run "RingHouse$Self" (some .int) 0) (hN : zNl K = 4) (hT : zTr K = (some 0)) (x2 : Int) (x3 : Int) : zR K 0 [(0, 38, 22), (1, 14, 0), (2, 10, x2), (3, 11, x3)] [] (fX57_run_22 x2 x3) := by
  refine r_aload_n E dX57_run_0 rfl 3 rfl ?_
  refine r_aload_n E dX57_run_1 rfl 0 rfl ?_
  refine r_gec (y := 0) E zc_38 dX57_run_2 q1476 zr_38 (zh_38_22_0) (by decide) ?_
  refine r_litT (hdec := inferInstance) (P := (0 : Int) = (0 : Int)) (by decide) ?_
  refine r_if_eq E 16 (by decide) dX57_run_5 (fun _ => ?_) (fun _ => r_no E)
  refine r_aload_n E dX57_run_16 rfl 2 rfl ?_
  refine r_nn E (fun hn1 => ?_)
  refine r_getN E zc_10 zt_904 dX57_run_17 q868 zr_10 (zg_904 _) hn1 (fun v2 => ?_)
  refine r_i2l E dX57_run_20 ?_
  refine r_ldc2 (v := 16) E dX57_run_21 q2689 (by decide) (zkJ (by decide) (by decide)) ?_
  refine r_aload_n E dX57_run_24 rfl 2 rfl ?_
  refine r_getN E zc_10 zt_905 dX57_run_25 q874 zr_10 (zg_905 _) hn1 (fun v3 => ?_)
  refine r_i2l E dX57_run_28 ?_
  refine r_lmul E dX57_run_29 ?_
  refine r_ladd E dX57_run_30 ?_
  refine r_ldc2 (v := 128) E dX57_run_31 q2690 (by decide) (zkJ (by decide) (by decide)) ?_
  refine r_aload_n E dX57_run_34 rfl 2 rfl ?_
  refine r_getN E zc_10 zt_906 dX57_run_35 q884 zr_10 (zg_906 _) hn1 (fun v4 => ?_)
  refine r_i2l E dX57_run_38 ?_
  refine r_lmul E dX57_run_39 ?_
  refine r_ladd E dX57_run_40 ?_
  refine r_ldc2 (v := 4096) E dX57_run_41 q2691 (by decide) (zkJ (by decide) (by decide)) ?_
  refine r_aload_n E dX57_run_44 rfl 3 rfl ?_
  refine r_nn E (fun hn5 => ?_)
  refine r_getN E zc_11 zt_1008 dX57_run_45 q773 zr_11 (zg_1008 _) hn5 (fun v6 => ?_)
  refine r_i2l E dX57_run_48 ?_
  refine r_lmul E dX57_run_49 ?_
  refine r_ladd E dX57_run_50 ?_
  refine r_pick E [] rfl ?_
  exact w_fX57_run_22_J51 E hN hT x3 (zl ((zl ((zl (v2 + (zl (16 * v3)))) + (zl (128 * v4)))) + (zl (4096 * v6))))
theorem k_fX57_run_22 (l : Launch) (G : zG) (x2 : Int) (x3 : Int) : zCt l G yX57_run cX57_run 4 (some .int) 0 [(38, 22), (14, 0), (10, x2), (11, x3)] (some 0) (fX57_run_22 x2 x3) := zCt.of (by decide) (Nat.le_of_ble_eq_true rfl) (fun K E _ _ hN hT => w_fX57_run_22 E hN hT x2 x3)
theorem dX58_run_0 : decode cX58_run 0 = .ok (.aload_n 3, 1) := by decide +kernel
theorem dX58_run_1 : decode cX58_run 1 = .ok (.getfield 9, 3) := by decide +kernel
theorem dX58_run_4 : decode cX58_run 4 = .ok (.ldc2_w 15, 3) := by decide +kernel
theorem dX58_run_7 : decode cX58_run 7 = .ok (.lcmp, 1) := by decide +kernel
theorem dX58_run_8 : decode cX58_run 8 = .ok (.ifCond .ge 29, 3) := by decide +kernel
theorem dX58_run_11 : decode cX58_run 11 = .ok (.aload_n 3, 1) := by decide +kernel
theorem dX58_run_12 : decode cX58_run 12 = .ok (.aload_n 3, 1) := by decide +kernel
theorem dX58_run_13 : decode cX58_run 13 = .ok (.getfield 17, 3) := by decide +kernel
theorem dX58_run_16 : decode cX58_run 16 = .ok (.i2l, 1) := by decide +kernel
theorem dX58_run_17 : decode cX58_run 17 = .ok (.aload_n 3, 1) := by decide +kernel
theorem dX58_run_18 : decode cX58_run 18 = .ok (.getfield 9, 3) := by decide +kernel
theorem dX58_run_21 : decode cX58_run 21 = .ok (.lcmp, 1) := by decide +kernel
theorem dX58_run_22 : decode cX58_run 22 = .ok (.ifCond .gt 9, 3) := by decide +kernel
theorem dX58_run_25 : decode cX58_run 25 = .ok (.ldc2_w 21, 3) := by decide +kernel
theorem dX58_run_28 : decode cX58_run 28 = .ok (.goto 4, 3) := by decide +kernel
theorem dX58_run_31 : decode cX58_run 31 = .ok (.lconst 0, 1) := by decide +kernel
theorem dX58_run_32 : decode cX58_run 32 = .ok (.putfield 23, 3) := by decide +kernel
theorem dX58_run_35 : decode cX58_run 35 = .ok (.iconst 0, 1) := by decide +kernel
theorem dX58_run_36 : decode cX58_run 36 = .ok (.ireturn, 1) := by decide +kernel
theorem dX58_run_37 : decode cX58_run 37 = .ok (.aload_n 2, 1) := by decide +kernel
theorem dX58_run_38 : decode cX58_run 38 = .ok (.aload_n 3, 1) := by decide +kernel
theorem dX58_run_39 : decode cX58_run 39 = .ok (.getfield 9, 3) := by decide +kernel
theorem dX58_run_42 : decode cX58_run 42 = .ok (.invokestatic 26, 3) := by decide +kernel
theorem dX58_run_45 : decode cX58_run 45 = .ok (.ifCond .ne 5, 3) := by decide +kernel
theorem dX58_run_48 : decode cX58_run 48 = .ok (.iconst (-1), 1) := by decide +kernel
theorem dX58_run_49 : decode cX58_run 49 = .ok (.ireturn, 1) := by decide +kernel
theorem dX58_run_50 : decode cX58_run 50 = .ok (.aload_n 3, 1) := by decide +kernel
theorem dX58_run_51 : decode cX58_run 51 = .ok (.getfield 9, 3) := by decide +kernel
theorem dX58_run_54 : decode cX58_run 54 = .ok (.l2i, 1) := by decide +kernel
theorem dX58_run_55 : decode cX58_run 55 = .ok (.istore 4, 2) := by decide +kernel
theorem dX58_run_57 : decode cX58_run 57 = .ok (.aload_n 2, 1) := by decide +kernel
theorem dX58_run_58 : decode cX58_run 58 = .ok (.iload 4, 2) := by decide +kernel
theorem dX58_run_60 : decode cX58_run 60 = .ok (.aload_n 3, 1) := by decide +kernel
theorem dX58_run_61 : decode cX58_run 61 = .ok (.getfield 17, 3) := by decide +kernel
theorem dX58_run_64 : decode cX58_run 64 = .ok (.iconst 1, 1) := by decide +kernel
theorem dX58_run_65 : decode cX58_run 65 = .ok (.invokevirtual 32, 3) := by decide +kernel
theorem dX58_run_68 : decode cX58_run 68 = .ok (.ifCond .ne 7, 3) := by decide +kernel
theorem dX58_run_71 : decode cX58_run 71 = .ok (.lconst 1, 1) := by decide +kernel
theorem dX58_run_72 : decode cX58_run 72 = .ok (.goto 4, 3) := by decide +kernel
theorem dX58_run_75 : decode cX58_run 75 = .ok (.lconst 0, 1) := by decide +kernel
theorem dX58_run_76 : decode cX58_run 76 = .ok (.lstore 5, 2) := by decide +kernel
theorem dX58_run_78 : decode cX58_run 78 = .ok (.aload_n 2, 1) := by decide +kernel
theorem dX58_run_79 : decode cX58_run 79 = .ok (.iload 4, 2) := by decide +kernel
theorem dX58_run_81 : decode cX58_run 81 = .ok (.aload_n 3, 1) := by decide +kernel
theorem dX58_run_82 : decode cX58_run 82 = .ok (.getfield 17, 3) := by decide +kernel
theorem dX58_run_85 : decode cX58_run 85 = .ok (.iconst 2, 1) := by decide +kernel
theorem dX58_run_86 : decode cX58_run 86 = .ok (.invokevirtual 32, 3) := by decide +kernel
theorem dX58_run_89 : decode cX58_run 89 = .ok (.ifCond .ne 12, 3) := by decide +kernel
theorem dX58_run_92 : decode cX58_run 92 = .ok (.lload 5, 2) := by decide +kernel
theorem dX58_run_94 : decode cX58_run 94 = .ok (.ldc2_w 38, 3) := by decide +kernel
theorem dX58_run_97 : decode cX58_run 97 = .ok (.lor, 1) := by decide +kernel
theorem dX58_run_98 : decode cX58_run 98 = .ok (.goto 5, 3) := by decide +kernel
theorem dX58_run_101 : decode cX58_run 101 = .ok (.lload 5, 2) := by decide +kernel
theorem dX58_run_103 : decode cX58_run 103 = .ok (.lstore 5, 2) := by decide +kernel
theorem dX58_run_105 : decode cX58_run 105 = .ok (.aload_n 2, 1) := by decide +kernel
theorem dX58_run_106 : decode cX58_run 106 = .ok (.iload 4, 2) := by decide +kernel
theorem dX58_run_108 : decode cX58_run 108 = .ok (.aload_n 3, 1) := by decide +kernel
theorem dX58_run_109 : decode cX58_run 109 = .ok (.getfield 17, 3) := by decide +kernel
theorem dX58_run_112 : decode cX58_run 112 = .ok (.iconst 4, 1) := by decide +kernel
theorem dX58_run_113 : decode cX58_run 113 = .ok (.invokevirtual 32, 3) := by decide +kernel
theorem dX58_run_116 : decode cX58_run 116 = .ok (.ifCond .ne 12, 3) := by decide +kernel
theorem dX58_run_119 : decode cX58_run 119 = .ok (.lload 5, 2) := by decide +kernel
theorem dX58_run_121 : decode cX58_run 121 = .ok (.ldc2_w 40, 3) := by decide +kernel
theorem dX58_run_124 : decode cX58_run 124 = .ok (.lor, 1) := by decide +kernel
theorem dX58_run_125 : decode cX58_run 125 = .ok (.goto 5, 3) := by decide +kernel
theorem dX58_run_128 : decode cX58_run 128 = .ok (.lload 5, 2) := by decide +kernel
theorem dX58_run_130 : decode cX58_run 130 = .ok (.lstore 5, 2) := by decide +kernel
theorem dX58_run_132 : decode cX58_run 132 = .ok (.aload_n 3, 1) := by decide +kernel
theorem dX58_run_133 : decode cX58_run 133 = .ok (.lload 5, 2) := by decide +kernel
theorem dX58_run_135 : decode cX58_run 135 = .ok (.putfield 23, 3) := by decide +kernel
theorem dX58_run_138 : decode cX58_run 138 = .ok (.iconst 0, 1) := by decide +kernel
theorem dX58_run_139 : decode cX58_run 139 = .ok (.ireturn, 1) := by decide +kernel
theorem zy_X58_run : yX58_run.cls ≠ "java/lang/invoke/MethodHandle" ∧ yX58_run.cls ≠ "java/lang/invoke/VarHandle" ∧ (parseMethodDescriptor yX58_run.desc).map (fun d => d.parameters.length) = some 3 := by decide +kernel
theorem w_fX58_run_23_J130 {K : zK} (E : zE K cX58_run "RingHouse$Modes" (some .int) 5) (hN : zNl K = 7) (hT : zTr K = (some 0)) (x3 : Int) (s0 : Int) : zR K 130 [(3, 11, x3)] [(1, s0)] (fX58_run_23_J130 x3 s0) := by
  refine r_lstore (ls' := [(5, 1, s0), (3, 11, x3)]) E dX58_run_130 (by rw [hN]; decide) rfl ?_
  refine r_aload_n E dX58_run_132 rfl 1 rfl ?_
  refine r_lload E dX58_run_133 0 rfl ?_
  refine r_nn E (fun hn18 => ?_)
  refine r_putN E zc_11 zt_1001 zo_1001 dX58_run_135 q720 zr_11 zw_X9 zp_1001 (fun _ => rfl) (fun _ => rfl) hn18 ?_
  refine r_iconst E dX58_run_138 (zkI (by decide) (by decide)) ?_
  exact r_ireturn E rfl hT dX58_run_139
theorem w_fX58_run_23_J103 {K : zK} (E : zE K cX58_run "RingHouse$Modes" (some .int) 5) (hN : zNl K = 7) (hT : zTr K = (some 0)) (x2 : Int) (x3 : Int) (x4 : Int) (s0 : Int) : zR K 103 [(2, 10, x2), (3, 11, x3), (4, 0, x4)] [(1, s0)] (fX58_run_23_J103 x2 x3 x4 s0) := by
  refine r_lstore (ls' := [(5, 1, s0), (2, 10, x2), (3, 11, x3), (4, 0, x4)]) E dX58_run_103 (by rw [hN]; decide) rfl ?_
  refine r_aload_n E dX58_run_105 rfl 1 rfl ?_
  refine r_iload E dX58_run_106 3 rfl ?_
  refine r_aload_n E dX58_run_108 rfl 2 rfl ?_
  refine r_nn E (fun hn14 => ?_)
  refine r_getN E zc_11 zt_1008 dX58_run_109 q766 zr_11 (zg_1008 _) hn14 (fun v15 => ?_)
  refine r_iconst E dX58_run_112 (zkI (by decide) (by decide)) ?_
  refine r_nn E (fun hn16 => ?_)
  refine r_callV E [(0, x4), (0, v15), (0, 4)] [] rfl zc_10 zr_10 (fun o _ => ⟨_, zw_X8.1 o, rfl⟩) (lw_V q2656 q2227 q2228 q235 q2229) dX58_run_113 zy_X8_refusal rfl (by omega) (by decide) (Nat.le_of_ble_eq_true rfl) hn16 (fun l G => k_fX8_refusal l G x2 x4 v15 4 hn16) (fun v17 => ?_)
  refine r_if_ne E 128 (by decide) dX58_run_116 (fun _ => ?_) (fun _ => ?_)
  · refine r_lload E dX58_run_128 0 rfl ?_
    refine r_pick E [2] rfl ?_
    exact w_fX58_run_23_J130 E hN hT x3 s0
  · refine r_lload E dX58_run_119 0 rfl ?_
    refine r_ldc2 (v := 4) E dX58_run_121 q2658 (by decide) (zkJ (by decide) (by decide)) ?_
    refine r_lor E dX58_run_124 ?_
    refine r_goto E 130 (by decide) dX58_run_125 ?_
    refine r_pick E [2] rfl ?_
    exact w_fX58_run_23_J130 E hN hT x3 (zoR s0 4)
theorem w_fX58_run_23_J76 {K : zK} (E : zE K cX58_run "RingHouse$Modes" (some .int) 5) (hN : zNl K = 7) (hT : zTr K = (some 0)) (x2 : Int) (x3 : Int) (x4 : Int) (s0 : Int) : zR K 76 [(2, 10, x2), (3, 11, x3), (4, 0, x4)] [(1, s0)] (fX58_run_23_J76 x2 x3 x4 s0) := by
  refine r_lstore (ls' := [(5, 1, s0), (2, 10, x2), (3, 11, x3), (4, 0, x4)]) E dX58_run_76 (by rw [hN]; decide) rfl ?_
  refine r_aload_n E dX58_run_78 rfl 1 rfl ?_
  refine r_iload E dX58_run_79 3 rfl ?_
  refine r_aload_n E dX58_run_81 rfl 2 rfl ?_
  refine r_nn E (fun hn10 => ?_)
  refine r_getN E zc_11 zt_1008 dX58_run_82 q766 zr_11 (zg_1008 _) hn10 (fun v11 => ?_)
  refine r_iconst E dX58_run_85 (zkI (by decide) (by decide)) ?_
  refine r_nn E (fun hn12 => ?_)
  refine r_callV E [(0, x4), (0, v11), (0, 2)] [] rfl zc_10 zr_10 (fun o _ => ⟨_, zw_X8.1 o, rfl⟩) (lw_V q2656 q2227 q2228 q235 q2229) dX58_run_86 zy_X8_refusal rfl (by omega) (by decide) (Nat.le_of_ble_eq_true rfl) hn12 (fun l G => k_fX8_refusal l G x2 x4 v11 2 hn12) (fun v13 => ?_)
  refine r_if_ne E 101 (by decide) dX58_run_89 (fun _ => ?_) (fun _ => ?_)
  · refine r_lload E dX58_run_101 0 rfl ?_
    refine r_pick E [1, 2, 3] rfl ?_
    exact w_fX58_run_23_J103 E hN hT x2 x3 x4 s0
  · refine r_lload E dX58_run_92 0 rfl ?_
    refine r_ldc2 (v := 2) E dX58_run_94 q2657 (by decide) (zkJ (by decide) (by decide)) ?_
    refine r_lor E dX58_run_97 ?_
    refine r_goto E 103 (by decide) dX58_run_98 ?_
    refine r_pick E [1, 2, 3] rfl ?_
    exact w_fX58_run_23_J103 E hN hT x2 x3 x4 (zoR s0 2)
theorem w_fX58_run_23_J32 {K : zK} (E : zE K cX58_run "RingHouse$Modes" (some .int) 5) (hN : zNl K = 7) (hT : zTr K = (some 0)) (s0 : Int) (s1 : Int) : zR K 32 [] [(1, s1), (11, s0)] (fX58_run_23_J32 s0 s1) := by
  refine r_nn E (fun hn21 => ?_)
  refine r_putN E zc_11 zt_1001 zo_1001 dX58_run_32 q720 zr_11 zw_X9 zp_1001 (fun _ => rfl) (fun _ => rfl) hn21 ?_
  refine r_iconst E dX58_run_35 (zkI (by decide) (by decide)) ?_
  exact r_ireturn E rfl hT dX58_run_36
theorem w_fX58_run_23 {K : zK} (E : zE K cX58_run "RingHouse$Modes" (some .int) 5) (hN : zNl K = 7) (hT : zTr K = (some 0)) (x2 : Int) (x3 : Int) : zR K 0 [(0, 38, 23), (1, 14, 0), (2, 10, x2), (3, 11, x3)] [] (fX58_run_23 x2 x3) := by
  refine r_aload_n E dX58_run_0 rfl 3 rfl ?_
  refine r_nn E (fun hn1 => ?_)
  refine r_getN E zc_11 zt_1000 dX58_run_1 q688 zr_11 (zg_1000 _) hn1 (fun v2 => ?_)
  refine r_ldc2 (v := 8) E dX58_run_4 q2653 (by decide) (zkJ (by decide) (by decide)) ?_
  refine r_lcmp_ge E 37 (by decide) dX58_run_7 dX58_run_8 (fun _ => ?_) (fun _ => ?_)
  · refine r_aload_n E dX58_run_37 rfl 2 rfl ?_
    refine r_aload_n E dX58_run_38 rfl 3 rfl ?_
    refine r_getN E zc_11 zt_1000 dX58_run_39 q688 zr_11 (zg_1000 _) hn1 (fun v3 => ?_)
    refine r_callSN E [(10, x2), (1, v3)] [] rfl q2655 q2637 q239 q2638 dX58_run_42 zy_X12_isKnown rfl (by omega) (by decide) (Nat.le_of_ble_eq_true rfl) (fun l G => k_fX12_isKnown l G x2 v3) (fun v4 => ?_)
    refine r_if_ne E 50 (by decide) dX58_run_45 (fun _ => ?_) (fun _ => ?_)
    · refine r_aload_n E dX58_run_50 rfl 3 rfl ?_
      refine r_getN E zc_11 zt_1000 dX58_run_51 q688 zr_11 (zg_1000 _) hn1 (fun v5 => ?_)
      refine r_l2i E dX58_run_54 ?_
      refine r_let E (fun v6 ev6 => ?_)
      refine r_istore (ls' := [(4, 0, v6), (0, 38, 23), (1, 14, 0), (2, 10, x2), (3, 11, x3)]) E dX58_run_55 (by rw [hN]; decide) rfl ?_
      refine r_aload_n E dX58_run_57 rfl 3 rfl ?_
      refine r_iload E dX58_run_58 0 rfl ?_
      refine r_aload_n E dX58_run_60 rfl 4 rfl ?_
      refine r_getN E zc_11 zt_1008 dX58_run_61 q766 zr_11 (zg_1008 _) hn1 (fun v7 => ?_)
      refine r_iconst E dX58_run_64 (zkI (by decide) (by decide)) ?_
      refine r_nn E (fun hn8 => ?_)
      refine r_callV E [(0, v6), (0, v7), (0, 1)] [] rfl zc_10 zr_10 (fun o _ => ⟨_, zw_X8.1 o, rfl⟩) (lw_V q2656 q2227 q2228 q235 q2229) dX58_run_65 zy_X8_refusal rfl (by omega) (by decide) (Nat.le_of_ble_eq_true rfl) hn8 (fun l G => k_fX8_refusal l G x2 v6 v7 1 hn8) (fun v9 => ?_)
      refine r_if_ne E 75 (by decide) dX58_run_68 (fun _ => ?_) (fun _ => ?_)
      · refine r_lconst (v := 0) E dX58_run_75 (by decide) (zkJ (by decide) (by decide)) ?_
        refine r_pick E [3, 4, 0] rfl ?_
        exact w_fX58_run_23_J76 E hN hT x2 x3 v6 0
      · refine r_lconst (v := 1) E dX58_run_71 (by decide) (zkJ (by decide) (by decide)) ?_
        refine r_goto E 76 (by decide) dX58_run_72 ?_
        refine r_pick E [3, 4, 0] rfl ?_
        exact w_fX58_run_23_J76 E hN hT x2 x3 v6 1
    · refine r_iconst E dX58_run_48 (zkI (by decide) (by decide)) ?_
      exact r_ireturn E rfl hT dX58_run_49
  · refine r_aload_n E dX58_run_11 rfl 3 rfl ?_
    refine r_aload_n E dX58_run_12 rfl 3 rfl ?_
    refine r_getN E zc_11 zt_1008 dX58_run_13 q766 zr_11 (zg_1008 _) hn1 (fun v19 => ?_)
    refine r_i2l E dX58_run_16 ?_
    refine r_aload_n E dX58_run_17 rfl 3 rfl ?_
    refine r_getN E zc_11 zt_1000 dX58_run_18 q688 zr_11 (zg_1000 _) hn1 (fun v20 => ?_)
    refine r_lcmp_gt E 31 (by decide) dX58_run_21 dX58_run_22 (fun _ => ?_) (fun _ => ?_)
    · refine r_lconst (v := 0) E dX58_run_31 (by decide) (zkJ (by decide) (by decide)) ?_
      refine r_pick E [] rfl ?_
      exact w_fX58_run_23_J32 E hN hT x3 0
    · refine r_ldc2 (v := 5) E dX58_run_25 q2654 (by decide) (zkJ (by decide) (by decide)) ?_
      refine r_goto E 32 (by decide) dX58_run_28 ?_
      refine r_pick E [] rfl ?_
      exact w_fX58_run_23_J32 E hN hT x3 5
theorem k_fX58_run_23 (l : Launch) (G : zG) (x2 : Int) (x3 : Int) : zCt l G yX58_run cX58_run 7 (some .int) 5 [(38, 23), (14, 0), (10, x2), (11, x3)] (some 0) (fX58_run_23 x2 x3) := zCt.of (by decide) (Nat.le_of_ble_eq_true rfl) (fun K E _ _ hN hT => w_fX58_run_23 E hN hT x2 x3)
theorem dX59_run_0 : decode cX59_run 0 = .ok (.aload_n 1, 1) := by decide +kernel
theorem dX59_run_1 : decode cX59_run 1 = .ok (.aload_n 2, 1) := by decide +kernel
theorem dX59_run_2 : decode cX59_run 2 = .ok (.getfield 9, 3) := by decide +kernel
theorem dX59_run_5 : decode cX59_run 5 = .ok (.putfield 15, 3) := by decide +kernel
theorem dX59_run_8 : decode cX59_run 8 = .ok (.aload_n 2, 1) := by decide +kernel
theorem dX59_run_9 : decode cX59_run 9 = .ok (.aload_n 2, 1) := by decide +kernel
theorem dX59_run_10 : decode cX59_run 10 = .ok (.getfield 9, 3) := by decide +kernel
theorem dX59_run_13 : decode cX59_run 13 = .ok (.iconst 2, 1) := by decide +kernel
theorem dX59_run_14 : decode cX59_run 14 = .ok (.invokevirtual 20, 3) := by decide +kernel
theorem dX59_run_17 : decode cX59_run 17 = .ok (.istore 4, 2) := by decide +kernel
theorem dX59_run_19 : decode cX59_run 19 = .ok (.iload 4, 2) := by decide +kernel
theorem dX59_run_21 : decode cX59_run 21 = .ok (.ifCond .eq 6, 3) := by decide +kernel
theorem dX59_run_24 : decode cX59_run 24 = .ok (.iload 4, 2) := by decide +kernel
theorem dX59_run_26 : decode cX59_run 26 = .ok (.ireturn, 1) := by decide +kernel
theorem dX59_run_27 : decode cX59_run 27 = .ok (.aload_n 3, 1) := by decide +kernel
theorem dX59_run_28 : decode cX59_run 28 = .ok (.getfield 24, 3) := by decide +kernel
theorem dX59_run_31 : decode cX59_run 31 = .ok (.lconst 1, 1) := by decide +kernel
theorem dX59_run_32 : decode cX59_run 32 = .ok (.ldc2_w 30, 3) := by decide +kernel
theorem dX59_run_35 : decode cX59_run 35 = .ok (.invokestatic 32, 3) := by decide +kernel
theorem dX59_run_38 : decode cX59_run 38 = .ok (.ifCond .eq 36, 3) := by decide +kernel
theorem dX59_run_41 : decode cX59_run 41 = .ok (.aload_n 3, 1) := by decide +kernel
theorem dX59_run_42 : decode cX59_run 42 = .ok (.getfield 36, 3) := by decide +kernel
theorem dX59_run_45 : decode cX59_run 45 = .ok (.iconst 0, 1) := by decide +kernel
theorem dX59_run_46 : decode cX59_run 46 = .ok (.iaload, 1) := by decide +kernel
theorem dX59_run_47 : decode cX59_run 47 = .ok (.bipush 16, 2) := by decide +kernel
theorem dX59_run_49 : decode cX59_run 49 = .ok (.if_icmp .gt 25, 3) := by decide +kernel
theorem dX59_run_52 : decode cX59_run 52 = .ok (.aload_n 3, 1) := by decide +kernel
theorem dX59_run_53 : decode cX59_run 53 = .ok (.getfield 36, 3) := by decide +kernel
theorem dX59_run_56 : decode cX59_run 56 = .ok (.iconst 1, 1) := by decide +kernel
theorem dX59_run_57 : decode cX59_run 57 = .ok (.iaload, 1) := by decide +kernel
theorem dX59_run_58 : decode cX59_run 58 = .ok (.bipush 8, 2) := by decide +kernel
theorem dX59_run_60 : decode cX59_run 60 = .ok (.if_icmp .gt 14, 3) := by decide +kernel
theorem dX59_run_63 : decode cX59_run 63 = .ok (.aload_n 3, 1) := by decide +kernel
theorem dX59_run_64 : decode cX59_run 64 = .ok (.getfield 36, 3) := by decide +kernel
theorem dX59_run_67 : decode cX59_run 67 = .ok (.iconst 2, 1) := by decide +kernel
theorem dX59_run_68 : decode cX59_run 68 = .ok (.iaload, 1) := by decide +kernel
theorem dX59_run_69 : decode cX59_run 69 = .ok (.bipush 8, 2) := by decide +kernel
theorem dX59_run_71 : decode cX59_run 71 = .ok (.if_icmp .le 6, 3) := by decide +kernel
theorem dX59_run_74 : decode cX59_run 74 = .ok (.bipush (-8), 2) := by decide +kernel
theorem dX59_run_76 : decode cX59_run 76 = .ok (.ireturn, 1) := by decide +kernel
theorem dX59_run_77 : decode cX59_run 77 = .ok (.aload_n 2, 1) := by decide +kernel
theorem dX59_run_78 : decode cX59_run 78 = .ok (.getfield 9, 3) := by decide +kernel
theorem dX59_run_81 : decode cX59_run 81 = .ok (.aload_n 3, 1) := by decide +kernel
theorem dX59_run_82 : decode cX59_run 82 = .ok (.getfield 24, 3) := by decide +kernel
theorem dX59_run_85 : decode cX59_run 85 = .ok (.l2i, 1) := by decide +kernel
theorem dX59_run_86 : decode cX59_run 86 = .ok (.invokevirtual 40, 3) := by decide +kernel
theorem dX59_run_89 : decode cX59_run 89 = .ok (.aload_n 3, 1) := by decide +kernel
theorem dX59_run_90 : decode cX59_run 90 = .ok (.getfield 36, 3) := by decide +kernel
theorem dX59_run_93 : decode cX59_run 93 = .ok (.iconst 0, 1) := by decide +kernel
theorem dX59_run_94 : decode cX59_run 94 = .ok (.iaload, 1) := by decide +kernel
theorem dX59_run_95 : decode cX59_run 95 = .ok (.aload_n 3, 1) := by decide +kernel
theorem dX59_run_96 : decode cX59_run 96 = .ok (.getfield 36, 3) := by decide +kernel
theorem dX59_run_99 : decode cX59_run 99 = .ok (.iconst 1, 1) := by decide +kernel
theorem dX59_run_100 : decode cX59_run 100 = .ok (.iaload, 1) := by decide +kernel
theorem dX59_run_101 : decode cX59_run 101 = .ok (.aload_n 3, 1) := by decide +kernel
theorem dX59_run_102 : decode cX59_run 102 = .ok (.getfield 36, 3) := by decide +kernel
theorem dX59_run_105 : decode cX59_run 105 = .ok (.iconst 2, 1) := by decide +kernel
theorem dX59_run_106 : decode cX59_run 106 = .ok (.iaload, 1) := by decide +kernel
theorem dX59_run_107 : decode cX59_run 107 = .ok (.invokevirtual 46, 3) := by decide +kernel
theorem dX59_run_110 : decode cX59_run 110 = .ok (.ireturn, 1) := by decide +kernel
theorem zy_X59_run : yX59_run.cls ≠ "java/lang/invoke/MethodHandle" ∧ yX59_run.cls ≠ "java/lang/invoke/VarHandle" ∧ (parseMethodDescriptor yX59_run.desc).map (fun d => d.parameters.length) = some 3 := by decide +kernel
theorem w_fX59_run_24 {K : zK} (E : zE K cX59_run "RingHouse$SetInitial" (some .int) 4) (hN : zNl K = 5) (hT : zTr K = (some 0)) (x2 : Int) (x3 : Int) : zR K 0 [(0, 38, 24), (1, 14, 0), (2, 10, x2), (3, 11, x3)] [] (fX59_run_24 x2 x3) := by
  refine r_aload_n E dX59_run_0 rfl 1 rfl ?_
  refine r_aload_n E dX59_run_1 rfl 2 rfl ?_
  refine r_nn E (fun hn1 => ?_)
  refine r_getN E zc_10 zt_920 dX59_run_2 q924 zr_10 (zg_920 _) hn1 (fun v2 => ?_)
  refine r_putN E zc_14 zt_1306 zo_1306 dX59_run_5 q1546 zr_14 zw_X12 zp_1306 (fun _ => rfl) (fun G => zfo G) (by decide) ?_
  refine r_aload_n E dX59_run_8 rfl 2 rfl ?_
  refine r_aload_n E dX59_run_9 rfl 2 rfl ?_
  refine r_getN E zc_10 zt_920 dX59_run_10 q924 zr_10 (zg_920 _) hn1 (fun v3 => ?_)
  refine r_iconst E dX59_run_13 (zkI (by decide) (by decide)) ?_
  refine r_callV E [(6, v3), (0, 2)] [] rfl zc_10 zr_10 (fun o _ => ⟨_, zw_X8.1 o, rfl⟩) (lw_V q2702 q2319 q2320 q235 q2321) dX59_run_14 zy_X8_refusal_2 rfl (by omega) (by decide) (Nat.le_of_ble_eq_true rfl) hn1 (fun l G => k_fX8_refusal_2 l G x2 v3 2 hn1) (fun v4 => ?_)
  refine r_istore (ls' := [(4, 0, v4), (0, 38, 24), (1, 14, 0), (2, 10, x2), (3, 11, x3)]) E dX59_run_17 (by rw [hN]; decide) rfl ?_
  refine r_iload E dX59_run_19 0 rfl ?_
  refine r_if_eq E 27 (by decide) dX59_run_21 (fun _ => ?_) (fun _ => ?_)
  · refine r_aload_n E dX59_run_27 rfl 4 rfl ?_
    refine r_nn E (fun hn5 => ?_)
    refine r_getN E zc_11 zt_1000 dX59_run_28 q699 zr_11 (zg_1000 _) hn5 (fun v6 => ?_)
    refine r_lconst (v := 1) E dX59_run_31 (by decide) (zkJ (by decide) (by decide)) ?_
    refine r_ldc2 (v := 2) E dX59_run_32 q2703 (by decide) (zkJ (by decide) (by decide)) ?_
    refine r_callSN E [(1, v6), (1, 1), (1, 2)] [] rfl q2704 q1835 q227 q1836 dX59_run_35 zy_X0_isIn rfl (by omega) (by decide) (Nat.le_of_ble_eq_true rfl) (fun l G => k_fX0_isIn l G v6 1 2) (fun v7 => ?_)
    refine r_if_eq E 74 (by decide) dX59_run_38 (fun _ => ?_) (fun _ => ?_)
    · refine r_bipush E dX59_run_74 (by decide) (zkI (by decide) (by decide)) ?_
      exact r_ireturn E rfl hT dX59_run_76
    · refine r_aload_n E dX59_run_41 rfl 4 rfl ?_
      refine r_gecN (y := x3) E zc_11 dX59_run_42 q741 zr_11 (zh_1002 (by omega)) hn5 ?_
      refine r_iconst E dX59_run_45 (zkI (by decide) (by decide)) ?_
      refine r_iaload E zc_1002 za_1002 zt_1002 zx_1002 rfl rfl dX59_run_46 hn5 (fun v8 => ?_)
      refine r_bipush E dX59_run_47 (by decide) (zkI (by decide) (by decide)) ?_
      refine r_icmp_gt E 74 (by decide) dX59_run_49 (fun _ => ?_) (fun _ => ?_)
      · refine r_bipush E dX59_run_74 (by decide) (zkI (by decide) (by decide)) ?_
        exact r_ireturn E rfl hT dX59_run_76
      · refine r_aload_n E dX59_run_52 rfl 4 rfl ?_
        refine r_gecN (y := x3) E zc_11 dX59_run_53 q741 zr_11 (zh_1002 (by omega)) hn5 ?_
        refine r_iconst E dX59_run_56 (zkI (by decide) (by decide)) ?_
        refine r_iaload E zc_1002 za_1002 zt_1002 zx_1002 rfl rfl dX59_run_57 hn5 (fun v9 => ?_)
        refine r_bipush E dX59_run_58 (by decide) (zkI (by decide) (by decide)) ?_
        refine r_icmp_gt E 74 (by decide) dX59_run_60 (fun _ => ?_) (fun _ => ?_)
        · refine r_bipush E dX59_run_74 (by decide) (zkI (by decide) (by decide)) ?_
          exact r_ireturn E rfl hT dX59_run_76
        · refine r_aload_n E dX59_run_63 rfl 4 rfl ?_
          refine r_gecN (y := x3) E zc_11 dX59_run_64 q741 zr_11 (zh_1002 (by omega)) hn5 ?_
          refine r_iconst E dX59_run_67 (zkI (by decide) (by decide)) ?_
          refine r_iaload E zc_1002 za_1002 zt_1002 zx_1002 rfl rfl dX59_run_68 hn5 (fun v10 => ?_)
          refine r_bipush E dX59_run_69 (by decide) (zkI (by decide) (by decide)) ?_
          refine r_icmp_le E 77 (by decide) dX59_run_71 (fun _ => ?_) (fun _ => ?_)
          · refine r_aload_n E dX59_run_77 rfl 3 rfl ?_
            refine r_getN E zc_10 zt_920 dX59_run_78 q924 zr_10 (zg_920 _) hn1 (fun v11 => ?_)
            refine r_aload_n E dX59_run_81 rfl 4 rfl ?_
            refine r_getN E zc_11 zt_1000 dX59_run_82 q699 zr_11 (zg_1000 _) hn5 (fun v12 => ?_)
            refine r_l2i E dX59_run_85 ?_
            refine r_nn E (fun hn13 => ?_)
            refine r_callV E [(0, (zi v12))] [] rfl zc_6 zr_6 (fun o _ => ⟨_, zw_X4.1 o, rfl⟩) (lw_V q2705 q1892 q1893 q231 q1894) dX59_run_86 zy_X4_initial rfl (by omega) (by decide) (Nat.le_of_ble_eq_true rfl) hn13 (fun l G => k_fX4_initial l G v11 (zi v12) hn13) (fun v14 => ?_)
            refine r_aload_n E dX59_run_89 rfl 4 rfl ?_
            refine r_gecN (y := x3) E zc_11 dX59_run_90 q741 zr_11 (zh_1002 (by omega)) hn5 ?_
            refine r_iconst E dX59_run_93 (zkI (by decide) (by decide)) ?_
            refine r_iaload E zc_1002 za_1002 zt_1002 zx_1002 rfl rfl dX59_run_94 hn5 (fun v15 => ?_)
            refine r_aload_n E dX59_run_95 rfl 4 rfl ?_
            refine r_gecN (y := x3) E zc_11 dX59_run_96 q741 zr_11 (zh_1002 (by omega)) hn5 ?_
            refine r_iconst E dX59_run_99 (zkI (by decide) (by decide)) ?_
            refine r_iaload E zc_1002 za_1002 zt_1002 zx_1002 rfl rfl dX59_run_100 hn5 (fun v16 => ?_)
            refine r_aload_n E dX59_run_101 rfl 4 rfl ?_
            refine r_gecN (y := x3) E zc_11 dX59_run_102 q741 zr_11 (zh_1002 (by omega)) hn5 ?_
            refine r_iconst E dX59_run_105 (zkI (by decide) (by decide)) ?_
            refine r_iaload E zc_1002 za_1002 zt_1002 zx_1002 rfl rfl dX59_run_106 hn5 (fun v17 => ?_)
            refine r_nn E (fun hn18 => ?_)
            refine r_callV E [(0, v15), (0, v16), (0, v17)] [] rfl zc_7 zr_7 (fun o _ => ⟨_, zw_X5.1 o, rfl⟩) (lw_V q2706 q571 q572 q232 q573) dX59_run_107 zy_X5_set rfl (by omega) (by decide) (Nat.le_of_ble_eq_true rfl) hn18 (fun l G => k_fX5_set l G v14 v15 v16 v17 hn18) (fun v19 => ?_)
            exact r_ireturn E rfl hT dX59_run_110
          · refine r_bipush E dX59_run_74 (by decide) (zkI (by decide) (by decide)) ?_
            exact r_ireturn E rfl hT dX59_run_76
  · refine r_iload E dX59_run_24 0 rfl ?_
    exact r_ireturn E rfl hT dX59_run_26
theorem k_fX59_run_24 (l : Launch) (G : zG) (x2 : Int) (x3 : Int) : zCt l G yX59_run cX59_run 5 (some .int) 4 [(38, 24), (14, 0), (10, x2), (11, x3)] (some 0) (fX59_run_24 x2 x3) := zCt.of (by decide) (Nat.le_of_ble_eq_true rfl) (fun K E _ _ hN hT => w_fX59_run_24 E hN hT x2 x3)
theorem dX8_refusalOfBox_0 : decode cX8_refusalOfBox 0 = .ok (.aload_n 1, 1) := by decide +kernel
theorem dX8_refusalOfBox_1 : decode cX8_refusalOfBox 1 = .ok (.getfield 134, 3) := by decide +kernel
theorem dX8_refusalOfBox_4 : decode cX8_refusalOfBox 4 = .ok (.aload_n 0, 1) := by decide +kernel
theorem dX8_refusalOfBox_5 : decode cX8_refusalOfBox 5 = .ok (.getfield 74, 3) := by decide +kernel
theorem dX8_refusalOfBox_8 : decode cX8_refusalOfBox 8 = .ok (.aload_n 0, 1) := by decide +kernel
theorem dX8_refusalOfBox_9 : decode cX8_refusalOfBox 9 = .ok (.getfield 77, 3) := by decide +kernel
theorem dX8_refusalOfBox_12 : decode cX8_refusalOfBox 12 = .ok (.invokevirtual 138, 3) := by decide +kernel
theorem dX8_refusalOfBox_15 : decode cX8_refusalOfBox 15 = .ok (.iload_n 2, 1) := by decide +kernel
theorem dX8_refusalOfBox_16 : decode cX8_refusalOfBox 16 = .ok (.iand, 1) := by decide +kernel
theorem dX8_refusalOfBox_17 : decode cX8_refusalOfBox 17 = .ok (.ifCond .ne 6, 3) := by decide +kernel
theorem dX8_refusalOfBox_20 : decode cX8_refusalOfBox 20 = .ok (.bipush (-2), 2) := by decide +kernel
theorem dX8_refusalOfBox_22 : decode cX8_refusalOfBox 22 = .ok (.ireturn, 1) := by decide +kernel
theorem dX8_refusalOfBox_23 : decode cX8_refusalOfBox 23 = .ok (.aload_n 0, 1) := by decide +kernel
theorem dX8_refusalOfBox_24 : decode cX8_refusalOfBox 24 = .ok (.getfield 80, 3) := by decide +kernel
theorem dX8_refusalOfBox_27 : decode cX8_refusalOfBox 27 = .ok (.aload_n 1, 1) := by decide +kernel
theorem dX8_refusalOfBox_28 : decode cX8_refusalOfBox 28 = .ok (.getfield 147, 3) := by decide +kernel
theorem dX8_refusalOfBox_31 : decode cX8_refusalOfBox 31 = .ok (.invokestatic 148, 3) := by decide +kernel
theorem dX8_refusalOfBox_34 : decode cX8_refusalOfBox 34 = .ok (.ifCond .ne 6, 3) := by decide +kernel
theorem dX8_refusalOfBox_37 : decode cX8_refusalOfBox 37 = .ok (.bipush (-3), 2) := by decide +kernel
theorem dX8_refusalOfBox_39 : decode cX8_refusalOfBox 39 = .ok (.ireturn, 1) := by decide +kernel
theorem dX8_refusalOfBox_40 : decode cX8_refusalOfBox 40 = .ok (.aload_n 0, 1) := by decide +kernel
theorem dX8_refusalOfBox_41 : decode cX8_refusalOfBox 41 = .ok (.getfield 12, 3) := by decide +kernel
theorem dX8_refusalOfBox_44 : decode cX8_refusalOfBox 44 = .ok (.getfield 168, 3) := by decide +kernel
theorem dX8_refusalOfBox_47 : decode cX8_refusalOfBox 47 = .ok (.aload_n 1, 1) := by decide +kernel
theorem dX8_refusalOfBox_48 : decode cX8_refusalOfBox 48 = .ok (.getfield 162, 3) := by decide +kernel
theorem dX8_refusalOfBox_51 : decode cX8_refusalOfBox 51 = .ok (.if_icmp .gt 7, 3) := by decide +kernel
theorem dX8_refusalOfBox_54 : decode cX8_refusalOfBox 54 = .ok (.iconst 0, 1) := by decide +kernel
theorem dX8_refusalOfBox_55 : decode cX8_refusalOfBox 55 = .ok (.goto 5, 3) := by decide +kernel
theorem dX8_refusalOfBox_58 : decode cX8_refusalOfBox 58 = .ok (.bipush (-4), 2) := by decide +kernel
theorem dX8_refusalOfBox_60 : decode cX8_refusalOfBox 60 = .ok (.ireturn, 1) := by decide +kernel
theorem zy_X8_refusalOfBox : yX8_refusalOfBox.cls ≠ "java/lang/invoke/MethodHandle" ∧ yX8_refusalOfBox.cls ≠ "java/lang/invoke/VarHandle" ∧ (parseMethodDescriptor yX8_refusalOfBox.desc).map (fun d => d.parameters.length) = some 2 := by decide +kernel
theorem w_fX8_refusalOfBox {K : zK} (E : zE K cX8_refusalOfBox "RingHouse$Process" (some .int) 3) (hN : zNl K = 3) (hT : zTr K = (some 0)) (x0 : Int) (x1 : Int) (x2 : Int) (h0 : 0 ≤ x0) : zR K 0 [(0, 10, x0), (1, 6, x1), (2, 0, x2)] [] (fX8_refusalOfBox x0 x1 x2) := by
  refine r_aload_n E dX8_refusalOfBox_0 rfl 1 rfl ?_
  refine r_nn E (fun hn1 => ?_)
  refine r_gecN (y := (3 * x1)) E zc_6 dX8_refusalOfBox_1 q413 zr_6 (zh_508 (by omega)) hn1 ?_
  refine r_aload_n E dX8_refusalOfBox_4 rfl 0 rfl ?_
  refine r_get E zc_10 zt_904 dX8_refusalOfBox_5 q866 zr_10 (zg_904 _) h0 (fun v2 => ?_)
  refine r_aload_n E dX8_refusalOfBox_8 rfl 0 rfl ?_
  refine r_get E zc_10 zt_905 dX8_refusalOfBox_9 q872 zr_10 (zg_905 _) h0 (fun v3 => ?_)
  refine r_callV E [(0, v2), (0, v3)] [] rfl zc_7 zr_7 (fun o _ => ⟨_, zw_X5.1 o, rfl⟩) (lw_V q2234 q2074 q2075 q232 q2076) dX8_refusalOfBox_12 zy_X5_of rfl (by omega) (by decide) (Nat.le_of_ble_eq_true rfl) (by omega) (fun l G => k_fX5_of l G (3 * x1) v2 v3 (by omega)) (fun v4 => ?_)
  refine r_iload_n E dX8_refusalOfBox_15 rfl 2 rfl ?_
  refine r_iand E dX8_refusalOfBox_16 ?_
  refine r_if_ne E 23 (by decide) dX8_refusalOfBox_17 (fun _ => ?_) (fun _ => ?_)
  · refine r_aload_n E dX8_refusalOfBox_23 rfl 0 rfl ?_
    refine r_get E zc_10 zt_906 dX8_refusalOfBox_24 q882 zr_10 (zg_906 _) h0 (fun v5 => ?_)
    refine r_aload_n E dX8_refusalOfBox_27 rfl 1 rfl ?_
    refine r_getN E zc_6 zt_503 dX8_refusalOfBox_28 q393 zr_6 (zg_503 _) hn1 (fun v6 => ?_)
    refine r_callSN E [(0, v5), (0, v6)] [] rfl q2235 q1858 q227 q1859 dX8_refusalOfBox_31 zy_X0_dominates rfl (by omega) (by decide) (Nat.le_of_ble_eq_true rfl) (fun l G => k_fX0_dominates l G v5 v6) (fun v7 => ?_)
    refine r_if_ne E 40 (by decide) dX8_refusalOfBox_34 (fun _ => ?_) (fun _ => ?_)
    · refine r_aload_n E dX8_refusalOfBox_40 rfl 0 rfl ?_
      refine r_gec (y := x0) E zc_10 dX8_refusalOfBox_41 q890 zr_10 (zh_908 (by omega)) h0 ?_
      refine r_getN E zc_11 zt_1008 dX8_refusalOfBox_44 q779 zr_11 (zg_1008 _) h0 (fun v8 => ?_)
      refine r_aload_n E dX8_refusalOfBox_47 rfl 1 rfl ?_
      refine r_getN E zc_6 zt_510 dX8_refusalOfBox_48 q432 zr_6 (zg_510 _) hn1 (fun v9 => ?_)
      refine r_icmp_gt E 58 (by decide) dX8_refusalOfBox_51 (fun _ => ?_) (fun _ => ?_)
      · refine r_bipush E dX8_refusalOfBox_58 (by decide) (zkI (by decide) (by decide)) ?_
        exact r_ireturn E rfl hT dX8_refusalOfBox_60
      · refine r_iconst E dX8_refusalOfBox_54 (zkI (by decide) (by decide)) ?_
        refine r_goto E 60 (by decide) dX8_refusalOfBox_55 ?_
        exact r_ireturn E rfl hT dX8_refusalOfBox_60
    · refine r_bipush E dX8_refusalOfBox_37 (by decide) (zkI (by decide) (by decide)) ?_
      exact r_ireturn E rfl hT dX8_refusalOfBox_39
  · refine r_bipush E dX8_refusalOfBox_20 (by decide) (zkI (by decide) (by decide)) ?_
    exact r_ireturn E rfl hT dX8_refusalOfBox_22
theorem k_fX8_refusalOfBox (l : Launch) (G : zG) (x0 : Int) (x1 : Int) (x2 : Int) (h0 : 0 ≤ x0) : zCt l G yX8_refusalOfBox cX8_refusalOfBox 3 (some .int) 3 [(10, x0), (6, x1), (0, x2)] (some 0) (fX8_refusalOfBox x0 x1 x2) := zCt.of (by decide) (Nat.le_of_ble_eq_true rfl) (fun K E _ _ hN hT => w_fX8_refusalOfBox E hN hT x0 x1 x2 h0)
theorem dX6_many_0 : decode cX6_many 0 = .ok (.iconst 0, 1) := by decide +kernel
theorem dX6_many_1 : decode cX6_many 1 = .ok (.istore_n 2, 1) := by decide +kernel
theorem dX6_many_2 : decode cX6_many 2 = .ok (.iconst 0, 1) := by decide +kernel
theorem dX6_many_3 : decode cX6_many 3 = .ok (.istore_n 3, 1) := by decide +kernel
theorem dX6_many_4 : decode cX6_many 4 = .ok (.iload_n 3, 1) := by decide +kernel
theorem dX6_many_5 : decode cX6_many 5 = .ok (.aload_n 0, 1) := by decide +kernel
theorem dX6_many_6 : decode cX6_many 6 = .ok (.getfield 19, 3) := by decide +kernel
theorem dX6_many_9 : decode cX6_many 9 = .ok (.if_icmp .ge 27, 3) := by decide +kernel
theorem dX6_many_12 : decode cX6_many 12 = .ok (.iload_n 2, 1) := by decide +kernel
theorem dX6_many_13 : decode cX6_many 13 = .ok (.aload_n 0, 1) := by decide +kernel
theorem dX6_many_14 : decode cX6_many 14 = .ok (.getfield 15, 3) := by decide +kernel
theorem dX6_many_17 : decode cX6_many 17 = .ok (.iload_n 3, 1) := by decide +kernel
theorem dX6_many_18 : decode cX6_many 18 = .ok (.iaload, 1) := by decide +kernel
theorem dX6_many_19 : decode cX6_many 19 = .ok (.iload_n 1, 1) := by decide +kernel
theorem dX6_many_20 : decode cX6_many 20 = .ok (.if_icmp .ne 7, 3) := by decide +kernel
theorem dX6_many_23 : decode cX6_many 23 = .ok (.iconst 1, 1) := by decide +kernel
theorem dX6_many_24 : decode cX6_many 24 = .ok (.goto 4, 3) := by decide +kernel
theorem dX6_many_27 : decode cX6_many 27 = .ok (.iconst 0, 1) := by decide +kernel
theorem dX6_many_28 : decode cX6_many 28 = .ok (.iadd, 1) := by decide +kernel
theorem dX6_many_29 : decode cX6_many 29 = .ok (.istore_n 2, 1) := by decide +kernel
theorem dX6_many_30 : decode cX6_many 30 = .ok (.iinc 3 1, 3) := by decide +kernel
theorem dX6_many_33 : decode cX6_many 33 = .ok (.goto (-29), 3) := by decide +kernel
theorem dX6_many_36 : decode cX6_many 36 = .ok (.iload_n 2, 1) := by decide +kernel
theorem dX6_many_37 : decode cX6_many 37 = .ok (.ireturn, 1) := by decide +kernel
theorem zy_X6_many : yX6_many.cls ≠ "java/lang/invoke/MethodHandle" ∧ yX6_many.cls ≠ "java/lang/invoke/VarHandle" ∧ (parseMethodDescriptor yX6_many.desc).map (fun d => d.parameters.length) = some 1 := by decide +kernel
theorem w_fX6_many_J28 {K : zK} (E : zE K cX6_many "RingHouse$Box" (some .int) 0) (hN : zNl K = 4) (hT : zTr K = (some 0)) (x0 : Int) (x1 : Int) (x3 : Int) (s0 : Int) (s1 : Int) {r4 : Int × Int → zX} (hr4 : ∀ s : Int × Int, zR K 4 [(0, 8, x0), (1, 0, x1), (2, 0, s.1), (3, 0, s.2)] [] (r4 s)) (h0 : 0 ≤ x0) : zR K 28 [(0, 8, x0), (1, 0, x1), (3, 0, x3)] [(0, s1), (0, s0)] (fX6_many_J28 r4 x0 x1 x3 s0 s1) := by
  refine r_iadd E dX6_many_28 ?_
  refine r_let E (fun v3 ev3 => ?_)
  refine r_istore_n (ls' := [(2, 0, v3), (0, 8, x0), (1, 0, x1), (3, 0, x3)]) E dX6_many_29 rfl (by rw [hN]; decide) rfl ?_
  refine r_iinc (ls' := fun v4 => [(3, 0, v4), (2, 0, v3), (0, 8, x0), (1, 0, x1)]) E 3 rfl (by rw [hN]; decide) (fun _ => rfl) dX6_many_30 (fun v4 _ => ?_)
  refine r_goto E 4 (by decide) dX6_many_33 ?_
  refine r_pick E [2, 3, 1, 0] rfl ?_
  exact hr4 (v3, v4)
theorem w_fX6_many_B4 {K : zK} (E : zE K cX6_many "RingHouse$Box" (some .int) 0) (hN : zNl K = 4) (hT : zTr K = (some 0)) (x0 : Int) (x1 : Int) (h0 : 0 ≤ x0) : ∀ r4 : Int × Int → zX, (∀ s : Int × Int, zR K 4 [(0, 8, x0), (1, 0, x1), (2, 0, s.1), (3, 0, s.2)] [] (r4 s)) → ∀ s : Int × Int, zR K 4 [(0, 8, x0), (1, 0, x1), (2, 0, s.1), (3, 0, s.2)] [] (fX6_many_B4 x0 x1 r4 s) := by
  intro r4 hr4 s
  obtain ⟨x2, x3⟩ := s
  unfold fX6_many_B4
  refine r_iload_n E dX6_many_4 rfl 3 rfl ?_
  refine r_aload_n E dX6_many_5 rfl 0 rfl ?_
  refine r_get E zc_8 zt_702 dX6_many_6 q546 zr_8 (zg_702 _) h0 (fun v1 => ?_)
  refine r_icmp_ge E 36 (by decide) dX6_many_9 (fun _ => ?_) (fun _ => ?_)
  · refine r_iload_n E dX6_many_36 rfl 2 rfl ?_
    exact r_ireturn E rfl hT dX6_many_37
  · refine r_iload_n E dX6_many_12 rfl 2 rfl ?_
    refine r_aload_n E dX6_many_13 rfl 0 rfl ?_
    refine r_gec (y := x0) E zc_8 dX6_many_14 q542 zr_8 (zh_701 (by omega)) h0 ?_
    refine r_iload_n E dX6_many_17 rfl 3 rfl ?_
    refine r_iaload E zc_701 za_701 zt_701 zx_701 rfl rfl dX6_many_18 h0 (fun v2 => ?_)
    refine r_iload_n E dX6_many_19 rfl 1 rfl ?_
    refine r_icmp_ne E 27 (by decide) dX6_many_20 (fun _ => ?_) (fun _ => ?_)
    · refine r_iconst E dX6_many_27 (zkI (by decide) (by decide)) ?_
      refine r_pick E [0, 1, 3] rfl ?_
      exact w_fX6_many_J28 E hN hT x0 x1 x3 x2 0 hr4 h0
    · refine r_iconst E dX6_many_23 (zkI (by decide) (by decide)) ?_
      refine r_goto E 28 (by decide) dX6_many_24 ?_
      refine r_pick E [0, 1, 3] rfl ?_
      exact w_fX6_many_J28 E hN hT x0 x1 x3 x2 1 hr4 h0
theorem w_fX6_many {K : zK} (E : zE K cX6_many "RingHouse$Box" (some .int) 0) (hN : zNl K = 4) (hT : zTr K = (some 0)) (x0 : Int) (x1 : Int) (h0 : 0 ≤ x0) : zR K 0 [(0, 8, x0), (1, 0, x1)] [] (fX6_many x0 x1) := by
  refine r_iconst E dX6_many_0 (zkI (by decide) (by decide)) ?_
  refine r_istore_n (ls' := [(2, 0, 0), (0, 8, x0), (1, 0, x1)]) E dX6_many_1 rfl (by rw [hN]; decide) rfl ?_
  refine r_iconst E dX6_many_2 (zkI (by decide) (by decide)) ?_
  refine r_istore_n (ls' := [(3, 0, 0), (2, 0, 0), (0, 8, x0), (1, 0, x1)]) E dX6_many_3 rfl (by rw [hN]; decide) rfl ?_
  refine r_pick E [2, 3, 1, 0] rfl ?_
  exact r_loop (L := fun s => [(0, 8, x0), (1, 0, x1), (2, 0, s.1), (3, 0, s.2)]) (w_fX6_many_B4 E hN hT x0 x1 h0) zBIG (0, 0)
theorem k_fX6_many (l : Launch) (G : zG) (x0 : Int) (x1 : Int) (h0 : 0 ≤ x0) : zCt l G yX6_many cX6_many 4 (some .int) 0 [(8, x0), (0, x1)] (some 0) (fX6_many x0 x1) := zCt.of (by decide) (Nat.le_of_ble_eq_true rfl) (fun K E _ _ hN hT => w_fX6_many E hN hT x0 x1 h0)
theorem dX6_post_0 : decode cX6_post 0 = .ok (.aload_n 0, 1) := by decide +kernel
theorem dX6_post_1 : decode cX6_post 1 = .ok (.iload_n 3, 1) := by decide +kernel
theorem dX6_post_2 : decode cX6_post 2 = .ok (.invokevirtual 23, 3) := by decide +kernel
theorem dX6_post_5 : decode cX6_post 5 = .ok (.iconst 4, 1) := by decide +kernel
theorem dX6_post_6 : decode cX6_post 6 = .ok (.if_icmp .ne 5, 3) := by decide +kernel
theorem dX6_post_9 : decode cX6_post 9 = .ok (.iconst 0, 1) := by decide +kernel
theorem dX6_post_10 : decode cX6_post 10 = .ok (.ireturn, 1) := by decide +kernel
theorem dX6_post_11 : decode cX6_post 11 = .ok (.aload_n 0, 1) := by decide +kernel
theorem dX6_post_12 : decode cX6_post 12 = .ok (.getfield 9, 3) := by decide +kernel
theorem dX6_post_15 : decode cX6_post 15 = .ok (.aload_n 0, 1) := by decide +kernel
theorem dX6_post_16 : decode cX6_post 16 = .ok (.getfield 19, 3) := by decide +kernel
theorem dX6_post_19 : decode cX6_post 19 = .ok (.lload_n 1, 1) := by decide +kernel
theorem dX6_post_20 : decode cX6_post 20 = .ok (.lastore, 1) := by decide +kernel
theorem dX6_post_21 : decode cX6_post 21 = .ok (.aload_n 0, 1) := by decide +kernel
theorem dX6_post_22 : decode cX6_post 22 = .ok (.getfield 15, 3) := by decide +kernel
theorem dX6_post_25 : decode cX6_post 25 = .ok (.aload_n 0, 1) := by decide +kernel
theorem dX6_post_26 : decode cX6_post 26 = .ok (.getfield 19, 3) := by decide +kernel
theorem dX6_post_29 : decode cX6_post 29 = .ok (.iload_n 3, 1) := by decide +kernel
theorem dX6_post_30 : decode cX6_post 30 = .ok (.iastore, 1) := by decide +kernel
theorem dX6_post_31 : decode cX6_post 31 = .ok (.aload_n 0, 1) := by decide +kernel
theorem dX6_post_32 : decode cX6_post 32 = .ok (.dup, 1) := by decide +kernel
theorem dX6_post_33 : decode cX6_post 33 = .ok (.getfield 19, 3) := by decide +kernel
theorem dX6_post_36 : decode cX6_post 36 = .ok (.iconst 1, 1) := by decide +kernel
theorem dX6_post_37 : decode cX6_post 37 = .ok (.iadd, 1) := by decide +kernel
theorem dX6_post_38 : decode cX6_post 38 = .ok (.putfield 19, 3) := by decide +kernel
theorem dX6_post_41 : decode cX6_post 41 = .ok (.iconst 1, 1) := by decide +kernel
theorem dX6_post_42 : decode cX6_post 42 = .ok (.ireturn, 1) := by decide +kernel
theorem zy_X6_post : yX6_post.cls ≠ "java/lang/invoke/MethodHandle" ∧ yX6_post.cls ≠ "java/lang/invoke/VarHandle" ∧ (parseMethodDescriptor yX6_post.desc).map (fun d => d.parameters.length) = some 2 := by decide +kernel
theorem w_fX6_post {K : zK} (E : zE K cX6_post "RingHouse$Box" (some .boolean) 1) (hN : zNl K = 4) (hT : zTr K = (some 0)) (x0 : Int) (x1 : Int) (x3 : Int) (h0 : 0 ≤ x0) : zR K 0 [(0, 8, x0), (1, 1, x1), (3, 0, x3)] [] (fX6_post x0 x1 x3) := by
  refine r_aload_n E dX6_post_0 rfl 0 rfl ?_
  refine r_iload_n E dX6_post_1 rfl 2 rfl ?_
  refine r_callV E [(0, x3)] [] rfl zc_8 zr_8 (fun o _ => ⟨_, zw_X6.1 o, rfl⟩) (lw_V q2574 q2575 q2576 q233 q2577) dX6_post_2 zy_X6_many rfl (by omega) (by decide) (Nat.le_of_ble_eq_true rfl) h0 (fun l G => k_fX6_many l G x0 x3 h0) (fun v1 => ?_)
  refine r_iconst E dX6_post_5 (zkI (by decide) (by decide)) ?_
  refine r_icmp_ne E 11 (by decide) dX6_post_6 (fun _ => ?_) (fun _ => ?_)
  · refine r_aload_n E dX6_post_11 rfl 0 rfl ?_
    refine r_gec (y := x0) E zc_8 dX6_post_12 q538 zr_8 (zh_700 (by omega)) h0 ?_
    refine r_aload_n E dX6_post_15 rfl 0 rfl ?_
    refine r_get E zc_8 zt_702 dX6_post_16 q546 zr_8 (zg_702 _) h0 (fun v2 => ?_)
    refine r_lload_n E dX6_post_19 rfl 1 rfl ?_
    refine r_lastore E zc_700 za_700 zt_700 zo_700 zx_700 rfl rfl dX6_post_20 h0 ?_
    refine r_aload_n E dX6_post_21 rfl 0 rfl ?_
    refine r_gec (y := x0) E zc_8 dX6_post_22 q542 zr_8 (zh_701 (by omega)) h0 ?_
    refine r_aload_n E dX6_post_25 rfl 0 rfl ?_
    refine r_get E zc_8 zt_702 dX6_post_26 q546 zr_8 (zg_702 _) h0 (fun v3 => ?_)
    refine r_iload_n E dX6_post_29 rfl 2 rfl ?_
    refine r_iastore E zc_701 za_701 zt_701 zo_701 zx_701 rfl rfl dX6_post_30 h0 ?_
    refine r_aload_n E dX6_post_31 rfl 0 rfl ?_
    refine r_dup E (zn1 rfl) dX6_post_32 ?_
    refine r_get E zc_8 zt_702 dX6_post_33 q546 zr_8 (zg_702 _) h0 (fun v4 => ?_)
    refine r_iconst E dX6_post_36 (zkI (by decide) (by decide)) ?_
    refine r_iadd E dX6_post_37 ?_
    refine r_put E zc_8 zt_702 zo_702 dX6_post_38 q546 zr_8 zw_X6 zp_702 (fun _ => rfl) (fun _ => rfl) h0 ?_
    refine r_iconst E dX6_post_41 (zkI (by decide) (by decide)) ?_
    exact r_zreturn E rfl hT (by decide) dX6_post_42
  · refine r_iconst E dX6_post_9 (zkI (by decide) (by decide)) ?_
    exact r_zreturn E rfl hT (by decide) dX6_post_10
theorem k_fX6_post (l : Launch) (G : zG) (x0 : Int) (x1 : Int) (x3 : Int) (h0 : 0 ≤ x0) : zCt l G yX6_post cX6_post 4 (some .boolean) 1 [(8, x0), (1, x1), (0, x3)] (some 0) (fX6_post x0 x1 x3) := zCt.of (by decide) (Nat.le_of_ble_eq_true rfl) (fun K E _ _ hN hT => w_fX6_post E hN hT x0 x1 x3 h0)
theorem dX61_with_0 : decode cX61_with 0 = .ok (.aload_n 1, 1) := by decide +kernel
theorem dX61_with_1 : decode cX61_with 1 = .ok (.aload_n 3, 1) := by decide +kernel
theorem dX61_with_2 : decode cX61_with 2 = .ok (.getfield 9, 3) := by decide +kernel
theorem dX61_with_5 : decode cX61_with 5 = .ok (.aload_n 2, 1) := by decide +kernel
theorem dX61_with_6 : decode cX61_with 6 = .ok (.getfield 15, 3) := by decide +kernel
theorem dX61_with_9 : decode cX61_with 9 = .ok (.invokevirtual 21, 3) := by decide +kernel
theorem dX61_with_12 : decode cX61_with 12 = .ok (.ifCond .eq 7, 3) := by decide +kernel
theorem dX61_with_15 : decode cX61_with 15 = .ok (.iconst 0, 1) := by decide +kernel
theorem dX61_with_16 : decode cX61_with 16 = .ok (.goto 5, 3) := by decide +kernel
theorem dX61_with_19 : decode cX61_with 19 = .ok (.bipush (-5), 2) := by decide +kernel
theorem dX61_with_21 : decode cX61_with 21 = .ok (.ireturn, 1) := by decide +kernel
theorem zy_X61_with : yX61_with.cls ≠ "java/lang/invoke/MethodHandle" ∧ yX61_with.cls ≠ "java/lang/invoke/VarHandle" ∧ (parseMethodDescriptor yX61_with.desc).map (fun d => d.parameters.length) = some 3 := by decide +kernel
theorem w_fX61_with_25 {K : zK} (E : zE K cX61_with "RingHouse$Post" (some .int) 2) (hN : zNl K = 4) (hT : zTr K = (some 0)) (x1 : Int) (x2 : Int) (x3 : Int) : zR K 0 [(0, 38, 25), (1, 8, x1), (2, 10, x2), (3, 11, x3)] [] (fX61_with_25 x1 x2 x3) := by
  refine r_aload_n E dX61_with_0 rfl 1 rfl ?_
  refine r_aload_n E dX61_with_1 rfl 3 rfl ?_
  refine r_nn E (fun hn1 => ?_)
  refine r_getN E zc_11 zt_1001 dX61_with_2 q711 zr_11 (zg_1001 _) hn1 (fun v2 => ?_)
  refine r_aload_n E dX61_with_5 rfl 2 rfl ?_
  refine r_nn E (fun hn3 => ?_)
  refine r_getN E zc_10 zt_906 dX61_with_6 q880 zr_10 (zg_906 _) hn3 (fun v4 => ?_)
  refine r_nn E (fun hn5 => ?_)
  refine r_callV E [(1, v2), (0, v4)] [] rfl zc_8 zr_8 (fun o _ => ⟨_, zw_X6.1 o, rfl⟩) (lw_V q2570 q2571 q2572 q233 q2573) dX61_with_9 zy_X6_post rfl (by omega) (by decide) (Nat.le_of_ble_eq_true rfl) hn5 (fun l G => k_fX6_post l G x1 v2 v4 hn5) (fun v6 => ?_)
  refine r_if_eq E 19 (by decide) dX61_with_12 (fun _ => ?_) (fun _ => ?_)
  · refine r_bipush E dX61_with_19 (by decide) (zkI (by decide) (by decide)) ?_
    exact r_ireturn E rfl hT dX61_with_21
  · refine r_iconst E dX61_with_15 (zkI (by decide) (by decide)) ?_
    refine r_goto E 21 (by decide) dX61_with_16 ?_
    exact r_ireturn E rfl hT dX61_with_21
theorem k_fX61_with_25 (l : Launch) (G : zG) (x1 : Int) (x2 : Int) (x3 : Int) : zCt l G yX61_with cX61_with 4 (some .int) 2 [(38, 25), (8, x1), (10, x2), (11, x3)] (some 0) (fX61_with_25 x1 x2 x3) := zCt.of (by decide) (Nat.le_of_ble_eq_true rfl) (fun K E _ _ hN hT => w_fX61_with_25 E hN hT x1 x2 x3)
theorem dX60_on_0 : decode cX60_on 0 = .ok (.aload_n 2, 1) := by decide +kernel
theorem dX60_on_1 : decode cX60_on 1 = .ok (.invokevirtual 15, 3) := by decide +kernel
theorem dX60_on_4 : decode cX60_on 4 = .ok (.ifCond .ne 6, 3) := by decide +kernel
theorem dX60_on_7 : decode cX60_on 7 = .ok (.bipush (-7), 2) := by decide +kernel
theorem dX60_on_9 : decode cX60_on 9 = .ok (.ireturn, 1) := by decide +kernel
theorem dX60_on_10 : decode cX60_on 10 = .ok (.aload_n 3, 1) := by decide +kernel
theorem dX60_on_11 : decode cX60_on 11 = .ok (.aload_n 2, 1) := by decide +kernel
theorem dX60_on_12 : decode cX60_on 12 = .ok (.aload_n 0, 1) := by decide +kernel
theorem dX60_on_13 : decode cX60_on 13 = .ok (.getfield 9, 3) := by decide +kernel
theorem dX60_on_16 : decode cX60_on 16 = .ok (.invokevirtual 21, 3) := by decide +kernel
theorem dX60_on_19 : decode cX60_on 19 = .ok (.istore 5, 2) := by decide +kernel
theorem dX60_on_21 : decode cX60_on 21 = .ok (.iload 5, 2) := by decide +kernel
theorem dX60_on_23 : decode cX60_on 23 = .ok (.ifCond .eq 8, 3) := by decide +kernel
theorem dX60_on_26 : decode cX60_on 26 = .ok (.iload 5, 2) := by decide +kernel
theorem dX60_on_28 : decode cX60_on 28 = .ok (.goto 14, 3) := by decide +kernel
theorem dX60_on_31 : decode cX60_on 31 = .ok (.aload_n 0, 1) := by decide +kernel
theorem dX60_on_32 : decode cX60_on 32 = .ok (.aload_n 2, 1) := by decide +kernel
theorem dX60_on_33 : decode cX60_on 33 = .ok (.getfield 27, 3) := by decide +kernel
theorem dX60_on_36 : decode cX60_on 36 = .ok (.aload_n 3, 1) := by decide +kernel
theorem dX60_on_37 : decode cX60_on 37 = .ok (.aload 4, 2) := by decide +kernel
theorem dX60_on_39 : decode cX60_on 39 = .ok (.invokevirtual 31, 3) := by decide +kernel
theorem dX60_on_42 : decode cX60_on 42 = .ok (.ireturn, 1) := by decide +kernel
theorem zy_X60_on : yX60_on.cls ≠ "java/lang/invoke/MethodHandle" ∧ yX60_on.cls ≠ "java/lang/invoke/VarHandle" ∧ (parseMethodDescriptor yX60_on.desc).map (fun d => d.parameters.length) = some 4 := by decide +kernel
theorem w_fX60_on_25 {K : zK} (E : zE K cX60_on "RingHouse$Mailed" (some .int) 4) (hN : zNl K = 6) (hT : zTr K = (some 0)) (x2 : Int) (x3 : Int) (x4 : Int) : zR K 0 [(0, 38, 25), (1, 14, 0), (2, 6, x2), (3, 10, x3), (4, 11, x4)] [] (fX60_on_25 x2 x3 x4) := by
  refine r_aload_n E dX60_on_0 rfl 2 rfl ?_
  refine r_nn E (fun hn1 => ?_)
  refine r_callV E [] [] rfl zc_6 zr_6 (fun o _ => ⟨_, zw_X4.1 o, rfl⟩) (lw_V q2559 q1921 q1922 q231 q1923) dX60_on_1 zy_X4_isMailbox rfl (by omega) (by decide) (Nat.le_of_ble_eq_true rfl) hn1 (fun l G => k_fX4_isMailbox l G x2 hn1) (fun v2 => ?_)
  refine r_if_ne E 10 (by decide) dX60_on_4 (fun _ => ?_) (fun _ => ?_)
  · refine r_aload_n E dX60_on_10 rfl 3 rfl ?_
    refine r_aload_n E dX60_on_11 rfl 2 rfl ?_
    refine r_aload_n E dX60_on_12 rfl 0 rfl ?_
    refine r_gec (y := 1) E zc_38 dX60_on_13 q1503 zr_38 (zh_38_25_0) (by decide) ?_
    refine r_nn E (fun hn3 => ?_)
    refine r_callV E [(6, x2), (0, 1)] [] rfl zc_10 zr_10 (fun o _ => ⟨_, zw_X8.1 o, rfl⟩) (lw_V q2560 q2561 q2562 q235 q2563) dX60_on_16 zy_X8_refusalOfBox rfl (by omega) (by decide) (Nat.le_of_ble_eq_true rfl) hn3 (fun l G => k_fX8_refusalOfBox l G x3 x2 1 hn3) (fun v4 => ?_)
    refine r_istore (ls' := [(5, 0, v4), (0, 38, 25), (1, 14, 0), (2, 6, x2), (3, 10, x3), (4, 11, x4)]) E dX60_on_19 (by rw [hN]; decide) rfl ?_
    refine r_iload E dX60_on_21 0 rfl ?_
    refine r_if_eq E 31 (by decide) dX60_on_23 (fun _ => ?_) (fun _ => ?_)
    · refine r_aload_n E dX60_on_31 rfl 1 rfl ?_
      refine r_aload_n E dX60_on_32 rfl 3 rfl ?_
      refine r_getN E zc_6 zt_520 dX60_on_33 q465 zr_6 (zg_520 _) hn1 (fun v5 => ?_)
      refine r_aload_n E dX60_on_36 rfl 4 rfl ?_
      refine r_aload E dX60_on_37 5 rfl ?_
      refine r_callU (n := 3) (x := ⟨"RingHouse$Mailed", "with", "(LRingHouse$Box;LRingHouse$Process;LRingHouse$Registers;)I"⟩) (owner := "RingHouse$Mailed") E [(8, v5), (10, x3), (11, x4)] [] rfl zc_38 zr_38 zk_38_25 q2564 q2566 q2567 q2568 q288 q2569 (Or.inr q2565) dX60_on_39 (by decide +kernel) rfl (by omega) (by decide) (Nat.le_of_ble_eq_true rfl) (by decide) (fun l G => k_fX61_with_25 l G v5 x3 x4) (fun v6 => ?_)
      exact r_ireturn E rfl hT dX60_on_42
    · refine r_iload E dX60_on_26 0 rfl ?_
      refine r_goto E 42 (by decide) dX60_on_28 ?_
      exact r_ireturn E rfl hT dX60_on_42
  · refine r_bipush E dX60_on_7 (by decide) (zkI (by decide) (by decide)) ?_
    exact r_ireturn E rfl hT dX60_on_9
theorem k_fX60_on_25 (l : Launch) (G : zG) (x2 : Int) (x3 : Int) (x4 : Int) : zCt l G yX60_on cX60_on 6 (some .int) 4 [(38, 25), (14, 0), (6, x2), (10, x3), (11, x4)] (some 0) (fX60_on_25 x2 x3 x4) := zCt.of (by decide) (Nat.le_of_ble_eq_true rfl) (fun K E _ _ hN hT => w_fX60_on_25 E hN hT x2 x3 x4)
theorem w_fX38_run_25 {K : zK} (E : zE K cX38_run "RingHouse$Entered" (some .int) 5) (hN : zNl K = 6) (hT : zTr K = (some 0)) (x2 : Int) (x3 : Int) : zR K 0 [(0, 38, 25), (1, 14, 0), (2, 10, x2), (3, 11, x3)] [] (fX38_run_25 x2 x3) := by
  refine r_aload_n E dX38_run_0 rfl 1 rfl ?_
  refine r_aload_n E dX38_run_1 rfl 2 rfl ?_
  refine r_nn E (fun hn1 => ?_)
  refine r_getN E zc_10 zt_920 dX38_run_2 q922 zr_10 (zg_920 _) hn1 (fun v2 => ?_)
  refine r_putN E zc_14 zt_1306 zo_1306 dX38_run_5 q1544 zr_14 zw_X12 zp_1306 (fun _ => rfl) (fun G => zfo G) (by decide) ?_
  refine r_aload_n E dX38_run_8 rfl 2 rfl ?_
  refine r_aload_n E dX38_run_9 rfl 2 rfl ?_
  refine r_getN E zc_10 zt_920 dX38_run_10 q922 zr_10 (zg_920 _) hn1 (fun v3 => ?_)
  refine r_aload_n E dX38_run_13 rfl 0 rfl ?_
  refine r_gec (y := 1) E zc_38 dX38_run_14 q1334 zr_38 (zh_38_25_1) (by decide) ?_
  refine r_callV E [(6, v3), (0, 1)] [] rfl zc_10 zr_10 (fun o _ => ⟨_, zw_X8.1 o, rfl⟩) (lw_V q2531 q2319 q2320 q235 q2321) dX38_run_17 zy_X8_refusal_2 rfl (by omega) (by decide) (Nat.le_of_ble_eq_true rfl) hn1 (fun l G => k_fX8_refusal_2 l G x2 v3 1 hn1) (fun v4 => ?_)
  refine r_istore (ls' := [(4, 0, v4), (0, 38, 25), (1, 14, 0), (2, 10, x2), (3, 11, x3)]) E dX38_run_20 (by rw [hN]; decide) rfl ?_
  refine r_iload E dX38_run_22 0 rfl ?_
  refine r_if_eq E 30 (by decide) dX38_run_24 (fun _ => ?_) (fun _ => ?_)
  · refine r_aload_n E dX38_run_30 rfl 4 rfl ?_
    refine r_nn E (fun hn5 => ?_)
    refine r_getN E zc_11 zt_1000 dX38_run_31 q701 zr_11 (zg_1000 _) hn5 (fun v6 => ?_)
    refine r_callSN E [(1, v6)] [] rfl q2532 q1842 q227 q1843 dX38_run_34 zy_X0_isName rfl (by omega) (by decide) (Nat.le_of_ble_eq_true rfl) (fun l G => k_fX0_isName l G v6) (fun v7 => ?_)
    refine r_if_ne E 43 (by decide) dX38_run_37 (fun _ => ?_) (fun _ => ?_)
    · refine r_aload_n E dX38_run_43 rfl 2 rfl ?_
      refine r_gecN (y := 0) E zc_14 dX38_run_44 q1530 zr_14 (zh_1300 (by decide)) (by decide) ?_
      refine r_gecN (y := 0) E zc_3 dX38_run_47 q589 zr_3 (zh_201 (by decide)) (by decide) ?_
      refine r_aload_n E dX38_run_50 rfl 3 rfl ?_
      refine r_getN E zc_10 zt_920 dX38_run_51 q922 zr_10 (zg_920 _) hn1 (fun v8 => ?_)
      refine r_aload_n E dX38_run_54 rfl 4 rfl ?_
      refine r_getN E zc_11 zt_1000 dX38_run_55 q701 zr_11 (zg_1000 _) hn5 (fun v9 => ?_)
      refine r_callV E [(6, v8), (1, v9)] [] rfl zc_4 zr_4 (fun o _ => ⟨_, zw_X2.1 o, rfl⟩) (lw_V q2533 q1866 q1867 q229 q1868) dX38_run_58 zy_X2_find rfl (by omega) (by decide) (Nat.le_of_ble_eq_true rfl) (by decide) (fun l G => k_fX2_find l G v8 v9) (fun v10 => ?_)
      refine r_astore (ls' := [(5, 6, v10), (4, 0, v4), (0, 38, 25), (1, 14, 0), (2, 10, x2), (3, 11, x3)]) E dX38_run_61 (by rw [hN]; decide) rfl ?_
      refine r_aload_n E dX38_run_63 rfl 3 rfl ?_
      refine r_aload E dX38_run_64 0 rfl ?_
      refine r_putN E zc_14 zt_1306 zo_1306 dX38_run_66 q1544 zr_14 zw_X12 zp_1306 (fun _ => rfl) (fun G => zfo G) (by decide) ?_
      refine r_aload E dX38_run_69 0 rfl ?_
      refine r_ifnonnull E 78 (by decide) dX38_run_71 (fun _ => ?_) (fun hz11 => ?_)
      · refine r_iconst E dX38_run_74 (zkI (by decide) (by decide)) ?_
        refine r_goto E 87 (by decide) dX38_run_75 ?_
        exact r_ireturn E rfl hT dX38_run_87
      · refine r_aload_n E dX38_run_78 rfl 2 rfl ?_
        refine r_aload_n E dX38_run_79 rfl 3 rfl ?_
        refine r_aload E dX38_run_80 0 rfl ?_
        refine r_aload_n E dX38_run_82 rfl 4 rfl ?_
        refine r_aload_n E dX38_run_83 rfl 5 rfl ?_
        refine r_callU (n := 4) (x := ⟨"RingHouse$Entered", "on", "(LRingHouse$Machine;LRingHouse$Node;LRingHouse$Process;LRingHouse$Registers;)I"⟩) (owner := "RingHouse$Entered") E [(14, 0), (6, v10), (10, x2), (11, x3)] [] rfl zc_38 zr_38 zk_38_25 q2534 q2536 q2556 q2557 q287 q2558 (Or.inr q2535) dX38_run_84 (by decide +kernel) rfl (by omega) (by decide) (Nat.le_of_ble_eq_true rfl) (by decide) (fun l G => k_fX60_on_25 l G v10 x2 x3) (fun v12 => ?_)
        exact r_ireturn E rfl hT dX38_run_87
    · refine r_bipush E dX38_run_40 (by decide) (zkI (by decide) (by decide)) ?_
      exact r_ireturn E rfl hT dX38_run_42
  · refine r_iload E dX38_run_27 0 rfl ?_
    exact r_ireturn E rfl hT dX38_run_29
theorem k_fX38_run_25 (l : Launch) (G : zG) (x2 : Int) (x3 : Int) : zCt l G yX38_run cX38_run 6 (some .int) 5 [(38, 25), (14, 0), (10, x2), (11, x3)] (some 0) (fX38_run_25 x2 x3) := zCt.of (by decide) (Nat.le_of_ble_eq_true rfl) (fun K E _ _ hN hT => w_fX38_run_25 E hN hT x2 x3)
theorem dX6_oldest_0 : decode cX6_oldest 0 = .ok (.iconst 0, 1) := by decide +kernel
theorem dX6_oldest_1 : decode cX6_oldest 1 = .ok (.istore_n 2, 1) := by decide +kernel
theorem dX6_oldest_2 : decode cX6_oldest 2 = .ok (.iload_n 2, 1) := by decide +kernel
theorem dX6_oldest_3 : decode cX6_oldest 3 = .ok (.aload_n 0, 1) := by decide +kernel
theorem dX6_oldest_4 : decode cX6_oldest 4 = .ok (.getfield 19, 3) := by decide +kernel
theorem dX6_oldest_7 : decode cX6_oldest 7 = .ok (.if_icmp .ge 21, 3) := by decide +kernel
theorem dX6_oldest_10 : decode cX6_oldest 10 = .ok (.aload_n 0, 1) := by decide +kernel
theorem dX6_oldest_11 : decode cX6_oldest 11 = .ok (.getfield 15, 3) := by decide +kernel
theorem dX6_oldest_14 : decode cX6_oldest 14 = .ok (.iload_n 2, 1) := by decide +kernel
theorem dX6_oldest_15 : decode cX6_oldest 15 = .ok (.iaload, 1) := by decide +kernel
theorem dX6_oldest_16 : decode cX6_oldest 16 = .ok (.iload_n 1, 1) := by decide +kernel
theorem dX6_oldest_17 : decode cX6_oldest 17 = .ok (.if_icmp .ne 5, 3) := by decide +kernel
theorem dX6_oldest_20 : decode cX6_oldest 20 = .ok (.iload_n 2, 1) := by decide +kernel
theorem dX6_oldest_21 : decode cX6_oldest 21 = .ok (.ireturn, 1) := by decide +kernel
theorem dX6_oldest_22 : decode cX6_oldest 22 = .ok (.iinc 2 1, 3) := by decide +kernel
theorem dX6_oldest_25 : decode cX6_oldest 25 = .ok (.goto (-23), 3) := by decide +kernel
theorem dX6_oldest_28 : decode cX6_oldest 28 = .ok (.iconst (-1), 1) := by decide +kernel
theorem dX6_oldest_29 : decode cX6_oldest 29 = .ok (.ireturn, 1) := by decide +kernel
theorem zy_X6_oldest : yX6_oldest.cls ≠ "java/lang/invoke/MethodHandle" ∧ yX6_oldest.cls ≠ "java/lang/invoke/VarHandle" ∧ (parseMethodDescriptor yX6_oldest.desc).map (fun d => d.parameters.length) = some 1 := by decide +kernel
theorem w_fX6_oldest_B2 {K : zK} (E : zE K cX6_oldest "RingHouse$Box" (some .int) 0) (hN : zNl K = 3) (hT : zTr K = (some 0)) (x0 : Int) (x1 : Int) (h0 : 0 ≤ x0) : ∀ r2 : Int → zX, (∀ s : Int, zR K 2 [(0, 8, x0), (1, 0, x1), (2, 0, s)] [] (r2 s)) → ∀ s : Int, zR K 2 [(0, 8, x0), (1, 0, x1), (2, 0, s)] [] (fX6_oldest_B2 x0 x1 r2 s) := by
  intro r2 hr2 x2
  refine r_iload_n E dX6_oldest_2 rfl 2 rfl ?_
  refine r_aload_n E dX6_oldest_3 rfl 0 rfl ?_
  refine r_get E zc_8 zt_702 dX6_oldest_4 q546 zr_8 (zg_702 _) h0 (fun v1 => ?_)
  refine r_icmp_ge E 28 (by decide) dX6_oldest_7 (fun _ => ?_) (fun _ => ?_)
  · refine r_iconst E dX6_oldest_28 (zkI (by decide) (by decide)) ?_
    exact r_ireturn E rfl hT dX6_oldest_29
  · refine r_aload_n E dX6_oldest_10 rfl 0 rfl ?_
    refine r_gec (y := x0) E zc_8 dX6_oldest_11 q542 zr_8 (zh_701 (by omega)) h0 ?_
    refine r_iload_n E dX6_oldest_14 rfl 2 rfl ?_
    refine r_iaload E zc_701 za_701 zt_701 zx_701 rfl rfl dX6_oldest_15 h0 (fun v2 => ?_)
    refine r_iload_n E dX6_oldest_16 rfl 1 rfl ?_
    refine r_icmp_ne E 22 (by decide) dX6_oldest_17 (fun _ => ?_) (fun _ => ?_)
    · refine r_iinc (ls' := fun v3 => [(2, 0, v3), (0, 8, x0), (1, 0, x1)]) E 2 rfl (by rw [hN]; decide) (fun _ => rfl) dX6_oldest_22 (fun v3 _ => ?_)
      refine r_goto E 2 (by decide) dX6_oldest_25 ?_
      refine r_pick E [1, 2, 0] rfl ?_
      exact hr2 v3
    · refine r_iload_n E dX6_oldest_20 rfl 2 rfl ?_
      exact r_ireturn E rfl hT dX6_oldest_21
theorem w_fX6_oldest {K : zK} (E : zE K cX6_oldest "RingHouse$Box" (some .int) 0) (hN : zNl K = 3) (hT : zTr K = (some 0)) (x0 : Int) (x1 : Int) (h0 : 0 ≤ x0) : zR K 0 [(0, 8, x0), (1, 0, x1)] [] (fX6_oldest x0 x1) := by
  refine r_iconst E dX6_oldest_0 (zkI (by decide) (by decide)) ?_
  refine r_istore_n (ls' := [(2, 0, 0), (0, 8, x0), (1, 0, x1)]) E dX6_oldest_1 rfl (by rw [hN]; decide) rfl ?_
  refine r_pick E [1, 2, 0] rfl ?_
  exact r_loop (L := fun s => [(0, 8, x0), (1, 0, x1), (2, 0, s)]) (w_fX6_oldest_B2 E hN hT x0 x1 h0) zBIG 0
theorem k_fX6_oldest (l : Launch) (G : zG) (x0 : Int) (x1 : Int) (h0 : 0 ≤ x0) : zCt l G yX6_oldest cX6_oldest 3 (some .int) 0 [(8, x0), (0, x1)] (some 0) (fX6_oldest x0 x1) := zCt.of (by decide) (Nat.le_of_ble_eq_true rfl) (fun K E _ _ hN hT => w_fX6_oldest E hN hT x0 x1 h0)
theorem dX6_take_0 : decode cX6_take 0 = .ok (.aload_n 0, 1) := by decide +kernel
theorem dX6_take_1 : decode cX6_take 1 = .ok (.getfield 9, 3) := by decide +kernel
theorem dX6_take_4 : decode cX6_take 4 = .ok (.iload_n 1, 1) := by decide +kernel
theorem dX6_take_5 : decode cX6_take 5 = .ok (.laload, 1) := by decide +kernel
theorem dX6_take_6 : decode cX6_take 6 = .ok (.lstore_n 2, 1) := by decide +kernel
theorem dX6_take_7 : decode cX6_take 7 = .ok (.aload_n 0, 1) := by decide +kernel
theorem dX6_take_8 : decode cX6_take 8 = .ok (.dup, 1) := by decide +kernel
theorem dX6_take_9 : decode cX6_take 9 = .ok (.getfield 19, 3) := by decide +kernel
theorem dX6_take_12 : decode cX6_take 12 = .ok (.iconst 1, 1) := by decide +kernel
theorem dX6_take_13 : decode cX6_take 13 = .ok (.isub, 1) := by decide +kernel
theorem dX6_take_14 : decode cX6_take 14 = .ok (.putfield 19, 3) := by decide +kernel
theorem dX6_take_17 : decode cX6_take 17 = .ok (.iload_n 1, 1) := by decide +kernel
theorem dX6_take_18 : decode cX6_take 18 = .ok (.istore 4, 2) := by decide +kernel
theorem dX6_take_20 : decode cX6_take 20 = .ok (.iload 4, 2) := by decide +kernel
theorem dX6_take_22 : decode cX6_take 22 = .ok (.aload_n 0, 1) := by decide +kernel
theorem dX6_take_23 : decode cX6_take 23 = .ok (.getfield 19, 3) := by decide +kernel
theorem dX6_take_26 : decode cX6_take 26 = .ok (.if_icmp .ge 41, 3) := by decide +kernel
theorem dX6_take_29 : decode cX6_take 29 = .ok (.aload_n 0, 1) := by decide +kernel
theorem dX6_take_30 : decode cX6_take 30 = .ok (.getfield 9, 3) := by decide +kernel
theorem dX6_take_33 : decode cX6_take 33 = .ok (.iload 4, 2) := by decide +kernel
theorem dX6_take_35 : decode cX6_take 35 = .ok (.aload_n 0, 1) := by decide +kernel
theorem dX6_take_36 : decode cX6_take 36 = .ok (.getfield 9, 3) := by decide +kernel
theorem dX6_take_39 : decode cX6_take 39 = .ok (.iload 4, 2) := by decide +kernel
theorem dX6_take_41 : decode cX6_take 41 = .ok (.iconst 1, 1) := by decide +kernel
theorem dX6_take_42 : decode cX6_take 42 = .ok (.iadd, 1) := by decide +kernel
theorem dX6_take_43 : decode cX6_take 43 = .ok (.laload, 1) := by decide +kernel
theorem dX6_take_44 : decode cX6_take 44 = .ok (.lastore, 1) := by decide +kernel
theorem dX6_take_45 : decode cX6_take 45 = .ok (.aload_n 0, 1) := by decide +kernel
theorem dX6_take_46 : decode cX6_take 46 = .ok (.getfield 15, 3) := by decide +kernel
theorem dX6_take_49 : decode cX6_take 49 = .ok (.iload 4, 2) := by decide +kernel
theorem dX6_take_51 : decode cX6_take 51 = .ok (.aload_n 0, 1) := by decide +kernel
theorem dX6_take_52 : decode cX6_take 52 = .ok (.getfield 15, 3) := by decide +kernel
theorem dX6_take_55 : decode cX6_take 55 = .ok (.iload 4, 2) := by decide +kernel
theorem dX6_take_57 : decode cX6_take 57 = .ok (.iconst 1, 1) := by decide +kernel
theorem dX6_take_58 : decode cX6_take 58 = .ok (.iadd, 1) := by decide +kernel
theorem dX6_take_59 : decode cX6_take 59 = .ok (.iaload, 1) := by decide +kernel
theorem dX6_take_60 : decode cX6_take 60 = .ok (.iastore, 1) := by decide +kernel
theorem dX6_take_61 : decode cX6_take 61 = .ok (.iinc 4 1, 3) := by decide +kernel
theorem dX6_take_64 : decode cX6_take 64 = .ok (.goto (-44), 3) := by decide +kernel
theorem dX6_take_67 : decode cX6_take 67 = .ok (.lload_n 2, 1) := by decide +kernel
theorem dX6_take_68 : decode cX6_take 68 = .ok (.lreturn, 1) := by decide +kernel
theorem zy_X6_take : yX6_take.cls ≠ "java/lang/invoke/MethodHandle" ∧ yX6_take.cls ≠ "java/lang/invoke/VarHandle" ∧ (parseMethodDescriptor yX6_take.desc).map (fun d => d.parameters.length) = some 1 := by decide +kernel
theorem w_fX6_take_B20 {K : zK} (E : zE K cX6_take "RingHouse$Box" (some .long) 0) (hN : zNl K = 5) (hT : zTr K = (some 1)) (x0 : Int) (x2 : Int) (h0 : 0 ≤ x0) : ∀ r20 : Int → zX, (∀ s : Int, zR K 20 [(0, 8, x0), (2, 1, x2), (4, 0, s)] [] (r20 s)) → ∀ s : Int, zR K 20 [(0, 8, x0), (2, 1, x2), (4, 0, s)] [] (fX6_take_B20 x0 x2 r20 s) := by
  intro r20 hr20 x4
  refine r_iload E dX6_take_20 2 rfl ?_
  refine r_aload_n E dX6_take_22 rfl 0 rfl ?_
  refine r_get E zc_8 zt_702 dX6_take_23 q546 zr_8 (zg_702 _) h0 (fun v3 => ?_)
  refine r_icmp_ge E 67 (by decide) dX6_take_26 (fun _ => ?_) (fun _ => ?_)
  · refine r_lload_n E dX6_take_67 rfl 1 rfl ?_
    exact r_lreturn E rfl hT dX6_take_68
  · refine r_aload_n E dX6_take_29 rfl 0 rfl ?_
    refine r_gec (y := x0) E zc_8 dX6_take_30 q538 zr_8 (zh_700 (by omega)) h0 ?_
    refine r_iload E dX6_take_33 2 rfl ?_
    refine r_aload_n E dX6_take_35 rfl 0 rfl ?_
    refine r_gec (y := x0) E zc_8 dX6_take_36 q538 zr_8 (zh_700 (by omega)) h0 ?_
    refine r_iload E dX6_take_39 2 rfl ?_
    refine r_iconst E dX6_take_41 (zkI (by decide) (by decide)) ?_
    refine r_iadd E dX6_take_42 ?_
    refine r_laload E zc_700 za_700 zt_700 zx_700 rfl rfl dX6_take_43 h0 (fun v4 => ?_)
    refine r_lastore E zc_700 za_700 zt_700 zo_700 zx_700 rfl rfl dX6_take_44 h0 ?_
    refine r_aload_n E dX6_take_45 rfl 0 rfl ?_
    refine r_gec (y := x0) E zc_8 dX6_take_46 q542 zr_8 (zh_701 (by omega)) h0 ?_
    refine r_iload E dX6_take_49 2 rfl ?_
    refine r_aload_n E dX6_take_51 rfl 0 rfl ?_
    refine r_gec (y := x0) E zc_8 dX6_take_52 q542 zr_8 (zh_701 (by omega)) h0 ?_
    refine r_iload E dX6_take_55 2 rfl ?_
    refine r_iconst E dX6_take_57 (zkI (by decide) (by decide)) ?_
    refine r_iadd E dX6_take_58 ?_
    refine r_iaload E zc_701 za_701 zt_701 zx_701 rfl rfl dX6_take_59 h0 (fun v5 => ?_)
    refine r_iastore E zc_701 za_701 zt_701 zo_701 zx_701 rfl rfl dX6_take_60 h0 ?_
    refine r_iinc (ls' := fun v6 => [(4, 0, v6), (0, 8, x0), (2, 1, x2)]) E 2 rfl (by rw [hN]; decide) (fun _ => rfl) dX6_take_61 (fun v6 _ => ?_)
    refine r_goto E 20 (by decide) dX6_take_64 ?_
    refine r_pick E [1, 2, 0] rfl ?_
    exact hr20 v6
theorem w_fX6_take {K : zK} (E : zE K cX6_take "RingHouse$Box" (some .long) 0) (hN : zNl K = 5) (hT : zTr K = (some 1)) (x0 : Int) (x1 : Int) (h0 : 0 ≤ x0) : zR K 0 [(0, 8, x0), (1, 0, x1)] [] (fX6_take x0 x1) := by
  refine r_aload_n E dX6_take_0 rfl 0 rfl ?_
  refine r_gec (y := x0) E zc_8 dX6_take_1 q538 zr_8 (zh_700 (by omega)) h0 ?_
  refine r_iload_n E dX6_take_4 rfl 1 rfl ?_
  refine r_laload E zc_700 za_700 zt_700 zx_700 rfl rfl dX6_take_5 h0 (fun v1 => ?_)
  refine r_lstore_n (ls' := [(2, 1, v1), (0, 8, x0), (1, 0, x1)]) E dX6_take_6 rfl (by rw [hN]; decide) rfl ?_
  refine r_aload_n E dX6_take_7 rfl 1 rfl ?_
  refine r_dup E (zn1 rfl) dX6_take_8 ?_
  refine r_get E zc_8 zt_702 dX6_take_9 q546 zr_8 (zg_702 _) h0 (fun v2 => ?_)
  refine r_iconst E dX6_take_12 (zkI (by decide) (by decide)) ?_
  refine r_isub E dX6_take_13 ?_
  refine r_put E zc_8 zt_702 zo_702 dX6_take_14 q546 zr_8 zw_X6 zp_702 (fun _ => rfl) (fun _ => rfl) h0 ?_
  refine r_iload_n E dX6_take_17 rfl 2 rfl ?_
  refine r_istore (ls' := [(4, 0, x1), (2, 1, v1), (0, 8, x0), (1, 0, x1)]) E dX6_take_18 (by rw [hN]; decide) rfl ?_
  refine r_pick E [2, 1, 0] rfl ?_
  exact r_loop (L := fun s => [(0, 8, x0), (2, 1, v1), (4, 0, s)]) (w_fX6_take_B20 E hN hT x0 v1 h0) zBIG x1
theorem k_fX6_take (l : Launch) (G : zG) (x0 : Int) (x1 : Int) (h0 : 0 ≤ x0) : zCt l G yX6_take cX6_take 5 (some .long) 0 [(8, x0), (0, x1)] (some 1) (fX6_take x0 x1) := zCt.of (by decide) (Nat.le_of_ble_eq_true rfl) (fun K E _ _ hN hT => w_fX6_take E hN hT x0 x1 h0)
theorem dX62_with_0 : decode cX62_with 0 = .ok (.aload_n 1, 1) := by decide +kernel
theorem dX62_with_1 : decode cX62_with 1 = .ok (.aload_n 2, 1) := by decide +kernel
theorem dX62_with_2 : decode cX62_with 2 = .ok (.getfield 9, 3) := by decide +kernel
theorem dX62_with_5 : decode cX62_with 5 = .ok (.invokevirtual 15, 3) := by decide +kernel
theorem dX62_with_8 : decode cX62_with 8 = .ok (.istore 4, 2) := by decide +kernel
theorem dX62_with_10 : decode cX62_with 10 = .ok (.iload 4, 2) := by decide +kernel
theorem dX62_with_12 : decode cX62_with 12 = .ok (.ifCond .ge 5, 3) := by decide +kernel
theorem dX62_with_15 : decode cX62_with 15 = .ok (.iconst (-1), 1) := by decide +kernel
theorem dX62_with_16 : decode cX62_with 16 = .ok (.ireturn, 1) := by decide +kernel
theorem dX62_with_17 : decode cX62_with 17 = .ok (.aload_n 3, 1) := by decide +kernel
theorem dX62_with_18 : decode cX62_with 18 = .ok (.aload_n 1, 1) := by decide +kernel
theorem dX62_with_19 : decode cX62_with 19 = .ok (.iload 4, 2) := by decide +kernel
theorem dX62_with_21 : decode cX62_with 21 = .ok (.invokevirtual 21, 3) := by decide +kernel
theorem dX62_with_24 : decode cX62_with 24 = .ok (.putfield 25, 3) := by decide +kernel
theorem dX62_with_27 : decode cX62_with 27 = .ok (.iconst 0, 1) := by decide +kernel
theorem dX62_with_28 : decode cX62_with 28 = .ok (.ireturn, 1) := by decide +kernel
theorem zy_X62_with : yX62_with.cls ≠ "java/lang/invoke/MethodHandle" ∧ yX62_with.cls ≠ "java/lang/invoke/VarHandle" ∧ (parseMethodDescriptor yX62_with.desc).map (fun d => d.parameters.length) = some 3 := by decide +kernel
theorem w_fX62_with_26 {K : zK} (E : zE K cX62_with "RingHouse$Take" (some .int) 1) (hN : zNl K = 5) (hT : zTr K = (some 0)) (x1 : Int) (x2 : Int) (x3 : Int) : zR K 0 [(0, 38, 26), (1, 8, x1), (2, 10, x2), (3, 11, x3)] [] (fX62_with_26 x1 x2 x3) := by
  refine r_aload_n E dX62_with_0 rfl 1 rfl ?_
  refine r_aload_n E dX62_with_1 rfl 2 rfl ?_
  refine r_nn E (fun hn1 => ?_)
  refine r_getN E zc_10 zt_906 dX62_with_2 q879 zr_10 (zg_906 _) hn1 (fun v2 => ?_)
  refine r_nn E (fun hn3 => ?_)
  refine r_callV E [(0, v2)] [] rfl zc_8 zr_8 (fun o _ => ⟨_, zw_X6.1 o, rfl⟩) (lw_V q2589 q2590 q2591 q233 q2592) dX62_with_5 zy_X6_oldest rfl (by omega) (by decide) (Nat.le_of_ble_eq_true rfl) hn3 (fun l G => k_fX6_oldest l G x1 v2 hn3) (fun v4 => ?_)
  refine r_istore (ls' := [(4, 0, v4), (0, 38, 26), (1, 8, x1), (2, 10, x2), (3, 11, x3)]) E dX62_with_8 (by rw [hN]; decide) rfl ?_
  refine r_iload E dX62_with_10 0 rfl ?_
  refine r_if_ge E 17 (by decide) dX62_with_12 (fun _ => ?_) (fun _ => ?_)
  · refine r_aload_n E dX62_with_17 rfl 4 rfl ?_
    refine r_aload_n E dX62_with_18 rfl 2 rfl ?_
    refine r_iload E dX62_with_19 0 rfl ?_
    refine r_callV E [(0, v4)] [(11, x3)] rfl zc_8 zr_8 (fun o _ => ⟨_, zw_X6.1 o, rfl⟩) (lw_V q2593 q2594 q2595 q233 q2596) dX62_with_21 zy_X6_take rfl (by omega) (by decide) (Nat.le_of_ble_eq_true rfl) hn3 (fun l G => k_fX6_take l G x1 v4 hn3) (fun v5 => ?_)
    refine r_nn E (fun hn6 => ?_)
    refine r_putN E zc_11 zt_1001 zo_1001 dX62_with_24 q718 zr_11 zw_X9 zp_1001 (fun _ => rfl) (fun _ => rfl) hn6 ?_
    refine r_iconst E dX62_with_27 (zkI (by decide) (by decide)) ?_
    exact r_ireturn E rfl hT dX62_with_28
  · refine r_iconst E dX62_with_15 (zkI (by decide) (by decide)) ?_
    exact r_ireturn E rfl hT dX62_with_16
theorem k_fX62_with_26 (l : Launch) (G : zG) (x1 : Int) (x2 : Int) (x3 : Int) : zCt l G yX62_with cX62_with 5 (some .int) 1 [(38, 26), (8, x1), (10, x2), (11, x3)] (some 0) (fX62_with_26 x1 x2 x3) := zCt.of (by decide) (Nat.le_of_ble_eq_true rfl) (fun K E _ _ hN hT => w_fX62_with_26 E hN hT x1 x2 x3)
theorem w_fX60_on_26 {K : zK} (E : zE K cX60_on "RingHouse$Mailed" (some .int) 4) (hN : zNl K = 6) (hT : zTr K = (some 0)) (x2 : Int) (x3 : Int) (x4 : Int) : zR K 0 [(0, 38, 26), (1, 14, 0), (2, 6, x2), (3, 10, x3), (4, 11, x4)] [] (fX60_on_26 x2 x3 x4) := by
  refine r_aload_n E dX60_on_0 rfl 2 rfl ?_
  refine r_nn E (fun hn1 => ?_)
  refine r_callV E [] [] rfl zc_6 zr_6 (fun o _ => ⟨_, zw_X4.1 o, rfl⟩) (lw_V q2559 q1921 q1922 q231 q1923) dX60_on_1 zy_X4_isMailbox rfl (by omega) (by decide) (Nat.le_of_ble_eq_true rfl) hn1 (fun l G => k_fX4_isMailbox l G x2 hn1) (fun v2 => ?_)
  refine r_if_ne E 10 (by decide) dX60_on_4 (fun _ => ?_) (fun _ => ?_)
  · refine r_aload_n E dX60_on_10 rfl 3 rfl ?_
    refine r_aload_n E dX60_on_11 rfl 2 rfl ?_
    refine r_aload_n E dX60_on_12 rfl 0 rfl ?_
    refine r_gec (y := 2) E zc_38 dX60_on_13 q1503 zr_38 (zh_38_26_0) (by decide) ?_
    refine r_nn E (fun hn3 => ?_)
    refine r_callV E [(6, x2), (0, 2)] [] rfl zc_10 zr_10 (fun o _ => ⟨_, zw_X8.1 o, rfl⟩) (lw_V q2560 q2561 q2562 q235 q2563) dX60_on_16 zy_X8_refusalOfBox rfl (by omega) (by decide) (Nat.le_of_ble_eq_true rfl) hn3 (fun l G => k_fX8_refusalOfBox l G x3 x2 2 hn3) (fun v4 => ?_)
    refine r_istore (ls' := [(5, 0, v4), (0, 38, 26), (1, 14, 0), (2, 6, x2), (3, 10, x3), (4, 11, x4)]) E dX60_on_19 (by rw [hN]; decide) rfl ?_
    refine r_iload E dX60_on_21 0 rfl ?_
    refine r_if_eq E 31 (by decide) dX60_on_23 (fun _ => ?_) (fun _ => ?_)
    · refine r_aload_n E dX60_on_31 rfl 1 rfl ?_
      refine r_aload_n E dX60_on_32 rfl 3 rfl ?_
      refine r_getN E zc_6 zt_520 dX60_on_33 q465 zr_6 (zg_520 _) hn1 (fun v5 => ?_)
      refine r_aload_n E dX60_on_36 rfl 4 rfl ?_
      refine r_aload E dX60_on_37 5 rfl ?_
      refine r_callU (n := 3) (x := ⟨"RingHouse$Mailed", "with", "(LRingHouse$Box;LRingHouse$Process;LRingHouse$Registers;)I"⟩) (owner := "RingHouse$Mailed") E [(8, v5), (10, x3), (11, x4)] [] rfl zc_38 zr_38 zk_38_26 q2564 q2566 q2586 q2587 q289 q2588 (Or.inr q2565) dX60_on_39 (by decide +kernel) rfl (by omega) (by decide) (Nat.le_of_ble_eq_true rfl) (by decide) (fun l G => k_fX62_with_26 l G v5 x3 x4) (fun v6 => ?_)
      exact r_ireturn E rfl hT dX60_on_42
    · refine r_iload E dX60_on_26 0 rfl ?_
      refine r_goto E 42 (by decide) dX60_on_28 ?_
      exact r_ireturn E rfl hT dX60_on_42
  · refine r_bipush E dX60_on_7 (by decide) (zkI (by decide) (by decide)) ?_
    exact r_ireturn E rfl hT dX60_on_9
theorem k_fX60_on_26 (l : Launch) (G : zG) (x2 : Int) (x3 : Int) (x4 : Int) : zCt l G yX60_on cX60_on 6 (some .int) 4 [(38, 26), (14, 0), (6, x2), (10, x3), (11, x4)] (some 0) (fX60_on_26 x2 x3 x4) := zCt.of (by decide) (Nat.le_of_ble_eq_true rfl) (fun K E _ _ hN hT => w_fX60_on_26 E hN hT x2 x3 x4)
theorem w_fX38_run_26 {K : zK} (E : zE K cX38_run "RingHouse$Entered" (some .int) 5) (hN : zNl K = 6) (hT : zTr K = (some 0)) (x2 : Int) (x3 : Int) : zR K 0 [(0, 38, 26), (1, 14, 0), (2, 10, x2), (3, 11, x3)] [] (fX38_run_26 x2 x3) := by
  refine r_aload_n E dX38_run_0 rfl 1 rfl ?_
  refine r_aload_n E dX38_run_1 rfl 2 rfl ?_
  refine r_nn E (fun hn1 => ?_)
  refine r_getN E zc_10 zt_920 dX38_run_2 q922 zr_10 (zg_920 _) hn1 (fun v2 => ?_)
  refine r_putN E zc_14 zt_1306 zo_1306 dX38_run_5 q1544 zr_14 zw_X12 zp_1306 (fun _ => rfl) (fun G => zfo G) (by decide) ?_
  refine r_aload_n E dX38_run_8 rfl 2 rfl ?_
  refine r_aload_n E dX38_run_9 rfl 2 rfl ?_
  refine r_getN E zc_10 zt_920 dX38_run_10 q922 zr_10 (zg_920 _) hn1 (fun v3 => ?_)
  refine r_aload_n E dX38_run_13 rfl 0 rfl ?_
  refine r_gec (y := 1) E zc_38 dX38_run_14 q1334 zr_38 (zh_38_26_1) (by decide) ?_
  refine r_callV E [(6, v3), (0, 1)] [] rfl zc_10 zr_10 (fun o _ => ⟨_, zw_X8.1 o, rfl⟩) (lw_V q2531 q2319 q2320 q235 q2321) dX38_run_17 zy_X8_refusal_2 rfl (by omega) (by decide) (Nat.le_of_ble_eq_true rfl) hn1 (fun l G => k_fX8_refusal_2 l G x2 v3 1 hn1) (fun v4 => ?_)
  refine r_istore (ls' := [(4, 0, v4), (0, 38, 26), (1, 14, 0), (2, 10, x2), (3, 11, x3)]) E dX38_run_20 (by rw [hN]; decide) rfl ?_
  refine r_iload E dX38_run_22 0 rfl ?_
  refine r_if_eq E 30 (by decide) dX38_run_24 (fun _ => ?_) (fun _ => ?_)
  · refine r_aload_n E dX38_run_30 rfl 4 rfl ?_
    refine r_nn E (fun hn5 => ?_)
    refine r_getN E zc_11 zt_1000 dX38_run_31 q701 zr_11 (zg_1000 _) hn5 (fun v6 => ?_)
    refine r_callSN E [(1, v6)] [] rfl q2532 q1842 q227 q1843 dX38_run_34 zy_X0_isName rfl (by omega) (by decide) (Nat.le_of_ble_eq_true rfl) (fun l G => k_fX0_isName l G v6) (fun v7 => ?_)
    refine r_if_ne E 43 (by decide) dX38_run_37 (fun _ => ?_) (fun _ => ?_)
    · refine r_aload_n E dX38_run_43 rfl 2 rfl ?_
      refine r_gecN (y := 0) E zc_14 dX38_run_44 q1530 zr_14 (zh_1300 (by decide)) (by decide) ?_
      refine r_gecN (y := 0) E zc_3 dX38_run_47 q589 zr_3 (zh_201 (by decide)) (by decide) ?_
      refine r_aload_n E dX38_run_50 rfl 3 rfl ?_
      refine r_getN E zc_10 zt_920 dX38_run_51 q922 zr_10 (zg_920 _) hn1 (fun v8 => ?_)
      refine r_aload_n E dX38_run_54 rfl 4 rfl ?_
      refine r_getN E zc_11 zt_1000 dX38_run_55 q701 zr_11 (zg_1000 _) hn5 (fun v9 => ?_)
      refine r_callV E [(6, v8), (1, v9)] [] rfl zc_4 zr_4 (fun o _ => ⟨_, zw_X2.1 o, rfl⟩) (lw_V q2533 q1866 q1867 q229 q1868) dX38_run_58 zy_X2_find rfl (by omega) (by decide) (Nat.le_of_ble_eq_true rfl) (by decide) (fun l G => k_fX2_find l G v8 v9) (fun v10 => ?_)
      refine r_astore (ls' := [(5, 6, v10), (4, 0, v4), (0, 38, 26), (1, 14, 0), (2, 10, x2), (3, 11, x3)]) E dX38_run_61 (by rw [hN]; decide) rfl ?_
      refine r_aload_n E dX38_run_63 rfl 3 rfl ?_
      refine r_aload E dX38_run_64 0 rfl ?_
      refine r_putN E zc_14 zt_1306 zo_1306 dX38_run_66 q1544 zr_14 zw_X12 zp_1306 (fun _ => rfl) (fun G => zfo G) (by decide) ?_
      refine r_aload E dX38_run_69 0 rfl ?_
      refine r_ifnonnull E 78 (by decide) dX38_run_71 (fun _ => ?_) (fun hz11 => ?_)
      · refine r_iconst E dX38_run_74 (zkI (by decide) (by decide)) ?_
        refine r_goto E 87 (by decide) dX38_run_75 ?_
        exact r_ireturn E rfl hT dX38_run_87
      · refine r_aload_n E dX38_run_78 rfl 2 rfl ?_
        refine r_aload_n E dX38_run_79 rfl 3 rfl ?_
        refine r_aload E dX38_run_80 0 rfl ?_
        refine r_aload_n E dX38_run_82 rfl 4 rfl ?_
        refine r_aload_n E dX38_run_83 rfl 5 rfl ?_
        refine r_callU (n := 4) (x := ⟨"RingHouse$Entered", "on", "(LRingHouse$Machine;LRingHouse$Node;LRingHouse$Process;LRingHouse$Registers;)I"⟩) (owner := "RingHouse$Entered") E [(14, 0), (6, v10), (10, x2), (11, x3)] [] rfl zc_38 zr_38 zk_38_26 q2534 q2536 q2623 q2557 q287 q2558 (Or.inr q2535) dX38_run_84 (by decide +kernel) rfl (by omega) (by decide) (Nat.le_of_ble_eq_true rfl) (by decide) (fun l G => k_fX60_on_26 l G v10 x2 x3) (fun v12 => ?_)
        exact r_ireturn E rfl hT dX38_run_87
    · refine r_bipush E dX38_run_40 (by decide) (zkI (by decide) (by decide)) ?_
      exact r_ireturn E rfl hT dX38_run_42
  · refine r_iload E dX38_run_27 0 rfl ?_
    exact r_ireturn E rfl hT dX38_run_29
theorem k_fX38_run_26 (l : Launch) (G : zG) (x2 : Int) (x3 : Int) : zCt l G yX38_run cX38_run 6 (some .int) 5 [(38, 26), (14, 0), (10, x2), (11, x3)] (some 0) (fX38_run_26 x2 x3) := zCt.of (by decide) (Nat.le_of_ble_eq_true rfl) (fun K E _ _ hN hT => w_fX38_run_26 E hN hT x2 x3)
theorem dX6_seen_0 : decode cX6_seen 0 = .ok (.iload_n 2, 1) := by decide +kernel
theorem dX6_seen_1 : decode cX6_seen 1 = .ok (.istore_n 3, 1) := by decide +kernel
theorem dX6_seen_2 : decode cX6_seen 2 = .ok (.iconst 0, 1) := by decide +kernel
theorem dX6_seen_3 : decode cX6_seen 3 = .ok (.istore 4, 2) := by decide +kernel
theorem dX6_seen_5 : decode cX6_seen 5 = .ok (.iload 4, 2) := by decide +kernel
theorem dX6_seen_7 : decode cX6_seen 7 = .ok (.aload_n 0, 1) := by decide +kernel
theorem dX6_seen_8 : decode cX6_seen 8 = .ok (.getfield 19, 3) := by decide +kernel
theorem dX6_seen_11 : decode cX6_seen 11 = .ok (.if_icmp .ge 33, 3) := by decide +kernel
theorem dX6_seen_14 : decode cX6_seen 14 = .ok (.iload_n 1, 1) := by decide +kernel
theorem dX6_seen_15 : decode cX6_seen 15 = .ok (.aload_n 0, 1) := by decide +kernel
theorem dX6_seen_16 : decode cX6_seen 16 = .ok (.getfield 15, 3) := by decide +kernel
theorem dX6_seen_19 : decode cX6_seen 19 = .ok (.iload 4, 2) := by decide +kernel
theorem dX6_seen_21 : decode cX6_seen 21 = .ok (.iaload, 1) := by decide +kernel
theorem dX6_seen_22 : decode cX6_seen 22 = .ok (.invokestatic 27, 3) := by decide +kernel
theorem dX6_seen_25 : decode cX6_seen 25 = .ok (.ifCond .eq 13, 3) := by decide +kernel
theorem dX6_seen_28 : decode cX6_seen 28 = .ok (.iload_n 3, 1) := by decide +kernel
theorem dX6_seen_29 : decode cX6_seen 29 = .ok (.ifCond .ne 6, 3) := by decide +kernel
theorem dX6_seen_32 : decode cX6_seen 32 = .ok (.iload 4, 2) := by decide +kernel
theorem dX6_seen_34 : decode cX6_seen 34 = .ok (.ireturn, 1) := by decide +kernel
theorem dX6_seen_35 : decode cX6_seen 35 = .ok (.iinc 3 (-1), 3) := by decide +kernel
theorem dX6_seen_38 : decode cX6_seen 38 = .ok (.iinc 4 1, 3) := by decide +kernel
theorem dX6_seen_41 : decode cX6_seen 41 = .ok (.goto (-36), 3) := by decide +kernel
theorem dX6_seen_44 : decode cX6_seen 44 = .ok (.iconst (-1), 1) := by decide +kernel
theorem dX6_seen_45 : decode cX6_seen 45 = .ok (.ireturn, 1) := by decide +kernel
theorem zy_X6_seen : yX6_seen.cls ≠ "java/lang/invoke/MethodHandle" ∧ yX6_seen.cls ≠ "java/lang/invoke/VarHandle" ∧ (parseMethodDescriptor yX6_seen.desc).map (fun d => d.parameters.length) = some 2 := by decide +kernel
theorem w_fX6_seen_J38 {K : zK} (E : zE K cX6_seen "RingHouse$Box" (some .int) 1) (hN : zNl K = 5) (hT : zTr K = (some 0)) (x0 : Int) (x1 : Int) (x3 : Int) (x4 : Int) {r5 : Int × Int → zX} (hr5 : ∀ s : Int × Int, zR K 5 [(0, 8, x0), (1, 0, x1), (3, 0, s.1), (4, 0, s.2)] [] (r5 s)) (h0 : 0 ≤ x0) : zR K 38 [(0, 8, x0), (1, 0, x1), (3, 0, x3), (4, 0, x4)] [] (fX6_seen_J38 r5 x0 x1 x3 x4) := by
  refine r_iinc (ls' := fun v4 => [(4, 0, v4), (0, 8, x0), (1, 0, x1), (3, 0, x3)]) E 3 rfl (by rw [hN]; decide) (fun _ => rfl) dX6_seen_38 (fun v4 _ => ?_)
  refine r_goto E 5 (by decide) dX6_seen_41 ?_
  refine r_pick E [1, 2, 3, 0] rfl ?_
  exact hr5 (x3, v4)
theorem w_fX6_seen_B5 {K : zK} (E : zE K cX6_seen "RingHouse$Box" (some .int) 1) (hN : zNl K = 5) (hT : zTr K = (some 0)) (x0 : Int) (x1 : Int) (h0 : 0 ≤ x0) : ∀ r5 : Int × Int → zX, (∀ s : Int × Int, zR K 5 [(0, 8, x0), (1, 0, x1), (3, 0, s.1), (4, 0, s.2)] [] (r5 s)) → ∀ s : Int × Int, zR K 5 [(0, 8, x0), (1, 0, x1), (3, 0, s.1), (4, 0, s.2)] [] (fX6_seen_B5 x0 x1 r5 s) := by
  intro r5 hr5 s
  obtain ⟨x3, x4⟩ := s
  unfold fX6_seen_B5
  refine r_iload E dX6_seen_5 3 rfl ?_
  refine r_aload_n E dX6_seen_7 rfl 0 rfl ?_
  refine r_get E zc_8 zt_702 dX6_seen_8 q546 zr_8 (zg_702 _) h0 (fun v1 => ?_)
  refine r_icmp_ge E 44 (by decide) dX6_seen_11 (fun _ => ?_) (fun _ => ?_)
  · refine r_iconst E dX6_seen_44 (zkI (by decide) (by decide)) ?_
    exact r_ireturn E rfl hT dX6_seen_45
  · refine r_iload_n E dX6_seen_14 rfl 1 rfl ?_
    refine r_aload_n E dX6_seen_15 rfl 0 rfl ?_
    refine r_gec (y := x0) E zc_8 dX6_seen_16 q542 zr_8 (zh_701 (by omega)) h0 ?_
    refine r_iload E dX6_seen_19 3 rfl ?_
    refine r_iaload E zc_701 za_701 zt_701 zx_701 rfl rfl dX6_seen_21 h0 (fun v2 => ?_)
    refine r_callSN E [(0, x1), (0, v2)] [] rfl q2585 q1858 q227 q1859 dX6_seen_22 zy_X0_dominates rfl (by omega) (by decide) (Nat.le_of_ble_eq_true rfl) (fun l G => k_fX0_dominates l G x1 v2) (fun v3 => ?_)
    refine r_if_eq E 38 (by decide) dX6_seen_25 (fun _ => ?_) (fun _ => ?_)
    · exact w_fX6_seen_J38 E hN hT x0 x1 x3 x4 hr5 h0
    · refine r_iload_n E dX6_seen_28 rfl 2 rfl ?_
      refine r_if_ne E 35 (by decide) dX6_seen_29 (fun _ => ?_) (fun _ => ?_)
      · refine r_iinc (ls' := fun v5 => [(3, 0, v5), (0, 8, x0), (1, 0, x1), (4, 0, x4)]) E 2 rfl (by rw [hN]; decide) (fun _ => rfl) dX6_seen_35 (fun v5 _ => ?_)
        refine r_pick E [1, 2, 0, 3] rfl ?_
        exact w_fX6_seen_J38 E hN hT x0 x1 v5 x4 hr5 h0
      · refine r_iload E dX6_seen_32 3 rfl ?_
        exact r_ireturn E rfl hT dX6_seen_34
theorem w_fX6_seen {K : zK} (E : zE K cX6_seen "RingHouse$Box" (some .int) 1) (hN : zNl K = 5) (hT : zTr K = (some 0)) (x0 : Int) (x1 : Int) (x2 : Int) (h0 : 0 ≤ x0) : zR K 0 [(0, 8, x0), (1, 0, x1), (2, 0, x2)] [] (fX6_seen x0 x1 x2) := by
  refine r_iload_n E dX6_seen_0 rfl 2 rfl ?_
  refine r_istore_n (ls' := [(3, 0, x2), (0, 8, x0), (1, 0, x1), (2, 0, x2)]) E dX6_seen_1 rfl (by rw [hN]; decide) rfl ?_
  refine r_iconst E dX6_seen_2 (zkI (by decide) (by decide)) ?_
  refine r_istore (ls' := [(4, 0, 0), (3, 0, x2), (0, 8, x0), (1, 0, x1), (2, 0, x2)]) E dX6_seen_3 (by rw [hN]; decide) rfl ?_
  refine r_pick E [2, 3, 1, 0] rfl ?_
  exact r_loop (L := fun s => [(0, 8, x0), (1, 0, x1), (3, 0, s.1), (4, 0, s.2)]) (w_fX6_seen_B5 E hN hT x0 x1 h0) zBIG (x2, 0)
theorem k_fX6_seen (l : Launch) (G : zG) (x0 : Int) (x1 : Int) (x2 : Int) (h0 : 0 ≤ x0) : zCt l G yX6_seen cX6_seen 5 (some .int) 1 [(8, x0), (0, x1), (0, x2)] (some 0) (fX6_seen x0 x1 x2) := zCt.of (by decide) (Nat.le_of_ble_eq_true rfl) (fun K E _ _ hN hT => w_fX6_seen E hN hT x0 x1 x2 h0)
theorem dX63_with_0 : decode cX63_with 0 = .ok (.aload_n 1, 1) := by decide +kernel
theorem dX63_with_1 : decode cX63_with 1 = .ok (.aload_n 2, 1) := by decide +kernel
theorem dX63_with_2 : decode cX63_with 2 = .ok (.getfield 9, 3) := by decide +kernel
theorem dX63_with_5 : decode cX63_with 5 = .ok (.aload_n 3, 1) := by decide +kernel
theorem dX63_with_6 : decode cX63_with 6 = .ok (.getfield 15, 3) := by decide +kernel
theorem dX63_with_9 : decode cX63_with 9 = .ok (.iconst 0, 1) := by decide +kernel
theorem dX63_with_10 : decode cX63_with 10 = .ok (.iaload, 1) := by decide +kernel
theorem dX63_with_11 : decode cX63_with 11 = .ok (.invokevirtual 21, 3) := by decide +kernel
theorem dX63_with_14 : decode cX63_with 14 = .ok (.istore 4, 2) := by decide +kernel
theorem dX63_with_16 : decode cX63_with 16 = .ok (.iload 4, 2) := by decide +kernel
theorem dX63_with_18 : decode cX63_with 18 = .ok (.ifCond .ge 5, 3) := by decide +kernel
theorem dX63_with_21 : decode cX63_with 21 = .ok (.iconst (-1), 1) := by decide +kernel
theorem dX63_with_22 : decode cX63_with 22 = .ok (.ireturn, 1) := by decide +kernel
theorem dX63_with_23 : decode cX63_with 23 = .ok (.aload_n 3, 1) := by decide +kernel
theorem dX63_with_24 : decode cX63_with 24 = .ok (.aload_n 1, 1) := by decide +kernel
theorem dX63_with_25 : decode cX63_with 25 = .ok (.getfield 27, 3) := by decide +kernel
theorem dX63_with_28 : decode cX63_with 28 = .ok (.iload 4, 2) := by decide +kernel
theorem dX63_with_30 : decode cX63_with 30 = .ok (.laload, 1) := by decide +kernel
theorem dX63_with_31 : decode cX63_with 31 = .ok (.putfield 31, 3) := by decide +kernel
theorem dX63_with_34 : decode cX63_with 34 = .ok (.aload_n 3, 1) := by decide +kernel
theorem dX63_with_35 : decode cX63_with 35 = .ok (.getfield 15, 3) := by decide +kernel
theorem dX63_with_38 : decode cX63_with 38 = .ok (.iconst 1, 1) := by decide +kernel
theorem dX63_with_39 : decode cX63_with 39 = .ok (.aload_n 1, 1) := by decide +kernel
theorem dX63_with_40 : decode cX63_with 40 = .ok (.getfield 35, 3) := by decide +kernel
theorem dX63_with_43 : decode cX63_with 43 = .ok (.iload 4, 2) := by decide +kernel
theorem dX63_with_45 : decode cX63_with 45 = .ok (.iaload, 1) := by decide +kernel
theorem dX63_with_46 : decode cX63_with 46 = .ok (.iastore, 1) := by decide +kernel
theorem dX63_with_47 : decode cX63_with 47 = .ok (.iconst 0, 1) := by decide +kernel
theorem dX63_with_48 : decode cX63_with 48 = .ok (.ireturn, 1) := by decide +kernel
theorem zy_X63_with : yX63_with.cls ≠ "java/lang/invoke/MethodHandle" ∧ yX63_with.cls ≠ "java/lang/invoke/VarHandle" ∧ (parseMethodDescriptor yX63_with.desc).map (fun d => d.parameters.length) = some 3 := by decide +kernel
theorem w_fX63_with_27 {K : zK} (E : zE K cX63_with "RingHouse$See" (some .int) 2) (hN : zNl K = 5) (hT : zTr K = (some 0)) (x1 : Int) (x2 : Int) (x3 : Int) : zR K 0 [(0, 38, 27), (1, 8, x1), (2, 10, x2), (3, 11, x3)] [] (fX63_with_27 x1 x2 x3) := by
  refine r_aload_n E dX63_with_0 rfl 1 rfl ?_
  refine r_aload_n E dX63_with_1 rfl 2 rfl ?_
  refine r_nn E (fun hn1 => ?_)
  refine r_getN E zc_10 zt_906 dX63_with_2 q878 zr_10 (zg_906 _) hn1 (fun v2 => ?_)
  refine r_aload_n E dX63_with_5 rfl 3 rfl ?_
  refine r_nn E (fun hn3 => ?_)
  refine r_gecN (y := x3) E zc_11 dX63_with_6 q737 zr_11 (zh_1002 (by omega)) hn3 ?_
  refine r_iconst E dX63_with_9 (zkI (by decide) (by decide)) ?_
  refine r_iaload E zc_1002 za_1002 zt_1002 zx_1002 rfl rfl dX63_with_10 hn3 (fun v4 => ?_)
  refine r_nn E (fun hn5 => ?_)
  refine r_callV E [(0, v2), (0, v4)] [] rfl zc_8 zr_8 (fun o _ => ⟨_, zw_X6.1 o, rfl⟩) (lw_V q2581 q2582 q2583 q233 q2584) dX63_with_11 zy_X6_seen rfl (by omega) (by decide) (Nat.le_of_ble_eq_true rfl) hn5 (fun l G => k_fX6_seen l G x1 v2 v4 hn5) (fun v6 => ?_)
  refine r_istore (ls' := [(4, 0, v6), (0, 38, 27), (1, 8, x1), (2, 10, x2), (3, 11, x3)]) E dX63_with_14 (by rw [hN]; decide) rfl ?_
  refine r_iload E dX63_with_16 0 rfl ?_
  refine r_if_ge E 23 (by decide) dX63_with_18 (fun _ => ?_) (fun _ => ?_)
  · refine r_aload_n E dX63_with_23 rfl 4 rfl ?_
    refine r_aload_n E dX63_with_24 rfl 2 rfl ?_
    refine r_gecN (y := x1) E zc_8 dX63_with_25 q539 zr_8 (zh_700 (by omega)) hn5 ?_
    refine r_iload E dX63_with_28 0 rfl ?_
    refine r_laload E zc_700 za_700 zt_700 zx_700 rfl rfl dX63_with_30 hn5 (fun v7 => ?_)
    refine r_putN E zc_11 zt_1001 zo_1001 dX63_with_31 q719 zr_11 zw_X9 zp_1001 (fun _ => rfl) (fun _ => rfl) hn3 ?_
    refine r_aload_n E dX63_with_34 rfl 4 rfl ?_
    refine r_gecN (y := x3) E zc_11 dX63_with_35 q737 zr_11 (zh_1002 (by omega)) hn3 ?_
    refine r_iconst E dX63_with_38 (zkI (by decide) (by decide)) ?_
    refine r_aload_n E dX63_with_39 rfl 2 rfl ?_
    refine r_gecN (y := x1) E zc_8 dX63_with_40 q543 zr_8 (zh_701 (by omega)) hn5 ?_
    refine r_iload E dX63_with_43 0 rfl ?_
    refine r_iaload E zc_701 za_701 zt_701 zx_701 rfl rfl dX63_with_45 hn5 (fun v8 => ?_)
    refine r_iastore E zc_1002 za_1002 zt_1002 zo_1002 zx_1002 rfl rfl dX63_with_46 hn3 ?_
    refine r_iconst E dX63_with_47 (zkI (by decide) (by decide)) ?_
    exact r_ireturn E rfl hT dX63_with_48
  · refine r_iconst E dX63_with_21 (zkI (by decide) (by decide)) ?_
    exact r_ireturn E rfl hT dX63_with_22
theorem k_fX63_with_27 (l : Launch) (G : zG) (x1 : Int) (x2 : Int) (x3 : Int) : zCt l G yX63_with cX63_with 5 (some .int) 2 [(38, 27), (8, x1), (10, x2), (11, x3)] (some 0) (fX63_with_27 x1 x2 x3) := zCt.of (by decide) (Nat.le_of_ble_eq_true rfl) (fun K E _ _ hN hT => w_fX63_with_27 E hN hT x1 x2 x3)
theorem w_fX60_on_27 {K : zK} (E : zE K cX60_on "RingHouse$Mailed" (some .int) 4) (hN : zNl K = 6) (hT : zTr K = (some 0)) (x2 : Int) (x3 : Int) (x4 : Int) : zR K 0 [(0, 38, 27), (1, 14, 0), (2, 6, x2), (3, 10, x3), (4, 11, x4)] [] (fX60_on_27 x2 x3 x4) := by
  refine r_aload_n E dX60_on_0 rfl 2 rfl ?_
  refine r_nn E (fun hn1 => ?_)
  refine r_callV E [] [] rfl zc_6 zr_6 (fun o _ => ⟨_, zw_X4.1 o, rfl⟩) (lw_V q2559 q1921 q1922 q231 q1923) dX60_on_1 zy_X4_isMailbox rfl (by omega) (by decide) (Nat.le_of_ble_eq_true rfl) hn1 (fun l G => k_fX4_isMailbox l G x2 hn1) (fun v2 => ?_)
  refine r_if_ne E 10 (by decide) dX60_on_4 (fun _ => ?_) (fun _ => ?_)
  · refine r_aload_n E dX60_on_10 rfl 3 rfl ?_
    refine r_aload_n E dX60_on_11 rfl 2 rfl ?_
    refine r_aload_n E dX60_on_12 rfl 0 rfl ?_
    refine r_gec (y := 4) E zc_38 dX60_on_13 q1503 zr_38 (zh_38_27_0) (by decide) ?_
    refine r_nn E (fun hn3 => ?_)
    refine r_callV E [(6, x2), (0, 4)] [] rfl zc_10 zr_10 (fun o _ => ⟨_, zw_X8.1 o, rfl⟩) (lw_V q2560 q2561 q2562 q235 q2563) dX60_on_16 zy_X8_refusalOfBox rfl (by omega) (by decide) (Nat.le_of_ble_eq_true rfl) hn3 (fun l G => k_fX8_refusalOfBox l G x3 x2 4 hn3) (fun v4 => ?_)
    refine r_istore (ls' := [(5, 0, v4), (0, 38, 27), (1, 14, 0), (2, 6, x2), (3, 10, x3), (4, 11, x4)]) E dX60_on_19 (by rw [hN]; decide) rfl ?_
    refine r_iload E dX60_on_21 0 rfl ?_
    refine r_if_eq E 31 (by decide) dX60_on_23 (fun _ => ?_) (fun _ => ?_)
    · refine r_aload_n E dX60_on_31 rfl 1 rfl ?_
      refine r_aload_n E dX60_on_32 rfl 3 rfl ?_
      refine r_getN E zc_6 zt_520 dX60_on_33 q465 zr_6 (zg_520 _) hn1 (fun v5 => ?_)
      refine r_aload_n E dX60_on_36 rfl 4 rfl ?_
      refine r_aload E dX60_on_37 5 rfl ?_
      refine r_callU (n := 3) (x := ⟨"RingHouse$Mailed", "with", "(LRingHouse$Box;LRingHouse$Process;LRingHouse$Registers;)I"⟩) (owner := "RingHouse$Mailed") E [(8, v5), (10, x3), (11, x4)] [] rfl zc_38 zr_38 zk_38_27 q2564 q2566 q2578 q2579 q290 q2580 (Or.inr q2565) dX60_on_39 (by decide +kernel) rfl (by omega) (by decide) (Nat.le_of_ble_eq_true rfl) (by decide) (fun l G => k_fX63_with_27 l G v5 x3 x4) (fun v6 => ?_)
      exact r_ireturn E rfl hT dX60_on_42
    · refine r_iload E dX60_on_26 0 rfl ?_
      refine r_goto E 42 (by decide) dX60_on_28 ?_
      exact r_ireturn E rfl hT dX60_on_42
  · refine r_bipush E dX60_on_7 (by decide) (zkI (by decide) (by decide)) ?_
    exact r_ireturn E rfl hT dX60_on_9
theorem k_fX60_on_27 (l : Launch) (G : zG) (x2 : Int) (x3 : Int) (x4 : Int) : zCt l G yX60_on cX60_on 6 (some .int) 4 [(38, 27), (14, 0), (6, x2), (10, x3), (11, x4)] (some 0) (fX60_on_27 x2 x3 x4) := zCt.of (by decide) (Nat.le_of_ble_eq_true rfl) (fun K E _ _ hN hT => w_fX60_on_27 E hN hT x2 x3 x4)
theorem w_fX38_run_27 {K : zK} (E : zE K cX38_run "RingHouse$Entered" (some .int) 5) (hN : zNl K = 6) (hT : zTr K = (some 0)) (x2 : Int) (x3 : Int) : zR K 0 [(0, 38, 27), (1, 14, 0), (2, 10, x2), (3, 11, x3)] [] (fX38_run_27 x2 x3) := by
  refine r_aload_n E dX38_run_0 rfl 1 rfl ?_
  refine r_aload_n E dX38_run_1 rfl 2 rfl ?_
  refine r_nn E (fun hn1 => ?_)
  refine r_getN E zc_10 zt_920 dX38_run_2 q922 zr_10 (zg_920 _) hn1 (fun v2 => ?_)
  refine r_putN E zc_14 zt_1306 zo_1306 dX38_run_5 q1544 zr_14 zw_X12 zp_1306 (fun _ => rfl) (fun G => zfo G) (by decide) ?_
  refine r_aload_n E dX38_run_8 rfl 2 rfl ?_
  refine r_aload_n E dX38_run_9 rfl 2 rfl ?_
  refine r_getN E zc_10 zt_920 dX38_run_10 q922 zr_10 (zg_920 _) hn1 (fun v3 => ?_)
  refine r_aload_n E dX38_run_13 rfl 0 rfl ?_
  refine r_gec (y := 1) E zc_38 dX38_run_14 q1334 zr_38 (zh_38_27_1) (by decide) ?_
  refine r_callV E [(6, v3), (0, 1)] [] rfl zc_10 zr_10 (fun o _ => ⟨_, zw_X8.1 o, rfl⟩) (lw_V q2531 q2319 q2320 q235 q2321) dX38_run_17 zy_X8_refusal_2 rfl (by omega) (by decide) (Nat.le_of_ble_eq_true rfl) hn1 (fun l G => k_fX8_refusal_2 l G x2 v3 1 hn1) (fun v4 => ?_)
  refine r_istore (ls' := [(4, 0, v4), (0, 38, 27), (1, 14, 0), (2, 10, x2), (3, 11, x3)]) E dX38_run_20 (by rw [hN]; decide) rfl ?_
  refine r_iload E dX38_run_22 0 rfl ?_
  refine r_if_eq E 30 (by decide) dX38_run_24 (fun _ => ?_) (fun _ => ?_)
  · refine r_aload_n E dX38_run_30 rfl 4 rfl ?_
    refine r_nn E (fun hn5 => ?_)
    refine r_getN E zc_11 zt_1000 dX38_run_31 q701 zr_11 (zg_1000 _) hn5 (fun v6 => ?_)
    refine r_callSN E [(1, v6)] [] rfl q2532 q1842 q227 q1843 dX38_run_34 zy_X0_isName rfl (by omega) (by decide) (Nat.le_of_ble_eq_true rfl) (fun l G => k_fX0_isName l G v6) (fun v7 => ?_)
    refine r_if_ne E 43 (by decide) dX38_run_37 (fun _ => ?_) (fun _ => ?_)
    · refine r_aload_n E dX38_run_43 rfl 2 rfl ?_
      refine r_gecN (y := 0) E zc_14 dX38_run_44 q1530 zr_14 (zh_1300 (by decide)) (by decide) ?_
      refine r_gecN (y := 0) E zc_3 dX38_run_47 q589 zr_3 (zh_201 (by decide)) (by decide) ?_
      refine r_aload_n E dX38_run_50 rfl 3 rfl ?_
      refine r_getN E zc_10 zt_920 dX38_run_51 q922 zr_10 (zg_920 _) hn1 (fun v8 => ?_)
      refine r_aload_n E dX38_run_54 rfl 4 rfl ?_
      refine r_getN E zc_11 zt_1000 dX38_run_55 q701 zr_11 (zg_1000 _) hn5 (fun v9 => ?_)
      refine r_callV E [(6, v8), (1, v9)] [] rfl zc_4 zr_4 (fun o _ => ⟨_, zw_X2.1 o, rfl⟩) (lw_V q2533 q1866 q1867 q229 q1868) dX38_run_58 zy_X2_find rfl (by omega) (by decide) (Nat.le_of_ble_eq_true rfl) (by decide) (fun l G => k_fX2_find l G v8 v9) (fun v10 => ?_)
      refine r_astore (ls' := [(5, 6, v10), (4, 0, v4), (0, 38, 27), (1, 14, 0), (2, 10, x2), (3, 11, x3)]) E dX38_run_61 (by rw [hN]; decide) rfl ?_
      refine r_aload_n E dX38_run_63 rfl 3 rfl ?_
      refine r_aload E dX38_run_64 0 rfl ?_
      refine r_putN E zc_14 zt_1306 zo_1306 dX38_run_66 q1544 zr_14 zw_X12 zp_1306 (fun _ => rfl) (fun G => zfo G) (by decide) ?_
      refine r_aload E dX38_run_69 0 rfl ?_
      refine r_ifnonnull E 78 (by decide) dX38_run_71 (fun _ => ?_) (fun hz11 => ?_)
      · refine r_iconst E dX38_run_74 (zkI (by decide) (by decide)) ?_
        refine r_goto E 87 (by decide) dX38_run_75 ?_
        exact r_ireturn E rfl hT dX38_run_87
      · refine r_aload_n E dX38_run_78 rfl 2 rfl ?_
        refine r_aload_n E dX38_run_79 rfl 3 rfl ?_
        refine r_aload E dX38_run_80 0 rfl ?_
        refine r_aload_n E dX38_run_82 rfl 4 rfl ?_
        refine r_aload_n E dX38_run_83 rfl 5 rfl ?_
        refine r_callU (n := 4) (x := ⟨"RingHouse$Entered", "on", "(LRingHouse$Machine;LRingHouse$Node;LRingHouse$Process;LRingHouse$Registers;)I"⟩) (owner := "RingHouse$Entered") E [(14, 0), (6, v10), (10, x2), (11, x3)] [] rfl zc_38 zr_38 zk_38_27 q2534 q2536 q2603 q2557 q287 q2558 (Or.inr q2535) dX38_run_84 (by decide +kernel) rfl (by omega) (by decide) (Nat.le_of_ble_eq_true rfl) (by decide) (fun l G => k_fX60_on_27 l G v10 x2 x3) (fun v12 => ?_)
        exact r_ireturn E rfl hT dX38_run_87
    · refine r_bipush E dX38_run_40 (by decide) (zkI (by decide) (by decide)) ?_
      exact r_ireturn E rfl hT dX38_run_42
  · refine r_iload E dX38_run_27 0 rfl ?_
    exact r_ireturn E rfl hT dX38_run_29
theorem k_fX38_run_27 (l : Launch) (G : zG) (x2 : Int) (x3 : Int) : zCt l G yX38_run cX38_run 6 (some .int) 5 [(38, 27), (14, 0), (10, x2), (11, x3)] (some 0) (fX38_run_27 x2 x3) := zCt.of (by decide) (Nat.le_of_ble_eq_true rfl) (fun K E _ _ hN hT => w_fX38_run_27 E hN hT x2 x3)
theorem w_fX45_isRight_28 {K : zK} (E : zE K cX45_isRight "RingHouse$Create" (some .boolean) 2) (hN : zNl K = 3) (hT : zTr K = (some 0)) (x1 : Int) (x2 : Int) : zR K 0 [(0, 38, 28), (1, 10, x1), (2, 11, x2)] [] (fX45_isRight_28 x1 x2) := by
  refine r_aload_n E dX45_isRight_0 rfl 2 rfl ?_
  refine r_nn E (fun hn1 => ?_)
  refine r_getN E zc_11 zt_1000 dX45_isRight_1 q687 zr_11 (zg_1000 _) hn1 (fun v2 => ?_)
  refine r_callSN E [(1, v2)] [] rfl q2516 q1842 q227 q1843 dX45_isRight_4 zy_X0_isName rfl (by omega) (by decide) (Nat.le_of_ble_eq_true rfl) (fun l G => k_fX0_isName l G v2) (fun v3 => ?_)
  refine r_if_ne E 12 (by decide) dX45_isRight_7 (fun _ => ?_) (fun _ => ?_)
  · refine r_aload_n E dX45_isRight_12 rfl 0 rfl ?_
    refine r_gec (y := 3) E zc_38 dX45_isRight_13 q1384 zr_38 (zh_38_28_0) (by decide) ?_
    refine r_iconst E dX45_isRight_16 (zkI (by decide) (by decide)) ?_
    refine r_litT (hdec := inferInstance) (P := ¬ (3 : Int) = (2 : Int)) (by decide) ?_
    refine r_icmp_ne E 37 (by decide) dX45_isRight_17 (fun _ => ?_) (fun _ => r_no E)
    refine r_aload_n E dX45_isRight_37 rfl 0 rfl ?_
    refine r_gec (y := 3) E zc_38 dX45_isRight_38 q1384 zr_38 (zh_38_28_0) (by decide) ?_
    refine r_iconst E dX45_isRight_41 (zkI (by decide) (by decide)) ?_
    refine r_litT (hdec := inferInstance) (P := (3 : Int) = (3 : Int)) (by decide) ?_
    refine r_icmp_eq E 79 (by decide) dX45_isRight_42 (fun _ => ?_) (fun _ => r_no E)
    refine r_iconst E dX45_isRight_79 (zkI (by decide) (by decide)) ?_
    refine r_goto E 84 (by decide) dX45_isRight_80 ?_
    exact r_zreturn E rfl hT (by decide) dX45_isRight_84
  · refine r_iconst E dX45_isRight_10 (zkI (by decide) (by decide)) ?_
    exact r_zreturn E rfl hT (by decide) dX45_isRight_11
theorem k_fX45_isRight_28 (l : Launch) (G : zG) (x1 : Int) (x2 : Int) : zCt l G yX45_isRight cX45_isRight 3 (some .boolean) 2 [(38, 28), (10, x1), (11, x2)] (some 0) (fX45_isRight_28 x1 x2) := zCt.of (by decide) (Nat.le_of_ble_eq_true rfl) (fun K E _ _ hN hT => w_fX45_isRight_28 E hN hT x1 x2)
theorem w_fX45_run_28_J113 {K : zK} (E : zE K cX45_run "RingHouse$Create" (some .int) 6) (hN : zNl K = 7) (hT : zTr K = (some 0)) (x2 : Int) (x3 : Int) (s0 : Int) : zR K 113 [(0, 38, 28), (1, 14, 0), (2, 10, x2), (3, 11, x3)] [(0, s0)] (fX45_run_28_J113 x2 x3 s0) := by
  refine r_istore (ls' := [(5, 0, s0), (0, 38, 28), (1, 14, 0), (2, 10, x2), (3, 11, x3)]) E dX45_run_113 (by rw [hN]; decide) rfl ?_
  refine r_iload E dX45_run_115 0 rfl ?_
  refine r_if_ge E 123 (by decide) dX45_run_117 (fun _ => ?_) (fun _ => ?_)
  · refine r_aload_n E dX45_run_123 rfl 2 rfl ?_
    refine r_gecN (y := 0) E zc_14 dX45_run_124 q1533 zr_14 (zh_1300 (by decide)) (by decide) ?_
    refine r_gecN (y := 0) E zc_3 dX45_run_127 q586 zr_3 (zh_200 (by decide)) (by decide) ?_
    refine r_iload E dX45_run_130 0 rfl ?_
    refine r_aaloc (y := s0) E zc_200 za_200 zt_200 zx_200 rfl rfl (by omega) dX45_run_132 (by decide) (fun hi11 => ?_)
    refine r_astore (ls' := [(6, 6, s0), (5, 0, s0), (0, 38, 28), (1, 14, 0), (2, 10, x2), (3, 11, x3)]) E dX45_run_133 (by rw [hN]; decide) rfl ?_
    refine r_aload E dX45_run_135 0 rfl ?_
    refine r_aload_n E dX45_run_137 rfl 5 rfl ?_
    refine r_nn E (fun hn12 => ?_)
    refine r_getN E zc_11 zt_1008 dX45_run_138 q776 zr_11 (zg_1008 _) hn12 (fun v13 => ?_)
    refine r_aload_n E dX45_run_141 rfl 5 rfl ?_
    refine r_getN E zc_11 zt_1008 dX45_run_142 q776 zr_11 (zg_1008 _) hn12 (fun v14 => ?_)
    refine r_aload_n E dX45_run_145 rfl 5 rfl ?_
    refine r_getN E zc_11 zt_1008 dX45_run_146 q776 zr_11 (zg_1008 _) hn12 (fun v15 => ?_)
    refine r_callV E [(0, v13), (0, v14), (0, v15)] [] rfl zc_6 zr_6 (fun o _ => ⟨_, zw_X4.1 o, rfl⟩) (lw_V q2523 q566 q567 q231 q568) dX45_run_149 zy_X4_setBrackets rfl (by omega) (by decide) (Nat.le_of_ble_eq_true rfl) hi11 (fun l G => k_fX4_setBrackets l G s0 v13 v14 v15 hi11) (fun _ => ?_)
    refine r_aload E dX45_run_152 0 rfl ?_
    refine r_gecN (y := (3 * s0)) E zc_6 dX45_run_154 q411 zr_6 (zh_508 (by omega)) hi11 ?_
    refine r_callV E [] [] rfl zc_7 zr_7 (fun o _ => ⟨_, zw_X5.1 o, rfl⟩) (lw_V q2524 q562 q563 q232 q564) dX45_run_157 zy_X5_clear rfl (by omega) (by decide) (Nat.le_of_ble_eq_true rfl) (by omega) (fun l G => k_fX5_clear l G (3 * s0) (by omega)) (fun _ => ?_)
    refine r_aload E dX45_run_160 0 rfl ?_
    refine r_gecN (y := (3 * s0)) E zc_6 dX45_run_162 q411 zr_6 (zh_508 (by omega)) hi11 ?_
    refine r_aload_n E dX45_run_165 rfl 4 rfl ?_
    refine r_nn E (fun hn18 => ?_)
    refine r_getN E zc_10 zt_904 dX45_run_166 q869 zr_10 (zg_904 _) hn18 (fun v19 => ?_)
    refine r_aload_n E dX45_run_169 rfl 4 rfl ?_
    refine r_getN E zc_10 zt_905 dX45_run_170 q875 zr_10 (zg_905 _) hn18 (fun v20 => ?_)
    refine r_bipush E dX45_run_173 (by decide) (zkI (by decide) (by decide)) ?_
    refine r_callV E [(0, v19), (0, v20), (0, 7)] [] rfl zc_7 zr_7 (fun o _ => ⟨_, zw_X5.1 o, rfl⟩) (lw_V q2525 q571 q572 q232 q573) dX45_run_175 zy_X5_set rfl (by omega) (by decide) (Nat.le_of_ble_eq_true rfl) (by omega) (fun l G => k_fX5_set l G (3 * s0) v19 v20 7 (by omega)) (fun v21 => ?_)
    refine r_pop E (zn1 rfl) dX45_run_178 ?_
    refine r_aload E dX45_run_179 0 rfl ?_
    refine r_gecN (y := (3 * s0)) E zc_6 dX45_run_181 q411 zr_6 (zh_508 (by omega)) hi11 ?_
    refine r_aload_n E dX45_run_184 rfl 4 rfl ?_
    refine r_getN E zc_10 zt_920 dX45_run_185 q929 zr_10 (zg_920 _) hn18 (fun v22 => ?_)
    refine r_aload_n E dX45_run_188 rfl 2 rfl ?_
    refine r_gec (y := 3) E zc_38 dX45_run_189 q1384 zr_38 (zh_38_28_0) (by decide) ?_
    refine r_nn E (fun hn23 => ?_)
    refine r_callV E [(0, 3)] [(7, (3 * s0))] rfl zc_6 zr_6 (fun o _ => ⟨_, zw_X4.1 o, rfl⟩) (lw_V q2526 q1892 q1893 q231 q1894) dX45_run_192 zy_X4_initial rfl (by omega) (by decide) (Nat.le_of_ble_eq_true rfl) hn23 (fun l G => k_fX4_initial l G v22 3 hn23) (fun v24 => ?_)
    refine r_callV E [(7, v24)] [] rfl zc_7 zr_7 (fun o _ => ⟨_, zw_X5.1 o, rfl⟩) (lw_V q2527 q1896 q1897 q232 q1898) dX45_run_195 zy_X5_take rfl (by omega) (by decide) (Nat.le_of_ble_eq_true rfl) (by omega) (fun l G => k_fX5_take l G (3 * s0) v24 (by omega)) (fun _ => ?_)
    refine r_aload_n E dX45_run_198 rfl 3 rfl ?_
    refine r_gecN (y := 0) E zc_14 dX45_run_199 q1533 zr_14 (zh_1300 (by decide)) (by decide) ?_
    refine r_dup E (zn1 rfl) dX45_run_202 ?_
    refine r_getN E zc_3 zt_207 dX45_run_203 q603 zr_3 (zg_207 _) (by decide) (fun v26 => ?_)
    refine r_iconst E dX45_run_206 (zkI (by decide) (by decide)) ?_
    refine r_iadd E dX45_run_207 ?_
    refine r_putN E zc_3 zt_207 zo_207 dX45_run_208 q603 zr_3 zw_X1 zp_207 (fun _ => rfl) (fun _ => rfl) (by decide) ?_
    refine r_iconst E dX45_run_211 (zkI (by decide) (by decide)) ?_
    exact r_ireturn E rfl hT dX45_run_212
  · refine r_iload E dX45_run_120 0 rfl ?_
    exact r_ireturn E rfl hT dX45_run_122
theorem w_fX45_run_28 {K : zK} (E : zE K cX45_run "RingHouse$Create" (some .int) 6) (hN : zNl K = 7) (hT : zTr K = (some 0)) (x2 : Int) (x3 : Int) : zR K 0 [(0, 38, 28), (1, 14, 0), (2, 10, x2), (3, 11, x3)] [] (fX45_run_28 x2 x3) := by
  refine r_aload_n E dX45_run_0 rfl 1 rfl ?_
  refine r_aload_n E dX45_run_1 rfl 2 rfl ?_
  refine r_nn E (fun hn1 => ?_)
  refine r_getN E zc_10 zt_920 dX45_run_2 q929 zr_10 (zg_920 _) hn1 (fun v2 => ?_)
  refine r_putN E zc_14 zt_1306 zo_1306 dX45_run_5 q1548 zr_14 zw_X12 zp_1306 (fun _ => rfl) (fun G => zfo G) (by decide) ?_
  refine r_aload_n E dX45_run_8 rfl 2 rfl ?_
  refine r_aload_n E dX45_run_9 rfl 2 rfl ?_
  refine r_getN E zc_10 zt_920 dX45_run_10 q929 zr_10 (zg_920 _) hn1 (fun v3 => ?_)
  refine r_iconst E dX45_run_13 (zkI (by decide) (by decide)) ?_
  refine r_callV E [(6, v3), (0, 4)] [] rfl zc_10 zr_10 (fun o _ => ⟨_, zw_X8.1 o, rfl⟩) (lw_V q2511 q2319 q2320 q235 q2321) dX45_run_14 zy_X8_refusal_2 rfl (by omega) (by decide) (Nat.le_of_ble_eq_true rfl) hn1 (fun l G => k_fX8_refusal_2 l G x2 v3 4 hn1) (fun v4 => ?_)
  refine r_istore (ls' := [(4, 0, v4), (0, 38, 28), (1, 14, 0), (2, 10, x2), (3, 11, x3)]) E dX45_run_17 (by rw [hN]; decide) rfl ?_
  refine r_iload E dX45_run_19 0 rfl ?_
  refine r_if_eq E 27 (by decide) dX45_run_21 (fun _ => ?_) (fun _ => ?_)
  · refine r_aload_n E dX45_run_27 rfl 1 rfl ?_
    refine r_aload_n E dX45_run_28 rfl 3 rfl ?_
    refine r_aload_n E dX45_run_29 rfl 4 rfl ?_
    refine r_callV E [(10, x2), (11, x3)] [] rfl zc_38 zr_38 (zk_38_28) (lw_V q2512 q2514 qs34 q272 q2515) dX45_run_30 zy_X45_isRight rfl (by omega) (by decide) (Nat.le_of_ble_eq_true rfl) (by decide) (fun l G => k_fX45_isRight_28 l G x2 x3) (fun v5 => ?_)
    refine r_if_ne E 39 (by decide) dX45_run_33 (fun _ => ?_) (fun _ => ?_)
    · refine r_aload_n E dX45_run_39 rfl 1 rfl ?_
      refine r_gec (y := 3) E zc_38 dX45_run_40 q1384 zr_38 (zh_38_28_0) (by decide) ?_
      refine r_iconst E dX45_run_43 (zkI (by decide) (by decide)) ?_
      refine r_litT (hdec := inferInstance) (P := ¬ (3 : Int) = (2 : Int)) (by decide) ?_
      refine r_icmp_ne E 67 (by decide) dX45_run_44 (fun _ => ?_) (fun _ => r_no E)
      refine r_aload_n E dX45_run_67 rfl 1 rfl ?_
      refine r_gec (y := 3) E zc_38 dX45_run_68 q1384 zr_38 (zh_38_28_0) (by decide) ?_
      refine r_iconst E dX45_run_71 (zkI (by decide) (by decide)) ?_
      refine r_litF (hdec := inferInstance) (P := ¬ (3 : Int) = (3 : Int)) (by decide) ?_
      refine r_icmp_ne E 90 (by decide) dX45_run_72 (fun _ => r_no E) (fun _ => ?_)
      refine r_aload_n E dX45_run_75 rfl 2 rfl ?_
      refine r_aload_n E dX45_run_76 rfl 3 rfl ?_
      refine r_getN E zc_10 zt_920 dX45_run_77 q929 zr_10 (zg_920 _) hn1 (fun v6 => ?_)
      refine r_aload_n E dX45_run_80 rfl 4 rfl ?_
      refine r_nn E (fun hn7 => ?_)
      refine r_getN E zc_11 zt_1000 dX45_run_81 q687 zr_11 (zg_1000 _) hn7 (fun v8 => ?_)
      refine r_callVN E [(6, v6), (1, v8)] [] rfl zc_14 zr_14 (fun o _ => ⟨_, zw_X12.1 o, rfl⟩) q2521 q1969 qs5 q239 q1970 dX45_run_84 zy_X12_newMailbox rfl (by omega) (by decide) (Nat.le_of_ble_eq_true rfl) (by decide) (fun l G => k_fX12_newMailbox l G v6 v8) (fun v9 => ?_)
      refine r_goto E 113 (by decide) dX45_run_87 ?_
      refine r_pick E [1, 2, 3, 4] rfl ?_
      exact w_fX45_run_28_J113 E hN hT x2 x3 v9
    · refine r_bipush E dX45_run_36 (by decide) (zkI (by decide) (by decide)) ?_
      exact r_ireturn E rfl hT dX45_run_38
  · refine r_iload E dX45_run_24 0 rfl ?_
    exact r_ireturn E rfl hT dX45_run_26
theorem k_fX45_run_28 (l : Launch) (G : zG) (x2 : Int) (x3 : Int) : zCt l G yX45_run cX45_run 7 (some .int) 6 [(38, 28), (14, 0), (10, x2), (11, x3)] (some 0) (fX45_run_28 x2 x3) := zCt.of (by decide) (Nat.le_of_ble_eq_true rfl) (fun K E _ _ hN hT => w_fX45_run_28 E hN hT x2 x3)
theorem dX12_serve_0 : decode cX12_serve 0 = .ok (.aload_n 0, 1) := by decide +kernel
theorem dX12_serve_1 : decode cX12_serve 1 = .ok (.getfield 246, 3) := by decide +kernel
theorem dX12_serve_4 : decode cX12_serve 4 = .ok (.getfield 256, 3) := by decide +kernel
theorem dX12_serve_7 : decode cX12_serve 7 = .ok (.astore_n 2, 1) := by decide +kernel
theorem dX12_serve_8 : decode cX12_serve 8 = .ok (.aload_n 0, 1) := by decide +kernel
theorem dX12_serve_9 : decode cX12_serve 9 = .ok (.aconst_null, 1) := by decide +kernel
theorem dX12_serve_10 : decode cX12_serve 10 = .ok (.putfield 537, 3) := by decide +kernel
theorem dX12_serve_13 : decode cX12_serve 13 = .ok (.aload_n 1, 1) := by decide +kernel
theorem dX12_serve_14 : decode cX12_serve 14 = .ok (.aload_n 0, 1) := by decide +kernel
theorem dX12_serve_15 : decode cX12_serve 15 = .ok (.aload_n 0, 1) := by decide +kernel
theorem dX12_serve_16 : decode cX12_serve 16 = .ok (.getfield 246, 3) := by decide +kernel
theorem dX12_serve_19 : decode cX12_serve 19 = .ok (.aload_n 2, 1) := by decide +kernel
theorem dX12_serve_20 : decode cX12_serve 20 = .ok (.invokevirtual 541, 3) := by decide +kernel
theorem dX12_serve_23 : decode cX12_serve 23 = .ok (.istore_n 3, 1) := by decide +kernel
theorem dX12_serve_24 : decode cX12_serve 24 = .ok (.iload_n 3, 1) := by decide +kernel
theorem dX12_serve_25 : decode cX12_serve 25 = .ok (.bipush (-2), 2) := by decide +kernel
theorem dX12_serve_27 : decode cX12_serve 27 = .ok (.if_icmp .gt 45, 3) := by decide +kernel
theorem dX12_serve_30 : decode cX12_serve 30 = .ok (.iload_n 3, 1) := by decide +kernel
theorem dX12_serve_31 : decode cX12_serve 31 = .ok (.bipush (-4), 2) := by decide +kernel
theorem dX12_serve_33 : decode cX12_serve 33 = .ok (.if_icmp .lt 39, 3) := by decide +kernel
theorem dX12_serve_36 : decode cX12_serve 36 = .ok (.aload_n 0, 1) := by decide +kernel
theorem dX12_serve_37 : decode cX12_serve 37 = .ok (.getfield 20, 3) := by decide +kernel
theorem dX12_serve_40 : decode cX12_serve 40 = .ok (.aload_n 0, 1) := by decide +kernel
theorem dX12_serve_41 : decode cX12_serve 41 = .ok (.getfield 246, 3) := by decide +kernel
theorem dX12_serve_44 : decode cX12_serve 44 = .ok (.getfield 300, 3) := by decide +kernel
theorem dX12_serve_47 : decode cX12_serve 47 = .ok (.iconst 2, 1) := by decide +kernel
theorem dX12_serve_48 : decode cX12_serve 48 = .ok (.aload_n 0, 1) := by decide +kernel
theorem dX12_serve_49 : decode cX12_serve 49 = .ok (.getfield 537, 3) := by decide +kernel
theorem dX12_serve_52 : decode cX12_serve 52 = .ok (.ifnonnull 7, 3) := by decide +kernel
theorem dX12_serve_55 : decode cX12_serve 55 = .ok (.iconst (-1), 1) := by decide +kernel
theorem dX12_serve_56 : decode cX12_serve 56 = .ok (.goto 10, 3) := by decide +kernel
theorem dX12_serve_59 : decode cX12_serve 59 = .ok (.aload_n 0, 1) := by decide +kernel
theorem dX12_serve_60 : decode cX12_serve 60 = .ok (.getfield 537, 3) := by decide +kernel
theorem dX12_serve_63 : decode cX12_serve 63 = .ok (.getfield 303, 3) := by decide +kernel
theorem dX12_serve_66 : decode cX12_serve 66 = .ok (.iconst 1, 1) := by decide +kernel
theorem dX12_serve_67 : decode cX12_serve 67 = .ok (.iload_n 3, 1) := by decide +kernel
theorem dX12_serve_68 : decode cX12_serve 68 = .ok (.isub, 1) := by decide +kernel
theorem dX12_serve_69 : decode cX12_serve 69 = .ok (.invokevirtual 304, 3) := by decide +kernel
theorem dX12_serve_72 : decode cX12_serve 72 = .ok (.iload_n 3, 1) := by decide +kernel
theorem dX12_serve_73 : decode cX12_serve 73 = .ok (.iconst 1, 1) := by decide +kernel
theorem dX12_serve_74 : decode cX12_serve 74 = .ok (.if_icmp .eq 13, 3) := by decide +kernel
theorem dX12_serve_77 : decode cX12_serve 77 = .ok (.aload_n 2, 1) := by decide +kernel
theorem dX12_serve_78 : decode cX12_serve 78 = .ok (.iload_n 3, 1) := by decide +kernel
theorem dX12_serve_79 : decode cX12_serve 79 = .ok (.i2l, 1) := by decide +kernel
theorem dX12_serve_80 : decode cX12_serve 80 = .ok (.ldc2_w 329, 3) := by decide +kernel
theorem dX12_serve_83 : decode cX12_serve 83 = .ok (.land, 1) := by decide +kernel
theorem dX12_serve_84 : decode cX12_serve 84 = .ok (.putfield 544, 3) := by decide +kernel
theorem dX12_serve_87 : decode cX12_serve 87 = .ok (.iconst 1, 1) := by decide +kernel
theorem dX12_serve_88 : decode cX12_serve 88 = .ok (.ireturn, 1) := by decide +kernel
theorem zy_X12_serve : yX12_serve.cls ≠ "java/lang/invoke/MethodHandle" ∧ yX12_serve.cls ≠ "java/lang/invoke/VarHandle" ∧ (parseMethodDescriptor yX12_serve.desc).map (fun d => d.parameters.length) = some 1 := by decide +kernel
theorem w_fX12_serve_J72 {K : zK} (E : zE K cX12_serve "RingHouse$Machine" (some .boolean) 306) (hN : zNl K = 4) (hT : zTr K = (some 0)) (x2 : Int) (x3 : Int) : zR K 72 [(2, 11, x2), (3, 0, x3)] [] (fX12_serve_J72 x2 x3) := by
  refine r_iload_n E dX12_serve_72 rfl 1 rfl ?_
  refine r_iconst E dX12_serve_73 (zkI (by decide) (by decide)) ?_
  refine r_icmp_eq E 87 (by decide) dX12_serve_74 (fun _ => ?_) (fun _ => ?_)
  · refine r_iconst E dX12_serve_87 (zkI (by decide) (by decide)) ?_
    exact r_zreturn E rfl hT (by decide) dX12_serve_88
  · refine r_aload_n E dX12_serve_77 rfl 0 rfl ?_
    refine r_iload_n E dX12_serve_78 rfl 1 rfl ?_
    refine r_i2l E dX12_serve_79 ?_
    refine r_ldc2 (v := 68719476735) E dX12_serve_80 q2378 (by decide) (zkJ (by decide) (by decide)) ?_
    refine r_lmask (P := 68719476736) E 36 (by decide) (by decide) (by decide) dX12_serve_83 ?_
    refine r_nn E (fun hn6 => ?_)
    refine r_putN E zc_11 zt_1000 zo_1000 dX12_serve_84 q709 zr_11 zw_X9 zp_1000 (fun _ => rfl) (fun _ => rfl) hn6 ?_
    refine r_iconst E dX12_serve_87 (zkI (by decide) (by decide)) ?_
    exact r_zreturn E rfl hT (by decide) dX12_serve_88
theorem w_fX12_serve_J66 {K : zK} (E : zE K cX12_serve "RingHouse$Machine" (some .boolean) 306) (hN : zNl K = 4) (hT : zTr K = (some 0)) (x2 : Int) (x3 : Int) (s1 : Int) (s2 : Int) (s3 : Int) : zR K 66 [(2, 11, x2), (3, 0, x3)] [(0, s3), (0, s2), (0, s1), (15, 0)] (fX12_serve_J66 x2 x3 s1 s2 s3) := by
  refine r_iconst E dX12_serve_66 (zkI (by decide) (by decide)) ?_
  refine r_iload_n E dX12_serve_67 rfl 1 rfl ?_
  refine r_isub E dX12_serve_68 ?_
  refine r_callV E [(0, s1), (0, s2), (0, s3), (0, (zi (1 - x3)))] [] rfl zc_15 zr_15 (fun o _ => ⟨_, zw_X13.1 o, rfl⟩) (lw_V q2240 q2241 q2242 q240 q2243) dX12_serve_69 zy_X13_add rfl (by omega) (by decide) (Nat.le_of_ble_eq_true rfl) (by decide) (fun l G => k_fX13_add l G s1 s2 s3 (zi (1 - x3))) (fun _ => ?_)
  exact w_fX12_serve_J72 E hN hT x2 x3
theorem w_fX12_serve_J23 {K : zK} (E : zE K cX12_serve "RingHouse$Machine" (some .boolean) 306) (hN : zNl K = 4) (hT : zTr K = (some 0)) (x2 : Int) (s0 : Int) : zR K 23 [(0, 14, 0), (2, 11, x2)] [(0, s0)] (fX12_serve_J23 x2 s0) := by
  refine r_istore_n (ls' := [(3, 0, s0), (0, 14, 0), (2, 11, x2)]) E dX12_serve_23 rfl (by rw [hN]; decide) rfl ?_
  refine r_iload_n E dX12_serve_24 rfl 0 rfl ?_
  refine r_bipush E dX12_serve_25 (by decide) (zkI (by decide) (by decide)) ?_
  refine r_icmp_gt E 72 (by decide) dX12_serve_27 (fun _ => ?_) (fun _ => ?_)
  · refine r_pick E [2, 0] rfl ?_
    exact w_fX12_serve_J72 E hN hT x2 s0
  · refine r_iload_n E dX12_serve_30 rfl 0 rfl ?_
    refine r_bipush E dX12_serve_31 (by decide) (zkI (by decide) (by decide)) ?_
    refine r_icmp_lt E 72 (by decide) dX12_serve_33 (fun _ => ?_) (fun _ => ?_)
    · refine r_pick E [2, 0] rfl ?_
      exact w_fX12_serve_J72 E hN hT x2 s0
    · refine r_aload_n E dX12_serve_36 rfl 1 rfl ?_
      refine r_gec (y := 0) E zc_14 dX12_serve_37 q1541 zr_14 (zh_1305 (by decide)) (by decide) ?_
      refine r_aload_n E dX12_serve_40 rfl 1 rfl ?_
      refine r_get E zc_14 zt_1307 dX12_serve_41 q1550 zr_14 (zg_1307 _) (by decide) (fun v7 => ?_)
      refine r_nn E (fun hn8 => ?_)
      refine r_gecN (y := v7) E zc_10 dX12_serve_44 q857 zr_10 (zh_901 (by omega)) hn8 ?_
      refine r_iconst E dX12_serve_47 (zkI (by decide) (by decide)) ?_
      refine r_aload_n E dX12_serve_48 rfl 1 rfl ?_
      refine r_get E zc_14 zt_1306 dX12_serve_49 q1549 zr_14 (zg_1306 _) (by decide) (fun v9 => ?_)
      refine r_ifnonnull E 59 (by decide) dX12_serve_52 (fun _ => ?_) (fun hz10 => ?_)
      · refine r_iconst E dX12_serve_55 (zkI (by decide) (by decide)) ?_
        refine r_goto E 66 (by decide) dX12_serve_56 ?_
        refine r_pick E [2, 0] rfl ?_
        exact w_fX12_serve_J66 E hN hT x2 s0 v7 2 (-1)
      · refine r_aload_n E dX12_serve_59 rfl 1 rfl ?_
        refine r_get E zc_14 zt_1306 dX12_serve_60 q1549 zr_14 (zg_1306 _) (by decide) (fun v12 => ?_)
        refine r_nn E (fun hn13 => ?_)
        refine r_gecN (y := v12) E zc_6 dX12_serve_63 q374 zr_6 (zh_500 (by omega)) hn13 ?_
        refine r_pick E [2, 0] rfl ?_
        exact w_fX12_serve_J66 E hN hT x2 s0 v7 2 v12
theorem w_fX12_serve {K : zK} (E : zE K cX12_serve "RingHouse$Machine" (some .boolean) 306) (hN : zNl K = 4) (hT : zTr K = (some 0)) (x1 : Int) : zR K 0 [(0, 14, 0), (1, 38, x1)] [] (fX12_serve x1) := by
  refine r_aload_n E dX12_serve_0 rfl 0 rfl ?_
  refine r_get E zc_14 zt_1307 dX12_serve_1 q1550 zr_14 (zg_1307 _) (by decide) (fun v1 => ?_)
  refine r_nn E (fun hn2 => ?_)
  refine r_gecN (y := v1) E zc_10 dX12_serve_4 q891 zr_10 (zh_908 (by omega)) hn2 ?_
  refine r_astore_n (ls' := [(2, 11, v1), (0, 14, 0), (1, 38, x1)]) E dX12_serve_7 rfl (by rw [hN]; decide) rfl ?_
  refine r_aload_n E dX12_serve_8 rfl 1 rfl ?_
  refine r_null E 4 dX12_serve_9 ?_
  refine r_put E zc_14 zt_1306 zo_1306 dX12_serve_10 q1549 zr_14 zw_X12 zp_1306 (fun _ => rfl) (fun G => zfo G) (by decide) ?_
  refine r_aload_n E dX12_serve_13 rfl 2 rfl ?_
  refine r_aload_n E dX12_serve_14 rfl 1 rfl ?_
  refine r_aload_n E dX12_serve_15 rfl 1 rfl ?_
  refine r_get E zc_14 zt_1307 dX12_serve_16 q1550 zr_14 (zg_1307 _) (by decide) (fun v3 => ?_)
  refine r_aload_n E dX12_serve_19 rfl 0 rfl ?_
  refine r_nn E (fun hn4 => ?_)
  unfold fDisp_36_run
  refine r_dcase (fun hv => ?_) (fun _ => ?_)
  · subst hv
    refine r_callU (n := 3) (x := ⟨"RingHouse$Service", "run", "(LRingHouse$Machine;LRingHouse$Process;LRingHouse$Registers;)I"⟩) (owner := "RingHouse$Service") E [(14, 0), (10, v3), (11, v1)] [] rfl zc_38 zr_38 zk_38_0 q2505 q2507 q2664 q2665 q264 q2666 (Or.inr q2506) dX12_serve_20 (by decide +kernel) rfl (by omega) (by decide) (Nat.le_of_ble_eq_true rfl) (by decide) (fun l G => k_fX37_run_0 l G v3 v1) (fun v5 => ?_)
    refine r_pick E [1, 0] rfl ?_
    exact w_fX12_serve_J23 E hN hT v1 v5
  refine r_dcase (fun hv => ?_) (fun _ => ?_)
  · subst hv
    refine r_callU (n := 3) (x := ⟨"RingHouse$Service", "run", "(LRingHouse$Machine;LRingHouse$Process;LRingHouse$Registers;)I"⟩) (owner := "RingHouse$Service") E [(14, 0), (10, v3), (11, v1)] [] rfl zc_38 zr_38 zk_38_1 q2505 q2507 q2632 q2529 q265 q2530 (Or.inr q2506) dX12_serve_20 (by decide +kernel) rfl (by omega) (by decide) (Nat.le_of_ble_eq_true rfl) (by decide) (fun l G => k_fX38_run_1 l G v3 v1) (fun v5 => ?_)
    refine r_pick E [1, 0] rfl ?_
    exact w_fX12_serve_J23 E hN hT v1 v5
  refine r_dcase (fun hv => ?_) (fun _ => ?_)
  · subst hv
    refine r_callU (n := 3) (x := ⟨"RingHouse$Service", "run", "(LRingHouse$Machine;LRingHouse$Process;LRingHouse$Registers;)I"⟩) (owner := "RingHouse$Service") E [(14, 0), (10, v3), (11, v1)] [] rfl zc_38 zr_38 zk_38_2 q2505 q2507 q2647 q2648 q267 q2649 (Or.inr q2506) dX12_serve_20 (by decide +kernel) rfl (by omega) (by decide) (Nat.le_of_ble_eq_true rfl) (by decide) (fun l G => k_fX40_run_2 l G v3 v1) (fun v5 => ?_)
    refine r_pick E [1, 0] rfl ?_
    exact w_fX12_serve_J23 E hN hT v1 v5
  refine r_dcase (fun hv => ?_) (fun _ => ?_)
  · subst hv
    refine r_callU (n := 3) (x := ⟨"RingHouse$Service", "run", "(LRingHouse$Machine;LRingHouse$Process;LRingHouse$Registers;)I"⟩) (owner := "RingHouse$Service") E [(14, 0), (10, v3), (11, v1)] [] rfl zc_38 zr_38 zk_38_3 q2505 q2507 q2647 q2648 q267 q2649 (Or.inr q2506) dX12_serve_20 (by decide +kernel) rfl (by omega) (by decide) (Nat.le_of_ble_eq_true rfl) (by decide) (fun l G => k_fX40_run_3 l G v3 v1) (fun v5 => ?_)
    refine r_pick E [1, 0] rfl ?_
    exact w_fX12_serve_J23 E hN hT v1 v5
  refine r_dcase (fun hv => ?_) (fun _ => ?_)
  · subst hv
    refine r_callU (n := 3) (x := ⟨"RingHouse$Service", "run", "(LRingHouse$Machine;LRingHouse$Process;LRingHouse$Registers;)I"⟩) (owner := "RingHouse$Service") E [(14, 0), (10, v3), (11, v1)] [] rfl zc_38 zr_38 zk_38_4 q2505 q2507 q2646 q2529 q265 q2530 (Or.inr q2506) dX12_serve_20 (by decide +kernel) rfl (by omega) (by decide) (Nat.le_of_ble_eq_true rfl) (by decide) (fun l G => k_fX38_run_4 l G v3 v1) (fun v5 => ?_)
    refine r_pick E [1, 0] rfl ?_
    exact w_fX12_serve_J23 E hN hT v1 v5
  refine r_dcase (fun hv => ?_) (fun _ => ?_)
  · subst hv
    refine r_callU (n := 3) (x := ⟨"RingHouse$Service", "run", "(LRingHouse$Machine;LRingHouse$Process;LRingHouse$Registers;)I"⟩) (owner := "RingHouse$Service") E [(14, 0), (10, v3), (11, v1)] [] rfl zc_38 zr_38 zk_38_5 q2505 q2507 q2633 q2634 q269 q2635 (Or.inr q2506) dX12_serve_20 (by decide +kernel) rfl (by omega) (by decide) (Nat.le_of_ble_eq_true rfl) (by decide) (fun l G => k_fX42_run_5 l G v3 v1) (fun v5 => ?_)
    refine r_pick E [1, 0] rfl ?_
    exact w_fX12_serve_J23 E hN hT v1 v5
  refine r_dcase (fun hv => ?_) (fun _ => ?_)
  · subst hv
    refine r_callU (n := 3) (x := ⟨"RingHouse$Service", "run", "(LRingHouse$Machine;LRingHouse$Process;LRingHouse$Registers;)I"⟩) (owner := "RingHouse$Service") E [(14, 0), (10, v3), (11, v1)] [] rfl zc_38 zr_38 zk_38_6 q2505 q2507 q2659 q2660 q270 q2661 (Or.inr q2506) dX12_serve_20 (by decide +kernel) rfl (by omega) (by decide) (Nat.le_of_ble_eq_true rfl) (by decide) (fun l G => k_fX43_run_6 l G v3 v1) (fun v5 => ?_)
    refine r_pick E [1, 0] rfl ?_
    exact w_fX12_serve_J23 E hN hT v1 v5
  refine r_dcase (fun hv => ?_) (fun _ => ?_)
  · subst hv
    refine r_callU (n := 3) (x := ⟨"RingHouse$Service", "run", "(LRingHouse$Machine;LRingHouse$Process;LRingHouse$Registers;)I"⟩) (owner := "RingHouse$Service") E [(14, 0), (10, v3), (11, v1)] [] rfl zc_38 zr_38 zk_38_7 q2505 q2507 q2717 q2529 q265 q2530 (Or.inr q2506) dX12_serve_20 (by decide +kernel) rfl (by omega) (by decide) (Nat.le_of_ble_eq_true rfl) (by decide) (fun l G => k_fX38_run_7 l G v3 v1) (fun v5 => ?_)
    refine r_pick E [1, 0] rfl ?_
    exact w_fX12_serve_J23 E hN hT v1 v5
  refine r_dcase (fun hv => ?_) (fun _ => ?_)
  · subst hv
    refine r_callU (n := 3) (x := ⟨"RingHouse$Service", "run", "(LRingHouse$Machine;LRingHouse$Process;LRingHouse$Registers;)I"⟩) (owner := "RingHouse$Service") E [(14, 0), (10, v3), (11, v1)] [] rfl zc_38 zr_38 zk_38_8 q2505 q2507 q2508 q2509 q272 q2510 (Or.inr q2506) dX12_serve_20 (by decide +kernel) rfl (by omega) (by decide) (Nat.le_of_ble_eq_true rfl) (by decide) (fun l G => k_fX45_run_8 l G v3 v1) (fun v5 => ?_)
    refine r_pick E [1, 0] rfl ?_
    exact w_fX12_serve_J23 E hN hT v1 v5
  refine r_dcase (fun hv => ?_) (fun _ => ?_)
  · subst hv
    refine r_callU (n := 3) (x := ⟨"RingHouse$Service", "run", "(LRingHouse$Machine;LRingHouse$Process;LRingHouse$Registers;)I"⟩) (owner := "RingHouse$Service") E [(14, 0), (10, v3), (11, v1)] [] rfl zc_38 zr_38 zk_38_9 q2505 q2507 q2508 q2509 q272 q2510 (Or.inr q2506) dX12_serve_20 (by decide +kernel) rfl (by omega) (by decide) (Nat.le_of_ble_eq_true rfl) (by decide) (fun l G => k_fX45_run_9 l G v3 v1) (fun v5 => ?_)
    refine r_pick E [1, 0] rfl ?_
    exact w_fX12_serve_J23 E hN hT v1 v5
  refine r_dcase (fun hv => ?_) (fun _ => ?_)
  · subst hv
    refine r_callU (n := 3) (x := ⟨"RingHouse$Service", "run", "(LRingHouse$Machine;LRingHouse$Process;LRingHouse$Registers;)I"⟩) (owner := "RingHouse$Service") E [(14, 0), (10, v3), (11, v1)] [] rfl zc_38 zr_38 zk_38_10 q2505 q2507 q2528 q2529 q265 q2530 (Or.inr q2506) dX12_serve_20 (by decide +kernel) rfl (by omega) (by decide) (Nat.le_of_ble_eq_true rfl) (by decide) (fun l G => k_fX38_run_10 l G v3 v1) (fun v5 => ?_)
    refine r_pick E [1, 0] rfl ?_
    exact w_fX12_serve_J23 E hN hT v1 v5
  refine r_dcase (fun hv => ?_) (fun _ => ?_)
  · subst hv
    refine r_callU (n := 3) (x := ⟨"RingHouse$Service", "run", "(LRingHouse$Machine;LRingHouse$Process;LRingHouse$Registers;)I"⟩) (owner := "RingHouse$Service") E [(14, 0), (10, v3), (11, v1)] [] rfl zc_38 zr_38 zk_38_11 q2505 q2507 q2676 q2529 q265 q2530 (Or.inr q2506) dX12_serve_20 (by decide +kernel) rfl (by omega) (by decide) (Nat.le_of_ble_eq_true rfl) (by decide) (fun l G => k_fX38_run_11 l G v3 v1) (fun v5 => ?_)
    refine r_pick E [1, 0] rfl ?_
    exact w_fX12_serve_J23 E hN hT v1 v5
  refine r_dcase (fun hv => ?_) (fun _ => ?_)
  · subst hv
    refine r_callU (n := 3) (x := ⟨"RingHouse$Service", "run", "(LRingHouse$Machine;LRingHouse$Process;LRingHouse$Registers;)I"⟩) (owner := "RingHouse$Service") E [(14, 0), (10, v3), (11, v1)] [] rfl zc_38 zr_38 zk_38_12 q2505 q2507 q2707 q2529 q265 q2530 (Or.inr q2506) dX12_serve_20 (by decide +kernel) rfl (by omega) (by decide) (Nat.le_of_ble_eq_true rfl) (by decide) (fun l G => k_fX38_run_12 l G v3 v1) (fun v5 => ?_)
    refine r_pick E [1, 0] rfl ?_
    exact w_fX12_serve_J23 E hN hT v1 v5
  refine r_dcase (fun hv => ?_) (fun _ => ?_)
  · subst hv
    refine r_callU (n := 3) (x := ⟨"RingHouse$Service", "run", "(LRingHouse$Machine;LRingHouse$Process;LRingHouse$Registers;)I"⟩) (owner := "RingHouse$Service") E [(14, 0), (10, v3), (11, v1)] [] rfl zc_38 zr_38 zk_38_13 q2505 q2507 q2698 q2529 q265 q2530 (Or.inr q2506) dX12_serve_20 (by decide +kernel) rfl (by omega) (by decide) (Nat.le_of_ble_eq_true rfl) (by decide) (fun l G => k_fX38_run_13 l G v3 v1) (fun v5 => ?_)
    refine r_pick E [1, 0] rfl ?_
    exact w_fX12_serve_J23 E hN hT v1 v5
  refine r_dcase (fun hv => ?_) (fun _ => ?_)
  · subst hv
    refine r_callU (n := 3) (x := ⟨"RingHouse$Service", "run", "(LRingHouse$Machine;LRingHouse$Process;LRingHouse$Registers;)I"⟩) (owner := "RingHouse$Service") E [(14, 0), (10, v3), (11, v1)] [] rfl zc_38 zr_38 zk_38_14 q2505 q2507 q2708 q2709 q277 q2710 (Or.inr q2506) dX12_serve_20 (by decide +kernel) rfl (by omega) (by decide) (Nat.le_of_ble_eq_true rfl) (by decide) (fun l G => k_fX50_run_14 l G v3 v1) (fun v5 => ?_)
    refine r_pick E [1, 0] rfl ?_
    exact w_fX12_serve_J23 E hN hT v1 v5
  refine r_dcase (fun hv => ?_) (fun _ => ?_)
  · subst hv
    refine r_callU (n := 3) (x := ⟨"RingHouse$Service", "run", "(LRingHouse$Machine;LRingHouse$Process;LRingHouse$Registers;)I"⟩) (owner := "RingHouse$Service") E [(14, 0), (10, v3), (11, v1)] [] rfl zc_38 zr_38 zk_38_15 q2505 q2507 q2715 q2529 q265 q2530 (Or.inr q2506) dX12_serve_20 (by decide +kernel) rfl (by omega) (by decide) (Nat.le_of_ble_eq_true rfl) (by decide) (fun l G => k_fX38_run_15 l G v3 v1) (fun v5 => ?_)
    refine r_pick E [1, 0] rfl ?_
    exact w_fX12_serve_J23 E hN hT v1 v5
  refine r_dcase (fun hv => ?_) (fun _ => ?_)
  · subst hv
    refine r_callU (n := 3) (x := ⟨"RingHouse$Service", "run", "(LRingHouse$Machine;LRingHouse$Process;LRingHouse$Registers;)I"⟩) (owner := "RingHouse$Service") E [(14, 0), (10, v3), (11, v1)] [] rfl zc_38 zr_38 zk_38_16 q2505 q2507 q2682 q2683 q279 q2684 (Or.inr q2506) dX12_serve_20 (by decide +kernel) rfl (by omega) (by decide) (Nat.le_of_ble_eq_true rfl) (by decide) (fun l G => k_fX52_run_16 l G v3 v1) (fun v5 => ?_)
    refine r_pick E [1, 0] rfl ?_
    exact w_fX12_serve_J23 E hN hT v1 v5
  refine r_dcase (fun hv => ?_) (fun _ => ?_)
  · subst hv
    refine r_callU (n := 3) (x := ⟨"RingHouse$Service", "run", "(LRingHouse$Machine;LRingHouse$Process;LRingHouse$Registers;)I"⟩) (owner := "RingHouse$Service") E [(14, 0), (10, v3), (11, v1)] [] rfl zc_38 zr_38 zk_38_17 q2505 q2507 q2643 q2644 q280 q2645 (Or.inr q2506) dX12_serve_20 (by decide +kernel) rfl (by omega) (by decide) (Nat.le_of_ble_eq_true rfl) (by decide) (fun l G => k_fX53_run_17 l G v3 v1) (fun v5 => ?_)
    refine r_pick E [1, 0] rfl ?_
    exact w_fX12_serve_J23 E hN hT v1 v5
  refine r_dcase (fun hv => ?_) (fun _ => ?_)
  · subst hv
    refine r_callU (n := 3) (x := ⟨"RingHouse$Service", "run", "(LRingHouse$Machine;LRingHouse$Process;LRingHouse$Registers;)I"⟩) (owner := "RingHouse$Service") E [(14, 0), (10, v3), (11, v1)] [] rfl zc_38 zr_38 zk_38_18 q2505 q2507 q2677 q2678 q281 q2679 (Or.inr q2506) dX12_serve_20 (by decide +kernel) rfl (by omega) (by decide) (Nat.le_of_ble_eq_true rfl) (by decide) (fun l G => k_fX54_run_18 l G v3 v1) (fun v5 => ?_)
    refine r_pick E [1, 0] rfl ?_
    exact w_fX12_serve_J23 E hN hT v1 v5
  refine r_dcase (fun hv => ?_) (fun _ => ?_)
  · subst hv
    refine r_callU (n := 3) (x := ⟨"RingHouse$Service", "run", "(LRingHouse$Machine;LRingHouse$Process;LRingHouse$Registers;)I"⟩) (owner := "RingHouse$Service") E [(14, 0), (10, v3), (11, v1)] [] rfl zc_38 zr_38 zk_38_19 q2505 q2507 q2692 q2693 q282 q2694 (Or.inr q2506) dX12_serve_20 (by decide +kernel) rfl (by omega) (by decide) (Nat.le_of_ble_eq_true rfl) (by decide) (fun l G => k_fX55_run_19 l G v3 v1) (fun v5 => ?_)
    refine r_pick E [1, 0] rfl ?_
    exact w_fX12_serve_J23 E hN hT v1 v5
  refine r_dcase (fun hv => ?_) (fun _ => ?_)
  · subst hv
    refine r_callU (n := 3) (x := ⟨"RingHouse$Service", "run", "(LRingHouse$Machine;LRingHouse$Process;LRingHouse$Registers;)I"⟩) (owner := "RingHouse$Service") E [(14, 0), (10, v3), (11, v1)] [] rfl zc_38 zr_38 zk_38_20 q2505 q2507 q2668 q2669 q283 q2670 (Or.inr q2506) dX12_serve_20 (by decide +kernel) rfl (by omega) (by decide) (Nat.le_of_ble_eq_true rfl) (by decide) (fun l G => k_fX56_run_20 l G v3 v1) (fun v5 => ?_)
    refine r_pick E [1, 0] rfl ?_
    exact w_fX12_serve_J23 E hN hT v1 v5
  refine r_dcase (fun hv => ?_) (fun _ => ?_)
  · subst hv
    refine r_callU (n := 3) (x := ⟨"RingHouse$Service", "run", "(LRingHouse$Machine;LRingHouse$Process;LRingHouse$Registers;)I"⟩) (owner := "RingHouse$Service") E [(14, 0), (10, v3), (11, v1)] [] rfl zc_38 zr_38 zk_38_21 q2505 q2507 q2686 q2687 q284 q2688 (Or.inr q2506) dX12_serve_20 (by decide +kernel) rfl (by omega) (by decide) (Nat.le_of_ble_eq_true rfl) (by decide) (fun l G => k_fX57_run_21 l G v3 v1) (fun v5 => ?_)
    refine r_pick E [1, 0] rfl ?_
    exact w_fX12_serve_J23 E hN hT v1 v5
  refine r_dcase (fun hv => ?_) (fun _ => ?_)
  · subst hv
    refine r_callU (n := 3) (x := ⟨"RingHouse$Service", "run", "(LRingHouse$Machine;LRingHouse$Process;LRingHouse$Registers;)I"⟩) (owner := "RingHouse$Service") E [(14, 0), (10, v3), (11, v1)] [] rfl zc_38 zr_38 zk_38_22 q2505 q2507 q2686 q2687 q284 q2688 (Or.inr q2506) dX12_serve_20 (by decide +kernel) rfl (by omega) (by decide) (Nat.le_of_ble_eq_true rfl) (by decide) (fun l G => k_fX57_run_22 l G v3 v1) (fun v5 => ?_)
    refine r_pick E [1, 0] rfl ?_
    exact w_fX12_serve_J23 E hN hT v1 v5
  refine r_dcase (fun hv => ?_) (fun _ => ?_)
  · subst hv
    refine r_callU (n := 3) (x := ⟨"RingHouse$Service", "run", "(LRingHouse$Machine;LRingHouse$Process;LRingHouse$Registers;)I"⟩) (owner := "RingHouse$Service") E [(14, 0), (10, v3), (11, v1)] [] rfl zc_38 zr_38 zk_38_23 q2505 q2507 q2650 q2651 q285 q2652 (Or.inr q2506) dX12_serve_20 (by decide +kernel) rfl (by omega) (by decide) (Nat.le_of_ble_eq_true rfl) (by decide) (fun l G => k_fX58_run_23 l G v3 v1) (fun v5 => ?_)
    refine r_pick E [1, 0] rfl ?_
    exact w_fX12_serve_J23 E hN hT v1 v5
  refine r_dcase (fun hv => ?_) (fun _ => ?_)
  · subst hv
    refine r_callU (n := 3) (x := ⟨"RingHouse$Service", "run", "(LRingHouse$Machine;LRingHouse$Process;LRingHouse$Registers;)I"⟩) (owner := "RingHouse$Service") E [(14, 0), (10, v3), (11, v1)] [] rfl zc_38 zr_38 zk_38_24 q2505 q2507 q2699 q2700 q286 q2701 (Or.inr q2506) dX12_serve_20 (by decide +kernel) rfl (by omega) (by decide) (Nat.le_of_ble_eq_true rfl) (by decide) (fun l G => k_fX59_run_24 l G v3 v1) (fun v5 => ?_)
    refine r_pick E [1, 0] rfl ?_
    exact w_fX12_serve_J23 E hN hT v1 v5
  refine r_dcase (fun hv => ?_) (fun _ => ?_)
  · subst hv
    refine r_callU (n := 3) (x := ⟨"RingHouse$Service", "run", "(LRingHouse$Machine;LRingHouse$Process;LRingHouse$Registers;)I"⟩) (owner := "RingHouse$Service") E [(14, 0), (10, v3), (11, v1)] [] rfl zc_38 zr_38 zk_38_25 q2505 q2507 q2663 q2529 q265 q2530 (Or.inr q2506) dX12_serve_20 (by decide +kernel) rfl (by omega) (by decide) (Nat.le_of_ble_eq_true rfl) (by decide) (fun l G => k_fX38_run_25 l G v3 v1) (fun v5 => ?_)
    refine r_pick E [1, 0] rfl ?_
    exact w_fX12_serve_J23 E hN hT v1 v5
  refine r_dcase (fun hv => ?_) (fun _ => ?_)
  · subst hv
    refine r_callU (n := 3) (x := ⟨"RingHouse$Service", "run", "(LRingHouse$Machine;LRingHouse$Process;LRingHouse$Registers;)I"⟩) (owner := "RingHouse$Service") E [(14, 0), (10, v3), (11, v1)] [] rfl zc_38 zr_38 zk_38_26 q2505 q2507 q2716 q2529 q265 q2530 (Or.inr q2506) dX12_serve_20 (by decide +kernel) rfl (by omega) (by decide) (Nat.le_of_ble_eq_true rfl) (by decide) (fun l G => k_fX38_run_26 l G v3 v1) (fun v5 => ?_)
    refine r_pick E [1, 0] rfl ?_
    exact w_fX12_serve_J23 E hN hT v1 v5
  refine r_dcase (fun hv => ?_) (fun _ => ?_)
  · subst hv
    refine r_callU (n := 3) (x := ⟨"RingHouse$Service", "run", "(LRingHouse$Machine;LRingHouse$Process;LRingHouse$Registers;)I"⟩) (owner := "RingHouse$Service") E [(14, 0), (10, v3), (11, v1)] [] rfl zc_38 zr_38 zk_38_27 q2505 q2507 q2685 q2529 q265 q2530 (Or.inr q2506) dX12_serve_20 (by decide +kernel) rfl (by omega) (by decide) (Nat.le_of_ble_eq_true rfl) (by decide) (fun l G => k_fX38_run_27 l G v3 v1) (fun v5 => ?_)
    refine r_pick E [1, 0] rfl ?_
    exact w_fX12_serve_J23 E hN hT v1 v5
  refine r_dcase (fun hv => ?_) (fun _ => ?_)
  · subst hv
    refine r_callU (n := 3) (x := ⟨"RingHouse$Service", "run", "(LRingHouse$Machine;LRingHouse$Process;LRingHouse$Registers;)I"⟩) (owner := "RingHouse$Service") E [(14, 0), (10, v3), (11, v1)] [] rfl zc_38 zr_38 zk_38_28 q2505 q2507 q2508 q2509 q272 q2510 (Or.inr q2506) dX12_serve_20 (by decide +kernel) rfl (by omega) (by decide) (Nat.le_of_ble_eq_true rfl) (by decide) (fun l G => k_fX45_run_28 l G v3 v1) (fun v5 => ?_)
    refine r_pick E [1, 0] rfl ?_
    exact w_fX12_serve_J23 E hN hT v1 v5
  exact r_clno
theorem k_fX12_serve (l : Launch) (G : zG) (x1 : Int) : zCt l G yX12_serve cX12_serve 4 (some .boolean) 306 [(14, 0), (38, x1)] (some 0) (fX12_serve x1) := zCt.of (by decide) (Nat.le_of_ble_eq_true rfl) (fun K E _ _ hN hT => w_fX12_serve E hN hT x1)
theorem dX33_run_0 : decode cX33_run 0 = .ok (.aload_n 3, 1) := by decide +kernel
theorem dX33_run_1 : decode cX33_run 1 = .ok (.getfield 11, 3) := by decide +kernel
theorem dX33_run_4 : decode cX33_run 4 = .ok (.iconst 5, 1) := by decide +kernel
theorem dX33_run_5 : decode cX33_run 5 = .ok (.if_icmp .gt 15, 3) := by decide +kernel
theorem dX33_run_8 : decode cX33_run 8 = .ok (.aload_n 1, 1) := by decide +kernel
theorem dX33_run_9 : decode cX33_run 9 = .ok (.getfield 17, 3) := by decide +kernel
theorem dX33_run_12 : decode cX33_run 12 = .ok (.aload_n 1, 1) := by decide +kernel
theorem dX33_run_13 : decode cX33_run 13 = .ok (.getfield 22, 3) := by decide +kernel
theorem dX33_run_16 : decode cX33_run 16 = .ok (.arraylength, 1) := by decide +kernel
theorem dX33_run_17 : decode cX33_run 17 = .ok (.if_icmp .lt 12, 3) := by decide +kernel
theorem dX33_run_20 : decode cX33_run 20 = .ok (.aload_n 1, 1) := by decide +kernel
theorem dX33_run_21 : decode cX33_run 21 = .ok (.bipush 13, 2) := by decide +kernel
theorem dX33_run_23 : decode cX33_run 23 = .ok (.invokevirtual 26, 3) := by decide +kernel
theorem dX33_run_26 : decode cX33_run 26 = .ok (.goto 16, 3) := by decide +kernel
theorem dX33_run_29 : decode cX33_run 29 = .ok (.aload_n 1, 1) := by decide +kernel
theorem dX33_run_30 : decode cX33_run 30 = .ok (.aload_n 1, 1) := by decide +kernel
theorem dX33_run_31 : decode cX33_run 31 = .ok (.getfield 22, 3) := by decide +kernel
theorem dX33_run_34 : decode cX33_run 34 = .ok (.aload_n 1, 1) := by decide +kernel
theorem dX33_run_35 : decode cX33_run 35 = .ok (.getfield 17, 3) := by decide +kernel
theorem dX33_run_38 : decode cX33_run 38 = .ok (.aaload, 1) := by decide +kernel
theorem dX33_run_39 : decode cX33_run 39 = .ok (.invokevirtual 30, 3) := by decide +kernel
theorem dX33_run_42 : decode cX33_run 42 = .ok (.ireturn, 1) := by decide +kernel
theorem zy_X33_run : yX33_run.cls ≠ "java/lang/invoke/MethodHandle" ∧ yX33_run.cls ≠ "java/lang/invoke/VarHandle" ∧ (parseMethodDescriptor yX33_run.desc).map (fun d => d.parameters.length) = some 3 := by decide +kernel
theorem w_fX33_run_35_J20 {K : zK} (E : zE K cX33_run "RingHouse$Supervise" (some .boolean) 307) (hN : zNl K = 4) (hT : zTr K = (some 0)) : zR K 20 [(1, 14, 0)] [] (fX33_run_35_J20) := by
  refine r_aload_n E dX33_run_20 rfl 0 rfl ?_
  refine r_bipush E dX33_run_21 (by decide) (zkI (by decide) (by decide)) ?_
  refine r_callVN E [(0, 13)] [] rfl zc_14 zr_14 (fun o _ => ⟨_, zw_X12.1 o, rfl⟩) q2500 q2285 qs19 q239 q2286 dX33_run_23 zy_X12_refuseHere rfl (by omega) (by decide) (Nat.le_of_ble_eq_true rfl) (by decide) (fun l G => k_fX12_refuseHere l G 13) (fun v3 => ?_)
  refine r_goto E 42 (by decide) dX33_run_26 ?_
  exact r_zreturnb E rfl hT dX33_run_42
theorem w_fX33_run_35 {K : zK} (E : zE K cX33_run "RingHouse$Supervise" (some .boolean) 307) (hN : zNl K = 4) (hT : zTr K = (some 0)) (x2 : Int) (x3 : Int) : zR K 0 [(0, 16, 35), (1, 14, 0), (2, 9, x2), (3, 11, x3)] [] (fX33_run_35 x2 x3) := by
  refine r_aload_n E dX33_run_0 rfl 3 rfl ?_
  refine r_nn E (fun hn1 => ?_)
  refine r_getN E zc_11 zt_1008 dX33_run_1 q764 zr_11 (zg_1008 _) hn1 (fun v2 => ?_)
  refine r_iconst E dX33_run_4 (zkI (by decide) (by decide)) ?_
  refine r_icmp_gt E 20 (by decide) dX33_run_5 (fun _ => ?_) (fun _ => ?_)
  · refine r_pick E [1] rfl ?_
    exact w_fX33_run_35_J20 E hN hT
  · refine r_aload_n E dX33_run_8 rfl 1 rfl ?_
    refine r_getN E zc_14 zt_1309 dX33_run_9 q1565 zr_14 (zg_1309 _) (by decide) (fun v4 => ?_)
    refine r_aload_n E dX33_run_12 rfl 1 rfl ?_
    refine r_gecN (y := 0) E zc_14 dX33_run_13 q1539 zr_14 (zh_1303 (by decide)) (by decide) ?_
    refine r_alen (n := 29) E zc_1303 za_1303 zx_1303 rfl (zkI (by decide) (by decide)) dX33_run_16 (by decide) ?_
    refine r_icmp_lt E 29 (by decide) dX33_run_17 (fun _ => ?_) (fun _ => ?_)
    · refine r_aload_n E dX33_run_29 rfl 1 rfl ?_
      refine r_aload_n E dX33_run_30 rfl 1 rfl ?_
      refine r_gecN (y := 0) E zc_14 dX33_run_31 q1539 zr_14 (zh_1303 (by decide)) (by decide) ?_
      refine r_aload_n E dX33_run_34 rfl 1 rfl ?_
      refine r_getN E zc_14 zt_1309 dX33_run_35 q1565 zr_14 (zg_1309 _) (by decide) (fun v5 => ?_)
      refine r_aaloc (y := v5) E zc_1303 za_1303 zt_1303 zx_1303 rfl rfl (by omega) dX33_run_38 (by decide) (fun hi7 => ?_)
      refine r_callVN E [(38, v5)] [] rfl zc_14 zr_14 (fun o _ => ⟨_, zw_X12.1 o, rfl⟩) q2501 q2503 qs33 q239 q2504 dX33_run_39 zy_X12_serve rfl (by omega) (by decide) (Nat.le_of_ble_eq_true rfl) (by decide) (fun l G => k_fX12_serve l G v5) (fun v8 => ?_)
      exact r_zreturnb E rfl hT dX33_run_42
    · refine r_pick E [1] rfl ?_
      exact w_fX33_run_35_J20 E hN hT
theorem k_fX33_run_35 (l : Launch) (G : zG) (x2 : Int) (x3 : Int) : zCt l G yX33_run cX33_run 4 (some .boolean) 307 [(16, 35), (14, 0), (9, x2), (11, x3)] (some 0) (fX33_run_35 x2 x3) := zCt.of (by decide) (Nat.le_of_ble_eq_true rfl) (fun K E _ _ hN hT => w_fX33_run_35 E hN hT x2 x3)
