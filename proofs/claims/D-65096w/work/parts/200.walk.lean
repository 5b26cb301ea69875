set_option maxRecDepth 100000
theorem dX0_isIn_0 : decode cX0_isIn 0 = .ok (.lload_n 0, 1) := by decide +kernel
theorem dX0_isIn_1 : decode cX0_isIn 1 = .ok (.lload_n 2, 1) := by decide +kernel
theorem dX0_isIn_2 : decode cX0_isIn 2 = .ok (.lcmp, 1) := by decide +kernel
theorem dX0_isIn_3 : decode cX0_isIn 3 = .ok (.ifCond .lt 14, 3) := by decide +kernel
theorem dX0_isIn_6 : decode cX0_isIn 6 = .ok (.lload_n 0, 1) := by decide +kernel
theorem dX0_isIn_7 : decode cX0_isIn 7 = .ok (.lload 4, 2) := by decide +kernel
theorem dX0_isIn_9 : decode cX0_isIn 9 = .ok (.lcmp, 1) := by decide +kernel
theorem dX0_isIn_10 : decode cX0_isIn 10 = .ok (.ifCond .gt 7, 3) := by decide +kernel
theorem dX0_isIn_13 : decode cX0_isIn 13 = .ok (.iconst 1, 1) := by decide +kernel
theorem dX0_isIn_14 : decode cX0_isIn 14 = .ok (.goto 4, 3) := by decide +kernel
theorem dX0_isIn_17 : decode cX0_isIn 17 = .ok (.iconst 0, 1) := by decide +kernel
theorem dX0_isIn_18 : decode cX0_isIn 18 = .ok (.ireturn, 1) := by decide +kernel
theorem zy_X0_isIn : yX0_isIn.cls ≠ "java/lang/invoke/MethodHandle" ∧ yX0_isIn.cls ≠ "java/lang/invoke/VarHandle" ∧ (parseMethodDescriptor yX0_isIn.desc).map (fun d => d.parameters.length) = some 3 := by decide +kernel
theorem w_fX0_isIn {K : zK} (E : zE K cX0_isIn "RingHouse" (some .boolean) 0) (hN : zNl K = 6) (hT : zTr K = (some 0)) (x0 : Int) (x2 : Int) (x4 : Int) : zR K 0 [(0, 1, x0), (2, 1, x2), (4, 1, x4)] [] (fX0_isIn x0 x2 x4) := by
  refine r_lload_n E dX0_isIn_0 rfl 0 rfl ?_
  refine r_lload_n E dX0_isIn_1 rfl 1 rfl ?_
  refine r_lcmp_lt E 17 (by decide) dX0_isIn_2 dX0_isIn_3 (fun _ => ?_) (fun _ => ?_)
  · refine r_iconst E dX0_isIn_17 (zkI (by decide) (by decide)) ?_
    exact r_zreturn E rfl hT (by decide) dX0_isIn_18
  · refine r_lload_n E dX0_isIn_6 rfl 0 rfl ?_
    refine r_lload E dX0_isIn_7 2 rfl ?_
    refine r_lcmp_gt E 17 (by decide) dX0_isIn_9 dX0_isIn_10 (fun _ => ?_) (fun _ => ?_)
    · refine r_iconst E dX0_isIn_17 (zkI (by decide) (by decide)) ?_
      exact r_zreturn E rfl hT (by decide) dX0_isIn_18
    · refine r_iconst E dX0_isIn_13 (zkI (by decide) (by decide)) ?_
      refine r_goto E 18 (by decide) dX0_isIn_14 ?_
      exact r_zreturn E rfl hT (by decide) dX0_isIn_18
theorem k_fX0_isIn (l : Launch) (G : zG) (x0 : Int) (x2 : Int) (x4 : Int) : zCt l G yX0_isIn cX0_isIn 6 (some .boolean) 0 [(1, x0), (1, x2), (1, x4)] (some 0) (fX0_isIn x0 x2 x4) := zCt.of (by decide) (Nat.le_of_ble_eq_true rfl) (fun K E _ _ hN hT => w_fX0_isIn E hN hT x0 x2 x4)
theorem dX1_node_0 : decode cX1_node 0 = .ok (.iload_n 1, 1) := by decide +kernel
theorem dX1_node_1 : decode cX1_node 1 = .ok (.i2l, 1) := by decide +kernel
theorem dX1_node_2 : decode cX1_node 2 = .ok (.lconst 0, 1) := by decide +kernel
theorem dX1_node_3 : decode cX1_node 3 = .ok (.ldc2_w 76, 3) := by decide +kernel
theorem dX1_node_6 : decode cX1_node 6 = .ok (.invokestatic 78, 3) := by decide +kernel
theorem dX1_node_9 : decode cX1_node 9 = .ok (.ifCond .eq 24, 3) := by decide +kernel
theorem dX1_node_12 : decode cX1_node 12 = .ok (.aload_n 0, 1) := by decide +kernel
theorem dX1_node_13 : decode cX1_node 13 = .ok (.getfield 11, 3) := by decide +kernel
theorem dX1_node_16 : decode cX1_node 16 = .ok (.iload_n 1, 1) := by decide +kernel
theorem dX1_node_17 : decode cX1_node 17 = .ok (.aaload, 1) := by decide +kernel
theorem dX1_node_18 : decode cX1_node 18 = .ok (.getfield 82, 3) := by decide +kernel
theorem dX1_node_21 : decode cX1_node 21 = .ok (.ifCond .le 12, 3) := by decide +kernel
theorem dX1_node_24 : decode cX1_node 24 = .ok (.aload_n 0, 1) := by decide +kernel
theorem dX1_node_25 : decode cX1_node 25 = .ok (.getfield 11, 3) := by decide +kernel
theorem dX1_node_28 : decode cX1_node 28 = .ok (.iload_n 1, 1) := by decide +kernel
theorem dX1_node_29 : decode cX1_node 29 = .ok (.aaload, 1) := by decide +kernel
theorem dX1_node_30 : decode cX1_node 30 = .ok (.goto 4, 3) := by decide +kernel
theorem dX1_node_33 : decode cX1_node 33 = .ok (.aconst_null, 1) := by decide +kernel
theorem dX1_node_34 : decode cX1_node 34 = .ok (.areturn, 1) := by decide +kernel
theorem zy_X1_node : yX1_node.cls ≠ "java/lang/invoke/MethodHandle" ∧ yX1_node.cls ≠ "java/lang/invoke/VarHandle" ∧ (parseMethodDescriptor yX1_node.desc).map (fun d => d.parameters.length) = some 1 := by decide +kernel
theorem w_fX1_node {K : zK} (E : zE K cX1_node "RingHouse$Tree" (some (.object "RingHouse$Node")) 1) (hN : zNl K = 2) (hT : zTr K = (some 6)) (x1 : Int) : zR K 0 [(0, 3, 0), (1, 0, x1)] [] (fX1_node x1) := by
  refine r_iload_n E dX1_node_0 rfl 1 rfl ?_
  refine r_i2l E dX1_node_1 ?_
  refine r_lconst (v := 0) E dX1_node_2 (by decide) (zkJ (by decide) (by decide)) ?_
  refine r_ldc2 (v := 255) E dX1_node_3 q1833 (by decide) (zkJ (by decide) (by decide)) ?_
  refine r_callSN E [(1, x1), (1, 0), (1, 255)] [] rfl q1834 q1835 q227 q1836 dX1_node_6 zy_X0_isIn rfl (by omega) (by decide) (Nat.le_of_ble_eq_true rfl) (fun l G => k_fX0_isIn l G x1 0 255) (fun v1 => ?_)
  refine r_if_eq E 33 (by decide) dX1_node_9 (fun _ => ?_) (fun _ => ?_)
  · refine r_null E 4 dX1_node_33 ?_
    exact r_areturn E rfl hT dX1_node_34
  · refine r_aload_n E dX1_node_12 rfl 0 rfl ?_
    refine r_gec (y := 0) E zc_3 dX1_node_13 q585 zr_3 (zh_200 (by decide)) (by decide) ?_
    refine r_iload_n E dX1_node_16 rfl 1 rfl ?_
    refine r_aaloc (y := x1) E zc_200 za_200 zt_200 zx_200 rfl rfl (by omega) dX1_node_17 (by decide) (fun hi3 => ?_)
    refine r_getN E zc_6 zt_501 dX1_node_18 q379 zr_6 (zg_501 _) hi3 (fun v4 => ?_)
    refine r_if_le E 33 (by decide) dX1_node_21 (fun _ => ?_) (fun _ => ?_)
    · refine r_null E 4 dX1_node_33 ?_
      exact r_areturn E rfl hT dX1_node_34
    · refine r_aload_n E dX1_node_24 rfl 0 rfl ?_
      refine r_gec (y := 0) E zc_3 dX1_node_25 q585 zr_3 (zh_200 (by decide)) (by decide) ?_
      refine r_iload_n E dX1_node_28 rfl 1 rfl ?_
      refine r_aaloc (y := x1) E zc_200 za_200 zt_200 zx_200 rfl rfl (by omega) dX1_node_29 (by decide) (fun hi6 => ?_)
      refine r_goto E 34 (by decide) dX1_node_30 ?_
      exact r_areturn E rfl hT dX1_node_34
theorem k_fX1_node (l : Launch) (G : zG) (x1 : Int) : zCt l G yX1_node cX1_node 2 (some (.object "RingHouse$Node")) 1 [(3, 0), (0, x1)] (some 6) (fX1_node x1) := zCt.of (by decide) (Nat.le_of_ble_eq_true rfl) (fun K E _ _ hN hT => w_fX1_node E hN hT x1)
theorem dX4_isDirectory_0 : decode cX4_isDirectory 0 = .ok (.aload_n 0, 1) := by decide +kernel
theorem dX4_isDirectory_1 : decode cX4_isDirectory 1 = .ok (.getfield 34, 3) := by decide +kernel
theorem dX4_isDirectory_4 : decode cX4_isDirectory 4 = .ok (.iconst 1, 1) := by decide +kernel
theorem dX4_isDirectory_5 : decode cX4_isDirectory 5 = .ok (.if_icmp .ne 7, 3) := by decide +kernel
theorem dX4_isDirectory_8 : decode cX4_isDirectory 8 = .ok (.iconst 1, 1) := by decide +kernel
theorem dX4_isDirectory_9 : decode cX4_isDirectory 9 = .ok (.goto 4, 3) := by decide +kernel
theorem dX4_isDirectory_12 : decode cX4_isDirectory 12 = .ok (.iconst 0, 1) := by decide +kernel
theorem dX4_isDirectory_13 : decode cX4_isDirectory 13 = .ok (.ireturn, 1) := by decide +kernel
theorem zy_X4_isDirectory : yX4_isDirectory.cls ≠ "java/lang/invoke/MethodHandle" ∧ yX4_isDirectory.cls ≠ "java/lang/invoke/VarHandle" ∧ (parseMethodDescriptor yX4_isDirectory.desc).map (fun d => d.parameters.length) = some 0 := by decide +kernel
theorem w_fX4_isDirectory {K : zK} (E : zE K cX4_isDirectory "RingHouse$Node" (some .boolean) 0) (hN : zNl K = 1) (hT : zTr K = (some 0)) (x0 : Int) (h0 : 0 ≤ x0) : zR K 0 [(0, 6, x0)] [] (fX4_isDirectory x0) := by
  refine r_aload_n E dX4_isDirectory_0 rfl 0 rfl ?_
  refine r_get E zc_6 zt_501 dX4_isDirectory_1 q377 zr_6 (zg_501 _) h0 (fun v1 => ?_)
  refine r_iconst E dX4_isDirectory_4 (zkI (by decide) (by decide)) ?_
  refine r_icmp_ne E 12 (by decide) dX4_isDirectory_5 (fun _ => ?_) (fun _ => ?_)
  · refine r_iconst E dX4_isDirectory_12 (zkI (by decide) (by decide)) ?_
    exact r_zreturn E rfl hT (by decide) dX4_isDirectory_13
  · refine r_iconst E dX4_isDirectory_8 (zkI (by decide) (by decide)) ?_
    refine r_goto E 13 (by decide) dX4_isDirectory_9 ?_
    exact r_zreturn E rfl hT (by decide) dX4_isDirectory_13
theorem k_fX4_isDirectory (l : Launch) (G : zG) (x0 : Int) (h0 : 0 ≤ x0) : zCt l G yX4_isDirectory cX4_isDirectory 1 (some .boolean) 0 [(6, x0)] (some 0) (fX4_isDirectory x0) := zCt.of (by decide) (Nat.le_of_ble_eq_true rfl) (fun K E _ _ hN hT => w_fX4_isDirectory E hN hT x0 h0)
theorem dX1_directory_0 : decode cX1_directory 0 = .ok (.aload_n 0, 1) := by decide +kernel
theorem dX1_directory_1 : decode cX1_directory 1 = .ok (.iload_n 1, 1) := by decide +kernel
theorem dX1_directory_2 : decode cX1_directory 2 = .ok (.invokevirtual 85, 3) := by decide +kernel
theorem dX1_directory_5 : decode cX1_directory 5 = .ok (.astore_n 2, 1) := by decide +kernel
theorem dX1_directory_6 : decode cX1_directory 6 = .ok (.aload_n 2, 1) := by decide +kernel
theorem dX1_directory_7 : decode cX1_directory 7 = .ok (.ifnull 14, 3) := by decide +kernel
theorem dX1_directory_10 : decode cX1_directory 10 = .ok (.aload_n 2, 1) := by decide +kernel
theorem dX1_directory_11 : decode cX1_directory 11 = .ok (.invokevirtual 89, 3) := by decide +kernel
theorem dX1_directory_14 : decode cX1_directory 14 = .ok (.ifCond .eq 7, 3) := by decide +kernel
theorem dX1_directory_17 : decode cX1_directory 17 = .ok (.aload_n 2, 1) := by decide +kernel
theorem dX1_directory_18 : decode cX1_directory 18 = .ok (.goto 4, 3) := by decide +kernel
theorem dX1_directory_21 : decode cX1_directory 21 = .ok (.aconst_null, 1) := by decide +kernel
theorem dX1_directory_22 : decode cX1_directory 22 = .ok (.areturn, 1) := by decide +kernel
theorem zy_X1_directory : yX1_directory.cls ≠ "java/lang/invoke/MethodHandle" ∧ yX1_directory.cls ≠ "java/lang/invoke/VarHandle" ∧ (parseMethodDescriptor yX1_directory.desc).map (fun d => d.parameters.length) = some 1 := by decide +kernel
theorem w_fX1_directory {K : zK} (E : zE K cX1_directory "RingHouse$Tree" (some (.object "RingHouse$Node")) 2) (hN : zNl K = 3) (hT : zTr K = (some 6)) (x1 : Int) : zR K 0 [(0, 3, 0), (1, 0, x1)] [] (fX1_directory x1) := by
  refine r_aload_n E dX1_directory_0 rfl 0 rfl ?_
  refine r_iload_n E dX1_directory_1 rfl 1 rfl ?_
  refine r_callV E [(0, x1)] [] rfl zc_3 zr_3 (fun o _ => ⟨_, zw_X1.1 o, rfl⟩) (lw_V q1829 q1830 q1831 q228 q1832) dX1_directory_2 zy_X1_node rfl (by omega) (by decide) (Nat.le_of_ble_eq_true rfl) (by decide) (fun l G => k_fX1_node l G x1) (fun v1 => ?_)
  refine r_astore_n (ls' := [(2, 6, v1), (0, 3, 0), (1, 0, x1)]) E dX1_directory_5 rfl (by rw [hN]; decide) rfl ?_
  refine r_aload_n E dX1_directory_6 rfl 0 rfl ?_
  refine r_ifnull E 21 (by decide) dX1_directory_7 (fun _ => ?_) (fun hz2 => ?_)
  · refine r_null E 4 dX1_directory_21 ?_
    exact r_areturn E rfl hT dX1_directory_22
  · refine r_aload_n E dX1_directory_10 rfl 0 rfl ?_
    refine r_callV E [] [] rfl zc_6 zr_6 (fun o _ => ⟨_, zw_X4.1 o, rfl⟩) (lw_V q1837 q1838 q1839 q231 q1840) dX1_directory_11 zy_X4_isDirectory rfl (by omega) (by decide) (Nat.le_of_ble_eq_true rfl) (Int.not_lt.mp hz2) (fun l G => k_fX4_isDirectory l G v1 (Int.not_lt.mp hz2)) (fun v3 => ?_)
    refine r_if_eq E 21 (by decide) dX1_directory_14 (fun _ => ?_) (fun _ => ?_)
    · refine r_null E 4 dX1_directory_21 ?_
      exact r_areturn E rfl hT dX1_directory_22
    · refine r_aload_n E dX1_directory_17 rfl 0 rfl ?_
      refine r_goto E 22 (by decide) dX1_directory_18 ?_
      exact r_areturn E rfl hT dX1_directory_22
theorem k_fX1_directory (l : Launch) (G : zG) (x1 : Int) : zCt l G yX1_directory cX1_directory 3 (some (.object "RingHouse$Node")) 2 [(3, 0), (0, x1)] (some 6) (fX1_directory x1) := zCt.of (by decide) (Nat.le_of_ble_eq_true rfl) (fun K E _ _ hN hT => w_fX1_directory E hN hT x1)
theorem dX0_isWord_0 : decode cX0_isWord 0 = .ok (.lload_n 0, 1) := by decide +kernel
theorem dX0_isWord_1 : decode cX0_isWord 1 = .ok (.lconst 0, 1) := by decide +kernel
theorem dX0_isWord_2 : decode cX0_isWord 2 = .ok (.lcmp, 1) := by decide +kernel
theorem dX0_isWord_3 : decode cX0_isWord 3 = .ok (.ifCond .lt 15, 3) := by decide +kernel
theorem dX0_isWord_6 : decode cX0_isWord 6 = .ok (.lload_n 0, 1) := by decide +kernel
theorem dX0_isWord_7 : decode cX0_isWord 7 = .ok (.ldc2_w 5, 3) := by decide +kernel
theorem dX0_isWord_10 : decode cX0_isWord 10 = .ok (.lcmp, 1) := by decide +kernel
theorem dX0_isWord_11 : decode cX0_isWord 11 = .ok (.ifCond .gt 7, 3) := by decide +kernel
theorem dX0_isWord_14 : decode cX0_isWord 14 = .ok (.iconst 1, 1) := by decide +kernel
theorem dX0_isWord_15 : decode cX0_isWord 15 = .ok (.goto 4, 3) := by decide +kernel
theorem dX0_isWord_18 : decode cX0_isWord 18 = .ok (.iconst 0, 1) := by decide +kernel
theorem dX0_isWord_19 : decode cX0_isWord 19 = .ok (.ireturn, 1) := by decide +kernel
theorem zy_X0_isWord : yX0_isWord.cls ≠ "java/lang/invoke/MethodHandle" ∧ yX0_isWord.cls ≠ "java/lang/invoke/VarHandle" ∧ (parseMethodDescriptor yX0_isWord.desc).map (fun d => d.parameters.length) = some 1 := by decide +kernel
theorem w_fX0_isWord {K : zK} (E : zE K cX0_isWord "RingHouse" (some .boolean) 0) (hN : zNl K = 2) (hT : zTr K = (some 0)) (x0 : Int) : zR K 0 [(0, 1, x0)] [] (fX0_isWord x0) := by
  refine r_lload_n E dX0_isWord_0 rfl 0 rfl ?_
  refine r_lconst (v := 0) E dX0_isWord_1 (by decide) (zkJ (by decide) (by decide)) ?_
  refine r_lcmp_lt E 18 (by decide) dX0_isWord_2 dX0_isWord_3 (fun _ => ?_) (fun _ => ?_)
  · refine r_iconst E dX0_isWord_18 (zkI (by decide) (by decide)) ?_
    exact r_zreturn E rfl hT (by decide) dX0_isWord_19
  · refine r_lload_n E dX0_isWord_6 rfl 0 rfl ?_
    refine r_ldc2 (v := 68719476735) E dX0_isWord_7 q1847 (by decide) (zkJ (by decide) (by decide)) ?_
    refine r_lcmp_gt E 18 (by decide) dX0_isWord_10 dX0_isWord_11 (fun _ => ?_) (fun _ => ?_)
    · refine r_iconst E dX0_isWord_18 (zkI (by decide) (by decide)) ?_
      exact r_zreturn E rfl hT (by decide) dX0_isWord_19
    · refine r_iconst E dX0_isWord_14 (zkI (by decide) (by decide)) ?_
      refine r_goto E 19 (by decide) dX0_isWord_15 ?_
      exact r_zreturn E rfl hT (by decide) dX0_isWord_19
theorem k_fX0_isWord (l : Launch) (G : zG) (x0 : Int) : zCt l G yX0_isWord cX0_isWord 2 (some .boolean) 0 [(1, x0)] (some 0) (fX0_isWord x0) := zCt.of (by decide) (Nat.le_of_ble_eq_true rfl) (fun K E _ _ hN hT => w_fX0_isWord E hN hT x0)
theorem dX0_isName_0 : decode cX0_isName 0 = .ok (.lload_n 0, 1) := by decide +kernel
theorem dX0_isName_1 : decode cX0_isName 1 = .ok (.invokestatic 9, 3) := by decide +kernel
theorem dX0_isName_4 : decode cX0_isName 4 = .ok (.ifCond .eq 12, 3) := by decide +kernel
theorem dX0_isName_7 : decode cX0_isName 7 = .ok (.lload_n 0, 1) := by decide +kernel
theorem dX0_isName_8 : decode cX0_isName 8 = .ok (.bipush 30, 2) := by decide +kernel
theorem dX0_isName_10 : decode cX0_isName 10 = .ok (.lshr, 1) := by decide +kernel
theorem dX0_isName_11 : decode cX0_isName 11 = .ok (.lconst 0, 1) := by decide +kernel
theorem dX0_isName_12 : decode cX0_isName 12 = .ok (.lcmp, 1) := by decide +kernel
theorem dX0_isName_13 : decode cX0_isName 13 = .ok (.ifCond .ne 5, 3) := by decide +kernel
theorem dX0_isName_16 : decode cX0_isName 16 = .ok (.iconst 0, 1) := by decide +kernel
theorem dX0_isName_17 : decode cX0_isName 17 = .ok (.ireturn, 1) := by decide +kernel
theorem dX0_isName_18 : decode cX0_isName 18 = .ok (.iconst 0, 1) := by decide +kernel
theorem dX0_isName_19 : decode cX0_isName 19 = .ok (.istore_n 2, 1) := by decide +kernel
theorem dX0_isName_20 : decode cX0_isName 20 = .ok (.bipush 30, 2) := by decide +kernel
theorem dX0_isName_22 : decode cX0_isName 22 = .ok (.istore_n 3, 1) := by decide +kernel
theorem dX0_isName_23 : decode cX0_isName 23 = .ok (.iload_n 3, 1) := by decide +kernel
theorem dX0_isName_24 : decode cX0_isName 24 = .ok (.ifCond .lt 48, 3) := by decide +kernel
theorem dX0_isName_27 : decode cX0_isName 27 = .ok (.lload_n 0, 1) := by decide +kernel
theorem dX0_isName_28 : decode cX0_isName 28 = .ok (.iload_n 3, 1) := by decide +kernel
theorem dX0_isName_29 : decode cX0_isName 29 = .ok (.lshr, 1) := by decide +kernel
theorem dX0_isName_30 : decode cX0_isName 30 = .ok (.ldc2_w 13, 3) := by decide +kernel
theorem dX0_isName_33 : decode cX0_isName 33 = .ok (.land, 1) := by decide +kernel
theorem dX0_isName_34 : decode cX0_isName 34 = .ok (.l2i, 1) := by decide +kernel
theorem dX0_isName_35 : decode cX0_isName 35 = .ok (.istore 4, 2) := by decide +kernel
theorem dX0_isName_37 : decode cX0_isName 37 = .ok (.iload 4, 2) := by decide +kernel
theorem dX0_isName_39 : decode cX0_isName 39 = .ok (.bipush 38, 2) := by decide +kernel
theorem dX0_isName_41 : decode cX0_isName 41 = .ok (.if_icmp .gt 12, 3) := by decide +kernel
theorem dX0_isName_44 : decode cX0_isName 44 = .ok (.iload_n 2, 1) := by decide +kernel
theorem dX0_isName_45 : decode cX0_isName 45 = .ok (.ifCond .eq 10, 3) := by decide +kernel
theorem dX0_isName_48 : decode cX0_isName 48 = .ok (.iload 4, 2) := by decide +kernel
theorem dX0_isName_50 : decode cX0_isName 50 = .ok (.ifCond .le 5, 3) := by decide +kernel
theorem dX0_isName_53 : decode cX0_isName 53 = .ok (.iconst 0, 1) := by decide +kernel
theorem dX0_isName_54 : decode cX0_isName 54 = .ok (.ireturn, 1) := by decide +kernel
theorem dX0_isName_55 : decode cX0_isName 55 = .ok (.iload 4, 2) := by decide +kernel
theorem dX0_isName_57 : decode cX0_isName 57 = .ok (.ifCond .ne 7, 3) := by decide +kernel
theorem dX0_isName_60 : decode cX0_isName 60 = .ok (.iconst 1, 1) := by decide +kernel
theorem dX0_isName_61 : decode cX0_isName 61 = .ok (.goto 4, 3) := by decide +kernel
theorem dX0_isName_64 : decode cX0_isName 64 = .ok (.iconst 0, 1) := by decide +kernel
theorem dX0_isName_65 : decode cX0_isName 65 = .ok (.istore_n 2, 1) := by decide +kernel
theorem dX0_isName_66 : decode cX0_isName 66 = .ok (.iinc 3 (-6), 3) := by decide +kernel
theorem dX0_isName_69 : decode cX0_isName 69 = .ok (.goto (-46), 3) := by decide +kernel
theorem dX0_isName_72 : decode cX0_isName 72 = .ok (.iconst 1, 1) := by decide +kernel
theorem dX0_isName_73 : decode cX0_isName 73 = .ok (.ireturn, 1) := by decide +kernel
theorem zy_X0_isName : yX0_isName.cls ≠ "java/lang/invoke/MethodHandle" ∧ yX0_isName.cls ≠ "java/lang/invoke/VarHandle" ∧ (parseMethodDescriptor yX0_isName.desc).map (fun d => d.parameters.length) = some 1 := by decide +kernel
theorem w_fX0_isName_J65 {K : zK} (E : zE K cX0_isName "RingHouse" (some .boolean) 1) (hN : zNl K = 5) (hT : zTr K = (some 0)) (x0 : Int) (x3 : Int) (s0 : Int) {r23 : Int × Int → zX} (hr23 : ∀ s : Int × Int, zR K 23 [(0, 1, x0), (2, 0, s.1), (3, 0, s.2)] [] (r23 s)) : zR K 65 [(0, 1, x0), (3, 0, x3)] [(0, s0)] (fX0_isName_J65 r23 x0 x3 s0) := by
  refine r_istore_n (ls' := [(2, 0, s0), (0, 1, x0), (3, 0, x3)]) E dX0_isName_65 rfl (by rw [hN]; decide) rfl ?_
  refine r_iinc (ls' := fun v3 => [(3, 0, v3), (2, 0, s0), (0, 1, x0)]) E 2 rfl (by rw [hN]; decide) (fun _ => rfl) dX0_isName_66 (fun v3 _ => ?_)
  refine r_goto E 23 (by decide) dX0_isName_69 ?_
  refine r_pick E [2, 1, 0] rfl ?_
  exact hr23 (s0, v3)
theorem w_fX0_isName_J55 {K : zK} (E : zE K cX0_isName "RingHouse" (some .boolean) 1) (hN : zNl K = 5) (hT : zTr K = (some 0)) (x0 : Int) (x3 : Int) (x4 : Int) {r23 : Int × Int → zX} (hr23 : ∀ s : Int × Int, zR K 23 [(0, 1, x0), (2, 0, s.1), (3, 0, s.2)] [] (r23 s)) : zR K 55 [(0, 1, x0), (3, 0, x3), (4, 0, x4)] [] (fX0_isName_J55 r23 x0 x3 x4) := by
  refine r_iload E dX0_isName_55 2 rfl ?_
  refine r_if_ne E 64 (by decide) dX0_isName_57 (fun _ => ?_) (fun _ => ?_)
  · refine r_iconst E dX0_isName_64 (zkI (by decide) (by decide)) ?_
    refine r_pick E [0, 1] rfl ?_
    exact w_fX0_isName_J65 E hN hT x0 x3 0 hr23
  · refine r_iconst E dX0_isName_60 (zkI (by decide) (by decide)) ?_
    refine r_goto E 65 (by decide) dX0_isName_61 ?_
    refine r_pick E [0, 1] rfl ?_
    exact w_fX0_isName_J65 E hN hT x0 x3 1 hr23
theorem w_fX0_isName_B23 {K : zK} (E : zE K cX0_isName "RingHouse" (some .boolean) 1) (hN : zNl K = 5) (hT : zTr K = (some 0)) (x0 : Int) : ∀ r23 : Int × Int → zX, (∀ s : Int × Int, zR K 23 [(0, 1, x0), (2, 0, s.1), (3, 0, s.2)] [] (r23 s)) → ∀ s : Int × Int, zR K 23 [(0, 1, x0), (2, 0, s.1), (3, 0, s.2)] [] (fX0_isName_B23 x0 r23 s) := by
  intro r23 hr23 s
  obtain ⟨x2, x3⟩ := s
  refine r_iload_n E dX0_isName_23 rfl 2 rfl ?_
  refine r_if_lt E 72 (by decide) dX0_isName_24 (fun _ => ?_) (fun _ => ?_)
  · refine r_iconst E dX0_isName_72 (zkI (by decide) (by decide)) ?_
    exact r_zreturn E rfl hT (by decide) dX0_isName_73
  · refine r_lload_n E dX0_isName_27 rfl 0 rfl ?_
    refine r_iload_n E dX0_isName_28 rfl 2 rfl ?_
    refine r_lshr E rfl dX0_isName_29 ?_
    refine r_ldc2 (v := 63) E dX0_isName_30 q1848 (by decide) (zkJ (by decide) (by decide)) ?_
    refine r_lmask (P := 64) E 6 (by decide) (by decide) (by decide) dX0_isName_33 ?_
    refine r_l2i E dX0_isName_34 ?_
    refine r_let E (fun v2 ev2 => ?_)
    refine r_istore (ls' := [(4, 0, v2), (0, 1, x0), (2, 0, x2), (3, 0, x3)]) E dX0_isName_35 (by rw [hN]; decide) rfl ?_
    refine r_iload E dX0_isName_37 0 rfl ?_
    refine r_bipush E dX0_isName_39 (by decide) (zkI (by decide) (by decide)) ?_
    refine r_icmp_gt E 53 (by decide) dX0_isName_41 (fun _ => ?_) (fun _ => ?_)
    · refine r_iconst E dX0_isName_53 (zkI (by decide) (by decide)) ?_
      exact r_zreturn E rfl hT (by decide) dX0_isName_54
    · refine r_iload_n E dX0_isName_44 rfl 2 rfl ?_
      refine r_if_eq E 55 (by decide) dX0_isName_45 (fun _ => ?_) (fun _ => ?_)
      · refine r_pick E [1, 3, 0] rfl ?_
        exact w_fX0_isName_J55 E hN hT x0 x3 v2 hr23
      · refine r_iload E dX0_isName_48 0 rfl ?_
        refine r_if_le E 55 (by decide) dX0_isName_50 (fun _ => ?_) (fun _ => ?_)
        · refine r_pick E [1, 3, 0] rfl ?_
          exact w_fX0_isName_J55 E hN hT x0 x3 v2 hr23
        · refine r_iconst E dX0_isName_53 (zkI (by decide) (by decide)) ?_
          exact r_zreturn E rfl hT (by decide) dX0_isName_54
theorem w_fX0_isName {K : zK} (E : zE K cX0_isName "RingHouse" (some .boolean) 1) (hN : zNl K = 5) (hT : zTr K = (some 0)) (x0 : Int) : zR K 0 [(0, 1, x0)] [] (fX0_isName x0) := by
  refine r_lload_n E dX0_isName_0 rfl 0 rfl ?_
  refine r_callS E [(1, x0)] [] rfl q1844 q1845 q227 q1846 dX0_isName_1 zy_X0_isWord rfl (by omega) (by decide) (Nat.le_of_ble_eq_true rfl) (fun l G => k_fX0_isWord l G x0) (fun v1 => ?_)
  refine r_if_eq E 16 (by decide) dX0_isName_4 (fun _ => ?_) (fun _ => ?_)
  · refine r_iconst E dX0_isName_16 (zkI (by decide) (by decide)) ?_
    exact r_zreturn E rfl hT (by decide) dX0_isName_17
  · refine r_lload_n E dX0_isName_7 rfl 0 rfl ?_
    refine r_bipush E dX0_isName_8 (by decide) (zkI (by decide) (by decide)) ?_
    refine r_lshr (P := 1073741824) E (by decide) dX0_isName_10 ?_
    refine r_lconst (v := 0) E dX0_isName_11 (by decide) (zkJ (by decide) (by decide)) ?_
    refine r_lcmp_ne E 18 (by decide) dX0_isName_12 dX0_isName_13 (fun _ => ?_) (fun _ => ?_)
    · refine r_iconst E dX0_isName_18 (zkI (by decide) (by decide)) ?_
      refine r_istore_n (ls' := [(2, 0, 0), (0, 1, x0)]) E dX0_isName_19 rfl (by rw [hN]; decide) rfl ?_
      refine r_bipush E dX0_isName_20 (by decide) (zkI (by decide) (by decide)) ?_
      refine r_istore_n (ls' := [(3, 0, 30), (2, 0, 0), (0, 1, x0)]) E dX0_isName_22 rfl (by rw [hN]; decide) rfl ?_
      refine r_pick E [2, 1, 0] rfl ?_
      exact r_loop (L := fun s => [(0, 1, x0), (2, 0, s.1), (3, 0, s.2)]) (w_fX0_isName_B23 E hN hT x0) zBIG (0, 30)
    · refine r_iconst E dX0_isName_16 (zkI (by decide) (by decide)) ?_
      exact r_zreturn E rfl hT (by decide) dX0_isName_17
theorem k_fX0_isName (l : Launch) (G : zG) (x0 : Int) : zCt l G yX0_isName cX0_isName 5 (some .boolean) 1 [(1, x0)] (some 0) (fX0_isName x0) := zCt.of (by decide) (Nat.le_of_ble_eq_true rfl) (fun K E _ _ hN hT => w_fX0_isName E hN hT x0)
theorem dX0_isLabel_0 : decode cX0_isLabel 0 = .ok (.lload_n 0, 1) := by decide +kernel
theorem dX0_isLabel_1 : decode cX0_isLabel 1 = .ok (.lconst 0, 1) := by decide +kernel
theorem dX0_isLabel_2 : decode cX0_isLabel 2 = .ok (.ldc2_w 15, 3) := by decide +kernel
theorem dX0_isLabel_5 : decode cX0_isLabel 5 = .ok (.invokestatic 17, 3) := by decide +kernel
theorem dX0_isLabel_8 : decode cX0_isLabel 8 = .ok (.ireturn, 1) := by decide +kernel
theorem zy_X0_isLabel : yX0_isLabel.cls ≠ "java/lang/invoke/MethodHandle" ∧ yX0_isLabel.cls ≠ "java/lang/invoke/VarHandle" ∧ (parseMethodDescriptor yX0_isLabel.desc).map (fun d => d.parameters.length) = some 1 := by decide +kernel
theorem w_fX0_isLabel {K : zK} (E : zE K cX0_isLabel "RingHouse" (some .boolean) 1) (hN : zNl K = 2) (hT : zTr K = (some 0)) (x0 : Int) : zR K 0 [(0, 1, x0)] [] (fX0_isLabel x0) := by
  refine r_lload_n E dX0_isLabel_0 rfl 0 rfl ?_
  refine r_lconst (v := 0) E dX0_isLabel_1 (by decide) (zkJ (by decide) (by decide)) ?_
  refine r_ldc2 (v := 31) E dX0_isLabel_2 q1852 (by decide) (zkJ (by decide) (by decide)) ?_
  refine r_callS E [(1, x0), (1, 0), (1, 31)] [] rfl q1853 q1835 q227 q1836 dX0_isLabel_5 zy_X0_isIn rfl (by omega) (by decide) (Nat.le_of_ble_eq_true rfl) (fun l G => k_fX0_isIn l G x0 0 31) (fun v1 => ?_)
  exact r_zreturnb E rfl hT dX0_isLabel_8
theorem k_fX0_isLabel (l : Launch) (G : zG) (x0 : Int) : zCt l G yX0_isLabel cX0_isLabel 2 (some .boolean) 1 [(1, x0)] (some 0) (fX0_isLabel x0) := zCt.of (by decide) (Nat.le_of_ble_eq_true rfl) (fun K E _ _ hN hT => w_fX0_isLabel E hN hT x0)
theorem dX0_dominates_0 : decode cX0_dominates 0 = .ok (.iload_n 0, 1) := by decide +kernel
theorem dX0_dominates_1 : decode cX0_dominates 1 = .ok (.iconst 3, 1) := by decide +kernel
theorem dX0_dominates_2 : decode cX0_dominates 2 = .ok (.ishr, 1) := by decide +kernel
theorem dX0_dominates_3 : decode cX0_dominates 3 = .ok (.iload_n 1, 1) := by decide +kernel
theorem dX0_dominates_4 : decode cX0_dominates 4 = .ok (.iconst 3, 1) := by decide +kernel
theorem dX0_dominates_5 : decode cX0_dominates 5 = .ok (.ishr, 1) := by decide +kernel
theorem dX0_dominates_6 : decode cX0_dominates 6 = .ok (.if_icmp .lt 18, 3) := by decide +kernel
theorem dX0_dominates_9 : decode cX0_dominates 9 = .ok (.iload_n 1, 1) := by decide +kernel
theorem dX0_dominates_10 : decode cX0_dominates 10 = .ok (.bipush 7, 2) := by decide +kernel
theorem dX0_dominates_12 : decode cX0_dominates 12 = .ok (.iand, 1) := by decide +kernel
theorem dX0_dominates_13 : decode cX0_dominates 13 = .ok (.iload_n 0, 1) := by decide +kernel
theorem dX0_dominates_14 : decode cX0_dominates 14 = .ok (.iconst (-1), 1) := by decide +kernel
theorem dX0_dominates_15 : decode cX0_dominates 15 = .ok (.ixor, 1) := by decide +kernel
theorem dX0_dominates_16 : decode cX0_dominates 16 = .ok (.iand, 1) := by decide +kernel
theorem dX0_dominates_17 : decode cX0_dominates 17 = .ok (.ifCond .ne 7, 3) := by decide +kernel
theorem dX0_dominates_20 : decode cX0_dominates 20 = .ok (.iconst 1, 1) := by decide +kernel
theorem dX0_dominates_21 : decode cX0_dominates 21 = .ok (.goto 4, 3) := by decide +kernel
theorem dX0_dominates_24 : decode cX0_dominates 24 = .ok (.iconst 0, 1) := by decide +kernel
theorem dX0_dominates_25 : decode cX0_dominates 25 = .ok (.ireturn, 1) := by decide +kernel
theorem zy_X0_dominates : yX0_dominates.cls ≠ "java/lang/invoke/MethodHandle" ∧ yX0_dominates.cls ≠ "java/lang/invoke/VarHandle" ∧ (parseMethodDescriptor yX0_dominates.desc).map (fun d => d.parameters.length) = some 2 := by decide +kernel
theorem w_fX0_dominates {K : zK} (E : zE K cX0_dominates "RingHouse" (some .boolean) 0) (hN : zNl K = 2) (hT : zTr K = (some 0)) (x0 : Int) (x1 : Int) : zR K 0 [(0, 0, x0), (1, 0, x1)] [] (fX0_dominates x0 x1) := by
  refine r_iload_n E dX0_dominates_0 rfl 0 rfl ?_
  refine r_iconst E dX0_dominates_1 (zkI (by decide) (by decide)) ?_
  refine r_ishr (P := 8) E (by decide) dX0_dominates_2 ?_
  refine r_iload_n E dX0_dominates_3 rfl 1 rfl ?_
  refine r_iconst E dX0_dominates_4 (zkI (by decide) (by decide)) ?_
  refine r_ishr (P := 8) E (by decide) dX0_dominates_5 ?_
  refine r_icmp_lt E 24 (by decide) dX0_dominates_6 (fun _ => ?_) (fun _ => ?_)
  · refine r_iconst E dX0_dominates_24 (zkI (by decide) (by decide)) ?_
    exact r_zreturn E rfl hT (by decide) dX0_dominates_25
  · refine r_iload_n E dX0_dominates_9 rfl 1 rfl ?_
    refine r_bipush E dX0_dominates_10 (by decide) (zkI (by decide) (by decide)) ?_
    refine r_imask (P := 8) E 3 (by decide) (by decide) (by decide) dX0_dominates_12 ?_
    refine r_iload_n E dX0_dominates_13 rfl 0 rfl ?_
    refine r_iconst E dX0_dominates_14 (zkI (by decide) (by decide)) ?_
    refine r_inot E dX0_dominates_15 ?_
    refine r_iand E dX0_dominates_16 ?_
    refine r_if_ne E 24 (by decide) dX0_dominates_17 (fun _ => ?_) (fun _ => ?_)
    · refine r_iconst E dX0_dominates_24 (zkI (by decide) (by decide)) ?_
      exact r_zreturn E rfl hT (by decide) dX0_dominates_25
    · refine r_iconst E dX0_dominates_20 (zkI (by decide) (by decide)) ?_
      refine r_goto E 25 (by decide) dX0_dominates_21 ?_
      exact r_zreturn E rfl hT (by decide) dX0_dominates_25
theorem k_fX0_dominates (l : Launch) (G : zG) (x0 : Int) (x1 : Int) : zCt l G yX0_dominates cX0_dominates 2 (some .boolean) 0 [(0, x0), (0, x1)] (some 0) (fX0_dominates x0 x1) := zCt.of (by decide) (Nat.le_of_ble_eq_true rfl) (fun K E _ _ hN hT => w_fX0_dominates E hN hT x0 x1)
theorem dX0_isRightLimit_0 : decode cX0_isRightLimit 0 = .ok (.iload_n 0, 1) := by decide +kernel
theorem dX0_isRightLimit_1 : decode cX0_isRightLimit 1 = .ok (.iload_n 1, 1) := by decide +kernel
theorem dX0_isRightLimit_2 : decode cX0_isRightLimit 2 = .ok (.invokestatic 27, 3) := by decide +kernel
theorem dX0_isRightLimit_5 : decode cX0_isRightLimit 5 = .ok (.ifCond .eq 28, 3) := by decide +kernel
theorem dX0_isRightLimit_8 : decode cX0_isRightLimit 8 = .ok (.iload_n 2, 1) := by decide +kernel
theorem dX0_isRightLimit_9 : decode cX0_isRightLimit 9 = .ok (.i2l, 1) := by decide +kernel
theorem dX0_isRightLimit_10 : decode cX0_isRightLimit 10 = .ok (.iload_n 0, 1) := by decide +kernel
theorem dX0_isRightLimit_11 : decode cX0_isRightLimit 11 = .ok (.iload_n 1, 1) := by decide +kernel
theorem dX0_isRightLimit_12 : decode cX0_isRightLimit 12 = .ok (.if_icmp .ne 7, 3) := by decide +kernel
theorem dX0_isRightLimit_15 : decode cX0_isRightLimit 15 = .ok (.lconst 0, 1) := by decide +kernel
theorem dX0_isRightLimit_16 : decode cX0_isRightLimit 16 = .ok (.goto 4, 3) := by decide +kernel
theorem dX0_isRightLimit_19 : decode cX0_isRightLimit 19 = .ok (.lconst 1, 1) := by decide +kernel
theorem dX0_isRightLimit_20 : decode cX0_isRightLimit 20 = .ok (.ldc2_w 31, 3) := by decide +kernel
theorem dX0_isRightLimit_23 : decode cX0_isRightLimit 23 = .ok (.invokestatic 17, 3) := by decide +kernel
theorem dX0_isRightLimit_26 : decode cX0_isRightLimit 26 = .ok (.ifCond .eq 7, 3) := by decide +kernel
theorem dX0_isRightLimit_29 : decode cX0_isRightLimit 29 = .ok (.iconst 1, 1) := by decide +kernel
theorem dX0_isRightLimit_30 : decode cX0_isRightLimit 30 = .ok (.goto 4, 3) := by decide +kernel
theorem dX0_isRightLimit_33 : decode cX0_isRightLimit 33 = .ok (.iconst 0, 1) := by decide +kernel
theorem dX0_isRightLimit_34 : decode cX0_isRightLimit 34 = .ok (.ireturn, 1) := by decide +kernel
theorem zy_X0_isRightLimit : yX0_isRightLimit.cls ≠ "java/lang/invoke/MethodHandle" ∧ yX0_isRightLimit.cls ≠ "java/lang/invoke/VarHandle" ∧ (parseMethodDescriptor yX0_isRightLimit.desc).map (fun d => d.parameters.length) = some 3 := by decide +kernel
theorem w_fX0_isRightLimit_J20 {K : zK} (E : zE K cX0_isRightLimit "RingHouse" (some .boolean) 1) (hN : zNl K = 3) (hT : zTr K = (some 0)) (s0 : Int) (s1 : Int) : zR K 20 [] [(1, s1), (1, s0)] (fX0_isRightLimit_J20 s0 s1) := by
  refine r_ldc2 (v := 255) E dX0_isRightLimit_20 q1860 (by decide) (zkJ (by decide) (by decide)) ?_
  refine r_callS E [(1, s0), (1, s1), (1, 255)] [] rfl q1853 q1835 q227 q1836 dX0_isRightLimit_23 zy_X0_isIn rfl (by omega) (by decide) (Nat.le_of_ble_eq_true rfl) (fun l G => k_fX0_isIn l G s0 s1 255) (fun v2 => ?_)
  refine r_if_eq E 33 (by decide) dX0_isRightLimit_26 (fun _ => ?_) (fun _ => ?_)
  · refine r_iconst E dX0_isRightLimit_33 (zkI (by decide) (by decide)) ?_
    exact r_zreturn E rfl hT (by decide) dX0_isRightLimit_34
  · refine r_iconst E dX0_isRightLimit_29 (zkI (by decide) (by decide)) ?_
    refine r_goto E 34 (by decide) dX0_isRightLimit_30 ?_
    exact r_zreturn E rfl hT (by decide) dX0_isRightLimit_34
theorem w_fX0_isRightLimit {K : zK} (E : zE K cX0_isRightLimit "RingHouse" (some .boolean) 1) (hN : zNl K = 3) (hT : zTr K = (some 0)) (x0 : Int) (x1 : Int) (x2 : Int) : zR K 0 [(0, 0, x0), (1, 0, x1), (2, 0, x2)] [] (fX0_isRightLimit x0 x1 x2) := by
  refine r_iload_n E dX0_isRightLimit_0 rfl 0 rfl ?_
  refine r_iload_n E dX0_isRightLimit_1 rfl 1 rfl ?_
  refine r_callS E [(0, x0), (0, x1)] [] rfl q1857 q1858 q227 q1859 dX0_isRightLimit_2 zy_X0_dominates rfl (by omega) (by decide) (Nat.le_of_ble_eq_true rfl) (fun l G => k_fX0_dominates l G x0 x1) (fun v1 => ?_)
  refine r_if_eq E 33 (by decide) dX0_isRightLimit_5 (fun _ => ?_) (fun _ => ?_)
  · refine r_iconst E dX0_isRightLimit_33 (zkI (by decide) (by decide)) ?_
    exact r_zreturn E rfl hT (by decide) dX0_isRightLimit_34
  · refine r_iload_n E dX0_isRightLimit_8 rfl 2 rfl ?_
    refine r_i2l E dX0_isRightLimit_9 ?_
    refine r_iload_n E dX0_isRightLimit_10 rfl 0 rfl ?_
    refine r_iload_n E dX0_isRightLimit_11 rfl 1 rfl ?_
    refine r_icmp_ne E 19 (by decide) dX0_isRightLimit_12 (fun _ => ?_) (fun _ => ?_)
    · refine r_lconst (v := 1) E dX0_isRightLimit_19 (by decide) (zkJ (by decide) (by decide)) ?_
      refine r_pick E [] rfl ?_
      exact w_fX0_isRightLimit_J20 E hN hT x2 1
    · refine r_lconst (v := 0) E dX0_isRightLimit_15 (by decide) (zkJ (by decide) (by decide)) ?_
      refine r_goto E 20 (by decide) dX0_isRightLimit_16 ?_
      refine r_pick E [] rfl ?_
      exact w_fX0_isRightLimit_J20 E hN hT x2 0
theorem k_fX0_isRightLimit (l : Launch) (G : zG) (x0 : Int) (x1 : Int) (x2 : Int) : zCt l G yX0_isRightLimit cX0_isRightLimit 3 (some .boolean) 1 [(0, x0), (0, x1), (0, x2)] (some 0) (fX0_isRightLimit x0 x1 x2) := zCt.of (by decide) (Nat.le_of_ble_eq_true rfl) (fun K E _ _ hN hT => w_fX0_isRightLimit E hN hT x0 x1 x2)
theorem dX2_bucket_0 : decode cX2_bucket 0 = .ok (.lload_n 1, 1) := by decide +kernel
theorem dX2_bucket_1 : decode cX2_bucket 1 = .ok (.lload_n 1, 1) := by decide +kernel
theorem dX2_bucket_2 : decode cX2_bucket 2 = .ok (.bipush 17, 2) := by decide +kernel
theorem dX2_bucket_4 : decode cX2_bucket 4 = .ok (.lushr, 1) := by decide +kernel
theorem dX2_bucket_5 : decode cX2_bucket 5 = .ok (.lxor, 1) := by decide +kernel
theorem dX2_bucket_6 : decode cX2_bucket 6 = .ok (.ldc2_w 17, 3) := by decide +kernel
theorem dX2_bucket_9 : decode cX2_bucket 9 = .ok (.lmul, 1) := by decide +kernel
theorem dX2_bucket_10 : decode cX2_bucket 10 = .ok (.aload_n 0, 1) := by decide +kernel
theorem dX2_bucket_11 : decode cX2_bucket 11 = .ok (.getfield 19, 3) := by decide +kernel
theorem dX2_bucket_14 : decode cX2_bucket 14 = .ok (.i2l, 1) := by decide +kernel
theorem dX2_bucket_15 : decode cX2_bucket 15 = .ok (.ldc2_w 23, 3) := by decide +kernel
theorem dX2_bucket_18 : decode cX2_bucket 18 = .ok (.lmul, 1) := by decide +kernel
theorem dX2_bucket_19 : decode cX2_bucket 19 = .ok (.ladd, 1) := by decide +kernel
theorem dX2_bucket_20 : decode cX2_bucket 20 = .ok (.lstore_n 3, 1) := by decide +kernel
theorem dX2_bucket_21 : decode cX2_bucket 21 = .ok (.lload_n 3, 1) := by decide +kernel
theorem dX2_bucket_22 : decode cX2_bucket 22 = .ok (.lload_n 3, 1) := by decide +kernel
theorem dX2_bucket_23 : decode cX2_bucket 23 = .ok (.bipush 23, 2) := by decide +kernel
theorem dX2_bucket_25 : decode cX2_bucket 25 = .ok (.lushr, 1) := by decide +kernel
theorem dX2_bucket_26 : decode cX2_bucket 26 = .ok (.lxor, 1) := by decide +kernel
theorem dX2_bucket_27 : decode cX2_bucket 27 = .ok (.ldc2_w 25, 3) := by decide +kernel
theorem dX2_bucket_30 : decode cX2_bucket 30 = .ok (.land, 1) := by decide +kernel
theorem dX2_bucket_31 : decode cX2_bucket 31 = .ok (.l2i, 1) := by decide +kernel
theorem dX2_bucket_32 : decode cX2_bucket 32 = .ok (.ireturn, 1) := by decide +kernel
theorem zy_X2_bucket : yX2_bucket.cls ≠ "java/lang/invoke/MethodHandle" ∧ yX2_bucket.cls ≠ "java/lang/invoke/VarHandle" ∧ (parseMethodDescriptor yX2_bucket.desc).map (fun d => d.parameters.length) = some 2 := by decide +kernel
theorem w_fX2_bucket {K : zK} (E : zE K cX2_bucket "RingHouse$Index" (some .int) 0) (hN : zNl K = 5) (hT : zTr K = (some 0)) (x0 : Int) (x1 : Int) : zR K 0 [(0, 6, x0), (1, 1, x1)] [] (fX2_bucket x0 x1) := by
  refine r_lload_n E dX2_bucket_0 rfl 1 rfl ?_
  refine r_lload_n E dX2_bucket_1 rfl 1 rfl ?_
  refine r_bipush E dX2_bucket_2 (by decide) (zkI (by decide) (by decide)) ?_
  refine r_lushr (P := 131072) E 17 rfl (by decide) (by decide) dX2_bucket_4 ?_
  refine r_lxor E dX2_bucket_5 ?_
  refine r_ldc2 (v := 31) E dX2_bucket_6 q1872 (by decide) (zkJ (by decide) (by decide)) ?_
  refine r_lmul E dX2_bucket_9 ?_
  refine r_aload_n E dX2_bucket_10 rfl 0 rfl ?_
  refine r_nn E (fun hn1 => ?_)
  refine r_gecN (y := x0) E zc_6 dX2_bucket_11 q372 zr_6 (zh_500 (by omega)) hn1 ?_
  refine r_i2l E dX2_bucket_14 ?_
  refine r_ldc2 (v := 7919) E dX2_bucket_15 q1873 (by decide) (zkJ (by decide) (by decide)) ?_
  refine r_lmul E dX2_bucket_18 ?_
  refine r_ladd E dX2_bucket_19 ?_
  refine r_let E (fun v2 ev2 => ?_)
  refine r_lstore_n (ls' := [(3, 1, v2), (0, 6, x0), (1, 1, x1)]) E dX2_bucket_20 rfl (by rw [hN]; decide) rfl ?_
  refine r_lload_n E dX2_bucket_21 rfl 0 rfl ?_
  refine r_lload_n E dX2_bucket_22 rfl 0 rfl ?_
  refine r_bipush E dX2_bucket_23 (by decide) (zkI (by decide) (by decide)) ?_
  refine r_lushr (P := 8388608) E 23 rfl (by decide) (by decide) dX2_bucket_25 ?_
  refine r_lxor E dX2_bucket_26 ?_
  refine r_ldc2 (v := 255) E dX2_bucket_27 q1874 (by decide) (zkJ (by decide) (by decide)) ?_
  refine r_lmask (P := 256) E 8 (by decide) (by decide) (by decide) dX2_bucket_30 ?_
  refine r_l2i E dX2_bucket_31 ?_
  exact r_ireturn E rfl hT dX2_bucket_32
theorem k_fX2_bucket (l : Launch) (G : zG) (x0 : Int) (x1 : Int) : zCt l G yX2_bucket cX2_bucket 5 (some .int) 0 [(6, x0), (1, x1)] (some 0) (fX2_bucket x0 x1) := zCt.of (by decide) (Nat.le_of_ble_eq_true rfl) (fun K E _ _ hN hT => w_fX2_bucket E hN hT x0 x1)
theorem dX2_find_0 : decode cX2_find 0 = .ok (.aload_n 0, 1) := by decide +kernel
theorem dX2_find_1 : decode cX2_find 1 = .ok (.getfield 11, 3) := by decide +kernel
theorem dX2_find_4 : decode cX2_find 4 = .ok (.aload_n 1, 1) := by decide +kernel
theorem dX2_find_5 : decode cX2_find 5 = .ok (.lload_n 2, 1) := by decide +kernel
theorem dX2_find_6 : decode cX2_find 6 = .ok (.invokestatic 35, 3) := by decide +kernel
theorem dX2_find_9 : decode cX2_find 9 = .ok (.aaload, 1) := by decide +kernel
theorem dX2_find_10 : decode cX2_find 10 = .ok (.astore 4, 2) := by decide +kernel
theorem dX2_find_12 : decode cX2_find 12 = .ok (.aload 4, 2) := by decide +kernel
theorem dX2_find_14 : decode cX2_find 14 = .ok (.ifnull 32, 3) := by decide +kernel
theorem dX2_find_17 : decode cX2_find 17 = .ok (.aload 4, 2) := by decide +kernel
theorem dX2_find_19 : decode cX2_find 19 = .ok (.getfield 27, 3) := by decide +kernel
theorem dX2_find_22 : decode cX2_find 22 = .ok (.aload_n 1, 1) := by decide +kernel
theorem dX2_find_23 : decode cX2_find 23 = .ok (.if_acmp .ne 13, 3) := by decide +kernel
theorem dX2_find_26 : decode cX2_find 26 = .ok (.aload 4, 2) := by decide +kernel
theorem dX2_find_28 : decode cX2_find 28 = .ok (.getfield 31, 3) := by decide +kernel
theorem dX2_find_31 : decode cX2_find 31 = .ok (.lload_n 2, 1) := by decide +kernel
theorem dX2_find_32 : decode cX2_find 32 = .ok (.lcmp, 1) := by decide +kernel
theorem dX2_find_33 : decode cX2_find 33 = .ok (.ifCond .eq 13, 3) := by decide +kernel
theorem dX2_find_36 : decode cX2_find 36 = .ok (.aload 4, 2) := by decide +kernel
theorem dX2_find_38 : decode cX2_find 38 = .ok (.getfield 39, 3) := by decide +kernel
theorem dX2_find_41 : decode cX2_find 41 = .ok (.astore 4, 2) := by decide +kernel
theorem dX2_find_43 : decode cX2_find 43 = .ok (.goto (-31), 3) := by decide +kernel
theorem dX2_find_46 : decode cX2_find 46 = .ok (.aload 4, 2) := by decide +kernel
theorem dX2_find_48 : decode cX2_find 48 = .ok (.areturn, 1) := by decide +kernel
theorem zy_X2_find : yX2_find.cls ≠ "java/lang/invoke/MethodHandle" ∧ yX2_find.cls ≠ "java/lang/invoke/VarHandle" ∧ (parseMethodDescriptor yX2_find.desc).map (fun d => d.parameters.length) = some 2 := by decide +kernel
theorem w_fX2_find_J36 {K : zK} (E : zE K cX2_find "RingHouse$Index" (some (.object "RingHouse$Node")) 1) (hN : zNl K = 5) (hT : zTr K = (some 6)) (x1 : Int) (x2 : Int) (x4 : Int) {r12 : Int → zX} (hr12 : ∀ s : Int, zR K 12 [(1, 6, x1), (2, 1, x2), (4, 6, s)] [] (r12 s)) : zR K 36 [(1, 6, x1), (2, 1, x2), (4, 6, x4)] [] (fX2_find_J36 r12 x1 x2 x4) := by
  refine r_aload E dX2_find_36 2 rfl ?_
  refine r_nn E (fun hn5 => ?_)
  refine r_getN E zc_6 zt_507 dX2_find_38 q406 zr_6 (zg_507 _) hn5 (fun v6 => ?_)
  refine r_astore (ls' := [(4, 6, v6), (1, 6, x1), (2, 1, x2)]) E dX2_find_41 (by rw [hN]; decide) rfl ?_
  refine r_goto E 12 (by decide) dX2_find_43 ?_
  refine r_pick E [1, 2, 0] rfl ?_
  exact hr12 v6
theorem w_fX2_find_B12 {K : zK} (E : zE K cX2_find "RingHouse$Index" (some (.object "RingHouse$Node")) 1) (hN : zNl K = 5) (hT : zTr K = (some 6)) (x1 : Int) (x2 : Int) : ∀ r12 : Int → zX, (∀ s : Int, zR K 12 [(1, 6, x1), (2, 1, x2), (4, 6, s)] [] (r12 s)) → ∀ s : Int, zR K 12 [(1, 6, x1), (2, 1, x2), (4, 6, s)] [] (fX2_find_B12 x1 x2 r12 s) := by
  intro r12 hr12 x4
  refine r_aload E dX2_find_12 2 rfl ?_
  refine r_ifnull E 46 (by decide) dX2_find_14 (fun _ => ?_) (fun hz3 => ?_)
  · refine r_aload E dX2_find_46 2 rfl ?_
    exact r_areturn E rfl hT dX2_find_48
  · refine r_aload E dX2_find_17 2 rfl ?_
    refine r_getN E zc_6 zt_504 dX2_find_19 q397 zr_6 (zg_504 _) (Int.not_lt.mp hz3) (fun v4 => ?_)
    refine r_aload_n E dX2_find_22 rfl 0 rfl ?_
    refine r_acmp_ne E rfl 36 (by decide) dX2_find_23 (fun _ => ?_) (fun _ => ?_)
    · exact w_fX2_find_J36 E hN hT x1 x2 x4 hr12
    · refine r_aload E dX2_find_26 2 rfl ?_
      refine r_getN E zc_6 zt_502 dX2_find_28 q383 zr_6 (zg_502 _) (Int.not_lt.mp hz3) (fun v7 => ?_)
      refine r_lload_n E dX2_find_31 rfl 1 rfl ?_
      refine r_lcmp_eq E 46 (by decide) dX2_find_32 dX2_find_33 (fun _ => ?_) (fun _ => ?_)
      · refine r_aload E dX2_find_46 2 rfl ?_
        exact r_areturn E rfl hT dX2_find_48
      · exact w_fX2_find_J36 E hN hT x1 x2 x4 hr12
theorem w_fX2_find {K : zK} (E : zE K cX2_find "RingHouse$Index" (some (.object "RingHouse$Node")) 1) (hN : zNl K = 5) (hT : zTr K = (some 6)) (x1 : Int) (x2 : Int) : zR K 0 [(0, 4, 0), (1, 6, x1), (2, 1, x2)] [] (fX2_find x1 x2) := by
  refine r_aload_n E dX2_find_0 rfl 0 rfl ?_
  refine r_gec (y := 0) E zc_4 dX2_find_1 q323 zr_4 (zh_300 (by decide)) (by decide) ?_
  refine r_aload_n E dX2_find_4 rfl 1 rfl ?_
  refine r_lload_n E dX2_find_5 rfl 2 rfl ?_
  refine r_callS E [(6, x1), (1, x2)] [(300, 0)] rfl q1869 q1870 q229 q1871 dX2_find_6 zy_X2_bucket rfl (by omega) (by decide) (Nat.le_of_ble_eq_true rfl) (fun l G => k_fX2_bucket l G x1 x2) (fun v1 => ?_)
  refine r_aaload E zc_300 za_300 zt_300 zx_300 rfl rfl dX2_find_9 (by decide) (fun v2 => ?_)
  refine r_astore (ls' := [(4, 6, v2), (0, 4, 0), (1, 6, x1), (2, 1, x2)]) E dX2_find_10 (by rw [hN]; decide) rfl ?_
  refine r_pick E [2, 3, 0] rfl ?_
  exact r_loop (L := fun s => [(1, 6, x1), (2, 1, x2), (4, 6, s)]) (w_fX2_find_B12 E hN hT x1 x2) zBIG v2
theorem k_fX2_find (l : Launch) (G : zG) (x1 : Int) (x2 : Int) : zCt l G yX2_find cX2_find 5 (some (.object "RingHouse$Node")) 1 [(4, 0), (6, x1), (1, x2)] (some 6) (fX2_find x1 x2) := zCt.of (by decide) (Nat.le_of_ble_eq_true rfl) (fun K E _ _ hN hT => w_fX2_find E hN hT x1 x2)
theorem dX1_account_0 : decode cX1_account 0 = .ok (.aload_n 1, 1) := by decide +kernel
theorem dX1_account_1 : decode cX1_account 1 = .ok (.astore_n 2, 1) := by decide +kernel
theorem dX1_account_2 : decode cX1_account 2 = .ok (.aload_n 2, 1) := by decide +kernel
theorem dX1_account_3 : decode cX1_account 3 = .ok (.getfield 63, 3) := by decide +kernel
theorem dX1_account_6 : decode cX1_account 6 = .ok (.ifCond .ne 11, 3) := by decide +kernel
theorem dX1_account_9 : decode cX1_account 9 = .ok (.aload_n 2, 1) := by decide +kernel
theorem dX1_account_10 : decode cX1_account 10 = .ok (.getfield 99, 3) := by decide +kernel
theorem dX1_account_13 : decode cX1_account 13 = .ok (.astore_n 2, 1) := by decide +kernel
theorem dX1_account_14 : decode cX1_account 14 = .ok (.goto (-12), 3) := by decide +kernel
theorem dX1_account_17 : decode cX1_account 17 = .ok (.aload_n 2, 1) := by decide +kernel
theorem dX1_account_18 : decode cX1_account 18 = .ok (.areturn, 1) := by decide +kernel
theorem zy_X1_account : yX1_account.cls ≠ "java/lang/invoke/MethodHandle" ∧ yX1_account.cls ≠ "java/lang/invoke/VarHandle" ∧ (parseMethodDescriptor yX1_account.desc).map (fun d => d.parameters.length) = some 1 := by decide +kernel
theorem w_fX1_account_B2 {K : zK} (E : zE K cX1_account "RingHouse$Tree" (some (.object "RingHouse$Node")) 0) (hN : zNl K = 3) (hT : zTr K = (some 6)) : ∀ r2 : Int → zX, (∀ s : Int, zR K 2 [(2, 6, s)] [] (r2 s)) → ∀ s : Int, zR K 2 [(2, 6, s)] [] (fX1_account_B2 r2 s) := by
  intro r2 hr2 x2
  refine r_aload_n E dX1_account_2 rfl 0 rfl ?_
  refine r_nn E (fun hn1 => ?_)
  refine r_getN E zc_6 zt_516 dX1_account_3 q451 zr_6 (zg_516 _) hn1 (fun v2 => ?_)
  refine r_if_ne E 17 (by decide) dX1_account_6 (fun _ => ?_) (fun _ => ?_)
  · refine r_aload_n E dX1_account_17 rfl 0 rfl ?_
    exact r_areturn E rfl hT dX1_account_18
  · refine r_aload_n E dX1_account_9 rfl 0 rfl ?_
    refine r_getN E zc_6 zt_504 dX1_account_10 q399 zr_6 (zg_504 _) hn1 (fun v3 => ?_)
    refine r_astore_n (ls' := [(2, 6, v3)]) E dX1_account_13 rfl (by rw [hN]; decide) rfl ?_
    refine r_goto E 2 (by decide) dX1_account_14 ?_
    exact hr2 v3
theorem w_fX1_account {K : zK} (E : zE K cX1_account "RingHouse$Tree" (some (.object "RingHouse$Node")) 0) (hN : zNl K = 3) (hT : zTr K = (some 6)) (x1 : Int) : zR K 0 [(0, 3, 0), (1, 6, x1)] [] (fX1_account x1) := by
  refine r_aload_n E dX1_account_0 rfl 1 rfl ?_
  refine r_astore_n (ls' := [(2, 6, x1), (0, 3, 0), (1, 6, x1)]) E dX1_account_1 rfl (by rw [hN]; decide) rfl ?_
  refine r_pick E [0] rfl ?_
  exact r_loop (L := fun s => [(2, 6, s)]) (w_fX1_account_B2 E hN hT) zBIG x1
theorem k_fX1_account (l : Launch) (G : zG) (x1 : Int) : zCt l G yX1_account cX1_account 3 (some (.object "RingHouse$Node")) 0 [(3, 0), (6, x1)] (some 6) (fX1_account x1) := zCt.of (by decide) (Nat.le_of_ble_eq_true rfl) (fun K E _ _ hN hT => w_fX1_account E hN hT x1)
theorem dX1_bears_0 : decode cX1_bears 0 = .ok (.aload_n 0, 1) := by decide +kernel
theorem dX1_bears_1 : decode cX1_bears 1 = .ok (.aload_n 1, 1) := by decide +kernel
theorem dX1_bears_2 : decode cX1_bears 2 = .ok (.invokevirtual 102, 3) := by decide +kernel
theorem dX1_bears_5 : decode cX1_bears 5 = .ok (.astore_n 3, 1) := by decide +kernel
theorem dX1_bears_6 : decode cX1_bears 6 = .ok (.aload_n 3, 1) := by decide +kernel
theorem dX1_bears_7 : decode cX1_bears 7 = .ok (.getfield 106, 3) := by decide +kernel
theorem dX1_bears_10 : decode cX1_bears 10 = .ok (.iload_n 2, 1) := by decide +kernel
theorem dX1_bears_11 : decode cX1_bears 11 = .ok (.iadd, 1) := by decide +kernel
theorem dX1_bears_12 : decode cX1_bears 12 = .ok (.aload_n 3, 1) := by decide +kernel
theorem dX1_bears_13 : decode cX1_bears 13 = .ok (.getfield 63, 3) := by decide +kernel
theorem dX1_bears_16 : decode cX1_bears 16 = .ok (.if_icmp .gt 7, 3) := by decide +kernel
theorem dX1_bears_19 : decode cX1_bears 19 = .ok (.iconst 1, 1) := by decide +kernel
theorem dX1_bears_20 : decode cX1_bears 20 = .ok (.goto 4, 3) := by decide +kernel
theorem dX1_bears_23 : decode cX1_bears 23 = .ok (.iconst 0, 1) := by decide +kernel
theorem dX1_bears_24 : decode cX1_bears 24 = .ok (.ireturn, 1) := by decide +kernel
theorem zy_X1_bears : yX1_bears.cls ≠ "java/lang/invoke/MethodHandle" ∧ yX1_bears.cls ≠ "java/lang/invoke/VarHandle" ∧ (parseMethodDescriptor yX1_bears.desc).map (fun d => d.parameters.length) = some 2 := by decide +kernel
theorem w_fX1_bears {K : zK} (E : zE K cX1_bears "RingHouse$Tree" (some .boolean) 1) (hN : zNl K = 4) (hT : zTr K = (some 0)) (x1 : Int) (x2 : Int) : zR K 0 [(0, 3, 0), (1, 6, x1), (2, 0, x2)] [] (fX1_bears x1 x2) := by
  refine r_aload_n E dX1_bears_0 rfl 0 rfl ?_
  refine r_aload_n E dX1_bears_1 rfl 1 rfl ?_
  refine r_callV E [(6, x1)] [] rfl zc_3 zr_3 (fun o _ => ⟨_, zw_X1.1 o, rfl⟩) (lw_V q1879 q1880 q1881 q228 q1882) dX1_bears_2 zy_X1_account rfl (by omega) (by decide) (Nat.le_of_ble_eq_true rfl) (by decide) (fun l G => k_fX1_account l G x1) (fun v1 => ?_)
  refine r_astore_n (ls' := [(3, 6, v1), (0, 3, 0), (1, 6, x1), (2, 0, x2)]) E dX1_bears_5 rfl (by rw [hN]; decide) rfl ?_
  refine r_aload_n E dX1_bears_6 rfl 0 rfl ?_
  refine r_nn E (fun hn2 => ?_)
  refine r_getN E zc_6 zt_517 dX1_bears_7 q457 zr_6 (zg_517 _) hn2 (fun v3 => ?_)
  refine r_iload_n E dX1_bears_10 rfl 3 rfl ?_
  refine r_iadd E dX1_bears_11 ?_
  refine r_aload_n E dX1_bears_12 rfl 0 rfl ?_
  refine r_getN E zc_6 zt_516 dX1_bears_13 q451 zr_6 (zg_516 _) hn2 (fun v4 => ?_)
  refine r_icmp_gt E 23 (by decide) dX1_bears_16 (fun _ => ?_) (fun _ => ?_)
  · refine r_iconst E dX1_bears_23 (zkI (by decide) (by decide)) ?_
    exact r_zreturn E rfl hT (by decide) dX1_bears_24
  · refine r_iconst E dX1_bears_19 (zkI (by decide) (by decide)) ?_
    refine r_goto E 24 (by decide) dX1_bears_20 ?_
    exact r_zreturn E rfl hT (by decide) dX1_bears_24
theorem k_fX1_bears (l : Launch) (G : zG) (x1 : Int) (x2 : Int) : zCt l G yX1_bears cX1_bears 4 (some .boolean) 1 [(3, 0), (6, x1), (0, x2)] (some 0) (fX1_bears x1 x2) := zCt.of (by decide) (Nat.le_of_ble_eq_true rfl) (fun K E _ _ hN hT => w_fX1_bears E hN hT x1 x2)
theorem dX1_free_0 : decode cX1_free 0 = .ok (.iconst 0, 1) := by decide +kernel
theorem dX1_free_1 : decode cX1_free 1 = .ok (.istore_n 1, 1) := by decide +kernel
theorem dX1_free_2 : decode cX1_free 2 = .ok (.aload_n 0, 1) := by decide +kernel
theorem dX1_free_3 : decode cX1_free 3 = .ok (.getfield 11, 3) := by decide +kernel
theorem dX1_free_6 : decode cX1_free 6 = .ok (.iload_n 1, 1) := by decide +kernel
theorem dX1_free_7 : decode cX1_free 7 = .ok (.aaload, 1) := by decide +kernel
theorem dX1_free_8 : decode cX1_free 8 = .ok (.getfield 82, 3) := by decide +kernel
theorem dX1_free_11 : decode cX1_free 11 = .ok (.ifCond .le 9, 3) := by decide +kernel
theorem dX1_free_14 : decode cX1_free 14 = .ok (.iinc 1 1, 3) := by decide +kernel
theorem dX1_free_17 : decode cX1_free 17 = .ok (.goto (-15), 3) := by decide +kernel
theorem dX1_free_20 : decode cX1_free 20 = .ok (.aload_n 0, 1) := by decide +kernel
theorem dX1_free_21 : decode cX1_free 21 = .ok (.getfield 11, 3) := by decide +kernel
theorem dX1_free_24 : decode cX1_free 24 = .ok (.iload_n 1, 1) := by decide +kernel
theorem dX1_free_25 : decode cX1_free 25 = .ok (.aaload, 1) := by decide +kernel
theorem dX1_free_26 : decode cX1_free 26 = .ok (.areturn, 1) := by decide +kernel
theorem zy_X1_free : yX1_free.cls ≠ "java/lang/invoke/MethodHandle" ∧ yX1_free.cls ≠ "java/lang/invoke/VarHandle" ∧ (parseMethodDescriptor yX1_free.desc).map (fun d => d.parameters.length) = some 0 := by decide +kernel
theorem w_fX1_free_J20 {K : zK} (E : zE K cX1_free "RingHouse$Tree" (some (.object "RingHouse$Node")) 0) (hN : zNl K = 2) (hT : zTr K = (some 6)) (x1 : Int) : zR K 20 [(0, 3, 0), (1, 0, x1)] [] (fX1_free_J20 x1) := by
  refine r_aload_n E dX1_free_20 rfl 0 rfl ?_
  refine r_gec (y := 0) E zc_3 dX1_free_21 q585 zr_3 (zh_200 (by decide)) (by decide) ?_
  refine r_iload_n E dX1_free_24 rfl 1 rfl ?_
  refine r_aaloc (y := x1) E zc_200 za_200 zt_200 zx_200 rfl rfl (by omega) dX1_free_25 (by decide) (fun hi5 => ?_)
  exact r_areturn E rfl hT dX1_free_26
theorem w_fX1_free_B2 {K : zK} (E : zE K cX1_free "RingHouse$Tree" (some (.object "RingHouse$Node")) 0) (hN : zNl K = 2) (hT : zTr K = (some 6)) : ∀ r2 : Int → zX, (∀ s : Int, zR K 2 [(0, 3, 0), (1, 0, s)] [] (r2 s)) → ∀ s : Int, zR K 2 [(0, 3, 0), (1, 0, s)] [] (fX1_free_B2 r2 s) := by
  intro r2 hr2 x1
  refine r_aload_n E dX1_free_2 rfl 0 rfl ?_
  refine r_gec (y := 0) E zc_3 dX1_free_3 q585 zr_3 (zh_200 (by decide)) (by decide) ?_
  refine r_iload_n E dX1_free_6 rfl 1 rfl ?_
  refine r_aaloc (y := x1) E zc_200 za_200 zt_200 zx_200 rfl rfl (by omega) dX1_free_7 (by decide) (fun hi2 => ?_)
  refine r_getN E zc_6 zt_501 dX1_free_8 q379 zr_6 (zg_501 _) hi2 (fun v3 => ?_)
  refine r_if_le E 20 (by decide) dX1_free_11 (fun _ => ?_) (fun _ => ?_)
  · exact w_fX1_free_J20 E hN hT x1
  · refine r_iinc (ls' := fun v6 => [(1, 0, v6), (0, 3, 0)]) E 1 rfl (by rw [hN]; decide) (fun _ => rfl) dX1_free_14 (fun v6 _ => ?_)
    refine r_goto E 2 (by decide) dX1_free_17 ?_
    refine r_pick E [1, 0] rfl ?_
    exact hr2 v6
theorem w_fX1_free {K : zK} (E : zE K cX1_free "RingHouse$Tree" (some (.object "RingHouse$Node")) 0) (hN : zNl K = 2) (hT : zTr K = (some 6)) : zR K 0 [(0, 3, 0)] [] (fX1_free) := by
  refine r_iconst E dX1_free_0 (zkI (by decide) (by decide)) ?_
  refine r_istore_n (ls' := [(1, 0, 0), (0, 3, 0)]) E dX1_free_1 rfl (by rw [hN]; decide) rfl ?_
  refine r_pick E [1, 0] rfl ?_
  exact r_loop (L := fun s => [(0, 3, 0), (1, 0, s)]) (w_fX1_free_B2 E hN hT) zBIG 0
theorem k_fX1_free (l : Launch) (G : zG) : zCt l G yX1_free cX1_free 2 (some (.object "RingHouse$Node")) 0 [(3, 0)] (some 6) (fX1_free) := zCt.of (by decide) (Nat.le_of_ble_eq_true rfl) (fun K E _ _ hN hT => w_fX1_free E hN hT)
theorem dX5_clear_0 : decode cX5_clear 0 = .ok (.aload_n 0, 1) := by decide +kernel
theorem dX5_clear_1 : decode cX5_clear 1 = .ok (.iconst 0, 1) := by decide +kernel
theorem dX5_clear_2 : decode cX5_clear 2 = .ok (.putfield 18, 3) := by decide +kernel
theorem dX5_clear_5 : decode cX5_clear 5 = .ok (.return_, 1) := by decide +kernel
theorem zy_X5_clear : yX5_clear.cls ≠ "java/lang/invoke/MethodHandle" ∧ yX5_clear.cls ≠ "java/lang/invoke/VarHandle" ∧ (parseMethodDescriptor yX5_clear.desc).map (fun d => d.parameters.length) = some 0 := by decide +kernel
theorem w_fX5_clear {K : zK} (E : zE K cX5_clear "RingHouse$Acl" none 0) (hN : zNl K = 1) (hT : zTr K = none) (x0 : Int) (h0 : 0 ≤ x0) : zR K 0 [(0, 7, x0)] [] (fX5_clear x0) := by
  refine r_aload_n E dX5_clear_0 rfl 0 rfl ?_
  refine r_iconst E dX5_clear_1 (zkI (by decide) (by decide)) ?_
  refine r_put E zc_7 zt_602 zo_602 dX5_clear_2 q361 zr_7 zw_X5 zp_602 (fun _ => rfl) (fun _ => rfl) h0 ?_
  exact r_return E rfl hT dX5_clear_5
theorem k_fX5_clear (l : Launch) (G : zG) (x0 : Int) (h0 : 0 ≤ x0) : zCt l G yX5_clear cX5_clear 1 none 0 [(7, x0)] none (fX5_clear x0) := zCt.of (by decide) (Nat.le_of_ble_eq_true rfl) (fun K E _ _ hN hT => w_fX5_clear E hN hT x0 h0)
theorem dX4_setBrackets_0 : decode cX4_setBrackets 0 = .ok (.aload_n 0, 1) := by decide +kernel
theorem dX4_setBrackets_1 : decode cX4_setBrackets 1 = .ok (.iload_n 1, 1) := by decide +kernel
theorem dX4_setBrackets_2 : decode cX4_setBrackets 2 = .ok (.putfield 83, 3) := by decide +kernel
theorem dX4_setBrackets_5 : decode cX4_setBrackets 5 = .ok (.aload_n 0, 1) := by decide +kernel
theorem dX4_setBrackets_6 : decode cX4_setBrackets 6 = .ok (.iload_n 2, 1) := by decide +kernel
theorem dX4_setBrackets_7 : decode cX4_setBrackets 7 = .ok (.putfield 86, 3) := by decide +kernel
theorem dX4_setBrackets_10 : decode cX4_setBrackets 10 = .ok (.aload_n 0, 1) := by decide +kernel
theorem dX4_setBrackets_11 : decode cX4_setBrackets 11 = .ok (.iload_n 3, 1) := by decide +kernel
theorem dX4_setBrackets_12 : decode cX4_setBrackets 12 = .ok (.putfield 89, 3) := by decide +kernel
theorem dX4_setBrackets_15 : decode cX4_setBrackets 15 = .ok (.return_, 1) := by decide +kernel
theorem zy_X4_setBrackets : yX4_setBrackets.cls ≠ "java/lang/invoke/MethodHandle" ∧ yX4_setBrackets.cls ≠ "java/lang/invoke/VarHandle" ∧ (parseMethodDescriptor yX4_setBrackets.desc).map (fun d => d.parameters.length) = some 3 := by decide +kernel
theorem w_fX4_setBrackets {K : zK} (E : zE K cX4_setBrackets "RingHouse$Node" none 0) (hN : zNl K = 4) (hT : zTr K = none) (x0 : Int) (x1 : Int) (x2 : Int) (x3 : Int) (h0 : 0 ≤ x0) : zR K 0 [(0, 6, x0), (1, 0, x1), (2, 0, x2), (3, 0, x3)] [] (fX4_setBrackets x0 x1 x2 x3) := by
  refine r_aload_n E dX4_setBrackets_0 rfl 0 rfl ?_
  refine r_iload_n E dX4_setBrackets_1 rfl 1 rfl ?_
  refine r_put E zc_6 zt_509 zo_509 dX4_setBrackets_2 q424 zr_6 zw_X4 zp_509 (fun _ => rfl) (fun _ => rfl) h0 ?_
  refine r_aload_n E dX4_setBrackets_5 rfl 0 rfl ?_
  refine r_iload_n E dX4_setBrackets_6 rfl 2 rfl ?_
  refine r_put E zc_6 zt_510 zo_510 dX4_setBrackets_7 q431 zr_6 zw_X4 zp_510 (fun _ => rfl) (fun _ => rfl) h0 ?_
  refine r_aload_n E dX4_setBrackets_10 rfl 0 rfl ?_
  refine r_iload_n E dX4_setBrackets_11 rfl 3 rfl ?_
  refine r_put E zc_6 zt_511 zo_511 dX4_setBrackets_12 q437 zr_6 zw_X4 zp_511 (fun _ => rfl) (fun _ => rfl) h0 ?_
  exact r_return E rfl hT dX4_setBrackets_15
theorem k_fX4_setBrackets (l : Launch) (G : zG) (x0 : Int) (x1 : Int) (x2 : Int) (x3 : Int) (h0 : 0 ≤ x0) : zCt l G yX4_setBrackets cX4_setBrackets 4 none 0 [(6, x0), (0, x1), (0, x2), (0, x3)] none (fX4_setBrackets x0 x1 x2 x3) := zCt.of (by decide) (Nat.le_of_ble_eq_true rfl) (fun K E _ _ hN hT => w_fX4_setBrackets E hN hT x0 x1 x2 x3 h0)
theorem dX4_begin_0 : decode cX4_begin 0 = .ok (.aload_n 0, 1) := by decide +kernel
theorem dX4_begin_1 : decode cX4_begin 1 = .ok (.iload_n 1, 1) := by decide +kernel
theorem dX4_begin_2 : decode cX4_begin 2 = .ok (.putfield 34, 3) := by decide +kernel
theorem dX4_begin_5 : decode cX4_begin 5 = .ok (.aload_n 0, 1) := by decide +kernel
theorem dX4_begin_6 : decode cX4_begin 6 = .ok (.lload_n 2, 1) := by decide +kernel
theorem dX4_begin_7 : decode cX4_begin 7 = .ok (.putfield 44, 3) := by decide +kernel
theorem dX4_begin_10 : decode cX4_begin 10 = .ok (.aload_n 0, 1) := by decide +kernel
theorem dX4_begin_11 : decode cX4_begin 11 = .ok (.iload 4, 2) := by decide +kernel
theorem dX4_begin_13 : decode cX4_begin 13 = .ok (.putfield 41, 3) := by decide +kernel
theorem dX4_begin_16 : decode cX4_begin 16 = .ok (.aload_n 0, 1) := by decide +kernel
theorem dX4_begin_17 : decode cX4_begin 17 = .ok (.getfield 14, 3) := by decide +kernel
theorem dX4_begin_20 : decode cX4_begin 20 = .ok (.invokevirtual 48, 3) := by decide +kernel
theorem dX4_begin_23 : decode cX4_begin 23 = .ok (.aload_n 0, 1) := by decide +kernel
theorem dX4_begin_24 : decode cX4_begin 24 = .ok (.getfield 20, 3) := by decide +kernel
theorem dX4_begin_27 : decode cX4_begin 27 = .ok (.invokevirtual 48, 3) := by decide +kernel
theorem dX4_begin_30 : decode cX4_begin 30 = .ok (.aload_n 0, 1) := by decide +kernel
theorem dX4_begin_31 : decode cX4_begin 31 = .ok (.getfield 23, 3) := by decide +kernel
theorem dX4_begin_34 : decode cX4_begin 34 = .ok (.invokevirtual 48, 3) := by decide +kernel
theorem dX4_begin_37 : decode cX4_begin 37 = .ok (.aload_n 0, 1) := by decide +kernel
theorem dX4_begin_38 : decode cX4_begin 38 = .ok (.aconst_null, 1) := by decide +kernel
theorem dX4_begin_39 : decode cX4_begin 39 = .ok (.putfield 51, 3) := by decide +kernel
theorem dX4_begin_42 : decode cX4_begin 42 = .ok (.aload_n 0, 1) := by decide +kernel
theorem dX4_begin_43 : decode cX4_begin 43 = .ok (.iconst 4, 1) := by decide +kernel
theorem dX4_begin_44 : decode cX4_begin 44 = .ok (.iconst 4, 1) := by decide +kernel
theorem dX4_begin_45 : decode cX4_begin 45 = .ok (.iconst 4, 1) := by decide +kernel
theorem dX4_begin_46 : decode cX4_begin 46 = .ok (.invokevirtual 55, 3) := by decide +kernel
theorem dX4_begin_49 : decode cX4_begin 49 = .ok (.aload_n 0, 1) := by decide +kernel
theorem dX4_begin_50 : decode cX4_begin 50 = .ok (.iconst 0, 1) := by decide +kernel
theorem dX4_begin_51 : decode cX4_begin 51 = .ok (.putfield 59, 3) := by decide +kernel
theorem dX4_begin_54 : decode cX4_begin 54 = .ok (.aload_n 0, 1) := by decide +kernel
theorem dX4_begin_55 : decode cX4_begin 55 = .ok (.aconst_null, 1) := by decide +kernel
theorem dX4_begin_56 : decode cX4_begin 56 = .ok (.putfield 62, 3) := by decide +kernel
theorem dX4_begin_59 : decode cX4_begin 59 = .ok (.aload_n 0, 1) := by decide +kernel
theorem dX4_begin_60 : decode cX4_begin 60 = .ok (.aconst_null, 1) := by decide +kernel
theorem dX4_begin_61 : decode cX4_begin 61 = .ok (.putfield 65, 3) := by decide +kernel
theorem dX4_begin_64 : decode cX4_begin 64 = .ok (.aload_n 0, 1) := by decide +kernel
theorem dX4_begin_65 : decode cX4_begin 65 = .ok (.iconst 0, 1) := by decide +kernel
theorem dX4_begin_66 : decode cX4_begin 66 = .ok (.putfield 68, 3) := by decide +kernel
theorem dX4_begin_69 : decode cX4_begin 69 = .ok (.aload_n 0, 1) := by decide +kernel
theorem dX4_begin_70 : decode cX4_begin 70 = .ok (.iconst 0, 1) := by decide +kernel
theorem dX4_begin_71 : decode cX4_begin 71 = .ok (.putfield 71, 3) := by decide +kernel
theorem dX4_begin_74 : decode cX4_begin 74 = .ok (.aload_n 0, 1) := by decide +kernel
theorem dX4_begin_75 : decode cX4_begin 75 = .ok (.iconst 0, 1) := by decide +kernel
theorem dX4_begin_76 : decode cX4_begin 76 = .ok (.putfield 74, 3) := by decide +kernel
theorem dX4_begin_79 : decode cX4_begin 79 = .ok (.aload_n 0, 1) := by decide +kernel
theorem dX4_begin_80 : decode cX4_begin 80 = .ok (.iconst 0, 1) := by decide +kernel
theorem dX4_begin_81 : decode cX4_begin 81 = .ok (.putfield 77, 3) := by decide +kernel
theorem dX4_begin_84 : decode cX4_begin 84 = .ok (.aload_n 0, 1) := by decide +kernel
theorem dX4_begin_85 : decode cX4_begin 85 = .ok (.iconst 0, 1) := by decide +kernel
theorem dX4_begin_86 : decode cX4_begin 86 = .ok (.putfield 80, 3) := by decide +kernel
theorem dX4_begin_89 : decode cX4_begin 89 = .ok (.return_, 1) := by decide +kernel
theorem zy_X4_begin : yX4_begin.cls ≠ "java/lang/invoke/MethodHandle" ∧ yX4_begin.cls ≠ "java/lang/invoke/VarHandle" ∧ (parseMethodDescriptor yX4_begin.desc).map (fun d => d.parameters.length) = some 3 := by decide +kernel
theorem w_fX4_begin {K : zK} (E : zE K cX4_begin "RingHouse$Node" none 1) (hN : zNl K = 5) (hT : zTr K = none) (x0 : Int) (x1 : Int) (x2 : Int) (x4 : Int) (h0 : 0 ≤ x0) : zR K 0 [(0, 6, x0), (1, 0, x1), (2, 1, x2), (4, 0, x4)] [] (fX4_begin x0 x1 x2 x4) := by
  refine r_aload_n E dX4_begin_0 rfl 0 rfl ?_
  refine r_iload_n E dX4_begin_1 rfl 1 rfl ?_
  refine r_put E zc_6 zt_501 zo_501 dX4_begin_2 q377 zr_6 zw_X4 zp_501 (fun _ => rfl) (fun _ => rfl) h0 ?_
  refine r_aload_n E dX4_begin_5 rfl 0 rfl ?_
  refine r_lload_n E dX4_begin_6 rfl 2 rfl ?_
  refine r_put E zc_6 zt_502 zo_502 dX4_begin_7 q385 zr_6 zw_X4 zp_502 (fun _ => rfl) (fun _ => rfl) h0 ?_
  refine r_aload_n E dX4_begin_10 rfl 0 rfl ?_
  refine r_iload E dX4_begin_11 3 rfl ?_
  refine r_put E zc_6 zt_503 zo_503 dX4_begin_13 q392 zr_6 zw_X4 zp_503 (fun _ => rfl) (fun _ => rfl) h0 ?_
  refine r_aload_n E dX4_begin_16 rfl 0 rfl ?_
  refine r_gec (y := (3 * x0)) E zc_6 dX4_begin_17 q407 zr_6 (zh_508 (by omega)) h0 ?_
  refine r_callV E [] [] rfl zc_7 zr_7 (fun o _ => ⟨_, zw_X5.1 o, rfl⟩) (lw_V q561 q562 q563 q232 q564) dX4_begin_20 zy_X5_clear rfl (by omega) (by decide) (Nat.le_of_ble_eq_true rfl) (by omega) (fun l G => k_fX5_clear l G (3 * x0) (by omega)) (fun _ => ?_)
  refine r_aload_n E dX4_begin_23 rfl 0 rfl ?_
  refine r_gec (y := (3 * x0 + 1)) E zc_6 dX4_begin_24 q459 zr_6 (zh_518 (by omega)) h0 ?_
  refine r_callV E [] [] rfl zc_7 zr_7 (fun o _ => ⟨_, zw_X5.1 o, rfl⟩) (lw_V q561 q562 q563 q232 q564) dX4_begin_27 zy_X5_clear rfl (by omega) (by decide) (Nat.le_of_ble_eq_true rfl) (by omega) (fun l G => k_fX5_clear l G (3 * x0 + 1) (by omega)) (fun _ => ?_)
  refine r_aload_n E dX4_begin_30 rfl 0 rfl ?_
  refine r_gec (y := (3 * x0 + 2)) E zc_6 dX4_begin_31 q462 zr_6 (zh_519 (by omega)) h0 ?_
  refine r_callV E [] [] rfl zc_7 zr_7 (fun o _ => ⟨_, zw_X5.1 o, rfl⟩) (lw_V q561 q562 q563 q232 q564) dX4_begin_34 zy_X5_clear rfl (by omega) (by decide) (Nat.le_of_ble_eq_true rfl) (by omega) (fun l G => k_fX5_clear l G (3 * x0 + 2) (by omega)) (fun _ => ?_)
  refine r_aload_n E dX4_begin_37 rfl 0 rfl ?_
  refine r_null E 6 dX4_begin_38 ?_
  refine r_put E zc_6 zt_520 zo_520 dX4_begin_39 q467 zr_6 zw_X4 zp_520 (fun _ => rfl) (fun G => zfo G) h0 ?_
  refine r_aload_n E dX4_begin_42 rfl 0 rfl ?_
  refine r_iconst E dX4_begin_43 (zkI (by decide) (by decide)) ?_
  refine r_iconst E dX4_begin_44 (zkI (by decide) (by decide)) ?_
  refine r_iconst E dX4_begin_45 (zkI (by decide) (by decide)) ?_
  refine r_callV E [(0, 4), (0, 4), (0, 4)] [] rfl zc_6 zr_6 (fun o _ => ⟨_, zw_X4.1 o, rfl⟩) (lw_V q565 q566 q567 q231 q568) dX4_begin_46 zy_X4_setBrackets rfl (by omega) (by decide) (Nat.le_of_ble_eq_true rfl) h0 (fun l G => k_fX4_setBrackets l G x0 4 4 4 h0) (fun _ => ?_)
  refine r_aload_n E dX4_begin_49 rfl 0 rfl ?_
  refine r_iconst E dX4_begin_50 (zkI (by decide) (by decide)) ?_
  refine r_put E zc_6 zt_512 zo_512 dX4_begin_51 q440 zr_6 zw_X4 zp_512 (fun _ => rfl) (fun _ => rfl) h0 ?_
  refine r_aload_n E dX4_begin_54 rfl 0 rfl ?_
  refine r_null E 4 dX4_begin_55 ?_
  refine r_put E zc_6 zt_513 zo_513 dX4_begin_56 q444 zr_6 zw_X4 zp_513 (fun _ => rfl) (fun G => zfo G) h0 ?_
  refine r_aload_n E dX4_begin_59 rfl 0 rfl ?_
  refine r_null E 4 dX4_begin_60 ?_
  refine r_put E zc_6 zt_514 zo_514 dX4_begin_61 q445 zr_6 zw_X4 zp_514 (fun _ => rfl) (fun G => zfo G) h0 ?_
  refine r_aload_n E dX4_begin_64 rfl 0 rfl ?_
  refine r_iconst E dX4_begin_65 (zkI (by decide) (by decide)) ?_
  refine r_put E zc_6 zt_515 zo_515 dX4_begin_66 q449 zr_6 zw_X4 zp_515 (fun _ => rfl) (fun _ => rfl) h0 ?_
  refine r_aload_n E dX4_begin_69 rfl 0 rfl ?_
  refine r_iconst E dX4_begin_70 (zkI (by decide) (by decide)) ?_
  refine r_put E zc_6 zt_516 zo_516 dX4_begin_71 q454 zr_6 zw_X4 zp_516 (fun _ => rfl) (fun _ => rfl) h0 ?_
  refine r_aload_n E dX4_begin_74 rfl 0 rfl ?_
  refine r_iconst E dX4_begin_75 (zkI (by decide) (by decide)) ?_
  refine r_put E zc_6 zt_517 zo_517 dX4_begin_76 q456 zr_6 zw_X4 zp_517 (fun _ => rfl) (fun _ => rfl) h0 ?_
  refine r_aload_n E dX4_begin_79 rfl 0 rfl ?_
  refine r_iconst E dX4_begin_80 (zkI (by decide) (by decide)) ?_
  refine r_put E zc_6 zt_521 zo_521 dX4_begin_81 q473 zr_6 zw_X4 zp_521 (fun _ => rfl) (fun _ => rfl) h0 ?_
  refine r_aload_n E dX4_begin_84 rfl 0 rfl ?_
  refine r_iconst E dX4_begin_85 (zkI (by decide) (by decide)) ?_
  refine r_put E zc_6 zt_522 zo_522 dX4_begin_86 q478 zr_6 zw_X4 zp_522 (fun _ => rfl) (fun _ => rfl) h0 ?_
  exact r_return E rfl hT dX4_begin_89
theorem k_fX4_begin (l : Launch) (G : zG) (x0 : Int) (x1 : Int) (x2 : Int) (x4 : Int) (h0 : 0 ≤ x0) : zCt l G yX4_begin cX4_begin 5 none 1 [(6, x0), (0, x1), (1, x2), (0, x4)] none (fX4_begin x0 x1 x2 x4) := zCt.of (by decide) (Nat.le_of_ble_eq_true rfl) (fun K E _ _ hN hT => w_fX4_begin E hN hT x0 x1 x2 x4 h0)
theorem dX4_initial_0 : decode cX4_initial 0 = .ok (.iload_n 1, 1) := by decide +kernel
theorem dX4_initial_1 : decode cX4_initial 1 = .ok (.iconst 1, 1) := by decide +kernel
theorem dX4_initial_2 : decode cX4_initial 2 = .ok (.if_icmp .ne 10, 3) := by decide +kernel
theorem dX4_initial_5 : decode cX4_initial 5 = .ok (.aload_n 0, 1) := by decide +kernel
theorem dX4_initial_6 : decode cX4_initial 6 = .ok (.getfield 23, 3) := by decide +kernel
theorem dX4_initial_9 : decode cX4_initial 9 = .ok (.goto 7, 3) := by decide +kernel
theorem dX4_initial_12 : decode cX4_initial 12 = .ok (.aload_n 0, 1) := by decide +kernel
theorem dX4_initial_13 : decode cX4_initial 13 = .ok (.getfield 20, 3) := by decide +kernel
theorem dX4_initial_16 : decode cX4_initial 16 = .ok (.areturn, 1) := by decide +kernel
theorem zy_X4_initial : yX4_initial.cls ≠ "java/lang/invoke/MethodHandle" ∧ yX4_initial.cls ≠ "java/lang/invoke/VarHandle" ∧ (parseMethodDescriptor yX4_initial.desc).map (fun d => d.parameters.length) = some 1 := by decide +kernel
theorem w_fX4_initial {K : zK} (E : zE K cX4_initial "RingHouse$Node" (some (.object "RingHouse$Acl")) 0) (hN : zNl K = 2) (hT : zTr K = (some 7)) (x0 : Int) (x1 : Int) (h0 : 0 ≤ x0) : zR K 0 [(0, 6, x0), (1, 0, x1)] [] (fX4_initial x0 x1) := by
  refine r_iload_n E dX4_initial_0 rfl 1 rfl ?_
  refine r_iconst E dX4_initial_1 (zkI (by decide) (by decide)) ?_
  refine r_icmp_ne E 12 (by decide) dX4_initial_2 (fun _ => ?_) (fun _ => ?_)
  · refine r_aload_n E dX4_initial_12 rfl 0 rfl ?_
    refine r_gec (y := (3 * x0 + 1)) E zc_6 dX4_initial_13 q459 zr_6 (zh_518 (by omega)) h0 ?_
    exact r_areturn E rfl hT dX4_initial_16
  · refine r_aload_n E dX4_initial_5 rfl 0 rfl ?_
    refine r_gec (y := (3 * x0 + 2)) E zc_6 dX4_initial_6 q462 zr_6 (zh_519 (by omega)) h0 ?_
    refine r_goto E 16 (by decide) dX4_initial_9 ?_
    exact r_areturn E rfl hT dX4_initial_16
theorem k_fX4_initial (l : Launch) (G : zG) (x0 : Int) (x1 : Int) (h0 : 0 ≤ x0) : zCt l G yX4_initial cX4_initial 2 (some (.object "RingHouse$Acl")) 0 [(6, x0), (0, x1)] (some 7) (fX4_initial x0 x1) := zCt.of (by decide) (Nat.le_of_ble_eq_true rfl) (fun K E _ _ hN hT => w_fX4_initial E hN hT x0 x1 h0)
theorem dX5_person_0 : decode cX5_person 0 = .ok (.aload_n 0, 1) := by decide +kernel
theorem dX5_person_1 : decode cX5_person 1 = .ok (.getfield 9, 3) := by decide +kernel
theorem dX5_person_4 : decode cX5_person 4 = .ok (.iload_n 1, 1) := by decide +kernel
theorem dX5_person_5 : decode cX5_person 5 = .ok (.iaload, 1) := by decide +kernel
theorem dX5_person_6 : decode cX5_person 6 = .ok (.bipush 16, 2) := by decide +kernel
theorem dX5_person_8 : decode cX5_person 8 = .ok (.idiv, 1) := by decide +kernel
theorem dX5_person_9 : decode cX5_person 9 = .ok (.ireturn, 1) := by decide +kernel
theorem zy_X5_person : yX5_person.cls ≠ "java/lang/invoke/MethodHandle" ∧ yX5_person.cls ≠ "java/lang/invoke/VarHandle" ∧ (parseMethodDescriptor yX5_person.desc).map (fun d => d.parameters.length) = some 1 := by decide +kernel
theorem w_fX5_person {K : zK} (E : zE K cX5_person "RingHouse$Acl" (some .int) 0) (hN : zNl K = 2) (hT : zTr K = (some 0)) (x0 : Int) (x1 : Int) (h0 : 0 ≤ x0) : zR K 0 [(0, 7, x0), (1, 0, x1)] [] (fX5_person x0 x1) := by
  refine r_aload_n E dX5_person_0 rfl 0 rfl ?_
  refine r_gec (y := x0) E zc_7 dX5_person_1 q358 zr_7 (zh_600 (by omega)) h0 ?_
  refine r_iload_n E dX5_person_4 rfl 1 rfl ?_
  refine r_iaload E zc_600 za_600 zt_600 zx_600 rfl (zacl_eq h0) dX5_person_5 h0 (fun v1 => ?_)
  refine r_bipush E dX5_person_6 (by decide) (zkI (by decide) (by decide)) ?_
  refine r_idiv E (by decide) dX5_person_8 ?_
  exact r_ireturn E rfl hT dX5_person_9
theorem k_fX5_person (l : Launch) (G : zG) (x0 : Int) (x1 : Int) (h0 : 0 ≤ x0) : zCt l G yX5_person cX5_person 2 (some .int) 0 [(7, x0), (0, x1)] (some 0) (fX5_person x0 x1) := zCt.of (by decide) (Nat.le_of_ble_eq_true rfl) (fun K E _ _ hN hT => w_fX5_person E hN hT x0 x1 h0)
theorem dX5_project_0 : decode cX5_project 0 = .ok (.aload_n 0, 1) := by decide +kernel
theorem dX5_project_1 : decode cX5_project 1 = .ok (.getfield 9, 3) := by decide +kernel
theorem dX5_project_4 : decode cX5_project 4 = .ok (.iload_n 1, 1) := by decide +kernel
theorem dX5_project_5 : decode cX5_project 5 = .ok (.iaload, 1) := by decide +kernel
theorem dX5_project_6 : decode cX5_project 6 = .ok (.bipush 16, 2) := by decide +kernel
theorem dX5_project_8 : decode cX5_project 8 = .ok (.irem, 1) := by decide +kernel
theorem dX5_project_9 : decode cX5_project 9 = .ok (.ireturn, 1) := by decide +kernel
theorem zy_X5_project : yX5_project.cls ≠ "java/lang/invoke/MethodHandle" ∧ yX5_project.cls ≠ "java/lang/invoke/VarHandle" ∧ (parseMethodDescriptor yX5_project.desc).map (fun d => d.parameters.length) = some 1 := by decide +kernel
theorem w_fX5_project {K : zK} (E : zE K cX5_project "RingHouse$Acl" (some .int) 0) (hN : zNl K = 2) (hT : zTr K = (some 0)) (x0 : Int) (x1 : Int) (h0 : 0 ≤ x0) : zR K 0 [(0, 7, x0), (1, 0, x1)] [] (fX5_project x0 x1) := by
  refine r_aload_n E dX5_project_0 rfl 0 rfl ?_
  refine r_gec (y := x0) E zc_7 dX5_project_1 q358 zr_7 (zh_600 (by omega)) h0 ?_
  refine r_iload_n E dX5_project_4 rfl 1 rfl ?_
  refine r_iaload E zc_600 za_600 zt_600 zx_600 rfl (zacl_eq h0) dX5_project_5 h0 (fun v1 => ?_)
  refine r_bipush E dX5_project_6 (by decide) (zkI (by decide) (by decide)) ?_
  refine r_irem E (by decide) dX5_project_8 ?_
  exact r_ireturn E rfl hT dX5_project_9
theorem k_fX5_project (l : Launch) (G : zG) (x0 : Int) (x1 : Int) (h0 : 0 ≤ x0) : zCt l G yX5_project cX5_project 2 (some .int) 0 [(7, x0), (0, x1)] (some 0) (fX5_project x0 x1) := zCt.of (by decide) (Nat.le_of_ble_eq_true rfl) (fun K E _ _ hN hT => w_fX5_project E hN hT x0 x1 h0)
theorem dX5_key_0 : decode cX5_key 0 = .ok (.bipush 16, 2) := by decide +kernel
theorem dX5_key_2 : decode cX5_key 2 = .ok (.iload_n 0, 1) := by decide +kernel
theorem dX5_key_3 : decode cX5_key 3 = .ok (.imul, 1) := by decide +kernel
theorem dX5_key_4 : decode cX5_key 4 = .ok (.iload_n 1, 1) := by decide +kernel
theorem dX5_key_5 : decode cX5_key 5 = .ok (.iadd, 1) := by decide +kernel
theorem dX5_key_6 : decode cX5_key 6 = .ok (.ireturn, 1) := by decide +kernel
theorem zy_X5_key : yX5_key.cls ≠ "java/lang/invoke/MethodHandle" ∧ yX5_key.cls ≠ "java/lang/invoke/VarHandle" ∧ (parseMethodDescriptor yX5_key.desc).map (fun d => d.parameters.length) = some 2 := by decide +kernel
theorem w_fX5_key {K : zK} (E : zE K cX5_key "RingHouse$Acl" (some .int) 0) (hN : zNl K = 2) (hT : zTr K = (some 0)) (x0 : Int) (x1 : Int) : zR K 0 [(0, 0, x0), (1, 0, x1)] [] (fX5_key x0 x1) := by
  refine r_bipush E dX5_key_0 (by decide) (zkI (by decide) (by decide)) ?_
  refine r_iload_n E dX5_key_2 rfl 0 rfl ?_
  refine r_imul E dX5_key_3 ?_
  refine r_iload_n E dX5_key_4 rfl 1 rfl ?_
  refine r_iadd E dX5_key_5 ?_
  exact r_ireturn E rfl hT dX5_key_6
theorem k_fX5_key (l : Launch) (G : zG) (x0 : Int) (x1 : Int) : zCt l G yX5_key cX5_key 2 (some .int) 0 [(0, x0), (0, x1)] (some 0) (fX5_key x0 x1) := zCt.of (by decide) (Nat.le_of_ble_eq_true rfl) (fun K E _ _ hN hT => w_fX5_key E hN hT x0 x1)
theorem dX5_find_0 : decode cX5_find 0 = .ok (.iload_n 1, 1) := by decide +kernel
theorem dX5_find_1 : decode cX5_find 1 = .ok (.iload_n 2, 1) := by decide +kernel
theorem dX5_find_2 : decode cX5_find 2 = .ok (.invokestatic 22, 3) := by decide +kernel
theorem dX5_find_5 : decode cX5_find 5 = .ok (.istore_n 3, 1) := by decide +kernel
theorem dX5_find_6 : decode cX5_find 6 = .ok (.iconst 0, 1) := by decide +kernel
theorem dX5_find_7 : decode cX5_find 7 = .ok (.istore 4, 2) := by decide +kernel
theorem dX5_find_9 : decode cX5_find 9 = .ok (.iload 4, 2) := by decide +kernel
theorem dX5_find_11 : decode cX5_find 11 = .ok (.aload_n 0, 1) := by decide +kernel
theorem dX5_find_12 : decode cX5_find 12 = .ok (.getfield 18, 3) := by decide +kernel
theorem dX5_find_15 : decode cX5_find 15 = .ok (.if_icmp .ge 23, 3) := by decide +kernel
theorem dX5_find_18 : decode cX5_find 18 = .ok (.aload_n 0, 1) := by decide +kernel
theorem dX5_find_19 : decode cX5_find 19 = .ok (.getfield 9, 3) := by decide +kernel
theorem dX5_find_22 : decode cX5_find 22 = .ok (.iload 4, 2) := by decide +kernel
theorem dX5_find_24 : decode cX5_find 24 = .ok (.iaload, 1) := by decide +kernel
theorem dX5_find_25 : decode cX5_find 25 = .ok (.iload_n 3, 1) := by decide +kernel
theorem dX5_find_26 : decode cX5_find 26 = .ok (.if_icmp .ne 6, 3) := by decide +kernel
theorem dX5_find_29 : decode cX5_find 29 = .ok (.iload 4, 2) := by decide +kernel
theorem dX5_find_31 : decode cX5_find 31 = .ok (.ireturn, 1) := by decide +kernel
theorem dX5_find_32 : decode cX5_find 32 = .ok (.iinc 4 1, 3) := by decide +kernel
theorem dX5_find_35 : decode cX5_find 35 = .ok (.goto (-26), 3) := by decide +kernel
theorem dX5_find_38 : decode cX5_find 38 = .ok (.iconst (-1), 1) := by decide +kernel
theorem dX5_find_39 : decode cX5_find 39 = .ok (.ireturn, 1) := by decide +kernel
theorem zy_X5_find : yX5_find.cls ≠ "java/lang/invoke/MethodHandle" ∧ yX5_find.cls ≠ "java/lang/invoke/VarHandle" ∧ (parseMethodDescriptor yX5_find.desc).map (fun d => d.parameters.length) = some 2 := by decide +kernel
theorem w_fX5_find_B9 {K : zK} (E : zE K cX5_find "RingHouse$Acl" (some .int) 1) (hN : zNl K = 5) (hT : zTr K = (some 0)) (x0 : Int) (x3 : Int) (h0 : 0 ≤ x0) : ∀ r9 : Int → zX, (∀ s : Int, zR K 9 [(0, 7, x0), (3, 0, x3), (4, 0, s)] [] (r9 s)) → ∀ s : Int, zR K 9 [(0, 7, x0), (3, 0, x3), (4, 0, s)] [] (fX5_find_B9 x0 x3 r9 s) := by
  intro r9 hr9 x4
  refine r_iload E dX5_find_9 2 rfl ?_
  refine r_aload_n E dX5_find_11 rfl 0 rfl ?_
  refine r_get E zc_7 zt_602 dX5_find_12 q361 zr_7 (zg_602 _) h0 (fun v2 => ?_)
  refine r_icmp_ge E 38 (by decide) dX5_find_15 (fun _ => ?_) (fun _ => ?_)
  · refine r_iconst E dX5_find_38 (zkI (by decide) (by decide)) ?_
    exact r_ireturn E rfl hT dX5_find_39
  · refine r_aload_n E dX5_find_18 rfl 0 rfl ?_
    refine r_gec (y := x0) E zc_7 dX5_find_19 q358 zr_7 (zh_600 (by omega)) h0 ?_
    refine r_iload E dX5_find_22 2 rfl ?_
    refine r_iaload E zc_600 za_600 zt_600 zx_600 rfl (zacl_eq h0) dX5_find_24 h0 (fun v3 => ?_)
    refine r_iload_n E dX5_find_25 rfl 1 rfl ?_
    refine r_icmp_ne E 32 (by decide) dX5_find_26 (fun _ => ?_) (fun _ => ?_)
    · refine r_iinc (ls' := fun v4 => [(4, 0, v4), (0, 7, x0), (3, 0, x3)]) E 2 rfl (by rw [hN]; decide) (fun _ => rfl) dX5_find_32 (fun v4 _ => ?_)
      refine r_goto E 9 (by decide) dX5_find_35 ?_
      refine r_pick E [1, 2, 0] rfl ?_
      exact hr9 v4
    · refine r_iload E dX5_find_29 2 rfl ?_
      exact r_ireturn E rfl hT dX5_find_31
theorem w_fX5_find {K : zK} (E : zE K cX5_find "RingHouse$Acl" (some .int) 1) (hN : zNl K = 5) (hT : zTr K = (some 0)) (x0 : Int) (x1 : Int) (x2 : Int) (h0 : 0 ≤ x0) : zR K 0 [(0, 7, x0), (1, 0, x1), (2, 0, x2)] [] (fX5_find x0 x1 x2) := by
  refine r_iload_n E dX5_find_0 rfl 1 rfl ?_
  refine r_iload_n E dX5_find_1 rfl 2 rfl ?_
  refine r_callS E [(0, x1), (0, x2)] [] rfl q578 q579 q232 q580 dX5_find_2 zy_X5_key rfl (by omega) (by decide) (Nat.le_of_ble_eq_true rfl) (fun l G => k_fX5_key l G x1 x2) (fun v1 => ?_)
  refine r_istore_n (ls' := [(3, 0, v1), (0, 7, x0), (1, 0, x1), (2, 0, x2)]) E dX5_find_5 rfl (by rw [hN]; decide) rfl ?_
  refine r_iconst E dX5_find_6 (zkI (by decide) (by decide)) ?_
  refine r_istore (ls' := [(4, 0, 0), (3, 0, v1), (0, 7, x0), (1, 0, x1), (2, 0, x2)]) E dX5_find_7 (by rw [hN]; decide) rfl ?_
  refine r_pick E [2, 1, 0] rfl ?_
  exact r_loop (L := fun s => [(0, 7, x0), (3, 0, v1), (4, 0, s)]) (w_fX5_find_B9 E hN hT x0 v1 h0) zBIG 0
theorem k_fX5_find (l : Launch) (G : zG) (x0 : Int) (x1 : Int) (x2 : Int) (h0 : 0 ≤ x0) : zCt l G yX5_find cX5_find 5 (some .int) 1 [(7, x0), (0, x1), (0, x2)] (some 0) (fX5_find x0 x1 x2) := zCt.of (by decide) (Nat.le_of_ble_eq_true rfl) (fun K E _ _ hN hT => w_fX5_find E hN hT x0 x1 x2 h0)
theorem dX5_remove_0 : decode cX5_remove 0 = .ok (.aload_n 0, 1) := by decide +kernel
theorem dX5_remove_1 : decode cX5_remove 1 = .ok (.dup, 1) := by decide +kernel
theorem dX5_remove_2 : decode cX5_remove 2 = .ok (.getfield 18, 3) := by decide +kernel
theorem dX5_remove_5 : decode cX5_remove 5 = .ok (.iconst 1, 1) := by decide +kernel
theorem dX5_remove_6 : decode cX5_remove 6 = .ok (.isub, 1) := by decide +kernel
theorem dX5_remove_7 : decode cX5_remove 7 = .ok (.putfield 18, 3) := by decide +kernel
theorem dX5_remove_10 : decode cX5_remove 10 = .ok (.iload_n 1, 1) := by decide +kernel
theorem dX5_remove_11 : decode cX5_remove 11 = .ok (.istore_n 2, 1) := by decide +kernel
theorem dX5_remove_12 : decode cX5_remove 12 = .ok (.iload_n 2, 1) := by decide +kernel
theorem dX5_remove_13 : decode cX5_remove 13 = .ok (.aload_n 0, 1) := by decide +kernel
theorem dX5_remove_14 : decode cX5_remove 14 = .ok (.getfield 18, 3) := by decide +kernel
theorem dX5_remove_17 : decode cX5_remove 17 = .ok (.if_icmp .ge 37, 3) := by decide +kernel
theorem dX5_remove_20 : decode cX5_remove 20 = .ok (.aload_n 0, 1) := by decide +kernel
theorem dX5_remove_21 : decode cX5_remove 21 = .ok (.getfield 9, 3) := by decide +kernel
theorem dX5_remove_24 : decode cX5_remove 24 = .ok (.iload_n 2, 1) := by decide +kernel
theorem dX5_remove_25 : decode cX5_remove 25 = .ok (.aload_n 0, 1) := by decide +kernel
theorem dX5_remove_26 : decode cX5_remove 26 = .ok (.getfield 9, 3) := by decide +kernel
theorem dX5_remove_29 : decode cX5_remove 29 = .ok (.iload_n 2, 1) := by decide +kernel
theorem dX5_remove_30 : decode cX5_remove 30 = .ok (.iconst 1, 1) := by decide +kernel
theorem dX5_remove_31 : decode cX5_remove 31 = .ok (.iadd, 1) := by decide +kernel
theorem dX5_remove_32 : decode cX5_remove 32 = .ok (.iaload, 1) := by decide +kernel
theorem dX5_remove_33 : decode cX5_remove 33 = .ok (.iastore, 1) := by decide +kernel
theorem dX5_remove_34 : decode cX5_remove 34 = .ok (.aload_n 0, 1) := by decide +kernel
theorem dX5_remove_35 : decode cX5_remove 35 = .ok (.getfield 15, 3) := by decide +kernel
theorem dX5_remove_38 : decode cX5_remove 38 = .ok (.iload_n 2, 1) := by decide +kernel
theorem dX5_remove_39 : decode cX5_remove 39 = .ok (.aload_n 0, 1) := by decide +kernel
theorem dX5_remove_40 : decode cX5_remove 40 = .ok (.getfield 15, 3) := by decide +kernel
theorem dX5_remove_43 : decode cX5_remove 43 = .ok (.iload_n 2, 1) := by decide +kernel
theorem dX5_remove_44 : decode cX5_remove 44 = .ok (.iconst 1, 1) := by decide +kernel
theorem dX5_remove_45 : decode cX5_remove 45 = .ok (.iadd, 1) := by decide +kernel
theorem dX5_remove_46 : decode cX5_remove 46 = .ok (.iaload, 1) := by decide +kernel
theorem dX5_remove_47 : decode cX5_remove 47 = .ok (.iastore, 1) := by decide +kernel
theorem dX5_remove_48 : decode cX5_remove 48 = .ok (.iinc 2 1, 3) := by decide +kernel
theorem dX5_remove_51 : decode cX5_remove 51 = .ok (.goto (-39), 3) := by decide +kernel
theorem dX5_remove_54 : decode cX5_remove 54 = .ok (.iconst 0, 1) := by decide +kernel
theorem dX5_remove_55 : decode cX5_remove 55 = .ok (.ireturn, 1) := by decide +kernel
theorem zy_X5_remove : yX5_remove.cls ≠ "java/lang/invoke/MethodHandle" ∧ yX5_remove.cls ≠ "java/lang/invoke/VarHandle" ∧ (parseMethodDescriptor yX5_remove.desc).map (fun d => d.parameters.length) = some 1 := by decide +kernel
theorem w_fX5_remove_B12 {K : zK} (E : zE K cX5_remove "RingHouse$Acl" (some .int) 0) (hN : zNl K = 3) (hT : zTr K = (some 0)) (x0 : Int) (h0 : 0 ≤ x0) : ∀ r12 : Int → zX, (∀ s : Int, zR K 12 [(0, 7, x0), (2, 0, s)] [] (r12 s)) → ∀ s : Int, zR K 12 [(0, 7, x0), (2, 0, s)] [] (fX5_remove_B12 x0 r12 s) := by
  intro r12 hr12 x2
  refine r_iload_n E dX5_remove_12 rfl 1 rfl ?_
  refine r_aload_n E dX5_remove_13 rfl 0 rfl ?_
  refine r_get E zc_7 zt_602 dX5_remove_14 q361 zr_7 (zg_602 _) h0 (fun v2 => ?_)
  refine r_icmp_ge E 54 (by decide) dX5_remove_17 (fun _ => ?_) (fun _ => ?_)
  · refine r_iconst E dX5_remove_54 (zkI (by decide) (by decide)) ?_
    exact r_ireturn E rfl hT dX5_remove_55
  · refine r_aload_n E dX5_remove_20 rfl 0 rfl ?_
    refine r_gec (y := x0) E zc_7 dX5_remove_21 q358 zr_7 (zh_600 (by omega)) h0 ?_
    refine r_iload_n E dX5_remove_24 rfl 1 rfl ?_
    refine r_aload_n E dX5_remove_25 rfl 0 rfl ?_
    refine r_gec (y := x0) E zc_7 dX5_remove_26 q358 zr_7 (zh_600 (by omega)) h0 ?_
    refine r_iload_n E dX5_remove_29 rfl 1 rfl ?_
    refine r_iconst E dX5_remove_30 (zkI (by decide) (by decide)) ?_
    refine r_iadd E dX5_remove_31 ?_
    refine r_iaload E zc_600 za_600 zt_600 zx_600 rfl (zacl_eq h0) dX5_remove_32 h0 (fun v3 => ?_)
    refine r_iastore E zc_600 za_600 zt_600 zo_600 zx_600 rfl (zacl_eq h0) dX5_remove_33 h0 ?_
    refine r_aload_n E dX5_remove_34 rfl 0 rfl ?_
    refine r_gec (y := x0) E zc_7 dX5_remove_35 q359 zr_7 (zh_601 (by omega)) h0 ?_
    refine r_iload_n E dX5_remove_38 rfl 1 rfl ?_
    refine r_aload_n E dX5_remove_39 rfl 0 rfl ?_
    refine r_gec (y := x0) E zc_7 dX5_remove_40 q359 zr_7 (zh_601 (by omega)) h0 ?_
    refine r_iload_n E dX5_remove_43 rfl 1 rfl ?_
    refine r_iconst E dX5_remove_44 (zkI (by decide) (by decide)) ?_
    refine r_iadd E dX5_remove_45 ?_
    refine r_iaload E zc_601 za_601 zt_601 zx_601 rfl (zacl_eq h0) dX5_remove_46 h0 (fun v4 => ?_)
    refine r_iastore E zc_601 za_601 zt_601 zo_601 zx_601 rfl (zacl_eq h0) dX5_remove_47 h0 ?_
    refine r_iinc (ls' := fun v5 => [(2, 0, v5), (0, 7, x0)]) E 1 rfl (by rw [hN]; decide) (fun _ => rfl) dX5_remove_48 (fun v5 _ => ?_)
    refine r_goto E 12 (by decide) dX5_remove_51 ?_
    refine r_pick E [1, 0] rfl ?_
    exact hr12 v5
theorem w_fX5_remove {K : zK} (E : zE K cX5_remove "RingHouse$Acl" (some .int) 0) (hN : zNl K = 3) (hT : zTr K = (some 0)) (x0 : Int) (x1 : Int) (h0 : 0 ≤ x0) : zR K 0 [(0, 7, x0), (1, 0, x1)] [] (fX5_remove x0 x1) := by
  refine r_aload_n E dX5_remove_0 rfl 0 rfl ?_
  refine r_dup E (zn1 rfl) dX5_remove_1 ?_
  refine r_get E zc_7 zt_602 dX5_remove_2 q361 zr_7 (zg_602 _) h0 (fun v1 => ?_)
  refine r_iconst E dX5_remove_5 (zkI (by decide) (by decide)) ?_
  refine r_isub E dX5_remove_6 ?_
  refine r_put E zc_7 zt_602 zo_602 dX5_remove_7 q361 zr_7 zw_X5 zp_602 (fun _ => rfl) (fun _ => rfl) h0 ?_
  refine r_iload_n E dX5_remove_10 rfl 1 rfl ?_
  refine r_istore_n (ls' := [(2, 0, x1), (0, 7, x0), (1, 0, x1)]) E dX5_remove_11 rfl (by rw [hN]; decide) rfl ?_
  refine r_pick E [1, 0] rfl ?_
  exact r_loop (L := fun s => [(0, 7, x0), (2, 0, s)]) (w_fX5_remove_B12 E hN hT x0 h0) zBIG x1
theorem k_fX5_remove (l : Launch) (G : zG) (x0 : Int) (x1 : Int) (h0 : 0 ≤ x0) : zCt l G yX5_remove cX5_remove 3 (some .int) 0 [(7, x0), (0, x1)] (some 0) (fX5_remove x0 x1) := zCt.of (by decide) (Nat.le_of_ble_eq_true rfl) (fun K E _ _ hN hT => w_fX5_remove E hN hT x0 x1 h0)
theorem dX5_set_0 : decode cX5_set 0 = .ok (.aload_n 0, 1) := by decide +kernel
theorem dX5_set_1 : decode cX5_set 1 = .ok (.iload_n 1, 1) := by decide +kernel
theorem dX5_set_2 : decode cX5_set 2 = .ok (.iload_n 2, 1) := by decide +kernel
theorem dX5_set_3 : decode cX5_set 3 = .ok (.invokevirtual 26, 3) := by decide +kernel
theorem dX5_set_6 : decode cX5_set 6 = .ok (.istore 4, 2) := by decide +kernel
theorem dX5_set_8 : decode cX5_set 8 = .ok (.iload_n 3, 1) := by decide +kernel
theorem dX5_set_9 : decode cX5_set 9 = .ok (.bipush 8, 2) := by decide +kernel
theorem dX5_set_11 : decode cX5_set 11 = .ok (.if_icmp .ne 19, 3) := by decide +kernel
theorem dX5_set_14 : decode cX5_set 14 = .ok (.iload 4, 2) := by decide +kernel
theorem dX5_set_16 : decode cX5_set 16 = .ok (.ifCond .ge 7, 3) := by decide +kernel
theorem dX5_set_19 : decode cX5_set 19 = .ok (.iconst (-1), 1) := by decide +kernel
theorem dX5_set_20 : decode cX5_set 20 = .ok (.goto 9, 3) := by decide +kernel
theorem dX5_set_23 : decode cX5_set 23 = .ok (.aload_n 0, 1) := by decide +kernel
theorem dX5_set_24 : decode cX5_set 24 = .ok (.iload 4, 2) := by decide +kernel
theorem dX5_set_26 : decode cX5_set 26 = .ok (.invokevirtual 29, 3) := by decide +kernel
theorem dX5_set_29 : decode cX5_set 29 = .ok (.ireturn, 1) := by decide +kernel
theorem dX5_set_30 : decode cX5_set 30 = .ok (.iload 4, 2) := by decide +kernel
theorem dX5_set_32 : decode cX5_set 32 = .ok (.ifCond .ge 34, 3) := by decide +kernel
theorem dX5_set_35 : decode cX5_set 35 = .ok (.aload_n 0, 1) := by decide +kernel
theorem dX5_set_36 : decode cX5_set 36 = .ok (.getfield 18, 3) := by decide +kernel
theorem dX5_set_39 : decode cX5_set 39 = .ok (.aload_n 0, 1) := by decide +kernel
theorem dX5_set_40 : decode cX5_set 40 = .ok (.getfield 9, 3) := by decide +kernel
theorem dX5_set_43 : decode cX5_set 43 = .ok (.arraylength, 1) := by decide +kernel
theorem dX5_set_44 : decode cX5_set 44 = .ok (.if_icmp .ne 6, 3) := by decide +kernel
theorem dX5_set_47 : decode cX5_set 47 = .ok (.bipush (-5), 2) := by decide +kernel
theorem dX5_set_49 : decode cX5_set 49 = .ok (.ireturn, 1) := by decide +kernel
theorem dX5_set_50 : decode cX5_set 50 = .ok (.aload_n 0, 1) := by decide +kernel
theorem dX5_set_51 : decode cX5_set 51 = .ok (.getfield 18, 3) := by decide +kernel
theorem dX5_set_54 : decode cX5_set 54 = .ok (.istore 4, 2) := by decide +kernel
theorem dX5_set_56 : decode cX5_set 56 = .ok (.aload_n 0, 1) := by decide +kernel
theorem dX5_set_57 : decode cX5_set 57 = .ok (.dup, 1) := by decide +kernel
theorem dX5_set_58 : decode cX5_set 58 = .ok (.getfield 18, 3) := by decide +kernel
theorem dX5_set_61 : decode cX5_set 61 = .ok (.iconst 1, 1) := by decide +kernel
theorem dX5_set_62 : decode cX5_set 62 = .ok (.iadd, 1) := by decide +kernel
theorem dX5_set_63 : decode cX5_set 63 = .ok (.putfield 18, 3) := by decide +kernel
theorem dX5_set_66 : decode cX5_set 66 = .ok (.aload_n 0, 1) := by decide +kernel
theorem dX5_set_67 : decode cX5_set 67 = .ok (.getfield 9, 3) := by decide +kernel
theorem dX5_set_70 : decode cX5_set 70 = .ok (.iload 4, 2) := by decide +kernel
theorem dX5_set_72 : decode cX5_set 72 = .ok (.iload_n 1, 1) := by decide +kernel
theorem dX5_set_73 : decode cX5_set 73 = .ok (.iload_n 2, 1) := by decide +kernel
theorem dX5_set_74 : decode cX5_set 74 = .ok (.invokestatic 22, 3) := by decide +kernel
theorem dX5_set_77 : decode cX5_set 77 = .ok (.iastore, 1) := by decide +kernel
theorem dX5_set_78 : decode cX5_set 78 = .ok (.aload_n 0, 1) := by decide +kernel
theorem dX5_set_79 : decode cX5_set 79 = .ok (.getfield 15, 3) := by decide +kernel
theorem dX5_set_82 : decode cX5_set 82 = .ok (.iload 4, 2) := by decide +kernel
theorem dX5_set_84 : decode cX5_set 84 = .ok (.iload_n 3, 1) := by decide +kernel
theorem dX5_set_85 : decode cX5_set 85 = .ok (.iastore, 1) := by decide +kernel
theorem dX5_set_86 : decode cX5_set 86 = .ok (.iconst 0, 1) := by decide +kernel
theorem dX5_set_87 : decode cX5_set 87 = .ok (.ireturn, 1) := by decide +kernel
theorem zy_X5_set : yX5_set.cls ≠ "java/lang/invoke/MethodHandle" ∧ yX5_set.cls ≠ "java/lang/invoke/VarHandle" ∧ (parseMethodDescriptor yX5_set.desc).map (fun d => d.parameters.length) = some 3 := by decide +kernel
theorem w_fX5_set_J66 {K : zK} (E : zE K cX5_set "RingHouse$Acl" (some .int) 2) (hN : zNl K = 5) (hT : zTr K = (some 0)) (x0 : Int) (x1 : Int) (x2 : Int) (x3 : Int) (x4 : Int) (h0 : 0 ≤ x0) : zR K 66 [(0, 7, x0), (1, 0, x1), (2, 0, x2), (3, 0, x3), (4, 0, x4)] [] (fX5_set_J66 x0 x1 x2 x3 x4) := by
  refine r_aload_n E dX5_set_66 rfl 0 rfl ?_
  refine r_gec (y := x0) E zc_7 dX5_set_67 q358 zr_7 (zh_600 (by omega)) h0 ?_
  refine r_iload E dX5_set_70 4 rfl ?_
  refine r_iload_n E dX5_set_72 rfl 1 rfl ?_
  refine r_iload_n E dX5_set_73 rfl 2 rfl ?_
  refine r_callS E [(0, x1), (0, x2)] [(0, x4), (600, x0)] rfl q578 q579 q232 q580 dX5_set_74 zy_X5_key rfl (by omega) (by decide) (Nat.le_of_ble_eq_true rfl) (fun l G => k_fX5_key l G x1 x2) (fun v2 => ?_)
  refine r_iastore E zc_600 za_600 zt_600 zo_600 zx_600 rfl (zacl_eq h0) dX5_set_77 h0 ?_
  refine r_aload_n E dX5_set_78 rfl 0 rfl ?_
  refine r_gec (y := x0) E zc_7 dX5_set_79 q359 zr_7 (zh_601 (by omega)) h0 ?_
  refine r_iload E dX5_set_82 4 rfl ?_
  refine r_iload_n E dX5_set_84 rfl 3 rfl ?_
  refine r_iastore E zc_601 za_601 zt_601 zo_601 zx_601 rfl (zacl_eq h0) dX5_set_85 h0 ?_
  refine r_iconst E dX5_set_86 (zkI (by decide) (by decide)) ?_
  exact r_ireturn E rfl hT dX5_set_87
theorem w_fX5_set {K : zK} (E : zE K cX5_set "RingHouse$Acl" (some .int) 2) (hN : zNl K = 5) (hT : zTr K = (some 0)) (x0 : Int) (x1 : Int) (x2 : Int) (x3 : Int) (h0 : 0 ≤ x0) : zR K 0 [(0, 7, x0), (1, 0, x1), (2, 0, x2), (3, 0, x3)] [] (fX5_set x0 x1 x2 x3) := by
  refine r_aload_n E dX5_set_0 rfl 0 rfl ?_
  refine r_iload_n E dX5_set_1 rfl 1 rfl ?_
  refine r_iload_n E dX5_set_2 rfl 2 rfl ?_
  refine r_callV E [(0, x1), (0, x2)] [] rfl zc_7 zr_7 (fun o _ => ⟨_, zw_X5.1 o, rfl⟩) (lw_V q574 q575 q576 q232 q577) dX5_set_3 zy_X5_find rfl (by omega) (by decide) (Nat.le_of_ble_eq_true rfl) h0 (fun l G => k_fX5_find l G x0 x1 x2 h0) (fun v1 => ?_)
  refine r_istore (ls' := [(4, 0, v1), (0, 7, x0), (1, 0, x1), (2, 0, x2), (3, 0, x3)]) E dX5_set_6 (by rw [hN]; decide) rfl ?_
  refine r_iload_n E dX5_set_8 rfl 4 rfl ?_
  refine r_bipush E dX5_set_9 (by decide) (zkI (by decide) (by decide)) ?_
  refine r_icmp_ne E 30 (by decide) dX5_set_11 (fun _ => ?_) (fun _ => ?_)
  · refine r_iload E dX5_set_30 0 rfl ?_
    refine r_if_ge E 66 (by decide) dX5_set_32 (fun _ => ?_) (fun _ => ?_)
    · refine r_pick E [1, 2, 3, 4, 0] rfl ?_
      exact w_fX5_set_J66 E hN hT x0 x1 x2 x3 v1 h0
    · refine r_aload_n E dX5_set_35 rfl 1 rfl ?_
      refine r_get E zc_7 zt_602 dX5_set_36 q361 zr_7 (zg_602 _) h0 (fun v3 => ?_)
      refine r_aload_n E dX5_set_39 rfl 1 rfl ?_
      refine r_gec (y := x0) E zc_7 dX5_set_40 q358 zr_7 (zh_600 (by omega)) h0 ?_
      refine r_alen (n := (zacl x0)) E zc_600 za_600 zx_600 (zacl_eq h0) (zacl_ok _) dX5_set_43 h0 ?_
      refine r_icmp_ne E 50 (by decide) dX5_set_44 (fun _ => ?_) (fun _ => ?_)
      · refine r_aload_n E dX5_set_50 rfl 1 rfl ?_
        refine r_get E zc_7 zt_602 dX5_set_51 q361 zr_7 (zg_602 _) h0 (fun v4 => ?_)
        refine r_istore (ls' := [(4, 0, v4), (0, 7, x0), (1, 0, x1), (2, 0, x2), (3, 0, x3)]) E dX5_set_54 (by rw [hN]; decide) rfl ?_
        refine r_aload_n E dX5_set_56 rfl 1 rfl ?_
        refine r_dup E (zn1 rfl) dX5_set_57 ?_
        refine r_get E zc_7 zt_602 dX5_set_58 q361 zr_7 (zg_602 _) h0 (fun v5 => ?_)
        refine r_iconst E dX5_set_61 (zkI (by decide) (by decide)) ?_
        refine r_iadd E dX5_set_62 ?_
        refine r_put E zc_7 zt_602 zo_602 dX5_set_63 q361 zr_7 zw_X5 zp_602 (fun _ => rfl) (fun _ => rfl) h0 ?_
        refine r_pick E [1, 2, 3, 4, 0] rfl ?_
        exact w_fX5_set_J66 E hN hT x0 x1 x2 x3 v4 h0
      · refine r_bipush E dX5_set_47 (by decide) (zkI (by decide) (by decide)) ?_
        exact r_ireturn E rfl hT dX5_set_49
  · refine r_iload E dX5_set_14 0 rfl ?_
    refine r_if_ge E 23 (by decide) dX5_set_16 (fun _ => ?_) (fun _ => ?_)
    · refine r_aload_n E dX5_set_23 rfl 1 rfl ?_
      refine r_iload E dX5_set_24 0 rfl ?_
      refine r_callV E [(0, v1)] [] rfl zc_7 zr_7 (fun o _ => ⟨_, zw_X5.1 o, rfl⟩) (lw_V q581 q583 qs0 q232 q584) dX5_set_26 zy_X5_remove rfl (by omega) (by decide) (Nat.le_of_ble_eq_true rfl) h0 (fun l G => k_fX5_remove l G x0 v1 h0) (fun v6 => ?_)
      exact r_ireturn E rfl hT dX5_set_29
    · refine r_iconst E dX5_set_19 (zkI (by decide) (by decide)) ?_
      refine r_goto E 29 (by decide) dX5_set_20 ?_
      exact r_ireturn E rfl hT dX5_set_29
theorem k_fX5_set (l : Launch) (G : zG) (x0 : Int) (x1 : Int) (x2 : Int) (x3 : Int) (h0 : 0 ≤ x0) : zCt l G yX5_set cX5_set 5 (some .int) 2 [(7, x0), (0, x1), (0, x2), (0, x3)] (some 0) (fX5_set x0 x1 x2 x3) := zCt.of (by decide) (Nat.le_of_ble_eq_true rfl) (fun K E _ _ hN hT => w_fX5_set E hN hT x0 x1 x2 x3 h0)
theorem dX5_take_0 : decode cX5_take 0 = .ok (.iconst 0, 1) := by decide +kernel
theorem dX5_take_1 : decode cX5_take 1 = .ok (.istore_n 2, 1) := by decide +kernel
theorem dX5_take_2 : decode cX5_take 2 = .ok (.iload_n 2, 1) := by decide +kernel
theorem dX5_take_3 : decode cX5_take 3 = .ok (.aload_n 1, 1) := by decide +kernel
theorem dX5_take_4 : decode cX5_take 4 = .ok (.getfield 18, 3) := by decide +kernel
theorem dX5_take_7 : decode cX5_take 7 = .ok (.if_icmp .ge 47, 3) := by decide +kernel
theorem dX5_take_10 : decode cX5_take 10 = .ok (.aload_n 0, 1) := by decide +kernel
theorem dX5_take_11 : decode cX5_take 11 = .ok (.aload_n 1, 1) := by decide +kernel
theorem dX5_take_12 : decode cX5_take 12 = .ok (.iload_n 2, 1) := by decide +kernel
theorem dX5_take_13 : decode cX5_take 13 = .ok (.invokevirtual 33, 3) := by decide +kernel
theorem dX5_take_16 : decode cX5_take 16 = .ok (.aload_n 1, 1) := by decide +kernel
theorem dX5_take_17 : decode cX5_take 17 = .ok (.iload_n 2, 1) := by decide +kernel
theorem dX5_take_18 : decode cX5_take 18 = .ok (.invokevirtual 36, 3) := by decide +kernel
theorem dX5_take_21 : decode cX5_take 21 = .ok (.invokevirtual 26, 3) := by decide +kernel
theorem dX5_take_24 : decode cX5_take 24 = .ok (.ifCond .ge 24, 3) := by decide +kernel
theorem dX5_take_27 : decode cX5_take 27 = .ok (.aload_n 0, 1) := by decide +kernel
theorem dX5_take_28 : decode cX5_take 28 = .ok (.aload_n 1, 1) := by decide +kernel
theorem dX5_take_29 : decode cX5_take 29 = .ok (.iload_n 2, 1) := by decide +kernel
theorem dX5_take_30 : decode cX5_take 30 = .ok (.invokevirtual 33, 3) := by decide +kernel
theorem dX5_take_33 : decode cX5_take 33 = .ok (.aload_n 1, 1) := by decide +kernel
theorem dX5_take_34 : decode cX5_take 34 = .ok (.iload_n 2, 1) := by decide +kernel
theorem dX5_take_35 : decode cX5_take 35 = .ok (.invokevirtual 36, 3) := by decide +kernel
theorem dX5_take_38 : decode cX5_take 38 = .ok (.aload_n 1, 1) := by decide +kernel
theorem dX5_take_39 : decode cX5_take 39 = .ok (.getfield 15, 3) := by decide +kernel
theorem dX5_take_42 : decode cX5_take 42 = .ok (.iload_n 2, 1) := by decide +kernel
theorem dX5_take_43 : decode cX5_take 43 = .ok (.iaload, 1) := by decide +kernel
theorem dX5_take_44 : decode cX5_take 44 = .ok (.invokevirtual 39, 3) := by decide +kernel
theorem dX5_take_47 : decode cX5_take 47 = .ok (.pop, 1) := by decide +kernel
theorem dX5_take_48 : decode cX5_take 48 = .ok (.iinc 2 1, 3) := by decide +kernel
theorem dX5_take_51 : decode cX5_take 51 = .ok (.goto (-49), 3) := by decide +kernel
theorem dX5_take_54 : decode cX5_take 54 = .ok (.return_, 1) := by decide +kernel
theorem zy_X5_take : yX5_take.cls ≠ "java/lang/invoke/MethodHandle" ∧ yX5_take.cls ≠ "java/lang/invoke/VarHandle" ∧ (parseMethodDescriptor yX5_take.desc).map (fun d => d.parameters.length) = some 1 := by decide +kernel
theorem w_fX5_take_J48 {K : zK} (E : zE K cX5_take "RingHouse$Acl" none 3) (hN : zNl K = 3) (hT : zTr K = none) (x0 : Int) (x1 : Int) (x2 : Int) {r2 : Int → zX} (hr2 : ∀ s : Int, zR K 2 [(0, 7, x0), (1, 7, x1), (2, 0, s)] [] (r2 s)) (h0 : 0 ≤ x0) : zR K 48 [(0, 7, x0), (1, 7, x1), (2, 0, x2)] [] (fX5_take_J48 r2 x0 x1 x2) := by
  refine r_iinc (ls' := fun v6 => [(2, 0, v6), (0, 7, x0), (1, 7, x1)]) E 2 rfl (by rw [hN]; decide) (fun _ => rfl) dX5_take_48 (fun v6 _ => ?_)
  refine r_goto E 2 (by decide) dX5_take_51 ?_
  refine r_pick E [1, 2, 0] rfl ?_
  exact hr2 v6
theorem w_fX5_take_B2 {K : zK} (E : zE K cX5_take "RingHouse$Acl" none 3) (hN : zNl K = 3) (hT : zTr K = none) (x0 : Int) (x1 : Int) (h0 : 0 ≤ x0) : ∀ r2 : Int → zX, (∀ s : Int, zR K 2 [(0, 7, x0), (1, 7, x1), (2, 0, s)] [] (r2 s)) → ∀ s : Int, zR K 2 [(0, 7, x0), (1, 7, x1), (2, 0, s)] [] (fX5_take_B2 x0 x1 r2 s) := by
  intro r2 hr2 x2
  refine r_iload_n E dX5_take_2 rfl 2 rfl ?_
  refine r_aload_n E dX5_take_3 rfl 1 rfl ?_
  refine r_nn E (fun hn1 => ?_)
  refine r_get E zc_7 zt_602 dX5_take_4 q361 zr_7 (zg_602 _) hn1 (fun v2 => ?_)
  refine r_icmp_ge E 54 (by decide) dX5_take_7 (fun _ => ?_) (fun _ => ?_)
  · exact r_return E rfl hT dX5_take_54
  · refine r_aload_n E dX5_take_10 rfl 0 rfl ?_
    refine r_aload_n E dX5_take_11 rfl 1 rfl ?_
    refine r_iload_n E dX5_take_12 rfl 2 rfl ?_
    refine r_callV E [(0, x2)] [(7, x0)] rfl zc_7 zr_7 (fun o _ => ⟨_, zw_X5.1 o, rfl⟩) (lw_V q1899 q1900 q1901 q232 q1902) dX5_take_13 zy_X5_person rfl (by omega) (by decide) (Nat.le_of_ble_eq_true rfl) hn1 (fun l G => k_fX5_person l G x1 x2 hn1) (fun v3 => ?_)
    refine r_aload_n E dX5_take_16 rfl 1 rfl ?_
    refine r_iload_n E dX5_take_17 rfl 2 rfl ?_
    refine r_callV E [(0, x2)] [(0, v3), (7, x0)] rfl zc_7 zr_7 (fun o _ => ⟨_, zw_X5.1 o, rfl⟩) (lw_V q1903 q1904 q1905 q232 q1906) dX5_take_18 zy_X5_project rfl (by omega) (by decide) (Nat.le_of_ble_eq_true rfl) hn1 (fun l G => k_fX5_project l G x1 x2 hn1) (fun v4 => ?_)
    refine r_callV E [(0, v3), (0, v4)] [] rfl zc_7 zr_7 (fun o _ => ⟨_, zw_X5.1 o, rfl⟩) (lw_V q574 q575 q576 q232 q577) dX5_take_21 zy_X5_find rfl (by omega) (by decide) (Nat.le_of_ble_eq_true rfl) h0 (fun l G => k_fX5_find l G x0 v3 v4 h0) (fun v5 => ?_)
    refine r_if_ge E 48 (by decide) dX5_take_24 (fun _ => ?_) (fun _ => ?_)
    · exact w_fX5_take_J48 E hN hT x0 x1 x2 hr2 h0
    · refine r_aload_n E dX5_take_27 rfl 0 rfl ?_
      refine r_aload_n E dX5_take_28 rfl 1 rfl ?_
      refine r_iload_n E dX5_take_29 rfl 2 rfl ?_
      refine r_callV E [(0, x2)] [(7, x0)] rfl zc_7 zr_7 (fun o _ => ⟨_, zw_X5.1 o, rfl⟩) (lw_V q1899 q1900 q1901 q232 q1902) dX5_take_30 zy_X5_person rfl (by omega) (by decide) (Nat.le_of_ble_eq_true rfl) hn1 (fun l G => k_fX5_person l G x1 x2 hn1) (fun v7 => ?_)
      refine r_aload_n E dX5_take_33 rfl 1 rfl ?_
      refine r_iload_n E dX5_take_34 rfl 2 rfl ?_
      refine r_callV E [(0, x2)] [(0, v7), (7, x0)] rfl zc_7 zr_7 (fun o _ => ⟨_, zw_X5.1 o, rfl⟩) (lw_V q1903 q1904 q1905 q232 q1906) dX5_take_35 zy_X5_project rfl (by omega) (by decide) (Nat.le_of_ble_eq_true rfl) hn1 (fun l G => k_fX5_project l G x1 x2 hn1) (fun v8 => ?_)
      refine r_aload_n E dX5_take_38 rfl 1 rfl ?_
      refine r_gec (y := x1) E zc_7 dX5_take_39 q359 zr_7 (zh_601 (by omega)) hn1 ?_
      refine r_iload_n E dX5_take_42 rfl 2 rfl ?_
      refine r_iaload E zc_601 za_601 zt_601 zx_601 rfl (zacl_eq hn1) dX5_take_43 hn1 (fun v9 => ?_)
      refine r_callV E [(0, v7), (0, v8), (0, v9)] [] rfl zc_7 zr_7 (fun o _ => ⟨_, zw_X5.1 o, rfl⟩) (lw_V q1907 q571 q572 q232 q573) dX5_take_44 zy_X5_set rfl (by omega) (by decide) (Nat.le_of_ble_eq_true rfl) h0 (fun l G => k_fX5_set l G x0 v7 v8 v9 h0) (fun v10 => ?_)
      refine r_pop E (zn1 rfl) dX5_take_47 ?_
      exact w_fX5_take_J48 E hN hT x0 x1 x2 hr2 h0
theorem w_fX5_take {K : zK} (E : zE K cX5_take "RingHouse$Acl" none 3) (hN : zNl K = 3) (hT : zTr K = none) (x0 : Int) (x1 : Int) (h0 : 0 ≤ x0) : zR K 0 [(0, 7, x0), (1, 7, x1)] [] (fX5_take x0 x1) := by
  refine r_iconst E dX5_take_0 (zkI (by decide) (by decide)) ?_
  refine r_istore_n (ls' := [(2, 0, 0), (0, 7, x0), (1, 7, x1)]) E dX5_take_1 rfl (by rw [hN]; decide) rfl ?_
  refine r_pick E [1, 2, 0] rfl ?_
  exact r_loop (L := fun s => [(0, 7, x0), (1, 7, x1), (2, 0, s)]) (w_fX5_take_B2 E hN hT x0 x1 h0) zBIG 0
theorem k_fX5_take (l : Launch) (G : zG) (x0 : Int) (x1 : Int) (h0 : 0 ≤ x0) : zCt l G yX5_take cX5_take 3 none 3 [(7, x0), (7, x1)] none (fX5_take x0 x1) := zCt.of (by decide) (Nat.le_of_ble_eq_true rfl) (fun K E _ _ hN hT => w_fX5_take E hN hT x0 x1 h0)
theorem dX4_append_0 : decode cX4_append 0 = .ok (.aload_n 1, 1) := by decide +kernel
theorem dX4_append_1 : decode cX4_append 1 = .ok (.aload_n 0, 1) := by decide +kernel
theorem dX4_append_2 : decode cX4_append 2 = .ok (.putfield 37, 3) := by decide +kernel
theorem dX4_append_5 : decode cX4_append 5 = .ok (.aload_n 1, 1) := by decide +kernel
theorem dX4_append_6 : decode cX4_append 6 = .ok (.aload_n 0, 1) := by decide +kernel
theorem dX4_append_7 : decode cX4_append 7 = .ok (.getfield 65, 3) := by decide +kernel
theorem dX4_append_10 : decode cX4_append 10 = .ok (.putfield 103, 3) := by decide +kernel
theorem dX4_append_13 : decode cX4_append 13 = .ok (.aload_n 1, 1) := by decide +kernel
theorem dX4_append_14 : decode cX4_append 14 = .ok (.aconst_null, 1) := by decide +kernel
theorem dX4_append_15 : decode cX4_append 15 = .ok (.putfield 106, 3) := by decide +kernel
theorem dX4_append_18 : decode cX4_append 18 = .ok (.aload_n 0, 1) := by decide +kernel
theorem dX4_append_19 : decode cX4_append 19 = .ok (.getfield 65, 3) := by decide +kernel
theorem dX4_append_22 : decode cX4_append 22 = .ok (.ifnonnull 11, 3) := by decide +kernel
theorem dX4_append_25 : decode cX4_append 25 = .ok (.aload_n 0, 1) := by decide +kernel
theorem dX4_append_26 : decode cX4_append 26 = .ok (.aload_n 1, 1) := by decide +kernel
theorem dX4_append_27 : decode cX4_append 27 = .ok (.putfield 62, 3) := by decide +kernel
theorem dX4_append_30 : decode cX4_append 30 = .ok (.goto 11, 3) := by decide +kernel
theorem dX4_append_33 : decode cX4_append 33 = .ok (.aload_n 0, 1) := by decide +kernel
theorem dX4_append_34 : decode cX4_append 34 = .ok (.getfield 65, 3) := by decide +kernel
theorem dX4_append_37 : decode cX4_append 37 = .ok (.aload_n 1, 1) := by decide +kernel
theorem dX4_append_38 : decode cX4_append 38 = .ok (.putfield 106, 3) := by decide +kernel
theorem dX4_append_41 : decode cX4_append 41 = .ok (.aload_n 0, 1) := by decide +kernel
theorem dX4_append_42 : decode cX4_append 42 = .ok (.aload_n 1, 1) := by decide +kernel
theorem dX4_append_43 : decode cX4_append 43 = .ok (.putfield 65, 3) := by decide +kernel
theorem dX4_append_46 : decode cX4_append 46 = .ok (.aload_n 0, 1) := by decide +kernel
theorem dX4_append_47 : decode cX4_append 47 = .ok (.dup, 1) := by decide +kernel
theorem dX4_append_48 : decode cX4_append 48 = .ok (.getfield 68, 3) := by decide +kernel
theorem dX4_append_51 : decode cX4_append 51 = .ok (.iconst 1, 1) := by decide +kernel
theorem dX4_append_52 : decode cX4_append 52 = .ok (.iadd, 1) := by decide +kernel
theorem dX4_append_53 : decode cX4_append 53 = .ok (.putfield 68, 3) := by decide +kernel
theorem dX4_append_56 : decode cX4_append 56 = .ok (.return_, 1) := by decide +kernel
theorem zy_X4_append : yX4_append.cls ≠ "java/lang/invoke/MethodHandle" ∧ yX4_append.cls ≠ "java/lang/invoke/VarHandle" ∧ (parseMethodDescriptor yX4_append.desc).map (fun d => d.parameters.length) = some 1 := by decide +kernel
theorem w_fX4_append_J41 {K : zK} (E : zE K cX4_append "RingHouse$Node" none 0) (hN : zNl K = 2) (hT : zTr K = none) (x0 : Int) (x1 : Int) (h0 : 0 ≤ x0) : zR K 41 [(0, 6, x0), (1, 6, x1)] [] (fX4_append_J41 x0 x1) := by
  refine r_aload_n E dX4_append_41 rfl 0 rfl ?_
  refine r_aload_n E dX4_append_42 rfl 1 rfl ?_
  refine r_put E zc_6 zt_514 zo_514 dX4_append_43 q445 zr_6 zw_X4 zp_514 (fun _ => rfl) (fun G => zfo G) h0 ?_
  refine r_aload_n E dX4_append_46 rfl 0 rfl ?_
  refine r_dup E (zn1 rfl) dX4_append_47 ?_
  refine r_get E zc_6 zt_515 dX4_append_48 q449 zr_6 (zg_515 _) h0 (fun v5 => ?_)
  refine r_iconst E dX4_append_51 (zkI (by decide) (by decide)) ?_
  refine r_iadd E dX4_append_52 ?_
  refine r_put E zc_6 zt_515 zo_515 dX4_append_53 q449 zr_6 zw_X4 zp_515 (fun _ => rfl) (fun _ => rfl) h0 ?_
  exact r_return E rfl hT dX4_append_56
theorem w_fX4_append {K : zK} (E : zE K cX4_append "RingHouse$Node" none 0) (hN : zNl K = 2) (hT : zTr K = none) (x0 : Int) (x1 : Int) (h0 : 0 ≤ x0) : zR K 0 [(0, 6, x0), (1, 6, x1)] [] (fX4_append x0 x1) := by
  refine r_aload_n E dX4_append_0 rfl 1 rfl ?_
  refine r_aload_n E dX4_append_1 rfl 0 rfl ?_
  refine r_nn E (fun hn1 => ?_)
  refine r_put E zc_6 zt_504 zo_504 dX4_append_2 q398 zr_6 zw_X4 zp_504 (fun _ => rfl) (fun G => zfo G) hn1 ?_
  refine r_aload_n E dX4_append_5 rfl 1 rfl ?_
  refine r_aload_n E dX4_append_6 rfl 0 rfl ?_
  refine r_get E zc_6 zt_514 dX4_append_7 q445 zr_6 (zg_514 _) h0 (fun v2 => ?_)
  refine r_put E zc_6 zt_505 zo_505 dX4_append_10 q402 zr_6 zw_X4 zp_505 (fun _ => rfl) (fun G => zfo G) hn1 ?_
  refine r_aload_n E dX4_append_13 rfl 1 rfl ?_
  refine r_null E 4 dX4_append_14 ?_
  refine r_put E zc_6 zt_506 zo_506 dX4_append_15 q405 zr_6 zw_X4 zp_506 (fun _ => rfl) (fun G => zfo G) hn1 ?_
  refine r_aload_n E dX4_append_18 rfl 0 rfl ?_
  refine r_get E zc_6 zt_514 dX4_append_19 q445 zr_6 (zg_514 _) h0 (fun v3 => ?_)
  refine r_ifnonnull E 33 (by decide) dX4_append_22 (fun _ => ?_) (fun hz4 => ?_)
  · refine r_aload_n E dX4_append_25 rfl 0 rfl ?_
    refine r_aload_n E dX4_append_26 rfl 1 rfl ?_
    refine r_put E zc_6 zt_513 zo_513 dX4_append_27 q444 zr_6 zw_X4 zp_513 (fun _ => rfl) (fun G => zfo G) h0 ?_
    refine r_goto E 41 (by decide) dX4_append_30 ?_
    exact w_fX4_append_J41 E hN hT x0 x1 h0
  · refine r_aload_n E dX4_append_33 rfl 0 rfl ?_
    refine r_get E zc_6 zt_514 dX4_append_34 q445 zr_6 (zg_514 _) h0 (fun v6 => ?_)
    refine r_aload_n E dX4_append_37 rfl 1 rfl ?_
    refine r_nn E (fun hn7 => ?_)
    refine r_put E zc_6 zt_506 zo_506 dX4_append_38 q405 zr_6 zw_X4 zp_506 (fun _ => rfl) (fun G => zfo G) hn7 ?_
    exact w_fX4_append_J41 E hN hT x0 x1 h0
theorem k_fX4_append (l : Launch) (G : zG) (x0 : Int) (x1 : Int) (h0 : 0 ≤ x0) : zCt l G yX4_append cX4_append 2 none 0 [(6, x0), (6, x1)] none (fX4_append x0 x1) := zCt.of (by decide) (Nat.le_of_ble_eq_true rfl) (fun K E _ _ hN hT => w_fX4_append E hN hT x0 x1 h0)
theorem dX2_add_0 : decode cX2_add 0 = .ok (.aload_n 1, 1) := by decide +kernel
theorem dX2_add_1 : decode cX2_add 1 = .ok (.getfield 27, 3) := by decide +kernel
theorem dX2_add_4 : decode cX2_add 4 = .ok (.aload_n 1, 1) := by decide +kernel
theorem dX2_add_5 : decode cX2_add 5 = .ok (.getfield 31, 3) := by decide +kernel
theorem dX2_add_8 : decode cX2_add 8 = .ok (.invokestatic 35, 3) := by decide +kernel
theorem dX2_add_11 : decode cX2_add 11 = .ok (.istore_n 2, 1) := by decide +kernel
theorem dX2_add_12 : decode cX2_add 12 = .ok (.aload_n 1, 1) := by decide +kernel
theorem dX2_add_13 : decode cX2_add 13 = .ok (.aload_n 0, 1) := by decide +kernel
theorem dX2_add_14 : decode cX2_add 14 = .ok (.getfield 11, 3) := by decide +kernel
theorem dX2_add_17 : decode cX2_add 17 = .ok (.iload_n 2, 1) := by decide +kernel
theorem dX2_add_18 : decode cX2_add 18 = .ok (.aaload, 1) := by decide +kernel
theorem dX2_add_19 : decode cX2_add 19 = .ok (.putfield 39, 3) := by decide +kernel
theorem dX2_add_22 : decode cX2_add 22 = .ok (.aload_n 0, 1) := by decide +kernel
theorem dX2_add_23 : decode cX2_add 23 = .ok (.getfield 11, 3) := by decide +kernel
theorem dX2_add_26 : decode cX2_add 26 = .ok (.iload_n 2, 1) := by decide +kernel
theorem dX2_add_27 : decode cX2_add 27 = .ok (.aload_n 1, 1) := by decide +kernel
theorem dX2_add_28 : decode cX2_add 28 = .ok (.aastore, 1) := by decide +kernel
theorem dX2_add_29 : decode cX2_add 29 = .ok (.return_, 1) := by decide +kernel
theorem zy_X2_add : yX2_add.cls ≠ "java/lang/invoke/MethodHandle" ∧ yX2_add.cls ≠ "java/lang/invoke/VarHandle" ∧ (parseMethodDescriptor yX2_add.desc).map (fun d => d.parameters.length) = some 1 := by decide +kernel
theorem w_fX2_add {K : zK} (E : zE K cX2_add "RingHouse$Index" none 1) (hN : zNl K = 3) (hT : zTr K = none) (x1 : Int) : zR K 0 [(0, 4, 0), (1, 6, x1)] [] (fX2_add x1) := by
  refine r_aload_n E dX2_add_0 rfl 1 rfl ?_
  refine r_nn E (fun hn1 => ?_)
  refine r_getN E zc_6 zt_504 dX2_add_1 q397 zr_6 (zg_504 _) hn1 (fun v2 => ?_)
  refine r_aload_n E dX2_add_4 rfl 1 rfl ?_
  refine r_getN E zc_6 zt_502 dX2_add_5 q383 zr_6 (zg_502 _) hn1 (fun v3 => ?_)
  refine r_callS E [(6, v2), (1, v3)] [] rfl q1869 q1870 q229 q1871 dX2_add_8 zy_X2_bucket rfl (by omega) (by decide) (Nat.le_of_ble_eq_true rfl) (fun l G => k_fX2_bucket l G v2 v3) (fun v4 => ?_)
  refine r_istore_n (ls' := [(2, 0, v4), (0, 4, 0), (1, 6, x1)]) E dX2_add_11 rfl (by rw [hN]; decide) rfl ?_
  refine r_aload_n E dX2_add_12 rfl 2 rfl ?_
  refine r_aload_n E dX2_add_13 rfl 1 rfl ?_
  refine r_gec (y := 0) E zc_4 dX2_add_14 q323 zr_4 (zh_300 (by decide)) (by decide) ?_
  refine r_iload_n E dX2_add_17 rfl 0 rfl ?_
  refine r_aaload E zc_300 za_300 zt_300 zx_300 rfl rfl dX2_add_18 (by decide) (fun v5 => ?_)
  refine r_putN E zc_6 zt_507 zo_507 dX2_add_19 q406 zr_6 zw_X4 zp_507 (fun _ => rfl) (fun G => zfo G) hn1 ?_
  refine r_aload_n E dX2_add_22 rfl 1 rfl ?_
  refine r_gec (y := 0) E zc_4 dX2_add_23 q323 zr_4 (zh_300 (by decide)) (by decide) ?_
  refine r_iload_n E dX2_add_26 rfl 0 rfl ?_
  refine r_aload_n E dX2_add_27 rfl 2 rfl ?_
  refine r_aastore E zc_300 zc_6 za_300 zt_300 zo_300 zx_300 zr_6 zw_X4 rfl rfl dX2_add_28 (by decide) ?_
  exact r_return E rfl hT dX2_add_29
theorem k_fX2_add (l : Launch) (G : zG) (x1 : Int) : zCt l G yX2_add cX2_add 3 none 1 [(4, 0), (6, x1)] none (fX2_add x1) := zCt.of (by decide) (Nat.le_of_ble_eq_true rfl) (fun K E _ _ hN hT => w_fX2_add E hN hT x1)
theorem dX4_isMailbox_0 : decode cX4_isMailbox 0 = .ok (.aload_n 0, 1) := by decide +kernel
theorem dX4_isMailbox_1 : decode cX4_isMailbox 1 = .ok (.getfield 34, 3) := by decide +kernel
theorem dX4_isMailbox_4 : decode cX4_isMailbox 4 = .ok (.iconst 3, 1) := by decide +kernel
theorem dX4_isMailbox_5 : decode cX4_isMailbox 5 = .ok (.if_icmp .ne 7, 3) := by decide +kernel
theorem dX4_isMailbox_8 : decode cX4_isMailbox 8 = .ok (.iconst 1, 1) := by decide +kernel
theorem dX4_isMailbox_9 : decode cX4_isMailbox 9 = .ok (.goto 4, 3) := by decide +kernel
theorem dX4_isMailbox_12 : decode cX4_isMailbox 12 = .ok (.iconst 0, 1) := by decide +kernel
theorem dX4_isMailbox_13 : decode cX4_isMailbox 13 = .ok (.ireturn, 1) := by decide +kernel
theorem zy_X4_isMailbox : yX4_isMailbox.cls ≠ "java/lang/invoke/MethodHandle" ∧ yX4_isMailbox.cls ≠ "java/lang/invoke/VarHandle" ∧ (parseMethodDescriptor yX4_isMailbox.desc).map (fun d => d.parameters.length) = some 0 := by decide +kernel
theorem w_fX4_isMailbox {K : zK} (E : zE K cX4_isMailbox "RingHouse$Node" (some .boolean) 0) (hN : zNl K = 1) (hT : zTr K = (some 0)) (x0 : Int) (h0 : 0 ≤ x0) : zR K 0 [(0, 6, x0)] [] (fX4_isMailbox x0) := by
  refine r_aload_n E dX4_isMailbox_0 rfl 0 rfl ?_
  refine r_get E zc_6 zt_501 dX4_isMailbox_1 q377 zr_6 (zg_501 _) h0 (fun v1 => ?_)
  refine r_iconst E dX4_isMailbox_4 (zkI (by decide) (by decide)) ?_
  refine r_icmp_ne E 12 (by decide) dX4_isMailbox_5 (fun _ => ?_) (fun _ => ?_)
  · refine r_iconst E dX4_isMailbox_12 (zkI (by decide) (by decide)) ?_
    exact r_zreturn E rfl hT (by decide) dX4_isMailbox_13
  · refine r_iconst E dX4_isMailbox_8 (zkI (by decide) (by decide)) ?_
    refine r_goto E 13 (by decide) dX4_isMailbox_9 ?_
    exact r_zreturn E rfl hT (by decide) dX4_isMailbox_13
theorem k_fX4_isMailbox (l : Launch) (G : zG) (x0 : Int) (h0 : 0 ≤ x0) : zCt l G yX4_isMailbox cX4_isMailbox 1 (some .boolean) 0 [(6, x0)] (some 0) (fX4_isMailbox x0) := zCt.of (by decide) (Nat.le_of_ble_eq_true rfl) (fun K E _ _ hN hT => w_fX4_isMailbox E hN hT x0 h0)
theorem dX4_isSegment_0 : decode cX4_isSegment 0 = .ok (.aload_n 0, 1) := by decide +kernel
theorem dX4_isSegment_1 : decode cX4_isSegment 1 = .ok (.getfield 34, 3) := by decide +kernel
theorem dX4_isSegment_4 : decode cX4_isSegment 4 = .ok (.iconst 2, 1) := by decide +kernel
theorem dX4_isSegment_5 : decode cX4_isSegment 5 = .ok (.if_icmp .ne 7, 3) := by decide +kernel
theorem dX4_isSegment_8 : decode cX4_isSegment 8 = .ok (.iconst 1, 1) := by decide +kernel
theorem dX4_isSegment_9 : decode cX4_isSegment 9 = .ok (.goto 4, 3) := by decide +kernel
theorem dX4_isSegment_12 : decode cX4_isSegment 12 = .ok (.iconst 0, 1) := by decide +kernel
theorem dX4_isSegment_13 : decode cX4_isSegment 13 = .ok (.ireturn, 1) := by decide +kernel
theorem zy_X4_isSegment : yX4_isSegment.cls ≠ "java/lang/invoke/MethodHandle" ∧ yX4_isSegment.cls ≠ "java/lang/invoke/VarHandle" ∧ (parseMethodDescriptor yX4_isSegment.desc).map (fun d => d.parameters.length) = some 0 := by decide +kernel
theorem w_fX4_isSegment {K : zK} (E : zE K cX4_isSegment "RingHouse$Node" (some .boolean) 0) (hN : zNl K = 1) (hT : zTr K = (some 0)) (x0 : Int) (h0 : 0 ≤ x0) : zR K 0 [(0, 6, x0)] [] (fX4_isSegment x0) := by
  refine r_aload_n E dX4_isSegment_0 rfl 0 rfl ?_
  refine r_get E zc_6 zt_501 dX4_isSegment_1 q377 zr_6 (zg_501 _) h0 (fun v1 => ?_)
  refine r_iconst E dX4_isSegment_4 (zkI (by decide) (by decide)) ?_
  refine r_icmp_ne E 12 (by decide) dX4_isSegment_5 (fun _ => ?_) (fun _ => ?_)
  · refine r_iconst E dX4_isSegment_12 (zkI (by decide) (by decide)) ?_
    exact r_zreturn E rfl hT (by decide) dX4_isSegment_13
  · refine r_iconst E dX4_isSegment_8 (zkI (by decide) (by decide)) ?_
    refine r_goto E 13 (by decide) dX4_isSegment_9 ?_
    exact r_zreturn E rfl hT (by decide) dX4_isSegment_13
theorem k_fX4_isSegment (l : Launch) (G : zG) (x0 : Int) (h0 : 0 ≤ x0) : zCt l G yX4_isSegment cX4_isSegment 1 (some .boolean) 0 [(6, x0)] (some 0) (fX4_isSegment x0) := zCt.of (by decide) (Nat.le_of_ble_eq_true rfl) (fun K E _ _ hN hT => w_fX4_isSegment E hN hT x0 h0)
theorem dX0_records_0 : decode cX0_records 0 = .ok (.iload_n 0, 1) := by decide +kernel
theorem dX0_records_1 : decode cX0_records 1 = .ok (.bipush 64, 2) := by decide +kernel
theorem dX0_records_3 : decode cX0_records 3 = .ok (.iadd, 1) := by decide +kernel
theorem dX0_records_4 : decode cX0_records 4 = .ok (.iconst 1, 1) := by decide +kernel
theorem dX0_records_5 : decode cX0_records 5 = .ok (.isub, 1) := by decide +kernel
theorem dX0_records_6 : decode cX0_records 6 = .ok (.bipush 64, 2) := by decide +kernel
theorem dX0_records_8 : decode cX0_records 8 = .ok (.idiv, 1) := by decide +kernel
theorem dX0_records_9 : decode cX0_records 9 = .ok (.ireturn, 1) := by decide +kernel
theorem zy_X0_records : yX0_records.cls ≠ "java/lang/invoke/MethodHandle" ∧ yX0_records.cls ≠ "java/lang/invoke/VarHandle" ∧ (parseMethodDescriptor yX0_records.desc).map (fun d => d.parameters.length) = some 1 := by decide +kernel
theorem w_fX0_records {K : zK} (E : zE K cX0_records "RingHouse" (some .int) 0) (hN : zNl K = 1) (hT : zTr K = (some 0)) (x0 : Int) : zR K 0 [(0, 0, x0)] [] (fX0_records x0) := by
  refine r_iload_n E dX0_records_0 rfl 0 rfl ?_
  refine r_bipush E dX0_records_1 (by decide) (zkI (by decide) (by decide)) ?_
  refine r_iadd E dX0_records_3 ?_
  refine r_iconst E dX0_records_4 (zkI (by decide) (by decide)) ?_
  refine r_isub E dX0_records_5 ?_
  refine r_bipush E dX0_records_6 (by decide) (zkI (by decide) (by decide)) ?_
  refine r_idiv E (by decide) dX0_records_8 ?_
  exact r_ireturn E rfl hT dX0_records_9
theorem k_fX0_records (l : Launch) (G : zG) (x0 : Int) : zCt l G yX0_records cX0_records 1 (some .int) 0 [(0, x0)] (some 0) (fX0_records x0) := zCt.of (by decide) (Nat.le_of_ble_eq_true rfl) (fun K E _ _ hN hT => w_fX0_records E hN hT x0)
theorem dX4_cost_0 : decode cX4_cost 0 = .ok (.aload_n 0, 1) := by decide +kernel
theorem dX4_cost_1 : decode cX4_cost 1 = .ok (.invokevirtual 92, 3) := by decide +kernel
theorem dX4_cost_4 : decode cX4_cost 4 = .ok (.ifCond .eq 8, 3) := by decide +kernel
theorem dX4_cost_7 : decode cX4_cost 7 = .ok (.bipush 17, 2) := by decide +kernel
theorem dX4_cost_9 : decode cX4_cost 9 = .ok (.goto 26, 3) := by decide +kernel
theorem dX4_cost_12 : decode cX4_cost 12 = .ok (.iconst 1, 1) := by decide +kernel
theorem dX4_cost_13 : decode cX4_cost 13 = .ok (.aload_n 0, 1) := by decide +kernel
theorem dX4_cost_14 : decode cX4_cost 14 = .ok (.invokevirtual 96, 3) := by decide +kernel
theorem dX4_cost_17 : decode cX4_cost 17 = .ok (.ifCond .eq 13, 3) := by decide +kernel
theorem dX4_cost_20 : decode cX4_cost 20 = .ok (.aload_n 0, 1) := by decide +kernel
theorem dX4_cost_21 : decode cX4_cost 21 = .ok (.getfield 80, 3) := by decide +kernel
theorem dX4_cost_24 : decode cX4_cost 24 = .ok (.invokestatic 99, 3) := by decide +kernel
theorem dX4_cost_27 : decode cX4_cost 27 = .ok (.goto 7, 3) := by decide +kernel
theorem dX4_cost_30 : decode cX4_cost 30 = .ok (.aload_n 0, 1) := by decide +kernel
theorem dX4_cost_31 : decode cX4_cost 31 = .ok (.getfield 71, 3) := by decide +kernel
theorem dX4_cost_34 : decode cX4_cost 34 = .ok (.iadd, 1) := by decide +kernel
theorem dX4_cost_35 : decode cX4_cost 35 = .ok (.ireturn, 1) := by decide +kernel
theorem zy_X4_cost : yX4_cost.cls ≠ "java/lang/invoke/MethodHandle" ∧ yX4_cost.cls ≠ "java/lang/invoke/VarHandle" ∧ (parseMethodDescriptor yX4_cost.desc).map (fun d => d.parameters.length) = some 0 := by decide +kernel
theorem w_fX4_cost_J34 {K : zK} (E : zE K cX4_cost "RingHouse$Node" (some .int) 1) (hN : zNl K = 1) (hT : zTr K = (some 0)) (s0 : Int) (s1 : Int) : zR K 34 [] [(0, s1), (0, s0)] (fX4_cost_J34 s0 s1) := by
  refine r_iadd E dX4_cost_34 ?_
  exact r_ireturn E rfl hT dX4_cost_35
theorem w_fX4_cost {K : zK} (E : zE K cX4_cost "RingHouse$Node" (some .int) 1) (hN : zNl K = 1) (hT : zTr K = (some 0)) (x0 : Int) (h0 : 0 ≤ x0) : zR K 0 [(0, 6, x0)] [] (fX4_cost x0) := by
  refine r_aload_n E dX4_cost_0 rfl 0 rfl ?_
  refine r_callV E [] [] rfl zc_6 zr_6 (fun o _ => ⟨_, zw_X4.1 o, rfl⟩) (lw_V q1920 q1921 q1922 q231 q1923) dX4_cost_1 zy_X4_isMailbox rfl (by omega) (by decide) (Nat.le_of_ble_eq_true rfl) h0 (fun l G => k_fX4_isMailbox l G x0 h0) (fun v1 => ?_)
  refine r_if_eq E 12 (by decide) dX4_cost_4 (fun _ => ?_) (fun _ => ?_)
  · refine r_iconst E dX4_cost_12 (zkI (by decide) (by decide)) ?_
    refine r_aload_n E dX4_cost_13 rfl 0 rfl ?_
    refine r_callV E [] [(0, 1)] rfl zc_6 zr_6 (fun o _ => ⟨_, zw_X4.1 o, rfl⟩) (lw_V q1924 q1925 q1926 q231 q1927) dX4_cost_14 zy_X4_isSegment rfl (by omega) (by decide) (Nat.le_of_ble_eq_true rfl) h0 (fun l G => k_fX4_isSegment l G x0 h0) (fun v2 => ?_)
    refine r_if_eq E 30 (by decide) dX4_cost_17 (fun _ => ?_) (fun _ => ?_)
    · refine r_aload_n E dX4_cost_30 rfl 0 rfl ?_
      refine r_get E zc_6 zt_516 dX4_cost_31 q454 zr_6 (zg_516 _) h0 (fun v3 => ?_)
      refine r_pick E [] rfl ?_
      exact w_fX4_cost_J34 E hN hT 1 v3
    · refine r_aload_n E dX4_cost_20 rfl 0 rfl ?_
      refine r_get E zc_6 zt_522 dX4_cost_21 q478 zr_6 (zg_522 _) h0 (fun v4 => ?_)
      refine r_callSN E [(0, v4)] [(0, 1)] rfl q1928 q1929 q227 q1930 dX4_cost_24 zy_X0_records rfl (by omega) (by decide) (Nat.le_of_ble_eq_true rfl) (fun l G => k_fX0_records l G v4) (fun v5 => ?_)
      refine r_goto E 34 (by decide) dX4_cost_27 ?_
      refine r_pick E [] rfl ?_
      exact w_fX4_cost_J34 E hN hT 1 v5
  · refine r_bipush E dX4_cost_7 (by decide) (zkI (by decide) (by decide)) ?_
    refine r_goto E 35 (by decide) dX4_cost_9 ?_
    exact r_ireturn E rfl hT dX4_cost_35
theorem k_fX4_cost (l : Launch) (G : zG) (x0 : Int) (h0 : 0 ≤ x0) : zCt l G yX4_cost cX4_cost 1 (some .int) 1 [(6, x0)] (some 0) (fX4_cost x0) := zCt.of (by decide) (Nat.le_of_ble_eq_true rfl) (fun K E _ _ hN hT => w_fX4_cost E hN hT x0 h0)
theorem dX1_charge_0 : decode cX1_charge 0 = .ok (.aload_n 0, 1) := by decide +kernel
theorem dX1_charge_1 : decode cX1_charge 1 = .ok (.aload_n 1, 1) := by decide +kernel
theorem dX1_charge_2 : decode cX1_charge 2 = .ok (.invokevirtual 102, 3) := by decide +kernel
theorem dX1_charge_5 : decode cX1_charge 5 = .ok (.dup, 1) := by decide +kernel
theorem dX1_charge_6 : decode cX1_charge 6 = .ok (.getfield 106, 3) := by decide +kernel
theorem dX1_charge_9 : decode cX1_charge 9 = .ok (.iload_n 2, 1) := by decide +kernel
theorem dX1_charge_10 : decode cX1_charge 10 = .ok (.iadd, 1) := by decide +kernel
theorem dX1_charge_11 : decode cX1_charge 11 = .ok (.putfield 106, 3) := by decide +kernel
theorem dX1_charge_14 : decode cX1_charge 14 = .ok (.return_, 1) := by decide +kernel
theorem zy_X1_charge : yX1_charge.cls ≠ "java/lang/invoke/MethodHandle" ∧ yX1_charge.cls ≠ "java/lang/invoke/VarHandle" ∧ (parseMethodDescriptor yX1_charge.desc).map (fun d => d.parameters.length) = some 2 := by decide +kernel
theorem w_fX1_charge {K : zK} (E : zE K cX1_charge "RingHouse$Tree" none 1) (hN : zNl K = 3) (hT : zTr K = none) (x1 : Int) (x2 : Int) : zR K 0 [(0, 3, 0), (1, 6, x1), (2, 0, x2)] [] (fX1_charge x1 x2) := by
  refine r_aload_n E dX1_charge_0 rfl 0 rfl ?_
  refine r_aload_n E dX1_charge_1 rfl 1 rfl ?_
  refine r_callV E [(6, x1)] [] rfl zc_3 zr_3 (fun o _ => ⟨_, zw_X1.1 o, rfl⟩) (lw_V q1879 q1880 q1881 q228 q1882) dX1_charge_2 zy_X1_account rfl (by omega) (by decide) (Nat.le_of_ble_eq_true rfl) (by decide) (fun l G => k_fX1_account l G x1) (fun v1 => ?_)
  refine r_dup E (zn1 rfl) dX1_charge_5 ?_
  refine r_nn E (fun hn2 => ?_)
  refine r_getN E zc_6 zt_517 dX1_charge_6 q457 zr_6 (zg_517 _) hn2 (fun v3 => ?_)
  refine r_iload_n E dX1_charge_9 rfl 2 rfl ?_
  refine r_iadd E dX1_charge_10 ?_
  refine r_putN E zc_6 zt_517 zo_517 dX1_charge_11 q457 zr_6 zw_X4 zp_517 (fun _ => rfl) (fun _ => rfl) hn2 ?_
  exact r_return E rfl hT dX1_charge_14
theorem k_fX1_charge (l : Launch) (G : zG) (x1 : Int) (x2 : Int) : zCt l G yX1_charge cX1_charge 3 none 1 [(3, 0), (6, x1), (0, x2)] none (fX1_charge x1 x2) := zCt.of (by decide) (Nat.le_of_ble_eq_true rfl) (fun K E _ _ hN hT => w_fX1_charge E hN hT x1 x2)
theorem dX1_make_0 : decode cX1_make 0 = .ok (.aload_n 0, 1) := by decide +kernel
theorem dX1_make_1 : decode cX1_make 1 = .ok (.invokevirtual 109, 3) := by decide +kernel
theorem dX1_make_4 : decode cX1_make 4 = .ok (.astore 7, 2) := by decide +kernel
theorem dX1_make_6 : decode cX1_make 6 = .ok (.aload 7, 2) := by decide +kernel
theorem dX1_make_8 : decode cX1_make 8 = .ok (.iload_n 2, 1) := by decide +kernel
theorem dX1_make_9 : decode cX1_make 9 = .ok (.lload_n 3, 1) := by decide +kernel
theorem dX1_make_10 : decode cX1_make 10 = .ok (.iload 5, 2) := by decide +kernel
theorem dX1_make_12 : decode cX1_make 12 = .ok (.invokevirtual 55, 3) := by decide +kernel
theorem dX1_make_15 : decode cX1_make 15 = .ok (.aload 7, 2) := by decide +kernel
theorem dX1_make_17 : decode cX1_make 17 = .ok (.iload 6, 2) := by decide +kernel
theorem dX1_make_19 : decode cX1_make 19 = .ok (.putfield 63, 3) := by decide +kernel
theorem dX1_make_22 : decode cX1_make 22 = .ok (.aload 7, 2) := by decide +kernel
theorem dX1_make_24 : decode cX1_make 24 = .ok (.getfield 66, 3) := by decide +kernel
theorem dX1_make_27 : decode cX1_make 27 = .ok (.aload_n 1, 1) := by decide +kernel
theorem dX1_make_28 : decode cX1_make 28 = .ok (.iload_n 2, 1) := by decide +kernel
theorem dX1_make_29 : decode cX1_make 29 = .ok (.invokevirtual 113, 3) := by decide +kernel
theorem dX1_make_32 : decode cX1_make 32 = .ok (.invokevirtual 117, 3) := by decide +kernel
theorem dX1_make_35 : decode cX1_make 35 = .ok (.iload_n 2, 1) := by decide +kernel
theorem dX1_make_36 : decode cX1_make 36 = .ok (.iconst 3, 1) := by decide +kernel
theorem dX1_make_37 : decode cX1_make 37 = .ok (.if_icmp .ne 36, 3) := by decide +kernel
theorem dX1_make_40 : decode cX1_make 40 = .ok (.aload_n 0, 1) := by decide +kernel
theorem dX1_make_41 : decode cX1_make 41 = .ok (.dup, 1) := by decide +kernel
theorem dX1_make_42 : decode cX1_make 42 = .ok (.getfield 37, 3) := by decide +kernel
theorem dX1_make_45 : decode cX1_make 45 = .ok (.iconst 1, 1) := by decide +kernel
theorem dX1_make_46 : decode cX1_make 46 = .ok (.isub, 1) := by decide +kernel
theorem dX1_make_47 : decode cX1_make 47 = .ok (.putfield 37, 3) := by decide +kernel
theorem dX1_make_50 : decode cX1_make 50 = .ok (.aload 7, 2) := by decide +kernel
theorem dX1_make_52 : decode cX1_make 52 = .ok (.aload_n 0, 1) := by decide +kernel
theorem dX1_make_53 : decode cX1_make 53 = .ok (.getfield 33, 3) := by decide +kernel
theorem dX1_make_56 : decode cX1_make 56 = .ok (.aload_n 0, 1) := by decide +kernel
theorem dX1_make_57 : decode cX1_make 57 = .ok (.getfield 37, 3) := by decide +kernel
theorem dX1_make_60 : decode cX1_make 60 = .ok (.aaload, 1) := by decide +kernel
theorem dX1_make_61 : decode cX1_make 61 = .ok (.putfield 121, 3) := by decide +kernel
theorem dX1_make_64 : decode cX1_make 64 = .ok (.aload 7, 2) := by decide +kernel
theorem dX1_make_66 : decode cX1_make 66 = .ok (.getfield 121, 3) := by decide +kernel
theorem dX1_make_69 : decode cX1_make 69 = .ok (.iconst 0, 1) := by decide +kernel
theorem dX1_make_70 : decode cX1_make 70 = .ok (.putfield 125, 3) := by decide +kernel
theorem dX1_make_73 : decode cX1_make 73 = .ok (.aload_n 1, 1) := by decide +kernel
theorem dX1_make_74 : decode cX1_make 74 = .ok (.aload 7, 2) := by decide +kernel
theorem dX1_make_76 : decode cX1_make 76 = .ok (.invokevirtual 128, 3) := by decide +kernel
theorem dX1_make_79 : decode cX1_make 79 = .ok (.aload_n 0, 1) := by decide +kernel
theorem dX1_make_80 : decode cX1_make 80 = .ok (.getfield 20, 3) := by decide +kernel
theorem dX1_make_83 : decode cX1_make 83 = .ok (.aload 7, 2) := by decide +kernel
theorem dX1_make_85 : decode cX1_make 85 = .ok (.invokevirtual 132, 3) := by decide +kernel
theorem dX1_make_88 : decode cX1_make 88 = .ok (.aload_n 0, 1) := by decide +kernel
theorem dX1_make_89 : decode cX1_make 89 = .ok (.aload_n 1, 1) := by decide +kernel
theorem dX1_make_90 : decode cX1_make 90 = .ok (.aload 7, 2) := by decide +kernel
theorem dX1_make_92 : decode cX1_make 92 = .ok (.invokevirtual 135, 3) := by decide +kernel
theorem dX1_make_95 : decode cX1_make 95 = .ok (.invokevirtual 139, 3) := by decide +kernel
theorem dX1_make_98 : decode cX1_make 98 = .ok (.aload_n 0, 1) := by decide +kernel
theorem dX1_make_99 : decode cX1_make 99 = .ok (.dup, 1) := by decide +kernel
theorem dX1_make_100 : decode cX1_make 100 = .ok (.getfield 41, 3) := by decide +kernel
theorem dX1_make_103 : decode cX1_make 103 = .ok (.iconst 1, 1) := by decide +kernel
theorem dX1_make_104 : decode cX1_make 104 = .ok (.iadd, 1) := by decide +kernel
theorem dX1_make_105 : decode cX1_make 105 = .ok (.putfield 41, 3) := by decide +kernel
theorem dX1_make_108 : decode cX1_make 108 = .ok (.aload_n 0, 1) := by decide +kernel
theorem dX1_make_109 : decode cX1_make 109 = .ok (.dup, 1) := by decide +kernel
theorem dX1_make_110 : decode cX1_make 110 = .ok (.getfield 44, 3) := by decide +kernel
theorem dX1_make_113 : decode cX1_make 113 = .ok (.iconst 1, 1) := by decide +kernel
theorem dX1_make_114 : decode cX1_make 114 = .ok (.iadd, 1) := by decide +kernel
theorem dX1_make_115 : decode cX1_make 115 = .ok (.putfield 44, 3) := by decide +kernel
theorem dX1_make_118 : decode cX1_make 118 = .ok (.aload 7, 2) := by decide +kernel
theorem dX1_make_120 : decode cX1_make 120 = .ok (.areturn, 1) := by decide +kernel
theorem zy_X1_make : yX1_make.cls ≠ "java/lang/invoke/MethodHandle" ∧ yX1_make.cls ≠ "java/lang/invoke/VarHandle" ∧ (parseMethodDescriptor yX1_make.desc).map (fun d => d.parameters.length) = some 5 := by decide +kernel
theorem w_fX1_make_J73 {K : zK} (E : zE K cX1_make "RingHouse$Tree" (some (.object "RingHouse$Node")) 4) (hN : zNl K = 8) (hT : zTr K = (some 6)) (x1 : Int) (x7 : Int) : zR K 73 [(0, 3, 0), (1, 6, x1), (7, 6, x7)] [] (fX1_make_J73 x1 x7) := by
  refine r_aload_n E dX1_make_73 rfl 1 rfl ?_
  refine r_aload E dX1_make_74 2 rfl ?_
  refine r_nn E (fun hn7 => ?_)
  refine r_callV E [(6, x7)] [] rfl zc_6 zr_6 (fun o _ => ⟨_, zw_X4.1 o, rfl⟩) (lw_V q1908 q1909 q1910 q231 q1911) dX1_make_76 zy_X4_append rfl (by omega) (by decide) (Nat.le_of_ble_eq_true rfl) hn7 (fun l G => k_fX4_append l G x1 x7 hn7) (fun _ => ?_)
  refine r_aload_n E dX1_make_79 rfl 0 rfl ?_
  refine r_gec (y := 0) E zc_3 dX1_make_80 q587 zr_3 (zh_201 (by decide)) (by decide) ?_
  refine r_aload E dX1_make_83 2 rfl ?_
  refine r_callV E [(6, x7)] [] rfl zc_4 zr_4 (fun o _ => ⟨_, zw_X2.1 o, rfl⟩) (lw_V q1912 q1913 q1914 q229 q1915) dX1_make_85 zy_X2_add rfl (by omega) (by decide) (Nat.le_of_ble_eq_true rfl) (by decide) (fun l G => k_fX2_add l G x7) (fun _ => ?_)
  refine r_aload_n E dX1_make_88 rfl 0 rfl ?_
  refine r_aload_n E dX1_make_89 rfl 1 rfl ?_
  refine r_aload E dX1_make_90 2 rfl ?_
  refine r_nn E (fun hn10 => ?_)
  refine r_callV E [] [(6, x1), (3, 0)] rfl zc_6 zr_6 (fun o _ => ⟨_, zw_X4.1 o, rfl⟩) (lw_V q1916 q1917 q1918 q231 q1919) dX1_make_92 zy_X4_cost rfl (by omega) (by decide) (Nat.le_of_ble_eq_true rfl) hn10 (fun l G => k_fX4_cost l G x7 hn10) (fun v11 => ?_)
  refine r_callV E [(6, x1), (0, v11)] [] rfl zc_3 zr_3 (fun o _ => ⟨_, zw_X1.1 o, rfl⟩) (lw_V q1931 q1933 qs3 q228 q1934) dX1_make_95 zy_X1_charge rfl (by omega) (by decide) (Nat.le_of_ble_eq_true rfl) (by decide) (fun l G => k_fX1_charge l G x1 v11) (fun _ => ?_)
  refine r_aload_n E dX1_make_98 rfl 0 rfl ?_
  refine r_dup E (zn1 rfl) dX1_make_99 ?_
  refine r_get E zc_3 zt_206 dX1_make_100 q599 zr_3 (zg_206 _) (by decide) (fun v13 => ?_)
  refine r_iconst E dX1_make_103 (zkI (by decide) (by decide)) ?_
  refine r_iadd E dX1_make_104 ?_
  refine r_put E zc_3 zt_206 zo_206 dX1_make_105 q599 zr_3 zw_X1 zp_206 (fun _ => rfl) (fun _ => rfl) (by decide) ?_
  refine r_aload_n E dX1_make_108 rfl 0 rfl ?_
  refine r_dup E (zn1 rfl) dX1_make_109 ?_
  refine r_get E zc_3 zt_207 dX1_make_110 q601 zr_3 (zg_207 _) (by decide) (fun v14 => ?_)
  refine r_iconst E dX1_make_113 (zkI (by decide) (by decide)) ?_
  refine r_iadd E dX1_make_114 ?_
  refine r_put E zc_3 zt_207 zo_207 dX1_make_115 q601 zr_3 zw_X1 zp_207 (fun _ => rfl) (fun _ => rfl) (by decide) ?_
  refine r_aload E dX1_make_118 2 rfl ?_
  exact r_areturn E rfl hT dX1_make_120
theorem w_fX1_make {K : zK} (E : zE K cX1_make "RingHouse$Tree" (some (.object "RingHouse$Node")) 4) (hN : zNl K = 8) (hT : zTr K = (some 6)) (x1 : Int) (x2 : Int) (x3 : Int) (x5 : Int) (x6 : Int) : zR K 0 [(0, 3, 0), (1, 6, x1), (2, 0, x2), (3, 1, x3), (5, 0, x5), (6, 0, x6)] [] (fX1_make x1 x2 x3 x5 x6) := by
  refine r_aload_n E dX1_make_0 rfl 0 rfl ?_
  refine r_callV E [] [] rfl zc_3 zr_3 (fun o _ => ⟨_, zw_X1.1 o, rfl⟩) (lw_V q1887 q1889 qs2 q228 q1890) dX1_make_1 zy_X1_free rfl (by omega) (by decide) (Nat.le_of_ble_eq_true rfl) (by decide) (fun l G => k_fX1_free l G) (fun v1 => ?_)
  refine r_astore (ls' := [(7, 6, v1), (0, 3, 0), (1, 6, x1), (2, 0, x2), (3, 1, x3), (5, 0, x5), (6, 0, x6)]) E dX1_make_4 (by rw [hN]; decide) rfl ?_
  refine r_aload E dX1_make_6 0 rfl ?_
  refine r_iload_n E dX1_make_8 rfl 3 rfl ?_
  refine r_lload_n E dX1_make_9 rfl 4 rfl ?_
  refine r_iload E dX1_make_10 5 rfl ?_
  refine r_nn E (fun hn2 => ?_)
  refine r_callV E [(0, x2), (1, x3), (0, x5)] [] rfl zc_6 zr_6 (fun o _ => ⟨_, zw_X4.1 o, rfl⟩) (lw_V q557 q558 q559 q231 q560) dX1_make_12 zy_X4_begin rfl (by omega) (by decide) (Nat.le_of_ble_eq_true rfl) hn2 (fun l G => k_fX4_begin l G v1 x2 x3 x5 hn2) (fun _ => ?_)
  refine r_aload E dX1_make_15 0 rfl ?_
  refine r_iload E dX1_make_17 6 rfl ?_
  refine r_putN E zc_6 zt_516 zo_516 dX1_make_19 q451 zr_6 zw_X4 zp_516 (fun _ => rfl) (fun _ => rfl) hn2 ?_
  refine r_aload E dX1_make_22 0 rfl ?_
  refine r_gecN (y := (3 * v1)) E zc_6 dX1_make_24 q408 zr_6 (zh_508 (by omega)) hn2 ?_
  refine r_aload_n E dX1_make_27 rfl 2 rfl ?_
  refine r_iload_n E dX1_make_28 rfl 3 rfl ?_
  refine r_nn E (fun hn4 => ?_)
  refine r_callV E [(0, x2)] [(7, (3 * v1))] rfl zc_6 zr_6 (fun o _ => ⟨_, zw_X4.1 o, rfl⟩) (lw_V q1891 q1892 q1893 q231 q1894) dX1_make_29 zy_X4_initial rfl (by omega) (by decide) (Nat.le_of_ble_eq_true rfl) hn4 (fun l G => k_fX4_initial l G x1 x2 hn4) (fun v5 => ?_)
  refine r_callV E [(7, v5)] [] rfl zc_7 zr_7 (fun o _ => ⟨_, zw_X5.1 o, rfl⟩) (lw_V q1895 q1896 q1897 q232 q1898) dX1_make_32 zy_X5_take rfl (by omega) (by decide) (Nat.le_of_ble_eq_true rfl) (by omega) (fun l G => k_fX5_take l G (3 * v1) v5 (by omega)) (fun _ => ?_)
  refine r_iload_n E dX1_make_35 rfl 3 rfl ?_
  refine r_iconst E dX1_make_36 (zkI (by decide) (by decide)) ?_
  refine r_icmp_ne E 73 (by decide) dX1_make_37 (fun _ => ?_) (fun _ => ?_)
  · refine r_pick E [1, 2, 0] rfl ?_
    exact w_fX1_make_J73 E hN hT x1 v1
  · refine r_aload_n E dX1_make_40 rfl 1 rfl ?_
    refine r_dup E (zn1 rfl) dX1_make_41 ?_
    refine r_get E zc_3 zt_204 dX1_make_42 q594 zr_3 (zg_204 _) (by decide) (fun v15 => ?_)
    refine r_iconst E dX1_make_45 (zkI (by decide) (by decide)) ?_
    refine r_isub E dX1_make_46 ?_
    refine r_put E zc_3 zt_204 zo_204 dX1_make_47 q594 zr_3 zw_X1 zp_204 (fun _ => rfl) (fun _ => rfl) (by decide) ?_
    refine r_aload E dX1_make_50 0 rfl ?_
    refine r_aload_n E dX1_make_52 rfl 1 rfl ?_
    refine r_gec (y := 0) E zc_3 dX1_make_53 q593 zr_3 (zh_203 (by decide)) (by decide) ?_
    refine r_aload_n E dX1_make_56 rfl 1 rfl ?_
    refine r_get E zc_3 zt_204 dX1_make_57 q594 zr_3 (zg_204 _) (by decide) (fun v16 => ?_)
    refine r_aaload E zc_203 za_203 zt_203 zx_203 rfl rfl dX1_make_60 (by decide) (fun v17 => ?_)
    refine r_putN E zc_6 zt_520 zo_520 dX1_make_61 q468 zr_6 zw_X4 zp_520 (fun _ => rfl) (fun G => zfo G) hn2 ?_
    refine r_aload E dX1_make_64 0 rfl ?_
    refine r_getN E zc_6 zt_520 dX1_make_66 q468 zr_6 (zg_520 _) hn2 (fun v18 => ?_)
    refine r_iconst E dX1_make_69 (zkI (by decide) (by decide)) ?_
    refine r_nn E (fun hn19 => ?_)
    refine r_putN E zc_8 zt_702 zo_702 dX1_make_70 q548 zr_8 zw_X6 zp_702 (fun _ => rfl) (fun _ => rfl) hn19 ?_
    refine r_pick E [1, 2, 0] rfl ?_
    exact w_fX1_make_J73 E hN hT x1 v1
theorem k_fX1_make (l : Launch) (G : zG) (x1 : Int) (x2 : Int) (x3 : Int) (x5 : Int) (x6 : Int) : zCt l G yX1_make cX1_make 8 (some (.object "RingHouse$Node")) 4 [(3, 0), (6, x1), (0, x2), (1, x3), (0, x5), (0, x6)] (some 6) (fX1_make x1 x2 x3 x5 x6) := zCt.of (by decide) (Nat.le_of_ble_eq_true rfl) (fun K E _ _ hN hT => w_fX1_make E hN hT x1 x2 x3 x5 x6)
theorem dX12_newDirectory_0 : decode cX12_newDirectory 0 = .ok (.aload_n 0, 1) := by decide +kernel
theorem dX12_newDirectory_1 : decode cX12_newDirectory 1 = .ok (.getfield 24, 3) := by decide +kernel
theorem dX12_newDirectory_4 : decode cX12_newDirectory 4 = .ok (.getfield 510, 3) := by decide +kernel
theorem dX12_newDirectory_7 : decode cX12_newDirectory 7 = .ok (.aload_n 1, 1) := by decide +kernel
theorem dX12_newDirectory_8 : decode cX12_newDirectory 8 = .ok (.lload_n 2, 1) := by decide +kernel
theorem dX12_newDirectory_9 : decode cX12_newDirectory 9 = .ok (.invokevirtual 513, 3) := by decide +kernel
theorem dX12_newDirectory_12 : decode cX12_newDirectory 12 = .ok (.ifnull 6, 3) := by decide +kernel
theorem dX12_newDirectory_15 : decode cX12_newDirectory 15 = .ok (.bipush (-6), 2) := by decide +kernel
theorem dX12_newDirectory_17 : decode cX12_newDirectory 17 = .ok (.ireturn, 1) := by decide +kernel
theorem dX12_newDirectory_18 : decode cX12_newDirectory 18 = .ok (.aload_n 0, 1) := by decide +kernel
theorem dX12_newDirectory_19 : decode cX12_newDirectory 19 = .ok (.getfield 24, 3) := by decide +kernel
theorem dX12_newDirectory_22 : decode cX12_newDirectory 22 = .ok (.aload_n 1, 1) := by decide +kernel
theorem dX12_newDirectory_23 : decode cX12_newDirectory 23 = .ok (.iconst 1, 1) := by decide +kernel
theorem dX12_newDirectory_24 : decode cX12_newDirectory 24 = .ok (.iload 5, 2) := by decide +kernel
theorem dX12_newDirectory_26 : decode cX12_newDirectory 26 = .ok (.iadd, 1) := by decide +kernel
theorem dX12_newDirectory_27 : decode cX12_newDirectory 27 = .ok (.invokevirtual 559, 3) := by decide +kernel
theorem dX12_newDirectory_30 : decode cX12_newDirectory 30 = .ok (.ifCond .eq 23, 3) := by decide +kernel
theorem dX12_newDirectory_33 : decode cX12_newDirectory 33 = .ok (.aload_n 0, 1) := by decide +kernel
theorem dX12_newDirectory_34 : decode cX12_newDirectory 34 = .ok (.getfield 24, 3) := by decide +kernel
theorem dX12_newDirectory_37 : decode cX12_newDirectory 37 = .ok (.aload_n 1, 1) := by decide +kernel
theorem dX12_newDirectory_38 : decode cX12_newDirectory 38 = .ok (.iconst 1, 1) := by decide +kernel
theorem dX12_newDirectory_39 : decode cX12_newDirectory 39 = .ok (.lload_n 2, 1) := by decide +kernel
theorem dX12_newDirectory_40 : decode cX12_newDirectory 40 = .ok (.iload 4, 2) := by decide +kernel
theorem dX12_newDirectory_42 : decode cX12_newDirectory 42 = .ok (.iload 5, 2) := by decide +kernel
theorem dX12_newDirectory_44 : decode cX12_newDirectory 44 = .ok (.invokevirtual 566, 3) := by decide +kernel
theorem dX12_newDirectory_47 : decode cX12_newDirectory 47 = .ok (.getfield 303, 3) := by decide +kernel
theorem dX12_newDirectory_50 : decode cX12_newDirectory 50 = .ok (.goto 5, 3) := by decide +kernel
theorem dX12_newDirectory_53 : decode cX12_newDirectory 53 = .ok (.bipush (-5), 2) := by decide +kernel
theorem dX12_newDirectory_55 : decode cX12_newDirectory 55 = .ok (.ireturn, 1) := by decide +kernel
theorem zy_X12_newDirectory : yX12_newDirectory.cls ≠ "java/lang/invoke/MethodHandle" ∧ yX12_newDirectory.cls ≠ "java/lang/invoke/VarHandle" ∧ (parseMethodDescriptor yX12_newDirectory.desc).map (fun d => d.parameters.length) = some 4 := by decide +kernel
theorem w_fX12_newDirectory {K : zK} (E : zE K cX12_newDirectory "RingHouse$Machine" (some .int) 5) (hN : zNl K = 6) (hT : zTr K = (some 0)) (x1 : Int) (x2 : Int) (x4 : Int) (x5 : Int) : zR K 0 [(0, 14, 0), (1, 6, x1), (2, 1, x2), (4, 0, x4), (5, 0, x5)] [] (fX12_newDirectory x1 x2 x4 x5) := by
  refine r_aload_n E dX12_newDirectory_0 rfl 0 rfl ?_
  refine r_gec (y := 0) E zc_14 dX12_newDirectory_1 q1526 zr_14 (zh_1300 (by decide)) (by decide) ?_
  refine r_gecN (y := 0) E zc_3 dX12_newDirectory_4 q590 zr_3 (zh_201 (by decide)) (by decide) ?_
  refine r_aload_n E dX12_newDirectory_7 rfl 1 rfl ?_
  refine r_lload_n E dX12_newDirectory_8 rfl 2 rfl ?_
  refine r_callV E [(6, x1), (1, x2)] [] rfl zc_4 zr_4 (fun o _ => ⟨_, zw_X2.1 o, rfl⟩) (lw_V q1865 q1866 q1867 q229 q1868) dX12_newDirectory_9 zy_X2_find rfl (by omega) (by decide) (Nat.le_of_ble_eq_true rfl) (by decide) (fun l G => k_fX2_find l G x1 x2) (fun v1 => ?_)
  refine r_ifnull E 18 (by decide) dX12_newDirectory_12 (fun _ => ?_) (fun hz2 => ?_)
  · refine r_aload_n E dX12_newDirectory_18 rfl 0 rfl ?_
    refine r_gec (y := 0) E zc_14 dX12_newDirectory_19 q1526 zr_14 (zh_1300 (by decide)) (by decide) ?_
    refine r_aload_n E dX12_newDirectory_22 rfl 1 rfl ?_
    refine r_iconst E dX12_newDirectory_23 (zkI (by decide) (by decide)) ?_
    refine r_iload E dX12_newDirectory_24 4 rfl ?_
    refine r_iadd E dX12_newDirectory_26 ?_
    refine r_callV E [(6, x1), (0, (zi (1 + x5)))] [] rfl zc_3 zr_3 (fun o _ => ⟨_, zw_X1.1 o, rfl⟩) (lw_V q1875 q1876 q1877 q228 q1878) dX12_newDirectory_27 zy_X1_bears rfl (by omega) (by decide) (Nat.le_of_ble_eq_true rfl) (by decide) (fun l G => k_fX1_bears l G x1 (zi (1 + x5))) (fun v3 => ?_)
    refine r_if_eq E 53 (by decide) dX12_newDirectory_30 (fun _ => ?_) (fun _ => ?_)
    · refine r_bipush E dX12_newDirectory_53 (by decide) (zkI (by decide) (by decide)) ?_
      exact r_ireturn E rfl hT dX12_newDirectory_55
    · refine r_aload_n E dX12_newDirectory_33 rfl 0 rfl ?_
      refine r_gec (y := 0) E zc_14 dX12_newDirectory_34 q1526 zr_14 (zh_1300 (by decide)) (by decide) ?_
      refine r_aload_n E dX12_newDirectory_37 rfl 1 rfl ?_
      refine r_iconst E dX12_newDirectory_38 (zkI (by decide) (by decide)) ?_
      refine r_lload_n E dX12_newDirectory_39 rfl 2 rfl ?_
      refine r_iload E dX12_newDirectory_40 3 rfl ?_
      refine r_iload E dX12_newDirectory_42 4 rfl ?_
      refine r_callV E [(6, x1), (0, 1), (1, x2), (0, x4), (0, x5)] [] rfl zc_3 zr_3 (fun o _ => ⟨_, zw_X1.1 o, rfl⟩) (lw_V q1883 q1884 q1885 q228 q1886) dX12_newDirectory_44 zy_X1_make rfl (by omega) (by decide) (Nat.le_of_ble_eq_true rfl) (by decide) (fun l G => k_fX1_make l G x1 1 x2 x4 x5) (fun v4 => ?_)
      refine r_nn E (fun hn5 => ?_)
      refine r_gecN (y := v4) E zc_6 dX12_newDirectory_47 q374 zr_6 (zh_500 (by omega)) hn5 ?_
      refine r_goto E 55 (by decide) dX12_newDirectory_50 ?_
      exact r_ireturn E rfl hT dX12_newDirectory_55
  · refine r_bipush E dX12_newDirectory_15 (by decide) (zkI (by decide) (by decide)) ?_
    exact r_ireturn E rfl hT dX12_newDirectory_17
theorem k_fX12_newDirectory (l : Launch) (G : zG) (x1 : Int) (x2 : Int) (x4 : Int) (x5 : Int) : zCt l G yX12_newDirectory cX12_newDirectory 6 (some .int) 5 [(14, 0), (6, x1), (1, x2), (0, x4), (0, x5)] (some 0) (fX12_newDirectory x1 x2 x4 x5) := zCt.of (by decide) (Nat.le_of_ble_eq_true rfl) (fun K E _ _ hN hT => w_fX12_newDirectory E hN hT x1 x2 x4 x5)
theorem dX0_directory_0 : decode cX0_directory 0 = .ok (.aload_n 0, 1) := by decide +kernel
theorem dX0_directory_1 : decode cX0_directory 1 = .ok (.getfield 42, 3) := by decide +kernel
theorem dX0_directory_4 : decode cX0_directory 4 = .ok (.iload_n 1, 1) := by decide +kernel
theorem dX0_directory_5 : decode cX0_directory 5 = .ok (.invokevirtual 115, 3) := by decide +kernel
theorem dX0_directory_8 : decode cX0_directory 8 = .ok (.astore 6, 2) := by decide +kernel
theorem dX0_directory_10 : decode cX0_directory 10 = .ok (.aload 6, 2) := by decide +kernel
theorem dX0_directory_12 : decode cX0_directory 12 = .ok (.ifnull 34, 3) := by decide +kernel
theorem dX0_directory_15 : decode cX0_directory 15 = .ok (.lload_n 2, 1) := by decide +kernel
theorem dX0_directory_16 : decode cX0_directory 16 = .ok (.invokestatic 119, 3) := by decide +kernel
theorem dX0_directory_19 : decode cX0_directory 19 = .ok (.ifCond .eq 27, 3) := by decide +kernel
theorem dX0_directory_22 : decode cX0_directory 22 = .ok (.iload 4, 2) := by decide +kernel
theorem dX0_directory_24 : decode cX0_directory 24 = .ok (.i2l, 1) := by decide +kernel
theorem dX0_directory_25 : decode cX0_directory 25 = .ok (.invokestatic 122, 3) := by decide +kernel
theorem dX0_directory_28 : decode cX0_directory 28 = .ok (.ifCond .eq 18, 3) := by decide +kernel
theorem dX0_directory_31 : decode cX0_directory 31 = .ok (.iload 4, 2) := by decide +kernel
theorem dX0_directory_33 : decode cX0_directory 33 = .ok (.aload 6, 2) := by decide +kernel
theorem dX0_directory_35 : decode cX0_directory 35 = .ok (.getfield 125, 3) := by decide +kernel
theorem dX0_directory_38 : decode cX0_directory 38 = .ok (.iload 5, 2) := by decide +kernel
theorem dX0_directory_40 : decode cX0_directory 40 = .ok (.invokestatic 130, 3) := by decide +kernel
theorem dX0_directory_43 : decode cX0_directory 43 = .ok (.ifCond .ne 6, 3) := by decide +kernel
theorem dX0_directory_46 : decode cX0_directory 46 = .ok (.bipush (-8), 2) := by decide +kernel
theorem dX0_directory_48 : decode cX0_directory 48 = .ok (.ireturn, 1) := by decide +kernel
theorem dX0_directory_49 : decode cX0_directory 49 = .ok (.aload_n 0, 1) := by decide +kernel
theorem dX0_directory_50 : decode cX0_directory 50 = .ok (.getfield 76, 3) := by decide +kernel
theorem dX0_directory_53 : decode cX0_directory 53 = .ok (.aload 6, 2) := by decide +kernel
theorem dX0_directory_55 : decode cX0_directory 55 = .ok (.lload_n 2, 1) := by decide +kernel
theorem dX0_directory_56 : decode cX0_directory 56 = .ok (.iload 4, 2) := by decide +kernel
theorem dX0_directory_58 : decode cX0_directory 58 = .ok (.iload 5, 2) := by decide +kernel
theorem dX0_directory_60 : decode cX0_directory 60 = .ok (.invokevirtual 134, 3) := by decide +kernel
theorem dX0_directory_63 : decode cX0_directory 63 = .ok (.ireturn, 1) := by decide +kernel
theorem zy_X0_directory : yX0_directory.cls ≠ "java/lang/invoke/MethodHandle" ∧ yX0_directory.cls ≠ "java/lang/invoke/VarHandle" ∧ (parseMethodDescriptor yX0_directory.desc).map (fun d => d.parameters.length) = some 4 := by decide +kernel
theorem w_fX0_directory {K : zK} (E : zE K cX0_directory "RingHouse" (some .int) 6) (hN : zNl K = 7) (hT : zTr K = (some 0)) (x1 : Int) (x2 : Int) (x4 : Int) (x5 : Int) : zR K 0 [(0, 2, 0), (1, 0, x1), (2, 1, x2), (4, 0, x4), (5, 0, x5)] [] (fX0_directory x1 x2 x4 x5) := by
  refine r_aload_n E dX0_directory_0 rfl 0 rfl ?_
  refine r_gec (y := 0) E zc_2 dX0_directory_1 q1790 zr_2 (zh_100 (by decide)) (by decide) ?_
  refine r_iload_n E dX0_directory_4 rfl 1 rfl ?_
  refine r_callV E [(0, x1)] [] rfl zc_3 zr_3 (fun o _ => ⟨_, zw_X1.1 o, rfl⟩) (lw_V q1825 q1826 q1827 q228 q1828) dX0_directory_5 zy_X1_directory rfl (by omega) (by decide) (Nat.le_of_ble_eq_true rfl) (by decide) (fun l G => k_fX1_directory l G x1) (fun v1 => ?_)
  refine r_astore (ls' := [(6, 6, v1), (0, 2, 0), (1, 0, x1), (2, 1, x2), (4, 0, x4), (5, 0, x5)]) E dX0_directory_8 (by rw [hN]; decide) rfl ?_
  refine r_aload E dX0_directory_10 0 rfl ?_
  refine r_ifnull E 46 (by decide) dX0_directory_12 (fun _ => ?_) (fun hz2 => ?_)
  · refine r_bipush E dX0_directory_46 (by decide) (zkI (by decide) (by decide)) ?_
    exact r_ireturn E rfl hT dX0_directory_48
  · refine r_lload_n E dX0_directory_15 rfl 3 rfl ?_
    refine r_callS E [(1, x2)] [] rfl q1841 q1842 q227 q1843 dX0_directory_16 zy_X0_isName rfl (by omega) (by decide) (Nat.le_of_ble_eq_true rfl) (fun l G => k_fX0_isName l G x2) (fun v3 => ?_)
    refine r_if_eq E 46 (by decide) dX0_directory_19 (fun _ => ?_) (fun _ => ?_)
    · refine r_bipush E dX0_directory_46 (by decide) (zkI (by decide) (by decide)) ?_
      exact r_ireturn E rfl hT dX0_directory_48
    · refine r_iload E dX0_directory_22 4 rfl ?_
      refine r_i2l E dX0_directory_24 ?_
      refine r_callS E [(1, x4)] [] rfl q1849 q1850 q227 q1851 dX0_directory_25 zy_X0_isLabel rfl (by omega) (by decide) (Nat.le_of_ble_eq_true rfl) (fun l G => k_fX0_isLabel l G x4) (fun v4 => ?_)
      refine r_if_eq E 46 (by decide) dX0_directory_28 (fun _ => ?_) (fun _ => ?_)
      · refine r_bipush E dX0_directory_46 (by decide) (zkI (by decide) (by decide)) ?_
        exact r_ireturn E rfl hT dX0_directory_48
      · refine r_iload E dX0_directory_31 4 rfl ?_
        refine r_aload E dX0_directory_33 0 rfl ?_
        refine r_getN E zc_6 zt_503 dX0_directory_35 q394 zr_6 (zg_503 _) (Int.not_lt.mp hz2) (fun v5 => ?_)
        refine r_iload E dX0_directory_38 5 rfl ?_
        refine r_callS E [(0, x4), (0, v5), (0, x5)] [] rfl q1854 q1855 q227 q1856 dX0_directory_40 zy_X0_isRightLimit rfl (by omega) (by decide) (Nat.le_of_ble_eq_true rfl) (fun l G => k_fX0_isRightLimit l G x4 v5 x5) (fun v6 => ?_)
        refine r_if_ne E 49 (by decide) dX0_directory_43 (fun _ => ?_) (fun _ => ?_)
        · refine r_aload_n E dX0_directory_49 rfl 1 rfl ?_
          refine r_gec (y := 0) E zc_2 dX0_directory_50 q1792 zr_2 (zh_102 (by decide)) (by decide) ?_
          refine r_aload E dX0_directory_53 0 rfl ?_
          refine r_lload_n E dX0_directory_55 rfl 3 rfl ?_
          refine r_iload E dX0_directory_56 4 rfl ?_
          refine r_iload E dX0_directory_58 5 rfl ?_
          refine r_callVN E [(6, v1), (1, x2), (0, x4), (0, x5)] [] rfl zc_14 zr_14 (fun o _ => ⟨_, zw_X12.1 o, rfl⟩) q1861 q1863 qs1 q239 q1864 dX0_directory_60 zy_X12_newDirectory rfl (by omega) (by decide) (Nat.le_of_ble_eq_true rfl) (by decide) (fun l G => k_fX12_newDirectory l G v1 x2 x4 x5) (fun v7 => ?_)
          exact r_ireturn E rfl hT dX0_directory_63
        · refine r_bipush E dX0_directory_46 (by decide) (zkI (by decide) (by decide)) ?_
          exact r_ireturn E rfl hT dX0_directory_48
theorem k_fX0_directory (l : Launch) (G : zG) (x1 : Int) (x2 : Int) (x4 : Int) (x5 : Int) : zCt l G yX0_directory cX0_directory 7 (some .int) 6 [(2, 0), (0, x1), (1, x2), (0, x4), (0, x5)] (some 0) (fX0_directory x1 x2 x4 x5) := zCt.of (by decide) (Nat.le_of_ble_eq_true rfl) (fun K E _ _ hN hT => w_fX0_directory E hN hT x1 x2 x4 x5)
theorem dX3_clear_0 : decode cX3_clear 0 = .ok (.iload_n 2, 1) := by decide +kernel
theorem dX3_clear_1 : decode cX3_clear 1 = .ok (.istore_n 3, 1) := by decide +kernel
theorem dX3_clear_2 : decode cX3_clear 2 = .ok (.iload_n 3, 1) := by decide +kernel
theorem dX3_clear_3 : decode cX3_clear 3 = .ok (.bipush 64, 2) := by decide +kernel
theorem dX3_clear_5 : decode cX3_clear 5 = .ok (.if_icmp .ge 21, 3) := by decide +kernel
theorem dX3_clear_8 : decode cX3_clear 8 = .ok (.aload_n 0, 1) := by decide +kernel
theorem dX3_clear_9 : decode cX3_clear 9 = .ok (.getfield 9, 3) := by decide +kernel
theorem dX3_clear_12 : decode cX3_clear 12 = .ok (.bipush 64, 2) := by decide +kernel
theorem dX3_clear_14 : decode cX3_clear 14 = .ok (.iload_n 1, 1) := by decide +kernel
theorem dX3_clear_15 : decode cX3_clear 15 = .ok (.imul, 1) := by decide +kernel
theorem dX3_clear_16 : decode cX3_clear 16 = .ok (.iload_n 3, 1) := by decide +kernel
theorem dX3_clear_17 : decode cX3_clear 17 = .ok (.iadd, 1) := by decide +kernel
theorem dX3_clear_18 : decode cX3_clear 18 = .ok (.lconst 0, 1) := by decide +kernel
theorem dX3_clear_19 : decode cX3_clear 19 = .ok (.lastore, 1) := by decide +kernel
theorem dX3_clear_20 : decode cX3_clear 20 = .ok (.iinc 3 1, 3) := by decide +kernel
theorem dX3_clear_23 : decode cX3_clear 23 = .ok (.goto (-21), 3) := by decide +kernel
theorem dX3_clear_26 : decode cX3_clear 26 = .ok (.return_, 1) := by decide +kernel
theorem zy_X3_clear : yX3_clear.cls ≠ "java/lang/invoke/MethodHandle" ∧ yX3_clear.cls ≠ "java/lang/invoke/VarHandle" ∧ (parseMethodDescriptor yX3_clear.desc).map (fun d => d.parameters.length) = some 2 := by decide +kernel
theorem w_fX3_clear_B2 {K : zK} (E : zE K cX3_clear "RingHouse$Store" none 0) (hN : zNl K = 4) (hT : zTr K = none) (x1 : Int) : ∀ r2 : Int → zX, (∀ s : Int, zR K 2 [(0, 5, 0), (1, 0, x1), (3, 0, s)] [] (r2 s)) → ∀ s : Int, zR K 2 [(0, 5, 0), (1, 0, x1), (3, 0, s)] [] (fX3_clear_B2 x1 r2 s) := by
  intro r2 hr2 x3
  refine r_iload_n E dX3_clear_2 rfl 2 rfl ?_
  refine r_bipush E dX3_clear_3 (by decide) (zkI (by decide) (by decide)) ?_
  refine r_icmp_ge E 26 (by decide) dX3_clear_5 (fun _ => ?_) (fun _ => ?_)
  · exact r_return E rfl hT dX3_clear_26
  · refine r_aload_n E dX3_clear_8 rfl 0 rfl ?_
    refine r_gec (y := 0) E zc_5 dX3_clear_9 q333 zr_5 (zh_400 (by decide)) (by decide) ?_
    refine r_bipush E dX3_clear_12 (by decide) (zkI (by decide) (by decide)) ?_
    refine r_iload_n E dX3_clear_14 rfl 1 rfl ?_
    refine r_imul E dX3_clear_15 ?_
    refine r_iload_n E dX3_clear_16 rfl 2 rfl ?_
    refine r_iadd E dX3_clear_17 ?_
    refine r_lconst (v := 0) E dX3_clear_18 (by decide) (zkJ (by decide) (by decide)) ?_
    refine r_lastore E zc_400 za_400 zt_400 zo_400 zx_400 rfl rfl dX3_clear_19 (by decide) ?_
    refine r_iinc (ls' := fun v1 => [(3, 0, v1), (0, 5, 0), (1, 0, x1)]) E 2 rfl (by rw [hN]; decide) (fun _ => rfl) dX3_clear_20 (fun v1 _ => ?_)
    refine r_goto E 2 (by decide) dX3_clear_23 ?_
    refine r_pick E [1, 2, 0] rfl ?_
    exact hr2 v1
theorem w_fX3_clear {K : zK} (E : zE K cX3_clear "RingHouse$Store" none 0) (hN : zNl K = 4) (hT : zTr K = none) (x1 : Int) (x2 : Int) : zR K 0 [(0, 5, 0), (1, 0, x1), (2, 0, x2)] [] (fX3_clear x1 x2) := by
  refine r_iload_n E dX3_clear_0 rfl 2 rfl ?_
  refine r_istore_n (ls' := [(3, 0, x2), (0, 5, 0), (1, 0, x1), (2, 0, x2)]) E dX3_clear_1 rfl (by rw [hN]; decide) rfl ?_
  refine r_pick E [1, 2, 0] rfl ?_
  exact r_loop (L := fun s => [(0, 5, 0), (1, 0, x1), (3, 0, s)]) (w_fX3_clear_B2 E hN hT x1) zBIG x2
theorem k_fX3_clear (l : Launch) (G : zG) (x1 : Int) (x2 : Int) : zCt l G yX3_clear cX3_clear 4 none 0 [(5, 0), (0, x1), (0, x2)] none (fX3_clear x1 x2) := zCt.of (by decide) (Nat.le_of_ble_eq_true rfl) (fun K E _ _ hN hT => w_fX3_clear E hN hT x1 x2)
theorem dX3_take_0 : decode cX3_take 0 = .ok (.aload_n 0, 1) := by decide +kernel
theorem dX3_take_1 : decode cX3_take 1 = .ok (.dup, 1) := by decide +kernel
theorem dX3_take_2 : decode cX3_take 2 = .ok (.getfield 19, 3) := by decide +kernel
theorem dX3_take_5 : decode cX3_take 5 = .ok (.iconst 1, 1) := by decide +kernel
theorem dX3_take_6 : decode cX3_take 6 = .ok (.isub, 1) := by decide +kernel
theorem dX3_take_7 : decode cX3_take 7 = .ok (.putfield 19, 3) := by decide +kernel
theorem dX3_take_10 : decode cX3_take 10 = .ok (.aload_n 0, 1) := by decide +kernel
theorem dX3_take_11 : decode cX3_take 11 = .ok (.getfield 15, 3) := by decide +kernel
theorem dX3_take_14 : decode cX3_take 14 = .ok (.aload_n 0, 1) := by decide +kernel
theorem dX3_take_15 : decode cX3_take 15 = .ok (.getfield 19, 3) := by decide +kernel
theorem dX3_take_18 : decode cX3_take 18 = .ok (.iaload, 1) := by decide +kernel
theorem dX3_take_19 : decode cX3_take 19 = .ok (.istore_n 1, 1) := by decide +kernel
theorem dX3_take_20 : decode cX3_take 20 = .ok (.aload_n 0, 1) := by decide +kernel
theorem dX3_take_21 : decode cX3_take 21 = .ok (.iload_n 1, 1) := by decide +kernel
theorem dX3_take_22 : decode cX3_take 22 = .ok (.iconst 0, 1) := by decide +kernel
theorem dX3_take_23 : decode cX3_take 23 = .ok (.invokevirtual 23, 3) := by decide +kernel
theorem dX3_take_26 : decode cX3_take 26 = .ok (.iload_n 1, 1) := by decide +kernel
theorem dX3_take_27 : decode cX3_take 27 = .ok (.ireturn, 1) := by decide +kernel
theorem zy_X3_take : yX3_take.cls ≠ "java/lang/invoke/MethodHandle" ∧ yX3_take.cls ≠ "java/lang/invoke/VarHandle" ∧ (parseMethodDescriptor yX3_take.desc).map (fun d => d.parameters.length) = some 0 := by decide +kernel
theorem w_fX3_take {K : zK} (E : zE K cX3_take "RingHouse$Store" (some .int) 1) (hN : zNl K = 2) (hT : zTr K = (some 0)) : zR K 0 [(0, 5, 0)] [] (fX3_take) := by
  refine r_aload_n E dX3_take_0 rfl 0 rfl ?_
  refine r_dup E (zn1 rfl) dX3_take_1 ?_
  refine r_get E zc_5 zt_402 dX3_take_2 q335 zr_5 (zg_402 _) (by decide) (fun v1 => ?_)
  refine r_iconst E dX3_take_5 (zkI (by decide) (by decide)) ?_
  refine r_isub E dX3_take_6 ?_
  refine r_put E zc_5 zt_402 zo_402 dX3_take_7 q335 zr_5 zw_X3 zp_402 (fun _ => rfl) (fun _ => rfl) (by decide) ?_
  refine r_aload_n E dX3_take_10 rfl 0 rfl ?_
  refine r_gec (y := 0) E zc_5 dX3_take_11 q334 zr_5 (zh_401 (by decide)) (by decide) ?_
  refine r_aload_n E dX3_take_14 rfl 0 rfl ?_
  refine r_get E zc_5 zt_402 dX3_take_15 q335 zr_5 (zg_402 _) (by decide) (fun v2 => ?_)
  refine r_iaload E zc_401 za_401 zt_401 zx_401 rfl rfl dX3_take_18 (by decide) (fun v3 => ?_)
  refine r_istore_n (ls' := [(1, 0, v3), (0, 5, 0)]) E dX3_take_19 rfl (by rw [hN]; decide) rfl ?_
  refine r_aload_n E dX3_take_20 rfl 1 rfl ?_
  refine r_iload_n E dX3_take_21 rfl 0 rfl ?_
  refine r_iconst E dX3_take_22 (zkI (by decide) (by decide)) ?_
  refine r_callV E [(0, v3), (0, 0)] [] rfl zc_5 zr_5 (fun o _ => ⟨_, zw_X3.1 o, rfl⟩) (lw_V q1962 q1955 q1956 q230 q1957) dX3_take_23 zy_X3_clear rfl (by omega) (by decide) (Nat.le_of_ble_eq_true rfl) (by decide) (fun l G => k_fX3_clear l G v3 0) (fun _ => ?_)
  refine r_iload_n E dX3_take_26 rfl 0 rfl ?_
  exact r_ireturn E rfl hT dX3_take_27
theorem k_fX3_take (l : Launch) (G : zG) : zCt l G yX3_take cX3_take 2 (some .int) 1 [(5, 0)] (some 0) (fX3_take) := zCt.of (by decide) (Nat.le_of_ble_eq_true rfl) (fun K E _ _ hN hT => w_fX3_take E hN hT)
theorem dX3_give_0 : decode cX3_give 0 = .ok (.aload_n 0, 1) := by decide +kernel
theorem dX3_give_1 : decode cX3_give 1 = .ok (.getfield 15, 3) := by decide +kernel
theorem dX3_give_4 : decode cX3_give 4 = .ok (.aload_n 0, 1) := by decide +kernel
theorem dX3_give_5 : decode cX3_give 5 = .ok (.getfield 19, 3) := by decide +kernel
theorem dX3_give_8 : decode cX3_give 8 = .ok (.iload_n 1, 1) := by decide +kernel
theorem dX3_give_9 : decode cX3_give 9 = .ok (.iastore, 1) := by decide +kernel
theorem dX3_give_10 : decode cX3_give 10 = .ok (.aload_n 0, 1) := by decide +kernel
theorem dX3_give_11 : decode cX3_give 11 = .ok (.dup, 1) := by decide +kernel
theorem dX3_give_12 : decode cX3_give 12 = .ok (.getfield 19, 3) := by decide +kernel
theorem dX3_give_15 : decode cX3_give 15 = .ok (.iconst 1, 1) := by decide +kernel
theorem dX3_give_16 : decode cX3_give 16 = .ok (.iadd, 1) := by decide +kernel
theorem dX3_give_17 : decode cX3_give 17 = .ok (.putfield 19, 3) := by decide +kernel
theorem dX3_give_20 : decode cX3_give 20 = .ok (.return_, 1) := by decide +kernel
theorem zy_X3_give : yX3_give.cls ≠ "java/lang/invoke/MethodHandle" ∧ yX3_give.cls ≠ "java/lang/invoke/VarHandle" ∧ (parseMethodDescriptor yX3_give.desc).map (fun d => d.parameters.length) = some 1 := by decide +kernel
theorem w_fX3_give {K : zK} (E : zE K cX3_give "RingHouse$Store" none 0) (hN : zNl K = 2) (hT : zTr K = none) (x1 : Int) : zR K 0 [(0, 5, 0), (1, 0, x1)] [] (fX3_give x1) := by
  refine r_aload_n E dX3_give_0 rfl 0 rfl ?_
  refine r_gec (y := 0) E zc_5 dX3_give_1 q334 zr_5 (zh_401 (by decide)) (by decide) ?_
  refine r_aload_n E dX3_give_4 rfl 0 rfl ?_
  refine r_get E zc_5 zt_402 dX3_give_5 q335 zr_5 (zg_402 _) (by decide) (fun v1 => ?_)
  refine r_iload_n E dX3_give_8 rfl 1 rfl ?_
  refine r_iastore E zc_401 za_401 zt_401 zo_401 zx_401 rfl rfl dX3_give_9 (by decide) ?_
  refine r_aload_n E dX3_give_10 rfl 0 rfl ?_
  refine r_dup E (zn1 rfl) dX3_give_11 ?_
  refine r_get E zc_5 zt_402 dX3_give_12 q335 zr_5 (zg_402 _) (by decide) (fun v2 => ?_)
  refine r_iconst E dX3_give_15 (zkI (by decide) (by decide)) ?_
  refine r_iadd E dX3_give_16 ?_
  refine r_put E zc_5 zt_402 zo_402 dX3_give_17 q335 zr_5 zw_X3 zp_402 (fun _ => rfl) (fun _ => rfl) (by decide) ?_
  exact r_return E rfl hT dX3_give_20
theorem k_fX3_give (l : Launch) (G : zG) (x1 : Int) : zCt l G yX3_give cX3_give 2 none 0 [(5, 0), (0, x1)] none (fX3_give x1) := zCt.of (by decide) (Nat.le_of_ble_eq_true rfl) (fun K E _ _ hN hT => w_fX3_give E hN hT x1)
theorem dX1_resize_0 : decode cX1_resize 0 = .ok (.aload_n 1, 1) := by decide +kernel
theorem dX1_resize_1 : decode cX1_resize 1 = .ok (.getfield 143, 3) := by decide +kernel
theorem dX1_resize_4 : decode cX1_resize 4 = .ok (.invokestatic 146, 3) := by decide +kernel
theorem dX1_resize_7 : decode cX1_resize 7 = .ok (.istore_n 3, 1) := by decide +kernel
theorem dX1_resize_8 : decode cX1_resize 8 = .ok (.iload_n 2, 1) := by decide +kernel
theorem dX1_resize_9 : decode cX1_resize 9 = .ok (.invokestatic 146, 3) := by decide +kernel
theorem dX1_resize_12 : decode cX1_resize 12 = .ok (.istore 4, 2) := by decide +kernel
theorem dX1_resize_14 : decode cX1_resize 14 = .ok (.iload 4, 2) := by decide +kernel
theorem dX1_resize_16 : decode cX1_resize 16 = .ok (.istore 5, 2) := by decide +kernel
theorem dX1_resize_18 : decode cX1_resize 18 = .ok (.iload 5, 2) := by decide +kernel
theorem dX1_resize_20 : decode cX1_resize 20 = .ok (.iload_n 3, 1) := by decide +kernel
theorem dX1_resize_21 : decode cX1_resize 21 = .ok (.if_icmp .ge 23, 3) := by decide +kernel
theorem dX1_resize_24 : decode cX1_resize 24 = .ok (.aload_n 0, 1) := by decide +kernel
theorem dX1_resize_25 : decode cX1_resize 25 = .ok (.getfield 27, 3) := by decide +kernel
theorem dX1_resize_28 : decode cX1_resize 28 = .ok (.aload_n 1, 1) := by decide +kernel
theorem dX1_resize_29 : decode cX1_resize 29 = .ok (.getfield 150, 3) := by decide +kernel
theorem dX1_resize_32 : decode cX1_resize 32 = .ok (.iload 5, 2) := by decide +kernel
theorem dX1_resize_34 : decode cX1_resize 34 = .ok (.iaload, 1) := by decide +kernel
theorem dX1_resize_35 : decode cX1_resize 35 = .ok (.invokevirtual 154, 3) := by decide +kernel
theorem dX1_resize_38 : decode cX1_resize 38 = .ok (.iinc 5 1, 3) := by decide +kernel
theorem dX1_resize_41 : decode cX1_resize 41 = .ok (.goto (-23), 3) := by decide +kernel
theorem dX1_resize_44 : decode cX1_resize 44 = .ok (.iload_n 2, 1) := by decide +kernel
theorem dX1_resize_45 : decode cX1_resize 45 = .ok (.aload_n 1, 1) := by decide +kernel
theorem dX1_resize_46 : decode cX1_resize 46 = .ok (.getfield 143, 3) := by decide +kernel
theorem dX1_resize_49 : decode cX1_resize 49 = .ok (.if_icmp .ge 30, 3) := by decide +kernel
theorem dX1_resize_52 : decode cX1_resize 52 = .ok (.iload_n 2, 1) := by decide +kernel
theorem dX1_resize_53 : decode cX1_resize 53 = .ok (.bipush 64, 2) := by decide +kernel
theorem dX1_resize_55 : decode cX1_resize 55 = .ok (.irem, 1) := by decide +kernel
theorem dX1_resize_56 : decode cX1_resize 56 = .ok (.ifCond .le 23, 3) := by decide +kernel
theorem dX1_resize_59 : decode cX1_resize 59 = .ok (.aload_n 0, 1) := by decide +kernel
theorem dX1_resize_60 : decode cX1_resize 60 = .ok (.getfield 27, 3) := by decide +kernel
theorem dX1_resize_63 : decode cX1_resize 63 = .ok (.aload_n 1, 1) := by decide +kernel
theorem dX1_resize_64 : decode cX1_resize 64 = .ok (.getfield 150, 3) := by decide +kernel
theorem dX1_resize_67 : decode cX1_resize 67 = .ok (.iload 4, 2) := by decide +kernel
theorem dX1_resize_69 : decode cX1_resize 69 = .ok (.iconst 1, 1) := by decide +kernel
theorem dX1_resize_70 : decode cX1_resize 70 = .ok (.isub, 1) := by decide +kernel
theorem dX1_resize_71 : decode cX1_resize 71 = .ok (.iaload, 1) := by decide +kernel
theorem dX1_resize_72 : decode cX1_resize 72 = .ok (.iload_n 2, 1) := by decide +kernel
theorem dX1_resize_73 : decode cX1_resize 73 = .ok (.bipush 64, 2) := by decide +kernel
theorem dX1_resize_75 : decode cX1_resize 75 = .ok (.irem, 1) := by decide +kernel
theorem dX1_resize_76 : decode cX1_resize 76 = .ok (.invokevirtual 157, 3) := by decide +kernel
theorem dX1_resize_79 : decode cX1_resize 79 = .ok (.iload_n 3, 1) := by decide +kernel
theorem dX1_resize_80 : decode cX1_resize 80 = .ok (.istore 5, 2) := by decide +kernel
theorem dX1_resize_82 : decode cX1_resize 82 = .ok (.iload 5, 2) := by decide +kernel
theorem dX1_resize_84 : decode cX1_resize 84 = .ok (.iload 4, 2) := by decide +kernel
theorem dX1_resize_86 : decode cX1_resize 86 = .ok (.if_icmp .ge 23, 3) := by decide +kernel
theorem dX1_resize_89 : decode cX1_resize 89 = .ok (.aload_n 1, 1) := by decide +kernel
theorem dX1_resize_90 : decode cX1_resize 90 = .ok (.getfield 150, 3) := by decide +kernel
theorem dX1_resize_93 : decode cX1_resize 93 = .ok (.iload 5, 2) := by decide +kernel
theorem dX1_resize_95 : decode cX1_resize 95 = .ok (.aload_n 0, 1) := by decide +kernel
theorem dX1_resize_96 : decode cX1_resize 96 = .ok (.getfield 27, 3) := by decide +kernel
theorem dX1_resize_99 : decode cX1_resize 99 = .ok (.invokevirtual 161, 3) := by decide +kernel
theorem dX1_resize_102 : decode cX1_resize 102 = .ok (.iastore, 1) := by decide +kernel
theorem dX1_resize_103 : decode cX1_resize 103 = .ok (.iinc 5 1, 3) := by decide +kernel
theorem dX1_resize_106 : decode cX1_resize 106 = .ok (.goto (-24), 3) := by decide +kernel
theorem dX1_resize_109 : decode cX1_resize 109 = .ok (.aload_n 1, 1) := by decide +kernel
theorem dX1_resize_110 : decode cX1_resize 110 = .ok (.iload_n 2, 1) := by decide +kernel
theorem dX1_resize_111 : decode cX1_resize 111 = .ok (.putfield 143, 3) := by decide +kernel
theorem dX1_resize_114 : decode cX1_resize 114 = .ok (.aload_n 0, 1) := by decide +kernel
theorem dX1_resize_115 : decode cX1_resize 115 = .ok (.aload_n 1, 1) := by decide +kernel
theorem dX1_resize_116 : decode cX1_resize 116 = .ok (.getfield 99, 3) := by decide +kernel
theorem dX1_resize_119 : decode cX1_resize 119 = .ok (.iload 4, 2) := by decide +kernel
theorem dX1_resize_121 : decode cX1_resize 121 = .ok (.iload_n 3, 1) := by decide +kernel
theorem dX1_resize_122 : decode cX1_resize 122 = .ok (.isub, 1) := by decide +kernel
theorem dX1_resize_123 : decode cX1_resize 123 = .ok (.invokevirtual 139, 3) := by decide +kernel
theorem dX1_resize_126 : decode cX1_resize 126 = .ok (.return_, 1) := by decide +kernel
theorem zy_X1_resize : yX1_resize.cls ≠ "java/lang/invoke/MethodHandle" ∧ yX1_resize.cls ≠ "java/lang/invoke/VarHandle" ∧ (parseMethodDescriptor yX1_resize.desc).map (fun d => d.parameters.length) = some 2 := by decide +kernel
theorem w_fX1_resize_J109 {K : zK} (E : zE K cX1_resize "RingHouse$Tree" none 2) (hN : zNl K = 6) (hT : zTr K = none) (x1 : Int) (x2 : Int) (x3 : Int) (x4 : Int) : zR K 109 [(0, 3, 0), (1, 6, x1), (2, 0, x2), (3, 0, x3), (4, 0, x4)] [] (fX1_resize_J109 x1 x2 x3 x4) := by
  refine r_aload_n E dX1_resize_109 rfl 1 rfl ?_
  refine r_iload_n E dX1_resize_110 rfl 2 rfl ?_
  refine r_nn E (fun hn7 => ?_)
  refine r_putN E zc_6 zt_522 zo_522 dX1_resize_111 q479 zr_6 zw_X4 zp_522 (fun _ => rfl) (fun _ => rfl) hn7 ?_
  refine r_aload_n E dX1_resize_114 rfl 0 rfl ?_
  refine r_aload_n E dX1_resize_115 rfl 1 rfl ?_
  refine r_getN E zc_6 zt_504 dX1_resize_116 q399 zr_6 (zg_504 _) hn7 (fun v8 => ?_)
  refine r_iload E dX1_resize_119 4 rfl ?_
  refine r_iload_n E dX1_resize_121 rfl 3 rfl ?_
  refine r_isub E dX1_resize_122 ?_
  refine r_callV E [(6, v8), (0, (zi (x4 - x3)))] [] rfl zc_3 zr_3 (fun o _ => ⟨_, zw_X1.1 o, rfl⟩) (lw_V q1931 q1933 qs3 q228 q1934) dX1_resize_123 zy_X1_charge rfl (by omega) (by decide) (Nat.le_of_ble_eq_true rfl) (by decide) (fun l G => k_fX1_charge l G v8 (zi (x4 - x3))) (fun _ => ?_)
  exact r_return E rfl hT dX1_resize_126
theorem w_fX1_resize_B82 {K : zK} (E : zE K cX1_resize "RingHouse$Tree" none 2) (hN : zNl K = 6) (hT : zTr K = none) (x1 : Int) (x2 : Int) (x3 : Int) (x4 : Int) : ∀ r82 : Int → zX, (∀ s : Int, zR K 82 [(0, 3, 0), (1, 6, x1), (2, 0, x2), (3, 0, x3), (4, 0, x4), (5, 0, s)] [] (r82 s)) → ∀ s : Int, zR K 82 [(0, 3, 0), (1, 6, x1), (2, 0, x2), (3, 0, x3), (4, 0, x4), (5, 0, s)] [] (fX1_resize_B82 x1 x2 x3 x4 r82 s) := by
  intro r82 hr82 x5
  refine r_iload E dX1_resize_82 5 rfl ?_
  refine r_iload E dX1_resize_84 4 rfl ?_
  refine r_icmp_ge E 109 (by decide) dX1_resize_86 (fun _ => ?_) (fun _ => ?_)
  · refine r_pick E [0, 1, 2, 3, 4] rfl ?_
    exact w_fX1_resize_J109 E hN hT x1 x2 x3 x4
  · refine r_aload_n E dX1_resize_89 rfl 1 rfl ?_
    refine r_nn E (fun hn10 => ?_)
    refine r_gecN (y := x1) E zc_6 dX1_resize_90 q483 zr_6 (zh_523 (by omega)) hn10 ?_
    refine r_iload E dX1_resize_93 5 rfl ?_
    refine r_aload_n E dX1_resize_95 rfl 0 rfl ?_
    refine r_gec (y := 0) E zc_3 dX1_resize_96 q592 zr_3 (zh_202 (by decide)) (by decide) ?_
    refine r_callV E [] [(0, x5), (523, x1)] rfl zc_5 zr_5 (fun o _ => ⟨_, zw_X3.1 o, rfl⟩) (lw_V q1958 q1959 q1960 q230 q1961) dX1_resize_99 zy_X3_take rfl (by omega) (by decide) (Nat.le_of_ble_eq_true rfl) (by decide) (fun l G => k_fX3_take l G) (fun v11 => ?_)
    refine r_iastore E zc_523 za_523 zt_523 zo_523 zx_523 rfl rfl dX1_resize_102 hn10 ?_
    refine r_iinc (ls' := fun v12 => [(5, 0, v12), (0, 3, 0), (1, 6, x1), (2, 0, x2), (3, 0, x3), (4, 0, x4)]) E 5 rfl (by rw [hN]; decide) (fun _ => rfl) dX1_resize_103 (fun v12 _ => ?_)
    refine r_goto E 82 (by decide) dX1_resize_106 ?_
    refine r_pick E [1, 2, 3, 4, 5, 0] rfl ?_
    exact hr82 v12
theorem w_fX1_resize_J79 {K : zK} (E : zE K cX1_resize "RingHouse$Tree" none 2) (hN : zNl K = 6) (hT : zTr K = none) (x1 : Int) (x2 : Int) (x3 : Int) (x4 : Int) : zR K 79 [(0, 3, 0), (1, 6, x1), (2, 0, x2), (3, 0, x3), (4, 0, x4)] [] (fX1_resize_J79 x1 x2 x3 x4) := by
  refine r_iload_n E dX1_resize_79 rfl 3 rfl ?_
  refine r_istore (ls' := [(5, 0, x3), (0, 3, 0), (1, 6, x1), (2, 0, x2), (3, 0, x3), (4, 0, x4)]) E dX1_resize_80 (by rw [hN]; decide) rfl ?_
  refine r_pick E [1, 2, 3, 4, 5, 0] rfl ?_
  exact r_loop (L := fun s => [(0, 3, 0), (1, 6, x1), (2, 0, x2), (3, 0, x3), (4, 0, x4), (5, 0, s)]) (w_fX1_resize_B82 E hN hT x1 x2 x3 x4) zBIG x3
theorem w_fX1_resize_J44 {K : zK} (E : zE K cX1_resize "RingHouse$Tree" none 2) (hN : zNl K = 6) (hT : zTr K = none) (x1 : Int) (x2 : Int) (x3 : Int) (x4 : Int) : zR K 44 [(0, 3, 0), (1, 6, x1), (2, 0, x2), (3, 0, x3), (4, 0, x4)] [] (fX1_resize_J44 x1 x2 x3 x4) := by
  refine r_iload_n E dX1_resize_44 rfl 2 rfl ?_
  refine r_aload_n E dX1_resize_45 rfl 1 rfl ?_
  refine r_nn E (fun hn5 => ?_)
  refine r_getN E zc_6 zt_522 dX1_resize_46 q479 zr_6 (zg_522 _) hn5 (fun v6 => ?_)
  refine r_icmp_ge E 79 (by decide) dX1_resize_49 (fun _ => ?_) (fun _ => ?_)
  · exact w_fX1_resize_J79 E hN hT x1 x2 x3 x4
  · refine r_iload_n E dX1_resize_52 rfl 2 rfl ?_
    refine r_bipush E dX1_resize_53 (by decide) (zkI (by decide) (by decide)) ?_
    refine r_irem E (by decide) dX1_resize_55 ?_
    refine r_if_le E 79 (by decide) dX1_resize_56 (fun _ => ?_) (fun _ => ?_)
    · exact w_fX1_resize_J79 E hN hT x1 x2 x3 x4
    · refine r_aload_n E dX1_resize_59 rfl 0 rfl ?_
      refine r_gec (y := 0) E zc_3 dX1_resize_60 q592 zr_3 (zh_202 (by decide)) (by decide) ?_
      refine r_aload_n E dX1_resize_63 rfl 1 rfl ?_
      refine r_gecN (y := x1) E zc_6 dX1_resize_64 q483 zr_6 (zh_523 (by omega)) hn5 ?_
      refine r_iload E dX1_resize_67 4 rfl ?_
      refine r_iconst E dX1_resize_69 (zkI (by decide) (by decide)) ?_
      refine r_isub E dX1_resize_70 ?_
      refine r_iaload E zc_523 za_523 zt_523 zx_523 rfl rfl dX1_resize_71 hn5 (fun v13 => ?_)
      refine r_iload_n E dX1_resize_72 rfl 2 rfl ?_
      refine r_bipush E dX1_resize_73 (by decide) (zkI (by decide) (by decide)) ?_
      refine r_irem E (by decide) dX1_resize_75 ?_
      refine r_callV E [(0, v13), (0, (Int.tmod x2 64))] [] rfl zc_5 zr_5 (fun o _ => ⟨_, zw_X3.1 o, rfl⟩) (lw_V q1954 q1955 q1956 q230 q1957) dX1_resize_76 zy_X3_clear rfl (by omega) (by decide) (Nat.le_of_ble_eq_true rfl) (by decide) (fun l G => k_fX3_clear l G v13 (Int.tmod x2 64)) (fun _ => ?_)
      exact w_fX1_resize_J79 E hN hT x1 x2 x3 x4
theorem w_fX1_resize_B18 {K : zK} (E : zE K cX1_resize "RingHouse$Tree" none 2) (hN : zNl K = 6) (hT : zTr K = none) (x1 : Int) (x2 : Int) (x3 : Int) (x4 : Int) : ∀ r18 : Int → zX, (∀ s : Int, zR K 18 [(0, 3, 0), (1, 6, x1), (2, 0, x2), (3, 0, x3), (4, 0, x4), (5, 0, s)] [] (r18 s)) → ∀ s : Int, zR K 18 [(0, 3, 0), (1, 6, x1), (2, 0, x2), (3, 0, x3), (4, 0, x4), (5, 0, s)] [] (fX1_resize_B18 x1 x2 x3 x4 r18 s) := by
  intro r18 hr18 x5
  refine r_iload E dX1_resize_18 5 rfl ?_
  refine r_iload_n E dX1_resize_20 rfl 3 rfl ?_
  refine r_icmp_ge E 44 (by decide) dX1_resize_21 (fun _ => ?_) (fun _ => ?_)
  · refine r_pick E [0, 1, 2, 3, 4] rfl ?_
    exact w_fX1_resize_J44 E hN hT x1 x2 x3 x4
  · refine r_aload_n E dX1_resize_24 rfl 0 rfl ?_
    refine r_gec (y := 0) E zc_3 dX1_resize_25 q592 zr_3 (zh_202 (by decide)) (by decide) ?_
    refine r_aload_n E dX1_resize_28 rfl 1 rfl ?_
    refine r_nn E (fun hn15 => ?_)
    refine r_gecN (y := x1) E zc_6 dX1_resize_29 q483 zr_6 (zh_523 (by omega)) hn15 ?_
    refine r_iload E dX1_resize_32 5 rfl ?_
    refine r_iaload E zc_523 za_523 zt_523 zx_523 rfl rfl dX1_resize_34 hn15 (fun v16 => ?_)
    refine r_callV E [(0, v16)] [] rfl zc_5 zr_5 (fun o _ => ⟨_, zw_X3.1 o, rfl⟩) (lw_V q1950 q1951 q1952 q230 q1953) dX1_resize_35 zy_X3_give rfl (by omega) (by decide) (Nat.le_of_ble_eq_true rfl) (by decide) (fun l G => k_fX3_give l G v16) (fun _ => ?_)
    refine r_iinc (ls' := fun v18 => [(5, 0, v18), (0, 3, 0), (1, 6, x1), (2, 0, x2), (3, 0, x3), (4, 0, x4)]) E 5 rfl (by rw [hN]; decide) (fun _ => rfl) dX1_resize_38 (fun v18 _ => ?_)
    refine r_goto E 18 (by decide) dX1_resize_41 ?_
    refine r_pick E [1, 2, 3, 4, 5, 0] rfl ?_
    exact hr18 v18
theorem w_fX1_resize {K : zK} (E : zE K cX1_resize "RingHouse$Tree" none 2) (hN : zNl K = 6) (hT : zTr K = none) (x1 : Int) (x2 : Int) : zR K 0 [(0, 3, 0), (1, 6, x1), (2, 0, x2)] [] (fX1_resize x1 x2) := by
  refine r_aload_n E dX1_resize_0 rfl 1 rfl ?_
  refine r_nn E (fun hn1 => ?_)
  refine r_getN E zc_6 zt_522 dX1_resize_1 q479 zr_6 (zg_522 _) hn1 (fun v2 => ?_)
  refine r_callSN E [(0, v2)] [] rfl q1949 q1929 q227 q1930 dX1_resize_4 zy_X0_records rfl (by omega) (by decide) (Nat.le_of_ble_eq_true rfl) (fun l G => k_fX0_records l G v2) (fun v3 => ?_)
  refine r_istore_n (ls' := [(3, 0, v3), (0, 3, 0), (1, 6, x1), (2, 0, x2)]) E dX1_resize_7 rfl (by rw [hN]; decide) rfl ?_
  refine r_iload_n E dX1_resize_8 rfl 3 rfl ?_
  refine r_callSN E [(0, x2)] [] rfl q1949 q1929 q227 q1930 dX1_resize_9 zy_X0_records rfl (by omega) (by decide) (Nat.le_of_ble_eq_true rfl) (fun l G => k_fX0_records l G x2) (fun v4 => ?_)
  refine r_istore (ls' := [(4, 0, v4), (3, 0, v3), (0, 3, 0), (1, 6, x1), (2, 0, x2)]) E dX1_resize_12 (by rw [hN]; decide) rfl ?_
  refine r_iload E dX1_resize_14 0 rfl ?_
  refine r_istore (ls' := [(5, 0, v4), (4, 0, v4), (3, 0, v3), (0, 3, 0), (1, 6, x1), (2, 0, x2)]) E dX1_resize_16 (by rw [hN]; decide) rfl ?_
  refine r_pick E [3, 4, 5, 2, 1, 0] rfl ?_
  exact r_loop (L := fun s => [(0, 3, 0), (1, 6, x1), (2, 0, x2), (3, 0, v3), (4, 0, v4), (5, 0, s)]) (w_fX1_resize_B18 E hN hT x1 x2 v3 v4) zBIG v4
theorem k_fX1_resize (l : Launch) (G : zG) (x1 : Int) (x2 : Int) : zCt l G yX1_resize cX1_resize 6 none 2 [(3, 0), (6, x1), (0, x2)] none (fX1_resize x1 x2) := zCt.of (by decide) (Nat.le_of_ble_eq_true rfl) (fun K E _ _ hN hT => w_fX1_resize E hN hT x1 x2)
theorem dX12_newSegment_0 : decode cX12_newSegment 0 = .ok (.aload_n 0, 1) := by decide +kernel
theorem dX12_newSegment_1 : decode cX12_newSegment 1 = .ok (.getfield 24, 3) := by decide +kernel
theorem dX12_newSegment_4 : decode cX12_newSegment 4 = .ok (.getfield 510, 3) := by decide +kernel
theorem dX12_newSegment_7 : decode cX12_newSegment 7 = .ok (.aload_n 1, 1) := by decide +kernel
theorem dX12_newSegment_8 : decode cX12_newSegment 8 = .ok (.lload_n 2, 1) := by decide +kernel
theorem dX12_newSegment_9 : decode cX12_newSegment 9 = .ok (.invokevirtual 513, 3) := by decide +kernel
theorem dX12_newSegment_12 : decode cX12_newSegment 12 = .ok (.ifnull 6, 3) := by decide +kernel
theorem dX12_newSegment_15 : decode cX12_newSegment 15 = .ok (.bipush (-6), 2) := by decide +kernel
theorem dX12_newSegment_17 : decode cX12_newSegment 17 = .ok (.ireturn, 1) := by decide +kernel
theorem dX12_newSegment_18 : decode cX12_newSegment 18 = .ok (.aload_n 0, 1) := by decide +kernel
theorem dX12_newSegment_19 : decode cX12_newSegment 19 = .ok (.getfield 24, 3) := by decide +kernel
theorem dX12_newSegment_22 : decode cX12_newSegment 22 = .ok (.aload_n 1, 1) := by decide +kernel
theorem dX12_newSegment_23 : decode cX12_newSegment 23 = .ok (.iconst 1, 1) := by decide +kernel
theorem dX12_newSegment_24 : decode cX12_newSegment 24 = .ok (.iload 4, 2) := by decide +kernel
theorem dX12_newSegment_26 : decode cX12_newSegment 26 = .ok (.invokestatic 555, 3) := by decide +kernel
theorem dX12_newSegment_29 : decode cX12_newSegment 29 = .ok (.iadd, 1) := by decide +kernel
theorem dX12_newSegment_30 : decode cX12_newSegment 30 = .ok (.invokevirtual 559, 3) := by decide +kernel
theorem dX12_newSegment_33 : decode cX12_newSegment 33 = .ok (.ifCond .ne 6, 3) := by decide +kernel
theorem dX12_newSegment_36 : decode cX12_newSegment 36 = .ok (.bipush (-5), 2) := by decide +kernel
theorem dX12_newSegment_38 : decode cX12_newSegment 38 = .ok (.ireturn, 1) := by decide +kernel
theorem dX12_newSegment_39 : decode cX12_newSegment 39 = .ok (.aload_n 0, 1) := by decide +kernel
theorem dX12_newSegment_40 : decode cX12_newSegment 40 = .ok (.getfield 24, 3) := by decide +kernel
theorem dX12_newSegment_43 : decode cX12_newSegment 43 = .ok (.aload_n 1, 1) := by decide +kernel
theorem dX12_newSegment_44 : decode cX12_newSegment 44 = .ok (.iconst 2, 1) := by decide +kernel
theorem dX12_newSegment_45 : decode cX12_newSegment 45 = .ok (.lload_n 2, 1) := by decide +kernel
theorem dX12_newSegment_46 : decode cX12_newSegment 46 = .ok (.aload_n 1, 1) := by decide +kernel
theorem dX12_newSegment_47 : decode cX12_newSegment 47 = .ok (.getfield 563, 3) := by decide +kernel
theorem dX12_newSegment_50 : decode cX12_newSegment 50 = .ok (.iconst 0, 1) := by decide +kernel
theorem dX12_newSegment_51 : decode cX12_newSegment 51 = .ok (.invokevirtual 566, 3) := by decide +kernel
theorem dX12_newSegment_54 : decode cX12_newSegment 54 = .ok (.astore 5, 2) := by decide +kernel
theorem dX12_newSegment_56 : decode cX12_newSegment 56 = .ok (.aload_n 0, 1) := by decide +kernel
theorem dX12_newSegment_57 : decode cX12_newSegment 57 = .ok (.getfield 24, 3) := by decide +kernel
theorem dX12_newSegment_60 : decode cX12_newSegment 60 = .ok (.aload 5, 2) := by decide +kernel
theorem dX12_newSegment_62 : decode cX12_newSegment 62 = .ok (.iload 4, 2) := by decide +kernel
theorem dX12_newSegment_64 : decode cX12_newSegment 64 = .ok (.invokevirtual 570, 3) := by decide +kernel
theorem dX12_newSegment_67 : decode cX12_newSegment 67 = .ok (.aload 5, 2) := by decide +kernel
theorem dX12_newSegment_69 : decode cX12_newSegment 69 = .ok (.getfield 303, 3) := by decide +kernel
theorem dX12_newSegment_72 : decode cX12_newSegment 72 = .ok (.ireturn, 1) := by decide +kernel
theorem zy_X12_newSegment : yX12_newSegment.cls ≠ "java/lang/invoke/MethodHandle" ∧ yX12_newSegment.cls ≠ "java/lang/invoke/VarHandle" ∧ (parseMethodDescriptor yX12_newSegment.desc).map (fun d => d.parameters.length) = some 3 := by decide +kernel
theorem w_fX12_newSegment {K : zK} (E : zE K cX12_newSegment "RingHouse$Machine" (some .int) 5) (hN : zNl K = 6) (hT : zTr K = (some 0)) (x1 : Int) (x2 : Int) (x4 : Int) : zR K 0 [(0, 14, 0), (1, 6, x1), (2, 1, x2), (4, 0, x4)] [] (fX12_newSegment x1 x2 x4) := by
  refine r_aload_n E dX12_newSegment_0 rfl 0 rfl ?_
  refine r_gec (y := 0) E zc_14 dX12_newSegment_1 q1526 zr_14 (zh_1300 (by decide)) (by decide) ?_
  refine r_gecN (y := 0) E zc_3 dX12_newSegment_4 q590 zr_3 (zh_201 (by decide)) (by decide) ?_
  refine r_aload_n E dX12_newSegment_7 rfl 1 rfl ?_
  refine r_lload_n E dX12_newSegment_8 rfl 2 rfl ?_
  refine r_callV E [(6, x1), (1, x2)] [] rfl zc_4 zr_4 (fun o _ => ⟨_, zw_X2.1 o, rfl⟩) (lw_V q1865 q1866 q1867 q229 q1868) dX12_newSegment_9 zy_X2_find rfl (by omega) (by decide) (Nat.le_of_ble_eq_true rfl) (by decide) (fun l G => k_fX2_find l G x1 x2) (fun v1 => ?_)
  refine r_ifnull E 18 (by decide) dX12_newSegment_12 (fun _ => ?_) (fun hz2 => ?_)
  · refine r_aload_n E dX12_newSegment_18 rfl 0 rfl ?_
    refine r_gec (y := 0) E zc_14 dX12_newSegment_19 q1526 zr_14 (zh_1300 (by decide)) (by decide) ?_
    refine r_aload_n E dX12_newSegment_22 rfl 1 rfl ?_
    refine r_iconst E dX12_newSegment_23 (zkI (by decide) (by decide)) ?_
    refine r_iload E dX12_newSegment_24 3 rfl ?_
    refine r_callSN E [(0, x4)] [(0, 1), (6, x1), (3, 0)] rfl q1944 q1929 q227 q1930 dX12_newSegment_26 zy_X0_records rfl (by omega) (by decide) (Nat.le_of_ble_eq_true rfl) (fun l G => k_fX0_records l G x4) (fun v3 => ?_)
    refine r_iadd E dX12_newSegment_29 ?_
    refine r_callV E [(6, x1), (0, (zi (1 + v3)))] [] rfl zc_3 zr_3 (fun o _ => ⟨_, zw_X1.1 o, rfl⟩) (lw_V q1875 q1876 q1877 q228 q1878) dX12_newSegment_30 zy_X1_bears rfl (by omega) (by decide) (Nat.le_of_ble_eq_true rfl) (by decide) (fun l G => k_fX1_bears l G x1 (zi (1 + v3))) (fun v4 => ?_)
    refine r_if_ne E 39 (by decide) dX12_newSegment_33 (fun _ => ?_) (fun _ => ?_)
    · refine r_aload_n E dX12_newSegment_39 rfl 0 rfl ?_
      refine r_gec (y := 0) E zc_14 dX12_newSegment_40 q1526 zr_14 (zh_1300 (by decide)) (by decide) ?_
      refine r_aload_n E dX12_newSegment_43 rfl 1 rfl ?_
      refine r_iconst E dX12_newSegment_44 (zkI (by decide) (by decide)) ?_
      refine r_lload_n E dX12_newSegment_45 rfl 2 rfl ?_
      refine r_aload_n E dX12_newSegment_46 rfl 1 rfl ?_
      refine r_nn E (fun hn5 => ?_)
      refine r_getN E zc_6 zt_503 dX12_newSegment_47 q395 zr_6 (zg_503 _) hn5 (fun v6 => ?_)
      refine r_iconst E dX12_newSegment_50 (zkI (by decide) (by decide)) ?_
      refine r_callV E [(6, x1), (0, 2), (1, x2), (0, v6), (0, 0)] [] rfl zc_3 zr_3 (fun o _ => ⟨_, zw_X1.1 o, rfl⟩) (lw_V q1883 q1884 q1885 q228 q1886) dX12_newSegment_51 zy_X1_make rfl (by omega) (by decide) (Nat.le_of_ble_eq_true rfl) (by decide) (fun l G => k_fX1_make l G x1 2 x2 v6 0) (fun v7 => ?_)
      refine r_astore (ls' := [(5, 6, v7), (0, 14, 0), (1, 6, x1), (2, 1, x2), (4, 0, x4)]) E dX12_newSegment_54 (by rw [hN]; decide) rfl ?_
      refine r_aload_n E dX12_newSegment_56 rfl 1 rfl ?_
      refine r_gec (y := 0) E zc_14 dX12_newSegment_57 q1526 zr_14 (zh_1300 (by decide)) (by decide) ?_
      refine r_aload E dX12_newSegment_60 0 rfl ?_
      refine r_iload E dX12_newSegment_62 4 rfl ?_
      refine r_callV E [(6, v7), (0, x4)] [] rfl zc_3 zr_3 (fun o _ => ⟨_, zw_X1.1 o, rfl⟩) (lw_V q1945 q1946 q1947 q228 q1948) dX12_newSegment_64 zy_X1_resize rfl (by omega) (by decide) (Nat.le_of_ble_eq_true rfl) (by decide) (fun l G => k_fX1_resize l G v7 x4) (fun _ => ?_)
      refine r_aload E dX12_newSegment_67 0 rfl ?_
      refine r_nn E (fun hn9 => ?_)
      refine r_gecN (y := v7) E zc_6 dX12_newSegment_69 q374 zr_6 (zh_500 (by omega)) hn9 ?_
      exact r_ireturn E rfl hT dX12_newSegment_72
    · refine r_bipush E dX12_newSegment_36 (by decide) (zkI (by decide) (by decide)) ?_
      exact r_ireturn E rfl hT dX12_newSegment_38
  · refine r_bipush E dX12_newSegment_15 (by decide) (zkI (by decide) (by decide)) ?_
    exact r_ireturn E rfl hT dX12_newSegment_17
theorem k_fX12_newSegment (l : Launch) (G : zG) (x1 : Int) (x2 : Int) (x4 : Int) : zCt l G yX12_newSegment cX12_newSegment 6 (some .int) 5 [(14, 0), (6, x1), (1, x2), (0, x4)] (some 0) (fX12_newSegment x1 x2 x4) := zCt.of (by decide) (Nat.le_of_ble_eq_true rfl) (fun K E _ _ hN hT => w_fX12_newSegment E hN hT x1 x2 x4)
theorem dX0_segment_0 : decode cX0_segment 0 = .ok (.aload_n 0, 1) := by decide +kernel
theorem dX0_segment_1 : decode cX0_segment 1 = .ok (.getfield 42, 3) := by decide +kernel
theorem dX0_segment_4 : decode cX0_segment 4 = .ok (.iload_n 1, 1) := by decide +kernel
theorem dX0_segment_5 : decode cX0_segment 5 = .ok (.invokevirtual 115, 3) := by decide +kernel
theorem dX0_segment_8 : decode cX0_segment 8 = .ok (.astore 5, 2) := by decide +kernel
theorem dX0_segment_10 : decode cX0_segment 10 = .ok (.aload 5, 2) := by decide +kernel
theorem dX0_segment_12 : decode cX0_segment 12 = .ok (.ifnull 23, 3) := by decide +kernel
theorem dX0_segment_15 : decode cX0_segment 15 = .ok (.lload_n 2, 1) := by decide +kernel
theorem dX0_segment_16 : decode cX0_segment 16 = .ok (.invokestatic 119, 3) := by decide +kernel
theorem dX0_segment_19 : decode cX0_segment 19 = .ok (.ifCond .eq 16, 3) := by decide +kernel
theorem dX0_segment_22 : decode cX0_segment 22 = .ok (.iload 4, 2) := by decide +kernel
theorem dX0_segment_24 : decode cX0_segment 24 = .ok (.i2l, 1) := by decide +kernel
theorem dX0_segment_25 : decode cX0_segment 25 = .ok (.lconst 0, 1) := by decide +kernel
theorem dX0_segment_26 : decode cX0_segment 26 = .ok (.ldc2_w 138, 3) := by decide +kernel
theorem dX0_segment_29 : decode cX0_segment 29 = .ok (.invokestatic 17, 3) := by decide +kernel
theorem dX0_segment_32 : decode cX0_segment 32 = .ok (.ifCond .ne 8, 3) := by decide +kernel
theorem dX0_segment_35 : decode cX0_segment 35 = .ok (.bipush (-8), 2) := by decide +kernel
theorem dX0_segment_37 : decode cX0_segment 37 = .ok (.goto 15, 3) := by decide +kernel
theorem dX0_segment_40 : decode cX0_segment 40 = .ok (.aload_n 0, 1) := by decide +kernel
theorem dX0_segment_41 : decode cX0_segment 41 = .ok (.getfield 76, 3) := by decide +kernel
theorem dX0_segment_44 : decode cX0_segment 44 = .ok (.aload 5, 2) := by decide +kernel
theorem dX0_segment_46 : decode cX0_segment 46 = .ok (.lload_n 2, 1) := by decide +kernel
theorem dX0_segment_47 : decode cX0_segment 47 = .ok (.iload 4, 2) := by decide +kernel
theorem dX0_segment_49 : decode cX0_segment 49 = .ok (.invokevirtual 140, 3) := by decide +kernel
theorem dX0_segment_52 : decode cX0_segment 52 = .ok (.ireturn, 1) := by decide +kernel
theorem zy_X0_segment : yX0_segment.cls ≠ "java/lang/invoke/MethodHandle" ∧ yX0_segment.cls ≠ "java/lang/invoke/VarHandle" ∧ (parseMethodDescriptor yX0_segment.desc).map (fun d => d.parameters.length) = some 3 := by decide +kernel
theorem w_fX0_segment {K : zK} (E : zE K cX0_segment "RingHouse" (some .int) 6) (hN : zNl K = 6) (hT : zTr K = (some 0)) (x1 : Int) (x2 : Int) (x4 : Int) : zR K 0 [(0, 2, 0), (1, 0, x1), (2, 1, x2), (4, 0, x4)] [] (fX0_segment x1 x2 x4) := by
  refine r_aload_n E dX0_segment_0 rfl 0 rfl ?_
  refine r_gec (y := 0) E zc_2 dX0_segment_1 q1790 zr_2 (zh_100 (by decide)) (by decide) ?_
  refine r_iload_n E dX0_segment_4 rfl 1 rfl ?_
  refine r_callV E [(0, x1)] [] rfl zc_3 zr_3 (fun o _ => ⟨_, zw_X1.1 o, rfl⟩) (lw_V q1825 q1826 q1827 q228 q1828) dX0_segment_5 zy_X1_directory rfl (by omega) (by decide) (Nat.le_of_ble_eq_true rfl) (by decide) (fun l G => k_fX1_directory l G x1) (fun v1 => ?_)
  refine r_astore (ls' := [(5, 6, v1), (0, 2, 0), (1, 0, x1), (2, 1, x2), (4, 0, x4)]) E dX0_segment_8 (by rw [hN]; decide) rfl ?_
  refine r_aload E dX0_segment_10 0 rfl ?_
  refine r_ifnull E 35 (by decide) dX0_segment_12 (fun _ => ?_) (fun hz2 => ?_)
  · refine r_bipush E dX0_segment_35 (by decide) (zkI (by decide) (by decide)) ?_
    refine r_goto E 52 (by decide) dX0_segment_37 ?_
    exact r_ireturn E rfl hT dX0_segment_52
  · refine r_lload_n E dX0_segment_15 rfl 3 rfl ?_
    refine r_callS E [(1, x2)] [] rfl q1841 q1842 q227 q1843 dX0_segment_16 zy_X0_isName rfl (by omega) (by decide) (Nat.le_of_ble_eq_true rfl) (fun l G => k_fX0_isName l G x2) (fun v3 => ?_)
    refine r_if_eq E 35 (by decide) dX0_segment_19 (fun _ => ?_) (fun _ => ?_)
    · refine r_bipush E dX0_segment_35 (by decide) (zkI (by decide) (by decide)) ?_
      refine r_goto E 52 (by decide) dX0_segment_37 ?_
      exact r_ireturn E rfl hT dX0_segment_52
    · refine r_iload E dX0_segment_22 4 rfl ?_
      refine r_i2l E dX0_segment_24 ?_
      refine r_lconst (v := 0) E dX0_segment_25 (by decide) (zkJ (by decide) (by decide)) ?_
      refine r_ldc2 (v := 1024) E dX0_segment_26 q1939 (by decide) (zkJ (by decide) (by decide)) ?_
      refine r_callS E [(1, x4), (1, 0), (1, 1024)] [] rfl q1853 q1835 q227 q1836 dX0_segment_29 zy_X0_isIn rfl (by omega) (by decide) (Nat.le_of_ble_eq_true rfl) (fun l G => k_fX0_isIn l G x4 0 1024) (fun v4 => ?_)
      refine r_if_ne E 40 (by decide) dX0_segment_32 (fun _ => ?_) (fun _ => ?_)
      · refine r_aload_n E dX0_segment_40 rfl 1 rfl ?_
        refine r_gec (y := 0) E zc_2 dX0_segment_41 q1792 zr_2 (zh_102 (by decide)) (by decide) ?_
        refine r_aload E dX0_segment_44 0 rfl ?_
        refine r_lload_n E dX0_segment_46 rfl 3 rfl ?_
        refine r_iload E dX0_segment_47 4 rfl ?_
        refine r_callVN E [(6, v1), (1, x2), (0, x4)] [] rfl zc_14 zr_14 (fun o _ => ⟨_, zw_X12.1 o, rfl⟩) q1940 q1942 qs4 q239 q1943 dX0_segment_49 zy_X12_newSegment rfl (by omega) (by decide) (Nat.le_of_ble_eq_true rfl) (by decide) (fun l G => k_fX12_newSegment l G v1 x2 x4) (fun v5 => ?_)
        exact r_ireturn E rfl hT dX0_segment_52
      · refine r_bipush E dX0_segment_35 (by decide) (zkI (by decide) (by decide)) ?_
        refine r_goto E 52 (by decide) dX0_segment_37 ?_
        exact r_ireturn E rfl hT dX0_segment_52
theorem k_fX0_segment (l : Launch) (G : zG) (x1 : Int) (x2 : Int) (x4 : Int) : zCt l G yX0_segment cX0_segment 6 (some .int) 6 [(2, 0), (0, x1), (1, x2), (0, x4)] (some 0) (fX0_segment x1 x2 x4) := zCt.of (by decide) (Nat.le_of_ble_eq_true rfl) (fun K E _ _ hN hT => w_fX0_segment E hN hT x1 x2 x4)
theorem dX12_newMailbox_0 : decode cX12_newMailbox 0 = .ok (.aload_n 0, 1) := by decide +kernel
theorem dX12_newMailbox_1 : decode cX12_newMailbox 1 = .ok (.getfield 24, 3) := by decide +kernel
theorem dX12_newMailbox_4 : decode cX12_newMailbox 4 = .ok (.getfield 510, 3) := by decide +kernel
theorem dX12_newMailbox_7 : decode cX12_newMailbox 7 = .ok (.aload_n 1, 1) := by decide +kernel
theorem dX12_newMailbox_8 : decode cX12_newMailbox 8 = .ok (.lload_n 2, 1) := by decide +kernel
theorem dX12_newMailbox_9 : decode cX12_newMailbox 9 = .ok (.invokevirtual 513, 3) := by decide +kernel
theorem dX12_newMailbox_12 : decode cX12_newMailbox 12 = .ok (.ifnull 6, 3) := by decide +kernel
theorem dX12_newMailbox_15 : decode cX12_newMailbox 15 = .ok (.bipush (-6), 2) := by decide +kernel
theorem dX12_newMailbox_17 : decode cX12_newMailbox 17 = .ok (.ireturn, 1) := by decide +kernel
theorem dX12_newMailbox_18 : decode cX12_newMailbox 18 = .ok (.aload_n 0, 1) := by decide +kernel
theorem dX12_newMailbox_19 : decode cX12_newMailbox 19 = .ok (.getfield 24, 3) := by decide +kernel
theorem dX12_newMailbox_22 : decode cX12_newMailbox 22 = .ok (.aload_n 1, 1) := by decide +kernel
theorem dX12_newMailbox_23 : decode cX12_newMailbox 23 = .ok (.bipush 17, 2) := by decide +kernel
theorem dX12_newMailbox_25 : decode cX12_newMailbox 25 = .ok (.invokevirtual 559, 3) := by decide +kernel
theorem dX12_newMailbox_28 : decode cX12_newMailbox 28 = .ok (.ifCond .eq 24, 3) := by decide +kernel
theorem dX12_newMailbox_31 : decode cX12_newMailbox 31 = .ok (.aload_n 0, 1) := by decide +kernel
theorem dX12_newMailbox_32 : decode cX12_newMailbox 32 = .ok (.getfield 24, 3) := by decide +kernel
theorem dX12_newMailbox_35 : decode cX12_newMailbox 35 = .ok (.aload_n 1, 1) := by decide +kernel
theorem dX12_newMailbox_36 : decode cX12_newMailbox 36 = .ok (.iconst 3, 1) := by decide +kernel
theorem dX12_newMailbox_37 : decode cX12_newMailbox 37 = .ok (.lload_n 2, 1) := by decide +kernel
theorem dX12_newMailbox_38 : decode cX12_newMailbox 38 = .ok (.aload_n 1, 1) := by decide +kernel
theorem dX12_newMailbox_39 : decode cX12_newMailbox 39 = .ok (.getfield 563, 3) := by decide +kernel
theorem dX12_newMailbox_42 : decode cX12_newMailbox 42 = .ok (.iconst 0, 1) := by decide +kernel
theorem dX12_newMailbox_43 : decode cX12_newMailbox 43 = .ok (.invokevirtual 566, 3) := by decide +kernel
theorem dX12_newMailbox_46 : decode cX12_newMailbox 46 = .ok (.getfield 303, 3) := by decide +kernel
theorem dX12_newMailbox_49 : decode cX12_newMailbox 49 = .ok (.goto 5, 3) := by decide +kernel
theorem dX12_newMailbox_52 : decode cX12_newMailbox 52 = .ok (.bipush (-5), 2) := by decide +kernel
theorem dX12_newMailbox_54 : decode cX12_newMailbox 54 = .ok (.ireturn, 1) := by decide +kernel
theorem zy_X12_newMailbox : yX12_newMailbox.cls ≠ "java/lang/invoke/MethodHandle" ∧ yX12_newMailbox.cls ≠ "java/lang/invoke/VarHandle" ∧ (parseMethodDescriptor yX12_newMailbox.desc).map (fun d => d.parameters.length) = some 2 := by decide +kernel
theorem w_fX12_newMailbox {K : zK} (E : zE K cX12_newMailbox "RingHouse$Machine" (some .int) 5) (hN : zNl K = 4) (hT : zTr K = (some 0)) (x1 : Int) (x2 : Int) : zR K 0 [(0, 14, 0), (1, 6, x1), (2, 1, x2)] [] (fX12_newMailbox x1 x2) := by
  refine r_aload_n E dX12_newMailbox_0 rfl 0 rfl ?_
  refine r_gec (y := 0) E zc_14 dX12_newMailbox_1 q1526 zr_14 (zh_1300 (by decide)) (by decide) ?_
  refine r_gecN (y := 0) E zc_3 dX12_newMailbox_4 q590 zr_3 (zh_201 (by decide)) (by decide) ?_
  refine r_aload_n E dX12_newMailbox_7 rfl 1 rfl ?_
  refine r_lload_n E dX12_newMailbox_8 rfl 2 rfl ?_
  refine r_callV E [(6, x1), (1, x2)] [] rfl zc_4 zr_4 (fun o _ => ⟨_, zw_X2.1 o, rfl⟩) (lw_V q1865 q1866 q1867 q229 q1868) dX12_newMailbox_9 zy_X2_find rfl (by omega) (by decide) (Nat.le_of_ble_eq_true rfl) (by decide) (fun l G => k_fX2_find l G x1 x2) (fun v1 => ?_)
  refine r_ifnull E 18 (by decide) dX12_newMailbox_12 (fun _ => ?_) (fun hz2 => ?_)
  · refine r_aload_n E dX12_newMailbox_18 rfl 0 rfl ?_
    refine r_gec (y := 0) E zc_14 dX12_newMailbox_19 q1526 zr_14 (zh_1300 (by decide)) (by decide) ?_
    refine r_aload_n E dX12_newMailbox_22 rfl 1 rfl ?_
    refine r_bipush E dX12_newMailbox_23 (by decide) (zkI (by decide) (by decide)) ?_
    refine r_callV E [(6, x1), (0, 17)] [] rfl zc_3 zr_3 (fun o _ => ⟨_, zw_X1.1 o, rfl⟩) (lw_V q1875 q1876 q1877 q228 q1878) dX12_newMailbox_25 zy_X1_bears rfl (by omega) (by decide) (Nat.le_of_ble_eq_true rfl) (by decide) (fun l G => k_fX1_bears l G x1 17) (fun v3 => ?_)
    refine r_if_eq E 52 (by decide) dX12_newMailbox_28 (fun _ => ?_) (fun _ => ?_)
    · refine r_bipush E dX12_newMailbox_52 (by decide) (zkI (by decide) (by decide)) ?_
      exact r_ireturn E rfl hT dX12_newMailbox_54
    · refine r_aload_n E dX12_newMailbox_31 rfl 0 rfl ?_
      refine r_gec (y := 0) E zc_14 dX12_newMailbox_32 q1526 zr_14 (zh_1300 (by decide)) (by decide) ?_
      refine r_aload_n E dX12_newMailbox_35 rfl 1 rfl ?_
      refine r_iconst E dX12_newMailbox_36 (zkI (by decide) (by decide)) ?_
      refine r_lload_n E dX12_newMailbox_37 rfl 2 rfl ?_
      refine r_aload_n E dX12_newMailbox_38 rfl 1 rfl ?_
      refine r_nn E (fun hn4 => ?_)
      refine r_getN E zc_6 zt_503 dX12_newMailbox_39 q395 zr_6 (zg_503 _) hn4 (fun v5 => ?_)
      refine r_iconst E dX12_newMailbox_42 (zkI (by decide) (by decide)) ?_
      refine r_callV E [(6, x1), (0, 3), (1, x2), (0, v5), (0, 0)] [] rfl zc_3 zr_3 (fun o _ => ⟨_, zw_X1.1 o, rfl⟩) (lw_V q1883 q1884 q1885 q228 q1886) dX12_newMailbox_43 zy_X1_make rfl (by omega) (by decide) (Nat.le_of_ble_eq_true rfl) (by decide) (fun l G => k_fX1_make l G x1 3 x2 v5 0) (fun v6 => ?_)
      refine r_nn E (fun hn7 => ?_)
      refine r_gecN (y := v6) E zc_6 dX12_newMailbox_46 q374 zr_6 (zh_500 (by omega)) hn7 ?_
      refine r_goto E 54 (by decide) dX12_newMailbox_49 ?_
      exact r_ireturn E rfl hT dX12_newMailbox_54
  · refine r_bipush E dX12_newMailbox_15 (by decide) (zkI (by decide) (by decide)) ?_
    exact r_ireturn E rfl hT dX12_newMailbox_17
theorem k_fX12_newMailbox (l : Launch) (G : zG) (x1 : Int) (x2 : Int) : zCt l G yX12_newMailbox cX12_newMailbox 4 (some .int) 5 [(14, 0), (6, x1), (1, x2)] (some 0) (fX12_newMailbox x1 x2) := zCt.of (by decide) (Nat.le_of_ble_eq_true rfl) (fun K E _ _ hN hT => w_fX12_newMailbox E hN hT x1 x2)
theorem dX0_mailbox_0 : decode cX0_mailbox 0 = .ok (.aload_n 0, 1) := by decide +kernel
theorem dX0_mailbox_1 : decode cX0_mailbox 1 = .ok (.getfield 42, 3) := by decide +kernel
theorem dX0_mailbox_4 : decode cX0_mailbox 4 = .ok (.iload_n 1, 1) := by decide +kernel
theorem dX0_mailbox_5 : decode cX0_mailbox 5 = .ok (.invokevirtual 115, 3) := by decide +kernel
theorem dX0_mailbox_8 : decode cX0_mailbox 8 = .ok (.astore 4, 2) := by decide +kernel
theorem dX0_mailbox_10 : decode cX0_mailbox 10 = .ok (.aload 4, 2) := by decide +kernel
theorem dX0_mailbox_12 : decode cX0_mailbox 12 = .ok (.ifnull 10, 3) := by decide +kernel
theorem dX0_mailbox_15 : decode cX0_mailbox 15 = .ok (.lload_n 2, 1) := by decide +kernel
theorem dX0_mailbox_16 : decode cX0_mailbox 16 = .ok (.invokestatic 119, 3) := by decide +kernel
theorem dX0_mailbox_19 : decode cX0_mailbox 19 = .ok (.ifCond .ne 8, 3) := by decide +kernel
theorem dX0_mailbox_22 : decode cX0_mailbox 22 = .ok (.bipush (-8), 2) := by decide +kernel
theorem dX0_mailbox_24 : decode cX0_mailbox 24 = .ok (.goto 13, 3) := by decide +kernel
theorem dX0_mailbox_27 : decode cX0_mailbox 27 = .ok (.aload_n 0, 1) := by decide +kernel
theorem dX0_mailbox_28 : decode cX0_mailbox 28 = .ok (.getfield 76, 3) := by decide +kernel
theorem dX0_mailbox_31 : decode cX0_mailbox 31 = .ok (.aload 4, 2) := by decide +kernel
theorem dX0_mailbox_33 : decode cX0_mailbox 33 = .ok (.lload_n 2, 1) := by decide +kernel
theorem dX0_mailbox_34 : decode cX0_mailbox 34 = .ok (.invokevirtual 144, 3) := by decide +kernel
theorem dX0_mailbox_37 : decode cX0_mailbox 37 = .ok (.ireturn, 1) := by decide +kernel
theorem zy_X0_mailbox : yX0_mailbox.cls ≠ "java/lang/invoke/MethodHandle" ∧ yX0_mailbox.cls ≠ "java/lang/invoke/VarHandle" ∧ (parseMethodDescriptor yX0_mailbox.desc).map (fun d => d.parameters.length) = some 2 := by decide +kernel
theorem w_fX0_mailbox {K : zK} (E : zE K cX0_mailbox "RingHouse" (some .int) 6) (hN : zNl K = 5) (hT : zTr K = (some 0)) (x1 : Int) (x2 : Int) : zR K 0 [(0, 2, 0), (1, 0, x1), (2, 1, x2)] [] (fX0_mailbox x1 x2) := by
  refine r_aload_n E dX0_mailbox_0 rfl 0 rfl ?_
  refine r_gec (y := 0) E zc_2 dX0_mailbox_1 q1790 zr_2 (zh_100 (by decide)) (by decide) ?_
  refine r_iload_n E dX0_mailbox_4 rfl 1 rfl ?_
  refine r_callV E [(0, x1)] [] rfl zc_3 zr_3 (fun o _ => ⟨_, zw_X1.1 o, rfl⟩) (lw_V q1825 q1826 q1827 q228 q1828) dX0_mailbox_5 zy_X1_directory rfl (by omega) (by decide) (Nat.le_of_ble_eq_true rfl) (by decide) (fun l G => k_fX1_directory l G x1) (fun v1 => ?_)
  refine r_astore (ls' := [(4, 6, v1), (0, 2, 0), (1, 0, x1), (2, 1, x2)]) E dX0_mailbox_8 (by rw [hN]; decide) rfl ?_
  refine r_aload E dX0_mailbox_10 0 rfl ?_
  refine r_ifnull E 22 (by decide) dX0_mailbox_12 (fun _ => ?_) (fun hz2 => ?_)
  · refine r_bipush E dX0_mailbox_22 (by decide) (zkI (by decide) (by decide)) ?_
    refine r_goto E 37 (by decide) dX0_mailbox_24 ?_
    exact r_ireturn E rfl hT dX0_mailbox_37
  · refine r_lload_n E dX0_mailbox_15 rfl 3 rfl ?_
    refine r_callS E [(1, x2)] [] rfl q1841 q1842 q227 q1843 dX0_mailbox_16 zy_X0_isName rfl (by omega) (by decide) (Nat.le_of_ble_eq_true rfl) (fun l G => k_fX0_isName l G x2) (fun v3 => ?_)
    refine r_if_ne E 27 (by decide) dX0_mailbox_19 (fun _ => ?_) (fun _ => ?_)
    · refine r_aload_n E dX0_mailbox_27 rfl 1 rfl ?_
      refine r_gec (y := 0) E zc_2 dX0_mailbox_28 q1792 zr_2 (zh_102 (by decide)) (by decide) ?_
      refine r_aload E dX0_mailbox_31 0 rfl ?_
      refine r_lload_n E dX0_mailbox_33 rfl 3 rfl ?_
      refine r_callVN E [(6, v1), (1, x2)] [] rfl zc_14 zr_14 (fun o _ => ⟨_, zw_X12.1 o, rfl⟩) q1967 q1969 qs5 q239 q1970 dX0_mailbox_34 zy_X12_newMailbox rfl (by omega) (by decide) (Nat.le_of_ble_eq_true rfl) (by decide) (fun l G => k_fX12_newMailbox l G v1 x2) (fun v4 => ?_)
      exact r_ireturn E rfl hT dX0_mailbox_37
    · refine r_bipush E dX0_mailbox_22 (by decide) (zkI (by decide) (by decide)) ?_
      refine r_goto E 37 (by decide) dX0_mailbox_24 ?_
      exact r_ireturn E rfl hT dX0_mailbox_37
theorem k_fX0_mailbox (l : Launch) (G : zG) (x1 : Int) (x2 : Int) : zCt l G yX0_mailbox cX0_mailbox 5 (some .int) 6 [(2, 0), (0, x1), (1, x2)] (some 0) (fX0_mailbox x1 x2) := zCt.of (by decide) (Nat.le_of_ble_eq_true rfl) (fun K E _ _ hN hT => w_fX0_mailbox E hN hT x1 x2)
theorem dX0_initial_0 : decode cX0_initial 0 = .ok (.aload_n 0, 1) := by decide +kernel
theorem dX0_initial_1 : decode cX0_initial 1 = .ok (.getfield 42, 3) := by decide +kernel
theorem dX0_initial_4 : decode cX0_initial 4 = .ok (.iload_n 1, 1) := by decide +kernel
theorem dX0_initial_5 : decode cX0_initial 5 = .ok (.invokevirtual 115, 3) := by decide +kernel
theorem dX0_initial_8 : decode cX0_initial 8 = .ok (.astore 6, 2) := by decide +kernel
theorem dX0_initial_10 : decode cX0_initial 10 = .ok (.aload 6, 2) := by decide +kernel
theorem dX0_initial_12 : decode cX0_initial 12 = .ok (.ifnull 53, 3) := by decide +kernel
theorem dX0_initial_15 : decode cX0_initial 15 = .ok (.iload_n 2, 1) := by decide +kernel
theorem dX0_initial_16 : decode cX0_initial 16 = .ok (.i2l, 1) := by decide +kernel
theorem dX0_initial_17 : decode cX0_initial 17 = .ok (.lconst 1, 1) := by decide +kernel
theorem dX0_initial_18 : decode cX0_initial 18 = .ok (.ldc2_w 148, 3) := by decide +kernel
theorem dX0_initial_21 : decode cX0_initial 21 = .ok (.invokestatic 17, 3) := by decide +kernel
theorem dX0_initial_24 : decode cX0_initial 24 = .ok (.ifCond .eq 41, 3) := by decide +kernel
theorem dX0_initial_27 : decode cX0_initial 27 = .ok (.iload_n 3, 1) := by decide +kernel
theorem dX0_initial_28 : decode cX0_initial 28 = .ok (.i2l, 1) := by decide +kernel
theorem dX0_initial_29 : decode cX0_initial 29 = .ok (.lconst 0, 1) := by decide +kernel
theorem dX0_initial_30 : decode cX0_initial 30 = .ok (.ldc2_w 150, 3) := by decide +kernel
theorem dX0_initial_33 : decode cX0_initial 33 = .ok (.invokestatic 17, 3) := by decide +kernel
theorem dX0_initial_36 : decode cX0_initial 36 = .ok (.ifCond .eq 29, 3) := by decide +kernel
theorem dX0_initial_39 : decode cX0_initial 39 = .ok (.iload 4, 2) := by decide +kernel
theorem dX0_initial_41 : decode cX0_initial 41 = .ok (.i2l, 1) := by decide +kernel
theorem dX0_initial_42 : decode cX0_initial 42 = .ok (.lconst 0, 1) := by decide +kernel
theorem dX0_initial_43 : decode cX0_initial 43 = .ok (.ldc2_w 152, 3) := by decide +kernel
theorem dX0_initial_46 : decode cX0_initial 46 = .ok (.invokestatic 17, 3) := by decide +kernel
theorem dX0_initial_49 : decode cX0_initial 49 = .ok (.ifCond .eq 16, 3) := by decide +kernel
theorem dX0_initial_52 : decode cX0_initial 52 = .ok (.iload 5, 2) := by decide +kernel
theorem dX0_initial_54 : decode cX0_initial 54 = .ok (.i2l, 1) := by decide +kernel
theorem dX0_initial_55 : decode cX0_initial 55 = .ok (.lconst 0, 1) := by decide +kernel
theorem dX0_initial_56 : decode cX0_initial 56 = .ok (.ldc2_w 152, 3) := by decide +kernel
theorem dX0_initial_59 : decode cX0_initial 59 = .ok (.invokestatic 17, 3) := by decide +kernel
theorem dX0_initial_62 : decode cX0_initial 62 = .ok (.ifCond .ne 6, 3) := by decide +kernel
theorem dX0_initial_65 : decode cX0_initial 65 = .ok (.bipush (-8), 2) := by decide +kernel
theorem dX0_initial_67 : decode cX0_initial 67 = .ok (.ireturn, 1) := by decide +kernel
theorem dX0_initial_68 : decode cX0_initial 68 = .ok (.aload 6, 2) := by decide +kernel
theorem dX0_initial_70 : decode cX0_initial 70 = .ok (.iload_n 2, 1) := by decide +kernel
theorem dX0_initial_71 : decode cX0_initial 71 = .ok (.invokevirtual 154, 3) := by decide +kernel
theorem dX0_initial_74 : decode cX0_initial 74 = .ok (.iload_n 3, 1) := by decide +kernel
theorem dX0_initial_75 : decode cX0_initial 75 = .ok (.iload 4, 2) := by decide +kernel
theorem dX0_initial_77 : decode cX0_initial 77 = .ok (.iload 5, 2) := by decide +kernel
theorem dX0_initial_79 : decode cX0_initial 79 = .ok (.invokevirtual 158, 3) := by decide +kernel
theorem dX0_initial_82 : decode cX0_initial 82 = .ok (.istore 7, 2) := by decide +kernel
theorem dX0_initial_84 : decode cX0_initial 84 = .ok (.iload 7, 2) := by decide +kernel
theorem dX0_initial_86 : decode cX0_initial 86 = .ok (.ifCond .ge 8, 3) := by decide +kernel
theorem dX0_initial_89 : decode cX0_initial 89 = .ok (.iload 7, 2) := by decide +kernel
theorem dX0_initial_91 : decode cX0_initial 91 = .ok (.goto 12, 3) := by decide +kernel
theorem dX0_initial_94 : decode cX0_initial 94 = .ok (.aload 6, 2) := by decide +kernel
theorem dX0_initial_96 : decode cX0_initial 96 = .ok (.iload_n 2, 1) := by decide +kernel
theorem dX0_initial_97 : decode cX0_initial 97 = .ok (.invokevirtual 154, 3) := by decide +kernel
theorem dX0_initial_100 : decode cX0_initial 100 = .ok (.getfield 164, 3) := by decide +kernel
theorem dX0_initial_103 : decode cX0_initial 103 = .ok (.ireturn, 1) := by decide +kernel
theorem zy_X0_initial : yX0_initial.cls ≠ "java/lang/invoke/MethodHandle" ∧ yX0_initial.cls ≠ "java/lang/invoke/VarHandle" ∧ (parseMethodDescriptor yX0_initial.desc).map (fun d => d.parameters.length) = some 5 := by decide +kernel
theorem w_fX0_initial {K : zK} (E : zE K cX0_initial "RingHouse" (some .int) 3) (hN : zNl K = 8) (hT : zTr K = (some 0)) (x1 : Int) (x2 : Int) (x3 : Int) (x4 : Int) (x5 : Int) : zR K 0 [(0, 2, 0), (1, 0, x1), (2, 0, x2), (3, 0, x3), (4, 0, x4), (5, 0, x5)] [] (fX0_initial x1 x2 x3 x4 x5) := by
  refine r_aload_n E dX0_initial_0 rfl 0 rfl ?_
  refine r_gec (y := 0) E zc_2 dX0_initial_1 q1790 zr_2 (zh_100 (by decide)) (by decide) ?_
  refine r_iload_n E dX0_initial_4 rfl 1 rfl ?_
  refine r_callV E [(0, x1)] [] rfl zc_3 zr_3 (fun o _ => ⟨_, zw_X1.1 o, rfl⟩) (lw_V q1825 q1826 q1827 q228 q1828) dX0_initial_5 zy_X1_directory rfl (by omega) (by decide) (Nat.le_of_ble_eq_true rfl) (by decide) (fun l G => k_fX1_directory l G x1) (fun v1 => ?_)
  refine r_astore (ls' := [(6, 6, v1), (0, 2, 0), (1, 0, x1), (2, 0, x2), (3, 0, x3), (4, 0, x4), (5, 0, x5)]) E dX0_initial_8 (by rw [hN]; decide) rfl ?_
  refine r_aload E dX0_initial_10 0 rfl ?_
  refine r_ifnull E 65 (by decide) dX0_initial_12 (fun _ => ?_) (fun hz2 => ?_)
  · refine r_bipush E dX0_initial_65 (by decide) (zkI (by decide) (by decide)) ?_
    exact r_ireturn E rfl hT dX0_initial_67
  · refine r_iload_n E dX0_initial_15 rfl 3 rfl ?_
    refine r_i2l E dX0_initial_16 ?_
    refine r_lconst (v := 1) E dX0_initial_17 (by decide) (zkJ (by decide) (by decide)) ?_
    refine r_ldc2 (v := 2) E dX0_initial_18 q1975 (by decide) (zkJ (by decide) (by decide)) ?_
    refine r_callS E [(1, x2), (1, 1), (1, 2)] [] rfl q1853 q1835 q227 q1836 dX0_initial_21 zy_X0_isIn rfl (by omega) (by decide) (Nat.le_of_ble_eq_true rfl) (fun l G => k_fX0_isIn l G x2 1 2) (fun v3 => ?_)
    refine r_if_eq E 65 (by decide) dX0_initial_24 (fun _ => ?_) (fun _ => ?_)
    · refine r_bipush E dX0_initial_65 (by decide) (zkI (by decide) (by decide)) ?_
      exact r_ireturn E rfl hT dX0_initial_67
    · refine r_iload_n E dX0_initial_27 rfl 4 rfl ?_
      refine r_i2l E dX0_initial_28 ?_
      refine r_lconst (v := 0) E dX0_initial_29 (by decide) (zkJ (by decide) (by decide)) ?_
      refine r_ldc2 (v := 16) E dX0_initial_30 q1976 (by decide) (zkJ (by decide) (by decide)) ?_
      refine r_callS E [(1, x3), (1, 0), (1, 16)] [] rfl q1853 q1835 q227 q1836 dX0_initial_33 zy_X0_isIn rfl (by omega) (by decide) (Nat.le_of_ble_eq_true rfl) (fun l G => k_fX0_isIn l G x3 0 16) (fun v4 => ?_)
      refine r_if_eq E 65 (by decide) dX0_initial_36 (fun _ => ?_) (fun _ => ?_)
      · refine r_bipush E dX0_initial_65 (by decide) (zkI (by decide) (by decide)) ?_
        exact r_ireturn E rfl hT dX0_initial_67
      · refine r_iload E dX0_initial_39 5 rfl ?_
        refine r_i2l E dX0_initial_41 ?_
        refine r_lconst (v := 0) E dX0_initial_42 (by decide) (zkJ (by decide) (by decide)) ?_
        refine r_ldc2 (v := 8) E dX0_initial_43 q1977 (by decide) (zkJ (by decide) (by decide)) ?_
        refine r_callS E [(1, x4), (1, 0), (1, 8)] [] rfl q1853 q1835 q227 q1836 dX0_initial_46 zy_X0_isIn rfl (by omega) (by decide) (Nat.le_of_ble_eq_true rfl) (fun l G => k_fX0_isIn l G x4 0 8) (fun v5 => ?_)
        refine r_if_eq E 65 (by decide) dX0_initial_49 (fun _ => ?_) (fun _ => ?_)
        · refine r_bipush E dX0_initial_65 (by decide) (zkI (by decide) (by decide)) ?_
          exact r_ireturn E rfl hT dX0_initial_67
        · refine r_iload E dX0_initial_52 6 rfl ?_
          refine r_i2l E dX0_initial_54 ?_
          refine r_lconst (v := 0) E dX0_initial_55 (by decide) (zkJ (by decide) (by decide)) ?_
          refine r_ldc2 (v := 8) E dX0_initial_56 q1977 (by decide) (zkJ (by decide) (by decide)) ?_
          refine r_callS E [(1, x5), (1, 0), (1, 8)] [] rfl q1853 q1835 q227 q1836 dX0_initial_59 zy_X0_isIn rfl (by omega) (by decide) (Nat.le_of_ble_eq_true rfl) (fun l G => k_fX0_isIn l G x5 0 8) (fun v6 => ?_)
          refine r_if_ne E 68 (by decide) dX0_initial_62 (fun _ => ?_) (fun _ => ?_)
          · refine r_aload E dX0_initial_68 0 rfl ?_
            refine r_iload_n E dX0_initial_70 rfl 3 rfl ?_
            refine r_callV E [(0, x2)] [] rfl zc_6 zr_6 (fun o _ => ⟨_, zw_X4.1 o, rfl⟩) (lw_V q1978 q1892 q1893 q231 q1894) dX0_initial_71 zy_X4_initial rfl (by omega) (by decide) (Nat.le_of_ble_eq_true rfl) (Int.not_lt.mp hz2) (fun l G => k_fX4_initial l G v1 x2 (Int.not_lt.mp hz2)) (fun v7 => ?_)
            refine r_iload_n E dX0_initial_74 rfl 4 rfl ?_
            refine r_iload E dX0_initial_75 5 rfl ?_
            refine r_iload E dX0_initial_77 6 rfl ?_
            refine r_nn E (fun hn8 => ?_)
            refine r_callV E [(0, x3), (0, x4), (0, x5)] [] rfl zc_7 zr_7 (fun o _ => ⟨_, zw_X5.1 o, rfl⟩) (lw_V q1979 q571 q572 q232 q573) dX0_initial_79 zy_X5_set rfl (by omega) (by decide) (Nat.le_of_ble_eq_true rfl) hn8 (fun l G => k_fX5_set l G v7 x3 x4 x5 hn8) (fun v9 => ?_)
            refine r_istore (ls' := [(7, 0, v9), (6, 6, v1), (0, 2, 0), (1, 0, x1), (2, 0, x2), (3, 0, x3), (4, 0, x4), (5, 0, x5)]) E dX0_initial_82 (by rw [hN]; decide) rfl ?_
            refine r_iload E dX0_initial_84 0 rfl ?_
            refine r_if_ge E 94 (by decide) dX0_initial_86 (fun _ => ?_) (fun _ => ?_)
            · refine r_aload E dX0_initial_94 1 rfl ?_
              refine r_iload_n E dX0_initial_96 rfl 4 rfl ?_
              refine r_callV E [(0, x2)] [] rfl zc_6 zr_6 (fun o _ => ⟨_, zw_X4.1 o, rfl⟩) (lw_V q1978 q1892 q1893 q231 q1894) dX0_initial_97 zy_X4_initial rfl (by omega) (by decide) (Nat.le_of_ble_eq_true rfl) (Int.not_lt.mp hz2) (fun l G => k_fX4_initial l G v1 x2 (Int.not_lt.mp hz2)) (fun v10 => ?_)
              refine r_nn E (fun hn11 => ?_)
              refine r_getN E zc_7 zt_602 dX0_initial_100 q363 zr_7 (zg_602 _) hn11 (fun v12 => ?_)
              exact r_ireturn E rfl hT dX0_initial_103
            · refine r_iload E dX0_initial_89 0 rfl ?_
              refine r_goto E 103 (by decide) dX0_initial_91 ?_
              exact r_ireturn E rfl hT dX0_initial_103
          · refine r_bipush E dX0_initial_65 (by decide) (zkI (by decide) (by decide)) ?_
            exact r_ireturn E rfl hT dX0_initial_67
theorem k_fX0_initial (l : Launch) (G : zG) (x1 : Int) (x2 : Int) (x3 : Int) (x4 : Int) (x5 : Int) : zCt l G yX0_initial cX0_initial 8 (some .int) 3 [(2, 0), (0, x1), (0, x2), (0, x3), (0, x4), (0, x5)] (some 0) (fX0_initial x1 x2 x3 x4 x5) := zCt.of (by decide) (Nat.le_of_ble_eq_true rfl) (fun K E _ _ hN hT => w_fX0_initial E hN hT x1 x2 x3 x4 x5)
theorem dX0_item_0 : decode cX0_item 0 = .ok (.aload_n 0, 1) := by decide +kernel
theorem dX0_item_1 : decode cX0_item 1 = .ok (.getfield 42, 3) := by decide +kernel
theorem dX0_item_4 : decode cX0_item 4 = .ok (.iload_n 1, 1) := by decide +kernel
theorem dX0_item_5 : decode cX0_item 5 = .ok (.invokevirtual 167, 3) := by decide +kernel
theorem dX0_item_8 : decode cX0_item 8 = .ok (.astore 5, 2) := by decide +kernel
theorem dX0_item_10 : decode cX0_item 10 = .ok (.aload 5, 2) := by decide +kernel
theorem dX0_item_12 : decode cX0_item 12 = .ok (.ifnull 40, 3) := by decide +kernel
theorem dX0_item_15 : decode cX0_item 15 = .ok (.iload_n 2, 1) := by decide +kernel
theorem dX0_item_16 : decode cX0_item 16 = .ok (.i2l, 1) := by decide +kernel
theorem dX0_item_17 : decode cX0_item 17 = .ok (.lconst 0, 1) := by decide +kernel
theorem dX0_item_18 : decode cX0_item 18 = .ok (.ldc2_w 150, 3) := by decide +kernel
theorem dX0_item_21 : decode cX0_item 21 = .ok (.invokestatic 17, 3) := by decide +kernel
theorem dX0_item_24 : decode cX0_item 24 = .ok (.ifCond .eq 28, 3) := by decide +kernel
theorem dX0_item_27 : decode cX0_item 27 = .ok (.iload_n 3, 1) := by decide +kernel
theorem dX0_item_28 : decode cX0_item 28 = .ok (.i2l, 1) := by decide +kernel
theorem dX0_item_29 : decode cX0_item 29 = .ok (.lconst 0, 1) := by decide +kernel
theorem dX0_item_30 : decode cX0_item 30 = .ok (.ldc2_w 152, 3) := by decide +kernel
theorem dX0_item_33 : decode cX0_item 33 = .ok (.invokestatic 17, 3) := by decide +kernel
theorem dX0_item_36 : decode cX0_item 36 = .ok (.ifCond .eq 16, 3) := by decide +kernel
theorem dX0_item_39 : decode cX0_item 39 = .ok (.iload 4, 2) := by decide +kernel
theorem dX0_item_41 : decode cX0_item 41 = .ok (.i2l, 1) := by decide +kernel
theorem dX0_item_42 : decode cX0_item 42 = .ok (.lconst 0, 1) := by decide +kernel
theorem dX0_item_43 : decode cX0_item 43 = .ok (.ldc2_w 152, 3) := by decide +kernel
theorem dX0_item_46 : decode cX0_item 46 = .ok (.invokestatic 17, 3) := by decide +kernel
theorem dX0_item_49 : decode cX0_item 49 = .ok (.ifCond .ne 6, 3) := by decide +kernel
theorem dX0_item_52 : decode cX0_item 52 = .ok (.bipush (-8), 2) := by decide +kernel
theorem dX0_item_54 : decode cX0_item 54 = .ok (.ireturn, 1) := by decide +kernel
theorem dX0_item_55 : decode cX0_item 55 = .ok (.aload 5, 2) := by decide +kernel
theorem dX0_item_57 : decode cX0_item 57 = .ok (.getfield 170, 3) := by decide +kernel
theorem dX0_item_60 : decode cX0_item 60 = .ok (.iload_n 2, 1) := by decide +kernel
theorem dX0_item_61 : decode cX0_item 61 = .ok (.iload_n 3, 1) := by decide +kernel
theorem dX0_item_62 : decode cX0_item 62 = .ok (.iload 4, 2) := by decide +kernel
theorem dX0_item_64 : decode cX0_item 64 = .ok (.invokevirtual 158, 3) := by decide +kernel
theorem dX0_item_67 : decode cX0_item 67 = .ok (.istore 6, 2) := by decide +kernel
theorem dX0_item_69 : decode cX0_item 69 = .ok (.aload_n 0, 1) := by decide +kernel
theorem dX0_item_70 : decode cX0_item 70 = .ok (.getfield 42, 3) := by decide +kernel
theorem dX0_item_73 : decode cX0_item 73 = .ok (.dup, 1) := by decide +kernel
theorem dX0_item_74 : decode cX0_item 74 = .ok (.getfield 174, 3) := by decide +kernel
theorem dX0_item_77 : decode cX0_item 77 = .ok (.iconst 1, 1) := by decide +kernel
theorem dX0_item_78 : decode cX0_item 78 = .ok (.iadd, 1) := by decide +kernel
theorem dX0_item_79 : decode cX0_item 79 = .ok (.putfield 174, 3) := by decide +kernel
theorem dX0_item_82 : decode cX0_item 82 = .ok (.iload 6, 2) := by decide +kernel
theorem dX0_item_84 : decode cX0_item 84 = .ok (.ifCond .ge 8, 3) := by decide +kernel
theorem dX0_item_87 : decode cX0_item 87 = .ok (.iload 6, 2) := by decide +kernel
theorem dX0_item_89 : decode cX0_item 89 = .ok (.goto 11, 3) := by decide +kernel
theorem dX0_item_92 : decode cX0_item 92 = .ok (.aload 5, 2) := by decide +kernel
theorem dX0_item_94 : decode cX0_item 94 = .ok (.getfield 170, 3) := by decide +kernel
theorem dX0_item_97 : decode cX0_item 97 = .ok (.getfield 164, 3) := by decide +kernel
theorem dX0_item_100 : decode cX0_item 100 = .ok (.ireturn, 1) := by decide +kernel
theorem zy_X0_item : yX0_item.cls ≠ "java/lang/invoke/MethodHandle" ∧ yX0_item.cls ≠ "java/lang/invoke/VarHandle" ∧ (parseMethodDescriptor yX0_item.desc).map (fun d => d.parameters.length) = some 4 := by decide +kernel
theorem w_fX0_item {K : zK} (E : zE K cX0_item "RingHouse" (some .int) 3) (hN : zNl K = 7) (hT : zTr K = (some 0)) (x1 : Int) (x2 : Int) (x3 : Int) (x4 : Int) : zR K 0 [(0, 2, 0), (1, 0, x1), (2, 0, x2), (3, 0, x3), (4, 0, x4)] [] (fX0_item x1 x2 x3 x4) := by
  refine r_aload_n E dX0_item_0 rfl 0 rfl ?_
  refine r_gec (y := 0) E zc_2 dX0_item_1 q1790 zr_2 (zh_100 (by decide)) (by decide) ?_
  refine r_iload_n E dX0_item_4 rfl 1 rfl ?_
  refine r_callV E [(0, x1)] [] rfl zc_3 zr_3 (fun o _ => ⟨_, zw_X1.1 o, rfl⟩) (lw_V q1984 q1830 q1831 q228 q1832) dX0_item_5 zy_X1_node rfl (by omega) (by decide) (Nat.le_of_ble_eq_true rfl) (by decide) (fun l G => k_fX1_node l G x1) (fun v1 => ?_)
  refine r_astore (ls' := [(5, 6, v1), (0, 2, 0), (1, 0, x1), (2, 0, x2), (3, 0, x3), (4, 0, x4)]) E dX0_item_8 (by rw [hN]; decide) rfl ?_
  refine r_aload E dX0_item_10 0 rfl ?_
  refine r_ifnull E 52 (by decide) dX0_item_12 (fun _ => ?_) (fun hz2 => ?_)
  · refine r_bipush E dX0_item_52 (by decide) (zkI (by decide) (by decide)) ?_
    exact r_ireturn E rfl hT dX0_item_54
  · refine r_iload_n E dX0_item_15 rfl 3 rfl ?_
    refine r_i2l E dX0_item_16 ?_
    refine r_lconst (v := 0) E dX0_item_17 (by decide) (zkJ (by decide) (by decide)) ?_
    refine r_ldc2 (v := 16) E dX0_item_18 q1976 (by decide) (zkJ (by decide) (by decide)) ?_
    refine r_callS E [(1, x2), (1, 0), (1, 16)] [] rfl q1853 q1835 q227 q1836 dX0_item_21 zy_X0_isIn rfl (by omega) (by decide) (Nat.le_of_ble_eq_true rfl) (fun l G => k_fX0_isIn l G x2 0 16) (fun v3 => ?_)
    refine r_if_eq E 52 (by decide) dX0_item_24 (fun _ => ?_) (fun _ => ?_)
    · refine r_bipush E dX0_item_52 (by decide) (zkI (by decide) (by decide)) ?_
      exact r_ireturn E rfl hT dX0_item_54
    · refine r_iload_n E dX0_item_27 rfl 4 rfl ?_
      refine r_i2l E dX0_item_28 ?_
      refine r_lconst (v := 0) E dX0_item_29 (by decide) (zkJ (by decide) (by decide)) ?_
      refine r_ldc2 (v := 8) E dX0_item_30 q1977 (by decide) (zkJ (by decide) (by decide)) ?_
      refine r_callS E [(1, x3), (1, 0), (1, 8)] [] rfl q1853 q1835 q227 q1836 dX0_item_33 zy_X0_isIn rfl (by omega) (by decide) (Nat.le_of_ble_eq_true rfl) (fun l G => k_fX0_isIn l G x3 0 8) (fun v4 => ?_)
      refine r_if_eq E 52 (by decide) dX0_item_36 (fun _ => ?_) (fun _ => ?_)
      · refine r_bipush E dX0_item_52 (by decide) (zkI (by decide) (by decide)) ?_
        exact r_ireturn E rfl hT dX0_item_54
      · refine r_iload E dX0_item_39 5 rfl ?_
        refine r_i2l E dX0_item_41 ?_
        refine r_lconst (v := 0) E dX0_item_42 (by decide) (zkJ (by decide) (by decide)) ?_
        refine r_ldc2 (v := 8) E dX0_item_43 q1977 (by decide) (zkJ (by decide) (by decide)) ?_
        refine r_callS E [(1, x4), (1, 0), (1, 8)] [] rfl q1853 q1835 q227 q1836 dX0_item_46 zy_X0_isIn rfl (by omega) (by decide) (Nat.le_of_ble_eq_true rfl) (fun l G => k_fX0_isIn l G x4 0 8) (fun v5 => ?_)
        refine r_if_ne E 55 (by decide) dX0_item_49 (fun _ => ?_) (fun _ => ?_)
        · refine r_aload E dX0_item_55 0 rfl ?_
          refine r_gecN (y := (3 * v1)) E zc_6 dX0_item_57 q415 zr_6 (zh_508 (by omega)) (Int.not_lt.mp hz2) ?_
          refine r_iload_n E dX0_item_60 rfl 3 rfl ?_
          refine r_iload_n E dX0_item_61 rfl 4 rfl ?_
          refine r_iload E dX0_item_62 5 rfl ?_
          refine r_callV E [(0, x2), (0, x3), (0, x4)] [] rfl zc_7 zr_7 (fun o _ => ⟨_, zw_X5.1 o, rfl⟩) (lw_V q1979 q571 q572 q232 q573) dX0_item_64 zy_X5_set rfl (by omega) (by decide) (Nat.le_of_ble_eq_true rfl) (by omega) (fun l G => k_fX5_set l G (3 * v1) x2 x3 x4 (by omega)) (fun v6 => ?_)
          refine r_istore (ls' := [(6, 0, v6), (5, 6, v1), (0, 2, 0), (1, 0, x1), (2, 0, x2), (3, 0, x3), (4, 0, x4)]) E dX0_item_67 (by rw [hN]; decide) rfl ?_
          refine r_aload_n E dX0_item_69 rfl 2 rfl ?_
          refine r_gec (y := 0) E zc_2 dX0_item_70 q1790 zr_2 (zh_100 (by decide)) (by decide) ?_
          refine r_dup E (zn1 rfl) dX0_item_73 ?_
          refine r_getN E zc_3 zt_207 dX0_item_74 q606 zr_3 (zg_207 _) (by decide) (fun v7 => ?_)
          refine r_iconst E dX0_item_77 (zkI (by decide) (by decide)) ?_
          refine r_iadd E dX0_item_78 ?_
          refine r_putN E zc_3 zt_207 zo_207 dX0_item_79 q606 zr_3 zw_X1 zp_207 (fun _ => rfl) (fun _ => rfl) (by decide) ?_
          refine r_iload E dX0_item_82 0 rfl ?_
          refine r_if_ge E 92 (by decide) dX0_item_84 (fun _ => ?_) (fun _ => ?_)
          · refine r_aload E dX0_item_92 1 rfl ?_
            refine r_gecN (y := (3 * v1)) E zc_6 dX0_item_94 q415 zr_6 (zh_508 (by omega)) (Int.not_lt.mp hz2) ?_
            refine r_getN E zc_7 zt_602 dX0_item_97 q363 zr_7 (zg_602 _) (by omega) (fun v8 => ?_)
            exact r_ireturn E rfl hT dX0_item_100
          · refine r_iload E dX0_item_87 0 rfl ?_
            refine r_goto E 100 (by decide) dX0_item_89 ?_
            exact r_ireturn E rfl hT dX0_item_100
        · refine r_bipush E dX0_item_52 (by decide) (zkI (by decide) (by decide)) ?_
          exact r_ireturn E rfl hT dX0_item_54
theorem k_fX0_item (l : Launch) (G : zG) (x1 : Int) (x2 : Int) (x3 : Int) (x4 : Int) : zCt l G yX0_item cX0_item 7 (some .int) 3 [(2, 0), (0, x1), (0, x2), (0, x3), (0, x4)] (some 0) (fX0_item x1 x2 x3 x4) := zCt.of (by decide) (Nat.le_of_ble_eq_true rfl) (fun K E _ _ hN hT => w_fX0_item E hN hT x1 x2 x3 x4)
theorem dX0_areBrackets_0 : decode cX0_areBrackets 0 = .ok (.iload_n 0, 1) := by decide +kernel
theorem dX0_areBrackets_1 : decode cX0_areBrackets 1 = .ok (.ifCond .lt 23, 3) := by decide +kernel
theorem dX0_areBrackets_4 : decode cX0_areBrackets 4 = .ok (.iload_n 0, 1) := by decide +kernel
theorem dX0_areBrackets_5 : decode cX0_areBrackets 5 = .ok (.iload_n 1, 1) := by decide +kernel
theorem dX0_areBrackets_6 : decode cX0_areBrackets 6 = .ok (.if_icmp .gt 18, 3) := by decide +kernel
theorem dX0_areBrackets_9 : decode cX0_areBrackets 9 = .ok (.iload_n 1, 1) := by decide +kernel
theorem dX0_areBrackets_10 : decode cX0_areBrackets 10 = .ok (.iload_n 2, 1) := by decide +kernel
theorem dX0_areBrackets_11 : decode cX0_areBrackets 11 = .ok (.if_icmp .gt 13, 3) := by decide +kernel
theorem dX0_areBrackets_14 : decode cX0_areBrackets 14 = .ok (.iload_n 2, 1) := by decide +kernel
theorem dX0_areBrackets_15 : decode cX0_areBrackets 15 = .ok (.bipush 7, 2) := by decide +kernel
theorem dX0_areBrackets_17 : decode cX0_areBrackets 17 = .ok (.if_icmp .gt 7, 3) := by decide +kernel
theorem dX0_areBrackets_20 : decode cX0_areBrackets 20 = .ok (.iconst 1, 1) := by decide +kernel
theorem dX0_areBrackets_21 : decode cX0_areBrackets 21 = .ok (.goto 4, 3) := by decide +kernel
theorem dX0_areBrackets_24 : decode cX0_areBrackets 24 = .ok (.iconst 0, 1) := by decide +kernel
theorem dX0_areBrackets_25 : decode cX0_areBrackets 25 = .ok (.ireturn, 1) := by decide +kernel
theorem zy_X0_areBrackets : yX0_areBrackets.cls ≠ "java/lang/invoke/MethodHandle" ∧ yX0_areBrackets.cls ≠ "java/lang/invoke/VarHandle" ∧ (parseMethodDescriptor yX0_areBrackets.desc).map (fun d => d.parameters.length) = some 3 := by decide +kernel
theorem w_fX0_areBrackets {K : zK} (E : zE K cX0_areBrackets "RingHouse" (some .boolean) 0) (hN : zNl K = 3) (hT : zTr K = (some 0)) (x0 : Int) (x1 : Int) (x2 : Int) : zR K 0 [(0, 0, x0), (1, 0, x1), (2, 0, x2)] [] (fX0_areBrackets x0 x1 x2) := by
  refine r_iload_n E dX0_areBrackets_0 rfl 0 rfl ?_
  refine r_if_lt E 24 (by decide) dX0_areBrackets_1 (fun _ => ?_) (fun _ => ?_)
  · refine r_iconst E dX0_areBrackets_24 (zkI (by decide) (by decide)) ?_
    exact r_zreturn E rfl hT (by decide) dX0_areBrackets_25
  · refine r_iload_n E dX0_areBrackets_4 rfl 0 rfl ?_
    refine r_iload_n E dX0_areBrackets_5 rfl 1 rfl ?_
    refine r_icmp_gt E 24 (by decide) dX0_areBrackets_6 (fun _ => ?_) (fun _ => ?_)
    · refine r_iconst E dX0_areBrackets_24 (zkI (by decide) (by decide)) ?_
      exact r_zreturn E rfl hT (by decide) dX0_areBrackets_25
    · refine r_iload_n E dX0_areBrackets_9 rfl 1 rfl ?_
      refine r_iload_n E dX0_areBrackets_10 rfl 2 rfl ?_
      refine r_icmp_gt E 24 (by decide) dX0_areBrackets_11 (fun _ => ?_) (fun _ => ?_)
      · refine r_iconst E dX0_areBrackets_24 (zkI (by decide) (by decide)) ?_
        exact r_zreturn E rfl hT (by decide) dX0_areBrackets_25
      · refine r_iload_n E dX0_areBrackets_14 rfl 2 rfl ?_
        refine r_bipush E dX0_areBrackets_15 (by decide) (zkI (by decide) (by decide)) ?_
        refine r_icmp_gt E 24 (by decide) dX0_areBrackets_17 (fun _ => ?_) (fun _ => ?_)
        · refine r_iconst E dX0_areBrackets_24 (zkI (by decide) (by decide)) ?_
          exact r_zreturn E rfl hT (by decide) dX0_areBrackets_25
        · refine r_iconst E dX0_areBrackets_20 (zkI (by decide) (by decide)) ?_
          refine r_goto E 25 (by decide) dX0_areBrackets_21 ?_
          exact r_zreturn E rfl hT (by decide) dX0_areBrackets_25
theorem k_fX0_areBrackets (l : Launch) (G : zG) (x0 : Int) (x1 : Int) (x2 : Int) : zCt l G yX0_areBrackets cX0_areBrackets 3 (some .boolean) 0 [(0, x0), (0, x1), (0, x2)] (some 0) (fX0_areBrackets x0 x1 x2) := zCt.of (by decide) (Nat.le_of_ble_eq_true rfl) (fun K E _ _ hN hT => w_fX0_areBrackets E hN hT x0 x1 x2)
theorem dX0_brackets_0 : decode cX0_brackets 0 = .ok (.aload_n 0, 1) := by decide +kernel
theorem dX0_brackets_1 : decode cX0_brackets 1 = .ok (.getfield 42, 3) := by decide +kernel
theorem dX0_brackets_4 : decode cX0_brackets 4 = .ok (.iload_n 1, 1) := by decide +kernel
theorem dX0_brackets_5 : decode cX0_brackets 5 = .ok (.invokevirtual 167, 3) := by decide +kernel
theorem dX0_brackets_8 : decode cX0_brackets 8 = .ok (.astore 6, 2) := by decide +kernel
theorem dX0_brackets_10 : decode cX0_brackets 10 = .ok (.aload 6, 2) := by decide +kernel
theorem dX0_brackets_12 : decode cX0_brackets 12 = .ok (.ifnull 38, 3) := by decide +kernel
theorem dX0_brackets_15 : decode cX0_brackets 15 = .ok (.iload_n 2, 1) := by decide +kernel
theorem dX0_brackets_16 : decode cX0_brackets 16 = .ok (.iload_n 3, 1) := by decide +kernel
theorem dX0_brackets_17 : decode cX0_brackets 17 = .ok (.iload 4, 2) := by decide +kernel
theorem dX0_brackets_19 : decode cX0_brackets 19 = .ok (.invokestatic 177, 3) := by decide +kernel
theorem dX0_brackets_22 : decode cX0_brackets 22 = .ok (.ifCond .eq 28, 3) := by decide +kernel
theorem dX0_brackets_25 : decode cX0_brackets 25 = .ok (.iload 5, 2) := by decide +kernel
theorem dX0_brackets_27 : decode cX0_brackets 27 = .ok (.i2l, 1) := by decide +kernel
theorem dX0_brackets_28 : decode cX0_brackets 28 = .ok (.lconst 0, 1) := by decide +kernel
theorem dX0_brackets_29 : decode cX0_brackets 29 = .ok (.aload 6, 2) := by decide +kernel
theorem dX0_brackets_31 : decode cX0_brackets 31 = .ok (.invokevirtual 180, 3) := by decide +kernel
theorem dX0_brackets_34 : decode cX0_brackets 34 = .ok (.ifCond .eq 9, 3) := by decide +kernel
theorem dX0_brackets_37 : decode cX0_brackets 37 = .ok (.ldc2_w 13, 3) := by decide +kernel
theorem dX0_brackets_40 : decode cX0_brackets 40 = .ok (.goto 4, 3) := by decide +kernel
theorem dX0_brackets_43 : decode cX0_brackets 43 = .ok (.lconst 0, 1) := by decide +kernel
theorem dX0_brackets_44 : decode cX0_brackets 44 = .ok (.invokestatic 17, 3) := by decide +kernel
theorem dX0_brackets_47 : decode cX0_brackets 47 = .ok (.ifCond .ne 6, 3) := by decide +kernel
theorem dX0_brackets_50 : decode cX0_brackets 50 = .ok (.bipush (-8), 2) := by decide +kernel
theorem dX0_brackets_52 : decode cX0_brackets 52 = .ok (.ireturn, 1) := by decide +kernel
theorem dX0_brackets_53 : decode cX0_brackets 53 = .ok (.aload 6, 2) := by decide +kernel
theorem dX0_brackets_55 : decode cX0_brackets 55 = .ok (.iload_n 2, 1) := by decide +kernel
theorem dX0_brackets_56 : decode cX0_brackets 56 = .ok (.iload_n 3, 1) := by decide +kernel
theorem dX0_brackets_57 : decode cX0_brackets 57 = .ok (.iload 4, 2) := by decide +kernel
theorem dX0_brackets_59 : decode cX0_brackets 59 = .ok (.invokevirtual 184, 3) := by decide +kernel
theorem dX0_brackets_62 : decode cX0_brackets 62 = .ok (.aload 6, 2) := by decide +kernel
theorem dX0_brackets_64 : decode cX0_brackets 64 = .ok (.iload 5, 2) := by decide +kernel
theorem dX0_brackets_66 : decode cX0_brackets 66 = .ok (.putfield 188, 3) := by decide +kernel
theorem dX0_brackets_69 : decode cX0_brackets 69 = .ok (.iconst 0, 1) := by decide +kernel
theorem dX0_brackets_70 : decode cX0_brackets 70 = .ok (.ireturn, 1) := by decide +kernel
theorem zy_X0_brackets : yX0_brackets.cls ≠ "java/lang/invoke/MethodHandle" ∧ yX0_brackets.cls ≠ "java/lang/invoke/VarHandle" ∧ (parseMethodDescriptor yX0_brackets.desc).map (fun d => d.parameters.length) = some 5 := by decide +kernel
theorem w_fX0_brackets_J44 {K : zK} (E : zE K cX0_brackets "RingHouse" (some .int) 2) (hN : zNl K = 7) (hT : zTr K = (some 0)) (x2 : Int) (x3 : Int) (x4 : Int) (x5 : Int) (x6 : Int) (s0 : Int) (s1 : Int) (s2 : Int) : zR K 44 [(2, 0, x2), (3, 0, x3), (4, 0, x4), (5, 0, x5), (6, 6, x6)] [(1, s2), (1, s1), (1, s0)] (fX0_brackets_J44 x2 x3 x4 x5 x6 s0 s1 s2) := by
  refine r_callS E [(1, s0), (1, s1), (1, s2)] [] rfl q1853 q1835 q227 q1836 dX0_brackets_44 zy_X0_isIn rfl (by omega) (by decide) (Nat.le_of_ble_eq_true rfl) (fun l G => k_fX0_isIn l G s0 s1 s2) (fun v5 => ?_)
  refine r_if_ne E 53 (by decide) dX0_brackets_47 (fun _ => ?_) (fun _ => ?_)
  · refine r_aload E dX0_brackets_53 4 rfl ?_
    refine r_iload_n E dX0_brackets_55 rfl 0 rfl ?_
    refine r_iload_n E dX0_brackets_56 rfl 1 rfl ?_
    refine r_iload E dX0_brackets_57 2 rfl ?_
    refine r_nn E (fun hn6 => ?_)
    refine r_callV E [(0, x2), (0, x3), (0, x4)] [] rfl zc_6 zr_6 (fun o _ => ⟨_, zw_X4.1 o, rfl⟩) (lw_V q1993 q566 q567 q231 q568) dX0_brackets_59 zy_X4_setBrackets rfl (by omega) (by decide) (Nat.le_of_ble_eq_true rfl) hn6 (fun l G => k_fX4_setBrackets l G x6 x2 x3 x4 hn6) (fun _ => ?_)
    refine r_aload E dX0_brackets_62 4 rfl ?_
    refine r_iload E dX0_brackets_64 3 rfl ?_
    refine r_putN E zc_6 zt_521 zo_521 dX0_brackets_66 q474 zr_6 zw_X4 zp_521 (fun _ => rfl) (fun _ => rfl) hn6 ?_
    refine r_iconst E dX0_brackets_69 (zkI (by decide) (by decide)) ?_
    exact r_ireturn E rfl hT dX0_brackets_70
  · refine r_bipush E dX0_brackets_50 (by decide) (zkI (by decide) (by decide)) ?_
    exact r_ireturn E rfl hT dX0_brackets_52
theorem w_fX0_brackets {K : zK} (E : zE K cX0_brackets "RingHouse" (some .int) 2) (hN : zNl K = 7) (hT : zTr K = (some 0)) (x1 : Int) (x2 : Int) (x3 : Int) (x4 : Int) (x5 : Int) : zR K 0 [(0, 2, 0), (1, 0, x1), (2, 0, x2), (3, 0, x3), (4, 0, x4), (5, 0, x5)] [] (fX0_brackets x1 x2 x3 x4 x5) := by
  refine r_aload_n E dX0_brackets_0 rfl 0 rfl ?_
  refine r_gec (y := 0) E zc_2 dX0_brackets_1 q1790 zr_2 (zh_100 (by decide)) (by decide) ?_
  refine r_iload_n E dX0_brackets_4 rfl 1 rfl ?_
  refine r_callV E [(0, x1)] [] rfl zc_3 zr_3 (fun o _ => ⟨_, zw_X1.1 o, rfl⟩) (lw_V q1984 q1830 q1831 q228 q1832) dX0_brackets_5 zy_X1_node rfl (by omega) (by decide) (Nat.le_of_ble_eq_true rfl) (by decide) (fun l G => k_fX1_node l G x1) (fun v1 => ?_)
  refine r_astore (ls' := [(6, 6, v1), (0, 2, 0), (1, 0, x1), (2, 0, x2), (3, 0, x3), (4, 0, x4), (5, 0, x5)]) E dX0_brackets_8 (by rw [hN]; decide) rfl ?_
  refine r_aload E dX0_brackets_10 0 rfl ?_
  refine r_ifnull E 50 (by decide) dX0_brackets_12 (fun _ => ?_) (fun hz2 => ?_)
  · refine r_bipush E dX0_brackets_50 (by decide) (zkI (by decide) (by decide)) ?_
    exact r_ireturn E rfl hT dX0_brackets_52
  · refine r_iload_n E dX0_brackets_15 rfl 3 rfl ?_
    refine r_iload_n E dX0_brackets_16 rfl 4 rfl ?_
    refine r_iload E dX0_brackets_17 5 rfl ?_
    refine r_callS E [(0, x2), (0, x3), (0, x4)] [] rfl q1989 q1990 q227 q1991 dX0_brackets_19 zy_X0_areBrackets rfl (by omega) (by decide) (Nat.le_of_ble_eq_true rfl) (fun l G => k_fX0_areBrackets l G x2 x3 x4) (fun v3 => ?_)
    refine r_if_eq E 50 (by decide) dX0_brackets_22 (fun _ => ?_) (fun _ => ?_)
    · refine r_bipush E dX0_brackets_50 (by decide) (zkI (by decide) (by decide)) ?_
      exact r_ireturn E rfl hT dX0_brackets_52
    · refine r_iload E dX0_brackets_25 6 rfl ?_
      refine r_i2l E dX0_brackets_27 ?_
      refine r_lconst (v := 0) E dX0_brackets_28 (by decide) (zkJ (by decide) (by decide)) ?_
      refine r_aload E dX0_brackets_29 0 rfl ?_
      refine r_callV E [] [(1, 0), (1, x5)] rfl zc_6 zr_6 (fun o _ => ⟨_, zw_X4.1 o, rfl⟩) (lw_V q1992 q1925 q1926 q231 q1927) dX0_brackets_31 zy_X4_isSegment rfl (by omega) (by decide) (Nat.le_of_ble_eq_true rfl) (Int.not_lt.mp hz2) (fun l G => k_fX4_isSegment l G v1 (Int.not_lt.mp hz2)) (fun v4 => ?_)
      refine r_if_eq E 43 (by decide) dX0_brackets_34 (fun _ => ?_) (fun _ => ?_)
      · refine r_lconst (v := 0) E dX0_brackets_43 (by decide) (zkJ (by decide) (by decide)) ?_
        refine r_pick E [3, 4, 5, 6, 0] rfl ?_
        exact w_fX0_brackets_J44 E hN hT x2 x3 x4 x5 v1 x5 0 0
      · refine r_ldc2 (v := 63) E dX0_brackets_37 q1848 (by decide) (zkJ (by decide) (by decide)) ?_
        refine r_goto E 44 (by decide) dX0_brackets_40 ?_
        refine r_pick E [3, 4, 5, 6, 0] rfl ?_
        exact w_fX0_brackets_J44 E hN hT x2 x3 x4 x5 v1 x5 0 63
theorem k_fX0_brackets (l : Launch) (G : zG) (x1 : Int) (x2 : Int) (x3 : Int) (x4 : Int) (x5 : Int) : zCt l G yX0_brackets cX0_brackets 7 (some .int) 2 [(2, 0), (0, x1), (0, x2), (0, x3), (0, x4), (0, x5)] (some 0) (fX0_brackets x1 x2 x3 x4 x5) := zCt.of (by decide) (Nat.le_of_ble_eq_true rfl) (fun K E _ _ hN hT => w_fX0_brackets E hN hT x1 x2 x3 x4 x5)
theorem dX1_segment_0 : decode cX1_segment 0 = .ok (.aload_n 0, 1) := by decide +kernel
theorem dX1_segment_1 : decode cX1_segment 1 = .ok (.iload_n 1, 1) := by decide +kernel
theorem dX1_segment_2 : decode cX1_segment 2 = .ok (.invokevirtual 85, 3) := by decide +kernel
theorem dX1_segment_5 : decode cX1_segment 5 = .ok (.astore_n 2, 1) := by decide +kernel
theorem dX1_segment_6 : decode cX1_segment 6 = .ok (.aload_n 2, 1) := by decide +kernel
theorem dX1_segment_7 : decode cX1_segment 7 = .ok (.ifnull 14, 3) := by decide +kernel
theorem dX1_segment_10 : decode cX1_segment 10 = .ok (.aload_n 2, 1) := by decide +kernel
theorem dX1_segment_11 : decode cX1_segment 11 = .ok (.invokevirtual 93, 3) := by decide +kernel
theorem dX1_segment_14 : decode cX1_segment 14 = .ok (.ifCond .eq 7, 3) := by decide +kernel
theorem dX1_segment_17 : decode cX1_segment 17 = .ok (.aload_n 2, 1) := by decide +kernel
theorem dX1_segment_18 : decode cX1_segment 18 = .ok (.goto 4, 3) := by decide +kernel
theorem dX1_segment_21 : decode cX1_segment 21 = .ok (.aconst_null, 1) := by decide +kernel
theorem dX1_segment_22 : decode cX1_segment 22 = .ok (.areturn, 1) := by decide +kernel
theorem zy_X1_segment : yX1_segment.cls ≠ "java/lang/invoke/MethodHandle" ∧ yX1_segment.cls ≠ "java/lang/invoke/VarHandle" ∧ (parseMethodDescriptor yX1_segment.desc).map (fun d => d.parameters.length) = some 1 := by decide +kernel
theorem w_fX1_segment {K : zK} (E : zE K cX1_segment "RingHouse$Tree" (some (.object "RingHouse$Node")) 2) (hN : zNl K = 3) (hT : zTr K = (some 6)) (x1 : Int) : zR K 0 [(0, 3, 0), (1, 0, x1)] [] (fX1_segment x1) := by
  refine r_aload_n E dX1_segment_0 rfl 0 rfl ?_
  refine r_iload_n E dX1_segment_1 rfl 1 rfl ?_
  refine r_callV E [(0, x1)] [] rfl zc_3 zr_3 (fun o _ => ⟨_, zw_X1.1 o, rfl⟩) (lw_V q1829 q1830 q1831 q228 q1832) dX1_segment_2 zy_X1_node rfl (by omega) (by decide) (Nat.le_of_ble_eq_true rfl) (by decide) (fun l G => k_fX1_node l G x1) (fun v1 => ?_)
  refine r_astore_n (ls' := [(2, 6, v1), (0, 3, 0), (1, 0, x1)]) E dX1_segment_5 rfl (by rw [hN]; decide) rfl ?_
  refine r_aload_n E dX1_segment_6 rfl 0 rfl ?_
  refine r_ifnull E 21 (by decide) dX1_segment_7 (fun _ => ?_) (fun hz2 => ?_)
  · refine r_null E 4 dX1_segment_21 ?_
    exact r_areturn E rfl hT dX1_segment_22
  · refine r_aload_n E dX1_segment_10 rfl 0 rfl ?_
    refine r_callV E [] [] rfl zc_6 zr_6 (fun o _ => ⟨_, zw_X4.1 o, rfl⟩) (lw_V q2002 q1925 q1926 q231 q1927) dX1_segment_11 zy_X4_isSegment rfl (by omega) (by decide) (Nat.le_of_ble_eq_true rfl) (Int.not_lt.mp hz2) (fun l G => k_fX4_isSegment l G v1 (Int.not_lt.mp hz2)) (fun v3 => ?_)
    refine r_if_eq E 21 (by decide) dX1_segment_14 (fun _ => ?_) (fun _ => ?_)
    · refine r_null E 4 dX1_segment_21 ?_
      exact r_areturn E rfl hT dX1_segment_22
    · refine r_aload_n E dX1_segment_17 rfl 0 rfl ?_
      refine r_goto E 22 (by decide) dX1_segment_18 ?_
      exact r_areturn E rfl hT dX1_segment_22
theorem k_fX1_segment (l : Launch) (G : zG) (x1 : Int) : zCt l G yX1_segment cX1_segment 3 (some (.object "RingHouse$Node")) 2 [(3, 0), (0, x1)] (some 6) (fX1_segment x1) := zCt.of (by decide) (Nat.le_of_ble_eq_true rfl) (fun K E _ _ hN hT => w_fX1_segment E hN hT x1)
theorem dX12_newLength_0 : decode cX12_newLength 0 = .ok (.aload_n 0, 1) := by decide +kernel
theorem dX12_newLength_1 : decode cX12_newLength 1 = .ok (.getfield 24, 3) := by decide +kernel
theorem dX12_newLength_4 : decode cX12_newLength 4 = .ok (.aload_n 1, 1) := by decide +kernel
theorem dX12_newLength_5 : decode cX12_newLength 5 = .ok (.getfield 573, 3) := by decide +kernel
theorem dX12_newLength_8 : decode cX12_newLength 8 = .ok (.iload_n 2, 1) := by decide +kernel
theorem dX12_newLength_9 : decode cX12_newLength 9 = .ok (.invokestatic 555, 3) := by decide +kernel
theorem dX12_newLength_12 : decode cX12_newLength 12 = .ok (.aload_n 1, 1) := by decide +kernel
theorem dX12_newLength_13 : decode cX12_newLength 13 = .ok (.getfield 280, 3) := by decide +kernel
theorem dX12_newLength_16 : decode cX12_newLength 16 = .ok (.invokestatic 555, 3) := by decide +kernel
theorem dX12_newLength_19 : decode cX12_newLength 19 = .ok (.isub, 1) := by decide +kernel
theorem dX12_newLength_20 : decode cX12_newLength 20 = .ok (.invokevirtual 559, 3) := by decide +kernel
theorem dX12_newLength_23 : decode cX12_newLength 23 = .ok (.ifCond .ne 5, 3) := by decide +kernel
theorem dX12_newLength_26 : decode cX12_newLength 26 = .ok (.iconst 0, 1) := by decide +kernel
theorem dX12_newLength_27 : decode cX12_newLength 27 = .ok (.ireturn, 1) := by decide +kernel
theorem dX12_newLength_28 : decode cX12_newLength 28 = .ok (.aload_n 0, 1) := by decide +kernel
theorem dX12_newLength_29 : decode cX12_newLength 29 = .ok (.getfield 24, 3) := by decide +kernel
theorem dX12_newLength_32 : decode cX12_newLength 32 = .ok (.aload_n 1, 1) := by decide +kernel
theorem dX12_newLength_33 : decode cX12_newLength 33 = .ok (.iload_n 2, 1) := by decide +kernel
theorem dX12_newLength_34 : decode cX12_newLength 34 = .ok (.invokevirtual 570, 3) := by decide +kernel
theorem dX12_newLength_37 : decode cX12_newLength 37 = .ok (.iconst 1, 1) := by decide +kernel
theorem dX12_newLength_38 : decode cX12_newLength 38 = .ok (.ireturn, 1) := by decide +kernel
theorem zy_X12_newLength : yX12_newLength.cls ≠ "java/lang/invoke/MethodHandle" ∧ yX12_newLength.cls ≠ "java/lang/invoke/VarHandle" ∧ (parseMethodDescriptor yX12_newLength.desc).map (fun d => d.parameters.length) = some 2 := by decide +kernel
theorem w_fX12_newLength {K : zK} (E : zE K cX12_newLength "RingHouse$Machine" (some .boolean) 3) (hN : zNl K = 3) (hT : zTr K = (some 0)) (x1 : Int) (x2 : Int) : zR K 0 [(0, 14, 0), (1, 6, x1), (2, 0, x2)] [] (fX12_newLength x1 x2) := by
  refine r_aload_n E dX12_newLength_0 rfl 0 rfl ?_
  refine r_gec (y := 0) E zc_14 dX12_newLength_1 q1526 zr_14 (zh_1300 (by decide)) (by decide) ?_
  refine r_aload_n E dX12_newLength_4 rfl 1 rfl ?_
  refine r_nn E (fun hn1 => ?_)
  refine r_getN E zc_6 zt_504 dX12_newLength_5 q400 zr_6 (zg_504 _) hn1 (fun v2 => ?_)
  refine r_iload_n E dX12_newLength_8 rfl 2 rfl ?_
  refine r_callSN E [(0, x2)] [(6, v2), (3, 0)] rfl q1944 q1929 q227 q1930 dX12_newLength_9 zy_X0_records rfl (by omega) (by decide) (Nat.le_of_ble_eq_true rfl) (fun l G => k_fX0_records l G x2) (fun v3 => ?_)
  refine r_aload_n E dX12_newLength_12 rfl 1 rfl ?_
  refine r_getN E zc_6 zt_522 dX12_newLength_13 q476 zr_6 (zg_522 _) hn1 (fun v4 => ?_)
  refine r_callSN E [(0, v4)] [(0, v3), (6, v2), (3, 0)] rfl q1944 q1929 q227 q1930 dX12_newLength_16 zy_X0_records rfl (by omega) (by decide) (Nat.le_of_ble_eq_true rfl) (fun l G => k_fX0_records l G v4) (fun v5 => ?_)
  refine r_isub E dX12_newLength_19 ?_
  refine r_callV E [(6, v2), (0, (zi (v3 - v5)))] [] rfl zc_3 zr_3 (fun o _ => ⟨_, zw_X1.1 o, rfl⟩) (lw_V q1875 q1876 q1877 q228 q1878) dX12_newLength_20 zy_X1_bears rfl (by omega) (by decide) (Nat.le_of_ble_eq_true rfl) (by decide) (fun l G => k_fX1_bears l G v2 (zi (v3 - v5))) (fun v6 => ?_)
  refine r_if_ne E 28 (by decide) dX12_newLength_23 (fun _ => ?_) (fun _ => ?_)
  · refine r_aload_n E dX12_newLength_28 rfl 0 rfl ?_
    refine r_gec (y := 0) E zc_14 dX12_newLength_29 q1526 zr_14 (zh_1300 (by decide)) (by decide) ?_
    refine r_aload_n E dX12_newLength_32 rfl 1 rfl ?_
    refine r_iload_n E dX12_newLength_33 rfl 2 rfl ?_
    refine r_callV E [(6, x1), (0, x2)] [] rfl zc_3 zr_3 (fun o _ => ⟨_, zw_X1.1 o, rfl⟩) (lw_V q1945 q1946 q1947 q228 q1948) dX12_newLength_34 zy_X1_resize rfl (by omega) (by decide) (Nat.le_of_ble_eq_true rfl) (by decide) (fun l G => k_fX1_resize l G x1 x2) (fun _ => ?_)
    refine r_iconst E dX12_newLength_37 (zkI (by decide) (by decide)) ?_
    exact r_zreturn E rfl hT (by decide) dX12_newLength_38
  · refine r_iconst E dX12_newLength_26 (zkI (by decide) (by decide)) ?_
    exact r_zreturn E rfl hT (by decide) dX12_newLength_27
theorem k_fX12_newLength (l : Launch) (G : zG) (x1 : Int) (x2 : Int) : zCt l G yX12_newLength cX12_newLength 3 (some .boolean) 3 [(14, 0), (6, x1), (0, x2)] (some 0) (fX12_newLength x1 x2) := zCt.of (by decide) (Nat.le_of_ble_eq_true rfl) (fun K E _ _ hN hT => w_fX12_newLength E hN hT x1 x2)
theorem dX0_length_0 : decode cX0_length 0 = .ok (.aload_n 0, 1) := by decide +kernel
theorem dX0_length_1 : decode cX0_length 1 = .ok (.getfield 42, 3) := by decide +kernel
theorem dX0_length_4 : decode cX0_length 4 = .ok (.iload_n 1, 1) := by decide +kernel
theorem dX0_length_5 : decode cX0_length 5 = .ok (.invokevirtual 191, 3) := by decide +kernel
theorem dX0_length_8 : decode cX0_length 8 = .ok (.astore_n 3, 1) := by decide +kernel
theorem dX0_length_9 : decode cX0_length 9 = .ok (.aload_n 3, 1) := by decide +kernel
theorem dX0_length_10 : decode cX0_length 10 = .ok (.ifnull 15, 3) := by decide +kernel
theorem dX0_length_13 : decode cX0_length 13 = .ok (.iload_n 2, 1) := by decide +kernel
theorem dX0_length_14 : decode cX0_length 14 = .ok (.i2l, 1) := by decide +kernel
theorem dX0_length_15 : decode cX0_length 15 = .ok (.lconst 0, 1) := by decide +kernel
theorem dX0_length_16 : decode cX0_length 16 = .ok (.ldc2_w 138, 3) := by decide +kernel
theorem dX0_length_19 : decode cX0_length 19 = .ok (.invokestatic 17, 3) := by decide +kernel
theorem dX0_length_22 : decode cX0_length 22 = .ok (.ifCond .ne 6, 3) := by decide +kernel
theorem dX0_length_25 : decode cX0_length 25 = .ok (.bipush (-8), 2) := by decide +kernel
theorem dX0_length_27 : decode cX0_length 27 = .ok (.ireturn, 1) := by decide +kernel
theorem dX0_length_28 : decode cX0_length 28 = .ok (.aload_n 3, 1) := by decide +kernel
theorem dX0_length_29 : decode cX0_length 29 = .ok (.getfield 194, 3) := by decide +kernel
theorem dX0_length_32 : decode cX0_length 32 = .ok (.istore 4, 2) := by decide +kernel
theorem dX0_length_34 : decode cX0_length 34 = .ok (.aload_n 0, 1) := by decide +kernel
theorem dX0_length_35 : decode cX0_length 35 = .ok (.getfield 76, 3) := by decide +kernel
theorem dX0_length_38 : decode cX0_length 38 = .ok (.aload_n 3, 1) := by decide +kernel
theorem dX0_length_39 : decode cX0_length 39 = .ok (.iload_n 2, 1) := by decide +kernel
theorem dX0_length_40 : decode cX0_length 40 = .ok (.invokevirtual 197, 3) := by decide +kernel
theorem dX0_length_43 : decode cX0_length 43 = .ok (.ifCond .eq 8, 3) := by decide +kernel
theorem dX0_length_46 : decode cX0_length 46 = .ok (.iload 4, 2) := by decide +kernel
theorem dX0_length_48 : decode cX0_length 48 = .ok (.goto 5, 3) := by decide +kernel
theorem dX0_length_51 : decode cX0_length 51 = .ok (.bipush (-5), 2) := by decide +kernel
theorem dX0_length_53 : decode cX0_length 53 = .ok (.ireturn, 1) := by decide +kernel
theorem zy_X0_length : yX0_length.cls ≠ "java/lang/invoke/MethodHandle" ∧ yX0_length.cls ≠ "java/lang/invoke/VarHandle" ∧ (parseMethodDescriptor yX0_length.desc).map (fun d => d.parameters.length) = some 2 := by decide +kernel
theorem w_fX0_length {K : zK} (E : zE K cX0_length "RingHouse" (some .int) 4) (hN : zNl K = 5) (hT : zTr K = (some 0)) (x1 : Int) (x2 : Int) : zR K 0 [(0, 2, 0), (1, 0, x1), (2, 0, x2)] [] (fX0_length x1 x2) := by
  refine r_aload_n E dX0_length_0 rfl 0 rfl ?_
  refine r_gec (y := 0) E zc_2 dX0_length_1 q1790 zr_2 (zh_100 (by decide)) (by decide) ?_
  refine r_iload_n E dX0_length_4 rfl 1 rfl ?_
  refine r_callV E [(0, x1)] [] rfl zc_3 zr_3 (fun o _ => ⟨_, zw_X1.1 o, rfl⟩) (lw_V q1998 q1999 q2000 q228 q2001) dX0_length_5 zy_X1_segment rfl (by omega) (by decide) (Nat.le_of_ble_eq_true rfl) (by decide) (fun l G => k_fX1_segment l G x1) (fun v1 => ?_)
  refine r_astore_n (ls' := [(3, 6, v1), (0, 2, 0), (1, 0, x1), (2, 0, x2)]) E dX0_length_8 rfl (by rw [hN]; decide) rfl ?_
  refine r_aload_n E dX0_length_9 rfl 0 rfl ?_
  refine r_ifnull E 25 (by decide) dX0_length_10 (fun _ => ?_) (fun hz2 => ?_)
  · refine r_bipush E dX0_length_25 (by decide) (zkI (by decide) (by decide)) ?_
    exact r_ireturn E rfl hT dX0_length_27
  · refine r_iload_n E dX0_length_13 rfl 3 rfl ?_
    refine r_i2l E dX0_length_14 ?_
    refine r_lconst (v := 0) E dX0_length_15 (by decide) (zkJ (by decide) (by decide)) ?_
    refine r_ldc2 (v := 1024) E dX0_length_16 q1939 (by decide) (zkJ (by decide) (by decide)) ?_
    refine r_callS E [(1, x2), (1, 0), (1, 1024)] [] rfl q1853 q1835 q227 q1836 dX0_length_19 zy_X0_isIn rfl (by omega) (by decide) (Nat.le_of_ble_eq_true rfl) (fun l G => k_fX0_isIn l G x2 0 1024) (fun v3 => ?_)
    refine r_if_ne E 28 (by decide) dX0_length_22 (fun _ => ?_) (fun _ => ?_)
    · refine r_aload_n E dX0_length_28 rfl 0 rfl ?_
      refine r_getN E zc_6 zt_522 dX0_length_29 q480 zr_6 (zg_522 _) (Int.not_lt.mp hz2) (fun v4 => ?_)
      refine r_istore (ls' := [(4, 0, v4), (3, 6, v1), (0, 2, 0), (1, 0, x1), (2, 0, x2)]) E dX0_length_32 (by rw [hN]; decide) rfl ?_
      refine r_aload_n E dX0_length_34 rfl 2 rfl ?_
      refine r_gec (y := 0) E zc_2 dX0_length_35 q1792 zr_2 (zh_102 (by decide)) (by decide) ?_
      refine r_aload_n E dX0_length_38 rfl 1 rfl ?_
      refine r_iload_n E dX0_length_39 rfl 4 rfl ?_
      refine r_callVN E [(6, v1), (0, x2)] [] rfl zc_14 zr_14 (fun o _ => ⟨_, zw_X12.1 o, rfl⟩) q2003 q2005 qs6 q239 q2006 dX0_length_40 zy_X12_newLength rfl (by omega) (by decide) (Nat.le_of_ble_eq_true rfl) (by decide) (fun l G => k_fX12_newLength l G v1 x2) (fun v5 => ?_)
      refine r_if_eq E 51 (by decide) dX0_length_43 (fun _ => ?_) (fun _ => ?_)
      · refine r_bipush E dX0_length_51 (by decide) (zkI (by decide) (by decide)) ?_
        exact r_ireturn E rfl hT dX0_length_53
      · refine r_iload E dX0_length_46 0 rfl ?_
        refine r_goto E 53 (by decide) dX0_length_48 ?_
        exact r_ireturn E rfl hT dX0_length_53
    · refine r_bipush E dX0_length_25 (by decide) (zkI (by decide) (by decide)) ?_
      exact r_ireturn E rfl hT dX0_length_27
theorem k_fX0_length (l : Launch) (G : zG) (x1 : Int) (x2 : Int) : zCt l G yX0_length cX0_length 5 (some .int) 4 [(2, 0), (0, x1), (0, x2)] (some 0) (fX0_length x1 x2) := zCt.of (by decide) (Nat.le_of_ble_eq_true rfl) (fun K E _ _ hN hT => w_fX0_length E hN hT x1 x2)
theorem dX1_limit_0 : decode cX1_limit 0 = .ok (.iload_n 2, 1) := by decide +kernel
theorem dX1_limit_1 : decode cX1_limit 1 = .ok (.aload_n 1, 1) := by decide +kernel
theorem dX1_limit_2 : decode cX1_limit 2 = .ok (.getfield 106, 3) := by decide +kernel
theorem dX1_limit_5 : decode cX1_limit 5 = .ok (.if_icmp .lt 20, 3) := by decide +kernel
theorem dX1_limit_8 : decode cX1_limit 8 = .ok (.aload_n 0, 1) := by decide +kernel
theorem dX1_limit_9 : decode cX1_limit 9 = .ok (.aload_n 1, 1) := by decide +kernel
theorem dX1_limit_10 : decode cX1_limit 10 = .ok (.getfield 99, 3) := by decide +kernel
theorem dX1_limit_13 : decode cX1_limit 13 = .ok (.iload_n 2, 1) := by decide +kernel
theorem dX1_limit_14 : decode cX1_limit 14 = .ok (.aload_n 1, 1) := by decide +kernel
theorem dX1_limit_15 : decode cX1_limit 15 = .ok (.getfield 63, 3) := by decide +kernel
theorem dX1_limit_18 : decode cX1_limit 18 = .ok (.isub, 1) := by decide +kernel
theorem dX1_limit_19 : decode cX1_limit 19 = .ok (.invokevirtual 178, 3) := by decide +kernel
theorem dX1_limit_22 : decode cX1_limit 22 = .ok (.ifCond .ne 5, 3) := by decide +kernel
theorem dX1_limit_25 : decode cX1_limit 25 = .ok (.iconst 0, 1) := by decide +kernel
theorem dX1_limit_26 : decode cX1_limit 26 = .ok (.ireturn, 1) := by decide +kernel
theorem dX1_limit_27 : decode cX1_limit 27 = .ok (.aload_n 0, 1) := by decide +kernel
theorem dX1_limit_28 : decode cX1_limit 28 = .ok (.aload_n 1, 1) := by decide +kernel
theorem dX1_limit_29 : decode cX1_limit 29 = .ok (.getfield 99, 3) := by decide +kernel
theorem dX1_limit_32 : decode cX1_limit 32 = .ok (.iload_n 2, 1) := by decide +kernel
theorem dX1_limit_33 : decode cX1_limit 33 = .ok (.aload_n 1, 1) := by decide +kernel
theorem dX1_limit_34 : decode cX1_limit 34 = .ok (.getfield 63, 3) := by decide +kernel
theorem dX1_limit_37 : decode cX1_limit 37 = .ok (.isub, 1) := by decide +kernel
theorem dX1_limit_38 : decode cX1_limit 38 = .ok (.invokevirtual 139, 3) := by decide +kernel
theorem dX1_limit_41 : decode cX1_limit 41 = .ok (.aload_n 1, 1) := by decide +kernel
theorem dX1_limit_42 : decode cX1_limit 42 = .ok (.iload_n 2, 1) := by decide +kernel
theorem dX1_limit_43 : decode cX1_limit 43 = .ok (.putfield 63, 3) := by decide +kernel
theorem dX1_limit_46 : decode cX1_limit 46 = .ok (.iconst 1, 1) := by decide +kernel
theorem dX1_limit_47 : decode cX1_limit 47 = .ok (.ireturn, 1) := by decide +kernel
theorem zy_X1_limit : yX1_limit.cls ≠ "java/lang/invoke/MethodHandle" ∧ yX1_limit.cls ≠ "java/lang/invoke/VarHandle" ∧ (parseMethodDescriptor yX1_limit.desc).map (fun d => d.parameters.length) = some 2 := by decide +kernel
theorem w_fX1_limit {K : zK} (E : zE K cX1_limit "RingHouse$Tree" (some .boolean) 2) (hN : zNl K = 3) (hT : zTr K = (some 0)) (x1 : Int) (x2 : Int) : zR K 0 [(0, 3, 0), (1, 6, x1), (2, 0, x2)] [] (fX1_limit x1 x2) := by
  refine r_iload_n E dX1_limit_0 rfl 2 rfl ?_
  refine r_aload_n E dX1_limit_1 rfl 1 rfl ?_
  refine r_nn E (fun hn1 => ?_)
  refine r_getN E zc_6 zt_517 dX1_limit_2 q457 zr_6 (zg_517 _) hn1 (fun v2 => ?_)
  refine r_icmp_lt E 25 (by decide) dX1_limit_5 (fun _ => ?_) (fun _ => ?_)
  · refine r_iconst E dX1_limit_25 (zkI (by decide) (by decide)) ?_
    exact r_zreturn E rfl hT (by decide) dX1_limit_26
  · refine r_aload_n E dX1_limit_8 rfl 0 rfl ?_
    refine r_aload_n E dX1_limit_9 rfl 1 rfl ?_
    refine r_getN E zc_6 zt_504 dX1_limit_10 q399 zr_6 (zg_504 _) hn1 (fun v3 => ?_)
    refine r_iload_n E dX1_limit_13 rfl 2 rfl ?_
    refine r_aload_n E dX1_limit_14 rfl 1 rfl ?_
    refine r_getN E zc_6 zt_516 dX1_limit_15 q451 zr_6 (zg_516 _) hn1 (fun v4 => ?_)
    refine r_isub E dX1_limit_18 ?_
    refine r_callV E [(6, v3), (0, (zi (x2 - v4)))] [] rfl zc_3 zr_3 (fun o _ => ⟨_, zw_X1.1 o, rfl⟩) (lw_V q2015 q1876 q1877 q228 q1878) dX1_limit_19 zy_X1_bears rfl (by omega) (by decide) (Nat.le_of_ble_eq_true rfl) (by decide) (fun l G => k_fX1_bears l G v3 (zi (x2 - v4))) (fun v5 => ?_)
    refine r_if_ne E 27 (by decide) dX1_limit_22 (fun _ => ?_) (fun _ => ?_)
    · refine r_aload_n E dX1_limit_27 rfl 0 rfl ?_
      refine r_aload_n E dX1_limit_28 rfl 1 rfl ?_
      refine r_getN E zc_6 zt_504 dX1_limit_29 q399 zr_6 (zg_504 _) hn1 (fun v6 => ?_)
      refine r_iload_n E dX1_limit_32 rfl 2 rfl ?_
      refine r_aload_n E dX1_limit_33 rfl 1 rfl ?_
      refine r_getN E zc_6 zt_516 dX1_limit_34 q451 zr_6 (zg_516 _) hn1 (fun v7 => ?_)
      refine r_isub E dX1_limit_37 ?_
      refine r_callV E [(6, v6), (0, (zi (x2 - v7)))] [] rfl zc_3 zr_3 (fun o _ => ⟨_, zw_X1.1 o, rfl⟩) (lw_V q1931 q1933 qs3 q228 q1934) dX1_limit_38 zy_X1_charge rfl (by omega) (by decide) (Nat.le_of_ble_eq_true rfl) (by decide) (fun l G => k_fX1_charge l G v6 (zi (x2 - v7))) (fun _ => ?_)
      refine r_aload_n E dX1_limit_41 rfl 1 rfl ?_
      refine r_iload_n E dX1_limit_42 rfl 2 rfl ?_
      refine r_putN E zc_6 zt_516 zo_516 dX1_limit_43 q451 zr_6 zw_X4 zp_516 (fun _ => rfl) (fun _ => rfl) hn1 ?_
      refine r_iconst E dX1_limit_46 (zkI (by decide) (by decide)) ?_
      exact r_zreturn E rfl hT (by decide) dX1_limit_47
    · refine r_iconst E dX1_limit_25 (zkI (by decide) (by decide)) ?_
      exact r_zreturn E rfl hT (by decide) dX1_limit_26
theorem k_fX1_limit (l : Launch) (G : zG) (x1 : Int) (x2 : Int) : zCt l G yX1_limit cX1_limit 3 (some .boolean) 2 [(3, 0), (6, x1), (0, x2)] (some 0) (fX1_limit x1 x2) := zCt.of (by decide) (Nat.le_of_ble_eq_true rfl) (fun K E _ _ hN hT => w_fX1_limit E hN hT x1 x2)
theorem dX0_limit_0 : decode cX0_limit 0 = .ok (.aload_n 0, 1) := by decide +kernel
theorem dX0_limit_1 : decode cX0_limit 1 = .ok (.getfield 42, 3) := by decide +kernel
theorem dX0_limit_4 : decode cX0_limit 4 = .ok (.iload_n 1, 1) := by decide +kernel
theorem dX0_limit_5 : decode cX0_limit 5 = .ok (.invokevirtual 115, 3) := by decide +kernel
theorem dX0_limit_8 : decode cX0_limit 8 = .ok (.astore_n 3, 1) := by decide +kernel
theorem dX0_limit_9 : decode cX0_limit 9 = .ok (.aload_n 3, 1) := by decide +kernel
theorem dX0_limit_10 : decode cX0_limit 10 = .ok (.ifnull 33, 3) := by decide +kernel
theorem dX0_limit_13 : decode cX0_limit 13 = .ok (.aload_n 3, 1) := by decide +kernel
theorem dX0_limit_14 : decode cX0_limit 14 = .ok (.aload_n 0, 1) := by decide +kernel
theorem dX0_limit_15 : decode cX0_limit 15 = .ok (.getfield 42, 3) := by decide +kernel
theorem dX0_limit_18 : decode cX0_limit 18 = .ok (.getfield 201, 3) := by decide +kernel
theorem dX0_limit_21 : decode cX0_limit 21 = .ok (.if_acmp .eq 22, 3) := by decide +kernel
theorem dX0_limit_24 : decode cX0_limit 24 = .ok (.aload_n 3, 1) := by decide +kernel
theorem dX0_limit_25 : decode cX0_limit 25 = .ok (.getfield 205, 3) := by decide +kernel
theorem dX0_limit_28 : decode cX0_limit 28 = .ok (.ifCond .eq 15, 3) := by decide +kernel
theorem dX0_limit_31 : decode cX0_limit 31 = .ok (.iload_n 2, 1) := by decide +kernel
theorem dX0_limit_32 : decode cX0_limit 32 = .ok (.i2l, 1) := by decide +kernel
theorem dX0_limit_33 : decode cX0_limit 33 = .ok (.lconst 1, 1) := by decide +kernel
theorem dX0_limit_34 : decode cX0_limit 34 = .ok (.ldc2_w 31, 3) := by decide +kernel
theorem dX0_limit_37 : decode cX0_limit 37 = .ok (.invokestatic 17, 3) := by decide +kernel
theorem dX0_limit_40 : decode cX0_limit 40 = .ok (.ifCond .ne 6, 3) := by decide +kernel
theorem dX0_limit_43 : decode cX0_limit 43 = .ok (.bipush (-8), 2) := by decide +kernel
theorem dX0_limit_45 : decode cX0_limit 45 = .ok (.ireturn, 1) := by decide +kernel
theorem dX0_limit_46 : decode cX0_limit 46 = .ok (.aload_n 3, 1) := by decide +kernel
theorem dX0_limit_47 : decode cX0_limit 47 = .ok (.getfield 205, 3) := by decide +kernel
theorem dX0_limit_50 : decode cX0_limit 50 = .ok (.istore 4, 2) := by decide +kernel
theorem dX0_limit_52 : decode cX0_limit 52 = .ok (.aload_n 0, 1) := by decide +kernel
theorem dX0_limit_53 : decode cX0_limit 53 = .ok (.getfield 42, 3) := by decide +kernel
theorem dX0_limit_56 : decode cX0_limit 56 = .ok (.aload_n 3, 1) := by decide +kernel
theorem dX0_limit_57 : decode cX0_limit 57 = .ok (.iload_n 2, 1) := by decide +kernel
theorem dX0_limit_58 : decode cX0_limit 58 = .ok (.invokevirtual 208, 3) := by decide +kernel
theorem dX0_limit_61 : decode cX0_limit 61 = .ok (.ifCond .eq 8, 3) := by decide +kernel
theorem dX0_limit_64 : decode cX0_limit 64 = .ok (.iload 4, 2) := by decide +kernel
theorem dX0_limit_66 : decode cX0_limit 66 = .ok (.goto 5, 3) := by decide +kernel
theorem dX0_limit_69 : decode cX0_limit 69 = .ok (.bipush (-5), 2) := by decide +kernel
theorem dX0_limit_71 : decode cX0_limit 71 = .ok (.ireturn, 1) := by decide +kernel
theorem zy_X0_limit : yX0_limit.cls ≠ "java/lang/invoke/MethodHandle" ∧ yX0_limit.cls ≠ "java/lang/invoke/VarHandle" ∧ (parseMethodDescriptor yX0_limit.desc).map (fun d => d.parameters.length) = some 2 := by decide +kernel
theorem w_fX0_limit {K : zK} (E : zE K cX0_limit "RingHouse" (some .int) 3) (hN : zNl K = 5) (hT : zTr K = (some 0)) (x1 : Int) (x2 : Int) : zR K 0 [(0, 2, 0), (1, 0, x1), (2, 0, x2)] [] (fX0_limit x1 x2) := by
  refine r_aload_n E dX0_limit_0 rfl 0 rfl ?_
  refine r_gec (y := 0) E zc_2 dX0_limit_1 q1790 zr_2 (zh_100 (by decide)) (by decide) ?_
  refine r_iload_n E dX0_limit_4 rfl 1 rfl ?_
  refine r_callV E [(0, x1)] [] rfl zc_3 zr_3 (fun o _ => ⟨_, zw_X1.1 o, rfl⟩) (lw_V q1825 q1826 q1827 q228 q1828) dX0_limit_5 zy_X1_directory rfl (by omega) (by decide) (Nat.le_of_ble_eq_true rfl) (by decide) (fun l G => k_fX1_directory l G x1) (fun v1 => ?_)
  refine r_astore_n (ls' := [(3, 6, v1), (0, 2, 0), (1, 0, x1), (2, 0, x2)]) E dX0_limit_8 rfl (by rw [hN]; decide) rfl ?_
  refine r_aload_n E dX0_limit_9 rfl 0 rfl ?_
  refine r_ifnull E 43 (by decide) dX0_limit_10 (fun _ => ?_) (fun hz2 => ?_)
  · refine r_bipush E dX0_limit_43 (by decide) (zkI (by decide) (by decide)) ?_
    exact r_ireturn E rfl hT dX0_limit_45
  · refine r_aload_n E dX0_limit_13 rfl 0 rfl ?_
    refine r_aload_n E dX0_limit_14 rfl 1 rfl ?_
    refine r_gec (y := 0) E zc_2 dX0_limit_15 q1790 zr_2 (zh_100 (by decide)) (by decide) ?_
    refine r_gecN (y := 0) E zc_3 dX0_limit_18 q598 zr_3 (zh_205 (by decide)) (by decide) ?_
    refine r_acmp_eq E rfl 43 (by decide) dX0_limit_21 (fun _ => ?_) (fun _ => ?_)
    · refine r_bipush E dX0_limit_43 (by decide) (zkI (by decide) (by decide)) ?_
      exact r_ireturn E rfl hT dX0_limit_45
    · refine r_aload_n E dX0_limit_24 rfl 0 rfl ?_
      refine r_getN E zc_6 zt_516 dX0_limit_25 q455 zr_6 (zg_516 _) (Int.not_lt.mp hz2) (fun v3 => ?_)
      refine r_if_eq E 43 (by decide) dX0_limit_28 (fun _ => ?_) (fun _ => ?_)
      · refine r_bipush E dX0_limit_43 (by decide) (zkI (by decide) (by decide)) ?_
        exact r_ireturn E rfl hT dX0_limit_45
      · refine r_iload_n E dX0_limit_31 rfl 3 rfl ?_
        refine r_i2l E dX0_limit_32 ?_
        refine r_lconst (v := 1) E dX0_limit_33 (by decide) (zkJ (by decide) (by decide)) ?_
        refine r_ldc2 (v := 255) E dX0_limit_34 q1860 (by decide) (zkJ (by decide) (by decide)) ?_
        refine r_callS E [(1, x2), (1, 1), (1, 255)] [] rfl q1853 q1835 q227 q1836 dX0_limit_37 zy_X0_isIn rfl (by omega) (by decide) (Nat.le_of_ble_eq_true rfl) (fun l G => k_fX0_isIn l G x2 1 255) (fun v4 => ?_)
        refine r_if_ne E 46 (by decide) dX0_limit_40 (fun _ => ?_) (fun _ => ?_)
        · refine r_aload_n E dX0_limit_46 rfl 0 rfl ?_
          refine r_getN E zc_6 zt_516 dX0_limit_47 q455 zr_6 (zg_516 _) (Int.not_lt.mp hz2) (fun v5 => ?_)
          refine r_istore (ls' := [(4, 0, v5), (3, 6, v1), (0, 2, 0), (1, 0, x1), (2, 0, x2)]) E dX0_limit_50 (by rw [hN]; decide) rfl ?_
          refine r_aload_n E dX0_limit_52 rfl 2 rfl ?_
          refine r_gec (y := 0) E zc_2 dX0_limit_53 q1790 zr_2 (zh_100 (by decide)) (by decide) ?_
          refine r_aload_n E dX0_limit_56 rfl 1 rfl ?_
          refine r_iload_n E dX0_limit_57 rfl 4 rfl ?_
          refine r_callV E [(6, v1), (0, x2)] [] rfl zc_3 zr_3 (fun o _ => ⟨_, zw_X1.1 o, rfl⟩) (lw_V q2011 q2012 q2013 q228 q2014) dX0_limit_58 zy_X1_limit rfl (by omega) (by decide) (Nat.le_of_ble_eq_true rfl) (by decide) (fun l G => k_fX1_limit l G v1 x2) (fun v6 => ?_)
          refine r_if_eq E 69 (by decide) dX0_limit_61 (fun _ => ?_) (fun _ => ?_)
          · refine r_bipush E dX0_limit_69 (by decide) (zkI (by decide) (by decide)) ?_
            exact r_ireturn E rfl hT dX0_limit_71
          · refine r_iload E dX0_limit_64 0 rfl ?_
            refine r_goto E 71 (by decide) dX0_limit_66 ?_
            exact r_ireturn E rfl hT dX0_limit_71
        · refine r_bipush E dX0_limit_43 (by decide) (zkI (by decide) (by decide)) ?_
          exact r_ireturn E rfl hT dX0_limit_45
theorem k_fX0_limit (l : Launch) (G : zG) (x1 : Int) (x2 : Int) : zCt l G yX0_limit cX0_limit 5 (some .int) 3 [(2, 0), (0, x1), (0, x2)] (some 0) (fX0_limit x1 x2) := zCt.of (by decide) (Nat.le_of_ble_eq_true rfl) (fun K E _ _ hN hT => w_fX0_limit E hN hT x1 x2)
theorem dX2_remove_0 : decode cX2_remove 0 = .ok (.aload_n 1, 1) := by decide +kernel
theorem dX2_remove_1 : decode cX2_remove 1 = .ok (.getfield 27, 3) := by decide +kernel
theorem dX2_remove_4 : decode cX2_remove 4 = .ok (.aload_n 1, 1) := by decide +kernel
theorem dX2_remove_5 : decode cX2_remove 5 = .ok (.getfield 31, 3) := by decide +kernel
theorem dX2_remove_8 : decode cX2_remove 8 = .ok (.invokestatic 35, 3) := by decide +kernel
theorem dX2_remove_11 : decode cX2_remove 11 = .ok (.istore_n 2, 1) := by decide +kernel
theorem dX2_remove_12 : decode cX2_remove 12 = .ok (.aload_n 0, 1) := by decide +kernel
theorem dX2_remove_13 : decode cX2_remove 13 = .ok (.getfield 11, 3) := by decide +kernel
theorem dX2_remove_16 : decode cX2_remove 16 = .ok (.iload_n 2, 1) := by decide +kernel
theorem dX2_remove_17 : decode cX2_remove 17 = .ok (.aaload, 1) := by decide +kernel
theorem dX2_remove_18 : decode cX2_remove 18 = .ok (.aload_n 1, 1) := by decide +kernel
theorem dX2_remove_19 : decode cX2_remove 19 = .ok (.if_acmp .ne 14, 3) := by decide +kernel
theorem dX2_remove_22 : decode cX2_remove 22 = .ok (.aload_n 0, 1) := by decide +kernel
theorem dX2_remove_23 : decode cX2_remove 23 = .ok (.getfield 11, 3) := by decide +kernel
theorem dX2_remove_26 : decode cX2_remove 26 = .ok (.iload_n 2, 1) := by decide +kernel
theorem dX2_remove_27 : decode cX2_remove 27 = .ok (.aload_n 1, 1) := by decide +kernel
theorem dX2_remove_28 : decode cX2_remove 28 = .ok (.getfield 39, 3) := by decide +kernel
theorem dX2_remove_31 : decode cX2_remove 31 = .ok (.aastore, 1) := by decide +kernel
theorem dX2_remove_32 : decode cX2_remove 32 = .ok (.return_, 1) := by decide +kernel
theorem dX2_remove_33 : decode cX2_remove 33 = .ok (.aload_n 0, 1) := by decide +kernel
theorem dX2_remove_34 : decode cX2_remove 34 = .ok (.getfield 11, 3) := by decide +kernel
theorem dX2_remove_37 : decode cX2_remove 37 = .ok (.iload_n 2, 1) := by decide +kernel
theorem dX2_remove_38 : decode cX2_remove 38 = .ok (.aaload, 1) := by decide +kernel
theorem dX2_remove_39 : decode cX2_remove 39 = .ok (.astore_n 3, 1) := by decide +kernel
theorem dX2_remove_40 : decode cX2_remove 40 = .ok (.aload_n 3, 1) := by decide +kernel
theorem dX2_remove_41 : decode cX2_remove 41 = .ok (.getfield 39, 3) := by decide +kernel
theorem dX2_remove_44 : decode cX2_remove 44 = .ok (.aload_n 1, 1) := by decide +kernel
theorem dX2_remove_45 : decode cX2_remove 45 = .ok (.if_acmp .eq 11, 3) := by decide +kernel
theorem dX2_remove_48 : decode cX2_remove 48 = .ok (.aload_n 3, 1) := by decide +kernel
theorem dX2_remove_49 : decode cX2_remove 49 = .ok (.getfield 39, 3) := by decide +kernel
theorem dX2_remove_52 : decode cX2_remove 52 = .ok (.astore_n 3, 1) := by decide +kernel
theorem dX2_remove_53 : decode cX2_remove 53 = .ok (.goto (-13), 3) := by decide +kernel
theorem dX2_remove_56 : decode cX2_remove 56 = .ok (.aload_n 3, 1) := by decide +kernel
theorem dX2_remove_57 : decode cX2_remove 57 = .ok (.aload_n 1, 1) := by decide +kernel
theorem dX2_remove_58 : decode cX2_remove 58 = .ok (.getfield 39, 3) := by decide +kernel
theorem dX2_remove_61 : decode cX2_remove 61 = .ok (.putfield 39, 3) := by decide +kernel
theorem dX2_remove_64 : decode cX2_remove 64 = .ok (.return_, 1) := by decide +kernel
theorem zy_X2_remove : yX2_remove.cls ≠ "java/lang/invoke/MethodHandle" ∧ yX2_remove.cls ≠ "java/lang/invoke/VarHandle" ∧ (parseMethodDescriptor yX2_remove.desc).map (fun d => d.parameters.length) = some 1 := by decide +kernel
theorem w_fX2_remove_J56 {K : zK} (E : zE K cX2_remove "RingHouse$Index" none 1) (hN : zNl K = 4) (hT : zTr K = none) (x1 : Int) (x3 : Int) : zR K 56 [(1, 6, x1), (3, 6, x3)] [] (fX2_remove_J56 x1 x3) := by
  refine r_aload_n E dX2_remove_56 rfl 1 rfl ?_
  refine r_aload_n E dX2_remove_57 rfl 0 rfl ?_
  refine r_nn E (fun hn9 => ?_)
  refine r_getN E zc_6 zt_507 dX2_remove_58 q406 zr_6 (zg_507 _) hn9 (fun v10 => ?_)
  refine r_nn E (fun hn11 => ?_)
  refine r_putN E zc_6 zt_507 zo_507 dX2_remove_61 q406 zr_6 zw_X4 zp_507 (fun _ => rfl) (fun G => zfo G) hn11 ?_
  exact r_return E rfl hT dX2_remove_64
theorem w_fX2_remove_B40 {K : zK} (E : zE K cX2_remove "RingHouse$Index" none 1) (hN : zNl K = 4) (hT : zTr K = none) (x1 : Int) : ∀ r40 : Int → zX, (∀ s : Int, zR K 40 [(1, 6, x1), (3, 6, s)] [] (r40 s)) → ∀ s : Int, zR K 40 [(1, 6, x1), (3, 6, s)] [] (fX2_remove_B40 x1 r40 s) := by
  intro r40 hr40 x3
  refine r_aload_n E dX2_remove_40 rfl 1 rfl ?_
  refine r_nn E (fun hn7 => ?_)
  refine r_getN E zc_6 zt_507 dX2_remove_41 q406 zr_6 (zg_507 _) hn7 (fun v8 => ?_)
  refine r_aload_n E dX2_remove_44 rfl 0 rfl ?_
  refine r_acmp_eq E rfl 56 (by decide) dX2_remove_45 (fun _ => ?_) (fun _ => ?_)
  · exact w_fX2_remove_J56 E hN hT x1 x3
  · refine r_aload_n E dX2_remove_48 rfl 1 rfl ?_
    refine r_getN E zc_6 zt_507 dX2_remove_49 q406 zr_6 (zg_507 _) hn7 (fun v12 => ?_)
    refine r_astore_n (ls' := [(3, 6, v12), (1, 6, x1)]) E dX2_remove_52 rfl (by rw [hN]; decide) rfl ?_
    refine r_goto E 40 (by decide) dX2_remove_53 ?_
    refine r_pick E [1, 0] rfl ?_
    exact hr40 v12
theorem w_fX2_remove {K : zK} (E : zE K cX2_remove "RingHouse$Index" none 1) (hN : zNl K = 4) (hT : zTr K = none) (x1 : Int) : zR K 0 [(0, 4, 0), (1, 6, x1)] [] (fX2_remove x1) := by
  refine r_aload_n E dX2_remove_0 rfl 1 rfl ?_
  refine r_nn E (fun hn1 => ?_)
  refine r_getN E zc_6 zt_504 dX2_remove_1 q397 zr_6 (zg_504 _) hn1 (fun v2 => ?_)
  refine r_aload_n E dX2_remove_4 rfl 1 rfl ?_
  refine r_getN E zc_6 zt_502 dX2_remove_5 q383 zr_6 (zg_502 _) hn1 (fun v3 => ?_)
  refine r_callS E [(6, v2), (1, v3)] [] rfl q1869 q1870 q229 q1871 dX2_remove_8 zy_X2_bucket rfl (by omega) (by decide) (Nat.le_of_ble_eq_true rfl) (fun l G => k_fX2_bucket l G v2 v3) (fun v4 => ?_)
  refine r_istore_n (ls' := [(2, 0, v4), (0, 4, 0), (1, 6, x1)]) E dX2_remove_11 rfl (by rw [hN]; decide) rfl ?_
  refine r_aload_n E dX2_remove_12 rfl 1 rfl ?_
  refine r_gec (y := 0) E zc_4 dX2_remove_13 q323 zr_4 (zh_300 (by decide)) (by decide) ?_
  refine r_iload_n E dX2_remove_16 rfl 0 rfl ?_
  refine r_aaload E zc_300 za_300 zt_300 zx_300 rfl rfl dX2_remove_17 (by decide) (fun v5 => ?_)
  refine r_aload_n E dX2_remove_18 rfl 2 rfl ?_
  refine r_acmp_ne E rfl 33 (by decide) dX2_remove_19 (fun _ => ?_) (fun _ => ?_)
  · refine r_aload_n E dX2_remove_33 rfl 1 rfl ?_
    refine r_gec (y := 0) E zc_4 dX2_remove_34 q323 zr_4 (zh_300 (by decide)) (by decide) ?_
    refine r_iload_n E dX2_remove_37 rfl 0 rfl ?_
    refine r_aaload E zc_300 za_300 zt_300 zx_300 rfl rfl dX2_remove_38 (by decide) (fun v6 => ?_)
    refine r_astore_n (ls' := [(3, 6, v6), (2, 0, v4), (0, 4, 0), (1, 6, x1)]) E dX2_remove_39 rfl (by rw [hN]; decide) rfl ?_
    refine r_pick E [3, 0] rfl ?_
    exact r_loop (L := fun s => [(1, 6, x1), (3, 6, s)]) (w_fX2_remove_B40 E hN hT x1) zBIG v6
  · refine r_aload_n E dX2_remove_22 rfl 1 rfl ?_
    refine r_gec (y := 0) E zc_4 dX2_remove_23 q323 zr_4 (zh_300 (by decide)) (by decide) ?_
    refine r_iload_n E dX2_remove_26 rfl 0 rfl ?_
    refine r_aload_n E dX2_remove_27 rfl 2 rfl ?_
    refine r_getN E zc_6 zt_507 dX2_remove_28 q406 zr_6 (zg_507 _) hn1 (fun v13 => ?_)
    refine r_aastore E zc_300 zc_6 za_300 zt_300 zo_300 zx_300 zr_6 zw_X4 rfl rfl dX2_remove_31 (by decide) ?_
    exact r_return E rfl hT dX2_remove_32
theorem k_fX2_remove (l : Launch) (G : zG) (x1 : Int) : zCt l G yX2_remove cX2_remove 4 none 1 [(4, 0), (6, x1)] none (fX2_remove x1) := zCt.of (by decide) (Nat.le_of_ble_eq_true rfl) (fun K E _ _ hN hT => w_fX2_remove E hN hT x1)
theorem dX1_rename_0 : decode cX1_rename 0 = .ok (.aload_n 0, 1) := by decide +kernel
theorem dX1_rename_1 : decode cX1_rename 1 = .ok (.getfield 20, 3) := by decide +kernel
theorem dX1_rename_4 : decode cX1_rename 4 = .ok (.aload_n 1, 1) := by decide +kernel
theorem dX1_rename_5 : decode cX1_rename 5 = .ok (.invokevirtual 171, 3) := by decide +kernel
theorem dX1_rename_8 : decode cX1_rename 8 = .ok (.aload_n 1, 1) := by decide +kernel
theorem dX1_rename_9 : decode cX1_rename 9 = .ok (.lload_n 2, 1) := by decide +kernel
theorem dX1_rename_10 : decode cX1_rename 10 = .ok (.putfield 174, 3) := by decide +kernel
theorem dX1_rename_13 : decode cX1_rename 13 = .ok (.aload_n 0, 1) := by decide +kernel
theorem dX1_rename_14 : decode cX1_rename 14 = .ok (.getfield 20, 3) := by decide +kernel
theorem dX1_rename_17 : decode cX1_rename 17 = .ok (.aload_n 1, 1) := by decide +kernel
theorem dX1_rename_18 : decode cX1_rename 18 = .ok (.invokevirtual 132, 3) := by decide +kernel
theorem dX1_rename_21 : decode cX1_rename 21 = .ok (.return_, 1) := by decide +kernel
theorem zy_X1_rename : yX1_rename.cls ≠ "java/lang/invoke/MethodHandle" ∧ yX1_rename.cls ≠ "java/lang/invoke/VarHandle" ∧ (parseMethodDescriptor yX1_rename.desc).map (fun d => d.parameters.length) = some 2 := by decide +kernel
theorem w_fX1_rename {K : zK} (E : zE K cX1_rename "RingHouse$Tree" none 2) (hN : zNl K = 4) (hT : zTr K = none) (x1 : Int) (x2 : Int) : zR K 0 [(0, 3, 0), (1, 6, x1), (2, 1, x2)] [] (fX1_rename x1 x2) := by
  refine r_aload_n E dX1_rename_0 rfl 0 rfl ?_
  refine r_gec (y := 0) E zc_3 dX1_rename_1 q587 zr_3 (zh_201 (by decide)) (by decide) ?_
  refine r_aload_n E dX1_rename_4 rfl 1 rfl ?_
  refine r_callV E [(6, x1)] [] rfl zc_4 zr_4 (fun o _ => ⟨_, zw_X2.1 o, rfl⟩) (lw_V q2025 q2026 q2027 q229 q2028) dX1_rename_5 zy_X2_remove rfl (by omega) (by decide) (Nat.le_of_ble_eq_true rfl) (by decide) (fun l G => k_fX2_remove l G x1) (fun _ => ?_)
  refine r_aload_n E dX1_rename_8 rfl 1 rfl ?_
  refine r_lload_n E dX1_rename_9 rfl 2 rfl ?_
  refine r_nn E (fun hn2 => ?_)
  refine r_putN E zc_6 zt_502 zo_502 dX1_rename_10 q386 zr_6 zw_X4 zp_502 (fun _ => rfl) (fun _ => rfl) hn2 ?_
  refine r_aload_n E dX1_rename_13 rfl 0 rfl ?_
  refine r_gec (y := 0) E zc_3 dX1_rename_14 q587 zr_3 (zh_201 (by decide)) (by decide) ?_
  refine r_aload_n E dX1_rename_17 rfl 1 rfl ?_
  refine r_callV E [(6, x1)] [] rfl zc_4 zr_4 (fun o _ => ⟨_, zw_X2.1 o, rfl⟩) (lw_V q1912 q1913 q1914 q229 q1915) dX1_rename_18 zy_X2_add rfl (by omega) (by decide) (Nat.le_of_ble_eq_true rfl) (by decide) (fun l G => k_fX2_add l G x1) (fun _ => ?_)
  exact r_return E rfl hT dX1_rename_21
theorem k_fX1_rename (l : Launch) (G : zG) (x1 : Int) (x2 : Int) : zCt l G yX1_rename cX1_rename 4 none 2 [(3, 0), (6, x1), (1, x2)] none (fX1_rename x1 x2) := zCt.of (by decide) (Nat.le_of_ble_eq_true rfl) (fun K E _ _ hN hT => w_fX1_rename E hN hT x1 x2)
theorem dX0_rename_0 : decode cX0_rename 0 = .ok (.aload_n 0, 1) := by decide +kernel
theorem dX0_rename_1 : decode cX0_rename 1 = .ok (.getfield 42, 3) := by decide +kernel
theorem dX0_rename_4 : decode cX0_rename 4 = .ok (.iload_n 1, 1) := by decide +kernel
theorem dX0_rename_5 : decode cX0_rename 5 = .ok (.invokevirtual 167, 3) := by decide +kernel
theorem dX0_rename_8 : decode cX0_rename 8 = .ok (.astore 4, 2) := by decide +kernel
theorem dX0_rename_10 : decode cX0_rename 10 = .ok (.aload 4, 2) := by decide +kernel
theorem dX0_rename_12 : decode cX0_rename 12 = .ok (.ifnull 22, 3) := by decide +kernel
theorem dX0_rename_15 : decode cX0_rename 15 = .ok (.aload 4, 2) := by decide +kernel
theorem dX0_rename_17 : decode cX0_rename 17 = .ok (.aload_n 0, 1) := by decide +kernel
theorem dX0_rename_18 : decode cX0_rename 18 = .ok (.getfield 42, 3) := by decide +kernel
theorem dX0_rename_21 : decode cX0_rename 21 = .ok (.getfield 201, 3) := by decide +kernel
theorem dX0_rename_24 : decode cX0_rename 24 = .ok (.if_acmp .eq 10, 3) := by decide +kernel
theorem dX0_rename_27 : decode cX0_rename 27 = .ok (.lload_n 2, 1) := by decide +kernel
theorem dX0_rename_28 : decode cX0_rename 28 = .ok (.invokestatic 119, 3) := by decide +kernel
theorem dX0_rename_31 : decode cX0_rename 31 = .ok (.ifCond .ne 6, 3) := by decide +kernel
theorem dX0_rename_34 : decode cX0_rename 34 = .ok (.bipush (-8), 2) := by decide +kernel
theorem dX0_rename_36 : decode cX0_rename 36 = .ok (.ireturn, 1) := by decide +kernel
theorem dX0_rename_37 : decode cX0_rename 37 = .ok (.aload_n 0, 1) := by decide +kernel
theorem dX0_rename_38 : decode cX0_rename 38 = .ok (.getfield 42, 3) := by decide +kernel
theorem dX0_rename_41 : decode cX0_rename 41 = .ok (.getfield 210, 3) := by decide +kernel
theorem dX0_rename_44 : decode cX0_rename 44 = .ok (.aload 4, 2) := by decide +kernel
theorem dX0_rename_46 : decode cX0_rename 46 = .ok (.getfield 214, 3) := by decide +kernel
theorem dX0_rename_49 : decode cX0_rename 49 = .ok (.lload_n 2, 1) := by decide +kernel
theorem dX0_rename_50 : decode cX0_rename 50 = .ok (.invokevirtual 217, 3) := by decide +kernel
theorem dX0_rename_53 : decode cX0_rename 53 = .ok (.astore 5, 2) := by decide +kernel
theorem dX0_rename_55 : decode cX0_rename 55 = .ok (.aload 5, 2) := by decide +kernel
theorem dX0_rename_57 : decode cX0_rename 57 = .ok (.ifnull 13, 3) := by decide +kernel
theorem dX0_rename_60 : decode cX0_rename 60 = .ok (.aload 5, 2) := by decide +kernel
theorem dX0_rename_62 : decode cX0_rename 62 = .ok (.aload 4, 2) := by decide +kernel
theorem dX0_rename_64 : decode cX0_rename 64 = .ok (.if_acmp .eq 6, 3) := by decide +kernel
theorem dX0_rename_67 : decode cX0_rename 67 = .ok (.bipush (-6), 2) := by decide +kernel
theorem dX0_rename_69 : decode cX0_rename 69 = .ok (.ireturn, 1) := by decide +kernel
theorem dX0_rename_70 : decode cX0_rename 70 = .ok (.aload_n 0, 1) := by decide +kernel
theorem dX0_rename_71 : decode cX0_rename 71 = .ok (.getfield 42, 3) := by decide +kernel
theorem dX0_rename_74 : decode cX0_rename 74 = .ok (.aload 4, 2) := by decide +kernel
theorem dX0_rename_76 : decode cX0_rename 76 = .ok (.lload_n 2, 1) := by decide +kernel
theorem dX0_rename_77 : decode cX0_rename 77 = .ok (.invokevirtual 223, 3) := by decide +kernel
theorem dX0_rename_80 : decode cX0_rename 80 = .ok (.iconst 0, 1) := by decide +kernel
theorem dX0_rename_81 : decode cX0_rename 81 = .ok (.ireturn, 1) := by decide +kernel
theorem zy_X0_rename : yX0_rename.cls ≠ "java/lang/invoke/MethodHandle" ∧ yX0_rename.cls ≠ "java/lang/invoke/VarHandle" ∧ (parseMethodDescriptor yX0_rename.desc).map (fun d => d.parameters.length) = some 2 := by decide +kernel
theorem w_fX0_rename_J70 {K : zK} (E : zE K cX0_rename "RingHouse" (some .int) 3) (hN : zNl K = 6) (hT : zTr K = (some 0)) (x2 : Int) (x4 : Int) : zR K 70 [(0, 2, 0), (2, 1, x2), (4, 6, x4)] [] (fX0_rename_J70 x2 x4) := by
  refine r_aload_n E dX0_rename_70 rfl 0 rfl ?_
  refine r_gec (y := 0) E zc_2 dX0_rename_71 q1790 zr_2 (zh_100 (by decide)) (by decide) ?_
  refine r_aload E dX0_rename_74 2 rfl ?_
  refine r_lload_n E dX0_rename_76 rfl 1 rfl ?_
  refine r_callV E [(6, x4), (1, x2)] [] rfl zc_3 zr_3 (fun o _ => ⟨_, zw_X1.1 o, rfl⟩) (lw_V q2021 q2022 q2023 q228 q2024) dX0_rename_77 zy_X1_rename rfl (by omega) (by decide) (Nat.le_of_ble_eq_true rfl) (by decide) (fun l G => k_fX1_rename l G x4 x2) (fun _ => ?_)
  refine r_iconst E dX0_rename_80 (zkI (by decide) (by decide)) ?_
  exact r_ireturn E rfl hT dX0_rename_81
theorem w_fX0_rename {K : zK} (E : zE K cX0_rename "RingHouse" (some .int) 3) (hN : zNl K = 6) (hT : zTr K = (some 0)) (x1 : Int) (x2 : Int) : zR K 0 [(0, 2, 0), (1, 0, x1), (2, 1, x2)] [] (fX0_rename x1 x2) := by
  refine r_aload_n E dX0_rename_0 rfl 0 rfl ?_
  refine r_gec (y := 0) E zc_2 dX0_rename_1 q1790 zr_2 (zh_100 (by decide)) (by decide) ?_
  refine r_iload_n E dX0_rename_4 rfl 1 rfl ?_
  refine r_callV E [(0, x1)] [] rfl zc_3 zr_3 (fun o _ => ⟨_, zw_X1.1 o, rfl⟩) (lw_V q1984 q1830 q1831 q228 q1832) dX0_rename_5 zy_X1_node rfl (by omega) (by decide) (Nat.le_of_ble_eq_true rfl) (by decide) (fun l G => k_fX1_node l G x1) (fun v1 => ?_)
  refine r_astore (ls' := [(4, 6, v1), (0, 2, 0), (1, 0, x1), (2, 1, x2)]) E dX0_rename_8 (by rw [hN]; decide) rfl ?_
  refine r_aload E dX0_rename_10 0 rfl ?_
  refine r_ifnull E 34 (by decide) dX0_rename_12 (fun _ => ?_) (fun hz2 => ?_)
  · refine r_bipush E dX0_rename_34 (by decide) (zkI (by decide) (by decide)) ?_
    exact r_ireturn E rfl hT dX0_rename_36
  · refine r_aload E dX0_rename_15 0 rfl ?_
    refine r_aload_n E dX0_rename_17 rfl 1 rfl ?_
    refine r_gec (y := 0) E zc_2 dX0_rename_18 q1790 zr_2 (zh_100 (by decide)) (by decide) ?_
    refine r_gecN (y := 0) E zc_3 dX0_rename_21 q598 zr_3 (zh_205 (by decide)) (by decide) ?_
    refine r_acmp_eq E rfl 34 (by decide) dX0_rename_24 (fun _ => ?_) (fun _ => ?_)
    · refine r_bipush E dX0_rename_34 (by decide) (zkI (by decide) (by decide)) ?_
      exact r_ireturn E rfl hT dX0_rename_36
    · refine r_lload_n E dX0_rename_27 rfl 3 rfl ?_
      refine r_callS E [(1, x2)] [] rfl q1841 q1842 q227 q1843 dX0_rename_28 zy_X0_isName rfl (by omega) (by decide) (Nat.le_of_ble_eq_true rfl) (fun l G => k_fX0_isName l G x2) (fun v3 => ?_)
      refine r_if_ne E 37 (by decide) dX0_rename_31 (fun _ => ?_) (fun _ => ?_)
      · refine r_aload_n E dX0_rename_37 rfl 1 rfl ?_
        refine r_gec (y := 0) E zc_2 dX0_rename_38 q1790 zr_2 (zh_100 (by decide)) (by decide) ?_
        refine r_gecN (y := 0) E zc_3 dX0_rename_41 q591 zr_3 (zh_201 (by decide)) (by decide) ?_
        refine r_aload E dX0_rename_44 0 rfl ?_
        refine r_getN E zc_6 zt_504 dX0_rename_46 q401 zr_6 (zg_504 _) (Int.not_lt.mp hz2) (fun v4 => ?_)
        refine r_lload_n E dX0_rename_49 rfl 3 rfl ?_
        refine r_callV E [(6, v4), (1, x2)] [] rfl zc_4 zr_4 (fun o _ => ⟨_, zw_X2.1 o, rfl⟩) (lw_V q2020 q1866 q1867 q229 q1868) dX0_rename_50 zy_X2_find rfl (by omega) (by decide) (Nat.le_of_ble_eq_true rfl) (by decide) (fun l G => k_fX2_find l G v4 x2) (fun v5 => ?_)
        refine r_astore (ls' := [(5, 6, v5), (4, 6, v1), (0, 2, 0), (1, 0, x1), (2, 1, x2)]) E dX0_rename_53 (by rw [hN]; decide) rfl ?_
        refine r_aload E dX0_rename_55 0 rfl ?_
        refine r_ifnull E 70 (by decide) dX0_rename_57 (fun _ => ?_) (fun hz6 => ?_)
        · refine r_pick E [2, 4, 1] rfl ?_
          exact w_fX0_rename_J70 E hN hT x2 v1
        · refine r_aload E dX0_rename_60 0 rfl ?_
          refine r_aload E dX0_rename_62 1 rfl ?_
          refine r_acmp_eq E rfl 70 (by decide) dX0_rename_64 (fun _ => ?_) (fun _ => ?_)
          · refine r_pick E [2, 4, 1] rfl ?_
            exact w_fX0_rename_J70 E hN hT x2 v1
          · refine r_bipush E dX0_rename_67 (by decide) (zkI (by decide) (by decide)) ?_
            exact r_ireturn E rfl hT dX0_rename_69
      · refine r_bipush E dX0_rename_34 (by decide) (zkI (by decide) (by decide)) ?_
        exact r_ireturn E rfl hT dX0_rename_36
theorem k_fX0_rename (l : Launch) (G : zG) (x1 : Int) (x2 : Int) : zCt l G yX0_rename cX0_rename 6 (some .int) 3 [(2, 0), (0, x1), (1, x2)] (some 0) (fX0_rename x1 x2) := zCt.of (by decide) (Nat.le_of_ble_eq_true rfl) (fun K E _ _ hN hT => w_fX0_rename E hN hT x1 x2)
theorem dX4_detach_0 : decode cX4_detach 0 = .ok (.aload_n 1, 1) := by decide +kernel
theorem dX4_detach_1 : decode cX4_detach 1 = .ok (.getfield 103, 3) := by decide +kernel
theorem dX4_detach_4 : decode cX4_detach 4 = .ok (.ifnonnull 14, 3) := by decide +kernel
theorem dX4_detach_7 : decode cX4_detach 7 = .ok (.aload_n 0, 1) := by decide +kernel
theorem dX4_detach_8 : decode cX4_detach 8 = .ok (.aload_n 1, 1) := by decide +kernel
theorem dX4_detach_9 : decode cX4_detach 9 = .ok (.getfield 106, 3) := by decide +kernel
theorem dX4_detach_12 : decode cX4_detach 12 = .ok (.putfield 62, 3) := by decide +kernel
theorem dX4_detach_15 : decode cX4_detach 15 = .ok (.goto 14, 3) := by decide +kernel
theorem dX4_detach_18 : decode cX4_detach 18 = .ok (.aload_n 1, 1) := by decide +kernel
theorem dX4_detach_19 : decode cX4_detach 19 = .ok (.getfield 103, 3) := by decide +kernel
theorem dX4_detach_22 : decode cX4_detach 22 = .ok (.aload_n 1, 1) := by decide +kernel
theorem dX4_detach_23 : decode cX4_detach 23 = .ok (.getfield 106, 3) := by decide +kernel
theorem dX4_detach_26 : decode cX4_detach 26 = .ok (.putfield 106, 3) := by decide +kernel
theorem dX4_detach_29 : decode cX4_detach 29 = .ok (.aload_n 1, 1) := by decide +kernel
theorem dX4_detach_30 : decode cX4_detach 30 = .ok (.getfield 106, 3) := by decide +kernel
theorem dX4_detach_33 : decode cX4_detach 33 = .ok (.ifnonnull 14, 3) := by decide +kernel
theorem dX4_detach_36 : decode cX4_detach 36 = .ok (.aload_n 0, 1) := by decide +kernel
theorem dX4_detach_37 : decode cX4_detach 37 = .ok (.aload_n 1, 1) := by decide +kernel
theorem dX4_detach_38 : decode cX4_detach 38 = .ok (.getfield 103, 3) := by decide +kernel
theorem dX4_detach_41 : decode cX4_detach 41 = .ok (.putfield 65, 3) := by decide +kernel
theorem dX4_detach_44 : decode cX4_detach 44 = .ok (.goto 14, 3) := by decide +kernel
theorem dX4_detach_47 : decode cX4_detach 47 = .ok (.aload_n 1, 1) := by decide +kernel
theorem dX4_detach_48 : decode cX4_detach 48 = .ok (.getfield 106, 3) := by decide +kernel
theorem dX4_detach_51 : decode cX4_detach 51 = .ok (.aload_n 1, 1) := by decide +kernel
theorem dX4_detach_52 : decode cX4_detach 52 = .ok (.getfield 103, 3) := by decide +kernel
theorem dX4_detach_55 : decode cX4_detach 55 = .ok (.putfield 103, 3) := by decide +kernel
theorem dX4_detach_58 : decode cX4_detach 58 = .ok (.aload_n 0, 1) := by decide +kernel
theorem dX4_detach_59 : decode cX4_detach 59 = .ok (.dup, 1) := by decide +kernel
theorem dX4_detach_60 : decode cX4_detach 60 = .ok (.getfield 68, 3) := by decide +kernel
theorem dX4_detach_63 : decode cX4_detach 63 = .ok (.iconst 1, 1) := by decide +kernel
theorem dX4_detach_64 : decode cX4_detach 64 = .ok (.isub, 1) := by decide +kernel
theorem dX4_detach_65 : decode cX4_detach 65 = .ok (.putfield 68, 3) := by decide +kernel
theorem dX4_detach_68 : decode cX4_detach 68 = .ok (.return_, 1) := by decide +kernel
theorem zy_X4_detach : yX4_detach.cls ≠ "java/lang/invoke/MethodHandle" ∧ yX4_detach.cls ≠ "java/lang/invoke/VarHandle" ∧ (parseMethodDescriptor yX4_detach.desc).map (fun d => d.parameters.length) = some 1 := by decide +kernel
theorem w_fX4_detach_J58 {K : zK} (E : zE K cX4_detach "RingHouse$Node" none 0) (hN : zNl K = 2) (hT : zTr K = none) (x0 : Int) (h0 : 0 ≤ x0) : zR K 58 [(0, 6, x0)] [] (fX4_detach_J58 x0) := by
  refine r_aload_n E dX4_detach_58 rfl 0 rfl ?_
  refine r_dup E (zn1 rfl) dX4_detach_59 ?_
  refine r_get E zc_6 zt_515 dX4_detach_60 q449 zr_6 (zg_515 _) h0 (fun v9 => ?_)
  refine r_iconst E dX4_detach_63 (zkI (by decide) (by decide)) ?_
  refine r_isub E dX4_detach_64 ?_
  refine r_put E zc_6 zt_515 zo_515 dX4_detach_65 q449 zr_6 zw_X4 zp_515 (fun _ => rfl) (fun _ => rfl) h0 ?_
  exact r_return E rfl hT dX4_detach_68
theorem w_fX4_detach_J29 {K : zK} (E : zE K cX4_detach "RingHouse$Node" none 0) (hN : zNl K = 2) (hT : zTr K = none) (x0 : Int) (x1 : Int) (h0 : 0 ≤ x0) : zR K 29 [(0, 6, x0), (1, 6, x1)] [] (fX4_detach_J29 x0 x1) := by
  refine r_aload_n E dX4_detach_29 rfl 1 rfl ?_
  refine r_nn E (fun hn5 => ?_)
  refine r_get E zc_6 zt_506 dX4_detach_30 q405 zr_6 (zg_506 _) hn5 (fun v6 => ?_)
  refine r_ifnonnull E 47 (by decide) dX4_detach_33 (fun _ => ?_) (fun hz7 => ?_)
  · refine r_aload_n E dX4_detach_36 rfl 0 rfl ?_
    refine r_aload_n E dX4_detach_37 rfl 1 rfl ?_
    refine r_get E zc_6 zt_505 dX4_detach_38 q402 zr_6 (zg_505 _) hn5 (fun v8 => ?_)
    refine r_put E zc_6 zt_514 zo_514 dX4_detach_41 q445 zr_6 zw_X4 zp_514 (fun _ => rfl) (fun G => zfo G) h0 ?_
    refine r_goto E 58 (by decide) dX4_detach_44 ?_
    refine r_pick E [0] rfl ?_
    exact w_fX4_detach_J58 E hN hT x0 h0
  · refine r_aload_n E dX4_detach_47 rfl 1 rfl ?_
    refine r_get E zc_6 zt_506 dX4_detach_48 q405 zr_6 (zg_506 _) hn5 (fun v10 => ?_)
    refine r_aload_n E dX4_detach_51 rfl 1 rfl ?_
    refine r_get E zc_6 zt_505 dX4_detach_52 q402 zr_6 (zg_505 _) hn5 (fun v11 => ?_)
    refine r_nn E (fun hn12 => ?_)
    refine r_put E zc_6 zt_505 zo_505 dX4_detach_55 q402 zr_6 zw_X4 zp_505 (fun _ => rfl) (fun G => zfo G) hn12 ?_
    refine r_pick E [0] rfl ?_
    exact w_fX4_detach_J58 E hN hT x0 h0
theorem w_fX4_detach {K : zK} (E : zE K cX4_detach "RingHouse$Node" none 0) (hN : zNl K = 2) (hT : zTr K = none) (x0 : Int) (x1 : Int) (h0 : 0 ≤ x0) : zR K 0 [(0, 6, x0), (1, 6, x1)] [] (fX4_detach x0 x1) := by
  refine r_aload_n E dX4_detach_0 rfl 1 rfl ?_
  refine r_nn E (fun hn1 => ?_)
  refine r_get E zc_6 zt_505 dX4_detach_1 q402 zr_6 (zg_505 _) hn1 (fun v2 => ?_)
  refine r_ifnonnull E 18 (by decide) dX4_detach_4 (fun _ => ?_) (fun hz3 => ?_)
  · refine r_aload_n E dX4_detach_7 rfl 0 rfl ?_
    refine r_aload_n E dX4_detach_8 rfl 1 rfl ?_
    refine r_get E zc_6 zt_506 dX4_detach_9 q405 zr_6 (zg_506 _) hn1 (fun v4 => ?_)
    refine r_put E zc_6 zt_513 zo_513 dX4_detach_12 q444 zr_6 zw_X4 zp_513 (fun _ => rfl) (fun G => zfo G) h0 ?_
    refine r_goto E 29 (by decide) dX4_detach_15 ?_
    exact w_fX4_detach_J29 E hN hT x0 x1 h0
  · refine r_aload_n E dX4_detach_18 rfl 1 rfl ?_
    refine r_get E zc_6 zt_505 dX4_detach_19 q402 zr_6 (zg_505 _) hn1 (fun v13 => ?_)
    refine r_aload_n E dX4_detach_22 rfl 1 rfl ?_
    refine r_get E zc_6 zt_506 dX4_detach_23 q405 zr_6 (zg_506 _) hn1 (fun v14 => ?_)
    refine r_nn E (fun hn15 => ?_)
    refine r_put E zc_6 zt_506 zo_506 dX4_detach_26 q405 zr_6 zw_X4 zp_506 (fun _ => rfl) (fun G => zfo G) hn15 ?_
    exact w_fX4_detach_J29 E hN hT x0 x1 h0
theorem k_fX4_detach (l : Launch) (G : zG) (x0 : Int) (x1 : Int) (h0 : 0 ≤ x0) : zCt l G yX4_detach cX4_detach 2 none 0 [(6, x0), (6, x1)] none (fX4_detach x0 x1) := zCt.of (by decide) (Nat.le_of_ble_eq_true rfl) (fun K E _ _ hN hT => w_fX4_detach E hN hT x0 x1 h0)
theorem dX8_unbind_0 : decode cX8_unbind 0 = .ok (.iconst 0, 1) := by decide +kernel
theorem dX8_unbind_1 : decode cX8_unbind 1 = .ok (.istore_n 2, 1) := by decide +kernel
theorem dX8_unbind_2 : decode cX8_unbind 2 = .ok (.iload_n 2, 1) := by decide +kernel
theorem dX8_unbind_3 : decode cX8_unbind 3 = .ok (.bipush 16, 2) := by decide +kernel
theorem dX8_unbind_5 : decode cX8_unbind 5 = .ok (.if_icmp .ge 21, 3) := by decide +kernel
theorem dX8_unbind_8 : decode cX8_unbind 8 = .ok (.aload_n 0, 1) := by decide +kernel
theorem dX8_unbind_9 : decode cX8_unbind 9 = .ok (.getfield 38, 3) := by decide +kernel
theorem dX8_unbind_12 : decode cX8_unbind 12 = .ok (.bipush 16, 2) := by decide +kernel
theorem dX8_unbind_14 : decode cX8_unbind 14 = .ok (.iload_n 1, 1) := by decide +kernel
theorem dX8_unbind_15 : decode cX8_unbind 15 = .ok (.imul, 1) := by decide +kernel
theorem dX8_unbind_16 : decode cX8_unbind 16 = .ok (.iload_n 2, 1) := by decide +kernel
theorem dX8_unbind_17 : decode cX8_unbind 17 = .ok (.iadd, 1) := by decide +kernel
theorem dX8_unbind_18 : decode cX8_unbind 18 = .ok (.iconst (-1), 1) := by decide +kernel
theorem dX8_unbind_19 : decode cX8_unbind 19 = .ok (.iastore, 1) := by decide +kernel
theorem dX8_unbind_20 : decode cX8_unbind 20 = .ok (.iinc 2 1, 3) := by decide +kernel
theorem dX8_unbind_23 : decode cX8_unbind 23 = .ok (.goto (-21), 3) := by decide +kernel
theorem dX8_unbind_26 : decode cX8_unbind 26 = .ok (.return_, 1) := by decide +kernel
theorem zy_X8_unbind : yX8_unbind.cls ≠ "java/lang/invoke/MethodHandle" ∧ yX8_unbind.cls ≠ "java/lang/invoke/VarHandle" ∧ (parseMethodDescriptor yX8_unbind.desc).map (fun d => d.parameters.length) = some 1 := by decide +kernel
theorem w_fX8_unbind_B2 {K : zK} (E : zE K cX8_unbind "RingHouse$Process" none 0) (hN : zNl K = 3) (hT : zTr K = none) (x0 : Int) (x1 : Int) (h0 : 0 ≤ x0) : ∀ r2 : Int → zX, (∀ s : Int, zR K 2 [(0, 10, x0), (1, 0, x1), (2, 0, s)] [] (r2 s)) → ∀ s : Int, zR K 2 [(0, 10, x0), (1, 0, x1), (2, 0, s)] [] (fX8_unbind_B2 x0 x1 r2 s) := by
  intro r2 hr2 x2
  refine r_iload_n E dX8_unbind_2 rfl 2 rfl ?_
  refine r_bipush E dX8_unbind_3 (by decide) (zkI (by decide) (by decide)) ?_
  refine r_icmp_ge E 26 (by decide) dX8_unbind_5 (fun _ => ?_) (fun _ => ?_)
  · exact r_return E rfl hT dX8_unbind_26
  · refine r_aload_n E dX8_unbind_8 rfl 0 rfl ?_
    refine r_gec (y := x0) E zc_10 dX8_unbind_9 q916 zr_10 (zh_918 (by omega)) h0 ?_
    refine r_bipush E dX8_unbind_12 (by decide) (zkI (by decide) (by decide)) ?_
    refine r_iload_n E dX8_unbind_14 rfl 1 rfl ?_
    refine r_imul E dX8_unbind_15 ?_
    refine r_iload_n E dX8_unbind_16 rfl 2 rfl ?_
    refine r_iadd E dX8_unbind_17 ?_
    refine r_iconst E dX8_unbind_18 (zkI (by decide) (by decide)) ?_
    refine r_iastore E zc_918 za_918 zt_918 zo_918 zx_918 rfl rfl dX8_unbind_19 h0 ?_
    refine r_iinc (ls' := fun v1 => [(2, 0, v1), (0, 10, x0), (1, 0, x1)]) E 2 rfl (by rw [hN]; decide) (fun _ => rfl) dX8_unbind_20 (fun v1 _ => ?_)
    refine r_goto E 2 (by decide) dX8_unbind_23 ?_
    refine r_pick E [1, 2, 0] rfl ?_
    exact hr2 v1
theorem w_fX8_unbind {K : zK} (E : zE K cX8_unbind "RingHouse$Process" none 0) (hN : zNl K = 3) (hT : zTr K = none) (x0 : Int) (x1 : Int) (h0 : 0 ≤ x0) : zR K 0 [(0, 10, x0), (1, 0, x1)] [] (fX8_unbind x0 x1) := by
  refine r_iconst E dX8_unbind_0 (zkI (by decide) (by decide)) ?_
  refine r_istore_n (ls' := [(2, 0, 0), (0, 10, x0), (1, 0, x1)]) E dX8_unbind_1 rfl (by rw [hN]; decide) rfl ?_
  refine r_pick E [1, 2, 0] rfl ?_
  exact r_loop (L := fun s => [(0, 10, x0), (1, 0, x1), (2, 0, s)]) (w_fX8_unbind_B2 E hN hT x0 x1 h0) zBIG 0
theorem k_fX8_unbind (l : Launch) (G : zG) (x0 : Int) (x1 : Int) (h0 : 0 ≤ x0) : zCt l G yX8_unbind cX8_unbind 3 none 0 [(10, x0), (0, x1)] none (fX8_unbind x0 x1) := zCt.of (by decide) (Nat.le_of_ble_eq_true rfl) (fun K E _ _ hN hT => w_fX8_unbind E hN hT x0 x1 h0)
theorem dX8_forget_0 : decode cX8_forget 0 = .ok (.aload_n 0, 1) := by decide +kernel
theorem dX8_forget_1 : decode cX8_forget 1 = .ok (.getfield 28, 3) := by decide +kernel
theorem dX8_forget_4 : decode cX8_forget 4 = .ok (.iload_n 1, 1) := by decide +kernel
theorem dX8_forget_5 : decode cX8_forget 5 = .ok (.aconst_null, 1) := by decide +kernel
theorem dX8_forget_6 : decode cX8_forget 6 = .ok (.aastore, 1) := by decide +kernel
theorem dX8_forget_7 : decode cX8_forget 7 = .ok (.aload_n 0, 1) := by decide +kernel
theorem dX8_forget_8 : decode cX8_forget 8 = .ok (.iload_n 1, 1) := by decide +kernel
theorem dX8_forget_9 : decode cX8_forget 9 = .ok (.invokevirtual 99, 3) := by decide +kernel
theorem dX8_forget_12 : decode cX8_forget 12 = .ok (.iconst 0, 1) := by decide +kernel
theorem dX8_forget_13 : decode cX8_forget 13 = .ok (.istore_n 2, 1) := by decide +kernel
theorem dX8_forget_14 : decode cX8_forget 14 = .ok (.iload_n 2, 1) := by decide +kernel
theorem dX8_forget_15 : decode cX8_forget 15 = .ok (.aload_n 0, 1) := by decide +kernel
theorem dX8_forget_16 : decode cX8_forget 16 = .ok (.getfield 38, 3) := by decide +kernel
theorem dX8_forget_19 : decode cX8_forget 19 = .ok (.arraylength, 1) := by decide +kernel
theorem dX8_forget_20 : decode cX8_forget 20 = .ok (.if_icmp .ge 35, 3) := by decide +kernel
theorem dX8_forget_23 : decode cX8_forget 23 = .ok (.aload_n 0, 1) := by decide +kernel
theorem dX8_forget_24 : decode cX8_forget 24 = .ok (.getfield 38, 3) := by decide +kernel
theorem dX8_forget_27 : decode cX8_forget 27 = .ok (.iload_n 2, 1) := by decide +kernel
theorem dX8_forget_28 : decode cX8_forget 28 = .ok (.aload_n 0, 1) := by decide +kernel
theorem dX8_forget_29 : decode cX8_forget 29 = .ok (.getfield 38, 3) := by decide +kernel
theorem dX8_forget_32 : decode cX8_forget 32 = .ok (.iload_n 2, 1) := by decide +kernel
theorem dX8_forget_33 : decode cX8_forget 33 = .ok (.iaload, 1) := by decide +kernel
theorem dX8_forget_34 : decode cX8_forget 34 = .ok (.iload_n 1, 1) := by decide +kernel
theorem dX8_forget_35 : decode cX8_forget 35 = .ok (.if_icmp .ne 7, 3) := by decide +kernel
theorem dX8_forget_38 : decode cX8_forget 38 = .ok (.iconst (-1), 1) := by decide +kernel
theorem dX8_forget_39 : decode cX8_forget 39 = .ok (.goto 9, 3) := by decide +kernel
theorem dX8_forget_42 : decode cX8_forget 42 = .ok (.aload_n 0, 1) := by decide +kernel
theorem dX8_forget_43 : decode cX8_forget 43 = .ok (.getfield 38, 3) := by decide +kernel
theorem dX8_forget_46 : decode cX8_forget 46 = .ok (.iload_n 2, 1) := by decide +kernel
theorem dX8_forget_47 : decode cX8_forget 47 = .ok (.iaload, 1) := by decide +kernel
theorem dX8_forget_48 : decode cX8_forget 48 = .ok (.iastore, 1) := by decide +kernel
theorem dX8_forget_49 : decode cX8_forget 49 = .ok (.iinc 2 1, 3) := by decide +kernel
theorem dX8_forget_52 : decode cX8_forget 52 = .ok (.goto (-38), 3) := by decide +kernel
theorem dX8_forget_55 : decode cX8_forget 55 = .ok (.return_, 1) := by decide +kernel
theorem zy_X8_forget : yX8_forget.cls ≠ "java/lang/invoke/MethodHandle" ∧ yX8_forget.cls ≠ "java/lang/invoke/VarHandle" ∧ (parseMethodDescriptor yX8_forget.desc).map (fun d => d.parameters.length) = some 1 := by decide +kernel
theorem w_fX8_forget_J48 {K : zK} (E : zE K cX8_forget "RingHouse$Process" none 1) (hN : zNl K = 3) (hT : zTr K = none) (x0 : Int) (x1 : Int) (x2 : Int) (s0 : Int) (s1 : Int) (s2 : Int) {r14 : Int → zX} (hr14 : ∀ s : Int, zR K 14 [(0, 10, x0), (1, 0, x1), (2, 0, s)] [] (r14 s)) (h0 : 0 ≤ x0) (hs0 : 0 ≤ s0) : zR K 48 [(0, 10, x0), (1, 0, x1), (2, 0, x2)] [(0, s2), (0, s1), (918, s0)] (fX8_forget_J48 r14 x0 x1 x2 s0 s1 s2) := by
  refine r_iastore E zc_918 za_918 zt_918 zo_918 zx_918 rfl rfl dX8_forget_48 hs0 ?_
  refine r_iinc (ls' := fun v4 => [(2, 0, v4), (0, 10, x0), (1, 0, x1)]) E 2 rfl (by rw [hN]; decide) (fun _ => rfl) dX8_forget_49 (fun v4 _ => ?_)
  refine r_goto E 14 (by decide) dX8_forget_52 ?_
  refine r_pick E [1, 2, 0] rfl ?_
  exact hr14 v4
theorem w_fX8_forget_B14 {K : zK} (E : zE K cX8_forget "RingHouse$Process" none 1) (hN : zNl K = 3) (hT : zTr K = none) (x0 : Int) (x1 : Int) (h0 : 0 ≤ x0) : ∀ r14 : Int → zX, (∀ s : Int, zR K 14 [(0, 10, x0), (1, 0, x1), (2, 0, s)] [] (r14 s)) → ∀ s : Int, zR K 14 [(0, 10, x0), (1, 0, x1), (2, 0, s)] [] (fX8_forget_B14 x0 x1 r14 s) := by
  intro r14 hr14 x2
  refine r_iload_n E dX8_forget_14 rfl 2 rfl ?_
  refine r_aload_n E dX8_forget_15 rfl 0 rfl ?_
  refine r_gec (y := x0) E zc_10 dX8_forget_16 q916 zr_10 (zh_918 (by omega)) h0 ?_
  refine r_alen (n := 512) E zc_918 za_918 zx_918 rfl (zkI (by decide) (by decide)) dX8_forget_19 h0 ?_
  refine r_icmp_ge E 55 (by decide) dX8_forget_20 (fun _ => ?_) (fun _ => ?_)
  · exact r_return E rfl hT dX8_forget_55
  · refine r_aload_n E dX8_forget_23 rfl 0 rfl ?_
    refine r_gec (y := x0) E zc_10 dX8_forget_24 q916 zr_10 (zh_918 (by omega)) h0 ?_
    refine r_iload_n E dX8_forget_27 rfl 2 rfl ?_
    refine r_aload_n E dX8_forget_28 rfl 0 rfl ?_
    refine r_gec (y := x0) E zc_10 dX8_forget_29 q916 zr_10 (zh_918 (by omega)) h0 ?_
    refine r_iload_n E dX8_forget_32 rfl 2 rfl ?_
    refine r_iaload E zc_918 za_918 zt_918 zx_918 rfl rfl dX8_forget_33 h0 (fun v2 => ?_)
    refine r_iload_n E dX8_forget_34 rfl 1 rfl ?_
    refine r_icmp_ne E 42 (by decide) dX8_forget_35 (fun _ => ?_) (fun _ => ?_)
    · refine r_aload_n E dX8_forget_42 rfl 0 rfl ?_
      refine r_gec (y := x0) E zc_10 dX8_forget_43 q916 zr_10 (zh_918 (by omega)) h0 ?_
      refine r_iload_n E dX8_forget_46 rfl 2 rfl ?_
      refine r_iaload E zc_918 za_918 zt_918 zx_918 rfl rfl dX8_forget_47 h0 (fun v3 => ?_)
      exact w_fX8_forget_J48 E hN hT x0 x1 x2 x0 x2 v3 hr14 h0 h0
    · refine r_iconst E dX8_forget_38 (zkI (by decide) (by decide)) ?_
      refine r_goto E 48 (by decide) dX8_forget_39 ?_
      exact w_fX8_forget_J48 E hN hT x0 x1 x2 x0 x2 (-1) hr14 h0 h0
theorem w_fX8_forget {K : zK} (E : zE K cX8_forget "RingHouse$Process" none 1) (hN : zNl K = 3) (hT : zTr K = none) (x0 : Int) (x1 : Int) (h0 : 0 ≤ x0) : zR K 0 [(0, 10, x0), (1, 0, x1)] [] (fX8_forget x0 x1) := by
  refine r_aload_n E dX8_forget_0 rfl 0 rfl ?_
  refine r_gec (y := x0) E zc_10 dX8_forget_1 q910 zr_10 (zh_916 (by omega)) h0 ?_
  refine r_iload_n E dX8_forget_4 rfl 1 rfl ?_
  refine r_null E 4 dX8_forget_5 ?_
  refine r_aastore E zc_916 zc_6 za_916 zt_916 zo_916 zx_916 zr_6 zw_X4 rfl rfl dX8_forget_6 h0 ?_
  refine r_aload_n E dX8_forget_7 rfl 0 rfl ?_
  refine r_iload_n E dX8_forget_8 rfl 1 rfl ?_
  refine r_callV E [(0, x1)] [] rfl zc_10 zr_10 (fun o _ => ⟨_, zw_X8.1 o, rfl⟩) (lw_V q2052 q2054 qs7 q235 q2055) dX8_forget_9 zy_X8_unbind rfl (by omega) (by decide) (Nat.le_of_ble_eq_true rfl) h0 (fun l G => k_fX8_unbind l G x0 x1 h0) (fun _ => ?_)
  refine r_iconst E dX8_forget_12 (zkI (by decide) (by decide)) ?_
  refine r_istore_n (ls' := [(2, 0, 0), (0, 10, x0), (1, 0, x1)]) E dX8_forget_13 rfl (by rw [hN]; decide) rfl ?_
  refine r_pick E [1, 2, 0] rfl ?_
  exact r_loop (L := fun s => [(0, 10, x0), (1, 0, x1), (2, 0, s)]) (w_fX8_forget_B14 E hN hT x0 x1 h0) zBIG 0
theorem k_fX8_forget (l : Launch) (G : zG) (x0 : Int) (x1 : Int) (h0 : 0 ≤ x0) : zCt l G yX8_forget cX8_forget 3 none 1 [(10, x0), (0, x1)] none (fX8_forget x0 x1) := zCt.of (by decide) (Nat.le_of_ble_eq_true rfl) (fun K E _ _ hN hT => w_fX8_forget E hN hT x0 x1 h0)
theorem dX8_loose_0 : decode cX8_loose 0 = .ok (.aload_n 0, 1) := by decide +kernel
theorem dX8_loose_1 : decode cX8_loose 1 = .ok (.getfield 67, 3) := by decide +kernel
theorem dX8_loose_4 : decode cX8_loose 4 = .ok (.ifCond .ne 4, 3) := by decide +kernel
theorem dX8_loose_7 : decode cX8_loose 7 = .ok (.return_, 1) := by decide +kernel
theorem dX8_loose_8 : decode cX8_loose 8 = .ok (.bipush 8, 2) := by decide +kernel
theorem dX8_loose_10 : decode cX8_loose 10 = .ok (.istore_n 2, 1) := by decide +kernel
theorem dX8_loose_11 : decode cX8_loose 11 = .ok (.iload_n 2, 1) := by decide +kernel
theorem dX8_loose_12 : decode cX8_loose 12 = .ok (.bipush 32, 2) := by decide +kernel
theorem dX8_loose_14 : decode cX8_loose 14 = .ok (.if_icmp .ge 24, 3) := by decide +kernel
theorem dX8_loose_17 : decode cX8_loose 17 = .ok (.aload_n 0, 1) := by decide +kernel
theorem dX8_loose_18 : decode cX8_loose 18 = .ok (.getfield 28, 3) := by decide +kernel
theorem dX8_loose_21 : decode cX8_loose 21 = .ok (.iload_n 2, 1) := by decide +kernel
theorem dX8_loose_22 : decode cX8_loose 22 = .ok (.aaload, 1) := by decide +kernel
theorem dX8_loose_23 : decode cX8_loose 23 = .ok (.aload_n 1, 1) := by decide +kernel
theorem dX8_loose_24 : decode cX8_loose 24 = .ok (.if_acmp .ne 8, 3) := by decide +kernel
theorem dX8_loose_27 : decode cX8_loose 27 = .ok (.aload_n 0, 1) := by decide +kernel
theorem dX8_loose_28 : decode cX8_loose 28 = .ok (.iload_n 2, 1) := by decide +kernel
theorem dX8_loose_29 : decode cX8_loose 29 = .ok (.invokevirtual 130, 3) := by decide +kernel
theorem dX8_loose_32 : decode cX8_loose 32 = .ok (.iinc 2 1, 3) := by decide +kernel
theorem dX8_loose_35 : decode cX8_loose 35 = .ok (.goto (-24), 3) := by decide +kernel
theorem dX8_loose_38 : decode cX8_loose 38 = .ok (.aload_n 0, 1) := by decide +kernel
theorem dX8_loose_39 : decode cX8_loose 39 = .ok (.aload_n 0, 1) := by decide +kernel
theorem dX8_loose_40 : decode cX8_loose 40 = .ok (.getfield 113, 3) := by decide +kernel
theorem dX8_loose_43 : decode cX8_loose 43 = .ok (.aload_n 1, 1) := by decide +kernel
theorem dX8_loose_44 : decode cX8_loose 44 = .ok (.if_acmp .ne 13, 3) := by decide +kernel
theorem dX8_loose_47 : decode cX8_loose 47 = .ok (.aload_n 0, 1) := by decide +kernel
theorem dX8_loose_48 : decode cX8_loose 48 = .ok (.getfield 58, 3) := by decide +kernel
theorem dX8_loose_51 : decode cX8_loose 51 = .ok (.getfield 107, 3) := by decide +kernel
theorem dX8_loose_54 : decode cX8_loose 54 = .ok (.goto 7, 3) := by decide +kernel
theorem dX8_loose_57 : decode cX8_loose 57 = .ok (.aload_n 0, 1) := by decide +kernel
theorem dX8_loose_58 : decode cX8_loose 58 = .ok (.getfield 113, 3) := by decide +kernel
theorem dX8_loose_61 : decode cX8_loose 61 = .ok (.putfield 113, 3) := by decide +kernel
theorem dX8_loose_64 : decode cX8_loose 64 = .ok (.iconst 0, 1) := by decide +kernel
theorem dX8_loose_65 : decode cX8_loose 65 = .ok (.istore_n 2, 1) := by decide +kernel
theorem dX8_loose_66 : decode cX8_loose 66 = .ok (.iload_n 2, 1) := by decide +kernel
theorem dX8_loose_67 : decode cX8_loose 67 = .ok (.iconst 4, 1) := by decide +kernel
theorem dX8_loose_68 : decode cX8_loose 68 = .ok (.if_icmp .ge 35, 3) := by decide +kernel
theorem dX8_loose_71 : decode cX8_loose 71 = .ok (.aload_n 0, 1) := by decide +kernel
theorem dX8_loose_72 : decode cX8_loose 72 = .ok (.getfield 45, 3) := by decide +kernel
theorem dX8_loose_75 : decode cX8_loose 75 = .ok (.iload_n 2, 1) := by decide +kernel
theorem dX8_loose_76 : decode cX8_loose 76 = .ok (.aload_n 0, 1) := by decide +kernel
theorem dX8_loose_77 : decode cX8_loose 77 = .ok (.getfield 45, 3) := by decide +kernel
theorem dX8_loose_80 : decode cX8_loose 80 = .ok (.iload_n 2, 1) := by decide +kernel
theorem dX8_loose_81 : decode cX8_loose 81 = .ok (.aaload, 1) := by decide +kernel
theorem dX8_loose_82 : decode cX8_loose 82 = .ok (.aload_n 1, 1) := by decide +kernel
theorem dX8_loose_83 : decode cX8_loose 83 = .ok (.if_acmp .ne 7, 3) := by decide +kernel
theorem dX8_loose_86 : decode cX8_loose 86 = .ok (.aconst_null, 1) := by decide +kernel
theorem dX8_loose_87 : decode cX8_loose 87 = .ok (.goto 9, 3) := by decide +kernel
theorem dX8_loose_90 : decode cX8_loose 90 = .ok (.aload_n 0, 1) := by decide +kernel
theorem dX8_loose_91 : decode cX8_loose 91 = .ok (.getfield 45, 3) := by decide +kernel
theorem dX8_loose_94 : decode cX8_loose 94 = .ok (.iload_n 2, 1) := by decide +kernel
theorem dX8_loose_95 : decode cX8_loose 95 = .ok (.aaload, 1) := by decide +kernel
theorem dX8_loose_96 : decode cX8_loose 96 = .ok (.aastore, 1) := by decide +kernel
theorem dX8_loose_97 : decode cX8_loose 97 = .ok (.iinc 2 1, 3) := by decide +kernel
theorem dX8_loose_100 : decode cX8_loose 100 = .ok (.goto (-34), 3) := by decide +kernel
theorem dX8_loose_103 : decode cX8_loose 103 = .ok (.return_, 1) := by decide +kernel
theorem zy_X8_loose : yX8_loose.cls ≠ "java/lang/invoke/MethodHandle" ∧ yX8_loose.cls ≠ "java/lang/invoke/VarHandle" ∧ (parseMethodDescriptor yX8_loose.desc).map (fun d => d.parameters.length) = some 1 := by decide +kernel
theorem w_fX8_loose_J96 {K : zK} (E : zE K cX8_loose "RingHouse$Process" none 2) (hN : zNl K = 3) (hT : zTr K = none) (x0 : Int) (x1 : Int) (x2 : Int) (s0 : Int) (s1 : Int) (s2 : Int) {r66 : Int → zX} (hr66 : ∀ s : Int, zR K 66 [(0, 10, x0), (1, 6, x1), (2, 0, s)] [] (r66 s)) (h0 : 0 ≤ x0) (hs0 : 0 ≤ s0) : zR K 96 [(0, 10, x0), (1, 6, x1), (2, 0, x2)] [(6, s2), (0, s1), (921, s0)] (fX8_loose_J96 r66 x0 x1 x2 s0 s1 s2) := by
  refine r_aastore E zc_921 zc_6 za_921 zt_921 zo_921 zx_921 zr_6 zw_X4 rfl rfl dX8_loose_96 hs0 ?_
  refine r_iinc (ls' := fun v7 => [(2, 0, v7), (0, 10, x0), (1, 6, x1)]) E 2 rfl (by rw [hN]; decide) (fun _ => rfl) dX8_loose_97 (fun v7 _ => ?_)
  refine r_goto E 66 (by decide) dX8_loose_100 ?_
  refine r_pick E [1, 2, 0] rfl ?_
  exact hr66 v7
theorem w_fX8_loose_B66 {K : zK} (E : zE K cX8_loose "RingHouse$Process" none 2) (hN : zNl K = 3) (hT : zTr K = none) (x0 : Int) (x1 : Int) (h0 : 0 ≤ x0) : ∀ r66 : Int → zX, (∀ s : Int, zR K 66 [(0, 10, x0), (1, 6, x1), (2, 0, s)] [] (r66 s)) → ∀ s : Int, zR K 66 [(0, 10, x0), (1, 6, x1), (2, 0, s)] [] (fX8_loose_B66 x0 x1 r66 s) := by
  intro r66 hr66 x2
  refine r_iload_n E dX8_loose_66 rfl 2 rfl ?_
  refine r_iconst E dX8_loose_67 (zkI (by decide) (by decide)) ?_
  refine r_icmp_ge E 103 (by decide) dX8_loose_68 (fun _ => ?_) (fun _ => ?_)
  · exact r_return E rfl hT dX8_loose_103
  · refine r_aload_n E dX8_loose_71 rfl 0 rfl ?_
    refine r_gec (y := x0) E zc_10 dX8_loose_72 q932 zr_10 (zh_921 (by omega)) h0 ?_
    refine r_iload_n E dX8_loose_75 rfl 2 rfl ?_
    refine r_aload_n E dX8_loose_76 rfl 0 rfl ?_
    refine r_gec (y := x0) E zc_10 dX8_loose_77 q932 zr_10 (zh_921 (by omega)) h0 ?_
    refine r_iload_n E dX8_loose_80 rfl 2 rfl ?_
    refine r_aaload E zc_921 za_921 zt_921 zx_921 rfl rfl dX8_loose_81 h0 (fun v5 => ?_)
    refine r_aload_n E dX8_loose_82 rfl 1 rfl ?_
    refine r_acmp_ne E rfl 90 (by decide) dX8_loose_83 (fun _ => ?_) (fun _ => ?_)
    · refine r_aload_n E dX8_loose_90 rfl 0 rfl ?_
      refine r_gec (y := x0) E zc_10 dX8_loose_91 q932 zr_10 (zh_921 (by omega)) h0 ?_
      refine r_iload_n E dX8_loose_94 rfl 2 rfl ?_
      refine r_aaload E zc_921 za_921 zt_921 zx_921 rfl rfl dX8_loose_95 h0 (fun v6 => ?_)
      exact w_fX8_loose_J96 E hN hT x0 x1 x2 x0 x2 v6 hr66 h0 h0
    · refine r_null E 4 dX8_loose_86 ?_
      refine r_goto E 96 (by decide) dX8_loose_87 ?_
      exact w_fX8_loose_J96 E hN hT x0 x1 x2 x0 x2 (-1) hr66 h0 h0
theorem w_fX8_loose_J61 {K : zK} (E : zE K cX8_loose "RingHouse$Process" none 2) (hN : zNl K = 3) (hT : zTr K = none) (x0 : Int) (x1 : Int) (s0 : Int) (s1 : Int) (h0 : 0 ≤ x0) : zR K 61 [(0, 10, x0), (1, 6, x1)] [(6, s1), (10, s0)] (fX8_loose_J61 x0 x1 s0 s1) := by
  refine r_nn E (fun hn4 => ?_)
  refine r_put E zc_10 zt_920 zo_920 dX8_loose_61 q930 zr_10 zw_X8 zp_920 (fun _ => rfl) (fun G => zfo G) hn4 ?_
  refine r_iconst E dX8_loose_64 (zkI (by decide) (by decide)) ?_
  refine r_istore_n (ls' := [(2, 0, 0), (0, 10, x0), (1, 6, x1)]) E dX8_loose_65 rfl (by rw [hN]; decide) rfl ?_
  refine r_pick E [1, 2, 0] rfl ?_
  exact r_loop (L := fun s => [(0, 10, x0), (1, 6, x1), (2, 0, s)]) (w_fX8_loose_B66 E hN hT x0 x1 h0) zBIG 0
theorem w_fX8_loose_J38 {K : zK} (E : zE K cX8_loose "RingHouse$Process" none 2) (hN : zNl K = 3) (hT : zTr K = none) (x0 : Int) (x1 : Int) (h0 : 0 ≤ x0) : zR K 38 [(0, 10, x0), (1, 6, x1)] [] (fX8_loose_J38 x0 x1) := by
  refine r_aload_n E dX8_loose_38 rfl 0 rfl ?_
  refine r_aload_n E dX8_loose_39 rfl 0 rfl ?_
  refine r_get E zc_10 zt_920 dX8_loose_40 q930 zr_10 (zg_920 _) h0 (fun v2 => ?_)
  refine r_aload_n E dX8_loose_43 rfl 1 rfl ?_
  refine r_acmp_ne E rfl 57 (by decide) dX8_loose_44 (fun _ => ?_) (fun _ => ?_)
  · refine r_aload_n E dX8_loose_57 rfl 0 rfl ?_
    refine r_get E zc_10 zt_920 dX8_loose_58 q930 zr_10 (zg_920 _) h0 (fun v3 => ?_)
    exact w_fX8_loose_J61 E hN hT x0 x1 x0 v3 h0
  · refine r_aload_n E dX8_loose_47 rfl 0 rfl ?_
    refine r_gec (y := 0) E zc_10 dX8_loose_48 q854 zr_10 (zh_900 (by omega)) h0 ?_
    refine r_gecN (y := 0) E zc_3 dX8_loose_51 q597 zr_3 (zh_205 (by decide)) (by decide) ?_
    refine r_goto E 61 (by decide) dX8_loose_54 ?_
    exact w_fX8_loose_J61 E hN hT x0 x1 x0 0 h0
theorem w_fX8_loose_J32 {K : zK} (E : zE K cX8_loose "RingHouse$Process" none 2) (hN : zNl K = 3) (hT : zTr K = none) (x0 : Int) (x1 : Int) (x2 : Int) {r11 : Int → zX} (hr11 : ∀ s : Int, zR K 11 [(0, 10, x0), (1, 6, x1), (2, 0, s)] [] (r11 s)) (h0 : 0 ≤ x0) : zR K 32 [(0, 10, x0), (1, 6, x1), (2, 0, x2)] [] (fX8_loose_J32 r11 x0 x1 x2) := by
  refine r_iinc (ls' := fun v9 => [(2, 0, v9), (0, 10, x0), (1, 6, x1)]) E 2 rfl (by rw [hN]; decide) (fun _ => rfl) dX8_loose_32 (fun v9 _ => ?_)
  refine r_goto E 11 (by decide) dX8_loose_35 ?_
  refine r_pick E [1, 2, 0] rfl ?_
  exact hr11 v9
theorem w_fX8_loose_B11 {K : zK} (E : zE K cX8_loose "RingHouse$Process" none 2) (hN : zNl K = 3) (hT : zTr K = none) (x0 : Int) (x1 : Int) (h0 : 0 ≤ x0) : ∀ r11 : Int → zX, (∀ s : Int, zR K 11 [(0, 10, x0), (1, 6, x1), (2, 0, s)] [] (r11 s)) → ∀ s : Int, zR K 11 [(0, 10, x0), (1, 6, x1), (2, 0, s)] [] (fX8_loose_B11 x0 x1 r11 s) := by
  intro r11 hr11 x2
  refine r_iload_n E dX8_loose_11 rfl 2 rfl ?_
  refine r_bipush E dX8_loose_12 (by decide) (zkI (by decide) (by decide)) ?_
  refine r_icmp_ge E 38 (by decide) dX8_loose_14 (fun _ => ?_) (fun _ => ?_)
  · refine r_pick E [0, 1] rfl ?_
    exact w_fX8_loose_J38 E hN hT x0 x1 h0
  · refine r_aload_n E dX8_loose_17 rfl 0 rfl ?_
    refine r_gec (y := x0) E zc_10 dX8_loose_18 q910 zr_10 (zh_916 (by omega)) h0 ?_
    refine r_iload_n E dX8_loose_21 rfl 2 rfl ?_
    refine r_aaload E zc_916 za_916 zt_916 zx_916 rfl rfl dX8_loose_22 h0 (fun v8 => ?_)
    refine r_aload_n E dX8_loose_23 rfl 1 rfl ?_
    refine r_acmp_ne E rfl 32 (by decide) dX8_loose_24 (fun _ => ?_) (fun _ => ?_)
    · exact w_fX8_loose_J32 E hN hT x0 x1 x2 hr11 h0
    · refine r_aload_n E dX8_loose_27 rfl 0 rfl ?_
      refine r_iload_n E dX8_loose_28 rfl 2 rfl ?_
      refine r_callV E [(0, x2)] [] rfl zc_10 zr_10 (fun o _ => ⟨_, zw_X8.1 o, rfl⟩) (lw_V q2048 q2049 q2050 q235 q2051) dX8_loose_29 zy_X8_forget rfl (by omega) (by decide) (Nat.le_of_ble_eq_true rfl) h0 (fun l G => k_fX8_forget l G x0 x2 h0) (fun _ => ?_)
      exact w_fX8_loose_J32 E hN hT x0 x1 x2 hr11 h0
theorem w_fX8_loose {K : zK} (E : zE K cX8_loose "RingHouse$Process" none 2) (hN : zNl K = 3) (hT : zTr K = none) (x0 : Int) (x1 : Int) (h0 : 0 ≤ x0) : zR K 0 [(0, 10, x0), (1, 6, x1)] [] (fX8_loose x0 x1) := by
  refine r_aload_n E dX8_loose_0 rfl 0 rfl ?_
  refine r_get E zc_10 zt_902 dX8_loose_1 q858 zr_10 (zg_902 _) h0 (fun v1 => ?_)
  refine r_if_ne E 8 (by decide) dX8_loose_4 (fun _ => ?_) (fun _ => ?_)
  · refine r_bipush E dX8_loose_8 (by decide) (zkI (by decide) (by decide)) ?_
    refine r_istore_n (ls' := [(2, 0, 8), (0, 10, x0), (1, 6, x1)]) E dX8_loose_10 rfl (by rw [hN]; decide) rfl ?_
    refine r_pick E [1, 2, 0] rfl ?_
    exact r_loop (L := fun s => [(0, 10, x0), (1, 6, x1), (2, 0, s)]) (w_fX8_loose_B11 E hN hT x0 x1 h0) zBIG 8
  · exact r_return E rfl hT dX8_loose_7
theorem k_fX8_loose (l : Launch) (G : zG) (x0 : Int) (x1 : Int) (h0 : 0 ≤ x0) : zCt l G yX8_loose cX8_loose 3 none 2 [(10, x0), (6, x1)] none (fX8_loose x0 x1) := zCt.of (by decide) (Nat.le_of_ble_eq_true rfl) (fun K E _ _ hN hT => w_fX8_loose E hN hT x0 x1 h0)
theorem dX1_remove_0 : decode cX1_remove 0 = .ok (.iconst 1, 1) := by decide +kernel
theorem dX1_remove_1 : decode cX1_remove 1 = .ok (.istore_n 2, 1) := by decide +kernel
theorem dX1_remove_2 : decode cX1_remove 2 = .ok (.aload_n 1, 1) := by decide +kernel
theorem dX1_remove_3 : decode cX1_remove 3 = .ok (.invokevirtual 89, 3) := by decide +kernel
theorem dX1_remove_6 : decode cX1_remove 6 = .ok (.ifCond .eq 24, 3) := by decide +kernel
theorem dX1_remove_9 : decode cX1_remove 9 = .ok (.aload_n 1, 1) := by decide +kernel
theorem dX1_remove_10 : decode cX1_remove 10 = .ok (.getfield 182, 3) := by decide +kernel
theorem dX1_remove_13 : decode cX1_remove 13 = .ok (.ifnull 17, 3) := by decide +kernel
theorem dX1_remove_16 : decode cX1_remove 16 = .ok (.iload_n 2, 1) := by decide +kernel
theorem dX1_remove_17 : decode cX1_remove 17 = .ok (.aload_n 0, 1) := by decide +kernel
theorem dX1_remove_18 : decode cX1_remove 18 = .ok (.aload_n 1, 1) := by decide +kernel
theorem dX1_remove_19 : decode cX1_remove 19 = .ok (.getfield 182, 3) := by decide +kernel
theorem dX1_remove_22 : decode cX1_remove 22 = .ok (.invokevirtual 185, 3) := by decide +kernel
theorem dX1_remove_25 : decode cX1_remove 25 = .ok (.iadd, 1) := by decide +kernel
theorem dX1_remove_26 : decode cX1_remove 26 = .ok (.istore_n 2, 1) := by decide +kernel
theorem dX1_remove_27 : decode cX1_remove 27 = .ok (.goto (-25), 3) := by decide +kernel
theorem dX1_remove_30 : decode cX1_remove 30 = .ok (.aload_n 1, 1) := by decide +kernel
theorem dX1_remove_31 : decode cX1_remove 31 = .ok (.invokevirtual 93, 3) := by decide +kernel
theorem dX1_remove_34 : decode cX1_remove 34 = .ok (.ifCond .eq 9, 3) := by decide +kernel
theorem dX1_remove_37 : decode cX1_remove 37 = .ok (.aload_n 0, 1) := by decide +kernel
theorem dX1_remove_38 : decode cX1_remove 38 = .ok (.aload_n 1, 1) := by decide +kernel
theorem dX1_remove_39 : decode cX1_remove 39 = .ok (.iconst 0, 1) := by decide +kernel
theorem dX1_remove_40 : decode cX1_remove 40 = .ok (.invokevirtual 188, 3) := by decide +kernel
theorem dX1_remove_43 : decode cX1_remove 43 = .ok (.aload_n 1, 1) := by decide +kernel
theorem dX1_remove_44 : decode cX1_remove 44 = .ok (.invokevirtual 96, 3) := by decide +kernel
theorem dX1_remove_47 : decode cX1_remove 47 = .ok (.ifCond .eq 26, 3) := by decide +kernel
theorem dX1_remove_50 : decode cX1_remove 50 = .ok (.aload_n 0, 1) := by decide +kernel
theorem dX1_remove_51 : decode cX1_remove 51 = .ok (.getfield 33, 3) := by decide +kernel
theorem dX1_remove_54 : decode cX1_remove 54 = .ok (.aload_n 0, 1) := by decide +kernel
theorem dX1_remove_55 : decode cX1_remove 55 = .ok (.getfield 37, 3) := by decide +kernel
theorem dX1_remove_58 : decode cX1_remove 58 = .ok (.aload_n 1, 1) := by decide +kernel
theorem dX1_remove_59 : decode cX1_remove 59 = .ok (.getfield 121, 3) := by decide +kernel
theorem dX1_remove_62 : decode cX1_remove 62 = .ok (.aastore, 1) := by decide +kernel
theorem dX1_remove_63 : decode cX1_remove 63 = .ok (.aload_n 0, 1) := by decide +kernel
theorem dX1_remove_64 : decode cX1_remove 64 = .ok (.dup, 1) := by decide +kernel
theorem dX1_remove_65 : decode cX1_remove 65 = .ok (.getfield 37, 3) := by decide +kernel
theorem dX1_remove_68 : decode cX1_remove 68 = .ok (.iconst 1, 1) := by decide +kernel
theorem dX1_remove_69 : decode cX1_remove 69 = .ok (.iadd, 1) := by decide +kernel
theorem dX1_remove_70 : decode cX1_remove 70 = .ok (.putfield 37, 3) := by decide +kernel
theorem dX1_remove_73 : decode cX1_remove 73 = .ok (.aload_n 0, 1) := by decide +kernel
theorem dX1_remove_74 : decode cX1_remove 74 = .ok (.aload_n 1, 1) := by decide +kernel
theorem dX1_remove_75 : decode cX1_remove 75 = .ok (.getfield 99, 3) := by decide +kernel
theorem dX1_remove_78 : decode cX1_remove 78 = .ok (.aload_n 1, 1) := by decide +kernel
theorem dX1_remove_79 : decode cX1_remove 79 = .ok (.invokevirtual 135, 3) := by decide +kernel
theorem dX1_remove_82 : decode cX1_remove 82 = .ok (.ineg, 1) := by decide +kernel
theorem dX1_remove_83 : decode cX1_remove 83 = .ok (.invokevirtual 139, 3) := by decide +kernel
theorem dX1_remove_86 : decode cX1_remove 86 = .ok (.aload_n 0, 1) := by decide +kernel
theorem dX1_remove_87 : decode cX1_remove 87 = .ok (.getfield 20, 3) := by decide +kernel
theorem dX1_remove_90 : decode cX1_remove 90 = .ok (.aload_n 1, 1) := by decide +kernel
theorem dX1_remove_91 : decode cX1_remove 91 = .ok (.invokevirtual 171, 3) := by decide +kernel
theorem dX1_remove_94 : decode cX1_remove 94 = .ok (.aload_n 1, 1) := by decide +kernel
theorem dX1_remove_95 : decode cX1_remove 95 = .ok (.getfield 99, 3) := by decide +kernel
theorem dX1_remove_98 : decode cX1_remove 98 = .ok (.aload_n 1, 1) := by decide +kernel
theorem dX1_remove_99 : decode cX1_remove 99 = .ok (.invokevirtual 191, 3) := by decide +kernel
theorem dX1_remove_102 : decode cX1_remove 102 = .ok (.aload_n 1, 1) := by decide +kernel
theorem dX1_remove_103 : decode cX1_remove 103 = .ok (.iconst 0, 1) := by decide +kernel
theorem dX1_remove_104 : decode cX1_remove 104 = .ok (.putfield 82, 3) := by decide +kernel
theorem dX1_remove_107 : decode cX1_remove 107 = .ok (.aload_n 0, 1) := by decide +kernel
theorem dX1_remove_108 : decode cX1_remove 108 = .ok (.dup, 1) := by decide +kernel
theorem dX1_remove_109 : decode cX1_remove 109 = .ok (.getfield 41, 3) := by decide +kernel
theorem dX1_remove_112 : decode cX1_remove 112 = .ok (.iconst 1, 1) := by decide +kernel
theorem dX1_remove_113 : decode cX1_remove 113 = .ok (.isub, 1) := by decide +kernel
theorem dX1_remove_114 : decode cX1_remove 114 = .ok (.putfield 41, 3) := by decide +kernel
theorem dX1_remove_117 : decode cX1_remove 117 = .ok (.aload_n 0, 1) := by decide +kernel
theorem dX1_remove_118 : decode cX1_remove 118 = .ok (.dup, 1) := by decide +kernel
theorem dX1_remove_119 : decode cX1_remove 119 = .ok (.getfield 44, 3) := by decide +kernel
theorem dX1_remove_122 : decode cX1_remove 122 = .ok (.iconst 1, 1) := by decide +kernel
theorem dX1_remove_123 : decode cX1_remove 123 = .ok (.iadd, 1) := by decide +kernel
theorem dX1_remove_124 : decode cX1_remove 124 = .ok (.putfield 44, 3) := by decide +kernel
theorem dX1_remove_127 : decode cX1_remove 127 = .ok (.aload_n 0, 1) := by decide +kernel
theorem dX1_remove_128 : decode cX1_remove 128 = .ok (.getfield 194, 3) := by decide +kernel
theorem dX1_remove_131 : decode cX1_remove 131 = .ok (.astore_n 3, 1) := by decide +kernel
theorem dX1_remove_132 : decode cX1_remove 132 = .ok (.aload_n 3, 1) := by decide +kernel
theorem dX1_remove_133 : decode cX1_remove 133 = .ok (.arraylength, 1) := by decide +kernel
theorem dX1_remove_134 : decode cX1_remove 134 = .ok (.istore 4, 2) := by decide +kernel
theorem dX1_remove_136 : decode cX1_remove 136 = .ok (.iconst 0, 1) := by decide +kernel
theorem dX1_remove_137 : decode cX1_remove 137 = .ok (.istore 5, 2) := by decide +kernel
theorem dX1_remove_139 : decode cX1_remove 139 = .ok (.iload 5, 2) := by decide +kernel
theorem dX1_remove_141 : decode cX1_remove 141 = .ok (.iload 4, 2) := by decide +kernel
theorem dX1_remove_143 : decode cX1_remove 143 = .ok (.if_icmp .ge 21, 3) := by decide +kernel
theorem dX1_remove_146 : decode cX1_remove 146 = .ok (.aload_n 3, 1) := by decide +kernel
theorem dX1_remove_147 : decode cX1_remove 147 = .ok (.iload 5, 2) := by decide +kernel
theorem dX1_remove_149 : decode cX1_remove 149 = .ok (.aaload, 1) := by decide +kernel
theorem dX1_remove_150 : decode cX1_remove 150 = .ok (.astore 6, 2) := by decide +kernel
theorem dX1_remove_152 : decode cX1_remove 152 = .ok (.aload 6, 2) := by decide +kernel
theorem dX1_remove_154 : decode cX1_remove 154 = .ok (.aload_n 1, 1) := by decide +kernel
theorem dX1_remove_155 : decode cX1_remove 155 = .ok (.invokevirtual 198, 3) := by decide +kernel
theorem dX1_remove_158 : decode cX1_remove 158 = .ok (.iinc 5 1, 3) := by decide +kernel
theorem dX1_remove_161 : decode cX1_remove 161 = .ok (.goto (-22), 3) := by decide +kernel
theorem dX1_remove_164 : decode cX1_remove 164 = .ok (.iload_n 2, 1) := by decide +kernel
theorem dX1_remove_165 : decode cX1_remove 165 = .ok (.ireturn, 1) := by decide +kernel
theorem zy_X1_remove : yX1_remove.cls ≠ "java/lang/invoke/MethodHandle" ∧ yX1_remove.cls ≠ "java/lang/invoke/VarHandle" ∧ (parseMethodDescriptor yX1_remove.desc).map (fun d => d.parameters.length) = some 1 := by decide +kernel
theorem w_fX1_remove_B139 {K : zK} {nf : Nat} (E : zE K cX1_remove "RingHouse$Tree" (some .int) (3 + nf + 1)) (hN : zNl K = 7) (hT : zTr K = (some 0)) {sf : Int → zX} (hsf : ∀ (l : Launch) (G : zG) (x1 : Int), zCt l G yX1_remove cX1_remove 7 (some .int) (3 + nf) [(3, 0), (6, x1)] (some 0) (sf x1)) (x1 : Int) (x2 : Int) (x4 : Int) : ∀ r139 : Int → zX, (∀ s : Int, zR K 139 [(1, 6, x1), (2, 0, x2), (3, 101, 0), (4, 0, x4), (5, 0, s)] [] (r139 s)) → ∀ s : Int, zR K 139 [(1, 6, x1), (2, 0, x2), (3, 101, 0), (4, 0, x4), (5, 0, s)] [] (fX1_remove_B139 sf x1 x2 x4 r139 s) := by
  intro r139 hr139 x5
  refine r_iload E dX1_remove_139 4 rfl ?_
  refine r_iload E dX1_remove_141 3 rfl ?_
  refine r_icmp_ge E 164 (by decide) dX1_remove_143 (fun _ => ?_) (fun _ => ?_)
  · refine r_iload_n E dX1_remove_164 rfl 1 rfl ?_
    exact r_ireturn E rfl hT dX1_remove_165
  · refine r_aload_n E dX1_remove_146 rfl 2 rfl ?_
    refine r_iload E dX1_remove_147 4 rfl ?_
    refine r_aaloc (y := x5) E zc_101 za_101 zt_101 zx_101 rfl rfl (by omega) dX1_remove_149 (by decide) (fun hi18 => ?_)
    refine r_astore (ls' := [(6, 10, x5), (1, 6, x1), (2, 0, x2), (3, 101, 0), (4, 0, x4), (5, 0, x5)]) E dX1_remove_150 (by rw [hN]; decide) rfl ?_
    refine r_aload E dX1_remove_152 0 rfl ?_
    refine r_aload_n E dX1_remove_154 rfl 1 rfl ?_
    refine r_callV E [(6, x1)] [] rfl zc_10 zr_10 (fun o _ => ⟨_, zw_X8.1 o, rfl⟩) (lw_V q2044 q2045 q2046 q235 q2047) dX1_remove_155 zy_X8_loose rfl (by omega) (by decide) (Nat.le_of_ble_eq_true rfl) hi18 (fun l G => k_fX8_loose l G x5 x1 hi18) (fun _ => ?_)
    refine r_iinc (ls' := fun v20 => [(5, 0, v20), (6, 10, x5), (1, 6, x1), (2, 0, x2), (3, 101, 0), (4, 0, x4)]) E 5 rfl (by rw [hN]; decide) (fun _ => rfl) dX1_remove_158 (fun v20 _ => ?_)
    refine r_goto E 139 (by decide) dX1_remove_161 ?_
    refine r_pick E [2, 3, 4, 5, 0] rfl ?_
    exact hr139 v20
theorem w_fX1_remove_J73 {K : zK} {nf : Nat} (E : zE K cX1_remove "RingHouse$Tree" (some .int) (3 + nf + 1)) (hN : zNl K = 7) (hT : zTr K = (some 0)) {sf : Int → zX} (hsf : ∀ (l : Launch) (G : zG) (x1 : Int), zCt l G yX1_remove cX1_remove 7 (some .int) (3 + nf) [(3, 0), (6, x1)] (some 0) (sf x1)) (x1 : Int) (x2 : Int) : zR K 73 [(0, 3, 0), (1, 6, x1), (2, 0, x2)] [] (fX1_remove_J73 sf x1 x2) := by
  refine r_aload_n E dX1_remove_73 rfl 0 rfl ?_
  refine r_aload_n E dX1_remove_74 rfl 1 rfl ?_
  refine r_nn E (fun hn7 => ?_)
  refine r_getN E zc_6 zt_504 dX1_remove_75 q399 zr_6 (zg_504 _) hn7 (fun v8 => ?_)
  refine r_aload_n E dX1_remove_78 rfl 1 rfl ?_
  refine r_callV E [] [(6, v8), (3, 0)] rfl zc_6 zr_6 (fun o _ => ⟨_, zw_X4.1 o, rfl⟩) (lw_V q1916 q1917 q1918 q231 q1919) dX1_remove_79 zy_X4_cost rfl (by omega) (by decide) (Nat.le_of_ble_eq_true rfl) hn7 (fun l G => k_fX4_cost l G x1 hn7) (fun v9 => ?_)
  refine r_ineg E dX1_remove_82 ?_
  refine r_callV E [(6, v8), (0, (zi (- v9)))] [] rfl zc_3 zr_3 (fun o _ => ⟨_, zw_X1.1 o, rfl⟩) (lw_V q1931 q1933 qs3 q228 q1934) dX1_remove_83 zy_X1_charge rfl (by omega) (by decide) (Nat.le_of_ble_eq_true rfl) (by decide) (fun l G => k_fX1_charge l G v8 (zi (- v9))) (fun _ => ?_)
  refine r_aload_n E dX1_remove_86 rfl 0 rfl ?_
  refine r_gec (y := 0) E zc_3 dX1_remove_87 q587 zr_3 (zh_201 (by decide)) (by decide) ?_
  refine r_aload_n E dX1_remove_90 rfl 1 rfl ?_
  refine r_callV E [(6, x1)] [] rfl zc_4 zr_4 (fun o _ => ⟨_, zw_X2.1 o, rfl⟩) (lw_V q2025 q2026 q2027 q229 q2028) dX1_remove_91 zy_X2_remove rfl (by omega) (by decide) (Nat.le_of_ble_eq_true rfl) (by decide) (fun l G => k_fX2_remove l G x1) (fun _ => ?_)
  refine r_aload_n E dX1_remove_94 rfl 1 rfl ?_
  refine r_getN E zc_6 zt_504 dX1_remove_95 q399 zr_6 (zg_504 _) hn7 (fun v12 => ?_)
  refine r_aload_n E dX1_remove_98 rfl 1 rfl ?_
  refine r_nn E (fun hn13 => ?_)
  refine r_callV E [(6, x1)] [] rfl zc_6 zr_6 (fun o _ => ⟨_, zw_X4.1 o, rfl⟩) (lw_V q2040 q2041 q2042 q231 q2043) dX1_remove_99 zy_X4_detach rfl (by omega) (by decide) (Nat.le_of_ble_eq_true rfl) hn13 (fun l G => k_fX4_detach l G v12 x1 hn13) (fun _ => ?_)
  refine r_aload_n E dX1_remove_102 rfl 1 rfl ?_
  refine r_iconst E dX1_remove_103 (zkI (by decide) (by decide)) ?_
  refine r_putN E zc_6 zt_501 zo_501 dX1_remove_104 q379 zr_6 zw_X4 zp_501 (fun _ => rfl) (fun _ => rfl) hn7 ?_
  refine r_aload_n E dX1_remove_107 rfl 0 rfl ?_
  refine r_dup E (zn1 rfl) dX1_remove_108 ?_
  refine r_get E zc_3 zt_206 dX1_remove_109 q599 zr_3 (zg_206 _) (by decide) (fun v15 => ?_)
  refine r_iconst E dX1_remove_112 (zkI (by decide) (by decide)) ?_
  refine r_isub E dX1_remove_113 ?_
  refine r_put E zc_3 zt_206 zo_206 dX1_remove_114 q599 zr_3 zw_X1 zp_206 (fun _ => rfl) (fun _ => rfl) (by decide) ?_
  refine r_aload_n E dX1_remove_117 rfl 0 rfl ?_
  refine r_dup E (zn1 rfl) dX1_remove_118 ?_
  refine r_get E zc_3 zt_207 dX1_remove_119 q601 zr_3 (zg_207 _) (by decide) (fun v16 => ?_)
  refine r_iconst E dX1_remove_122 (zkI (by decide) (by decide)) ?_
  refine r_iadd E dX1_remove_123 ?_
  refine r_put E zc_3 zt_207 zo_207 dX1_remove_124 q601 zr_3 zw_X1 zp_207 (fun _ => rfl) (fun _ => rfl) (by decide) ?_
  refine r_aload_n E dX1_remove_127 rfl 0 rfl ?_
  refine r_gec (y := 0) E zc_3 dX1_remove_128 q607 zr_3 (zh_208 (by decide)) (by decide) ?_
  refine r_astore_n (ls' := [(3, 101, 0), (0, 3, 0), (1, 6, x1), (2, 0, x2)]) E dX1_remove_131 rfl (by rw [hN]; decide) rfl ?_
  refine r_aload_n E dX1_remove_132 rfl 0 rfl ?_
  refine r_alen (n := 8) E zc_101 za_101 zx_101 rfl (zkI (by decide) (by decide)) dX1_remove_133 (by decide) ?_
  refine r_istore (ls' := [(4, 0, 8), (3, 101, 0), (0, 3, 0), (1, 6, x1), (2, 0, x2)]) E dX1_remove_134 (by rw [hN]; decide) rfl ?_
  refine r_iconst E dX1_remove_136 (zkI (by decide) (by decide)) ?_
  refine r_istore (ls' := [(5, 0, 0), (4, 0, 8), (3, 101, 0), (0, 3, 0), (1, 6, x1), (2, 0, x2)]) E dX1_remove_137 (by rw [hN]; decide) rfl ?_
  refine r_pick E [4, 5, 2, 1, 0] rfl ?_
  exact r_loop (L := fun s => [(1, 6, x1), (2, 0, x2), (3, 101, 0), (4, 0, 8), (5, 0, s)]) (w_fX1_remove_B139 E hN hT hsf x1 x2 8) zBIG 0
theorem w_fX1_remove_J43 {K : zK} {nf : Nat} (E : zE K cX1_remove "RingHouse$Tree" (some .int) (3 + nf + 1)) (hN : zNl K = 7) (hT : zTr K = (some 0)) {sf : Int → zX} (hsf : ∀ (l : Launch) (G : zG) (x1 : Int), zCt l G yX1_remove cX1_remove 7 (some .int) (3 + nf) [(3, 0), (6, x1)] (some 0) (sf x1)) (x1 : Int) (x2 : Int) : zR K 43 [(0, 3, 0), (1, 6, x1), (2, 0, x2)] [] (fX1_remove_J43 sf x1 x2) := by
  refine r_aload_n E dX1_remove_43 rfl 1 rfl ?_
  refine r_nn E (fun hn5 => ?_)
  refine r_callV E [] [] rfl zc_6 zr_6 (fun o _ => ⟨_, zw_X4.1 o, rfl⟩) (lw_V q2039 q1921 q1922 q231 q1923) dX1_remove_44 zy_X4_isMailbox rfl (by omega) (by decide) (Nat.le_of_ble_eq_true rfl) hn5 (fun l G => k_fX4_isMailbox l G x1 hn5) (fun v6 => ?_)
  refine r_if_eq E 73 (by decide) dX1_remove_47 (fun _ => ?_) (fun _ => ?_)
  · exact w_fX1_remove_J73 E hN hT hsf x1 x2
  · refine r_aload_n E dX1_remove_50 rfl 0 rfl ?_
    refine r_gec (y := 0) E zc_3 dX1_remove_51 q593 zr_3 (zh_203 (by decide)) (by decide) ?_
    refine r_aload_n E dX1_remove_54 rfl 0 rfl ?_
    refine r_get E zc_3 zt_204 dX1_remove_55 q594 zr_3 (zg_204 _) (by decide) (fun v21 => ?_)
    refine r_aload_n E dX1_remove_58 rfl 1 rfl ?_
    refine r_getN E zc_6 zt_520 dX1_remove_59 q468 zr_6 (zg_520 _) hn5 (fun v22 => ?_)
    refine r_aastore E zc_203 zc_8 za_203 zt_203 zo_203 zx_203 zr_8 zw_X6 rfl rfl dX1_remove_62 (by decide) ?_
    refine r_aload_n E dX1_remove_63 rfl 0 rfl ?_
    refine r_dup E (zn1 rfl) dX1_remove_64 ?_
    refine r_get E zc_3 zt_204 dX1_remove_65 q594 zr_3 (zg_204 _) (by decide) (fun v23 => ?_)
    refine r_iconst E dX1_remove_68 (zkI (by decide) (by decide)) ?_
    refine r_iadd E dX1_remove_69 ?_
    refine r_put E zc_3 zt_204 zo_204 dX1_remove_70 q594 zr_3 zw_X1 zp_204 (fun _ => rfl) (fun _ => rfl) (by decide) ?_
    exact w_fX1_remove_J73 E hN hT hsf x1 x2
theorem w_fX1_remove_J30 {K : zK} {nf : Nat} (E : zE K cX1_remove "RingHouse$Tree" (some .int) (3 + nf + 1)) (hN : zNl K = 7) (hT : zTr K = (some 0)) {sf : Int → zX} (hsf : ∀ (l : Launch) (G : zG) (x1 : Int), zCt l G yX1_remove cX1_remove 7 (some .int) (3 + nf) [(3, 0), (6, x1)] (some 0) (sf x1)) (x1 : Int) (x2 : Int) : zR K 30 [(0, 3, 0), (1, 6, x1), (2, 0, x2)] [] (fX1_remove_J30 sf x1 x2) := by
  refine r_aload_n E dX1_remove_30 rfl 1 rfl ?_
  refine r_nn E (fun hn3 => ?_)
  refine r_callV E [] [] rfl zc_6 zr_6 (fun o _ => ⟨_, zw_X4.1 o, rfl⟩) (lw_V q2002 q1925 q1926 q231 q1927) dX1_remove_31 zy_X4_isSegment rfl (by omega) (by decide) (Nat.le_of_ble_eq_true rfl) hn3 (fun l G => k_fX4_isSegment l G x1 hn3) (fun v4 => ?_)
  refine r_if_eq E 43 (by decide) dX1_remove_34 (fun _ => ?_) (fun _ => ?_)
  · exact w_fX1_remove_J43 E hN hT hsf x1 x2
  · refine r_aload_n E dX1_remove_37 rfl 0 rfl ?_
    refine r_aload_n E dX1_remove_38 rfl 1 rfl ?_
    refine r_iconst E dX1_remove_39 (zkI (by decide) (by decide)) ?_
    refine r_callV E [(6, x1), (0, 0)] [] rfl zc_3 zr_3 (fun o _ => ⟨_, zw_X1.1 o, rfl⟩) (lw_V q2038 q1946 q1947 q228 q1948) dX1_remove_40 zy_X1_resize rfl (by omega) (by decide) (Nat.le_of_ble_eq_true rfl) (by decide) (fun l G => k_fX1_resize l G x1 0) (fun _ => ?_)
    exact w_fX1_remove_J43 E hN hT hsf x1 x2
theorem w_fX1_remove_B2 {K : zK} {nf : Nat} (E : zE K cX1_remove "RingHouse$Tree" (some .int) (3 + nf + 1)) (hN : zNl K = 7) (hT : zTr K = (some 0)) {sf : Int → zX} (hsf : ∀ (l : Launch) (G : zG) (x1 : Int), zCt l G yX1_remove cX1_remove 7 (some .int) (3 + nf) [(3, 0), (6, x1)] (some 0) (sf x1)) (x1 : Int) : ∀ r2 : Int → zX, (∀ s : Int, zR K 2 [(0, 3, 0), (1, 6, x1), (2, 0, s)] [] (r2 s)) → ∀ s : Int, zR K 2 [(0, 3, 0), (1, 6, x1), (2, 0, s)] [] (fX1_remove_B2 sf x1 r2 s) := by
  intro r2 hr2 x2
  refine r_aload_n E dX1_remove_2 rfl 1 rfl ?_
  refine r_nn E (fun hn1 => ?_)
  refine r_callV E [] [] rfl zc_6 zr_6 (fun o _ => ⟨_, zw_X4.1 o, rfl⟩) (lw_V q1837 q1838 q1839 q231 q1840) dX1_remove_3 zy_X4_isDirectory rfl (by omega) (by decide) (Nat.le_of_ble_eq_true rfl) hn1 (fun l G => k_fX4_isDirectory l G x1 hn1) (fun v2 => ?_)
  refine r_if_eq E 30 (by decide) dX1_remove_6 (fun _ => ?_) (fun _ => ?_)
  · exact w_fX1_remove_J30 E hN hT hsf x1 x2
  · refine r_aload_n E dX1_remove_9 rfl 1 rfl ?_
    refine r_getN E zc_6 zt_514 dX1_remove_10 q446 zr_6 (zg_514 _) hn1 (fun v25 => ?_)
    refine r_ifnull E 30 (by decide) dX1_remove_13 (fun _ => ?_) (fun hz26 => ?_)
    · exact w_fX1_remove_J30 E hN hT hsf x1 x2
    · refine r_iload_n E dX1_remove_16 rfl 2 rfl ?_
      refine r_aload_n E dX1_remove_17 rfl 0 rfl ?_
      refine r_aload_n E dX1_remove_18 rfl 1 rfl ?_
      refine r_getN E zc_6 zt_514 dX1_remove_19 q446 zr_6 (zg_514 _) hn1 (fun v27 => ?_)
      refine r_callV E [(6, v27)] [(0, x2)] rfl zc_3 zr_3 (fun o _ => ⟨_, zw_X1.1 o, rfl⟩) (lw_V q2037 q2034 q2035 q228 q2036) dX1_remove_22 zy_X1_remove rfl (by omega) (by decide) (Nat.le_of_ble_eq_true rfl) (by decide) (fun l G => hsf l G v27) (fun v28 => ?_)
      refine r_iadd E dX1_remove_25 ?_
      refine r_let E (fun v29 ev29 => ?_)
      refine r_istore_n (ls' := [(2, 0, v29), (0, 3, 0), (1, 6, x1)]) E dX1_remove_26 rfl (by rw [hN]; decide) rfl ?_
      refine r_goto E 2 (by decide) dX1_remove_27 ?_
      refine r_pick E [1, 2, 0] rfl ?_
      exact hr2 v29
theorem w_fX1_remove_E {K : zK} {nf : Nat} (E : zE K cX1_remove "RingHouse$Tree" (some .int) (3 + nf + 1)) (hN : zNl K = 7) (hT : zTr K = (some 0)) {sf : Int → zX} (hsf : ∀ (l : Launch) (G : zG) (x1 : Int), zCt l G yX1_remove cX1_remove 7 (some .int) (3 + nf) [(3, 0), (6, x1)] (some 0) (sf x1)) (x1 : Int) : zR K 0 [(0, 3, 0), (1, 6, x1)] [] (fX1_remove_E sf x1) := by
  refine r_iconst E dX1_remove_0 (zkI (by decide) (by decide)) ?_
  refine r_istore_n (ls' := [(2, 0, 1), (0, 3, 0), (1, 6, x1)]) E dX1_remove_1 rfl (by rw [hN]; decide) rfl ?_
  refine r_pick E [1, 2, 0] rfl ?_
  exact r_loop (L := fun s => [(0, 3, 0), (1, 6, x1), (2, 0, s)]) (w_fX1_remove_B2 E hN hT hsf x1) zBIG 1
theorem k0_fX1_remove (nf : Nat) : ∀ (l : Launch) (G : zG) (x1 : Int), zCt l G yX1_remove cX1_remove 7 (some .int) (3 + nf) [(3, 0), (6, x1)] (some 0) (fX1_remove nf x1) := by
  induction nf with
  | zero => intro l G x1 M r M' hX; cases hX
  | succ nf ih => intro l G x1; exact zCt.of (by decide) (Nat.le_of_ble_eq_true rfl) (fun K E _ _ hN hT => w_fX1_remove_E E hN hT ih x1)
theorem k_fX1_remove (l : Launch) (G : zG) (x1 : Int) : zCt l G yX1_remove cX1_remove 7 (some .int) 303 [(3, 0), (6, x1)] (some 0) (fX1_remove 300 x1) := k0_fX1_remove 300 l G x1
theorem dX0_remove_0 : decode cX0_remove 0 = .ok (.aload_n 0, 1) := by decide +kernel
theorem dX0_remove_1 : decode cX0_remove 1 = .ok (.getfield 42, 3) := by decide +kernel
theorem dX0_remove_4 : decode cX0_remove 4 = .ok (.iload_n 1, 1) := by decide +kernel
theorem dX0_remove_5 : decode cX0_remove 5 = .ok (.invokevirtual 167, 3) := by decide +kernel
theorem dX0_remove_8 : decode cX0_remove 8 = .ok (.astore_n 2, 1) := by decide +kernel
theorem dX0_remove_9 : decode cX0_remove 9 = .ok (.aload_n 2, 1) := by decide +kernel
theorem dX0_remove_10 : decode cX0_remove 10 = .ok (.ifnull 14, 3) := by decide +kernel
theorem dX0_remove_13 : decode cX0_remove 13 = .ok (.aload_n 2, 1) := by decide +kernel
theorem dX0_remove_14 : decode cX0_remove 14 = .ok (.aload_n 0, 1) := by decide +kernel
theorem dX0_remove_15 : decode cX0_remove 15 = .ok (.getfield 42, 3) := by decide +kernel
theorem dX0_remove_18 : decode cX0_remove 18 = .ok (.getfield 201, 3) := by decide +kernel
theorem dX0_remove_21 : decode cX0_remove 21 = .ok (.if_acmp .ne 8, 3) := by decide +kernel
theorem dX0_remove_24 : decode cX0_remove 24 = .ok (.bipush (-8), 2) := by decide +kernel
theorem dX0_remove_26 : decode cX0_remove 26 = .ok (.goto 11, 3) := by decide +kernel
theorem dX0_remove_29 : decode cX0_remove 29 = .ok (.aload_n 0, 1) := by decide +kernel
theorem dX0_remove_30 : decode cX0_remove 30 = .ok (.getfield 42, 3) := by decide +kernel
theorem dX0_remove_33 : decode cX0_remove 33 = .ok (.aload_n 2, 1) := by decide +kernel
theorem dX0_remove_34 : decode cX0_remove 34 = .ok (.invokevirtual 227, 3) := by decide +kernel
theorem dX0_remove_37 : decode cX0_remove 37 = .ok (.ireturn, 1) := by decide +kernel
theorem zy_X0_remove : yX0_remove.cls ≠ "java/lang/invoke/MethodHandle" ∧ yX0_remove.cls ≠ "java/lang/invoke/VarHandle" ∧ (parseMethodDescriptor yX0_remove.desc).map (fun d => d.parameters.length) = some 1 := by decide +kernel
theorem w_fX0_remove {K : zK} (E : zE K cX0_remove "RingHouse" (some .int) 304) (hN : zNl K = 3) (hT : zTr K = (some 0)) (x1 : Int) : zR K 0 [(0, 2, 0), (1, 0, x1)] [] (fX0_remove x1) := by
  refine r_aload_n E dX0_remove_0 rfl 0 rfl ?_
  refine r_gec (y := 0) E zc_2 dX0_remove_1 q1790 zr_2 (zh_100 (by decide)) (by decide) ?_
  refine r_iload_n E dX0_remove_4 rfl 1 rfl ?_
  refine r_callV E [(0, x1)] [] rfl zc_3 zr_3 (fun o _ => ⟨_, zw_X1.1 o, rfl⟩) (lw_V q1984 q1830 q1831 q228 q1832) dX0_remove_5 zy_X1_node rfl (by omega) (by decide) (Nat.le_of_ble_eq_true rfl) (by decide) (fun l G => k_fX1_node l G x1) (fun v1 => ?_)
  refine r_astore_n (ls' := [(2, 6, v1), (0, 2, 0), (1, 0, x1)]) E dX0_remove_8 rfl (by rw [hN]; decide) rfl ?_
  refine r_aload_n E dX0_remove_9 rfl 0 rfl ?_
  refine r_ifnull E 24 (by decide) dX0_remove_10 (fun _ => ?_) (fun hz2 => ?_)
  · refine r_bipush E dX0_remove_24 (by decide) (zkI (by decide) (by decide)) ?_
    refine r_goto E 37 (by decide) dX0_remove_26 ?_
    exact r_ireturn E rfl hT dX0_remove_37
  · refine r_aload_n E dX0_remove_13 rfl 0 rfl ?_
    refine r_aload_n E dX0_remove_14 rfl 1 rfl ?_
    refine r_gec (y := 0) E zc_2 dX0_remove_15 q1790 zr_2 (zh_100 (by decide)) (by decide) ?_
    refine r_gecN (y := 0) E zc_3 dX0_remove_18 q598 zr_3 (zh_205 (by decide)) (by decide) ?_
    refine r_acmp_ne E rfl 29 (by decide) dX0_remove_21 (fun _ => ?_) (fun _ => ?_)
    · refine r_aload_n E dX0_remove_29 rfl 1 rfl ?_
      refine r_gec (y := 0) E zc_2 dX0_remove_30 q1790 zr_2 (zh_100 (by decide)) (by decide) ?_
      refine r_aload_n E dX0_remove_33 rfl 0 rfl ?_
      refine r_callV E [(6, v1)] [] rfl zc_3 zr_3 (fun o _ => ⟨_, zw_X1.1 o, rfl⟩) (lw_V q2033 q2034 q2035 q228 q2036) dX0_remove_34 zy_X1_remove rfl (by omega) (by decide) (Nat.le_of_ble_eq_true rfl) (by decide) (fun l G => k_fX1_remove l G v1) (fun v3 => ?_)
      exact r_ireturn E rfl hT dX0_remove_37
    · refine r_bipush E dX0_remove_24 (by decide) (zkI (by decide) (by decide)) ?_
      refine r_goto E 37 (by decide) dX0_remove_26 ?_
      exact r_ireturn E rfl hT dX0_remove_37
theorem k_fX0_remove (l : Launch) (G : zG) (x1 : Int) : zCt l G yX0_remove cX0_remove 3 (some .int) 304 [(2, 0), (0, x1)] (some 0) (fX0_remove x1) := zCt.of (by decide) (Nat.le_of_ble_eq_true rfl) (fun K E _ _ hN hT => w_fX0_remove E hN hT x1)
theorem dX0_find_0 : decode cX0_find 0 = .ok (.aload_n 0, 1) := by decide +kernel
theorem dX0_find_1 : decode cX0_find 1 = .ok (.getfield 42, 3) := by decide +kernel
theorem dX0_find_4 : decode cX0_find 4 = .ok (.iload_n 1, 1) := by decide +kernel
theorem dX0_find_5 : decode cX0_find 5 = .ok (.invokevirtual 115, 3) := by decide +kernel
theorem dX0_find_8 : decode cX0_find 8 = .ok (.astore 4, 2) := by decide +kernel
theorem dX0_find_10 : decode cX0_find 10 = .ok (.aload 4, 2) := by decide +kernel
theorem dX0_find_12 : decode cX0_find 12 = .ok (.ifnonnull 6, 3) := by decide +kernel
theorem dX0_find_15 : decode cX0_find 15 = .ok (.bipush (-8), 2) := by decide +kernel
theorem dX0_find_17 : decode cX0_find 17 = .ok (.ireturn, 1) := by decide +kernel
theorem dX0_find_18 : decode cX0_find 18 = .ok (.aload_n 0, 1) := by decide +kernel
theorem dX0_find_19 : decode cX0_find 19 = .ok (.getfield 42, 3) := by decide +kernel
theorem dX0_find_22 : decode cX0_find 22 = .ok (.getfield 210, 3) := by decide +kernel
theorem dX0_find_25 : decode cX0_find 25 = .ok (.aload 4, 2) := by decide +kernel
theorem dX0_find_27 : decode cX0_find 27 = .ok (.lload_n 2, 1) := by decide +kernel
theorem dX0_find_28 : decode cX0_find 28 = .ok (.invokevirtual 217, 3) := by decide +kernel
theorem dX0_find_31 : decode cX0_find 31 = .ok (.astore 5, 2) := by decide +kernel
theorem dX0_find_33 : decode cX0_find 33 = .ok (.aload 5, 2) := by decide +kernel
theorem dX0_find_35 : decode cX0_find 35 = .ok (.ifnonnull 7, 3) := by decide +kernel
theorem dX0_find_38 : decode cX0_find 38 = .ok (.iconst (-1), 1) := by decide +kernel
theorem dX0_find_39 : decode cX0_find 39 = .ok (.goto 8, 3) := by decide +kernel
theorem dX0_find_42 : decode cX0_find 42 = .ok (.aload 5, 2) := by decide +kernel
theorem dX0_find_44 : decode cX0_find 44 = .ok (.getfield 231, 3) := by decide +kernel
theorem dX0_find_47 : decode cX0_find 47 = .ok (.ireturn, 1) := by decide +kernel
theorem zy_X0_find : yX0_find.cls ≠ "java/lang/invoke/MethodHandle" ∧ yX0_find.cls ≠ "java/lang/invoke/VarHandle" ∧ (parseMethodDescriptor yX0_find.desc).map (fun d => d.parameters.length) = some 2 := by decide +kernel
theorem w_fX0_find {K : zK} (E : zE K cX0_find "RingHouse" (some .int) 3) (hN : zNl K = 6) (hT : zTr K = (some 0)) (x1 : Int) (x2 : Int) : zR K 0 [(0, 2, 0), (1, 0, x1), (2, 1, x2)] [] (fX0_find x1 x2) := by
  refine r_aload_n E dX0_find_0 rfl 0 rfl ?_
  refine r_gec (y := 0) E zc_2 dX0_find_1 q1790 zr_2 (zh_100 (by decide)) (by decide) ?_
  refine r_iload_n E dX0_find_4 rfl 1 rfl ?_
  refine r_callV E [(0, x1)] [] rfl zc_3 zr_3 (fun o _ => ⟨_, zw_X1.1 o, rfl⟩) (lw_V q1825 q1826 q1827 q228 q1828) dX0_find_5 zy_X1_directory rfl (by omega) (by decide) (Nat.le_of_ble_eq_true rfl) (by decide) (fun l G => k_fX1_directory l G x1) (fun v1 => ?_)
  refine r_astore (ls' := [(4, 6, v1), (0, 2, 0), (1, 0, x1), (2, 1, x2)]) E dX0_find_8 (by rw [hN]; decide) rfl ?_
  refine r_aload E dX0_find_10 0 rfl ?_
  refine r_ifnonnull E 18 (by decide) dX0_find_12 (fun _ => ?_) (fun hz2 => ?_)
  · refine r_bipush E dX0_find_15 (by decide) (zkI (by decide) (by decide)) ?_
    exact r_ireturn E rfl hT dX0_find_17
  · refine r_aload_n E dX0_find_18 rfl 1 rfl ?_
    refine r_gec (y := 0) E zc_2 dX0_find_19 q1790 zr_2 (zh_100 (by decide)) (by decide) ?_
    refine r_gecN (y := 0) E zc_3 dX0_find_22 q591 zr_3 (zh_201 (by decide)) (by decide) ?_
    refine r_aload E dX0_find_25 0 rfl ?_
    refine r_lload_n E dX0_find_27 rfl 3 rfl ?_
    refine r_callV E [(6, v1), (1, x2)] [] rfl zc_4 zr_4 (fun o _ => ⟨_, zw_X2.1 o, rfl⟩) (lw_V q2020 q1866 q1867 q229 q1868) dX0_find_28 zy_X2_find rfl (by omega) (by decide) (Nat.le_of_ble_eq_true rfl) (by decide) (fun l G => k_fX2_find l G v1 x2) (fun v3 => ?_)
    refine r_astore (ls' := [(5, 6, v3), (4, 6, v1), (0, 2, 0), (1, 0, x1), (2, 1, x2)]) E dX0_find_31 (by rw [hN]; decide) rfl ?_
    refine r_aload E dX0_find_33 0 rfl ?_
    refine r_ifnonnull E 42 (by decide) dX0_find_35 (fun _ => ?_) (fun hz4 => ?_)
    · refine r_iconst E dX0_find_38 (zkI (by decide) (by decide)) ?_
      refine r_goto E 47 (by decide) dX0_find_39 ?_
      exact r_ireturn E rfl hT dX0_find_47
    · refine r_aload E dX0_find_42 0 rfl ?_
      refine r_gecN (y := v3) E zc_6 dX0_find_44 q376 zr_6 (zh_500 (by omega)) (Int.not_lt.mp hz4) ?_
      exact r_ireturn E rfl hT dX0_find_47
theorem k_fX0_find (l : Launch) (G : zG) (x1 : Int) (x2 : Int) : zCt l G yX0_find cX0_find 6 (some .int) 3 [(2, 0), (0, x1), (1, x2)] (some 0) (fX0_find x1 x2) := zCt.of (by decide) (Nat.le_of_ble_eq_true rfl) (fun K E _ _ hN hT => w_fX0_find E hN hT x1 x2)
theorem dX0_about_0 : decode cX0_about 0 = .ok (.aload_n 0, 1) := by decide +kernel
theorem dX0_about_1 : decode cX0_about 1 = .ok (.getfield 42, 3) := by decide +kernel
theorem dX0_about_4 : decode cX0_about 4 = .ok (.iload_n 1, 1) := by decide +kernel
theorem dX0_about_5 : decode cX0_about 5 = .ok (.invokevirtual 167, 3) := by decide +kernel
theorem dX0_about_8 : decode cX0_about 8 = .ok (.astore_n 3, 1) := by decide +kernel
theorem dX0_about_9 : decode cX0_about 9 = .ok (.aload_n 3, 1) := by decide +kernel
theorem dX0_about_10 : decode cX0_about 10 = .ok (.ifnonnull 7, 3) := by decide +kernel
theorem dX0_about_13 : decode cX0_about 13 = .ok (.ldc2_w 234, 3) := by decide +kernel
theorem dX0_about_16 : decode cX0_about 16 = .ok (.lreturn, 1) := by decide +kernel
theorem dX0_about_17 : decode cX0_about 17 = .ok (.iload_n 2, 1) := by decide +kernel
theorem dX0_about_18 : decode cX0_about 18 = .ok (.tableswitch 222 0 16 #[82, 88, 110, 116, 122, 128, 134, 140, 146, 152, 158, 164, 173, 179, 184, 204, 213], 82) := by decide +kernel
theorem dX0_about_100 : decode cX0_about 100 = .ok (.aload_n 3, 1) := by decide +kernel
theorem dX0_about_101 : decode cX0_about 101 = .ok (.getfield 236, 3) := by decide +kernel
theorem dX0_about_104 : decode cX0_about 104 = .ok (.i2l, 1) := by decide +kernel
theorem dX0_about_105 : decode cX0_about 105 = .ok (.lreturn, 1) := by decide +kernel
theorem dX0_about_106 : decode cX0_about 106 = .ok (.aload_n 3, 1) := by decide +kernel
theorem dX0_about_107 : decode cX0_about 107 = .ok (.getfield 214, 3) := by decide +kernel
theorem dX0_about_110 : decode cX0_about 110 = .ok (.ifnonnull 9, 3) := by decide +kernel
theorem dX0_about_113 : decode cX0_about 113 = .ok (.ldc2_w 234, 3) := by decide +kernel
theorem dX0_about_116 : decode cX0_about 116 = .ok (.goto 11, 3) := by decide +kernel
theorem dX0_about_119 : decode cX0_about 119 = .ok (.aload_n 3, 1) := by decide +kernel
theorem dX0_about_120 : decode cX0_about 120 = .ok (.getfield 214, 3) := by decide +kernel
theorem dX0_about_123 : decode cX0_about 123 = .ok (.getfield 231, 3) := by decide +kernel
theorem dX0_about_126 : decode cX0_about 126 = .ok (.i2l, 1) := by decide +kernel
theorem dX0_about_127 : decode cX0_about 127 = .ok (.lreturn, 1) := by decide +kernel
theorem dX0_about_128 : decode cX0_about 128 = .ok (.aload_n 3, 1) := by decide +kernel
theorem dX0_about_129 : decode cX0_about 129 = .ok (.getfield 125, 3) := by decide +kernel
theorem dX0_about_132 : decode cX0_about 132 = .ok (.i2l, 1) := by decide +kernel
theorem dX0_about_133 : decode cX0_about 133 = .ok (.lreturn, 1) := by decide +kernel
theorem dX0_about_134 : decode cX0_about 134 = .ok (.aload_n 3, 1) := by decide +kernel
theorem dX0_about_135 : decode cX0_about 135 = .ok (.getfield 239, 3) := by decide +kernel
theorem dX0_about_138 : decode cX0_about 138 = .ok (.i2l, 1) := by decide +kernel
theorem dX0_about_139 : decode cX0_about 139 = .ok (.lreturn, 1) := by decide +kernel
theorem dX0_about_140 : decode cX0_about 140 = .ok (.aload_n 3, 1) := by decide +kernel
theorem dX0_about_141 : decode cX0_about 141 = .ok (.getfield 242, 3) := by decide +kernel
theorem dX0_about_144 : decode cX0_about 144 = .ok (.i2l, 1) := by decide +kernel
theorem dX0_about_145 : decode cX0_about 145 = .ok (.lreturn, 1) := by decide +kernel
theorem dX0_about_146 : decode cX0_about 146 = .ok (.aload_n 3, 1) := by decide +kernel
theorem dX0_about_147 : decode cX0_about 147 = .ok (.getfield 245, 3) := by decide +kernel
theorem dX0_about_150 : decode cX0_about 150 = .ok (.i2l, 1) := by decide +kernel
theorem dX0_about_151 : decode cX0_about 151 = .ok (.lreturn, 1) := by decide +kernel
theorem dX0_about_152 : decode cX0_about 152 = .ok (.aload_n 3, 1) := by decide +kernel
theorem dX0_about_153 : decode cX0_about 153 = .ok (.getfield 188, 3) := by decide +kernel
theorem dX0_about_156 : decode cX0_about 156 = .ok (.i2l, 1) := by decide +kernel
theorem dX0_about_157 : decode cX0_about 157 = .ok (.lreturn, 1) := by decide +kernel
theorem dX0_about_158 : decode cX0_about 158 = .ok (.aload_n 3, 1) := by decide +kernel
theorem dX0_about_159 : decode cX0_about 159 = .ok (.getfield 194, 3) := by decide +kernel
theorem dX0_about_162 : decode cX0_about 162 = .ok (.i2l, 1) := by decide +kernel
theorem dX0_about_163 : decode cX0_about 163 = .ok (.lreturn, 1) := by decide +kernel
theorem dX0_about_164 : decode cX0_about 164 = .ok (.aload_n 3, 1) := by decide +kernel
theorem dX0_about_165 : decode cX0_about 165 = .ok (.getfield 205, 3) := by decide +kernel
theorem dX0_about_168 : decode cX0_about 168 = .ok (.i2l, 1) := by decide +kernel
theorem dX0_about_169 : decode cX0_about 169 = .ok (.lreturn, 1) := by decide +kernel
theorem dX0_about_170 : decode cX0_about 170 = .ok (.aload_n 3, 1) := by decide +kernel
theorem dX0_about_171 : decode cX0_about 171 = .ok (.getfield 248, 3) := by decide +kernel
theorem dX0_about_174 : decode cX0_about 174 = .ok (.i2l, 1) := by decide +kernel
theorem dX0_about_175 : decode cX0_about 175 = .ok (.lreturn, 1) := by decide +kernel
theorem dX0_about_176 : decode cX0_about 176 = .ok (.aload_n 3, 1) := by decide +kernel
theorem dX0_about_177 : decode cX0_about 177 = .ok (.getfield 251, 3) := by decide +kernel
theorem dX0_about_180 : decode cX0_about 180 = .ok (.i2l, 1) := by decide +kernel
theorem dX0_about_181 : decode cX0_about 181 = .ok (.lreturn, 1) := by decide +kernel
theorem dX0_about_182 : decode cX0_about 182 = .ok (.aload_n 3, 1) := by decide +kernel
theorem dX0_about_183 : decode cX0_about 183 = .ok (.getfield 170, 3) := by decide +kernel
theorem dX0_about_186 : decode cX0_about 186 = .ok (.getfield 164, 3) := by decide +kernel
theorem dX0_about_189 : decode cX0_about 189 = .ok (.i2l, 1) := by decide +kernel
theorem dX0_about_190 : decode cX0_about 190 = .ok (.lreturn, 1) := by decide +kernel
theorem dX0_about_191 : decode cX0_about 191 = .ok (.aload_n 3, 1) := by decide +kernel
theorem dX0_about_192 : decode cX0_about 192 = .ok (.getfield 254, 3) := by decide +kernel
theorem dX0_about_195 : decode cX0_about 195 = .ok (.i2l, 1) := by decide +kernel
theorem dX0_about_196 : decode cX0_about 196 = .ok (.lreturn, 1) := by decide +kernel
theorem dX0_about_197 : decode cX0_about 197 = .ok (.aload_n 3, 1) := by decide +kernel
theorem dX0_about_198 : decode cX0_about 198 = .ok (.getfield 257, 3) := by decide +kernel
theorem dX0_about_201 : decode cX0_about 201 = .ok (.lreturn, 1) := by decide +kernel
theorem dX0_about_202 : decode cX0_about 202 = .ok (.aload_n 3, 1) := by decide +kernel
theorem dX0_about_203 : decode cX0_about 203 = .ok (.invokevirtual 261, 3) := by decide +kernel
theorem dX0_about_206 : decode cX0_about 206 = .ok (.ifCond .eq 14, 3) := by decide +kernel
theorem dX0_about_209 : decode cX0_about 209 = .ok (.aload_n 3, 1) := by decide +kernel
theorem dX0_about_210 : decode cX0_about 210 = .ok (.getfield 264, 3) := by decide +kernel
theorem dX0_about_213 : decode cX0_about 213 = .ok (.getfield 268, 3) := by decide +kernel
theorem dX0_about_216 : decode cX0_about 216 = .ok (.i2l, 1) := by decide +kernel
theorem dX0_about_217 : decode cX0_about 217 = .ok (.goto 4, 3) := by decide +kernel
theorem dX0_about_220 : decode cX0_about 220 = .ok (.lconst 0, 1) := by decide +kernel
theorem dX0_about_221 : decode cX0_about 221 = .ok (.lreturn, 1) := by decide +kernel
theorem dX0_about_222 : decode cX0_about 222 = .ok (.aload_n 3, 1) := by decide +kernel
theorem dX0_about_223 : decode cX0_about 223 = .ok (.getfield 273, 3) := by decide +kernel
theorem dX0_about_226 : decode cX0_about 226 = .ok (.getfield 164, 3) := by decide +kernel
theorem dX0_about_229 : decode cX0_about 229 = .ok (.i2l, 1) := by decide +kernel
theorem dX0_about_230 : decode cX0_about 230 = .ok (.lreturn, 1) := by decide +kernel
theorem dX0_about_231 : decode cX0_about 231 = .ok (.aload_n 3, 1) := by decide +kernel
theorem dX0_about_232 : decode cX0_about 232 = .ok (.getfield 276, 3) := by decide +kernel
theorem dX0_about_235 : decode cX0_about 235 = .ok (.getfield 164, 3) := by decide +kernel
theorem dX0_about_238 : decode cX0_about 238 = .ok (.i2l, 1) := by decide +kernel
theorem dX0_about_239 : decode cX0_about 239 = .ok (.lreturn, 1) := by decide +kernel
theorem dX0_about_240 : decode cX0_about 240 = .ok (.ldc2_w 279, 3) := by decide +kernel
theorem dX0_about_243 : decode cX0_about 243 = .ok (.lreturn, 1) := by decide +kernel
theorem zy_X0_about : yX0_about.cls ≠ "java/lang/invoke/MethodHandle" ∧ yX0_about.cls ≠ "java/lang/invoke/VarHandle" ∧ (parseMethodDescriptor yX0_about.desc).map (fun d => d.parameters.length) = some 2 := by decide +kernel
theorem w_fX0_about {K : zK} (E : zE K cX0_about "RingHouse" (some .long) 2) (hN : zNl K = 4) (hT : zTr K = (some 1)) (x1 : Int) (x2 : Int) : zR K 0 [(0, 2, 0), (1, 0, x1), (2, 0, x2)] [] (fX0_about x1 x2) := by
  refine r_aload_n E dX0_about_0 rfl 0 rfl ?_
  refine r_gec (y := 0) E zc_2 dX0_about_1 q1790 zr_2 (zh_100 (by decide)) (by decide) ?_
  refine r_iload_n E dX0_about_4 rfl 1 rfl ?_
  refine r_callV E [(0, x1)] [] rfl zc_3 zr_3 (fun o _ => ⟨_, zw_X1.1 o, rfl⟩) (lw_V q1984 q1830 q1831 q228 q1832) dX0_about_5 zy_X1_node rfl (by omega) (by decide) (Nat.le_of_ble_eq_true rfl) (by decide) (fun l G => k_fX1_node l G x1) (fun v1 => ?_)
  refine r_astore_n (ls' := [(3, 6, v1), (0, 2, 0), (1, 0, x1), (2, 0, x2)]) E dX0_about_8 rfl (by rw [hN]; decide) rfl ?_
  refine r_aload_n E dX0_about_9 rfl 0 rfl ?_
  refine r_ifnonnull E 17 (by decide) dX0_about_10 (fun _ => ?_) (fun hz2 => ?_)
  · refine r_ldc2 (v := (-1)) E dX0_about_13 q2064 (by decide) (zkJ (by decide) (by decide)) ?_
    exact r_lreturn E rfl hT dX0_about_16
  · refine r_iload_n E dX0_about_17 rfl 3 rfl ?_
    refine r_tabc E dX0_about_18 0 100 (by decide) (by decide) rfl (by decide) (fun _ => ?_) (fun ht3 => ?_)
    · refine r_aload_n E dX0_about_100 rfl 0 rfl ?_
      refine r_getN E zc_6 zt_501 dX0_about_101 q381 zr_6 (zg_501 _) (Int.not_lt.mp hz2) (fun v4 => ?_)
      refine r_i2l E dX0_about_104 ?_
      exact r_lreturn E rfl hT dX0_about_105
    · refine r_tabc E dX0_about_18 1 106 (by decide) (by decide) rfl (by decide) (fun _ => ?_) (fun ht5 => ?_)
      · refine r_aload_n E dX0_about_106 rfl 0 rfl ?_
        refine r_getN E zc_6 zt_504 dX0_about_107 q401 zr_6 (zg_504 _) (Int.not_lt.mp hz2) (fun v6 => ?_)
        refine r_ifnonnull E 119 (by decide) dX0_about_110 (fun _ => ?_) (fun hz7 => ?_)
        · refine r_ldc2 (v := (-1)) E dX0_about_113 q2064 (by decide) (zkJ (by decide) (by decide)) ?_
          refine r_goto E 127 (by decide) dX0_about_116 ?_
          exact r_lreturn E rfl hT dX0_about_127
        · refine r_aload_n E dX0_about_119 rfl 0 rfl ?_
          refine r_getN E zc_6 zt_504 dX0_about_120 q401 zr_6 (zg_504 _) (Int.not_lt.mp hz2) (fun v8 => ?_)
          refine r_nn E (fun hn9 => ?_)
          refine r_gecN (y := v8) E zc_6 dX0_about_123 q376 zr_6 (zh_500 (by omega)) hn9 ?_
          refine r_i2l E dX0_about_126 ?_
          exact r_lreturn E rfl hT dX0_about_127
      · refine r_tabc E dX0_about_18 2 128 (by decide) (by decide) rfl (by decide) (fun _ => ?_) (fun ht10 => ?_)
        · refine r_aload_n E dX0_about_128 rfl 0 rfl ?_
          refine r_getN E zc_6 zt_503 dX0_about_129 q394 zr_6 (zg_503 _) (Int.not_lt.mp hz2) (fun v11 => ?_)
          refine r_i2l E dX0_about_132 ?_
          exact r_lreturn E rfl hT dX0_about_133
        · refine r_tabc E dX0_about_18 3 134 (by decide) (by decide) rfl (by decide) (fun _ => ?_) (fun ht12 => ?_)
          · refine r_aload_n E dX0_about_134 rfl 0 rfl ?_
            refine r_getN E zc_6 zt_509 dX0_about_135 q427 zr_6 (zg_509 _) (Int.not_lt.mp hz2) (fun v13 => ?_)
            refine r_i2l E dX0_about_138 ?_
            exact r_lreturn E rfl hT dX0_about_139
          · refine r_tabc E dX0_about_18 4 140 (by decide) (by decide) rfl (by decide) (fun _ => ?_) (fun ht14 => ?_)
            · refine r_aload_n E dX0_about_140 rfl 0 rfl ?_
              refine r_getN E zc_6 zt_510 dX0_about_141 q433 zr_6 (zg_510 _) (Int.not_lt.mp hz2) (fun v15 => ?_)
              refine r_i2l E dX0_about_144 ?_
              exact r_lreturn E rfl hT dX0_about_145
            · refine r_tabc E dX0_about_18 5 146 (by decide) (by decide) rfl (by decide) (fun _ => ?_) (fun ht16 => ?_)
              · refine r_aload_n E dX0_about_146 rfl 0 rfl ?_
                refine r_getN E zc_6 zt_511 dX0_about_147 q438 zr_6 (zg_511 _) (Int.not_lt.mp hz2) (fun v17 => ?_)
                refine r_i2l E dX0_about_150 ?_
                exact r_lreturn E rfl hT dX0_about_151
              · refine r_tabc E dX0_about_18 6 152 (by decide) (by decide) rfl (by decide) (fun _ => ?_) (fun ht18 => ?_)
                · refine r_aload_n E dX0_about_152 rfl 0 rfl ?_
                  refine r_getN E zc_6 zt_521 dX0_about_153 q474 zr_6 (zg_521 _) (Int.not_lt.mp hz2) (fun v19 => ?_)
                  refine r_i2l E dX0_about_156 ?_
                  exact r_lreturn E rfl hT dX0_about_157
                · refine r_tabc E dX0_about_18 7 158 (by decide) (by decide) rfl (by decide) (fun _ => ?_) (fun ht20 => ?_)
                  · refine r_aload_n E dX0_about_158 rfl 0 rfl ?_
                    refine r_getN E zc_6 zt_522 dX0_about_159 q480 zr_6 (zg_522 _) (Int.not_lt.mp hz2) (fun v21 => ?_)
                    refine r_i2l E dX0_about_162 ?_
                    exact r_lreturn E rfl hT dX0_about_163
                  · refine r_tabc E dX0_about_18 8 164 (by decide) (by decide) rfl (by decide) (fun _ => ?_) (fun ht22 => ?_)
                    · refine r_aload_n E dX0_about_164 rfl 0 rfl ?_
                      refine r_getN E zc_6 zt_516 dX0_about_165 q455 zr_6 (zg_516 _) (Int.not_lt.mp hz2) (fun v23 => ?_)
                      refine r_i2l E dX0_about_168 ?_
                      exact r_lreturn E rfl hT dX0_about_169
                    · refine r_tabc E dX0_about_18 9 170 (by decide) (by decide) rfl (by decide) (fun _ => ?_) (fun ht24 => ?_)
                      · refine r_aload_n E dX0_about_170 rfl 0 rfl ?_
                        refine r_getN E zc_6 zt_517 dX0_about_171 q458 zr_6 (zg_517 _) (Int.not_lt.mp hz2) (fun v25 => ?_)
                        refine r_i2l E dX0_about_174 ?_
                        exact r_lreturn E rfl hT dX0_about_175
                      · refine r_tabc E dX0_about_18 10 176 (by decide) (by decide) rfl (by decide) (fun _ => ?_) (fun ht26 => ?_)
                        · refine r_aload_n E dX0_about_176 rfl 0 rfl ?_
                          refine r_getN E zc_6 zt_515 dX0_about_177 q450 zr_6 (zg_515 _) (Int.not_lt.mp hz2) (fun v27 => ?_)
                          refine r_i2l E dX0_about_180 ?_
                          exact r_lreturn E rfl hT dX0_about_181
                        · refine r_tabc E dX0_about_18 11 182 (by decide) (by decide) rfl (by decide) (fun _ => ?_) (fun ht28 => ?_)
                          · refine r_aload_n E dX0_about_182 rfl 0 rfl ?_
                            refine r_gecN (y := (3 * v1)) E zc_6 dX0_about_183 q415 zr_6 (zh_508 (by omega)) (Int.not_lt.mp hz2) ?_
                            refine r_getN E zc_7 zt_602 dX0_about_186 q363 zr_7 (zg_602 _) (by omega) (fun v29 => ?_)
                            refine r_i2l E dX0_about_189 ?_
                            exact r_lreturn E rfl hT dX0_about_190
                          · refine r_tabc E dX0_about_18 12 191 (by decide) (by decide) rfl (by decide) (fun _ => ?_) (fun ht30 => ?_)
                            · refine r_aload_n E dX0_about_191 rfl 0 rfl ?_
                              refine r_getN E zc_6 zt_512 dX0_about_192 q441 zr_6 (zg_512 _) (Int.not_lt.mp hz2) (fun v31 => ?_)
                              refine r_i2l E dX0_about_195 ?_
                              exact r_lreturn E rfl hT dX0_about_196
                            · refine r_tabc E dX0_about_18 13 197 (by decide) (by decide) rfl (by decide) (fun _ => ?_) (fun ht32 => ?_)
                              · refine r_aload_n E dX0_about_197 rfl 0 rfl ?_
                                refine r_getN E zc_6 zt_502 dX0_about_198 q387 zr_6 (zg_502 _) (Int.not_lt.mp hz2) (fun v33 => ?_)
                                exact r_lreturn E rfl hT dX0_about_201
                              · refine r_tabc E dX0_about_18 14 202 (by decide) (by decide) rfl (by decide) (fun _ => ?_) (fun ht34 => ?_)
                                · refine r_aload_n E dX0_about_202 rfl 0 rfl ?_
                                  refine r_callV E [] [] rfl zc_6 zr_6 (fun o _ => ⟨_, zw_X4.1 o, rfl⟩) (lw_V q2065 q1921 q1922 q231 q1923) dX0_about_203 zy_X4_isMailbox rfl (by omega) (by decide) (Nat.le_of_ble_eq_true rfl) (Int.not_lt.mp hz2) (fun l G => k_fX4_isMailbox l G v1 (Int.not_lt.mp hz2)) (fun v35 => ?_)
                                  refine r_if_eq E 220 (by decide) dX0_about_206 (fun _ => ?_) (fun _ => ?_)
                                  · refine r_lconst (v := 0) E dX0_about_220 (by decide) (zkJ (by decide) (by decide)) ?_
                                    exact r_lreturn E rfl hT dX0_about_221
                                  · refine r_aload_n E dX0_about_209 rfl 0 rfl ?_
                                    refine r_getN E zc_6 zt_520 dX0_about_210 q469 zr_6 (zg_520 _) (Int.not_lt.mp hz2) (fun v36 => ?_)
                                    refine r_nn E (fun hn37 => ?_)
                                    refine r_getN E zc_8 zt_702 dX0_about_213 q549 zr_8 (zg_702 _) hn37 (fun v38 => ?_)
                                    refine r_i2l E dX0_about_216 ?_
                                    refine r_goto E 221 (by decide) dX0_about_217 ?_
                                    exact r_lreturn E rfl hT dX0_about_221
                                · refine r_tabc E dX0_about_18 15 222 (by decide) (by decide) rfl (by decide) (fun _ => ?_) (fun ht39 => ?_)
                                  · refine r_aload_n E dX0_about_222 rfl 0 rfl ?_
                                    refine r_gecN (y := (3 * v1 + 2)) E zc_6 dX0_about_223 q464 zr_6 (zh_519 (by omega)) (Int.not_lt.mp hz2) ?_
                                    refine r_getN E zc_7 zt_602 dX0_about_226 q363 zr_7 (zg_602 _) (by omega) (fun v40 => ?_)
                                    refine r_i2l E dX0_about_229 ?_
                                    exact r_lreturn E rfl hT dX0_about_230
                                  · refine r_tabc E dX0_about_18 16 231 (by decide) (by decide) rfl (by decide) (fun _ => ?_) (fun ht41 => ?_)
                                    · refine r_aload_n E dX0_about_231 rfl 0 rfl ?_
                                      refine r_gecN (y := (3 * v1 + 1)) E zc_6 dX0_about_232 q461 zr_6 (zh_518 (by omega)) (Int.not_lt.mp hz2) ?_
                                      refine r_getN E zc_7 zt_602 dX0_about_235 q363 zr_7 (zg_602 _) (by omega) (fun v42 => ?_)
                                      refine r_i2l E dX0_about_238 ?_
                                      exact r_lreturn E rfl hT dX0_about_239
                                    · refine r_tabd E dX0_about_18 240 [0, 1, 2, 3, 4, 5, 6, 7, 8, 9, 10, 11, 12, 13, 14, 15, 16] (by decide) (by decide) (by decide) ⟨ht3, ht5, ht10, ht12, ht14, ht16, ht18, ht20, ht22, ht24, ht26, ht28, ht30, ht32, ht34, ht39, ht41, trivial⟩ ?_
                                      refine r_ldc2 (v := (-8)) E dX0_about_240 q2066 (by decide) (zkJ (by decide) (by decide)) ?_
                                      exact r_lreturn E rfl hT dX0_about_243
theorem k_fX0_about (l : Launch) (G : zG) (x1 : Int) (x2 : Int) : zCt l G yX0_about cX0_about 4 (some .long) 2 [(2, 0), (0, x1), (0, x2)] (some 1) (fX0_about x1 x2) := zCt.of (by decide) (Nat.le_of_ble_eq_true rfl) (fun K E _ _ hN hT => w_fX0_about E hN hT x1 x2)
theorem dX5_of_0 : decode cX5_of 0 = .ok (.aload_n 0, 1) := by decide +kernel
theorem dX5_of_1 : decode cX5_of 1 = .ok (.iload_n 1, 1) := by decide +kernel
theorem dX5_of_2 : decode cX5_of 2 = .ok (.iload_n 2, 1) := by decide +kernel
theorem dX5_of_3 : decode cX5_of 3 = .ok (.invokevirtual 26, 3) := by decide +kernel
theorem dX5_of_6 : decode cX5_of 6 = .ok (.istore_n 3, 1) := by decide +kernel
theorem dX5_of_7 : decode cX5_of 7 = .ok (.iload_n 3, 1) := by decide +kernel
theorem dX5_of_8 : decode cX5_of 8 = .ok (.ifCond .ge 13, 3) := by decide +kernel
theorem dX5_of_11 : decode cX5_of 11 = .ok (.aload_n 0, 1) := by decide +kernel
theorem dX5_of_12 : decode cX5_of 12 = .ok (.iload_n 1, 1) := by decide +kernel
theorem dX5_of_13 : decode cX5_of 13 = .ok (.bipush 8, 2) := by decide +kernel
theorem dX5_of_15 : decode cX5_of 15 = .ok (.invokevirtual 26, 3) := by decide +kernel
theorem dX5_of_18 : decode cX5_of 18 = .ok (.goto 4, 3) := by decide +kernel
theorem dX5_of_21 : decode cX5_of 21 = .ok (.iload_n 3, 1) := by decide +kernel
theorem dX5_of_22 : decode cX5_of 22 = .ok (.istore_n 3, 1) := by decide +kernel
theorem dX5_of_23 : decode cX5_of 23 = .ok (.iload_n 3, 1) := by decide +kernel
theorem dX5_of_24 : decode cX5_of 24 = .ok (.ifCond .ge 13, 3) := by decide +kernel
theorem dX5_of_27 : decode cX5_of 27 = .ok (.aload_n 0, 1) := by decide +kernel
theorem dX5_of_28 : decode cX5_of 28 = .ok (.bipush 16, 2) := by decide +kernel
theorem dX5_of_30 : decode cX5_of 30 = .ok (.iload_n 2, 1) := by decide +kernel
theorem dX5_of_31 : decode cX5_of 31 = .ok (.invokevirtual 26, 3) := by decide +kernel
theorem dX5_of_34 : decode cX5_of 34 = .ok (.goto 4, 3) := by decide +kernel
theorem dX5_of_37 : decode cX5_of 37 = .ok (.iload_n 3, 1) := by decide +kernel
theorem dX5_of_38 : decode cX5_of 38 = .ok (.istore_n 3, 1) := by decide +kernel
theorem dX5_of_39 : decode cX5_of 39 = .ok (.iload_n 3, 1) := by decide +kernel
theorem dX5_of_40 : decode cX5_of 40 = .ok (.ifCond .ge 14, 3) := by decide +kernel
theorem dX5_of_43 : decode cX5_of 43 = .ok (.aload_n 0, 1) := by decide +kernel
theorem dX5_of_44 : decode cX5_of 44 = .ok (.bipush 16, 2) := by decide +kernel
theorem dX5_of_46 : decode cX5_of 46 = .ok (.bipush 8, 2) := by decide +kernel
theorem dX5_of_48 : decode cX5_of 48 = .ok (.invokevirtual 26, 3) := by decide +kernel
theorem dX5_of_51 : decode cX5_of 51 = .ok (.goto 4, 3) := by decide +kernel
theorem dX5_of_54 : decode cX5_of 54 = .ok (.iload_n 3, 1) := by decide +kernel
theorem dX5_of_55 : decode cX5_of 55 = .ok (.istore_n 3, 1) := by decide +kernel
theorem dX5_of_56 : decode cX5_of 56 = .ok (.iload_n 3, 1) := by decide +kernel
theorem dX5_of_57 : decode cX5_of 57 = .ok (.ifCond .ge 7, 3) := by decide +kernel
theorem dX5_of_60 : decode cX5_of 60 = .ok (.iconst 0, 1) := by decide +kernel
theorem dX5_of_61 : decode cX5_of 61 = .ok (.goto 9, 3) := by decide +kernel
theorem dX5_of_64 : decode cX5_of 64 = .ok (.aload_n 0, 1) := by decide +kernel
theorem dX5_of_65 : decode cX5_of 65 = .ok (.getfield 15, 3) := by decide +kernel
theorem dX5_of_68 : decode cX5_of 68 = .ok (.iload_n 3, 1) := by decide +kernel
theorem dX5_of_69 : decode cX5_of 69 = .ok (.iaload, 1) := by decide +kernel
theorem dX5_of_70 : decode cX5_of 70 = .ok (.ireturn, 1) := by decide +kernel
theorem zy_X5_of : yX5_of.cls ≠ "java/lang/invoke/MethodHandle" ∧ yX5_of.cls ≠ "java/lang/invoke/VarHandle" ∧ (parseMethodDescriptor yX5_of.desc).map (fun d => d.parameters.length) = some 2 := by decide +kernel
theorem w_fX5_of_J55 {K : zK} (E : zE K cX5_of "RingHouse$Acl" (some .int) 2) (hN : zNl K = 4) (hT : zTr K = (some 0)) (x0 : Int) (s0 : Int) (h0 : 0 ≤ x0) : zR K 55 [(0, 7, x0)] [(0, s0)] (fX5_of_J55 x0 s0) := by
  refine r_istore_n (ls' := [(3, 0, s0), (0, 7, x0)]) E dX5_of_55 rfl (by rw [hN]; decide) rfl ?_
  refine r_iload_n E dX5_of_56 rfl 0 rfl ?_
  refine r_if_ge E 64 (by decide) dX5_of_57 (fun _ => ?_) (fun _ => ?_)
  · refine r_aload_n E dX5_of_64 rfl 1 rfl ?_
    refine r_gec (y := x0) E zc_7 dX5_of_65 q359 zr_7 (zh_601 (by omega)) h0 ?_
    refine r_iload_n E dX5_of_68 rfl 0 rfl ?_
    refine r_iaload E zc_601 za_601 zt_601 zx_601 rfl (zacl_eq h0) dX5_of_69 h0 (fun v2 => ?_)
    exact r_ireturn E rfl hT dX5_of_70
  · refine r_iconst E dX5_of_60 (zkI (by decide) (by decide)) ?_
    refine r_goto E 70 (by decide) dX5_of_61 ?_
    exact r_ireturn E rfl hT dX5_of_70
theorem w_fX5_of_J38 {K : zK} (E : zE K cX5_of "RingHouse$Acl" (some .int) 2) (hN : zNl K = 4) (hT : zTr K = (some 0)) (x0 : Int) (s0 : Int) (h0 : 0 ≤ x0) : zR K 38 [(0, 7, x0)] [(0, s0)] (fX5_of_J38 x0 s0) := by
  refine r_istore_n (ls' := [(3, 0, s0), (0, 7, x0)]) E dX5_of_38 rfl (by rw [hN]; decide) rfl ?_
  refine r_iload_n E dX5_of_39 rfl 0 rfl ?_
  refine r_if_ge E 54 (by decide) dX5_of_40 (fun _ => ?_) (fun _ => ?_)
  · refine r_iload_n E dX5_of_54 rfl 0 rfl ?_
    refine r_pick E [1] rfl ?_
    exact w_fX5_of_J55 E hN hT x0 s0 h0
  · refine r_aload_n E dX5_of_43 rfl 1 rfl ?_
    refine r_bipush E dX5_of_44 (by decide) (zkI (by decide) (by decide)) ?_
    refine r_bipush E dX5_of_46 (by decide) (zkI (by decide) (by decide)) ?_
    refine r_callV E [(0, 16), (0, 8)] [] rfl zc_7 zr_7 (fun o _ => ⟨_, zw_X5.1 o, rfl⟩) (lw_V q574 q575 q576 q232 q577) dX5_of_48 zy_X5_find rfl (by omega) (by decide) (Nat.le_of_ble_eq_true rfl) h0 (fun l G => k_fX5_find l G x0 16 8 h0) (fun v3 => ?_)
    refine r_goto E 55 (by decide) dX5_of_51 ?_
    refine r_pick E [1] rfl ?_
    exact w_fX5_of_J55 E hN hT x0 v3 h0
theorem w_fX5_of_J22 {K : zK} (E : zE K cX5_of "RingHouse$Acl" (some .int) 2) (hN : zNl K = 4) (hT : zTr K = (some 0)) (x0 : Int) (x2 : Int) (s0 : Int) (h0 : 0 ≤ x0) : zR K 22 [(0, 7, x0), (2, 0, x2)] [(0, s0)] (fX5_of_J22 x0 x2 s0) := by
  refine r_istore_n (ls' := [(3, 0, s0), (0, 7, x0), (2, 0, x2)]) E dX5_of_22 rfl (by rw [hN]; decide) rfl ?_
  refine r_iload_n E dX5_of_23 rfl 0 rfl ?_
  refine r_if_ge E 37 (by decide) dX5_of_24 (fun _ => ?_) (fun _ => ?_)
  · refine r_iload_n E dX5_of_37 rfl 0 rfl ?_
    refine r_pick E [1] rfl ?_
    exact w_fX5_of_J38 E hN hT x0 s0 h0
  · refine r_aload_n E dX5_of_27 rfl 1 rfl ?_
    refine r_bipush E dX5_of_28 (by decide) (zkI (by decide) (by decide)) ?_
    refine r_iload_n E dX5_of_30 rfl 2 rfl ?_
    refine r_callV E [(0, 16), (0, x2)] [] rfl zc_7 zr_7 (fun o _ => ⟨_, zw_X5.1 o, rfl⟩) (lw_V q574 q575 q576 q232 q577) dX5_of_31 zy_X5_find rfl (by omega) (by decide) (Nat.le_of_ble_eq_true rfl) h0 (fun l G => k_fX5_find l G x0 16 x2 h0) (fun v4 => ?_)
    refine r_goto E 38 (by decide) dX5_of_34 ?_
    refine r_pick E [1] rfl ?_
    exact w_fX5_of_J38 E hN hT x0 v4 h0
theorem w_fX5_of {K : zK} (E : zE K cX5_of "RingHouse$Acl" (some .int) 2) (hN : zNl K = 4) (hT : zTr K = (some 0)) (x0 : Int) (x1 : Int) (x2 : Int) (h0 : 0 ≤ x0) : zR K 0 [(0, 7, x0), (1, 0, x1), (2, 0, x2)] [] (fX5_of x0 x1 x2) := by
  refine r_aload_n E dX5_of_0 rfl 0 rfl ?_
  refine r_iload_n E dX5_of_1 rfl 1 rfl ?_
  refine r_iload_n E dX5_of_2 rfl 2 rfl ?_
  refine r_callV E [(0, x1), (0, x2)] [] rfl zc_7 zr_7 (fun o _ => ⟨_, zw_X5.1 o, rfl⟩) (lw_V q574 q575 q576 q232 q577) dX5_of_3 zy_X5_find rfl (by omega) (by decide) (Nat.le_of_ble_eq_true rfl) h0 (fun l G => k_fX5_find l G x0 x1 x2 h0) (fun v1 => ?_)
  refine r_istore_n (ls' := [(3, 0, v1), (0, 7, x0), (1, 0, x1), (2, 0, x2)]) E dX5_of_6 rfl (by rw [hN]; decide) rfl ?_
  refine r_iload_n E dX5_of_7 rfl 0 rfl ?_
  refine r_if_ge E 21 (by decide) dX5_of_8 (fun _ => ?_) (fun _ => ?_)
  · refine r_iload_n E dX5_of_21 rfl 0 rfl ?_
    refine r_pick E [1, 3] rfl ?_
    exact w_fX5_of_J22 E hN hT x0 x2 v1 h0
  · refine r_aload_n E dX5_of_11 rfl 1 rfl ?_
    refine r_iload_n E dX5_of_12 rfl 2 rfl ?_
    refine r_bipush E dX5_of_13 (by decide) (zkI (by decide) (by decide)) ?_
    refine r_callV E [(0, x1), (0, 8)] [] rfl zc_7 zr_7 (fun o _ => ⟨_, zw_X5.1 o, rfl⟩) (lw_V q574 q575 q576 q232 q577) dX5_of_15 zy_X5_find rfl (by omega) (by decide) (Nat.le_of_ble_eq_true rfl) h0 (fun l G => k_fX5_find l G x0 x1 8 h0) (fun v5 => ?_)
    refine r_goto E 22 (by decide) dX5_of_18 ?_
    refine r_pick E [1, 3] rfl ?_
    exact w_fX5_of_J22 E hN hT x0 x2 v5 h0
theorem k_fX5_of (l : Launch) (G : zG) (x0 : Int) (x1 : Int) (x2 : Int) (h0 : 0 ≤ x0) : zCt l G yX5_of cX5_of 4 (some .int) 2 [(7, x0), (0, x1), (0, x2)] (some 0) (fX5_of x0 x1 x2) := zCt.of (by decide) (Nat.le_of_ble_eq_true rfl) (fun K E _ _ hN hT => w_fX5_of E hN hT x0 x1 x2 h0)
theorem dX0_modes_0 : decode cX0_modes 0 = .ok (.aload_n 0, 1) := by decide +kernel
theorem dX0_modes_1 : decode cX0_modes 1 = .ok (.getfield 42, 3) := by decide +kernel
theorem dX0_modes_4 : decode cX0_modes 4 = .ok (.iload_n 1, 1) := by decide +kernel
theorem dX0_modes_5 : decode cX0_modes 5 = .ok (.invokevirtual 167, 3) := by decide +kernel
theorem dX0_modes_8 : decode cX0_modes 8 = .ok (.astore 4, 2) := by decide +kernel
theorem dX0_modes_10 : decode cX0_modes 10 = .ok (.aload 4, 2) := by decide +kernel
theorem dX0_modes_12 : decode cX0_modes 12 = .ok (.ifnull 27, 3) := by decide +kernel
theorem dX0_modes_15 : decode cX0_modes 15 = .ok (.iload_n 2, 1) := by decide +kernel
theorem dX0_modes_16 : decode cX0_modes 16 = .ok (.i2l, 1) := by decide +kernel
theorem dX0_modes_17 : decode cX0_modes 17 = .ok (.lconst 0, 1) := by decide +kernel
theorem dX0_modes_18 : decode cX0_modes 18 = .ok (.ldc2_w 281, 3) := by decide +kernel
theorem dX0_modes_21 : decode cX0_modes 21 = .ok (.invokestatic 17, 3) := by decide +kernel
theorem dX0_modes_24 : decode cX0_modes 24 = .ok (.ifCond .eq 15, 3) := by decide +kernel
theorem dX0_modes_27 : decode cX0_modes 27 = .ok (.iload_n 3, 1) := by decide +kernel
theorem dX0_modes_28 : decode cX0_modes 28 = .ok (.i2l, 1) := by decide +kernel
theorem dX0_modes_29 : decode cX0_modes 29 = .ok (.lconst 0, 1) := by decide +kernel
theorem dX0_modes_30 : decode cX0_modes 30 = .ok (.ldc2_w 25, 3) := by decide +kernel
theorem dX0_modes_33 : decode cX0_modes 33 = .ok (.invokestatic 17, 3) := by decide +kernel
theorem dX0_modes_36 : decode cX0_modes 36 = .ok (.ifCond .ne 8, 3) := by decide +kernel
theorem dX0_modes_39 : decode cX0_modes 39 = .ok (.bipush (-8), 2) := by decide +kernel
theorem dX0_modes_41 : decode cX0_modes 41 = .ok (.goto 13, 3) := by decide +kernel
theorem dX0_modes_44 : decode cX0_modes 44 = .ok (.aload 4, 2) := by decide +kernel
theorem dX0_modes_46 : decode cX0_modes 46 = .ok (.getfield 170, 3) := by decide +kernel
theorem dX0_modes_49 : decode cX0_modes 49 = .ok (.iload_n 2, 1) := by decide +kernel
theorem dX0_modes_50 : decode cX0_modes 50 = .ok (.iload_n 3, 1) := by decide +kernel
theorem dX0_modes_51 : decode cX0_modes 51 = .ok (.invokevirtual 283, 3) := by decide +kernel
theorem dX0_modes_54 : decode cX0_modes 54 = .ok (.ireturn, 1) := by decide +kernel
theorem zy_X0_modes : yX0_modes.cls ≠ "java/lang/invoke/MethodHandle" ∧ yX0_modes.cls ≠ "java/lang/invoke/VarHandle" ∧ (parseMethodDescriptor yX0_modes.desc).map (fun d => d.parameters.length) = some 3 := by decide +kernel
theorem w_fX0_modes {K : zK} (E : zE K cX0_modes "RingHouse" (some .int) 3) (hN : zNl K = 5) (hT : zTr K = (some 0)) (x1 : Int) (x2 : Int) (x3 : Int) : zR K 0 [(0, 2, 0), (1, 0, x1), (2, 0, x2), (3, 0, x3)] [] (fX0_modes x1 x2 x3) := by
  refine r_aload_n E dX0_modes_0 rfl 0 rfl ?_
  refine r_gec (y := 0) E zc_2 dX0_modes_1 q1790 zr_2 (zh_100 (by decide)) (by decide) ?_
  refine r_iload_n E dX0_modes_4 rfl 1 rfl ?_
  refine r_callV E [(0, x1)] [] rfl zc_3 zr_3 (fun o _ => ⟨_, zw_X1.1 o, rfl⟩) (lw_V q1984 q1830 q1831 q228 q1832) dX0_modes_5 zy_X1_node rfl (by omega) (by decide) (Nat.le_of_ble_eq_true rfl) (by decide) (fun l G => k_fX1_node l G x1) (fun v1 => ?_)
  refine r_astore (ls' := [(4, 6, v1), (0, 2, 0), (1, 0, x1), (2, 0, x2), (3, 0, x3)]) E dX0_modes_8 (by rw [hN]; decide) rfl ?_
  refine r_aload E dX0_modes_10 0 rfl ?_
  refine r_ifnull E 39 (by decide) dX0_modes_12 (fun _ => ?_) (fun hz2 => ?_)
  · refine r_bipush E dX0_modes_39 (by decide) (zkI (by decide) (by decide)) ?_
    refine r_goto E 54 (by decide) dX0_modes_41 ?_
    exact r_ireturn E rfl hT dX0_modes_54
  · refine r_iload_n E dX0_modes_15 rfl 3 rfl ?_
    refine r_i2l E dX0_modes_16 ?_
    refine r_lconst (v := 0) E dX0_modes_17 (by decide) (zkJ (by decide) (by decide)) ?_
    refine r_ldc2 (v := 15) E dX0_modes_18 q2071 (by decide) (zkJ (by decide) (by decide)) ?_
    refine r_callS E [(1, x2), (1, 0), (1, 15)] [] rfl q1853 q1835 q227 q1836 dX0_modes_21 zy_X0_isIn rfl (by omega) (by decide) (Nat.le_of_ble_eq_true rfl) (fun l G => k_fX0_isIn l G x2 0 15) (fun v3 => ?_)
    refine r_if_eq E 39 (by decide) dX0_modes_24 (fun _ => ?_) (fun _ => ?_)
    · refine r_bipush E dX0_modes_39 (by decide) (zkI (by decide) (by decide)) ?_
      refine r_goto E 54 (by decide) dX0_modes_41 ?_
      exact r_ireturn E rfl hT dX0_modes_54
    · refine r_iload_n E dX0_modes_27 rfl 4 rfl ?_
      refine r_i2l E dX0_modes_28 ?_
      refine r_lconst (v := 0) E dX0_modes_29 (by decide) (zkJ (by decide) (by decide)) ?_
      refine r_ldc2 (v := 7) E dX0_modes_30 q2072 (by decide) (zkJ (by decide) (by decide)) ?_
      refine r_callS E [(1, x3), (1, 0), (1, 7)] [] rfl q1853 q1835 q227 q1836 dX0_modes_33 zy_X0_isIn rfl (by omega) (by decide) (Nat.le_of_ble_eq_true rfl) (fun l G => k_fX0_isIn l G x3 0 7) (fun v4 => ?_)
      refine r_if_ne E 44 (by decide) dX0_modes_36 (fun _ => ?_) (fun _ => ?_)
      · refine r_aload E dX0_modes_44 0 rfl ?_
        refine r_gecN (y := (3 * v1)) E zc_6 dX0_modes_46 q415 zr_6 (zh_508 (by omega)) (Int.not_lt.mp hz2) ?_
        refine r_iload_n E dX0_modes_49 rfl 3 rfl ?_
        refine r_iload_n E dX0_modes_50 rfl 4 rfl ?_
        refine r_callV E [(0, x2), (0, x3)] [] rfl zc_7 zr_7 (fun o _ => ⟨_, zw_X5.1 o, rfl⟩) (lw_V q2073 q2074 q2075 q232 q2076) dX0_modes_51 zy_X5_of rfl (by omega) (by decide) (Nat.le_of_ble_eq_true rfl) (by omega) (fun l G => k_fX5_of l G (3 * v1) x2 x3 (by omega)) (fun v5 => ?_)
        exact r_ireturn E rfl hT dX0_modes_54
      · refine r_bipush E dX0_modes_39 (by decide) (zkI (by decide) (by decide)) ?_
        refine r_goto E 54 (by decide) dX0_modes_41 ?_
        exact r_ireturn E rfl hT dX0_modes_54
theorem k_fX0_modes (l : Launch) (G : zG) (x1 : Int) (x2 : Int) (x3 : Int) : zCt l G yX0_modes cX0_modes 5 (some .int) 3 [(2, 0), (0, x1), (0, x2), (0, x3)] (some 0) (fX0_modes x1 x2 x3) := zCt.of (by decide) (Nat.le_of_ble_eq_true rfl) (fun K E _ _ hN hT => w_fX0_modes E hN hT x1 x2 x3)
theorem dX0_hasPlace_0 : decode cX0_hasPlace 0 = .ok (.aload_n 1, 1) := by decide +kernel
theorem dX0_hasPlace_1 : decode cX0_hasPlace 1 = .ok (.ifnull 23, 3) := by decide +kernel
theorem dX0_hasPlace_4 : decode cX0_hasPlace 4 = .ok (.iload_n 2, 1) := by decide +kernel
theorem dX0_hasPlace_5 : decode cX0_hasPlace 5 = .ok (.i2l, 1) := by decide +kernel
theorem dX0_hasPlace_6 : decode cX0_hasPlace 6 = .ok (.lconst 0, 1) := by decide +kernel
theorem dX0_hasPlace_7 : decode cX0_hasPlace 7 = .ok (.aload_n 1, 1) := by decide +kernel
theorem dX0_hasPlace_8 : decode cX0_hasPlace 8 = .ok (.getfield 194, 3) := by decide +kernel
theorem dX0_hasPlace_11 : decode cX0_hasPlace 11 = .ok (.i2l, 1) := by decide +kernel
theorem dX0_hasPlace_12 : decode cX0_hasPlace 12 = .ok (.lconst 1, 1) := by decide +kernel
theorem dX0_hasPlace_13 : decode cX0_hasPlace 13 = .ok (.lsub, 1) := by decide +kernel
theorem dX0_hasPlace_14 : decode cX0_hasPlace 14 = .ok (.invokestatic 17, 3) := by decide +kernel
theorem dX0_hasPlace_17 : decode cX0_hasPlace 17 = .ok (.ifCond .eq 7, 3) := by decide +kernel
theorem dX0_hasPlace_20 : decode cX0_hasPlace 20 = .ok (.iconst 1, 1) := by decide +kernel
theorem dX0_hasPlace_21 : decode cX0_hasPlace 21 = .ok (.goto 4, 3) := by decide +kernel
theorem dX0_hasPlace_24 : decode cX0_hasPlace 24 = .ok (.iconst 0, 1) := by decide +kernel
theorem dX0_hasPlace_25 : decode cX0_hasPlace 25 = .ok (.ireturn, 1) := by decide +kernel
theorem zy_X0_hasPlace : yX0_hasPlace.cls ≠ "java/lang/invoke/MethodHandle" ∧ yX0_hasPlace.cls ≠ "java/lang/invoke/VarHandle" ∧ (parseMethodDescriptor yX0_hasPlace.desc).map (fun d => d.parameters.length) = some 2 := by decide +kernel
theorem w_fX0_hasPlace {K : zK} (E : zE K cX0_hasPlace "RingHouse" (some .boolean) 1) (hN : zNl K = 3) (hT : zTr K = (some 0)) (x1 : Int) (x2 : Int) : zR K 0 [(0, 2, 0), (1, 6, x1), (2, 0, x2)] [] (fX0_hasPlace x1 x2) := by
  refine r_aload_n E dX0_hasPlace_0 rfl 1 rfl ?_
  refine r_ifnull E 24 (by decide) dX0_hasPlace_1 (fun _ => ?_) (fun hz1 => ?_)
  · refine r_iconst E dX0_hasPlace_24 (zkI (by decide) (by decide)) ?_
    exact r_zreturn E rfl hT (by decide) dX0_hasPlace_25
  · refine r_iload_n E dX0_hasPlace_4 rfl 2 rfl ?_
    refine r_i2l E dX0_hasPlace_5 ?_
    refine r_lconst (v := 0) E dX0_hasPlace_6 (by decide) (zkJ (by decide) (by decide)) ?_
    refine r_aload_n E dX0_hasPlace_7 rfl 1 rfl ?_
    refine r_getN E zc_6 zt_522 dX0_hasPlace_8 q480 zr_6 (zg_522 _) (Int.not_lt.mp hz1) (fun v2 => ?_)
    refine r_i2l E dX0_hasPlace_11 ?_
    refine r_lconst (v := 1) E dX0_hasPlace_12 (by decide) (zkJ (by decide) (by decide)) ?_
    refine r_lsub E dX0_hasPlace_13 ?_
    refine r_callS E [(1, x2), (1, 0), (1, (zl (v2 - 1)))] [] rfl q1853 q1835 q227 q1836 dX0_hasPlace_14 zy_X0_isIn rfl (by omega) (by decide) (Nat.le_of_ble_eq_true rfl) (fun l G => k_fX0_isIn l G x2 0 (zl (v2 - 1))) (fun v3 => ?_)
    refine r_if_eq E 24 (by decide) dX0_hasPlace_17 (fun _ => ?_) (fun _ => ?_)
    · refine r_iconst E dX0_hasPlace_24 (zkI (by decide) (by decide)) ?_
      exact r_zreturn E rfl hT (by decide) dX0_hasPlace_25
    · refine r_iconst E dX0_hasPlace_20 (zkI (by decide) (by decide)) ?_
      refine r_goto E 25 (by decide) dX0_hasPlace_21 ?_
      exact r_zreturn E rfl hT (by decide) dX0_hasPlace_25
theorem k_fX0_hasPlace (l : Launch) (G : zG) (x1 : Int) (x2 : Int) : zCt l G yX0_hasPlace cX0_hasPlace 3 (some .boolean) 1 [(2, 0), (6, x1), (0, x2)] (some 0) (fX0_hasPlace x1 x2) := zCt.of (by decide) (Nat.le_of_ble_eq_true rfl) (fun K E _ _ hN hT => w_fX0_hasPlace E hN hT x1 x2)
theorem dX3_get_0 : decode cX3_get 0 = .ok (.aload_n 0, 1) := by decide +kernel
theorem dX3_get_1 : decode cX3_get 1 = .ok (.getfield 9, 3) := by decide +kernel
theorem dX3_get_4 : decode cX3_get 4 = .ok (.bipush 64, 2) := by decide +kernel
theorem dX3_get_6 : decode cX3_get 6 = .ok (.iload_n 1, 1) := by decide +kernel
theorem dX3_get_7 : decode cX3_get 7 = .ok (.imul, 1) := by decide +kernel
theorem dX3_get_8 : decode cX3_get 8 = .ok (.iload_n 2, 1) := by decide +kernel
theorem dX3_get_9 : decode cX3_get 9 = .ok (.iadd, 1) := by decide +kernel
theorem dX3_get_10 : decode cX3_get 10 = .ok (.laload, 1) := by decide +kernel
theorem dX3_get_11 : decode cX3_get 11 = .ok (.lreturn, 1) := by decide +kernel
theorem zy_X3_get : yX3_get.cls ≠ "java/lang/invoke/MethodHandle" ∧ yX3_get.cls ≠ "java/lang/invoke/VarHandle" ∧ (parseMethodDescriptor yX3_get.desc).map (fun d => d.parameters.length) = some 2 := by decide +kernel
theorem w_fX3_get {K : zK} (E : zE K cX3_get "RingHouse$Store" (some .long) 0) (hN : zNl K = 3) (hT : zTr K = (some 1)) (x1 : Int) (x2 : Int) : zR K 0 [(0, 5, 0), (1, 0, x1), (2, 0, x2)] [] (fX3_get x1 x2) := by
  refine r_aload_n E dX3_get_0 rfl 0 rfl ?_
  refine r_gec (y := 0) E zc_5 dX3_get_1 q333 zr_5 (zh_400 (by decide)) (by decide) ?_
  refine r_bipush E dX3_get_4 (by decide) (zkI (by decide) (by decide)) ?_
  refine r_iload_n E dX3_get_6 rfl 1 rfl ?_
  refine r_imul E dX3_get_7 ?_
  refine r_iload_n E dX3_get_8 rfl 2 rfl ?_
  refine r_iadd E dX3_get_9 ?_
  refine r_laload E zc_400 za_400 zt_400 zx_400 rfl rfl dX3_get_10 (by decide) (fun v1 => ?_)
  exact r_lreturn E rfl hT dX3_get_11
theorem k_fX3_get (l : Launch) (G : zG) (x1 : Int) (x2 : Int) : zCt l G yX3_get cX3_get 3 (some .long) 0 [(5, 0), (0, x1), (0, x2)] (some 1) (fX3_get x1 x2) := zCt.of (by decide) (Nat.le_of_ble_eq_true rfl) (fun K E _ _ hN hT => w_fX3_get E hN hT x1 x2)
theorem dX1_get_0 : decode cX1_get 0 = .ok (.aload_n 0, 1) := by decide +kernel
theorem dX1_get_1 : decode cX1_get 1 = .ok (.getfield 27, 3) := by decide +kernel
theorem dX1_get_4 : decode cX1_get 4 = .ok (.aload_n 1, 1) := by decide +kernel
theorem dX1_get_5 : decode cX1_get 5 = .ok (.getfield 150, 3) := by decide +kernel
theorem dX1_get_8 : decode cX1_get 8 = .ok (.iload_n 2, 1) := by decide +kernel
theorem dX1_get_9 : decode cX1_get 9 = .ok (.bipush 64, 2) := by decide +kernel
theorem dX1_get_11 : decode cX1_get 11 = .ok (.idiv, 1) := by decide +kernel
theorem dX1_get_12 : decode cX1_get 12 = .ok (.iaload, 1) := by decide +kernel
theorem dX1_get_13 : decode cX1_get 13 = .ok (.iload_n 2, 1) := by decide +kernel
theorem dX1_get_14 : decode cX1_get 14 = .ok (.bipush 64, 2) := by decide +kernel
theorem dX1_get_16 : decode cX1_get 16 = .ok (.irem, 1) := by decide +kernel
theorem dX1_get_17 : decode cX1_get 17 = .ok (.invokevirtual 163, 3) := by decide +kernel
theorem dX1_get_20 : decode cX1_get 20 = .ok (.lreturn, 1) := by decide +kernel
theorem zy_X1_get : yX1_get.cls ≠ "java/lang/invoke/MethodHandle" ∧ yX1_get.cls ≠ "java/lang/invoke/VarHandle" ∧ (parseMethodDescriptor yX1_get.desc).map (fun d => d.parameters.length) = some 2 := by decide +kernel
theorem w_fX1_get {K : zK} (E : zE K cX1_get "RingHouse$Tree" (some .long) 1) (hN : zNl K = 3) (hT : zTr K = (some 1)) (x1 : Int) (x2 : Int) : zR K 0 [(0, 3, 0), (1, 6, x1), (2, 0, x2)] [] (fX1_get x1 x2) := by
  refine r_aload_n E dX1_get_0 rfl 0 rfl ?_
  refine r_gec (y := 0) E zc_3 dX1_get_1 q592 zr_3 (zh_202 (by decide)) (by decide) ?_
  refine r_aload_n E dX1_get_4 rfl 1 rfl ?_
  refine r_nn E (fun hn1 => ?_)
  refine r_gecN (y := x1) E zc_6 dX1_get_5 q483 zr_6 (zh_523 (by omega)) hn1 ?_
  refine r_iload_n E dX1_get_8 rfl 2 rfl ?_
  refine r_bipush E dX1_get_9 (by decide) (zkI (by decide) (by decide)) ?_
  refine r_idiv E (by decide) dX1_get_11 ?_
  refine r_iaload E zc_523 za_523 zt_523 zx_523 rfl rfl dX1_get_12 hn1 (fun v2 => ?_)
  refine r_iload_n E dX1_get_13 rfl 2 rfl ?_
  refine r_bipush E dX1_get_14 (by decide) (zkI (by decide) (by decide)) ?_
  refine r_irem E (by decide) dX1_get_16 ?_
  refine r_callV E [(0, v2), (0, (Int.tmod x2 64))] [] rfl zc_5 zr_5 (fun o _ => ⟨_, zw_X3.1 o, rfl⟩) (lw_V q2089 q2090 q2091 q230 q2092) dX1_get_17 zy_X3_get rfl (by omega) (by decide) (Nat.le_of_ble_eq_true rfl) (by decide) (fun l G => k_fX3_get l G v2 (Int.tmod x2 64)) (fun v3 => ?_)
  exact r_lreturn E rfl hT dX1_get_20
theorem k_fX1_get (l : Launch) (G : zG) (x1 : Int) (x2 : Int) : zCt l G yX1_get cX1_get 3 (some .long) 1 [(3, 0), (6, x1), (0, x2)] (some 1) (fX1_get x1 x2) := zCt.of (by decide) (Nat.le_of_ble_eq_true rfl) (fun K E _ _ hN hT => w_fX1_get E hN hT x1 x2)
theorem dX0_word_0 : decode cX0_word 0 = .ok (.aload_n 0, 1) := by decide +kernel
theorem dX0_word_1 : decode cX0_word 1 = .ok (.getfield 42, 3) := by decide +kernel
theorem dX0_word_4 : decode cX0_word 4 = .ok (.iload_n 1, 1) := by decide +kernel
theorem dX0_word_5 : decode cX0_word 5 = .ok (.invokevirtual 191, 3) := by decide +kernel
theorem dX0_word_8 : decode cX0_word 8 = .ok (.astore_n 3, 1) := by decide +kernel
theorem dX0_word_9 : decode cX0_word 9 = .ok (.aload_n 0, 1) := by decide +kernel
theorem dX0_word_10 : decode cX0_word 10 = .ok (.aload_n 3, 1) := by decide +kernel
theorem dX0_word_11 : decode cX0_word 11 = .ok (.iload_n 2, 1) := by decide +kernel
theorem dX0_word_12 : decode cX0_word 12 = .ok (.invokevirtual 287, 3) := by decide +kernel
theorem dX0_word_15 : decode cX0_word 15 = .ok (.ifCond .eq 15, 3) := by decide +kernel
theorem dX0_word_18 : decode cX0_word 18 = .ok (.aload_n 0, 1) := by decide +kernel
theorem dX0_word_19 : decode cX0_word 19 = .ok (.getfield 42, 3) := by decide +kernel
theorem dX0_word_22 : decode cX0_word 22 = .ok (.aload_n 3, 1) := by decide +kernel
theorem dX0_word_23 : decode cX0_word 23 = .ok (.iload_n 2, 1) := by decide +kernel
theorem dX0_word_24 : decode cX0_word 24 = .ok (.invokevirtual 290, 3) := by decide +kernel
theorem dX0_word_27 : decode cX0_word 27 = .ok (.goto 6, 3) := by decide +kernel
theorem dX0_word_30 : decode cX0_word 30 = .ok (.ldc2_w 234, 3) := by decide +kernel
theorem dX0_word_33 : decode cX0_word 33 = .ok (.lreturn, 1) := by decide +kernel
theorem zy_X0_word : yX0_word.cls ≠ "java/lang/invoke/MethodHandle" ∧ yX0_word.cls ≠ "java/lang/invoke/VarHandle" ∧ (parseMethodDescriptor yX0_word.desc).map (fun d => d.parameters.length) = some 2 := by decide +kernel
theorem w_fX0_word {K : zK} (E : zE K cX0_word "RingHouse" (some .long) 3) (hN : zNl K = 4) (hT : zTr K = (some 1)) (x1 : Int) (x2 : Int) : zR K 0 [(0, 2, 0), (1, 0, x1), (2, 0, x2)] [] (fX0_word x1 x2) := by
  refine r_aload_n E dX0_word_0 rfl 0 rfl ?_
  refine r_gec (y := 0) E zc_2 dX0_word_1 q1790 zr_2 (zh_100 (by decide)) (by decide) ?_
  refine r_iload_n E dX0_word_4 rfl 1 rfl ?_
  refine r_callV E [(0, x1)] [] rfl zc_3 zr_3 (fun o _ => ⟨_, zw_X1.1 o, rfl⟩) (lw_V q1998 q1999 q2000 q228 q2001) dX0_word_5 zy_X1_segment rfl (by omega) (by decide) (Nat.le_of_ble_eq_true rfl) (by decide) (fun l G => k_fX1_segment l G x1) (fun v1 => ?_)
  refine r_astore_n (ls' := [(3, 6, v1), (0, 2, 0), (1, 0, x1), (2, 0, x2)]) E dX0_word_8 rfl (by rw [hN]; decide) rfl ?_
  refine r_aload_n E dX0_word_9 rfl 1 rfl ?_
  refine r_aload_n E dX0_word_10 rfl 0 rfl ?_
  refine r_iload_n E dX0_word_11 rfl 3 rfl ?_
  refine r_callV E [(6, v1), (0, x2)] [] rfl zc_2 zr_2 (fun o _ => ⟨_, zw_X0.1 o, rfl⟩) (lw_V q2081 q2083 qs8 q227 q2084) dX0_word_12 zy_X0_hasPlace rfl (by omega) (by decide) (Nat.le_of_ble_eq_true rfl) (by decide) (fun l G => k_fX0_hasPlace l G v1 x2) (fun v2 => ?_)
  refine r_if_eq E 30 (by decide) dX0_word_15 (fun _ => ?_) (fun _ => ?_)
  · refine r_ldc2 (v := (-1)) E dX0_word_30 q2064 (by decide) (zkJ (by decide) (by decide)) ?_
    exact r_lreturn E rfl hT dX0_word_33
  · refine r_aload_n E dX0_word_18 rfl 1 rfl ?_
    refine r_gec (y := 0) E zc_2 dX0_word_19 q1790 zr_2 (zh_100 (by decide)) (by decide) ?_
    refine r_aload_n E dX0_word_22 rfl 0 rfl ?_
    refine r_iload_n E dX0_word_23 rfl 3 rfl ?_
    refine r_callV E [(6, v1), (0, x2)] [] rfl zc_3 zr_3 (fun o _ => ⟨_, zw_X1.1 o, rfl⟩) (lw_V q2085 q2086 q2087 q228 q2088) dX0_word_24 zy_X1_get rfl (by omega) (by decide) (Nat.le_of_ble_eq_true rfl) (by decide) (fun l G => k_fX1_get l G v1 x2) (fun v3 => ?_)
    refine r_goto E 33 (by decide) dX0_word_27 ?_
    exact r_lreturn E rfl hT dX0_word_33
theorem k_fX0_word (l : Launch) (G : zG) (x1 : Int) (x2 : Int) : zCt l G yX0_word cX0_word 4 (some .long) 3 [(2, 0), (0, x1), (0, x2)] (some 1) (fX0_word x1 x2) := zCt.of (by decide) (Nat.le_of_ble_eq_true rfl) (fun K E _ _ hN hT => w_fX0_word E hN hT x1 x2)
theorem dX3_put_0 : decode cX3_put 0 = .ok (.aload_n 0, 1) := by decide +kernel
theorem dX3_put_1 : decode cX3_put 1 = .ok (.getfield 9, 3) := by decide +kernel
theorem dX3_put_4 : decode cX3_put 4 = .ok (.bipush 64, 2) := by decide +kernel
theorem dX3_put_6 : decode cX3_put 6 = .ok (.iload_n 1, 1) := by decide +kernel
theorem dX3_put_7 : decode cX3_put 7 = .ok (.imul, 1) := by decide +kernel
theorem dX3_put_8 : decode cX3_put 8 = .ok (.iload_n 2, 1) := by decide +kernel
theorem dX3_put_9 : decode cX3_put 9 = .ok (.iadd, 1) := by decide +kernel
theorem dX3_put_10 : decode cX3_put 10 = .ok (.lload_n 3, 1) := by decide +kernel
theorem dX3_put_11 : decode cX3_put 11 = .ok (.lastore, 1) := by decide +kernel
theorem dX3_put_12 : decode cX3_put 12 = .ok (.return_, 1) := by decide +kernel
theorem zy_X3_put : yX3_put.cls ≠ "java/lang/invoke/MethodHandle" ∧ yX3_put.cls ≠ "java/lang/invoke/VarHandle" ∧ (parseMethodDescriptor yX3_put.desc).map (fun d => d.parameters.length) = some 3 := by decide +kernel
theorem w_fX3_put {K : zK} (E : zE K cX3_put "RingHouse$Store" none 0) (hN : zNl K = 5) (hT : zTr K = none) (x1 : Int) (x2 : Int) (x3 : Int) : zR K 0 [(0, 5, 0), (1, 0, x1), (2, 0, x2), (3, 1, x3)] [] (fX3_put x1 x2 x3) := by
  refine r_aload_n E dX3_put_0 rfl 0 rfl ?_
  refine r_gec (y := 0) E zc_5 dX3_put_1 q333 zr_5 (zh_400 (by decide)) (by decide) ?_
  refine r_bipush E dX3_put_4 (by decide) (zkI (by decide) (by decide)) ?_
  refine r_iload_n E dX3_put_6 rfl 1 rfl ?_
  refine r_imul E dX3_put_7 ?_
  refine r_iload_n E dX3_put_8 rfl 2 rfl ?_
  refine r_iadd E dX3_put_9 ?_
  refine r_lload_n E dX3_put_10 rfl 3 rfl ?_
  refine r_lastore E zc_400 za_400 zt_400 zo_400 zx_400 rfl rfl dX3_put_11 (by decide) ?_
  exact r_return E rfl hT dX3_put_12
theorem k_fX3_put (l : Launch) (G : zG) (x1 : Int) (x2 : Int) (x3 : Int) : zCt l G yX3_put cX3_put 5 none 0 [(5, 0), (0, x1), (0, x2), (1, x3)] none (fX3_put x1 x2 x3) := zCt.of (by decide) (Nat.le_of_ble_eq_true rfl) (fun K E _ _ hN hT => w_fX3_put E hN hT x1 x2 x3)
theorem dX1_put_0 : decode cX1_put 0 = .ok (.aload_n 0, 1) := by decide +kernel
theorem dX1_put_1 : decode cX1_put 1 = .ok (.getfield 27, 3) := by decide +kernel
theorem dX1_put_4 : decode cX1_put 4 = .ok (.aload_n 1, 1) := by decide +kernel
theorem dX1_put_5 : decode cX1_put 5 = .ok (.getfield 150, 3) := by decide +kernel
theorem dX1_put_8 : decode cX1_put 8 = .ok (.iload_n 2, 1) := by decide +kernel
theorem dX1_put_9 : decode cX1_put 9 = .ok (.bipush 64, 2) := by decide +kernel
theorem dX1_put_11 : decode cX1_put 11 = .ok (.idiv, 1) := by decide +kernel
theorem dX1_put_12 : decode cX1_put 12 = .ok (.iaload, 1) := by decide +kernel
theorem dX1_put_13 : decode cX1_put 13 = .ok (.iload_n 2, 1) := by decide +kernel
theorem dX1_put_14 : decode cX1_put 14 = .ok (.bipush 64, 2) := by decide +kernel
theorem dX1_put_16 : decode cX1_put 16 = .ok (.irem, 1) := by decide +kernel
theorem dX1_put_17 : decode cX1_put 17 = .ok (.lload_n 3, 1) := by decide +kernel
theorem dX1_put_18 : decode cX1_put 18 = .ok (.invokevirtual 167, 3) := by decide +kernel
theorem dX1_put_21 : decode cX1_put 21 = .ok (.return_, 1) := by decide +kernel
theorem zy_X1_put : yX1_put.cls ≠ "java/lang/invoke/MethodHandle" ∧ yX1_put.cls ≠ "java/lang/invoke/VarHandle" ∧ (parseMethodDescriptor yX1_put.desc).map (fun d => d.parameters.length) = some 3 := by decide +kernel
theorem w_fX1_put {K : zK} (E : zE K cX1_put "RingHouse$Tree" none 1) (hN : zNl K = 5) (hT : zTr K = none) (x1 : Int) (x2 : Int) (x3 : Int) : zR K 0 [(0, 3, 0), (1, 6, x1), (2, 0, x2), (3, 1, x3)] [] (fX1_put x1 x2 x3) := by
  refine r_aload_n E dX1_put_0 rfl 0 rfl ?_
  refine r_gec (y := 0) E zc_3 dX1_put_1 q592 zr_3 (zh_202 (by decide)) (by decide) ?_
  refine r_aload_n E dX1_put_4 rfl 1 rfl ?_
  refine r_nn E (fun hn1 => ?_)
  refine r_gecN (y := x1) E zc_6 dX1_put_5 q483 zr_6 (zh_523 (by omega)) hn1 ?_
  refine r_iload_n E dX1_put_8 rfl 2 rfl ?_
  refine r_bipush E dX1_put_9 (by decide) (zkI (by decide) (by decide)) ?_
  refine r_idiv E (by decide) dX1_put_11 ?_
  refine r_iaload E zc_523 za_523 zt_523 zx_523 rfl rfl dX1_put_12 hn1 (fun v2 => ?_)
  refine r_iload_n E dX1_put_13 rfl 2 rfl ?_
  refine r_bipush E dX1_put_14 (by decide) (zkI (by decide) (by decide)) ?_
  refine r_irem E (by decide) dX1_put_16 ?_
  refine r_lload_n E dX1_put_17 rfl 3 rfl ?_
  refine r_callV E [(0, v2), (0, (Int.tmod x2 64)), (1, x3)] [] rfl zc_5 zr_5 (fun o _ => ⟨_, zw_X3.1 o, rfl⟩) (lw_V q2101 q2102 q2103 q230 q2104) dX1_put_18 zy_X3_put rfl (by omega) (by decide) (Nat.le_of_ble_eq_true rfl) (by decide) (fun l G => k_fX3_put l G v2 (Int.tmod x2 64) x3) (fun _ => ?_)
  exact r_return E rfl hT dX1_put_21
theorem k_fX1_put (l : Launch) (G : zG) (x1 : Int) (x2 : Int) (x3 : Int) : zCt l G yX1_put cX1_put 5 none 1 [(3, 0), (6, x1), (0, x2), (1, x3)] none (fX1_put x1 x2 x3) := zCt.of (by decide) (Nat.le_of_ble_eq_true rfl) (fun K E _ _ hN hT => w_fX1_put E hN hT x1 x2 x3)
theorem dX0_put_0 : decode cX0_put 0 = .ok (.aload_n 0, 1) := by decide +kernel
theorem dX0_put_1 : decode cX0_put 1 = .ok (.getfield 42, 3) := by decide +kernel
theorem dX0_put_4 : decode cX0_put 4 = .ok (.iload_n 1, 1) := by decide +kernel
theorem dX0_put_5 : decode cX0_put 5 = .ok (.invokevirtual 191, 3) := by decide +kernel
theorem dX0_put_8 : decode cX0_put 8 = .ok (.astore 5, 2) := by decide +kernel
theorem dX0_put_10 : decode cX0_put 10 = .ok (.aload_n 0, 1) := by decide +kernel
theorem dX0_put_11 : decode cX0_put 11 = .ok (.aload 5, 2) := by decide +kernel
theorem dX0_put_13 : decode cX0_put 13 = .ok (.iload_n 2, 1) := by decide +kernel
theorem dX0_put_14 : decode cX0_put 14 = .ok (.invokevirtual 287, 3) := by decide +kernel
theorem dX0_put_17 : decode cX0_put 17 = .ok (.ifCond .ne 7, 3) := by decide +kernel
theorem dX0_put_20 : decode cX0_put 20 = .ok (.ldc2_w 234, 3) := by decide +kernel
theorem dX0_put_23 : decode cX0_put 23 = .ok (.lreturn, 1) := by decide +kernel
theorem dX0_put_24 : decode cX0_put 24 = .ok (.lload_n 3, 1) := by decide +kernel
theorem dX0_put_25 : decode cX0_put 25 = .ok (.invokestatic 9, 3) := by decide +kernel
theorem dX0_put_28 : decode cX0_put 28 = .ok (.ifCond .ne 7, 3) := by decide +kernel
theorem dX0_put_31 : decode cX0_put 31 = .ok (.ldc2_w 279, 3) := by decide +kernel
theorem dX0_put_34 : decode cX0_put 34 = .ok (.lreturn, 1) := by decide +kernel
theorem dX0_put_35 : decode cX0_put 35 = .ok (.aload_n 0, 1) := by decide +kernel
theorem dX0_put_36 : decode cX0_put 36 = .ok (.getfield 42, 3) := by decide +kernel
theorem dX0_put_39 : decode cX0_put 39 = .ok (.aload 5, 2) := by decide +kernel
theorem dX0_put_41 : decode cX0_put 41 = .ok (.iload_n 2, 1) := by decide +kernel
theorem dX0_put_42 : decode cX0_put 42 = .ok (.invokevirtual 290, 3) := by decide +kernel
theorem dX0_put_45 : decode cX0_put 45 = .ok (.lstore 6, 2) := by decide +kernel
theorem dX0_put_47 : decode cX0_put 47 = .ok (.aload_n 0, 1) := by decide +kernel
theorem dX0_put_48 : decode cX0_put 48 = .ok (.getfield 42, 3) := by decide +kernel
theorem dX0_put_51 : decode cX0_put 51 = .ok (.aload 5, 2) := by decide +kernel
theorem dX0_put_53 : decode cX0_put 53 = .ok (.iload_n 2, 1) := by decide +kernel
theorem dX0_put_54 : decode cX0_put 54 = .ok (.lload_n 3, 1) := by decide +kernel
theorem dX0_put_55 : decode cX0_put 55 = .ok (.invokevirtual 294, 3) := by decide +kernel
theorem dX0_put_58 : decode cX0_put 58 = .ok (.lload 6, 2) := by decide +kernel
theorem dX0_put_60 : decode cX0_put 60 = .ok (.lreturn, 1) := by decide +kernel
theorem zy_X0_put : yX0_put.cls ≠ "java/lang/invoke/MethodHandle" ∧ yX0_put.cls ≠ "java/lang/invoke/VarHandle" ∧ (parseMethodDescriptor yX0_put.desc).map (fun d => d.parameters.length) = some 3 := by decide +kernel
theorem w_fX0_put {K : zK} (E : zE K cX0_put "RingHouse" (some .long) 3) (hN : zNl K = 8) (hT : zTr K = (some 1)) (x1 : Int) (x2 : Int) (x3 : Int) : zR K 0 [(0, 2, 0), (1, 0, x1), (2, 0, x2), (3, 1, x3)] [] (fX0_put x1 x2 x3) := by
  refine r_aload_n E dX0_put_0 rfl 0 rfl ?_
  refine r_gec (y := 0) E zc_2 dX0_put_1 q1790 zr_2 (zh_100 (by decide)) (by decide) ?_
  refine r_iload_n E dX0_put_4 rfl 1 rfl ?_
  refine r_callV E [(0, x1)] [] rfl zc_3 zr_3 (fun o _ => ⟨_, zw_X1.1 o, rfl⟩) (lw_V q1998 q1999 q2000 q228 q2001) dX0_put_5 zy_X1_segment rfl (by omega) (by decide) (Nat.le_of_ble_eq_true rfl) (by decide) (fun l G => k_fX1_segment l G x1) (fun v1 => ?_)
  refine r_astore (ls' := [(5, 6, v1), (0, 2, 0), (1, 0, x1), (2, 0, x2), (3, 1, x3)]) E dX0_put_8 (by rw [hN]; decide) rfl ?_
  refine r_aload_n E dX0_put_10 rfl 1 rfl ?_
  refine r_aload E dX0_put_11 0 rfl ?_
  refine r_iload_n E dX0_put_13 rfl 3 rfl ?_
  refine r_callV E [(6, v1), (0, x2)] [] rfl zc_2 zr_2 (fun o _ => ⟨_, zw_X0.1 o, rfl⟩) (lw_V q2081 q2083 qs8 q227 q2084) dX0_put_14 zy_X0_hasPlace rfl (by omega) (by decide) (Nat.le_of_ble_eq_true rfl) (by decide) (fun l G => k_fX0_hasPlace l G v1 x2) (fun v2 => ?_)
  refine r_if_ne E 24 (by decide) dX0_put_17 (fun _ => ?_) (fun _ => ?_)
  · refine r_lload_n E dX0_put_24 rfl 4 rfl ?_
    refine r_callS E [(1, x3)] [] rfl q1844 q1845 q227 q1846 dX0_put_25 zy_X0_isWord rfl (by omega) (by decide) (Nat.le_of_ble_eq_true rfl) (fun l G => k_fX0_isWord l G x3) (fun v3 => ?_)
    refine r_if_ne E 35 (by decide) dX0_put_28 (fun _ => ?_) (fun _ => ?_)
    · refine r_aload_n E dX0_put_35 rfl 1 rfl ?_
      refine r_gec (y := 0) E zc_2 dX0_put_36 q1790 zr_2 (zh_100 (by decide)) (by decide) ?_
      refine r_aload E dX0_put_39 0 rfl ?_
      refine r_iload_n E dX0_put_41 rfl 3 rfl ?_
      refine r_callV E [(6, v1), (0, x2)] [] rfl zc_3 zr_3 (fun o _ => ⟨_, zw_X1.1 o, rfl⟩) (lw_V q2085 q2086 q2087 q228 q2088) dX0_put_42 zy_X1_get rfl (by omega) (by decide) (Nat.le_of_ble_eq_true rfl) (by decide) (fun l G => k_fX1_get l G v1 x2) (fun v4 => ?_)
      refine r_lstore (ls' := [(6, 1, v4), (5, 6, v1), (0, 2, 0), (1, 0, x1), (2, 0, x2), (3, 1, x3)]) E dX0_put_45 (by rw [hN]; decide) rfl ?_
      refine r_aload_n E dX0_put_47 rfl 2 rfl ?_
      refine r_gec (y := 0) E zc_2 dX0_put_48 q1790 zr_2 (zh_100 (by decide)) (by decide) ?_
      refine r_aload E dX0_put_51 1 rfl ?_
      refine r_iload_n E dX0_put_53 rfl 4 rfl ?_
      refine r_lload_n E dX0_put_54 rfl 5 rfl ?_
      refine r_callV E [(6, v1), (0, x2), (1, x3)] [] rfl zc_3 zr_3 (fun o _ => ⟨_, zw_X1.1 o, rfl⟩) (lw_V q2097 q2098 q2099 q228 q2100) dX0_put_55 zy_X1_put rfl (by omega) (by decide) (Nat.le_of_ble_eq_true rfl) (by decide) (fun l G => k_fX1_put l G v1 x2 x3) (fun _ => ?_)
      refine r_lload E dX0_put_58 0 rfl ?_
      exact r_lreturn E rfl hT dX0_put_60
    · refine r_ldc2 (v := (-8)) E dX0_put_31 q2066 (by decide) (zkJ (by decide) (by decide)) ?_
      exact r_lreturn E rfl hT dX0_put_34
  · refine r_ldc2 (v := (-1)) E dX0_put_20 q2064 (by decide) (zkJ (by decide) (by decide)) ?_
    exact r_lreturn E rfl hT dX0_put_23
theorem k_fX0_put (l : Launch) (G : zG) (x1 : Int) (x2 : Int) (x3 : Int) : zCt l G yX0_put cX0_put 8 (some .long) 3 [(2, 0), (0, x1), (0, x2), (1, x3)] (some 1) (fX0_put x1 x2 x3) := zCt.of (by decide) (Nat.le_of_ble_eq_true rfl) (fun K E _ _ hN hT => w_fX0_put E hN hT x1 x2 x3)
theorem dX1_mailbox_0 : decode cX1_mailbox 0 = .ok (.aload_n 0, 1) := by decide +kernel
theorem dX1_mailbox_1 : decode cX1_mailbox 1 = .ok (.iload_n 1, 1) := by decide +kernel
theorem dX1_mailbox_2 : decode cX1_mailbox 2 = .ok (.invokevirtual 85, 3) := by decide +kernel
theorem dX1_mailbox_5 : decode cX1_mailbox 5 = .ok (.astore_n 2, 1) := by decide +kernel
theorem dX1_mailbox_6 : decode cX1_mailbox 6 = .ok (.aload_n 2, 1) := by decide +kernel
theorem dX1_mailbox_7 : decode cX1_mailbox 7 = .ok (.ifnull 14, 3) := by decide +kernel
theorem dX1_mailbox_10 : decode cX1_mailbox 10 = .ok (.aload_n 2, 1) := by decide +kernel
theorem dX1_mailbox_11 : decode cX1_mailbox 11 = .ok (.invokevirtual 96, 3) := by decide +kernel
theorem dX1_mailbox_14 : decode cX1_mailbox 14 = .ok (.ifCond .eq 7, 3) := by decide +kernel
theorem dX1_mailbox_17 : decode cX1_mailbox 17 = .ok (.aload_n 2, 1) := by decide +kernel
theorem dX1_mailbox_18 : decode cX1_mailbox 18 = .ok (.goto 4, 3) := by decide +kernel
theorem dX1_mailbox_21 : decode cX1_mailbox 21 = .ok (.aconst_null, 1) := by decide +kernel
theorem dX1_mailbox_22 : decode cX1_mailbox 22 = .ok (.areturn, 1) := by decide +kernel
theorem zy_X1_mailbox : yX1_mailbox.cls ≠ "java/lang/invoke/MethodHandle" ∧ yX1_mailbox.cls ≠ "java/lang/invoke/VarHandle" ∧ (parseMethodDescriptor yX1_mailbox.desc).map (fun d => d.parameters.length) = some 1 := by decide +kernel
theorem w_fX1_mailbox {K : zK} (E : zE K cX1_mailbox "RingHouse$Tree" (some (.object "RingHouse$Node")) 2) (hN : zNl K = 3) (hT : zTr K = (some 6)) (x1 : Int) : zR K 0 [(0, 3, 0), (1, 0, x1)] [] (fX1_mailbox x1) := by
  refine r_aload_n E dX1_mailbox_0 rfl 0 rfl ?_
  refine r_iload_n E dX1_mailbox_1 rfl 1 rfl ?_
  refine r_callV E [(0, x1)] [] rfl zc_3 zr_3 (fun o _ => ⟨_, zw_X1.1 o, rfl⟩) (lw_V q1829 q1830 q1831 q228 q1832) dX1_mailbox_2 zy_X1_node rfl (by omega) (by decide) (Nat.le_of_ble_eq_true rfl) (by decide) (fun l G => k_fX1_node l G x1) (fun v1 => ?_)
  refine r_astore_n (ls' := [(2, 6, v1), (0, 3, 0), (1, 0, x1)]) E dX1_mailbox_5 rfl (by rw [hN]; decide) rfl ?_
  refine r_aload_n E dX1_mailbox_6 rfl 0 rfl ?_
  refine r_ifnull E 21 (by decide) dX1_mailbox_7 (fun _ => ?_) (fun hz2 => ?_)
  · refine r_null E 4 dX1_mailbox_21 ?_
    exact r_areturn E rfl hT dX1_mailbox_22
  · refine r_aload_n E dX1_mailbox_10 rfl 0 rfl ?_
    refine r_callV E [] [] rfl zc_6 zr_6 (fun o _ => ⟨_, zw_X4.1 o, rfl⟩) (lw_V q2039 q1921 q1922 q231 q1923) dX1_mailbox_11 zy_X4_isMailbox rfl (by omega) (by decide) (Nat.le_of_ble_eq_true rfl) (Int.not_lt.mp hz2) (fun l G => k_fX4_isMailbox l G v1 (Int.not_lt.mp hz2)) (fun v3 => ?_)
    refine r_if_eq E 21 (by decide) dX1_mailbox_14 (fun _ => ?_) (fun _ => ?_)
    · refine r_null E 4 dX1_mailbox_21 ?_
      exact r_areturn E rfl hT dX1_mailbox_22
    · refine r_aload_n E dX1_mailbox_17 rfl 0 rfl ?_
      refine r_goto E 22 (by decide) dX1_mailbox_18 ?_
      exact r_areturn E rfl hT dX1_mailbox_22
theorem k_fX1_mailbox (l : Launch) (G : zG) (x1 : Int) : zCt l G yX1_mailbox cX1_mailbox 3 (some (.object "RingHouse$Node")) 2 [(3, 0), (0, x1)] (some 6) (fX1_mailbox x1) := zCt.of (by decide) (Nat.le_of_ble_eq_true rfl) (fun K E _ _ hN hT => w_fX1_mailbox E hN hT x1)
theorem dX0_letter_0 : decode cX0_letter 0 = .ok (.aload_n 0, 1) := by decide +kernel
theorem dX0_letter_1 : decode cX0_letter 1 = .ok (.getfield 42, 3) := by decide +kernel
theorem dX0_letter_4 : decode cX0_letter 4 = .ok (.iload_n 1, 1) := by decide +kernel
theorem dX0_letter_5 : decode cX0_letter 5 = .ok (.invokevirtual 298, 3) := by decide +kernel
theorem dX0_letter_8 : decode cX0_letter 8 = .ok (.astore 4, 2) := by decide +kernel
theorem dX0_letter_10 : decode cX0_letter 10 = .ok (.aload 4, 2) := by decide +kernel
theorem dX0_letter_12 : decode cX0_letter 12 = .ok (.ifnull 23, 3) := by decide +kernel
theorem dX0_letter_15 : decode cX0_letter 15 = .ok (.iload_n 2, 1) := by decide +kernel
theorem dX0_letter_16 : decode cX0_letter 16 = .ok (.i2l, 1) := by decide +kernel
theorem dX0_letter_17 : decode cX0_letter 17 = .ok (.lconst 0, 1) := by decide +kernel
theorem dX0_letter_18 : decode cX0_letter 18 = .ok (.aload 4, 2) := by decide +kernel
theorem dX0_letter_20 : decode cX0_letter 20 = .ok (.getfield 264, 3) := by decide +kernel
theorem dX0_letter_23 : decode cX0_letter 23 = .ok (.getfield 268, 3) := by decide +kernel
theorem dX0_letter_26 : decode cX0_letter 26 = .ok (.i2l, 1) := by decide +kernel
theorem dX0_letter_27 : decode cX0_letter 27 = .ok (.lconst 1, 1) := by decide +kernel
theorem dX0_letter_28 : decode cX0_letter 28 = .ok (.lsub, 1) := by decide +kernel
theorem dX0_letter_29 : decode cX0_letter 29 = .ok (.invokestatic 17, 3) := by decide +kernel
theorem dX0_letter_32 : decode cX0_letter 32 = .ok (.ifCond .ne 7, 3) := by decide +kernel
theorem dX0_letter_35 : decode cX0_letter 35 = .ok (.ldc2_w 234, 3) := by decide +kernel
theorem dX0_letter_38 : decode cX0_letter 38 = .ok (.lreturn, 1) := by decide +kernel
theorem dX0_letter_39 : decode cX0_letter 39 = .ok (.iload_n 3, 1) := by decide +kernel
theorem dX0_letter_40 : decode cX0_letter 40 = .ok (.ifCond .ne 16, 3) := by decide +kernel
theorem dX0_letter_43 : decode cX0_letter 43 = .ok (.aload 4, 2) := by decide +kernel
theorem dX0_letter_45 : decode cX0_letter 45 = .ok (.getfield 264, 3) := by decide +kernel
theorem dX0_letter_48 : decode cX0_letter 48 = .ok (.getfield 301, 3) := by decide +kernel
theorem dX0_letter_51 : decode cX0_letter 51 = .ok (.iload_n 2, 1) := by decide +kernel
theorem dX0_letter_52 : decode cX0_letter 52 = .ok (.laload, 1) := by decide +kernel
theorem dX0_letter_53 : decode cX0_letter 53 = .ok (.goto 25, 3) := by decide +kernel
theorem dX0_letter_56 : decode cX0_letter 56 = .ok (.iload_n 3, 1) := by decide +kernel
theorem dX0_letter_57 : decode cX0_letter 57 = .ok (.iconst 1, 1) := by decide +kernel
theorem dX0_letter_58 : decode cX0_letter 58 = .ok (.if_icmp .ne 17, 3) := by decide +kernel
theorem dX0_letter_61 : decode cX0_letter 61 = .ok (.aload 4, 2) := by decide +kernel
theorem dX0_letter_63 : decode cX0_letter 63 = .ok (.getfield 264, 3) := by decide +kernel
theorem dX0_letter_66 : decode cX0_letter 66 = .ok (.getfield 305, 3) := by decide +kernel
theorem dX0_letter_69 : decode cX0_letter 69 = .ok (.iload_n 2, 1) := by decide +kernel
theorem dX0_letter_70 : decode cX0_letter 70 = .ok (.iaload, 1) := by decide +kernel
theorem dX0_letter_71 : decode cX0_letter 71 = .ok (.i2l, 1) := by decide +kernel
theorem dX0_letter_72 : decode cX0_letter 72 = .ok (.goto 6, 3) := by decide +kernel
theorem dX0_letter_75 : decode cX0_letter 75 = .ok (.ldc2_w 279, 3) := by decide +kernel
theorem dX0_letter_78 : decode cX0_letter 78 = .ok (.lreturn, 1) := by decide +kernel
theorem zy_X0_letter : yX0_letter.cls ≠ "java/lang/invoke/MethodHandle" ∧ yX0_letter.cls ≠ "java/lang/invoke/VarHandle" ∧ (parseMethodDescriptor yX0_letter.desc).map (fun d => d.parameters.length) = some 3 := by decide +kernel
theorem w_fX0_letter {K : zK} (E : zE K cX0_letter "RingHouse" (some .long) 3) (hN : zNl K = 5) (hT : zTr K = (some 1)) (x1 : Int) (x2 : Int) (x3 : Int) : zR K 0 [(0, 2, 0), (1, 0, x1), (2, 0, x2), (3, 0, x3)] [] (fX0_letter x1 x2 x3) := by
  refine r_aload_n E dX0_letter_0 rfl 0 rfl ?_
  refine r_gec (y := 0) E zc_2 dX0_letter_1 q1790 zr_2 (zh_100 (by decide)) (by decide) ?_
  refine r_iload_n E dX0_letter_4 rfl 1 rfl ?_
  refine r_callV E [(0, x1)] [] rfl zc_3 zr_3 (fun o _ => ⟨_, zw_X1.1 o, rfl⟩) (lw_V q2109 q2110 q2111 q228 q2112) dX0_letter_5 zy_X1_mailbox rfl (by omega) (by decide) (Nat.le_of_ble_eq_true rfl) (by decide) (fun l G => k_fX1_mailbox l G x1) (fun v1 => ?_)
  refine r_astore (ls' := [(4, 6, v1), (0, 2, 0), (1, 0, x1), (2, 0, x2), (3, 0, x3)]) E dX0_letter_8 (by rw [hN]; decide) rfl ?_
  refine r_aload E dX0_letter_10 0 rfl ?_
  refine r_ifnull E 35 (by decide) dX0_letter_12 (fun _ => ?_) (fun hz2 => ?_)
  · refine r_ldc2 (v := (-1)) E dX0_letter_35 q2064 (by decide) (zkJ (by decide) (by decide)) ?_
    exact r_lreturn E rfl hT dX0_letter_38
  · refine r_iload_n E dX0_letter_15 rfl 3 rfl ?_
    refine r_i2l E dX0_letter_16 ?_
    refine r_lconst (v := 0) E dX0_letter_17 (by decide) (zkJ (by decide) (by decide)) ?_
    refine r_aload E dX0_letter_18 0 rfl ?_
    refine r_getN E zc_6 zt_520 dX0_letter_20 q469 zr_6 (zg_520 _) (Int.not_lt.mp hz2) (fun v3 => ?_)
    refine r_nn E (fun hn4 => ?_)
    refine r_getN E zc_8 zt_702 dX0_letter_23 q549 zr_8 (zg_702 _) hn4 (fun v5 => ?_)
    refine r_i2l E dX0_letter_26 ?_
    refine r_lconst (v := 1) E dX0_letter_27 (by decide) (zkJ (by decide) (by decide)) ?_
    refine r_lsub E dX0_letter_28 ?_
    refine r_callS E [(1, x2), (1, 0), (1, (zl (v5 - 1)))] [] rfl q1853 q1835 q227 q1836 dX0_letter_29 zy_X0_isIn rfl (by omega) (by decide) (Nat.le_of_ble_eq_true rfl) (fun l G => k_fX0_isIn l G x2 0 (zl (v5 - 1))) (fun v6 => ?_)
    refine r_if_ne E 39 (by decide) dX0_letter_32 (fun _ => ?_) (fun _ => ?_)
    · refine r_iload_n E dX0_letter_39 rfl 4 rfl ?_
      refine r_if_ne E 56 (by decide) dX0_letter_40 (fun _ => ?_) (fun _ => ?_)
      · refine r_iload_n E dX0_letter_56 rfl 4 rfl ?_
        refine r_iconst E dX0_letter_57 (zkI (by decide) (by decide)) ?_
        refine r_icmp_ne E 75 (by decide) dX0_letter_58 (fun _ => ?_) (fun _ => ?_)
        · refine r_ldc2 (v := (-8)) E dX0_letter_75 q2066 (by decide) (zkJ (by decide) (by decide)) ?_
          exact r_lreturn E rfl hT dX0_letter_78
        · refine r_aload E dX0_letter_61 0 rfl ?_
          refine r_getN E zc_6 zt_520 dX0_letter_63 q469 zr_6 (zg_520 _) (Int.not_lt.mp hz2) (fun v7 => ?_)
          refine r_nn E (fun hn8 => ?_)
          refine r_gecN (y := v7) E zc_8 dX0_letter_66 q545 zr_8 (zh_701 (by omega)) hn8 ?_
          refine r_iload_n E dX0_letter_69 rfl 3 rfl ?_
          refine r_iaload E zc_701 za_701 zt_701 zx_701 rfl rfl dX0_letter_70 hn8 (fun v9 => ?_)
          refine r_i2l E dX0_letter_71 ?_
          refine r_goto E 78 (by decide) dX0_letter_72 ?_
          exact r_lreturn E rfl hT dX0_letter_78
      · refine r_aload E dX0_letter_43 0 rfl ?_
        refine r_getN E zc_6 zt_520 dX0_letter_45 q469 zr_6 (zg_520 _) (Int.not_lt.mp hz2) (fun v10 => ?_)
        refine r_nn E (fun hn11 => ?_)
        refine r_gecN (y := v10) E zc_8 dX0_letter_48 q541 zr_8 (zh_700 (by omega)) hn11 ?_
        refine r_iload_n E dX0_letter_51 rfl 3 rfl ?_
        refine r_laload E zc_700 za_700 zt_700 zx_700 rfl rfl dX0_letter_52 hn11 (fun v12 => ?_)
        refine r_goto E 78 (by decide) dX0_letter_53 ?_
        exact r_lreturn E rfl hT dX0_letter_78
    · refine r_ldc2 (v := (-1)) E dX0_letter_35 q2064 (by decide) (zkJ (by decide) (by decide)) ?_
      exact r_lreturn E rfl hT dX0_letter_38
theorem k_fX0_letter (l : Launch) (G : zG) (x1 : Int) (x2 : Int) (x3 : Int) : zCt l G yX0_letter cX0_letter 5 (some .long) 3 [(2, 0), (0, x1), (0, x2), (0, x3)] (some 1) (fX0_letter x1 x2 x3) := zCt.of (by decide) (Nat.le_of_ble_eq_true rfl) (fun K E _ _ hN hT => w_fX0_letter E hN hT x1 x2 x3)
theorem dX13_has_0 : decode cX13_has 0 = .ok (.iload_n 1, 1) := by decide +kernel
theorem dX13_has_1 : decode cX13_has 1 = .ok (.ifCond .lt 26, 3) := by decide +kernel
theorem dX13_has_4 : decode cX13_has 4 = .ok (.iload_n 1, 1) := by decide +kernel
theorem dX13_has_5 : decode cX13_has 5 = .ok (.aload_n 0, 1) := by decide +kernel
theorem dX13_has_6 : decode cX13_has 6 = .ok (.getfield 15, 3) := by decide +kernel
theorem dX13_has_9 : decode cX13_has 9 = .ok (.if_icmp .ge 18, 3) := by decide +kernel
theorem dX13_has_12 : decode cX13_has 12 = .ok (.iload_n 1, 1) := by decide +kernel
theorem dX13_has_13 : decode cX13_has 13 = .ok (.aload_n 0, 1) := by decide +kernel
theorem dX13_has_14 : decode cX13_has 14 = .ok (.getfield 15, 3) := by decide +kernel
theorem dX13_has_17 : decode cX13_has 17 = .ok (.bipush 64, 2) := by decide +kernel
theorem dX13_has_19 : decode cX13_has 19 = .ok (.isub, 1) := by decide +kernel
theorem dX13_has_20 : decode cX13_has 20 = .ok (.if_icmp .lt 7, 3) := by decide +kernel
theorem dX13_has_23 : decode cX13_has 23 = .ok (.iconst 1, 1) := by decide +kernel
theorem dX13_has_24 : decode cX13_has 24 = .ok (.goto 4, 3) := by decide +kernel
theorem dX13_has_27 : decode cX13_has 27 = .ok (.iconst 0, 1) := by decide +kernel
theorem dX13_has_28 : decode cX13_has 28 = .ok (.ireturn, 1) := by decide +kernel
theorem zy_X13_has : yX13_has.cls ≠ "java/lang/invoke/MethodHandle" ∧ yX13_has.cls ≠ "java/lang/invoke/VarHandle" ∧ (parseMethodDescriptor yX13_has.desc).map (fun d => d.parameters.length) = some 1 := by decide +kernel
theorem w_fX13_has {K : zK} (E : zE K cX13_has "RingHouse$Audit" (some .boolean) 0) (hN : zNl K = 2) (hT : zTr K = (some 0)) (x1 : Int) : zR K 0 [(0, 15, 0), (1, 0, x1)] [] (fX13_has x1) := by
  refine r_iload_n E dX13_has_0 rfl 1 rfl ?_
  refine r_if_lt E 27 (by decide) dX13_has_1 (fun _ => ?_) (fun _ => ?_)
  · refine r_iconst E dX13_has_27 (zkI (by decide) (by decide)) ?_
    exact r_zreturn E rfl hT (by decide) dX13_has_28
  · refine r_iload_n E dX13_has_4 rfl 1 rfl ?_
    refine r_aload_n E dX13_has_5 rfl 0 rfl ?_
    refine r_get E zc_15 zt_1401 dX13_has_6 q1013 zr_15 (zg_1401 _) (by decide) (fun v1 => ?_)
    refine r_icmp_ge E 27 (by decide) dX13_has_9 (fun _ => ?_) (fun _ => ?_)
    · refine r_iconst E dX13_has_27 (zkI (by decide) (by decide)) ?_
      exact r_zreturn E rfl hT (by decide) dX13_has_28
    · refine r_iload_n E dX13_has_12 rfl 1 rfl ?_
      refine r_aload_n E dX13_has_13 rfl 0 rfl ?_
      refine r_get E zc_15 zt_1401 dX13_has_14 q1013 zr_15 (zg_1401 _) (by decide) (fun v2 => ?_)
      refine r_bipush E dX13_has_17 (by decide) (zkI (by decide) (by decide)) ?_
      refine r_isub E dX13_has_19 ?_
      refine r_icmp_lt E 27 (by decide) dX13_has_20 (fun _ => ?_) (fun _ => ?_)
      · refine r_iconst E dX13_has_27 (zkI (by decide) (by decide)) ?_
        exact r_zreturn E rfl hT (by decide) dX13_has_28
      · refine r_iconst E dX13_has_23 (zkI (by decide) (by decide)) ?_
        refine r_goto E 28 (by decide) dX13_has_24 ?_
        exact r_zreturn E rfl hT (by decide) dX13_has_28
theorem k_fX13_has (l : Launch) (G : zG) (x1 : Int) : zCt l G yX13_has cX13_has 2 (some .boolean) 0 [(15, 0), (0, x1)] (some 0) (fX13_has x1) := zCt.of (by decide) (Nat.le_of_ble_eq_true rfl) (fun K E _ _ hN hT => w_fX13_has E hN hT x1)
theorem dX0_audit_0 : decode cX0_audit 0 = .ok (.aload_n 0, 1) := by decide +kernel
theorem dX0_audit_1 : decode cX0_audit 1 = .ok (.getfield 76, 3) := by decide +kernel
theorem dX0_audit_4 : decode cX0_audit 4 = .ok (.getfield 308, 3) := by decide +kernel
theorem dX0_audit_7 : decode cX0_audit 7 = .ok (.iload_n 1, 1) := by decide +kernel
theorem dX0_audit_8 : decode cX0_audit 8 = .ok (.invokevirtual 312, 3) := by decide +kernel
theorem dX0_audit_11 : decode cX0_audit 11 = .ok (.ifCond .ne 5, 3) := by decide +kernel
theorem dX0_audit_14 : decode cX0_audit 14 = .ok (.iconst (-1), 1) := by decide +kernel
theorem dX0_audit_15 : decode cX0_audit 15 = .ok (.ireturn, 1) := by decide +kernel
theorem dX0_audit_16 : decode cX0_audit 16 = .ok (.iload_n 2, 1) := by decide +kernel
theorem dX0_audit_17 : decode cX0_audit 17 = .ok (.i2l, 1) := by decide +kernel
theorem dX0_audit_18 : decode cX0_audit 18 = .ok (.lconst 0, 1) := by decide +kernel
theorem dX0_audit_19 : decode cX0_audit 19 = .ok (.ldc2_w 318, 3) := by decide +kernel
theorem dX0_audit_22 : decode cX0_audit 22 = .ok (.invokestatic 17, 3) := by decide +kernel
theorem dX0_audit_25 : decode cX0_audit 25 = .ok (.ifCond .eq 25, 3) := by decide +kernel
theorem dX0_audit_28 : decode cX0_audit 28 = .ok (.aload_n 0, 1) := by decide +kernel
theorem dX0_audit_29 : decode cX0_audit 29 = .ok (.getfield 76, 3) := by decide +kernel
theorem dX0_audit_32 : decode cX0_audit 32 = .ok (.getfield 308, 3) := by decide +kernel
theorem dX0_audit_35 : decode cX0_audit 35 = .ok (.getfield 320, 3) := by decide +kernel
theorem dX0_audit_38 : decode cX0_audit 38 = .ok (.iconst 4, 1) := by decide +kernel
theorem dX0_audit_39 : decode cX0_audit 39 = .ok (.iload_n 1, 1) := by decide +kernel
theorem dX0_audit_40 : decode cX0_audit 40 = .ok (.bipush 64, 2) := by decide +kernel
theorem dX0_audit_42 : decode cX0_audit 42 = .ok (.irem, 1) := by decide +kernel
theorem dX0_audit_43 : decode cX0_audit 43 = .ok (.imul, 1) := by decide +kernel
theorem dX0_audit_44 : decode cX0_audit 44 = .ok (.iload_n 2, 1) := by decide +kernel
theorem dX0_audit_45 : decode cX0_audit 45 = .ok (.iadd, 1) := by decide +kernel
theorem dX0_audit_46 : decode cX0_audit 46 = .ok (.iaload, 1) := by decide +kernel
theorem dX0_audit_47 : decode cX0_audit 47 = .ok (.goto 5, 3) := by decide +kernel
theorem dX0_audit_50 : decode cX0_audit 50 = .ok (.bipush (-8), 2) := by decide +kernel
theorem dX0_audit_52 : decode cX0_audit 52 = .ok (.ireturn, 1) := by decide +kernel
theorem zy_X0_audit : yX0_audit.cls ≠ "java/lang/invoke/MethodHandle" ∧ yX0_audit.cls ≠ "java/lang/invoke/VarHandle" ∧ (parseMethodDescriptor yX0_audit.desc).map (fun d => d.parameters.length) = some 2 := by decide +kernel
theorem w_fX0_audit {K : zK} (E : zE K cX0_audit "RingHouse" (some .int) 1) (hN : zNl K = 3) (hT : zTr K = (some 0)) (x1 : Int) (x2 : Int) : zR K 0 [(0, 2, 0), (1, 0, x1), (2, 0, x2)] [] (fX0_audit x1 x2) := by
  refine r_aload_n E dX0_audit_0 rfl 0 rfl ?_
  refine r_gec (y := 0) E zc_2 dX0_audit_1 q1792 zr_2 (zh_102 (by decide)) (by decide) ?_
  refine r_gecN (y := 0) E zc_14 dX0_audit_4 q1543 zr_14 (zh_1305 (by decide)) (by decide) ?_
  refine r_iload_n E dX0_audit_7 rfl 1 rfl ?_
  refine r_callV E [(0, x1)] [] rfl zc_15 zr_15 (fun o _ => ⟨_, zw_X13.1 o, rfl⟩) (lw_V q2117 q2118 q2119 q240 q2120) dX0_audit_8 zy_X13_has rfl (by omega) (by decide) (Nat.le_of_ble_eq_true rfl) (by decide) (fun l G => k_fX13_has l G x1) (fun v1 => ?_)
  refine r_if_ne E 16 (by decide) dX0_audit_11 (fun _ => ?_) (fun _ => ?_)
  · refine r_iload_n E dX0_audit_16 rfl 2 rfl ?_
    refine r_i2l E dX0_audit_17 ?_
    refine r_lconst (v := 0) E dX0_audit_18 (by decide) (zkJ (by decide) (by decide)) ?_
    refine r_ldc2 (v := 3) E dX0_audit_19 q2121 (by decide) (zkJ (by decide) (by decide)) ?_
    refine r_callS E [(1, x2), (1, 0), (1, 3)] [] rfl q1853 q1835 q227 q1836 dX0_audit_22 zy_X0_isIn rfl (by omega) (by decide) (Nat.le_of_ble_eq_true rfl) (fun l G => k_fX0_isIn l G x2 0 3) (fun v2 => ?_)
    refine r_if_eq E 50 (by decide) dX0_audit_25 (fun _ => ?_) (fun _ => ?_)
    · refine r_bipush E dX0_audit_50 (by decide) (zkI (by decide) (by decide)) ?_
      exact r_ireturn E rfl hT dX0_audit_52
    · refine r_aload_n E dX0_audit_28 rfl 0 rfl ?_
      refine r_gec (y := 0) E zc_2 dX0_audit_29 q1792 zr_2 (zh_102 (by decide)) (by decide) ?_
      refine r_gecN (y := 0) E zc_14 dX0_audit_32 q1543 zr_14 (zh_1305 (by decide)) (by decide) ?_
      refine r_gecN (y := 0) E zc_15 dX0_audit_35 q1012 zr_15 (zh_1400 (by decide)) (by decide) ?_
      refine r_iconst E dX0_audit_38 (zkI (by decide) (by decide)) ?_
      refine r_iload_n E dX0_audit_39 rfl 1 rfl ?_
      refine r_bipush E dX0_audit_40 (by decide) (zkI (by decide) (by decide)) ?_
      refine r_irem E (by decide) dX0_audit_42 ?_
      refine r_imul E dX0_audit_43 ?_
      refine r_iload_n E dX0_audit_44 rfl 2 rfl ?_
      refine r_iadd E dX0_audit_45 ?_
      refine r_iaload E zc_1400 za_1400 zt_1400 zx_1400 rfl rfl dX0_audit_46 (by decide) (fun v3 => ?_)
      refine r_goto E 52 (by decide) dX0_audit_47 ?_
      exact r_ireturn E rfl hT dX0_audit_52
  · refine r_iconst E dX0_audit_14 (zkI (by decide) (by decide)) ?_
    exact r_ireturn E rfl hT dX0_audit_15
theorem k_fX0_audit (l : Launch) (G : zG) (x1 : Int) (x2 : Int) : zCt l G yX0_audit cX0_audit 3 (some .int) 1 [(2, 0), (0, x1), (0, x2)] (some 0) (fX0_audit x1 x2) := zCt.of (by decide) (Nat.le_of_ble_eq_true rfl) (fun K E _ _ hN hT => w_fX0_audit E hN hT x1 x2)
theorem dX0_isHalf_0 : decode cX0_isHalf 0 = .ok (.lload_n 0, 1) := by decide +kernel
theorem dX0_isHalf_1 : decode cX0_isHalf 1 = .ok (.lconst 0, 1) := by decide +kernel
theorem dX0_isHalf_2 : decode cX0_isHalf 2 = .ok (.lcmp, 1) := by decide +kernel
theorem dX0_isHalf_3 : decode cX0_isHalf 3 = .ok (.ifCond .lt 15, 3) := by decide +kernel
theorem dX0_isHalf_6 : decode cX0_isHalf 6 = .ok (.lload_n 0, 1) := by decide +kernel
theorem dX0_isHalf_7 : decode cX0_isHalf 7 = .ok (.ldc2_w 7, 3) := by decide +kernel
theorem dX0_isHalf_10 : decode cX0_isHalf 10 = .ok (.lcmp, 1) := by decide +kernel
theorem dX0_isHalf_11 : decode cX0_isHalf 11 = .ok (.ifCond .gt 7, 3) := by decide +kernel
theorem dX0_isHalf_14 : decode cX0_isHalf 14 = .ok (.iconst 1, 1) := by decide +kernel
theorem dX0_isHalf_15 : decode cX0_isHalf 15 = .ok (.goto 4, 3) := by decide +kernel
theorem dX0_isHalf_18 : decode cX0_isHalf 18 = .ok (.iconst 0, 1) := by decide +kernel
theorem dX0_isHalf_19 : decode cX0_isHalf 19 = .ok (.ireturn, 1) := by decide +kernel
theorem zy_X0_isHalf : yX0_isHalf.cls ≠ "java/lang/invoke/MethodHandle" ∧ yX0_isHalf.cls ≠ "java/lang/invoke/VarHandle" ∧ (parseMethodDescriptor yX0_isHalf.desc).map (fun d => d.parameters.length) = some 1 := by decide +kernel
theorem w_fX0_isHalf {K : zK} (E : zE K cX0_isHalf "RingHouse" (some .boolean) 0) (hN : zNl K = 2) (hT : zTr K = (some 0)) (x0 : Int) : zR K 0 [(0, 1, x0)] [] (fX0_isHalf x0) := by
  refine r_lload_n E dX0_isHalf_0 rfl 0 rfl ?_
  refine r_lconst (v := 0) E dX0_isHalf_1 (by decide) (zkJ (by decide) (by decide)) ?_
  refine r_lcmp_lt E 18 (by decide) dX0_isHalf_2 dX0_isHalf_3 (fun _ => ?_) (fun _ => ?_)
  · refine r_iconst E dX0_isHalf_18 (zkI (by decide) (by decide)) ?_
    exact r_zreturn E rfl hT (by decide) dX0_isHalf_19
  · refine r_lload_n E dX0_isHalf_6 rfl 0 rfl ?_
    refine r_ldc2 (v := 262143) E dX0_isHalf_7 q2129 (by decide) (zkJ (by decide) (by decide)) ?_
    refine r_lcmp_gt E 18 (by decide) dX0_isHalf_10 dX0_isHalf_11 (fun _ => ?_) (fun _ => ?_)
    · refine r_iconst E dX0_isHalf_18 (zkI (by decide) (by decide)) ?_
      exact r_zreturn E rfl hT (by decide) dX0_isHalf_19
    · refine r_iconst E dX0_isHalf_14 (zkI (by decide) (by decide)) ?_
      refine r_goto E 19 (by decide) dX0_isHalf_15 ?_
      exact r_zreturn E rfl hT (by decide) dX0_isHalf_19
theorem k_fX0_isHalf (l : Launch) (G : zG) (x0 : Int) : zCt l G yX0_isHalf cX0_isHalf 2 (some .boolean) 0 [(1, x0)] (some 0) (fX0_isHalf x0) := zCt.of (by decide) (Nat.le_of_ble_eq_true rfl) (fun K E _ _ hN hT => w_fX0_isHalf E hN hT x0)
theorem dX9_go_0 : decode cX9_go 0 = .ok (.aload_n 0, 1) := by decide +kernel
theorem dX9_go_1 : decode cX9_go 1 = .ok (.iload_n 1, 1) := by decide +kernel
theorem dX9_go_2 : decode cX9_go 2 = .ok (.putfield 44, 3) := by decide +kernel
theorem dX9_go_5 : decode cX9_go 5 = .ok (.aload_n 0, 1) := by decide +kernel
theorem dX9_go_6 : decode cX9_go 6 = .ok (.iload_n 2, 1) := by decide +kernel
theorem dX9_go_7 : decode cX9_go 7 = .ok (.putfield 48, 3) := by decide +kernel
theorem dX9_go_10 : decode cX9_go 10 = .ok (.aload_n 0, 1) := by decide +kernel
theorem dX9_go_11 : decode cX9_go 11 = .ok (.iload_n 3, 1) := by decide +kernel
theorem dX9_go_12 : decode cX9_go 12 = .ok (.putfield 51, 3) := by decide +kernel
theorem dX9_go_15 : decode cX9_go 15 = .ok (.return_, 1) := by decide +kernel
theorem zy_X9_go : yX9_go.cls ≠ "java/lang/invoke/MethodHandle" ∧ yX9_go.cls ≠ "java/lang/invoke/VarHandle" ∧ (parseMethodDescriptor yX9_go.desc).map (fun d => d.parameters.length) = some 3 := by decide +kernel
theorem w_fX9_go {K : zK} (E : zE K cX9_go "RingHouse$Registers" none 0) (hN : zNl K = 4) (hT : zTr K = none) (x0 : Int) (x1 : Int) (x2 : Int) (x3 : Int) (h0 : 0 ≤ x0) : zR K 0 [(0, 11, x0), (1, 0, x1), (2, 0, x2), (3, 0, x3)] [] (fX9_go x0 x1 x2 x3) := by
  refine r_aload_n E dX9_go_0 rfl 0 rfl ?_
  refine r_iload_n E dX9_go_1 rfl 1 rfl ?_
  refine r_put E zc_11 zt_1006 zo_1006 dX9_go_2 q756 zr_11 zw_X9 zp_1006 (fun _ => rfl) (fun _ => rfl) h0 ?_
  refine r_aload_n E dX9_go_5 rfl 0 rfl ?_
  refine r_iload_n E dX9_go_6 rfl 2 rfl ?_
  refine r_put E zc_11 zt_1007 zo_1007 dX9_go_7 q761 zr_11 zw_X9 zp_1007 (fun _ => rfl) (fun _ => rfl) h0 ?_
  refine r_aload_n E dX9_go_10 rfl 0 rfl ?_
  refine r_iload_n E dX9_go_11 rfl 3 rfl ?_
  refine r_put E zc_11 zt_1008 zo_1008 dX9_go_12 q777 zr_11 zw_X9 zp_1008 (fun _ => rfl) (fun _ => rfl) h0 ?_
  exact r_return E rfl hT dX9_go_15
theorem k_fX9_go (l : Launch) (G : zG) (x0 : Int) (x1 : Int) (x2 : Int) (x3 : Int) (h0 : 0 ≤ x0) : zCt l G yX9_go cX9_go 4 none 0 [(11, x0), (0, x1), (0, x2), (0, x3)] none (fX9_go x0 x1 x2 x3) := zCt.of (by decide) (Nat.le_of_ble_eq_true rfl) (fun K E _ _ hN hT => w_fX9_go E hN hT x0 x1 x2 x3 h0)
theorem dX9_point_0 : decode cX9_point 0 = .ok (.aload_n 0, 1) := by decide +kernel
theorem dX9_point_1 : decode cX9_point 1 = .ok (.getfield 13, 3) := by decide +kernel
theorem dX9_point_4 : decode cX9_point 4 = .ok (.iload_n 1, 1) := by decide +kernel
theorem dX9_point_5 : decode cX9_point 5 = .ok (.iload_n 2, 1) := by decide +kernel
theorem dX9_point_6 : decode cX9_point 6 = .ok (.iastore, 1) := by decide +kernel
theorem dX9_point_7 : decode cX9_point 7 = .ok (.aload_n 0, 1) := by decide +kernel
theorem dX9_point_8 : decode cX9_point 8 = .ok (.getfield 16, 3) := by decide +kernel
theorem dX9_point_11 : decode cX9_point 11 = .ok (.iload_n 1, 1) := by decide +kernel
theorem dX9_point_12 : decode cX9_point 12 = .ok (.iload_n 3, 1) := by decide +kernel
theorem dX9_point_13 : decode cX9_point 13 = .ok (.iastore, 1) := by decide +kernel
theorem dX9_point_14 : decode cX9_point 14 = .ok (.aload_n 0, 1) := by decide +kernel
theorem dX9_point_15 : decode cX9_point 15 = .ok (.getfield 19, 3) := by decide +kernel
theorem dX9_point_18 : decode cX9_point 18 = .ok (.iload_n 1, 1) := by decide +kernel
theorem dX9_point_19 : decode cX9_point 19 = .ok (.iload 4, 2) := by decide +kernel
theorem dX9_point_21 : decode cX9_point 21 = .ok (.iastore, 1) := by decide +kernel
theorem dX9_point_22 : decode cX9_point 22 = .ok (.return_, 1) := by decide +kernel
theorem zy_X9_point : yX9_point.cls ≠ "java/lang/invoke/MethodHandle" ∧ yX9_point.cls ≠ "java/lang/invoke/VarHandle" ∧ (parseMethodDescriptor yX9_point.desc).map (fun d => d.parameters.length) = some 4 := by decide +kernel
theorem w_fX9_point {K : zK} (E : zE K cX9_point "RingHouse$Registers" none 0) (hN : zNl K = 5) (hT : zTr K = none) (x0 : Int) (x1 : Int) (x2 : Int) (x3 : Int) (x4 : Int) (h0 : 0 ≤ x0) : zR K 0 [(0, 11, x0), (1, 0, x1), (2, 0, x2), (3, 0, x3), (4, 0, x4)] [] (fX9_point x0 x1 x2 x3 x4) := by
  refine r_aload_n E dX9_point_0 rfl 0 rfl ?_
  refine r_gec (y := x0) E zc_11 dX9_point_1 q747 zr_11 (zh_1003 (by omega)) h0 ?_
  refine r_iload_n E dX9_point_4 rfl 1 rfl ?_
  refine r_iload_n E dX9_point_5 rfl 2 rfl ?_
  refine r_iastore E zc_1003 za_1003 zt_1003 zo_1003 zx_1003 rfl rfl dX9_point_6 h0 ?_
  refine r_aload_n E dX9_point_7 rfl 0 rfl ?_
  refine r_gec (y := x0) E zc_11 dX9_point_8 q750 zr_11 (zh_1004 (by omega)) h0 ?_
  refine r_iload_n E dX9_point_11 rfl 1 rfl ?_
  refine r_iload_n E dX9_point_12 rfl 3 rfl ?_
  refine r_iastore E zc_1004 za_1004 zt_1004 zo_1004 zx_1004 rfl rfl dX9_point_13 h0 ?_
  refine r_aload_n E dX9_point_14 rfl 0 rfl ?_
  refine r_gec (y := x0) E zc_11 dX9_point_15 q753 zr_11 (zh_1005 (by omega)) h0 ?_
  refine r_iload_n E dX9_point_18 rfl 1 rfl ?_
  refine r_iload E dX9_point_19 4 rfl ?_
  refine r_iastore E zc_1005 za_1005 zt_1005 zo_1005 zx_1005 rfl rfl dX9_point_21 h0 ?_
  exact r_return E rfl hT dX9_point_22
theorem k_fX9_point (l : Launch) (G : zG) (x0 : Int) (x1 : Int) (x2 : Int) (x3 : Int) (x4 : Int) (h0 : 0 ≤ x0) : zCt l G yX9_point cX9_point 5 none 0 [(11, x0), (0, x1), (0, x2), (0, x3), (0, x4)] none (fX9_point x0 x1 x2 x3 x4) := zCt.of (by decide) (Nat.le_of_ble_eq_true rfl) (fun K E _ _ hN hT => w_fX9_point E hN hT x0 x1 x2 x3 x4 h0)
theorem dX9_clear_0 : decode cX9_clear 0 = .ok (.aload_n 0, 1) := by decide +kernel
theorem dX9_clear_1 : decode cX9_clear 1 = .ok (.lconst 0, 1) := by decide +kernel
theorem dX9_clear_2 : decode cX9_clear 2 = .ok (.putfield 22, 3) := by decide +kernel
theorem dX9_clear_5 : decode cX9_clear 5 = .ok (.aload_n 0, 1) := by decide +kernel
theorem dX9_clear_6 : decode cX9_clear 6 = .ok (.lconst 0, 1) := by decide +kernel
theorem dX9_clear_7 : decode cX9_clear 7 = .ok (.putfield 26, 3) := by decide +kernel
theorem dX9_clear_10 : decode cX9_clear 10 = .ok (.iconst 0, 1) := by decide +kernel
theorem dX9_clear_11 : decode cX9_clear 11 = .ok (.istore_n 1, 1) := by decide +kernel
theorem dX9_clear_12 : decode cX9_clear 12 = .ok (.iload_n 1, 1) := by decide +kernel
theorem dX9_clear_13 : decode cX9_clear 13 = .ok (.iconst 4, 1) := by decide +kernel
theorem dX9_clear_14 : decode cX9_clear 14 = .ok (.if_icmp .ge 16, 3) := by decide +kernel
theorem dX9_clear_17 : decode cX9_clear 17 = .ok (.aload_n 0, 1) := by decide +kernel
theorem dX9_clear_18 : decode cX9_clear 18 = .ok (.getfield 7, 3) := by decide +kernel
theorem dX9_clear_21 : decode cX9_clear 21 = .ok (.iload_n 1, 1) := by decide +kernel
theorem dX9_clear_22 : decode cX9_clear 22 = .ok (.iconst 0, 1) := by decide +kernel
theorem dX9_clear_23 : decode cX9_clear 23 = .ok (.iastore, 1) := by decide +kernel
theorem dX9_clear_24 : decode cX9_clear 24 = .ok (.iinc 1 1, 3) := by decide +kernel
theorem dX9_clear_27 : decode cX9_clear 27 = .ok (.goto (-15), 3) := by decide +kernel
theorem dX9_clear_30 : decode cX9_clear 30 = .ok (.iconst 0, 1) := by decide +kernel
theorem dX9_clear_31 : decode cX9_clear 31 = .ok (.istore_n 1, 1) := by decide +kernel
theorem dX9_clear_32 : decode cX9_clear 32 = .ok (.iload_n 1, 1) := by decide +kernel
theorem dX9_clear_33 : decode cX9_clear 33 = .ok (.bipush 8, 2) := by decide +kernel
theorem dX9_clear_35 : decode cX9_clear 35 = .ok (.if_icmp .ge 17, 3) := by decide +kernel
theorem dX9_clear_38 : decode cX9_clear 38 = .ok (.aload_n 0, 1) := by decide +kernel
theorem dX9_clear_39 : decode cX9_clear 39 = .ok (.iload_n 1, 1) := by decide +kernel
theorem dX9_clear_40 : decode cX9_clear 40 = .ok (.iconst 0, 1) := by decide +kernel
theorem dX9_clear_41 : decode cX9_clear 41 = .ok (.iconst 0, 1) := by decide +kernel
theorem dX9_clear_42 : decode cX9_clear 42 = .ok (.iconst 0, 1) := by decide +kernel
theorem dX9_clear_43 : decode cX9_clear 43 = .ok (.invokevirtual 29, 3) := by decide +kernel
theorem dX9_clear_46 : decode cX9_clear 46 = .ok (.iinc 1 1, 3) := by decide +kernel
theorem dX9_clear_49 : decode cX9_clear 49 = .ok (.goto (-17), 3) := by decide +kernel
theorem dX9_clear_52 : decode cX9_clear 52 = .ok (.aload_n 0, 1) := by decide +kernel
theorem dX9_clear_53 : decode cX9_clear 53 = .ok (.iconst 0, 1) := by decide +kernel
theorem dX9_clear_54 : decode cX9_clear 54 = .ok (.iconst 0, 1) := by decide +kernel
theorem dX9_clear_55 : decode cX9_clear 55 = .ok (.iconst 0, 1) := by decide +kernel
theorem dX9_clear_56 : decode cX9_clear 56 = .ok (.invokevirtual 33, 3) := by decide +kernel
theorem dX9_clear_59 : decode cX9_clear 59 = .ok (.aload_n 0, 1) := by decide +kernel
theorem dX9_clear_60 : decode cX9_clear 60 = .ok (.iconst 0, 1) := by decide +kernel
theorem dX9_clear_61 : decode cX9_clear 61 = .ok (.putfield 37, 3) := by decide +kernel
theorem dX9_clear_64 : decode cX9_clear 64 = .ok (.aload_n 0, 1) := by decide +kernel
theorem dX9_clear_65 : decode cX9_clear 65 = .ok (.iconst 0, 1) := by decide +kernel
theorem dX9_clear_66 : decode cX9_clear 66 = .ok (.putfield 41, 3) := by decide +kernel
theorem dX9_clear_69 : decode cX9_clear 69 = .ok (.return_, 1) := by decide +kernel
theorem zy_X9_clear : yX9_clear.cls ≠ "java/lang/invoke/MethodHandle" ∧ yX9_clear.cls ≠ "java/lang/invoke/VarHandle" ∧ (parseMethodDescriptor yX9_clear.desc).map (fun d => d.parameters.length) = some 0 := by decide +kernel
theorem w_fX9_clear_J52 {K : zK} (E : zE K cX9_clear "RingHouse$Registers" none 1) (hN : zNl K = 2) (hT : zTr K = none) (x0 : Int) (h0 : 0 ≤ x0) : zR K 52 [(0, 11, x0)] [] (fX9_clear_J52 x0) := by
  refine r_aload_n E dX9_clear_52 rfl 0 rfl ?_
  refine r_iconst E dX9_clear_53 (zkI (by decide) (by decide)) ?_
  refine r_iconst E dX9_clear_54 (zkI (by decide) (by decide)) ?_
  refine r_iconst E dX9_clear_55 (zkI (by decide) (by decide)) ?_
  refine r_callV E [(0, 0), (0, 0), (0, 0)] [] rfl zc_11 zr_11 (fun o _ => ⟨_, zw_X9.1 o, rfl⟩) (lw_V q2142 q2143 q2144 q236 q2145) dX9_clear_56 zy_X9_go rfl (by omega) (by decide) (Nat.le_of_ble_eq_true rfl) h0 (fun l G => k_fX9_go l G x0 0 0 0 h0) (fun _ => ?_)
  refine r_aload_n E dX9_clear_59 rfl 0 rfl ?_
  refine r_iconst E dX9_clear_60 (zkI (by decide) (by decide)) ?_
  refine r_put E zc_11 zt_1009 zo_1009 dX9_clear_61 q783 zr_11 zw_X9 zp_1009 (znb (by decide)) (zfb (by decide)) h0 ?_
  refine r_aload_n E dX9_clear_64 rfl 0 rfl ?_
  refine r_iconst E dX9_clear_65 (zkI (by decide) (by decide)) ?_
  refine r_put E zc_11 zt_1010 zo_1010 dX9_clear_66 q787 zr_11 zw_X9 zp_1010 (znb (by decide)) (zfb (by decide)) h0 ?_
  exact r_return E rfl hT dX9_clear_69
theorem w_fX9_clear_B32 {K : zK} (E : zE K cX9_clear "RingHouse$Registers" none 1) (hN : zNl K = 2) (hT : zTr K = none) (x0 : Int) (h0 : 0 ≤ x0) : ∀ r32 : Int → zX, (∀ s : Int, zR K 32 [(0, 11, x0), (1, 0, s)] [] (r32 s)) → ∀ s : Int, zR K 32 [(0, 11, x0), (1, 0, s)] [] (fX9_clear_B32 x0 r32 s) := by
  intro r32 hr32 x1
  refine r_iload_n E dX9_clear_32 rfl 1 rfl ?_
  refine r_bipush E dX9_clear_33 (by decide) (zkI (by decide) (by decide)) ?_
  refine r_icmp_ge E 52 (by decide) dX9_clear_35 (fun _ => ?_) (fun _ => ?_)
  · refine r_pick E [0] rfl ?_
    exact w_fX9_clear_J52 E hN hT x0 h0
  · refine r_aload_n E dX9_clear_38 rfl 0 rfl ?_
    refine r_iload_n E dX9_clear_39 rfl 1 rfl ?_
    refine r_iconst E dX9_clear_40 (zkI (by decide) (by decide)) ?_
    refine r_iconst E dX9_clear_41 (zkI (by decide) (by decide)) ?_
    refine r_iconst E dX9_clear_42 (zkI (by decide) (by decide)) ?_
    refine r_callV E [(0, x1), (0, 0), (0, 0), (0, 0)] [] rfl zc_11 zr_11 (fun o _ => ⟨_, zw_X9.1 o, rfl⟩) (lw_V q2138 q2139 q2140 q236 q2141) dX9_clear_43 zy_X9_point rfl (by omega) (by decide) (Nat.le_of_ble_eq_true rfl) h0 (fun l G => k_fX9_point l G x0 x1 0 0 0 h0) (fun _ => ?_)
    refine r_iinc (ls' := fun v3 => [(1, 0, v3), (0, 11, x0)]) E 1 rfl (by rw [hN]; decide) (fun _ => rfl) dX9_clear_46 (fun v3 _ => ?_)
    refine r_goto E 32 (by decide) dX9_clear_49 ?_
    refine r_pick E [1, 0] rfl ?_
    exact hr32 v3
theorem w_fX9_clear_J30 {K : zK} (E : zE K cX9_clear "RingHouse$Registers" none 1) (hN : zNl K = 2) (hT : zTr K = none) (x0 : Int) (h0 : 0 ≤ x0) : zR K 30 [(0, 11, x0)] [] (fX9_clear_J30 x0) := by
  refine r_iconst E dX9_clear_30 (zkI (by decide) (by decide)) ?_
  refine r_istore_n (ls' := [(1, 0, 0), (0, 11, x0)]) E dX9_clear_31 rfl (by rw [hN]; decide) rfl ?_
  refine r_pick E [1, 0] rfl ?_
  exact r_loop (L := fun s => [(0, 11, x0), (1, 0, s)]) (w_fX9_clear_B32 E hN hT x0 h0) zBIG 0
theorem w_fX9_clear_B12 {K : zK} (E : zE K cX9_clear "RingHouse$Registers" none 1) (hN : zNl K = 2) (hT : zTr K = none) (x0 : Int) (h0 : 0 ≤ x0) : ∀ r12 : Int → zX, (∀ s : Int, zR K 12 [(0, 11, x0), (1, 0, s)] [] (r12 s)) → ∀ s : Int, zR K 12 [(0, 11, x0), (1, 0, s)] [] (fX9_clear_B12 x0 r12 s) := by
  intro r12 hr12 x1
  refine r_iload_n E dX9_clear_12 rfl 1 rfl ?_
  refine r_iconst E dX9_clear_13 (zkI (by decide) (by decide)) ?_
  refine r_icmp_ge E 30 (by decide) dX9_clear_14 (fun _ => ?_) (fun _ => ?_)
  · refine r_pick E [0] rfl ?_
    exact w_fX9_clear_J30 E hN hT x0 h0
  · refine r_aload_n E dX9_clear_17 rfl 0 rfl ?_
    refine r_gec (y := x0) E zc_11 dX9_clear_18 q733 zr_11 (zh_1002 (by omega)) h0 ?_
    refine r_iload_n E dX9_clear_21 rfl 1 rfl ?_
    refine r_iconst E dX9_clear_22 (zkI (by decide) (by decide)) ?_
    refine r_iastore E zc_1002 za_1002 zt_1002 zo_1002 zx_1002 rfl rfl dX9_clear_23 h0 ?_
    refine r_iinc (ls' := fun v4 => [(1, 0, v4), (0, 11, x0)]) E 1 rfl (by rw [hN]; decide) (fun _ => rfl) dX9_clear_24 (fun v4 _ => ?_)
    refine r_goto E 12 (by decide) dX9_clear_27 ?_
    refine r_pick E [1, 0] rfl ?_
    exact hr12 v4
theorem w_fX9_clear {K : zK} (E : zE K cX9_clear "RingHouse$Registers" none 1) (hN : zNl K = 2) (hT : zTr K = none) (x0 : Int) (h0 : 0 ≤ x0) : zR K 0 [(0, 11, x0)] [] (fX9_clear x0) := by
  refine r_aload_n E dX9_clear_0 rfl 0 rfl ?_
  refine r_lconst (v := 0) E dX9_clear_1 (by decide) (zkJ (by decide) (by decide)) ?_
  refine r_put E zc_11 zt_1000 zo_1000 dX9_clear_2 q689 zr_11 zw_X9 zp_1000 (fun _ => rfl) (fun _ => rfl) h0 ?_
  refine r_aload_n E dX9_clear_5 rfl 0 rfl ?_
  refine r_lconst (v := 0) E dX9_clear_6 (by decide) (zkJ (by decide) (by decide)) ?_
  refine r_put E zc_11 zt_1001 zo_1001 dX9_clear_7 q714 zr_11 zw_X9 zp_1001 (fun _ => rfl) (fun _ => rfl) h0 ?_
  refine r_iconst E dX9_clear_10 (zkI (by decide) (by decide)) ?_
  refine r_istore_n (ls' := [(1, 0, 0), (0, 11, x0)]) E dX9_clear_11 rfl (by rw [hN]; decide) rfl ?_
  refine r_pick E [1, 0] rfl ?_
  exact r_loop (L := fun s => [(0, 11, x0), (1, 0, s)]) (w_fX9_clear_B12 E hN hT x0 h0) zBIG 0
theorem k_fX9_clear (l : Launch) (G : zG) (x0 : Int) (h0 : 0 ≤ x0) : zCt l G yX9_clear cX9_clear 2 none 1 [(11, x0)] none (fX9_clear x0) := zCt.of (by decide) (Nat.le_of_ble_eq_true rfl) (fun K E _ _ hN hT => w_fX9_clear E hN hT x0 h0)
theorem dX8_know_0 : decode cX8_know 0 = .ok (.aload_n 0, 1) := by decide +kernel
theorem dX8_know_1 : decode cX8_know 1 = .ok (.getfield 28, 3) := by decide +kernel
theorem dX8_know_4 : decode cX8_know 4 = .ok (.iload_n 1, 1) := by decide +kernel
theorem dX8_know_5 : decode cX8_know 5 = .ok (.aload_n 2, 1) := by decide +kernel
theorem dX8_know_6 : decode cX8_know 6 = .ok (.aastore, 1) := by decide +kernel
theorem dX8_know_7 : decode cX8_know 7 = .ok (.aload_n 0, 1) := by decide +kernel
theorem dX8_know_8 : decode cX8_know 8 = .ok (.getfield 34, 3) := by decide +kernel
theorem dX8_know_11 : decode cX8_know 11 = .ok (.iload_n 1, 1) := by decide +kernel
theorem dX8_know_12 : decode cX8_know 12 = .ok (.aaload, 1) := by decide +kernel
theorem dX8_know_13 : decode cX8_know 13 = .ok (.iconst 0, 1) := by decide +kernel
theorem dX8_know_14 : decode cX8_know 14 = .ok (.putfield 127, 3) := by decide +kernel
theorem dX8_know_17 : decode cX8_know 17 = .ok (.return_, 1) := by decide +kernel
theorem zy_X8_know : yX8_know.cls ≠ "java/lang/invoke/MethodHandle" ∧ yX8_know.cls ≠ "java/lang/invoke/VarHandle" ∧ (parseMethodDescriptor yX8_know.desc).map (fun d => d.parameters.length) = some 2 := by decide +kernel
theorem w_fX8_know {K : zK} (E : zE K cX8_know "RingHouse$Process" none 0) (hN : zNl K = 3) (hT : zTr K = none) (x0 : Int) (x1 : Int) (x2 : Int) (h0 : 0 ≤ x0) : zR K 0 [(0, 10, x0), (1, 0, x1), (2, 6, x2)] [] (fX8_know x0 x1 x2) := by
  refine r_aload_n E dX8_know_0 rfl 0 rfl ?_
  refine r_gec (y := x0) E zc_10 dX8_know_1 q910 zr_10 (zh_916 (by omega)) h0 ?_
  refine r_iload_n E dX8_know_4 rfl 1 rfl ?_
  refine r_aload_n E dX8_know_5 rfl 2 rfl ?_
  refine r_aastore E zc_916 zc_6 za_916 zt_916 zo_916 zx_916 zr_6 zw_X4 rfl rfl dX8_know_6 h0 ?_
  refine r_aload_n E dX8_know_7 rfl 0 rfl ?_
  refine r_gec (y := x0) E zc_10 dX8_know_8 q915 zr_10 (zh_917 (by omega)) h0 ?_
  refine r_iload_n E dX8_know_11 rfl 1 rfl ?_
  refine r_aaloc (y := (32 * x0 + x1)) E zc_917 za_917 zt_917 zx_917 rfl rfl (by omega) dX8_know_12 h0 (fun hi2 => ?_)
  refine r_iconst E dX8_know_13 (zkI (by decide) (by decide)) ?_
  refine r_putN E zc_13 zt_1200 zo_1200 dX8_know_14 q841 zr_13 zw_X11 zp_1200 (fun _ => rfl) (fun _ => rfl) (by omega) ?_
  exact r_return E rfl hT dX8_know_17
theorem k_fX8_know (l : Launch) (G : zG) (x0 : Int) (x1 : Int) (x2 : Int) (h0 : 0 ≤ x0) : zCt l G yX8_know cX8_know 3 none 0 [(10, x0), (0, x1), (6, x2)] none (fX8_know x0 x1 x2) := zCt.of (by decide) (Nat.le_of_ble_eq_true rfl) (fun K E _ _ hN hT => w_fX8_know E hN hT x0 x1 x2 h0)
theorem dX10_clear_0 : decode cX10_clear 0 = .ok (.aload_n 0, 1) := by decide +kernel
theorem dX10_clear_1 : decode cX10_clear 1 = .ok (.iconst 0, 1) := by decide +kernel
theorem dX10_clear_2 : decode cX10_clear 2 = .ok (.putfield 21, 3) := by decide +kernel
theorem dX10_clear_5 : decode cX10_clear 5 = .ok (.aload_n 0, 1) := by decide +kernel
theorem dX10_clear_6 : decode cX10_clear 6 = .ok (.ldc2_w 15, 3) := by decide +kernel
theorem dX10_clear_9 : decode cX10_clear 9 = .ok (.putfield 17, 3) := by decide +kernel
theorem dX10_clear_12 : decode cX10_clear 12 = .ok (.return_, 1) := by decide +kernel
theorem zy_X10_clear : yX10_clear.cls ≠ "java/lang/invoke/MethodHandle" ∧ yX10_clear.cls ≠ "java/lang/invoke/VarHandle" ∧ (parseMethodDescriptor yX10_clear.desc).map (fun d => d.parameters.length) = some 0 := by decide +kernel
theorem w_fX10_clear {K : zK} (E : zE K cX10_clear "RingHouse$Trace" none 0) (hN : zNl K = 1) (hT : zTr K = none) (x0 : Int) (h0 : 0 ≤ x0) : zR K 0 [(0, 12, x0)] [] (fX10_clear x0) := by
  refine r_aload_n E dX10_clear_0 rfl 0 rfl ?_
  refine r_iconst E dX10_clear_1 (zkI (by decide) (by decide)) ?_
  refine r_put E zc_12 zt_1101 zo_1101 dX10_clear_2 q825 zr_12 zw_X10 zp_1101 (fun _ => rfl) (fun _ => rfl) h0 ?_
  refine r_aload_n E dX10_clear_5 rfl 0 rfl ?_
  refine r_ldc2 (v := (-3750763034362895579)) E dX10_clear_6 q822 (by decide) (zkJ (by decide) (by decide)) ?_
  refine r_put E zc_12 zt_1102 zo_1102 dX10_clear_9 q827 zr_12 zw_X10 zp_1102 (fun _ => rfl) (fun _ => rfl) h0 ?_
  exact r_return E rfl hT dX10_clear_12
theorem k_fX10_clear (l : Launch) (G : zG) (x0 : Int) (h0 : 0 ≤ x0) : zCt l G yX10_clear cX10_clear 1 none 0 [(12, x0)] none (fX10_clear x0) := zCt.of (by decide) (Nat.le_of_ble_eq_true rfl) (fun K E _ _ hN hT => w_fX10_clear E hN hT x0 h0)
theorem dX8_begin_0 : decode cX8_begin 0 = .ok (.aload_n 0, 1) := by decide +kernel
theorem dX8_begin_1 : decode cX8_begin 1 = .ok (.iconst 1, 1) := by decide +kernel
theorem dX8_begin_2 : decode cX8_begin 2 = .ok (.putfield 67, 3) := by decide +kernel
theorem dX8_begin_5 : decode cX8_begin 5 = .ok (.aload_n 0, 1) := by decide +kernel
theorem dX8_begin_6 : decode cX8_begin 6 = .ok (.iconst 0, 1) := by decide +kernel
theorem dX8_begin_7 : decode cX8_begin 7 = .ok (.putfield 71, 3) := by decide +kernel
theorem dX8_begin_10 : decode cX8_begin 10 = .ok (.aload_n 0, 1) := by decide +kernel
theorem dX8_begin_11 : decode cX8_begin 11 = .ok (.iload_n 1, 1) := by decide +kernel
theorem dX8_begin_12 : decode cX8_begin 12 = .ok (.putfield 74, 3) := by decide +kernel
theorem dX8_begin_15 : decode cX8_begin 15 = .ok (.aload_n 0, 1) := by decide +kernel
theorem dX8_begin_16 : decode cX8_begin 16 = .ok (.iload_n 2, 1) := by decide +kernel
theorem dX8_begin_17 : decode cX8_begin 17 = .ok (.putfield 77, 3) := by decide +kernel
theorem dX8_begin_20 : decode cX8_begin 20 = .ok (.aload_n 0, 1) := by decide +kernel
theorem dX8_begin_21 : decode cX8_begin 21 = .ok (.iload_n 3, 1) := by decide +kernel
theorem dX8_begin_22 : decode cX8_begin 22 = .ok (.putfield 80, 3) := by decide +kernel
theorem dX8_begin_25 : decode cX8_begin 25 = .ok (.aload_n 0, 1) := by decide +kernel
theorem dX8_begin_26 : decode cX8_begin 26 = .ok (.iconst 0, 1) := by decide +kernel
theorem dX8_begin_27 : decode cX8_begin 27 = .ok (.putfield 83, 3) := by decide +kernel
theorem dX8_begin_30 : decode cX8_begin 30 = .ok (.aload_n 0, 1) := by decide +kernel
theorem dX8_begin_31 : decode cX8_begin 31 = .ok (.getfield 12, 3) := by decide +kernel
theorem dX8_begin_34 : decode cX8_begin 34 = .ok (.invokevirtual 86, 3) := by decide +kernel
theorem dX8_begin_37 : decode cX8_begin 37 = .ok (.aload_n 0, 1) := by decide +kernel
theorem dX8_begin_38 : decode cX8_begin 38 = .ok (.getfield 12, 3) := by decide +kernel
theorem dX8_begin_41 : decode cX8_begin 41 = .ok (.bipush 8, 2) := by decide +kernel
theorem dX8_begin_43 : decode cX8_begin 43 = .ok (.iload 5, 2) := by decide +kernel
theorem dX8_begin_45 : decode cX8_begin 45 = .ok (.iload 6, 2) := by decide +kernel
theorem dX8_begin_47 : decode cX8_begin 47 = .ok (.invokevirtual 89, 3) := by decide +kernel
theorem dX8_begin_50 : decode cX8_begin 50 = .ok (.aload_n 0, 1) := by decide +kernel
theorem dX8_begin_51 : decode cX8_begin 51 = .ok (.iconst 0, 1) := by decide +kernel
theorem dX8_begin_52 : decode cX8_begin 52 = .ok (.putfield 93, 3) := by decide +kernel
theorem dX8_begin_55 : decode cX8_begin 55 = .ok (.aload_n 0, 1) := by decide +kernel
theorem dX8_begin_56 : decode cX8_begin 56 = .ok (.iconst 0, 1) := by decide +kernel
theorem dX8_begin_57 : decode cX8_begin 57 = .ok (.putfield 96, 3) := by decide +kernel
theorem dX8_begin_60 : decode cX8_begin 60 = .ok (.iconst 0, 1) := by decide +kernel
theorem dX8_begin_61 : decode cX8_begin 61 = .ok (.istore 7, 2) := by decide +kernel
theorem dX8_begin_63 : decode cX8_begin 63 = .ok (.iload 7, 2) := by decide +kernel
theorem dX8_begin_65 : decode cX8_begin 65 = .ok (.aload_n 0, 1) := by decide +kernel
theorem dX8_begin_66 : decode cX8_begin 66 = .ok (.getfield 22, 3) := by decide +kernel
theorem dX8_begin_69 : decode cX8_begin 69 = .ok (.arraylength, 1) := by decide +kernel
theorem dX8_begin_70 : decode cX8_begin 70 = .ok (.if_icmp .ge 17, 3) := by decide +kernel
theorem dX8_begin_73 : decode cX8_begin 73 = .ok (.aload_n 0, 1) := by decide +kernel
theorem dX8_begin_74 : decode cX8_begin 74 = .ok (.getfield 22, 3) := by decide +kernel
theorem dX8_begin_77 : decode cX8_begin 77 = .ok (.iload 7, 2) := by decide +kernel
theorem dX8_begin_79 : decode cX8_begin 79 = .ok (.lconst 0, 1) := by decide +kernel
theorem dX8_begin_80 : decode cX8_begin 80 = .ok (.lastore, 1) := by decide +kernel
theorem dX8_begin_81 : decode cX8_begin 81 = .ok (.iinc 7 1, 3) := by decide +kernel
theorem dX8_begin_84 : decode cX8_begin 84 = .ok (.goto (-21), 3) := by decide +kernel
theorem dX8_begin_87 : decode cX8_begin 87 = .ok (.iconst 0, 1) := by decide +kernel
theorem dX8_begin_88 : decode cX8_begin 88 = .ok (.istore 7, 2) := by decide +kernel
theorem dX8_begin_90 : decode cX8_begin 90 = .ok (.iload 7, 2) := by decide +kernel
theorem dX8_begin_92 : decode cX8_begin 92 = .ok (.bipush 32, 2) := by decide +kernel
theorem dX8_begin_94 : decode cX8_begin 94 = .ok (.if_icmp .ge 23, 3) := by decide +kernel
theorem dX8_begin_97 : decode cX8_begin 97 = .ok (.aload_n 0, 1) := by decide +kernel
theorem dX8_begin_98 : decode cX8_begin 98 = .ok (.getfield 28, 3) := by decide +kernel
theorem dX8_begin_101 : decode cX8_begin 101 = .ok (.iload 7, 2) := by decide +kernel
theorem dX8_begin_103 : decode cX8_begin 103 = .ok (.aconst_null, 1) := by decide +kernel
theorem dX8_begin_104 : decode cX8_begin 104 = .ok (.aastore, 1) := by decide +kernel
theorem dX8_begin_105 : decode cX8_begin 105 = .ok (.aload_n 0, 1) := by decide +kernel
theorem dX8_begin_106 : decode cX8_begin 106 = .ok (.iload 7, 2) := by decide +kernel
theorem dX8_begin_108 : decode cX8_begin 108 = .ok (.invokevirtual 99, 3) := by decide +kernel
theorem dX8_begin_111 : decode cX8_begin 111 = .ok (.iinc 7 1, 3) := by decide +kernel
theorem dX8_begin_114 : decode cX8_begin 114 = .ok (.goto (-24), 3) := by decide +kernel
theorem dX8_begin_117 : decode cX8_begin 117 = .ok (.aload_n 0, 1) := by decide +kernel
theorem dX8_begin_118 : decode cX8_begin 118 = .ok (.bipush 8, 2) := by decide +kernel
theorem dX8_begin_120 : decode cX8_begin 120 = .ok (.aload 4, 2) := by decide +kernel
theorem dX8_begin_122 : decode cX8_begin 122 = .ok (.invokevirtual 103, 3) := by decide +kernel
theorem dX8_begin_125 : decode cX8_begin 125 = .ok (.aload_n 0, 1) := by decide +kernel
theorem dX8_begin_126 : decode cX8_begin 126 = .ok (.aload_n 0, 1) := by decide +kernel
theorem dX8_begin_127 : decode cX8_begin 127 = .ok (.getfield 58, 3) := by decide +kernel
theorem dX8_begin_130 : decode cX8_begin 130 = .ok (.getfield 107, 3) := by decide +kernel
theorem dX8_begin_133 : decode cX8_begin 133 = .ok (.putfield 113, 3) := by decide +kernel
theorem dX8_begin_136 : decode cX8_begin 136 = .ok (.iconst 0, 1) := by decide +kernel
theorem dX8_begin_137 : decode cX8_begin 137 = .ok (.istore 7, 2) := by decide +kernel
theorem dX8_begin_139 : decode cX8_begin 139 = .ok (.iload 7, 2) := by decide +kernel
theorem dX8_begin_141 : decode cX8_begin 141 = .ok (.iconst 4, 1) := by decide +kernel
theorem dX8_begin_142 : decode cX8_begin 142 = .ok (.if_icmp .ge 17, 3) := by decide +kernel
theorem dX8_begin_145 : decode cX8_begin 145 = .ok (.aload_n 0, 1) := by decide +kernel
theorem dX8_begin_146 : decode cX8_begin 146 = .ok (.getfield 45, 3) := by decide +kernel
theorem dX8_begin_149 : decode cX8_begin 149 = .ok (.iload 7, 2) := by decide +kernel
theorem dX8_begin_151 : decode cX8_begin 151 = .ok (.aconst_null, 1) := by decide +kernel
theorem dX8_begin_152 : decode cX8_begin 152 = .ok (.aastore, 1) := by decide +kernel
theorem dX8_begin_153 : decode cX8_begin 153 = .ok (.iinc 7 1, 3) := by decide +kernel
theorem dX8_begin_156 : decode cX8_begin 156 = .ok (.goto (-17), 3) := by decide +kernel
theorem dX8_begin_159 : decode cX8_begin 159 = .ok (.aload_n 0, 1) := by decide +kernel
theorem dX8_begin_160 : decode cX8_begin 160 = .ok (.iconst 0, 1) := by decide +kernel
theorem dX8_begin_161 : decode cX8_begin 161 = .ok (.putfield 116, 3) := by decide +kernel
theorem dX8_begin_164 : decode cX8_begin 164 = .ok (.aload_n 0, 1) := by decide +kernel
theorem dX8_begin_165 : decode cX8_begin 165 = .ok (.iconst 0, 1) := by decide +kernel
theorem dX8_begin_166 : decode cX8_begin 166 = .ok (.putfield 119, 3) := by decide +kernel
theorem dX8_begin_169 : decode cX8_begin 169 = .ok (.aload_n 0, 1) := by decide +kernel
theorem dX8_begin_170 : decode cX8_begin 170 = .ok (.getfield 54, 3) := by decide +kernel
theorem dX8_begin_173 : decode cX8_begin 173 = .ok (.invokevirtual 122, 3) := by decide +kernel
theorem dX8_begin_176 : decode cX8_begin 176 = .ok (.return_, 1) := by decide +kernel
theorem zy_X8_begin : yX8_begin.cls ≠ "java/lang/invoke/MethodHandle" ∧ yX8_begin.cls ≠ "java/lang/invoke/VarHandle" ∧ (parseMethodDescriptor yX8_begin.desc).map (fun d => d.parameters.length) = some 6 := by decide +kernel
theorem w_fX8_begin_J159 {K : zK} (E : zE K cX8_begin "RingHouse$Process" none 2) (hN : zNl K = 8) (hT : zTr K = none) (x0 : Int) (h0 : 0 ≤ x0) : zR K 159 [(0, 10, x0)] [] (fX8_begin_J159 x0) := by
  refine r_aload_n E dX8_begin_159 rfl 0 rfl ?_
  refine r_iconst E dX8_begin_160 (zkI (by decide) (by decide)) ?_
  refine r_put E zc_10 zt_923 zo_923 dX8_begin_161 q937 zr_10 zw_X8 zp_923 (fun _ => rfl) (fun _ => rfl) h0 ?_
  refine r_aload_n E dX8_begin_164 rfl 0 rfl ?_
  refine r_iconst E dX8_begin_165 (zkI (by decide) (by decide)) ?_
  refine r_put E zc_10 zt_924 zo_924 dX8_begin_166 q939 zr_10 zw_X8 zp_924 (fun _ => rfl) (fun _ => rfl) h0 ?_
  refine r_aload_n E dX8_begin_169 rfl 0 rfl ?_
  refine r_gec (y := x0) E zc_10 dX8_begin_170 q942 zr_10 (zh_925 (by omega)) h0 ?_
  refine r_callV E [] [] rfl zc_12 zr_12 (fun o _ => ⟨_, zw_X10.1 o, rfl⟩) (lw_V q2151 q2152 q2153 q237 q2154) dX8_begin_173 zy_X10_clear rfl (by omega) (by decide) (Nat.le_of_ble_eq_true rfl) h0 (fun l G => k_fX10_clear l G x0 h0) (fun _ => ?_)
  exact r_return E rfl hT dX8_begin_176
theorem w_fX8_begin_B139 {K : zK} (E : zE K cX8_begin "RingHouse$Process" none 2) (hN : zNl K = 8) (hT : zTr K = none) (x0 : Int) (h0 : 0 ≤ x0) : ∀ r139 : Int → zX, (∀ s : Int, zR K 139 [(0, 10, x0), (7, 0, s)] [] (r139 s)) → ∀ s : Int, zR K 139 [(0, 10, x0), (7, 0, s)] [] (fX8_begin_B139 x0 r139 s) := by
  intro r139 hr139 x7
  refine r_iload E dX8_begin_139 1 rfl ?_
  refine r_iconst E dX8_begin_141 (zkI (by decide) (by decide)) ?_
  refine r_icmp_ge E 159 (by decide) dX8_begin_142 (fun _ => ?_) (fun _ => ?_)
  · refine r_pick E [0] rfl ?_
    exact w_fX8_begin_J159 E hN hT x0 h0
  · refine r_aload_n E dX8_begin_145 rfl 0 rfl ?_
    refine r_gec (y := x0) E zc_10 dX8_begin_146 q932 zr_10 (zh_921 (by omega)) h0 ?_
    refine r_iload E dX8_begin_149 1 rfl ?_
    refine r_null E 4 dX8_begin_151 ?_
    refine r_aastore E zc_921 zc_6 za_921 zt_921 zo_921 zx_921 zr_6 zw_X4 rfl rfl dX8_begin_152 h0 ?_
    refine r_iinc (ls' := fun v5 => [(7, 0, v5), (0, 10, x0)]) E 1 rfl (by rw [hN]; decide) (fun _ => rfl) dX8_begin_153 (fun v5 _ => ?_)
    refine r_goto E 139 (by decide) dX8_begin_156 ?_
    refine r_pick E [1, 0] rfl ?_
    exact hr139 v5
theorem w_fX8_begin_J117 {K : zK} (E : zE K cX8_begin "RingHouse$Process" none 2) (hN : zNl K = 8) (hT : zTr K = none) (x0 : Int) (x4 : Int) (h0 : 0 ≤ x0) : zR K 117 [(0, 10, x0), (4, 6, x4)] [] (fX8_begin_J117 x0 x4) := by
  refine r_aload_n E dX8_begin_117 rfl 0 rfl ?_
  refine r_bipush E dX8_begin_118 (by decide) (zkI (by decide) (by decide)) ?_
  refine r_aload E dX8_begin_120 1 rfl ?_
  refine r_callV E [(0, 8), (6, x4)] [] rfl zc_10 zr_10 (fun o _ => ⟨_, zw_X8.1 o, rfl⟩) (lw_V q2147 q2149 qs9 q235 q2150) dX8_begin_122 zy_X8_know rfl (by omega) (by decide) (Nat.le_of_ble_eq_true rfl) h0 (fun l G => k_fX8_know l G x0 8 x4 h0) (fun _ => ?_)
  refine r_aload_n E dX8_begin_125 rfl 0 rfl ?_
  refine r_aload_n E dX8_begin_126 rfl 0 rfl ?_
  refine r_gec (y := 0) E zc_10 dX8_begin_127 q854 zr_10 (zh_900 (by omega)) h0 ?_
  refine r_gecN (y := 0) E zc_3 dX8_begin_130 q597 zr_3 (zh_205 (by decide)) (by decide) ?_
  refine r_put E zc_10 zt_920 zo_920 dX8_begin_133 q930 zr_10 zw_X8 zp_920 (fun _ => rfl) (fun G => zfo G) h0 ?_
  refine r_iconst E dX8_begin_136 (zkI (by decide) (by decide)) ?_
  refine r_istore (ls' := [(7, 0, 0), (0, 10, x0), (4, 6, x4)]) E dX8_begin_137 (by rw [hN]; decide) rfl ?_
  refine r_pick E [1, 0] rfl ?_
  exact r_loop (L := fun s => [(0, 10, x0), (7, 0, s)]) (w_fX8_begin_B139 E hN hT x0 h0) zBIG 0
theorem w_fX8_begin_B90 {K : zK} (E : zE K cX8_begin "RingHouse$Process" none 2) (hN : zNl K = 8) (hT : zTr K = none) (x0 : Int) (x4 : Int) (h0 : 0 ≤ x0) : ∀ r90 : Int → zX, (∀ s : Int, zR K 90 [(0, 10, x0), (4, 6, x4), (7, 0, s)] [] (r90 s)) → ∀ s : Int, zR K 90 [(0, 10, x0), (4, 6, x4), (7, 0, s)] [] (fX8_begin_B90 x0 x4 r90 s) := by
  intro r90 hr90 x7
  refine r_iload E dX8_begin_90 2 rfl ?_
  refine r_bipush E dX8_begin_92 (by decide) (zkI (by decide) (by decide)) ?_
  refine r_icmp_ge E 117 (by decide) dX8_begin_94 (fun _ => ?_) (fun _ => ?_)
  · refine r_pick E [0, 1] rfl ?_
    exact w_fX8_begin_J117 E hN hT x0 x4 h0
  · refine r_aload_n E dX8_begin_97 rfl 0 rfl ?_
    refine r_gec (y := x0) E zc_10 dX8_begin_98 q910 zr_10 (zh_916 (by omega)) h0 ?_
    refine r_iload E dX8_begin_101 2 rfl ?_
    refine r_null E 4 dX8_begin_103 ?_
    refine r_aastore E zc_916 zc_6 za_916 zt_916 zo_916 zx_916 zr_6 zw_X4 rfl rfl dX8_begin_104 h0 ?_
    refine r_aload_n E dX8_begin_105 rfl 0 rfl ?_
    refine r_iload E dX8_begin_106 2 rfl ?_
    refine r_callV E [(0, x7)] [] rfl zc_10 zr_10 (fun o _ => ⟨_, zw_X8.1 o, rfl⟩) (lw_V q2052 q2054 qs7 q235 q2055) dX8_begin_108 zy_X8_unbind rfl (by omega) (by decide) (Nat.le_of_ble_eq_true rfl) h0 (fun l G => k_fX8_unbind l G x0 x7 h0) (fun _ => ?_)
    refine r_iinc (ls' := fun v7 => [(7, 0, v7), (0, 10, x0), (4, 6, x4)]) E 2 rfl (by rw [hN]; decide) (fun _ => rfl) dX8_begin_111 (fun v7 _ => ?_)
    refine r_goto E 90 (by decide) dX8_begin_114 ?_
    refine r_pick E [1, 2, 0] rfl ?_
    exact hr90 v7
theorem w_fX8_begin_J87 {K : zK} (E : zE K cX8_begin "RingHouse$Process" none 2) (hN : zNl K = 8) (hT : zTr K = none) (x0 : Int) (x4 : Int) (h0 : 0 ≤ x0) : zR K 87 [(0, 10, x0), (4, 6, x4)] [] (fX8_begin_J87 x0 x4) := by
  refine r_iconst E dX8_begin_87 (zkI (by decide) (by decide)) ?_
  refine r_istore (ls' := [(7, 0, 0), (0, 10, x0), (4, 6, x4)]) E dX8_begin_88 (by rw [hN]; decide) rfl ?_
  refine r_pick E [1, 2, 0] rfl ?_
  exact r_loop (L := fun s => [(0, 10, x0), (4, 6, x4), (7, 0, s)]) (w_fX8_begin_B90 E hN hT x0 x4 h0) zBIG 0
theorem w_fX8_begin_B63 {K : zK} (E : zE K cX8_begin "RingHouse$Process" none 2) (hN : zNl K = 8) (hT : zTr K = none) (x0 : Int) (x4 : Int) (h0 : 0 ≤ x0) : ∀ r63 : Int → zX, (∀ s : Int, zR K 63 [(0, 10, x0), (4, 6, x4), (7, 0, s)] [] (r63 s)) → ∀ s : Int, zR K 63 [(0, 10, x0), (4, 6, x4), (7, 0, s)] [] (fX8_begin_B63 x0 x4 r63 s) := by
  intro r63 hr63 x7
  refine r_iload E dX8_begin_63 2 rfl ?_
  refine r_aload_n E dX8_begin_65 rfl 0 rfl ?_
  refine r_gec (y := x0) E zc_10 dX8_begin_66 q907 zr_10 (zh_915 (by omega)) h0 ?_
  refine r_alen (n := 512) E zc_915 za_915 zx_915 rfl (zkI (by decide) (by decide)) dX8_begin_69 h0 ?_
  refine r_icmp_ge E 87 (by decide) dX8_begin_70 (fun _ => ?_) (fun _ => ?_)
  · refine r_pick E [0, 1] rfl ?_
    exact w_fX8_begin_J87 E hN hT x0 x4 h0
  · refine r_aload_n E dX8_begin_73 rfl 0 rfl ?_
    refine r_gec (y := x0) E zc_10 dX8_begin_74 q907 zr_10 (zh_915 (by omega)) h0 ?_
    refine r_iload E dX8_begin_77 2 rfl ?_
    refine r_lconst (v := 0) E dX8_begin_79 (by decide) (zkJ (by decide) (by decide)) ?_
    refine r_lastore E zc_915 za_915 zt_915 zo_915 zx_915 rfl rfl dX8_begin_80 h0 ?_
    refine r_iinc (ls' := fun v8 => [(7, 0, v8), (0, 10, x0), (4, 6, x4)]) E 2 rfl (by rw [hN]; decide) (fun _ => rfl) dX8_begin_81 (fun v8 _ => ?_)
    refine r_goto E 63 (by decide) dX8_begin_84 ?_
    refine r_pick E [1, 2, 0] rfl ?_
    exact hr63 v8
theorem w_fX8_begin {K : zK} (E : zE K cX8_begin "RingHouse$Process" none 2) (hN : zNl K = 8) (hT : zTr K = none) (x0 : Int) (x1 : Int) (x2 : Int) (x3 : Int) (x4 : Int) (x5 : Int) (x6 : Int) (h0 : 0 ≤ x0) : zR K 0 [(0, 10, x0), (1, 0, x1), (2, 0, x2), (3, 0, x3), (4, 6, x4), (5, 0, x5), (6, 0, x6)] [] (fX8_begin x0 x1 x2 x3 x4 x5 x6) := by
  refine r_aload_n E dX8_begin_0 rfl 0 rfl ?_
  refine r_iconst E dX8_begin_1 (zkI (by decide) (by decide)) ?_
  refine r_put E zc_10 zt_902 zo_902 dX8_begin_2 q858 zr_10 zw_X8 zp_902 (znb (by decide)) (zfb (by decide)) h0 ?_
  refine r_aload_n E dX8_begin_5 rfl 0 rfl ?_
  refine r_iconst E dX8_begin_6 (zkI (by decide) (by decide)) ?_
  refine r_put E zc_10 zt_903 zo_903 dX8_begin_7 q862 zr_10 zw_X8 zp_903 (fun _ => rfl) (fun _ => rfl) h0 ?_
  refine r_aload_n E dX8_begin_10 rfl 0 rfl ?_
  refine r_iload_n E dX8_begin_11 rfl 1 rfl ?_
  refine r_put E zc_10 zt_904 zo_904 dX8_begin_12 q866 zr_10 zw_X8 zp_904 (fun _ => rfl) (fun _ => rfl) h0 ?_
  refine r_aload_n E dX8_begin_15 rfl 0 rfl ?_
  refine r_iload_n E dX8_begin_16 rfl 2 rfl ?_
  refine r_put E zc_10 zt_905 zo_905 dX8_begin_17 q872 zr_10 zw_X8 zp_905 (fun _ => rfl) (fun _ => rfl) h0 ?_
  refine r_aload_n E dX8_begin_20 rfl 0 rfl ?_
  refine r_iload_n E dX8_begin_21 rfl 3 rfl ?_
  refine r_put E zc_10 zt_906 zo_906 dX8_begin_22 q882 zr_10 zw_X8 zp_906 (fun _ => rfl) (fun _ => rfl) h0 ?_
  refine r_aload_n E dX8_begin_25 rfl 0 rfl ?_
  refine r_iconst E dX8_begin_26 (zkI (by decide) (by decide)) ?_
  refine r_put E zc_10 zt_907 zo_907 dX8_begin_27 q887 zr_10 zw_X8 zp_907 (fun _ => rfl) (fun _ => rfl) h0 ?_
  refine r_aload_n E dX8_begin_30 rfl 0 rfl ?_
  refine r_gec (y := x0) E zc_10 dX8_begin_31 q890 zr_10 (zh_908 (by omega)) h0 ?_
  refine r_callV E [] [] rfl zc_11 zr_11 (fun o _ => ⟨_, zw_X9.1 o, rfl⟩) (lw_V q2134 q2135 q2136 q236 q2137) dX8_begin_34 zy_X9_clear rfl (by omega) (by decide) (Nat.le_of_ble_eq_true rfl) h0 (fun l G => k_fX9_clear l G x0 h0) (fun _ => ?_)
  refine r_aload_n E dX8_begin_37 rfl 0 rfl ?_
  refine r_gec (y := x0) E zc_10 dX8_begin_38 q890 zr_10 (zh_908 (by omega)) h0 ?_
  refine r_bipush E dX8_begin_41 (by decide) (zkI (by decide) (by decide)) ?_
  refine r_iload E dX8_begin_43 5 rfl ?_
  refine r_iload E dX8_begin_45 6 rfl ?_
  refine r_callV E [(0, 8), (0, x5), (0, x6)] [] rfl zc_11 zr_11 (fun o _ => ⟨_, zw_X9.1 o, rfl⟩) (lw_V q2146 q2143 q2144 q236 q2145) dX8_begin_47 zy_X9_go rfl (by omega) (by decide) (Nat.le_of_ble_eq_true rfl) h0 (fun l G => k_fX9_go l G x0 8 x5 x6 h0) (fun _ => ?_)
  refine r_aload_n E dX8_begin_50 rfl 0 rfl ?_
  refine r_iconst E dX8_begin_51 (zkI (by decide) (by decide)) ?_
  refine r_put E zc_10 zt_910 zo_910 dX8_begin_52 q896 zr_10 zw_X8 zp_910 (fun _ => rfl) (fun _ => rfl) h0 ?_
  refine r_aload_n E dX8_begin_55 rfl 0 rfl ?_
  refine r_iconst E dX8_begin_56 (zkI (by decide) (by decide)) ?_
  refine r_put E zc_10 zt_911 zo_911 dX8_begin_57 q899 zr_10 zw_X8 zp_911 (znb (by decide)) (zfb (by decide)) h0 ?_
  refine r_iconst E dX8_begin_60 (zkI (by decide) (by decide)) ?_
  refine r_istore (ls' := [(7, 0, 0), (0, 10, x0), (1, 0, x1), (2, 0, x2), (3, 0, x3), (4, 6, x4), (5, 0, x5), (6, 0, x6)]) E dX8_begin_61 (by rw [hN]; decide) rfl ?_
  refine r_pick E [1, 5, 0] rfl ?_
  exact r_loop (L := fun s => [(0, 10, x0), (4, 6, x4), (7, 0, s)]) (w_fX8_begin_B63 E hN hT x0 x4 h0) zBIG 0
theorem k_fX8_begin (l : Launch) (G : zG) (x0 : Int) (x1 : Int) (x2 : Int) (x3 : Int) (x4 : Int) (x5 : Int) (x6 : Int) (h0 : 0 ≤ x0) : zCt l G yX8_begin cX8_begin 8 none 2 [(10, x0), (0, x1), (0, x2), (0, x3), (6, x4), (0, x5), (0, x6)] none (fX8_begin x0 x1 x2 x3 x4 x5 x6) := zCt.of (by decide) (Nat.le_of_ble_eq_true rfl) (fun K E _ _ hN hT => w_fX8_begin E hN hT x0 x1 x2 x3 x4 x5 x6 h0)
theorem dX0_login_0 : decode cX0_login 0 = .ok (.aload_n 0, 1) := by decide +kernel
theorem dX0_login_1 : decode cX0_login 1 = .ok (.getfield 42, 3) := by decide +kernel
theorem dX0_login_4 : decode cX0_login 4 = .ok (.iload 4, 2) := by decide +kernel
theorem dX0_login_6 : decode cX0_login 6 = .ok (.invokevirtual 191, 3) := by decide +kernel
theorem dX0_login_9 : decode cX0_login 9 = .ok (.astore 7, 2) := by decide +kernel
theorem dX0_login_11 : decode cX0_login 11 = .ok (.iload_n 1, 1) := by decide +kernel
theorem dX0_login_12 : decode cX0_login 12 = .ok (.i2l, 1) := by decide +kernel
theorem dX0_login_13 : decode cX0_login 13 = .ok (.lconst 0, 1) := by decide +kernel
theorem dX0_login_14 : decode cX0_login 14 = .ok (.ldc2_w 281, 3) := by decide +kernel
theorem dX0_login_17 : decode cX0_login 17 = .ok (.invokestatic 17, 3) := by decide +kernel
theorem dX0_login_20 : decode cX0_login 20 = .ok (.ifCond .eq 50, 3) := by decide +kernel
theorem dX0_login_23 : decode cX0_login 23 = .ok (.iload_n 2, 1) := by decide +kernel
theorem dX0_login_24 : decode cX0_login 24 = .ok (.i2l, 1) := by decide +kernel
theorem dX0_login_25 : decode cX0_login 25 = .ok (.lconst 0, 1) := by decide +kernel
theorem dX0_login_26 : decode cX0_login 26 = .ok (.ldc2_w 25, 3) := by decide +kernel
theorem dX0_login_29 : decode cX0_login 29 = .ok (.invokestatic 17, 3) := by decide +kernel
theorem dX0_login_32 : decode cX0_login 32 = .ok (.ifCond .eq 38, 3) := by decide +kernel
theorem dX0_login_35 : decode cX0_login 35 = .ok (.iload_n 3, 1) := by decide +kernel
theorem dX0_login_36 : decode cX0_login 36 = .ok (.i2l, 1) := by decide +kernel
theorem dX0_login_37 : decode cX0_login 37 = .ok (.invokestatic 122, 3) := by decide +kernel
theorem dX0_login_40 : decode cX0_login 40 = .ok (.ifCond .eq 30, 3) := by decide +kernel
theorem dX0_login_43 : decode cX0_login 43 = .ok (.aload 7, 2) := by decide +kernel
theorem dX0_login_45 : decode cX0_login 45 = .ok (.ifnull 25, 3) := by decide +kernel
theorem dX0_login_48 : decode cX0_login 48 = .ok (.iload 5, 2) := by decide +kernel
theorem dX0_login_50 : decode cX0_login 50 = .ok (.i2l, 1) := by decide +kernel
theorem dX0_login_51 : decode cX0_login 51 = .ok (.invokestatic 323, 3) := by decide +kernel
theorem dX0_login_54 : decode cX0_login 54 = .ok (.ifCond .eq 16, 3) := by decide +kernel
theorem dX0_login_57 : decode cX0_login 57 = .ok (.iload 6, 2) := by decide +kernel
theorem dX0_login_59 : decode cX0_login 59 = .ok (.i2l, 1) := by decide +kernel
theorem dX0_login_60 : decode cX0_login 60 = .ok (.lconst 0, 1) := by decide +kernel
theorem dX0_login_61 : decode cX0_login 61 = .ok (.ldc2_w 25, 3) := by decide +kernel
theorem dX0_login_64 : decode cX0_login 64 = .ok (.invokestatic 17, 3) := by decide +kernel
theorem dX0_login_67 : decode cX0_login 67 = .ok (.ifCond .ne 6, 3) := by decide +kernel
theorem dX0_login_70 : decode cX0_login 70 = .ok (.bipush (-8), 2) := by decide +kernel
theorem dX0_login_72 : decode cX0_login 72 = .ok (.ireturn, 1) := by decide +kernel
theorem dX0_login_73 : decode cX0_login 73 = .ok (.iconst 0, 1) := by decide +kernel
theorem dX0_login_74 : decode cX0_login 74 = .ok (.istore 8, 2) := by decide +kernel
theorem dX0_login_76 : decode cX0_login 76 = .ok (.iload 8, 2) := by decide +kernel
theorem dX0_login_78 : decode cX0_login 78 = .ok (.bipush 8, 2) := by decide +kernel
theorem dX0_login_80 : decode cX0_login 80 = .ok (.if_icmp .ge 44, 3) := by decide +kernel
theorem dX0_login_83 : decode cX0_login 83 = .ok (.aload_n 0, 1) := by decide +kernel
theorem dX0_login_84 : decode cX0_login 84 = .ok (.getfield 48, 3) := by decide +kernel
theorem dX0_login_87 : decode cX0_login 87 = .ok (.iload 8, 2) := by decide +kernel
theorem dX0_login_89 : decode cX0_login 89 = .ok (.aaload, 1) := by decide +kernel
theorem dX0_login_90 : decode cX0_login 90 = .ok (.getfield 111, 3) := by decide +kernel
theorem dX0_login_93 : decode cX0_login 93 = .ok (.ifCond .ne 25, 3) := by decide +kernel
theorem dX0_login_96 : decode cX0_login 96 = .ok (.aload_n 0, 1) := by decide +kernel
theorem dX0_login_97 : decode cX0_login 97 = .ok (.getfield 48, 3) := by decide +kernel
theorem dX0_login_100 : decode cX0_login 100 = .ok (.iload 8, 2) := by decide +kernel
theorem dX0_login_102 : decode cX0_login 102 = .ok (.aaload, 1) := by decide +kernel
theorem dX0_login_103 : decode cX0_login 103 = .ok (.iload_n 1, 1) := by decide +kernel
theorem dX0_login_104 : decode cX0_login 104 = .ok (.iload_n 2, 1) := by decide +kernel
theorem dX0_login_105 : decode cX0_login 105 = .ok (.iload_n 3, 1) := by decide +kernel
theorem dX0_login_106 : decode cX0_login 106 = .ok (.aload 7, 2) := by decide +kernel
theorem dX0_login_108 : decode cX0_login 108 = .ok (.iload 5, 2) := by decide +kernel
theorem dX0_login_110 : decode cX0_login 110 = .ok (.iload 6, 2) := by decide +kernel
theorem dX0_login_112 : decode cX0_login 112 = .ok (.invokevirtual 326, 3) := by decide +kernel
theorem dX0_login_115 : decode cX0_login 115 = .ok (.iload 8, 2) := by decide +kernel
theorem dX0_login_117 : decode cX0_login 117 = .ok (.ireturn, 1) := by decide +kernel
theorem dX0_login_118 : decode cX0_login 118 = .ok (.iinc 8 1, 3) := by decide +kernel
theorem dX0_login_121 : decode cX0_login 121 = .ok (.goto (-45), 3) := by decide +kernel
theorem dX0_login_124 : decode cX0_login 124 = .ok (.bipush (-5), 2) := by decide +kernel
theorem dX0_login_126 : decode cX0_login 126 = .ok (.ireturn, 1) := by decide +kernel
theorem zy_X0_login : yX0_login.cls ≠ "java/lang/invoke/MethodHandle" ∧ yX0_login.cls ≠ "java/lang/invoke/VarHandle" ∧ (parseMethodDescriptor yX0_login.desc).map (fun d => d.parameters.length) = some 6 := by decide +kernel
theorem w_fX0_login_J96 {K : zK} (E : zE K cX0_login "RingHouse" (some .int) 3) (hN : zNl K = 9) (hT : zTr K = (some 0)) (x1 : Int) (x2 : Int) (x3 : Int) (x5 : Int) (x6 : Int) (x7 : Int) (x8 : Int) : zR K 96 [(0, 2, 0), (1, 0, x1), (2, 0, x2), (3, 0, x3), (5, 0, x5), (6, 0, x6), (7, 6, x7), (8, 0, x8)] [] (fX0_login_J96 x1 x2 x3 x5 x6 x7 x8) := by
  refine r_aload_n E dX0_login_96 rfl 0 rfl ?_
  refine r_gec (y := 0) E zc_2 dX0_login_97 q1791 zr_2 (zh_101 (by decide)) (by decide) ?_
  refine r_iload E dX0_login_100 7 rfl ?_
  refine r_aaloc (y := x8) E zc_101 za_101 zt_101 zx_101 rfl rfl (by omega) dX0_login_102 (by decide) (fun hi13 => ?_)
  refine r_iload_n E dX0_login_103 rfl 1 rfl ?_
  refine r_iload_n E dX0_login_104 rfl 2 rfl ?_
  refine r_iload_n E dX0_login_105 rfl 3 rfl ?_
  refine r_aload E dX0_login_106 6 rfl ?_
  refine r_iload E dX0_login_108 4 rfl ?_
  refine r_iload E dX0_login_110 5 rfl ?_
  refine r_callV E [(0, x1), (0, x2), (0, x3), (6, x7), (0, x5), (0, x6)] [] rfl zc_10 zr_10 (fun o _ => ⟨_, zw_X8.1 o, rfl⟩) (lw_V q2130 q2131 q2132 q235 q2133) dX0_login_112 zy_X8_begin rfl (by omega) (by decide) (Nat.le_of_ble_eq_true rfl) hi13 (fun l G => k_fX8_begin l G x8 x1 x2 x3 x7 x5 x6 hi13) (fun _ => ?_)
  refine r_iload E dX0_login_115 7 rfl ?_
  exact r_ireturn E rfl hT dX0_login_117
theorem w_fX0_login_B76 {K : zK} (E : zE K cX0_login "RingHouse" (some .int) 3) (hN : zNl K = 9) (hT : zTr K = (some 0)) (x1 : Int) (x2 : Int) (x3 : Int) (x5 : Int) (x6 : Int) (x7 : Int) : ∀ r76 : Int → zX, (∀ s : Int, zR K 76 [(0, 2, 0), (1, 0, x1), (2, 0, x2), (3, 0, x3), (5, 0, x5), (6, 0, x6), (7, 6, x7), (8, 0, s)] [] (r76 s)) → ∀ s : Int, zR K 76 [(0, 2, 0), (1, 0, x1), (2, 0, x2), (3, 0, x3), (5, 0, x5), (6, 0, x6), (7, 6, x7), (8, 0, s)] [] (fX0_login_B76 x1 x2 x3 x5 x6 x7 r76 s) := by
  intro r76 hr76 x8
  refine r_iload E dX0_login_76 7 rfl ?_
  refine r_bipush E dX0_login_78 (by decide) (zkI (by decide) (by decide)) ?_
  refine r_icmp_ge E 124 (by decide) dX0_login_80 (fun _ => ?_) (fun _ => ?_)
  · refine r_bipush E dX0_login_124 (by decide) (zkI (by decide) (by decide)) ?_
    exact r_ireturn E rfl hT dX0_login_126
  · refine r_aload_n E dX0_login_83 rfl 0 rfl ?_
    refine r_gec (y := 0) E zc_2 dX0_login_84 q1791 zr_2 (zh_101 (by decide)) (by decide) ?_
    refine r_iload E dX0_login_87 7 rfl ?_
    refine r_aaloc (y := x8) E zc_101 za_101 zt_101 zx_101 rfl rfl (by omega) dX0_login_89 (by decide) (fun hi9 => ?_)
    refine r_getN E zc_10 zt_902 dX0_login_90 q861 zr_10 (zg_902 _) hi9 (fun v10 => ?_)
    refine r_if_ne E 118 (by decide) dX0_login_93 (fun _ => ?_) (fun _ => ?_)
    · refine r_iinc (ls' := fun v11 => [(8, 0, v11), (0, 2, 0), (1, 0, x1), (2, 0, x2), (3, 0, x3), (5, 0, x5), (6, 0, x6), (7, 6, x7)]) E 7 rfl (by rw [hN]; decide) (fun _ => rfl) dX0_login_118 (fun v11 _ => ?_)
      refine r_goto E 76 (by decide) dX0_login_121 ?_
      refine r_pick E [1, 2, 3, 4, 5, 6, 7, 0] rfl ?_
      exact hr76 v11
    · exact w_fX0_login_J96 E hN hT x1 x2 x3 x5 x6 x7 x8
theorem w_fX0_login {K : zK} (E : zE K cX0_login "RingHouse" (some .int) 3) (hN : zNl K = 9) (hT : zTr K = (some 0)) (x1 : Int) (x2 : Int) (x3 : Int) (x4 : Int) (x5 : Int) (x6 : Int) : zR K 0 [(0, 2, 0), (1, 0, x1), (2, 0, x2), (3, 0, x3), (4, 0, x4), (5, 0, x5), (6, 0, x6)] [] (fX0_login x1 x2 x3 x4 x5 x6) := by
  refine r_aload_n E dX0_login_0 rfl 0 rfl ?_
  refine r_gec (y := 0) E zc_2 dX0_login_1 q1790 zr_2 (zh_100 (by decide)) (by decide) ?_
  refine r_iload E dX0_login_4 4 rfl ?_
  refine r_callV E [(0, x4)] [] rfl zc_3 zr_3 (fun o _ => ⟨_, zw_X1.1 o, rfl⟩) (lw_V q1998 q1999 q2000 q228 q2001) dX0_login_6 zy_X1_segment rfl (by omega) (by decide) (Nat.le_of_ble_eq_true rfl) (by decide) (fun l G => k_fX1_segment l G x4) (fun v1 => ?_)
  refine r_astore (ls' := [(7, 6, v1), (0, 2, 0), (1, 0, x1), (2, 0, x2), (3, 0, x3), (4, 0, x4), (5, 0, x5), (6, 0, x6)]) E dX0_login_9 (by rw [hN]; decide) rfl ?_
  refine r_iload_n E dX0_login_11 rfl 2 rfl ?_
  refine r_i2l E dX0_login_12 ?_
  refine r_lconst (v := 0) E dX0_login_13 (by decide) (zkJ (by decide) (by decide)) ?_
  refine r_ldc2 (v := 15) E dX0_login_14 q2071 (by decide) (zkJ (by decide) (by decide)) ?_
  refine r_callS E [(1, x1), (1, 0), (1, 15)] [] rfl q1853 q1835 q227 q1836 dX0_login_17 zy_X0_isIn rfl (by omega) (by decide) (Nat.le_of_ble_eq_true rfl) (fun l G => k_fX0_isIn l G x1 0 15) (fun v2 => ?_)
  refine r_if_eq E 70 (by decide) dX0_login_20 (fun _ => ?_) (fun _ => ?_)
  · refine r_bipush E dX0_login_70 (by decide) (zkI (by decide) (by decide)) ?_
    exact r_ireturn E rfl hT dX0_login_72
  · refine r_iload_n E dX0_login_23 rfl 3 rfl ?_
    refine r_i2l E dX0_login_24 ?_
    refine r_lconst (v := 0) E dX0_login_25 (by decide) (zkJ (by decide) (by decide)) ?_
    refine r_ldc2 (v := 7) E dX0_login_26 q2072 (by decide) (zkJ (by decide) (by decide)) ?_
    refine r_callS E [(1, x2), (1, 0), (1, 7)] [] rfl q1853 q1835 q227 q1836 dX0_login_29 zy_X0_isIn rfl (by omega) (by decide) (Nat.le_of_ble_eq_true rfl) (fun l G => k_fX0_isIn l G x2 0 7) (fun v3 => ?_)
    refine r_if_eq E 70 (by decide) dX0_login_32 (fun _ => ?_) (fun _ => ?_)
    · refine r_bipush E dX0_login_70 (by decide) (zkI (by decide) (by decide)) ?_
      exact r_ireturn E rfl hT dX0_login_72
    · refine r_iload_n E dX0_login_35 rfl 4 rfl ?_
      refine r_i2l E dX0_login_36 ?_
      refine r_callS E [(1, x3)] [] rfl q1849 q1850 q227 q1851 dX0_login_37 zy_X0_isLabel rfl (by omega) (by decide) (Nat.le_of_ble_eq_true rfl) (fun l G => k_fX0_isLabel l G x3) (fun v4 => ?_)
      refine r_if_eq E 70 (by decide) dX0_login_40 (fun _ => ?_) (fun _ => ?_)
      · refine r_bipush E dX0_login_70 (by decide) (zkI (by decide) (by decide)) ?_
        exact r_ireturn E rfl hT dX0_login_72
      · refine r_aload E dX0_login_43 0 rfl ?_
        refine r_ifnull E 70 (by decide) dX0_login_45 (fun _ => ?_) (fun hz5 => ?_)
        · refine r_bipush E dX0_login_70 (by decide) (zkI (by decide) (by decide)) ?_
          exact r_ireturn E rfl hT dX0_login_72
        · refine r_iload E dX0_login_48 6 rfl ?_
          refine r_i2l E dX0_login_50 ?_
          refine r_callS E [(1, x5)] [] rfl q2126 q2127 q227 q2128 dX0_login_51 zy_X0_isHalf rfl (by omega) (by decide) (Nat.le_of_ble_eq_true rfl) (fun l G => k_fX0_isHalf l G x5) (fun v6 => ?_)
          refine r_if_eq E 70 (by decide) dX0_login_54 (fun _ => ?_) (fun _ => ?_)
          · refine r_bipush E dX0_login_70 (by decide) (zkI (by decide) (by decide)) ?_
            exact r_ireturn E rfl hT dX0_login_72
          · refine r_iload E dX0_login_57 7 rfl ?_
            refine r_i2l E dX0_login_59 ?_
            refine r_lconst (v := 0) E dX0_login_60 (by decide) (zkJ (by decide) (by decide)) ?_
            refine r_ldc2 (v := 7) E dX0_login_61 q2072 (by decide) (zkJ (by decide) (by decide)) ?_
            refine r_callS E [(1, x6), (1, 0), (1, 7)] [] rfl q1853 q1835 q227 q1836 dX0_login_64 zy_X0_isIn rfl (by omega) (by decide) (Nat.le_of_ble_eq_true rfl) (fun l G => k_fX0_isIn l G x6 0 7) (fun v7 => ?_)
            refine r_if_ne E 73 (by decide) dX0_login_67 (fun _ => ?_) (fun _ => ?_)
            · refine r_iconst E dX0_login_73 (zkI (by decide) (by decide)) ?_
              refine r_istore (ls' := [(8, 0, 0), (7, 6, v1), (0, 2, 0), (1, 0, x1), (2, 0, x2), (3, 0, x3), (4, 0, x4), (5, 0, x5), (6, 0, x6)]) E dX0_login_74 (by rw [hN]; decide) rfl ?_
              refine r_pick E [2, 3, 4, 5, 7, 8, 1, 0] rfl ?_
              exact r_loop (L := fun s => [(0, 2, 0), (1, 0, x1), (2, 0, x2), (3, 0, x3), (5, 0, x5), (6, 0, x6), (7, 6, v1), (8, 0, s)]) (w_fX0_login_B76 E hN hT x1 x2 x3 x5 x6 v1) zBIG 0
            · refine r_bipush E dX0_login_70 (by decide) (zkI (by decide) (by decide)) ?_
              exact r_ireturn E rfl hT dX0_login_72
theorem k_fX0_login (l : Launch) (G : zG) (x1 : Int) (x2 : Int) (x3 : Int) (x4 : Int) (x5 : Int) (x6 : Int) : zCt l G yX0_login cX0_login 9 (some .int) 3 [(2, 0), (0, x1), (0, x2), (0, x3), (0, x4), (0, x5), (0, x6)] (some 0) (fX0_login x1 x2 x3 x4 x5 x6) := zCt.of (by decide) (Nat.le_of_ble_eq_true rfl) (fun K E _ _ hN hT => w_fX0_login E hN hT x1 x2 x3 x4 x5 x6)
theorem dX0_processAt_0 : decode cX0_processAt 0 = .ok (.iload_n 1, 1) := by decide +kernel
theorem dX0_processAt_1 : decode cX0_processAt 1 = .ok (.i2l, 1) := by decide +kernel
theorem dX0_processAt_2 : decode cX0_processAt 2 = .ok (.lconst 0, 1) := by decide +kernel
theorem dX0_processAt_3 : decode cX0_processAt 3 = .ok (.ldc2_w 25, 3) := by decide +kernel
theorem dX0_processAt_6 : decode cX0_processAt 6 = .ok (.invokestatic 17, 3) := by decide +kernel
theorem dX0_processAt_9 : decode cX0_processAt 9 = .ok (.ifCond .eq 24, 3) := by decide +kernel
theorem dX0_processAt_12 : decode cX0_processAt 12 = .ok (.aload_n 0, 1) := by decide +kernel
theorem dX0_processAt_13 : decode cX0_processAt 13 = .ok (.getfield 48, 3) := by decide +kernel
theorem dX0_processAt_16 : decode cX0_processAt 16 = .ok (.iload_n 1, 1) := by decide +kernel
theorem dX0_processAt_17 : decode cX0_processAt 17 = .ok (.aaload, 1) := by decide +kernel
theorem dX0_processAt_18 : decode cX0_processAt 18 = .ok (.getfield 111, 3) := by decide +kernel
theorem dX0_processAt_21 : decode cX0_processAt 21 = .ok (.ifCond .eq 12, 3) := by decide +kernel
theorem dX0_processAt_24 : decode cX0_processAt 24 = .ok (.aload_n 0, 1) := by decide +kernel
theorem dX0_processAt_25 : decode cX0_processAt 25 = .ok (.getfield 48, 3) := by decide +kernel
theorem dX0_processAt_28 : decode cX0_processAt 28 = .ok (.iload_n 1, 1) := by decide +kernel
theorem dX0_processAt_29 : decode cX0_processAt 29 = .ok (.aaload, 1) := by decide +kernel
theorem dX0_processAt_30 : decode cX0_processAt 30 = .ok (.goto 4, 3) := by decide +kernel
theorem dX0_processAt_33 : decode cX0_processAt 33 = .ok (.aconst_null, 1) := by decide +kernel
theorem dX0_processAt_34 : decode cX0_processAt 34 = .ok (.areturn, 1) := by decide +kernel
theorem zy_X0_processAt : yX0_processAt.cls ≠ "java/lang/invoke/MethodHandle" ∧ yX0_processAt.cls ≠ "java/lang/invoke/VarHandle" ∧ (parseMethodDescriptor yX0_processAt.desc).map (fun d => d.parameters.length) = some 1 := by decide +kernel
theorem w_fX0_processAt {K : zK} (E : zE K cX0_processAt "RingHouse" (some (.object "RingHouse$Process")) 1) (hN : zNl K = 2) (hT : zTr K = (some 10)) (x1 : Int) : zR K 0 [(0, 2, 0), (1, 0, x1)] [] (fX0_processAt x1) := by
  refine r_iload_n E dX0_processAt_0 rfl 1 rfl ?_
  refine r_i2l E dX0_processAt_1 ?_
  refine r_lconst (v := 0) E dX0_processAt_2 (by decide) (zkJ (by decide) (by decide)) ?_
  refine r_ldc2 (v := 7) E dX0_processAt_3 q2072 (by decide) (zkJ (by decide) (by decide)) ?_
  refine r_callS E [(1, x1), (1, 0), (1, 7)] [] rfl q1853 q1835 q227 q1836 dX0_processAt_6 zy_X0_isIn rfl (by omega) (by decide) (Nat.le_of_ble_eq_true rfl) (fun l G => k_fX0_isIn l G x1 0 7) (fun v1 => ?_)
  refine r_if_eq E 33 (by decide) dX0_processAt_9 (fun _ => ?_) (fun _ => ?_)
  · refine r_null E 8 dX0_processAt_33 ?_
    exact r_areturn E rfl hT dX0_processAt_34
  · refine r_aload_n E dX0_processAt_12 rfl 0 rfl ?_
    refine r_gec (y := 0) E zc_2 dX0_processAt_13 q1791 zr_2 (zh_101 (by decide)) (by decide) ?_
    refine r_iload_n E dX0_processAt_16 rfl 1 rfl ?_
    refine r_aaloc (y := x1) E zc_101 za_101 zt_101 zx_101 rfl rfl (by omega) dX0_processAt_17 (by decide) (fun hi3 => ?_)
    refine r_getN E zc_10 zt_902 dX0_processAt_18 q861 zr_10 (zg_902 _) hi3 (fun v4 => ?_)
    refine r_if_eq E 33 (by decide) dX0_processAt_21 (fun _ => ?_) (fun _ => ?_)
    · refine r_null E 8 dX0_processAt_33 ?_
      exact r_areturn E rfl hT dX0_processAt_34
    · refine r_aload_n E dX0_processAt_24 rfl 0 rfl ?_
      refine r_gec (y := 0) E zc_2 dX0_processAt_25 q1791 zr_2 (zh_101 (by decide)) (by decide) ?_
      refine r_iload_n E dX0_processAt_28 rfl 1 rfl ?_
      refine r_aaloc (y := x1) E zc_101 za_101 zt_101 zx_101 rfl rfl (by omega) dX0_processAt_29 (by decide) (fun hi6 => ?_)
      refine r_goto E 34 (by decide) dX0_processAt_30 ?_
      exact r_areturn E rfl hT dX0_processAt_34
theorem k_fX0_processAt (l : Launch) (G : zG) (x1 : Int) : zCt l G yX0_processAt cX0_processAt 2 (some (.object "RingHouse$Process")) 1 [(2, 0), (0, x1)] (some 10) (fX0_processAt x1) := zCt.of (by decide) (Nat.le_of_ble_eq_true rfl) (fun K E _ _ hN hT => w_fX0_processAt E hN hT x1)
theorem dX0_logout_0 : decode cX0_logout 0 = .ok (.aload_n 0, 1) := by decide +kernel
theorem dX0_logout_1 : decode cX0_logout 1 = .ok (.iload_n 1, 1) := by decide +kernel
theorem dX0_logout_2 : decode cX0_logout 2 = .ok (.invokevirtual 330, 3) := by decide +kernel
theorem dX0_logout_5 : decode cX0_logout 5 = .ok (.astore_n 2, 1) := by decide +kernel
theorem dX0_logout_6 : decode cX0_logout 6 = .ok (.aload_n 2, 1) := by decide +kernel
theorem dX0_logout_7 : decode cX0_logout 7 = .ok (.ifnonnull 6, 3) := by decide +kernel
theorem dX0_logout_10 : decode cX0_logout 10 = .ok (.bipush (-8), 2) := by decide +kernel
theorem dX0_logout_12 : decode cX0_logout 12 = .ok (.ireturn, 1) := by decide +kernel
theorem dX0_logout_13 : decode cX0_logout 13 = .ok (.aload_n 2, 1) := by decide +kernel
theorem dX0_logout_14 : decode cX0_logout 14 = .ok (.iconst 0, 1) := by decide +kernel
theorem dX0_logout_15 : decode cX0_logout 15 = .ok (.putfield 111, 3) := by decide +kernel
theorem dX0_logout_18 : decode cX0_logout 18 = .ok (.iconst 0, 1) := by decide +kernel
theorem dX0_logout_19 : decode cX0_logout 19 = .ok (.ireturn, 1) := by decide +kernel
theorem zy_X0_logout : yX0_logout.cls ≠ "java/lang/invoke/MethodHandle" ∧ yX0_logout.cls ≠ "java/lang/invoke/VarHandle" ∧ (parseMethodDescriptor yX0_logout.desc).map (fun d => d.parameters.length) = some 1 := by decide +kernel
theorem w_fX0_logout {K : zK} (E : zE K cX0_logout "RingHouse" (some .int) 2) (hN : zNl K = 3) (hT : zTr K = (some 0)) (x1 : Int) : zR K 0 [(0, 2, 0), (1, 0, x1)] [] (fX0_logout x1) := by
  refine r_aload_n E dX0_logout_0 rfl 0 rfl ?_
  refine r_iload_n E dX0_logout_1 rfl 1 rfl ?_
  refine r_callV E [(0, x1)] [] rfl zc_2 zr_2 (fun o _ => ⟨_, zw_X0.1 o, rfl⟩) (lw_V q2159 q2161 qs10 q227 q2162) dX0_logout_2 zy_X0_processAt rfl (by omega) (by decide) (Nat.le_of_ble_eq_true rfl) (by decide) (fun l G => k_fX0_processAt l G x1) (fun v1 => ?_)
  refine r_astore_n (ls' := [(2, 10, v1), (0, 2, 0), (1, 0, x1)]) E dX0_logout_5 rfl (by rw [hN]; decide) rfl ?_
  refine r_aload_n E dX0_logout_6 rfl 0 rfl ?_
  refine r_ifnonnull E 13 (by decide) dX0_logout_7 (fun _ => ?_) (fun hz2 => ?_)
  · refine r_bipush E dX0_logout_10 (by decide) (zkI (by decide) (by decide)) ?_
    exact r_ireturn E rfl hT dX0_logout_12
  · refine r_aload_n E dX0_logout_13 rfl 0 rfl ?_
    refine r_iconst E dX0_logout_14 (zkI (by decide) (by decide)) ?_
    refine r_putN E zc_10 zt_902 zo_902 dX0_logout_15 q861 zr_10 zw_X8 zp_902 (znb (by decide)) (zfb (by decide)) (Int.not_lt.mp hz2) ?_
    refine r_iconst E dX0_logout_18 (zkI (by decide) (by decide)) ?_
    exact r_ireturn E rfl hT dX0_logout_19
theorem k_fX0_logout (l : Launch) (G : zG) (x1 : Int) : zCt l G yX0_logout cX0_logout 3 (some .int) 2 [(2, 0), (0, x1)] (some 0) (fX0_logout x1) := zCt.of (by decide) (Nat.le_of_ble_eq_true rfl) (fun K E _ _ hN hT => w_fX0_logout E hN hT x1)
