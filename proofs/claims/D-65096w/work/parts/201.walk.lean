set_option maxRecDepth 100000
theorem dX8_isFull_0 : decode cX8_isFull 0 = .ok (.aload_n 0, 1) := by decide +kernel
theorem dX8_isFull_1 : decode cX8_isFull 1 = .ok (.getfield 119, 3) := by decide +kernel
theorem dX8_isFull_4 : decode cX8_isFull 4 = .ok (.bipush 8, 2) := by decide +kernel
theorem dX8_isFull_6 : decode cX8_isFull 6 = .ok (.if_icmp .ne 7, 3) := by decide +kernel
theorem dX8_isFull_9 : decode cX8_isFull 9 = .ok (.iconst 1, 1) := by decide +kernel
theorem dX8_isFull_10 : decode cX8_isFull 10 = .ok (.goto 4, 3) := by decide +kernel
theorem dX8_isFull_13 : decode cX8_isFull 13 = .ok (.iconst 0, 1) := by decide +kernel
theorem dX8_isFull_14 : decode cX8_isFull 14 = .ok (.ireturn, 1) := by decide +kernel
theorem zy_X8_isFull : yX8_isFull.cls ≠ "java/lang/invoke/MethodHandle" ∧ yX8_isFull.cls ≠ "java/lang/invoke/VarHandle" ∧ (parseMethodDescriptor yX8_isFull.desc).map (fun d => d.parameters.length) = some 0 := by decide +kernel
theorem w_fX8_isFull {K : zK} (E : zE K cX8_isFull "RingHouse$Process" (some .boolean) 0) (hN : zNl K = 1) (hT : zTr K = (some 0)) (x0 : Int) (h0 : 0 ≤ x0) : zR K 0 [(0, 10, x0)] [] (fX8_isFull x0) := by
  refine r_aload_n E dX8_isFull_0 rfl 0 rfl ?_
  refine r_get E zc_10 zt_924 dX8_isFull_1 q939 zr_10 (zg_924 _) h0 (fun v1 => ?_)
  refine r_bipush E dX8_isFull_4 (by decide) (zkI (by decide) (by decide)) ?_
  refine r_icmp_ne E 13 (by decide) dX8_isFull_6 (fun _ => ?_) (fun _ => ?_)
  · refine r_iconst E dX8_isFull_13 (zkI (by decide) (by decide)) ?_
    exact r_zreturn E rfl hT (by decide) dX8_isFull_14
  · refine r_iconst E dX8_isFull_9 (zkI (by decide) (by decide)) ?_
    refine r_goto E 14 (by decide) dX8_isFull_10 ?_
    exact r_zreturn E rfl hT (by decide) dX8_isFull_14
theorem k_fX8_isFull (l : Launch) (G : zG) (x0 : Int) (h0 : 0 ≤ x0) : zCt l G yX8_isFull cX8_isFull 1 (some .boolean) 0 [(10, x0)] (some 0) (fX8_isFull x0) := zCt.of (by decide) (Nat.le_of_ble_eq_true rfl) (fun K E _ _ hN hT => w_fX8_isFull E hN hT x0 h0)
theorem dX8_receive_0 : decode cX8_receive 0 = .ok (.aload_n 0, 1) := by decide +kernel
theorem dX8_receive_1 : decode cX8_receive 1 = .ok (.getfield 48, 3) := by decide +kernel
theorem dX8_receive_4 : decode cX8_receive 4 = .ok (.aload_n 0, 1) := by decide +kernel
theorem dX8_receive_5 : decode cX8_receive 5 = .ok (.getfield 116, 3) := by decide +kernel
theorem dX8_receive_8 : decode cX8_receive 8 = .ok (.aload_n 0, 1) := by decide +kernel
theorem dX8_receive_9 : decode cX8_receive 9 = .ok (.getfield 119, 3) := by decide +kernel
theorem dX8_receive_12 : decode cX8_receive 12 = .ok (.iadd, 1) := by decide +kernel
theorem dX8_receive_13 : decode cX8_receive 13 = .ok (.bipush 8, 2) := by decide +kernel
theorem dX8_receive_15 : decode cX8_receive 15 = .ok (.irem, 1) := by decide +kernel
theorem dX8_receive_16 : decode cX8_receive 16 = .ok (.lload_n 1, 1) := by decide +kernel
theorem dX8_receive_17 : decode cX8_receive 17 = .ok (.lastore, 1) := by decide +kernel
theorem dX8_receive_18 : decode cX8_receive 18 = .ok (.aload_n 0, 1) := by decide +kernel
theorem dX8_receive_19 : decode cX8_receive 19 = .ok (.dup, 1) := by decide +kernel
theorem dX8_receive_20 : decode cX8_receive 20 = .ok (.getfield 119, 3) := by decide +kernel
theorem dX8_receive_23 : decode cX8_receive 23 = .ok (.iconst 1, 1) := by decide +kernel
theorem dX8_receive_24 : decode cX8_receive 24 = .ok (.iadd, 1) := by decide +kernel
theorem dX8_receive_25 : decode cX8_receive 25 = .ok (.putfield 119, 3) := by decide +kernel
theorem dX8_receive_28 : decode cX8_receive 28 = .ok (.return_, 1) := by decide +kernel
theorem zy_X8_receive : yX8_receive.cls ≠ "java/lang/invoke/MethodHandle" ∧ yX8_receive.cls ≠ "java/lang/invoke/VarHandle" ∧ (parseMethodDescriptor yX8_receive.desc).map (fun d => d.parameters.length) = some 1 := by decide +kernel
theorem w_fX8_receive {K : zK} (E : zE K cX8_receive "RingHouse$Process" none 0) (hN : zNl K = 3) (hT : zTr K = none) (x0 : Int) (x1 : Int) (h0 : 0 ≤ x0) : zR K 0 [(0, 10, x0), (1, 1, x1)] [] (fX8_receive x0 x1) := by
  refine r_aload_n E dX8_receive_0 rfl 0 rfl ?_
  refine r_gec (y := x0) E zc_10 dX8_receive_1 q936 zr_10 (zh_922 (by omega)) h0 ?_
  refine r_aload_n E dX8_receive_4 rfl 0 rfl ?_
  refine r_get E zc_10 zt_923 dX8_receive_5 q937 zr_10 (zg_923 _) h0 (fun v1 => ?_)
  refine r_aload_n E dX8_receive_8 rfl 0 rfl ?_
  refine r_get E zc_10 zt_924 dX8_receive_9 q939 zr_10 (zg_924 _) h0 (fun v2 => ?_)
  refine r_iadd E dX8_receive_12 ?_
  refine r_bipush E dX8_receive_13 (by decide) (zkI (by decide) (by decide)) ?_
  refine r_irem E (by decide) dX8_receive_15 ?_
  refine r_lload_n E dX8_receive_16 rfl 1 rfl ?_
  refine r_lastore E zc_922 za_922 zt_922 zo_922 zx_922 rfl rfl dX8_receive_17 h0 ?_
  refine r_aload_n E dX8_receive_18 rfl 0 rfl ?_
  refine r_dup E (zn1 rfl) dX8_receive_19 ?_
  refine r_get E zc_10 zt_924 dX8_receive_20 q939 zr_10 (zg_924 _) h0 (fun v3 => ?_)
  refine r_iconst E dX8_receive_23 (zkI (by decide) (by decide)) ?_
  refine r_iadd E dX8_receive_24 ?_
  refine r_put E zc_10 zt_924 zo_924 dX8_receive_25 q939 zr_10 zw_X8 zp_924 (fun _ => rfl) (fun _ => rfl) h0 ?_
  exact r_return E rfl hT dX8_receive_28
theorem k_fX8_receive (l : Launch) (G : zG) (x0 : Int) (x1 : Int) (h0 : 0 ≤ x0) : zCt l G yX8_receive cX8_receive 3 none 0 [(10, x0), (1, x1)] none (fX8_receive x0 x1) := zCt.of (by decide) (Nat.le_of_ble_eq_true rfl) (fun K E _ _ hN hT => w_fX8_receive E hN hT x0 x1 h0)
theorem dX0_send_0 : decode cX0_send 0 = .ok (.aload_n 0, 1) := by decide +kernel
theorem dX0_send_1 : decode cX0_send 1 = .ok (.iload_n 1, 1) := by decide +kernel
theorem dX0_send_2 : decode cX0_send 2 = .ok (.invokevirtual 330, 3) := by decide +kernel
theorem dX0_send_5 : decode cX0_send 5 = .ok (.astore 4, 2) := by decide +kernel
theorem dX0_send_7 : decode cX0_send 7 = .ok (.aload 4, 2) := by decide +kernel
theorem dX0_send_9 : decode cX0_send 9 = .ok (.ifnull 10, 3) := by decide +kernel
theorem dX0_send_12 : decode cX0_send 12 = .ok (.lload_n 2, 1) := by decide +kernel
theorem dX0_send_13 : decode cX0_send 13 = .ok (.invokestatic 9, 3) := by decide +kernel
theorem dX0_send_16 : decode cX0_send 16 = .ok (.ifCond .ne 6, 3) := by decide +kernel
theorem dX0_send_19 : decode cX0_send 19 = .ok (.bipush (-8), 2) := by decide +kernel
theorem dX0_send_21 : decode cX0_send 21 = .ok (.ireturn, 1) := by decide +kernel
theorem dX0_send_22 : decode cX0_send 22 = .ok (.aload 4, 2) := by decide +kernel
theorem dX0_send_24 : decode cX0_send 24 = .ok (.invokevirtual 334, 3) := by decide +kernel
theorem dX0_send_27 : decode cX0_send 27 = .ok (.ifCond .eq 6, 3) := by decide +kernel
theorem dX0_send_30 : decode cX0_send 30 = .ok (.bipush (-5), 2) := by decide +kernel
theorem dX0_send_32 : decode cX0_send 32 = .ok (.ireturn, 1) := by decide +kernel
theorem dX0_send_33 : decode cX0_send 33 = .ok (.aload 4, 2) := by decide +kernel
theorem dX0_send_35 : decode cX0_send 35 = .ok (.lload_n 2, 1) := by decide +kernel
theorem dX0_send_36 : decode cX0_send 36 = .ok (.invokevirtual 337, 3) := by decide +kernel
theorem dX0_send_39 : decode cX0_send 39 = .ok (.aload 4, 2) := by decide +kernel
theorem dX0_send_41 : decode cX0_send 41 = .ok (.getfield 341, 3) := by decide +kernel
theorem dX0_send_44 : decode cX0_send 44 = .ok (.ireturn, 1) := by decide +kernel
theorem zy_X0_send : yX0_send.cls ≠ "java/lang/invoke/MethodHandle" ∧ yX0_send.cls ≠ "java/lang/invoke/VarHandle" ∧ (parseMethodDescriptor yX0_send.desc).map (fun d => d.parameters.length) = some 2 := by decide +kernel
theorem w_fX0_send {K : zK} (E : zE K cX0_send "RingHouse" (some .int) 2) (hN : zNl K = 5) (hT : zTr K = (some 0)) (x1 : Int) (x2 : Int) : zR K 0 [(0, 2, 0), (1, 0, x1), (2, 1, x2)] [] (fX0_send x1 x2) := by
  refine r_aload_n E dX0_send_0 rfl 0 rfl ?_
  refine r_iload_n E dX0_send_1 rfl 1 rfl ?_
  refine r_callV E [(0, x1)] [] rfl zc_2 zr_2 (fun o _ => ⟨_, zw_X0.1 o, rfl⟩) (lw_V q2159 q2161 qs10 q227 q2162) dX0_send_2 zy_X0_processAt rfl (by omega) (by decide) (Nat.le_of_ble_eq_true rfl) (by decide) (fun l G => k_fX0_processAt l G x1) (fun v1 => ?_)
  refine r_astore (ls' := [(4, 10, v1), (0, 2, 0), (1, 0, x1), (2, 1, x2)]) E dX0_send_5 (by rw [hN]; decide) rfl ?_
  refine r_aload E dX0_send_7 0 rfl ?_
  refine r_ifnull E 19 (by decide) dX0_send_9 (fun _ => ?_) (fun hz2 => ?_)
  · refine r_bipush E dX0_send_19 (by decide) (zkI (by decide) (by decide)) ?_
    exact r_ireturn E rfl hT dX0_send_21
  · refine r_lload_n E dX0_send_12 rfl 3 rfl ?_
    refine r_callS E [(1, x2)] [] rfl q1844 q1845 q227 q1846 dX0_send_13 zy_X0_isWord rfl (by omega) (by decide) (Nat.le_of_ble_eq_true rfl) (fun l G => k_fX0_isWord l G x2) (fun v3 => ?_)
    refine r_if_ne E 22 (by decide) dX0_send_16 (fun _ => ?_) (fun _ => ?_)
    · refine r_aload E dX0_send_22 0 rfl ?_
      refine r_callV E [] [] rfl zc_10 zr_10 (fun o _ => ⟨_, zw_X8.1 o, rfl⟩) (lw_V q2167 q2168 q2169 q235 q2170) dX0_send_24 zy_X8_isFull rfl (by omega) (by decide) (Nat.le_of_ble_eq_true rfl) (Int.not_lt.mp hz2) (fun l G => k_fX8_isFull l G v1 (Int.not_lt.mp hz2)) (fun v4 => ?_)
      refine r_if_eq E 33 (by decide) dX0_send_27 (fun _ => ?_) (fun _ => ?_)
      · refine r_aload E dX0_send_33 0 rfl ?_
        refine r_lload_n E dX0_send_35 rfl 3 rfl ?_
        refine r_callV E [(1, x2)] [] rfl zc_10 zr_10 (fun o _ => ⟨_, zw_X8.1 o, rfl⟩) (lw_V q2171 q2172 q2173 q235 q2174) dX0_send_36 zy_X8_receive rfl (by omega) (by decide) (Nat.le_of_ble_eq_true rfl) (Int.not_lt.mp hz2) (fun l G => k_fX8_receive l G v1 x2 (Int.not_lt.mp hz2)) (fun _ => ?_)
        refine r_aload E dX0_send_39 0 rfl ?_
        refine r_getN E zc_10 zt_924 dX0_send_41 q941 zr_10 (zg_924 _) (Int.not_lt.mp hz2) (fun v6 => ?_)
        exact r_ireturn E rfl hT dX0_send_44
      · refine r_bipush E dX0_send_30 (by decide) (zkI (by decide) (by decide)) ?_
        exact r_ireturn E rfl hT dX0_send_32
    · refine r_bipush E dX0_send_19 (by decide) (zkI (by decide) (by decide)) ?_
      exact r_ireturn E rfl hT dX0_send_21
theorem k_fX0_send (l : Launch) (G : zG) (x1 : Int) (x2 : Int) : zCt l G yX0_send cX0_send 5 (some .int) 2 [(2, 0), (0, x1), (1, x2)] (some 0) (fX0_send x1 x2) := zCt.of (by decide) (Nat.le_of_ble_eq_true rfl) (fun K E _ _ hN hT => w_fX0_send E hN hT x1 x2)
theorem dX10_add_0 : decode cX10_add 0 = .ok (.iconst 4, 1) := by decide +kernel
theorem dX10_add_1 : decode cX10_add 1 = .ok (.aload_n 0, 1) := by decide +kernel
theorem dX10_add_2 : decode cX10_add 2 = .ok (.getfield 21, 3) := by decide +kernel
theorem dX10_add_5 : decode cX10_add 5 = .ok (.bipush 64, 2) := by decide +kernel
theorem dX10_add_7 : decode cX10_add 7 = .ok (.irem, 1) := by decide +kernel
theorem dX10_add_8 : decode cX10_add 8 = .ok (.imul, 1) := by decide +kernel
theorem dX10_add_9 : decode cX10_add 9 = .ok (.istore 8, 2) := by decide +kernel
theorem dX10_add_11 : decode cX10_add 11 = .ok (.aload_n 0, 1) := by decide +kernel
theorem dX10_add_12 : decode cX10_add 12 = .ok (.getfield 9, 3) := by decide +kernel
theorem dX10_add_15 : decode cX10_add 15 = .ok (.iload 8, 2) := by decide +kernel
theorem dX10_add_17 : decode cX10_add 17 = .ok (.iload_n 1, 1) := by decide +kernel
theorem dX10_add_18 : decode cX10_add 18 = .ok (.i2l, 1) := by decide +kernel
theorem dX10_add_19 : decode cX10_add 19 = .ok (.lastore, 1) := by decide +kernel
theorem dX10_add_20 : decode cX10_add 20 = .ok (.aload_n 0, 1) := by decide +kernel
theorem dX10_add_21 : decode cX10_add 21 = .ok (.getfield 9, 3) := by decide +kernel
theorem dX10_add_24 : decode cX10_add 24 = .ok (.iload 8, 2) := by decide +kernel
theorem dX10_add_26 : decode cX10_add 26 = .ok (.iconst 1, 1) := by decide +kernel
theorem dX10_add_27 : decode cX10_add 27 = .ok (.iadd, 1) := by decide +kernel
theorem dX10_add_28 : decode cX10_add 28 = .ok (.lload_n 2, 1) := by decide +kernel
theorem dX10_add_29 : decode cX10_add 29 = .ok (.lastore, 1) := by decide +kernel
theorem dX10_add_30 : decode cX10_add 30 = .ok (.aload_n 0, 1) := by decide +kernel
theorem dX10_add_31 : decode cX10_add 31 = .ok (.getfield 9, 3) := by decide +kernel
theorem dX10_add_34 : decode cX10_add 34 = .ok (.iload 8, 2) := by decide +kernel
theorem dX10_add_36 : decode cX10_add 36 = .ok (.iconst 2, 1) := by decide +kernel
theorem dX10_add_37 : decode cX10_add 37 = .ok (.iadd, 1) := by decide +kernel
theorem dX10_add_38 : decode cX10_add 38 = .ok (.lload 4, 2) := by decide +kernel
theorem dX10_add_40 : decode cX10_add 40 = .ok (.lastore, 1) := by decide +kernel
theorem dX10_add_41 : decode cX10_add 41 = .ok (.aload_n 0, 1) := by decide +kernel
theorem dX10_add_42 : decode cX10_add 42 = .ok (.getfield 9, 3) := by decide +kernel
theorem dX10_add_45 : decode cX10_add 45 = .ok (.iload 8, 2) := by decide +kernel
theorem dX10_add_47 : decode cX10_add 47 = .ok (.iconst 3, 1) := by decide +kernel
theorem dX10_add_48 : decode cX10_add 48 = .ok (.iadd, 1) := by decide +kernel
theorem dX10_add_49 : decode cX10_add 49 = .ok (.lload 6, 2) := by decide +kernel
theorem dX10_add_51 : decode cX10_add 51 = .ok (.lastore, 1) := by decide +kernel
theorem dX10_add_52 : decode cX10_add 52 = .ok (.aload_n 0, 1) := by decide +kernel
theorem dX10_add_53 : decode cX10_add 53 = .ok (.dup, 1) := by decide +kernel
theorem dX10_add_54 : decode cX10_add 54 = .ok (.getfield 21, 3) := by decide +kernel
theorem dX10_add_57 : decode cX10_add 57 = .ok (.iconst 1, 1) := by decide +kernel
theorem dX10_add_58 : decode cX10_add 58 = .ok (.iadd, 1) := by decide +kernel
theorem dX10_add_59 : decode cX10_add 59 = .ok (.putfield 21, 3) := by decide +kernel
theorem dX10_add_62 : decode cX10_add 62 = .ok (.iconst 0, 1) := by decide +kernel
theorem dX10_add_63 : decode cX10_add 63 = .ok (.istore 9, 2) := by decide +kernel
theorem dX10_add_65 : decode cX10_add 65 = .ok (.iload 9, 2) := by decide +kernel
theorem dX10_add_67 : decode cX10_add 67 = .ok (.iconst 4, 1) := by decide +kernel
theorem dX10_add_68 : decode cX10_add 68 = .ok (.if_icmp .ge 32, 3) := by decide +kernel
theorem dX10_add_71 : decode cX10_add 71 = .ok (.aload_n 0, 1) := by decide +kernel
theorem dX10_add_72 : decode cX10_add 72 = .ok (.aload_n 0, 1) := by decide +kernel
theorem dX10_add_73 : decode cX10_add 73 = .ok (.getfield 17, 3) := by decide +kernel
theorem dX10_add_76 : decode cX10_add 76 = .ok (.aload_n 0, 1) := by decide +kernel
theorem dX10_add_77 : decode cX10_add 77 = .ok (.getfield 9, 3) := by decide +kernel
theorem dX10_add_80 : decode cX10_add 80 = .ok (.iload 8, 2) := by decide +kernel
theorem dX10_add_82 : decode cX10_add 82 = .ok (.iload 9, 2) := by decide +kernel
theorem dX10_add_84 : decode cX10_add 84 = .ok (.iadd, 1) := by decide +kernel
theorem dX10_add_85 : decode cX10_add 85 = .ok (.laload, 1) := by decide +kernel
theorem dX10_add_86 : decode cX10_add 86 = .ok (.lxor, 1) := by decide +kernel
theorem dX10_add_87 : decode cX10_add 87 = .ok (.ldc2_w 25, 3) := by decide +kernel
theorem dX10_add_90 : decode cX10_add 90 = .ok (.lmul, 1) := by decide +kernel
theorem dX10_add_91 : decode cX10_add 91 = .ok (.putfield 17, 3) := by decide +kernel
theorem dX10_add_94 : decode cX10_add 94 = .ok (.iinc 9 1, 3) := by decide +kernel
theorem dX10_add_97 : decode cX10_add 97 = .ok (.goto (-32), 3) := by decide +kernel
theorem dX10_add_100 : decode cX10_add 100 = .ok (.return_, 1) := by decide +kernel
theorem zy_X10_add : yX10_add.cls ≠ "java/lang/invoke/MethodHandle" ∧ yX10_add.cls ≠ "java/lang/invoke/VarHandle" ∧ (parseMethodDescriptor yX10_add.desc).map (fun d => d.parameters.length) = some 4 := by decide +kernel
theorem w_fX10_add_B65 {K : zK} (E : zE K cX10_add "RingHouse$Trace" none 0) (hN : zNl K = 10) (hT : zTr K = none) (x0 : Int) (x8 : Int) (h0 : 0 ≤ x0) : ∀ r65 : Int → zX, (∀ s : Int, zR K 65 [(0, 12, x0), (8, 0, x8), (9, 0, s)] [] (r65 s)) → ∀ s : Int, zR K 65 [(0, 12, x0), (8, 0, x8), (9, 0, s)] [] (fX10_add_B65 x0 x8 r65 s) := by
  intro r65 hr65 x9
  refine r_iload E dX10_add_65 2 rfl ?_
  refine r_iconst E dX10_add_67 (zkI (by decide) (by decide)) ?_
  refine r_icmp_ge E 100 (by decide) dX10_add_68 (fun _ => ?_) (fun _ => ?_)
  · exact r_return E rfl hT dX10_add_100
  · refine r_aload_n E dX10_add_71 rfl 0 rfl ?_
    refine r_aload_n E dX10_add_72 rfl 0 rfl ?_
    refine r_get E zc_12 zt_1102 dX10_add_73 q827 zr_12 (zg_1102 _) h0 (fun v4 => ?_)
    refine r_aload_n E dX10_add_76 rfl 0 rfl ?_
    refine r_gec (y := x0) E zc_12 dX10_add_77 q823 zr_12 (zh_1100 (by omega)) h0 ?_
    refine r_iload E dX10_add_80 1 rfl ?_
    refine r_iload E dX10_add_82 2 rfl ?_
    refine r_iadd E dX10_add_84 ?_
    refine r_laload E zc_1100 za_1100 zt_1100 zx_1100 rfl rfl dX10_add_85 h0 (fun v5 => ?_)
    refine r_lxor E dX10_add_86 ?_
    refine r_ldc2 (v := 1099511628211) E dX10_add_87 q2196 (by decide) (zkJ (by decide) (by decide)) ?_
    refine r_lmul E dX10_add_90 ?_
    refine r_put E zc_12 zt_1102 zo_1102 dX10_add_91 q827 zr_12 zw_X10 zp_1102 (fun _ => rfl) (fun _ => rfl) h0 ?_
    refine r_iinc (ls' := fun v6 => [(9, 0, v6), (0, 12, x0), (8, 0, x8)]) E 2 rfl (by rw [hN]; decide) (fun _ => rfl) dX10_add_94 (fun v6 _ => ?_)
    refine r_goto E 65 (by decide) dX10_add_97 ?_
    refine r_pick E [1, 2, 0] rfl ?_
    exact hr65 v6
theorem w_fX10_add {K : zK} (E : zE K cX10_add "RingHouse$Trace" none 0) (hN : zNl K = 10) (hT : zTr K = none) (x0 : Int) (x1 : Int) (x2 : Int) (x4 : Int) (x6 : Int) (h0 : 0 ≤ x0) : zR K 0 [(0, 12, x0), (1, 0, x1), (2, 1, x2), (4, 1, x4), (6, 1, x6)] [] (fX10_add x0 x1 x2 x4 x6) := by
  refine r_iconst E dX10_add_0 (zkI (by decide) (by decide)) ?_
  refine r_aload_n E dX10_add_1 rfl 0 rfl ?_
  refine r_get E zc_12 zt_1101 dX10_add_2 q825 zr_12 (zg_1101 _) h0 (fun v1 => ?_)
  refine r_bipush E dX10_add_5 (by decide) (zkI (by decide) (by decide)) ?_
  refine r_irem E (by decide) dX10_add_7 ?_
  refine r_imul E dX10_add_8 ?_
  refine r_let E (fun v2 ev2 => ?_)
  refine r_istore (ls' := [(8, 0, v2), (0, 12, x0), (1, 0, x1), (2, 1, x2), (4, 1, x4), (6, 1, x6)]) E dX10_add_9 (by rw [hN]; decide) rfl ?_
  refine r_aload_n E dX10_add_11 rfl 1 rfl ?_
  refine r_gec (y := x0) E zc_12 dX10_add_12 q823 zr_12 (zh_1100 (by omega)) h0 ?_
  refine r_iload E dX10_add_15 0 rfl ?_
  refine r_iload_n E dX10_add_17 rfl 2 rfl ?_
  refine r_i2l E dX10_add_18 ?_
  refine r_lastore E zc_1100 za_1100 zt_1100 zo_1100 zx_1100 rfl rfl dX10_add_19 h0 ?_
  refine r_aload_n E dX10_add_20 rfl 1 rfl ?_
  refine r_gec (y := x0) E zc_12 dX10_add_21 q823 zr_12 (zh_1100 (by omega)) h0 ?_
  refine r_iload E dX10_add_24 0 rfl ?_
  refine r_iconst E dX10_add_26 (zkI (by decide) (by decide)) ?_
  refine r_iadd E dX10_add_27 ?_
  refine r_lload_n E dX10_add_28 rfl 3 rfl ?_
  refine r_lastore E zc_1100 za_1100 zt_1100 zo_1100 zx_1100 rfl rfl dX10_add_29 h0 ?_
  refine r_aload_n E dX10_add_30 rfl 1 rfl ?_
  refine r_gec (y := x0) E zc_12 dX10_add_31 q823 zr_12 (zh_1100 (by omega)) h0 ?_
  refine r_iload E dX10_add_34 0 rfl ?_
  refine r_iconst E dX10_add_36 (zkI (by decide) (by decide)) ?_
  refine r_iadd E dX10_add_37 ?_
  refine r_lload E dX10_add_38 4 rfl ?_
  refine r_lastore E zc_1100 za_1100 zt_1100 zo_1100 zx_1100 rfl rfl dX10_add_40 h0 ?_
  refine r_aload_n E dX10_add_41 rfl 1 rfl ?_
  refine r_gec (y := x0) E zc_12 dX10_add_42 q823 zr_12 (zh_1100 (by omega)) h0 ?_
  refine r_iload E dX10_add_45 0 rfl ?_
  refine r_iconst E dX10_add_47 (zkI (by decide) (by decide)) ?_
  refine r_iadd E dX10_add_48 ?_
  refine r_lload E dX10_add_49 5 rfl ?_
  refine r_lastore E zc_1100 za_1100 zt_1100 zo_1100 zx_1100 rfl rfl dX10_add_51 h0 ?_
  refine r_aload_n E dX10_add_52 rfl 1 rfl ?_
  refine r_dup E (zn1 rfl) dX10_add_53 ?_
  refine r_get E zc_12 zt_1101 dX10_add_54 q825 zr_12 (zg_1101 _) h0 (fun v3 => ?_)
  refine r_iconst E dX10_add_57 (zkI (by decide) (by decide)) ?_
  refine r_iadd E dX10_add_58 ?_
  refine r_put E zc_12 zt_1101 zo_1101 dX10_add_59 q825 zr_12 zw_X10 zp_1101 (fun _ => rfl) (fun _ => rfl) h0 ?_
  refine r_iconst E dX10_add_62 (zkI (by decide) (by decide)) ?_
  refine r_istore (ls' := [(9, 0, 0), (8, 0, v2), (0, 12, x0), (1, 0, x1), (2, 1, x2), (4, 1, x4), (6, 1, x6)]) E dX10_add_63 (by rw [hN]; decide) rfl ?_
  refine r_pick E [2, 1, 0] rfl ?_
  exact r_loop (L := fun s => [(0, 12, x0), (8, 0, v2), (9, 0, s)]) (w_fX10_add_B65 E hN hT x0 v2 h0) zBIG 0
theorem k_fX10_add (l : Launch) (G : zG) (x0 : Int) (x1 : Int) (x2 : Int) (x4 : Int) (x6 : Int) (h0 : 0 ≤ x0) : zCt l G yX10_add cX10_add 10 none 0 [(12, x0), (0, x1), (1, x2), (1, x4), (1, x6)] none (fX10_add x0 x1 x2 x4 x6) := zCt.of (by decide) (Nat.le_of_ble_eq_true rfl) (fun K E _ _ hN hT => w_fX10_add E hN hT x0 x1 x2 x4 x6 h0)
theorem dX8_event_0 : decode cX8_event 0 = .ok (.aload_n 0, 1) := by decide +kernel
theorem dX8_event_1 : decode cX8_event 1 = .ok (.getfield 54, 3) := by decide +kernel
theorem dX8_event_4 : decode cX8_event 4 = .ok (.iload_n 1, 1) := by decide +kernel
theorem dX8_event_5 : decode cX8_event 5 = .ok (.lload_n 2, 1) := by decide +kernel
theorem dX8_event_6 : decode cX8_event 6 = .ok (.lload 4, 2) := by decide +kernel
theorem dX8_event_8 : decode cX8_event 8 = .ok (.lload 6, 2) := by decide +kernel
theorem dX8_event_10 : decode cX8_event 10 = .ok (.invokevirtual 123, 3) := by decide +kernel
theorem dX8_event_13 : decode cX8_event 13 = .ok (.return_, 1) := by decide +kernel
theorem zy_X8_event : yX8_event.cls ≠ "java/lang/invoke/MethodHandle" ∧ yX8_event.cls ≠ "java/lang/invoke/VarHandle" ∧ (parseMethodDescriptor yX8_event.desc).map (fun d => d.parameters.length) = some 4 := by decide +kernel
theorem w_fX8_event {K : zK} (E : zE K cX8_event "RingHouse$Process" none 1) (hN : zNl K = 8) (hT : zTr K = none) (x0 : Int) (x1 : Int) (x2 : Int) (x4 : Int) (x6 : Int) (h0 : 0 ≤ x0) : zR K 0 [(0, 10, x0), (1, 0, x1), (2, 1, x2), (4, 1, x4), (6, 1, x6)] [] (fX8_event x0 x1 x2 x4 x6) := by
  refine r_aload_n E dX8_event_0 rfl 0 rfl ?_
  refine r_gec (y := x0) E zc_10 dX8_event_1 q942 zr_10 (zh_925 (by omega)) h0 ?_
  refine r_iload_n E dX8_event_4 rfl 1 rfl ?_
  refine r_lload_n E dX8_event_5 rfl 2 rfl ?_
  refine r_lload E dX8_event_6 3 rfl ?_
  refine r_lload E dX8_event_8 4 rfl ?_
  refine r_callV E [(0, x1), (1, x2), (1, x4), (1, x6)] [] rfl zc_12 zr_12 (fun o _ => ⟨_, zw_X10.1 o, rfl⟩) (lw_V q2192 q2193 q2194 q237 q2195) dX8_event_10 zy_X10_add rfl (by omega) (by decide) (Nat.le_of_ble_eq_true rfl) h0 (fun l G => k_fX10_add l G x0 x1 x2 x4 x6 h0) (fun _ => ?_)
  exact r_return E rfl hT dX8_event_13
theorem k_fX8_event (l : Launch) (G : zG) (x0 : Int) (x1 : Int) (x2 : Int) (x4 : Int) (x6 : Int) (h0 : 0 ≤ x0) : zCt l G yX8_event cX8_event 8 none 1 [(10, x0), (0, x1), (1, x2), (1, x4), (1, x6)] none (fX8_event x0 x1 x2 x4 x6) := zCt.of (by decide) (Nat.le_of_ble_eq_true rfl) (fun K E _ _ hN hT => w_fX8_event E hN hT x0 x1 x2 x4 x6 h0)
theorem dX9_copy_0 : decode cX9_copy 0 = .ok (.aload_n 0, 1) := by decide +kernel
theorem dX9_copy_1 : decode cX9_copy 1 = .ok (.aload_n 1, 1) := by decide +kernel
theorem dX9_copy_2 : decode cX9_copy 2 = .ok (.getfield 22, 3) := by decide +kernel
theorem dX9_copy_5 : decode cX9_copy 5 = .ok (.putfield 22, 3) := by decide +kernel
theorem dX9_copy_8 : decode cX9_copy 8 = .ok (.aload_n 0, 1) := by decide +kernel
theorem dX9_copy_9 : decode cX9_copy 9 = .ok (.aload_n 1, 1) := by decide +kernel
theorem dX9_copy_10 : decode cX9_copy 10 = .ok (.getfield 26, 3) := by decide +kernel
theorem dX9_copy_13 : decode cX9_copy 13 = .ok (.putfield 26, 3) := by decide +kernel
theorem dX9_copy_16 : decode cX9_copy 16 = .ok (.iconst 0, 1) := by decide +kernel
theorem dX9_copy_17 : decode cX9_copy 17 = .ok (.istore_n 2, 1) := by decide +kernel
theorem dX9_copy_18 : decode cX9_copy 18 = .ok (.iload_n 2, 1) := by decide +kernel
theorem dX9_copy_19 : decode cX9_copy 19 = .ok (.iconst 4, 1) := by decide +kernel
theorem dX9_copy_20 : decode cX9_copy 20 = .ok (.if_icmp .ge 21, 3) := by decide +kernel
theorem dX9_copy_23 : decode cX9_copy 23 = .ok (.aload_n 0, 1) := by decide +kernel
theorem dX9_copy_24 : decode cX9_copy 24 = .ok (.getfield 7, 3) := by decide +kernel
theorem dX9_copy_27 : decode cX9_copy 27 = .ok (.iload_n 2, 1) := by decide +kernel
theorem dX9_copy_28 : decode cX9_copy 28 = .ok (.aload_n 1, 1) := by decide +kernel
theorem dX9_copy_29 : decode cX9_copy 29 = .ok (.getfield 7, 3) := by decide +kernel
theorem dX9_copy_32 : decode cX9_copy 32 = .ok (.iload_n 2, 1) := by decide +kernel
theorem dX9_copy_33 : decode cX9_copy 33 = .ok (.iaload, 1) := by decide +kernel
theorem dX9_copy_34 : decode cX9_copy 34 = .ok (.iastore, 1) := by decide +kernel
theorem dX9_copy_35 : decode cX9_copy 35 = .ok (.iinc 2 1, 3) := by decide +kernel
theorem dX9_copy_38 : decode cX9_copy 38 = .ok (.goto (-20), 3) := by decide +kernel
theorem dX9_copy_41 : decode cX9_copy 41 = .ok (.iconst 0, 1) := by decide +kernel
theorem dX9_copy_42 : decode cX9_copy 42 = .ok (.istore_n 2, 1) := by decide +kernel
theorem dX9_copy_43 : decode cX9_copy 43 = .ok (.iload_n 2, 1) := by decide +kernel
theorem dX9_copy_44 : decode cX9_copy 44 = .ok (.bipush 8, 2) := by decide +kernel
theorem dX9_copy_46 : decode cX9_copy 46 = .ok (.if_icmp .ge 32, 3) := by decide +kernel
theorem dX9_copy_49 : decode cX9_copy 49 = .ok (.aload_n 0, 1) := by decide +kernel
theorem dX9_copy_50 : decode cX9_copy 50 = .ok (.iload_n 2, 1) := by decide +kernel
theorem dX9_copy_51 : decode cX9_copy 51 = .ok (.aload_n 1, 1) := by decide +kernel
theorem dX9_copy_52 : decode cX9_copy 52 = .ok (.getfield 13, 3) := by decide +kernel
theorem dX9_copy_55 : decode cX9_copy 55 = .ok (.iload_n 2, 1) := by decide +kernel
theorem dX9_copy_56 : decode cX9_copy 56 = .ok (.iaload, 1) := by decide +kernel
theorem dX9_copy_57 : decode cX9_copy 57 = .ok (.aload_n 1, 1) := by decide +kernel
theorem dX9_copy_58 : decode cX9_copy 58 = .ok (.getfield 16, 3) := by decide +kernel
theorem dX9_copy_61 : decode cX9_copy 61 = .ok (.iload_n 2, 1) := by decide +kernel
theorem dX9_copy_62 : decode cX9_copy 62 = .ok (.iaload, 1) := by decide +kernel
theorem dX9_copy_63 : decode cX9_copy 63 = .ok (.aload_n 1, 1) := by decide +kernel
theorem dX9_copy_64 : decode cX9_copy 64 = .ok (.getfield 19, 3) := by decide +kernel
theorem dX9_copy_67 : decode cX9_copy 67 = .ok (.iload_n 2, 1) := by decide +kernel
theorem dX9_copy_68 : decode cX9_copy 68 = .ok (.iaload, 1) := by decide +kernel
theorem dX9_copy_69 : decode cX9_copy 69 = .ok (.invokevirtual 29, 3) := by decide +kernel
theorem dX9_copy_72 : decode cX9_copy 72 = .ok (.iinc 2 1, 3) := by decide +kernel
theorem dX9_copy_75 : decode cX9_copy 75 = .ok (.goto (-32), 3) := by decide +kernel
theorem dX9_copy_78 : decode cX9_copy 78 = .ok (.aload_n 0, 1) := by decide +kernel
theorem dX9_copy_79 : decode cX9_copy 79 = .ok (.aload_n 1, 1) := by decide +kernel
theorem dX9_copy_80 : decode cX9_copy 80 = .ok (.getfield 44, 3) := by decide +kernel
theorem dX9_copy_83 : decode cX9_copy 83 = .ok (.aload_n 1, 1) := by decide +kernel
theorem dX9_copy_84 : decode cX9_copy 84 = .ok (.getfield 48, 3) := by decide +kernel
theorem dX9_copy_87 : decode cX9_copy 87 = .ok (.aload_n 1, 1) := by decide +kernel
theorem dX9_copy_88 : decode cX9_copy 88 = .ok (.getfield 51, 3) := by decide +kernel
theorem dX9_copy_91 : decode cX9_copy 91 = .ok (.invokevirtual 33, 3) := by decide +kernel
theorem dX9_copy_94 : decode cX9_copy 94 = .ok (.aload_n 0, 1) := by decide +kernel
theorem dX9_copy_95 : decode cX9_copy 95 = .ok (.aload_n 1, 1) := by decide +kernel
theorem dX9_copy_96 : decode cX9_copy 96 = .ok (.getfield 37, 3) := by decide +kernel
theorem dX9_copy_99 : decode cX9_copy 99 = .ok (.putfield 37, 3) := by decide +kernel
theorem dX9_copy_102 : decode cX9_copy 102 = .ok (.aload_n 0, 1) := by decide +kernel
theorem dX9_copy_103 : decode cX9_copy 103 = .ok (.aload_n 1, 1) := by decide +kernel
theorem dX9_copy_104 : decode cX9_copy 104 = .ok (.getfield 41, 3) := by decide +kernel
theorem dX9_copy_107 : decode cX9_copy 107 = .ok (.putfield 41, 3) := by decide +kernel
theorem dX9_copy_110 : decode cX9_copy 110 = .ok (.return_, 1) := by decide +kernel
theorem zy_X9_copy : yX9_copy.cls ≠ "java/lang/invoke/MethodHandle" ∧ yX9_copy.cls ≠ "java/lang/invoke/VarHandle" ∧ (parseMethodDescriptor yX9_copy.desc).map (fun d => d.parameters.length) = some 1 := by decide +kernel
theorem w_fX9_copy_J78 {K : zK} (E : zE K cX9_copy "RingHouse$Registers" none 1) (hN : zNl K = 3) (hT : zTr K = none) (x0 : Int) (x1 : Int) (h0 : 0 ≤ x0) : zR K 78 [(0, 11, x0), (1, 11, x1)] [] (fX9_copy_J78 x0 x1) := by
  refine r_aload_n E dX9_copy_78 rfl 0 rfl ?_
  refine r_aload_n E dX9_copy_79 rfl 1 rfl ?_
  refine r_nn E (fun hn4 => ?_)
  refine r_get E zc_11 zt_1006 dX9_copy_80 q756 zr_11 (zg_1006 _) hn4 (fun v5 => ?_)
  refine r_aload_n E dX9_copy_83 rfl 1 rfl ?_
  refine r_get E zc_11 zt_1007 dX9_copy_84 q761 zr_11 (zg_1007 _) hn4 (fun v6 => ?_)
  refine r_aload_n E dX9_copy_87 rfl 1 rfl ?_
  refine r_get E zc_11 zt_1008 dX9_copy_88 q777 zr_11 (zg_1008 _) hn4 (fun v7 => ?_)
  refine r_callV E [(0, v5), (0, v6), (0, v7)] [] rfl zc_11 zr_11 (fun o _ => ⟨_, zw_X9.1 o, rfl⟩) (lw_V q2142 q2143 q2144 q236 q2145) dX9_copy_91 zy_X9_go rfl (by omega) (by decide) (Nat.le_of_ble_eq_true rfl) h0 (fun l G => k_fX9_go l G x0 v5 v6 v7 h0) (fun _ => ?_)
  refine r_aload_n E dX9_copy_94 rfl 0 rfl ?_
  refine r_aload_n E dX9_copy_95 rfl 1 rfl ?_
  refine r_get E zc_11 zt_1009 dX9_copy_96 q783 zr_11 (zg_1009 _) hn4 (fun v9 => ?_)
  refine r_pb (fun hb10 => ?_)
  refine r_put E zc_11 zt_1009 zo_1009 dX9_copy_99 q783 zr_11 zw_X9 zp_1009 (znb hb10) (zfb hb10) h0 ?_
  refine r_aload_n E dX9_copy_102 rfl 0 rfl ?_
  refine r_aload_n E dX9_copy_103 rfl 1 rfl ?_
  refine r_get E zc_11 zt_1010 dX9_copy_104 q787 zr_11 (zg_1010 _) hn4 (fun v11 => ?_)
  refine r_pb (fun hb12 => ?_)
  refine r_put E zc_11 zt_1010 zo_1010 dX9_copy_107 q787 zr_11 zw_X9 zp_1010 (znb hb12) (zfb hb12) h0 ?_
  exact r_return E rfl hT dX9_copy_110
theorem w_fX9_copy_B43 {K : zK} (E : zE K cX9_copy "RingHouse$Registers" none 1) (hN : zNl K = 3) (hT : zTr K = none) (x0 : Int) (x1 : Int) (h0 : 0 ≤ x0) : ∀ r43 : Int → zX, (∀ s : Int, zR K 43 [(0, 11, x0), (1, 11, x1), (2, 0, s)] [] (r43 s)) → ∀ s : Int, zR K 43 [(0, 11, x0), (1, 11, x1), (2, 0, s)] [] (fX9_copy_B43 x0 x1 r43 s) := by
  intro r43 hr43 x2
  refine r_iload_n E dX9_copy_43 rfl 2 rfl ?_
  refine r_bipush E dX9_copy_44 (by decide) (zkI (by decide) (by decide)) ?_
  refine r_icmp_ge E 78 (by decide) dX9_copy_46 (fun _ => ?_) (fun _ => ?_)
  · refine r_pick E [0, 1] rfl ?_
    exact w_fX9_copy_J78 E hN hT x0 x1 h0
  · refine r_aload_n E dX9_copy_49 rfl 0 rfl ?_
    refine r_iload_n E dX9_copy_50 rfl 2 rfl ?_
    refine r_aload_n E dX9_copy_51 rfl 1 rfl ?_
    refine r_nn E (fun hn13 => ?_)
    refine r_gec (y := x1) E zc_11 dX9_copy_52 q747 zr_11 (zh_1003 (by omega)) hn13 ?_
    refine r_iload_n E dX9_copy_55 rfl 2 rfl ?_
    refine r_iaload E zc_1003 za_1003 zt_1003 zx_1003 rfl rfl dX9_copy_56 hn13 (fun v14 => ?_)
    refine r_aload_n E dX9_copy_57 rfl 1 rfl ?_
    refine r_gec (y := x1) E zc_11 dX9_copy_58 q750 zr_11 (zh_1004 (by omega)) hn13 ?_
    refine r_iload_n E dX9_copy_61 rfl 2 rfl ?_
    refine r_iaload E zc_1004 za_1004 zt_1004 zx_1004 rfl rfl dX9_copy_62 hn13 (fun v15 => ?_)
    refine r_aload_n E dX9_copy_63 rfl 1 rfl ?_
    refine r_gec (y := x1) E zc_11 dX9_copy_64 q753 zr_11 (zh_1005 (by omega)) hn13 ?_
    refine r_iload_n E dX9_copy_67 rfl 2 rfl ?_
    refine r_iaload E zc_1005 za_1005 zt_1005 zx_1005 rfl rfl dX9_copy_68 hn13 (fun v16 => ?_)
    refine r_callV E [(0, x2), (0, v14), (0, v15), (0, v16)] [] rfl zc_11 zr_11 (fun o _ => ⟨_, zw_X9.1 o, rfl⟩) (lw_V q2138 q2139 q2140 q236 q2141) dX9_copy_69 zy_X9_point rfl (by omega) (by decide) (Nat.le_of_ble_eq_true rfl) h0 (fun l G => k_fX9_point l G x0 x2 v14 v15 v16 h0) (fun _ => ?_)
    refine r_iinc (ls' := fun v18 => [(2, 0, v18), (0, 11, x0), (1, 11, x1)]) E 2 rfl (by rw [hN]; decide) (fun _ => rfl) dX9_copy_72 (fun v18 _ => ?_)
    refine r_goto E 43 (by decide) dX9_copy_75 ?_
    refine r_pick E [1, 2, 0] rfl ?_
    exact hr43 v18
theorem w_fX9_copy_J41 {K : zK} (E : zE K cX9_copy "RingHouse$Registers" none 1) (hN : zNl K = 3) (hT : zTr K = none) (x0 : Int) (x1 : Int) (h0 : 0 ≤ x0) : zR K 41 [(0, 11, x0), (1, 11, x1)] [] (fX9_copy_J41 x0 x1) := by
  refine r_iconst E dX9_copy_41 (zkI (by decide) (by decide)) ?_
  refine r_istore_n (ls' := [(2, 0, 0), (0, 11, x0), (1, 11, x1)]) E dX9_copy_42 rfl (by rw [hN]; decide) rfl ?_
  refine r_pick E [1, 2, 0] rfl ?_
  exact r_loop (L := fun s => [(0, 11, x0), (1, 11, x1), (2, 0, s)]) (w_fX9_copy_B43 E hN hT x0 x1 h0) zBIG 0
theorem w_fX9_copy_B18 {K : zK} (E : zE K cX9_copy "RingHouse$Registers" none 1) (hN : zNl K = 3) (hT : zTr K = none) (x0 : Int) (x1 : Int) (h0 : 0 ≤ x0) : ∀ r18 : Int → zX, (∀ s : Int, zR K 18 [(0, 11, x0), (1, 11, x1), (2, 0, s)] [] (r18 s)) → ∀ s : Int, zR K 18 [(0, 11, x0), (1, 11, x1), (2, 0, s)] [] (fX9_copy_B18 x0 x1 r18 s) := by
  intro r18 hr18 x2
  refine r_iload_n E dX9_copy_18 rfl 2 rfl ?_
  refine r_iconst E dX9_copy_19 (zkI (by decide) (by decide)) ?_
  refine r_icmp_ge E 41 (by decide) dX9_copy_20 (fun _ => ?_) (fun _ => ?_)
  · refine r_pick E [0, 1] rfl ?_
    exact w_fX9_copy_J41 E hN hT x0 x1 h0
  · refine r_aload_n E dX9_copy_23 rfl 0 rfl ?_
    refine r_gec (y := x0) E zc_11 dX9_copy_24 q733 zr_11 (zh_1002 (by omega)) h0 ?_
    refine r_iload_n E dX9_copy_27 rfl 2 rfl ?_
    refine r_aload_n E dX9_copy_28 rfl 1 rfl ?_
    refine r_nn E (fun hn19 => ?_)
    refine r_gec (y := x1) E zc_11 dX9_copy_29 q733 zr_11 (zh_1002 (by omega)) hn19 ?_
    refine r_iload_n E dX9_copy_32 rfl 2 rfl ?_
    refine r_iaload E zc_1002 za_1002 zt_1002 zx_1002 rfl rfl dX9_copy_33 hn19 (fun v20 => ?_)
    refine r_iastore E zc_1002 za_1002 zt_1002 zo_1002 zx_1002 rfl rfl dX9_copy_34 h0 ?_
    refine r_iinc (ls' := fun v21 => [(2, 0, v21), (0, 11, x0), (1, 11, x1)]) E 2 rfl (by rw [hN]; decide) (fun _ => rfl) dX9_copy_35 (fun v21 _ => ?_)
    refine r_goto E 18 (by decide) dX9_copy_38 ?_
    refine r_pick E [1, 2, 0] rfl ?_
    exact hr18 v21
theorem w_fX9_copy {K : zK} (E : zE K cX9_copy "RingHouse$Registers" none 1) (hN : zNl K = 3) (hT : zTr K = none) (x0 : Int) (x1 : Int) (h0 : 0 ≤ x0) : zR K 0 [(0, 11, x0), (1, 11, x1)] [] (fX9_copy x0 x1) := by
  refine r_aload_n E dX9_copy_0 rfl 0 rfl ?_
  refine r_aload_n E dX9_copy_1 rfl 1 rfl ?_
  refine r_nn E (fun hn1 => ?_)
  refine r_get E zc_11 zt_1000 dX9_copy_2 q689 zr_11 (zg_1000 _) hn1 (fun v2 => ?_)
  refine r_put E zc_11 zt_1000 zo_1000 dX9_copy_5 q689 zr_11 zw_X9 zp_1000 (fun _ => rfl) (fun _ => rfl) h0 ?_
  refine r_aload_n E dX9_copy_8 rfl 0 rfl ?_
  refine r_aload_n E dX9_copy_9 rfl 1 rfl ?_
  refine r_get E zc_11 zt_1001 dX9_copy_10 q714 zr_11 (zg_1001 _) hn1 (fun v3 => ?_)
  refine r_put E zc_11 zt_1001 zo_1001 dX9_copy_13 q714 zr_11 zw_X9 zp_1001 (fun _ => rfl) (fun _ => rfl) h0 ?_
  refine r_iconst E dX9_copy_16 (zkI (by decide) (by decide)) ?_
  refine r_istore_n (ls' := [(2, 0, 0), (0, 11, x0), (1, 11, x1)]) E dX9_copy_17 rfl (by rw [hN]; decide) rfl ?_
  refine r_pick E [1, 2, 0] rfl ?_
  exact r_loop (L := fun s => [(0, 11, x0), (1, 11, x1), (2, 0, s)]) (w_fX9_copy_B18 E hN hT x0 x1 h0) zBIG 0
theorem k_fX9_copy (l : Launch) (G : zG) (x0 : Int) (x1 : Int) (h0 : 0 ≤ x0) : zCt l G yX9_copy cX9_copy 3 none 1 [(11, x0), (11, x1)] none (fX9_copy x0 x1) := zCt.of (by decide) (Nat.le_of_ble_eq_true rfl) (fun K E _ _ hN hT => w_fX9_copy E hN hT x0 x1 h0)
theorem dX0_pointerWord_0 : decode cX0_pointerWord 0 = .ok (.ldc2_w 23, 3) := by decide +kernel
theorem dX0_pointerWord_3 : decode cX0_pointerWord 3 = .ok (.iload_n 2, 1) := by decide +kernel
theorem dX0_pointerWord_4 : decode cX0_pointerWord 4 = .ok (.i2l, 1) := by decide +kernel
theorem dX0_pointerWord_5 : decode cX0_pointerWord 5 = .ok (.bipush 30, 2) := by decide +kernel
theorem dX0_pointerWord_7 : decode cX0_pointerWord 7 = .ok (.lshl, 1) := by decide +kernel
theorem dX0_pointerWord_8 : decode cX0_pointerWord 8 = .ok (.lor, 1) := by decide +kernel
theorem dX0_pointerWord_9 : decode cX0_pointerWord 9 = .ok (.iload_n 0, 1) := by decide +kernel
theorem dX0_pointerWord_10 : decode cX0_pointerWord 10 = .ok (.i2l, 1) := by decide +kernel
theorem dX0_pointerWord_11 : decode cX0_pointerWord 11 = .ok (.bipush 24, 2) := by decide +kernel
theorem dX0_pointerWord_13 : decode cX0_pointerWord 13 = .ok (.lshl, 1) := by decide +kernel
theorem dX0_pointerWord_14 : decode cX0_pointerWord 14 = .ok (.lor, 1) := by decide +kernel
theorem dX0_pointerWord_15 : decode cX0_pointerWord 15 = .ok (.iload_n 1, 1) := by decide +kernel
theorem dX0_pointerWord_16 : decode cX0_pointerWord 16 = .ok (.i2l, 1) := by decide +kernel
theorem dX0_pointerWord_17 : decode cX0_pointerWord 17 = .ok (.lor, 1) := by decide +kernel
theorem dX0_pointerWord_18 : decode cX0_pointerWord 18 = .ok (.lreturn, 1) := by decide +kernel
theorem zy_X0_pointerWord : yX0_pointerWord.cls ≠ "java/lang/invoke/MethodHandle" ∧ yX0_pointerWord.cls ≠ "java/lang/invoke/VarHandle" ∧ (parseMethodDescriptor yX0_pointerWord.desc).map (fun d => d.parameters.length) = some 3 := by decide +kernel
theorem w_fX0_pointerWord {K : zK} (E : zE K cX0_pointerWord "RingHouse" (some .long) 0) (hN : zNl K = 3) (hT : zTr K = (some 1)) (x0 : Int) (x1 : Int) (x2 : Int) : zR K 0 [(0, 0, x0), (1, 0, x1), (2, 0, x2)] [] (fX0_pointerWord x0 x1 x2) := by
  refine r_ldc2 (v := 42949672960) E dX0_pointerWord_0 q2225 (by decide) (zkJ (by decide) (by decide)) ?_
  refine r_iload_n E dX0_pointerWord_3 rfl 2 rfl ?_
  refine r_i2l E dX0_pointerWord_4 ?_
  refine r_bipush E dX0_pointerWord_5 (by decide) (zkI (by decide) (by decide)) ?_
  refine r_lshl (P := 1073741824) E (by decide) dX0_pointerWord_7 ?_
  refine r_lor E dX0_pointerWord_8 ?_
  refine r_iload_n E dX0_pointerWord_9 rfl 0 rfl ?_
  refine r_i2l E dX0_pointerWord_10 ?_
  refine r_bipush E dX0_pointerWord_11 (by decide) (zkI (by decide) (by decide)) ?_
  refine r_lshl (P := 16777216) E (by decide) dX0_pointerWord_13 ?_
  refine r_lor E dX0_pointerWord_14 ?_
  refine r_iload_n E dX0_pointerWord_15 rfl 1 rfl ?_
  refine r_i2l E dX0_pointerWord_16 ?_
  refine r_lor E dX0_pointerWord_17 ?_
  exact r_lreturn E rfl hT dX0_pointerWord_18
theorem k_fX0_pointerWord (l : Launch) (G : zG) (x0 : Int) (x1 : Int) (x2 : Int) : zCt l G yX0_pointerWord cX0_pointerWord 3 (some .long) 0 [(0, x0), (0, x1), (0, x2)] (some 1) (fX0_pointerWord x0 x1 x2) := zCt.of (by decide) (Nat.le_of_ble_eq_true rfl) (fun K E _ _ hN hT => w_fX0_pointerWord E hN hT x0 x1 x2)
theorem dX8_fault_0 : decode cX8_fault 0 = .ok (.aload_n 0, 1) := by decide +kernel
theorem dX8_fault_1 : decode cX8_fault 1 = .ok (.iconst 2, 1) := by decide +kernel
theorem dX8_fault_2 : decode cX8_fault 2 = .ok (.iload_n 1, 1) := by decide +kernel
theorem dX8_fault_3 : decode cX8_fault 3 = .ok (.i2l, 1) := by decide +kernel
theorem dX8_fault_4 : decode cX8_fault 4 = .ok (.iload_n 2, 1) := by decide +kernel
theorem dX8_fault_5 : decode cX8_fault 5 = .ok (.i2l, 1) := by decide +kernel
theorem dX8_fault_6 : decode cX8_fault 6 = .ok (.iload_n 3, 1) := by decide +kernel
theorem dX8_fault_7 : decode cX8_fault 7 = .ok (.i2l, 1) := by decide +kernel
theorem dX8_fault_8 : decode cX8_fault 8 = .ok (.invokevirtual 171, 3) := by decide +kernel
theorem dX8_fault_11 : decode cX8_fault 11 = .ok (.aload_n 0, 1) := by decide +kernel
theorem dX8_fault_12 : decode cX8_fault 12 = .ok (.getfield 96, 3) := by decide +kernel
theorem dX8_fault_15 : decode cX8_fault 15 = .ok (.ifCond .eq 25, 3) := by decide +kernel
theorem dX8_fault_18 : decode cX8_fault 18 = .ok (.aload_n 0, 1) := by decide +kernel
theorem dX8_fault_19 : decode cX8_fault 19 = .ok (.getfield 174, 3) := by decide +kernel
theorem dX8_fault_22 : decode cX8_fault 22 = .ok (.aload_n 0, 1) := by decide +kernel
theorem dX8_fault_23 : decode cX8_fault 23 = .ok (.getfield 12, 3) := by decide +kernel
theorem dX8_fault_26 : decode cX8_fault 26 = .ok (.getfield 168, 3) := by decide +kernel
theorem dX8_fault_29 : decode cX8_fault 29 = .ok (.if_icmp .gt 11, 3) := by decide +kernel
theorem dX8_fault_32 : decode cX8_fault 32 = .ok (.aload_n 0, 1) := by decide +kernel
theorem dX8_fault_33 : decode cX8_fault 33 = .ok (.getfield 93, 3) := by decide +kernel
theorem dX8_fault_36 : decode cX8_fault 36 = .ok (.iconst 4, 1) := by decide +kernel
theorem dX8_fault_37 : decode cX8_fault 37 = .ok (.if_icmp .ne 18, 3) := by decide +kernel
theorem dX8_fault_40 : decode cX8_fault 40 = .ok (.aload_n 0, 1) := by decide +kernel
theorem dX8_fault_41 : decode cX8_fault 41 = .ok (.iconst 3, 1) := by decide +kernel
theorem dX8_fault_42 : decode cX8_fault 42 = .ok (.putfield 71, 3) := by decide +kernel
theorem dX8_fault_45 : decode cX8_fault 45 = .ok (.aload_n 0, 1) := by decide +kernel
theorem dX8_fault_46 : decode cX8_fault 46 = .ok (.bipush 9, 2) := by decide +kernel
theorem dX8_fault_48 : decode cX8_fault 48 = .ok (.lconst 0, 1) := by decide +kernel
theorem dX8_fault_49 : decode cX8_fault 49 = .ok (.lconst 0, 1) := by decide +kernel
theorem dX8_fault_50 : decode cX8_fault 50 = .ok (.lconst 0, 1) := by decide +kernel
theorem dX8_fault_51 : decode cX8_fault 51 = .ok (.invokevirtual 171, 3) := by decide +kernel
theorem dX8_fault_54 : decode cX8_fault 54 = .ok (.return_, 1) := by decide +kernel
theorem dX8_fault_55 : decode cX8_fault 55 = .ok (.aload_n 0, 1) := by decide +kernel
theorem dX8_fault_56 : decode cX8_fault 56 = .ok (.getfield 18, 3) := by decide +kernel
theorem dX8_fault_59 : decode cX8_fault 59 = .ok (.aload_n 0, 1) := by decide +kernel
theorem dX8_fault_60 : decode cX8_fault 60 = .ok (.getfield 93, 3) := by decide +kernel
theorem dX8_fault_63 : decode cX8_fault 63 = .ok (.aaload, 1) := by decide +kernel
theorem dX8_fault_64 : decode cX8_fault 64 = .ok (.aload_n 0, 1) := by decide +kernel
theorem dX8_fault_65 : decode cX8_fault 65 = .ok (.getfield 12, 3) := by decide +kernel
theorem dX8_fault_68 : decode cX8_fault 68 = .ok (.invokevirtual 177, 3) := by decide +kernel
theorem dX8_fault_71 : decode cX8_fault 71 = .ok (.aload_n 0, 1) := by decide +kernel
theorem dX8_fault_72 : decode cX8_fault 72 = .ok (.dup, 1) := by decide +kernel
theorem dX8_fault_73 : decode cX8_fault 73 = .ok (.getfield 93, 3) := by decide +kernel
theorem dX8_fault_76 : decode cX8_fault 76 = .ok (.iconst 1, 1) := by decide +kernel
theorem dX8_fault_77 : decode cX8_fault 77 = .ok (.iadd, 1) := by decide +kernel
theorem dX8_fault_78 : decode cX8_fault 78 = .ok (.putfield 93, 3) := by decide +kernel
theorem dX8_fault_81 : decode cX8_fault 81 = .ok (.aload_n 0, 1) := by decide +kernel
theorem dX8_fault_82 : decode cX8_fault 82 = .ok (.getfield 12, 3) := by decide +kernel
theorem dX8_fault_85 : decode cX8_fault 85 = .ok (.iload_n 1, 1) := by decide +kernel
theorem dX8_fault_86 : decode cX8_fault 86 = .ok (.i2l, 1) := by decide +kernel
theorem dX8_fault_87 : decode cX8_fault 87 = .ok (.putfield 181, 3) := by decide +kernel
theorem dX8_fault_90 : decode cX8_fault 90 = .ok (.aload_n 0, 1) := by decide +kernel
theorem dX8_fault_91 : decode cX8_fault 91 = .ok (.getfield 12, 3) := by decide +kernel
theorem dX8_fault_94 : decode cX8_fault 94 = .ok (.iload_n 2, 1) := by decide +kernel
theorem dX8_fault_95 : decode cX8_fault 95 = .ok (.iload_n 3, 1) := by decide +kernel
theorem dX8_fault_96 : decode cX8_fault 96 = .ok (.iload 4, 2) := by decide +kernel
theorem dX8_fault_98 : decode cX8_fault 98 = .ok (.invokestatic 185, 3) := by decide +kernel
theorem dX8_fault_101 : decode cX8_fault 101 = .ok (.putfield 189, 3) := by decide +kernel
theorem dX8_fault_104 : decode cX8_fault 104 = .ok (.aload_n 0, 1) := by decide +kernel
theorem dX8_fault_105 : decode cX8_fault 105 = .ok (.getfield 12, 3) := by decide +kernel
theorem dX8_fault_108 : decode cX8_fault 108 = .ok (.aload_n 0, 1) := by decide +kernel
theorem dX8_fault_109 : decode cX8_fault 109 = .ok (.getfield 192, 3) := by decide +kernel
theorem dX8_fault_112 : decode cX8_fault 112 = .ok (.aload_n 0, 1) := by decide +kernel
theorem dX8_fault_113 : decode cX8_fault 113 = .ok (.getfield 195, 3) := by decide +kernel
theorem dX8_fault_116 : decode cX8_fault 116 = .ok (.aload_n 0, 1) := by decide +kernel
theorem dX8_fault_117 : decode cX8_fault 117 = .ok (.getfield 174, 3) := by decide +kernel
theorem dX8_fault_120 : decode cX8_fault 120 = .ok (.invokevirtual 89, 3) := by decide +kernel
theorem dX8_fault_123 : decode cX8_fault 123 = .ok (.return_, 1) := by decide +kernel
theorem zy_X8_fault : yX8_fault.cls ≠ "java/lang/invoke/MethodHandle" ∧ yX8_fault.cls ≠ "java/lang/invoke/VarHandle" ∧ (parseMethodDescriptor yX8_fault.desc).map (fun d => d.parameters.length) = some 4 := by decide +kernel
theorem w_fX8_fault_J40 {K : zK} (E : zE K cX8_fault "RingHouse$Process" none 2) (hN : zNl K = 5) (hT : zTr K = none) (x0 : Int) (h0 : 0 ≤ x0) : zR K 40 [(0, 10, x0)] [] (fX8_fault_J40 x0) := by
  refine r_aload_n E dX8_fault_40 rfl 0 rfl ?_
  refine r_iconst E dX8_fault_41 (zkI (by decide) (by decide)) ?_
  refine r_put E zc_10 zt_903 zo_903 dX8_fault_42 q862 zr_10 zw_X8 zp_903 (fun _ => rfl) (fun _ => rfl) h0 ?_
  refine r_aload_n E dX8_fault_45 rfl 0 rfl ?_
  refine r_bipush E dX8_fault_46 (by decide) (zkI (by decide) (by decide)) ?_
  refine r_lconst (v := 0) E dX8_fault_48 (by decide) (zkJ (by decide) (by decide)) ?_
  refine r_lconst (v := 0) E dX8_fault_49 (by decide) (zkJ (by decide) (by decide)) ?_
  refine r_lconst (v := 0) E dX8_fault_50 (by decide) (zkJ (by decide) (by decide)) ?_
  refine r_callV E [(0, 9), (1, 0), (1, 0), (1, 0)] [] rfl zc_10 zr_10 (fun o _ => ⟨_, zw_X8.1 o, rfl⟩) (lw_V q2217 q2189 q2190 q235 q2191) dX8_fault_51 zy_X8_event rfl (by omega) (by decide) (Nat.le_of_ble_eq_true rfl) h0 (fun l G => k_fX8_event l G x0 9 0 0 0 h0) (fun _ => ?_)
  exact r_return E rfl hT dX8_fault_54
theorem w_fX8_fault {K : zK} (E : zE K cX8_fault "RingHouse$Process" none 2) (hN : zNl K = 5) (hT : zTr K = none) (x0 : Int) (x1 : Int) (x2 : Int) (x3 : Int) (x4 : Int) (h0 : 0 ≤ x0) : zR K 0 [(0, 10, x0), (1, 0, x1), (2, 0, x2), (3, 0, x3), (4, 0, x4)] [] (fX8_fault x0 x1 x2 x3 x4) := by
  refine r_aload_n E dX8_fault_0 rfl 0 rfl ?_
  refine r_iconst E dX8_fault_1 (zkI (by decide) (by decide)) ?_
  refine r_iload_n E dX8_fault_2 rfl 1 rfl ?_
  refine r_i2l E dX8_fault_3 ?_
  refine r_iload_n E dX8_fault_4 rfl 2 rfl ?_
  refine r_i2l E dX8_fault_5 ?_
  refine r_iload_n E dX8_fault_6 rfl 3 rfl ?_
  refine r_i2l E dX8_fault_7 ?_
  refine r_callV E [(0, 2), (1, x1), (1, x2), (1, x3)] [] rfl zc_10 zr_10 (fun o _ => ⟨_, zw_X8.1 o, rfl⟩) (lw_V q2217 q2189 q2190 q235 q2191) dX8_fault_8 zy_X8_event rfl (by omega) (by decide) (Nat.le_of_ble_eq_true rfl) h0 (fun l G => k_fX8_event l G x0 2 x1 x2 x3 h0) (fun _ => ?_)
  refine r_aload_n E dX8_fault_11 rfl 0 rfl ?_
  refine r_get E zc_10 zt_911 dX8_fault_12 q899 zr_10 (zg_911 _) h0 (fun v2 => ?_)
  refine r_if_eq E 40 (by decide) dX8_fault_15 (fun _ => ?_) (fun _ => ?_)
  · refine r_pick E [0] rfl ?_
    exact w_fX8_fault_J40 E hN hT x0 h0
  · refine r_aload_n E dX8_fault_18 rfl 0 rfl ?_
    refine r_get E zc_10 zt_914 dX8_fault_19 q906 zr_10 (zg_914 _) h0 (fun v4 => ?_)
    refine r_aload_n E dX8_fault_22 rfl 0 rfl ?_
    refine r_gec (y := x0) E zc_10 dX8_fault_23 q890 zr_10 (zh_908 (by omega)) h0 ?_
    refine r_getN E zc_11 zt_1008 dX8_fault_26 q779 zr_11 (zg_1008 _) h0 (fun v5 => ?_)
    refine r_icmp_gt E 40 (by decide) dX8_fault_29 (fun _ => ?_) (fun _ => ?_)
    · refine r_pick E [0] rfl ?_
      exact w_fX8_fault_J40 E hN hT x0 h0
    · refine r_aload_n E dX8_fault_32 rfl 0 rfl ?_
      refine r_get E zc_10 zt_910 dX8_fault_33 q896 zr_10 (zg_910 _) h0 (fun v6 => ?_)
      refine r_iconst E dX8_fault_36 (zkI (by decide) (by decide)) ?_
      refine r_icmp_ne E 55 (by decide) dX8_fault_37 (fun _ => ?_) (fun _ => ?_)
      · refine r_aload_n E dX8_fault_55 rfl 0 rfl ?_
        refine r_gec (y := x0) E zc_10 dX8_fault_56 q893 zr_10 (zh_909 (by omega)) h0 ?_
        refine r_aload_n E dX8_fault_59 rfl 0 rfl ?_
        refine r_get E zc_10 zt_910 dX8_fault_60 q896 zr_10 (zg_910 _) h0 (fun v7 => ?_)
        refine r_aaloc (y := (4 * x0 + 8 + v7)) E zc_909 za_909 zt_909 zx_909 rfl rfl (by omega) dX8_fault_63 h0 (fun hi9 => ?_)
        refine r_aload_n E dX8_fault_64 rfl 0 rfl ?_
        refine r_gec (y := x0) E zc_10 dX8_fault_65 q890 zr_10 (zh_908 (by omega)) h0 ?_
        refine r_callV E [(11, x0)] [] rfl zc_11 zr_11 (fun o _ => ⟨_, zw_X9.1 o, rfl⟩) (lw_V q2218 q2219 q2220 q236 q2221) dX8_fault_68 zy_X9_copy rfl (by omega) (by decide) (Nat.le_of_ble_eq_true rfl) (by omega) (fun l G => k_fX9_copy l G (4 * x0 + 8 + v7) x0 (by omega)) (fun _ => ?_)
        refine r_aload_n E dX8_fault_71 rfl 0 rfl ?_
        refine r_dup E (zn1 rfl) dX8_fault_72 ?_
        refine r_get E zc_10 zt_910 dX8_fault_73 q896 zr_10 (zg_910 _) h0 (fun v11 => ?_)
        refine r_iconst E dX8_fault_76 (zkI (by decide) (by decide)) ?_
        refine r_iadd E dX8_fault_77 ?_
        refine r_put E zc_10 zt_910 zo_910 dX8_fault_78 q896 zr_10 zw_X8 zp_910 (fun _ => rfl) (fun _ => rfl) h0 ?_
        refine r_aload_n E dX8_fault_81 rfl 0 rfl ?_
        refine r_gec (y := x0) E zc_10 dX8_fault_82 q890 zr_10 (zh_908 (by omega)) h0 ?_
        refine r_iload_n E dX8_fault_85 rfl 1 rfl ?_
        refine r_i2l E dX8_fault_86 ?_
        refine r_putN E zc_11 zt_1000 zo_1000 dX8_fault_87 q708 zr_11 zw_X9 zp_1000 (fun _ => rfl) (fun _ => rfl) h0 ?_
        refine r_aload_n E dX8_fault_90 rfl 0 rfl ?_
        refine r_gec (y := x0) E zc_10 dX8_fault_91 q890 zr_10 (zh_908 (by omega)) h0 ?_
        refine r_iload_n E dX8_fault_94 rfl 2 rfl ?_
        refine r_iload_n E dX8_fault_95 rfl 3 rfl ?_
        refine r_iload E dX8_fault_96 4 rfl ?_
        refine r_callSN E [(0, x2), (0, x3), (0, x4)] [(11, x0)] rfl q2222 q2223 q227 q2224 dX8_fault_98 zy_X0_pointerWord rfl (by omega) (by decide) (Nat.le_of_ble_eq_true rfl) (fun l G => k_fX0_pointerWord l G x2 x3 x4) (fun v12 => ?_)
        refine r_putN E zc_11 zt_1001 zo_1001 dX8_fault_101 q731 zr_11 zw_X9 zp_1001 (fun _ => rfl) (fun _ => rfl) h0 ?_
        refine r_aload_n E dX8_fault_104 rfl 0 rfl ?_
        refine r_gec (y := x0) E zc_10 dX8_fault_105 q890 zr_10 (zh_908 (by omega)) h0 ?_
        refine r_aload_n E dX8_fault_108 rfl 0 rfl ?_
        refine r_get E zc_10 zt_912 dX8_fault_109 q902 zr_10 (zg_912 _) h0 (fun v13 => ?_)
        refine r_aload_n E dX8_fault_112 rfl 0 rfl ?_
        refine r_get E zc_10 zt_913 dX8_fault_113 q904 zr_10 (zg_913 _) h0 (fun v14 => ?_)
        refine r_aload_n E dX8_fault_116 rfl 0 rfl ?_
        refine r_get E zc_10 zt_914 dX8_fault_117 q906 zr_10 (zg_914 _) h0 (fun v15 => ?_)
        refine r_callV E [(0, v13), (0, v14), (0, v15)] [] rfl zc_11 zr_11 (fun o _ => ⟨_, zw_X9.1 o, rfl⟩) (lw_V q2146 q2143 q2144 q236 q2145) dX8_fault_120 zy_X9_go rfl (by omega) (by decide) (Nat.le_of_ble_eq_true rfl) h0 (fun l G => k_fX9_go l G x0 v13 v14 v15 h0) (fun _ => ?_)
        exact r_return E rfl hT dX8_fault_123
      · refine r_pick E [0] rfl ?_
        exact w_fX8_fault_J40 E hN hT x0 h0
theorem k_fX8_fault (l : Launch) (G : zG) (x0 : Int) (x1 : Int) (x2 : Int) (x3 : Int) (x4 : Int) (h0 : 0 ≤ x0) : zCt l G yX8_fault cX8_fault 5 none 2 [(10, x0), (0, x1), (0, x2), (0, x3), (0, x4)] none (fX8_fault x0 x1 x2 x3 x4) := zCt.of (by decide) (Nat.le_of_ble_eq_true rfl) (fun K E _ _ hN hT => w_fX8_fault E hN hT x0 x1 x2 x3 x4 h0)
theorem dX12_refuse_0 : decode cX12_refuse 0 = .ok (.aload_n 0, 1) := by decide +kernel
theorem dX12_refuse_1 : decode cX12_refuse 1 = .ok (.getfield 246, 3) := by decide +kernel
theorem dX12_refuse_4 : decode cX12_refuse 4 = .ok (.iload_n 1, 1) := by decide +kernel
theorem dX12_refuse_5 : decode cX12_refuse 5 = .ok (.iload_n 2, 1) := by decide +kernel
theorem dX12_refuse_6 : decode cX12_refuse 6 = .ok (.iload_n 3, 1) := by decide +kernel
theorem dX12_refuse_7 : decode cX12_refuse 7 = .ok (.iload 4, 2) := by decide +kernel
theorem dX12_refuse_9 : decode cX12_refuse 9 = .ok (.invokevirtual 250, 3) := by decide +kernel
theorem dX12_refuse_12 : decode cX12_refuse 12 = .ok (.iconst 0, 1) := by decide +kernel
theorem dX12_refuse_13 : decode cX12_refuse 13 = .ok (.ireturn, 1) := by decide +kernel
theorem zy_X12_refuse : yX12_refuse.cls ≠ "java/lang/invoke/MethodHandle" ∧ yX12_refuse.cls ≠ "java/lang/invoke/VarHandle" ∧ (parseMethodDescriptor yX12_refuse.desc).map (fun d => d.parameters.length) = some 4 := by decide +kernel
theorem w_fX12_refuse {K : zK} (E : zE K cX12_refuse "RingHouse$Machine" (some .boolean) 3) (hN : zNl K = 5) (hT : zTr K = (some 0)) (x1 : Int) (x2 : Int) (x3 : Int) (x4 : Int) : zR K 0 [(0, 14, 0), (1, 0, x1), (2, 0, x2), (3, 0, x3), (4, 0, x4)] [] (fX12_refuse x1 x2 x3 x4) := by
  refine r_aload_n E dX12_refuse_0 rfl 0 rfl ?_
  refine r_get E zc_14 zt_1307 dX12_refuse_1 q1550 zr_14 (zg_1307 _) (by decide) (fun v1 => ?_)
  refine r_iload_n E dX12_refuse_4 rfl 1 rfl ?_
  refine r_iload_n E dX12_refuse_5 rfl 2 rfl ?_
  refine r_iload_n E dX12_refuse_6 rfl 3 rfl ?_
  refine r_iload E dX12_refuse_7 4 rfl ?_
  refine r_nn E (fun hn2 => ?_)
  refine r_callV E [(0, x1), (0, x2), (0, x3), (0, x4)] [] rfl zc_10 zr_10 (fun o _ => ⟨_, zw_X8.1 o, rfl⟩) (lw_V q2213 q2214 q2215 q235 q2216) dX12_refuse_9 zy_X8_fault rfl (by omega) (by decide) (Nat.le_of_ble_eq_true rfl) hn2 (fun l G => k_fX8_fault l G v1 x1 x2 x3 x4 hn2) (fun _ => ?_)
  refine r_iconst E dX12_refuse_12 (zkI (by decide) (by decide)) ?_
  exact r_zreturn E rfl hT (by decide) dX12_refuse_13
theorem k_fX12_refuse (l : Launch) (G : zG) (x1 : Int) (x2 : Int) (x3 : Int) (x4 : Int) : zCt l G yX12_refuse cX12_refuse 5 (some .boolean) 3 [(14, 0), (0, x1), (0, x2), (0, x3), (0, x4)] (some 0) (fX12_refuse x1 x2 x3 x4) := zCt.of (by decide) (Nat.le_of_ble_eq_true rfl) (fun K E _ _ hN hT => w_fX12_refuse E hN hT x1 x2 x3 x4)
theorem dX12_isThere_0 : decode cX12_isThere 0 = .ok (.iload_n 1, 1) := by decide +kernel
theorem dX12_isThere_1 : decode cX12_isThere 1 = .ok (.bipush 8, 2) := by decide +kernel
theorem dX12_isThere_3 : decode cX12_isThere 3 = .ok (.if_icmp .ge 26, 3) := by decide +kernel
theorem dX12_isThere_6 : decode cX12_isThere 6 = .ok (.iload_n 2, 1) := by decide +kernel
theorem dX12_isThere_7 : decode cX12_isThere 7 = .ok (.bipush 64, 2) := by decide +kernel
theorem dX12_isThere_9 : decode cX12_isThere 9 = .ok (.if_icmp .lt 14, 3) := by decide +kernel
theorem dX12_isThere_12 : decode cX12_isThere 12 = .ok (.aload_n 0, 1) := by decide +kernel
theorem dX12_isThere_13 : decode cX12_isThere 13 = .ok (.iconst 2, 1) := by decide +kernel
theorem dX12_isThere_14 : decode cX12_isThere 14 = .ok (.iload_n 1, 1) := by decide +kernel
theorem dX12_isThere_15 : decode cX12_isThere 15 = .ok (.iload_n 2, 1) := by decide +kernel
theorem dX12_isThere_16 : decode cX12_isThere 16 = .ok (.iload_n 3, 1) := by decide +kernel
theorem dX12_isThere_17 : decode cX12_isThere 17 = .ok (.invokevirtual 272, 3) := by decide +kernel
theorem dX12_isThere_20 : decode cX12_isThere 20 = .ok (.ifCond .eq 7, 3) := by decide +kernel
theorem dX12_isThere_23 : decode cX12_isThere 23 = .ok (.iconst 1, 1) := by decide +kernel
theorem dX12_isThere_24 : decode cX12_isThere 24 = .ok (.goto 4, 3) := by decide +kernel
theorem dX12_isThere_27 : decode cX12_isThere 27 = .ok (.iconst 0, 1) := by decide +kernel
theorem dX12_isThere_28 : decode cX12_isThere 28 = .ok (.ireturn, 1) := by decide +kernel
theorem dX12_isThere_29 : decode cX12_isThere 29 = .ok (.aload_n 0, 1) := by decide +kernel
theorem dX12_isThere_30 : decode cX12_isThere 30 = .ok (.getfield 246, 3) := by decide +kernel
theorem dX12_isThere_33 : decode cX12_isThere 33 = .ok (.getfield 276, 3) := by decide +kernel
theorem dX12_isThere_36 : decode cX12_isThere 36 = .ok (.iload_n 1, 1) := by decide +kernel
theorem dX12_isThere_37 : decode cX12_isThere 37 = .ok (.aaload, 1) := by decide +kernel
theorem dX12_isThere_38 : decode cX12_isThere 38 = .ok (.astore 4, 2) := by decide +kernel
theorem dX12_isThere_40 : decode cX12_isThere 40 = .ok (.aload 4, 2) := by decide +kernel
theorem dX12_isThere_42 : decode cX12_isThere 42 = .ok (.ifnonnull 12, 3) := by decide +kernel
theorem dX12_isThere_45 : decode cX12_isThere 45 = .ok (.aload_n 0, 1) := by decide +kernel
theorem dX12_isThere_46 : decode cX12_isThere 46 = .ok (.iconst 1, 1) := by decide +kernel
theorem dX12_isThere_47 : decode cX12_isThere 47 = .ok (.iload_n 1, 1) := by decide +kernel
theorem dX12_isThere_48 : decode cX12_isThere 48 = .ok (.iload_n 2, 1) := by decide +kernel
theorem dX12_isThere_49 : decode cX12_isThere 49 = .ok (.iload_n 3, 1) := by decide +kernel
theorem dX12_isThere_50 : decode cX12_isThere 50 = .ok (.invokevirtual 272, 3) := by decide +kernel
theorem dX12_isThere_53 : decode cX12_isThere 53 = .ok (.ireturn, 1) := by decide +kernel
theorem dX12_isThere_54 : decode cX12_isThere 54 = .ok (.iload_n 2, 1) := by decide +kernel
theorem dX12_isThere_55 : decode cX12_isThere 55 = .ok (.aload 4, 2) := by decide +kernel
theorem dX12_isThere_57 : decode cX12_isThere 57 = .ok (.getfield 280, 3) := by decide +kernel
theorem dX12_isThere_60 : decode cX12_isThere 60 = .ok (.if_icmp .lt 14, 3) := by decide +kernel
theorem dX12_isThere_63 : decode cX12_isThere 63 = .ok (.aload_n 0, 1) := by decide +kernel
theorem dX12_isThere_64 : decode cX12_isThere 64 = .ok (.iconst 2, 1) := by decide +kernel
theorem dX12_isThere_65 : decode cX12_isThere 65 = .ok (.iload_n 1, 1) := by decide +kernel
theorem dX12_isThere_66 : decode cX12_isThere 66 = .ok (.iload_n 2, 1) := by decide +kernel
theorem dX12_isThere_67 : decode cX12_isThere 67 = .ok (.iload_n 3, 1) := by decide +kernel
theorem dX12_isThere_68 : decode cX12_isThere 68 = .ok (.invokevirtual 272, 3) := by decide +kernel
theorem dX12_isThere_71 : decode cX12_isThere 71 = .ok (.ifCond .eq 7, 3) := by decide +kernel
theorem dX12_isThere_74 : decode cX12_isThere 74 = .ok (.iconst 1, 1) := by decide +kernel
theorem dX12_isThere_75 : decode cX12_isThere 75 = .ok (.goto 4, 3) := by decide +kernel
theorem dX12_isThere_78 : decode cX12_isThere 78 = .ok (.iconst 0, 1) := by decide +kernel
theorem dX12_isThere_79 : decode cX12_isThere 79 = .ok (.ireturn, 1) := by decide +kernel
theorem zy_X12_isThere : yX12_isThere.cls ≠ "java/lang/invoke/MethodHandle" ∧ yX12_isThere.cls ≠ "java/lang/invoke/VarHandle" ∧ (parseMethodDescriptor yX12_isThere.desc).map (fun d => d.parameters.length) = some 3 := by decide +kernel
theorem w_fX12_isThere {K : zK} (E : zE K cX12_isThere "RingHouse$Machine" (some .boolean) 4) (hN : zNl K = 5) (hT : zTr K = (some 0)) (x1 : Int) (x2 : Int) (x3 : Int) : zR K 0 [(0, 14, 0), (1, 0, x1), (2, 0, x2), (3, 0, x3)] [] (fX12_isThere x1 x2 x3) := by
  refine r_iload_n E dX12_isThere_0 rfl 1 rfl ?_
  refine r_bipush E dX12_isThere_1 (by decide) (zkI (by decide) (by decide)) ?_
  refine r_icmp_ge E 29 (by decide) dX12_isThere_3 (fun _ => ?_) (fun _ => ?_)
  · refine r_aload_n E dX12_isThere_29 rfl 0 rfl ?_
    refine r_get E zc_14 zt_1307 dX12_isThere_30 q1550 zr_14 (zg_1307 _) (by decide) (fun v1 => ?_)
    refine r_nn E (fun hn2 => ?_)
    refine r_gecN (y := v1) E zc_10 dX12_isThere_33 q913 zr_10 (zh_916 (by omega)) hn2 ?_
    refine r_iload_n E dX12_isThere_36 rfl 1 rfl ?_
    refine r_aaload E zc_916 za_916 zt_916 zx_916 rfl rfl dX12_isThere_37 hn2 (fun v3 => ?_)
    refine r_astore (ls' := [(4, 6, v3), (0, 14, 0), (1, 0, x1), (2, 0, x2), (3, 0, x3)]) E dX12_isThere_38 (by rw [hN]; decide) rfl ?_
    refine r_aload E dX12_isThere_40 0 rfl ?_
    refine r_ifnonnull E 54 (by decide) dX12_isThere_42 (fun _ => ?_) (fun hz4 => ?_)
    · refine r_aload_n E dX12_isThere_45 rfl 1 rfl ?_
      refine r_iconst E dX12_isThere_46 (zkI (by decide) (by decide)) ?_
      refine r_iload_n E dX12_isThere_47 rfl 2 rfl ?_
      refine r_iload_n E dX12_isThere_48 rfl 3 rfl ?_
      refine r_iload_n E dX12_isThere_49 rfl 4 rfl ?_
      refine r_callV E [(0, 1), (0, x1), (0, x2), (0, x3)] [] rfl zc_14 zr_14 (fun o _ => ⟨_, zw_X12.1 o, rfl⟩) (lw_V q2209 q2211 qs15 q239 q2212) dX12_isThere_50 zy_X12_refuse rfl (by omega) (by decide) (Nat.le_of_ble_eq_true rfl) (by decide) (fun l G => k_fX12_refuse l G 1 x1 x2 x3) (fun v5 => ?_)
      exact r_zreturnb E rfl hT dX12_isThere_53
    · refine r_iload_n E dX12_isThere_54 rfl 3 rfl ?_
      refine r_aload E dX12_isThere_55 0 rfl ?_
      refine r_getN E zc_6 zt_522 dX12_isThere_57 q476 zr_6 (zg_522 _) (Int.not_lt.mp hz4) (fun v6 => ?_)
      refine r_icmp_lt E 74 (by decide) dX12_isThere_60 (fun _ => ?_) (fun _ => ?_)
      · refine r_iconst E dX12_isThere_74 (zkI (by decide) (by decide)) ?_
        refine r_goto E 79 (by decide) dX12_isThere_75 ?_
        exact r_zreturn E rfl hT (by decide) dX12_isThere_79
      · refine r_aload_n E dX12_isThere_63 rfl 1 rfl ?_
        refine r_iconst E dX12_isThere_64 (zkI (by decide) (by decide)) ?_
        refine r_iload_n E dX12_isThere_65 rfl 2 rfl ?_
        refine r_iload_n E dX12_isThere_66 rfl 3 rfl ?_
        refine r_iload_n E dX12_isThere_67 rfl 4 rfl ?_
        refine r_callV E [(0, 2), (0, x1), (0, x2), (0, x3)] [] rfl zc_14 zr_14 (fun o _ => ⟨_, zw_X12.1 o, rfl⟩) (lw_V q2209 q2211 qs15 q239 q2212) dX12_isThere_68 zy_X12_refuse rfl (by omega) (by decide) (Nat.le_of_ble_eq_true rfl) (by decide) (fun l G => k_fX12_refuse l G 2 x1 x2 x3) (fun v7 => ?_)
        refine r_if_eq E 78 (by decide) dX12_isThere_71 (fun _ => ?_) (fun _ => ?_)
        · refine r_iconst E dX12_isThere_78 (zkI (by decide) (by decide)) ?_
          exact r_zreturn E rfl hT (by decide) dX12_isThere_79
        · refine r_iconst E dX12_isThere_74 (zkI (by decide) (by decide)) ?_
          refine r_goto E 79 (by decide) dX12_isThere_75 ?_
          exact r_zreturn E rfl hT (by decide) dX12_isThere_79
  · refine r_iload_n E dX12_isThere_6 rfl 2 rfl ?_
    refine r_bipush E dX12_isThere_7 (by decide) (zkI (by decide) (by decide)) ?_
    refine r_icmp_lt E 23 (by decide) dX12_isThere_9 (fun _ => ?_) (fun _ => ?_)
    · refine r_iconst E dX12_isThere_23 (zkI (by decide) (by decide)) ?_
      refine r_goto E 28 (by decide) dX12_isThere_24 ?_
      exact r_zreturn E rfl hT (by decide) dX12_isThere_28
    · refine r_aload_n E dX12_isThere_12 rfl 0 rfl ?_
      refine r_iconst E dX12_isThere_13 (zkI (by decide) (by decide)) ?_
      refine r_iload_n E dX12_isThere_14 rfl 1 rfl ?_
      refine r_iload_n E dX12_isThere_15 rfl 2 rfl ?_
      refine r_iload_n E dX12_isThere_16 rfl 3 rfl ?_
      refine r_callV E [(0, 2), (0, x1), (0, x2), (0, x3)] [] rfl zc_14 zr_14 (fun o _ => ⟨_, zw_X12.1 o, rfl⟩) (lw_V q2209 q2211 qs15 q239 q2212) dX12_isThere_17 zy_X12_refuse rfl (by omega) (by decide) (Nat.le_of_ble_eq_true rfl) (by decide) (fun l G => k_fX12_refuse l G 2 x1 x2 x3) (fun v8 => ?_)
      refine r_if_eq E 27 (by decide) dX12_isThere_20 (fun _ => ?_) (fun _ => ?_)
      · refine r_iconst E dX12_isThere_27 (zkI (by decide) (by decide)) ?_
        exact r_zreturn E rfl hT (by decide) dX12_isThere_28
      · refine r_iconst E dX12_isThere_23 (zkI (by decide) (by decide)) ?_
        refine r_goto E 28 (by decide) dX12_isThere_24 ?_
        exact r_zreturn E rfl hT (by decide) dX12_isThere_28
theorem k_fX12_isThere (l : Launch) (G : zG) (x1 : Int) (x2 : Int) (x3 : Int) : zCt l G yX12_isThere cX12_isThere 5 (some .boolean) 4 [(14, 0), (0, x1), (0, x2), (0, x3)] (some 0) (fX12_isThere x1 x2 x3) := zCt.of (by decide) (Nat.le_of_ble_eq_true rfl) (fun K E _ _ hN hT => w_fX12_isThere E hN hT x1 x2 x3)
theorem dX8_rightsOf_0 : decode cX8_rightsOf 0 = .ok (.aload_n 0, 1) := by decide +kernel
theorem dX8_rightsOf_1 : decode cX8_rightsOf 1 = .ok (.getfield 34, 3) := by decide +kernel
theorem dX8_rightsOf_4 : decode cX8_rightsOf 4 = .ok (.iload_n 1, 1) := by decide +kernel
theorem dX8_rightsOf_5 : decode cX8_rightsOf 5 = .ok (.aaload, 1) := by decide +kernel
theorem dX8_rightsOf_6 : decode cX8_rightsOf 6 = .ok (.astore_n 2, 1) := by decide +kernel
theorem dX8_rightsOf_7 : decode cX8_rightsOf 7 = .ok (.aload_n 2, 1) := by decide +kernel
theorem dX8_rightsOf_8 : decode cX8_rightsOf 8 = .ok (.getfield 127, 3) := by decide +kernel
theorem dX8_rightsOf_11 : decode cX8_rightsOf 11 = .ok (.aload_n 0, 1) := by decide +kernel
theorem dX8_rightsOf_12 : decode cX8_rightsOf 12 = .ok (.getfield 58, 3) := by decide +kernel
theorem dX8_rightsOf_15 : decode cX8_rightsOf 15 = .ok (.getfield 133, 3) := by decide +kernel
theorem dX8_rightsOf_18 : decode cX8_rightsOf 18 = .ok (.if_icmp .eq 75, 3) := by decide +kernel
theorem dX8_rightsOf_21 : decode cX8_rightsOf 21 = .ok (.aload_n 0, 1) := by decide +kernel
theorem dX8_rightsOf_22 : decode cX8_rightsOf 22 = .ok (.getfield 28, 3) := by decide +kernel
theorem dX8_rightsOf_25 : decode cX8_rightsOf 25 = .ok (.iload_n 1, 1) := by decide +kernel
theorem dX8_rightsOf_26 : decode cX8_rightsOf 26 = .ok (.aaload, 1) := by decide +kernel
theorem dX8_rightsOf_27 : decode cX8_rightsOf 27 = .ok (.astore_n 3, 1) := by decide +kernel
theorem dX8_rightsOf_28 : decode cX8_rightsOf 28 = .ok (.aload_n 2, 1) := by decide +kernel
theorem dX8_rightsOf_29 : decode cX8_rightsOf 29 = .ok (.aload_n 0, 1) := by decide +kernel
theorem dX8_rightsOf_30 : decode cX8_rightsOf 30 = .ok (.getfield 58, 3) := by decide +kernel
theorem dX8_rightsOf_33 : decode cX8_rightsOf 33 = .ok (.getfield 133, 3) := by decide +kernel
theorem dX8_rightsOf_36 : decode cX8_rightsOf 36 = .ok (.putfield 127, 3) := by decide +kernel
theorem dX8_rightsOf_39 : decode cX8_rightsOf 39 = .ok (.aload_n 2, 1) := by decide +kernel
theorem dX8_rightsOf_40 : decode cX8_rightsOf 40 = .ok (.aload_n 3, 1) := by decide +kernel
theorem dX8_rightsOf_41 : decode cX8_rightsOf 41 = .ok (.getfield 134, 3) := by decide +kernel
theorem dX8_rightsOf_44 : decode cX8_rightsOf 44 = .ok (.aload_n 0, 1) := by decide +kernel
theorem dX8_rightsOf_45 : decode cX8_rightsOf 45 = .ok (.getfield 74, 3) := by decide +kernel
theorem dX8_rightsOf_48 : decode cX8_rightsOf 48 = .ok (.aload_n 0, 1) := by decide +kernel
theorem dX8_rightsOf_49 : decode cX8_rightsOf 49 = .ok (.getfield 77, 3) := by decide +kernel
theorem dX8_rightsOf_52 : decode cX8_rightsOf 52 = .ok (.invokevirtual 138, 3) := by decide +kernel
theorem dX8_rightsOf_55 : decode cX8_rightsOf 55 = .ok (.putfield 144, 3) := by decide +kernel
theorem dX8_rightsOf_58 : decode cX8_rightsOf 58 = .ok (.aload_n 2, 1) := by decide +kernel
theorem dX8_rightsOf_59 : decode cX8_rightsOf 59 = .ok (.aload_n 0, 1) := by decide +kernel
theorem dX8_rightsOf_60 : decode cX8_rightsOf 60 = .ok (.getfield 80, 3) := by decide +kernel
theorem dX8_rightsOf_63 : decode cX8_rightsOf 63 = .ok (.aload_n 3, 1) := by decide +kernel
theorem dX8_rightsOf_64 : decode cX8_rightsOf 64 = .ok (.getfield 147, 3) := by decide +kernel
theorem dX8_rightsOf_67 : decode cX8_rightsOf 67 = .ok (.invokestatic 148, 3) := by decide +kernel
theorem dX8_rightsOf_70 : decode cX8_rightsOf 70 = .ok (.putfield 152, 3) := by decide +kernel
theorem dX8_rightsOf_73 : decode cX8_rightsOf 73 = .ok (.aload_n 2, 1) := by decide +kernel
theorem dX8_rightsOf_74 : decode cX8_rightsOf 74 = .ok (.aload_n 0, 1) := by decide +kernel
theorem dX8_rightsOf_75 : decode cX8_rightsOf 75 = .ok (.getfield 80, 3) := by decide +kernel
theorem dX8_rightsOf_78 : decode cX8_rightsOf 78 = .ok (.aload_n 3, 1) := by decide +kernel
theorem dX8_rightsOf_79 : decode cX8_rightsOf 79 = .ok (.getfield 147, 3) := by decide +kernel
theorem dX8_rightsOf_82 : decode cX8_rightsOf 82 = .ok (.if_icmp .ne 7, 3) := by decide +kernel
theorem dX8_rightsOf_85 : decode cX8_rightsOf 85 = .ok (.iconst 1, 1) := by decide +kernel
theorem dX8_rightsOf_86 : decode cX8_rightsOf 86 = .ok (.goto 4, 3) := by decide +kernel
theorem dX8_rightsOf_89 : decode cX8_rightsOf 89 = .ok (.iconst 0, 1) := by decide +kernel
theorem dX8_rightsOf_90 : decode cX8_rightsOf 90 = .ok (.putfield 155, 3) := by decide +kernel
theorem dX8_rightsOf_93 : decode cX8_rightsOf 93 = .ok (.aload_n 2, 1) := by decide +kernel
theorem dX8_rightsOf_94 : decode cX8_rightsOf 94 = .ok (.areturn, 1) := by decide +kernel
theorem zy_X8_rightsOf : yX8_rightsOf.cls ≠ "java/lang/invoke/MethodHandle" ∧ yX8_rightsOf.cls ≠ "java/lang/invoke/VarHandle" ∧ (parseMethodDescriptor yX8_rightsOf.desc).map (fun d => d.parameters.length) = some 1 := by decide +kernel
theorem w_fX8_rightsOf_J90 {K : zK} (E : zE K cX8_rightsOf "RingHouse$Process" (some (.object "RingHouse$Rights")) 3) (hN : zNl K = 4) (hT : zTr K = (some 13)) (x2 : Int) (s0 : Int) (s1 : Int) : zR K 90 [(2, 13, x2)] [(0, s1), (13, s0)] (fX8_rightsOf_J90 x2 s0 s1) := by
  refine r_nn E (fun hn18 => ?_)
  refine r_pb (fun hb19 => ?_)
  refine r_putN E zc_13 zt_1203 zo_1203 dX8_rightsOf_90 q844 zr_13 zw_X11 zp_1203 (znb hb19) (zfb hb19) hn18 ?_
  refine r_aload_n E dX8_rightsOf_93 rfl 0 rfl ?_
  exact r_areturn E rfl hT dX8_rightsOf_94
theorem w_fX8_rightsOf {K : zK} (E : zE K cX8_rightsOf "RingHouse$Process" (some (.object "RingHouse$Rights")) 3) (hN : zNl K = 4) (hT : zTr K = (some 13)) (x0 : Int) (x1 : Int) (h0 : 0 ≤ x0) : zR K 0 [(0, 10, x0), (1, 0, x1)] [] (fX8_rightsOf x0 x1) := by
  refine r_aload_n E dX8_rightsOf_0 rfl 0 rfl ?_
  refine r_gec (y := x0) E zc_10 dX8_rightsOf_1 q915 zr_10 (zh_917 (by omega)) h0 ?_
  refine r_iload_n E dX8_rightsOf_4 rfl 1 rfl ?_
  refine r_aaloc (y := (32 * x0 + x1)) E zc_917 za_917 zt_917 zx_917 rfl rfl (by omega) dX8_rightsOf_5 h0 (fun hi2 => ?_)
  refine r_let E (fun v3 ev3 => ?_)
  refine r_astore_n (ls' := [(2, 13, v3), (0, 10, x0), (1, 0, x1)]) E dX8_rightsOf_6 rfl (by rw [hN]; decide) rfl ?_
  refine r_aload_n E dX8_rightsOf_7 rfl 0 rfl ?_
  refine r_getN E zc_13 zt_1200 dX8_rightsOf_8 q841 zr_13 (zg_1200 _) (by omega) (fun v4 => ?_)
  refine r_aload_n E dX8_rightsOf_11 rfl 1 rfl ?_
  refine r_gec (y := 0) E zc_10 dX8_rightsOf_12 q854 zr_10 (zh_900 (by omega)) h0 ?_
  refine r_getN E zc_3 zt_207 dX8_rightsOf_15 q604 zr_3 (zg_207 _) (by decide) (fun v5 => ?_)
  refine r_icmp_eq E 93 (by decide) dX8_rightsOf_18 (fun _ => ?_) (fun _ => ?_)
  · refine r_aload_n E dX8_rightsOf_93 rfl 0 rfl ?_
    exact r_areturn E rfl hT dX8_rightsOf_94
  · refine r_aload_n E dX8_rightsOf_21 rfl 1 rfl ?_
    refine r_gec (y := x0) E zc_10 dX8_rightsOf_22 q910 zr_10 (zh_916 (by omega)) h0 ?_
    refine r_iload_n E dX8_rightsOf_25 rfl 2 rfl ?_
    refine r_aaload E zc_916 za_916 zt_916 zx_916 rfl rfl dX8_rightsOf_26 h0 (fun v6 => ?_)
    refine r_astore_n (ls' := [(3, 6, v6), (2, 13, v3), (0, 10, x0), (1, 0, x1)]) E dX8_rightsOf_27 rfl (by rw [hN]; decide) rfl ?_
    refine r_aload_n E dX8_rightsOf_28 rfl 1 rfl ?_
    refine r_aload_n E dX8_rightsOf_29 rfl 2 rfl ?_
    refine r_gec (y := 0) E zc_10 dX8_rightsOf_30 q854 zr_10 (zh_900 (by omega)) h0 ?_
    refine r_getN E zc_3 zt_207 dX8_rightsOf_33 q604 zr_3 (zg_207 _) (by decide) (fun v7 => ?_)
    refine r_putN E zc_13 zt_1200 zo_1200 dX8_rightsOf_36 q841 zr_13 zw_X11 zp_1200 (fun _ => rfl) (fun _ => rfl) (by omega) ?_
    refine r_aload_n E dX8_rightsOf_39 rfl 1 rfl ?_
    refine r_aload_n E dX8_rightsOf_40 rfl 0 rfl ?_
    refine r_nn E (fun hn8 => ?_)
    refine r_gecN (y := (3 * v6)) E zc_6 dX8_rightsOf_41 q413 zr_6 (zh_508 (by omega)) hn8 ?_
    refine r_aload_n E dX8_rightsOf_44 rfl 2 rfl ?_
    refine r_get E zc_10 zt_904 dX8_rightsOf_45 q866 zr_10 (zg_904 _) h0 (fun v9 => ?_)
    refine r_aload_n E dX8_rightsOf_48 rfl 2 rfl ?_
    refine r_get E zc_10 zt_905 dX8_rightsOf_49 q872 zr_10 (zg_905 _) h0 (fun v10 => ?_)
    refine r_callV E [(0, v9), (0, v10)] [(13, v3)] rfl zc_7 zr_7 (fun o _ => ⟨_, zw_X5.1 o, rfl⟩) (lw_V q2234 q2074 q2075 q232 q2076) dX8_rightsOf_52 zy_X5_of rfl (by omega) (by decide) (Nat.le_of_ble_eq_true rfl) (by omega) (fun l G => k_fX5_of l G (3 * v6) v9 v10 (by omega)) (fun v11 => ?_)
    refine r_putN E zc_13 zt_1201 zo_1201 dX8_rightsOf_55 q842 zr_13 zw_X11 zp_1201 (fun _ => rfl) (fun _ => rfl) (by omega) ?_
    refine r_aload_n E dX8_rightsOf_58 rfl 1 rfl ?_
    refine r_aload_n E dX8_rightsOf_59 rfl 2 rfl ?_
    refine r_get E zc_10 zt_906 dX8_rightsOf_60 q882 zr_10 (zg_906 _) h0 (fun v12 => ?_)
    refine r_aload_n E dX8_rightsOf_63 rfl 0 rfl ?_
    refine r_getN E zc_6 zt_503 dX8_rightsOf_64 q393 zr_6 (zg_503 _) hn8 (fun v13 => ?_)
    refine r_callSN E [(0, v12), (0, v13)] [(13, v3)] rfl q2235 q1858 q227 q1859 dX8_rightsOf_67 zy_X0_dominates rfl (by omega) (by decide) (Nat.le_of_ble_eq_true rfl) (fun l G => k_fX0_dominates l G v12 v13) (fun v14 => ?_)
    refine r_pb (fun hb15 => ?_)
    refine r_putN E zc_13 zt_1202 zo_1202 dX8_rightsOf_70 q843 zr_13 zw_X11 zp_1202 (znb hb15) (zfb hb15) (by omega) ?_
    refine r_aload_n E dX8_rightsOf_73 rfl 1 rfl ?_
    refine r_aload_n E dX8_rightsOf_74 rfl 2 rfl ?_
    refine r_get E zc_10 zt_906 dX8_rightsOf_75 q882 zr_10 (zg_906 _) h0 (fun v16 => ?_)
    refine r_aload_n E dX8_rightsOf_78 rfl 0 rfl ?_
    refine r_getN E zc_6 zt_503 dX8_rightsOf_79 q393 zr_6 (zg_503 _) hn8 (fun v17 => ?_)
    refine r_icmp_ne E 89 (by decide) dX8_rightsOf_82 (fun _ => ?_) (fun _ => ?_)
    · refine r_iconst E dX8_rightsOf_89 (zkI (by decide) (by decide)) ?_
      refine r_pick E [1] rfl ?_
      exact w_fX8_rightsOf_J90 E hN hT v3 v3 0
    · refine r_iconst E dX8_rightsOf_85 (zkI (by decide) (by decide)) ?_
      refine r_goto E 90 (by decide) dX8_rightsOf_86 ?_
      refine r_pick E [1] rfl ?_
      exact w_fX8_rightsOf_J90 E hN hT v3 v3 1
theorem k_fX8_rightsOf (l : Launch) (G : zG) (x0 : Int) (x1 : Int) (h0 : 0 ≤ x0) : zCt l G yX8_rightsOf cX8_rightsOf 4 (some (.object "RingHouse$Rights")) 3 [(10, x0), (0, x1)] (some 13) (fX8_rightsOf x0 x1) := zCt.of (by decide) (Nat.le_of_ble_eq_true rfl) (fun K E _ _ hN hT => w_fX8_rightsOf E hN hT x0 x1 h0)
theorem dX8_refusal_0 : decode cX8_refusal 0 = .ok (.aload_n 0, 1) := by decide +kernel
theorem dX8_refusal_1 : decode cX8_refusal 1 = .ok (.getfield 28, 3) := by decide +kernel
theorem dX8_refusal_4 : decode cX8_refusal 4 = .ok (.iload_n 1, 1) := by decide +kernel
theorem dX8_refusal_5 : decode cX8_refusal 5 = .ok (.aaload, 1) := by decide +kernel
theorem dX8_refusal_6 : decode cX8_refusal 6 = .ok (.astore 4, 2) := by decide +kernel
theorem dX8_refusal_8 : decode cX8_refusal 8 = .ok (.aload_n 0, 1) := by decide +kernel
theorem dX8_refusal_9 : decode cX8_refusal 9 = .ok (.iload_n 1, 1) := by decide +kernel
theorem dX8_refusal_10 : decode cX8_refusal 10 = .ok (.invokevirtual 158, 3) := by decide +kernel
theorem dX8_refusal_13 : decode cX8_refusal 13 = .ok (.astore 5, 2) := by decide +kernel
theorem dX8_refusal_15 : decode cX8_refusal 15 = .ok (.aload 5, 2) := by decide +kernel
theorem dX8_refusal_17 : decode cX8_refusal 17 = .ok (.getfield 144, 3) := by decide +kernel
theorem dX8_refusal_20 : decode cX8_refusal 20 = .ok (.iload_n 3, 1) := by decide +kernel
theorem dX8_refusal_21 : decode cX8_refusal 21 = .ok (.iand, 1) := by decide +kernel
theorem dX8_refusal_22 : decode cX8_refusal 22 = .ok (.ifCond .ne 5, 3) := by decide +kernel
theorem dX8_refusal_25 : decode cX8_refusal 25 = .ok (.iconst 3, 1) := by decide +kernel
theorem dX8_refusal_26 : decode cX8_refusal 26 = .ok (.ireturn, 1) := by decide +kernel
theorem dX8_refusal_27 : decode cX8_refusal 27 = .ok (.iload_n 3, 1) := by decide +kernel
theorem dX8_refusal_28 : decode cX8_refusal 28 = .ok (.iconst 4, 1) := by decide +kernel
theorem dX8_refusal_29 : decode cX8_refusal 29 = .ok (.if_icmp .ne 14, 3) := by decide +kernel
theorem dX8_refusal_32 : decode cX8_refusal 32 = .ok (.aload 5, 2) := by decide +kernel
theorem dX8_refusal_34 : decode cX8_refusal 34 = .ok (.getfield 155, 3) := by decide +kernel
theorem dX8_refusal_37 : decode cX8_refusal 37 = .ok (.ifCond .ne 16, 3) := by decide +kernel
theorem dX8_refusal_40 : decode cX8_refusal 40 = .ok (.goto 11, 3) := by decide +kernel
theorem dX8_refusal_43 : decode cX8_refusal 43 = .ok (.aload 5, 2) := by decide +kernel
theorem dX8_refusal_45 : decode cX8_refusal 45 = .ok (.getfield 152, 3) := by decide +kernel
theorem dX8_refusal_48 : decode cX8_refusal 48 = .ok (.ifCond .ne 5, 3) := by decide +kernel
theorem dX8_refusal_51 : decode cX8_refusal 51 = .ok (.iconst 4, 1) := by decide +kernel
theorem dX8_refusal_52 : decode cX8_refusal 52 = .ok (.ireturn, 1) := by decide +kernel
theorem dX8_refusal_53 : decode cX8_refusal 53 = .ok (.iload_n 3, 1) := by decide +kernel
theorem dX8_refusal_54 : decode cX8_refusal 54 = .ok (.iconst 1, 1) := by decide +kernel
theorem dX8_refusal_55 : decode cX8_refusal 55 = .ok (.if_icmp .ne 20, 3) := by decide +kernel
theorem dX8_refusal_58 : decode cX8_refusal 58 = .ok (.iload_n 2, 1) := by decide +kernel
theorem dX8_refusal_59 : decode cX8_refusal 59 = .ok (.aload 4, 2) := by decide +kernel
theorem dX8_refusal_61 : decode cX8_refusal 61 = .ok (.getfield 162, 3) := by decide +kernel
theorem dX8_refusal_64 : decode cX8_refusal 64 = .ok (.if_icmp .gt 7, 3) := by decide +kernel
theorem dX8_refusal_67 : decode cX8_refusal 67 = .ok (.iconst 1, 1) := by decide +kernel
theorem dX8_refusal_68 : decode cX8_refusal 68 = .ok (.goto 52, 3) := by decide +kernel
theorem dX8_refusal_71 : decode cX8_refusal 71 = .ok (.iconst 0, 1) := by decide +kernel
theorem dX8_refusal_72 : decode cX8_refusal 72 = .ok (.goto 48, 3) := by decide +kernel
theorem dX8_refusal_75 : decode cX8_refusal 75 = .ok (.iload_n 3, 1) := by decide +kernel
theorem dX8_refusal_76 : decode cX8_refusal 76 = .ok (.iconst 4, 1) := by decide +kernel
theorem dX8_refusal_77 : decode cX8_refusal 77 = .ok (.if_icmp .ne 20, 3) := by decide +kernel
theorem dX8_refusal_80 : decode cX8_refusal 80 = .ok (.iload_n 2, 1) := by decide +kernel
theorem dX8_refusal_81 : decode cX8_refusal 81 = .ok (.aload 4, 2) := by decide +kernel
theorem dX8_refusal_83 : decode cX8_refusal 83 = .ok (.getfield 165, 3) := by decide +kernel
theorem dX8_refusal_86 : decode cX8_refusal 86 = .ok (.if_icmp .gt 7, 3) := by decide +kernel
theorem dX8_refusal_89 : decode cX8_refusal 89 = .ok (.iconst 1, 1) := by decide +kernel
theorem dX8_refusal_90 : decode cX8_refusal 90 = .ok (.goto 30, 3) := by decide +kernel
theorem dX8_refusal_93 : decode cX8_refusal 93 = .ok (.iconst 0, 1) := by decide +kernel
theorem dX8_refusal_94 : decode cX8_refusal 94 = .ok (.goto 26, 3) := by decide +kernel
theorem dX8_refusal_97 : decode cX8_refusal 97 = .ok (.iload_n 2, 1) := by decide +kernel
theorem dX8_refusal_98 : decode cX8_refusal 98 = .ok (.aload 4, 2) := by decide +kernel
theorem dX8_refusal_100 : decode cX8_refusal 100 = .ok (.getfield 165, 3) := by decide +kernel
theorem dX8_refusal_103 : decode cX8_refusal 103 = .ok (.if_icmp .lt 16, 3) := by decide +kernel
theorem dX8_refusal_106 : decode cX8_refusal 106 = .ok (.iload_n 2, 1) := by decide +kernel
theorem dX8_refusal_107 : decode cX8_refusal 107 = .ok (.aload 4, 2) := by decide +kernel
theorem dX8_refusal_109 : decode cX8_refusal 109 = .ok (.getfield 162, 3) := by decide +kernel
theorem dX8_refusal_112 : decode cX8_refusal 112 = .ok (.if_icmp .gt 7, 3) := by decide +kernel
theorem dX8_refusal_115 : decode cX8_refusal 115 = .ok (.iconst 1, 1) := by decide +kernel
theorem dX8_refusal_116 : decode cX8_refusal 116 = .ok (.goto 4, 3) := by decide +kernel
theorem dX8_refusal_119 : decode cX8_refusal 119 = .ok (.iconst 0, 1) := by decide +kernel
theorem dX8_refusal_120 : decode cX8_refusal 120 = .ok (.istore 6, 2) := by decide +kernel
theorem dX8_refusal_122 : decode cX8_refusal 122 = .ok (.iload 6, 2) := by decide +kernel
theorem dX8_refusal_124 : decode cX8_refusal 124 = .ok (.ifCond .eq 7, 3) := by decide +kernel
theorem dX8_refusal_127 : decode cX8_refusal 127 = .ok (.iconst 0, 1) := by decide +kernel
theorem dX8_refusal_128 : decode cX8_refusal 128 = .ok (.goto 4, 3) := by decide +kernel
theorem dX8_refusal_131 : decode cX8_refusal 131 = .ok (.iconst 5, 1) := by decide +kernel
theorem dX8_refusal_132 : decode cX8_refusal 132 = .ok (.ireturn, 1) := by decide +kernel
theorem zy_X8_refusal : yX8_refusal.cls ≠ "java/lang/invoke/MethodHandle" ∧ yX8_refusal.cls ≠ "java/lang/invoke/VarHandle" ∧ (parseMethodDescriptor yX8_refusal.desc).map (fun d => d.parameters.length) = some 3 := by decide +kernel
theorem w_fX8_refusal_J120 {K : zK} (E : zE K cX8_refusal "RingHouse$Process" (some .int) 4) (hN : zNl K = 7) (hT : zTr K = (some 0)) (s0 : Int) : zR K 120 [] [(0, s0)] (fX8_refusal_J120 s0) := by
  refine r_istore (ls' := [(6, 0, s0)]) E dX8_refusal_120 (by rw [hN]; decide) rfl ?_
  refine r_iload E dX8_refusal_122 0 rfl ?_
  refine r_if_eq E 131 (by decide) dX8_refusal_124 (fun _ => ?_) (fun _ => ?_)
  · refine r_iconst E dX8_refusal_131 (zkI (by decide) (by decide)) ?_
    exact r_ireturn E rfl hT dX8_refusal_132
  · refine r_iconst E dX8_refusal_127 (zkI (by decide) (by decide)) ?_
    refine r_goto E 132 (by decide) dX8_refusal_128 ?_
    exact r_ireturn E rfl hT dX8_refusal_132
theorem w_fX8_refusal_J119 {K : zK} (E : zE K cX8_refusal "RingHouse$Process" (some .int) 4) (hN : zNl K = 7) (hT : zTr K = (some 0)) : zR K 119 [] [] (fX8_refusal_J119) := by
  refine r_iconst E dX8_refusal_119 (zkI (by decide) (by decide)) ?_
  exact w_fX8_refusal_J120 E hN hT 0
theorem w_fX8_refusal_J53 {K : zK} (E : zE K cX8_refusal "RingHouse$Process" (some .int) 4) (hN : zNl K = 7) (hT : zTr K = (some 0)) (x2 : Int) (x3 : Int) (x4 : Int) : zR K 53 [(2, 0, x2), (3, 0, x3), (4, 6, x4)] [] (fX8_refusal_J53 x2 x3 x4) := by
  refine r_iload_n E dX8_refusal_53 rfl 1 rfl ?_
  refine r_iconst E dX8_refusal_54 (zkI (by decide) (by decide)) ?_
  refine r_icmp_ne E 75 (by decide) dX8_refusal_55 (fun _ => ?_) (fun _ => ?_)
  · refine r_iload_n E dX8_refusal_75 rfl 1 rfl ?_
    refine r_iconst E dX8_refusal_76 (zkI (by decide) (by decide)) ?_
    refine r_icmp_ne E 97 (by decide) dX8_refusal_77 (fun _ => ?_) (fun _ => ?_)
    · refine r_iload_n E dX8_refusal_97 rfl 0 rfl ?_
      refine r_aload E dX8_refusal_98 2 rfl ?_
      refine r_nn E (fun hn6 => ?_)
      refine r_getN E zc_6 zt_509 dX8_refusal_100 q425 zr_6 (zg_509 _) hn6 (fun v7 => ?_)
      refine r_icmp_lt E 119 (by decide) dX8_refusal_103 (fun _ => ?_) (fun _ => ?_)
      · refine r_pick E [] rfl ?_
        exact w_fX8_refusal_J119 E hN hT
      · refine r_iload_n E dX8_refusal_106 rfl 0 rfl ?_
        refine r_aload E dX8_refusal_107 2 rfl ?_
        refine r_getN E zc_6 zt_510 dX8_refusal_109 q432 zr_6 (zg_510 _) hn6 (fun v8 => ?_)
        refine r_icmp_gt E 119 (by decide) dX8_refusal_112 (fun _ => ?_) (fun _ => ?_)
        · refine r_pick E [] rfl ?_
          exact w_fX8_refusal_J119 E hN hT
        · refine r_iconst E dX8_refusal_115 (zkI (by decide) (by decide)) ?_
          refine r_goto E 120 (by decide) dX8_refusal_116 ?_
          refine r_pick E [] rfl ?_
          exact w_fX8_refusal_J120 E hN hT 1
    · refine r_iload_n E dX8_refusal_80 rfl 0 rfl ?_
      refine r_aload E dX8_refusal_81 2 rfl ?_
      refine r_nn E (fun hn9 => ?_)
      refine r_getN E zc_6 zt_509 dX8_refusal_83 q425 zr_6 (zg_509 _) hn9 (fun v10 => ?_)
      refine r_icmp_gt E 93 (by decide) dX8_refusal_86 (fun _ => ?_) (fun _ => ?_)
      · refine r_iconst E dX8_refusal_93 (zkI (by decide) (by decide)) ?_
        refine r_goto E 120 (by decide) dX8_refusal_94 ?_
        refine r_pick E [] rfl ?_
        exact w_fX8_refusal_J120 E hN hT 0
      · refine r_iconst E dX8_refusal_89 (zkI (by decide) (by decide)) ?_
        refine r_goto E 120 (by decide) dX8_refusal_90 ?_
        refine r_pick E [] rfl ?_
        exact w_fX8_refusal_J120 E hN hT 1
  · refine r_iload_n E dX8_refusal_58 rfl 0 rfl ?_
    refine r_aload E dX8_refusal_59 2 rfl ?_
    refine r_nn E (fun hn11 => ?_)
    refine r_getN E zc_6 zt_510 dX8_refusal_61 q432 zr_6 (zg_510 _) hn11 (fun v12 => ?_)
    refine r_icmp_gt E 71 (by decide) dX8_refusal_64 (fun _ => ?_) (fun _ => ?_)
    · refine r_iconst E dX8_refusal_71 (zkI (by decide) (by decide)) ?_
      refine r_goto E 120 (by decide) dX8_refusal_72 ?_
      refine r_pick E [] rfl ?_
      exact w_fX8_refusal_J120 E hN hT 0
    · refine r_iconst E dX8_refusal_67 (zkI (by decide) (by decide)) ?_
      refine r_goto E 120 (by decide) dX8_refusal_68 ?_
      refine r_pick E [] rfl ?_
      exact w_fX8_refusal_J120 E hN hT 1
theorem w_fX8_refusal {K : zK} (E : zE K cX8_refusal "RingHouse$Process" (some .int) 4) (hN : zNl K = 7) (hT : zTr K = (some 0)) (x0 : Int) (x1 : Int) (x2 : Int) (x3 : Int) (h0 : 0 ≤ x0) : zR K 0 [(0, 10, x0), (1, 0, x1), (2, 0, x2), (3, 0, x3)] [] (fX8_refusal x0 x1 x2 x3) := by
  refine r_aload_n E dX8_refusal_0 rfl 0 rfl ?_
  refine r_gec (y := x0) E zc_10 dX8_refusal_1 q910 zr_10 (zh_916 (by omega)) h0 ?_
  refine r_iload_n E dX8_refusal_4 rfl 1 rfl ?_
  refine r_aaload E zc_916 za_916 zt_916 zx_916 rfl rfl dX8_refusal_5 h0 (fun v1 => ?_)
  refine r_astore (ls' := [(4, 6, v1), (0, 10, x0), (1, 0, x1), (2, 0, x2), (3, 0, x3)]) E dX8_refusal_6 (by rw [hN]; decide) rfl ?_
  refine r_aload_n E dX8_refusal_8 rfl 1 rfl ?_
  refine r_iload_n E dX8_refusal_9 rfl 2 rfl ?_
  refine r_callV E [(0, x1)] [] rfl zc_10 zr_10 (fun o _ => ⟨_, zw_X8.1 o, rfl⟩) (lw_V q2230 q2231 q2232 q235 q2233) dX8_refusal_10 zy_X8_rightsOf rfl (by omega) (by decide) (Nat.le_of_ble_eq_true rfl) h0 (fun l G => k_fX8_rightsOf l G x0 x1 h0) (fun v2 => ?_)
  refine r_astore (ls' := [(5, 13, v2), (4, 6, v1), (0, 10, x0), (1, 0, x1), (2, 0, x2), (3, 0, x3)]) E dX8_refusal_13 (by rw [hN]; decide) rfl ?_
  refine r_aload E dX8_refusal_15 0 rfl ?_
  refine r_nn E (fun hn3 => ?_)
  refine r_getN E zc_13 zt_1201 dX8_refusal_17 q842 zr_13 (zg_1201 _) hn3 (fun v4 => ?_)
  refine r_iload_n E dX8_refusal_20 rfl 5 rfl ?_
  refine r_iand E dX8_refusal_21 ?_
  refine r_if_ne E 27 (by decide) dX8_refusal_22 (fun _ => ?_) (fun _ => ?_)
  · refine r_iload_n E dX8_refusal_27 rfl 5 rfl ?_
    refine r_iconst E dX8_refusal_28 (zkI (by decide) (by decide)) ?_
    refine r_icmp_ne E 43 (by decide) dX8_refusal_29 (fun _ => ?_) (fun _ => ?_)
    · refine r_aload E dX8_refusal_43 0 rfl ?_
      refine r_getN E zc_13 zt_1202 dX8_refusal_45 q843 zr_13 (zg_1202 _) hn3 (fun v5 => ?_)
      refine r_if_ne E 53 (by decide) dX8_refusal_48 (fun _ => ?_) (fun _ => ?_)
      · refine r_pick E [4, 5, 1] rfl ?_
        exact w_fX8_refusal_J53 E hN hT x2 x3 v1
      · refine r_iconst E dX8_refusal_51 (zkI (by decide) (by decide)) ?_
        exact r_ireturn E rfl hT dX8_refusal_52
    · refine r_aload E dX8_refusal_32 0 rfl ?_
      refine r_getN E zc_13 zt_1203 dX8_refusal_34 q844 zr_13 (zg_1203 _) hn3 (fun v13 => ?_)
      refine r_if_ne E 53 (by decide) dX8_refusal_37 (fun _ => ?_) (fun _ => ?_)
      · refine r_pick E [4, 5, 1] rfl ?_
        exact w_fX8_refusal_J53 E hN hT x2 x3 v1
      · refine r_goto E 51 (by decide) dX8_refusal_40 ?_
        refine r_iconst E dX8_refusal_51 (zkI (by decide) (by decide)) ?_
        exact r_ireturn E rfl hT dX8_refusal_52
  · refine r_iconst E dX8_refusal_25 (zkI (by decide) (by decide)) ?_
    exact r_ireturn E rfl hT dX8_refusal_26
theorem k_fX8_refusal (l : Launch) (G : zG) (x0 : Int) (x1 : Int) (x2 : Int) (x3 : Int) (h0 : 0 ≤ x0) : zCt l G yX8_refusal cX8_refusal 7 (some .int) 4 [(10, x0), (0, x1), (0, x2), (0, x3)] (some 0) (fX8_refusal x0 x1 x2 x3) := zCt.of (by decide) (Nat.le_of_ble_eq_true rfl) (fun K E _ _ hN hT => w_fX8_refusal E hN hT x0 x1 x2 x3 h0)
theorem dX13_add_0 : decode cX13_add 0 = .ok (.iconst 4, 1) := by decide +kernel
theorem dX13_add_1 : decode cX13_add 1 = .ok (.aload_n 0, 1) := by decide +kernel
theorem dX13_add_2 : decode cX13_add 2 = .ok (.getfield 15, 3) := by decide +kernel
theorem dX13_add_5 : decode cX13_add 5 = .ok (.bipush 64, 2) := by decide +kernel
theorem dX13_add_7 : decode cX13_add 7 = .ok (.irem, 1) := by decide +kernel
theorem dX13_add_8 : decode cX13_add 8 = .ok (.imul, 1) := by decide +kernel
theorem dX13_add_9 : decode cX13_add 9 = .ok (.istore 5, 2) := by decide +kernel
theorem dX13_add_11 : decode cX13_add 11 = .ok (.aload_n 0, 1) := by decide +kernel
theorem dX13_add_12 : decode cX13_add 12 = .ok (.getfield 9, 3) := by decide +kernel
theorem dX13_add_15 : decode cX13_add 15 = .ok (.iload 5, 2) := by decide +kernel
theorem dX13_add_17 : decode cX13_add 17 = .ok (.iload_n 1, 1) := by decide +kernel
theorem dX13_add_18 : decode cX13_add 18 = .ok (.iastore, 1) := by decide +kernel
theorem dX13_add_19 : decode cX13_add 19 = .ok (.aload_n 0, 1) := by decide +kernel
theorem dX13_add_20 : decode cX13_add 20 = .ok (.getfield 9, 3) := by decide +kernel
theorem dX13_add_23 : decode cX13_add 23 = .ok (.iload 5, 2) := by decide +kernel
theorem dX13_add_25 : decode cX13_add 25 = .ok (.iconst 1, 1) := by decide +kernel
theorem dX13_add_26 : decode cX13_add 26 = .ok (.iadd, 1) := by decide +kernel
theorem dX13_add_27 : decode cX13_add 27 = .ok (.iload_n 2, 1) := by decide +kernel
theorem dX13_add_28 : decode cX13_add 28 = .ok (.iastore, 1) := by decide +kernel
theorem dX13_add_29 : decode cX13_add 29 = .ok (.aload_n 0, 1) := by decide +kernel
theorem dX13_add_30 : decode cX13_add 30 = .ok (.getfield 9, 3) := by decide +kernel
theorem dX13_add_33 : decode cX13_add 33 = .ok (.iload 5, 2) := by decide +kernel
theorem dX13_add_35 : decode cX13_add 35 = .ok (.iconst 2, 1) := by decide +kernel
theorem dX13_add_36 : decode cX13_add 36 = .ok (.iadd, 1) := by decide +kernel
theorem dX13_add_37 : decode cX13_add 37 = .ok (.iload_n 3, 1) := by decide +kernel
theorem dX13_add_38 : decode cX13_add 38 = .ok (.iastore, 1) := by decide +kernel
theorem dX13_add_39 : decode cX13_add 39 = .ok (.aload_n 0, 1) := by decide +kernel
theorem dX13_add_40 : decode cX13_add 40 = .ok (.getfield 9, 3) := by decide +kernel
theorem dX13_add_43 : decode cX13_add 43 = .ok (.iload 5, 2) := by decide +kernel
theorem dX13_add_45 : decode cX13_add 45 = .ok (.iconst 3, 1) := by decide +kernel
theorem dX13_add_46 : decode cX13_add 46 = .ok (.iadd, 1) := by decide +kernel
theorem dX13_add_47 : decode cX13_add 47 = .ok (.iload 4, 2) := by decide +kernel
theorem dX13_add_49 : decode cX13_add 49 = .ok (.iastore, 1) := by decide +kernel
theorem dX13_add_50 : decode cX13_add 50 = .ok (.aload_n 0, 1) := by decide +kernel
theorem dX13_add_51 : decode cX13_add 51 = .ok (.dup, 1) := by decide +kernel
theorem dX13_add_52 : decode cX13_add 52 = .ok (.getfield 15, 3) := by decide +kernel
theorem dX13_add_55 : decode cX13_add 55 = .ok (.iconst 1, 1) := by decide +kernel
theorem dX13_add_56 : decode cX13_add 56 = .ok (.iadd, 1) := by decide +kernel
theorem dX13_add_57 : decode cX13_add 57 = .ok (.putfield 15, 3) := by decide +kernel
theorem dX13_add_60 : decode cX13_add 60 = .ok (.return_, 1) := by decide +kernel
theorem zy_X13_add : yX13_add.cls ≠ "java/lang/invoke/MethodHandle" ∧ yX13_add.cls ≠ "java/lang/invoke/VarHandle" ∧ (parseMethodDescriptor yX13_add.desc).map (fun d => d.parameters.length) = some 4 := by decide +kernel
theorem w_fX13_add {K : zK} (E : zE K cX13_add "RingHouse$Audit" none 0) (hN : zNl K = 6) (hT : zTr K = none) (x1 : Int) (x2 : Int) (x3 : Int) (x4 : Int) : zR K 0 [(0, 15, 0), (1, 0, x1), (2, 0, x2), (3, 0, x3), (4, 0, x4)] [] (fX13_add x1 x2 x3 x4) := by
  refine r_iconst E dX13_add_0 (zkI (by decide) (by decide)) ?_
  refine r_aload_n E dX13_add_1 rfl 0 rfl ?_
  refine r_get E zc_15 zt_1401 dX13_add_2 q1013 zr_15 (zg_1401 _) (by decide) (fun v1 => ?_)
  refine r_bipush E dX13_add_5 (by decide) (zkI (by decide) (by decide)) ?_
  refine r_irem E (by decide) dX13_add_7 ?_
  refine r_imul E dX13_add_8 ?_
  refine r_let E (fun v2 ev2 => ?_)
  refine r_istore (ls' := [(5, 0, v2), (0, 15, 0), (1, 0, x1), (2, 0, x2), (3, 0, x3), (4, 0, x4)]) E dX13_add_9 (by rw [hN]; decide) rfl ?_
  refine r_aload_n E dX13_add_11 rfl 1 rfl ?_
  refine r_gec (y := 0) E zc_15 dX13_add_12 q1011 zr_15 (zh_1400 (by decide)) (by decide) ?_
  refine r_iload E dX13_add_15 0 rfl ?_
  refine r_iload_n E dX13_add_17 rfl 2 rfl ?_
  refine r_iastore E zc_1400 za_1400 zt_1400 zo_1400 zx_1400 rfl rfl dX13_add_18 (by decide) ?_
  refine r_aload_n E dX13_add_19 rfl 1 rfl ?_
  refine r_gec (y := 0) E zc_15 dX13_add_20 q1011 zr_15 (zh_1400 (by decide)) (by decide) ?_
  refine r_iload E dX13_add_23 0 rfl ?_
  refine r_iconst E dX13_add_25 (zkI (by decide) (by decide)) ?_
  refine r_iadd E dX13_add_26 ?_
  refine r_iload_n E dX13_add_27 rfl 3 rfl ?_
  refine r_iastore E zc_1400 za_1400 zt_1400 zo_1400 zx_1400 rfl rfl dX13_add_28 (by decide) ?_
  refine r_aload_n E dX13_add_29 rfl 1 rfl ?_
  refine r_gec (y := 0) E zc_15 dX13_add_30 q1011 zr_15 (zh_1400 (by decide)) (by decide) ?_
  refine r_iload E dX13_add_33 0 rfl ?_
  refine r_iconst E dX13_add_35 (zkI (by decide) (by decide)) ?_
  refine r_iadd E dX13_add_36 ?_
  refine r_iload_n E dX13_add_37 rfl 4 rfl ?_
  refine r_iastore E zc_1400 za_1400 zt_1400 zo_1400 zx_1400 rfl rfl dX13_add_38 (by decide) ?_
  refine r_aload_n E dX13_add_39 rfl 1 rfl ?_
  refine r_gec (y := 0) E zc_15 dX13_add_40 q1011 zr_15 (zh_1400 (by decide)) (by decide) ?_
  refine r_iload E dX13_add_43 0 rfl ?_
  refine r_iconst E dX13_add_45 (zkI (by decide) (by decide)) ?_
  refine r_iadd E dX13_add_46 ?_
  refine r_iload E dX13_add_47 5 rfl ?_
  refine r_iastore E zc_1400 za_1400 zt_1400 zo_1400 zx_1400 rfl rfl dX13_add_49 (by decide) ?_
  refine r_aload_n E dX13_add_50 rfl 1 rfl ?_
  refine r_dup E (zn1 rfl) dX13_add_51 ?_
  refine r_get E zc_15 zt_1401 dX13_add_52 q1013 zr_15 (zg_1401 _) (by decide) (fun v3 => ?_)
  refine r_iconst E dX13_add_55 (zkI (by decide) (by decide)) ?_
  refine r_iadd E dX13_add_56 ?_
  refine r_put E zc_15 zt_1401 zo_1401 dX13_add_57 q1013 zr_15 zw_X13 zp_1401 (fun _ => rfl) (fun _ => rfl) (by decide) ?_
  exact r_return E rfl hT dX13_add_60
theorem k_fX13_add (l : Launch) (G : zG) (x1 : Int) (x2 : Int) (x3 : Int) (x4 : Int) : zCt l G yX13_add cX13_add 6 none 0 [(15, 0), (0, x1), (0, x2), (0, x3), (0, x4)] none (fX13_add x1 x2 x3 x4) := zCt.of (by decide) (Nat.le_of_ble_eq_true rfl) (fun K E _ _ hN hT => w_fX13_add E hN hT x1 x2 x3 x4)
theorem dX12_deny_0 : decode cX12_deny 0 = .ok (.aload_n 1, 1) := by decide +kernel
theorem dX12_deny_1 : decode cX12_deny 1 = .ok (.dup, 1) := by decide +kernel
theorem dX12_deny_2 : decode cX12_deny 2 = .ok (.getfield 297, 3) := by decide +kernel
theorem dX12_deny_5 : decode cX12_deny 5 = .ok (.iconst 1, 1) := by decide +kernel
theorem dX12_deny_6 : decode cX12_deny 6 = .ok (.iadd, 1) := by decide +kernel
theorem dX12_deny_7 : decode cX12_deny 7 = .ok (.putfield 297, 3) := by decide +kernel
theorem dX12_deny_10 : decode cX12_deny 10 = .ok (.aload_n 0, 1) := by decide +kernel
theorem dX12_deny_11 : decode cX12_deny 11 = .ok (.getfield 20, 3) := by decide +kernel
theorem dX12_deny_14 : decode cX12_deny 14 = .ok (.aload_n 0, 1) := by decide +kernel
theorem dX12_deny_15 : decode cX12_deny 15 = .ok (.getfield 246, 3) := by decide +kernel
theorem dX12_deny_18 : decode cX12_deny 18 = .ok (.getfield 300, 3) := by decide +kernel
theorem dX12_deny_21 : decode cX12_deny 21 = .ok (.iconst 1, 1) := by decide +kernel
theorem dX12_deny_22 : decode cX12_deny 22 = .ok (.aload_n 1, 1) := by decide +kernel
theorem dX12_deny_23 : decode cX12_deny 23 = .ok (.getfield 303, 3) := by decide +kernel
theorem dX12_deny_26 : decode cX12_deny 26 = .ok (.iload_n 2, 1) := by decide +kernel
theorem dX12_deny_27 : decode cX12_deny 27 = .ok (.invokevirtual 304, 3) := by decide +kernel
theorem dX12_deny_30 : decode cX12_deny 30 = .ok (.return_, 1) := by decide +kernel
theorem zy_X12_deny : yX12_deny.cls ≠ "java/lang/invoke/MethodHandle" ∧ yX12_deny.cls ≠ "java/lang/invoke/VarHandle" ∧ (parseMethodDescriptor yX12_deny.desc).map (fun d => d.parameters.length) = some 2 := by decide +kernel
theorem w_fX12_deny {K : zK} (E : zE K cX12_deny "RingHouse$Machine" none 1) (hN : zNl K = 3) (hT : zTr K = none) (x1 : Int) (x2 : Int) : zR K 0 [(0, 14, 0), (1, 6, x1), (2, 0, x2)] [] (fX12_deny x1 x2) := by
  refine r_aload_n E dX12_deny_0 rfl 1 rfl ?_
  refine r_dup E (zn1 rfl) dX12_deny_1 ?_
  refine r_nn E (fun hn1 => ?_)
  refine r_getN E zc_6 zt_512 dX12_deny_2 q439 zr_6 (zg_512 _) hn1 (fun v2 => ?_)
  refine r_iconst E dX12_deny_5 (zkI (by decide) (by decide)) ?_
  refine r_iadd E dX12_deny_6 ?_
  refine r_putN E zc_6 zt_512 zo_512 dX12_deny_7 q439 zr_6 zw_X4 zp_512 (fun _ => rfl) (fun _ => rfl) hn1 ?_
  refine r_aload_n E dX12_deny_10 rfl 0 rfl ?_
  refine r_gec (y := 0) E zc_14 dX12_deny_11 q1541 zr_14 (zh_1305 (by decide)) (by decide) ?_
  refine r_aload_n E dX12_deny_14 rfl 0 rfl ?_
  refine r_get E zc_14 zt_1307 dX12_deny_15 q1550 zr_14 (zg_1307 _) (by decide) (fun v3 => ?_)
  refine r_nn E (fun hn4 => ?_)
  refine r_gecN (y := v3) E zc_10 dX12_deny_18 q857 zr_10 (zh_901 (by omega)) hn4 ?_
  refine r_iconst E dX12_deny_21 (zkI (by decide) (by decide)) ?_
  refine r_aload_n E dX12_deny_22 rfl 1 rfl ?_
  refine r_gecN (y := x1) E zc_6 dX12_deny_23 q374 zr_6 (zh_500 (by omega)) hn1 ?_
  refine r_iload_n E dX12_deny_26 rfl 2 rfl ?_
  refine r_callV E [(0, v3), (0, 1), (0, x1), (0, x2)] [] rfl zc_15 zr_15 (fun o _ => ⟨_, zw_X13.1 o, rfl⟩) (lw_V q2240 q2241 q2242 q240 q2243) dX12_deny_27 zy_X13_add rfl (by omega) (by decide) (Nat.le_of_ble_eq_true rfl) (by decide) (fun l G => k_fX13_add l G v3 1 x1 x2) (fun _ => ?_)
  exact r_return E rfl hT dX12_deny_30
theorem k_fX12_deny (l : Launch) (G : zG) (x1 : Int) (x2 : Int) : zCt l G yX12_deny cX12_deny 3 none 1 [(14, 0), (6, x1), (0, x2)] none (fX12_deny x1 x2) := zCt.of (by decide) (Nat.le_of_ble_eq_true rfl) (fun K E _ _ hN hT => w_fX12_deny E hN hT x1 x2)
theorem dX12_may_0 : decode cX12_may 0 = .ok (.aload_n 0, 1) := by decide +kernel
theorem dX12_may_1 : decode cX12_may 1 = .ok (.iload_n 1, 1) := by decide +kernel
theorem dX12_may_2 : decode cX12_may 2 = .ok (.iload_n 2, 1) := by decide +kernel
theorem dX12_may_3 : decode cX12_may 3 = .ok (.iload_n 3, 1) := by decide +kernel
theorem dX12_may_4 : decode cX12_may 4 = .ok (.invokevirtual 285, 3) := by decide +kernel
theorem dX12_may_7 : decode cX12_may 7 = .ok (.ifCond .ne 5, 3) := by decide +kernel
theorem dX12_may_10 : decode cX12_may 10 = .ok (.iconst 0, 1) := by decide +kernel
theorem dX12_may_11 : decode cX12_may 11 = .ok (.ireturn, 1) := by decide +kernel
theorem dX12_may_12 : decode cX12_may 12 = .ok (.iload_n 1, 1) := by decide +kernel
theorem dX12_may_13 : decode cX12_may 13 = .ok (.bipush 8, 2) := by decide +kernel
theorem dX12_may_15 : decode cX12_may 15 = .ok (.if_icmp .ge 42, 3) := by decide +kernel
theorem dX12_may_18 : decode cX12_may 18 = .ok (.iload 4, 2) := by decide +kernel
theorem dX12_may_20 : decode cX12_may 20 = .ok (.iconst 2, 1) := by decide +kernel
theorem dX12_may_21 : decode cX12_may 21 = .ok (.if_icmp .ne 14, 3) := by decide +kernel
theorem dX12_may_24 : decode cX12_may 24 = .ok (.aload_n 0, 1) := by decide +kernel
theorem dX12_may_25 : decode cX12_may 25 = .ok (.iconst 3, 1) := by decide +kernel
theorem dX12_may_26 : decode cX12_may 26 = .ok (.iload_n 1, 1) := by decide +kernel
theorem dX12_may_27 : decode cX12_may 27 = .ok (.iload_n 2, 1) := by decide +kernel
theorem dX12_may_28 : decode cX12_may 28 = .ok (.iload_n 3, 1) := by decide +kernel
theorem dX12_may_29 : decode cX12_may 29 = .ok (.invokevirtual 272, 3) := by decide +kernel
theorem dX12_may_32 : decode cX12_may 32 = .ok (.goto 24, 3) := by decide +kernel
theorem dX12_may_35 : decode cX12_may 35 = .ok (.iload_n 3, 1) := by decide +kernel
theorem dX12_may_36 : decode cX12_may 36 = .ok (.iload_n 1, 1) := by decide +kernel
theorem dX12_may_37 : decode cX12_may 37 = .ok (.if_icmp .le 14, 3) := by decide +kernel
theorem dX12_may_40 : decode cX12_may 40 = .ok (.aload_n 0, 1) := by decide +kernel
theorem dX12_may_41 : decode cX12_may 41 = .ok (.iconst 5, 1) := by decide +kernel
theorem dX12_may_42 : decode cX12_may 42 = .ok (.iload_n 1, 1) := by decide +kernel
theorem dX12_may_43 : decode cX12_may 43 = .ok (.iload_n 2, 1) := by decide +kernel
theorem dX12_may_44 : decode cX12_may 44 = .ok (.iload_n 3, 1) := by decide +kernel
theorem dX12_may_45 : decode cX12_may 45 = .ok (.invokevirtual 272, 3) := by decide +kernel
theorem dX12_may_48 : decode cX12_may 48 = .ok (.ifCond .eq 7, 3) := by decide +kernel
theorem dX12_may_51 : decode cX12_may 51 = .ok (.iconst 1, 1) := by decide +kernel
theorem dX12_may_52 : decode cX12_may 52 = .ok (.goto 4, 3) := by decide +kernel
theorem dX12_may_55 : decode cX12_may 55 = .ok (.iconst 0, 1) := by decide +kernel
theorem dX12_may_56 : decode cX12_may 56 = .ok (.ireturn, 1) := by decide +kernel
theorem dX12_may_57 : decode cX12_may 57 = .ok (.aload_n 0, 1) := by decide +kernel
theorem dX12_may_58 : decode cX12_may 58 = .ok (.getfield 246, 3) := by decide +kernel
theorem dX12_may_61 : decode cX12_may 61 = .ok (.iload_n 1, 1) := by decide +kernel
theorem dX12_may_62 : decode cX12_may 62 = .ok (.iload_n 3, 1) := by decide +kernel
theorem dX12_may_63 : decode cX12_may 63 = .ok (.iload 4, 2) := by decide +kernel
theorem dX12_may_65 : decode cX12_may 65 = .ok (.invokevirtual 289, 3) := by decide +kernel
theorem dX12_may_68 : decode cX12_may 68 = .ok (.istore 5, 2) := by decide +kernel
theorem dX12_may_70 : decode cX12_may 70 = .ok (.iload 5, 2) := by decide +kernel
theorem dX12_may_72 : decode cX12_may 72 = .ok (.ifCond .ne 5, 3) := by decide +kernel
theorem dX12_may_75 : decode cX12_may 75 = .ok (.iconst 1, 1) := by decide +kernel
theorem dX12_may_76 : decode cX12_may 76 = .ok (.ireturn, 1) := by decide +kernel
theorem dX12_may_77 : decode cX12_may 77 = .ok (.aload_n 0, 1) := by decide +kernel
theorem dX12_may_78 : decode cX12_may 78 = .ok (.aload_n 0, 1) := by decide +kernel
theorem dX12_may_79 : decode cX12_may 79 = .ok (.getfield 246, 3) := by decide +kernel
theorem dX12_may_82 : decode cX12_may 82 = .ok (.getfield 276, 3) := by decide +kernel
theorem dX12_may_85 : decode cX12_may 85 = .ok (.iload_n 1, 1) := by decide +kernel
theorem dX12_may_86 : decode cX12_may 86 = .ok (.aaload, 1) := by decide +kernel
theorem dX12_may_87 : decode cX12_may 87 = .ok (.iload 5, 2) := by decide +kernel
theorem dX12_may_89 : decode cX12_may 89 = .ok (.invokevirtual 293, 3) := by decide +kernel
theorem dX12_may_92 : decode cX12_may 92 = .ok (.aload_n 0, 1) := by decide +kernel
theorem dX12_may_93 : decode cX12_may 93 = .ok (.iload 5, 2) := by decide +kernel
theorem dX12_may_95 : decode cX12_may 95 = .ok (.iload_n 1, 1) := by decide +kernel
theorem dX12_may_96 : decode cX12_may 96 = .ok (.iload_n 2, 1) := by decide +kernel
theorem dX12_may_97 : decode cX12_may 97 = .ok (.iload_n 3, 1) := by decide +kernel
theorem dX12_may_98 : decode cX12_may 98 = .ok (.invokevirtual 272, 3) := by decide +kernel
theorem dX12_may_101 : decode cX12_may 101 = .ok (.ireturn, 1) := by decide +kernel
theorem zy_X12_may : yX12_may.cls ≠ "java/lang/invoke/MethodHandle" ∧ yX12_may.cls ≠ "java/lang/invoke/VarHandle" ∧ (parseMethodDescriptor yX12_may.desc).map (fun d => d.parameters.length) = some 4 := by decide +kernel
theorem w_fX12_may {K : zK} (E : zE K cX12_may "RingHouse$Machine" (some .boolean) 5) (hN : zNl K = 6) (hT : zTr K = (some 0)) (x1 : Int) (x2 : Int) (x3 : Int) (x4 : Int) : zR K 0 [(0, 14, 0), (1, 0, x1), (2, 0, x2), (3, 0, x3), (4, 0, x4)] [] (fX12_may x1 x2 x3 x4) := by
  refine r_aload_n E dX12_may_0 rfl 0 rfl ?_
  refine r_iload_n E dX12_may_1 rfl 1 rfl ?_
  refine r_iload_n E dX12_may_2 rfl 2 rfl ?_
  refine r_iload_n E dX12_may_3 rfl 3 rfl ?_
  refine r_callV E [(0, x1), (0, x2), (0, x3)] [] rfl zc_14 zr_14 (fun o _ => ⟨_, zw_X12.1 o, rfl⟩) (lw_V q2205 q2207 qs14 q239 q2208) dX12_may_4 zy_X12_isThere rfl (by omega) (by decide) (Nat.le_of_ble_eq_true rfl) (by decide) (fun l G => k_fX12_isThere l G x1 x2 x3) (fun v1 => ?_)
  refine r_if_ne E 12 (by decide) dX12_may_7 (fun _ => ?_) (fun _ => ?_)
  · refine r_iload_n E dX12_may_12 rfl 1 rfl ?_
    refine r_bipush E dX12_may_13 (by decide) (zkI (by decide) (by decide)) ?_
    refine r_icmp_ge E 57 (by decide) dX12_may_15 (fun _ => ?_) (fun _ => ?_)
    · refine r_aload_n E dX12_may_57 rfl 0 rfl ?_
      refine r_get E zc_14 zt_1307 dX12_may_58 q1550 zr_14 (zg_1307 _) (by decide) (fun v2 => ?_)
      refine r_iload_n E dX12_may_61 rfl 1 rfl ?_
      refine r_iload_n E dX12_may_62 rfl 3 rfl ?_
      refine r_iload E dX12_may_63 4 rfl ?_
      refine r_nn E (fun hn3 => ?_)
      refine r_callV E [(0, x1), (0, x3), (0, x4)] [] rfl zc_10 zr_10 (fun o _ => ⟨_, zw_X8.1 o, rfl⟩) (lw_V q2226 q2227 q2228 q235 q2229) dX12_may_65 zy_X8_refusal rfl (by omega) (by decide) (Nat.le_of_ble_eq_true rfl) hn3 (fun l G => k_fX8_refusal l G v2 x1 x3 x4 hn3) (fun v4 => ?_)
      refine r_istore (ls' := [(5, 0, v4), (0, 14, 0), (1, 0, x1), (2, 0, x2), (3, 0, x3), (4, 0, x4)]) E dX12_may_68 (by rw [hN]; decide) rfl ?_
      refine r_iload E dX12_may_70 0 rfl ?_
      refine r_if_ne E 77 (by decide) dX12_may_72 (fun _ => ?_) (fun _ => ?_)
      · refine r_aload_n E dX12_may_77 rfl 1 rfl ?_
        refine r_aload_n E dX12_may_78 rfl 1 rfl ?_
        refine r_get E zc_14 zt_1307 dX12_may_79 q1550 zr_14 (zg_1307 _) (by decide) (fun v5 => ?_)
        refine r_nn E (fun hn6 => ?_)
        refine r_gecN (y := v5) E zc_10 dX12_may_82 q913 zr_10 (zh_916 (by omega)) hn6 ?_
        refine r_iload_n E dX12_may_85 rfl 2 rfl ?_
        refine r_aaload E zc_916 za_916 zt_916 zx_916 rfl rfl dX12_may_86 hn6 (fun v7 => ?_)
        refine r_iload E dX12_may_87 0 rfl ?_
        refine r_callV E [(6, v7), (0, v4)] [] rfl zc_14 zr_14 (fun o _ => ⟨_, zw_X12.1 o, rfl⟩) (lw_V q2236 q2238 qs16 q239 q2239) dX12_may_89 zy_X12_deny rfl (by omega) (by decide) (Nat.le_of_ble_eq_true rfl) (by decide) (fun l G => k_fX12_deny l G v7 v4) (fun _ => ?_)
        refine r_aload_n E dX12_may_92 rfl 1 rfl ?_
        refine r_iload E dX12_may_93 0 rfl ?_
        refine r_iload_n E dX12_may_95 rfl 2 rfl ?_
        refine r_iload_n E dX12_may_96 rfl 3 rfl ?_
        refine r_iload_n E dX12_may_97 rfl 4 rfl ?_
        refine r_callV E [(0, v4), (0, x1), (0, x2), (0, x3)] [] rfl zc_14 zr_14 (fun o _ => ⟨_, zw_X12.1 o, rfl⟩) (lw_V q2209 q2211 qs15 q239 q2212) dX12_may_98 zy_X12_refuse rfl (by omega) (by decide) (Nat.le_of_ble_eq_true rfl) (by decide) (fun l G => k_fX12_refuse l G v4 x1 x2 x3) (fun v9 => ?_)
        exact r_zreturnb E rfl hT dX12_may_101
      · refine r_iconst E dX12_may_75 (zkI (by decide) (by decide)) ?_
        exact r_zreturn E rfl hT (by decide) dX12_may_76
    · refine r_iload E dX12_may_18 4 rfl ?_
      refine r_iconst E dX12_may_20 (zkI (by decide) (by decide)) ?_
      refine r_icmp_ne E 35 (by decide) dX12_may_21 (fun _ => ?_) (fun _ => ?_)
      · refine r_iload_n E dX12_may_35 rfl 3 rfl ?_
        refine r_iload_n E dX12_may_36 rfl 1 rfl ?_
        refine r_icmp_le E 51 (by decide) dX12_may_37 (fun _ => ?_) (fun _ => ?_)
        · refine r_iconst E dX12_may_51 (zkI (by decide) (by decide)) ?_
          refine r_goto E 56 (by decide) dX12_may_52 ?_
          exact r_zreturn E rfl hT (by decide) dX12_may_56
        · refine r_aload_n E dX12_may_40 rfl 0 rfl ?_
          refine r_iconst E dX12_may_41 (zkI (by decide) (by decide)) ?_
          refine r_iload_n E dX12_may_42 rfl 1 rfl ?_
          refine r_iload_n E dX12_may_43 rfl 2 rfl ?_
          refine r_iload_n E dX12_may_44 rfl 3 rfl ?_
          refine r_callV E [(0, 5), (0, x1), (0, x2), (0, x3)] [] rfl zc_14 zr_14 (fun o _ => ⟨_, zw_X12.1 o, rfl⟩) (lw_V q2209 q2211 qs15 q239 q2212) dX12_may_45 zy_X12_refuse rfl (by omega) (by decide) (Nat.le_of_ble_eq_true rfl) (by decide) (fun l G => k_fX12_refuse l G 5 x1 x2 x3) (fun v10 => ?_)
          refine r_if_eq E 55 (by decide) dX12_may_48 (fun _ => ?_) (fun _ => ?_)
          · refine r_iconst E dX12_may_55 (zkI (by decide) (by decide)) ?_
            exact r_zreturn E rfl hT (by decide) dX12_may_56
          · refine r_iconst E dX12_may_51 (zkI (by decide) (by decide)) ?_
            refine r_goto E 56 (by decide) dX12_may_52 ?_
            exact r_zreturn E rfl hT (by decide) dX12_may_56
      · refine r_aload_n E dX12_may_24 rfl 0 rfl ?_
        refine r_iconst E dX12_may_25 (zkI (by decide) (by decide)) ?_
        refine r_iload_n E dX12_may_26 rfl 1 rfl ?_
        refine r_iload_n E dX12_may_27 rfl 2 rfl ?_
        refine r_iload_n E dX12_may_28 rfl 3 rfl ?_
        refine r_callV E [(0, 3), (0, x1), (0, x2), (0, x3)] [] rfl zc_14 zr_14 (fun o _ => ⟨_, zw_X12.1 o, rfl⟩) (lw_V q2209 q2211 qs15 q239 q2212) dX12_may_29 zy_X12_refuse rfl (by omega) (by decide) (Nat.le_of_ble_eq_true rfl) (by decide) (fun l G => k_fX12_refuse l G 3 x1 x2 x3) (fun v11 => ?_)
        refine r_goto E 56 (by decide) dX12_may_32 ?_
        exact r_zreturnb E rfl hT dX12_may_56
  · refine r_iconst E dX12_may_10 (zkI (by decide) (by decide)) ?_
    exact r_zreturn E rfl hT (by decide) dX12_may_11
theorem k_fX12_may (l : Launch) (G : zG) (x1 : Int) (x2 : Int) (x3 : Int) (x4 : Int) : zCt l G yX12_may cX12_may 6 (some .boolean) 5 [(14, 0), (0, x1), (0, x2), (0, x3), (0, x4)] (some 0) (fX12_may x1 x2 x3 x4) := zCt.of (by decide) (Nat.le_of_ble_eq_true rfl) (fun K E _ _ hN hT => w_fX12_may E hN hT x1 x2 x3 x4)
theorem dX12_load_0 : decode cX12_load 0 = .ok (.iload_n 1, 1) := by decide +kernel
theorem dX12_load_1 : decode cX12_load 1 = .ok (.bipush 8, 2) := by decide +kernel
theorem dX12_load_3 : decode cX12_load 3 = .ok (.if_icmp .ge 20, 3) := by decide +kernel
theorem dX12_load_6 : decode cX12_load 6 = .ok (.aload_n 0, 1) := by decide +kernel
theorem dX12_load_7 : decode cX12_load 7 = .ok (.getfield 246, 3) := by decide +kernel
theorem dX12_load_10 : decode cX12_load 10 = .ok (.getfield 307, 3) := by decide +kernel
theorem dX12_load_13 : decode cX12_load 13 = .ok (.bipush 64, 2) := by decide +kernel
theorem dX12_load_15 : decode cX12_load 15 = .ok (.iload_n 1, 1) := by decide +kernel
theorem dX12_load_16 : decode cX12_load 16 = .ok (.imul, 1) := by decide +kernel
theorem dX12_load_17 : decode cX12_load 17 = .ok (.iload_n 2, 1) := by decide +kernel
theorem dX12_load_18 : decode cX12_load 18 = .ok (.iadd, 1) := by decide +kernel
theorem dX12_load_19 : decode cX12_load 19 = .ok (.laload, 1) := by decide +kernel
theorem dX12_load_20 : decode cX12_load 20 = .ok (.goto 20, 3) := by decide +kernel
theorem dX12_load_23 : decode cX12_load 23 = .ok (.aload_n 0, 1) := by decide +kernel
theorem dX12_load_24 : decode cX12_load 24 = .ok (.getfield 24, 3) := by decide +kernel
theorem dX12_load_27 : decode cX12_load 27 = .ok (.aload_n 0, 1) := by decide +kernel
theorem dX12_load_28 : decode cX12_load 28 = .ok (.getfield 246, 3) := by decide +kernel
theorem dX12_load_31 : decode cX12_load 31 = .ok (.getfield 276, 3) := by decide +kernel
theorem dX12_load_34 : decode cX12_load 34 = .ok (.iload_n 1, 1) := by decide +kernel
theorem dX12_load_35 : decode cX12_load 35 = .ok (.aaload, 1) := by decide +kernel
theorem dX12_load_36 : decode cX12_load 36 = .ok (.iload_n 2, 1) := by decide +kernel
theorem dX12_load_37 : decode cX12_load 37 = .ok (.invokevirtual 311, 3) := by decide +kernel
theorem dX12_load_40 : decode cX12_load 40 = .ok (.lreturn, 1) := by decide +kernel
theorem zy_X12_load : yX12_load.cls ≠ "java/lang/invoke/MethodHandle" ∧ yX12_load.cls ≠ "java/lang/invoke/VarHandle" ∧ (parseMethodDescriptor yX12_load.desc).map (fun d => d.parameters.length) = some 2 := by decide +kernel
theorem w_fX12_load {K : zK} (E : zE K cX12_load "RingHouse$Machine" (some .long) 2) (hN : zNl K = 3) (hT : zTr K = (some 1)) (x1 : Int) (x2 : Int) : zR K 0 [(0, 14, 0), (1, 0, x1), (2, 0, x2)] [] (fX12_load x1 x2) := by
  refine r_iload_n E dX12_load_0 rfl 1 rfl ?_
  refine r_bipush E dX12_load_1 (by decide) (zkI (by decide) (by decide)) ?_
  refine r_icmp_ge E 23 (by decide) dX12_load_3 (fun _ => ?_) (fun _ => ?_)
  · refine r_aload_n E dX12_load_23 rfl 0 rfl ?_
    refine r_gec (y := 0) E zc_14 dX12_load_24 q1526 zr_14 (zh_1300 (by decide)) (by decide) ?_
    refine r_aload_n E dX12_load_27 rfl 0 rfl ?_
    refine r_get E zc_14 zt_1307 dX12_load_28 q1550 zr_14 (zg_1307 _) (by decide) (fun v1 => ?_)
    refine r_nn E (fun hn2 => ?_)
    refine r_gecN (y := v1) E zc_10 dX12_load_31 q913 zr_10 (zh_916 (by omega)) hn2 ?_
    refine r_iload_n E dX12_load_34 rfl 1 rfl ?_
    refine r_aaload E zc_916 za_916 zt_916 zx_916 rfl rfl dX12_load_35 hn2 (fun v3 => ?_)
    refine r_iload_n E dX12_load_36 rfl 2 rfl ?_
    refine r_callV E [(6, v3), (0, x2)] [] rfl zc_3 zr_3 (fun o _ => ⟨_, zw_X1.1 o, rfl⟩) (lw_V q2248 q2086 q2087 q228 q2088) dX12_load_37 zy_X1_get rfl (by omega) (by decide) (Nat.le_of_ble_eq_true rfl) (by decide) (fun l G => k_fX1_get l G v3 x2) (fun v4 => ?_)
    exact r_lreturn E rfl hT dX12_load_40
  · refine r_aload_n E dX12_load_6 rfl 0 rfl ?_
    refine r_get E zc_14 zt_1307 dX12_load_7 q1550 zr_14 (zg_1307 _) (by decide) (fun v5 => ?_)
    refine r_nn E (fun hn6 => ?_)
    refine r_gecN (y := v5) E zc_10 dX12_load_10 q908 zr_10 (zh_915 (by omega)) hn6 ?_
    refine r_bipush E dX12_load_13 (by decide) (zkI (by decide) (by decide)) ?_
    refine r_iload_n E dX12_load_15 rfl 1 rfl ?_
    refine r_imul E dX12_load_16 ?_
    refine r_iload_n E dX12_load_17 rfl 2 rfl ?_
    refine r_iadd E dX12_load_18 ?_
    refine r_laload E zc_915 za_915 zt_915 zx_915 rfl rfl dX12_load_19 hn6 (fun v7 => ?_)
    refine r_goto E 40 (by decide) dX12_load_20 ?_
    exact r_lreturn E rfl hT dX12_load_40
theorem k_fX12_load (l : Launch) (G : zG) (x1 : Int) (x2 : Int) : zCt l G yX12_load cX12_load 3 (some .long) 2 [(14, 0), (0, x1), (0, x2)] (some 1) (fX12_load x1 x2) := zCt.of (by decide) (Nat.le_of_ble_eq_true rfl) (fun K E _ _ hN hT => w_fX12_load E hN hT x1 x2)
theorem dX14_takesMode_0 : decode cX14_takesMode 0 = .ok (.aload_n 0, 1) := by decide +kernel
theorem dX14_takesMode_1 : decode cX14_takesMode 1 = .ok (.getfield 15, 3) := by decide +kernel
theorem dX14_takesMode_4 : decode cX14_takesMode 4 = .ok (.ifCond .ne 5, 3) := by decide +kernel
theorem dX14_takesMode_7 : decode cX14_takesMode 7 = .ok (.iconst 1, 1) := by decide +kernel
theorem dX14_takesMode_8 : decode cX14_takesMode 8 = .ok (.ireturn, 1) := by decide +kernel
theorem dX14_takesMode_9 : decode cX14_takesMode 9 = .ok (.iload_n 1, 1) := by decide +kernel
theorem dX14_takesMode_10 : decode cX14_takesMode 10 = .ok (.iconst 2, 1) := by decide +kernel
theorem dX14_takesMode_11 : decode cX14_takesMode 11 = .ok (.if_icmp .ne 36, 3) := by decide +kernel
theorem dX14_takesMode_14 : decode cX14_takesMode 14 = .ok (.aload_n 0, 1) := by decide +kernel
theorem dX14_takesMode_15 : decode cX14_takesMode 15 = .ok (.getfield 15, 3) := by decide +kernel
theorem dX14_takesMode_18 : decode cX14_takesMode 18 = .ok (.iconst 1, 1) := by decide +kernel
theorem dX14_takesMode_19 : decode cX14_takesMode 19 = .ok (.if_icmp .eq 20, 3) := by decide +kernel
theorem dX14_takesMode_22 : decode cX14_takesMode 22 = .ok (.aload_n 0, 1) := by decide +kernel
theorem dX14_takesMode_23 : decode cX14_takesMode 23 = .ok (.getfield 15, 3) := by decide +kernel
theorem dX14_takesMode_26 : decode cX14_takesMode 26 = .ok (.iconst 3, 1) := by decide +kernel
theorem dX14_takesMode_27 : decode cX14_takesMode 27 = .ok (.if_icmp .eq 12, 3) := by decide +kernel
theorem dX14_takesMode_30 : decode cX14_takesMode 30 = .ok (.aload_n 0, 1) := by decide +kernel
theorem dX14_takesMode_31 : decode cX14_takesMode 31 = .ok (.getfield 15, 3) := by decide +kernel
theorem dX14_takesMode_34 : decode cX14_takesMode 34 = .ok (.bipush 6, 2) := by decide +kernel
theorem dX14_takesMode_36 : decode cX14_takesMode 36 = .ok (.if_icmp .ne 7, 3) := by decide +kernel
theorem dX14_takesMode_39 : decode cX14_takesMode 39 = .ok (.iconst 1, 1) := by decide +kernel
theorem dX14_takesMode_40 : decode cX14_takesMode 40 = .ok (.goto 27, 3) := by decide +kernel
theorem dX14_takesMode_43 : decode cX14_takesMode 43 = .ok (.iconst 0, 1) := by decide +kernel
theorem dX14_takesMode_44 : decode cX14_takesMode 44 = .ok (.goto 23, 3) := by decide +kernel
theorem dX14_takesMode_47 : decode cX14_takesMode 47 = .ok (.iload_n 1, 1) := by decide +kernel
theorem dX14_takesMode_48 : decode cX14_takesMode 48 = .ok (.bipush 7, 2) := by decide +kernel
theorem dX14_takesMode_50 : decode cX14_takesMode 50 = .ok (.if_icmp .ge 16, 3) := by decide +kernel
theorem dX14_takesMode_53 : decode cX14_takesMode 53 = .ok (.aload_n 0, 1) := by decide +kernel
theorem dX14_takesMode_54 : decode cX14_takesMode 54 = .ok (.getfield 15, 3) := by decide +kernel
theorem dX14_takesMode_57 : decode cX14_takesMode 57 = .ok (.bipush 6, 2) := by decide +kernel
theorem dX14_takesMode_59 : decode cX14_takesMode 59 = .ok (.if_icmp .eq 7, 3) := by decide +kernel
theorem dX14_takesMode_62 : decode cX14_takesMode 62 = .ok (.iconst 1, 1) := by decide +kernel
theorem dX14_takesMode_63 : decode cX14_takesMode 63 = .ok (.goto 4, 3) := by decide +kernel
theorem dX14_takesMode_66 : decode cX14_takesMode 66 = .ok (.iconst 0, 1) := by decide +kernel
theorem dX14_takesMode_67 : decode cX14_takesMode 67 = .ok (.ireturn, 1) := by decide +kernel
theorem zy_X14_takesMode : yX14_takesMode.cls ≠ "java/lang/invoke/MethodHandle" ∧ yX14_takesMode.cls ≠ "java/lang/invoke/VarHandle" ∧ (parseMethodDescriptor yX14_takesMode.desc).map (fun d => d.parameters.length) = some 1 := by decide +kernel
theorem w_fX14_takesMode {K : zK} (E : zE K cX14_takesMode "RingHouse$Operation" (some .boolean) 0) (hN : zNl K = 2) (hT : zTr K = (some 0)) (x0 : Int) (x1 : Int) (h0 : 0 ≤ x0) : zR K 0 [(0, 16, x0), (1, 0, x1)] [] (fX14_takesMode x0 x1) := by
  refine r_aload_n E dX14_takesMode_0 rfl 0 rfl ?_
  refine r_gec (y := (zsort x0)) E zc_16 dX14_takesMode_1 q1037 zr_16 (zhv_sort _) h0 ?_
  refine r_if_ne E 9 (by decide) dX14_takesMode_4 (fun _ => ?_) (fun _ => ?_)
  · refine r_iload_n E dX14_takesMode_9 rfl 1 rfl ?_
    refine r_iconst E dX14_takesMode_10 (zkI (by decide) (by decide)) ?_
    refine r_icmp_ne E 47 (by decide) dX14_takesMode_11 (fun _ => ?_) (fun _ => ?_)
    · refine r_iload_n E dX14_takesMode_47 rfl 1 rfl ?_
      refine r_bipush E dX14_takesMode_48 (by decide) (zkI (by decide) (by decide)) ?_
      refine r_icmp_ge E 66 (by decide) dX14_takesMode_50 (fun _ => ?_) (fun _ => ?_)
      · refine r_iconst E dX14_takesMode_66 (zkI (by decide) (by decide)) ?_
        exact r_zreturn E rfl hT (by decide) dX14_takesMode_67
      · refine r_aload_n E dX14_takesMode_53 rfl 0 rfl ?_
        refine r_gec (y := (zsort x0)) E zc_16 dX14_takesMode_54 q1037 zr_16 (zhv_sort _) h0 ?_
        refine r_bipush E dX14_takesMode_57 (by decide) (zkI (by decide) (by decide)) ?_
        refine r_icmp_eq E 66 (by decide) dX14_takesMode_59 (fun _ => ?_) (fun _ => ?_)
        · refine r_iconst E dX14_takesMode_66 (zkI (by decide) (by decide)) ?_
          exact r_zreturn E rfl hT (by decide) dX14_takesMode_67
        · refine r_iconst E dX14_takesMode_62 (zkI (by decide) (by decide)) ?_
          refine r_goto E 67 (by decide) dX14_takesMode_63 ?_
          exact r_zreturn E rfl hT (by decide) dX14_takesMode_67
    · refine r_aload_n E dX14_takesMode_14 rfl 0 rfl ?_
      refine r_gec (y := (zsort x0)) E zc_16 dX14_takesMode_15 q1037 zr_16 (zhv_sort _) h0 ?_
      refine r_iconst E dX14_takesMode_18 (zkI (by decide) (by decide)) ?_
      refine r_icmp_eq E 39 (by decide) dX14_takesMode_19 (fun _ => ?_) (fun _ => ?_)
      · refine r_iconst E dX14_takesMode_39 (zkI (by decide) (by decide)) ?_
        refine r_goto E 67 (by decide) dX14_takesMode_40 ?_
        exact r_zreturn E rfl hT (by decide) dX14_takesMode_67
      · refine r_aload_n E dX14_takesMode_22 rfl 0 rfl ?_
        refine r_gec (y := (zsort x0)) E zc_16 dX14_takesMode_23 q1037 zr_16 (zhv_sort _) h0 ?_
        refine r_iconst E dX14_takesMode_26 (zkI (by decide) (by decide)) ?_
        refine r_icmp_eq E 39 (by decide) dX14_takesMode_27 (fun _ => ?_) (fun _ => ?_)
        · refine r_iconst E dX14_takesMode_39 (zkI (by decide) (by decide)) ?_
          refine r_goto E 67 (by decide) dX14_takesMode_40 ?_
          exact r_zreturn E rfl hT (by decide) dX14_takesMode_67
        · refine r_aload_n E dX14_takesMode_30 rfl 0 rfl ?_
          refine r_gec (y := (zsort x0)) E zc_16 dX14_takesMode_31 q1037 zr_16 (zhv_sort _) h0 ?_
          refine r_bipush E dX14_takesMode_34 (by decide) (zkI (by decide) (by decide)) ?_
          refine r_icmp_ne E 43 (by decide) dX14_takesMode_36 (fun _ => ?_) (fun _ => ?_)
          · refine r_iconst E dX14_takesMode_43 (zkI (by decide) (by decide)) ?_
            refine r_goto E 67 (by decide) dX14_takesMode_44 ?_
            exact r_zreturn E rfl hT (by decide) dX14_takesMode_67
          · refine r_iconst E dX14_takesMode_39 (zkI (by decide) (by decide)) ?_
            refine r_goto E 67 (by decide) dX14_takesMode_40 ?_
            exact r_zreturn E rfl hT (by decide) dX14_takesMode_67
  · refine r_iconst E dX14_takesMode_7 (zkI (by decide) (by decide)) ?_
    exact r_zreturn E rfl hT (by decide) dX14_takesMode_8
theorem k_fX14_takesMode (l : Launch) (G : zG) (x0 : Int) (x1 : Int) (h0 : 0 ≤ x0) : zCt l G yX14_takesMode cX14_takesMode 2 (some .boolean) 0 [(16, x0), (0, x1)] (some 0) (fX14_takesMode x0 x1) := zCt.of (by decide) (Nat.le_of_ble_eq_true rfl) (fun K E _ _ hN hT => w_fX14_takesMode E hN hT x0 x1 h0)
theorem dX7_take_0 : decode cX7_take 0 = .ok (.aload_n 0, 1) := by decide +kernel
theorem dX7_take_1 : decode cX7_take 1 = .ok (.lload_n 1, 1) := by decide +kernel
theorem dX7_take_2 : decode cX7_take 2 = .ok (.putfield 11, 3) := by decide +kernel
theorem dX7_take_5 : decode cX7_take 5 = .ok (.lload_n 1, 1) := by decide +kernel
theorem dX7_take_6 : decode cX7_take 6 = .ok (.bipush 30, 2) := by decide +kernel
theorem dX7_take_8 : decode cX7_take 8 = .ok (.lshr, 1) := by decide +kernel
theorem dX7_take_9 : decode cX7_take 9 = .ok (.l2i, 1) := by decide +kernel
theorem dX7_take_10 : decode cX7_take 10 = .ok (.istore 4, 2) := by decide +kernel
theorem dX7_take_12 : decode cX7_take 12 = .ok (.aload_n 0, 1) := by decide +kernel
theorem dX7_take_13 : decode cX7_take 13 = .ok (.lload_n 1, 1) := by decide +kernel
theorem dX7_take_14 : decode cX7_take 14 = .ok (.bipush 27, 2) := by decide +kernel
theorem dX7_take_16 : decode cX7_take 16 = .ok (.lshr, 1) := by decide +kernel
theorem dX7_take_17 : decode cX7_take 17 = .ok (.ldc2_w 17, 3) := by decide +kernel
theorem dX7_take_20 : decode cX7_take 20 = .ok (.land, 1) := by decide +kernel
theorem dX7_take_21 : decode cX7_take 21 = .ok (.l2i, 1) := by decide +kernel
theorem dX7_take_22 : decode cX7_take 22 = .ok (.putfield 19, 3) := by decide +kernel
theorem dX7_take_25 : decode cX7_take 25 = .ok (.aload_n 0, 1) := by decide +kernel
theorem dX7_take_26 : decode cX7_take 26 = .ok (.lload_n 1, 1) := by decide +kernel
theorem dX7_take_27 : decode cX7_take 27 = .ok (.bipush 24, 2) := by decide +kernel
theorem dX7_take_29 : decode cX7_take 29 = .ok (.lshr, 1) := by decide +kernel
theorem dX7_take_30 : decode cX7_take 30 = .ok (.ldc2_w 17, 3) := by decide +kernel
theorem dX7_take_33 : decode cX7_take 33 = .ok (.land, 1) := by decide +kernel
theorem dX7_take_34 : decode cX7_take 34 = .ok (.l2i, 1) := by decide +kernel
theorem dX7_take_35 : decode cX7_take 35 = .ok (.putfield 23, 3) := by decide +kernel
theorem dX7_take_38 : decode cX7_take 38 = .ok (.aload_n 0, 1) := by decide +kernel
theorem dX7_take_39 : decode cX7_take 39 = .ok (.lload_n 1, 1) := by decide +kernel
theorem dX7_take_40 : decode cX7_take 40 = .ok (.bipush 21, 2) := by decide +kernel
theorem dX7_take_42 : decode cX7_take 42 = .ok (.lshr, 1) := by decide +kernel
theorem dX7_take_43 : decode cX7_take 43 = .ok (.ldc2_w 17, 3) := by decide +kernel
theorem dX7_take_46 : decode cX7_take 46 = .ok (.land, 1) := by decide +kernel
theorem dX7_take_47 : decode cX7_take 47 = .ok (.l2i, 1) := by decide +kernel
theorem dX7_take_48 : decode cX7_take 48 = .ok (.putfield 26, 3) := by decide +kernel
theorem dX7_take_51 : decode cX7_take 51 = .ok (.aload_n 0, 1) := by decide +kernel
theorem dX7_take_52 : decode cX7_take 52 = .ok (.lload_n 1, 1) := by decide +kernel
theorem dX7_take_53 : decode cX7_take 53 = .ok (.bipush 18, 2) := by decide +kernel
theorem dX7_take_55 : decode cX7_take 55 = .ok (.lshr, 1) := by decide +kernel
theorem dX7_take_56 : decode cX7_take 56 = .ok (.ldc2_w 17, 3) := by decide +kernel
theorem dX7_take_59 : decode cX7_take 59 = .ok (.land, 1) := by decide +kernel
theorem dX7_take_60 : decode cX7_take 60 = .ok (.l2i, 1) := by decide +kernel
theorem dX7_take_61 : decode cX7_take 61 = .ok (.putfield 29, 3) := by decide +kernel
theorem dX7_take_64 : decode cX7_take 64 = .ok (.aload_n 0, 1) := by decide +kernel
theorem dX7_take_65 : decode cX7_take 65 = .ok (.lload_n 1, 1) := by decide +kernel
theorem dX7_take_66 : decode cX7_take 66 = .ok (.ldc2_w 32, 3) := by decide +kernel
theorem dX7_take_69 : decode cX7_take 69 = .ok (.land, 1) := by decide +kernel
theorem dX7_take_70 : decode cX7_take 70 = .ok (.l2i, 1) := by decide +kernel
theorem dX7_take_71 : decode cX7_take 71 = .ok (.putfield 34, 3) := by decide +kernel
theorem dX7_take_74 : decode cX7_take 74 = .ok (.iload 4, 2) := by decide +kernel
theorem dX7_take_76 : decode cX7_take 76 = .ok (.aload_n 3, 1) := by decide +kernel
theorem dX7_take_77 : decode cX7_take 77 = .ok (.arraylength, 1) := by decide +kernel
theorem dX7_take_78 : decode cX7_take 78 = .ok (.if_icmp .ge 10, 3) := by decide +kernel
theorem dX7_take_81 : decode cX7_take 81 = .ok (.aload_n 3, 1) := by decide +kernel
theorem dX7_take_82 : decode cX7_take 82 = .ok (.iload 4, 2) := by decide +kernel
theorem dX7_take_84 : decode cX7_take 84 = .ok (.aaload, 1) := by decide +kernel
theorem dX7_take_85 : decode cX7_take 85 = .ok (.goto 4, 3) := by decide +kernel
theorem dX7_take_88 : decode cX7_take 88 = .ok (.aconst_null, 1) := by decide +kernel
theorem dX7_take_89 : decode cX7_take 89 = .ok (.astore 5, 2) := by decide +kernel
theorem dX7_take_91 : decode cX7_take 91 = .ok (.aload_n 0, 1) := by decide +kernel
theorem dX7_take_92 : decode cX7_take 92 = .ok (.aload 5, 2) := by decide +kernel
theorem dX7_take_94 : decode cX7_take 94 = .ok (.ifnull 53, 3) := by decide +kernel
theorem dX7_take_97 : decode cX7_take 97 = .ok (.aload 5, 2) := by decide +kernel
theorem dX7_take_99 : decode cX7_take 99 = .ok (.getfield 37, 3) := by decide +kernel
theorem dX7_take_102 : decode cX7_take 102 = .ok (.ifCond .eq 40, 3) := by decide +kernel
theorem dX7_take_105 : decode cX7_take 105 = .ok (.aload 5, 2) := by decide +kernel
theorem dX7_take_107 : decode cX7_take 107 = .ok (.aload_n 0, 1) := by decide +kernel
theorem dX7_take_108 : decode cX7_take 108 = .ok (.getfield 19, 3) := by decide +kernel
theorem dX7_take_111 : decode cX7_take 111 = .ok (.invokevirtual 42, 3) := by decide +kernel
theorem dX7_take_114 : decode cX7_take 114 = .ok (.ifCond .eq 33, 3) := by decide +kernel
theorem dX7_take_117 : decode cX7_take 117 = .ok (.aload_n 0, 1) := by decide +kernel
theorem dX7_take_118 : decode cX7_take 118 = .ok (.getfield 29, 3) := by decide +kernel
theorem dX7_take_121 : decode cX7_take 121 = .ok (.iconst 4, 1) := by decide +kernel
theorem dX7_take_122 : decode cX7_take 122 = .ok (.if_icmp .gt 25, 3) := by decide +kernel
theorem dX7_take_125 : decode cX7_take 125 = .ok (.aload 5, 2) := by decide +kernel
theorem dX7_take_127 : decode cX7_take 127 = .ok (.getfield 46, 3) := by decide +kernel
theorem dX7_take_130 : decode cX7_take 130 = .ok (.iconst 4, 1) := by decide +kernel
theorem dX7_take_131 : decode cX7_take 131 = .ok (.if_icmp .ne 11, 3) := by decide +kernel
theorem dX7_take_134 : decode cX7_take 134 = .ok (.aload_n 0, 1) := by decide +kernel
theorem dX7_take_135 : decode cX7_take 135 = .ok (.getfield 26, 3) := by decide +kernel
theorem dX7_take_138 : decode cX7_take 138 = .ok (.iconst 4, 1) := by decide +kernel
theorem dX7_take_139 : decode cX7_take 139 = .ok (.if_icmp .ge 8, 3) := by decide +kernel
theorem dX7_take_142 : decode cX7_take 142 = .ok (.aload 5, 2) := by decide +kernel
theorem dX7_take_144 : decode cX7_take 144 = .ok (.goto 4, 3) := by decide +kernel
theorem dX7_take_147 : decode cX7_take 147 = .ok (.aconst_null, 1) := by decide +kernel
theorem dX7_take_148 : decode cX7_take 148 = .ok (.putfield 49, 3) := by decide +kernel
theorem dX7_take_151 : decode cX7_take 151 = .ok (.return_, 1) := by decide +kernel
theorem zy_X7_take : yX7_take.cls ≠ "java/lang/invoke/MethodHandle" ∧ yX7_take.cls ≠ "java/lang/invoke/VarHandle" ∧ (parseMethodDescriptor yX7_take.desc).map (fun d => d.parameters.length) = some 2 := by decide +kernel
theorem w_fX7_take_J148 {K : zK} (E : zE K cX7_take "RingHouse$Decoded" none 1) (hN : zNl K = 6) (hT : zTr K = none) (s0 : Int) (s1 : Int) : zR K 148 [] [(16, s1), (9, s0)] (fX7_take_J148 s0 s1) := by
  refine r_nn E (fun hn3 => ?_)
  refine r_put E zc_9 zt_801 zo_801 dX7_take_148 q639 zr_9 zw_X7 zp_801 (fun _ => rfl) (fun G => zfo G) hn3 ?_
  exact r_return E rfl hT dX7_take_151
theorem w_fX7_take_J147 {K : zK} (E : zE K cX7_take "RingHouse$Decoded" none 1) (hN : zNl K = 6) (hT : zTr K = none) (s0 : Int) : zR K 147 [] [(9, s0)] (fX7_take_J147 s0) := by
  refine r_null E 14 dX7_take_147 ?_
  exact w_fX7_take_J148 E hN hT s0 (-1)
theorem w_fX7_take_J142 {K : zK} (E : zE K cX7_take "RingHouse$Decoded" none 1) (hN : zNl K = 6) (hT : zTr K = none) (x5 : Int) (s0 : Int) : zR K 142 [(5, 16, x5)] [(9, s0)] (fX7_take_J142 x5 s0) := by
  refine r_aload E dX7_take_142 0 rfl ?_
  refine r_goto E 148 (by decide) dX7_take_144 ?_
  refine r_pick E [] rfl ?_
  exact w_fX7_take_J148 E hN hT s0 x5
theorem w_fX7_take_J114 {K : zK} (E : zE K cX7_take "RingHouse$Decoded" none 1) (hN : zNl K = 6) (hT : zTr K = none) (x0 : Int) (x5 : Int) (s0 : Int) (s1 : Int) (h0 : 0 ≤ x0) : zR K 114 [(0, 9, x0), (5, 16, x5)] [(0, s1), (9, s0)] (fX7_take_J114 x0 x5 s0 s1) := by
  refine r_if_eq E 147 (by decide) dX7_take_114 (fun _ => ?_) (fun _ => ?_)
  · refine r_pick E [] rfl ?_
    exact w_fX7_take_J147 E hN hT s0
  · refine r_aload_n E dX7_take_117 rfl 0 rfl ?_
    refine r_get E zc_9 zt_805 dX7_take_118 q654 zr_9 (zg_805 _) h0 (fun v6 => ?_)
    refine r_iconst E dX7_take_121 (zkI (by decide) (by decide)) ?_
    refine r_icmp_gt E 147 (by decide) dX7_take_122 (fun _ => ?_) (fun _ => ?_)
    · refine r_pick E [] rfl ?_
      exact w_fX7_take_J147 E hN hT s0
    · refine r_aload E dX7_take_125 1 rfl ?_
      refine r_nn E (fun hn7 => ?_)
      refine r_gecN (y := (zregs x5)) E zc_16 dX7_take_127 q1043 zr_16 (zhv_registers _) hn7 ?_
      refine r_iconst E dX7_take_130 (zkI (by decide) (by decide)) ?_
      refine r_icmp_ne E 142 (by decide) dX7_take_131 (fun _ => ?_) (fun _ => ?_)
      · refine r_pick E [1] rfl ?_
        exact w_fX7_take_J142 E hN hT x5 s0
      · refine r_aload_n E dX7_take_134 rfl 0 rfl ?_
        refine r_get E zc_9 zt_804 dX7_take_135 q650 zr_9 (zg_804 _) h0 (fun v8 => ?_)
        refine r_iconst E dX7_take_138 (zkI (by decide) (by decide)) ?_
        refine r_icmp_ge E 147 (by decide) dX7_take_139 (fun _ => ?_) (fun _ => ?_)
        · refine r_pick E [] rfl ?_
          exact w_fX7_take_J147 E hN hT s0
        · refine r_pick E [1] rfl ?_
          exact w_fX7_take_J142 E hN hT x5 s0
theorem w_fX7_take_J89 {K : zK} (E : zE K cX7_take "RingHouse$Decoded" none 1) (hN : zNl K = 6) (hT : zTr K = none) (x0 : Int) (s0 : Int) (h0 : 0 ≤ x0) : zR K 89 [(0, 9, x0)] [(16, s0)] (fX7_take_J89 x0 s0) := by
  refine r_astore (ls' := [(5, 16, s0), (0, 9, x0)]) E dX7_take_89 (by rw [hN]; decide) rfl ?_
  refine r_aload_n E dX7_take_91 rfl 1 rfl ?_
  refine r_aload E dX7_take_92 0 rfl ?_
  refine r_ifnull E 147 (by decide) dX7_take_94 (fun _ => ?_) (fun hz2 => ?_)
  · refine r_pick E [] rfl ?_
    exact w_fX7_take_J147 E hN hT x0
  · refine r_aload E dX7_take_97 0 rfl ?_
    refine r_gecN (y := (zsort s0)) E zc_16 dX7_take_99 q1038 zr_16 (zhv_sort _) (Int.not_lt.mp hz2) ?_
    refine r_if_eq E 142 (by decide) dX7_take_102 (fun _ => ?_) (fun _ => ?_)
    · refine r_pick E [0] rfl ?_
      exact w_fX7_take_J142 E hN hT s0 x0
    · refine r_aload E dX7_take_105 0 rfl ?_
      refine r_aload_n E dX7_take_107 rfl 1 rfl ?_
      refine r_get E zc_9 zt_802 dX7_take_108 q641 zr_9 (zg_802 _) h0 (fun v4 => ?_)
      refine r_has 1 rfl (fun hov => ?_)
      rcases zop38 hov (Int.not_lt.mp hz2) with rfl | rfl | rfl | rfl | rfl | rfl | rfl | rfl | rfl | rfl | rfl | rfl | rfl | rfl | rfl | rfl | rfl | rfl | rfl | rfl | rfl | rfl | rfl | rfl | rfl | rfl | rfl | rfl | rfl | rfl | rfl | rfl | rfl | rfl | rfl | rfl | rfl | rfl
      · refine r_callU (n := 1) (x := ⟨"RingHouse$Operation", "takesMode", "(I)Z"⟩) (owner := "RingHouse$Operation") E [(0, v4)] [(9, x0)] rfl zc_16 zr_16 zk_16_0 q2259 q2261 q2273 q2260 q241 q2282 (Or.inl rfl) dX7_take_111 (by decide +kernel) rfl (by omega) (by decide) (Nat.le_of_ble_eq_true rfl) (by decide) (fun l G => k_fX14_takesMode l G 0 v4 (by decide)) (fun v5 => ?_)
        refine r_pick E [1, 0] rfl ?_
        exact w_fX7_take_J114 E hN hT x0 0 x0 v5 h0
      · refine r_callU (n := 1) (x := ⟨"RingHouse$Operation", "takesMode", "(I)Z"⟩) (owner := "RingHouse$Operation") E [(0, v4)] [(9, x0)] rfl zc_16 zr_16 zk_16_1 q2259 q2261 q2273 q2260 q241 q2282 (Or.inl rfl) dX7_take_111 (by decide +kernel) rfl (by omega) (by decide) (Nat.le_of_ble_eq_true rfl) (by decide) (fun l G => k_fX14_takesMode l G 1 v4 (by decide)) (fun v5 => ?_)
        refine r_pick E [1, 0] rfl ?_
        exact w_fX7_take_J114 E hN hT x0 1 x0 v5 h0
      · refine r_callU (n := 1) (x := ⟨"RingHouse$Operation", "takesMode", "(I)Z"⟩) (owner := "RingHouse$Operation") E [(0, v4)] [(9, x0)] rfl zc_16 zr_16 zk_16_2 q2259 q2261 q2270 q2260 q241 q2282 (Or.inl rfl) dX7_take_111 (by decide +kernel) rfl (by omega) (by decide) (Nat.le_of_ble_eq_true rfl) (by decide) (fun l G => k_fX14_takesMode l G 2 v4 (by decide)) (fun v5 => ?_)
        refine r_pick E [1, 0] rfl ?_
        exact w_fX7_take_J114 E hN hT x0 2 x0 v5 h0
      · refine r_callU (n := 1) (x := ⟨"RingHouse$Operation", "takesMode", "(I)Z"⟩) (owner := "RingHouse$Operation") E [(0, v4)] [(9, x0)] rfl zc_16 zr_16 zk_16_3 q2259 q2261 q2270 q2260 q241 q2282 (Or.inl rfl) dX7_take_111 (by decide +kernel) rfl (by omega) (by decide) (Nat.le_of_ble_eq_true rfl) (by decide) (fun l G => k_fX14_takesMode l G 3 v4 (by decide)) (fun v5 => ?_)
        refine r_pick E [1, 0] rfl ?_
        exact w_fX7_take_J114 E hN hT x0 3 x0 v5 h0
      · refine r_callU (n := 1) (x := ⟨"RingHouse$Operation", "takesMode", "(I)Z"⟩) (owner := "RingHouse$Operation") E [(0, v4)] [(9, x0)] rfl zc_16 zr_16 zk_16_4 q2259 q2261 q2278 q2260 q241 q2282 (Or.inl rfl) dX7_take_111 (by decide +kernel) rfl (by omega) (by decide) (Nat.le_of_ble_eq_true rfl) (by decide) (fun l G => k_fX14_takesMode l G 4 v4 (by decide)) (fun v5 => ?_)
        refine r_pick E [1, 0] rfl ?_
        exact w_fX7_take_J114 E hN hT x0 4 x0 v5 h0
      · refine r_callU (n := 1) (x := ⟨"RingHouse$Operation", "takesMode", "(I)Z"⟩) (owner := "RingHouse$Operation") E [(0, v4)] [(9, x0)] rfl zc_16 zr_16 zk_16_5 q2259 q2261 q2278 q2260 q241 q2282 (Or.inl rfl) dX7_take_111 (by decide +kernel) rfl (by omega) (by decide) (Nat.le_of_ble_eq_true rfl) (by decide) (fun l G => k_fX14_takesMode l G 5 v4 (by decide)) (fun v5 => ?_)
        refine r_pick E [1, 0] rfl ?_
        exact w_fX7_take_J114 E hN hT x0 5 x0 v5 h0
      · refine r_callU (n := 1) (x := ⟨"RingHouse$Operation", "takesMode", "(I)Z"⟩) (owner := "RingHouse$Operation") E [(0, v4)] [(9, x0)] rfl zc_16 zr_16 zk_16_6 q2259 q2261 q2275 q2260 q241 q2282 (Or.inl rfl) dX7_take_111 (by decide +kernel) rfl (by omega) (by decide) (Nat.le_of_ble_eq_true rfl) (by decide) (fun l G => k_fX14_takesMode l G 6 v4 (by decide)) (fun v5 => ?_)
        refine r_pick E [1, 0] rfl ?_
        exact w_fX7_take_J114 E hN hT x0 6 x0 v5 h0
      · refine r_callU (n := 1) (x := ⟨"RingHouse$Operation", "takesMode", "(I)Z"⟩) (owner := "RingHouse$Operation") E [(0, v4)] [(9, x0)] rfl zc_16 zr_16 zk_16_7 q2259 q2261 q2266 q2260 q241 q2282 (Or.inl rfl) dX7_take_111 (by decide +kernel) rfl (by omega) (by decide) (Nat.le_of_ble_eq_true rfl) (by decide) (fun l G => k_fX14_takesMode l G 7 v4 (by decide)) (fun v5 => ?_)
        refine r_pick E [1, 0] rfl ?_
        exact w_fX7_take_J114 E hN hT x0 7 x0 v5 h0
      · refine r_callU (n := 1) (x := ⟨"RingHouse$Operation", "takesMode", "(I)Z"⟩) (owner := "RingHouse$Operation") E [(0, v4)] [(9, x0)] rfl zc_16 zr_16 zk_16_8 q2259 q2261 q2263 q2260 q241 q2282 (Or.inl rfl) dX7_take_111 (by decide +kernel) rfl (by omega) (by decide) (Nat.le_of_ble_eq_true rfl) (by decide) (fun l G => k_fX14_takesMode l G 8 v4 (by decide)) (fun v5 => ?_)
        refine r_pick E [1, 0] rfl ?_
        exact w_fX7_take_J114 E hN hT x0 8 x0 v5 h0
      · refine r_callU (n := 1) (x := ⟨"RingHouse$Operation", "takesMode", "(I)Z"⟩) (owner := "RingHouse$Operation") E [(0, v4)] [(9, x0)] rfl zc_16 zr_16 zk_16_9 q2259 q2261 q2263 q2260 q241 q2282 (Or.inl rfl) dX7_take_111 (by decide +kernel) rfl (by omega) (by decide) (Nat.le_of_ble_eq_true rfl) (by decide) (fun l G => k_fX14_takesMode l G 9 v4 (by decide)) (fun v5 => ?_)
        refine r_pick E [1, 0] rfl ?_
        exact w_fX7_take_J114 E hN hT x0 9 x0 v5 h0
      · refine r_callU (n := 1) (x := ⟨"RingHouse$Operation", "takesMode", "(I)Z"⟩) (owner := "RingHouse$Operation") E [(0, v4)] [(9, x0)] rfl zc_16 zr_16 zk_16_10 q2259 q2261 q2263 q2260 q241 q2282 (Or.inl rfl) dX7_take_111 (by decide +kernel) rfl (by omega) (by decide) (Nat.le_of_ble_eq_true rfl) (by decide) (fun l G => k_fX14_takesMode l G 10 v4 (by decide)) (fun v5 => ?_)
        refine r_pick E [1, 0] rfl ?_
        exact w_fX7_take_J114 E hN hT x0 10 x0 v5 h0
      · refine r_callU (n := 1) (x := ⟨"RingHouse$Operation", "takesMode", "(I)Z"⟩) (owner := "RingHouse$Operation") E [(0, v4)] [(9, x0)] rfl zc_16 zr_16 zk_16_11 q2259 q2261 q2265 q2260 q241 q2282 (Or.inl rfl) dX7_take_111 (by decide +kernel) rfl (by omega) (by decide) (Nat.le_of_ble_eq_true rfl) (by decide) (fun l G => k_fX14_takesMode l G 11 v4 (by decide)) (fun v5 => ?_)
        refine r_pick E [1, 0] rfl ?_
        exact w_fX7_take_J114 E hN hT x0 11 x0 v5 h0
      · refine r_callU (n := 1) (x := ⟨"RingHouse$Operation", "takesMode", "(I)Z"⟩) (owner := "RingHouse$Operation") E [(0, v4)] [(9, x0)] rfl zc_16 zr_16 zk_16_12 q2259 q2261 q2271 q2260 q241 q2282 (Or.inl rfl) dX7_take_111 (by decide +kernel) rfl (by omega) (by decide) (Nat.le_of_ble_eq_true rfl) (by decide) (fun l G => k_fX14_takesMode l G 12 v4 (by decide)) (fun v5 => ?_)
        refine r_pick E [1, 0] rfl ?_
        exact w_fX7_take_J114 E hN hT x0 12 x0 v5 h0
      · refine r_callU (n := 1) (x := ⟨"RingHouse$Operation", "takesMode", "(I)Z"⟩) (owner := "RingHouse$Operation") E [(0, v4)] [(9, x0)] rfl zc_16 zr_16 zk_16_13 q2259 q2261 q2271 q2260 q241 q2282 (Or.inl rfl) dX7_take_111 (by decide +kernel) rfl (by omega) (by decide) (Nat.le_of_ble_eq_true rfl) (by decide) (fun l G => k_fX14_takesMode l G 13 v4 (by decide)) (fun v5 => ?_)
        refine r_pick E [1, 0] rfl ?_
        exact w_fX7_take_J114 E hN hT x0 13 x0 v5 h0
      · refine r_callU (n := 1) (x := ⟨"RingHouse$Operation", "takesMode", "(I)Z"⟩) (owner := "RingHouse$Operation") E [(0, v4)] [(9, x0)] rfl zc_16 zr_16 zk_16_14 q2259 q2261 q2269 q2260 q241 q2282 (Or.inl rfl) dX7_take_111 (by decide +kernel) rfl (by omega) (by decide) (Nat.le_of_ble_eq_true rfl) (by decide) (fun l G => k_fX14_takesMode l G 14 v4 (by decide)) (fun v5 => ?_)
        refine r_pick E [1, 0] rfl ?_
        exact w_fX7_take_J114 E hN hT x0 14 x0 v5 h0
      · refine r_callU (n := 1) (x := ⟨"RingHouse$Operation", "takesMode", "(I)Z"⟩) (owner := "RingHouse$Operation") E [(0, v4)] [(9, x0)] rfl zc_16 zr_16 zk_16_15 q2259 q2261 q2269 q2260 q241 q2282 (Or.inl rfl) dX7_take_111 (by decide +kernel) rfl (by omega) (by decide) (Nat.le_of_ble_eq_true rfl) (by decide) (fun l G => k_fX14_takesMode l G 15 v4 (by decide)) (fun v5 => ?_)
        refine r_pick E [1, 0] rfl ?_
        exact w_fX7_take_J114 E hN hT x0 15 x0 v5 h0
      · refine r_callU (n := 1) (x := ⟨"RingHouse$Operation", "takesMode", "(I)Z"⟩) (owner := "RingHouse$Operation") E [(0, v4)] [(9, x0)] rfl zc_16 zr_16 zk_16_16 q2259 q2261 q2269 q2260 q241 q2282 (Or.inl rfl) dX7_take_111 (by decide +kernel) rfl (by omega) (by decide) (Nat.le_of_ble_eq_true rfl) (by decide) (fun l G => k_fX14_takesMode l G 16 v4 (by decide)) (fun v5 => ?_)
        refine r_pick E [1, 0] rfl ?_
        exact w_fX7_take_J114 E hN hT x0 16 x0 v5 h0
      · refine r_callU (n := 1) (x := ⟨"RingHouse$Operation", "takesMode", "(I)Z"⟩) (owner := "RingHouse$Operation") E [(0, v4)] [(9, x0)] rfl zc_16 zr_16 zk_16_17 q2259 q2261 q2269 q2260 q241 q2282 (Or.inl rfl) dX7_take_111 (by decide +kernel) rfl (by omega) (by decide) (Nat.le_of_ble_eq_true rfl) (by decide) (fun l G => k_fX14_takesMode l G 17 v4 (by decide)) (fun v5 => ?_)
        refine r_pick E [1, 0] rfl ?_
        exact w_fX7_take_J114 E hN hT x0 17 x0 v5 h0
      · refine r_callU (n := 1) (x := ⟨"RingHouse$Operation", "takesMode", "(I)Z"⟩) (owner := "RingHouse$Operation") E [(0, v4)] [(9, x0)] rfl zc_16 zr_16 zk_16_18 q2259 q2261 q2262 q2260 q241 q2282 (Or.inl rfl) dX7_take_111 (by decide +kernel) rfl (by omega) (by decide) (Nat.le_of_ble_eq_true rfl) (by decide) (fun l G => k_fX14_takesMode l G 18 v4 (by decide)) (fun v5 => ?_)
        refine r_pick E [1, 0] rfl ?_
        exact w_fX7_take_J114 E hN hT x0 18 x0 v5 h0
      · refine r_callU (n := 1) (x := ⟨"RingHouse$Operation", "takesMode", "(I)Z"⟩) (owner := "RingHouse$Operation") E [(0, v4)] [(9, x0)] rfl zc_16 zr_16 zk_16_19 q2259 q2261 q2280 q2260 q241 q2282 (Or.inl rfl) dX7_take_111 (by decide +kernel) rfl (by omega) (by decide) (Nat.le_of_ble_eq_true rfl) (by decide) (fun l G => k_fX14_takesMode l G 19 v4 (by decide)) (fun v5 => ?_)
        refine r_pick E [1, 0] rfl ?_
        exact w_fX7_take_J114 E hN hT x0 19 x0 v5 h0
      · refine r_callU (n := 1) (x := ⟨"RingHouse$Operation", "takesMode", "(I)Z"⟩) (owner := "RingHouse$Operation") E [(0, v4)] [(9, x0)] rfl zc_16 zr_16 zk_16_20 q2259 q2261 q2281 q2260 q241 q2282 (Or.inl rfl) dX7_take_111 (by decide +kernel) rfl (by omega) (by decide) (Nat.le_of_ble_eq_true rfl) (by decide) (fun l G => k_fX14_takesMode l G 20 v4 (by decide)) (fun v5 => ?_)
        refine r_pick E [1, 0] rfl ?_
        exact w_fX7_take_J114 E hN hT x0 20 x0 v5 h0
      · refine r_callU (n := 1) (x := ⟨"RingHouse$Operation", "takesMode", "(I)Z"⟩) (owner := "RingHouse$Operation") E [(0, v4)] [(9, x0)] rfl zc_16 zr_16 zk_16_21 q2259 q2261 q2281 q2260 q241 q2282 (Or.inl rfl) dX7_take_111 (by decide +kernel) rfl (by omega) (by decide) (Nat.le_of_ble_eq_true rfl) (by decide) (fun l G => k_fX14_takesMode l G 21 v4 (by decide)) (fun v5 => ?_)
        refine r_pick E [1, 0] rfl ?_
        exact w_fX7_take_J114 E hN hT x0 21 x0 v5 h0
      · refine r_callU (n := 1) (x := ⟨"RingHouse$Operation", "takesMode", "(I)Z"⟩) (owner := "RingHouse$Operation") E [(0, v4)] [(9, x0)] rfl zc_16 zr_16 zk_16_22 q2259 q2261 q2277 q2260 q241 q2282 (Or.inl rfl) dX7_take_111 (by decide +kernel) rfl (by omega) (by decide) (Nat.le_of_ble_eq_true rfl) (by decide) (fun l G => k_fX14_takesMode l G 22 v4 (by decide)) (fun v5 => ?_)
        refine r_pick E [1, 0] rfl ?_
        exact w_fX7_take_J114 E hN hT x0 22 x0 v5 h0
      · refine r_callU (n := 1) (x := ⟨"RingHouse$Operation", "takesMode", "(I)Z"⟩) (owner := "RingHouse$Operation") E [(0, v4)] [(9, x0)] rfl zc_16 zr_16 zk_16_23 q2259 q2261 q2277 q2260 q241 q2282 (Or.inl rfl) dX7_take_111 (by decide +kernel) rfl (by omega) (by decide) (Nat.le_of_ble_eq_true rfl) (by decide) (fun l G => k_fX14_takesMode l G 23 v4 (by decide)) (fun v5 => ?_)
        refine r_pick E [1, 0] rfl ?_
        exact w_fX7_take_J114 E hN hT x0 23 x0 v5 h0
      · refine r_callU (n := 1) (x := ⟨"RingHouse$Operation", "takesMode", "(I)Z"⟩) (owner := "RingHouse$Operation") E [(0, v4)] [(9, x0)] rfl zc_16 zr_16 zk_16_24 q2259 q2261 q2277 q2260 q241 q2282 (Or.inl rfl) dX7_take_111 (by decide +kernel) rfl (by omega) (by decide) (Nat.le_of_ble_eq_true rfl) (by decide) (fun l G => k_fX14_takesMode l G 24 v4 (by decide)) (fun v5 => ?_)
        refine r_pick E [1, 0] rfl ?_
        exact w_fX7_take_J114 E hN hT x0 24 x0 v5 h0
      · refine r_callU (n := 1) (x := ⟨"RingHouse$Operation", "takesMode", "(I)Z"⟩) (owner := "RingHouse$Operation") E [(0, v4)] [(9, x0)] rfl zc_16 zr_16 zk_16_25 q2259 q2261 q2274 q2260 q241 q2282 (Or.inl rfl) dX7_take_111 (by decide +kernel) rfl (by omega) (by decide) (Nat.le_of_ble_eq_true rfl) (by decide) (fun l G => k_fX14_takesMode l G 25 v4 (by decide)) (fun v5 => ?_)
        refine r_pick E [1, 0] rfl ?_
        exact w_fX7_take_J114 E hN hT x0 25 x0 v5 h0
      · refine r_callU (n := 1) (x := ⟨"RingHouse$Operation", "takesMode", "(I)Z"⟩) (owner := "RingHouse$Operation") E [(0, v4)] [(9, x0)] rfl zc_16 zr_16 zk_16_26 q2259 q2261 q2274 q2260 q241 q2282 (Or.inl rfl) dX7_take_111 (by decide +kernel) rfl (by omega) (by decide) (Nat.le_of_ble_eq_true rfl) (by decide) (fun l G => k_fX14_takesMode l G 26 v4 (by decide)) (fun v5 => ?_)
        refine r_pick E [1, 0] rfl ?_
        exact w_fX7_take_J114 E hN hT x0 26 x0 v5 h0
      · refine r_callU (n := 1) (x := ⟨"RingHouse$Operation", "takesMode", "(I)Z"⟩) (owner := "RingHouse$Operation") E [(0, v4)] [(9, x0)] rfl zc_16 zr_16 zk_16_27 q2259 q2261 q2268 q2260 q241 q2282 (Or.inl rfl) dX7_take_111 (by decide +kernel) rfl (by omega) (by decide) (Nat.le_of_ble_eq_true rfl) (by decide) (fun l G => k_fX14_takesMode l G 27 v4 (by decide)) (fun v5 => ?_)
        refine r_pick E [1, 0] rfl ?_
        exact w_fX7_take_J114 E hN hT x0 27 x0 v5 h0
      · refine r_callU (n := 1) (x := ⟨"RingHouse$Operation", "takesMode", "(I)Z"⟩) (owner := "RingHouse$Operation") E [(0, v4)] [(9, x0)] rfl zc_16 zr_16 zk_16_28 q2259 q2261 q2268 q2260 q241 q2282 (Or.inl rfl) dX7_take_111 (by decide +kernel) rfl (by omega) (by decide) (Nat.le_of_ble_eq_true rfl) (by decide) (fun l G => k_fX14_takesMode l G 28 v4 (by decide)) (fun v5 => ?_)
        refine r_pick E [1, 0] rfl ?_
        exact w_fX7_take_J114 E hN hT x0 28 x0 v5 h0
      · refine r_callU (n := 1) (x := ⟨"RingHouse$Operation", "takesMode", "(I)Z"⟩) (owner := "RingHouse$Operation") E [(0, v4)] [(9, x0)] rfl zc_16 zr_16 zk_16_29 q2259 q2261 q2268 q2260 q241 q2282 (Or.inl rfl) dX7_take_111 (by decide +kernel) rfl (by omega) (by decide) (Nat.le_of_ble_eq_true rfl) (by decide) (fun l G => k_fX14_takesMode l G 29 v4 (by decide)) (fun v5 => ?_)
        refine r_pick E [1, 0] rfl ?_
        exact w_fX7_take_J114 E hN hT x0 29 x0 v5 h0
      · refine r_callU (n := 1) (x := ⟨"RingHouse$Operation", "takesMode", "(I)Z"⟩) (owner := "RingHouse$Operation") E [(0, v4)] [(9, x0)] rfl zc_16 zr_16 zk_16_30 q2259 q2261 q2268 q2260 q241 q2282 (Or.inl rfl) dX7_take_111 (by decide +kernel) rfl (by omega) (by decide) (Nat.le_of_ble_eq_true rfl) (by decide) (fun l G => k_fX14_takesMode l G 30 v4 (by decide)) (fun v5 => ?_)
        refine r_pick E [1, 0] rfl ?_
        exact w_fX7_take_J114 E hN hT x0 30 x0 v5 h0
      · refine r_callU (n := 1) (x := ⟨"RingHouse$Operation", "takesMode", "(I)Z"⟩) (owner := "RingHouse$Operation") E [(0, v4)] [(9, x0)] rfl zc_16 zr_16 zk_16_31 q2259 q2261 q2268 q2260 q241 q2282 (Or.inl rfl) dX7_take_111 (by decide +kernel) rfl (by omega) (by decide) (Nat.le_of_ble_eq_true rfl) (by decide) (fun l G => k_fX14_takesMode l G 31 v4 (by decide)) (fun v5 => ?_)
        refine r_pick E [1, 0] rfl ?_
        exact w_fX7_take_J114 E hN hT x0 31 x0 v5 h0
      · refine r_callU (n := 1) (x := ⟨"RingHouse$Operation", "takesMode", "(I)Z"⟩) (owner := "RingHouse$Operation") E [(0, v4)] [(9, x0)] rfl zc_16 zr_16 zk_16_32 q2259 q2261 q2268 q2260 q241 q2282 (Or.inl rfl) dX7_take_111 (by decide +kernel) rfl (by omega) (by decide) (Nat.le_of_ble_eq_true rfl) (by decide) (fun l G => k_fX14_takesMode l G 32 v4 (by decide)) (fun v5 => ?_)
        refine r_pick E [1, 0] rfl ?_
        exact w_fX7_take_J114 E hN hT x0 32 x0 v5 h0
      · refine r_callU (n := 1) (x := ⟨"RingHouse$Operation", "takesMode", "(I)Z"⟩) (owner := "RingHouse$Operation") E [(0, v4)] [(9, x0)] rfl zc_16 zr_16 zk_16_33 q2259 q2261 q2264 q2260 q241 q2282 (Or.inl rfl) dX7_take_111 (by decide +kernel) rfl (by omega) (by decide) (Nat.le_of_ble_eq_true rfl) (by decide) (fun l G => k_fX14_takesMode l G 33 v4 (by decide)) (fun v5 => ?_)
        refine r_pick E [1, 0] rfl ?_
        exact w_fX7_take_J114 E hN hT x0 33 x0 v5 h0
      · refine r_callU (n := 1) (x := ⟨"RingHouse$Operation", "takesMode", "(I)Z"⟩) (owner := "RingHouse$Operation") E [(0, v4)] [(9, x0)] rfl zc_16 zr_16 zk_16_34 q2259 q2261 q2276 q2260 q241 q2282 (Or.inl rfl) dX7_take_111 (by decide +kernel) rfl (by omega) (by decide) (Nat.le_of_ble_eq_true rfl) (by decide) (fun l G => k_fX14_takesMode l G 34 v4 (by decide)) (fun v5 => ?_)
        refine r_pick E [1, 0] rfl ?_
        exact w_fX7_take_J114 E hN hT x0 34 x0 v5 h0
      · refine r_callU (n := 1) (x := ⟨"RingHouse$Operation", "takesMode", "(I)Z"⟩) (owner := "RingHouse$Operation") E [(0, v4)] [(9, x0)] rfl zc_16 zr_16 zk_16_35 q2259 q2261 q2279 q2260 q241 q2282 (Or.inl rfl) dX7_take_111 (by decide +kernel) rfl (by omega) (by decide) (Nat.le_of_ble_eq_true rfl) (by decide) (fun l G => k_fX14_takesMode l G 35 v4 (by decide)) (fun v5 => ?_)
        refine r_pick E [1, 0] rfl ?_
        exact w_fX7_take_J114 E hN hT x0 35 x0 v5 h0
      · refine r_callU (n := 1) (x := ⟨"RingHouse$Operation", "takesMode", "(I)Z"⟩) (owner := "RingHouse$Operation") E [(0, v4)] [(9, x0)] rfl zc_16 zr_16 zk_16_36 q2259 q2261 q2267 q2260 q241 q2282 (Or.inl rfl) dX7_take_111 (by decide +kernel) rfl (by omega) (by decide) (Nat.le_of_ble_eq_true rfl) (by decide) (fun l G => k_fX14_takesMode l G 36 v4 (by decide)) (fun v5 => ?_)
        refine r_pick E [1, 0] rfl ?_
        exact w_fX7_take_J114 E hN hT x0 36 x0 v5 h0
      · refine r_callU (n := 1) (x := ⟨"RingHouse$Operation", "takesMode", "(I)Z"⟩) (owner := "RingHouse$Operation") E [(0, v4)] [(9, x0)] rfl zc_16 zr_16 zk_16_37 q2259 q2261 q2272 q2260 q241 q2282 (Or.inl rfl) dX7_take_111 (by decide +kernel) rfl (by omega) (by decide) (Nat.le_of_ble_eq_true rfl) (by decide) (fun l G => k_fX14_takesMode l G 37 v4 (by decide)) (fun v5 => ?_)
        refine r_pick E [1, 0] rfl ?_
        exact w_fX7_take_J114 E hN hT x0 37 x0 v5 h0
theorem w_fX7_take {K : zK} (E : zE K cX7_take "RingHouse$Decoded" none 1) (hN : zNl K = 6) (hT : zTr K = none) (x0 : Int) (x1 : Int) (h0 : 0 ≤ x0) : zR K 0 [(0, 9, x0), (1, 1, x1), (3, 1302, 0)] [] (fX7_take x0 x1) := by
  refine r_aload_n E dX7_take_0 rfl 0 rfl ?_
  refine r_lload_n E dX7_take_1 rfl 1 rfl ?_
  refine r_put E zc_9 zt_800 zo_800 dX7_take_2 q637 zr_9 zw_X7 zp_800 (fun _ => rfl) (fun _ => rfl) h0 ?_
  refine r_lload_n E dX7_take_5 rfl 1 rfl ?_
  refine r_bipush E dX7_take_6 (by decide) (zkI (by decide) (by decide)) ?_
  refine r_lshr (P := 1073741824) E (by decide) dX7_take_8 ?_
  refine r_l2i E dX7_take_9 ?_
  refine r_let E (fun v1 ev1 => ?_)
  refine r_istore (ls' := [(4, 0, v1), (0, 9, x0), (1, 1, x1), (3, 1302, 0)]) E dX7_take_10 (by rw [hN]; decide) rfl ?_
  refine r_aload_n E dX7_take_12 rfl 1 rfl ?_
  refine r_lload_n E dX7_take_13 rfl 2 rfl ?_
  refine r_bipush E dX7_take_14 (by decide) (zkI (by decide) (by decide)) ?_
  refine r_lshr (P := 134217728) E (by decide) dX7_take_16 ?_
  refine r_ldc2 (v := 7) E dX7_take_17 q2257 (by decide) (zkJ (by decide) (by decide)) ?_
  refine r_lmask (P := 8) E 3 (by decide) (by decide) (by decide) dX7_take_20 ?_
  refine r_l2i E dX7_take_21 ?_
  refine r_put E zc_9 zt_802 zo_802 dX7_take_22 q641 zr_9 zw_X7 zp_802 (fun _ => rfl) (fun _ => rfl) h0 ?_
  refine r_aload_n E dX7_take_25 rfl 1 rfl ?_
  refine r_lload_n E dX7_take_26 rfl 2 rfl ?_
  refine r_bipush E dX7_take_27 (by decide) (zkI (by decide) (by decide)) ?_
  refine r_lshr (P := 16777216) E (by decide) dX7_take_29 ?_
  refine r_ldc2 (v := 7) E dX7_take_30 q2257 (by decide) (zkJ (by decide) (by decide)) ?_
  refine r_lmask (P := 8) E 3 (by decide) (by decide) (by decide) dX7_take_33 ?_
  refine r_l2i E dX7_take_34 ?_
  refine r_put E zc_9 zt_803 zo_803 dX7_take_35 q644 zr_9 zw_X7 zp_803 (fun _ => rfl) (fun _ => rfl) h0 ?_
  refine r_aload_n E dX7_take_38 rfl 1 rfl ?_
  refine r_lload_n E dX7_take_39 rfl 2 rfl ?_
  refine r_bipush E dX7_take_40 (by decide) (zkI (by decide) (by decide)) ?_
  refine r_lshr (P := 2097152) E (by decide) dX7_take_42 ?_
  refine r_ldc2 (v := 7) E dX7_take_43 q2257 (by decide) (zkJ (by decide) (by decide)) ?_
  refine r_lmask (P := 8) E 3 (by decide) (by decide) (by decide) dX7_take_46 ?_
  refine r_l2i E dX7_take_47 ?_
  refine r_put E zc_9 zt_804 zo_804 dX7_take_48 q650 zr_9 zw_X7 zp_804 (fun _ => rfl) (fun _ => rfl) h0 ?_
  refine r_aload_n E dX7_take_51 rfl 1 rfl ?_
  refine r_lload_n E dX7_take_52 rfl 2 rfl ?_
  refine r_bipush E dX7_take_53 (by decide) (zkI (by decide) (by decide)) ?_
  refine r_lshr (P := 262144) E (by decide) dX7_take_55 ?_
  refine r_ldc2 (v := 7) E dX7_take_56 q2257 (by decide) (zkJ (by decide) (by decide)) ?_
  refine r_lmask (P := 8) E 3 (by decide) (by decide) (by decide) dX7_take_59 ?_
  refine r_l2i E dX7_take_60 ?_
  refine r_put E zc_9 zt_805 zo_805 dX7_take_61 q654 zr_9 zw_X7 zp_805 (fun _ => rfl) (fun _ => rfl) h0 ?_
  refine r_aload_n E dX7_take_64 rfl 1 rfl ?_
  refine r_lload_n E dX7_take_65 rfl 2 rfl ?_
  refine r_ldc2 (v := 262143) E dX7_take_66 q2258 (by decide) (zkJ (by decide) (by decide)) ?_
  refine r_lmask (P := 262144) E 18 (by decide) (by decide) (by decide) dX7_take_69 ?_
  refine r_l2i E dX7_take_70 ?_
  refine r_put E zc_9 zt_806 zo_806 dX7_take_71 q657 zr_9 zw_X7 zp_806 (fun _ => rfl) (fun _ => rfl) h0 ?_
  refine r_iload E dX7_take_74 0 rfl ?_
  refine r_aload_n E dX7_take_76 rfl 3 rfl ?_
  refine r_alen (n := 38) E zc_1302 za_1302 zx_1302 rfl (zkI (by decide) (by decide)) dX7_take_77 (by decide) ?_
  refine r_icmp_ge E 88 (by decide) dX7_take_78 (fun _ => ?_) (fun _ => ?_)
  · refine r_null E 14 dX7_take_88 ?_
    refine r_pick E [1] rfl ?_
    exact w_fX7_take_J89 E hN hT x0 (-1) h0
  · refine r_aload_n E dX7_take_81 rfl 3 rfl ?_
    refine r_iload E dX7_take_82 0 rfl ?_
    refine r_aaloc (y := v1) E zc_1302 za_1302 zt_1302 zx_1302 rfl rfl (by omega) dX7_take_84 (by decide) (fun hi10 => ?_)
    refine r_goto E 89 (by decide) dX7_take_85 ?_
    refine r_pick E [1] rfl ?_
    exact w_fX7_take_J89 E hN hT x0 v1 h0
theorem k_fX7_take (l : Launch) (G : zG) (x0 : Int) (x1 : Int) (h0 : 0 ≤ x0) : zCt l G yX7_take cX7_take 6 none 1 [(9, x0), (1, x1), (1302, 0)] none (fX7_take x0 x1) := zCt.of (by decide) (Nat.le_of_ble_eq_true rfl) (fun K E _ _ hN hT => w_fX7_take E hN hT x0 x1 h0)
theorem dX12_decode_0 : decode cX12_decode 0 = .ok (.aload_n 0, 1) := by decide +kernel
theorem dX12_decode_1 : decode cX12_decode 1 = .ok (.getfield 11, 3) := by decide +kernel
theorem dX12_decode_4 : decode cX12_decode 4 = .ok (.lload_n 1, 1) := by decide +kernel
theorem dX12_decode_5 : decode cX12_decode 5 = .ok (.lload_n 1, 1) := by decide +kernel
theorem dX12_decode_6 : decode cX12_decode 6 = .ok (.bipush 13, 2) := by decide +kernel
theorem dX12_decode_8 : decode cX12_decode 8 = .ok (.lushr, 1) := by decide +kernel
theorem dX12_decode_9 : decode cX12_decode 9 = .ok (.lxor, 1) := by decide +kernel
theorem dX12_decode_10 : decode cX12_decode 10 = .ok (.lload_n 1, 1) := by decide +kernel
theorem dX12_decode_11 : decode cX12_decode 11 = .ok (.bipush 27, 2) := by decide +kernel
theorem dX12_decode_13 : decode cX12_decode 13 = .ok (.lushr, 1) := by decide +kernel
theorem dX12_decode_14 : decode cX12_decode 14 = .ok (.lxor, 1) := by decide +kernel
theorem dX12_decode_15 : decode cX12_decode 15 = .ok (.aload_n 0, 1) := by decide +kernel
theorem dX12_decode_16 : decode cX12_decode 16 = .ok (.getfield 11, 3) := by decide +kernel
theorem dX12_decode_19 : decode cX12_decode 19 = .ok (.arraylength, 1) := by decide +kernel
theorem dX12_decode_20 : decode cX12_decode 20 = .ok (.iconst 1, 1) := by decide +kernel
theorem dX12_decode_21 : decode cX12_decode 21 = .ok (.isub, 1) := by decide +kernel
theorem dX12_decode_22 : decode cX12_decode 22 = .ok (.i2l, 1) := by decide +kernel
theorem dX12_decode_23 : decode cX12_decode 23 = .ok (.land, 1) := by decide +kernel
theorem dX12_decode_24 : decode cX12_decode 24 = .ok (.l2i, 1) := by decide +kernel
theorem dX12_decode_25 : decode cX12_decode 25 = .ok (.aaload, 1) := by decide +kernel
theorem dX12_decode_26 : decode cX12_decode 26 = .ok (.astore_n 3, 1) := by decide +kernel
theorem dX12_decode_27 : decode cX12_decode 27 = .ok (.aload_n 3, 1) := by decide +kernel
theorem dX12_decode_28 : decode cX12_decode 28 = .ok (.getfield 409, 3) := by decide +kernel
theorem dX12_decode_31 : decode cX12_decode 31 = .ok (.lload_n 1, 1) := by decide +kernel
theorem dX12_decode_32 : decode cX12_decode 32 = .ok (.lcmp, 1) := by decide +kernel
theorem dX12_decode_33 : decode cX12_decode 33 = .ok (.ifCond .eq 12, 3) := by decide +kernel
theorem dX12_decode_36 : decode cX12_decode 36 = .ok (.aload_n 3, 1) := by decide +kernel
theorem dX12_decode_37 : decode cX12_decode 37 = .ok (.lload_n 1, 1) := by decide +kernel
theorem dX12_decode_38 : decode cX12_decode 38 = .ok (.aload_n 0, 1) := by decide +kernel
theorem dX12_decode_39 : decode cX12_decode 39 = .ok (.getfield 157, 3) := by decide +kernel
theorem dX12_decode_42 : decode cX12_decode 42 = .ok (.invokevirtual 412, 3) := by decide +kernel
theorem dX12_decode_45 : decode cX12_decode 45 = .ok (.aload_n 3, 1) := by decide +kernel
theorem dX12_decode_46 : decode cX12_decode 46 = .ok (.areturn, 1) := by decide +kernel
theorem zy_X12_decode : yX12_decode.cls ≠ "java/lang/invoke/MethodHandle" ∧ yX12_decode.cls ≠ "java/lang/invoke/VarHandle" ∧ (parseMethodDescriptor yX12_decode.desc).map (fun d => d.parameters.length) = some 1 := by decide +kernel
theorem w_fX12_decode {K : zK} (E : zE K cX12_decode "RingHouse$Machine" (some (.object "RingHouse$Decoded")) 2) (hN : zNl K = 4) (hT : zTr K = (some 9)) (x1 : Int) : zR K 0 [(0, 14, 0), (1, 1, x1)] [] (fX12_decode x1) := by
  refine r_aload_n E dX12_decode_0 rfl 0 rfl ?_
  refine r_gec (y := 0) E zc_14 dX12_decode_1 q1540 zr_14 (zh_1304 (by decide)) (by decide) ?_
  refine r_lload_n E dX12_decode_4 rfl 1 rfl ?_
  refine r_lload_n E dX12_decode_5 rfl 1 rfl ?_
  refine r_bipush E dX12_decode_6 (by decide) (zkI (by decide) (by decide)) ?_
  refine r_lushr (P := 8192) E 13 rfl (by decide) (by decide) dX12_decode_8 ?_
  refine r_lxor E dX12_decode_9 ?_
  refine r_lload_n E dX12_decode_10 rfl 1 rfl ?_
  refine r_bipush E dX12_decode_11 (by decide) (zkI (by decide) (by decide)) ?_
  refine r_lushr (P := 134217728) E 27 rfl (by decide) (by decide) dX12_decode_13 ?_
  refine r_lxor E dX12_decode_14 ?_
  refine r_aload_n E dX12_decode_15 rfl 0 rfl ?_
  refine r_gec (y := 0) E zc_14 dX12_decode_16 q1540 zr_14 (zh_1304 (by decide)) (by decide) ?_
  refine r_alen (n := 512) E zc_1304 za_1304 zx_1304 rfl (zkI (by decide) (by decide)) dX12_decode_19 (by decide) ?_
  refine r_iconst E dX12_decode_20 (zkI (by decide) (by decide)) ?_
  refine r_isub E dX12_decode_21 ?_
  refine r_eq (y := 511) E (by decide) ?_
  refine r_i2l E dX12_decode_22 ?_
  refine r_lmask (P := 512) E 9 (by decide) (by decide) (by decide) dX12_decode_23 ?_
  refine r_l2i E dX12_decode_24 ?_
  refine r_aaloc (y := (zi ((zxR (zxR x1 (x1 % 18446744073709551616 / 8192)) (x1 % 18446744073709551616 / 134217728)) % 512))) E zc_1304 za_1304 zt_1304 zx_1304 rfl rfl (by omega) dX12_decode_25 (by decide) (fun hi2 => ?_)
  refine r_let E (fun v3 ev3 => ?_)
  refine r_astore_n (ls' := [(3, 9, v3), (0, 14, 0), (1, 1, x1)]) E dX12_decode_26 rfl (by rw [hN]; decide) rfl ?_
  refine r_aload_n E dX12_decode_27 rfl 0 rfl ?_
  refine r_getN E zc_9 zt_800 dX12_decode_28 q638 zr_9 (zg_800 _) (by omega) (fun v4 => ?_)
  refine r_lload_n E dX12_decode_31 rfl 2 rfl ?_
  refine r_lcmp_eq E 45 (by decide) dX12_decode_32 dX12_decode_33 (fun _ => ?_) (fun _ => ?_)
  · refine r_aload_n E dX12_decode_45 rfl 0 rfl ?_
    exact r_areturn E rfl hT dX12_decode_46
  · refine r_aload_n E dX12_decode_36 rfl 0 rfl ?_
    refine r_lload_n E dX12_decode_37 rfl 2 rfl ?_
    refine r_aload_n E dX12_decode_38 rfl 1 rfl ?_
    refine r_gec (y := 0) E zc_14 dX12_decode_39 q1536 zr_14 (zh_1302 (by decide)) (by decide) ?_
    refine r_callV E [(1, x1), (1302, 0)] [] rfl zc_9 zr_9 (fun o _ => ⟨_, zw_X7.1 o, rfl⟩) (lw_V q2253 q2254 q2255 q234 q2256) dX12_decode_42 zy_X7_take rfl (by omega) (by decide) (Nat.le_of_ble_eq_true rfl) (by omega) (fun l G => k_fX7_take l G v3 x1 (by omega)) (fun _ => ?_)
    refine r_aload_n E dX12_decode_45 rfl 0 rfl ?_
    exact r_areturn E rfl hT dX12_decode_46
theorem k_fX12_decode (l : Launch) (G : zG) (x1 : Int) : zCt l G yX12_decode cX12_decode 4 (some (.object "RingHouse$Decoded")) 2 [(14, 0), (1, x1)] (some 9) (fX12_decode x1) := zCt.of (by decide) (Nat.le_of_ble_eq_true rfl) (fun K E _ _ hN hT => w_fX12_decode E hN hT x1)
theorem dX12_refuseHere_0 : decode cX12_refuseHere 0 = .ok (.aload_n 0, 1) := by decide +kernel
theorem dX12_refuseHere_1 : decode cX12_refuseHere 1 = .ok (.getfield 246, 3) := by decide +kernel
theorem dX12_refuseHere_4 : decode cX12_refuseHere 4 = .ok (.getfield 256, 3) := by decide +kernel
theorem dX12_refuseHere_7 : decode cX12_refuseHere 7 = .ok (.astore_n 2, 1) := by decide +kernel
theorem dX12_refuseHere_8 : decode cX12_refuseHere 8 = .ok (.aload_n 0, 1) := by decide +kernel
theorem dX12_refuseHere_9 : decode cX12_refuseHere 9 = .ok (.iload_n 1, 1) := by decide +kernel
theorem dX12_refuseHere_10 : decode cX12_refuseHere 10 = .ok (.aload_n 2, 1) := by decide +kernel
theorem dX12_refuseHere_11 : decode cX12_refuseHere 11 = .ok (.getfield 260, 3) := by decide +kernel
theorem dX12_refuseHere_14 : decode cX12_refuseHere 14 = .ok (.aload_n 2, 1) := by decide +kernel
theorem dX12_refuseHere_15 : decode cX12_refuseHere 15 = .ok (.getfield 266, 3) := by decide +kernel
theorem dX12_refuseHere_18 : decode cX12_refuseHere 18 = .ok (.aload_n 2, 1) := by decide +kernel
theorem dX12_refuseHere_19 : decode cX12_refuseHere 19 = .ok (.getfield 269, 3) := by decide +kernel
theorem dX12_refuseHere_22 : decode cX12_refuseHere 22 = .ok (.invokevirtual 272, 3) := by decide +kernel
theorem dX12_refuseHere_25 : decode cX12_refuseHere 25 = .ok (.ireturn, 1) := by decide +kernel
theorem zy_X12_refuseHere : yX12_refuseHere.cls ≠ "java/lang/invoke/MethodHandle" ∧ yX12_refuseHere.cls ≠ "java/lang/invoke/VarHandle" ∧ (parseMethodDescriptor yX12_refuseHere.desc).map (fun d => d.parameters.length) = some 1 := by decide +kernel
theorem w_fX12_refuseHere {K : zK} (E : zE K cX12_refuseHere "RingHouse$Machine" (some .boolean) 4) (hN : zNl K = 3) (hT : zTr K = (some 0)) (x1 : Int) : zR K 0 [(0, 14, 0), (1, 0, x1)] [] (fX12_refuseHere x1) := by
  refine r_aload_n E dX12_refuseHere_0 rfl 0 rfl ?_
  refine r_get E zc_14 zt_1307 dX12_refuseHere_1 q1550 zr_14 (zg_1307 _) (by decide) (fun v1 => ?_)
  refine r_nn E (fun hn2 => ?_)
  refine r_gecN (y := v1) E zc_10 dX12_refuseHere_4 q891 zr_10 (zh_908 (by omega)) hn2 ?_
  refine r_astore_n (ls' := [(2, 11, v1), (0, 14, 0), (1, 0, x1)]) E dX12_refuseHere_7 rfl (by rw [hN]; decide) rfl ?_
  refine r_aload_n E dX12_refuseHere_8 rfl 1 rfl ?_
  refine r_iload_n E dX12_refuseHere_9 rfl 2 rfl ?_
  refine r_aload_n E dX12_refuseHere_10 rfl 0 rfl ?_
  refine r_getN E zc_11 zt_1006 dX12_refuseHere_11 q755 zr_11 (zg_1006 _) hn2 (fun v3 => ?_)
  refine r_aload_n E dX12_refuseHere_14 rfl 0 rfl ?_
  refine r_getN E zc_11 zt_1007 dX12_refuseHere_15 q760 zr_11 (zg_1007 _) hn2 (fun v4 => ?_)
  refine r_aload_n E dX12_refuseHere_18 rfl 0 rfl ?_
  refine r_getN E zc_11 zt_1008 dX12_refuseHere_19 q775 zr_11 (zg_1008 _) hn2 (fun v5 => ?_)
  refine r_callV E [(0, x1), (0, v3), (0, v4), (0, v5)] [] rfl zc_14 zr_14 (fun o _ => ⟨_, zw_X12.1 o, rfl⟩) (lw_V q2209 q2211 qs15 q239 q2212) dX12_refuseHere_22 zy_X12_refuse rfl (by omega) (by decide) (Nat.le_of_ble_eq_true rfl) (by decide) (fun l G => k_fX12_refuse l G x1 v3 v4 v5) (fun v6 => ?_)
  exact r_zreturnb E rfl hT dX12_refuseHere_25
theorem k_fX12_refuseHere (l : Launch) (G : zG) (x1 : Int) : zCt l G yX12_refuseHere cX12_refuseHere 3 (some .boolean) 4 [(14, 0), (0, x1)] (some 0) (fX12_refuseHere x1) := zCt.of (by decide) (Nat.le_of_ble_eq_true rfl) (fun K E _ _ hN hT => w_fX12_refuseHere E hN hT x1)
theorem dX8_end_0 : decode cX8_end 0 = .ok (.aload_n 0, 1) := by decide +kernel
theorem dX8_end_1 : decode cX8_end 1 = .ok (.iconst 2, 1) := by decide +kernel
theorem dX8_end_2 : decode cX8_end 2 = .ok (.putfield 71, 3) := by decide +kernel
theorem dX8_end_5 : decode cX8_end 5 = .ok (.aload_n 0, 1) := by decide +kernel
theorem dX8_end_6 : decode cX8_end 6 = .ok (.bipush 6, 2) := by decide +kernel
theorem dX8_end_8 : decode cX8_end 8 = .ok (.lconst 0, 1) := by decide +kernel
theorem dX8_end_9 : decode cX8_end 9 = .ok (.lconst 0, 1) := by decide +kernel
theorem dX8_end_10 : decode cX8_end 10 = .ok (.lconst 0, 1) := by decide +kernel
theorem dX8_end_11 : decode cX8_end 11 = .ok (.invokevirtual 171, 3) := by decide +kernel
theorem dX8_end_14 : decode cX8_end 14 = .ok (.return_, 1) := by decide +kernel
theorem zy_X8_end : yX8_end.cls ≠ "java/lang/invoke/MethodHandle" ∧ yX8_end.cls ≠ "java/lang/invoke/VarHandle" ∧ (parseMethodDescriptor yX8_end.desc).map (fun d => d.parameters.length) = some 0 := by decide +kernel
theorem w_fX8_end {K : zK} (E : zE K cX8_end "RingHouse$Process" none 2) (hN : zNl K = 1) (hT : zTr K = none) (x0 : Int) (h0 : 0 ≤ x0) : zR K 0 [(0, 10, x0)] [] (fX8_end x0) := by
  refine r_aload_n E dX8_end_0 rfl 0 rfl ?_
  refine r_iconst E dX8_end_1 (zkI (by decide) (by decide)) ?_
  refine r_put E zc_10 zt_903 zo_903 dX8_end_2 q862 zr_10 zw_X8 zp_903 (fun _ => rfl) (fun _ => rfl) h0 ?_
  refine r_aload_n E dX8_end_5 rfl 0 rfl ?_
  refine r_bipush E dX8_end_6 (by decide) (zkI (by decide) (by decide)) ?_
  refine r_lconst (v := 0) E dX8_end_8 (by decide) (zkJ (by decide) (by decide)) ?_
  refine r_lconst (v := 0) E dX8_end_9 (by decide) (zkJ (by decide) (by decide)) ?_
  refine r_lconst (v := 0) E dX8_end_10 (by decide) (zkJ (by decide) (by decide)) ?_
  refine r_callV E [(0, 6), (1, 0), (1, 0), (1, 0)] [] rfl zc_10 zr_10 (fun o _ => ⟨_, zw_X8.1 o, rfl⟩) (lw_V q2217 q2189 q2190 q235 q2191) dX8_end_11 zy_X8_event rfl (by omega) (by decide) (Nat.le_of_ble_eq_true rfl) h0 (fun l G => k_fX8_event l G x0 6 0 0 0 h0) (fun _ => ?_)
  exact r_return E rfl hT dX8_end_14
theorem k_fX8_end (l : Launch) (G : zG) (x0 : Int) (h0 : 0 ≤ x0) : zCt l G yX8_end cX8_end 1 none 2 [(10, x0)] none (fX8_end x0) := zCt.of (by decide) (Nat.le_of_ble_eq_true rfl) (fun K E _ _ hN hT => w_fX8_end E hN hT x0 h0)
theorem dX15_run_0 : decode cX15_run 0 = .ok (.aload_n 0, 1) := by decide +kernel
theorem dX15_run_1 : decode cX15_run 1 = .ok (.getfield 9, 3) := by decide +kernel
theorem dX15_run_4 : decode cX15_run 4 = .ok (.ifCond .eq 10, 3) := by decide +kernel
theorem dX15_run_7 : decode cX15_run 7 = .ok (.aload_n 1, 1) := by decide +kernel
theorem dX15_run_8 : decode cX15_run 8 = .ok (.getfield 15, 3) := by decide +kernel
theorem dX15_run_11 : decode cX15_run 11 = .ok (.invokevirtual 21, 3) := by decide +kernel
theorem dX15_run_14 : decode cX15_run 14 = .ok (.iconst 1, 1) := by decide +kernel
theorem dX15_run_15 : decode cX15_run 15 = .ok (.ireturn, 1) := by decide +kernel
theorem zy_X15_run : yX15_run.cls ≠ "java/lang/invoke/MethodHandle" ∧ yX15_run.cls ≠ "java/lang/invoke/VarHandle" ∧ (parseMethodDescriptor yX15_run.desc).map (fun d => d.parameters.length) = some 3 := by decide +kernel
theorem w_fX15_run_0 {K : zK} (E : zE K cX15_run "RingHouse$Nothing" (some .boolean) 3) (hN : zNl K = 4) (hT : zTr K = (some 0)) (x2 : Int) (x3 : Int) : zR K 0 [(0, 16, 0), (1, 14, 0), (2, 9, x2), (3, 11, x3)] [] (fX15_run_0 x2 x3) := by
  refine r_aload_n E dX15_run_0 rfl 0 rfl ?_
  refine r_gec (y := 1) E zc_16 dX15_run_1 q1033 zr_16 (zh_16_0_3) (by decide) ?_
  refine r_litF (hdec := inferInstance) (P := (1 : Int) = (0 : Int)) (by decide) ?_
  refine r_if_eq E 14 (by decide) dX15_run_4 (fun _ => r_no E) (fun _ => ?_)
  refine r_aload_n E dX15_run_7 rfl 1 rfl ?_
  refine r_getN E zc_14 zt_1307 dX15_run_8 q1551 zr_14 (zg_1307 _) (by decide) (fun v1 => ?_)
  refine r_nn E (fun hn2 => ?_)
  refine r_callV E [] [] rfl zc_10 zr_10 (fun o _ => ⟨_, zw_X8.1 o, rfl⟩) (lw_V q2476 q2477 q2478 q235 q2479) dX15_run_11 zy_X8_end rfl (by omega) (by decide) (Nat.le_of_ble_eq_true rfl) hn2 (fun l G => k_fX8_end l G v1 hn2) (fun _ => ?_)
  refine r_iconst E dX15_run_14 (zkI (by decide) (by decide)) ?_
  exact r_zreturn E rfl hT (by decide) dX15_run_15
theorem k_fX15_run_0 (l : Launch) (G : zG) (x2 : Int) (x3 : Int) : zCt l G yX15_run cX15_run 4 (some .boolean) 3 [(16, 0), (14, 0), (9, x2), (11, x3)] (some 0) (fX15_run_0 x2 x3) := zCt.of (by decide) (Nat.le_of_ble_eq_true rfl) (fun K E _ _ hN hT => w_fX15_run_0 E hN hT x2 x3)
theorem w_fX15_run_1 {K : zK} (E : zE K cX15_run "RingHouse$Nothing" (some .boolean) 0) (hN : zNl K = 4) (hT : zTr K = (some 0)) (x2 : Int) (x3 : Int) : zR K 0 [(0, 16, 1), (1, 14, 0), (2, 9, x2), (3, 11, x3)] [] (fX15_run_1 x2 x3) := by
  refine r_aload_n E dX15_run_0 rfl 0 rfl ?_
  refine r_gec (y := 0) E zc_16 dX15_run_1 q1033 zr_16 (zh_16_1_3) (by decide) ?_
  refine r_litT (hdec := inferInstance) (P := (0 : Int) = (0 : Int)) (by decide) ?_
  refine r_if_eq E 14 (by decide) dX15_run_4 (fun _ => ?_) (fun _ => r_no E)
  refine r_iconst E dX15_run_14 (zkI (by decide) (by decide)) ?_
  exact r_zreturn E rfl hT (by decide) dX15_run_15
theorem k_fX15_run_1 (l : Launch) (G : zG) (x2 : Int) (x3 : Int) : zCt l G yX15_run cX15_run 4 (some .boolean) 0 [(16, 1), (14, 0), (9, x2), (11, x3)] (some 0) (fX15_run_1 x2 x3) := zCt.of (by decide) (Nat.le_of_ble_eq_true rfl) (fun K E _ _ hN hT => w_fX15_run_1 E hN hT x2 x3)
theorem dX12_value_0 : decode cX12_value 0 = .ok (.aload_n 0, 1) := by decide +kernel
theorem dX12_value_1 : decode cX12_value 1 = .ok (.getfield 321, 3) := by decide +kernel
theorem dX12_value_4 : decode cX12_value 4 = .ok (.ifCond .ge 40, 3) := by decide +kernel
theorem dX12_value_7 : decode cX12_value 7 = .ok (.aload_n 0, 1) := by decide +kernel
theorem dX12_value_8 : decode cX12_value 8 = .ok (.aload_n 0, 1) := by decide +kernel
theorem dX12_value_9 : decode cX12_value 9 = .ok (.getfield 324, 3) := by decide +kernel
theorem dX12_value_12 : decode cX12_value 12 = .ok (.bipush 17, 2) := by decide +kernel
theorem dX12_value_14 : decode cX12_value 14 = .ok (.ishr, 1) := by decide +kernel
theorem dX12_value_15 : decode cX12_value 15 = .ok (.ifCond .ne 11, 3) := by decide +kernel
theorem dX12_value_18 : decode cX12_value 18 = .ok (.aload_n 0, 1) := by decide +kernel
theorem dX12_value_19 : decode cX12_value 19 = .ok (.getfield 324, 3) := by decide +kernel
theorem dX12_value_22 : decode cX12_value 22 = .ok (.i2l, 1) := by decide +kernel
theorem dX12_value_23 : decode cX12_value 23 = .ok (.goto 16, 3) := by decide +kernel
theorem dX12_value_26 : decode cX12_value 26 = .ok (.aload_n 0, 1) := by decide +kernel
theorem dX12_value_27 : decode cX12_value 27 = .ok (.getfield 324, 3) := by decide +kernel
theorem dX12_value_30 : decode cX12_value 30 = .ok (.i2l, 1) := by decide +kernel
theorem dX12_value_31 : decode cX12_value 31 = .ok (.ldc2_w 327, 3) := by decide +kernel
theorem dX12_value_34 : decode cX12_value 34 = .ok (.lsub, 1) := by decide +kernel
theorem dX12_value_35 : decode cX12_value 35 = .ok (.ldc2_w 329, 3) := by decide +kernel
theorem dX12_value_38 : decode cX12_value 38 = .ok (.land, 1) := by decide +kernel
theorem dX12_value_39 : decode cX12_value 39 = .ok (.putfield 331, 3) := by decide +kernel
theorem dX12_value_42 : decode cX12_value 42 = .ok (.iconst 1, 1) := by decide +kernel
theorem dX12_value_43 : decode cX12_value 43 = .ok (.ireturn, 1) := by decide +kernel
theorem dX12_value_44 : decode cX12_value 44 = .ok (.aload_n 0, 1) := by decide +kernel
theorem dX12_value_45 : decode cX12_value 45 = .ok (.aload_n 0, 1) := by decide +kernel
theorem dX12_value_46 : decode cX12_value 46 = .ok (.getfield 321, 3) := by decide +kernel
theorem dX12_value_49 : decode cX12_value 49 = .ok (.aload_n 0, 1) := by decide +kernel
theorem dX12_value_50 : decode cX12_value 50 = .ok (.getfield 324, 3) := by decide +kernel
theorem dX12_value_53 : decode cX12_value 53 = .ok (.aload_n 0, 1) := by decide +kernel
theorem dX12_value_54 : decode cX12_value 54 = .ok (.getfield 335, 3) := by decide +kernel
theorem dX12_value_57 : decode cX12_value 57 = .ok (.iconst 1, 1) := by decide +kernel
theorem dX12_value_58 : decode cX12_value 58 = .ok (.invokevirtual 338, 3) := by decide +kernel
theorem dX12_value_61 : decode cX12_value 61 = .ok (.ifCond .ne 5, 3) := by decide +kernel
theorem dX12_value_64 : decode cX12_value 64 = .ok (.iconst 0, 1) := by decide +kernel
theorem dX12_value_65 : decode cX12_value 65 = .ok (.ireturn, 1) := by decide +kernel
theorem dX12_value_66 : decode cX12_value 66 = .ok (.aload_n 0, 1) := by decide +kernel
theorem dX12_value_67 : decode cX12_value 67 = .ok (.aload_n 0, 1) := by decide +kernel
theorem dX12_value_68 : decode cX12_value 68 = .ok (.aload_n 0, 1) := by decide +kernel
theorem dX12_value_69 : decode cX12_value 69 = .ok (.getfield 321, 3) := by decide +kernel
theorem dX12_value_72 : decode cX12_value 72 = .ok (.aload_n 0, 1) := by decide +kernel
theorem dX12_value_73 : decode cX12_value 73 = .ok (.getfield 324, 3) := by decide +kernel
theorem dX12_value_76 : decode cX12_value 76 = .ok (.invokevirtual 341, 3) := by decide +kernel
theorem dX12_value_79 : decode cX12_value 79 = .ok (.putfield 331, 3) := by decide +kernel
theorem dX12_value_82 : decode cX12_value 82 = .ok (.iconst 1, 1) := by decide +kernel
theorem dX12_value_83 : decode cX12_value 83 = .ok (.ireturn, 1) := by decide +kernel
theorem zy_X12_value : yX12_value.cls ≠ "java/lang/invoke/MethodHandle" ∧ yX12_value.cls ≠ "java/lang/invoke/VarHandle" ∧ (parseMethodDescriptor yX12_value.desc).map (fun d => d.parameters.length) = some 0 := by decide +kernel
theorem w_fX12_value_J39 {K : zK} (E : zE K cX12_value "RingHouse$Machine" (some .boolean) 6) (hN : zNl K = 1) (hT : zTr K = (some 0)) (s1 : Int) : zR K 39 [] [(1, s1), (14, 0)] (fX12_value_J39 s1) := by
  refine r_put E zc_14 zt_1311 zo_1311 dX12_value_39 q1582 zr_14 zw_X12 zp_1311 (fun _ => rfl) (fun _ => rfl) (by decide) ?_
  refine r_iconst E dX12_value_42 (zkI (by decide) (by decide)) ?_
  exact r_zreturn E rfl hT (by decide) dX12_value_43
theorem w_fX12_value {K : zK} (E : zE K cX12_value "RingHouse$Machine" (some .boolean) 6) (hN : zNl K = 1) (hT : zTr K = (some 0)) : zR K 0 [(0, 14, 0)] [] (fX12_value) := by
  refine r_aload_n E dX12_value_0 rfl 0 rfl ?_
  refine r_get E zc_14 zt_1308 dX12_value_1 q1559 zr_14 (zg_1308 _) (by decide) (fun v1 => ?_)
  refine r_if_ge E 44 (by decide) dX12_value_4 (fun _ => ?_) (fun _ => ?_)
  · refine r_aload_n E dX12_value_44 rfl 0 rfl ?_
    refine r_aload_n E dX12_value_45 rfl 0 rfl ?_
    refine r_get E zc_14 zt_1308 dX12_value_46 q1559 zr_14 (zg_1308 _) (by decide) (fun v2 => ?_)
    refine r_aload_n E dX12_value_49 rfl 0 rfl ?_
    refine r_get E zc_14 zt_1309 dX12_value_50 q1569 zr_14 (zg_1309 _) (by decide) (fun v3 => ?_)
    refine r_aload_n E dX12_value_53 rfl 0 rfl ?_
    refine r_get E zc_14 zt_1310 dX12_value_54 q1576 zr_14 (zg_1310 _) (by decide) (fun v4 => ?_)
    refine r_iconst E dX12_value_57 (zkI (by decide) (by decide)) ?_
    refine r_callV E [(0, v2), (0, v3), (0, v4), (0, 1)] [] rfl zc_14 zr_14 (fun o _ => ⟨_, zw_X12.1 o, rfl⟩) (lw_V q2201 q2203 qs13 q239 q2204) dX12_value_58 zy_X12_may rfl (by omega) (by decide) (Nat.le_of_ble_eq_true rfl) (by decide) (fun l G => k_fX12_may l G v2 v3 v4 1) (fun v5 => ?_)
    refine r_if_ne E 66 (by decide) dX12_value_61 (fun _ => ?_) (fun _ => ?_)
    · refine r_aload_n E dX12_value_66 rfl 0 rfl ?_
      refine r_aload_n E dX12_value_67 rfl 0 rfl ?_
      refine r_aload_n E dX12_value_68 rfl 0 rfl ?_
      refine r_get E zc_14 zt_1308 dX12_value_69 q1559 zr_14 (zg_1308 _) (by decide) (fun v6 => ?_)
      refine r_aload_n E dX12_value_72 rfl 0 rfl ?_
      refine r_get E zc_14 zt_1309 dX12_value_73 q1569 zr_14 (zg_1309 _) (by decide) (fun v7 => ?_)
      refine r_callV E [(0, v6), (0, v7)] [(14, 0)] rfl zc_14 zr_14 (fun o _ => ⟨_, zw_X12.1 o, rfl⟩) (lw_V q2244 q2246 qs17 q239 q2247) dX12_value_76 zy_X12_load rfl (by omega) (by decide) (Nat.le_of_ble_eq_true rfl) (by decide) (fun l G => k_fX12_load l G v6 v7) (fun v8 => ?_)
      refine r_put E zc_14 zt_1311 zo_1311 dX12_value_79 q1582 zr_14 zw_X12 zp_1311 (fun _ => rfl) (fun _ => rfl) (by decide) ?_
      refine r_iconst E dX12_value_82 (zkI (by decide) (by decide)) ?_
      exact r_zreturn E rfl hT (by decide) dX12_value_83
    · refine r_iconst E dX12_value_64 (zkI (by decide) (by decide)) ?_
      exact r_zreturn E rfl hT (by decide) dX12_value_65
  · refine r_aload_n E dX12_value_7 rfl 0 rfl ?_
    refine r_aload_n E dX12_value_8 rfl 0 rfl ?_
    refine r_get E zc_14 zt_1309 dX12_value_9 q1569 zr_14 (zg_1309 _) (by decide) (fun v9 => ?_)
    refine r_bipush E dX12_value_12 (by decide) (zkI (by decide) (by decide)) ?_
    refine r_ishr (P := 131072) E (by decide) dX12_value_14 ?_
    refine r_if_ne E 26 (by decide) dX12_value_15 (fun _ => ?_) (fun _ => ?_)
    · refine r_aload_n E dX12_value_26 rfl 0 rfl ?_
      refine r_get E zc_14 zt_1309 dX12_value_27 q1569 zr_14 (zg_1309 _) (by decide) (fun v10 => ?_)
      refine r_i2l E dX12_value_30 ?_
      refine r_ldc2 (v := 262144) E dX12_value_31 q2377 (by decide) (zkJ (by decide) (by decide)) ?_
      refine r_lsub E dX12_value_34 ?_
      refine r_ldc2 (v := 68719476735) E dX12_value_35 q2378 (by decide) (zkJ (by decide) (by decide)) ?_
      refine r_lmask (P := 68719476736) E 36 (by decide) (by decide) (by decide) dX12_value_38 ?_
      refine r_pick E [] rfl ?_
      exact w_fX12_value_J39 E hN hT ((zl (v10 - 262144)) % 68719476736)
    · refine r_aload_n E dX12_value_18 rfl 0 rfl ?_
      refine r_get E zc_14 zt_1309 dX12_value_19 q1569 zr_14 (zg_1309 _) (by decide) (fun v11 => ?_)
      refine r_i2l E dX12_value_22 ?_
      refine r_goto E 39 (by decide) dX12_value_23 ?_
      refine r_pick E [] rfl ?_
      exact w_fX12_value_J39 E hN hT v11
theorem k_fX12_value (l : Launch) (G : zG) : zCt l G yX12_value cX12_value 1 (some .boolean) 6 [(14, 0)] (some 0) (fX12_value) := zCt.of (by decide) (Nat.le_of_ble_eq_true rfl) (fun K E _ _ hN hT => w_fX12_value E hN hT)
theorem dX9_tell_0 : decode cX9_tell 0 = .ok (.aload_n 0, 1) := by decide +kernel
theorem dX9_tell_1 : decode cX9_tell 1 = .ok (.lload_n 1, 1) := by decide +kernel
theorem dX9_tell_2 : decode cX9_tell 2 = .ok (.lconst 0, 1) := by decide +kernel
theorem dX9_tell_3 : decode cX9_tell 3 = .ok (.lcmp, 1) := by decide +kernel
theorem dX9_tell_4 : decode cX9_tell 4 = .ok (.ifCond .ne 7, 3) := by decide +kernel
theorem dX9_tell_7 : decode cX9_tell 7 = .ok (.iconst 1, 1) := by decide +kernel
theorem dX9_tell_8 : decode cX9_tell 8 = .ok (.goto 4, 3) := by decide +kernel
theorem dX9_tell_11 : decode cX9_tell 11 = .ok (.iconst 0, 1) := by decide +kernel
theorem dX9_tell_12 : decode cX9_tell 12 = .ok (.putfield 37, 3) := by decide +kernel
theorem dX9_tell_15 : decode cX9_tell 15 = .ok (.aload_n 0, 1) := by decide +kernel
theorem dX9_tell_16 : decode cX9_tell 16 = .ok (.lload_n 1, 1) := by decide +kernel
theorem dX9_tell_17 : decode cX9_tell 17 = .ok (.bipush 35, 2) := by decide +kernel
theorem dX9_tell_19 : decode cX9_tell 19 = .ok (.lshr, 1) := by decide +kernel
theorem dX9_tell_20 : decode cX9_tell 20 = .ok (.lconst 1, 1) := by decide +kernel
theorem dX9_tell_21 : decode cX9_tell 21 = .ok (.lcmp, 1) := by decide +kernel
theorem dX9_tell_22 : decode cX9_tell 22 = .ok (.ifCond .ne 7, 3) := by decide +kernel
theorem dX9_tell_25 : decode cX9_tell 25 = .ok (.iconst 1, 1) := by decide +kernel
theorem dX9_tell_26 : decode cX9_tell 26 = .ok (.goto 4, 3) := by decide +kernel
theorem dX9_tell_29 : decode cX9_tell 29 = .ok (.iconst 0, 1) := by decide +kernel
theorem dX9_tell_30 : decode cX9_tell 30 = .ok (.putfield 41, 3) := by decide +kernel
theorem dX9_tell_33 : decode cX9_tell 33 = .ok (.return_, 1) := by decide +kernel
theorem zy_X9_tell : yX9_tell.cls ≠ "java/lang/invoke/MethodHandle" ∧ yX9_tell.cls ≠ "java/lang/invoke/VarHandle" ∧ (parseMethodDescriptor yX9_tell.desc).map (fun d => d.parameters.length) = some 1 := by decide +kernel
theorem w_fX9_tell_J30 {K : zK} (E : zE K cX9_tell "RingHouse$Registers" none 0) (hN : zNl K = 3) (hT : zTr K = none) (s0 : Int) (s1 : Int) : zR K 30 [] [(0, s1), (11, s0)] (fX9_tell_J30 s0 s1) := by
  refine r_nn E (fun hn3 => ?_)
  refine r_pb (fun hb4 => ?_)
  refine r_put E zc_11 zt_1010 zo_1010 dX9_tell_30 q787 zr_11 zw_X9 zp_1010 (znb hb4) (zfb hb4) hn3 ?_
  exact r_return E rfl hT dX9_tell_33
theorem w_fX9_tell_J12 {K : zK} (E : zE K cX9_tell "RingHouse$Registers" none 0) (hN : zNl K = 3) (hT : zTr K = none) (x0 : Int) (x1 : Int) (s0 : Int) (s1 : Int) (h0 : 0 ≤ x0) : zR K 12 [(0, 11, x0), (1, 1, x1)] [(0, s1), (11, s0)] (fX9_tell_J12 x0 x1 s0 s1) := by
  refine r_nn E (fun hn1 => ?_)
  refine r_pb (fun hb2 => ?_)
  refine r_put E zc_11 zt_1009 zo_1009 dX9_tell_12 q783 zr_11 zw_X9 zp_1009 (znb hb2) (zfb hb2) hn1 ?_
  refine r_aload_n E dX9_tell_15 rfl 0 rfl ?_
  refine r_lload_n E dX9_tell_16 rfl 1 rfl ?_
  refine r_bipush E dX9_tell_17 (by decide) (zkI (by decide) (by decide)) ?_
  refine r_lshr (P := 34359738368) E (by decide) dX9_tell_19 ?_
  refine r_lconst (v := 1) E dX9_tell_20 (by decide) (zkJ (by decide) (by decide)) ?_
  refine r_lcmp_ne E 29 (by decide) dX9_tell_21 dX9_tell_22 (fun _ => ?_) (fun _ => ?_)
  · refine r_iconst E dX9_tell_29 (zkI (by decide) (by decide)) ?_
    refine r_pick E [] rfl ?_
    exact w_fX9_tell_J30 E hN hT x0 0
  · refine r_iconst E dX9_tell_25 (zkI (by decide) (by decide)) ?_
    refine r_goto E 30 (by decide) dX9_tell_26 ?_
    refine r_pick E [] rfl ?_
    exact w_fX9_tell_J30 E hN hT x0 1
theorem w_fX9_tell {K : zK} (E : zE K cX9_tell "RingHouse$Registers" none 0) (hN : zNl K = 3) (hT : zTr K = none) (x0 : Int) (x1 : Int) (h0 : 0 ≤ x0) : zR K 0 [(0, 11, x0), (1, 1, x1)] [] (fX9_tell x0 x1) := by
  refine r_aload_n E dX9_tell_0 rfl 0 rfl ?_
  refine r_lload_n E dX9_tell_1 rfl 1 rfl ?_
  refine r_lconst (v := 0) E dX9_tell_2 (by decide) (zkJ (by decide) (by decide)) ?_
  refine r_lcmp_ne E 11 (by decide) dX9_tell_3 dX9_tell_4 (fun _ => ?_) (fun _ => ?_)
  · refine r_iconst E dX9_tell_11 (zkI (by decide) (by decide)) ?_
    exact w_fX9_tell_J12 E hN hT x0 x1 x0 0 h0
  · refine r_iconst E dX9_tell_7 (zkI (by decide) (by decide)) ?_
    refine r_goto E 12 (by decide) dX9_tell_8 ?_
    exact w_fX9_tell_J12 E hN hT x0 x1 x0 1 h0
theorem k_fX9_tell (l : Launch) (G : zG) (x0 : Int) (x1 : Int) (h0 : 0 ≤ x0) : zCt l G yX9_tell cX9_tell 3 none 0 [(11, x0), (1, x1)] none (fX9_tell x0 x1) := zCt.of (by decide) (Nat.le_of_ble_eq_true rfl) (fun K E _ _ hN hT => w_fX9_tell E hN hT x0 x1 h0)
theorem dX16_run_0 : decode cX16_run 0 = .ok (.aload_n 1, 1) := by decide +kernel
theorem dX16_run_1 : decode cX16_run 1 = .ok (.invokevirtual 15, 3) := by decide +kernel
theorem dX16_run_4 : decode cX16_run 4 = .ok (.ifCond .ne 5, 3) := by decide +kernel
theorem dX16_run_7 : decode cX16_run 7 = .ok (.iconst 0, 1) := by decide +kernel
theorem dX16_run_8 : decode cX16_run 8 = .ok (.ireturn, 1) := by decide +kernel
theorem dX16_run_9 : decode cX16_run 9 = .ok (.aload_n 0, 1) := by decide +kernel
theorem dX16_run_10 : decode cX16_run 10 = .ok (.getfield 9, 3) := by decide +kernel
theorem dX16_run_13 : decode cX16_run 13 = .ok (.ifCond .eq 14, 3) := by decide +kernel
theorem dX16_run_16 : decode cX16_run 16 = .ok (.aload_n 3, 1) := by decide +kernel
theorem dX16_run_17 : decode cX16_run 17 = .ok (.aload_n 1, 1) := by decide +kernel
theorem dX16_run_18 : decode cX16_run 18 = .ok (.getfield 21, 3) := by decide +kernel
theorem dX16_run_21 : decode cX16_run 21 = .ok (.putfield 24, 3) := by decide +kernel
theorem dX16_run_24 : decode cX16_run 24 = .ok (.goto 11, 3) := by decide +kernel
theorem dX16_run_27 : decode cX16_run 27 = .ok (.aload_n 3, 1) := by decide +kernel
theorem dX16_run_28 : decode cX16_run 28 = .ok (.aload_n 1, 1) := by decide +kernel
theorem dX16_run_29 : decode cX16_run 29 = .ok (.getfield 21, 3) := by decide +kernel
theorem dX16_run_32 : decode cX16_run 32 = .ok (.putfield 29, 3) := by decide +kernel
theorem dX16_run_35 : decode cX16_run 35 = .ok (.aload_n 3, 1) := by decide +kernel
theorem dX16_run_36 : decode cX16_run 36 = .ok (.aload_n 1, 1) := by decide +kernel
theorem dX16_run_37 : decode cX16_run 37 = .ok (.getfield 21, 3) := by decide +kernel
theorem dX16_run_40 : decode cX16_run 40 = .ok (.invokevirtual 32, 3) := by decide +kernel
theorem dX16_run_43 : decode cX16_run 43 = .ok (.iconst 1, 1) := by decide +kernel
theorem dX16_run_44 : decode cX16_run 44 = .ok (.ireturn, 1) := by decide +kernel
theorem zy_X16_run : yX16_run.cls ≠ "java/lang/invoke/MethodHandle" ∧ yX16_run.cls ≠ "java/lang/invoke/VarHandle" ∧ (parseMethodDescriptor yX16_run.desc).map (fun d => d.parameters.length) = some 3 := by decide +kernel
theorem w_fX16_run_2_J35 {K : zK} (E : zE K cX16_run "RingHouse$Load" (some .boolean) 7) (hN : zNl K = 4) (hT : zTr K = (some 0)) (x3 : Int) : zR K 35 [(1, 14, 0), (3, 11, x3)] [] (fX16_run_2_J35 x3) := by
  refine r_aload_n E dX16_run_35 rfl 1 rfl ?_
  refine r_aload_n E dX16_run_36 rfl 0 rfl ?_
  refine r_getN E zc_14 zt_1311 dX16_run_37 q1579 zr_14 (zg_1311 _) (by decide) (fun v4 => ?_)
  refine r_nn E (fun hn5 => ?_)
  refine r_callV E [(1, v4)] [] rfl zc_11 zr_11 (fun o _ => ⟨_, zw_X9.1 o, rfl⟩) (lw_V q2460 q2367 q2368 q236 q2369) dX16_run_40 zy_X9_tell rfl (by omega) (by decide) (Nat.le_of_ble_eq_true rfl) hn5 (fun l G => k_fX9_tell l G x3 v4 hn5) (fun _ => ?_)
  refine r_iconst E dX16_run_43 (zkI (by decide) (by decide)) ?_
  exact r_zreturn E rfl hT (by decide) dX16_run_44
theorem w_fX16_run_2 {K : zK} (E : zE K cX16_run "RingHouse$Load" (some .boolean) 7) (hN : zNl K = 4) (hT : zTr K = (some 0)) (x2 : Int) (x3 : Int) : zR K 0 [(0, 16, 2), (1, 14, 0), (2, 9, x2), (3, 11, x3)] [] (fX16_run_2 x2 x3) := by
  refine r_aload_n E dX16_run_0 rfl 1 rfl ?_
  refine r_callVN E [] [] rfl zc_14 zr_14 (fun o _ => ⟨_, zw_X12.1 o, rfl⟩) q2459 q2375 qs29 q239 q2376 dX16_run_1 zy_X12_value rfl (by omega) (by decide) (Nat.le_of_ble_eq_true rfl) (by decide) (fun l G => k_fX12_value l G) (fun v1 => ?_)
  refine r_if_ne E 9 (by decide) dX16_run_4 (fun _ => ?_) (fun _ => ?_)
  · refine r_aload_n E dX16_run_9 rfl 0 rfl ?_
    refine r_gec (y := 0) E zc_16 dX16_run_10 q1064 zr_16 (zh_16_2_3) (by decide) ?_
    refine r_litT (hdec := inferInstance) (P := (0 : Int) = (0 : Int)) (by decide) ?_
    refine r_if_eq E 27 (by decide) dX16_run_13 (fun _ => ?_) (fun _ => r_no E)
    refine r_aload_n E dX16_run_27 rfl 3 rfl ?_
    refine r_aload_n E dX16_run_28 rfl 1 rfl ?_
    refine r_getN E zc_14 zt_1311 dX16_run_29 q1579 zr_14 (zg_1311 _) (by decide) (fun v2 => ?_)
    refine r_nn E (fun hn3 => ?_)
    refine r_putN E zc_11 zt_1000 zo_1000 dX16_run_32 q702 zr_11 zw_X9 zp_1000 (fun _ => rfl) (fun _ => rfl) hn3 ?_
    refine r_pick E [1, 3] rfl ?_
    exact w_fX16_run_2_J35 E hN hT x3
  · refine r_iconst E dX16_run_7 (zkI (by decide) (by decide)) ?_
    exact r_zreturn E rfl hT (by decide) dX16_run_8
theorem k_fX16_run_2 (l : Launch) (G : zG) (x2 : Int) (x3 : Int) : zCt l G yX16_run cX16_run 4 (some .boolean) 7 [(16, 2), (14, 0), (9, x2), (11, x3)] (some 0) (fX16_run_2 x2 x3) := zCt.of (by decide) (Nat.le_of_ble_eq_true rfl) (fun K E _ _ hN hT => w_fX16_run_2 E hN hT x2 x3)
theorem w_fX16_run_3_J35 {K : zK} (E : zE K cX16_run "RingHouse$Load" (some .boolean) 7) (hN : zNl K = 4) (hT : zTr K = (some 0)) (x3 : Int) : zR K 35 [(1, 14, 0), (3, 11, x3)] [] (fX16_run_3_J35 x3) := by
  refine r_aload_n E dX16_run_35 rfl 1 rfl ?_
  refine r_aload_n E dX16_run_36 rfl 0 rfl ?_
  refine r_getN E zc_14 zt_1311 dX16_run_37 q1579 zr_14 (zg_1311 _) (by decide) (fun v4 => ?_)
  refine r_nn E (fun hn5 => ?_)
  refine r_callV E [(1, v4)] [] rfl zc_11 zr_11 (fun o _ => ⟨_, zw_X9.1 o, rfl⟩) (lw_V q2460 q2367 q2368 q236 q2369) dX16_run_40 zy_X9_tell rfl (by omega) (by decide) (Nat.le_of_ble_eq_true rfl) hn5 (fun l G => k_fX9_tell l G x3 v4 hn5) (fun _ => ?_)
  refine r_iconst E dX16_run_43 (zkI (by decide) (by decide)) ?_
  exact r_zreturn E rfl hT (by decide) dX16_run_44
theorem w_fX16_run_3 {K : zK} (E : zE K cX16_run "RingHouse$Load" (some .boolean) 7) (hN : zNl K = 4) (hT : zTr K = (some 0)) (x2 : Int) (x3 : Int) : zR K 0 [(0, 16, 3), (1, 14, 0), (2, 9, x2), (3, 11, x3)] [] (fX16_run_3 x2 x3) := by
  refine r_aload_n E dX16_run_0 rfl 1 rfl ?_
  refine r_callVN E [] [] rfl zc_14 zr_14 (fun o _ => ⟨_, zw_X12.1 o, rfl⟩) q2459 q2375 qs29 q239 q2376 dX16_run_1 zy_X12_value rfl (by omega) (by decide) (Nat.le_of_ble_eq_true rfl) (by decide) (fun l G => k_fX12_value l G) (fun v1 => ?_)
  refine r_if_ne E 9 (by decide) dX16_run_4 (fun _ => ?_) (fun _ => ?_)
  · refine r_aload_n E dX16_run_9 rfl 0 rfl ?_
    refine r_gec (y := 1) E zc_16 dX16_run_10 q1064 zr_16 (zh_16_3_3) (by decide) ?_
    refine r_litF (hdec := inferInstance) (P := (1 : Int) = (0 : Int)) (by decide) ?_
    refine r_if_eq E 27 (by decide) dX16_run_13 (fun _ => r_no E) (fun _ => ?_)
    refine r_aload_n E dX16_run_16 rfl 3 rfl ?_
    refine r_aload_n E dX16_run_17 rfl 1 rfl ?_
    refine r_getN E zc_14 zt_1311 dX16_run_18 q1579 zr_14 (zg_1311 _) (by decide) (fun v2 => ?_)
    refine r_nn E (fun hn3 => ?_)
    refine r_putN E zc_11 zt_1001 zo_1001 dX16_run_21 q716 zr_11 zw_X9 zp_1001 (fun _ => rfl) (fun _ => rfl) hn3 ?_
    refine r_goto E 35 (by decide) dX16_run_24 ?_
    refine r_pick E [1, 3] rfl ?_
    exact w_fX16_run_3_J35 E hN hT x3
  · refine r_iconst E dX16_run_7 (zkI (by decide) (by decide)) ?_
    exact r_zreturn E rfl hT (by decide) dX16_run_8
theorem k_fX16_run_3 (l : Launch) (G : zG) (x2 : Int) (x3 : Int) : zCt l G yX16_run cX16_run 4 (some .boolean) 7 [(16, 3), (14, 0), (9, x2), (11, x3)] (some 0) (fX16_run_3 x2 x3) := zCt.of (by decide) (Nat.le_of_ble_eq_true rfl) (fun K E _ _ hN hT => w_fX16_run_3 E hN hT x2 x3)
theorem dX18_reckon_0 : decode cX18_reckon 0 = .ok (.lload_n 1, 1) := by decide +kernel
theorem dX18_reckon_1 : decode cX18_reckon 1 = .ok (.aload_n 0, 1) := by decide +kernel
theorem dX18_reckon_2 : decode cX18_reckon 2 = .ok (.getfield 7, 3) := by decide +kernel
theorem dX18_reckon_5 : decode cX18_reckon 5 = .ok (.i2l, 1) := by decide +kernel
theorem dX18_reckon_6 : decode cX18_reckon 6 = .ok (.lload_n 3, 1) := by decide +kernel
theorem dX18_reckon_7 : decode cX18_reckon 7 = .ok (.lmul, 1) := by decide +kernel
theorem dX18_reckon_8 : decode cX18_reckon 8 = .ok (.ladd, 1) := by decide +kernel
theorem dX18_reckon_9 : decode cX18_reckon 9 = .ok (.lreturn, 1) := by decide +kernel
theorem zy_X18_reckon : yX18_reckon.cls ≠ "java/lang/invoke/MethodHandle" ∧ yX18_reckon.cls ≠ "java/lang/invoke/VarHandle" ∧ (parseMethodDescriptor yX18_reckon.desc).map (fun d => d.parameters.length) = some 2 := by decide +kernel
theorem w_fX18_reckon_4 {K : zK} (E : zE K cX18_reckon "RingHouse$Sum" (some .long) 0) (hN : zNl K = 5) (hT : zTr K = (some 1)) (x1 : Int) (x3 : Int) : zR K 0 [(0, 16, 4), (1, 1, x1), (3, 1, x3)] [] (fX18_reckon_4 x1 x3) := by
  refine r_lload_n E dX18_reckon_0 rfl 1 rfl ?_
  refine r_aload_n E dX18_reckon_1 rfl 0 rfl ?_
  refine r_gec (y := 1) E zc_16 dX18_reckon_2 q1082 zr_16 (zh_16_4_3) (by decide) ?_
  refine r_i2l E dX18_reckon_5 ?_
  refine r_lload_n E dX18_reckon_6 rfl 2 rfl ?_
  refine r_lmul E dX18_reckon_7 ?_
  refine r_ladd E dX18_reckon_8 ?_
  exact r_lreturn E rfl hT dX18_reckon_9
theorem k_fX18_reckon_4 (l : Launch) (G : zG) (x1 : Int) (x3 : Int) : zCt l G yX18_reckon cX18_reckon 5 (some .long) 0 [(16, 4), (1, x1), (1, x3)] (some 1) (fX18_reckon_4 x1 x3) := zCt.of (by decide) (Nat.le_of_ble_eq_true rfl) (fun K E _ _ hN hT => w_fX18_reckon_4 E hN hT x1 x3)
theorem dX17_run_0 : decode cX17_run 0 = .ok (.aload_n 1, 1) := by decide +kernel
theorem dX17_run_1 : decode cX17_run 1 = .ok (.invokevirtual 9, 3) := by decide +kernel
theorem dX17_run_4 : decode cX17_run 4 = .ok (.ifCond .ne 5, 3) := by decide +kernel
theorem dX17_run_7 : decode cX17_run 7 = .ok (.iconst 0, 1) := by decide +kernel
theorem dX17_run_8 : decode cX17_run 8 = .ok (.ireturn, 1) := by decide +kernel
theorem dX17_run_9 : decode cX17_run 9 = .ok (.aload_n 3, 1) := by decide +kernel
theorem dX17_run_10 : decode cX17_run 10 = .ok (.aload_n 0, 1) := by decide +kernel
theorem dX17_run_11 : decode cX17_run 11 = .ok (.aload_n 3, 1) := by decide +kernel
theorem dX17_run_12 : decode cX17_run 12 = .ok (.getfield 15, 3) := by decide +kernel
theorem dX17_run_15 : decode cX17_run 15 = .ok (.aload_n 1, 1) := by decide +kernel
theorem dX17_run_16 : decode cX17_run 16 = .ok (.getfield 21, 3) := by decide +kernel
theorem dX17_run_19 : decode cX17_run 19 = .ok (.invokevirtual 23, 3) := by decide +kernel
theorem dX17_run_22 : decode cX17_run 22 = .ok (.ldc2_w 29, 3) := by decide +kernel
theorem dX17_run_25 : decode cX17_run 25 = .ok (.land, 1) := by decide +kernel
theorem dX17_run_26 : decode cX17_run 26 = .ok (.putfield 15, 3) := by decide +kernel
theorem dX17_run_29 : decode cX17_run 29 = .ok (.aload_n 3, 1) := by decide +kernel
theorem dX17_run_30 : decode cX17_run 30 = .ok (.aload_n 3, 1) := by decide +kernel
theorem dX17_run_31 : decode cX17_run 31 = .ok (.getfield 15, 3) := by decide +kernel
theorem dX17_run_34 : decode cX17_run 34 = .ok (.invokevirtual 31, 3) := by decide +kernel
theorem dX17_run_37 : decode cX17_run 37 = .ok (.iconst 1, 1) := by decide +kernel
theorem dX17_run_38 : decode cX17_run 38 = .ok (.ireturn, 1) := by decide +kernel
theorem zy_X17_run : yX17_run.cls ≠ "java/lang/invoke/MethodHandle" ∧ yX17_run.cls ≠ "java/lang/invoke/VarHandle" ∧ (parseMethodDescriptor yX17_run.desc).map (fun d => d.parameters.length) = some 3 := by decide +kernel
theorem w_fX17_run_4 {K : zK} (E : zE K cX17_run "RingHouse$Reckoning" (some .boolean) 7) (hN : zNl K = 4) (hT : zTr K = (some 0)) (x2 : Int) (x3 : Int) : zR K 0 [(0, 16, 4), (1, 14, 0), (2, 9, x2), (3, 11, x3)] [] (fX17_run_4 x2 x3) := by
  refine r_aload_n E dX17_run_0 rfl 1 rfl ?_
  refine r_callVN E [] [] rfl zc_14 zr_14 (fun o _ => ⟨_, zw_X12.1 o, rfl⟩) q2373 q2375 qs29 q239 q2376 dX17_run_1 zy_X12_value rfl (by omega) (by decide) (Nat.le_of_ble_eq_true rfl) (by decide) (fun l G => k_fX12_value l G) (fun v1 => ?_)
  refine r_if_ne E 9 (by decide) dX17_run_4 (fun _ => ?_) (fun _ => ?_)
  · refine r_aload_n E dX17_run_9 rfl 3 rfl ?_
    refine r_aload_n E dX17_run_10 rfl 0 rfl ?_
    refine r_aload_n E dX17_run_11 rfl 3 rfl ?_
    refine r_nn E (fun hn2 => ?_)
    refine r_getN E zc_11 zt_1000 dX17_run_12 q707 zr_11 (zg_1000 _) hn2 (fun v3 => ?_)
    refine r_aload_n E dX17_run_15 rfl 1 rfl ?_
    refine r_getN E zc_14 zt_1311 dX17_run_16 q1581 zr_14 (zg_1311 _) (by decide) (fun v4 => ?_)
    refine r_callU (n := 2) (x := ⟨"RingHouse$Reckoning", "reckon", "(JJ)J"⟩) (owner := "RingHouse$Reckoning") E [(1, v3), (1, v4)] [(11, x3)] rfl zc_16 zr_16 zk_16_4 q2379 q2381 q2388 q2389 q245 q2390 (Or.inr q2380) dX17_run_19 (by decide +kernel) rfl (by omega) (by decide) (Nat.le_of_ble_eq_true rfl) (by decide) (fun l G => k_fX18_reckon_4 l G v3 v4) (fun v5 => ?_)
    refine r_ldc2 (v := 68719476735) E dX17_run_22 q2391 (by decide) (zkJ (by decide) (by decide)) ?_
    refine r_lmask (P := 68719476736) E 36 (by decide) (by decide) (by decide) dX17_run_25 ?_
    refine r_putN E zc_11 zt_1000 zo_1000 dX17_run_26 q707 zr_11 zw_X9 zp_1000 (fun _ => rfl) (fun _ => rfl) hn2 ?_
    refine r_aload_n E dX17_run_29 rfl 3 rfl ?_
    refine r_aload_n E dX17_run_30 rfl 3 rfl ?_
    refine r_getN E zc_11 zt_1000 dX17_run_31 q707 zr_11 (zg_1000 _) hn2 (fun v6 => ?_)
    refine r_callV E [(1, v6)] [] rfl zc_11 zr_11 (fun o _ => ⟨_, zw_X9.1 o, rfl⟩) (lw_V q2392 q2367 q2368 q236 q2369) dX17_run_34 zy_X9_tell rfl (by omega) (by decide) (Nat.le_of_ble_eq_true rfl) hn2 (fun l G => k_fX9_tell l G x3 v6 hn2) (fun _ => ?_)
    refine r_iconst E dX17_run_37 (zkI (by decide) (by decide)) ?_
    exact r_zreturn E rfl hT (by decide) dX17_run_38
  · refine r_iconst E dX17_run_7 (zkI (by decide) (by decide)) ?_
    exact r_zreturn E rfl hT (by decide) dX17_run_8
theorem k_fX17_run_4 (l : Launch) (G : zG) (x2 : Int) (x3 : Int) : zCt l G yX17_run cX17_run 4 (some .boolean) 7 [(16, 4), (14, 0), (9, x2), (11, x3)] (some 0) (fX17_run_4 x2 x3) := zCt.of (by decide) (Nat.le_of_ble_eq_true rfl) (fun K E _ _ hN hT => w_fX17_run_4 E hN hT x2 x3)
theorem w_fX18_reckon_5 {K : zK} (E : zE K cX18_reckon "RingHouse$Sum" (some .long) 0) (hN : zNl K = 5) (hT : zTr K = (some 1)) (x1 : Int) (x3 : Int) : zR K 0 [(0, 16, 5), (1, 1, x1), (3, 1, x3)] [] (fX18_reckon_5 x1 x3) := by
  refine r_lload_n E dX18_reckon_0 rfl 1 rfl ?_
  refine r_aload_n E dX18_reckon_1 rfl 0 rfl ?_
  refine r_gec (y := (-1)) E zc_16 dX18_reckon_2 q1082 zr_16 (zh_16_5_3) (by decide) ?_
  refine r_i2l E dX18_reckon_5 ?_
  refine r_lload_n E dX18_reckon_6 rfl 2 rfl ?_
  refine r_lmul E dX18_reckon_7 ?_
  refine r_ladd E dX18_reckon_8 ?_
  exact r_lreturn E rfl hT dX18_reckon_9
theorem k_fX18_reckon_5 (l : Launch) (G : zG) (x1 : Int) (x3 : Int) : zCt l G yX18_reckon cX18_reckon 5 (some .long) 0 [(16, 5), (1, x1), (1, x3)] (some 1) (fX18_reckon_5 x1 x3) := zCt.of (by decide) (Nat.le_of_ble_eq_true rfl) (fun K E _ _ hN hT => w_fX18_reckon_5 E hN hT x1 x3)
theorem w_fX17_run_5 {K : zK} (E : zE K cX17_run "RingHouse$Reckoning" (some .boolean) 7) (hN : zNl K = 4) (hT : zTr K = (some 0)) (x2 : Int) (x3 : Int) : zR K 0 [(0, 16, 5), (1, 14, 0), (2, 9, x2), (3, 11, x3)] [] (fX17_run_5 x2 x3) := by
  refine r_aload_n E dX17_run_0 rfl 1 rfl ?_
  refine r_callVN E [] [] rfl zc_14 zr_14 (fun o _ => ⟨_, zw_X12.1 o, rfl⟩) q2373 q2375 qs29 q239 q2376 dX17_run_1 zy_X12_value rfl (by omega) (by decide) (Nat.le_of_ble_eq_true rfl) (by decide) (fun l G => k_fX12_value l G) (fun v1 => ?_)
  refine r_if_ne E 9 (by decide) dX17_run_4 (fun _ => ?_) (fun _ => ?_)
  · refine r_aload_n E dX17_run_9 rfl 3 rfl ?_
    refine r_aload_n E dX17_run_10 rfl 0 rfl ?_
    refine r_aload_n E dX17_run_11 rfl 3 rfl ?_
    refine r_nn E (fun hn2 => ?_)
    refine r_getN E zc_11 zt_1000 dX17_run_12 q707 zr_11 (zg_1000 _) hn2 (fun v3 => ?_)
    refine r_aload_n E dX17_run_15 rfl 1 rfl ?_
    refine r_getN E zc_14 zt_1311 dX17_run_16 q1581 zr_14 (zg_1311 _) (by decide) (fun v4 => ?_)
    refine r_callU (n := 2) (x := ⟨"RingHouse$Reckoning", "reckon", "(JJ)J"⟩) (owner := "RingHouse$Reckoning") E [(1, v3), (1, v4)] [(11, x3)] rfl zc_16 zr_16 zk_16_5 q2379 q2381 q2388 q2389 q245 q2390 (Or.inr q2380) dX17_run_19 (by decide +kernel) rfl (by omega) (by decide) (Nat.le_of_ble_eq_true rfl) (by decide) (fun l G => k_fX18_reckon_5 l G v3 v4) (fun v5 => ?_)
    refine r_ldc2 (v := 68719476735) E dX17_run_22 q2391 (by decide) (zkJ (by decide) (by decide)) ?_
    refine r_lmask (P := 68719476736) E 36 (by decide) (by decide) (by decide) dX17_run_25 ?_
    refine r_putN E zc_11 zt_1000 zo_1000 dX17_run_26 q707 zr_11 zw_X9 zp_1000 (fun _ => rfl) (fun _ => rfl) hn2 ?_
    refine r_aload_n E dX17_run_29 rfl 3 rfl ?_
    refine r_aload_n E dX17_run_30 rfl 3 rfl ?_
    refine r_getN E zc_11 zt_1000 dX17_run_31 q707 zr_11 (zg_1000 _) hn2 (fun v6 => ?_)
    refine r_callV E [(1, v6)] [] rfl zc_11 zr_11 (fun o _ => ⟨_, zw_X9.1 o, rfl⟩) (lw_V q2392 q2367 q2368 q236 q2369) dX17_run_34 zy_X9_tell rfl (by omega) (by decide) (Nat.le_of_ble_eq_true rfl) hn2 (fun l G => k_fX9_tell l G x3 v6 hn2) (fun _ => ?_)
    refine r_iconst E dX17_run_37 (zkI (by decide) (by decide)) ?_
    exact r_zreturn E rfl hT (by decide) dX17_run_38
  · refine r_iconst E dX17_run_7 (zkI (by decide) (by decide)) ?_
    exact r_zreturn E rfl hT (by decide) dX17_run_8
theorem k_fX17_run_5 (l : Launch) (G : zG) (x2 : Int) (x3 : Int) : zCt l G yX17_run cX17_run 4 (some .boolean) 7 [(16, 5), (14, 0), (9, x2), (11, x3)] (some 0) (fX17_run_5 x2 x3) := zCt.of (by decide) (Nat.le_of_ble_eq_true rfl) (fun K E _ _ hN hT => w_fX17_run_5 E hN hT x2 x3)
theorem dX19_reckon_0 : decode cX19_reckon 0 = .ok (.lload_n 1, 1) := by decide +kernel
theorem dX19_reckon_1 : decode cX19_reckon 1 = .ok (.lload_n 3, 1) := by decide +kernel
theorem dX19_reckon_2 : decode cX19_reckon 2 = .ok (.lmul, 1) := by decide +kernel
theorem dX19_reckon_3 : decode cX19_reckon 3 = .ok (.lreturn, 1) := by decide +kernel
theorem zy_X19_reckon : yX19_reckon.cls ≠ "java/lang/invoke/MethodHandle" ∧ yX19_reckon.cls ≠ "java/lang/invoke/VarHandle" ∧ (parseMethodDescriptor yX19_reckon.desc).map (fun d => d.parameters.length) = some 2 := by decide +kernel
theorem w_fX19_reckon_6 {K : zK} (E : zE K cX19_reckon "RingHouse$Product" (some .long) 0) (hN : zNl K = 5) (hT : zTr K = (some 1)) (x1 : Int) (x3 : Int) : zR K 0 [(0, 16, 6), (1, 1, x1), (3, 1, x3)] [] (fX19_reckon_6 x1 x3) := by
  refine r_lload_n E dX19_reckon_0 rfl 1 rfl ?_
  refine r_lload_n E dX19_reckon_1 rfl 2 rfl ?_
  refine r_lmul E dX19_reckon_2 ?_
  exact r_lreturn E rfl hT dX19_reckon_3
theorem k_fX19_reckon_6 (l : Launch) (G : zG) (x1 : Int) (x3 : Int) : zCt l G yX19_reckon cX19_reckon 5 (some .long) 0 [(16, 6), (1, x1), (1, x3)] (some 1) (fX19_reckon_6 x1 x3) := zCt.of (by decide) (Nat.le_of_ble_eq_true rfl) (fun K E _ _ hN hT => w_fX19_reckon_6 E hN hT x1 x3)
theorem w_fX17_run_6 {K : zK} (E : zE K cX17_run "RingHouse$Reckoning" (some .boolean) 7) (hN : zNl K = 4) (hT : zTr K = (some 0)) (x2 : Int) (x3 : Int) : zR K 0 [(0, 16, 6), (1, 14, 0), (2, 9, x2), (3, 11, x3)] [] (fX17_run_6 x2 x3) := by
  refine r_aload_n E dX17_run_0 rfl 1 rfl ?_
  refine r_callVN E [] [] rfl zc_14 zr_14 (fun o _ => ⟨_, zw_X12.1 o, rfl⟩) q2373 q2375 qs29 q239 q2376 dX17_run_1 zy_X12_value rfl (by omega) (by decide) (Nat.le_of_ble_eq_true rfl) (by decide) (fun l G => k_fX12_value l G) (fun v1 => ?_)
  refine r_if_ne E 9 (by decide) dX17_run_4 (fun _ => ?_) (fun _ => ?_)
  · refine r_aload_n E dX17_run_9 rfl 3 rfl ?_
    refine r_aload_n E dX17_run_10 rfl 0 rfl ?_
    refine r_aload_n E dX17_run_11 rfl 3 rfl ?_
    refine r_nn E (fun hn2 => ?_)
    refine r_getN E zc_11 zt_1000 dX17_run_12 q707 zr_11 (zg_1000 _) hn2 (fun v3 => ?_)
    refine r_aload_n E dX17_run_15 rfl 1 rfl ?_
    refine r_getN E zc_14 zt_1311 dX17_run_16 q1581 zr_14 (zg_1311 _) (by decide) (fun v4 => ?_)
    refine r_callU (n := 2) (x := ⟨"RingHouse$Reckoning", "reckon", "(JJ)J"⟩) (owner := "RingHouse$Reckoning") E [(1, v3), (1, v4)] [(11, x3)] rfl zc_16 zr_16 zk_16_6 q2379 q2381 q2385 q2386 q246 q2387 (Or.inr q2380) dX17_run_19 (by decide +kernel) rfl (by omega) (by decide) (Nat.le_of_ble_eq_true rfl) (by decide) (fun l G => k_fX19_reckon_6 l G v3 v4) (fun v5 => ?_)
    refine r_ldc2 (v := 68719476735) E dX17_run_22 q2391 (by decide) (zkJ (by decide) (by decide)) ?_
    refine r_lmask (P := 68719476736) E 36 (by decide) (by decide) (by decide) dX17_run_25 ?_
    refine r_putN E zc_11 zt_1000 zo_1000 dX17_run_26 q707 zr_11 zw_X9 zp_1000 (fun _ => rfl) (fun _ => rfl) hn2 ?_
    refine r_aload_n E dX17_run_29 rfl 3 rfl ?_
    refine r_aload_n E dX17_run_30 rfl 3 rfl ?_
    refine r_getN E zc_11 zt_1000 dX17_run_31 q707 zr_11 (zg_1000 _) hn2 (fun v6 => ?_)
    refine r_callV E [(1, v6)] [] rfl zc_11 zr_11 (fun o _ => ⟨_, zw_X9.1 o, rfl⟩) (lw_V q2392 q2367 q2368 q236 q2369) dX17_run_34 zy_X9_tell rfl (by omega) (by decide) (Nat.le_of_ble_eq_true rfl) hn2 (fun l G => k_fX9_tell l G x3 v6 hn2) (fun _ => ?_)
    refine r_iconst E dX17_run_37 (zkI (by decide) (by decide)) ?_
    exact r_zreturn E rfl hT (by decide) dX17_run_38
  · refine r_iconst E dX17_run_7 (zkI (by decide) (by decide)) ?_
    exact r_zreturn E rfl hT (by decide) dX17_run_8
theorem k_fX17_run_6 (l : Launch) (G : zG) (x2 : Int) (x3 : Int) : zCt l G yX17_run cX17_run 4 (some .boolean) 7 [(16, 6), (14, 0), (9, x2), (11, x3)] (some 0) (fX17_run_6 x2 x3) := zCt.of (by decide) (Nat.le_of_ble_eq_true rfl) (fun K E _ _ hN hT => w_fX17_run_6 E hN hT x2 x3)
theorem dX0_signed_0 : decode cX0_signed 0 = .ok (.lload_n 0, 1) := by decide +kernel
theorem dX0_signed_1 : decode cX0_signed 1 = .ok (.bipush 35, 2) := by decide +kernel
theorem dX0_signed_3 : decode cX0_signed 3 = .ok (.lshr, 1) := by decide +kernel
theorem dX0_signed_4 : decode cX0_signed 4 = .ok (.lconst 0, 1) := by decide +kernel
theorem dX0_signed_5 : decode cX0_signed 5 = .ok (.lcmp, 1) := by decide +kernel
theorem dX0_signed_6 : decode cX0_signed 6 = .ok (.ifCond .ne 7, 3) := by decide +kernel
theorem dX0_signed_9 : decode cX0_signed 9 = .ok (.lload_n 0, 1) := by decide +kernel
theorem dX0_signed_10 : decode cX0_signed 10 = .ok (.goto 8, 3) := by decide +kernel
theorem dX0_signed_13 : decode cX0_signed 13 = .ok (.lload_n 0, 1) := by decide +kernel
theorem dX0_signed_14 : decode cX0_signed 14 = .ok (.ldc2_w 1, 3) := by decide +kernel
theorem dX0_signed_17 : decode cX0_signed 17 = .ok (.lsub, 1) := by decide +kernel
theorem dX0_signed_18 : decode cX0_signed 18 = .ok (.lreturn, 1) := by decide +kernel
theorem zy_X0_signed : yX0_signed.cls ≠ "java/lang/invoke/MethodHandle" ∧ yX0_signed.cls ≠ "java/lang/invoke/VarHandle" ∧ (parseMethodDescriptor yX0_signed.desc).map (fun d => d.parameters.length) = some 1 := by decide +kernel
theorem w_fX0_signed {K : zK} (E : zE K cX0_signed "RingHouse" (some .long) 0) (hN : zNl K = 2) (hT : zTr K = (some 1)) (x0 : Int) : zR K 0 [(0, 1, x0)] [] (fX0_signed x0) := by
  refine r_lload_n E dX0_signed_0 rfl 0 rfl ?_
  refine r_bipush E dX0_signed_1 (by decide) (zkI (by decide) (by decide)) ?_
  refine r_lshr (P := 34359738368) E (by decide) dX0_signed_3 ?_
  refine r_lconst (v := 0) E dX0_signed_4 (by decide) (zkJ (by decide) (by decide)) ?_
  refine r_lcmp_ne E 13 (by decide) dX0_signed_5 dX0_signed_6 (fun _ => ?_) (fun _ => ?_)
  · refine r_lload_n E dX0_signed_13 rfl 0 rfl ?_
    refine r_ldc2 (v := 68719476736) E dX0_signed_14 q2422 (by decide) (zkJ (by decide) (by decide)) ?_
    refine r_lsub E dX0_signed_17 ?_
    exact r_lreturn E rfl hT dX0_signed_18
  · refine r_lload_n E dX0_signed_9 rfl 0 rfl ?_
    refine r_goto E 18 (by decide) dX0_signed_10 ?_
    exact r_lreturn E rfl hT dX0_signed_18
theorem k_fX0_signed (l : Launch) (G : zG) (x0 : Int) : zCt l G yX0_signed cX0_signed 2 (some .long) 0 [(1, x0)] (some 1) (fX0_signed x0) := zCt.of (by decide) (Nat.le_of_ble_eq_true rfl) (fun K E _ _ hN hT => w_fX0_signed E hN hT x0)
theorem dX20_run_0 : decode cX20_run 0 = .ok (.aload_n 1, 1) := by decide +kernel
theorem dX20_run_1 : decode cX20_run 1 = .ok (.invokevirtual 11, 3) := by decide +kernel
theorem dX20_run_4 : decode cX20_run 4 = .ok (.ifCond .ne 5, 3) := by decide +kernel
theorem dX20_run_7 : decode cX20_run 7 = .ok (.iconst 0, 1) := by decide +kernel
theorem dX20_run_8 : decode cX20_run 8 = .ok (.ireturn, 1) := by decide +kernel
theorem dX20_run_9 : decode cX20_run 9 = .ok (.aload_n 1, 1) := by decide +kernel
theorem dX20_run_10 : decode cX20_run 10 = .ok (.getfield 17, 3) := by decide +kernel
theorem dX20_run_13 : decode cX20_run 13 = .ok (.lconst 0, 1) := by decide +kernel
theorem dX20_run_14 : decode cX20_run 14 = .ok (.lcmp, 1) := by decide +kernel
theorem dX20_run_15 : decode cX20_run 15 = .ok (.ifCond .ne 10, 3) := by decide +kernel
theorem dX20_run_18 : decode cX20_run 18 = .ok (.aload_n 1, 1) := by decide +kernel
theorem dX20_run_19 : decode cX20_run 19 = .ok (.bipush 12, 2) := by decide +kernel
theorem dX20_run_21 : decode cX20_run 21 = .ok (.invokevirtual 20, 3) := by decide +kernel
theorem dX20_run_24 : decode cX20_run 24 = .ok (.ireturn, 1) := by decide +kernel
theorem dX20_run_25 : decode cX20_run 25 = .ok (.aload_n 3, 1) := by decide +kernel
theorem dX20_run_26 : decode cX20_run 26 = .ok (.getfield 24, 3) := by decide +kernel
theorem dX20_run_29 : decode cX20_run 29 = .ok (.invokestatic 29, 3) := by decide +kernel
theorem dX20_run_32 : decode cX20_run 32 = .ok (.lstore 4, 2) := by decide +kernel
theorem dX20_run_34 : decode cX20_run 34 = .ok (.aload_n 1, 1) := by decide +kernel
theorem dX20_run_35 : decode cX20_run 35 = .ok (.getfield 17, 3) := by decide +kernel
theorem dX20_run_38 : decode cX20_run 38 = .ok (.invokestatic 29, 3) := by decide +kernel
theorem dX20_run_41 : decode cX20_run 41 = .ok (.lstore 6, 2) := by decide +kernel
theorem dX20_run_43 : decode cX20_run 43 = .ok (.aload_n 3, 1) := by decide +kernel
theorem dX20_run_44 : decode cX20_run 44 = .ok (.lload 4, 2) := by decide +kernel
theorem dX20_run_46 : decode cX20_run 46 = .ok (.lload 6, 2) := by decide +kernel
theorem dX20_run_48 : decode cX20_run 48 = .ok (.ldiv, 1) := by decide +kernel
theorem dX20_run_49 : decode cX20_run 49 = .ok (.ldc2_w 33, 3) := by decide +kernel
theorem dX20_run_52 : decode cX20_run 52 = .ok (.land, 1) := by decide +kernel
theorem dX20_run_53 : decode cX20_run 53 = .ok (.putfield 24, 3) := by decide +kernel
theorem dX20_run_56 : decode cX20_run 56 = .ok (.aload_n 3, 1) := by decide +kernel
theorem dX20_run_57 : decode cX20_run 57 = .ok (.lload 4, 2) := by decide +kernel
theorem dX20_run_59 : decode cX20_run 59 = .ok (.lload 6, 2) := by decide +kernel
theorem dX20_run_61 : decode cX20_run 61 = .ok (.lrem, 1) := by decide +kernel
theorem dX20_run_62 : decode cX20_run 62 = .ok (.ldc2_w 33, 3) := by decide +kernel
theorem dX20_run_65 : decode cX20_run 65 = .ok (.land, 1) := by decide +kernel
theorem dX20_run_66 : decode cX20_run 66 = .ok (.putfield 35, 3) := by decide +kernel
theorem dX20_run_69 : decode cX20_run 69 = .ok (.aload_n 3, 1) := by decide +kernel
theorem dX20_run_70 : decode cX20_run 70 = .ok (.aload_n 3, 1) := by decide +kernel
theorem dX20_run_71 : decode cX20_run 71 = .ok (.getfield 24, 3) := by decide +kernel
theorem dX20_run_74 : decode cX20_run 74 = .ok (.invokevirtual 38, 3) := by decide +kernel
theorem dX20_run_77 : decode cX20_run 77 = .ok (.iconst 1, 1) := by decide +kernel
theorem dX20_run_78 : decode cX20_run 78 = .ok (.ireturn, 1) := by decide +kernel
theorem zy_X20_run : yX20_run.cls ≠ "java/lang/invoke/MethodHandle" ∧ yX20_run.cls ≠ "java/lang/invoke/VarHandle" ∧ (parseMethodDescriptor yX20_run.desc).map (fun d => d.parameters.length) = some 3 := by decide +kernel
theorem w_fX20_run_7 {K : zK} (E : zE K cX20_run "RingHouse$Division" (some .boolean) 7) (hN : zNl K = 8) (hT : zTr K = (some 0)) (x2 : Int) (x3 : Int) : zR K 0 [(0, 16, 7), (1, 14, 0), (2, 9, x2), (3, 11, x3)] [] (fX20_run_7 x2 x3) := by
  refine r_aload_n E dX20_run_0 rfl 1 rfl ?_
  refine r_callVN E [] [] rfl zc_14 zr_14 (fun o _ => ⟨_, zw_X12.1 o, rfl⟩) q2426 q2375 qs29 q239 q2376 dX20_run_1 zy_X12_value rfl (by omega) (by decide) (Nat.le_of_ble_eq_true rfl) (by decide) (fun l G => k_fX12_value l G) (fun v1 => ?_)
  refine r_if_ne E 9 (by decide) dX20_run_4 (fun _ => ?_) (fun _ => ?_)
  · refine r_aload_n E dX20_run_9 rfl 1 rfl ?_
    refine r_getN E zc_14 zt_1311 dX20_run_10 q1577 zr_14 (zg_1311 _) (by decide) (fun v2 => ?_)
    refine r_lconst (v := 0) E dX20_run_13 (by decide) (zkJ (by decide) (by decide)) ?_
    refine r_lcmp_ne E 25 (by decide) dX20_run_14 dX20_run_15 (fun _ => ?_) (fun _ => ?_)
    · refine r_aload_n E dX20_run_25 rfl 3 rfl ?_
      refine r_nn E (fun hn3 => ?_)
      refine r_getN E zc_11 zt_1000 dX20_run_26 q698 zr_11 (zg_1000 _) hn3 (fun v4 => ?_)
      refine r_callSN E [(1, v4)] [] rfl q2428 q2420 q227 q2421 dX20_run_29 zy_X0_signed rfl (by omega) (by decide) (Nat.le_of_ble_eq_true rfl) (fun l G => k_fX0_signed l G v4) (fun v5 => ?_)
      refine r_lstore (ls' := [(4, 1, v5), (0, 16, 7), (1, 14, 0), (2, 9, x2), (3, 11, x3)]) E dX20_run_32 (by rw [hN]; decide) rfl ?_
      refine r_aload_n E dX20_run_34 rfl 2 rfl ?_
      refine r_getN E zc_14 zt_1311 dX20_run_35 q1577 zr_14 (zg_1311 _) (by decide) (fun v6 => ?_)
      refine r_callSN E [(1, v6)] [] rfl q2428 q2420 q227 q2421 dX20_run_38 zy_X0_signed rfl (by omega) (by decide) (Nat.le_of_ble_eq_true rfl) (fun l G => k_fX0_signed l G v6) (fun v7 => ?_)
      refine r_lstore (ls' := [(6, 1, v7), (4, 1, v5), (0, 16, 7), (1, 14, 0), (2, 9, x2), (3, 11, x3)]) E dX20_run_41 (by rw [hN]; decide) rfl ?_
      refine r_aload_n E dX20_run_43 rfl 5 rfl ?_
      refine r_lload E dX20_run_44 1 rfl ?_
      refine r_lload E dX20_run_46 0 rfl ?_
      refine r_ne E (fun hq8 => ?_)
      refine r_ldiv E hq8 dX20_run_48 ?_
      refine r_ldc2 (v := 68719476735) E dX20_run_49 q2429 (by decide) (zkJ (by decide) (by decide)) ?_
      refine r_lmask (P := 68719476736) E 36 (by decide) (by decide) (by decide) dX20_run_52 ?_
      refine r_putN E zc_11 zt_1000 zo_1000 dX20_run_53 q698 zr_11 zw_X9 zp_1000 (fun _ => rfl) (fun _ => rfl) hn3 ?_
      refine r_aload_n E dX20_run_56 rfl 5 rfl ?_
      refine r_lload E dX20_run_57 1 rfl ?_
      refine r_lload E dX20_run_59 0 rfl ?_
      refine r_ne E (fun hq9 => ?_)
      refine r_lrem E hq9 dX20_run_61 ?_
      refine r_ldc2 (v := 68719476735) E dX20_run_62 q2429 (by decide) (zkJ (by decide) (by decide)) ?_
      refine r_lmask (P := 68719476736) E 36 (by decide) (by decide) (by decide) dX20_run_65 ?_
      refine r_putN E zc_11 zt_1001 zo_1001 dX20_run_66 q728 zr_11 zw_X9 zp_1001 (fun _ => rfl) (fun _ => rfl) hn3 ?_
      refine r_aload_n E dX20_run_69 rfl 5 rfl ?_
      refine r_aload_n E dX20_run_70 rfl 5 rfl ?_
      refine r_getN E zc_11 zt_1000 dX20_run_71 q698 zr_11 (zg_1000 _) hn3 (fun v10 => ?_)
      refine r_callV E [(1, v10)] [] rfl zc_11 zr_11 (fun o _ => ⟨_, zw_X9.1 o, rfl⟩) (lw_V q2430 q2367 q2368 q236 q2369) dX20_run_74 zy_X9_tell rfl (by omega) (by decide) (Nat.le_of_ble_eq_true rfl) hn3 (fun l G => k_fX9_tell l G x3 v10 hn3) (fun _ => ?_)
      refine r_iconst E dX20_run_77 (zkI (by decide) (by decide)) ?_
      exact r_zreturn E rfl hT (by decide) dX20_run_78
    · refine r_aload_n E dX20_run_18 rfl 1 rfl ?_
      refine r_bipush E dX20_run_19 (by decide) (zkI (by decide) (by decide)) ?_
      refine r_callVN E [(0, 12)] [] rfl zc_14 zr_14 (fun o _ => ⟨_, zw_X12.1 o, rfl⟩) q2427 q2285 qs19 q239 q2286 dX20_run_21 zy_X12_refuseHere rfl (by omega) (by decide) (Nat.le_of_ble_eq_true rfl) (by decide) (fun l G => k_fX12_refuseHere l G 12) (fun v12 => ?_)
      exact r_zreturnb E rfl hT dX20_run_24
  · refine r_iconst E dX20_run_7 (zkI (by decide) (by decide)) ?_
    exact r_zreturn E rfl hT (by decide) dX20_run_8
theorem k_fX20_run_7 (l : Launch) (G : zG) (x2 : Int) (x3 : Int) : zCt l G yX20_run cX20_run 8 (some .boolean) 7 [(16, 7), (14, 0), (9, x2), (11, x3)] (some 0) (fX20_run_7 x2 x3) := zCt.of (by decide) (Nat.le_of_ble_eq_true rfl) (fun K E _ _ hN hT => w_fX20_run_7 E hN hT x2 x3)
theorem dX21_reckon_0 : decode cX21_reckon 0 = .ok (.aload_n 0, 1) := by decide +kernel
theorem dX21_reckon_1 : decode cX21_reckon 1 = .ok (.getfield 7, 3) := by decide +kernel
theorem dX21_reckon_4 : decode cX21_reckon 4 = .ok (.ifCond .ne 9, 3) := by decide +kernel
theorem dX21_reckon_7 : decode cX21_reckon 7 = .ok (.lload_n 1, 1) := by decide +kernel
theorem dX21_reckon_8 : decode cX21_reckon 8 = .ok (.lload_n 3, 1) := by decide +kernel
theorem dX21_reckon_9 : decode cX21_reckon 9 = .ok (.land, 1) := by decide +kernel
theorem dX21_reckon_10 : decode cX21_reckon 10 = .ok (.goto 20, 3) := by decide +kernel
theorem dX21_reckon_13 : decode cX21_reckon 13 = .ok (.aload_n 0, 1) := by decide +kernel
theorem dX21_reckon_14 : decode cX21_reckon 14 = .ok (.getfield 7, 3) := by decide +kernel
theorem dX21_reckon_17 : decode cX21_reckon 17 = .ok (.iconst 1, 1) := by decide +kernel
theorem dX21_reckon_18 : decode cX21_reckon 18 = .ok (.if_icmp .ne 9, 3) := by decide +kernel
theorem dX21_reckon_21 : decode cX21_reckon 21 = .ok (.lload_n 1, 1) := by decide +kernel
theorem dX21_reckon_22 : decode cX21_reckon 22 = .ok (.lload_n 3, 1) := by decide +kernel
theorem dX21_reckon_23 : decode cX21_reckon 23 = .ok (.lor, 1) := by decide +kernel
theorem dX21_reckon_24 : decode cX21_reckon 24 = .ok (.goto 6, 3) := by decide +kernel
theorem dX21_reckon_27 : decode cX21_reckon 27 = .ok (.lload_n 1, 1) := by decide +kernel
theorem dX21_reckon_28 : decode cX21_reckon 28 = .ok (.lload_n 3, 1) := by decide +kernel
theorem dX21_reckon_29 : decode cX21_reckon 29 = .ok (.lxor, 1) := by decide +kernel
theorem dX21_reckon_30 : decode cX21_reckon 30 = .ok (.lreturn, 1) := by decide +kernel
theorem zy_X21_reckon : yX21_reckon.cls ≠ "java/lang/invoke/MethodHandle" ∧ yX21_reckon.cls ≠ "java/lang/invoke/VarHandle" ∧ (parseMethodDescriptor yX21_reckon.desc).map (fun d => d.parameters.length) = some 2 := by decide +kernel
theorem w_fX21_reckon_8 {K : zK} (E : zE K cX21_reckon "RingHouse$Bits" (some .long) 0) (hN : zNl K = 5) (hT : zTr K = (some 1)) (x1 : Int) (x3 : Int) : zR K 0 [(0, 16, 8), (1, 1, x1), (3, 1, x3)] [] (fX21_reckon_8 x1 x3) := by
  refine r_aload_n E dX21_reckon_0 rfl 0 rfl ?_
  refine r_gec (y := 0) E zc_16 dX21_reckon_1 q1119 zr_16 (zh_16_8_3) (by decide) ?_
  refine r_litF (hdec := inferInstance) (P := ¬ (0 : Int) = (0 : Int)) (by decide) ?_
  refine r_if_ne E 13 (by decide) dX21_reckon_4 (fun _ => r_no E) (fun _ => ?_)
  refine r_lload_n E dX21_reckon_7 rfl 1 rfl ?_
  refine r_lload_n E dX21_reckon_8 rfl 2 rfl ?_
  refine r_land E dX21_reckon_9 ?_
  refine r_goto E 30 (by decide) dX21_reckon_10 ?_
  exact r_lreturn E rfl hT dX21_reckon_30
theorem k_fX21_reckon_8 (l : Launch) (G : zG) (x1 : Int) (x3 : Int) : zCt l G yX21_reckon cX21_reckon 5 (some .long) 0 [(16, 8), (1, x1), (1, x3)] (some 1) (fX21_reckon_8 x1 x3) := zCt.of (by decide) (Nat.le_of_ble_eq_true rfl) (fun K E _ _ hN hT => w_fX21_reckon_8 E hN hT x1 x3)
theorem w_fX17_run_8 {K : zK} (E : zE K cX17_run "RingHouse$Reckoning" (some .boolean) 7) (hN : zNl K = 4) (hT : zTr K = (some 0)) (x2 : Int) (x3 : Int) : zR K 0 [(0, 16, 8), (1, 14, 0), (2, 9, x2), (3, 11, x3)] [] (fX17_run_8 x2 x3) := by
  refine r_aload_n E dX17_run_0 rfl 1 rfl ?_
  refine r_callVN E [] [] rfl zc_14 zr_14 (fun o _ => ⟨_, zw_X12.1 o, rfl⟩) q2373 q2375 qs29 q239 q2376 dX17_run_1 zy_X12_value rfl (by omega) (by decide) (Nat.le_of_ble_eq_true rfl) (by decide) (fun l G => k_fX12_value l G) (fun v1 => ?_)
  refine r_if_ne E 9 (by decide) dX17_run_4 (fun _ => ?_) (fun _ => ?_)
  · refine r_aload_n E dX17_run_9 rfl 3 rfl ?_
    refine r_aload_n E dX17_run_10 rfl 0 rfl ?_
    refine r_aload_n E dX17_run_11 rfl 3 rfl ?_
    refine r_nn E (fun hn2 => ?_)
    refine r_getN E zc_11 zt_1000 dX17_run_12 q707 zr_11 (zg_1000 _) hn2 (fun v3 => ?_)
    refine r_aload_n E dX17_run_15 rfl 1 rfl ?_
    refine r_getN E zc_14 zt_1311 dX17_run_16 q1581 zr_14 (zg_1311 _) (by decide) (fun v4 => ?_)
    refine r_callU (n := 2) (x := ⟨"RingHouse$Reckoning", "reckon", "(JJ)J"⟩) (owner := "RingHouse$Reckoning") E [(1, v3), (1, v4)] [(11, x3)] rfl zc_16 zr_16 zk_16_8 q2379 q2381 q2382 q2383 q248 q2384 (Or.inr q2380) dX17_run_19 (by decide +kernel) rfl (by omega) (by decide) (Nat.le_of_ble_eq_true rfl) (by decide) (fun l G => k_fX21_reckon_8 l G v3 v4) (fun v5 => ?_)
    refine r_ldc2 (v := 68719476735) E dX17_run_22 q2391 (by decide) (zkJ (by decide) (by decide)) ?_
    refine r_lmask (P := 68719476736) E 36 (by decide) (by decide) (by decide) dX17_run_25 ?_
    refine r_putN E zc_11 zt_1000 zo_1000 dX17_run_26 q707 zr_11 zw_X9 zp_1000 (fun _ => rfl) (fun _ => rfl) hn2 ?_
    refine r_aload_n E dX17_run_29 rfl 3 rfl ?_
    refine r_aload_n E dX17_run_30 rfl 3 rfl ?_
    refine r_getN E zc_11 zt_1000 dX17_run_31 q707 zr_11 (zg_1000 _) hn2 (fun v6 => ?_)
    refine r_callV E [(1, v6)] [] rfl zc_11 zr_11 (fun o _ => ⟨_, zw_X9.1 o, rfl⟩) (lw_V q2392 q2367 q2368 q236 q2369) dX17_run_34 zy_X9_tell rfl (by omega) (by decide) (Nat.le_of_ble_eq_true rfl) hn2 (fun l G => k_fX9_tell l G x3 v6 hn2) (fun _ => ?_)
    refine r_iconst E dX17_run_37 (zkI (by decide) (by decide)) ?_
    exact r_zreturn E rfl hT (by decide) dX17_run_38
  · refine r_iconst E dX17_run_7 (zkI (by decide) (by decide)) ?_
    exact r_zreturn E rfl hT (by decide) dX17_run_8
theorem k_fX17_run_8 (l : Launch) (G : zG) (x2 : Int) (x3 : Int) : zCt l G yX17_run cX17_run 4 (some .boolean) 7 [(16, 8), (14, 0), (9, x2), (11, x3)] (some 0) (fX17_run_8 x2 x3) := zCt.of (by decide) (Nat.le_of_ble_eq_true rfl) (fun K E _ _ hN hT => w_fX17_run_8 E hN hT x2 x3)
theorem w_fX21_reckon_9 {K : zK} (E : zE K cX21_reckon "RingHouse$Bits" (some .long) 0) (hN : zNl K = 5) (hT : zTr K = (some 1)) (x1 : Int) (x3 : Int) : zR K 0 [(0, 16, 9), (1, 1, x1), (3, 1, x3)] [] (fX21_reckon_9 x1 x3) := by
  refine r_aload_n E dX21_reckon_0 rfl 0 rfl ?_
  refine r_gec (y := 1) E zc_16 dX21_reckon_1 q1119 zr_16 (zh_16_9_3) (by decide) ?_
  refine r_litT (hdec := inferInstance) (P := ¬ (1 : Int) = (0 : Int)) (by decide) ?_
  refine r_if_ne E 13 (by decide) dX21_reckon_4 (fun _ => ?_) (fun _ => r_no E)
  refine r_aload_n E dX21_reckon_13 rfl 0 rfl ?_
  refine r_gec (y := 1) E zc_16 dX21_reckon_14 q1119 zr_16 (zh_16_9_3) (by decide) ?_
  refine r_iconst E dX21_reckon_17 (zkI (by decide) (by decide)) ?_
  refine r_litF (hdec := inferInstance) (P := ¬ (1 : Int) = (1 : Int)) (by decide) ?_
  refine r_icmp_ne E 27 (by decide) dX21_reckon_18 (fun _ => r_no E) (fun _ => ?_)
  refine r_lload_n E dX21_reckon_21 rfl 1 rfl ?_
  refine r_lload_n E dX21_reckon_22 rfl 2 rfl ?_
  refine r_lor E dX21_reckon_23 ?_
  refine r_goto E 30 (by decide) dX21_reckon_24 ?_
  exact r_lreturn E rfl hT dX21_reckon_30
theorem k_fX21_reckon_9 (l : Launch) (G : zG) (x1 : Int) (x3 : Int) : zCt l G yX21_reckon cX21_reckon 5 (some .long) 0 [(16, 9), (1, x1), (1, x3)] (some 1) (fX21_reckon_9 x1 x3) := zCt.of (by decide) (Nat.le_of_ble_eq_true rfl) (fun K E _ _ hN hT => w_fX21_reckon_9 E hN hT x1 x3)
theorem w_fX17_run_9 {K : zK} (E : zE K cX17_run "RingHouse$Reckoning" (some .boolean) 7) (hN : zNl K = 4) (hT : zTr K = (some 0)) (x2 : Int) (x3 : Int) : zR K 0 [(0, 16, 9), (1, 14, 0), (2, 9, x2), (3, 11, x3)] [] (fX17_run_9 x2 x3) := by
  refine r_aload_n E dX17_run_0 rfl 1 rfl ?_
  refine r_callVN E [] [] rfl zc_14 zr_14 (fun o _ => ⟨_, zw_X12.1 o, rfl⟩) q2373 q2375 qs29 q239 q2376 dX17_run_1 zy_X12_value rfl (by omega) (by decide) (Nat.le_of_ble_eq_true rfl) (by decide) (fun l G => k_fX12_value l G) (fun v1 => ?_)
  refine r_if_ne E 9 (by decide) dX17_run_4 (fun _ => ?_) (fun _ => ?_)
  · refine r_aload_n E dX17_run_9 rfl 3 rfl ?_
    refine r_aload_n E dX17_run_10 rfl 0 rfl ?_
    refine r_aload_n E dX17_run_11 rfl 3 rfl ?_
    refine r_nn E (fun hn2 => ?_)
    refine r_getN E zc_11 zt_1000 dX17_run_12 q707 zr_11 (zg_1000 _) hn2 (fun v3 => ?_)
    refine r_aload_n E dX17_run_15 rfl 1 rfl ?_
    refine r_getN E zc_14 zt_1311 dX17_run_16 q1581 zr_14 (zg_1311 _) (by decide) (fun v4 => ?_)
    refine r_callU (n := 2) (x := ⟨"RingHouse$Reckoning", "reckon", "(JJ)J"⟩) (owner := "RingHouse$Reckoning") E [(1, v3), (1, v4)] [(11, x3)] rfl zc_16 zr_16 zk_16_9 q2379 q2381 q2382 q2383 q248 q2384 (Or.inr q2380) dX17_run_19 (by decide +kernel) rfl (by omega) (by decide) (Nat.le_of_ble_eq_true rfl) (by decide) (fun l G => k_fX21_reckon_9 l G v3 v4) (fun v5 => ?_)
    refine r_ldc2 (v := 68719476735) E dX17_run_22 q2391 (by decide) (zkJ (by decide) (by decide)) ?_
    refine r_lmask (P := 68719476736) E 36 (by decide) (by decide) (by decide) dX17_run_25 ?_
    refine r_putN E zc_11 zt_1000 zo_1000 dX17_run_26 q707 zr_11 zw_X9 zp_1000 (fun _ => rfl) (fun _ => rfl) hn2 ?_
    refine r_aload_n E dX17_run_29 rfl 3 rfl ?_
    refine r_aload_n E dX17_run_30 rfl 3 rfl ?_
    refine r_getN E zc_11 zt_1000 dX17_run_31 q707 zr_11 (zg_1000 _) hn2 (fun v6 => ?_)
    refine r_callV E [(1, v6)] [] rfl zc_11 zr_11 (fun o _ => ⟨_, zw_X9.1 o, rfl⟩) (lw_V q2392 q2367 q2368 q236 q2369) dX17_run_34 zy_X9_tell rfl (by omega) (by decide) (Nat.le_of_ble_eq_true rfl) hn2 (fun l G => k_fX9_tell l G x3 v6 hn2) (fun _ => ?_)
    refine r_iconst E dX17_run_37 (zkI (by decide) (by decide)) ?_
    exact r_zreturn E rfl hT (by decide) dX17_run_38
  · refine r_iconst E dX17_run_7 (zkI (by decide) (by decide)) ?_
    exact r_zreturn E rfl hT (by decide) dX17_run_8
theorem k_fX17_run_9 (l : Launch) (G : zG) (x2 : Int) (x3 : Int) : zCt l G yX17_run cX17_run 4 (some .boolean) 7 [(16, 9), (14, 0), (9, x2), (11, x3)] (some 0) (fX17_run_9 x2 x3) := zCt.of (by decide) (Nat.le_of_ble_eq_true rfl) (fun K E _ _ hN hT => w_fX17_run_9 E hN hT x2 x3)
theorem w_fX21_reckon_10 {K : zK} (E : zE K cX21_reckon "RingHouse$Bits" (some .long) 0) (hN : zNl K = 5) (hT : zTr K = (some 1)) (x1 : Int) (x3 : Int) : zR K 0 [(0, 16, 10), (1, 1, x1), (3, 1, x3)] [] (fX21_reckon_10 x1 x3) := by
  refine r_aload_n E dX21_reckon_0 rfl 0 rfl ?_
  refine r_gec (y := 2) E zc_16 dX21_reckon_1 q1119 zr_16 (zh_16_10_3) (by decide) ?_
  refine r_litT (hdec := inferInstance) (P := ¬ (2 : Int) = (0 : Int)) (by decide) ?_
  refine r_if_ne E 13 (by decide) dX21_reckon_4 (fun _ => ?_) (fun _ => r_no E)
  refine r_aload_n E dX21_reckon_13 rfl 0 rfl ?_
  refine r_gec (y := 2) E zc_16 dX21_reckon_14 q1119 zr_16 (zh_16_10_3) (by decide) ?_
  refine r_iconst E dX21_reckon_17 (zkI (by decide) (by decide)) ?_
  refine r_litT (hdec := inferInstance) (P := ¬ (2 : Int) = (1 : Int)) (by decide) ?_
  refine r_icmp_ne E 27 (by decide) dX21_reckon_18 (fun _ => ?_) (fun _ => r_no E)
  refine r_lload_n E dX21_reckon_27 rfl 1 rfl ?_
  refine r_lload_n E dX21_reckon_28 rfl 2 rfl ?_
  refine r_lxor E dX21_reckon_29 ?_
  exact r_lreturn E rfl hT dX21_reckon_30
theorem k_fX21_reckon_10 (l : Launch) (G : zG) (x1 : Int) (x3 : Int) : zCt l G yX21_reckon cX21_reckon 5 (some .long) 0 [(16, 10), (1, x1), (1, x3)] (some 1) (fX21_reckon_10 x1 x3) := zCt.of (by decide) (Nat.le_of_ble_eq_true rfl) (fun K E _ _ hN hT => w_fX21_reckon_10 E hN hT x1 x3)
theorem w_fX17_run_10 {K : zK} (E : zE K cX17_run "RingHouse$Reckoning" (some .boolean) 7) (hN : zNl K = 4) (hT : zTr K = (some 0)) (x2 : Int) (x3 : Int) : zR K 0 [(0, 16, 10), (1, 14, 0), (2, 9, x2), (3, 11, x3)] [] (fX17_run_10 x2 x3) := by
  refine r_aload_n E dX17_run_0 rfl 1 rfl ?_
  refine r_callVN E [] [] rfl zc_14 zr_14 (fun o _ => ⟨_, zw_X12.1 o, rfl⟩) q2373 q2375 qs29 q239 q2376 dX17_run_1 zy_X12_value rfl (by omega) (by decide) (Nat.le_of_ble_eq_true rfl) (by decide) (fun l G => k_fX12_value l G) (fun v1 => ?_)
  refine r_if_ne E 9 (by decide) dX17_run_4 (fun _ => ?_) (fun _ => ?_)
  · refine r_aload_n E dX17_run_9 rfl 3 rfl ?_
    refine r_aload_n E dX17_run_10 rfl 0 rfl ?_
    refine r_aload_n E dX17_run_11 rfl 3 rfl ?_
    refine r_nn E (fun hn2 => ?_)
    refine r_getN E zc_11 zt_1000 dX17_run_12 q707 zr_11 (zg_1000 _) hn2 (fun v3 => ?_)
    refine r_aload_n E dX17_run_15 rfl 1 rfl ?_
    refine r_getN E zc_14 zt_1311 dX17_run_16 q1581 zr_14 (zg_1311 _) (by decide) (fun v4 => ?_)
    refine r_callU (n := 2) (x := ⟨"RingHouse$Reckoning", "reckon", "(JJ)J"⟩) (owner := "RingHouse$Reckoning") E [(1, v3), (1, v4)] [(11, x3)] rfl zc_16 zr_16 zk_16_10 q2379 q2381 q2382 q2383 q248 q2384 (Or.inr q2380) dX17_run_19 (by decide +kernel) rfl (by omega) (by decide) (Nat.le_of_ble_eq_true rfl) (by decide) (fun l G => k_fX21_reckon_10 l G v3 v4) (fun v5 => ?_)
    refine r_ldc2 (v := 68719476735) E dX17_run_22 q2391 (by decide) (zkJ (by decide) (by decide)) ?_
    refine r_lmask (P := 68719476736) E 36 (by decide) (by decide) (by decide) dX17_run_25 ?_
    refine r_putN E zc_11 zt_1000 zo_1000 dX17_run_26 q707 zr_11 zw_X9 zp_1000 (fun _ => rfl) (fun _ => rfl) hn2 ?_
    refine r_aload_n E dX17_run_29 rfl 3 rfl ?_
    refine r_aload_n E dX17_run_30 rfl 3 rfl ?_
    refine r_getN E zc_11 zt_1000 dX17_run_31 q707 zr_11 (zg_1000 _) hn2 (fun v6 => ?_)
    refine r_callV E [(1, v6)] [] rfl zc_11 zr_11 (fun o _ => ⟨_, zw_X9.1 o, rfl⟩) (lw_V q2392 q2367 q2368 q236 q2369) dX17_run_34 zy_X9_tell rfl (by omega) (by decide) (Nat.le_of_ble_eq_true rfl) hn2 (fun l G => k_fX9_tell l G x3 v6 hn2) (fun _ => ?_)
    refine r_iconst E dX17_run_37 (zkI (by decide) (by decide)) ?_
    exact r_zreturn E rfl hT (by decide) dX17_run_38
  · refine r_iconst E dX17_run_7 (zkI (by decide) (by decide)) ?_
    exact r_zreturn E rfl hT (by decide) dX17_run_8
theorem k_fX17_run_10 (l : Launch) (G : zG) (x2 : Int) (x3 : Int) : zCt l G yX17_run cX17_run 4 (some .boolean) 7 [(16, 10), (14, 0), (9, x2), (11, x3)] (some 0) (fX17_run_10 x2 x3) := zCt.of (by decide) (Nat.le_of_ble_eq_true rfl) (fun K E _ _ hN hT => w_fX17_run_10 E hN hT x2 x3)
theorem dX22_run_0 : decode cX22_run 0 = .ok (.aload_n 1, 1) := by decide +kernel
theorem dX22_run_1 : decode cX22_run 1 = .ok (.invokevirtual 11, 3) := by decide +kernel
theorem dX22_run_4 : decode cX22_run 4 = .ok (.ifCond .ne 5, 3) := by decide +kernel
theorem dX22_run_7 : decode cX22_run 7 = .ok (.iconst 0, 1) := by decide +kernel
theorem dX22_run_8 : decode cX22_run 8 = .ok (.ireturn, 1) := by decide +kernel
theorem dX22_run_9 : decode cX22_run 9 = .ok (.aload_n 3, 1) := by decide +kernel
theorem dX22_run_10 : decode cX22_run 10 = .ok (.getfield 17, 3) := by decide +kernel
theorem dX22_run_13 : decode cX22_run 13 = .ok (.invokestatic 23, 3) := by decide +kernel
theorem dX22_run_16 : decode cX22_run 16 = .ok (.lstore 4, 2) := by decide +kernel
theorem dX22_run_18 : decode cX22_run 18 = .ok (.aload_n 1, 1) := by decide +kernel
theorem dX22_run_19 : decode cX22_run 19 = .ok (.getfield 27, 3) := by decide +kernel
theorem dX22_run_22 : decode cX22_run 22 = .ok (.invokestatic 23, 3) := by decide +kernel
theorem dX22_run_25 : decode cX22_run 25 = .ok (.lstore 6, 2) := by decide +kernel
theorem dX22_run_27 : decode cX22_run 27 = .ok (.aload_n 3, 1) := by decide +kernel
theorem dX22_run_28 : decode cX22_run 28 = .ok (.lload 4, 2) := by decide +kernel
theorem dX22_run_30 : decode cX22_run 30 = .ok (.lload 6, 2) := by decide +kernel
theorem dX22_run_32 : decode cX22_run 32 = .ok (.lcmp, 1) := by decide +kernel
theorem dX22_run_33 : decode cX22_run 33 = .ok (.ifCond .ne 7, 3) := by decide +kernel
theorem dX22_run_36 : decode cX22_run 36 = .ok (.iconst 1, 1) := by decide +kernel
theorem dX22_run_37 : decode cX22_run 37 = .ok (.goto 4, 3) := by decide +kernel
theorem dX22_run_40 : decode cX22_run 40 = .ok (.iconst 0, 1) := by decide +kernel
theorem dX22_run_41 : decode cX22_run 41 = .ok (.putfield 29, 3) := by decide +kernel
theorem dX22_run_44 : decode cX22_run 44 = .ok (.aload_n 3, 1) := by decide +kernel
theorem dX22_run_45 : decode cX22_run 45 = .ok (.lload 4, 2) := by decide +kernel
theorem dX22_run_47 : decode cX22_run 47 = .ok (.lload 6, 2) := by decide +kernel
theorem dX22_run_49 : decode cX22_run 49 = .ok (.lcmp, 1) := by decide +kernel
theorem dX22_run_50 : decode cX22_run 50 = .ok (.ifCond .ge 7, 3) := by decide +kernel
theorem dX22_run_53 : decode cX22_run 53 = .ok (.iconst 1, 1) := by decide +kernel
theorem dX22_run_54 : decode cX22_run 54 = .ok (.goto 4, 3) := by decide +kernel
theorem dX22_run_57 : decode cX22_run 57 = .ok (.iconst 0, 1) := by decide +kernel
theorem dX22_run_58 : decode cX22_run 58 = .ok (.putfield 33, 3) := by decide +kernel
theorem dX22_run_61 : decode cX22_run 61 = .ok (.iconst 1, 1) := by decide +kernel
theorem dX22_run_62 : decode cX22_run 62 = .ok (.ireturn, 1) := by decide +kernel
theorem zy_X22_run : yX22_run.cls ≠ "java/lang/invoke/MethodHandle" ∧ yX22_run.cls ≠ "java/lang/invoke/VarHandle" ∧ (parseMethodDescriptor yX22_run.desc).map (fun d => d.parameters.length) = some 3 := by decide +kernel
theorem w_fX22_run_11_J58 {K : zK} (E : zE K cX22_run "RingHouse$Compare" (some .boolean) 7) (hN : zNl K = 8) (hT : zTr K = (some 0)) (s0 : Int) (s1 : Int) : zR K 58 [] [(0, s1), (11, s0)] (fX22_run_11_J58 s0 s1) := by
  refine r_nn E (fun hn9 => ?_)
  refine r_pb (fun hb10 => ?_)
  refine r_putN E zc_11 zt_1010 zo_1010 dX22_run_58 q786 zr_11 zw_X9 zp_1010 (znb hb10) (zfb hb10) hn9 ?_
  refine r_iconst E dX22_run_61 (zkI (by decide) (by decide)) ?_
  exact r_zreturn E rfl hT (by decide) dX22_run_62
theorem w_fX22_run_11_J41 {K : zK} (E : zE K cX22_run "RingHouse$Compare" (some .boolean) 7) (hN : zNl K = 8) (hT : zTr K = (some 0)) (x3 : Int) (x4 : Int) (x6 : Int) (s0 : Int) (s1 : Int) : zR K 41 [(3, 11, x3), (4, 1, x4), (6, 1, x6)] [(0, s1), (11, s0)] (fX22_run_11_J41 x3 x4 x6 s0 s1) := by
  refine r_nn E (fun hn7 => ?_)
  refine r_pb (fun hb8 => ?_)
  refine r_putN E zc_11 zt_1009 zo_1009 dX22_run_41 q782 zr_11 zw_X9 zp_1009 (znb hb8) (zfb hb8) hn7 ?_
  refine r_aload_n E dX22_run_44 rfl 0 rfl ?_
  refine r_lload E dX22_run_45 1 rfl ?_
  refine r_lload E dX22_run_47 2 rfl ?_
  refine r_lcmp_ge E 57 (by decide) dX22_run_49 dX22_run_50 (fun _ => ?_) (fun _ => ?_)
  · refine r_iconst E dX22_run_57 (zkI (by decide) (by decide)) ?_
    refine r_pick E [] rfl ?_
    exact w_fX22_run_11_J58 E hN hT x3 0
  · refine r_iconst E dX22_run_53 (zkI (by decide) (by decide)) ?_
    refine r_goto E 58 (by decide) dX22_run_54 ?_
    refine r_pick E [] rfl ?_
    exact w_fX22_run_11_J58 E hN hT x3 1
theorem w_fX22_run_11 {K : zK} (E : zE K cX22_run "RingHouse$Compare" (some .boolean) 7) (hN : zNl K = 8) (hT : zTr K = (some 0)) (x2 : Int) (x3 : Int) : zR K 0 [(0, 16, 11), (1, 14, 0), (2, 9, x2), (3, 11, x3)] [] (fX22_run_11 x2 x3) := by
  refine r_aload_n E dX22_run_0 rfl 1 rfl ?_
  refine r_callVN E [] [] rfl zc_14 zr_14 (fun o _ => ⟨_, zw_X12.1 o, rfl⟩) q2418 q2375 qs29 q239 q2376 dX22_run_1 zy_X12_value rfl (by omega) (by decide) (Nat.le_of_ble_eq_true rfl) (by decide) (fun l G => k_fX12_value l G) (fun v1 => ?_)
  refine r_if_ne E 9 (by decide) dX22_run_4 (fun _ => ?_) (fun _ => ?_)
  · refine r_aload_n E dX22_run_9 rfl 3 rfl ?_
    refine r_nn E (fun hn2 => ?_)
    refine r_getN E zc_11 zt_1000 dX22_run_10 q695 zr_11 (zg_1000 _) hn2 (fun v3 => ?_)
    refine r_callSN E [(1, v3)] [] rfl q2419 q2420 q227 q2421 dX22_run_13 zy_X0_signed rfl (by omega) (by decide) (Nat.le_of_ble_eq_true rfl) (fun l G => k_fX0_signed l G v3) (fun v4 => ?_)
    refine r_lstore (ls' := [(4, 1, v4), (0, 16, 11), (1, 14, 0), (2, 9, x2), (3, 11, x3)]) E dX22_run_16 (by rw [hN]; decide) rfl ?_
    refine r_aload_n E dX22_run_18 rfl 2 rfl ?_
    refine r_getN E zc_14 zt_1311 dX22_run_19 q1580 zr_14 (zg_1311 _) (by decide) (fun v5 => ?_)
    refine r_callSN E [(1, v5)] [] rfl q2419 q2420 q227 q2421 dX22_run_22 zy_X0_signed rfl (by omega) (by decide) (Nat.le_of_ble_eq_true rfl) (fun l G => k_fX0_signed l G v5) (fun v6 => ?_)
    refine r_lstore (ls' := [(6, 1, v6), (4, 1, v4), (0, 16, 11), (1, 14, 0), (2, 9, x2), (3, 11, x3)]) E dX22_run_25 (by rw [hN]; decide) rfl ?_
    refine r_aload_n E dX22_run_27 rfl 5 rfl ?_
    refine r_lload E dX22_run_28 1 rfl ?_
    refine r_lload E dX22_run_30 0 rfl ?_
    refine r_lcmp_ne E 40 (by decide) dX22_run_32 dX22_run_33 (fun _ => ?_) (fun _ => ?_)
    · refine r_iconst E dX22_run_40 (zkI (by decide) (by decide)) ?_
      refine r_pick E [5, 1, 0] rfl ?_
      exact w_fX22_run_11_J41 E hN hT x3 v4 v6 x3 0
    · refine r_iconst E dX22_run_36 (zkI (by decide) (by decide)) ?_
      refine r_goto E 41 (by decide) dX22_run_37 ?_
      refine r_pick E [5, 1, 0] rfl ?_
      exact w_fX22_run_11_J41 E hN hT x3 v4 v6 x3 1
  · refine r_iconst E dX22_run_7 (zkI (by decide) (by decide)) ?_
    exact r_zreturn E rfl hT (by decide) dX22_run_8
theorem k_fX22_run_11 (l : Launch) (G : zG) (x2 : Int) (x3 : Int) : zCt l G yX22_run cX22_run 8 (some .boolean) 7 [(16, 11), (14, 0), (9, x2), (11, x3)] (some 0) (fX22_run_11 x2 x3) := zCt.of (by decide) (Nat.le_of_ble_eq_true rfl) (fun K E _ _ hN hT => w_fX22_run_11 E hN hT x2 x3)
theorem dX9_tellHalf_0 : decode cX9_tellHalf 0 = .ok (.aload_n 0, 1) := by decide +kernel
theorem dX9_tellHalf_1 : decode cX9_tellHalf 1 = .ok (.iload_n 1, 1) := by decide +kernel
theorem dX9_tellHalf_2 : decode cX9_tellHalf 2 = .ok (.ifCond .ne 7, 3) := by decide +kernel
theorem dX9_tellHalf_5 : decode cX9_tellHalf 5 = .ok (.iconst 1, 1) := by decide +kernel
theorem dX9_tellHalf_6 : decode cX9_tellHalf 6 = .ok (.goto 4, 3) := by decide +kernel
theorem dX9_tellHalf_9 : decode cX9_tellHalf 9 = .ok (.iconst 0, 1) := by decide +kernel
theorem dX9_tellHalf_10 : decode cX9_tellHalf 10 = .ok (.putfield 37, 3) := by decide +kernel
theorem dX9_tellHalf_13 : decode cX9_tellHalf 13 = .ok (.aload_n 0, 1) := by decide +kernel
theorem dX9_tellHalf_14 : decode cX9_tellHalf 14 = .ok (.iload_n 1, 1) := by decide +kernel
theorem dX9_tellHalf_15 : decode cX9_tellHalf 15 = .ok (.bipush 17, 2) := by decide +kernel
theorem dX9_tellHalf_17 : decode cX9_tellHalf 17 = .ok (.ishr, 1) := by decide +kernel
theorem dX9_tellHalf_18 : decode cX9_tellHalf 18 = .ok (.iconst 1, 1) := by decide +kernel
theorem dX9_tellHalf_19 : decode cX9_tellHalf 19 = .ok (.if_icmp .ne 7, 3) := by decide +kernel
theorem dX9_tellHalf_22 : decode cX9_tellHalf 22 = .ok (.iconst 1, 1) := by decide +kernel
theorem dX9_tellHalf_23 : decode cX9_tellHalf 23 = .ok (.goto 4, 3) := by decide +kernel
theorem dX9_tellHalf_26 : decode cX9_tellHalf 26 = .ok (.iconst 0, 1) := by decide +kernel
theorem dX9_tellHalf_27 : decode cX9_tellHalf 27 = .ok (.putfield 41, 3) := by decide +kernel
theorem dX9_tellHalf_30 : decode cX9_tellHalf 30 = .ok (.return_, 1) := by decide +kernel
theorem zy_X9_tellHalf : yX9_tellHalf.cls ≠ "java/lang/invoke/MethodHandle" ∧ yX9_tellHalf.cls ≠ "java/lang/invoke/VarHandle" ∧ (parseMethodDescriptor yX9_tellHalf.desc).map (fun d => d.parameters.length) = some 1 := by decide +kernel
theorem w_fX9_tellHalf_J27 {K : zK} (E : zE K cX9_tellHalf "RingHouse$Registers" none 0) (hN : zNl K = 2) (hT : zTr K = none) (s0 : Int) (s1 : Int) : zR K 27 [] [(0, s1), (11, s0)] (fX9_tellHalf_J27 s0 s1) := by
  refine r_nn E (fun hn3 => ?_)
  refine r_pb (fun hb4 => ?_)
  refine r_put E zc_11 zt_1010 zo_1010 dX9_tellHalf_27 q787 zr_11 zw_X9 zp_1010 (znb hb4) (zfb hb4) hn3 ?_
  exact r_return E rfl hT dX9_tellHalf_30
theorem w_fX9_tellHalf_J10 {K : zK} (E : zE K cX9_tellHalf "RingHouse$Registers" none 0) (hN : zNl K = 2) (hT : zTr K = none) (x0 : Int) (x1 : Int) (s0 : Int) (s1 : Int) (h0 : 0 ≤ x0) : zR K 10 [(0, 11, x0), (1, 0, x1)] [(0, s1), (11, s0)] (fX9_tellHalf_J10 x0 x1 s0 s1) := by
  refine r_nn E (fun hn1 => ?_)
  refine r_pb (fun hb2 => ?_)
  refine r_put E zc_11 zt_1009 zo_1009 dX9_tellHalf_10 q783 zr_11 zw_X9 zp_1009 (znb hb2) (zfb hb2) hn1 ?_
  refine r_aload_n E dX9_tellHalf_13 rfl 0 rfl ?_
  refine r_iload_n E dX9_tellHalf_14 rfl 1 rfl ?_
  refine r_bipush E dX9_tellHalf_15 (by decide) (zkI (by decide) (by decide)) ?_
  refine r_ishr (P := 131072) E (by decide) dX9_tellHalf_17 ?_
  refine r_iconst E dX9_tellHalf_18 (zkI (by decide) (by decide)) ?_
  refine r_icmp_ne E 26 (by decide) dX9_tellHalf_19 (fun _ => ?_) (fun _ => ?_)
  · refine r_iconst E dX9_tellHalf_26 (zkI (by decide) (by decide)) ?_
    refine r_pick E [] rfl ?_
    exact w_fX9_tellHalf_J27 E hN hT x0 0
  · refine r_iconst E dX9_tellHalf_22 (zkI (by decide) (by decide)) ?_
    refine r_goto E 27 (by decide) dX9_tellHalf_23 ?_
    refine r_pick E [] rfl ?_
    exact w_fX9_tellHalf_J27 E hN hT x0 1
theorem w_fX9_tellHalf {K : zK} (E : zE K cX9_tellHalf "RingHouse$Registers" none 0) (hN : zNl K = 2) (hT : zTr K = none) (x0 : Int) (x1 : Int) (h0 : 0 ≤ x0) : zR K 0 [(0, 11, x0), (1, 0, x1)] [] (fX9_tellHalf x0 x1) := by
  refine r_aload_n E dX9_tellHalf_0 rfl 0 rfl ?_
  refine r_iload_n E dX9_tellHalf_1 rfl 1 rfl ?_
  refine r_if_ne E 9 (by decide) dX9_tellHalf_2 (fun _ => ?_) (fun _ => ?_)
  · refine r_iconst E dX9_tellHalf_9 (zkI (by decide) (by decide)) ?_
    exact w_fX9_tellHalf_J10 E hN hT x0 x1 x0 0 h0
  · refine r_iconst E dX9_tellHalf_5 (zkI (by decide) (by decide)) ?_
    refine r_goto E 10 (by decide) dX9_tellHalf_6 ?_
    exact w_fX9_tellHalf_J10 E hN hT x0 x1 x0 1 h0
theorem k_fX9_tellHalf (l : Launch) (G : zG) (x0 : Int) (x1 : Int) (h0 : 0 ≤ x0) : zCt l G yX9_tellHalf cX9_tellHalf 2 none 0 [(11, x0), (0, x1)] none (fX9_tellHalf x0 x1) := zCt.of (by decide) (Nat.le_of_ble_eq_true rfl) (fun K E _ _ hN hT => w_fX9_tellHalf E hN hT x0 x1 h0)
theorem dX23_run_0 : decode cX23_run 0 = .ok (.aload_n 1, 1) := by decide +kernel
theorem dX23_run_1 : decode cX23_run 1 = .ok (.invokevirtual 15, 3) := by decide +kernel
theorem dX23_run_4 : decode cX23_run 4 = .ok (.ifCond .ne 5, 3) := by decide +kernel
theorem dX23_run_7 : decode cX23_run 7 = .ok (.iconst 0, 1) := by decide +kernel
theorem dX23_run_8 : decode cX23_run 8 = .ok (.ireturn, 1) := by decide +kernel
theorem dX23_run_9 : decode cX23_run 9 = .ok (.aload_n 1, 1) := by decide +kernel
theorem dX23_run_10 : decode cX23_run 10 = .ok (.getfield 21, 3) := by decide +kernel
theorem dX23_run_13 : decode cX23_run 13 = .ok (.ldc2_w 24, 3) := by decide +kernel
theorem dX23_run_16 : decode cX23_run 16 = .ok (.land, 1) := by decide +kernel
theorem dX23_run_17 : decode cX23_run 17 = .ok (.l2i, 1) := by decide +kernel
theorem dX23_run_18 : decode cX23_run 18 = .ok (.istore 4, 2) := by decide +kernel
theorem dX23_run_20 : decode cX23_run 20 = .ok (.aload_n 3, 1) := by decide +kernel
theorem dX23_run_21 : decode cX23_run 21 = .ok (.getfield 26, 3) := by decide +kernel
theorem dX23_run_24 : decode cX23_run 24 = .ok (.aload_n 2, 1) := by decide +kernel
theorem dX23_run_25 : decode cX23_run 25 = .ok (.getfield 32, 3) := by decide +kernel
theorem dX23_run_28 : decode cX23_run 28 = .ok (.aload_n 0, 1) := by decide +kernel
theorem dX23_run_29 : decode cX23_run 29 = .ok (.getfield 9, 3) := by decide +kernel
theorem dX23_run_32 : decode cX23_run 32 = .ok (.ifCond .eq 21, 3) := by decide +kernel
theorem dX23_run_35 : decode cX23_run 35 = .ok (.aload_n 3, 1) := by decide +kernel
theorem dX23_run_36 : decode cX23_run 36 = .ok (.getfield 26, 3) := by decide +kernel
theorem dX23_run_39 : decode cX23_run 39 = .ok (.aload_n 2, 1) := by decide +kernel
theorem dX23_run_40 : decode cX23_run 40 = .ok (.getfield 32, 3) := by decide +kernel
theorem dX23_run_43 : decode cX23_run 43 = .ok (.iaload, 1) := by decide +kernel
theorem dX23_run_44 : decode cX23_run 44 = .ok (.iload 4, 2) := by decide +kernel
theorem dX23_run_46 : decode cX23_run 46 = .ok (.iadd, 1) := by decide +kernel
theorem dX23_run_47 : decode cX23_run 47 = .ok (.ldc 38, 2) := by decide +kernel
theorem dX23_run_49 : decode cX23_run 49 = .ok (.iand, 1) := by decide +kernel
theorem dX23_run_50 : decode cX23_run 50 = .ok (.goto 5, 3) := by decide +kernel
theorem dX23_run_53 : decode cX23_run 53 = .ok (.iload 4, 2) := by decide +kernel
theorem dX23_run_55 : decode cX23_run 55 = .ok (.iastore, 1) := by decide +kernel
theorem dX23_run_56 : decode cX23_run 56 = .ok (.aload_n 3, 1) := by decide +kernel
theorem dX23_run_57 : decode cX23_run 57 = .ok (.aload_n 3, 1) := by decide +kernel
theorem dX23_run_58 : decode cX23_run 58 = .ok (.getfield 26, 3) := by decide +kernel
theorem dX23_run_61 : decode cX23_run 61 = .ok (.aload_n 2, 1) := by decide +kernel
theorem dX23_run_62 : decode cX23_run 62 = .ok (.getfield 32, 3) := by decide +kernel
theorem dX23_run_65 : decode cX23_run 65 = .ok (.iaload, 1) := by decide +kernel
theorem dX23_run_66 : decode cX23_run 66 = .ok (.invokevirtual 39, 3) := by decide +kernel
theorem dX23_run_69 : decode cX23_run 69 = .ok (.iconst 1, 1) := by decide +kernel
theorem dX23_run_70 : decode cX23_run 70 = .ok (.ireturn, 1) := by decide +kernel
theorem zy_X23_run : yX23_run.cls ≠ "java/lang/invoke/MethodHandle" ∧ yX23_run.cls ≠ "java/lang/invoke/VarHandle" ∧ (parseMethodDescriptor yX23_run.desc).map (fun d => d.parameters.length) = some 3 := by decide +kernel
theorem w_fX23_run_12_J55 {K : zK} (E : zE K cX23_run "RingHouse$LoadHalf" (some .boolean) 7) (hN : zNl K = 5) (hT : zTr K = (some 0)) (x2 : Int) (x3 : Int) (s0 : Int) (s1 : Int) (s2 : Int) (hs0 : 0 ≤ s0) : zR K 55 [(2, 9, x2), (3, 11, x3)] [(0, s2), (0, s1), (1002, s0)] (fX23_run_12_J55 x2 x3 s0 s1 s2) := by
  refine r_iastore E zc_1002 za_1002 zt_1002 zo_1002 zx_1002 rfl rfl dX23_run_55 hs0 ?_
  refine r_aload_n E dX23_run_56 rfl 1 rfl ?_
  refine r_aload_n E dX23_run_57 rfl 1 rfl ?_
  refine r_nn E (fun hn7 => ?_)
  refine r_gecN (y := x3) E zc_11 dX23_run_58 q739 zr_11 (zh_1002 (by omega)) hn7 ?_
  refine r_aload_n E dX23_run_61 rfl 0 rfl ?_
  refine r_nn E (fun hn8 => ?_)
  refine r_getN E zc_9 zt_804 dX23_run_62 q648 zr_9 (zg_804 _) hn8 (fun v9 => ?_)
  refine r_iaload E zc_1002 za_1002 zt_1002 zx_1002 rfl rfl dX23_run_65 hn7 (fun v10 => ?_)
  refine r_callV E [(0, v10)] [] rfl zc_11 zr_11 (fun o _ => ⟨_, zw_X9.1 o, rfl⟩) (lw_V q2467 q2443 q2444 q236 q2445) dX23_run_66 zy_X9_tellHalf rfl (by omega) (by decide) (Nat.le_of_ble_eq_true rfl) hn7 (fun l G => k_fX9_tellHalf l G x3 v10 hn7) (fun _ => ?_)
  refine r_iconst E dX23_run_69 (zkI (by decide) (by decide)) ?_
  exact r_zreturn E rfl hT (by decide) dX23_run_70
theorem w_fX23_run_12 {K : zK} (E : zE K cX23_run "RingHouse$LoadHalf" (some .boolean) 7) (hN : zNl K = 5) (hT : zTr K = (some 0)) (x2 : Int) (x3 : Int) : zR K 0 [(0, 16, 12), (1, 14, 0), (2, 9, x2), (3, 11, x3)] [] (fX23_run_12 x2 x3) := by
  refine r_aload_n E dX23_run_0 rfl 1 rfl ?_
  refine r_callVN E [] [] rfl zc_14 zr_14 (fun o _ => ⟨_, zw_X12.1 o, rfl⟩) q2464 q2375 qs29 q239 q2376 dX23_run_1 zy_X12_value rfl (by omega) (by decide) (Nat.le_of_ble_eq_true rfl) (by decide) (fun l G => k_fX12_value l G) (fun v1 => ?_)
  refine r_if_ne E 9 (by decide) dX23_run_4 (fun _ => ?_) (fun _ => ?_)
  · refine r_aload_n E dX23_run_9 rfl 1 rfl ?_
    refine r_getN E zc_14 zt_1311 dX23_run_10 q1578 zr_14 (zg_1311 _) (by decide) (fun v2 => ?_)
    refine r_ldc2 (v := 262143) E dX23_run_13 q2465 (by decide) (zkJ (by decide) (by decide)) ?_
    refine r_lmask (P := 262144) E 18 (by decide) (by decide) (by decide) dX23_run_16 ?_
    refine r_l2i E dX23_run_17 ?_
    refine r_let E (fun v3 ev3 => ?_)
    refine r_istore (ls' := [(4, 0, v3), (0, 16, 12), (1, 14, 0), (2, 9, x2), (3, 11, x3)]) E dX23_run_18 (by rw [hN]; decide) rfl ?_
    refine r_aload_n E dX23_run_20 rfl 4 rfl ?_
    refine r_nn E (fun hn4 => ?_)
    refine r_gecN (y := x3) E zc_11 dX23_run_21 q739 zr_11 (zh_1002 (by omega)) hn4 ?_
    refine r_aload_n E dX23_run_24 rfl 3 rfl ?_
    refine r_nn E (fun hn5 => ?_)
    refine r_getN E zc_9 zt_804 dX23_run_25 q648 zr_9 (zg_804 _) hn5 (fun v6 => ?_)
    refine r_aload_n E dX23_run_28 rfl 1 rfl ?_
    refine r_gec (y := 0) E zc_16 dX23_run_29 q1146 zr_16 (zh_16_12_3) (by decide) ?_
    refine r_litT (hdec := inferInstance) (P := (0 : Int) = (0 : Int)) (by decide) ?_
    refine r_if_eq E 53 (by decide) dX23_run_32 (fun _ => ?_) (fun _ => r_no E)
    refine r_iload E dX23_run_53 0 rfl ?_
    refine r_pick E [3, 4] rfl ?_
    exact w_fX23_run_12_J55 E hN hT x2 x3 x3 v6 v3 hn4
  · refine r_iconst E dX23_run_7 (zkI (by decide) (by decide)) ?_
    exact r_zreturn E rfl hT (by decide) dX23_run_8
theorem k_fX23_run_12 (l : Launch) (G : zG) (x2 : Int) (x3 : Int) : zCt l G yX23_run cX23_run 5 (some .boolean) 7 [(16, 12), (14, 0), (9, x2), (11, x3)] (some 0) (fX23_run_12 x2 x3) := zCt.of (by decide) (Nat.le_of_ble_eq_true rfl) (fun K E _ _ hN hT => w_fX23_run_12 E hN hT x2 x3)
theorem w_fX23_run_13_J55 {K : zK} (E : zE K cX23_run "RingHouse$LoadHalf" (some .boolean) 7) (hN : zNl K = 5) (hT : zTr K = (some 0)) (x2 : Int) (x3 : Int) (s0 : Int) (s1 : Int) (s2 : Int) (hs0 : 0 ≤ s0) : zR K 55 [(2, 9, x2), (3, 11, x3)] [(0, s2), (0, s1), (1002, s0)] (fX23_run_13_J55 x2 x3 s0 s1 s2) := by
  refine r_iastore E zc_1002 za_1002 zt_1002 zo_1002 zx_1002 rfl rfl dX23_run_55 hs0 ?_
  refine r_aload_n E dX23_run_56 rfl 1 rfl ?_
  refine r_aload_n E dX23_run_57 rfl 1 rfl ?_
  refine r_nn E (fun hn9 => ?_)
  refine r_gecN (y := x3) E zc_11 dX23_run_58 q739 zr_11 (zh_1002 (by omega)) hn9 ?_
  refine r_aload_n E dX23_run_61 rfl 0 rfl ?_
  refine r_nn E (fun hn10 => ?_)
  refine r_getN E zc_9 zt_804 dX23_run_62 q648 zr_9 (zg_804 _) hn10 (fun v11 => ?_)
  refine r_iaload E zc_1002 za_1002 zt_1002 zx_1002 rfl rfl dX23_run_65 hn9 (fun v12 => ?_)
  refine r_callV E [(0, v12)] [] rfl zc_11 zr_11 (fun o _ => ⟨_, zw_X9.1 o, rfl⟩) (lw_V q2467 q2443 q2444 q236 q2445) dX23_run_66 zy_X9_tellHalf rfl (by omega) (by decide) (Nat.le_of_ble_eq_true rfl) hn9 (fun l G => k_fX9_tellHalf l G x3 v12 hn9) (fun _ => ?_)
  refine r_iconst E dX23_run_69 (zkI (by decide) (by decide)) ?_
  exact r_zreturn E rfl hT (by decide) dX23_run_70
theorem w_fX23_run_13 {K : zK} (E : zE K cX23_run "RingHouse$LoadHalf" (some .boolean) 7) (hN : zNl K = 5) (hT : zTr K = (some 0)) (x2 : Int) (x3 : Int) : zR K 0 [(0, 16, 13), (1, 14, 0), (2, 9, x2), (3, 11, x3)] [] (fX23_run_13 x2 x3) := by
  refine r_aload_n E dX23_run_0 rfl 1 rfl ?_
  refine r_callVN E [] [] rfl zc_14 zr_14 (fun o _ => ⟨_, zw_X12.1 o, rfl⟩) q2464 q2375 qs29 q239 q2376 dX23_run_1 zy_X12_value rfl (by omega) (by decide) (Nat.le_of_ble_eq_true rfl) (by decide) (fun l G => k_fX12_value l G) (fun v1 => ?_)
  refine r_if_ne E 9 (by decide) dX23_run_4 (fun _ => ?_) (fun _ => ?_)
  · refine r_aload_n E dX23_run_9 rfl 1 rfl ?_
    refine r_getN E zc_14 zt_1311 dX23_run_10 q1578 zr_14 (zg_1311 _) (by decide) (fun v2 => ?_)
    refine r_ldc2 (v := 262143) E dX23_run_13 q2465 (by decide) (zkJ (by decide) (by decide)) ?_
    refine r_lmask (P := 262144) E 18 (by decide) (by decide) (by decide) dX23_run_16 ?_
    refine r_l2i E dX23_run_17 ?_
    refine r_let E (fun v3 ev3 => ?_)
    refine r_istore (ls' := [(4, 0, v3), (0, 16, 13), (1, 14, 0), (2, 9, x2), (3, 11, x3)]) E dX23_run_18 (by rw [hN]; decide) rfl ?_
    refine r_aload_n E dX23_run_20 rfl 4 rfl ?_
    refine r_nn E (fun hn4 => ?_)
    refine r_gecN (y := x3) E zc_11 dX23_run_21 q739 zr_11 (zh_1002 (by omega)) hn4 ?_
    refine r_aload_n E dX23_run_24 rfl 3 rfl ?_
    refine r_nn E (fun hn5 => ?_)
    refine r_getN E zc_9 zt_804 dX23_run_25 q648 zr_9 (zg_804 _) hn5 (fun v6 => ?_)
    refine r_aload_n E dX23_run_28 rfl 1 rfl ?_
    refine r_gec (y := 1) E zc_16 dX23_run_29 q1146 zr_16 (zh_16_13_3) (by decide) ?_
    refine r_litF (hdec := inferInstance) (P := (1 : Int) = (0 : Int)) (by decide) ?_
    refine r_if_eq E 53 (by decide) dX23_run_32 (fun _ => r_no E) (fun _ => ?_)
    refine r_aload_n E dX23_run_35 rfl 4 rfl ?_
    refine r_gecN (y := x3) E zc_11 dX23_run_36 q739 zr_11 (zh_1002 (by omega)) hn4 ?_
    refine r_aload_n E dX23_run_39 rfl 3 rfl ?_
    refine r_getN E zc_9 zt_804 dX23_run_40 q648 zr_9 (zg_804 _) hn5 (fun v7 => ?_)
    refine r_iaload E zc_1002 za_1002 zt_1002 zx_1002 rfl rfl dX23_run_43 hn4 (fun v8 => ?_)
    refine r_iload E dX23_run_44 0 rfl ?_
    refine r_iadd E dX23_run_46 ?_
    refine r_ldc (v := 262143) E dX23_run_47 q2466 (by decide) (zkI (by decide) (by decide)) ?_
    refine r_imask (P := 262144) E 18 (by decide) (by decide) (by decide) dX23_run_49 ?_
    refine r_goto E 55 (by decide) dX23_run_50 ?_
    refine r_pick E [3, 4] rfl ?_
    exact w_fX23_run_13_J55 E hN hT x2 x3 x3 v6 ((zi (v8 + v3)) % 262144) hn4
  · refine r_iconst E dX23_run_7 (zkI (by decide) (by decide)) ?_
    exact r_zreturn E rfl hT (by decide) dX23_run_8
theorem k_fX23_run_13 (l : Launch) (G : zG) (x2 : Int) (x3 : Int) : zCt l G yX23_run cX23_run 5 (some .boolean) 7 [(16, 13), (14, 0), (9, x2), (11, x3)] (some 0) (fX23_run_13 x2 x3) := zCt.of (by decide) (Nat.le_of_ble_eq_true rfl) (fun K E _ _ hN hT => w_fX23_run_13 E hN hT x2 x3)
theorem dX12_store_0 : decode cX12_store 0 = .ok (.iload_n 1, 1) := by decide +kernel
theorem dX12_store_1 : decode cX12_store 1 = .ok (.bipush 8, 2) := by decide +kernel
theorem dX12_store_3 : decode cX12_store 3 = .ok (.if_icmp .ge 21, 3) := by decide +kernel
theorem dX12_store_6 : decode cX12_store 6 = .ok (.aload_n 0, 1) := by decide +kernel
theorem dX12_store_7 : decode cX12_store 7 = .ok (.getfield 246, 3) := by decide +kernel
theorem dX12_store_10 : decode cX12_store 10 = .ok (.getfield 307, 3) := by decide +kernel
theorem dX12_store_13 : decode cX12_store 13 = .ok (.bipush 64, 2) := by decide +kernel
theorem dX12_store_15 : decode cX12_store 15 = .ok (.iload_n 1, 1) := by decide +kernel
theorem dX12_store_16 : decode cX12_store 16 = .ok (.imul, 1) := by decide +kernel
theorem dX12_store_17 : decode cX12_store 17 = .ok (.iload_n 2, 1) := by decide +kernel
theorem dX12_store_18 : decode cX12_store 18 = .ok (.iadd, 1) := by decide +kernel
theorem dX12_store_19 : decode cX12_store 19 = .ok (.lload_n 3, 1) := by decide +kernel
theorem dX12_store_20 : decode cX12_store 20 = .ok (.lastore, 1) := by decide +kernel
theorem dX12_store_21 : decode cX12_store 21 = .ok (.goto 21, 3) := by decide +kernel
theorem dX12_store_24 : decode cX12_store 24 = .ok (.aload_n 0, 1) := by decide +kernel
theorem dX12_store_25 : decode cX12_store 25 = .ok (.getfield 24, 3) := by decide +kernel
theorem dX12_store_28 : decode cX12_store 28 = .ok (.aload_n 0, 1) := by decide +kernel
theorem dX12_store_29 : decode cX12_store 29 = .ok (.getfield 246, 3) := by decide +kernel
theorem dX12_store_32 : decode cX12_store 32 = .ok (.getfield 276, 3) := by decide +kernel
theorem dX12_store_35 : decode cX12_store 35 = .ok (.iload_n 1, 1) := by decide +kernel
theorem dX12_store_36 : decode cX12_store 36 = .ok (.aaload, 1) := by decide +kernel
theorem dX12_store_37 : decode cX12_store 37 = .ok (.iload_n 2, 1) := by decide +kernel
theorem dX12_store_38 : decode cX12_store 38 = .ok (.lload_n 3, 1) := by decide +kernel
theorem dX12_store_39 : decode cX12_store 39 = .ok (.invokevirtual 317, 3) := by decide +kernel
theorem dX12_store_42 : decode cX12_store 42 = .ok (.return_, 1) := by decide +kernel
theorem zy_X12_store : yX12_store.cls ≠ "java/lang/invoke/MethodHandle" ∧ yX12_store.cls ≠ "java/lang/invoke/VarHandle" ∧ (parseMethodDescriptor yX12_store.desc).map (fun d => d.parameters.length) = some 3 := by decide +kernel
theorem w_fX12_store {K : zK} (E : zE K cX12_store "RingHouse$Machine" none 2) (hN : zNl K = 5) (hT : zTr K = none) (x1 : Int) (x2 : Int) (x3 : Int) : zR K 0 [(0, 14, 0), (1, 0, x1), (2, 0, x2), (3, 1, x3)] [] (fX12_store x1 x2 x3) := by
  refine r_iload_n E dX12_store_0 rfl 1 rfl ?_
  refine r_bipush E dX12_store_1 (by decide) (zkI (by decide) (by decide)) ?_
  refine r_icmp_ge E 24 (by decide) dX12_store_3 (fun _ => ?_) (fun _ => ?_)
  · refine r_aload_n E dX12_store_24 rfl 0 rfl ?_
    refine r_gec (y := 0) E zc_14 dX12_store_25 q1526 zr_14 (zh_1300 (by decide)) (by decide) ?_
    refine r_aload_n E dX12_store_28 rfl 0 rfl ?_
    refine r_get E zc_14 zt_1307 dX12_store_29 q1550 zr_14 (zg_1307 _) (by decide) (fun v1 => ?_)
    refine r_nn E (fun hn2 => ?_)
    refine r_gecN (y := v1) E zc_10 dX12_store_32 q913 zr_10 (zh_916 (by omega)) hn2 ?_
    refine r_iload_n E dX12_store_35 rfl 1 rfl ?_
    refine r_aaload E zc_916 za_916 zt_916 zx_916 rfl rfl dX12_store_36 hn2 (fun v3 => ?_)
    refine r_iload_n E dX12_store_37 rfl 2 rfl ?_
    refine r_lload_n E dX12_store_38 rfl 3 rfl ?_
    refine r_callV E [(6, v3), (0, x2), (1, x3)] [] rfl zc_3 zr_3 (fun o _ => ⟨_, zw_X1.1 o, rfl⟩) (lw_V q2365 q2098 q2099 q228 q2100) dX12_store_39 zy_X1_put rfl (by omega) (by decide) (Nat.le_of_ble_eq_true rfl) (by decide) (fun l G => k_fX1_put l G v3 x2 x3) (fun _ => ?_)
    exact r_return E rfl hT dX12_store_42
  · refine r_aload_n E dX12_store_6 rfl 0 rfl ?_
    refine r_get E zc_14 zt_1307 dX12_store_7 q1550 zr_14 (zg_1307 _) (by decide) (fun v5 => ?_)
    refine r_nn E (fun hn6 => ?_)
    refine r_gecN (y := v5) E zc_10 dX12_store_10 q908 zr_10 (zh_915 (by omega)) hn6 ?_
    refine r_bipush E dX12_store_13 (by decide) (zkI (by decide) (by decide)) ?_
    refine r_iload_n E dX12_store_15 rfl 1 rfl ?_
    refine r_imul E dX12_store_16 ?_
    refine r_iload_n E dX12_store_17 rfl 2 rfl ?_
    refine r_iadd E dX12_store_18 ?_
    refine r_lload_n E dX12_store_19 rfl 3 rfl ?_
    refine r_lastore E zc_915 za_915 zt_915 zo_915 zx_915 rfl rfl dX12_store_20 hn6 ?_
    refine r_goto E 42 (by decide) dX12_store_21 ?_
    exact r_return E rfl hT dX12_store_42
theorem k_fX12_store (l : Launch) (G : zG) (x1 : Int) (x2 : Int) (x3 : Int) : zCt l G yX12_store cX12_store 5 none 2 [(14, 0), (0, x1), (0, x2), (1, x3)] none (fX12_store x1 x2 x3) := zCt.of (by decide) (Nat.le_of_ble_eq_true rfl) (fun K E _ _ hN hT => w_fX12_store E hN hT x1 x2 x3)
theorem dX24_run_0 : decode cX24_run 0 = .ok (.aload_n 1, 1) := by decide +kernel
theorem dX24_run_1 : decode cX24_run 1 = .ok (.aload_n 1, 1) := by decide +kernel
theorem dX24_run_2 : decode cX24_run 2 = .ok (.getfield 15, 3) := by decide +kernel
theorem dX24_run_5 : decode cX24_run 5 = .ok (.aload_n 1, 1) := by decide +kernel
theorem dX24_run_6 : decode cX24_run 6 = .ok (.getfield 20, 3) := by decide +kernel
theorem dX24_run_9 : decode cX24_run 9 = .ok (.aload_n 1, 1) := by decide +kernel
theorem dX24_run_10 : decode cX24_run 10 = .ok (.getfield 23, 3) := by decide +kernel
theorem dX24_run_13 : decode cX24_run 13 = .ok (.iconst 4, 1) := by decide +kernel
theorem dX24_run_14 : decode cX24_run 14 = .ok (.invokevirtual 26, 3) := by decide +kernel
theorem dX24_run_17 : decode cX24_run 17 = .ok (.ifCond .ne 5, 3) := by decide +kernel
theorem dX24_run_20 : decode cX24_run 20 = .ok (.iconst 0, 1) := by decide +kernel
theorem dX24_run_21 : decode cX24_run 21 = .ok (.ireturn, 1) := by decide +kernel
theorem dX24_run_22 : decode cX24_run 22 = .ok (.aload_n 1, 1) := by decide +kernel
theorem dX24_run_23 : decode cX24_run 23 = .ok (.aload_n 1, 1) := by decide +kernel
theorem dX24_run_24 : decode cX24_run 24 = .ok (.getfield 15, 3) := by decide +kernel
theorem dX24_run_27 : decode cX24_run 27 = .ok (.aload_n 1, 1) := by decide +kernel
theorem dX24_run_28 : decode cX24_run 28 = .ok (.getfield 20, 3) := by decide +kernel
theorem dX24_run_31 : decode cX24_run 31 = .ok (.aload_n 0, 1) := by decide +kernel
theorem dX24_run_32 : decode cX24_run 32 = .ok (.getfield 9, 3) := by decide +kernel
theorem dX24_run_35 : decode cX24_run 35 = .ok (.ifCond .ne 10, 3) := by decide +kernel
theorem dX24_run_38 : decode cX24_run 38 = .ok (.aload_n 3, 1) := by decide +kernel
theorem dX24_run_39 : decode cX24_run 39 = .ok (.getfield 30, 3) := by decide +kernel
theorem dX24_run_42 : decode cX24_run 42 = .ok (.goto 47, 3) := by decide +kernel
theorem dX24_run_45 : decode cX24_run 45 = .ok (.aload_n 0, 1) := by decide +kernel
theorem dX24_run_46 : decode cX24_run 46 = .ok (.getfield 9, 3) := by decide +kernel
theorem dX24_run_49 : decode cX24_run 49 = .ok (.iconst 1, 1) := by decide +kernel
theorem dX24_run_50 : decode cX24_run 50 = .ok (.if_icmp .ne 10, 3) := by decide +kernel
theorem dX24_run_53 : decode cX24_run 53 = .ok (.aload_n 3, 1) := by decide +kernel
theorem dX24_run_54 : decode cX24_run 54 = .ok (.getfield 36, 3) := by decide +kernel
theorem dX24_run_57 : decode cX24_run 57 = .ok (.goto 32, 3) := by decide +kernel
theorem dX24_run_60 : decode cX24_run 60 = .ok (.aload_n 0, 1) := by decide +kernel
theorem dX24_run_61 : decode cX24_run 61 = .ok (.getfield 9, 3) := by decide +kernel
theorem dX24_run_64 : decode cX24_run 64 = .ok (.iconst 2, 1) := by decide +kernel
theorem dX24_run_65 : decode cX24_run 65 = .ok (.if_icmp .ne 16, 3) := by decide +kernel
theorem dX24_run_68 : decode cX24_run 68 = .ok (.aload_n 3, 1) := by decide +kernel
theorem dX24_run_69 : decode cX24_run 69 = .ok (.getfield 39, 3) := by decide +kernel
theorem dX24_run_72 : decode cX24_run 72 = .ok (.aload_n 2, 1) := by decide +kernel
theorem dX24_run_73 : decode cX24_run 73 = .ok (.getfield 43, 3) := by decide +kernel
theorem dX24_run_76 : decode cX24_run 76 = .ok (.iaload, 1) := by decide +kernel
theorem dX24_run_77 : decode cX24_run 77 = .ok (.i2l, 1) := by decide +kernel
theorem dX24_run_78 : decode cX24_run 78 = .ok (.goto 11, 3) := by decide +kernel
theorem dX24_run_81 : decode cX24_run 81 = .ok (.aload_n 3, 1) := by decide +kernel
theorem dX24_run_82 : decode cX24_run 82 = .ok (.aload_n 2, 1) := by decide +kernel
theorem dX24_run_83 : decode cX24_run 83 = .ok (.getfield 43, 3) := by decide +kernel
theorem dX24_run_86 : decode cX24_run 86 = .ok (.invokevirtual 48, 3) := by decide +kernel
theorem dX24_run_89 : decode cX24_run 89 = .ok (.invokevirtual 52, 3) := by decide +kernel
theorem dX24_run_92 : decode cX24_run 92 = .ok (.iconst 1, 1) := by decide +kernel
theorem dX24_run_93 : decode cX24_run 93 = .ok (.ireturn, 1) := by decide +kernel
theorem zy_X24_run : yX24_run.cls ≠ "java/lang/invoke/MethodHandle" ∧ yX24_run.cls ≠ "java/lang/invoke/VarHandle" ∧ (parseMethodDescriptor yX24_run.desc).map (fun d => d.parameters.length) = some 3 := by decide +kernel
theorem w_fX24_run_14_J89 {K : zK} (E : zE K cX24_run "RingHouse$Keep" (some .boolean) 6) (hN : zNl K = 4) (hT : zTr K = (some 0)) (s1 : Int) (s2 : Int) (s3 : Int) : zR K 89 [] [(1, s3), (0, s2), (0, s1), (14, 0)] (fX24_run_14_J89 s1 s2 s3) := by
  refine r_callVN E [(0, s1), (0, s2), (1, s3)] [] rfl zc_14 zr_14 (fun o _ => ⟨_, zw_X12.1 o, rfl⟩) q2455 q2363 qs28 q239 q2364 dX24_run_89 zy_X12_store rfl (by omega) (by decide) (Nat.le_of_ble_eq_true rfl) (by decide) (fun l G => k_fX12_store l G s1 s2 s3) (fun _ => ?_)
  refine r_iconst E dX24_run_92 (zkI (by decide) (by decide)) ?_
  exact r_zreturn E rfl hT (by decide) dX24_run_93
theorem w_fX24_run_14 {K : zK} (E : zE K cX24_run "RingHouse$Keep" (some .boolean) 6) (hN : zNl K = 4) (hT : zTr K = (some 0)) (x2 : Int) (x3 : Int) : zR K 0 [(0, 16, 14), (1, 14, 0), (2, 9, x2), (3, 11, x3)] [] (fX24_run_14 x2 x3) := by
  refine r_aload_n E dX24_run_0 rfl 1 rfl ?_
  refine r_aload_n E dX24_run_1 rfl 1 rfl ?_
  refine r_getN E zc_14 zt_1308 dX24_run_2 q1555 zr_14 (zg_1308 _) (by decide) (fun v1 => ?_)
  refine r_aload_n E dX24_run_5 rfl 1 rfl ?_
  refine r_getN E zc_14 zt_1309 dX24_run_6 q1563 zr_14 (zg_1309 _) (by decide) (fun v2 => ?_)
  refine r_aload_n E dX24_run_9 rfl 1 rfl ?_
  refine r_getN E zc_14 zt_1310 dX24_run_10 q1573 zr_14 (zg_1310 _) (by decide) (fun v3 => ?_)
  refine r_iconst E dX24_run_13 (zkI (by decide) (by decide)) ?_
  refine r_callVN E [(0, v1), (0, v2), (0, v3), (0, 4)] [] rfl zc_14 zr_14 (fun o _ => ⟨_, zw_X12.1 o, rfl⟩) q2449 q2203 qs13 q239 q2204 dX24_run_14 zy_X12_may rfl (by omega) (by decide) (Nat.le_of_ble_eq_true rfl) (by decide) (fun l G => k_fX12_may l G v1 v2 v3 4) (fun v4 => ?_)
  refine r_if_ne E 22 (by decide) dX24_run_17 (fun _ => ?_) (fun _ => ?_)
  · refine r_aload_n E dX24_run_22 rfl 1 rfl ?_
    refine r_aload_n E dX24_run_23 rfl 1 rfl ?_
    refine r_getN E zc_14 zt_1308 dX24_run_24 q1555 zr_14 (zg_1308 _) (by decide) (fun v5 => ?_)
    refine r_aload_n E dX24_run_27 rfl 1 rfl ?_
    refine r_getN E zc_14 zt_1309 dX24_run_28 q1563 zr_14 (zg_1309 _) (by decide) (fun v6 => ?_)
    refine r_aload_n E dX24_run_31 rfl 0 rfl ?_
    refine r_gec (y := 0) E zc_16 dX24_run_32 q1161 zr_16 (zh_16_14_3) (by decide) ?_
    refine r_litF (hdec := inferInstance) (P := ¬ (0 : Int) = (0 : Int)) (by decide) ?_
    refine r_if_ne E 45 (by decide) dX24_run_35 (fun _ => r_no E) (fun _ => ?_)
    refine r_aload_n E dX24_run_38 rfl 3 rfl ?_
    refine r_nn E (fun hn7 => ?_)
    refine r_getN E zc_11 zt_1000 dX24_run_39 q705 zr_11 (zg_1000 _) hn7 (fun v8 => ?_)
    refine r_goto E 89 (by decide) dX24_run_42 ?_
    refine r_pick E [] rfl ?_
    exact w_fX24_run_14_J89 E hN hT v5 v6 v8
  · refine r_iconst E dX24_run_20 (zkI (by decide) (by decide)) ?_
    exact r_zreturn E rfl hT (by decide) dX24_run_21
theorem k_fX24_run_14 (l : Launch) (G : zG) (x2 : Int) (x3 : Int) : zCt l G yX24_run cX24_run 4 (some .boolean) 6 [(16, 14), (14, 0), (9, x2), (11, x3)] (some 0) (fX24_run_14 x2 x3) := zCt.of (by decide) (Nat.le_of_ble_eq_true rfl) (fun K E _ _ hN hT => w_fX24_run_14 E hN hT x2 x3)
theorem w_fX24_run_15_J89 {K : zK} (E : zE K cX24_run "RingHouse$Keep" (some .boolean) 6) (hN : zNl K = 4) (hT : zTr K = (some 0)) (s1 : Int) (s2 : Int) (s3 : Int) : zR K 89 [] [(1, s3), (0, s2), (0, s1), (14, 0)] (fX24_run_15_J89 s1 s2 s3) := by
  refine r_callVN E [(0, s1), (0, s2), (1, s3)] [] rfl zc_14 zr_14 (fun o _ => ⟨_, zw_X12.1 o, rfl⟩) q2455 q2363 qs28 q239 q2364 dX24_run_89 zy_X12_store rfl (by omega) (by decide) (Nat.le_of_ble_eq_true rfl) (by decide) (fun l G => k_fX12_store l G s1 s2 s3) (fun _ => ?_)
  refine r_iconst E dX24_run_92 (zkI (by decide) (by decide)) ?_
  exact r_zreturn E rfl hT (by decide) dX24_run_93
theorem w_fX24_run_15 {K : zK} (E : zE K cX24_run "RingHouse$Keep" (some .boolean) 6) (hN : zNl K = 4) (hT : zTr K = (some 0)) (x2 : Int) (x3 : Int) : zR K 0 [(0, 16, 15), (1, 14, 0), (2, 9, x2), (3, 11, x3)] [] (fX24_run_15 x2 x3) := by
  refine r_aload_n E dX24_run_0 rfl 1 rfl ?_
  refine r_aload_n E dX24_run_1 rfl 1 rfl ?_
  refine r_getN E zc_14 zt_1308 dX24_run_2 q1555 zr_14 (zg_1308 _) (by decide) (fun v1 => ?_)
  refine r_aload_n E dX24_run_5 rfl 1 rfl ?_
  refine r_getN E zc_14 zt_1309 dX24_run_6 q1563 zr_14 (zg_1309 _) (by decide) (fun v2 => ?_)
  refine r_aload_n E dX24_run_9 rfl 1 rfl ?_
  refine r_getN E zc_14 zt_1310 dX24_run_10 q1573 zr_14 (zg_1310 _) (by decide) (fun v3 => ?_)
  refine r_iconst E dX24_run_13 (zkI (by decide) (by decide)) ?_
  refine r_callVN E [(0, v1), (0, v2), (0, v3), (0, 4)] [] rfl zc_14 zr_14 (fun o _ => ⟨_, zw_X12.1 o, rfl⟩) q2449 q2203 qs13 q239 q2204 dX24_run_14 zy_X12_may rfl (by omega) (by decide) (Nat.le_of_ble_eq_true rfl) (by decide) (fun l G => k_fX12_may l G v1 v2 v3 4) (fun v4 => ?_)
  refine r_if_ne E 22 (by decide) dX24_run_17 (fun _ => ?_) (fun _ => ?_)
  · refine r_aload_n E dX24_run_22 rfl 1 rfl ?_
    refine r_aload_n E dX24_run_23 rfl 1 rfl ?_
    refine r_getN E zc_14 zt_1308 dX24_run_24 q1555 zr_14 (zg_1308 _) (by decide) (fun v5 => ?_)
    refine r_aload_n E dX24_run_27 rfl 1 rfl ?_
    refine r_getN E zc_14 zt_1309 dX24_run_28 q1563 zr_14 (zg_1309 _) (by decide) (fun v6 => ?_)
    refine r_aload_n E dX24_run_31 rfl 0 rfl ?_
    refine r_gec (y := 1) E zc_16 dX24_run_32 q1161 zr_16 (zh_16_15_3) (by decide) ?_
    refine r_litT (hdec := inferInstance) (P := ¬ (1 : Int) = (0 : Int)) (by decide) ?_
    refine r_if_ne E 45 (by decide) dX24_run_35 (fun _ => ?_) (fun _ => r_no E)
    refine r_aload_n E dX24_run_45 rfl 0 rfl ?_
    refine r_gec (y := 1) E zc_16 dX24_run_46 q1161 zr_16 (zh_16_15_3) (by decide) ?_
    refine r_iconst E dX24_run_49 (zkI (by decide) (by decide)) ?_
    refine r_litF (hdec := inferInstance) (P := ¬ (1 : Int) = (1 : Int)) (by decide) ?_
    refine r_icmp_ne E 60 (by decide) dX24_run_50 (fun _ => r_no E) (fun _ => ?_)
    refine r_aload_n E dX24_run_53 rfl 3 rfl ?_
    refine r_nn E (fun hn7 => ?_)
    refine r_getN E zc_11 zt_1001 dX24_run_54 q725 zr_11 (zg_1001 _) hn7 (fun v8 => ?_)
    refine r_goto E 89 (by decide) dX24_run_57 ?_
    refine r_pick E [] rfl ?_
    exact w_fX24_run_15_J89 E hN hT v5 v6 v8
  · refine r_iconst E dX24_run_20 (zkI (by decide) (by decide)) ?_
    exact r_zreturn E rfl hT (by decide) dX24_run_21
theorem k_fX24_run_15 (l : Launch) (G : zG) (x2 : Int) (x3 : Int) : zCt l G yX24_run cX24_run 4 (some .boolean) 6 [(16, 15), (14, 0), (9, x2), (11, x3)] (some 0) (fX24_run_15 x2 x3) := zCt.of (by decide) (Nat.le_of_ble_eq_true rfl) (fun K E _ _ hN hT => w_fX24_run_15 E hN hT x2 x3)
theorem w_fX24_run_16_J89 {K : zK} (E : zE K cX24_run "RingHouse$Keep" (some .boolean) 6) (hN : zNl K = 4) (hT : zTr K = (some 0)) (s1 : Int) (s2 : Int) (s3 : Int) : zR K 89 [] [(1, s3), (0, s2), (0, s1), (14, 0)] (fX24_run_16_J89 s1 s2 s3) := by
  refine r_callVN E [(0, s1), (0, s2), (1, s3)] [] rfl zc_14 zr_14 (fun o _ => ⟨_, zw_X12.1 o, rfl⟩) q2455 q2363 qs28 q239 q2364 dX24_run_89 zy_X12_store rfl (by omega) (by decide) (Nat.le_of_ble_eq_true rfl) (by decide) (fun l G => k_fX12_store l G s1 s2 s3) (fun _ => ?_)
  refine r_iconst E dX24_run_92 (zkI (by decide) (by decide)) ?_
  exact r_zreturn E rfl hT (by decide) dX24_run_93
theorem w_fX24_run_16 {K : zK} (E : zE K cX24_run "RingHouse$Keep" (some .boolean) 6) (hN : zNl K = 4) (hT : zTr K = (some 0)) (x2 : Int) (x3 : Int) : zR K 0 [(0, 16, 16), (1, 14, 0), (2, 9, x2), (3, 11, x3)] [] (fX24_run_16 x2 x3) := by
  refine r_aload_n E dX24_run_0 rfl 1 rfl ?_
  refine r_aload_n E dX24_run_1 rfl 1 rfl ?_
  refine r_getN E zc_14 zt_1308 dX24_run_2 q1555 zr_14 (zg_1308 _) (by decide) (fun v1 => ?_)
  refine r_aload_n E dX24_run_5 rfl 1 rfl ?_
  refine r_getN E zc_14 zt_1309 dX24_run_6 q1563 zr_14 (zg_1309 _) (by decide) (fun v2 => ?_)
  refine r_aload_n E dX24_run_9 rfl 1 rfl ?_
  refine r_getN E zc_14 zt_1310 dX24_run_10 q1573 zr_14 (zg_1310 _) (by decide) (fun v3 => ?_)
  refine r_iconst E dX24_run_13 (zkI (by decide) (by decide)) ?_
  refine r_callVN E [(0, v1), (0, v2), (0, v3), (0, 4)] [] rfl zc_14 zr_14 (fun o _ => ⟨_, zw_X12.1 o, rfl⟩) q2449 q2203 qs13 q239 q2204 dX24_run_14 zy_X12_may rfl (by omega) (by decide) (Nat.le_of_ble_eq_true rfl) (by decide) (fun l G => k_fX12_may l G v1 v2 v3 4) (fun v4 => ?_)
  refine r_if_ne E 22 (by decide) dX24_run_17 (fun _ => ?_) (fun _ => ?_)
  · refine r_aload_n E dX24_run_22 rfl 1 rfl ?_
    refine r_aload_n E dX24_run_23 rfl 1 rfl ?_
    refine r_getN E zc_14 zt_1308 dX24_run_24 q1555 zr_14 (zg_1308 _) (by decide) (fun v5 => ?_)
    refine r_aload_n E dX24_run_27 rfl 1 rfl ?_
    refine r_getN E zc_14 zt_1309 dX24_run_28 q1563 zr_14 (zg_1309 _) (by decide) (fun v6 => ?_)
    refine r_aload_n E dX24_run_31 rfl 0 rfl ?_
    refine r_gec (y := 2) E zc_16 dX24_run_32 q1161 zr_16 (zh_16_16_3) (by decide) ?_
    refine r_litT (hdec := inferInstance) (P := ¬ (2 : Int) = (0 : Int)) (by decide) ?_
    refine r_if_ne E 45 (by decide) dX24_run_35 (fun _ => ?_) (fun _ => r_no E)
    refine r_aload_n E dX24_run_45 rfl 0 rfl ?_
    refine r_gec (y := 2) E zc_16 dX24_run_46 q1161 zr_16 (zh_16_16_3) (by decide) ?_
    refine r_iconst E dX24_run_49 (zkI (by decide) (by decide)) ?_
    refine r_litT (hdec := inferInstance) (P := ¬ (2 : Int) = (1 : Int)) (by decide) ?_
    refine r_icmp_ne E 60 (by decide) dX24_run_50 (fun _ => ?_) (fun _ => r_no E)
    refine r_aload_n E dX24_run_60 rfl 0 rfl ?_
    refine r_gec (y := 2) E zc_16 dX24_run_61 q1161 zr_16 (zh_16_16_3) (by decide) ?_
    refine r_iconst E dX24_run_64 (zkI (by decide) (by decide)) ?_
    refine r_litF (hdec := inferInstance) (P := ¬ (2 : Int) = (2 : Int)) (by decide) ?_
    refine r_icmp_ne E 81 (by decide) dX24_run_65 (fun _ => r_no E) (fun _ => ?_)
    refine r_aload_n E dX24_run_68 rfl 3 rfl ?_
    refine r_nn E (fun hn7 => ?_)
    refine r_gecN (y := x3) E zc_11 dX24_run_69 q743 zr_11 (zh_1002 (by omega)) hn7 ?_
    refine r_aload_n E dX24_run_72 rfl 2 rfl ?_
    refine r_nn E (fun hn8 => ?_)
    refine r_getN E zc_9 zt_804 dX24_run_73 q651 zr_9 (zg_804 _) hn8 (fun v9 => ?_)
    refine r_iaload E zc_1002 za_1002 zt_1002 zx_1002 rfl rfl dX24_run_76 hn7 (fun v10 => ?_)
    refine r_i2l E dX24_run_77 ?_
    refine r_goto E 89 (by decide) dX24_run_78 ?_
    refine r_pick E [] rfl ?_
    exact w_fX24_run_16_J89 E hN hT v5 v6 v10
  · refine r_iconst E dX24_run_20 (zkI (by decide) (by decide)) ?_
    exact r_zreturn E rfl hT (by decide) dX24_run_21
theorem k_fX24_run_16 (l : Launch) (G : zG) (x2 : Int) (x3 : Int) : zCt l G yX24_run cX24_run 4 (some .boolean) 6 [(16, 16), (14, 0), (9, x2), (11, x3)] (some 0) (fX24_run_16 x2 x3) := zCt.of (by decide) (Nat.le_of_ble_eq_true rfl) (fun K E _ _ hN hT => w_fX24_run_16 E hN hT x2 x3)
theorem dX9_pointer_0 : decode cX9_pointer 0 = .ok (.aload_n 0, 1) := by decide +kernel
theorem dX9_pointer_1 : decode cX9_pointer 1 = .ok (.getfield 13, 3) := by decide +kernel
theorem dX9_pointer_4 : decode cX9_pointer 4 = .ok (.iload_n 1, 1) := by decide +kernel
theorem dX9_pointer_5 : decode cX9_pointer 5 = .ok (.iaload, 1) := by decide +kernel
theorem dX9_pointer_6 : decode cX9_pointer 6 = .ok (.aload_n 0, 1) := by decide +kernel
theorem dX9_pointer_7 : decode cX9_pointer 7 = .ok (.getfield 16, 3) := by decide +kernel
theorem dX9_pointer_10 : decode cX9_pointer 10 = .ok (.iload_n 1, 1) := by decide +kernel
theorem dX9_pointer_11 : decode cX9_pointer 11 = .ok (.iaload, 1) := by decide +kernel
theorem dX9_pointer_12 : decode cX9_pointer 12 = .ok (.aload_n 0, 1) := by decide +kernel
theorem dX9_pointer_13 : decode cX9_pointer 13 = .ok (.getfield 19, 3) := by decide +kernel
theorem dX9_pointer_16 : decode cX9_pointer 16 = .ok (.iload_n 1, 1) := by decide +kernel
theorem dX9_pointer_17 : decode cX9_pointer 17 = .ok (.iaload, 1) := by decide +kernel
theorem dX9_pointer_18 : decode cX9_pointer 18 = .ok (.invokestatic 54, 3) := by decide +kernel
theorem dX9_pointer_21 : decode cX9_pointer 21 = .ok (.lreturn, 1) := by decide +kernel
theorem zy_X9_pointer : yX9_pointer.cls ≠ "java/lang/invoke/MethodHandle" ∧ yX9_pointer.cls ≠ "java/lang/invoke/VarHandle" ∧ (parseMethodDescriptor yX9_pointer.desc).map (fun d => d.parameters.length) = some 1 := by decide +kernel
theorem w_fX9_pointer {K : zK} (E : zE K cX9_pointer "RingHouse$Registers" (some .long) 1) (hN : zNl K = 2) (hT : zTr K = (some 1)) (x0 : Int) (x1 : Int) (h0 : 0 ≤ x0) : zR K 0 [(0, 11, x0), (1, 0, x1)] [] (fX9_pointer x0 x1) := by
  refine r_aload_n E dX9_pointer_0 rfl 0 rfl ?_
  refine r_gec (y := x0) E zc_11 dX9_pointer_1 q747 zr_11 (zh_1003 (by omega)) h0 ?_
  refine r_iload_n E dX9_pointer_4 rfl 1 rfl ?_
  refine r_iaload E zc_1003 za_1003 zt_1003 zx_1003 rfl rfl dX9_pointer_5 h0 (fun v1 => ?_)
  refine r_aload_n E dX9_pointer_6 rfl 0 rfl ?_
  refine r_gec (y := x0) E zc_11 dX9_pointer_7 q750 zr_11 (zh_1004 (by omega)) h0 ?_
  refine r_iload_n E dX9_pointer_10 rfl 1 rfl ?_
  refine r_iaload E zc_1004 za_1004 zt_1004 zx_1004 rfl rfl dX9_pointer_11 h0 (fun v2 => ?_)
  refine r_aload_n E dX9_pointer_12 rfl 0 rfl ?_
  refine r_gec (y := x0) E zc_11 dX9_pointer_13 q753 zr_11 (zh_1005 (by omega)) h0 ?_
  refine r_iload_n E dX9_pointer_16 rfl 1 rfl ?_
  refine r_iaload E zc_1005 za_1005 zt_1005 zx_1005 rfl rfl dX9_pointer_17 h0 (fun v3 => ?_)
  refine r_callSN E [(0, v1), (0, v2), (0, v3)] [] rfl q2454 q2223 q227 q2224 dX9_pointer_18 zy_X0_pointerWord rfl (by omega) (by decide) (Nat.le_of_ble_eq_true rfl) (fun l G => k_fX0_pointerWord l G v1 v2 v3) (fun v4 => ?_)
  exact r_lreturn E rfl hT dX9_pointer_21
theorem k_fX9_pointer (l : Launch) (G : zG) (x0 : Int) (x1 : Int) (h0 : 0 ≤ x0) : zCt l G yX9_pointer cX9_pointer 2 (some .long) 1 [(11, x0), (0, x1)] (some 1) (fX9_pointer x0 x1) := zCt.of (by decide) (Nat.le_of_ble_eq_true rfl) (fun K E _ _ hN hT => w_fX9_pointer E hN hT x0 x1 h0)
theorem w_fX24_run_17_J89 {K : zK} (E : zE K cX24_run "RingHouse$Keep" (some .boolean) 6) (hN : zNl K = 4) (hT : zTr K = (some 0)) (s1 : Int) (s2 : Int) (s3 : Int) : zR K 89 [] [(1, s3), (0, s2), (0, s1), (14, 0)] (fX24_run_17_J89 s1 s2 s3) := by
  refine r_callVN E [(0, s1), (0, s2), (1, s3)] [] rfl zc_14 zr_14 (fun o _ => ⟨_, zw_X12.1 o, rfl⟩) q2455 q2363 qs28 q239 q2364 dX24_run_89 zy_X12_store rfl (by omega) (by decide) (Nat.le_of_ble_eq_true rfl) (by decide) (fun l G => k_fX12_store l G s1 s2 s3) (fun _ => ?_)
  refine r_iconst E dX24_run_92 (zkI (by decide) (by decide)) ?_
  exact r_zreturn E rfl hT (by decide) dX24_run_93
theorem w_fX24_run_17 {K : zK} (E : zE K cX24_run "RingHouse$Keep" (some .boolean) 6) (hN : zNl K = 4) (hT : zTr K = (some 0)) (x2 : Int) (x3 : Int) : zR K 0 [(0, 16, 17), (1, 14, 0), (2, 9, x2), (3, 11, x3)] [] (fX24_run_17 x2 x3) := by
  refine r_aload_n E dX24_run_0 rfl 1 rfl ?_
  refine r_aload_n E dX24_run_1 rfl 1 rfl ?_
  refine r_getN E zc_14 zt_1308 dX24_run_2 q1555 zr_14 (zg_1308 _) (by decide) (fun v1 => ?_)
  refine r_aload_n E dX24_run_5 rfl 1 rfl ?_
  refine r_getN E zc_14 zt_1309 dX24_run_6 q1563 zr_14 (zg_1309 _) (by decide) (fun v2 => ?_)
  refine r_aload_n E dX24_run_9 rfl 1 rfl ?_
  refine r_getN E zc_14 zt_1310 dX24_run_10 q1573 zr_14 (zg_1310 _) (by decide) (fun v3 => ?_)
  refine r_iconst E dX24_run_13 (zkI (by decide) (by decide)) ?_
  refine r_callVN E [(0, v1), (0, v2), (0, v3), (0, 4)] [] rfl zc_14 zr_14 (fun o _ => ⟨_, zw_X12.1 o, rfl⟩) q2449 q2203 qs13 q239 q2204 dX24_run_14 zy_X12_may rfl (by omega) (by decide) (Nat.le_of_ble_eq_true rfl) (by decide) (fun l G => k_fX12_may l G v1 v2 v3 4) (fun v4 => ?_)
  refine r_if_ne E 22 (by decide) dX24_run_17 (fun _ => ?_) (fun _ => ?_)
  · refine r_aload_n E dX24_run_22 rfl 1 rfl ?_
    refine r_aload_n E dX24_run_23 rfl 1 rfl ?_
    refine r_getN E zc_14 zt_1308 dX24_run_24 q1555 zr_14 (zg_1308 _) (by decide) (fun v5 => ?_)
    refine r_aload_n E dX24_run_27 rfl 1 rfl ?_
    refine r_getN E zc_14 zt_1309 dX24_run_28 q1563 zr_14 (zg_1309 _) (by decide) (fun v6 => ?_)
    refine r_aload_n E dX24_run_31 rfl 0 rfl ?_
    refine r_gec (y := 3) E zc_16 dX24_run_32 q1161 zr_16 (zh_16_17_3) (by decide) ?_
    refine r_litT (hdec := inferInstance) (P := ¬ (3 : Int) = (0 : Int)) (by decide) ?_
    refine r_if_ne E 45 (by decide) dX24_run_35 (fun _ => ?_) (fun _ => r_no E)
    refine r_aload_n E dX24_run_45 rfl 0 rfl ?_
    refine r_gec (y := 3) E zc_16 dX24_run_46 q1161 zr_16 (zh_16_17_3) (by decide) ?_
    refine r_iconst E dX24_run_49 (zkI (by decide) (by decide)) ?_
    refine r_litT (hdec := inferInstance) (P := ¬ (3 : Int) = (1 : Int)) (by decide) ?_
    refine r_icmp_ne E 60 (by decide) dX24_run_50 (fun _ => ?_) (fun _ => r_no E)
    refine r_aload_n E dX24_run_60 rfl 0 rfl ?_
    refine r_gec (y := 3) E zc_16 dX24_run_61 q1161 zr_16 (zh_16_17_3) (by decide) ?_
    refine r_iconst E dX24_run_64 (zkI (by decide) (by decide)) ?_
    refine r_litT (hdec := inferInstance) (P := ¬ (3 : Int) = (2 : Int)) (by decide) ?_
    refine r_icmp_ne E 81 (by decide) dX24_run_65 (fun _ => ?_) (fun _ => r_no E)
    refine r_aload_n E dX24_run_81 rfl 3 rfl ?_
    refine r_aload_n E dX24_run_82 rfl 2 rfl ?_
    refine r_nn E (fun hn7 => ?_)
    refine r_getN E zc_9 zt_804 dX24_run_83 q651 zr_9 (zg_804 _) hn7 (fun v8 => ?_)
    refine r_nn E (fun hn9 => ?_)
    refine r_callV E [(0, v8)] [(0, v6), (0, v5), (14, 0)] rfl zc_11 zr_11 (fun o _ => ⟨_, zw_X9.1 o, rfl⟩) (lw_V q2450 q2451 q2452 q236 q2453) dX24_run_86 zy_X9_pointer rfl (by omega) (by decide) (Nat.le_of_ble_eq_true rfl) hn9 (fun l G => k_fX9_pointer l G x3 v8 hn9) (fun v10 => ?_)
    refine r_pick E [] rfl ?_
    exact w_fX24_run_17_J89 E hN hT v5 v6 v10
  · refine r_iconst E dX24_run_20 (zkI (by decide) (by decide)) ?_
    exact r_zreturn E rfl hT (by decide) dX24_run_21
theorem k_fX24_run_17 (l : Launch) (G : zG) (x2 : Int) (x3 : Int) : zCt l G yX24_run cX24_run 4 (some .boolean) 6 [(16, 17), (14, 0), (9, x2), (11, x3)] (some 0) (fX24_run_17 x2 x3) := zCt.of (by decide) (Nat.le_of_ble_eq_true rfl) (fun K E _ _ hN hT => w_fX24_run_17 E hN hT x2 x3)
theorem dX25_run_0 : decode cX25_run 0 = .ok (.aload_n 1, 1) := by decide +kernel
theorem dX25_run_1 : decode cX25_run 1 = .ok (.aload_n 1, 1) := by decide +kernel
theorem dX25_run_2 : decode cX25_run 2 = .ok (.getfield 11, 3) := by decide +kernel
theorem dX25_run_5 : decode cX25_run 5 = .ok (.aload_n 1, 1) := by decide +kernel
theorem dX25_run_6 : decode cX25_run 6 = .ok (.getfield 17, 3) := by decide +kernel
theorem dX25_run_9 : decode cX25_run 9 = .ok (.aload_n 1, 1) := by decide +kernel
theorem dX25_run_10 : decode cX25_run 10 = .ok (.getfield 20, 3) := by decide +kernel
theorem dX25_run_13 : decode cX25_run 13 = .ok (.iconst 1, 1) := by decide +kernel
theorem dX25_run_14 : decode cX25_run 14 = .ok (.invokevirtual 23, 3) := by decide +kernel
theorem dX25_run_17 : decode cX25_run 17 = .ok (.ifCond .eq 23, 3) := by decide +kernel
theorem dX25_run_20 : decode cX25_run 20 = .ok (.aload_n 1, 1) := by decide +kernel
theorem dX25_run_21 : decode cX25_run 21 = .ok (.aload_n 1, 1) := by decide +kernel
theorem dX25_run_22 : decode cX25_run 22 = .ok (.getfield 11, 3) := by decide +kernel
theorem dX25_run_25 : decode cX25_run 25 = .ok (.aload_n 1, 1) := by decide +kernel
theorem dX25_run_26 : decode cX25_run 26 = .ok (.getfield 17, 3) := by decide +kernel
theorem dX25_run_29 : decode cX25_run 29 = .ok (.aload_n 1, 1) := by decide +kernel
theorem dX25_run_30 : decode cX25_run 30 = .ok (.getfield 20, 3) := by decide +kernel
theorem dX25_run_33 : decode cX25_run 33 = .ok (.iconst 4, 1) := by decide +kernel
theorem dX25_run_34 : decode cX25_run 34 = .ok (.invokevirtual 23, 3) := by decide +kernel
theorem dX25_run_37 : decode cX25_run 37 = .ok (.ifCond .ne 5, 3) := by decide +kernel
theorem dX25_run_40 : decode cX25_run 40 = .ok (.iconst 0, 1) := by decide +kernel
theorem dX25_run_41 : decode cX25_run 41 = .ok (.ireturn, 1) := by decide +kernel
theorem dX25_run_42 : decode cX25_run 42 = .ok (.aload_n 1, 1) := by decide +kernel
theorem dX25_run_43 : decode cX25_run 43 = .ok (.aload_n 1, 1) := by decide +kernel
theorem dX25_run_44 : decode cX25_run 44 = .ok (.getfield 11, 3) := by decide +kernel
theorem dX25_run_47 : decode cX25_run 47 = .ok (.aload_n 1, 1) := by decide +kernel
theorem dX25_run_48 : decode cX25_run 48 = .ok (.getfield 17, 3) := by decide +kernel
theorem dX25_run_51 : decode cX25_run 51 = .ok (.invokevirtual 27, 3) := by decide +kernel
theorem dX25_run_54 : decode cX25_run 54 = .ok (.lconst 1, 1) := by decide +kernel
theorem dX25_run_55 : decode cX25_run 55 = .ok (.ladd, 1) := by decide +kernel
theorem dX25_run_56 : decode cX25_run 56 = .ok (.ldc2_w 31, 3) := by decide +kernel
theorem dX25_run_59 : decode cX25_run 59 = .ok (.land, 1) := by decide +kernel
theorem dX25_run_60 : decode cX25_run 60 = .ok (.lstore 4, 2) := by decide +kernel
theorem dX25_run_62 : decode cX25_run 62 = .ok (.aload_n 1, 1) := by decide +kernel
theorem dX25_run_63 : decode cX25_run 63 = .ok (.aload_n 1, 1) := by decide +kernel
theorem dX25_run_64 : decode cX25_run 64 = .ok (.getfield 11, 3) := by decide +kernel
theorem dX25_run_67 : decode cX25_run 67 = .ok (.aload_n 1, 1) := by decide +kernel
theorem dX25_run_68 : decode cX25_run 68 = .ok (.getfield 17, 3) := by decide +kernel
theorem dX25_run_71 : decode cX25_run 71 = .ok (.lload 4, 2) := by decide +kernel
theorem dX25_run_73 : decode cX25_run 73 = .ok (.invokevirtual 33, 3) := by decide +kernel
theorem dX25_run_76 : decode cX25_run 76 = .ok (.aload_n 3, 1) := by decide +kernel
theorem dX25_run_77 : decode cX25_run 77 = .ok (.lload 4, 2) := by decide +kernel
theorem dX25_run_79 : decode cX25_run 79 = .ok (.invokevirtual 37, 3) := by decide +kernel
theorem dX25_run_82 : decode cX25_run 82 = .ok (.iconst 1, 1) := by decide +kernel
theorem dX25_run_83 : decode cX25_run 83 = .ok (.ireturn, 1) := by decide +kernel
theorem zy_X25_run : yX25_run.cls ≠ "java/lang/invoke/MethodHandle" ∧ yX25_run.cls ≠ "java/lang/invoke/VarHandle" ∧ (parseMethodDescriptor yX25_run.desc).map (fun d => d.parameters.length) = some 3 := by decide +kernel
theorem w_fX25_run_18 {K : zK} (E : zE K cX25_run "RingHouse$AddOne" (some .boolean) 6) (hN : zNl K = 6) (hT : zTr K = (some 0)) (x2 : Int) (x3 : Int) : zR K 0 [(0, 16, 18), (1, 14, 0), (2, 9, x2), (3, 11, x3)] [] (fX25_run_18 x2 x3) := by
  refine r_aload_n E dX25_run_0 rfl 1 rfl ?_
  refine r_aload_n E dX25_run_1 rfl 1 rfl ?_
  refine r_getN E zc_14 zt_1308 dX25_run_2 q1553 zr_14 (zg_1308 _) (by decide) (fun v1 => ?_)
  refine r_aload_n E dX25_run_5 rfl 1 rfl ?_
  refine r_getN E zc_14 zt_1309 dX25_run_6 q1561 zr_14 (zg_1309 _) (by decide) (fun v2 => ?_)
  refine r_aload_n E dX25_run_9 rfl 1 rfl ?_
  refine r_getN E zc_14 zt_1310 dX25_run_10 q1571 zr_14 (zg_1310 _) (by decide) (fun v3 => ?_)
  refine r_iconst E dX25_run_13 (zkI (by decide) (by decide)) ?_
  refine r_callVN E [(0, v1), (0, v2), (0, v3), (0, 1)] [] rfl zc_14 zr_14 (fun o _ => ⟨_, zw_X12.1 o, rfl⟩) q2358 q2203 qs13 q239 q2204 dX25_run_14 zy_X12_may rfl (by omega) (by decide) (Nat.le_of_ble_eq_true rfl) (by decide) (fun l G => k_fX12_may l G v1 v2 v3 1) (fun v4 => ?_)
  refine r_if_eq E 40 (by decide) dX25_run_17 (fun _ => ?_) (fun _ => ?_)
  · refine r_iconst E dX25_run_40 (zkI (by decide) (by decide)) ?_
    exact r_zreturn E rfl hT (by decide) dX25_run_41
  · refine r_aload_n E dX25_run_20 rfl 1 rfl ?_
    refine r_aload_n E dX25_run_21 rfl 1 rfl ?_
    refine r_getN E zc_14 zt_1308 dX25_run_22 q1553 zr_14 (zg_1308 _) (by decide) (fun v5 => ?_)
    refine r_aload_n E dX25_run_25 rfl 1 rfl ?_
    refine r_getN E zc_14 zt_1309 dX25_run_26 q1561 zr_14 (zg_1309 _) (by decide) (fun v6 => ?_)
    refine r_aload_n E dX25_run_29 rfl 1 rfl ?_
    refine r_getN E zc_14 zt_1310 dX25_run_30 q1571 zr_14 (zg_1310 _) (by decide) (fun v7 => ?_)
    refine r_iconst E dX25_run_33 (zkI (by decide) (by decide)) ?_
    refine r_callVN E [(0, v5), (0, v6), (0, v7), (0, 4)] [] rfl zc_14 zr_14 (fun o _ => ⟨_, zw_X12.1 o, rfl⟩) q2358 q2203 qs13 q239 q2204 dX25_run_34 zy_X12_may rfl (by omega) (by decide) (Nat.le_of_ble_eq_true rfl) (by decide) (fun l G => k_fX12_may l G v5 v6 v7 4) (fun v8 => ?_)
    refine r_if_ne E 42 (by decide) dX25_run_37 (fun _ => ?_) (fun _ => ?_)
    · refine r_aload_n E dX25_run_42 rfl 1 rfl ?_
      refine r_aload_n E dX25_run_43 rfl 1 rfl ?_
      refine r_getN E zc_14 zt_1308 dX25_run_44 q1553 zr_14 (zg_1308 _) (by decide) (fun v9 => ?_)
      refine r_aload_n E dX25_run_47 rfl 1 rfl ?_
      refine r_getN E zc_14 zt_1309 dX25_run_48 q1561 zr_14 (zg_1309 _) (by decide) (fun v10 => ?_)
      refine r_callVN E [(0, v9), (0, v10)] [] rfl zc_14 zr_14 (fun o _ => ⟨_, zw_X12.1 o, rfl⟩) q2359 q2246 qs17 q239 q2247 dX25_run_51 zy_X12_load rfl (by omega) (by decide) (Nat.le_of_ble_eq_true rfl) (by decide) (fun l G => k_fX12_load l G v9 v10) (fun v11 => ?_)
      refine r_lconst (v := 1) E dX25_run_54 (by decide) (zkJ (by decide) (by decide)) ?_
      refine r_ladd E dX25_run_55 ?_
      refine r_ldc2 (v := 68719476735) E dX25_run_56 q2360 (by decide) (zkJ (by decide) (by decide)) ?_
      refine r_lmask (P := 68719476736) E 36 (by decide) (by decide) (by decide) dX25_run_59 ?_
      refine r_let E (fun v12 ev12 => ?_)
      refine r_lstore (ls' := [(4, 1, v12), (0, 16, 18), (1, 14, 0), (2, 9, x2), (3, 11, x3)]) E dX25_run_60 (by rw [hN]; decide) rfl ?_
      refine r_aload_n E dX25_run_62 rfl 2 rfl ?_
      refine r_aload_n E dX25_run_63 rfl 2 rfl ?_
      refine r_getN E zc_14 zt_1308 dX25_run_64 q1553 zr_14 (zg_1308 _) (by decide) (fun v13 => ?_)
      refine r_aload_n E dX25_run_67 rfl 2 rfl ?_
      refine r_getN E zc_14 zt_1309 dX25_run_68 q1561 zr_14 (zg_1309 _) (by decide) (fun v14 => ?_)
      refine r_lload E dX25_run_71 0 rfl ?_
      refine r_callVN E [(0, v13), (0, v14), (1, v12)] [] rfl zc_14 zr_14 (fun o _ => ⟨_, zw_X12.1 o, rfl⟩) q2361 q2363 qs28 q239 q2364 dX25_run_73 zy_X12_store rfl (by omega) (by decide) (Nat.le_of_ble_eq_true rfl) (by decide) (fun l G => k_fX12_store l G v13 v14 v12) (fun _ => ?_)
      refine r_aload_n E dX25_run_76 rfl 4 rfl ?_
      refine r_lload E dX25_run_77 0 rfl ?_
      refine r_nn E (fun hn16 => ?_)
      refine r_callV E [(1, v12)] [] rfl zc_11 zr_11 (fun o _ => ⟨_, zw_X9.1 o, rfl⟩) (lw_V q2366 q2367 q2368 q236 q2369) dX25_run_79 zy_X9_tell rfl (by omega) (by decide) (Nat.le_of_ble_eq_true rfl) hn16 (fun l G => k_fX9_tell l G x3 v12 hn16) (fun _ => ?_)
      refine r_iconst E dX25_run_82 (zkI (by decide) (by decide)) ?_
      exact r_zreturn E rfl hT (by decide) dX25_run_83
    · refine r_iconst E dX25_run_40 (zkI (by decide) (by decide)) ?_
      exact r_zreturn E rfl hT (by decide) dX25_run_41
theorem k_fX25_run_18 (l : Launch) (G : zG) (x2 : Int) (x3 : Int) : zCt l G yX25_run cX25_run 6 (some .boolean) 6 [(16, 18), (14, 0), (9, x2), (11, x3)] (some 0) (fX25_run_18 x2 x3) := zCt.of (by decide) (Nat.le_of_ble_eq_true rfl) (fun K E _ _ hN hT => w_fX25_run_18 E hN hT x2 x3)
theorem dX26_run_0 : decode cX26_run 0 = .ok (.aload_n 1, 1) := by decide +kernel
theorem dX26_run_1 : decode cX26_run 1 = .ok (.aload_n 1, 1) := by decide +kernel
theorem dX26_run_2 : decode cX26_run 2 = .ok (.getfield 11, 3) := by decide +kernel
theorem dX26_run_5 : decode cX26_run 5 = .ok (.aload_n 1, 1) := by decide +kernel
theorem dX26_run_6 : decode cX26_run 6 = .ok (.getfield 17, 3) := by decide +kernel
theorem dX26_run_9 : decode cX26_run 9 = .ok (.aload_n 1, 1) := by decide +kernel
theorem dX26_run_10 : decode cX26_run 10 = .ok (.getfield 20, 3) := by decide +kernel
theorem dX26_run_13 : decode cX26_run 13 = .ok (.iconst 1, 1) := by decide +kernel
theorem dX26_run_14 : decode cX26_run 14 = .ok (.invokevirtual 23, 3) := by decide +kernel
theorem dX26_run_17 : decode cX26_run 17 = .ok (.ifCond .eq 23, 3) := by decide +kernel
theorem dX26_run_20 : decode cX26_run 20 = .ok (.aload_n 1, 1) := by decide +kernel
theorem dX26_run_21 : decode cX26_run 21 = .ok (.aload_n 1, 1) := by decide +kernel
theorem dX26_run_22 : decode cX26_run 22 = .ok (.getfield 11, 3) := by decide +kernel
theorem dX26_run_25 : decode cX26_run 25 = .ok (.aload_n 1, 1) := by decide +kernel
theorem dX26_run_26 : decode cX26_run 26 = .ok (.getfield 17, 3) := by decide +kernel
theorem dX26_run_29 : decode cX26_run 29 = .ok (.aload_n 1, 1) := by decide +kernel
theorem dX26_run_30 : decode cX26_run 30 = .ok (.getfield 20, 3) := by decide +kernel
theorem dX26_run_33 : decode cX26_run 33 = .ok (.iconst 4, 1) := by decide +kernel
theorem dX26_run_34 : decode cX26_run 34 = .ok (.invokevirtual 23, 3) := by decide +kernel
theorem dX26_run_37 : decode cX26_run 37 = .ok (.ifCond .ne 5, 3) := by decide +kernel
theorem dX26_run_40 : decode cX26_run 40 = .ok (.iconst 0, 1) := by decide +kernel
theorem dX26_run_41 : decode cX26_run 41 = .ok (.ireturn, 1) := by decide +kernel
theorem dX26_run_42 : decode cX26_run 42 = .ok (.aload_n 1, 1) := by decide +kernel
theorem dX26_run_43 : decode cX26_run 43 = .ok (.aload_n 1, 1) := by decide +kernel
theorem dX26_run_44 : decode cX26_run 44 = .ok (.getfield 11, 3) := by decide +kernel
theorem dX26_run_47 : decode cX26_run 47 = .ok (.aload_n 1, 1) := by decide +kernel
theorem dX26_run_48 : decode cX26_run 48 = .ok (.getfield 17, 3) := by decide +kernel
theorem dX26_run_51 : decode cX26_run 51 = .ok (.invokevirtual 27, 3) := by decide +kernel
theorem dX26_run_54 : decode cX26_run 54 = .ok (.lstore 4, 2) := by decide +kernel
theorem dX26_run_56 : decode cX26_run 56 = .ok (.aload_n 1, 1) := by decide +kernel
theorem dX26_run_57 : decode cX26_run 57 = .ok (.aload_n 1, 1) := by decide +kernel
theorem dX26_run_58 : decode cX26_run 58 = .ok (.getfield 11, 3) := by decide +kernel
theorem dX26_run_61 : decode cX26_run 61 = .ok (.aload_n 1, 1) := by decide +kernel
theorem dX26_run_62 : decode cX26_run 62 = .ok (.getfield 17, 3) := by decide +kernel
theorem dX26_run_65 : decode cX26_run 65 = .ok (.aload_n 3, 1) := by decide +kernel
theorem dX26_run_66 : decode cX26_run 66 = .ok (.getfield 31, 3) := by decide +kernel
theorem dX26_run_69 : decode cX26_run 69 = .ok (.invokevirtual 37, 3) := by decide +kernel
theorem dX26_run_72 : decode cX26_run 72 = .ok (.aload_n 3, 1) := by decide +kernel
theorem dX26_run_73 : decode cX26_run 73 = .ok (.lload 4, 2) := by decide +kernel
theorem dX26_run_75 : decode cX26_run 75 = .ok (.putfield 31, 3) := by decide +kernel
theorem dX26_run_78 : decode cX26_run 78 = .ok (.aload_n 3, 1) := by decide +kernel
theorem dX26_run_79 : decode cX26_run 79 = .ok (.lload 4, 2) := by decide +kernel
theorem dX26_run_81 : decode cX26_run 81 = .ok (.invokevirtual 41, 3) := by decide +kernel
theorem dX26_run_84 : decode cX26_run 84 = .ok (.iconst 1, 1) := by decide +kernel
theorem dX26_run_85 : decode cX26_run 85 = .ok (.ireturn, 1) := by decide +kernel
theorem zy_X26_run : yX26_run.cls ≠ "java/lang/invoke/MethodHandle" ∧ yX26_run.cls ≠ "java/lang/invoke/VarHandle" ∧ (parseMethodDescriptor yX26_run.desc).map (fun d => d.parameters.length) = some 3 := by decide +kernel
theorem w_fX26_run_19 {K : zK} (E : zE K cX26_run "RingHouse$Swap" (some .boolean) 6) (hN : zNl K = 6) (hT : zTr K = (some 0)) (x2 : Int) (x3 : Int) : zR K 0 [(0, 16, 19), (1, 14, 0), (2, 9, x2), (3, 11, x3)] [] (fX26_run_19 x2 x3) := by
  refine r_aload_n E dX26_run_0 rfl 1 rfl ?_
  refine r_aload_n E dX26_run_1 rfl 1 rfl ?_
  refine r_getN E zc_14 zt_1308 dX26_run_2 q1556 zr_14 (zg_1308 _) (by decide) (fun v1 => ?_)
  refine r_aload_n E dX26_run_5 rfl 1 rfl ?_
  refine r_getN E zc_14 zt_1309 dX26_run_6 q1564 zr_14 (zg_1309 _) (by decide) (fun v2 => ?_)
  refine r_aload_n E dX26_run_9 rfl 1 rfl ?_
  refine r_getN E zc_14 zt_1310 dX26_run_10 q1574 zr_14 (zg_1310 _) (by decide) (fun v3 => ?_)
  refine r_iconst E dX26_run_13 (zkI (by decide) (by decide)) ?_
  refine r_callVN E [(0, v1), (0, v2), (0, v3), (0, 1)] [] rfl zc_14 zr_14 (fun o _ => ⟨_, zw_X12.1 o, rfl⟩) q2721 q2203 qs13 q239 q2204 dX26_run_14 zy_X12_may rfl (by omega) (by decide) (Nat.le_of_ble_eq_true rfl) (by decide) (fun l G => k_fX12_may l G v1 v2 v3 1) (fun v4 => ?_)
  refine r_if_eq E 40 (by decide) dX26_run_17 (fun _ => ?_) (fun _ => ?_)
  · refine r_iconst E dX26_run_40 (zkI (by decide) (by decide)) ?_
    exact r_zreturn E rfl hT (by decide) dX26_run_41
  · refine r_aload_n E dX26_run_20 rfl 1 rfl ?_
    refine r_aload_n E dX26_run_21 rfl 1 rfl ?_
    refine r_getN E zc_14 zt_1308 dX26_run_22 q1556 zr_14 (zg_1308 _) (by decide) (fun v5 => ?_)
    refine r_aload_n E dX26_run_25 rfl 1 rfl ?_
    refine r_getN E zc_14 zt_1309 dX26_run_26 q1564 zr_14 (zg_1309 _) (by decide) (fun v6 => ?_)
    refine r_aload_n E dX26_run_29 rfl 1 rfl ?_
    refine r_getN E zc_14 zt_1310 dX26_run_30 q1574 zr_14 (zg_1310 _) (by decide) (fun v7 => ?_)
    refine r_iconst E dX26_run_33 (zkI (by decide) (by decide)) ?_
    refine r_callVN E [(0, v5), (0, v6), (0, v7), (0, 4)] [] rfl zc_14 zr_14 (fun o _ => ⟨_, zw_X12.1 o, rfl⟩) q2721 q2203 qs13 q239 q2204 dX26_run_34 zy_X12_may rfl (by omega) (by decide) (Nat.le_of_ble_eq_true rfl) (by decide) (fun l G => k_fX12_may l G v5 v6 v7 4) (fun v8 => ?_)
    refine r_if_ne E 42 (by decide) dX26_run_37 (fun _ => ?_) (fun _ => ?_)
    · refine r_aload_n E dX26_run_42 rfl 1 rfl ?_
      refine r_aload_n E dX26_run_43 rfl 1 rfl ?_
      refine r_getN E zc_14 zt_1308 dX26_run_44 q1556 zr_14 (zg_1308 _) (by decide) (fun v9 => ?_)
      refine r_aload_n E dX26_run_47 rfl 1 rfl ?_
      refine r_getN E zc_14 zt_1309 dX26_run_48 q1564 zr_14 (zg_1309 _) (by decide) (fun v10 => ?_)
      refine r_callVN E [(0, v9), (0, v10)] [] rfl zc_14 zr_14 (fun o _ => ⟨_, zw_X12.1 o, rfl⟩) q2722 q2246 qs17 q239 q2247 dX26_run_51 zy_X12_load rfl (by omega) (by decide) (Nat.le_of_ble_eq_true rfl) (by decide) (fun l G => k_fX12_load l G v9 v10) (fun v11 => ?_)
      refine r_lstore (ls' := [(4, 1, v11), (0, 16, 19), (1, 14, 0), (2, 9, x2), (3, 11, x3)]) E dX26_run_54 (by rw [hN]; decide) rfl ?_
      refine r_aload_n E dX26_run_56 rfl 2 rfl ?_
      refine r_aload_n E dX26_run_57 rfl 2 rfl ?_
      refine r_getN E zc_14 zt_1308 dX26_run_58 q1556 zr_14 (zg_1308 _) (by decide) (fun v12 => ?_)
      refine r_aload_n E dX26_run_61 rfl 2 rfl ?_
      refine r_getN E zc_14 zt_1309 dX26_run_62 q1564 zr_14 (zg_1309 _) (by decide) (fun v13 => ?_)
      refine r_aload_n E dX26_run_65 rfl 4 rfl ?_
      refine r_nn E (fun hn14 => ?_)
      refine r_getN E zc_11 zt_1000 dX26_run_66 q706 zr_11 (zg_1000 _) hn14 (fun v15 => ?_)
      refine r_callVN E [(0, v12), (0, v13), (1, v15)] [] rfl zc_14 zr_14 (fun o _ => ⟨_, zw_X12.1 o, rfl⟩) q2723 q2363 qs28 q239 q2364 dX26_run_69 zy_X12_store rfl (by omega) (by decide) (Nat.le_of_ble_eq_true rfl) (by decide) (fun l G => k_fX12_store l G v12 v13 v15) (fun _ => ?_)
      refine r_aload_n E dX26_run_72 rfl 4 rfl ?_
      refine r_lload E dX26_run_73 0 rfl ?_
      refine r_putN E zc_11 zt_1000 zo_1000 dX26_run_75 q706 zr_11 zw_X9 zp_1000 (fun _ => rfl) (fun _ => rfl) hn14 ?_
      refine r_aload_n E dX26_run_78 rfl 4 rfl ?_
      refine r_lload E dX26_run_79 0 rfl ?_
      refine r_callV E [(1, v11)] [] rfl zc_11 zr_11 (fun o _ => ⟨_, zw_X9.1 o, rfl⟩) (lw_V q2724 q2367 q2368 q236 q2369) dX26_run_81 zy_X9_tell rfl (by omega) (by decide) (Nat.le_of_ble_eq_true rfl) hn14 (fun l G => k_fX9_tell l G x3 v11 hn14) (fun _ => ?_)
      refine r_iconst E dX26_run_84 (zkI (by decide) (by decide)) ?_
      exact r_zreturn E rfl hT (by decide) dX26_run_85
    · refine r_iconst E dX26_run_40 (zkI (by decide) (by decide)) ?_
      exact r_zreturn E rfl hT (by decide) dX26_run_41
theorem k_fX26_run_19 (l : Launch) (G : zG) (x2 : Int) (x3 : Int) : zCt l G yX26_run cX26_run 6 (some .boolean) 6 [(16, 19), (14, 0), (9, x2), (11, x3)] (some 0) (fX26_run_19 x2 x3) := zCt.of (by decide) (Nat.le_of_ble_eq_true rfl) (fun K E _ _ hN hT => w_fX26_run_19 E hN hT x2 x3)
theorem dX27_run_0 : decode cX27_run 0 = .ok (.aload_n 0, 1) := by decide +kernel
theorem dX27_run_1 : decode cX27_run 1 = .ok (.getfield 9, 3) := by decide +kernel
theorem dX27_run_4 : decode cX27_run 4 = .ok (.ifCond .eq 27, 3) := by decide +kernel
theorem dX27_run_7 : decode cX27_run 7 = .ok (.aload_n 3, 1) := by decide +kernel
theorem dX27_run_8 : decode cX27_run 8 = .ok (.getfield 15, 3) := by decide +kernel
theorem dX27_run_11 : decode cX27_run 11 = .ok (.aload_n 2, 1) := by decide +kernel
theorem dX27_run_12 : decode cX27_run 12 = .ok (.getfield 21, 3) := by decide +kernel
theorem dX27_run_15 : decode cX27_run 15 = .ok (.aload_n 1, 1) := by decide +kernel
theorem dX27_run_16 : decode cX27_run 16 = .ok (.getfield 27, 3) := by decide +kernel
theorem dX27_run_19 : decode cX27_run 19 = .ok (.iastore, 1) := by decide +kernel
theorem dX27_run_20 : decode cX27_run 20 = .ok (.aload_n 3, 1) := by decide +kernel
theorem dX27_run_21 : decode cX27_run 21 = .ok (.aload_n 1, 1) := by decide +kernel
theorem dX27_run_22 : decode cX27_run 22 = .ok (.getfield 27, 3) := by decide +kernel
theorem dX27_run_25 : decode cX27_run 25 = .ok (.invokevirtual 32, 3) := by decide +kernel
theorem dX27_run_28 : decode cX27_run 28 = .ok (.goto 20, 3) := by decide +kernel
theorem dX27_run_31 : decode cX27_run 31 = .ok (.aload_n 3, 1) := by decide +kernel
theorem dX27_run_32 : decode cX27_run 32 = .ok (.aload_n 1, 1) := by decide +kernel
theorem dX27_run_33 : decode cX27_run 33 = .ok (.getfield 27, 3) := by decide +kernel
theorem dX27_run_36 : decode cX27_run 36 = .ok (.i2l, 1) := by decide +kernel
theorem dX27_run_37 : decode cX27_run 37 = .ok (.putfield 36, 3) := by decide +kernel
theorem dX27_run_40 : decode cX27_run 40 = .ok (.aload_n 3, 1) := by decide +kernel
theorem dX27_run_41 : decode cX27_run 41 = .ok (.aload_n 3, 1) := by decide +kernel
theorem dX27_run_42 : decode cX27_run 42 = .ok (.getfield 36, 3) := by decide +kernel
theorem dX27_run_45 : decode cX27_run 45 = .ok (.invokevirtual 40, 3) := by decide +kernel
theorem dX27_run_48 : decode cX27_run 48 = .ok (.iconst 1, 1) := by decide +kernel
theorem dX27_run_49 : decode cX27_run 49 = .ok (.ireturn, 1) := by decide +kernel
theorem zy_X27_run : yX27_run.cls ≠ "java/lang/invoke/MethodHandle" ∧ yX27_run.cls ≠ "java/lang/invoke/VarHandle" ∧ (parseMethodDescriptor yX27_run.desc).map (fun d => d.parameters.length) = some 3 := by decide +kernel
theorem w_fX27_run_20 {K : zK} (E : zE K cX27_run "RingHouse$TakePlace" (some .boolean) 1) (hN : zNl K = 4) (hT : zTr K = (some 0)) (x2 : Int) (x3 : Int) : zR K 0 [(0, 16, 20), (1, 14, 0), (2, 9, x2), (3, 11, x3)] [] (fX27_run_20 x2 x3) := by
  refine r_aload_n E dX27_run_0 rfl 0 rfl ?_
  refine r_gec (y := 1) E zc_16 dX27_run_1 q1200 zr_16 (zh_16_20_3) (by decide) ?_
  refine r_litF (hdec := inferInstance) (P := (1 : Int) = (0 : Int)) (by decide) ?_
  refine r_if_eq E 31 (by decide) dX27_run_4 (fun _ => r_no E) (fun _ => ?_)
  refine r_aload_n E dX27_run_7 rfl 3 rfl ?_
  refine r_nn E (fun hn1 => ?_)
  refine r_gecN (y := x3) E zc_11 dX27_run_8 q738 zr_11 (zh_1002 (by omega)) hn1 ?_
  refine r_aload_n E dX27_run_11 rfl 2 rfl ?_
  refine r_nn E (fun hn2 => ?_)
  refine r_getN E zc_9 zt_804 dX27_run_12 q647 zr_9 (zg_804 _) hn2 (fun v3 => ?_)
  refine r_aload_n E dX27_run_15 rfl 1 rfl ?_
  refine r_getN E zc_14 zt_1309 dX27_run_16 q1567 zr_14 (zg_1309 _) (by decide) (fun v4 => ?_)
  refine r_iastore E zc_1002 za_1002 zt_1002 zo_1002 zx_1002 rfl rfl dX27_run_19 hn1 ?_
  refine r_aload_n E dX27_run_20 rfl 3 rfl ?_
  refine r_aload_n E dX27_run_21 rfl 1 rfl ?_
  refine r_getN E zc_14 zt_1309 dX27_run_22 q1567 zr_14 (zg_1309 _) (by decide) (fun v5 => ?_)
  refine r_callV E [(0, v5)] [] rfl zc_11 zr_11 (fun o _ => ⟨_, zw_X9.1 o, rfl⟩) (lw_V q2728 q2443 q2444 q236 q2445) dX27_run_25 zy_X9_tellHalf rfl (by omega) (by decide) (Nat.le_of_ble_eq_true rfl) hn1 (fun l G => k_fX9_tellHalf l G x3 v5 hn1) (fun _ => ?_)
  refine r_goto E 48 (by decide) dX27_run_28 ?_
  refine r_iconst E dX27_run_48 (zkI (by decide) (by decide)) ?_
  exact r_zreturn E rfl hT (by decide) dX27_run_49
theorem k_fX27_run_20 (l : Launch) (G : zG) (x2 : Int) (x3 : Int) : zCt l G yX27_run cX27_run 4 (some .boolean) 1 [(16, 20), (14, 0), (9, x2), (11, x3)] (some 0) (fX27_run_20 x2 x3) := zCt.of (by decide) (Nat.le_of_ble_eq_true rfl) (fun K E _ _ hN hT => w_fX27_run_20 E hN hT x2 x3)
theorem w_fX27_run_21 {K : zK} (E : zE K cX27_run "RingHouse$TakePlace" (some .boolean) 1) (hN : zNl K = 4) (hT : zTr K = (some 0)) (x2 : Int) (x3 : Int) : zR K 0 [(0, 16, 21), (1, 14, 0), (2, 9, x2), (3, 11, x3)] [] (fX27_run_21 x2 x3) := by
  refine r_aload_n E dX27_run_0 rfl 0 rfl ?_
  refine r_gec (y := 0) E zc_16 dX27_run_1 q1200 zr_16 (zh_16_21_3) (by decide) ?_
  refine r_litT (hdec := inferInstance) (P := (0 : Int) = (0 : Int)) (by decide) ?_
  refine r_if_eq E 31 (by decide) dX27_run_4 (fun _ => ?_) (fun _ => r_no E)
  refine r_aload_n E dX27_run_31 rfl 3 rfl ?_
  refine r_aload_n E dX27_run_32 rfl 1 rfl ?_
  refine r_getN E zc_14 zt_1309 dX27_run_33 q1567 zr_14 (zg_1309 _) (by decide) (fun v1 => ?_)
  refine r_i2l E dX27_run_36 ?_
  refine r_nn E (fun hn2 => ?_)
  refine r_putN E zc_11 zt_1000 zo_1000 dX27_run_37 q704 zr_11 zw_X9 zp_1000 (fun _ => rfl) (fun _ => rfl) hn2 ?_
  refine r_aload_n E dX27_run_40 rfl 3 rfl ?_
  refine r_aload_n E dX27_run_41 rfl 3 rfl ?_
  refine r_getN E zc_11 zt_1000 dX27_run_42 q704 zr_11 (zg_1000 _) hn2 (fun v3 => ?_)
  refine r_callV E [(1, v3)] [] rfl zc_11 zr_11 (fun o _ => ⟨_, zw_X9.1 o, rfl⟩) (lw_V q2729 q2367 q2368 q236 q2369) dX27_run_45 zy_X9_tell rfl (by omega) (by decide) (Nat.le_of_ble_eq_true rfl) hn2 (fun l G => k_fX9_tell l G x3 v3 hn2) (fun _ => ?_)
  refine r_iconst E dX27_run_48 (zkI (by decide) (by decide)) ?_
  exact r_zreturn E rfl hT (by decide) dX27_run_49
theorem k_fX27_run_21 (l : Launch) (G : zG) (x2 : Int) (x3 : Int) : zCt l G yX27_run cX27_run 4 (some .boolean) 1 [(16, 21), (14, 0), (9, x2), (11, x3)] (some 0) (fX27_run_21 x2 x3) := zCt.of (by decide) (Nat.le_of_ble_eq_true rfl) (fun K E _ _ hN hT => w_fX27_run_21 E hN hT x2 x3)
theorem dX28_run_0 : decode cX28_run 0 = .ok (.aload_n 1, 1) := by decide +kernel
theorem dX28_run_1 : decode cX28_run 1 = .ok (.getfield 15, 3) := by decide +kernel
theorem dX28_run_4 : decode cX28_run 4 = .ok (.bipush 36, 2) := by decide +kernel
theorem dX28_run_6 : decode cX28_run 6 = .ok (.if_icmp .le 8, 3) := by decide +kernel
theorem dX28_run_9 : decode cX28_run 9 = .ok (.bipush 36, 2) := by decide +kernel
theorem dX28_run_11 : decode cX28_run 11 = .ok (.goto 7, 3) := by decide +kernel
theorem dX28_run_14 : decode cX28_run 14 = .ok (.aload_n 1, 1) := by decide +kernel
theorem dX28_run_15 : decode cX28_run 15 = .ok (.getfield 15, 3) := by decide +kernel
theorem dX28_run_18 : decode cX28_run 18 = .ok (.istore 4, 2) := by decide +kernel
theorem dX28_run_20 : decode cX28_run 20 = .ok (.aload_n 3, 1) := by decide +kernel
theorem dX28_run_21 : decode cX28_run 21 = .ok (.aload_n 0, 1) := by decide +kernel
theorem dX28_run_22 : decode cX28_run 22 = .ok (.getfield 9, 3) := by decide +kernel
theorem dX28_run_25 : decode cX28_run 25 = .ok (.ifCond .ne 13, 3) := by decide +kernel
theorem dX28_run_28 : decode cX28_run 28 = .ok (.aload_n 3, 1) := by decide +kernel
theorem dX28_run_29 : decode cX28_run 29 = .ok (.getfield 20, 3) := by decide +kernel
theorem dX28_run_32 : decode cX28_run 32 = .ok (.iload 4, 2) := by decide +kernel
theorem dX28_run_34 : decode cX28_run 34 = .ok (.lshl, 1) := by decide +kernel
theorem dX28_run_35 : decode cX28_run 35 = .ok (.goto 31, 3) := by decide +kernel
theorem dX28_run_38 : decode cX28_run 38 = .ok (.aload_n 0, 1) := by decide +kernel
theorem dX28_run_39 : decode cX28_run 39 = .ok (.getfield 9, 3) := by decide +kernel
theorem dX28_run_42 : decode cX28_run 42 = .ok (.iconst 1, 1) := by decide +kernel
theorem dX28_run_43 : decode cX28_run 43 = .ok (.if_icmp .ne 16, 3) := by decide +kernel
theorem dX28_run_46 : decode cX28_run 46 = .ok (.aload_n 3, 1) := by decide +kernel
theorem dX28_run_47 : decode cX28_run 47 = .ok (.getfield 20, 3) := by decide +kernel
theorem dX28_run_50 : decode cX28_run 50 = .ok (.invokestatic 26, 3) := by decide +kernel
theorem dX28_run_53 : decode cX28_run 53 = .ok (.iload 4, 2) := by decide +kernel
theorem dX28_run_55 : decode cX28_run 55 = .ok (.lshr, 1) := by decide +kernel
theorem dX28_run_56 : decode cX28_run 56 = .ok (.goto 10, 3) := by decide +kernel
theorem dX28_run_59 : decode cX28_run 59 = .ok (.aload_n 3, 1) := by decide +kernel
theorem dX28_run_60 : decode cX28_run 60 = .ok (.getfield 20, 3) := by decide +kernel
theorem dX28_run_63 : decode cX28_run 63 = .ok (.iload 4, 2) := by decide +kernel
theorem dX28_run_65 : decode cX28_run 65 = .ok (.lshr, 1) := by decide +kernel
theorem dX28_run_66 : decode cX28_run 66 = .ok (.ldc2_w 30, 3) := by decide +kernel
theorem dX28_run_69 : decode cX28_run 69 = .ok (.land, 1) := by decide +kernel
theorem dX28_run_70 : decode cX28_run 70 = .ok (.putfield 20, 3) := by decide +kernel
theorem dX28_run_73 : decode cX28_run 73 = .ok (.aload_n 3, 1) := by decide +kernel
theorem dX28_run_74 : decode cX28_run 74 = .ok (.aload_n 3, 1) := by decide +kernel
theorem dX28_run_75 : decode cX28_run 75 = .ok (.getfield 20, 3) := by decide +kernel
theorem dX28_run_78 : decode cX28_run 78 = .ok (.invokevirtual 32, 3) := by decide +kernel
theorem dX28_run_81 : decode cX28_run 81 = .ok (.iconst 1, 1) := by decide +kernel
theorem dX28_run_82 : decode cX28_run 82 = .ok (.ireturn, 1) := by decide +kernel
theorem zy_X28_run : yX28_run.cls ≠ "java/lang/invoke/MethodHandle" ∧ yX28_run.cls ≠ "java/lang/invoke/VarHandle" ∧ (parseMethodDescriptor yX28_run.desc).map (fun d => d.parameters.length) = some 3 := by decide +kernel
theorem w_fX28_run_22_J66 {K : zK} (E : zE K cX28_run "RingHouse$Shift" (some .boolean) 1) (hN : zNl K = 5) (hT : zTr K = (some 0)) (x3 : Int) (s0 : Int) (s1 : Int) : zR K 66 [(3, 11, x3)] [(1, s1), (11, s0)] (fX28_run_22_J66 x3 s0 s1) := by
  refine r_ldc2 (v := 68719476735) E dX28_run_66 q2494 (by decide) (zkJ (by decide) (by decide)) ?_
  refine r_lmask (P := 68719476736) E 36 (by decide) (by decide) (by decide) dX28_run_69 ?_
  refine r_nn E (fun hn5 => ?_)
  refine r_putN E zc_11 zt_1000 zo_1000 dX28_run_70 q700 zr_11 zw_X9 zp_1000 (fun _ => rfl) (fun _ => rfl) hn5 ?_
  refine r_aload_n E dX28_run_73 rfl 0 rfl ?_
  refine r_aload_n E dX28_run_74 rfl 0 rfl ?_
  refine r_nn E (fun hn6 => ?_)
  refine r_getN E zc_11 zt_1000 dX28_run_75 q700 zr_11 (zg_1000 _) hn6 (fun v7 => ?_)
  refine r_callV E [(1, v7)] [] rfl zc_11 zr_11 (fun o _ => ⟨_, zw_X9.1 o, rfl⟩) (lw_V q2495 q2367 q2368 q236 q2369) dX28_run_78 zy_X9_tell rfl (by omega) (by decide) (Nat.le_of_ble_eq_true rfl) hn6 (fun l G => k_fX9_tell l G x3 v7 hn6) (fun _ => ?_)
  refine r_iconst E dX28_run_81 (zkI (by decide) (by decide)) ?_
  exact r_zreturn E rfl hT (by decide) dX28_run_82
theorem w_fX28_run_22_J18 {K : zK} (E : zE K cX28_run "RingHouse$Shift" (some .boolean) 1) (hN : zNl K = 5) (hT : zTr K = (some 0)) (x3 : Int) (s0 : Int) : zR K 18 [(0, 16, 22), (3, 11, x3)] [(0, s0)] (fX28_run_22_J18 x3 s0) := by
  refine r_istore (ls' := [(4, 0, s0), (0, 16, 22), (3, 11, x3)]) E dX28_run_18 (by rw [hN]; decide) rfl ?_
  refine r_aload_n E dX28_run_20 rfl 2 rfl ?_
  refine r_aload_n E dX28_run_21 rfl 1 rfl ?_
  refine r_gec (y := 0) E zc_16 dX28_run_22 q1215 zr_16 (zh_16_22_3) (by decide) ?_
  refine r_litF (hdec := inferInstance) (P := ¬ (0 : Int) = (0 : Int)) (by decide) ?_
  refine r_if_ne E 38 (by decide) dX28_run_25 (fun _ => r_no E) (fun _ => ?_)
  refine r_aload_n E dX28_run_28 rfl 2 rfl ?_
  refine r_nn E (fun hn3 => ?_)
  refine r_getN E zc_11 zt_1000 dX28_run_29 q700 zr_11 (zg_1000 _) hn3 (fun v4 => ?_)
  refine r_iload E dX28_run_32 0 rfl ?_
  refine r_lshl E rfl dX28_run_34 ?_
  refine r_goto E 66 (by decide) dX28_run_35 ?_
  refine r_pick E [2] rfl ?_
  exact w_fX28_run_22_J66 E hN hT x3 x3 (zl (v4 * 2 ^ (s0 % 64).toNat))
theorem w_fX28_run_22 {K : zK} (E : zE K cX28_run "RingHouse$Shift" (some .boolean) 1) (hN : zNl K = 5) (hT : zTr K = (some 0)) (x2 : Int) (x3 : Int) : zR K 0 [(0, 16, 22), (1, 14, 0), (2, 9, x2), (3, 11, x3)] [] (fX28_run_22 x2 x3) := by
  refine r_aload_n E dX28_run_0 rfl 1 rfl ?_
  refine r_getN E zc_14 zt_1309 dX28_run_1 q1560 zr_14 (zg_1309 _) (by decide) (fun v1 => ?_)
  refine r_bipush E dX28_run_4 (by decide) (zkI (by decide) (by decide)) ?_
  refine r_icmp_le E 14 (by decide) dX28_run_6 (fun _ => ?_) (fun _ => ?_)
  · refine r_aload_n E dX28_run_14 rfl 1 rfl ?_
    refine r_getN E zc_14 zt_1309 dX28_run_15 q1560 zr_14 (zg_1309 _) (by decide) (fun v2 => ?_)
    refine r_pick E [0, 3] rfl ?_
    exact w_fX28_run_22_J18 E hN hT x3 v2
  · refine r_bipush E dX28_run_9 (by decide) (zkI (by decide) (by decide)) ?_
    refine r_goto E 18 (by decide) dX28_run_11 ?_
    refine r_pick E [0, 3] rfl ?_
    exact w_fX28_run_22_J18 E hN hT x3 36
theorem k_fX28_run_22 (l : Launch) (G : zG) (x2 : Int) (x3 : Int) : zCt l G yX28_run cX28_run 5 (some .boolean) 1 [(16, 22), (14, 0), (9, x2), (11, x3)] (some 0) (fX28_run_22 x2 x3) := zCt.of (by decide) (Nat.le_of_ble_eq_true rfl) (fun K E _ _ hN hT => w_fX28_run_22 E hN hT x2 x3)
theorem w_fX28_run_23_J66 {K : zK} (E : zE K cX28_run "RingHouse$Shift" (some .boolean) 1) (hN : zNl K = 5) (hT : zTr K = (some 0)) (x3 : Int) (s0 : Int) (s1 : Int) : zR K 66 [(3, 11, x3)] [(1, s1), (11, s0)] (fX28_run_23_J66 x3 s0 s1) := by
  refine r_ldc2 (v := 68719476735) E dX28_run_66 q2494 (by decide) (zkJ (by decide) (by decide)) ?_
  refine r_lmask (P := 68719476736) E 36 (by decide) (by decide) (by decide) dX28_run_69 ?_
  refine r_nn E (fun hn6 => ?_)
  refine r_putN E zc_11 zt_1000 zo_1000 dX28_run_70 q700 zr_11 zw_X9 zp_1000 (fun _ => rfl) (fun _ => rfl) hn6 ?_
  refine r_aload_n E dX28_run_73 rfl 0 rfl ?_
  refine r_aload_n E dX28_run_74 rfl 0 rfl ?_
  refine r_nn E (fun hn7 => ?_)
  refine r_getN E zc_11 zt_1000 dX28_run_75 q700 zr_11 (zg_1000 _) hn7 (fun v8 => ?_)
  refine r_callV E [(1, v8)] [] rfl zc_11 zr_11 (fun o _ => ⟨_, zw_X9.1 o, rfl⟩) (lw_V q2495 q2367 q2368 q236 q2369) dX28_run_78 zy_X9_tell rfl (by omega) (by decide) (Nat.le_of_ble_eq_true rfl) hn7 (fun l G => k_fX9_tell l G x3 v8 hn7) (fun _ => ?_)
  refine r_iconst E dX28_run_81 (zkI (by decide) (by decide)) ?_
  exact r_zreturn E rfl hT (by decide) dX28_run_82
theorem w_fX28_run_23_J18 {K : zK} (E : zE K cX28_run "RingHouse$Shift" (some .boolean) 1) (hN : zNl K = 5) (hT : zTr K = (some 0)) (x3 : Int) (s0 : Int) : zR K 18 [(0, 16, 23), (3, 11, x3)] [(0, s0)] (fX28_run_23_J18 x3 s0) := by
  refine r_istore (ls' := [(4, 0, s0), (0, 16, 23), (3, 11, x3)]) E dX28_run_18 (by rw [hN]; decide) rfl ?_
  refine r_aload_n E dX28_run_20 rfl 2 rfl ?_
  refine r_aload_n E dX28_run_21 rfl 1 rfl ?_
  refine r_gec (y := 1) E zc_16 dX28_run_22 q1215 zr_16 (zh_16_23_3) (by decide) ?_
  refine r_litT (hdec := inferInstance) (P := ¬ (1 : Int) = (0 : Int)) (by decide) ?_
  refine r_if_ne E 38 (by decide) dX28_run_25 (fun _ => ?_) (fun _ => r_no E)
  refine r_aload_n E dX28_run_38 rfl 1 rfl ?_
  refine r_gec (y := 1) E zc_16 dX28_run_39 q1215 zr_16 (zh_16_23_3) (by decide) ?_
  refine r_iconst E dX28_run_42 (zkI (by decide) (by decide)) ?_
  refine r_litF (hdec := inferInstance) (P := ¬ (1 : Int) = (1 : Int)) (by decide) ?_
  refine r_icmp_ne E 59 (by decide) dX28_run_43 (fun _ => r_no E) (fun _ => ?_)
  refine r_aload_n E dX28_run_46 rfl 2 rfl ?_
  refine r_nn E (fun hn3 => ?_)
  refine r_getN E zc_11 zt_1000 dX28_run_47 q700 zr_11 (zg_1000 _) hn3 (fun v4 => ?_)
  refine r_callSN E [(1, v4)] [(11, x3)] rfl q2493 q2420 q227 q2421 dX28_run_50 zy_X0_signed rfl (by omega) (by decide) (Nat.le_of_ble_eq_true rfl) (fun l G => k_fX0_signed l G v4) (fun v5 => ?_)
  refine r_iload E dX28_run_53 0 rfl ?_
  refine r_lshr E rfl dX28_run_55 ?_
  refine r_goto E 66 (by decide) dX28_run_56 ?_
  refine r_pick E [2] rfl ?_
  exact w_fX28_run_23_J66 E hN hT x3 x3 (v5 / 2 ^ (s0 % 64).toNat)
theorem w_fX28_run_23 {K : zK} (E : zE K cX28_run "RingHouse$Shift" (some .boolean) 1) (hN : zNl K = 5) (hT : zTr K = (some 0)) (x2 : Int) (x3 : Int) : zR K 0 [(0, 16, 23), (1, 14, 0), (2, 9, x2), (3, 11, x3)] [] (fX28_run_23 x2 x3) := by
  refine r_aload_n E dX28_run_0 rfl 1 rfl ?_
  refine r_getN E zc_14 zt_1309 dX28_run_1 q1560 zr_14 (zg_1309 _) (by decide) (fun v1 => ?_)
  refine r_bipush E dX28_run_4 (by decide) (zkI (by decide) (by decide)) ?_
  refine r_icmp_le E 14 (by decide) dX28_run_6 (fun _ => ?_) (fun _ => ?_)
  · refine r_aload_n E dX28_run_14 rfl 1 rfl ?_
    refine r_getN E zc_14 zt_1309 dX28_run_15 q1560 zr_14 (zg_1309 _) (by decide) (fun v2 => ?_)
    refine r_pick E [0, 3] rfl ?_
    exact w_fX28_run_23_J18 E hN hT x3 v2
  · refine r_bipush E dX28_run_9 (by decide) (zkI (by decide) (by decide)) ?_
    refine r_goto E 18 (by decide) dX28_run_11 ?_
    refine r_pick E [0, 3] rfl ?_
    exact w_fX28_run_23_J18 E hN hT x3 36
theorem k_fX28_run_23 (l : Launch) (G : zG) (x2 : Int) (x3 : Int) : zCt l G yX28_run cX28_run 5 (some .boolean) 1 [(16, 23), (14, 0), (9, x2), (11, x3)] (some 0) (fX28_run_23 x2 x3) := zCt.of (by decide) (Nat.le_of_ble_eq_true rfl) (fun K E _ _ hN hT => w_fX28_run_23 E hN hT x2 x3)
theorem w_fX28_run_24_J66 {K : zK} (E : zE K cX28_run "RingHouse$Shift" (some .boolean) 1) (hN : zNl K = 5) (hT : zTr K = (some 0)) (x3 : Int) (s0 : Int) (s1 : Int) : zR K 66 [(3, 11, x3)] [(1, s1), (11, s0)] (fX28_run_24_J66 x3 s0 s1) := by
  refine r_ldc2 (v := 68719476735) E dX28_run_66 q2494 (by decide) (zkJ (by decide) (by decide)) ?_
  refine r_lmask (P := 68719476736) E 36 (by decide) (by decide) (by decide) dX28_run_69 ?_
  refine r_nn E (fun hn5 => ?_)
  refine r_putN E zc_11 zt_1000 zo_1000 dX28_run_70 q700 zr_11 zw_X9 zp_1000 (fun _ => rfl) (fun _ => rfl) hn5 ?_
  refine r_aload_n E dX28_run_73 rfl 0 rfl ?_
  refine r_aload_n E dX28_run_74 rfl 0 rfl ?_
  refine r_nn E (fun hn6 => ?_)
  refine r_getN E zc_11 zt_1000 dX28_run_75 q700 zr_11 (zg_1000 _) hn6 (fun v7 => ?_)
  refine r_callV E [(1, v7)] [] rfl zc_11 zr_11 (fun o _ => ⟨_, zw_X9.1 o, rfl⟩) (lw_V q2495 q2367 q2368 q236 q2369) dX28_run_78 zy_X9_tell rfl (by omega) (by decide) (Nat.le_of_ble_eq_true rfl) hn6 (fun l G => k_fX9_tell l G x3 v7 hn6) (fun _ => ?_)
  refine r_iconst E dX28_run_81 (zkI (by decide) (by decide)) ?_
  exact r_zreturn E rfl hT (by decide) dX28_run_82
theorem w_fX28_run_24_J18 {K : zK} (E : zE K cX28_run "RingHouse$Shift" (some .boolean) 1) (hN : zNl K = 5) (hT : zTr K = (some 0)) (x3 : Int) (s0 : Int) : zR K 18 [(0, 16, 24), (3, 11, x3)] [(0, s0)] (fX28_run_24_J18 x3 s0) := by
  refine r_istore (ls' := [(4, 0, s0), (0, 16, 24), (3, 11, x3)]) E dX28_run_18 (by rw [hN]; decide) rfl ?_
  refine r_aload_n E dX28_run_20 rfl 2 rfl ?_
  refine r_aload_n E dX28_run_21 rfl 1 rfl ?_
  refine r_gec (y := 2) E zc_16 dX28_run_22 q1215 zr_16 (zh_16_24_3) (by decide) ?_
  refine r_litT (hdec := inferInstance) (P := ¬ (2 : Int) = (0 : Int)) (by decide) ?_
  refine r_if_ne E 38 (by decide) dX28_run_25 (fun _ => ?_) (fun _ => r_no E)
  refine r_aload_n E dX28_run_38 rfl 1 rfl ?_
  refine r_gec (y := 2) E zc_16 dX28_run_39 q1215 zr_16 (zh_16_24_3) (by decide) ?_
  refine r_iconst E dX28_run_42 (zkI (by decide) (by decide)) ?_
  refine r_litT (hdec := inferInstance) (P := ¬ (2 : Int) = (1 : Int)) (by decide) ?_
  refine r_icmp_ne E 59 (by decide) dX28_run_43 (fun _ => ?_) (fun _ => r_no E)
  refine r_aload_n E dX28_run_59 rfl 2 rfl ?_
  refine r_nn E (fun hn3 => ?_)
  refine r_getN E zc_11 zt_1000 dX28_run_60 q700 zr_11 (zg_1000 _) hn3 (fun v4 => ?_)
  refine r_iload E dX28_run_63 0 rfl ?_
  refine r_lshr E rfl dX28_run_65 ?_
  refine r_pick E [2] rfl ?_
  exact w_fX28_run_24_J66 E hN hT x3 x3 (v4 / 2 ^ (s0 % 64).toNat)
theorem w_fX28_run_24 {K : zK} (E : zE K cX28_run "RingHouse$Shift" (some .boolean) 1) (hN : zNl K = 5) (hT : zTr K = (some 0)) (x2 : Int) (x3 : Int) : zR K 0 [(0, 16, 24), (1, 14, 0), (2, 9, x2), (3, 11, x3)] [] (fX28_run_24 x2 x3) := by
  refine r_aload_n E dX28_run_0 rfl 1 rfl ?_
  refine r_getN E zc_14 zt_1309 dX28_run_1 q1560 zr_14 (zg_1309 _) (by decide) (fun v1 => ?_)
  refine r_bipush E dX28_run_4 (by decide) (zkI (by decide) (by decide)) ?_
  refine r_icmp_le E 14 (by decide) dX28_run_6 (fun _ => ?_) (fun _ => ?_)
  · refine r_aload_n E dX28_run_14 rfl 1 rfl ?_
    refine r_getN E zc_14 zt_1309 dX28_run_15 q1560 zr_14 (zg_1309 _) (by decide) (fun v2 => ?_)
    refine r_pick E [0, 3] rfl ?_
    exact w_fX28_run_24_J18 E hN hT x3 v2
  · refine r_bipush E dX28_run_9 (by decide) (zkI (by decide) (by decide)) ?_
    refine r_goto E 18 (by decide) dX28_run_11 ?_
    refine r_pick E [0, 3] rfl ?_
    exact w_fX28_run_24_J18 E hN hT x3 36
theorem k_fX28_run_24 (l : Launch) (G : zG) (x2 : Int) (x3 : Int) : zCt l G yX28_run cX28_run 5 (some .boolean) 1 [(16, 24), (14, 0), (9, x2), (11, x3)] (some 0) (fX28_run_24 x2 x3) := zCt.of (by decide) (Nat.le_of_ble_eq_true rfl) (fun K E _ _ hN hT => w_fX28_run_24 E hN hT x2 x3)
theorem dX29_run_0 : decode cX29_run 0 = .ok (.aload_n 0, 1) := by decide +kernel
theorem dX29_run_1 : decode cX29_run 1 = .ok (.getfield 9, 3) := by decide +kernel
theorem dX29_run_4 : decode cX29_run 4 = .ok (.ifCond .eq 25, 3) := by decide +kernel
theorem dX29_run_7 : decode cX29_run 7 = .ok (.aload_n 3, 1) := by decide +kernel
theorem dX29_run_8 : decode cX29_run 8 = .ok (.aload_n 1, 1) := by decide +kernel
theorem dX29_run_9 : decode cX29_run 9 = .ok (.getfield 15, 3) := by decide +kernel
theorem dX29_run_12 : decode cX29_run 12 = .ok (.aload_n 1, 1) := by decide +kernel
theorem dX29_run_13 : decode cX29_run 13 = .ok (.getfield 21, 3) := by decide +kernel
theorem dX29_run_16 : decode cX29_run 16 = .ok (.aload_n 1, 1) := by decide +kernel
theorem dX29_run_17 : decode cX29_run 17 = .ok (.getfield 24, 3) := by decide +kernel
theorem dX29_run_20 : decode cX29_run 20 = .ok (.invokestatic 27, 3) := by decide +kernel
theorem dX29_run_23 : decode cX29_run 23 = .ok (.putfield 31, 3) := by decide +kernel
theorem dX29_run_26 : decode cX29_run 26 = .ok (.goto 23, 3) := by decide +kernel
theorem dX29_run_29 : decode cX29_run 29 = .ok (.aload_n 3, 1) := by decide +kernel
theorem dX29_run_30 : decode cX29_run 30 = .ok (.aload_n 2, 1) := by decide +kernel
theorem dX29_run_31 : decode cX29_run 31 = .ok (.getfield 37, 3) := by decide +kernel
theorem dX29_run_34 : decode cX29_run 34 = .ok (.aload_n 1, 1) := by decide +kernel
theorem dX29_run_35 : decode cX29_run 35 = .ok (.getfield 15, 3) := by decide +kernel
theorem dX29_run_38 : decode cX29_run 38 = .ok (.aload_n 1, 1) := by decide +kernel
theorem dX29_run_39 : decode cX29_run 39 = .ok (.getfield 21, 3) := by decide +kernel
theorem dX29_run_42 : decode cX29_run 42 = .ok (.aload_n 1, 1) := by decide +kernel
theorem dX29_run_43 : decode cX29_run 43 = .ok (.getfield 24, 3) := by decide +kernel
theorem dX29_run_46 : decode cX29_run 46 = .ok (.invokevirtual 42, 3) := by decide +kernel
theorem dX29_run_49 : decode cX29_run 49 = .ok (.iconst 1, 1) := by decide +kernel
theorem dX29_run_50 : decode cX29_run 50 = .ok (.ireturn, 1) := by decide +kernel
theorem zy_X29_run : yX29_run.cls ≠ "java/lang/invoke/MethodHandle" ∧ yX29_run.cls ≠ "java/lang/invoke/VarHandle" ∧ (parseMethodDescriptor yX29_run.desc).map (fun d => d.parameters.length) = some 3 := by decide +kernel
theorem w_fX29_run_25 {K : zK} (E : zE K cX29_run "RingHouse$Point" (some .boolean) 1) (hN : zNl K = 4) (hT : zTr K = (some 0)) (x2 : Int) (x3 : Int) : zR K 0 [(0, 16, 25), (1, 14, 0), (2, 9, x2), (3, 11, x3)] [] (fX29_run_25 x2 x3) := by
  refine r_aload_n E dX29_run_0 rfl 0 rfl ?_
  refine r_gec (y := 0) E zc_16 dX29_run_1 q1231 zr_16 (zh_16_25_3) (by decide) ?_
  refine r_litT (hdec := inferInstance) (P := (0 : Int) = (0 : Int)) (by decide) ?_
  refine r_if_eq E 29 (by decide) dX29_run_4 (fun _ => ?_) (fun _ => r_no E)
  refine r_aload_n E dX29_run_29 rfl 3 rfl ?_
  refine r_aload_n E dX29_run_30 rfl 2 rfl ?_
  refine r_nn E (fun hn1 => ?_)
  refine r_getN E zc_9 zt_804 dX29_run_31 q649 zr_9 (zg_804 _) hn1 (fun v2 => ?_)
  refine r_aload_n E dX29_run_34 rfl 1 rfl ?_
  refine r_getN E zc_14 zt_1308 dX29_run_35 q1557 zr_14 (zg_1308 _) (by decide) (fun v3 => ?_)
  refine r_aload_n E dX29_run_38 rfl 1 rfl ?_
  refine r_getN E zc_14 zt_1309 dX29_run_39 q1566 zr_14 (zg_1309 _) (by decide) (fun v4 => ?_)
  refine r_aload_n E dX29_run_42 rfl 1 rfl ?_
  refine r_getN E zc_14 zt_1310 dX29_run_43 q1575 zr_14 (zg_1310 _) (by decide) (fun v5 => ?_)
  refine r_nn E (fun hn6 => ?_)
  refine r_callV E [(0, v2), (0, v3), (0, v4), (0, v5)] [] rfl zc_11 zr_11 (fun o _ => ⟨_, zw_X9.1 o, rfl⟩) (lw_V q2484 q2139 q2140 q236 q2141) dX29_run_46 zy_X9_point rfl (by omega) (by decide) (Nat.le_of_ble_eq_true rfl) hn6 (fun l G => k_fX9_point l G x3 v2 v3 v4 v5 hn6) (fun _ => ?_)
  refine r_iconst E dX29_run_49 (zkI (by decide) (by decide)) ?_
  exact r_zreturn E rfl hT (by decide) dX29_run_50
theorem k_fX29_run_25 (l : Launch) (G : zG) (x2 : Int) (x3 : Int) : zCt l G yX29_run cX29_run 4 (some .boolean) 1 [(16, 25), (14, 0), (9, x2), (11, x3)] (some 0) (fX29_run_25 x2 x3) := zCt.of (by decide) (Nat.le_of_ble_eq_true rfl) (fun K E _ _ hN hT => w_fX29_run_25 E hN hT x2 x3)
theorem w_fX29_run_26 {K : zK} (E : zE K cX29_run "RingHouse$Point" (some .boolean) 1) (hN : zNl K = 4) (hT : zTr K = (some 0)) (x2 : Int) (x3 : Int) : zR K 0 [(0, 16, 26), (1, 14, 0), (2, 9, x2), (3, 11, x3)] [] (fX29_run_26 x2 x3) := by
  refine r_aload_n E dX29_run_0 rfl 0 rfl ?_
  refine r_gec (y := 1) E zc_16 dX29_run_1 q1231 zr_16 (zh_16_26_3) (by decide) ?_
  refine r_litF (hdec := inferInstance) (P := (1 : Int) = (0 : Int)) (by decide) ?_
  refine r_if_eq E 29 (by decide) dX29_run_4 (fun _ => r_no E) (fun _ => ?_)
  refine r_aload_n E dX29_run_7 rfl 3 rfl ?_
  refine r_aload_n E dX29_run_8 rfl 1 rfl ?_
  refine r_getN E zc_14 zt_1308 dX29_run_9 q1557 zr_14 (zg_1308 _) (by decide) (fun v1 => ?_)
  refine r_aload_n E dX29_run_12 rfl 1 rfl ?_
  refine r_getN E zc_14 zt_1309 dX29_run_13 q1566 zr_14 (zg_1309 _) (by decide) (fun v2 => ?_)
  refine r_aload_n E dX29_run_16 rfl 1 rfl ?_
  refine r_getN E zc_14 zt_1310 dX29_run_17 q1575 zr_14 (zg_1310 _) (by decide) (fun v3 => ?_)
  refine r_callSN E [(0, v1), (0, v2), (0, v3)] [(11, x3)] rfl q2483 q2223 q227 q2224 dX29_run_20 zy_X0_pointerWord rfl (by omega) (by decide) (Nat.le_of_ble_eq_true rfl) (fun l G => k_fX0_pointerWord l G v1 v2 v3) (fun v4 => ?_)
  refine r_nn E (fun hn5 => ?_)
  refine r_putN E zc_11 zt_1000 zo_1000 dX29_run_23 q696 zr_11 zw_X9 zp_1000 (fun _ => rfl) (fun _ => rfl) hn5 ?_
  refine r_goto E 49 (by decide) dX29_run_26 ?_
  refine r_iconst E dX29_run_49 (zkI (by decide) (by decide)) ?_
  exact r_zreturn E rfl hT (by decide) dX29_run_50
theorem k_fX29_run_26 (l : Launch) (G : zG) (x2 : Int) (x3 : Int) : zCt l G yX29_run cX29_run 4 (some .boolean) 1 [(16, 26), (14, 0), (9, x2), (11, x3)] (some 0) (fX29_run_26 x2 x3) := zCt.of (by decide) (Nat.le_of_ble_eq_true rfl) (fun K E _ _ hN hT => w_fX29_run_26 E hN hT x2 x3)
theorem dX30_goesBy_0 : decode cX30_goesBy 0 = .ok (.iload_n 0, 1) := by decide +kernel
theorem dX30_goesBy_1 : decode cX30_goesBy 1 = .ok (.tableswitch 73 0 4 #[35, 37, 42, 55, 60], 35) := by decide +kernel
theorem dX30_goesBy_36 : decode cX30_goesBy 36 = .ok (.iconst 1, 1) := by decide +kernel
theorem dX30_goesBy_37 : decode cX30_goesBy 37 = .ok (.ireturn, 1) := by decide +kernel
theorem dX30_goesBy_38 : decode cX30_goesBy 38 = .ok (.aload_n 2, 1) := by decide +kernel
theorem dX30_goesBy_39 : decode cX30_goesBy 39 = .ok (.getfield 15, 3) := by decide +kernel
theorem dX30_goesBy_42 : decode cX30_goesBy 42 = .ok (.ireturn, 1) := by decide +kernel
theorem dX30_goesBy_43 : decode cX30_goesBy 43 = .ok (.aload_n 2, 1) := by decide +kernel
theorem dX30_goesBy_44 : decode cX30_goesBy 44 = .ok (.getfield 15, 3) := by decide +kernel
theorem dX30_goesBy_47 : decode cX30_goesBy 47 = .ok (.ifCond .ne 7, 3) := by decide +kernel
theorem dX30_goesBy_50 : decode cX30_goesBy 50 = .ok (.iconst 1, 1) := by decide +kernel
theorem dX30_goesBy_51 : decode cX30_goesBy 51 = .ok (.goto 4, 3) := by decide +kernel
theorem dX30_goesBy_54 : decode cX30_goesBy 54 = .ok (.iconst 0, 1) := by decide +kernel
theorem dX30_goesBy_55 : decode cX30_goesBy 55 = .ok (.ireturn, 1) := by decide +kernel
theorem dX30_goesBy_56 : decode cX30_goesBy 56 = .ok (.aload_n 2, 1) := by decide +kernel
theorem dX30_goesBy_57 : decode cX30_goesBy 57 = .ok (.getfield 21, 3) := by decide +kernel
theorem dX30_goesBy_60 : decode cX30_goesBy 60 = .ok (.ireturn, 1) := by decide +kernel
theorem dX30_goesBy_61 : decode cX30_goesBy 61 = .ok (.aload_n 2, 1) := by decide +kernel
theorem dX30_goesBy_62 : decode cX30_goesBy 62 = .ok (.getfield 21, 3) := by decide +kernel
theorem dX30_goesBy_65 : decode cX30_goesBy 65 = .ok (.ifCond .ne 7, 3) := by decide +kernel
theorem dX30_goesBy_68 : decode cX30_goesBy 68 = .ok (.iconst 1, 1) := by decide +kernel
theorem dX30_goesBy_69 : decode cX30_goesBy 69 = .ok (.goto 4, 3) := by decide +kernel
theorem dX30_goesBy_72 : decode cX30_goesBy 72 = .ok (.iconst 0, 1) := by decide +kernel
theorem dX30_goesBy_73 : decode cX30_goesBy 73 = .ok (.ireturn, 1) := by decide +kernel
theorem dX30_goesBy_74 : decode cX30_goesBy 74 = .ok (.aload_n 2, 1) := by decide +kernel
theorem dX30_goesBy_75 : decode cX30_goesBy 75 = .ok (.getfield 24, 3) := by decide +kernel
theorem dX30_goesBy_78 : decode cX30_goesBy 78 = .ok (.aload_n 1, 1) := by decide +kernel
theorem dX30_goesBy_79 : decode cX30_goesBy 79 = .ok (.getfield 28, 3) := by decide +kernel
theorem dX30_goesBy_82 : decode cX30_goesBy 82 = .ok (.aload_n 2, 1) := by decide +kernel
theorem dX30_goesBy_83 : decode cX30_goesBy 83 = .ok (.getfield 24, 3) := by decide +kernel
theorem dX30_goesBy_86 : decode cX30_goesBy 86 = .ok (.aload_n 1, 1) := by decide +kernel
theorem dX30_goesBy_87 : decode cX30_goesBy 87 = .ok (.getfield 28, 3) := by decide +kernel
theorem dX30_goesBy_90 : decode cX30_goesBy 90 = .ok (.iaload, 1) := by decide +kernel
theorem dX30_goesBy_91 : decode cX30_goesBy 91 = .ok (.iconst 1, 1) := by decide +kernel
theorem dX30_goesBy_92 : decode cX30_goesBy 92 = .ok (.isub, 1) := by decide +kernel
theorem dX30_goesBy_93 : decode cX30_goesBy 93 = .ok (.ldc 33, 2) := by decide +kernel
theorem dX30_goesBy_95 : decode cX30_goesBy 95 = .ok (.iand, 1) := by decide +kernel
theorem dX30_goesBy_96 : decode cX30_goesBy 96 = .ok (.iastore, 1) := by decide +kernel
theorem dX30_goesBy_97 : decode cX30_goesBy 97 = .ok (.aload_n 2, 1) := by decide +kernel
theorem dX30_goesBy_98 : decode cX30_goesBy 98 = .ok (.aload_n 2, 1) := by decide +kernel
theorem dX30_goesBy_99 : decode cX30_goesBy 99 = .ok (.getfield 24, 3) := by decide +kernel
theorem dX30_goesBy_102 : decode cX30_goesBy 102 = .ok (.aload_n 1, 1) := by decide +kernel
theorem dX30_goesBy_103 : decode cX30_goesBy 103 = .ok (.getfield 28, 3) := by decide +kernel
theorem dX30_goesBy_106 : decode cX30_goesBy 106 = .ok (.iaload, 1) := by decide +kernel
theorem dX30_goesBy_107 : decode cX30_goesBy 107 = .ok (.invokevirtual 34, 3) := by decide +kernel
theorem dX30_goesBy_110 : decode cX30_goesBy 110 = .ok (.aload_n 2, 1) := by decide +kernel
theorem dX30_goesBy_111 : decode cX30_goesBy 111 = .ok (.getfield 24, 3) := by decide +kernel
theorem dX30_goesBy_114 : decode cX30_goesBy 114 = .ok (.aload_n 1, 1) := by decide +kernel
theorem dX30_goesBy_115 : decode cX30_goesBy 115 = .ok (.getfield 28, 3) := by decide +kernel
theorem dX30_goesBy_118 : decode cX30_goesBy 118 = .ok (.iaload, 1) := by decide +kernel
theorem dX30_goesBy_119 : decode cX30_goesBy 119 = .ok (.ifCond .eq 7, 3) := by decide +kernel
theorem dX30_goesBy_122 : decode cX30_goesBy 122 = .ok (.iconst 1, 1) := by decide +kernel
theorem dX30_goesBy_123 : decode cX30_goesBy 123 = .ok (.goto 4, 3) := by decide +kernel
theorem dX30_goesBy_126 : decode cX30_goesBy 126 = .ok (.iconst 0, 1) := by decide +kernel
theorem dX30_goesBy_127 : decode cX30_goesBy 127 = .ok (.ireturn, 1) := by decide +kernel
theorem zy_X30_goesBy : yX30_goesBy.cls ≠ "java/lang/invoke/MethodHandle" ∧ yX30_goesBy.cls ≠ "java/lang/invoke/VarHandle" ∧ (parseMethodDescriptor yX30_goesBy.desc).map (fun d => d.parameters.length) = some 3 := by decide +kernel
theorem w_fX30_goesBy {K : zK} (E : zE K cX30_goesBy "RingHouse$Go" (some .boolean) 1) (hN : zNl K = 3) (hT : zTr K = (some 0)) (x0 : Int) (x1 : Int) (x2 : Int) : zR K 0 [(0, 0, x0), (1, 9, x1), (2, 11, x2)] [] (fX30_goesBy x0 x1 x2) := by
  refine r_iload_n E dX30_goesBy_0 rfl 0 rfl ?_
  refine r_tabc E dX30_goesBy_1 0 36 (by decide) (by decide) rfl (by decide) (fun _ => ?_) (fun ht1 => ?_)
  · refine r_iconst E dX30_goesBy_36 (zkI (by decide) (by decide)) ?_
    exact r_zreturn E rfl hT (by decide) dX30_goesBy_37
  · refine r_tabc E dX30_goesBy_1 1 38 (by decide) (by decide) rfl (by decide) (fun _ => ?_) (fun ht2 => ?_)
    · refine r_aload_n E dX30_goesBy_38 rfl 2 rfl ?_
      refine r_nn E (fun hn3 => ?_)
      refine r_getN E zc_11 zt_1009 dX30_goesBy_39 q781 zr_11 (zg_1009 _) hn3 (fun v4 => ?_)
      exact r_zreturnb E rfl hT dX30_goesBy_42
    · refine r_tabc E dX30_goesBy_1 2 43 (by decide) (by decide) rfl (by decide) (fun _ => ?_) (fun ht5 => ?_)
      · refine r_aload_n E dX30_goesBy_43 rfl 2 rfl ?_
        refine r_nn E (fun hn6 => ?_)
        refine r_getN E zc_11 zt_1009 dX30_goesBy_44 q781 zr_11 (zg_1009 _) hn6 (fun v7 => ?_)
        refine r_if_ne E 54 (by decide) dX30_goesBy_47 (fun _ => ?_) (fun _ => ?_)
        · refine r_iconst E dX30_goesBy_54 (zkI (by decide) (by decide)) ?_
          exact r_zreturn E rfl hT (by decide) dX30_goesBy_55
        · refine r_iconst E dX30_goesBy_50 (zkI (by decide) (by decide)) ?_
          refine r_goto E 55 (by decide) dX30_goesBy_51 ?_
          exact r_zreturn E rfl hT (by decide) dX30_goesBy_55
      · refine r_tabc E dX30_goesBy_1 3 56 (by decide) (by decide) rfl (by decide) (fun _ => ?_) (fun ht8 => ?_)
        · refine r_aload_n E dX30_goesBy_56 rfl 2 rfl ?_
          refine r_nn E (fun hn9 => ?_)
          refine r_getN E zc_11 zt_1010 dX30_goesBy_57 q785 zr_11 (zg_1010 _) hn9 (fun v10 => ?_)
          exact r_zreturnb E rfl hT dX30_goesBy_60
        · refine r_tabc E dX30_goesBy_1 4 61 (by decide) (by decide) rfl (by decide) (fun _ => ?_) (fun ht11 => ?_)
          · refine r_aload_n E dX30_goesBy_61 rfl 2 rfl ?_
            refine r_nn E (fun hn12 => ?_)
            refine r_getN E zc_11 zt_1010 dX30_goesBy_62 q785 zr_11 (zg_1010 _) hn12 (fun v13 => ?_)
            refine r_if_ne E 72 (by decide) dX30_goesBy_65 (fun _ => ?_) (fun _ => ?_)
            · refine r_iconst E dX30_goesBy_72 (zkI (by decide) (by decide)) ?_
              exact r_zreturn E rfl hT (by decide) dX30_goesBy_73
            · refine r_iconst E dX30_goesBy_68 (zkI (by decide) (by decide)) ?_
              refine r_goto E 73 (by decide) dX30_goesBy_69 ?_
              exact r_zreturn E rfl hT (by decide) dX30_goesBy_73
          · refine r_tabd E dX30_goesBy_1 74 [0, 1, 2, 3, 4] (by decide) (by decide) (by decide) ⟨ht1, ht2, ht5, ht8, ht11, trivial⟩ ?_
            refine r_aload_n E dX30_goesBy_74 rfl 2 rfl ?_
            refine r_nn E (fun hn14 => ?_)
            refine r_gecN (y := x2) E zc_11 dX30_goesBy_75 q744 zr_11 (zh_1002 (by omega)) hn14 ?_
            refine r_aload_n E dX30_goesBy_78 rfl 1 rfl ?_
            refine r_nn E (fun hn15 => ?_)
            refine r_getN E zc_9 zt_804 dX30_goesBy_79 q652 zr_9 (zg_804 _) hn15 (fun v16 => ?_)
            refine r_aload_n E dX30_goesBy_82 rfl 2 rfl ?_
            refine r_gecN (y := x2) E zc_11 dX30_goesBy_83 q744 zr_11 (zh_1002 (by omega)) hn14 ?_
            refine r_aload_n E dX30_goesBy_86 rfl 1 rfl ?_
            refine r_getN E zc_9 zt_804 dX30_goesBy_87 q652 zr_9 (zg_804 _) hn15 (fun v17 => ?_)
            refine r_iaload E zc_1002 za_1002 zt_1002 zx_1002 rfl rfl dX30_goesBy_90 hn14 (fun v18 => ?_)
            refine r_iconst E dX30_goesBy_91 (zkI (by decide) (by decide)) ?_
            refine r_isub E dX30_goesBy_92 ?_
            refine r_ldc (v := 262143) E dX30_goesBy_93 q2441 (by decide) (zkI (by decide) (by decide)) ?_
            refine r_imask (P := 262144) E 18 (by decide) (by decide) (by decide) dX30_goesBy_95 ?_
            refine r_iastore E zc_1002 za_1002 zt_1002 zo_1002 zx_1002 rfl rfl dX30_goesBy_96 hn14 ?_
            refine r_aload_n E dX30_goesBy_97 rfl 2 rfl ?_
            refine r_aload_n E dX30_goesBy_98 rfl 2 rfl ?_
            refine r_gecN (y := x2) E zc_11 dX30_goesBy_99 q744 zr_11 (zh_1002 (by omega)) hn14 ?_
            refine r_aload_n E dX30_goesBy_102 rfl 1 rfl ?_
            refine r_getN E zc_9 zt_804 dX30_goesBy_103 q652 zr_9 (zg_804 _) hn15 (fun v19 => ?_)
            refine r_iaload E zc_1002 za_1002 zt_1002 zx_1002 rfl rfl dX30_goesBy_106 hn14 (fun v20 => ?_)
            refine r_callV E [(0, v20)] [] rfl zc_11 zr_11 (fun o _ => ⟨_, zw_X9.1 o, rfl⟩) (lw_V q2442 q2443 q2444 q236 q2445) dX30_goesBy_107 zy_X9_tellHalf rfl (by omega) (by decide) (Nat.le_of_ble_eq_true rfl) hn14 (fun l G => k_fX9_tellHalf l G x2 v20 hn14) (fun _ => ?_)
            refine r_aload_n E dX30_goesBy_110 rfl 2 rfl ?_
            refine r_gecN (y := x2) E zc_11 dX30_goesBy_111 q744 zr_11 (zh_1002 (by omega)) hn14 ?_
            refine r_aload_n E dX30_goesBy_114 rfl 1 rfl ?_
            refine r_getN E zc_9 zt_804 dX30_goesBy_115 q652 zr_9 (zg_804 _) hn15 (fun v22 => ?_)
            refine r_iaload E zc_1002 za_1002 zt_1002 zx_1002 rfl rfl dX30_goesBy_118 hn14 (fun v23 => ?_)
            refine r_if_eq E 126 (by decide) dX30_goesBy_119 (fun _ => ?_) (fun _ => ?_)
            · refine r_iconst E dX30_goesBy_126 (zkI (by decide) (by decide)) ?_
              exact r_zreturn E rfl hT (by decide) dX30_goesBy_127
            · refine r_iconst E dX30_goesBy_122 (zkI (by decide) (by decide)) ?_
              refine r_goto E 127 (by decide) dX30_goesBy_123 ?_
              exact r_zreturn E rfl hT (by decide) dX30_goesBy_127
theorem k_fX30_goesBy (l : Launch) (G : zG) (x0 : Int) (x1 : Int) (x2 : Int) : zCt l G yX30_goesBy cX30_goesBy 3 (some .boolean) 1 [(0, x0), (9, x1), (11, x2)] (some 0) (fX30_goesBy x0 x1 x2) := zCt.of (by decide) (Nat.le_of_ble_eq_true rfl) (fun K E _ _ hN hT => w_fX30_goesBy E hN hT x0 x1 x2)
theorem dX30_run_0 : decode cX30_run 0 = .ok (.aload_n 0, 1) := by decide +kernel
theorem dX30_run_1 : decode cX30_run 1 = .ok (.getfield 9, 3) := by decide +kernel
theorem dX30_run_4 : decode cX30_run 4 = .ok (.aload_n 2, 1) := by decide +kernel
theorem dX30_run_5 : decode cX30_run 5 = .ok (.aload_n 3, 1) := by decide +kernel
theorem dX30_run_6 : decode cX30_run 6 = .ok (.invokestatic 38, 3) := by decide +kernel
theorem dX30_run_9 : decode cX30_run 9 = .ok (.ifCond .eq 19, 3) := by decide +kernel
theorem dX30_run_12 : decode cX30_run 12 = .ok (.aload_n 1, 1) := by decide +kernel
theorem dX30_run_13 : decode cX30_run 13 = .ok (.aload_n 1, 1) := by decide +kernel
theorem dX30_run_14 : decode cX30_run 14 = .ok (.getfield 42, 3) := by decide +kernel
theorem dX30_run_17 : decode cX30_run 17 = .ok (.putfield 47, 3) := by decide +kernel
theorem dX30_run_20 : decode cX30_run 20 = .ok (.aload_n 1, 1) := by decide +kernel
theorem dX30_run_21 : decode cX30_run 21 = .ok (.aload_n 1, 1) := by decide +kernel
theorem dX30_run_22 : decode cX30_run 22 = .ok (.getfield 50, 3) := by decide +kernel
theorem dX30_run_25 : decode cX30_run 25 = .ok (.putfield 53, 3) := by decide +kernel
theorem dX30_run_28 : decode cX30_run 28 = .ok (.iconst 1, 1) := by decide +kernel
theorem dX30_run_29 : decode cX30_run 29 = .ok (.ireturn, 1) := by decide +kernel
theorem zy_X30_run : yX30_run.cls ≠ "java/lang/invoke/MethodHandle" ∧ yX30_run.cls ≠ "java/lang/invoke/VarHandle" ∧ (parseMethodDescriptor yX30_run.desc).map (fun d => d.parameters.length) = some 3 := by decide +kernel
theorem w_fX30_run_27 {K : zK} (E : zE K cX30_run "RingHouse$Go" (some .boolean) 2) (hN : zNl K = 4) (hT : zTr K = (some 0)) (x2 : Int) (x3 : Int) : zR K 0 [(0, 16, 27), (1, 14, 0), (2, 9, x2), (3, 11, x3)] [] (fX30_run_27 x2 x3) := by
  refine r_aload_n E dX30_run_0 rfl 0 rfl ?_
  refine r_gec (y := 0) E zc_16 dX30_run_1 q1246 zr_16 (zh_16_27_3) (by decide) ?_
  refine r_aload_n E dX30_run_4 rfl 2 rfl ?_
  refine r_aload_n E dX30_run_5 rfl 3 rfl ?_
  refine r_callS E [(0, 0), (9, x2), (11, x3)] [] rfl q2438 q2439 q257 q2440 dX30_run_6 zy_X30_goesBy rfl (by omega) (by decide) (Nat.le_of_ble_eq_true rfl) (fun l G => k_fX30_goesBy l G 0 x2 x3) (fun v1 => ?_)
  refine r_if_eq E 28 (by decide) dX30_run_9 (fun _ => ?_) (fun _ => ?_)
  · refine r_iconst E dX30_run_28 (zkI (by decide) (by decide)) ?_
    exact r_zreturn E rfl hT (by decide) dX30_run_29
  · refine r_aload_n E dX30_run_12 rfl 1 rfl ?_
    refine r_aload_n E dX30_run_13 rfl 1 rfl ?_
    refine r_getN E zc_14 zt_1308 dX30_run_14 q1558 zr_14 (zg_1308 _) (by decide) (fun v2 => ?_)
    refine r_putN E zc_14 zt_1312 zo_1312 dX30_run_17 q1583 zr_14 zw_X12 zp_1312 (fun _ => rfl) (fun _ => rfl) (by decide) ?_
    refine r_aload_n E dX30_run_20 rfl 1 rfl ?_
    refine r_aload_n E dX30_run_21 rfl 1 rfl ?_
    refine r_getN E zc_14 zt_1309 dX30_run_22 q1568 zr_14 (zg_1309 _) (by decide) (fun v3 => ?_)
    refine r_putN E zc_14 zt_1313 zo_1313 dX30_run_25 q1585 zr_14 zw_X12 zp_1313 (fun _ => rfl) (fun _ => rfl) (by decide) ?_
    refine r_iconst E dX30_run_28 (zkI (by decide) (by decide)) ?_
    exact r_zreturn E rfl hT (by decide) dX30_run_29
theorem k_fX30_run_27 (l : Launch) (G : zG) (x2 : Int) (x3 : Int) : zCt l G yX30_run cX30_run 4 (some .boolean) 2 [(16, 27), (14, 0), (9, x2), (11, x3)] (some 0) (fX30_run_27 x2 x3) := zCt.of (by decide) (Nat.le_of_ble_eq_true rfl) (fun K E _ _ hN hT => w_fX30_run_27 E hN hT x2 x3)
theorem w_fX30_run_28 {K : zK} (E : zE K cX30_run "RingHouse$Go" (some .boolean) 2) (hN : zNl K = 4) (hT : zTr K = (some 0)) (x2 : Int) (x3 : Int) : zR K 0 [(0, 16, 28), (1, 14, 0), (2, 9, x2), (3, 11, x3)] [] (fX30_run_28 x2 x3) := by
  refine r_aload_n E dX30_run_0 rfl 0 rfl ?_
  refine r_gec (y := 1) E zc_16 dX30_run_1 q1246 zr_16 (zh_16_28_3) (by decide) ?_
  refine r_aload_n E dX30_run_4 rfl 2 rfl ?_
  refine r_aload_n E dX30_run_5 rfl 3 rfl ?_
  refine r_callS E [(0, 1), (9, x2), (11, x3)] [] rfl q2438 q2439 q257 q2440 dX30_run_6 zy_X30_goesBy rfl (by omega) (by decide) (Nat.le_of_ble_eq_true rfl) (fun l G => k_fX30_goesBy l G 1 x2 x3) (fun v1 => ?_)
  refine r_if_eq E 28 (by decide) dX30_run_9 (fun _ => ?_) (fun _ => ?_)
  · refine r_iconst E dX30_run_28 (zkI (by decide) (by decide)) ?_
    exact r_zreturn E rfl hT (by decide) dX30_run_29
  · refine r_aload_n E dX30_run_12 rfl 1 rfl ?_
    refine r_aload_n E dX30_run_13 rfl 1 rfl ?_
    refine r_getN E zc_14 zt_1308 dX30_run_14 q1558 zr_14 (zg_1308 _) (by decide) (fun v2 => ?_)
    refine r_putN E zc_14 zt_1312 zo_1312 dX30_run_17 q1583 zr_14 zw_X12 zp_1312 (fun _ => rfl) (fun _ => rfl) (by decide) ?_
    refine r_aload_n E dX30_run_20 rfl 1 rfl ?_
    refine r_aload_n E dX30_run_21 rfl 1 rfl ?_
    refine r_getN E zc_14 zt_1309 dX30_run_22 q1568 zr_14 (zg_1309 _) (by decide) (fun v3 => ?_)
    refine r_putN E zc_14 zt_1313 zo_1313 dX30_run_25 q1585 zr_14 zw_X12 zp_1313 (fun _ => rfl) (fun _ => rfl) (by decide) ?_
    refine r_iconst E dX30_run_28 (zkI (by decide) (by decide)) ?_
    exact r_zreturn E rfl hT (by decide) dX30_run_29
theorem k_fX30_run_28 (l : Launch) (G : zG) (x2 : Int) (x3 : Int) : zCt l G yX30_run cX30_run 4 (some .boolean) 2 [(16, 28), (14, 0), (9, x2), (11, x3)] (some 0) (fX30_run_28 x2 x3) := zCt.of (by decide) (Nat.le_of_ble_eq_true rfl) (fun K E _ _ hN hT => w_fX30_run_28 E hN hT x2 x3)
theorem w_fX30_run_29 {K : zK} (E : zE K cX30_run "RingHouse$Go" (some .boolean) 2) (hN : zNl K = 4) (hT : zTr K = (some 0)) (x2 : Int) (x3 : Int) : zR K 0 [(0, 16, 29), (1, 14, 0), (2, 9, x2), (3, 11, x3)] [] (fX30_run_29 x2 x3) := by
  refine r_aload_n E dX30_run_0 rfl 0 rfl ?_
  refine r_gec (y := 2) E zc_16 dX30_run_1 q1246 zr_16 (zh_16_29_3) (by decide) ?_
  refine r_aload_n E dX30_run_4 rfl 2 rfl ?_
  refine r_aload_n E dX30_run_5 rfl 3 rfl ?_
  refine r_callS E [(0, 2), (9, x2), (11, x3)] [] rfl q2438 q2439 q257 q2440 dX30_run_6 zy_X30_goesBy rfl (by omega) (by decide) (Nat.le_of_ble_eq_true rfl) (fun l G => k_fX30_goesBy l G 2 x2 x3) (fun v1 => ?_)
  refine r_if_eq E 28 (by decide) dX30_run_9 (fun _ => ?_) (fun _ => ?_)
  · refine r_iconst E dX30_run_28 (zkI (by decide) (by decide)) ?_
    exact r_zreturn E rfl hT (by decide) dX30_run_29
  · refine r_aload_n E dX30_run_12 rfl 1 rfl ?_
    refine r_aload_n E dX30_run_13 rfl 1 rfl ?_
    refine r_getN E zc_14 zt_1308 dX30_run_14 q1558 zr_14 (zg_1308 _) (by decide) (fun v2 => ?_)
    refine r_putN E zc_14 zt_1312 zo_1312 dX30_run_17 q1583 zr_14 zw_X12 zp_1312 (fun _ => rfl) (fun _ => rfl) (by decide) ?_
    refine r_aload_n E dX30_run_20 rfl 1 rfl ?_
    refine r_aload_n E dX30_run_21 rfl 1 rfl ?_
    refine r_getN E zc_14 zt_1309 dX30_run_22 q1568 zr_14 (zg_1309 _) (by decide) (fun v3 => ?_)
    refine r_putN E zc_14 zt_1313 zo_1313 dX30_run_25 q1585 zr_14 zw_X12 zp_1313 (fun _ => rfl) (fun _ => rfl) (by decide) ?_
    refine r_iconst E dX30_run_28 (zkI (by decide) (by decide)) ?_
    exact r_zreturn E rfl hT (by decide) dX30_run_29
theorem k_fX30_run_29 (l : Launch) (G : zG) (x2 : Int) (x3 : Int) : zCt l G yX30_run cX30_run 4 (some .boolean) 2 [(16, 29), (14, 0), (9, x2), (11, x3)] (some 0) (fX30_run_29 x2 x3) := zCt.of (by decide) (Nat.le_of_ble_eq_true rfl) (fun K E _ _ hN hT => w_fX30_run_29 E hN hT x2 x3)
theorem w_fX30_run_30 {K : zK} (E : zE K cX30_run "RingHouse$Go" (some .boolean) 2) (hN : zNl K = 4) (hT : zTr K = (some 0)) (x2 : Int) (x3 : Int) : zR K 0 [(0, 16, 30), (1, 14, 0), (2, 9, x2), (3, 11, x3)] [] (fX30_run_30 x2 x3) := by
  refine r_aload_n E dX30_run_0 rfl 0 rfl ?_
  refine r_gec (y := 3) E zc_16 dX30_run_1 q1246 zr_16 (zh_16_30_3) (by decide) ?_
  refine r_aload_n E dX30_run_4 rfl 2 rfl ?_
  refine r_aload_n E dX30_run_5 rfl 3 rfl ?_
  refine r_callS E [(0, 3), (9, x2), (11, x3)] [] rfl q2438 q2439 q257 q2440 dX30_run_6 zy_X30_goesBy rfl (by omega) (by decide) (Nat.le_of_ble_eq_true rfl) (fun l G => k_fX30_goesBy l G 3 x2 x3) (fun v1 => ?_)
  refine r_if_eq E 28 (by decide) dX30_run_9 (fun _ => ?_) (fun _ => ?_)
  · refine r_iconst E dX30_run_28 (zkI (by decide) (by decide)) ?_
    exact r_zreturn E rfl hT (by decide) dX30_run_29
  · refine r_aload_n E dX30_run_12 rfl 1 rfl ?_
    refine r_aload_n E dX30_run_13 rfl 1 rfl ?_
    refine r_getN E zc_14 zt_1308 dX30_run_14 q1558 zr_14 (zg_1308 _) (by decide) (fun v2 => ?_)
    refine r_putN E zc_14 zt_1312 zo_1312 dX30_run_17 q1583 zr_14 zw_X12 zp_1312 (fun _ => rfl) (fun _ => rfl) (by decide) ?_
    refine r_aload_n E dX30_run_20 rfl 1 rfl ?_
    refine r_aload_n E dX30_run_21 rfl 1 rfl ?_
    refine r_getN E zc_14 zt_1309 dX30_run_22 q1568 zr_14 (zg_1309 _) (by decide) (fun v3 => ?_)
    refine r_putN E zc_14 zt_1313 zo_1313 dX30_run_25 q1585 zr_14 zw_X12 zp_1313 (fun _ => rfl) (fun _ => rfl) (by decide) ?_
    refine r_iconst E dX30_run_28 (zkI (by decide) (by decide)) ?_
    exact r_zreturn E rfl hT (by decide) dX30_run_29
theorem k_fX30_run_30 (l : Launch) (G : zG) (x2 : Int) (x3 : Int) : zCt l G yX30_run cX30_run 4 (some .boolean) 2 [(16, 30), (14, 0), (9, x2), (11, x3)] (some 0) (fX30_run_30 x2 x3) := zCt.of (by decide) (Nat.le_of_ble_eq_true rfl) (fun K E _ _ hN hT => w_fX30_run_30 E hN hT x2 x3)
theorem w_fX30_run_31 {K : zK} (E : zE K cX30_run "RingHouse$Go" (some .boolean) 2) (hN : zNl K = 4) (hT : zTr K = (some 0)) (x2 : Int) (x3 : Int) : zR K 0 [(0, 16, 31), (1, 14, 0), (2, 9, x2), (3, 11, x3)] [] (fX30_run_31 x2 x3) := by
  refine r_aload_n E dX30_run_0 rfl 0 rfl ?_
  refine r_gec (y := 4) E zc_16 dX30_run_1 q1246 zr_16 (zh_16_31_3) (by decide) ?_
  refine r_aload_n E dX30_run_4 rfl 2 rfl ?_
  refine r_aload_n E dX30_run_5 rfl 3 rfl ?_
  refine r_callS E [(0, 4), (9, x2), (11, x3)] [] rfl q2438 q2439 q257 q2440 dX30_run_6 zy_X30_goesBy rfl (by omega) (by decide) (Nat.le_of_ble_eq_true rfl) (fun l G => k_fX30_goesBy l G 4 x2 x3) (fun v1 => ?_)
  refine r_if_eq E 28 (by decide) dX30_run_9 (fun _ => ?_) (fun _ => ?_)
  · refine r_iconst E dX30_run_28 (zkI (by decide) (by decide)) ?_
    exact r_zreturn E rfl hT (by decide) dX30_run_29
  · refine r_aload_n E dX30_run_12 rfl 1 rfl ?_
    refine r_aload_n E dX30_run_13 rfl 1 rfl ?_
    refine r_getN E zc_14 zt_1308 dX30_run_14 q1558 zr_14 (zg_1308 _) (by decide) (fun v2 => ?_)
    refine r_putN E zc_14 zt_1312 zo_1312 dX30_run_17 q1583 zr_14 zw_X12 zp_1312 (fun _ => rfl) (fun _ => rfl) (by decide) ?_
    refine r_aload_n E dX30_run_20 rfl 1 rfl ?_
    refine r_aload_n E dX30_run_21 rfl 1 rfl ?_
    refine r_getN E zc_14 zt_1309 dX30_run_22 q1568 zr_14 (zg_1309 _) (by decide) (fun v3 => ?_)
    refine r_putN E zc_14 zt_1313 zo_1313 dX30_run_25 q1585 zr_14 zw_X12 zp_1313 (fun _ => rfl) (fun _ => rfl) (by decide) ?_
    refine r_iconst E dX30_run_28 (zkI (by decide) (by decide)) ?_
    exact r_zreturn E rfl hT (by decide) dX30_run_29
theorem k_fX30_run_31 (l : Launch) (G : zG) (x2 : Int) (x3 : Int) : zCt l G yX30_run cX30_run 4 (some .boolean) 2 [(16, 31), (14, 0), (9, x2), (11, x3)] (some 0) (fX30_run_31 x2 x3) := zCt.of (by decide) (Nat.le_of_ble_eq_true rfl) (fun K E _ _ hN hT => w_fX30_run_31 E hN hT x2 x3)
theorem w_fX30_run_32 {K : zK} (E : zE K cX30_run "RingHouse$Go" (some .boolean) 2) (hN : zNl K = 4) (hT : zTr K = (some 0)) (x2 : Int) (x3 : Int) : zR K 0 [(0, 16, 32), (1, 14, 0), (2, 9, x2), (3, 11, x3)] [] (fX30_run_32 x2 x3) := by
  refine r_aload_n E dX30_run_0 rfl 0 rfl ?_
  refine r_gec (y := 5) E zc_16 dX30_run_1 q1246 zr_16 (zh_16_32_3) (by decide) ?_
  refine r_aload_n E dX30_run_4 rfl 2 rfl ?_
  refine r_aload_n E dX30_run_5 rfl 3 rfl ?_
  refine r_callS E [(0, 5), (9, x2), (11, x3)] [] rfl q2438 q2439 q257 q2440 dX30_run_6 zy_X30_goesBy rfl (by omega) (by decide) (Nat.le_of_ble_eq_true rfl) (fun l G => k_fX30_goesBy l G 5 x2 x3) (fun v1 => ?_)
  refine r_if_eq E 28 (by decide) dX30_run_9 (fun _ => ?_) (fun _ => ?_)
  · refine r_iconst E dX30_run_28 (zkI (by decide) (by decide)) ?_
    exact r_zreturn E rfl hT (by decide) dX30_run_29
  · refine r_aload_n E dX30_run_12 rfl 1 rfl ?_
    refine r_aload_n E dX30_run_13 rfl 1 rfl ?_
    refine r_getN E zc_14 zt_1308 dX30_run_14 q1558 zr_14 (zg_1308 _) (by decide) (fun v2 => ?_)
    refine r_putN E zc_14 zt_1312 zo_1312 dX30_run_17 q1583 zr_14 zw_X12 zp_1312 (fun _ => rfl) (fun _ => rfl) (by decide) ?_
    refine r_aload_n E dX30_run_20 rfl 1 rfl ?_
    refine r_aload_n E dX30_run_21 rfl 1 rfl ?_
    refine r_getN E zc_14 zt_1309 dX30_run_22 q1568 zr_14 (zg_1309 _) (by decide) (fun v3 => ?_)
    refine r_putN E zc_14 zt_1313 zo_1313 dX30_run_25 q1585 zr_14 zw_X12 zp_1313 (fun _ => rfl) (fun _ => rfl) (by decide) ?_
    refine r_iconst E dX30_run_28 (zkI (by decide) (by decide)) ?_
    exact r_zreturn E rfl hT (by decide) dX30_run_29
theorem k_fX30_run_32 (l : Launch) (G : zG) (x2 : Int) (x3 : Int) : zCt l G yX30_run cX30_run 4 (some .boolean) 2 [(16, 32), (14, 0), (9, x2), (11, x3)] (some 0) (fX30_run_32 x2 x3) := zCt.of (by decide) (Nat.le_of_ble_eq_true rfl) (fun K E _ _ hN hT => w_fX30_run_32 E hN hT x2 x3)
theorem dX31_deny_0 : decode cX31_deny 0 = .ok (.aload_n 1, 1) := by decide +kernel
theorem dX31_deny_1 : decode cX31_deny 1 = .ok (.aload_n 2, 1) := by decide +kernel
theorem dX31_deny_2 : decode cX31_deny 2 = .ok (.iload_n 3, 1) := by decide +kernel
theorem dX31_deny_3 : decode cX31_deny 3 = .ok (.invokevirtual 81, 3) := by decide +kernel
theorem dX31_deny_6 : decode cX31_deny 6 = .ok (.aload_n 1, 1) := by decide +kernel
theorem dX31_deny_7 : decode cX31_deny 7 = .ok (.iload_n 3, 1) := by decide +kernel
theorem dX31_deny_8 : decode cX31_deny 8 = .ok (.aload_n 1, 1) := by decide +kernel
theorem dX31_deny_9 : decode cX31_deny 9 = .ok (.getfield 11, 3) := by decide +kernel
theorem dX31_deny_12 : decode cX31_deny 12 = .ok (.aload_n 1, 1) := by decide +kernel
theorem dX31_deny_13 : decode cX31_deny 13 = .ok (.getfield 17, 3) := by decide +kernel
theorem dX31_deny_16 : decode cX31_deny 16 = .ok (.aload_n 1, 1) := by decide +kernel
theorem dX31_deny_17 : decode cX31_deny 17 = .ok (.getfield 20, 3) := by decide +kernel
theorem dX31_deny_20 : decode cX31_deny 20 = .ok (.invokevirtual 27, 3) := by decide +kernel
theorem dX31_deny_23 : decode cX31_deny 23 = .ok (.pop, 1) := by decide +kernel
theorem dX31_deny_24 : decode cX31_deny 24 = .ok (.return_, 1) := by decide +kernel
theorem zy_X31_deny : yX31_deny.cls ≠ "java/lang/invoke/MethodHandle" ∧ yX31_deny.cls ≠ "java/lang/invoke/VarHandle" ∧ (parseMethodDescriptor yX31_deny.desc).map (fun d => d.parameters.length) = some 3 := by decide +kernel
theorem w_fX31_deny_33 {K : zK} (E : zE K cX31_deny "RingHouse$Call" none 4) (hN : zNl K = 4) (hT : zTr K = none) (x2 : Int) (x3 : Int) : zR K 0 [(0, 16, 33), (1, 14, 0), (2, 6, x2), (3, 0, x3)] [] (fX31_deny_33 x2 x3) := by
  refine r_aload_n E dX31_deny_0 rfl 1 rfl ?_
  refine r_aload_n E dX31_deny_1 rfl 2 rfl ?_
  refine r_iload_n E dX31_deny_2 rfl 3 rfl ?_
  refine r_callVN E [(6, x2), (0, x3)] [] rfl zc_14 zr_14 (fun o _ => ⟨_, zw_X12.1 o, rfl⟩) q2407 q2238 qs16 q239 q2239 dX31_deny_3 zy_X12_deny rfl (by omega) (by decide) (Nat.le_of_ble_eq_true rfl) (by decide) (fun l G => k_fX12_deny l G x2 x3) (fun _ => ?_)
  refine r_aload_n E dX31_deny_6 rfl 1 rfl ?_
  refine r_iload_n E dX31_deny_7 rfl 3 rfl ?_
  refine r_aload_n E dX31_deny_8 rfl 1 rfl ?_
  refine r_getN E zc_14 zt_1308 dX31_deny_9 q1554 zr_14 (zg_1308 _) (by decide) (fun v2 => ?_)
  refine r_aload_n E dX31_deny_12 rfl 1 rfl ?_
  refine r_getN E zc_14 zt_1309 dX31_deny_13 q1562 zr_14 (zg_1309 _) (by decide) (fun v3 => ?_)
  refine r_aload_n E dX31_deny_16 rfl 1 rfl ?_
  refine r_getN E zc_14 zt_1310 dX31_deny_17 q1572 zr_14 (zg_1310 _) (by decide) (fun v4 => ?_)
  refine r_callVN E [(0, x3), (0, v2), (0, v3), (0, v4)] [] rfl zc_14 zr_14 (fun o _ => ⟨_, zw_X12.1 o, rfl⟩) q2401 q2211 qs15 q239 q2212 dX31_deny_20 zy_X12_refuse rfl (by omega) (by decide) (Nat.le_of_ble_eq_true rfl) (by decide) (fun l G => k_fX12_refuse l G x3 v2 v3 v4) (fun v5 => ?_)
  refine r_pop E (zn1 rfl) dX31_deny_23 ?_
  exact r_return E rfl hT dX31_deny_24
theorem k_fX31_deny_33 (l : Launch) (G : zG) (x2 : Int) (x3 : Int) : zCt l G yX31_deny cX31_deny 4 none 4 [(16, 33), (14, 0), (6, x2), (0, x3)] none (fX31_deny_33 x2 x3) := zCt.of (by decide) (Nat.le_of_ble_eq_true rfl) (fun K E _ _ hN hT => w_fX31_deny_33 E hN hT x2 x3)
theorem dX31_newRing_0 : decode cX31_newRing 0 = .ok (.aload_n 1, 1) := by decide +kernel
theorem dX31_newRing_1 : decode cX31_newRing 1 = .ok (.aload_n 1, 1) := by decide +kernel
theorem dX31_newRing_2 : decode cX31_newRing 2 = .ok (.getfield 11, 3) := by decide +kernel
theorem dX31_newRing_5 : decode cX31_newRing 5 = .ok (.aload_n 1, 1) := by decide +kernel
theorem dX31_newRing_6 : decode cX31_newRing 6 = .ok (.getfield 17, 3) := by decide +kernel
theorem dX31_newRing_9 : decode cX31_newRing 9 = .ok (.aload_n 1, 1) := by decide +kernel
theorem dX31_newRing_10 : decode cX31_newRing 10 = .ok (.getfield 20, 3) := by decide +kernel
theorem dX31_newRing_13 : decode cX31_newRing 13 = .ok (.invokevirtual 23, 3) := by decide +kernel
theorem dX31_newRing_16 : decode cX31_newRing 16 = .ok (.ifCond .ne 5, 3) := by decide +kernel
theorem dX31_newRing_19 : decode cX31_newRing 19 = .ok (.iconst (-1), 1) := by decide +kernel
theorem dX31_newRing_20 : decode cX31_newRing 20 = .ok (.ireturn, 1) := by decide +kernel
theorem dX31_newRing_21 : decode cX31_newRing 21 = .ok (.aload_n 1, 1) := by decide +kernel
theorem dX31_newRing_22 : decode cX31_newRing 22 = .ok (.getfield 11, 3) := by decide +kernel
theorem dX31_newRing_25 : decode cX31_newRing 25 = .ok (.bipush 8, 2) := by decide +kernel
theorem dX31_newRing_27 : decode cX31_newRing 27 = .ok (.if_icmp .ge 23, 3) := by decide +kernel
theorem dX31_newRing_30 : decode cX31_newRing 30 = .ok (.aload_n 1, 1) := by decide +kernel
theorem dX31_newRing_31 : decode cX31_newRing 31 = .ok (.iconst 3, 1) := by decide +kernel
theorem dX31_newRing_32 : decode cX31_newRing 32 = .ok (.aload_n 1, 1) := by decide +kernel
theorem dX31_newRing_33 : decode cX31_newRing 33 = .ok (.getfield 11, 3) := by decide +kernel
theorem dX31_newRing_36 : decode cX31_newRing 36 = .ok (.aload_n 1, 1) := by decide +kernel
theorem dX31_newRing_37 : decode cX31_newRing 37 = .ok (.getfield 17, 3) := by decide +kernel
theorem dX31_newRing_40 : decode cX31_newRing 40 = .ok (.aload_n 1, 1) := by decide +kernel
theorem dX31_newRing_41 : decode cX31_newRing 41 = .ok (.getfield 20, 3) := by decide +kernel
theorem dX31_newRing_44 : decode cX31_newRing 44 = .ok (.invokevirtual 27, 3) := by decide +kernel
theorem dX31_newRing_47 : decode cX31_newRing 47 = .ok (.pop, 1) := by decide +kernel
theorem dX31_newRing_48 : decode cX31_newRing 48 = .ok (.iconst (-1), 1) := by decide +kernel
theorem dX31_newRing_49 : decode cX31_newRing 49 = .ok (.ireturn, 1) := by decide +kernel
theorem dX31_newRing_50 : decode cX31_newRing 50 = .ok (.aload_n 1, 1) := by decide +kernel
theorem dX31_newRing_51 : decode cX31_newRing 51 = .ok (.getfield 31, 3) := by decide +kernel
theorem dX31_newRing_54 : decode cX31_newRing 54 = .ok (.getfield 35, 3) := by decide +kernel
theorem dX31_newRing_57 : decode cX31_newRing 57 = .ok (.aload_n 1, 1) := by decide +kernel
theorem dX31_newRing_58 : decode cX31_newRing 58 = .ok (.getfield 11, 3) := by decide +kernel
theorem dX31_newRing_61 : decode cX31_newRing 61 = .ok (.aaload, 1) := by decide +kernel
theorem dX31_newRing_62 : decode cX31_newRing 62 = .ok (.astore_n 2, 1) := by decide +kernel
theorem dX31_newRing_63 : decode cX31_newRing 63 = .ok (.aload_n 1, 1) := by decide +kernel
theorem dX31_newRing_64 : decode cX31_newRing 64 = .ok (.getfield 31, 3) := by decide +kernel
theorem dX31_newRing_67 : decode cX31_newRing 67 = .ok (.aload_n 1, 1) := by decide +kernel
theorem dX31_newRing_68 : decode cX31_newRing 68 = .ok (.getfield 11, 3) := by decide +kernel
theorem dX31_newRing_71 : decode cX31_newRing 71 = .ok (.aload_n 1, 1) := by decide +kernel
theorem dX31_newRing_72 : decode cX31_newRing 72 = .ok (.getfield 20, 3) := by decide +kernel
theorem dX31_newRing_75 : decode cX31_newRing 75 = .ok (.iconst 2, 1) := by decide +kernel
theorem dX31_newRing_76 : decode cX31_newRing 76 = .ok (.invokevirtual 41, 3) := by decide +kernel
theorem dX31_newRing_79 : decode cX31_newRing 79 = .ok (.istore_n 3, 1) := by decide +kernel
theorem dX31_newRing_80 : decode cX31_newRing 80 = .ok (.iload_n 3, 1) := by decide +kernel
theorem dX31_newRing_81 : decode cX31_newRing 81 = .ok (.iconst 3, 1) := by decide +kernel
theorem dX31_newRing_82 : decode cX31_newRing 82 = .ok (.if_icmp .eq 8, 3) := by decide +kernel
theorem dX31_newRing_85 : decode cX31_newRing 85 = .ok (.iload_n 3, 1) := by decide +kernel
theorem dX31_newRing_86 : decode cX31_newRing 86 = .ok (.iconst 4, 1) := by decide +kernel
theorem dX31_newRing_87 : decode cX31_newRing 87 = .ok (.if_icmp .ne 12, 3) := by decide +kernel
theorem dX31_newRing_90 : decode cX31_newRing 90 = .ok (.aload_n 0, 1) := by decide +kernel
theorem dX31_newRing_91 : decode cX31_newRing 91 = .ok (.aload_n 1, 1) := by decide +kernel
theorem dX31_newRing_92 : decode cX31_newRing 92 = .ok (.aload_n 2, 1) := by decide +kernel
theorem dX31_newRing_93 : decode cX31_newRing 93 = .ok (.iload_n 3, 1) := by decide +kernel
theorem dX31_newRing_94 : decode cX31_newRing 94 = .ok (.invokevirtual 45, 3) := by decide +kernel
theorem dX31_newRing_97 : decode cX31_newRing 97 = .ok (.iconst (-1), 1) := by decide +kernel
theorem dX31_newRing_98 : decode cX31_newRing 98 = .ok (.ireturn, 1) := by decide +kernel
theorem dX31_newRing_99 : decode cX31_newRing 99 = .ok (.aload_n 1, 1) := by decide +kernel
theorem dX31_newRing_100 : decode cX31_newRing 100 = .ok (.getfield 20, 3) := by decide +kernel
theorem dX31_newRing_103 : decode cX31_newRing 103 = .ok (.aload_n 2, 1) := by decide +kernel
theorem dX31_newRing_104 : decode cX31_newRing 104 = .ok (.getfield 51, 3) := by decide +kernel
theorem dX31_newRing_107 : decode cX31_newRing 107 = .ok (.if_icmp .ge 45, 3) := by decide +kernel
theorem dX31_newRing_110 : decode cX31_newRing 110 = .ok (.aload_n 1, 1) := by decide +kernel
theorem dX31_newRing_111 : decode cX31_newRing 111 = .ok (.getfield 56, 3) := by decide +kernel
theorem dX31_newRing_114 : decode cX31_newRing 114 = .ok (.aload_n 1, 1) := by decide +kernel
theorem dX31_newRing_115 : decode cX31_newRing 115 = .ok (.getfield 31, 3) := by decide +kernel
theorem dX31_newRing_118 : decode cX31_newRing 118 = .ok (.getfield 60, 3) := by decide +kernel
theorem dX31_newRing_121 : decode cX31_newRing 121 = .ok (.iconst 1, 1) := by decide +kernel
theorem dX31_newRing_122 : decode cX31_newRing 122 = .ok (.aload_n 2, 1) := by decide +kernel
theorem dX31_newRing_123 : decode cX31_newRing 123 = .ok (.getfield 63, 3) := by decide +kernel
theorem dX31_newRing_126 : decode cX31_newRing 126 = .ok (.bipush 7, 2) := by decide +kernel
theorem dX31_newRing_128 : decode cX31_newRing 128 = .ok (.invokevirtual 66, 3) := by decide +kernel
theorem dX31_newRing_131 : decode cX31_newRing 131 = .ok (.aload_n 1, 1) := by decide +kernel
theorem dX31_newRing_132 : decode cX31_newRing 132 = .ok (.bipush 7, 2) := by decide +kernel
theorem dX31_newRing_134 : decode cX31_newRing 134 = .ok (.aload_n 1, 1) := by decide +kernel
theorem dX31_newRing_135 : decode cX31_newRing 135 = .ok (.getfield 11, 3) := by decide +kernel
theorem dX31_newRing_138 : decode cX31_newRing 138 = .ok (.aload_n 1, 1) := by decide +kernel
theorem dX31_newRing_139 : decode cX31_newRing 139 = .ok (.getfield 17, 3) := by decide +kernel
theorem dX31_newRing_142 : decode cX31_newRing 142 = .ok (.aload_n 1, 1) := by decide +kernel
theorem dX31_newRing_143 : decode cX31_newRing 143 = .ok (.getfield 20, 3) := by decide +kernel
theorem dX31_newRing_146 : decode cX31_newRing 146 = .ok (.invokevirtual 27, 3) := by decide +kernel
theorem dX31_newRing_149 : decode cX31_newRing 149 = .ok (.pop, 1) := by decide +kernel
theorem dX31_newRing_150 : decode cX31_newRing 150 = .ok (.iconst (-1), 1) := by decide +kernel
theorem dX31_newRing_151 : decode cX31_newRing 151 = .ok (.ireturn, 1) := by decide +kernel
theorem dX31_newRing_152 : decode cX31_newRing 152 = .ok (.aload_n 1, 1) := by decide +kernel
theorem dX31_newRing_153 : decode cX31_newRing 153 = .ok (.getfield 20, 3) := by decide +kernel
theorem dX31_newRing_156 : decode cX31_newRing 156 = .ok (.aload_n 2, 1) := by decide +kernel
theorem dX31_newRing_157 : decode cX31_newRing 157 = .ok (.getfield 72, 3) := by decide +kernel
theorem dX31_newRing_160 : decode cX31_newRing 160 = .ok (.if_icmp .gt 8, 3) := by decide +kernel
theorem dX31_newRing_163 : decode cX31_newRing 163 = .ok (.aload_n 1, 1) := by decide +kernel
theorem dX31_newRing_164 : decode cX31_newRing 164 = .ok (.getfield 20, 3) := by decide +kernel
theorem dX31_newRing_167 : decode cX31_newRing 167 = .ok (.ireturn, 1) := by decide +kernel
theorem dX31_newRing_168 : decode cX31_newRing 168 = .ok (.aload_n 1, 1) := by decide +kernel
theorem dX31_newRing_169 : decode cX31_newRing 169 = .ok (.getfield 20, 3) := by decide +kernel
theorem dX31_newRing_172 : decode cX31_newRing 172 = .ok (.aload_n 2, 1) := by decide +kernel
theorem dX31_newRing_173 : decode cX31_newRing 173 = .ok (.getfield 75, 3) := by decide +kernel
theorem dX31_newRing_176 : decode cX31_newRing 176 = .ok (.if_icmp .le 12, 3) := by decide +kernel
theorem dX31_newRing_179 : decode cX31_newRing 179 = .ok (.aload_n 0, 1) := by decide +kernel
theorem dX31_newRing_180 : decode cX31_newRing 180 = .ok (.aload_n 1, 1) := by decide +kernel
theorem dX31_newRing_181 : decode cX31_newRing 181 = .ok (.aload_n 2, 1) := by decide +kernel
theorem dX31_newRing_182 : decode cX31_newRing 182 = .ok (.iconst 5, 1) := by decide +kernel
theorem dX31_newRing_183 : decode cX31_newRing 183 = .ok (.invokevirtual 45, 3) := by decide +kernel
theorem dX31_newRing_186 : decode cX31_newRing 186 = .ok (.iconst (-1), 1) := by decide +kernel
theorem dX31_newRing_187 : decode cX31_newRing 187 = .ok (.ireturn, 1) := by decide +kernel
theorem dX31_newRing_188 : decode cX31_newRing 188 = .ok (.aload_n 1, 1) := by decide +kernel
theorem dX31_newRing_189 : decode cX31_newRing 189 = .ok (.getfield 17, 3) := by decide +kernel
theorem dX31_newRing_192 : decode cX31_newRing 192 = .ok (.aload_n 2, 1) := by decide +kernel
theorem dX31_newRing_193 : decode cX31_newRing 193 = .ok (.getfield 78, 3) := by decide +kernel
theorem dX31_newRing_196 : decode cX31_newRing 196 = .ok (.if_icmp .lt 45, 3) := by decide +kernel
theorem dX31_newRing_199 : decode cX31_newRing 199 = .ok (.aload_n 1, 1) := by decide +kernel
theorem dX31_newRing_200 : decode cX31_newRing 200 = .ok (.getfield 56, 3) := by decide +kernel
theorem dX31_newRing_203 : decode cX31_newRing 203 = .ok (.aload_n 1, 1) := by decide +kernel
theorem dX31_newRing_204 : decode cX31_newRing 204 = .ok (.getfield 31, 3) := by decide +kernel
theorem dX31_newRing_207 : decode cX31_newRing 207 = .ok (.getfield 60, 3) := by decide +kernel
theorem dX31_newRing_210 : decode cX31_newRing 210 = .ok (.iconst 1, 1) := by decide +kernel
theorem dX31_newRing_211 : decode cX31_newRing 211 = .ok (.aload_n 2, 1) := by decide +kernel
theorem dX31_newRing_212 : decode cX31_newRing 212 = .ok (.getfield 63, 3) := by decide +kernel
theorem dX31_newRing_215 : decode cX31_newRing 215 = .ok (.bipush 6, 2) := by decide +kernel
theorem dX31_newRing_217 : decode cX31_newRing 217 = .ok (.invokevirtual 66, 3) := by decide +kernel
theorem dX31_newRing_220 : decode cX31_newRing 220 = .ok (.aload_n 1, 1) := by decide +kernel
theorem dX31_newRing_221 : decode cX31_newRing 221 = .ok (.bipush 6, 2) := by decide +kernel
theorem dX31_newRing_223 : decode cX31_newRing 223 = .ok (.aload_n 1, 1) := by decide +kernel
theorem dX31_newRing_224 : decode cX31_newRing 224 = .ok (.getfield 11, 3) := by decide +kernel
theorem dX31_newRing_227 : decode cX31_newRing 227 = .ok (.aload_n 1, 1) := by decide +kernel
theorem dX31_newRing_228 : decode cX31_newRing 228 = .ok (.getfield 17, 3) := by decide +kernel
theorem dX31_newRing_231 : decode cX31_newRing 231 = .ok (.aload_n 1, 1) := by decide +kernel
theorem dX31_newRing_232 : decode cX31_newRing 232 = .ok (.getfield 20, 3) := by decide +kernel
theorem dX31_newRing_235 : decode cX31_newRing 235 = .ok (.invokevirtual 27, 3) := by decide +kernel
theorem dX31_newRing_238 : decode cX31_newRing 238 = .ok (.pop, 1) := by decide +kernel
theorem dX31_newRing_239 : decode cX31_newRing 239 = .ok (.iconst (-1), 1) := by decide +kernel
theorem dX31_newRing_240 : decode cX31_newRing 240 = .ok (.ireturn, 1) := by decide +kernel
theorem dX31_newRing_241 : decode cX31_newRing 241 = .ok (.aload_n 2, 1) := by decide +kernel
theorem dX31_newRing_242 : decode cX31_newRing 242 = .ok (.getfield 72, 3) := by decide +kernel
theorem dX31_newRing_245 : decode cX31_newRing 245 = .ok (.ireturn, 1) := by decide +kernel
theorem zy_X31_newRing : yX31_newRing.cls ≠ "java/lang/invoke/MethodHandle" ∧ yX31_newRing.cls ≠ "java/lang/invoke/VarHandle" ∧ (parseMethodDescriptor yX31_newRing.desc).map (fun d => d.parameters.length) = some 1 := by decide +kernel
theorem w_fX31_newRing_33_J90 {K : zK} (E : zE K cX31_newRing "RingHouse$Call" (some .int) 5) (hN : zNl K = 4) (hT : zTr K = (some 0)) (x2 : Int) (x3 : Int) : zR K 90 [(0, 16, 33), (1, 14, 0), (2, 6, x2), (3, 0, x3)] [] (fX31_newRing_33_J90 x2 x3) := by
  refine r_aload_n E dX31_newRing_90 rfl 0 rfl ?_
  refine r_aload_n E dX31_newRing_91 rfl 1 rfl ?_
  refine r_aload_n E dX31_newRing_92 rfl 2 rfl ?_
  refine r_iload_n E dX31_newRing_93 rfl 3 rfl ?_
  refine r_callV E [(14, 0), (6, x2), (0, x3)] [] rfl zc_16 zr_16 (zk_16_33) (lw_V q2403 q2405 qs31 q258 q2406) dX31_newRing_94 zy_X31_deny rfl (by omega) (by decide) (Nat.le_of_ble_eq_true rfl) (by decide) (fun l G => k_fX31_deny_33 l G x2 x3) (fun _ => ?_)
  refine r_iconst E dX31_newRing_97 (zkI (by decide) (by decide)) ?_
  exact r_ireturn E rfl hT dX31_newRing_98
theorem w_fX31_newRing_33 {K : zK} (E : zE K cX31_newRing "RingHouse$Call" (some .int) 5) (hN : zNl K = 4) (hT : zTr K = (some 0)) : zR K 0 [(0, 16, 33), (1, 14, 0)] [] (fX31_newRing_33) := by
  refine r_aload_n E dX31_newRing_0 rfl 1 rfl ?_
  refine r_aload_n E dX31_newRing_1 rfl 1 rfl ?_
  refine r_getN E zc_14 zt_1308 dX31_newRing_2 q1554 zr_14 (zg_1308 _) (by decide) (fun v1 => ?_)
  refine r_aload_n E dX31_newRing_5 rfl 1 rfl ?_
  refine r_getN E zc_14 zt_1309 dX31_newRing_6 q1562 zr_14 (zg_1309 _) (by decide) (fun v2 => ?_)
  refine r_aload_n E dX31_newRing_9 rfl 1 rfl ?_
  refine r_getN E zc_14 zt_1310 dX31_newRing_10 q1572 zr_14 (zg_1310 _) (by decide) (fun v3 => ?_)
  refine r_callVN E [(0, v1), (0, v2), (0, v3)] [] rfl zc_14 zr_14 (fun o _ => ⟨_, zw_X12.1 o, rfl⟩) q2400 q2207 qs14 q239 q2208 dX31_newRing_13 zy_X12_isThere rfl (by omega) (by decide) (Nat.le_of_ble_eq_true rfl) (by decide) (fun l G => k_fX12_isThere l G v1 v2 v3) (fun v4 => ?_)
  refine r_if_ne E 21 (by decide) dX31_newRing_16 (fun _ => ?_) (fun _ => ?_)
  · refine r_aload_n E dX31_newRing_21 rfl 1 rfl ?_
    refine r_getN E zc_14 zt_1308 dX31_newRing_22 q1554 zr_14 (zg_1308 _) (by decide) (fun v5 => ?_)
    refine r_bipush E dX31_newRing_25 (by decide) (zkI (by decide) (by decide)) ?_
    refine r_icmp_ge E 50 (by decide) dX31_newRing_27 (fun _ => ?_) (fun _ => ?_)
    · refine r_aload_n E dX31_newRing_50 rfl 1 rfl ?_
      refine r_getN E zc_14 zt_1307 dX31_newRing_51 q1552 zr_14 (zg_1307 _) (by decide) (fun v6 => ?_)
      refine r_nn E (fun hn7 => ?_)
      refine r_gecN (y := v6) E zc_10 dX31_newRing_54 q912 zr_10 (zh_916 (by omega)) hn7 ?_
      refine r_aload_n E dX31_newRing_57 rfl 1 rfl ?_
      refine r_getN E zc_14 zt_1308 dX31_newRing_58 q1554 zr_14 (zg_1308 _) (by decide) (fun v8 => ?_)
      refine r_aaload E zc_916 za_916 zt_916 zx_916 rfl rfl dX31_newRing_61 hn7 (fun v9 => ?_)
      refine r_astore_n (ls' := [(2, 6, v9), (0, 16, 33), (1, 14, 0)]) E dX31_newRing_62 rfl (by rw [hN]; decide) rfl ?_
      refine r_aload_n E dX31_newRing_63 rfl 2 rfl ?_
      refine r_getN E zc_14 zt_1307 dX31_newRing_64 q1552 zr_14 (zg_1307 _) (by decide) (fun v10 => ?_)
      refine r_aload_n E dX31_newRing_67 rfl 2 rfl ?_
      refine r_getN E zc_14 zt_1308 dX31_newRing_68 q1554 zr_14 (zg_1308 _) (by decide) (fun v11 => ?_)
      refine r_aload_n E dX31_newRing_71 rfl 2 rfl ?_
      refine r_getN E zc_14 zt_1310 dX31_newRing_72 q1572 zr_14 (zg_1310 _) (by decide) (fun v12 => ?_)
      refine r_iconst E dX31_newRing_75 (zkI (by decide) (by decide)) ?_
      refine r_nn E (fun hn13 => ?_)
      refine r_callV E [(0, v11), (0, v12), (0, 2)] [] rfl zc_10 zr_10 (fun o _ => ⟨_, zw_X8.1 o, rfl⟩) (lw_V q2402 q2227 q2228 q235 q2229) dX31_newRing_76 zy_X8_refusal rfl (by omega) (by decide) (Nat.le_of_ble_eq_true rfl) hn13 (fun l G => k_fX8_refusal l G v10 v11 v12 2 hn13) (fun v14 => ?_)
      refine r_istore_n (ls' := [(3, 0, v14), (2, 6, v9), (0, 16, 33), (1, 14, 0)]) E dX31_newRing_79 rfl (by rw [hN]; decide) rfl ?_
      refine r_iload_n E dX31_newRing_80 rfl 0 rfl ?_
      refine r_iconst E dX31_newRing_81 (zkI (by decide) (by decide)) ?_
      refine r_icmp_eq E 90 (by decide) dX31_newRing_82 (fun _ => ?_) (fun _ => ?_)
      · refine r_pick E [2, 3, 1, 0] rfl ?_
        exact w_fX31_newRing_33_J90 E hN hT v9 v14
      · refine r_iload_n E dX31_newRing_85 rfl 0 rfl ?_
        refine r_iconst E dX31_newRing_86 (zkI (by decide) (by decide)) ?_
        refine r_icmp_ne E 99 (by decide) dX31_newRing_87 (fun _ => ?_) (fun _ => ?_)
        · refine r_aload_n E dX31_newRing_99 rfl 3 rfl ?_
          refine r_getN E zc_14 zt_1310 dX31_newRing_100 q1572 zr_14 (zg_1310 _) (by decide) (fun v16 => ?_)
          refine r_aload_n E dX31_newRing_103 rfl 1 rfl ?_
          refine r_nn E (fun hn17 => ?_)
          refine r_getN E zc_6 zt_509 dX31_newRing_104 q422 zr_6 (zg_509 _) hn17 (fun v18 => ?_)
          refine r_icmp_ge E 152 (by decide) dX31_newRing_107 (fun _ => ?_) (fun _ => ?_)
          · refine r_aload_n E dX31_newRing_152 rfl 3 rfl ?_
            refine r_getN E zc_14 zt_1310 dX31_newRing_153 q1572 zr_14 (zg_1310 _) (by decide) (fun v19 => ?_)
            refine r_aload_n E dX31_newRing_156 rfl 1 rfl ?_
            refine r_getN E zc_6 zt_510 dX31_newRing_157 q429 zr_6 (zg_510 _) hn17 (fun v20 => ?_)
            refine r_icmp_gt E 168 (by decide) dX31_newRing_160 (fun _ => ?_) (fun _ => ?_)
            · refine r_aload_n E dX31_newRing_168 rfl 3 rfl ?_
              refine r_getN E zc_14 zt_1310 dX31_newRing_169 q1572 zr_14 (zg_1310 _) (by decide) (fun v21 => ?_)
              refine r_aload_n E dX31_newRing_172 rfl 1 rfl ?_
              refine r_getN E zc_6 zt_511 dX31_newRing_173 q435 zr_6 (zg_511 _) hn17 (fun v22 => ?_)
              refine r_icmp_le E 188 (by decide) dX31_newRing_176 (fun _ => ?_) (fun _ => ?_)
              · refine r_aload_n E dX31_newRing_188 rfl 3 rfl ?_
                refine r_getN E zc_14 zt_1309 dX31_newRing_189 q1562 zr_14 (zg_1309 _) (by decide) (fun v23 => ?_)
                refine r_aload_n E dX31_newRing_192 rfl 1 rfl ?_
                refine r_getN E zc_6 zt_521 dX31_newRing_193 q471 zr_6 (zg_521 _) hn17 (fun v24 => ?_)
                refine r_icmp_lt E 241 (by decide) dX31_newRing_196 (fun _ => ?_) (fun _ => ?_)
                · refine r_aload_n E dX31_newRing_241 rfl 1 rfl ?_
                  refine r_getN E zc_6 zt_510 dX31_newRing_242 q429 zr_6 (zg_510 _) hn17 (fun v25 => ?_)
                  exact r_ireturn E rfl hT dX31_newRing_245
                · refine r_aload_n E dX31_newRing_199 rfl 3 rfl ?_
                  refine r_gecN (y := 0) E zc_14 dX31_newRing_200 q1542 zr_14 (zh_1305 (by decide)) (by decide) ?_
                  refine r_aload_n E dX31_newRing_203 rfl 3 rfl ?_
                  refine r_getN E zc_14 zt_1307 dX31_newRing_204 q1552 zr_14 (zg_1307 _) (by decide) (fun v26 => ?_)
                  refine r_nn E (fun hn27 => ?_)
                  refine r_gecN (y := v26) E zc_10 dX31_newRing_207 q856 zr_10 (zh_901 (by omega)) hn27 ?_
                  refine r_iconst E dX31_newRing_210 (zkI (by decide) (by decide)) ?_
                  refine r_aload_n E dX31_newRing_211 rfl 1 rfl ?_
                  refine r_gecN (y := v9) E zc_6 dX31_newRing_212 q373 zr_6 (zh_500 (by omega)) hn17 ?_
                  refine r_bipush E dX31_newRing_215 (by decide) (zkI (by decide) (by decide)) ?_
                  refine r_callV E [(0, v26), (0, 1), (0, v9), (0, 6)] [] rfl zc_15 zr_15 (fun o _ => ⟨_, zw_X13.1 o, rfl⟩) (lw_V q2408 q2241 q2242 q240 q2243) dX31_newRing_217 zy_X13_add rfl (by omega) (by decide) (Nat.le_of_ble_eq_true rfl) (by decide) (fun l G => k_fX13_add l G v26 1 v9 6) (fun _ => ?_)
                  refine r_aload_n E dX31_newRing_220 rfl 3 rfl ?_
                  refine r_bipush E dX31_newRing_221 (by decide) (zkI (by decide) (by decide)) ?_
                  refine r_aload_n E dX31_newRing_223 rfl 3 rfl ?_
                  refine r_getN E zc_14 zt_1308 dX31_newRing_224 q1554 zr_14 (zg_1308 _) (by decide) (fun v29 => ?_)
                  refine r_aload_n E dX31_newRing_227 rfl 3 rfl ?_
                  refine r_getN E zc_14 zt_1309 dX31_newRing_228 q1562 zr_14 (zg_1309 _) (by decide) (fun v30 => ?_)
                  refine r_aload_n E dX31_newRing_231 rfl 3 rfl ?_
                  refine r_getN E zc_14 zt_1310 dX31_newRing_232 q1572 zr_14 (zg_1310 _) (by decide) (fun v31 => ?_)
                  refine r_callVN E [(0, 6), (0, v29), (0, v30), (0, v31)] [] rfl zc_14 zr_14 (fun o _ => ⟨_, zw_X12.1 o, rfl⟩) q2401 q2211 qs15 q239 q2212 dX31_newRing_235 zy_X12_refuse rfl (by omega) (by decide) (Nat.le_of_ble_eq_true rfl) (by decide) (fun l G => k_fX12_refuse l G 6 v29 v30 v31) (fun v32 => ?_)
                  refine r_pop E (zn1 rfl) dX31_newRing_238 ?_
                  refine r_iconst E dX31_newRing_239 (zkI (by decide) (by decide)) ?_
                  exact r_ireturn E rfl hT dX31_newRing_240
              · refine r_aload_n E dX31_newRing_179 rfl 2 rfl ?_
                refine r_aload_n E dX31_newRing_180 rfl 3 rfl ?_
                refine r_aload_n E dX31_newRing_181 rfl 1 rfl ?_
                refine r_iconst E dX31_newRing_182 (zkI (by decide) (by decide)) ?_
                refine r_callV E [(14, 0), (6, v9), (0, 5)] [] rfl zc_16 zr_16 (zk_16_33) (lw_V q2403 q2405 qs31 q258 q2406) dX31_newRing_183 zy_X31_deny rfl (by omega) (by decide) (Nat.le_of_ble_eq_true rfl) (by decide) (fun l G => k_fX31_deny_33 l G v9 5) (fun _ => ?_)
                refine r_iconst E dX31_newRing_186 (zkI (by decide) (by decide)) ?_
                exact r_ireturn E rfl hT dX31_newRing_187
            · refine r_aload_n E dX31_newRing_163 rfl 3 rfl ?_
              refine r_getN E zc_14 zt_1310 dX31_newRing_164 q1572 zr_14 (zg_1310 _) (by decide) (fun v34 => ?_)
              exact r_ireturn E rfl hT dX31_newRing_167
          · refine r_aload_n E dX31_newRing_110 rfl 3 rfl ?_
            refine r_gecN (y := 0) E zc_14 dX31_newRing_111 q1542 zr_14 (zh_1305 (by decide)) (by decide) ?_
            refine r_aload_n E dX31_newRing_114 rfl 3 rfl ?_
            refine r_getN E zc_14 zt_1307 dX31_newRing_115 q1552 zr_14 (zg_1307 _) (by decide) (fun v35 => ?_)
            refine r_nn E (fun hn36 => ?_)
            refine r_gecN (y := v35) E zc_10 dX31_newRing_118 q856 zr_10 (zh_901 (by omega)) hn36 ?_
            refine r_iconst E dX31_newRing_121 (zkI (by decide) (by decide)) ?_
            refine r_aload_n E dX31_newRing_122 rfl 1 rfl ?_
            refine r_gecN (y := v9) E zc_6 dX31_newRing_123 q373 zr_6 (zh_500 (by omega)) hn17 ?_
            refine r_bipush E dX31_newRing_126 (by decide) (zkI (by decide) (by decide)) ?_
            refine r_callV E [(0, v35), (0, 1), (0, v9), (0, 7)] [] rfl zc_15 zr_15 (fun o _ => ⟨_, zw_X13.1 o, rfl⟩) (lw_V q2408 q2241 q2242 q240 q2243) dX31_newRing_128 zy_X13_add rfl (by omega) (by decide) (Nat.le_of_ble_eq_true rfl) (by decide) (fun l G => k_fX13_add l G v35 1 v9 7) (fun _ => ?_)
            refine r_aload_n E dX31_newRing_131 rfl 3 rfl ?_
            refine r_bipush E dX31_newRing_132 (by decide) (zkI (by decide) (by decide)) ?_
            refine r_aload_n E dX31_newRing_134 rfl 3 rfl ?_
            refine r_getN E zc_14 zt_1308 dX31_newRing_135 q1554 zr_14 (zg_1308 _) (by decide) (fun v38 => ?_)
            refine r_aload_n E dX31_newRing_138 rfl 3 rfl ?_
            refine r_getN E zc_14 zt_1309 dX31_newRing_139 q1562 zr_14 (zg_1309 _) (by decide) (fun v39 => ?_)
            refine r_aload_n E dX31_newRing_142 rfl 3 rfl ?_
            refine r_getN E zc_14 zt_1310 dX31_newRing_143 q1572 zr_14 (zg_1310 _) (by decide) (fun v40 => ?_)
            refine r_callVN E [(0, 7), (0, v38), (0, v39), (0, v40)] [] rfl zc_14 zr_14 (fun o _ => ⟨_, zw_X12.1 o, rfl⟩) q2401 q2211 qs15 q239 q2212 dX31_newRing_146 zy_X12_refuse rfl (by omega) (by decide) (Nat.le_of_ble_eq_true rfl) (by decide) (fun l G => k_fX12_refuse l G 7 v38 v39 v40) (fun v41 => ?_)
            refine r_pop E (zn1 rfl) dX31_newRing_149 ?_
            refine r_iconst E dX31_newRing_150 (zkI (by decide) (by decide)) ?_
            exact r_ireturn E rfl hT dX31_newRing_151
        · refine r_pick E [2, 3, 1, 0] rfl ?_
          exact w_fX31_newRing_33_J90 E hN hT v9 v14
    · refine r_aload_n E dX31_newRing_30 rfl 1 rfl ?_
      refine r_iconst E dX31_newRing_31 (zkI (by decide) (by decide)) ?_
      refine r_aload_n E dX31_newRing_32 rfl 1 rfl ?_
      refine r_getN E zc_14 zt_1308 dX31_newRing_33 q1554 zr_14 (zg_1308 _) (by decide) (fun v42 => ?_)
      refine r_aload_n E dX31_newRing_36 rfl 1 rfl ?_
      refine r_getN E zc_14 zt_1309 dX31_newRing_37 q1562 zr_14 (zg_1309 _) (by decide) (fun v43 => ?_)
      refine r_aload_n E dX31_newRing_40 rfl 1 rfl ?_
      refine r_getN E zc_14 zt_1310 dX31_newRing_41 q1572 zr_14 (zg_1310 _) (by decide) (fun v44 => ?_)
      refine r_callVN E [(0, 3), (0, v42), (0, v43), (0, v44)] [] rfl zc_14 zr_14 (fun o _ => ⟨_, zw_X12.1 o, rfl⟩) q2401 q2211 qs15 q239 q2212 dX31_newRing_44 zy_X12_refuse rfl (by omega) (by decide) (Nat.le_of_ble_eq_true rfl) (by decide) (fun l G => k_fX12_refuse l G 3 v42 v43 v44) (fun v45 => ?_)
      refine r_pop E (zn1 rfl) dX31_newRing_47 ?_
      refine r_iconst E dX31_newRing_48 (zkI (by decide) (by decide)) ?_
      exact r_ireturn E rfl hT dX31_newRing_49
  · refine r_iconst E dX31_newRing_19 (zkI (by decide) (by decide)) ?_
    exact r_ireturn E rfl hT dX31_newRing_20
theorem k_fX31_newRing_33 (l : Launch) (G : zG) : zCt l G yX31_newRing cX31_newRing 4 (some .int) 5 [(16, 33), (14, 0)] (some 0) (fX31_newRing_33) := zCt.of (by decide) (Nat.le_of_ble_eq_true rfl) (fun K E _ _ hN hT => w_fX31_newRing_33 E hN hT)
theorem dX12_cross_0 : decode cX12_cross 0 = .ok (.aload_n 0, 1) := by decide +kernel
theorem dX12_cross_1 : decode cX12_cross 1 = .ok (.getfield 246, 3) := by decide +kernel
theorem dX12_cross_4 : decode cX12_cross 4 = .ok (.getfield 256, 3) := by decide +kernel
theorem dX12_cross_7 : decode cX12_cross 7 = .ok (.astore_n 2, 1) := by decide +kernel
theorem dX12_cross_8 : decode cX12_cross 8 = .ok (.aload_n 0, 1) := by decide +kernel
theorem dX12_cross_9 : decode cX12_cross 9 = .ok (.aload_n 0, 1) := by decide +kernel
theorem dX12_cross_10 : decode cX12_cross 10 = .ok (.getfield 321, 3) := by decide +kernel
theorem dX12_cross_13 : decode cX12_cross 13 = .ok (.putfield 416, 3) := by decide +kernel
theorem dX12_cross_16 : decode cX12_cross 16 = .ok (.aload_n 0, 1) := by decide +kernel
theorem dX12_cross_17 : decode cX12_cross 17 = .ok (.aload_n 0, 1) := by decide +kernel
theorem dX12_cross_18 : decode cX12_cross 18 = .ok (.getfield 324, 3) := by decide +kernel
theorem dX12_cross_21 : decode cX12_cross 21 = .ok (.putfield 419, 3) := by decide +kernel
theorem dX12_cross_24 : decode cX12_cross 24 = .ok (.iload_n 1, 1) := by decide +kernel
theorem dX12_cross_25 : decode cX12_cross 25 = .ok (.aload_n 2, 1) := by decide +kernel
theorem dX12_cross_26 : decode cX12_cross 26 = .ok (.getfield 269, 3) := by decide +kernel
theorem dX12_cross_29 : decode cX12_cross 29 = .ok (.if_icmp .eq 35, 3) := by decide +kernel
theorem dX12_cross_32 : decode cX12_cross 32 = .ok (.aload_n 0, 1) := by decide +kernel
theorem dX12_cross_33 : decode cX12_cross 33 = .ok (.getfield 246, 3) := by decide +kernel
theorem dX12_cross_36 : decode cX12_cross 36 = .ok (.iload_n 1, 1) := by decide +kernel
theorem dX12_cross_37 : decode cX12_cross 37 = .ok (.aload_n 2, 1) := by decide +kernel
theorem dX12_cross_38 : decode cX12_cross 38 = .ok (.getfield 269, 3) := by decide +kernel
theorem dX12_cross_41 : decode cX12_cross 41 = .ok (.if_icmp .ge 7, 3) := by decide +kernel
theorem dX12_cross_44 : decode cX12_cross 44 = .ok (.iconst 3, 1) := by decide +kernel
theorem dX12_cross_45 : decode cX12_cross 45 = .ok (.goto 4, 3) := by decide +kernel
theorem dX12_cross_48 : decode cX12_cross 48 = .ok (.iconst 4, 1) := by decide +kernel
theorem dX12_cross_49 : decode cX12_cross 49 = .ok (.iload_n 1, 1) := by decide +kernel
theorem dX12_cross_50 : decode cX12_cross 50 = .ok (.i2l, 1) := by decide +kernel
theorem dX12_cross_51 : decode cX12_cross 51 = .ok (.aload_n 0, 1) := by decide +kernel
theorem dX12_cross_52 : decode cX12_cross 52 = .ok (.getfield 321, 3) := by decide +kernel
theorem dX12_cross_55 : decode cX12_cross 55 = .ok (.i2l, 1) := by decide +kernel
theorem dX12_cross_56 : decode cX12_cross 56 = .ok (.aload_n 0, 1) := by decide +kernel
theorem dX12_cross_57 : decode cX12_cross 57 = .ok (.getfield 324, 3) := by decide +kernel
theorem dX12_cross_60 : decode cX12_cross 60 = .ok (.i2l, 1) := by decide +kernel
theorem dX12_cross_61 : decode cX12_cross 61 = .ok (.invokevirtual 422, 3) := by decide +kernel
theorem dX12_cross_64 : decode cX12_cross 64 = .ok (.aload_n 2, 1) := by decide +kernel
theorem dX12_cross_65 : decode cX12_cross 65 = .ok (.iload_n 1, 1) := by decide +kernel
theorem dX12_cross_66 : decode cX12_cross 66 = .ok (.putfield 269, 3) := by decide +kernel
theorem dX12_cross_69 : decode cX12_cross 69 = .ok (.return_, 1) := by decide +kernel
theorem zy_X12_cross : yX12_cross.cls ≠ "java/lang/invoke/MethodHandle" ∧ yX12_cross.cls ≠ "java/lang/invoke/VarHandle" ∧ (parseMethodDescriptor yX12_cross.desc).map (fun d => d.parameters.length) = some 1 := by decide +kernel
theorem w_fX12_cross_J64 {K : zK} (E : zE K cX12_cross "RingHouse$Machine" none 2) (hN : zNl K = 3) (hT : zTr K = none) (x1 : Int) (x2 : Int) : zR K 64 [(1, 0, x1), (2, 11, x2)] [] (fX12_cross_J64 x1 x2) := by
  refine r_aload_n E dX12_cross_64 rfl 1 rfl ?_
  refine r_iload_n E dX12_cross_65 rfl 0 rfl ?_
  refine r_nn E (fun hn6 => ?_)
  refine r_putN E zc_11 zt_1008 zo_1008 dX12_cross_66 q775 zr_11 zw_X9 zp_1008 (fun _ => rfl) (fun _ => rfl) hn6 ?_
  exact r_return E rfl hT dX12_cross_69
theorem w_fX12_cross_J49 {K : zK} (E : zE K cX12_cross "RingHouse$Machine" none 2) (hN : zNl K = 3) (hT : zTr K = none) (x1 : Int) (x2 : Int) (s0 : Int) (s1 : Int) : zR K 49 [(0, 14, 0), (1, 0, x1), (2, 11, x2)] [(0, s1), (10, s0)] (fX12_cross_J49 x1 x2 s0 s1) := by
  refine r_iload_n E dX12_cross_49 rfl 1 rfl ?_
  refine r_i2l E dX12_cross_50 ?_
  refine r_aload_n E dX12_cross_51 rfl 0 rfl ?_
  refine r_get E zc_14 zt_1308 dX12_cross_52 q1559 zr_14 (zg_1308 _) (by decide) (fun v9 => ?_)
  refine r_i2l E dX12_cross_55 ?_
  refine r_aload_n E dX12_cross_56 rfl 0 rfl ?_
  refine r_get E zc_14 zt_1309 dX12_cross_57 q1569 zr_14 (zg_1309 _) (by decide) (fun v10 => ?_)
  refine r_i2l E dX12_cross_60 ?_
  refine r_nn E (fun hn11 => ?_)
  refine r_callV E [(0, s1), (1, x1), (1, v9), (1, v10)] [] rfl zc_10 zr_10 (fun o _ => ⟨_, zw_X8.1 o, rfl⟩) (lw_V q2188 q2189 q2190 q235 q2191) dX12_cross_61 zy_X8_event rfl (by omega) (by decide) (Nat.le_of_ble_eq_true rfl) hn11 (fun l G => k_fX8_event l G s0 s1 x1 v9 v10 hn11) (fun _ => ?_)
  refine r_pick E [1, 2] rfl ?_
  exact w_fX12_cross_J64 E hN hT x1 x2
theorem w_fX12_cross {K : zK} (E : zE K cX12_cross "RingHouse$Machine" none 2) (hN : zNl K = 3) (hT : zTr K = none) (x1 : Int) : zR K 0 [(0, 14, 0), (1, 0, x1)] [] (fX12_cross x1) := by
  refine r_aload_n E dX12_cross_0 rfl 0 rfl ?_
  refine r_get E zc_14 zt_1307 dX12_cross_1 q1550 zr_14 (zg_1307 _) (by decide) (fun v1 => ?_)
  refine r_nn E (fun hn2 => ?_)
  refine r_gecN (y := v1) E zc_10 dX12_cross_4 q891 zr_10 (zh_908 (by omega)) hn2 ?_
  refine r_astore_n (ls' := [(2, 11, v1), (0, 14, 0), (1, 0, x1)]) E dX12_cross_7 rfl (by rw [hN]; decide) rfl ?_
  refine r_aload_n E dX12_cross_8 rfl 1 rfl ?_
  refine r_aload_n E dX12_cross_9 rfl 1 rfl ?_
  refine r_get E zc_14 zt_1308 dX12_cross_10 q1559 zr_14 (zg_1308 _) (by decide) (fun v3 => ?_)
  refine r_put E zc_14 zt_1312 zo_1312 dX12_cross_13 q1584 zr_14 zw_X12 zp_1312 (fun _ => rfl) (fun _ => rfl) (by decide) ?_
  refine r_aload_n E dX12_cross_16 rfl 1 rfl ?_
  refine r_aload_n E dX12_cross_17 rfl 1 rfl ?_
  refine r_get E zc_14 zt_1309 dX12_cross_18 q1569 zr_14 (zg_1309 _) (by decide) (fun v4 => ?_)
  refine r_put E zc_14 zt_1313 zo_1313 dX12_cross_21 q1586 zr_14 zw_X12 zp_1313 (fun _ => rfl) (fun _ => rfl) (by decide) ?_
  refine r_iload_n E dX12_cross_24 rfl 2 rfl ?_
  refine r_aload_n E dX12_cross_25 rfl 0 rfl ?_
  refine r_getN E zc_11 zt_1008 dX12_cross_26 q775 zr_11 (zg_1008 _) hn2 (fun v5 => ?_)
  refine r_icmp_eq E 64 (by decide) dX12_cross_29 (fun _ => ?_) (fun _ => ?_)
  · refine r_pick E [2, 0] rfl ?_
    exact w_fX12_cross_J64 E hN hT x1 v1
  · refine r_aload_n E dX12_cross_32 rfl 1 rfl ?_
    refine r_get E zc_14 zt_1307 dX12_cross_33 q1550 zr_14 (zg_1307 _) (by decide) (fun v7 => ?_)
    refine r_iload_n E dX12_cross_36 rfl 2 rfl ?_
    refine r_aload_n E dX12_cross_37 rfl 0 rfl ?_
    refine r_getN E zc_11 zt_1008 dX12_cross_38 q775 zr_11 (zg_1008 _) hn2 (fun v8 => ?_)
    refine r_icmp_ge E 48 (by decide) dX12_cross_41 (fun _ => ?_) (fun _ => ?_)
    · refine r_iconst E dX12_cross_48 (zkI (by decide) (by decide)) ?_
      refine r_pick E [1, 2, 0] rfl ?_
      exact w_fX12_cross_J49 E hN hT x1 v1 v7 4
    · refine r_iconst E dX12_cross_44 (zkI (by decide) (by decide)) ?_
      refine r_goto E 49 (by decide) dX12_cross_45 ?_
      refine r_pick E [1, 2, 0] rfl ?_
      exact w_fX12_cross_J49 E hN hT x1 v1 v7 3
theorem k_fX12_cross (l : Launch) (G : zG) (x1 : Int) : zCt l G yX12_cross cX12_cross 3 none 2 [(14, 0), (0, x1)] none (fX12_cross x1) := zCt.of (by decide) (Nat.le_of_ble_eq_true rfl) (fun K E _ _ hN hT => w_fX12_cross E hN hT x1)
theorem dX31_run_0 : decode cX31_run 0 = .ok (.aload_n 0, 1) := by decide +kernel
theorem dX31_run_1 : decode cX31_run 1 = .ok (.aload_n 1, 1) := by decide +kernel
theorem dX31_run_2 : decode cX31_run 2 = .ok (.invokevirtual 84, 3) := by decide +kernel
theorem dX31_run_5 : decode cX31_run 5 = .ok (.istore 4, 2) := by decide +kernel
theorem dX31_run_7 : decode cX31_run 7 = .ok (.iload 4, 2) := by decide +kernel
theorem dX31_run_9 : decode cX31_run 9 = .ok (.ifCond .ge 5, 3) := by decide +kernel
theorem dX31_run_12 : decode cX31_run 12 = .ok (.iconst 0, 1) := by decide +kernel
theorem dX31_run_13 : decode cX31_run 13 = .ok (.ireturn, 1) := by decide +kernel
theorem dX31_run_14 : decode cX31_run 14 = .ok (.aload_n 3, 1) := by decide +kernel
theorem dX31_run_15 : decode cX31_run 15 = .ok (.bipush 7, 2) := by decide +kernel
theorem dX31_run_17 : decode cX31_run 17 = .ok (.aload_n 3, 1) := by decide +kernel
theorem dX31_run_18 : decode cX31_run 18 = .ok (.getfield 88, 3) := by decide +kernel
theorem dX31_run_21 : decode cX31_run 21 = .ok (.aload_n 3, 1) := by decide +kernel
theorem dX31_run_22 : decode cX31_run 22 = .ok (.getfield 91, 3) := by decide +kernel
theorem dX31_run_25 : decode cX31_run 25 = .ok (.iconst 1, 1) := by decide +kernel
theorem dX31_run_26 : decode cX31_run 26 = .ok (.iadd, 1) := by decide +kernel
theorem dX31_run_27 : decode cX31_run 27 = .ok (.ldc 94, 2) := by decide +kernel
theorem dX31_run_29 : decode cX31_run 29 = .ok (.iand, 1) := by decide +kernel
theorem dX31_run_30 : decode cX31_run 30 = .ok (.aload_n 3, 1) := by decide +kernel
theorem dX31_run_31 : decode cX31_run 31 = .ok (.getfield 95, 3) := by decide +kernel
theorem dX31_run_34 : decode cX31_run 34 = .ok (.invokevirtual 98, 3) := by decide +kernel
theorem dX31_run_37 : decode cX31_run 37 = .ok (.aload_n 3, 1) := by decide +kernel
theorem dX31_run_38 : decode cX31_run 38 = .ok (.bipush 6, 2) := by decide +kernel
theorem dX31_run_40 : decode cX31_run 40 = .ok (.iload 4, 2) := by decide +kernel
theorem dX31_run_42 : decode cX31_run 42 = .ok (.iconst 0, 1) := by decide +kernel
theorem dX31_run_43 : decode cX31_run 43 = .ok (.iload 4, 2) := by decide +kernel
theorem dX31_run_45 : decode cX31_run 45 = .ok (.invokevirtual 98, 3) := by decide +kernel
theorem dX31_run_48 : decode cX31_run 48 = .ok (.aload_n 1, 1) := by decide +kernel
theorem dX31_run_49 : decode cX31_run 49 = .ok (.iload 4, 2) := by decide +kernel
theorem dX31_run_51 : decode cX31_run 51 = .ok (.invokevirtual 101, 3) := by decide +kernel
theorem dX31_run_54 : decode cX31_run 54 = .ok (.iconst 1, 1) := by decide +kernel
theorem dX31_run_55 : decode cX31_run 55 = .ok (.ireturn, 1) := by decide +kernel
theorem zy_X31_run : yX31_run.cls ≠ "java/lang/invoke/MethodHandle" ∧ yX31_run.cls ≠ "java/lang/invoke/VarHandle" ∧ (parseMethodDescriptor yX31_run.desc).map (fun d => d.parameters.length) = some 3 := by decide +kernel
theorem w_fX31_run_33 {K : zK} (E : zE K cX31_run "RingHouse$Call" (some .boolean) 6) (hN : zNl K = 5) (hT : zTr K = (some 0)) (x2 : Int) (x3 : Int) : zR K 0 [(0, 16, 33), (1, 14, 0), (2, 9, x2), (3, 11, x3)] [] (fX31_run_33 x2 x3) := by
  refine r_aload_n E dX31_run_0 rfl 0 rfl ?_
  refine r_aload_n E dX31_run_1 rfl 1 rfl ?_
  refine r_callV E [(14, 0)] [] rfl zc_16 zr_16 (zk_16_33) (lw_V q2396 q2398 qs30 q258 q2399) dX31_run_2 zy_X31_newRing rfl (by omega) (by decide) (Nat.le_of_ble_eq_true rfl) (by decide) (fun l G => k_fX31_newRing_33 l G) (fun v1 => ?_)
  refine r_istore (ls' := [(4, 0, v1), (0, 16, 33), (1, 14, 0), (2, 9, x2), (3, 11, x3)]) E dX31_run_5 (by rw [hN]; decide) rfl ?_
  refine r_iload E dX31_run_7 0 rfl ?_
  refine r_if_ge E 14 (by decide) dX31_run_9 (fun _ => ?_) (fun _ => ?_)
  · refine r_aload_n E dX31_run_14 rfl 4 rfl ?_
    refine r_bipush E dX31_run_15 (by decide) (zkI (by decide) (by decide)) ?_
    refine r_aload_n E dX31_run_17 rfl 4 rfl ?_
    refine r_nn E (fun hn2 => ?_)
    refine r_getN E zc_11 zt_1006 dX31_run_18 q757 zr_11 (zg_1006 _) hn2 (fun v3 => ?_)
    refine r_aload_n E dX31_run_21 rfl 4 rfl ?_
    refine r_getN E zc_11 zt_1007 dX31_run_22 q762 zr_11 (zg_1007 _) hn2 (fun v4 => ?_)
    refine r_iconst E dX31_run_25 (zkI (by decide) (by decide)) ?_
    refine r_iadd E dX31_run_26 ?_
    refine r_ldc (v := 262143) E dX31_run_27 q2409 (by decide) (zkI (by decide) (by decide)) ?_
    refine r_imask (P := 262144) E 18 (by decide) (by decide) (by decide) dX31_run_29 ?_
    refine r_aload_n E dX31_run_30 rfl 4 rfl ?_
    refine r_getN E zc_11 zt_1008 dX31_run_31 q778 zr_11 (zg_1008 _) hn2 (fun v5 => ?_)
    refine r_callV E [(0, 7), (0, v3), (0, ((zi (v4 + 1)) % 262144)), (0, v5)] [] rfl zc_11 zr_11 (fun o _ => ⟨_, zw_X9.1 o, rfl⟩) (lw_V q2410 q2139 q2140 q236 q2141) dX31_run_34 zy_X9_point rfl (by omega) (by decide) (Nat.le_of_ble_eq_true rfl) hn2 (fun l G => k_fX9_point l G x3 7 v3 ((zi (v4 + 1)) % 262144) v5 hn2) (fun _ => ?_)
    refine r_aload_n E dX31_run_37 rfl 4 rfl ?_
    refine r_bipush E dX31_run_38 (by decide) (zkI (by decide) (by decide)) ?_
    refine r_iload E dX31_run_40 0 rfl ?_
    refine r_iconst E dX31_run_42 (zkI (by decide) (by decide)) ?_
    refine r_iload E dX31_run_43 0 rfl ?_
    refine r_callV E [(0, 6), (0, v1), (0, 0), (0, v1)] [] rfl zc_11 zr_11 (fun o _ => ⟨_, zw_X9.1 o, rfl⟩) (lw_V q2410 q2139 q2140 q236 q2141) dX31_run_45 zy_X9_point rfl (by omega) (by decide) (Nat.le_of_ble_eq_true rfl) hn2 (fun l G => k_fX9_point l G x3 6 v1 0 v1 hn2) (fun _ => ?_)
    refine r_aload_n E dX31_run_48 rfl 2 rfl ?_
    refine r_iload E dX31_run_49 0 rfl ?_
    refine r_callVN E [(0, v1)] [] rfl zc_14 zr_14 (fun o _ => ⟨_, zw_X12.1 o, rfl⟩) q2411 q2413 qs32 q239 q2414 dX31_run_51 zy_X12_cross rfl (by omega) (by decide) (Nat.le_of_ble_eq_true rfl) (by decide) (fun l G => k_fX12_cross l G v1) (fun _ => ?_)
    refine r_iconst E dX31_run_54 (zkI (by decide) (by decide)) ?_
    exact r_zreturn E rfl hT (by decide) dX31_run_55
  · refine r_iconst E dX31_run_12 (zkI (by decide) (by decide)) ?_
    exact r_zreturn E rfl hT (by decide) dX31_run_13
theorem k_fX31_run_33 (l : Launch) (G : zG) (x2 : Int) (x3 : Int) : zCt l G yX31_run cX31_run 5 (some .boolean) 6 [(16, 33), (14, 0), (9, x2), (11, x3)] (some 0) (fX31_run_33 x2 x3) := zCt.of (by decide) (Nat.le_of_ble_eq_true rfl) (fun K E _ _ hN hT => w_fX31_run_33 E hN hT x2 x3)
theorem dX32_run_0 : decode cX32_run 0 = .ok (.aload_n 1, 1) := by decide +kernel
theorem dX32_run_1 : decode cX32_run 1 = .ok (.aload_n 1, 1) := by decide +kernel
theorem dX32_run_2 : decode cX32_run 2 = .ok (.getfield 11, 3) := by decide +kernel
theorem dX32_run_5 : decode cX32_run 5 = .ok (.invokevirtual 17, 3) := by decide +kernel
theorem dX32_run_8 : decode cX32_run 8 = .ok (.iconst 1, 1) := by decide +kernel
theorem dX32_run_9 : decode cX32_run 9 = .ok (.ireturn, 1) := by decide +kernel
theorem zy_X32_run : yX32_run.cls ≠ "java/lang/invoke/MethodHandle" ∧ yX32_run.cls ≠ "java/lang/invoke/VarHandle" ∧ (parseMethodDescriptor yX32_run.desc).map (fun d => d.parameters.length) = some 3 := by decide +kernel
theorem w_fX32_run_34 {K : zK} (E : zE K cX32_run "RingHouse$Return" (some .boolean) 3) (hN : zNl K = 4) (hT : zTr K = (some 0)) (x2 : Int) (x3 : Int) : zR K 0 [(0, 16, 34), (1, 14, 0), (2, 9, x2), (3, 11, x3)] [] (fX32_run_34 x2 x3) := by
  refine r_aload_n E dX32_run_0 rfl 1 rfl ?_
  refine r_aload_n E dX32_run_1 rfl 1 rfl ?_
  refine r_getN E zc_14 zt_1310 dX32_run_2 q1570 zr_14 (zg_1310 _) (by decide) (fun v1 => ?_)
  refine r_callVN E [(0, v1)] [] rfl zc_14 zr_14 (fun o _ => ⟨_, zw_X12.1 o, rfl⟩) q2489 q2413 qs32 q239 q2414 dX32_run_5 zy_X12_cross rfl (by omega) (by decide) (Nat.le_of_ble_eq_true rfl) (by decide) (fun l G => k_fX12_cross l G v1) (fun _ => ?_)
  refine r_iconst E dX32_run_8 (zkI (by decide) (by decide)) ?_
  exact r_zreturn E rfl hT (by decide) dX32_run_9
theorem k_fX32_run_34 (l : Launch) (G : zG) (x2 : Int) (x3 : Int) : zCt l G yX32_run cX32_run 4 (some .boolean) 3 [(16, 34), (14, 0), (9, x2), (11, x3)] (some 0) (fX32_run_34 x2 x3) := zCt.of (by decide) (Nat.le_of_ble_eq_true rfl) (fun K E _ _ hN hT => w_fX32_run_34 E hN hT x2 x3)
theorem dX37_run_0 : decode cX37_run 0 = .ok (.aload_n 2, 1) := by decide +kernel
theorem dX37_run_1 : decode cX37_run 1 = .ok (.iconst 1, 1) := by decide +kernel
theorem dX37_run_2 : decode cX37_run 2 = .ok (.aload_n 3, 1) := by decide +kernel
theorem dX37_run_3 : decode cX37_run 3 = .ok (.getfield 9, 3) := by decide +kernel
theorem dX37_run_6 : decode cX37_run 6 = .ok (.lconst 0, 1) := by decide +kernel
theorem dX37_run_7 : decode cX37_run 7 = .ok (.lconst 0, 1) := by decide +kernel
theorem dX37_run_8 : decode cX37_run 8 = .ok (.invokevirtual 15, 3) := by decide +kernel
theorem dX37_run_11 : decode cX37_run 11 = .ok (.iconst 0, 1) := by decide +kernel
theorem dX37_run_12 : decode cX37_run 12 = .ok (.ireturn, 1) := by decide +kernel
theorem zy_X37_run : yX37_run.cls ≠ "java/lang/invoke/MethodHandle" ∧ yX37_run.cls ≠ "java/lang/invoke/VarHandle" ∧ (parseMethodDescriptor yX37_run.desc).map (fun d => d.parameters.length) = some 3 := by decide +kernel
theorem w_fX37_run_0 {K : zK} (E : zE K cX37_run "RingHouse$Print" (some .int) 2) (hN : zNl K = 4) (hT : zTr K = (some 0)) (x2 : Int) (x3 : Int) : zR K 0 [(0, 38, 0), (1, 14, 0), (2, 10, x2), (3, 11, x3)] [] (fX37_run_0 x2 x3) := by
  refine r_aload_n E dX37_run_0 rfl 2 rfl ?_
  refine r_iconst E dX37_run_1 (zkI (by decide) (by decide)) ?_
  refine r_aload_n E dX37_run_2 rfl 3 rfl ?_
  refine r_nn E (fun hn1 => ?_)
  refine r_getN E zc_11 zt_1000 dX37_run_3 q694 zr_11 (zg_1000 _) hn1 (fun v2 => ?_)
  refine r_lconst (v := 0) E dX37_run_6 (by decide) (zkJ (by decide) (by decide)) ?_
  refine r_lconst (v := 0) E dX37_run_7 (by decide) (zkJ (by decide) (by decide)) ?_
  refine r_nn E (fun hn3 => ?_)
  refine r_callV E [(0, 1), (1, v2), (1, 0), (1, 0)] [] rfl zc_10 zr_10 (fun o _ => ⟨_, zw_X8.1 o, rfl⟩) (lw_V q2667 q2189 q2190 q235 q2191) dX37_run_8 zy_X8_event rfl (by omega) (by decide) (Nat.le_of_ble_eq_true rfl) hn3 (fun l G => k_fX8_event l G x2 1 v2 0 0 hn3) (fun _ => ?_)
  refine r_iconst E dX37_run_11 (zkI (by decide) (by decide)) ?_
  exact r_ireturn E rfl hT dX37_run_12
theorem k_fX37_run_0 (l : Launch) (G : zG) (x2 : Int) (x3 : Int) : zCt l G yX37_run cX37_run 4 (some .int) 2 [(38, 0), (14, 0), (10, x2), (11, x3)] (some 0) (fX37_run_0 x2 x3) := zCt.of (by decide) (Nat.le_of_ble_eq_true rfl) (fun K E _ _ hN hT => w_fX37_run_0 E hN hT x2 x3)
theorem dX8_refusal_2_0 : decode cX8_refusal_2 0 = .ok (.aload_n 1, 1) := by decide +kernel
theorem dX8_refusal_2_1 : decode cX8_refusal_2 1 = .ok (.getfield 134, 3) := by decide +kernel
theorem dX8_refusal_2_4 : decode cX8_refusal_2 4 = .ok (.aload_n 0, 1) := by decide +kernel
theorem dX8_refusal_2_5 : decode cX8_refusal_2 5 = .ok (.getfield 74, 3) := by decide +kernel
theorem dX8_refusal_2_8 : decode cX8_refusal_2 8 = .ok (.aload_n 0, 1) := by decide +kernel
theorem dX8_refusal_2_9 : decode cX8_refusal_2 9 = .ok (.getfield 77, 3) := by decide +kernel
theorem dX8_refusal_2_12 : decode cX8_refusal_2 12 = .ok (.invokevirtual 138, 3) := by decide +kernel
theorem dX8_refusal_2_15 : decode cX8_refusal_2 15 = .ok (.iload_n 2, 1) := by decide +kernel
theorem dX8_refusal_2_16 : decode cX8_refusal_2 16 = .ok (.iand, 1) := by decide +kernel
theorem dX8_refusal_2_17 : decode cX8_refusal_2 17 = .ok (.ifCond .ne 6, 3) := by decide +kernel
theorem dX8_refusal_2_20 : decode cX8_refusal_2 20 = .ok (.bipush (-2), 2) := by decide +kernel
theorem dX8_refusal_2_22 : decode cX8_refusal_2 22 = .ok (.ireturn, 1) := by decide +kernel
theorem dX8_refusal_2_23 : decode cX8_refusal_2 23 = .ok (.iload_n 2, 1) := by decide +kernel
theorem dX8_refusal_2_24 : decode cX8_refusal_2 24 = .ok (.iconst 1, 1) := by decide +kernel
theorem dX8_refusal_2_25 : decode cX8_refusal_2 25 = .ok (.if_icmp .ne 20, 3) := by decide +kernel
theorem dX8_refusal_2_28 : decode cX8_refusal_2 28 = .ok (.aload_n 0, 1) := by decide +kernel
theorem dX8_refusal_2_29 : decode cX8_refusal_2 29 = .ok (.getfield 80, 3) := by decide +kernel
theorem dX8_refusal_2_32 : decode cX8_refusal_2 32 = .ok (.aload_n 1, 1) := by decide +kernel
theorem dX8_refusal_2_33 : decode cX8_refusal_2 33 = .ok (.getfield 147, 3) := by decide +kernel
theorem dX8_refusal_2_36 : decode cX8_refusal_2 36 = .ok (.invokestatic 148, 3) := by decide +kernel
theorem dX8_refusal_2_39 : decode cX8_refusal_2 39 = .ok (.ifCond .ne 20, 3) := by decide +kernel
theorem dX8_refusal_2_42 : decode cX8_refusal_2 42 = .ok (.goto 14, 3) := by decide +kernel
theorem dX8_refusal_2_45 : decode cX8_refusal_2 45 = .ok (.aload_n 0, 1) := by decide +kernel
theorem dX8_refusal_2_46 : decode cX8_refusal_2 46 = .ok (.getfield 80, 3) := by decide +kernel
theorem dX8_refusal_2_49 : decode cX8_refusal_2 49 = .ok (.aload_n 1, 1) := by decide +kernel
theorem dX8_refusal_2_50 : decode cX8_refusal_2 50 = .ok (.getfield 147, 3) := by decide +kernel
theorem dX8_refusal_2_53 : decode cX8_refusal_2 53 = .ok (.if_icmp .eq 6, 3) := by decide +kernel
theorem dX8_refusal_2_56 : decode cX8_refusal_2 56 = .ok (.bipush (-3), 2) := by decide +kernel
theorem dX8_refusal_2_58 : decode cX8_refusal_2 58 = .ok (.ireturn, 1) := by decide +kernel
theorem dX8_refusal_2_59 : decode cX8_refusal_2 59 = .ok (.aload_n 0, 1) := by decide +kernel
theorem dX8_refusal_2_60 : decode cX8_refusal_2 60 = .ok (.getfield 12, 3) := by decide +kernel
theorem dX8_refusal_2_63 : decode cX8_refusal_2 63 = .ok (.getfield 168, 3) := by decide +kernel
theorem dX8_refusal_2_66 : decode cX8_refusal_2 66 = .ok (.iload_n 2, 1) := by decide +kernel
theorem dX8_refusal_2_67 : decode cX8_refusal_2 67 = .ok (.iconst 1, 1) := by decide +kernel
theorem dX8_refusal_2_68 : decode cX8_refusal_2 68 = .ok (.if_icmp .ne 10, 3) := by decide +kernel
theorem dX8_refusal_2_71 : decode cX8_refusal_2 71 = .ok (.aload_n 1, 1) := by decide +kernel
theorem dX8_refusal_2_72 : decode cX8_refusal_2 72 = .ok (.getfield 162, 3) := by decide +kernel
theorem dX8_refusal_2_75 : decode cX8_refusal_2 75 = .ok (.goto 7, 3) := by decide +kernel
theorem dX8_refusal_2_78 : decode cX8_refusal_2 78 = .ok (.aload_n 1, 1) := by decide +kernel
theorem dX8_refusal_2_79 : decode cX8_refusal_2 79 = .ok (.getfield 165, 3) := by decide +kernel
theorem dX8_refusal_2_82 : decode cX8_refusal_2 82 = .ok (.if_icmp .gt 7, 3) := by decide +kernel
theorem dX8_refusal_2_85 : decode cX8_refusal_2 85 = .ok (.iconst 0, 1) := by decide +kernel
theorem dX8_refusal_2_86 : decode cX8_refusal_2 86 = .ok (.goto 5, 3) := by decide +kernel
theorem dX8_refusal_2_89 : decode cX8_refusal_2 89 = .ok (.bipush (-4), 2) := by decide +kernel
theorem dX8_refusal_2_91 : decode cX8_refusal_2 91 = .ok (.ireturn, 1) := by decide +kernel
theorem zy_X8_refusal_2 : yX8_refusal_2.cls ≠ "java/lang/invoke/MethodHandle" ∧ yX8_refusal_2.cls ≠ "java/lang/invoke/VarHandle" ∧ (parseMethodDescriptor yX8_refusal_2.desc).map (fun d => d.parameters.length) = some 2 := by decide +kernel
theorem w_fX8_refusal_2_J82 {K : zK} (E : zE K cX8_refusal_2 "RingHouse$Process" (some .int) 3) (hN : zNl K = 3) (hT : zTr K = (some 0)) (s0 : Int) (s1 : Int) : zR K 82 [] [(0, s1), (0, s0)] (fX8_refusal_2_J82 s0 s1) := by
  refine r_icmp_gt E 89 (by decide) dX8_refusal_2_82 (fun _ => ?_) (fun _ => ?_)
  · refine r_bipush E dX8_refusal_2_89 (by decide) (zkI (by decide) (by decide)) ?_
    exact r_ireturn E rfl hT dX8_refusal_2_91
  · refine r_iconst E dX8_refusal_2_85 (zkI (by decide) (by decide)) ?_
    refine r_goto E 91 (by decide) dX8_refusal_2_86 ?_
    exact r_ireturn E rfl hT dX8_refusal_2_91
theorem w_fX8_refusal_2_J59 {K : zK} (E : zE K cX8_refusal_2 "RingHouse$Process" (some .int) 3) (hN : zNl K = 3) (hT : zTr K = (some 0)) (x0 : Int) (x1 : Int) (x2 : Int) (h0 : 0 ≤ x0) : zR K 59 [(0, 10, x0), (1, 6, x1), (2, 0, x2)] [] (fX8_refusal_2_J59 x0 x1 x2) := by
  refine r_aload_n E dX8_refusal_2_59 rfl 0 rfl ?_
  refine r_gec (y := x0) E zc_10 dX8_refusal_2_60 q890 zr_10 (zh_908 (by omega)) h0 ?_
  refine r_getN E zc_11 zt_1008 dX8_refusal_2_63 q779 zr_11 (zg_1008 _) h0 (fun v7 => ?_)
  refine r_iload_n E dX8_refusal_2_66 rfl 2 rfl ?_
  refine r_iconst E dX8_refusal_2_67 (zkI (by decide) (by decide)) ?_
  refine r_icmp_ne E 78 (by decide) dX8_refusal_2_68 (fun _ => ?_) (fun _ => ?_)
  · refine r_aload_n E dX8_refusal_2_78 rfl 1 rfl ?_
    refine r_nn E (fun hn8 => ?_)
    refine r_getN E zc_6 zt_509 dX8_refusal_2_79 q425 zr_6 (zg_509 _) hn8 (fun v9 => ?_)
    refine r_pick E [] rfl ?_
    exact w_fX8_refusal_2_J82 E hN hT v7 v9
  · refine r_aload_n E dX8_refusal_2_71 rfl 1 rfl ?_
    refine r_nn E (fun hn10 => ?_)
    refine r_getN E zc_6 zt_510 dX8_refusal_2_72 q432 zr_6 (zg_510 _) hn10 (fun v11 => ?_)
    refine r_goto E 82 (by decide) dX8_refusal_2_75 ?_
    refine r_pick E [] rfl ?_
    exact w_fX8_refusal_2_J82 E hN hT v7 v11
theorem w_fX8_refusal_2 {K : zK} (E : zE K cX8_refusal_2 "RingHouse$Process" (some .int) 3) (hN : zNl K = 3) (hT : zTr K = (some 0)) (x0 : Int) (x1 : Int) (x2 : Int) (h0 : 0 ≤ x0) : zR K 0 [(0, 10, x0), (1, 6, x1), (2, 0, x2)] [] (fX8_refusal_2 x0 x1 x2) := by
  refine r_aload_n E dX8_refusal_2_0 rfl 1 rfl ?_
  refine r_nn E (fun hn1 => ?_)
  refine r_gecN (y := (3 * x1)) E zc_6 dX8_refusal_2_1 q413 zr_6 (zh_508 (by omega)) hn1 ?_
  refine r_aload_n E dX8_refusal_2_4 rfl 0 rfl ?_
  refine r_get E zc_10 zt_904 dX8_refusal_2_5 q866 zr_10 (zg_904 _) h0 (fun v2 => ?_)
  refine r_aload_n E dX8_refusal_2_8 rfl 0 rfl ?_
  refine r_get E zc_10 zt_905 dX8_refusal_2_9 q872 zr_10 (zg_905 _) h0 (fun v3 => ?_)
  refine r_callV E [(0, v2), (0, v3)] [] rfl zc_7 zr_7 (fun o _ => ⟨_, zw_X5.1 o, rfl⟩) (lw_V q2234 q2074 q2075 q232 q2076) dX8_refusal_2_12 zy_X5_of rfl (by omega) (by decide) (Nat.le_of_ble_eq_true rfl) (by omega) (fun l G => k_fX5_of l G (3 * x1) v2 v3 (by omega)) (fun v4 => ?_)
  refine r_iload_n E dX8_refusal_2_15 rfl 2 rfl ?_
  refine r_iand E dX8_refusal_2_16 ?_
  refine r_if_ne E 23 (by decide) dX8_refusal_2_17 (fun _ => ?_) (fun _ => ?_)
  · refine r_iload_n E dX8_refusal_2_23 rfl 2 rfl ?_
    refine r_iconst E dX8_refusal_2_24 (zkI (by decide) (by decide)) ?_
    refine r_icmp_ne E 45 (by decide) dX8_refusal_2_25 (fun _ => ?_) (fun _ => ?_)
    · refine r_aload_n E dX8_refusal_2_45 rfl 0 rfl ?_
      refine r_get E zc_10 zt_906 dX8_refusal_2_46 q882 zr_10 (zg_906 _) h0 (fun v5 => ?_)
      refine r_aload_n E dX8_refusal_2_49 rfl 1 rfl ?_
      refine r_getN E zc_6 zt_503 dX8_refusal_2_50 q393 zr_6 (zg_503 _) hn1 (fun v6 => ?_)
      refine r_icmp_eq E 59 (by decide) dX8_refusal_2_53 (fun _ => ?_) (fun _ => ?_)
      · exact w_fX8_refusal_2_J59 E hN hT x0 x1 x2 h0
      · refine r_bipush E dX8_refusal_2_56 (by decide) (zkI (by decide) (by decide)) ?_
        exact r_ireturn E rfl hT dX8_refusal_2_58
    · refine r_aload_n E dX8_refusal_2_28 rfl 0 rfl ?_
      refine r_get E zc_10 zt_906 dX8_refusal_2_29 q882 zr_10 (zg_906 _) h0 (fun v12 => ?_)
      refine r_aload_n E dX8_refusal_2_32 rfl 1 rfl ?_
      refine r_getN E zc_6 zt_503 dX8_refusal_2_33 q393 zr_6 (zg_503 _) hn1 (fun v13 => ?_)
      refine r_callSN E [(0, v12), (0, v13)] [] rfl q2235 q1858 q227 q1859 dX8_refusal_2_36 zy_X0_dominates rfl (by omega) (by decide) (Nat.le_of_ble_eq_true rfl) (fun l G => k_fX0_dominates l G v12 v13) (fun v14 => ?_)
      refine r_if_ne E 59 (by decide) dX8_refusal_2_39 (fun _ => ?_) (fun _ => ?_)
      · exact w_fX8_refusal_2_J59 E hN hT x0 x1 x2 h0
      · refine r_goto E 56 (by decide) dX8_refusal_2_42 ?_
        refine r_bipush E dX8_refusal_2_56 (by decide) (zkI (by decide) (by decide)) ?_
        exact r_ireturn E rfl hT dX8_refusal_2_58
  · refine r_bipush E dX8_refusal_2_20 (by decide) (zkI (by decide) (by decide)) ?_
    exact r_ireturn E rfl hT dX8_refusal_2_22
theorem k_fX8_refusal_2 (l : Launch) (G : zG) (x0 : Int) (x1 : Int) (x2 : Int) (h0 : 0 ≤ x0) : zCt l G yX8_refusal_2 cX8_refusal_2 3 (some .int) 3 [(10, x0), (6, x1), (0, x2)] (some 0) (fX8_refusal_2 x0 x1 x2) := zCt.of (by decide) (Nat.le_of_ble_eq_true rfl) (fun K E _ _ hN hT => w_fX8_refusal_2 E hN hT x0 x1 x2 h0)
