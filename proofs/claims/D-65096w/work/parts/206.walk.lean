set_option maxRecDepth 100000
theorem dX67_isThere_0 : decode cX67_isThere 0 = .ok (.iload_n 1, 1) := by decide +kernel
theorem dX67_isThere_1 : decode cX67_isThere 1 = .ok (.i2l, 1) := by decide +kernel
theorem dX67_isThere_2 : decode cX67_isThere 2 = .ok (.lconst 0, 1) := by decide +kernel
theorem dX67_isThere_3 : decode cX67_isThere 3 = .ok (.ldc2_w 476, 3) := by decide +kernel
theorem dX67_isThere_6 : decode cX67_isThere 6 = .ok (.invokestatic 363, 3) := by decide +kernel
theorem dX67_isThere_9 : decode cX67_isThere 9 = .ok (.ifCond .eq 16, 3) := by decide +kernel
theorem dX67_isThere_12 : decode cX67_isThere 12 = .ok (.aload_n 0, 1) := by decide +kernel
theorem dX67_isThere_13 : decode cX67_isThere 13 = .ok (.getfield 70, 3) := by decide +kernel
theorem dX67_isThere_16 : decode cX67_isThere 16 = .ok (.iload_n 1, 1) := by decide +kernel
theorem dX67_isThere_17 : decode cX67_isThere 17 = .ok (.baload, 1) := by decide +kernel
theorem dX67_isThere_18 : decode cX67_isThere 18 = .ok (.ifCond .eq 7, 3) := by decide +kernel
theorem dX67_isThere_21 : decode cX67_isThere 21 = .ok (.iconst 1, 1) := by decide +kernel
theorem dX67_isThere_22 : decode cX67_isThere 22 = .ok (.goto 4, 3) := by decide +kernel
theorem dX67_isThere_25 : decode cX67_isThere 25 = .ok (.iconst 0, 1) := by decide +kernel
theorem dX67_isThere_26 : decode cX67_isThere 26 = .ok (.ireturn, 1) := by decide +kernel
theorem zy_X67_isThere : yX67_isThere.cls ≠ "java/lang/invoke/MethodHandle" ∧ yX67_isThere.cls ≠ "java/lang/invoke/VarHandle" ∧ (parseMethodDescriptor yX67_isThere.desc).map (fun d => d.parameters.length) = some 1 := by decide +kernel
theorem w_fX67_isThere {K : zK} (E : zE K cX67_isThere "RingHouseModel" (some .boolean) 1) (hN : zNl K = 2) (hT : zTr K = (some 0)) (x1 : Int) : zR K 0 [(0, 69, 0), (1, 0, x1)] [] (fX67_isThere x1) := by
  refine r_iload_n E dX67_isThere_0 rfl 1 rfl ?_
  refine r_i2l E dX67_isThere_1 ?_
  refine r_lconst (v := 0) E dX67_isThere_2 (by decide) (zkJ (by decide) (by decide)) ?_
  refine r_ldc2 (v := 7) E dX67_isThere_3 q3709 (by decide) (zkJ (by decide) (by decide)) ?_
  refine r_callS E [(1, x1), (1, 0), (1, 7)] [] rfl q3619 q3620 q294 q3621 dX67_isThere_6 zy_X67_in rfl (by omega) (by decide) (Nat.le_of_ble_eq_true rfl) (fun l G => k_fX67_in l G x1 0 7) (fun v1 => ?_)
  refine r_if_eq E 25 (by decide) dX67_isThere_9 (fun _ => ?_) (fun _ => ?_)
  · refine r_iconst E dX67_isThere_25 (zkI (by decide) (by decide)) ?_
    exact r_zreturn E rfl hT (by decide) dX67_isThere_26
  · refine r_aload_n E dX67_isThere_12 rfl 0 rfl ?_
    refine r_gec (y := 0) E zc_69 dX67_isThere_13 q3235 zr_69 (zh_6820 (by decide)) (by decide) ?_
    refine r_iload_n E dX67_isThere_16 rfl 1 rfl ?_
    refine r_baloadz E zc_6820 za_6820 zt_6820 zx_6820 rfl rfl dX67_isThere_17 (by decide) (fun v2 => ?_)
    refine r_if_eq E 25 (by decide) dX67_isThere_18 (fun _ => ?_) (fun _ => ?_)
    · refine r_iconst E dX67_isThere_25 (zkI (by decide) (by decide)) ?_
      exact r_zreturn E rfl hT (by decide) dX67_isThere_26
    · refine r_iconst E dX67_isThere_21 (zkI (by decide) (by decide)) ?_
      refine r_goto E 26 (by decide) dX67_isThere_22 ?_
      exact r_zreturn E rfl hT (by decide) dX67_isThere_26
theorem k_fX67_isThere (l : Launch) (G : zG) (x1 : Int) : zCt l G yX67_isThere cX67_isThere 2 (some .boolean) 1 [(69, 0), (0, x1)] (some 0) (fX67_isThere x1) := zCt.of (by decide) (Nat.le_of_ble_eq_true rfl) (fun K E _ _ hN hT => w_fX67_isThere E hN hT x1)
theorem dX67_logout_0 : decode cX67_logout 0 = .ok (.aload_n 0, 1) := by decide +kernel
theorem dX67_logout_1 : decode cX67_logout 1 = .ok (.iload_n 1, 1) := by decide +kernel
theorem dX67_logout_2 : decode cX67_logout 2 = .ok (.invokevirtual 782, 3) := by decide +kernel
theorem dX67_logout_5 : decode cX67_logout 5 = .ok (.ifCond .ne 6, 3) := by decide +kernel
theorem dX67_logout_8 : decode cX67_logout 8 = .ok (.bipush (-8), 2) := by decide +kernel
theorem dX67_logout_10 : decode cX67_logout 10 = .ok (.ireturn, 1) := by decide +kernel
theorem dX67_logout_11 : decode cX67_logout 11 = .ok (.aload_n 0, 1) := by decide +kernel
theorem dX67_logout_12 : decode cX67_logout 12 = .ok (.getfield 70, 3) := by decide +kernel
theorem dX67_logout_15 : decode cX67_logout 15 = .ok (.iload_n 1, 1) := by decide +kernel
theorem dX67_logout_16 : decode cX67_logout 16 = .ok (.iconst 0, 1) := by decide +kernel
theorem dX67_logout_17 : decode cX67_logout 17 = .ok (.bastore, 1) := by decide +kernel
theorem dX67_logout_18 : decode cX67_logout 18 = .ok (.iconst 0, 1) := by decide +kernel
theorem dX67_logout_19 : decode cX67_logout 19 = .ok (.ireturn, 1) := by decide +kernel
theorem zy_X67_logout : yX67_logout.cls ≠ "java/lang/invoke/MethodHandle" ∧ yX67_logout.cls ≠ "java/lang/invoke/VarHandle" ∧ (parseMethodDescriptor yX67_logout.desc).map (fun d => d.parameters.length) = some 1 := by decide +kernel
theorem w_fX67_logout {K : zK} (E : zE K cX67_logout "RingHouseModel" (some .int) 2) (hN : zNl K = 2) (hT : zTr K = (some 0)) (x1 : Int) : zR K 0 [(0, 69, 0), (1, 0, x1)] [] (fX67_logout x1) := by
  refine r_aload_n E dX67_logout_0 rfl 0 rfl ?_
  refine r_iload_n E dX67_logout_1 rfl 1 rfl ?_
  refine r_callV E [(0, x1)] [] rfl zc_69 zr_69 (fun o _ => ⟨_, zw_X67.1 o, rfl⟩) (lw_V q3813 q3815 qs116 q294 q3816) dX67_logout_2 zy_X67_isThere rfl (by omega) (by decide) (Nat.le_of_ble_eq_true rfl) (by decide) (fun l G => k_fX67_isThere l G x1) (fun v1 => ?_)
  refine r_if_ne E 11 (by decide) dX67_logout_5 (fun _ => ?_) (fun _ => ?_)
  · refine r_aload_n E dX67_logout_11 rfl 0 rfl ?_
    refine r_gec (y := 0) E zc_69 dX67_logout_12 q3235 zr_69 (zh_6820 (by decide)) (by decide) ?_
    refine r_iload_n E dX67_logout_15 rfl 1 rfl ?_
    refine r_iconst E dX67_logout_16 (zkI (by decide) (by decide)) ?_
    refine r_zastore E zc_6820 za_6820 zt_6820 zo_6820 zx_6820 rfl rfl dX67_logout_17 (by decide) ?_
    refine r_iconst E dX67_logout_18 (zkI (by decide) (by decide)) ?_
    exact r_ireturn E rfl hT dX67_logout_19
  · refine r_bipush E dX67_logout_8 (by decide) (zkI (by decide) (by decide)) ?_
    exact r_ireturn E rfl hT dX67_logout_10
theorem k_fX67_logout (l : Launch) (G : zG) (x1 : Int) : zCt l G yX67_logout cX67_logout 2 (some .int) 2 [(69, 0), (0, x1)] (some 0) (fX67_logout x1) := zCt.of (by decide) (Nat.le_of_ble_eq_true rfl) (fun K E _ _ hN hT => w_fX67_logout E hN hT x1)
theorem dX67_send_0 : decode cX67_send 0 = .ok (.aload_n 0, 1) := by decide +kernel
theorem dX67_send_1 : decode cX67_send 1 = .ok (.iload_n 1, 1) := by decide +kernel
theorem dX67_send_2 : decode cX67_send 2 = .ok (.invokevirtual 782, 3) := by decide +kernel
theorem dX67_send_5 : decode cX67_send 5 = .ok (.ifCond .eq 10, 3) := by decide +kernel
theorem dX67_send_8 : decode cX67_send 8 = .ok (.lload_n 2, 1) := by decide +kernel
theorem dX67_send_9 : decode cX67_send 9 = .ok (.invokestatic 367, 3) := by decide +kernel
theorem dX67_send_12 : decode cX67_send 12 = .ok (.ifCond .ne 6, 3) := by decide +kernel
theorem dX67_send_15 : decode cX67_send 15 = .ok (.bipush (-8), 2) := by decide +kernel
theorem dX67_send_17 : decode cX67_send 17 = .ok (.ireturn, 1) := by decide +kernel
theorem dX67_send_18 : decode cX67_send 18 = .ok (.aload_n 0, 1) := by decide +kernel
theorem dX67_send_19 : decode cX67_send 19 = .ok (.getfield 149, 3) := by decide +kernel
theorem dX67_send_22 : decode cX67_send 22 = .ok (.iload_n 1, 1) := by decide +kernel
theorem dX67_send_23 : decode cX67_send 23 = .ok (.iaload, 1) := by decide +kernel
theorem dX67_send_24 : decode cX67_send 24 = .ok (.bipush 8, 2) := by decide +kernel
theorem dX67_send_26 : decode cX67_send 26 = .ok (.if_icmp .ne 6, 3) := by decide +kernel
theorem dX67_send_29 : decode cX67_send 29 = .ok (.bipush (-5), 2) := by decide +kernel
theorem dX67_send_31 : decode cX67_send 31 = .ok (.ireturn, 1) := by decide +kernel
theorem dX67_send_32 : decode cX67_send 32 = .ok (.aload_n 0, 1) := by decide +kernel
theorem dX67_send_33 : decode cX67_send 33 = .ok (.getfield 152, 3) := by decide +kernel
theorem dX67_send_36 : decode cX67_send 36 = .ok (.bipush 8, 2) := by decide +kernel
theorem dX67_send_38 : decode cX67_send 38 = .ok (.iload_n 1, 1) := by decide +kernel
theorem dX67_send_39 : decode cX67_send 39 = .ok (.imul, 1) := by decide +kernel
theorem dX67_send_40 : decode cX67_send 40 = .ok (.aload_n 0, 1) := by decide +kernel
theorem dX67_send_41 : decode cX67_send 41 = .ok (.getfield 149, 3) := by decide +kernel
theorem dX67_send_44 : decode cX67_send 44 = .ok (.iload_n 1, 1) := by decide +kernel
theorem dX67_send_45 : decode cX67_send 45 = .ok (.iaload, 1) := by decide +kernel
theorem dX67_send_46 : decode cX67_send 46 = .ok (.iadd, 1) := by decide +kernel
theorem dX67_send_47 : decode cX67_send 47 = .ok (.lload_n 2, 1) := by decide +kernel
theorem dX67_send_48 : decode cX67_send 48 = .ok (.lastore, 1) := by decide +kernel
theorem dX67_send_49 : decode cX67_send 49 = .ok (.aload_n 0, 1) := by decide +kernel
theorem dX67_send_50 : decode cX67_send 50 = .ok (.getfield 149, 3) := by decide +kernel
theorem dX67_send_53 : decode cX67_send 53 = .ok (.iload_n 1, 1) := by decide +kernel
theorem dX67_send_54 : decode cX67_send 54 = .ok (.dup2, 1) := by decide +kernel
theorem dX67_send_55 : decode cX67_send 55 = .ok (.iaload, 1) := by decide +kernel
theorem dX67_send_56 : decode cX67_send 56 = .ok (.iconst 1, 1) := by decide +kernel
theorem dX67_send_57 : decode cX67_send 57 = .ok (.iadd, 1) := by decide +kernel
theorem dX67_send_58 : decode cX67_send 58 = .ok (.iastore, 1) := by decide +kernel
theorem dX67_send_59 : decode cX67_send 59 = .ok (.aload_n 0, 1) := by decide +kernel
theorem dX67_send_60 : decode cX67_send 60 = .ok (.getfield 149, 3) := by decide +kernel
theorem dX67_send_63 : decode cX67_send 63 = .ok (.iload_n 1, 1) := by decide +kernel
theorem dX67_send_64 : decode cX67_send 64 = .ok (.iaload, 1) := by decide +kernel
theorem dX67_send_65 : decode cX67_send 65 = .ok (.ireturn, 1) := by decide +kernel
theorem zy_X67_send : yX67_send.cls ≠ "java/lang/invoke/MethodHandle" ∧ yX67_send.cls ≠ "java/lang/invoke/VarHandle" ∧ (parseMethodDescriptor yX67_send.desc).map (fun d => d.parameters.length) = some 2 := by decide +kernel
theorem w_fX67_send {K : zK} (E : zE K cX67_send "RingHouseModel" (some .int) 2) (hN : zNl K = 4) (hT : zTr K = (some 0)) (x1 : Int) (x2 : Int) : zR K 0 [(0, 69, 0), (1, 0, x1), (2, 1, x2)] [] (fX67_send x1 x2) := by
  refine r_aload_n E dX67_send_0 rfl 0 rfl ?_
  refine r_iload_n E dX67_send_1 rfl 1 rfl ?_
  refine r_callV E [(0, x1)] [] rfl zc_69 zr_69 (fun o _ => ⟨_, zw_X67.1 o, rfl⟩) (lw_V q3813 q3815 qs116 q294 q3816) dX67_send_2 zy_X67_isThere rfl (by omega) (by decide) (Nat.le_of_ble_eq_true rfl) (by decide) (fun l G => k_fX67_isThere l G x1) (fun v1 => ?_)
  refine r_if_eq E 15 (by decide) dX67_send_5 (fun _ => ?_) (fun _ => ?_)
  · refine r_bipush E dX67_send_15 (by decide) (zkI (by decide) (by decide)) ?_
    exact r_ireturn E rfl hT dX67_send_17
  · refine r_lload_n E dX67_send_8 rfl 2 rfl ?_
    refine r_callS E [(1, x2)] [] rfl q3625 q3626 q294 q3627 dX67_send_9 zy_X67_isWord rfl (by omega) (by decide) (Nat.le_of_ble_eq_true rfl) (fun l G => k_fX67_isWord l G x2) (fun v2 => ?_)
    refine r_if_ne E 18 (by decide) dX67_send_12 (fun _ => ?_) (fun _ => ?_)
    · refine r_aload_n E dX67_send_18 rfl 0 rfl ?_
      refine r_gec (y := 0) E zc_69 dX67_send_19 q3261 zr_69 (zh_6846 (by decide)) (by decide) ?_
      refine r_iload_n E dX67_send_22 rfl 1 rfl ?_
      refine r_iaload E zc_6846 za_6846 zt_6846 zx_6846 rfl rfl dX67_send_23 (by decide) (fun v3 => ?_)
      refine r_bipush E dX67_send_24 (by decide) (zkI (by decide) (by decide)) ?_
      refine r_icmp_ne E 32 (by decide) dX67_send_26 (fun _ => ?_) (fun _ => ?_)
      · refine r_aload_n E dX67_send_32 rfl 0 rfl ?_
        refine r_gec (y := 0) E zc_69 dX67_send_33 q3262 zr_69 (zh_6847 (by decide)) (by decide) ?_
        refine r_bipush E dX67_send_36 (by decide) (zkI (by decide) (by decide)) ?_
        refine r_iload_n E dX67_send_38 rfl 1 rfl ?_
        refine r_imul E dX67_send_39 ?_
        refine r_aload_n E dX67_send_40 rfl 0 rfl ?_
        refine r_gec (y := 0) E zc_69 dX67_send_41 q3261 zr_69 (zh_6846 (by decide)) (by decide) ?_
        refine r_iload_n E dX67_send_44 rfl 1 rfl ?_
        refine r_iaload E zc_6846 za_6846 zt_6846 zx_6846 rfl rfl dX67_send_45 (by decide) (fun v4 => ?_)
        refine r_iadd E dX67_send_46 ?_
        refine r_lload_n E dX67_send_47 rfl 2 rfl ?_
        refine r_lastore E zc_6847 za_6847 zt_6847 zo_6847 zx_6847 rfl rfl dX67_send_48 (by decide) ?_
        refine r_aload_n E dX67_send_49 rfl 0 rfl ?_
        refine r_gec (y := 0) E zc_69 dX67_send_50 q3261 zr_69 (zh_6846 (by decide)) (by decide) ?_
        refine r_iload_n E dX67_send_53 rfl 1 rfl ?_
        refine r_dup22 E (zn1 rfl) (zn1 rfl) dX67_send_54 ?_
        refine r_iaload E zc_6846 za_6846 zt_6846 zx_6846 rfl rfl dX67_send_55 (by decide) (fun v5 => ?_)
        refine r_iconst E dX67_send_56 (zkI (by decide) (by decide)) ?_
        refine r_iadd E dX67_send_57 ?_
        refine r_iastore E zc_6846 za_6846 zt_6846 zo_6846 zx_6846 rfl rfl dX67_send_58 (by decide) ?_
        refine r_aload_n E dX67_send_59 rfl 0 rfl ?_
        refine r_gec (y := 0) E zc_69 dX67_send_60 q3261 zr_69 (zh_6846 (by decide)) (by decide) ?_
        refine r_iload_n E dX67_send_63 rfl 1 rfl ?_
        refine r_iaload E zc_6846 za_6846 zt_6846 zx_6846 rfl rfl dX67_send_64 (by decide) (fun v6 => ?_)
        exact r_ireturn E rfl hT dX67_send_65
      · refine r_bipush E dX67_send_29 (by decide) (zkI (by decide) (by decide)) ?_
        exact r_ireturn E rfl hT dX67_send_31
    · refine r_bipush E dX67_send_15 (by decide) (zkI (by decide) (by decide)) ?_
      exact r_ireturn E rfl hT dX67_send_17
theorem k_fX67_send (l : Launch) (G : zG) (x1 : Int) (x2 : Int) : zCt l G yX67_send cX67_send 4 (some .int) 2 [(69, 0), (0, x1), (1, x2)] (some 0) (fX67_send x1 x2) := zCt.of (by decide) (Nat.le_of_ble_eq_true rfl) (fun K E _ _ hN hT => w_fX67_send E hN hT x1 x2)
theorem dX67_missing_0 : decode cX67_missing 0 = .ok (.iload_n 2, 1) := by decide +kernel
theorem dX67_missing_1 : decode cX67_missing 1 = .ok (.bipush 7, 2) := by decide +kernel
theorem dX67_missing_3 : decode cX67_missing 3 = .ok (.if_icmp .le 19, 3) := by decide +kernel
theorem dX67_missing_6 : decode cX67_missing 6 = .ok (.aload_n 0, 1) := by decide +kernel
theorem dX67_missing_7 : decode cX67_missing 7 = .ok (.getfield 125, 3) := by decide +kernel
theorem dX67_missing_10 : decode cX67_missing 10 = .ok (.bipush 32, 2) := by decide +kernel
theorem dX67_missing_12 : decode cX67_missing 12 = .ok (.iload_n 1, 1) := by decide +kernel
theorem dX67_missing_13 : decode cX67_missing 13 = .ok (.imul, 1) := by decide +kernel
theorem dX67_missing_14 : decode cX67_missing 14 = .ok (.iload_n 2, 1) := by decide +kernel
theorem dX67_missing_15 : decode cX67_missing 15 = .ok (.iadd, 1) := by decide +kernel
theorem dX67_missing_16 : decode cX67_missing 16 = .ok (.iaload, 1) := by decide +kernel
theorem dX67_missing_17 : decode cX67_missing 17 = .ok (.ifCond .ge 5, 3) := by decide +kernel
theorem dX67_missing_20 : decode cX67_missing 20 = .ok (.iconst 1, 1) := by decide +kernel
theorem dX67_missing_21 : decode cX67_missing 21 = .ok (.ireturn, 1) := by decide +kernel
theorem dX67_missing_22 : decode cX67_missing 22 = .ok (.iload_n 3, 1) := by decide +kernel
theorem dX67_missing_23 : decode cX67_missing 23 = .ok (.iload_n 2, 1) := by decide +kernel
theorem dX67_missing_24 : decode cX67_missing 24 = .ok (.bipush 7, 2) := by decide +kernel
theorem dX67_missing_26 : decode cX67_missing 26 = .ok (.if_icmp .le 22, 3) := by decide +kernel
theorem dX67_missing_29 : decode cX67_missing 29 = .ok (.aload_n 0, 1) := by decide +kernel
theorem dX67_missing_30 : decode cX67_missing 30 = .ok (.getfield 29, 3) := by decide +kernel
theorem dX67_missing_33 : decode cX67_missing 33 = .ok (.aload_n 0, 1) := by decide +kernel
theorem dX67_missing_34 : decode cX67_missing 34 = .ok (.getfield 125, 3) := by decide +kernel
theorem dX67_missing_37 : decode cX67_missing 37 = .ok (.bipush 32, 2) := by decide +kernel
theorem dX67_missing_39 : decode cX67_missing 39 = .ok (.iload_n 1, 1) := by decide +kernel
theorem dX67_missing_40 : decode cX67_missing 40 = .ok (.imul, 1) := by decide +kernel
theorem dX67_missing_41 : decode cX67_missing 41 = .ok (.iload_n 2, 1) := by decide +kernel
theorem dX67_missing_42 : decode cX67_missing 42 = .ok (.iadd, 1) := by decide +kernel
theorem dX67_missing_43 : decode cX67_missing 43 = .ok (.iaload, 1) := by decide +kernel
theorem dX67_missing_44 : decode cX67_missing 44 = .ok (.iaload, 1) := by decide +kernel
theorem dX67_missing_45 : decode cX67_missing 45 = .ok (.goto 5, 3) := by decide +kernel
theorem dX67_missing_48 : decode cX67_missing 48 = .ok (.bipush 64, 2) := by decide +kernel
theorem dX67_missing_50 : decode cX67_missing 50 = .ok (.if_icmp .ge 7, 3) := by decide +kernel
theorem dX67_missing_53 : decode cX67_missing 53 = .ok (.iconst 0, 1) := by decide +kernel
theorem dX67_missing_54 : decode cX67_missing 54 = .ok (.goto 4, 3) := by decide +kernel
theorem dX67_missing_57 : decode cX67_missing 57 = .ok (.iconst 2, 1) := by decide +kernel
theorem dX67_missing_58 : decode cX67_missing 58 = .ok (.ireturn, 1) := by decide +kernel
theorem zy_X67_missing : yX67_missing.cls ≠ "java/lang/invoke/MethodHandle" ∧ yX67_missing.cls ≠ "java/lang/invoke/VarHandle" ∧ (parseMethodDescriptor yX67_missing.desc).map (fun d => d.parameters.length) = some 3 := by decide +kernel
theorem w_fX67_missing_J50 {K : zK} (E : zE K cX67_missing "RingHouseModel" (some .int) 0) (hN : zNl K = 4) (hT : zTr K = (some 0)) (s0 : Int) (s1 : Int) : zR K 50 [] [(0, s1), (0, s0)] (fX67_missing_J50 s0 s1) := by
  refine r_icmp_ge E 57 (by decide) dX67_missing_50 (fun _ => ?_) (fun _ => ?_)
  · refine r_iconst E dX67_missing_57 (zkI (by decide) (by decide)) ?_
    exact r_ireturn E rfl hT dX67_missing_58
  · refine r_iconst E dX67_missing_53 (zkI (by decide) (by decide)) ?_
    refine r_goto E 58 (by decide) dX67_missing_54 ?_
    exact r_ireturn E rfl hT dX67_missing_58
theorem w_fX67_missing_J22 {K : zK} (E : zE K cX67_missing "RingHouseModel" (some .int) 0) (hN : zNl K = 4) (hT : zTr K = (some 0)) (x1 : Int) (x2 : Int) (x3 : Int) : zR K 22 [(0, 69, 0), (1, 0, x1), (2, 0, x2), (3, 0, x3)] [] (fX67_missing_J22 x1 x2 x3) := by
  refine r_iload_n E dX67_missing_22 rfl 3 rfl ?_
  refine r_iload_n E dX67_missing_23 rfl 2 rfl ?_
  refine r_bipush E dX67_missing_24 (by decide) (zkI (by decide) (by decide)) ?_
  refine r_icmp_le E 48 (by decide) dX67_missing_26 (fun _ => ?_) (fun _ => ?_)
  · refine r_bipush E dX67_missing_48 (by decide) (zkI (by decide) (by decide)) ?_
    refine r_pick E [] rfl ?_
    exact w_fX67_missing_J50 E hN hT x3 64
  · refine r_aload_n E dX67_missing_29 rfl 0 rfl ?_
    refine r_gec (y := 0) E zc_69 dX67_missing_30 q3221 zr_69 (zh_6806 (by decide)) (by decide) ?_
    refine r_aload_n E dX67_missing_33 rfl 0 rfl ?_
    refine r_gec (y := 0) E zc_69 dX67_missing_34 q3253 zr_69 (zh_6838 (by decide)) (by decide) ?_
    refine r_bipush E dX67_missing_37 (by decide) (zkI (by decide) (by decide)) ?_
    refine r_iload_n E dX67_missing_39 rfl 1 rfl ?_
    refine r_imul E dX67_missing_40 ?_
    refine r_iload_n E dX67_missing_41 rfl 2 rfl ?_
    refine r_iadd E dX67_missing_42 ?_
    refine r_iaload E zc_6838 za_6838 zt_6838 zx_6838 rfl rfl dX67_missing_43 (by decide) (fun v1 => ?_)
    refine r_iaload E zc_6806 za_6806 zt_6806 zx_6806 rfl rfl dX67_missing_44 (by decide) (fun v2 => ?_)
    refine r_goto E 50 (by decide) dX67_missing_45 ?_
    refine r_pick E [] rfl ?_
    exact w_fX67_missing_J50 E hN hT x3 v2
theorem w_fX67_missing {K : zK} (E : zE K cX67_missing "RingHouseModel" (some .int) 0) (hN : zNl K = 4) (hT : zTr K = (some 0)) (x1 : Int) (x2 : Int) (x3 : Int) : zR K 0 [(0, 69, 0), (1, 0, x1), (2, 0, x2), (3, 0, x3)] [] (fX67_missing x1 x2 x3) := by
  refine r_iload_n E dX67_missing_0 rfl 2 rfl ?_
  refine r_bipush E dX67_missing_1 (by decide) (zkI (by decide) (by decide)) ?_
  refine r_icmp_le E 22 (by decide) dX67_missing_3 (fun _ => ?_) (fun _ => ?_)
  · exact w_fX67_missing_J22 E hN hT x1 x2 x3
  · refine r_aload_n E dX67_missing_6 rfl 0 rfl ?_
    refine r_gec (y := 0) E zc_69 dX67_missing_7 q3253 zr_69 (zh_6838 (by decide)) (by decide) ?_
    refine r_bipush E dX67_missing_10 (by decide) (zkI (by decide) (by decide)) ?_
    refine r_iload_n E dX67_missing_12 rfl 1 rfl ?_
    refine r_imul E dX67_missing_13 ?_
    refine r_iload_n E dX67_missing_14 rfl 2 rfl ?_
    refine r_iadd E dX67_missing_15 ?_
    refine r_iaload E zc_6838 za_6838 zt_6838 zx_6838 rfl rfl dX67_missing_16 (by decide) (fun v3 => ?_)
    refine r_if_ge E 22 (by decide) dX67_missing_17 (fun _ => ?_) (fun _ => ?_)
    · exact w_fX67_missing_J22 E hN hT x1 x2 x3
    · refine r_iconst E dX67_missing_20 (zkI (by decide) (by decide)) ?_
      exact r_ireturn E rfl hT dX67_missing_21
theorem k_fX67_missing (l : Launch) (G : zG) (x1 : Int) (x2 : Int) (x3 : Int) : zCt l G yX67_missing cX67_missing 4 (some .int) 0 [(69, 0), (0, x1), (0, x2), (0, x3)] (some 0) (fX67_missing x1 x2 x3) := zCt.of (by decide) (Nat.le_of_ble_eq_true rfl) (fun K E _ _ hN hT => w_fX67_missing E hN hT x1 x2 x3)
theorem dX67_fail_0 : decode cX67_fail 0 = .ok (.aload_n 0, 1) := by decide +kernel
theorem dX67_fail_1 : decode cX67_fail 1 = .ok (.getfield 510, 3) := by decide +kernel
theorem dX67_fail_4 : decode cX67_fail 4 = .ok (.ifCond .ne 24, 3) := by decide +kernel
theorem dX67_fail_7 : decode cX67_fail 7 = .ok (.aload_n 0, 1) := by decide +kernel
theorem dX67_fail_8 : decode cX67_fail 8 = .ok (.iload_n 1, 1) := by decide +kernel
theorem dX67_fail_9 : decode cX67_fail 9 = .ok (.putfield 510, 3) := by decide +kernel
theorem dX67_fail_12 : decode cX67_fail 12 = .ok (.aload_n 0, 1) := by decide +kernel
theorem dX67_fail_13 : decode cX67_fail 13 = .ok (.iload_n 2, 1) := by decide +kernel
theorem dX67_fail_14 : decode cX67_fail 14 = .ok (.putfield 513, 3) := by decide +kernel
theorem dX67_fail_17 : decode cX67_fail 17 = .ok (.aload_n 0, 1) := by decide +kernel
theorem dX67_fail_18 : decode cX67_fail 18 = .ok (.iload_n 3, 1) := by decide +kernel
theorem dX67_fail_19 : decode cX67_fail 19 = .ok (.putfield 516, 3) := by decide +kernel
theorem dX67_fail_22 : decode cX67_fail 22 = .ok (.aload_n 0, 1) := by decide +kernel
theorem dX67_fail_23 : decode cX67_fail 23 = .ok (.iload 4, 2) := by decide +kernel
theorem dX67_fail_25 : decode cX67_fail 25 = .ok (.putfield 519, 3) := by decide +kernel
theorem dX67_fail_28 : decode cX67_fail 28 = .ok (.return_, 1) := by decide +kernel
theorem zy_X67_fail : yX67_fail.cls ≠ "java/lang/invoke/MethodHandle" ∧ yX67_fail.cls ≠ "java/lang/invoke/VarHandle" ∧ (parseMethodDescriptor yX67_fail.desc).map (fun d => d.parameters.length) = some 4 := by decide +kernel
theorem w_fX67_fail {K : zK} (E : zE K cX67_fail "RingHouseModel" none 0) (hN : zNl K = 5) (hT : zTr K = none) (x1 : Int) (x2 : Int) (x3 : Int) (x4 : Int) : zR K 0 [(0, 69, 0), (1, 0, x1), (2, 0, x2), (3, 0, x3), (4, 0, x4)] [] (fX67_fail x1 x2 x3 x4) := by
  refine r_aload_n E dX67_fail_0 rfl 0 rfl ?_
  refine r_get E zc_69 zt_6874 dX67_fail_1 q3289 zr_69 (zg_6874 _) (by decide) (fun v1 => ?_)
  refine r_if_ne E 28 (by decide) dX67_fail_4 (fun _ => ?_) (fun _ => ?_)
  · exact r_return E rfl hT dX67_fail_28
  · refine r_aload_n E dX67_fail_7 rfl 0 rfl ?_
    refine r_iload_n E dX67_fail_8 rfl 1 rfl ?_
    refine r_put E zc_69 zt_6874 zo_6874 dX67_fail_9 q3289 zr_69 zw_X67 zp_6874 (fun _ => rfl) (fun _ => rfl) (by decide) ?_
    refine r_aload_n E dX67_fail_12 rfl 0 rfl ?_
    refine r_iload_n E dX67_fail_13 rfl 2 rfl ?_
    refine r_put E zc_69 zt_6875 zo_6875 dX67_fail_14 q3290 zr_69 zw_X67 zp_6875 (fun _ => rfl) (fun _ => rfl) (by decide) ?_
    refine r_aload_n E dX67_fail_17 rfl 0 rfl ?_
    refine r_iload_n E dX67_fail_18 rfl 3 rfl ?_
    refine r_put E zc_69 zt_6876 zo_6876 dX67_fail_19 q3291 zr_69 zw_X67 zp_6876 (fun _ => rfl) (fun _ => rfl) (by decide) ?_
    refine r_aload_n E dX67_fail_22 rfl 0 rfl ?_
    refine r_iload E dX67_fail_23 4 rfl ?_
    refine r_put E zc_69 zt_6877 zo_6877 dX67_fail_25 q3292 zr_69 zw_X67 zp_6877 (fun _ => rfl) (fun _ => rfl) (by decide) ?_
    exact r_return E rfl hT dX67_fail_28
theorem k_fX67_fail (l : Launch) (G : zG) (x1 : Int) (x2 : Int) (x3 : Int) (x4 : Int) : zCt l G yX67_fail cX67_fail 5 none 0 [(69, 0), (0, x1), (0, x2), (0, x3), (0, x4)] none (fX67_fail x1 x2 x3 x4) := zCt.of (by decide) (Nat.le_of_ble_eq_true rfl) (fun K E _ _ hN hT => w_fX67_fail E hN hT x1 x2 x3 x4)
theorem dX67_barred_0 : decode cX67_barred 0 = .ok (.aload_n 0, 1) := by decide +kernel
theorem dX67_barred_1 : decode cX67_barred 1 = .ok (.getfield 23, 3) := by decide +kernel
theorem dX67_barred_4 : decode cX67_barred 4 = .ok (.iconst 3, 1) := by decide +kernel
theorem dX67_barred_5 : decode cX67_barred 5 = .ok (.iload_n 2, 1) := by decide +kernel
theorem dX67_barred_6 : decode cX67_barred 6 = .ok (.imul, 1) := by decide +kernel
theorem dX67_barred_7 : decode cX67_barred 7 = .ok (.iaload, 1) := by decide +kernel
theorem dX67_barred_8 : decode cX67_barred 8 = .ok (.istore 5, 2) := by decide +kernel
theorem dX67_barred_10 : decode cX67_barred 10 = .ok (.aload_n 0, 1) := by decide +kernel
theorem dX67_barred_11 : decode cX67_barred 11 = .ok (.getfield 23, 3) := by decide +kernel
theorem dX67_barred_14 : decode cX67_barred 14 = .ok (.iconst 3, 1) := by decide +kernel
theorem dX67_barred_15 : decode cX67_barred 15 = .ok (.iload_n 2, 1) := by decide +kernel
theorem dX67_barred_16 : decode cX67_barred 16 = .ok (.imul, 1) := by decide +kernel
theorem dX67_barred_17 : decode cX67_barred 17 = .ok (.iconst 1, 1) := by decide +kernel
theorem dX67_barred_18 : decode cX67_barred 18 = .ok (.iadd, 1) := by decide +kernel
theorem dX67_barred_19 : decode cX67_barred 19 = .ok (.iaload, 1) := by decide +kernel
theorem dX67_barred_20 : decode cX67_barred 20 = .ok (.istore 6, 2) := by decide +kernel
theorem dX67_barred_22 : decode cX67_barred 22 = .ok (.aload_n 0, 1) := by decide +kernel
theorem dX67_barred_23 : decode cX67_barred 23 = .ok (.iload_n 2, 1) := by decide +kernel
theorem dX67_barred_24 : decode cX67_barred 24 = .ok (.aload_n 0, 1) := by decide +kernel
theorem dX67_barred_25 : decode cX67_barred 25 = .ok (.getfield 77, 3) := by decide +kernel
theorem dX67_barred_28 : decode cX67_barred 28 = .ok (.iload_n 1, 1) := by decide +kernel
theorem dX67_barred_29 : decode cX67_barred 29 = .ok (.iaload, 1) := by decide +kernel
theorem dX67_barred_30 : decode cX67_barred 30 = .ok (.aload_n 0, 1) := by decide +kernel
theorem dX67_barred_31 : decode cX67_barred 31 = .ok (.getfield 80, 3) := by decide +kernel
theorem dX67_barred_34 : decode cX67_barred 34 = .ok (.iload_n 1, 1) := by decide +kernel
theorem dX67_barred_35 : decode cX67_barred 35 = .ok (.iaload, 1) := by decide +kernel
theorem dX67_barred_36 : decode cX67_barred 36 = .ok (.invokevirtual 498, 3) := by decide +kernel
theorem dX67_barred_39 : decode cX67_barred 39 = .ok (.iload 4, 2) := by decide +kernel
theorem dX67_barred_41 : decode cX67_barred 41 = .ok (.iand, 1) := by decide +kernel
theorem dX67_barred_42 : decode cX67_barred 42 = .ok (.ifCond .ne 5, 3) := by decide +kernel
theorem dX67_barred_45 : decode cX67_barred 45 = .ok (.iconst 3, 1) := by decide +kernel
theorem dX67_barred_46 : decode cX67_barred 46 = .ok (.ireturn, 1) := by decide +kernel
theorem dX67_barred_47 : decode cX67_barred 47 = .ok (.iload 4, 2) := by decide +kernel
theorem dX67_barred_49 : decode cX67_barred 49 = .ok (.iconst 4, 1) := by decide +kernel
theorem dX67_barred_50 : decode cX67_barred 50 = .ok (.if_icmp .ne 26, 3) := by decide +kernel
theorem dX67_barred_53 : decode cX67_barred 53 = .ok (.aload_n 0, 1) := by decide +kernel
theorem dX67_barred_54 : decode cX67_barred 54 = .ok (.getfield 83, 3) := by decide +kernel
theorem dX67_barred_57 : decode cX67_barred 57 = .ok (.iload_n 1, 1) := by decide +kernel
theorem dX67_barred_58 : decode cX67_barred 58 = .ok (.iaload, 1) := by decide +kernel
theorem dX67_barred_59 : decode cX67_barred 59 = .ok (.aload_n 0, 1) := by decide +kernel
theorem dX67_barred_60 : decode cX67_barred 60 = .ok (.getfield 20, 3) := by decide +kernel
theorem dX67_barred_63 : decode cX67_barred 63 = .ok (.iload_n 2, 1) := by decide +kernel
theorem dX67_barred_64 : decode cX67_barred 64 = .ok (.iaload, 1) := by decide +kernel
theorem dX67_barred_65 : decode cX67_barred 65 = .ok (.if_icmp .ne 7, 3) := by decide +kernel
theorem dX67_barred_68 : decode cX67_barred 68 = .ok (.iconst 1, 1) := by decide +kernel
theorem dX67_barred_69 : decode cX67_barred 69 = .ok (.goto 22, 3) := by decide +kernel
theorem dX67_barred_72 : decode cX67_barred 72 = .ok (.iconst 0, 1) := by decide +kernel
theorem dX67_barred_73 : decode cX67_barred 73 = .ok (.goto 18, 3) := by decide +kernel
theorem dX67_barred_76 : decode cX67_barred 76 = .ok (.aload_n 0, 1) := by decide +kernel
theorem dX67_barred_77 : decode cX67_barred 77 = .ok (.getfield 83, 3) := by decide +kernel
theorem dX67_barred_80 : decode cX67_barred 80 = .ok (.iload_n 1, 1) := by decide +kernel
theorem dX67_barred_81 : decode cX67_barred 81 = .ok (.iaload, 1) := by decide +kernel
theorem dX67_barred_82 : decode cX67_barred 82 = .ok (.aload_n 0, 1) := by decide +kernel
theorem dX67_barred_83 : decode cX67_barred 83 = .ok (.getfield 20, 3) := by decide +kernel
theorem dX67_barred_86 : decode cX67_barred 86 = .ok (.iload_n 2, 1) := by decide +kernel
theorem dX67_barred_87 : decode cX67_barred 87 = .ok (.iaload, 1) := by decide +kernel
theorem dX67_barred_88 : decode cX67_barred 88 = .ok (.invokestatic 447, 3) := by decide +kernel
theorem dX67_barred_91 : decode cX67_barred 91 = .ok (.istore 7, 2) := by decide +kernel
theorem dX67_barred_93 : decode cX67_barred 93 = .ok (.iload 7, 2) := by decide +kernel
theorem dX67_barred_95 : decode cX67_barred 95 = .ok (.ifCond .ne 5, 3) := by decide +kernel
theorem dX67_barred_98 : decode cX67_barred 98 = .ok (.iconst 4, 1) := by decide +kernel
theorem dX67_barred_99 : decode cX67_barred 99 = .ok (.ireturn, 1) := by decide +kernel
theorem dX67_barred_100 : decode cX67_barred 100 = .ok (.iload 4, 2) := by decide +kernel
theorem dX67_barred_102 : decode cX67_barred 102 = .ok (.iconst 1, 1) := by decide +kernel
theorem dX67_barred_103 : decode cX67_barred 103 = .ok (.if_icmp .ne 17, 3) := by decide +kernel
theorem dX67_barred_106 : decode cX67_barred 106 = .ok (.iload_n 3, 1) := by decide +kernel
theorem dX67_barred_107 : decode cX67_barred 107 = .ok (.iload 6, 2) := by decide +kernel
theorem dX67_barred_109 : decode cX67_barred 109 = .ok (.if_icmp .gt 7, 3) := by decide +kernel
theorem dX67_barred_112 : decode cX67_barred 112 = .ok (.iconst 1, 1) := by decide +kernel
theorem dX67_barred_113 : decode cX67_barred 113 = .ok (.goto 44, 3) := by decide +kernel
theorem dX67_barred_116 : decode cX67_barred 116 = .ok (.iconst 0, 1) := by decide +kernel
theorem dX67_barred_117 : decode cX67_barred 117 = .ok (.goto 40, 3) := by decide +kernel
theorem dX67_barred_120 : decode cX67_barred 120 = .ok (.iload 4, 2) := by decide +kernel
theorem dX67_barred_122 : decode cX67_barred 122 = .ok (.iconst 4, 1) := by decide +kernel
theorem dX67_barred_123 : decode cX67_barred 123 = .ok (.if_icmp .ne 17, 3) := by decide +kernel
theorem dX67_barred_126 : decode cX67_barred 126 = .ok (.iload_n 3, 1) := by decide +kernel
theorem dX67_barred_127 : decode cX67_barred 127 = .ok (.iload 5, 2) := by decide +kernel
theorem dX67_barred_129 : decode cX67_barred 129 = .ok (.if_icmp .gt 7, 3) := by decide +kernel
theorem dX67_barred_132 : decode cX67_barred 132 = .ok (.iconst 1, 1) := by decide +kernel
theorem dX67_barred_133 : decode cX67_barred 133 = .ok (.goto 24, 3) := by decide +kernel
theorem dX67_barred_136 : decode cX67_barred 136 = .ok (.iconst 0, 1) := by decide +kernel
theorem dX67_barred_137 : decode cX67_barred 137 = .ok (.goto 20, 3) := by decide +kernel
theorem dX67_barred_140 : decode cX67_barred 140 = .ok (.iload_n 3, 1) := by decide +kernel
theorem dX67_barred_141 : decode cX67_barred 141 = .ok (.iload 5, 2) := by decide +kernel
theorem dX67_barred_143 : decode cX67_barred 143 = .ok (.if_icmp .lt 13, 3) := by decide +kernel
theorem dX67_barred_146 : decode cX67_barred 146 = .ok (.iload_n 3, 1) := by decide +kernel
theorem dX67_barred_147 : decode cX67_barred 147 = .ok (.iload 6, 2) := by decide +kernel
theorem dX67_barred_149 : decode cX67_barred 149 = .ok (.if_icmp .gt 7, 3) := by decide +kernel
theorem dX67_barred_152 : decode cX67_barred 152 = .ok (.iconst 1, 1) := by decide +kernel
theorem dX67_barred_153 : decode cX67_barred 153 = .ok (.goto 4, 3) := by decide +kernel
theorem dX67_barred_156 : decode cX67_barred 156 = .ok (.iconst 0, 1) := by decide +kernel
theorem dX67_barred_157 : decode cX67_barred 157 = .ok (.istore 8, 2) := by decide +kernel
theorem dX67_barred_159 : decode cX67_barred 159 = .ok (.iload 8, 2) := by decide +kernel
theorem dX67_barred_161 : decode cX67_barred 161 = .ok (.ifCond .eq 7, 3) := by decide +kernel
theorem dX67_barred_164 : decode cX67_barred 164 = .ok (.iconst 0, 1) := by decide +kernel
theorem dX67_barred_165 : decode cX67_barred 165 = .ok (.goto 4, 3) := by decide +kernel
theorem dX67_barred_168 : decode cX67_barred 168 = .ok (.iconst 5, 1) := by decide +kernel
theorem dX67_barred_169 : decode cX67_barred 169 = .ok (.ireturn, 1) := by decide +kernel
theorem zy_X67_barred : yX67_barred.cls ≠ "java/lang/invoke/MethodHandle" ∧ yX67_barred.cls ≠ "java/lang/invoke/VarHandle" ∧ (parseMethodDescriptor yX67_barred.desc).map (fun d => d.parameters.length) = some 4 := by decide +kernel
theorem w_fX67_barred_J157 {K : zK} (E : zE K cX67_barred "RingHouseModel" (some .int) 1) (hN : zNl K = 9) (hT : zTr K = (some 0)) (s0 : Int) : zR K 157 [] [(0, s0)] (fX67_barred_J157 s0) := by
  refine r_istore (ls' := [(8, 0, s0)]) E dX67_barred_157 (by rw [hN]; decide) rfl ?_
  refine r_iload E dX67_barred_159 0 rfl ?_
  refine r_if_eq E 168 (by decide) dX67_barred_161 (fun _ => ?_) (fun _ => ?_)
  · refine r_iconst E dX67_barred_168 (zkI (by decide) (by decide)) ?_
    exact r_ireturn E rfl hT dX67_barred_169
  · refine r_iconst E dX67_barred_164 (zkI (by decide) (by decide)) ?_
    refine r_goto E 169 (by decide) dX67_barred_165 ?_
    exact r_ireturn E rfl hT dX67_barred_169
theorem w_fX67_barred_J156 {K : zK} (E : zE K cX67_barred "RingHouseModel" (some .int) 1) (hN : zNl K = 9) (hT : zTr K = (some 0)) : zR K 156 [] [] (fX67_barred_J156) := by
  refine r_iconst E dX67_barred_156 (zkI (by decide) (by decide)) ?_
  exact w_fX67_barred_J157 E hN hT 0
theorem w_fX67_barred_J91 {K : zK} (E : zE K cX67_barred "RingHouseModel" (some .int) 1) (hN : zNl K = 9) (hT : zTr K = (some 0)) (x3 : Int) (x4 : Int) (x5 : Int) (x6 : Int) (s0 : Int) : zR K 91 [(3, 0, x3), (4, 0, x4), (5, 0, x5), (6, 0, x6)] [(0, s0)] (fX67_barred_J91 x3 x4 x5 x6 s0) := by
  refine r_istore (ls' := [(7, 0, s0), (3, 0, x3), (4, 0, x4), (5, 0, x5), (6, 0, x6)]) E dX67_barred_91 (by rw [hN]; decide) rfl ?_
  refine r_iload E dX67_barred_93 0 rfl ?_
  refine r_if_ne E 100 (by decide) dX67_barred_95 (fun _ => ?_) (fun _ => ?_)
  · refine r_iload E dX67_barred_100 2 rfl ?_
    refine r_iconst E dX67_barred_102 (zkI (by decide) (by decide)) ?_
    refine r_icmp_ne E 120 (by decide) dX67_barred_103 (fun _ => ?_) (fun _ => ?_)
    · refine r_iload E dX67_barred_120 2 rfl ?_
      refine r_iconst E dX67_barred_122 (zkI (by decide) (by decide)) ?_
      refine r_icmp_ne E 140 (by decide) dX67_barred_123 (fun _ => ?_) (fun _ => ?_)
      · refine r_iload_n E dX67_barred_140 rfl 1 rfl ?_
        refine r_iload E dX67_barred_141 3 rfl ?_
        refine r_icmp_lt E 156 (by decide) dX67_barred_143 (fun _ => ?_) (fun _ => ?_)
        · refine r_pick E [] rfl ?_
          exact w_fX67_barred_J156 E hN hT
        · refine r_iload_n E dX67_barred_146 rfl 1 rfl ?_
          refine r_iload E dX67_barred_147 4 rfl ?_
          refine r_icmp_gt E 156 (by decide) dX67_barred_149 (fun _ => ?_) (fun _ => ?_)
          · refine r_pick E [] rfl ?_
            exact w_fX67_barred_J156 E hN hT
          · refine r_iconst E dX67_barred_152 (zkI (by decide) (by decide)) ?_
            refine r_goto E 157 (by decide) dX67_barred_153 ?_
            refine r_pick E [] rfl ?_
            exact w_fX67_barred_J157 E hN hT 1
      · refine r_iload_n E dX67_barred_126 rfl 1 rfl ?_
        refine r_iload E dX67_barred_127 3 rfl ?_
        refine r_icmp_gt E 136 (by decide) dX67_barred_129 (fun _ => ?_) (fun _ => ?_)
        · refine r_iconst E dX67_barred_136 (zkI (by decide) (by decide)) ?_
          refine r_goto E 157 (by decide) dX67_barred_137 ?_
          refine r_pick E [] rfl ?_
          exact w_fX67_barred_J157 E hN hT 0
        · refine r_iconst E dX67_barred_132 (zkI (by decide) (by decide)) ?_
          refine r_goto E 157 (by decide) dX67_barred_133 ?_
          refine r_pick E [] rfl ?_
          exact w_fX67_barred_J157 E hN hT 1
    · refine r_iload_n E dX67_barred_106 rfl 1 rfl ?_
      refine r_iload E dX67_barred_107 4 rfl ?_
      refine r_icmp_gt E 116 (by decide) dX67_barred_109 (fun _ => ?_) (fun _ => ?_)
      · refine r_iconst E dX67_barred_116 (zkI (by decide) (by decide)) ?_
        refine r_goto E 157 (by decide) dX67_barred_117 ?_
        refine r_pick E [] rfl ?_
        exact w_fX67_barred_J157 E hN hT 0
      · refine r_iconst E dX67_barred_112 (zkI (by decide) (by decide)) ?_
        refine r_goto E 157 (by decide) dX67_barred_113 ?_
        refine r_pick E [] rfl ?_
        exact w_fX67_barred_J157 E hN hT 1
  · refine r_iconst E dX67_barred_98 (zkI (by decide) (by decide)) ?_
    exact r_ireturn E rfl hT dX67_barred_99
theorem w_fX67_barred {K : zK} (E : zE K cX67_barred "RingHouseModel" (some .int) 1) (hN : zNl K = 9) (hT : zTr K = (some 0)) (x1 : Int) (x2 : Int) (x3 : Int) (x4 : Int) : zR K 0 [(0, 69, 0), (1, 0, x1), (2, 0, x2), (3, 0, x3), (4, 0, x4)] [] (fX67_barred x1 x2 x3 x4) := by
  refine r_aload_n E dX67_barred_0 rfl 0 rfl ?_
  refine r_gec (y := 0) E zc_69 dX67_barred_1 q3219 zr_69 (zh_6804 (by decide)) (by decide) ?_
  refine r_iconst E dX67_barred_4 (zkI (by decide) (by decide)) ?_
  refine r_iload_n E dX67_barred_5 rfl 2 rfl ?_
  refine r_imul E dX67_barred_6 ?_
  refine r_iaload E zc_6804 za_6804 zt_6804 zx_6804 rfl rfl dX67_barred_7 (by decide) (fun v1 => ?_)
  refine r_istore (ls' := [(5, 0, v1), (0, 69, 0), (1, 0, x1), (2, 0, x2), (3, 0, x3), (4, 0, x4)]) E dX67_barred_8 (by rw [hN]; decide) rfl ?_
  refine r_aload_n E dX67_barred_10 rfl 1 rfl ?_
  refine r_gec (y := 0) E zc_69 dX67_barred_11 q3219 zr_69 (zh_6804 (by decide)) (by decide) ?_
  refine r_iconst E dX67_barred_14 (zkI (by decide) (by decide)) ?_
  refine r_iload_n E dX67_barred_15 rfl 3 rfl ?_
  refine r_imul E dX67_barred_16 ?_
  refine r_iconst E dX67_barred_17 (zkI (by decide) (by decide)) ?_
  refine r_iadd E dX67_barred_18 ?_
  refine r_iaload E zc_6804 za_6804 zt_6804 zx_6804 rfl rfl dX67_barred_19 (by decide) (fun v2 => ?_)
  refine r_istore (ls' := [(6, 0, v2), (5, 0, v1), (0, 69, 0), (1, 0, x1), (2, 0, x2), (3, 0, x3), (4, 0, x4)]) E dX67_barred_20 (by rw [hN]; decide) rfl ?_
  refine r_aload_n E dX67_barred_22 rfl 2 rfl ?_
  refine r_iload_n E dX67_barred_23 rfl 4 rfl ?_
  refine r_aload_n E dX67_barred_24 rfl 2 rfl ?_
  refine r_gec (y := 0) E zc_69 dX67_barred_25 q3237 zr_69 (zh_6822 (by decide)) (by decide) ?_
  refine r_iload_n E dX67_barred_28 rfl 3 rfl ?_
  refine r_iaload E zc_6822 za_6822 zt_6822 zx_6822 rfl rfl dX67_barred_29 (by decide) (fun v3 => ?_)
  refine r_aload_n E dX67_barred_30 rfl 2 rfl ?_
  refine r_gec (y := 0) E zc_69 dX67_barred_31 q3238 zr_69 (zh_6823 (by decide)) (by decide) ?_
  refine r_iload_n E dX67_barred_34 rfl 3 rfl ?_
  refine r_iaload E zc_6823 za_6823 zt_6823 zx_6823 rfl rfl dX67_barred_35 (by decide) (fun v4 => ?_)
  refine r_callV E [(0, x2), (0, v3), (0, v4)] [] rfl zc_69 zr_69 (fun o _ => ⟨_, zw_X67.1 o, rfl⟩) (lw_V q3778 q3780 qs114 q294 q3781) dX67_barred_36 zy_X67_modesFor rfl (by omega) (by decide) (Nat.le_of_ble_eq_true rfl) (by decide) (fun l G => k_fX67_modesFor l G x2 v3 v4) (fun v5 => ?_)
  refine r_iload E dX67_barred_39 6 rfl ?_
  refine r_iand E dX67_barred_41 ?_
  refine r_if_ne E 47 (by decide) dX67_barred_42 (fun _ => ?_) (fun _ => ?_)
  · refine r_iload E dX67_barred_47 6 rfl ?_
    refine r_iconst E dX67_barred_49 (zkI (by decide) (by decide)) ?_
    refine r_icmp_ne E 76 (by decide) dX67_barred_50 (fun _ => ?_) (fun _ => ?_)
    · refine r_aload_n E dX67_barred_76 rfl 2 rfl ?_
      refine r_gec (y := 0) E zc_69 dX67_barred_77 q3239 zr_69 (zh_6824 (by decide)) (by decide) ?_
      refine r_iload_n E dX67_barred_80 rfl 3 rfl ?_
      refine r_iaload E zc_6824 za_6824 zt_6824 zx_6824 rfl rfl dX67_barred_81 (by decide) (fun v6 => ?_)
      refine r_aload_n E dX67_barred_82 rfl 2 rfl ?_
      refine r_gec (y := 0) E zc_69 dX67_barred_83 q3218 zr_69 (zh_6803 (by decide)) (by decide) ?_
      refine r_iload_n E dX67_barred_86 rfl 4 rfl ?_
      refine r_iaload E zc_6803 za_6803 zt_6803 zx_6803 rfl rfl dX67_barred_87 (by decide) (fun v7 => ?_)
      refine r_callS E [(0, v6), (0, v7)] [] rfl q3632 q3633 q294 q3634 dX67_barred_88 zy_X67_dominates rfl (by omega) (by decide) (Nat.le_of_ble_eq_true rfl) (fun l G => k_fX67_dominates l G v6 v7) (fun v8 => ?_)
      refine r_pick E [5, 6, 1, 0] rfl ?_
      exact w_fX67_barred_J91 E hN hT x3 x4 v1 v2 v8
    · refine r_aload_n E dX67_barred_53 rfl 2 rfl ?_
      refine r_gec (y := 0) E zc_69 dX67_barred_54 q3239 zr_69 (zh_6824 (by decide)) (by decide) ?_
      refine r_iload_n E dX67_barred_57 rfl 3 rfl ?_
      refine r_iaload E zc_6824 za_6824 zt_6824 zx_6824 rfl rfl dX67_barred_58 (by decide) (fun v9 => ?_)
      refine r_aload_n E dX67_barred_59 rfl 2 rfl ?_
      refine r_gec (y := 0) E zc_69 dX67_barred_60 q3218 zr_69 (zh_6803 (by decide)) (by decide) ?_
      refine r_iload_n E dX67_barred_63 rfl 4 rfl ?_
      refine r_iaload E zc_6803 za_6803 zt_6803 zx_6803 rfl rfl dX67_barred_64 (by decide) (fun v10 => ?_)
      refine r_icmp_ne E 72 (by decide) dX67_barred_65 (fun _ => ?_) (fun _ => ?_)
      · refine r_iconst E dX67_barred_72 (zkI (by decide) (by decide)) ?_
        refine r_goto E 91 (by decide) dX67_barred_73 ?_
        refine r_pick E [5, 6, 1, 0] rfl ?_
        exact w_fX67_barred_J91 E hN hT x3 x4 v1 v2 0
      · refine r_iconst E dX67_barred_68 (zkI (by decide) (by decide)) ?_
        refine r_goto E 91 (by decide) dX67_barred_69 ?_
        refine r_pick E [5, 6, 1, 0] rfl ?_
        exact w_fX67_barred_J91 E hN hT x3 x4 v1 v2 1
  · refine r_iconst E dX67_barred_45 (zkI (by decide) (by decide)) ?_
    exact r_ireturn E rfl hT dX67_barred_46
theorem k_fX67_barred (l : Launch) (G : zG) (x1 : Int) (x2 : Int) (x3 : Int) (x4 : Int) : zCt l G yX67_barred cX67_barred 9 (some .int) 1 [(69, 0), (0, x1), (0, x2), (0, x3), (0, x4)] (some 0) (fX67_barred x1 x2 x3 x4) := zCt.of (by decide) (Nat.le_of_ble_eq_true rfl) (fun K E _ _ hN hT => w_fX67_barred E hN hT x1 x2 x3 x4)
theorem dX67_access_0 : decode cX67_access 0 = .ok (.aload_n 0, 1) := by decide +kernel
theorem dX67_access_1 : decode cX67_access 1 = .ok (.iload_n 1, 1) := by decide +kernel
theorem dX67_access_2 : decode cX67_access 2 = .ok (.iload_n 2, 1) := by decide +kernel
theorem dX67_access_3 : decode cX67_access 3 = .ok (.iload_n 3, 1) := by decide +kernel
theorem dX67_access_4 : decode cX67_access 4 = .ok (.invokevirtual 524, 3) := by decide +kernel
theorem dX67_access_7 : decode cX67_access 7 = .ok (.istore 6, 2) := by decide +kernel
theorem dX67_access_9 : decode cX67_access 9 = .ok (.iload 6, 2) := by decide +kernel
theorem dX67_access_11 : decode cX67_access 11 = .ok (.ifCond .ne 35, 3) := by decide +kernel
theorem dX67_access_14 : decode cX67_access 14 = .ok (.iload_n 2, 1) := by decide +kernel
theorem dX67_access_15 : decode cX67_access 15 = .ok (.bipush 8, 2) := by decide +kernel
theorem dX67_access_17 : decode cX67_access 17 = .ok (.if_icmp .ge 29, 3) := by decide +kernel
theorem dX67_access_20 : decode cX67_access 20 = .ok (.iload 5, 2) := by decide +kernel
theorem dX67_access_22 : decode cX67_access 22 = .ok (.iconst 2, 1) := by decide +kernel
theorem dX67_access_23 : decode cX67_access 23 = .ok (.if_icmp .ne 7, 3) := by decide +kernel
theorem dX67_access_26 : decode cX67_access 26 = .ok (.iconst 3, 1) := by decide +kernel
theorem dX67_access_27 : decode cX67_access 27 = .ok (.goto 14, 3) := by decide +kernel
theorem dX67_access_30 : decode cX67_access 30 = .ok (.iload 4, 2) := by decide +kernel
theorem dX67_access_32 : decode cX67_access 32 = .ok (.iload_n 2, 1) := by decide +kernel
theorem dX67_access_33 : decode cX67_access 33 = .ok (.if_icmp .le 7, 3) := by decide +kernel
theorem dX67_access_36 : decode cX67_access 36 = .ok (.iconst 5, 1) := by decide +kernel
theorem dX67_access_37 : decode cX67_access 37 = .ok (.goto 4, 3) := by decide +kernel
theorem dX67_access_40 : decode cX67_access 40 = .ok (.iconst 0, 1) := by decide +kernel
theorem dX67_access_41 : decode cX67_access 41 = .ok (.istore 6, 2) := by decide +kernel
theorem dX67_access_43 : decode cX67_access 43 = .ok (.goto 30, 3) := by decide +kernel
theorem dX67_access_46 : decode cX67_access 46 = .ok (.iload 6, 2) := by decide +kernel
theorem dX67_access_48 : decode cX67_access 48 = .ok (.ifCond .ne 25, 3) := by decide +kernel
theorem dX67_access_51 : decode cX67_access 51 = .ok (.aload_n 0, 1) := by decide +kernel
theorem dX67_access_52 : decode cX67_access 52 = .ok (.iload_n 1, 1) := by decide +kernel
theorem dX67_access_53 : decode cX67_access 53 = .ok (.aload_n 0, 1) := by decide +kernel
theorem dX67_access_54 : decode cX67_access 54 = .ok (.getfield 125, 3) := by decide +kernel
theorem dX67_access_57 : decode cX67_access 57 = .ok (.bipush 32, 2) := by decide +kernel
theorem dX67_access_59 : decode cX67_access 59 = .ok (.iload_n 1, 1) := by decide +kernel
theorem dX67_access_60 : decode cX67_access 60 = .ok (.imul, 1) := by decide +kernel
theorem dX67_access_61 : decode cX67_access 61 = .ok (.iload_n 2, 1) := by decide +kernel
theorem dX67_access_62 : decode cX67_access 62 = .ok (.iadd, 1) := by decide +kernel
theorem dX67_access_63 : decode cX67_access 63 = .ok (.iaload, 1) := by decide +kernel
theorem dX67_access_64 : decode cX67_access 64 = .ok (.iload 4, 2) := by decide +kernel
theorem dX67_access_66 : decode cX67_access 66 = .ok (.iload 5, 2) := by decide +kernel
theorem dX67_access_68 : decode cX67_access 68 = .ok (.invokevirtual 527, 3) := by decide +kernel
theorem dX67_access_71 : decode cX67_access 71 = .ok (.istore 6, 2) := by decide +kernel
theorem dX67_access_73 : decode cX67_access 73 = .ok (.iload 6, 2) := by decide +kernel
theorem dX67_access_75 : decode cX67_access 75 = .ok (.ifCond .le 13, 3) := by decide +kernel
theorem dX67_access_78 : decode cX67_access 78 = .ok (.aload_n 0, 1) := by decide +kernel
theorem dX67_access_79 : decode cX67_access 79 = .ok (.iload 6, 2) := by decide +kernel
theorem dX67_access_81 : decode cX67_access 81 = .ok (.iload_n 2, 1) := by decide +kernel
theorem dX67_access_82 : decode cX67_access 82 = .ok (.iload_n 3, 1) := by decide +kernel
theorem dX67_access_83 : decode cX67_access 83 = .ok (.iload 4, 2) := by decide +kernel
theorem dX67_access_85 : decode cX67_access 85 = .ok (.invokevirtual 531, 3) := by decide +kernel
theorem dX67_access_88 : decode cX67_access 88 = .ok (.iload 6, 2) := by decide +kernel
theorem dX67_access_90 : decode cX67_access 90 = .ok (.ifCond .ne 7, 3) := by decide +kernel
theorem dX67_access_93 : decode cX67_access 93 = .ok (.iconst 1, 1) := by decide +kernel
theorem dX67_access_94 : decode cX67_access 94 = .ok (.goto 4, 3) := by decide +kernel
theorem dX67_access_97 : decode cX67_access 97 = .ok (.iconst 0, 1) := by decide +kernel
theorem dX67_access_98 : decode cX67_access 98 = .ok (.ireturn, 1) := by decide +kernel
theorem zy_X67_access : yX67_access.cls ≠ "java/lang/invoke/MethodHandle" ∧ yX67_access.cls ≠ "java/lang/invoke/VarHandle" ∧ (parseMethodDescriptor yX67_access.desc).map (fun d => d.parameters.length) = some 5 := by decide +kernel
theorem w_fX67_access_J88 {K : zK} (E : zE K cX67_access "RingHouseModel" (some .boolean) 2) (hN : zNl K = 7) (hT : zTr K = (some 0)) (x6 : Int) : zR K 88 [(6, 0, x6)] [] (fX67_access_J88 x6) := by
  refine r_iload E dX67_access_88 0 rfl ?_
  refine r_if_ne E 97 (by decide) dX67_access_90 (fun _ => ?_) (fun _ => ?_)
  · refine r_iconst E dX67_access_97 (zkI (by decide) (by decide)) ?_
    exact r_zreturn E rfl hT (by decide) dX67_access_98
  · refine r_iconst E dX67_access_93 (zkI (by decide) (by decide)) ?_
    refine r_goto E 98 (by decide) dX67_access_94 ?_
    exact r_zreturn E rfl hT (by decide) dX67_access_98
theorem w_fX67_access_J73 {K : zK} (E : zE K cX67_access "RingHouseModel" (some .boolean) 2) (hN : zNl K = 7) (hT : zTr K = (some 0)) (x2 : Int) (x3 : Int) (x4 : Int) (x6 : Int) : zR K 73 [(0, 69, 0), (2, 0, x2), (3, 0, x3), (4, 0, x4), (6, 0, x6)] [] (fX67_access_J73 x2 x3 x4 x6) := by
  refine r_iload E dX67_access_73 4 rfl ?_
  refine r_if_le E 88 (by decide) dX67_access_75 (fun _ => ?_) (fun _ => ?_)
  · refine r_pick E [4] rfl ?_
    exact w_fX67_access_J88 E hN hT x6
  · refine r_aload_n E dX67_access_78 rfl 0 rfl ?_
    refine r_iload E dX67_access_79 4 rfl ?_
    refine r_iload_n E dX67_access_81 rfl 1 rfl ?_
    refine r_iload_n E dX67_access_82 rfl 2 rfl ?_
    refine r_iload E dX67_access_83 3 rfl ?_
    refine r_callV E [(0, x6), (0, x2), (0, x3), (0, x4)] [] rfl zc_69 zr_69 (fun o _ => ⟨_, zw_X67.1 o, rfl⟩) (lw_V q3851 q3853 qs123 q294 q3854) dX67_access_85 zy_X67_fail rfl (by omega) (by decide) (Nat.le_of_ble_eq_true rfl) (by decide) (fun l G => k_fX67_fail l G x6 x2 x3 x4) (fun _ => ?_)
    refine r_pick E [4] rfl ?_
    exact w_fX67_access_J88 E hN hT x6
theorem w_fX67_access_J46 {K : zK} (E : zE K cX67_access "RingHouseModel" (some .boolean) 2) (hN : zNl K = 7) (hT : zTr K = (some 0)) (x1 : Int) (x2 : Int) (x3 : Int) (x4 : Int) (x5 : Int) (x6 : Int) : zR K 46 [(0, 69, 0), (1, 0, x1), (2, 0, x2), (3, 0, x3), (4, 0, x4), (5, 0, x5), (6, 0, x6)] [] (fX67_access_J46 x1 x2 x3 x4 x5 x6) := by
  refine r_iload E dX67_access_46 6 rfl ?_
  refine r_if_ne E 73 (by decide) dX67_access_48 (fun _ => ?_) (fun _ => ?_)
  · refine r_pick E [0, 2, 3, 4, 6] rfl ?_
    exact w_fX67_access_J73 E hN hT x2 x3 x4 x6
  · refine r_aload_n E dX67_access_51 rfl 0 rfl ?_
    refine r_iload_n E dX67_access_52 rfl 1 rfl ?_
    refine r_aload_n E dX67_access_53 rfl 0 rfl ?_
    refine r_gec (y := 0) E zc_69 dX67_access_54 q3253 zr_69 (zh_6838 (by decide)) (by decide) ?_
    refine r_bipush E dX67_access_57 (by decide) (zkI (by decide) (by decide)) ?_
    refine r_iload_n E dX67_access_59 rfl 1 rfl ?_
    refine r_imul E dX67_access_60 ?_
    refine r_iload_n E dX67_access_61 rfl 2 rfl ?_
    refine r_iadd E dX67_access_62 ?_
    refine r_iaload E zc_6838 za_6838 zt_6838 zx_6838 rfl rfl dX67_access_63 (by decide) (fun v3 => ?_)
    refine r_iload E dX67_access_64 4 rfl ?_
    refine r_iload E dX67_access_66 5 rfl ?_
    refine r_callV E [(0, x1), (0, v3), (0, x4), (0, x5)] [] rfl zc_69 zr_69 (fun o _ => ⟨_, zw_X67.1 o, rfl⟩) (lw_V q3847 q3849 qs122 q294 q3850) dX67_access_68 zy_X67_barred rfl (by omega) (by decide) (Nat.le_of_ble_eq_true rfl) (by decide) (fun l G => k_fX67_barred l G x1 v3 x4 x5) (fun v4 => ?_)
    refine r_istore (ls' := [(6, 0, v4), (0, 69, 0), (1, 0, x1), (2, 0, x2), (3, 0, x3), (4, 0, x4), (5, 0, x5)]) E dX67_access_71 (by rw [hN]; decide) rfl ?_
    refine r_pick E [1, 3, 4, 5, 0] rfl ?_
    exact w_fX67_access_J73 E hN hT x2 x3 x4 v4
theorem w_fX67_access_J41 {K : zK} (E : zE K cX67_access "RingHouseModel" (some .boolean) 2) (hN : zNl K = 7) (hT : zTr K = (some 0)) (x2 : Int) (x3 : Int) (x4 : Int) (s0 : Int) : zR K 41 [(0, 69, 0), (2, 0, x2), (3, 0, x3), (4, 0, x4)] [(0, s0)] (fX67_access_J41 x2 x3 x4 s0) := by
  refine r_istore (ls' := [(6, 0, s0), (0, 69, 0), (2, 0, x2), (3, 0, x3), (4, 0, x4)]) E dX67_access_41 (by rw [hN]; decide) rfl ?_
  refine r_goto E 73 (by decide) dX67_access_43 ?_
  refine r_pick E [1, 2, 3, 4, 0] rfl ?_
  exact w_fX67_access_J73 E hN hT x2 x3 x4 s0
theorem w_fX67_access {K : zK} (E : zE K cX67_access "RingHouseModel" (some .boolean) 2) (hN : zNl K = 7) (hT : zTr K = (some 0)) (x1 : Int) (x2 : Int) (x3 : Int) (x4 : Int) (x5 : Int) : zR K 0 [(0, 69, 0), (1, 0, x1), (2, 0, x2), (3, 0, x3), (4, 0, x4), (5, 0, x5)] [] (fX67_access x1 x2 x3 x4 x5) := by
  refine r_aload_n E dX67_access_0 rfl 0 rfl ?_
  refine r_iload_n E dX67_access_1 rfl 1 rfl ?_
  refine r_iload_n E dX67_access_2 rfl 2 rfl ?_
  refine r_iload_n E dX67_access_3 rfl 3 rfl ?_
  refine r_callV E [(0, x1), (0, x2), (0, x3)] [] rfl zc_69 zr_69 (fun o _ => ⟨_, zw_X67.1 o, rfl⟩) (lw_V q3843 q3845 qs121 q294 q3846) dX67_access_4 zy_X67_missing rfl (by omega) (by decide) (Nat.le_of_ble_eq_true rfl) (by decide) (fun l G => k_fX67_missing l G x1 x2 x3) (fun v1 => ?_)
  refine r_istore (ls' := [(6, 0, v1), (0, 69, 0), (1, 0, x1), (2, 0, x2), (3, 0, x3), (4, 0, x4), (5, 0, x5)]) E dX67_access_7 (by rw [hN]; decide) rfl ?_
  refine r_iload E dX67_access_9 0 rfl ?_
  refine r_if_ne E 46 (by decide) dX67_access_11 (fun _ => ?_) (fun _ => ?_)
  · refine r_pick E [1, 2, 3, 4, 5, 6, 0] rfl ?_
    exact w_fX67_access_J46 E hN hT x1 x2 x3 x4 x5 v1
  · refine r_iload_n E dX67_access_14 rfl 3 rfl ?_
    refine r_bipush E dX67_access_15 (by decide) (zkI (by decide) (by decide)) ?_
    refine r_icmp_ge E 46 (by decide) dX67_access_17 (fun _ => ?_) (fun _ => ?_)
    · refine r_pick E [1, 2, 3, 4, 5, 6, 0] rfl ?_
      exact w_fX67_access_J46 E hN hT x1 x2 x3 x4 x5 v1
    · refine r_iload E dX67_access_20 6 rfl ?_
      refine r_iconst E dX67_access_22 (zkI (by decide) (by decide)) ?_
      refine r_icmp_ne E 30 (by decide) dX67_access_23 (fun _ => ?_) (fun _ => ?_)
      · refine r_iload E dX67_access_30 5 rfl ?_
        refine r_iload_n E dX67_access_32 rfl 3 rfl ?_
        refine r_icmp_le E 40 (by decide) dX67_access_33 (fun _ => ?_) (fun _ => ?_)
        · refine r_iconst E dX67_access_40 (zkI (by decide) (by decide)) ?_
          refine r_pick E [1, 3, 4, 5] rfl ?_
          exact w_fX67_access_J41 E hN hT x2 x3 x4 0
        · refine r_iconst E dX67_access_36 (zkI (by decide) (by decide)) ?_
          refine r_goto E 41 (by decide) dX67_access_37 ?_
          refine r_pick E [1, 3, 4, 5] rfl ?_
          exact w_fX67_access_J41 E hN hT x2 x3 x4 5
      · refine r_iconst E dX67_access_26 (zkI (by decide) (by decide)) ?_
        refine r_goto E 41 (by decide) dX67_access_27 ?_
        refine r_pick E [1, 3, 4, 5] rfl ?_
        exact w_fX67_access_J41 E hN hT x2 x3 x4 3
theorem k_fX67_access (l : Launch) (G : zG) (x1 : Int) (x2 : Int) (x3 : Int) (x4 : Int) (x5 : Int) : zCt l G yX67_access cX67_access 7 (some .boolean) 2 [(69, 0), (0, x1), (0, x2), (0, x3), (0, x4), (0, x5)] (some 0) (fX67_access x1 x2 x3 x4 x5) := zCt.of (by decide) (Nat.le_of_ble_eq_true rfl) (fun K E _ _ hN hT => w_fX67_access E hN hT x1 x2 x3 x4 x5)
theorem dX67_wordAt_0 : decode cX67_wordAt 0 = .ok (.iload_n 2, 1) := by decide +kernel
theorem dX67_wordAt_1 : decode cX67_wordAt 1 = .ok (.bipush 8, 2) := by decide +kernel
theorem dX67_wordAt_3 : decode cX67_wordAt 3 = .ok (.if_icmp .ge 23, 3) := by decide +kernel
theorem dX67_wordAt_6 : decode cX67_wordAt 6 = .ok (.aload_n 0, 1) := by decide +kernel
theorem dX67_wordAt_7 : decode cX67_wordAt 7 = .ok (.getfield 122, 3) := by decide +kernel
theorem dX67_wordAt_10 : decode cX67_wordAt 10 = .ok (.sipush 512, 3) := by decide +kernel
theorem dX67_wordAt_13 : decode cX67_wordAt 13 = .ok (.iload_n 1, 1) := by decide +kernel
theorem dX67_wordAt_14 : decode cX67_wordAt 14 = .ok (.imul, 1) := by decide +kernel
theorem dX67_wordAt_15 : decode cX67_wordAt 15 = .ok (.bipush 64, 2) := by decide +kernel
theorem dX67_wordAt_17 : decode cX67_wordAt 17 = .ok (.iload_n 2, 1) := by decide +kernel
theorem dX67_wordAt_18 : decode cX67_wordAt 18 = .ok (.imul, 1) := by decide +kernel
theorem dX67_wordAt_19 : decode cX67_wordAt 19 = .ok (.iadd, 1) := by decide +kernel
theorem dX67_wordAt_20 : decode cX67_wordAt 20 = .ok (.iload_n 3, 1) := by decide +kernel
theorem dX67_wordAt_21 : decode cX67_wordAt 21 = .ok (.iadd, 1) := by decide +kernel
theorem dX67_wordAt_22 : decode cX67_wordAt 22 = .ok (.laload, 1) := by decide +kernel
theorem dX67_wordAt_23 : decode cX67_wordAt 23 = .ok (.goto 25, 3) := by decide +kernel
theorem dX67_wordAt_26 : decode cX67_wordAt 26 = .ok (.aload_n 0, 1) := by decide +kernel
theorem dX67_wordAt_27 : decode cX67_wordAt 27 = .ok (.getfield 57, 3) := by decide +kernel
theorem dX67_wordAt_30 : decode cX67_wordAt 30 = .ok (.sipush 1024, 3) := by decide +kernel
theorem dX67_wordAt_33 : decode cX67_wordAt 33 = .ok (.aload_n 0, 1) := by decide +kernel
theorem dX67_wordAt_34 : decode cX67_wordAt 34 = .ok (.getfield 125, 3) := by decide +kernel
theorem dX67_wordAt_37 : decode cX67_wordAt 37 = .ok (.bipush 32, 2) := by decide +kernel
theorem dX67_wordAt_39 : decode cX67_wordAt 39 = .ok (.iload_n 1, 1) := by decide +kernel
theorem dX67_wordAt_40 : decode cX67_wordAt 40 = .ok (.imul, 1) := by decide +kernel
theorem dX67_wordAt_41 : decode cX67_wordAt 41 = .ok (.iload_n 2, 1) := by decide +kernel
theorem dX67_wordAt_42 : decode cX67_wordAt 42 = .ok (.iadd, 1) := by decide +kernel
theorem dX67_wordAt_43 : decode cX67_wordAt 43 = .ok (.iaload, 1) := by decide +kernel
theorem dX67_wordAt_44 : decode cX67_wordAt 44 = .ok (.imul, 1) := by decide +kernel
theorem dX67_wordAt_45 : decode cX67_wordAt 45 = .ok (.iload_n 3, 1) := by decide +kernel
theorem dX67_wordAt_46 : decode cX67_wordAt 46 = .ok (.iadd, 1) := by decide +kernel
theorem dX67_wordAt_47 : decode cX67_wordAt 47 = .ok (.laload, 1) := by decide +kernel
theorem dX67_wordAt_48 : decode cX67_wordAt 48 = .ok (.lreturn, 1) := by decide +kernel
theorem zy_X67_wordAt : yX67_wordAt.cls ≠ "java/lang/invoke/MethodHandle" ∧ yX67_wordAt.cls ≠ "java/lang/invoke/VarHandle" ∧ (parseMethodDescriptor yX67_wordAt.desc).map (fun d => d.parameters.length) = some 3 := by decide +kernel
theorem w_fX67_wordAt {K : zK} (E : zE K cX67_wordAt "RingHouseModel" (some .long) 0) (hN : zNl K = 4) (hT : zTr K = (some 1)) (x1 : Int) (x2 : Int) (x3 : Int) : zR K 0 [(0, 69, 0), (1, 0, x1), (2, 0, x2), (3, 0, x3)] [] (fX67_wordAt x1 x2 x3) := by
  refine r_iload_n E dX67_wordAt_0 rfl 2 rfl ?_
  refine r_bipush E dX67_wordAt_1 (by decide) (zkI (by decide) (by decide)) ?_
  refine r_icmp_ge E 26 (by decide) dX67_wordAt_3 (fun _ => ?_) (fun _ => ?_)
  · refine r_aload_n E dX67_wordAt_26 rfl 0 rfl ?_
    refine r_gec (y := 0) E zc_69 dX67_wordAt_27 q3231 zr_69 (zh_6816 (by decide)) (by decide) ?_
    refine r_sipush E dX67_wordAt_30 (by decide) (zkI (by decide) (by decide)) ?_
    refine r_aload_n E dX67_wordAt_33 rfl 0 rfl ?_
    refine r_gec (y := 0) E zc_69 dX67_wordAt_34 q3253 zr_69 (zh_6838 (by decide)) (by decide) ?_
    refine r_bipush E dX67_wordAt_37 (by decide) (zkI (by decide) (by decide)) ?_
    refine r_iload_n E dX67_wordAt_39 rfl 1 rfl ?_
    refine r_imul E dX67_wordAt_40 ?_
    refine r_iload_n E dX67_wordAt_41 rfl 2 rfl ?_
    refine r_iadd E dX67_wordAt_42 ?_
    refine r_iaload E zc_6838 za_6838 zt_6838 zx_6838 rfl rfl dX67_wordAt_43 (by decide) (fun v1 => ?_)
    refine r_imul E dX67_wordAt_44 ?_
    refine r_iload_n E dX67_wordAt_45 rfl 3 rfl ?_
    refine r_iadd E dX67_wordAt_46 ?_
    refine r_laload E zc_6816 za_6816 zt_6816 zx_6816 rfl rfl dX67_wordAt_47 (by decide) (fun v2 => ?_)
    exact r_lreturn E rfl hT dX67_wordAt_48
  · refine r_aload_n E dX67_wordAt_6 rfl 0 rfl ?_
    refine r_gec (y := 0) E zc_69 dX67_wordAt_7 q3252 zr_69 (zh_6837 (by decide)) (by decide) ?_
    refine r_sipush E dX67_wordAt_10 (by decide) (zkI (by decide) (by decide)) ?_
    refine r_iload_n E dX67_wordAt_13 rfl 1 rfl ?_
    refine r_imul E dX67_wordAt_14 ?_
    refine r_bipush E dX67_wordAt_15 (by decide) (zkI (by decide) (by decide)) ?_
    refine r_iload_n E dX67_wordAt_17 rfl 2 rfl ?_
    refine r_imul E dX67_wordAt_18 ?_
    refine r_iadd E dX67_wordAt_19 ?_
    refine r_iload_n E dX67_wordAt_20 rfl 3 rfl ?_
    refine r_iadd E dX67_wordAt_21 ?_
    refine r_laload E zc_6837 za_6837 zt_6837 zx_6837 rfl rfl dX67_wordAt_22 (by decide) (fun v3 => ?_)
    refine r_goto E 48 (by decide) dX67_wordAt_23 ?_
    exact r_lreturn E rfl hT dX67_wordAt_48
theorem k_fX67_wordAt (l : Launch) (G : zG) (x1 : Int) (x2 : Int) (x3 : Int) : zCt l G yX67_wordAt cX67_wordAt 4 (some .long) 0 [(69, 0), (0, x1), (0, x2), (0, x3)] (some 1) (fX67_wordAt x1 x2 x3) := zCt.of (by decide) (Nat.le_of_ble_eq_true rfl) (fun K E _ _ hN hT => w_fX67_wordAt E hN hT x1 x2 x3)
theorem dX67_isLegal_0 : decode cX67_isLegal 0 = .ok (.aload_n 0, 1) := by decide +kernel
theorem dX67_isLegal_1 : decode cX67_isLegal 1 = .ok (.getfield 537, 3) := by decide +kernel
theorem dX67_isLegal_4 : decode cX67_isLegal 4 = .ok (.bipush 37, 2) := by decide +kernel
theorem dX67_isLegal_6 : decode cX67_isLegal 6 = .ok (.if_icmp .le 5, 3) := by decide +kernel
theorem dX67_isLegal_9 : decode cX67_isLegal 9 = .ok (.iconst 0, 1) := by decide +kernel
theorem dX67_isLegal_10 : decode cX67_isLegal 10 = .ok (.ireturn, 1) := by decide +kernel
theorem dX67_isLegal_11 : decode cX67_isLegal 11 = .ok (.aload_n 0, 1) := by decide +kernel
theorem dX67_isLegal_12 : decode cX67_isLegal 12 = .ok (.getfield 537, 3) := by decide +kernel
theorem dX67_isLegal_15 : decode cX67_isLegal 15 = .ok (.iconst 2, 1) := by decide +kernel
theorem dX67_isLegal_16 : decode cX67_isLegal 16 = .ok (.if_icmp .lt 12, 3) := by decide +kernel
theorem dX67_isLegal_19 : decode cX67_isLegal 19 = .ok (.aload_n 0, 1) := by decide +kernel
theorem dX67_isLegal_20 : decode cX67_isLegal 20 = .ok (.getfield 537, 3) := by decide +kernel
theorem dX67_isLegal_23 : decode cX67_isLegal 23 = .ok (.bipush 35, 2) := by decide +kernel
theorem dX67_isLegal_25 : decode cX67_isLegal 25 = .ok (.if_icmp .le 5, 3) := by decide +kernel
theorem dX67_isLegal_28 : decode cX67_isLegal 28 = .ok (.iconst 1, 1) := by decide +kernel
theorem dX67_isLegal_29 : decode cX67_isLegal 29 = .ok (.ireturn, 1) := by decide +kernel
theorem dX67_isLegal_30 : decode cX67_isLegal 30 = .ok (.aload_n 0, 1) := by decide +kernel
theorem dX67_isLegal_31 : decode cX67_isLegal 31 = .ok (.getfield 537, 3) := by decide +kernel
theorem dX67_isLegal_34 : decode cX67_isLegal 34 = .ok (.i2l, 1) := by decide +kernel
theorem dX67_isLegal_35 : decode cX67_isLegal 35 = .ok (.ldc2_w 466, 3) := by decide +kernel
theorem dX67_isLegal_38 : decode cX67_isLegal 38 = .ok (.ldc2_w 540, 3) := by decide +kernel
theorem dX67_isLegal_41 : decode cX67_isLegal 41 = .ok (.invokestatic 363, 3) := by decide +kernel
theorem dX67_isLegal_44 : decode cX67_isLegal 44 = .ok (.ifCond .ne 29, 3) := by decide +kernel
theorem dX67_isLegal_47 : decode cX67_isLegal 47 = .ok (.aload_n 0, 1) := by decide +kernel
theorem dX67_isLegal_48 : decode cX67_isLegal 48 = .ok (.getfield 537, 3) := by decide +kernel
theorem dX67_isLegal_51 : decode cX67_isLegal 51 = .ok (.i2l, 1) := by decide +kernel
theorem dX67_isLegal_52 : decode cX67_isLegal 52 = .ok (.ldc2_w 542, 3) := by decide +kernel
theorem dX67_isLegal_55 : decode cX67_isLegal 55 = .ok (.ldc2_w 544, 3) := by decide +kernel
theorem dX67_isLegal_58 : decode cX67_isLegal 58 = .ok (.invokestatic 363, 3) := by decide +kernel
theorem dX67_isLegal_61 : decode cX67_isLegal 61 = .ok (.ifCond .ne 12, 3) := by decide +kernel
theorem dX67_isLegal_64 : decode cX67_isLegal 64 = .ok (.aload_n 0, 1) := by decide +kernel
theorem dX67_isLegal_65 : decode cX67_isLegal 65 = .ok (.getfield 537, 3) := by decide +kernel
theorem dX67_isLegal_68 : decode cX67_isLegal 68 = .ok (.bipush 35, 2) := by decide +kernel
theorem dX67_isLegal_70 : decode cX67_isLegal 70 = .ok (.if_icmp .ne 7, 3) := by decide +kernel
theorem dX67_isLegal_73 : decode cX67_isLegal 73 = .ok (.iconst 1, 1) := by decide +kernel
theorem dX67_isLegal_74 : decode cX67_isLegal 74 = .ok (.goto 4, 3) := by decide +kernel
theorem dX67_isLegal_77 : decode cX67_isLegal 77 = .ok (.iconst 0, 1) := by decide +kernel
theorem dX67_isLegal_78 : decode cX67_isLegal 78 = .ok (.istore_n 2, 1) := by decide +kernel
theorem dX67_isLegal_79 : decode cX67_isLegal 79 = .ok (.aload_n 0, 1) := by decide +kernel
theorem dX67_isLegal_80 : decode cX67_isLegal 80 = .ok (.getfield 537, 3) := by decide +kernel
theorem dX67_isLegal_83 : decode cX67_isLegal 83 = .ok (.bipush 12, 2) := by decide +kernel
theorem dX67_isLegal_85 : decode cX67_isLegal 85 = .ok (.if_icmp .eq 39, 3) := by decide +kernel
theorem dX67_isLegal_88 : decode cX67_isLegal 88 = .ok (.aload_n 0, 1) := by decide +kernel
theorem dX67_isLegal_89 : decode cX67_isLegal 89 = .ok (.getfield 537, 3) := by decide +kernel
theorem dX67_isLegal_92 : decode cX67_isLegal 92 = .ok (.bipush 13, 2) := by decide +kernel
theorem dX67_isLegal_94 : decode cX67_isLegal 94 = .ok (.if_icmp .eq 30, 3) := by decide +kernel
theorem dX67_isLegal_97 : decode cX67_isLegal 97 = .ok (.aload_n 0, 1) := by decide +kernel
theorem dX67_isLegal_98 : decode cX67_isLegal 98 = .ok (.getfield 537, 3) := by decide +kernel
theorem dX67_isLegal_101 : decode cX67_isLegal 101 = .ok (.bipush 16, 2) := by decide +kernel
theorem dX67_isLegal_103 : decode cX67_isLegal 103 = .ok (.if_icmp .eq 21, 3) := by decide +kernel
theorem dX67_isLegal_106 : decode cX67_isLegal 106 = .ok (.aload_n 0, 1) := by decide +kernel
theorem dX67_isLegal_107 : decode cX67_isLegal 107 = .ok (.getfield 537, 3) := by decide +kernel
theorem dX67_isLegal_110 : decode cX67_isLegal 110 = .ok (.bipush 20, 2) := by decide +kernel
theorem dX67_isLegal_112 : decode cX67_isLegal 112 = .ok (.if_icmp .eq 12, 3) := by decide +kernel
theorem dX67_isLegal_115 : decode cX67_isLegal 115 = .ok (.aload_n 0, 1) := by decide +kernel
theorem dX67_isLegal_116 : decode cX67_isLegal 116 = .ok (.getfield 537, 3) := by decide +kernel
theorem dX67_isLegal_119 : decode cX67_isLegal 119 = .ok (.bipush 32, 2) := by decide +kernel
theorem dX67_isLegal_121 : decode cX67_isLegal 121 = .ok (.if_icmp .ne 7, 3) := by decide +kernel
theorem dX67_isLegal_124 : decode cX67_isLegal 124 = .ok (.iconst 1, 1) := by decide +kernel
theorem dX67_isLegal_125 : decode cX67_isLegal 125 = .ok (.goto 4, 3) := by decide +kernel
theorem dX67_isLegal_128 : decode cX67_isLegal 128 = .ok (.iconst 0, 1) := by decide +kernel
theorem dX67_isLegal_129 : decode cX67_isLegal 129 = .ok (.istore_n 3, 1) := by decide +kernel
theorem dX67_isLegal_130 : decode cX67_isLegal 130 = .ok (.aload_n 0, 1) := by decide +kernel
theorem dX67_isLegal_131 : decode cX67_isLegal 131 = .ok (.getfield 546, 3) := by decide +kernel
theorem dX67_isLegal_134 : decode cX67_isLegal 134 = .ok (.bipush 7, 2) := by decide +kernel
theorem dX67_isLegal_136 : decode cX67_isLegal 136 = .ok (.if_icmp .eq 53, 3) := by decide +kernel
theorem dX67_isLegal_139 : decode cX67_isLegal 139 = .ok (.aload_n 0, 1) := by decide +kernel
theorem dX67_isLegal_140 : decode cX67_isLegal 140 = .ok (.getfield 546, 3) := by decide +kernel
theorem dX67_isLegal_143 : decode cX67_isLegal 143 = .ok (.iconst 2, 1) := by decide +kernel
theorem dX67_isLegal_144 : decode cX67_isLegal 144 = .ok (.if_icmp .ne 7, 3) := by decide +kernel
theorem dX67_isLegal_147 : decode cX67_isLegal 147 = .ok (.iload_n 2, 1) := by decide +kernel
theorem dX67_isLegal_148 : decode cX67_isLegal 148 = .ok (.ifCond .eq 41, 3) := by decide +kernel
theorem dX67_isLegal_151 : decode cX67_isLegal 151 = .ok (.aload_n 0, 1) := by decide +kernel
theorem dX67_isLegal_152 : decode cX67_isLegal 152 = .ok (.getfield 537, 3) := by decide +kernel
theorem dX67_isLegal_155 : decode cX67_isLegal 155 = .ok (.bipush 35, 2) := by decide +kernel
theorem dX67_isLegal_157 : decode cX67_isLegal 157 = .ok (.if_icmp .ne 11, 3) := by decide +kernel
theorem dX67_isLegal_160 : decode cX67_isLegal 160 = .ok (.aload_n 0, 1) := by decide +kernel
theorem dX67_isLegal_161 : decode cX67_isLegal 161 = .ok (.getfield 546, 3) := by decide +kernel
theorem dX67_isLegal_164 : decode cX67_isLegal 164 = .ok (.iconst 2, 1) := by decide +kernel
theorem dX67_isLegal_165 : decode cX67_isLegal 165 = .ok (.if_icmp .ne 24, 3) := by decide +kernel
theorem dX67_isLegal_168 : decode cX67_isLegal 168 = .ok (.aload_n 0, 1) := by decide +kernel
theorem dX67_isLegal_169 : decode cX67_isLegal 169 = .ok (.getfield 549, 3) := by decide +kernel
theorem dX67_isLegal_172 : decode cX67_isLegal 172 = .ok (.iconst 5, 1) := by decide +kernel
theorem dX67_isLegal_173 : decode cX67_isLegal 173 = .ok (.if_icmp .ge 16, 3) := by decide +kernel
theorem dX67_isLegal_176 : decode cX67_isLegal 176 = .ok (.iload_n 3, 1) := by decide +kernel
theorem dX67_isLegal_177 : decode cX67_isLegal 177 = .ok (.ifCond .eq 8, 3) := by decide +kernel
theorem dX67_isLegal_180 : decode cX67_isLegal 180 = .ok (.iload_n 1, 1) := by decide +kernel
theorem dX67_isLegal_181 : decode cX67_isLegal 181 = .ok (.iconst 4, 1) := by decide +kernel
theorem dX67_isLegal_182 : decode cX67_isLegal 182 = .ok (.if_icmp .ge 7, 3) := by decide +kernel
theorem dX67_isLegal_185 : decode cX67_isLegal 185 = .ok (.iconst 1, 1) := by decide +kernel
theorem dX67_isLegal_186 : decode cX67_isLegal 186 = .ok (.goto 4, 3) := by decide +kernel
theorem dX67_isLegal_189 : decode cX67_isLegal 189 = .ok (.iconst 0, 1) := by decide +kernel
theorem dX67_isLegal_190 : decode cX67_isLegal 190 = .ok (.ireturn, 1) := by decide +kernel
theorem zy_X67_isLegal : yX67_isLegal.cls ≠ "java/lang/invoke/MethodHandle" ∧ yX67_isLegal.cls ≠ "java/lang/invoke/VarHandle" ∧ (parseMethodDescriptor yX67_isLegal.desc).map (fun d => d.parameters.length) = some 1 := by decide +kernel
theorem w_fX67_isLegal_J168 {K : zK} (E : zE K cX67_isLegal "RingHouseModel" (some .boolean) 1) (hN : zNl K = 4) (hT : zTr K = (some 0)) (x1 : Int) (x3 : Int) : zR K 168 [(0, 69, 0), (1, 0, x1), (3, 0, x3)] [] (fX67_isLegal_J168 x1 x3) := by
  refine r_aload_n E dX67_isLegal_168 rfl 0 rfl ?_
  refine r_get E zc_69 zt_6884 dX67_isLegal_169 q3299 zr_69 (zg_6884 _) (by decide) (fun v10 => ?_)
  refine r_iconst E dX67_isLegal_172 (zkI (by decide) (by decide)) ?_
  refine r_icmp_ge E 189 (by decide) dX67_isLegal_173 (fun _ => ?_) (fun _ => ?_)
  · refine r_iconst E dX67_isLegal_189 (zkI (by decide) (by decide)) ?_
    exact r_zreturn E rfl hT (by decide) dX67_isLegal_190
  · refine r_iload_n E dX67_isLegal_176 rfl 2 rfl ?_
    refine r_if_eq E 185 (by decide) dX67_isLegal_177 (fun _ => ?_) (fun _ => ?_)
    · refine r_iconst E dX67_isLegal_185 (zkI (by decide) (by decide)) ?_
      refine r_goto E 190 (by decide) dX67_isLegal_186 ?_
      exact r_zreturn E rfl hT (by decide) dX67_isLegal_190
    · refine r_iload_n E dX67_isLegal_180 rfl 1 rfl ?_
      refine r_iconst E dX67_isLegal_181 (zkI (by decide) (by decide)) ?_
      refine r_icmp_ge E 189 (by decide) dX67_isLegal_182 (fun _ => ?_) (fun _ => ?_)
      · refine r_iconst E dX67_isLegal_189 (zkI (by decide) (by decide)) ?_
        exact r_zreturn E rfl hT (by decide) dX67_isLegal_190
      · refine r_iconst E dX67_isLegal_185 (zkI (by decide) (by decide)) ?_
        refine r_goto E 190 (by decide) dX67_isLegal_186 ?_
        exact r_zreturn E rfl hT (by decide) dX67_isLegal_190
theorem w_fX67_isLegal_J151 {K : zK} (E : zE K cX67_isLegal "RingHouseModel" (some .boolean) 1) (hN : zNl K = 4) (hT : zTr K = (some 0)) (x1 : Int) (x3 : Int) : zR K 151 [(0, 69, 0), (1, 0, x1), (3, 0, x3)] [] (fX67_isLegal_J151 x1 x3) := by
  refine r_aload_n E dX67_isLegal_151 rfl 0 rfl ?_
  refine r_get E zc_69 zt_6881 dX67_isLegal_152 q3296 zr_69 (zg_6881 _) (by decide) (fun v9 => ?_)
  refine r_bipush E dX67_isLegal_155 (by decide) (zkI (by decide) (by decide)) ?_
  refine r_icmp_ne E 168 (by decide) dX67_isLegal_157 (fun _ => ?_) (fun _ => ?_)
  · exact w_fX67_isLegal_J168 E hN hT x1 x3
  · refine r_aload_n E dX67_isLegal_160 rfl 0 rfl ?_
    refine r_get E zc_69 zt_6882 dX67_isLegal_161 q3297 zr_69 (zg_6882 _) (by decide) (fun v11 => ?_)
    refine r_iconst E dX67_isLegal_164 (zkI (by decide) (by decide)) ?_
    refine r_icmp_ne E 189 (by decide) dX67_isLegal_165 (fun _ => ?_) (fun _ => ?_)
    · refine r_iconst E dX67_isLegal_189 (zkI (by decide) (by decide)) ?_
      exact r_zreturn E rfl hT (by decide) dX67_isLegal_190
    · exact w_fX67_isLegal_J168 E hN hT x1 x3
theorem w_fX67_isLegal_J129 {K : zK} (E : zE K cX67_isLegal "RingHouseModel" (some .boolean) 1) (hN : zNl K = 4) (hT : zTr K = (some 0)) (x1 : Int) (x2 : Int) (s0 : Int) : zR K 129 [(0, 69, 0), (1, 0, x1), (2, 0, x2)] [(0, s0)] (fX67_isLegal_J129 x1 x2 s0) := by
  refine r_istore_n (ls' := [(3, 0, s0), (0, 69, 0), (1, 0, x1), (2, 0, x2)]) E dX67_isLegal_129 rfl (by rw [hN]; decide) rfl ?_
  refine r_aload_n E dX67_isLegal_130 rfl 1 rfl ?_
  refine r_get E zc_69 zt_6882 dX67_isLegal_131 q3297 zr_69 (zg_6882 _) (by decide) (fun v7 => ?_)
  refine r_bipush E dX67_isLegal_134 (by decide) (zkI (by decide) (by decide)) ?_
  refine r_icmp_eq E 189 (by decide) dX67_isLegal_136 (fun _ => ?_) (fun _ => ?_)
  · refine r_iconst E dX67_isLegal_189 (zkI (by decide) (by decide)) ?_
    exact r_zreturn E rfl hT (by decide) dX67_isLegal_190
  · refine r_aload_n E dX67_isLegal_139 rfl 1 rfl ?_
    refine r_get E zc_69 zt_6882 dX67_isLegal_140 q3297 zr_69 (zg_6882 _) (by decide) (fun v8 => ?_)
    refine r_iconst E dX67_isLegal_143 (zkI (by decide) (by decide)) ?_
    refine r_icmp_ne E 151 (by decide) dX67_isLegal_144 (fun _ => ?_) (fun _ => ?_)
    · refine r_pick E [1, 2, 0] rfl ?_
      exact w_fX67_isLegal_J151 E hN hT x1 s0
    · refine r_iload_n E dX67_isLegal_147 rfl 3 rfl ?_
      refine r_if_eq E 189 (by decide) dX67_isLegal_148 (fun _ => ?_) (fun _ => ?_)
      · refine r_iconst E dX67_isLegal_189 (zkI (by decide) (by decide)) ?_
        exact r_zreturn E rfl hT (by decide) dX67_isLegal_190
      · refine r_pick E [1, 2, 0] rfl ?_
        exact w_fX67_isLegal_J151 E hN hT x1 s0
theorem w_fX67_isLegal_J124 {K : zK} (E : zE K cX67_isLegal "RingHouseModel" (some .boolean) 1) (hN : zNl K = 4) (hT : zTr K = (some 0)) (x1 : Int) (x2 : Int) : zR K 124 [(0, 69, 0), (1, 0, x1), (2, 0, x2)] [] (fX67_isLegal_J124 x1 x2) := by
  refine r_iconst E dX67_isLegal_124 (zkI (by decide) (by decide)) ?_
  refine r_goto E 129 (by decide) dX67_isLegal_125 ?_
  exact w_fX67_isLegal_J129 E hN hT x1 x2 1
theorem w_fX67_isLegal_J78 {K : zK} (E : zE K cX67_isLegal "RingHouseModel" (some .boolean) 1) (hN : zNl K = 4) (hT : zTr K = (some 0)) (x1 : Int) (s0 : Int) : zR K 78 [(0, 69, 0), (1, 0, x1)] [(0, s0)] (fX67_isLegal_J78 x1 s0) := by
  refine r_istore_n (ls' := [(2, 0, s0), (0, 69, 0), (1, 0, x1)]) E dX67_isLegal_78 rfl (by rw [hN]; decide) rfl ?_
  refine r_aload_n E dX67_isLegal_79 rfl 1 rfl ?_
  refine r_get E zc_69 zt_6881 dX67_isLegal_80 q3296 zr_69 (zg_6881 _) (by decide) (fun v6 => ?_)
  refine r_bipush E dX67_isLegal_83 (by decide) (zkI (by decide) (by decide)) ?_
  refine r_icmp_eq E 124 (by decide) dX67_isLegal_85 (fun _ => ?_) (fun _ => ?_)
  · refine r_pick E [1, 2, 0] rfl ?_
    exact w_fX67_isLegal_J124 E hN hT x1 s0
  · refine r_aload_n E dX67_isLegal_88 rfl 1 rfl ?_
    refine r_get E zc_69 zt_6881 dX67_isLegal_89 q3296 zr_69 (zg_6881 _) (by decide) (fun v12 => ?_)
    refine r_bipush E dX67_isLegal_92 (by decide) (zkI (by decide) (by decide)) ?_
    refine r_icmp_eq E 124 (by decide) dX67_isLegal_94 (fun _ => ?_) (fun _ => ?_)
    · refine r_pick E [1, 2, 0] rfl ?_
      exact w_fX67_isLegal_J124 E hN hT x1 s0
    · refine r_aload_n E dX67_isLegal_97 rfl 1 rfl ?_
      refine r_get E zc_69 zt_6881 dX67_isLegal_98 q3296 zr_69 (zg_6881 _) (by decide) (fun v13 => ?_)
      refine r_bipush E dX67_isLegal_101 (by decide) (zkI (by decide) (by decide)) ?_
      refine r_icmp_eq E 124 (by decide) dX67_isLegal_103 (fun _ => ?_) (fun _ => ?_)
      · refine r_pick E [1, 2, 0] rfl ?_
        exact w_fX67_isLegal_J124 E hN hT x1 s0
      · refine r_aload_n E dX67_isLegal_106 rfl 1 rfl ?_
        refine r_get E zc_69 zt_6881 dX67_isLegal_107 q3296 zr_69 (zg_6881 _) (by decide) (fun v14 => ?_)
        refine r_bipush E dX67_isLegal_110 (by decide) (zkI (by decide) (by decide)) ?_
        refine r_icmp_eq E 124 (by decide) dX67_isLegal_112 (fun _ => ?_) (fun _ => ?_)
        · refine r_pick E [1, 2, 0] rfl ?_
          exact w_fX67_isLegal_J124 E hN hT x1 s0
        · refine r_aload_n E dX67_isLegal_115 rfl 1 rfl ?_
          refine r_get E zc_69 zt_6881 dX67_isLegal_116 q3296 zr_69 (zg_6881 _) (by decide) (fun v15 => ?_)
          refine r_bipush E dX67_isLegal_119 (by decide) (zkI (by decide) (by decide)) ?_
          refine r_icmp_ne E 128 (by decide) dX67_isLegal_121 (fun _ => ?_) (fun _ => ?_)
          · refine r_iconst E dX67_isLegal_128 (zkI (by decide) (by decide)) ?_
            refine r_pick E [1, 2, 0] rfl ?_
            exact w_fX67_isLegal_J129 E hN hT x1 s0 0
          · refine r_pick E [1, 2, 0] rfl ?_
            exact w_fX67_isLegal_J124 E hN hT x1 s0
theorem w_fX67_isLegal_J73 {K : zK} (E : zE K cX67_isLegal "RingHouseModel" (some .boolean) 1) (hN : zNl K = 4) (hT : zTr K = (some 0)) (x1 : Int) : zR K 73 [(0, 69, 0), (1, 0, x1)] [] (fX67_isLegal_J73 x1) := by
  refine r_iconst E dX67_isLegal_73 (zkI (by decide) (by decide)) ?_
  refine r_goto E 78 (by decide) dX67_isLegal_74 ?_
  exact w_fX67_isLegal_J78 E hN hT x1 1
theorem w_fX67_isLegal {K : zK} (E : zE K cX67_isLegal "RingHouseModel" (some .boolean) 1) (hN : zNl K = 4) (hT : zTr K = (some 0)) (x1 : Int) : zR K 0 [(0, 69, 0), (1, 0, x1)] [] (fX67_isLegal x1) := by
  refine r_aload_n E dX67_isLegal_0 rfl 0 rfl ?_
  refine r_get E zc_69 zt_6881 dX67_isLegal_1 q3296 zr_69 (zg_6881 _) (by decide) (fun v1 => ?_)
  refine r_bipush E dX67_isLegal_4 (by decide) (zkI (by decide) (by decide)) ?_
  refine r_icmp_le E 11 (by decide) dX67_isLegal_6 (fun _ => ?_) (fun _ => ?_)
  · refine r_aload_n E dX67_isLegal_11 rfl 0 rfl ?_
    refine r_get E zc_69 zt_6881 dX67_isLegal_12 q3296 zr_69 (zg_6881 _) (by decide) (fun v2 => ?_)
    refine r_iconst E dX67_isLegal_15 (zkI (by decide) (by decide)) ?_
    refine r_icmp_lt E 28 (by decide) dX67_isLegal_16 (fun _ => ?_) (fun _ => ?_)
    · refine r_iconst E dX67_isLegal_28 (zkI (by decide) (by decide)) ?_
      exact r_zreturn E rfl hT (by decide) dX67_isLegal_29
    · refine r_aload_n E dX67_isLegal_19 rfl 0 rfl ?_
      refine r_get E zc_69 zt_6881 dX67_isLegal_20 q3296 zr_69 (zg_6881 _) (by decide) (fun v3 => ?_)
      refine r_bipush E dX67_isLegal_23 (by decide) (zkI (by decide) (by decide)) ?_
      refine r_icmp_le E 30 (by decide) dX67_isLegal_25 (fun _ => ?_) (fun _ => ?_)
      · refine r_aload_n E dX67_isLegal_30 rfl 0 rfl ?_
        refine r_get E zc_69 zt_6881 dX67_isLegal_31 q3296 zr_69 (zg_6881 _) (by decide) (fun v4 => ?_)
        refine r_i2l E dX67_isLegal_34 ?_
        refine r_ldc2 (v := 2) E dX67_isLegal_35 q3687 (by decide) (zkJ (by decide) (by decide)) ?_
        refine r_ldc2 (v := 13) E dX67_isLegal_38 q3863 (by decide) (zkJ (by decide) (by decide)) ?_
        refine r_callS E [(1, v4), (1, 2), (1, 13)] [] rfl q3619 q3620 q294 q3621 dX67_isLegal_41 zy_X67_in rfl (by omega) (by decide) (Nat.le_of_ble_eq_true rfl) (fun l G => k_fX67_in l G v4 2 13) (fun v5 => ?_)
        refine r_if_ne E 73 (by decide) dX67_isLegal_44 (fun _ => ?_) (fun _ => ?_)
        · exact w_fX67_isLegal_J73 E hN hT x1
        · refine r_aload_n E dX67_isLegal_47 rfl 0 rfl ?_
          refine r_get E zc_69 zt_6881 dX67_isLegal_48 q3296 zr_69 (zg_6881 _) (by decide) (fun v16 => ?_)
          refine r_i2l E dX67_isLegal_51 ?_
          refine r_ldc2 (v := 20) E dX67_isLegal_52 q3864 (by decide) (zkJ (by decide) (by decide)) ?_
          refine r_ldc2 (v := 24) E dX67_isLegal_55 q3865 (by decide) (zkJ (by decide) (by decide)) ?_
          refine r_callS E [(1, v16), (1, 20), (1, 24)] [] rfl q3619 q3620 q294 q3621 dX67_isLegal_58 zy_X67_in rfl (by omega) (by decide) (Nat.le_of_ble_eq_true rfl) (fun l G => k_fX67_in l G v16 20 24) (fun v17 => ?_)
          refine r_if_ne E 73 (by decide) dX67_isLegal_61 (fun _ => ?_) (fun _ => ?_)
          · exact w_fX67_isLegal_J73 E hN hT x1
          · refine r_aload_n E dX67_isLegal_64 rfl 0 rfl ?_
            refine r_get E zc_69 zt_6881 dX67_isLegal_65 q3296 zr_69 (zg_6881 _) (by decide) (fun v18 => ?_)
            refine r_bipush E dX67_isLegal_68 (by decide) (zkI (by decide) (by decide)) ?_
            refine r_icmp_ne E 77 (by decide) dX67_isLegal_70 (fun _ => ?_) (fun _ => ?_)
            · refine r_iconst E dX67_isLegal_77 (zkI (by decide) (by decide)) ?_
              exact w_fX67_isLegal_J78 E hN hT x1 0
            · exact w_fX67_isLegal_J73 E hN hT x1
      · refine r_iconst E dX67_isLegal_28 (zkI (by decide) (by decide)) ?_
        exact r_zreturn E rfl hT (by decide) dX67_isLegal_29
  · refine r_iconst E dX67_isLegal_9 (zkI (by decide) (by decide)) ?_
    exact r_zreturn E rfl hT (by decide) dX67_isLegal_10
theorem k_fX67_isLegal (l : Launch) (G : zG) (x1 : Int) : zCt l G yX67_isLegal cX67_isLegal 4 (some .boolean) 1 [(69, 0), (0, x1)] (some 0) (fX67_isLegal x1) := zCt.of (by decide) (Nat.le_of_ble_eq_true rfl) (fun K E _ _ hN hT => w_fX67_isLegal E hN hT x1)
theorem dX67_may_0 : decode cX67_may 0 = .ok (.aload_n 0, 1) := by decide +kernel
theorem dX67_may_1 : decode cX67_may 1 = .ok (.iload_n 1, 1) := by decide +kernel
theorem dX67_may_2 : decode cX67_may 2 = .ok (.aload_n 0, 1) := by decide +kernel
theorem dX67_may_3 : decode cX67_may 3 = .ok (.getfield 555, 3) := by decide +kernel
theorem dX67_may_6 : decode cX67_may 6 = .ok (.aload_n 0, 1) := by decide +kernel
theorem dX67_may_7 : decode cX67_may 7 = .ok (.getfield 558, 3) := by decide +kernel
theorem dX67_may_10 : decode cX67_may 10 = .ok (.aload_n 0, 1) := by decide +kernel
theorem dX67_may_11 : decode cX67_may 11 = .ok (.getfield 561, 3) := by decide +kernel
theorem dX67_may_14 : decode cX67_may 14 = .ok (.iload_n 2, 1) := by decide +kernel
theorem dX67_may_15 : decode cX67_may 15 = .ok (.invokevirtual 573, 3) := by decide +kernel
theorem dX67_may_18 : decode cX67_may 18 = .ok (.ireturn, 1) := by decide +kernel
theorem zy_X67_may : yX67_may.cls ≠ "java/lang/invoke/MethodHandle" ∧ yX67_may.cls ≠ "java/lang/invoke/VarHandle" ∧ (parseMethodDescriptor yX67_may.desc).map (fun d => d.parameters.length) = some 2 := by decide +kernel
theorem w_fX67_may {K : zK} (E : zE K cX67_may "RingHouseModel" (some .boolean) 3) (hN : zNl K = 3) (hT : zTr K = (some 0)) (x1 : Int) (x2 : Int) : zR K 0 [(0, 69, 0), (1, 0, x1), (2, 0, x2)] [] (fX67_may x1 x2) := by
  refine r_aload_n E dX67_may_0 rfl 0 rfl ?_
  refine r_iload_n E dX67_may_1 rfl 1 rfl ?_
  refine r_aload_n E dX67_may_2 rfl 0 rfl ?_
  refine r_get E zc_69 zt_6878 dX67_may_3 q3293 zr_69 (zg_6878 _) (by decide) (fun v1 => ?_)
  refine r_aload_n E dX67_may_6 rfl 0 rfl ?_
  refine r_get E zc_69 zt_6879 dX67_may_7 q3294 zr_69 (zg_6879 _) (by decide) (fun v2 => ?_)
  refine r_aload_n E dX67_may_10 rfl 0 rfl ?_
  refine r_get E zc_69 zt_6880 dX67_may_11 q3295 zr_69 (zg_6880 _) (by decide) (fun v3 => ?_)
  refine r_iload_n E dX67_may_14 rfl 2 rfl ?_
  refine r_callV E [(0, x1), (0, v1), (0, v2), (0, v3), (0, x2)] [] rfl zc_69 zr_69 (fun o _ => ⟨_, zw_X67.1 o, rfl⟩) (lw_V q3839 q3841 qs120 q294 q3842) dX67_may_15 zy_X67_access rfl (by omega) (by decide) (Nat.le_of_ble_eq_true rfl) (by decide) (fun l G => k_fX67_access l G x1 v1 v2 v3 x2) (fun v4 => ?_)
  exact r_zreturnb E rfl hT dX67_may_18
theorem k_fX67_may (l : Launch) (G : zG) (x1 : Int) (x2 : Int) : zCt l G yX67_may cX67_may 3 (some .boolean) 3 [(69, 0), (0, x1), (0, x2)] (some 0) (fX67_may x1 x2) := zCt.of (by decide) (Nat.le_of_ble_eq_true rfl) (fun K E _ _ hN hT => w_fX67_may E hN hT x1 x2)
theorem dX67_setWord_0 : decode cX67_setWord 0 = .ok (.iload_n 2, 1) := by decide +kernel
theorem dX67_setWord_1 : decode cX67_setWord 1 = .ok (.bipush 8, 2) := by decide +kernel
theorem dX67_setWord_3 : decode cX67_setWord 3 = .ok (.if_icmp .ge 25, 3) := by decide +kernel
theorem dX67_setWord_6 : decode cX67_setWord 6 = .ok (.aload_n 0, 1) := by decide +kernel
theorem dX67_setWord_7 : decode cX67_setWord 7 = .ok (.getfield 122, 3) := by decide +kernel
theorem dX67_setWord_10 : decode cX67_setWord 10 = .ok (.sipush 512, 3) := by decide +kernel
theorem dX67_setWord_13 : decode cX67_setWord 13 = .ok (.iload_n 1, 1) := by decide +kernel
theorem dX67_setWord_14 : decode cX67_setWord 14 = .ok (.imul, 1) := by decide +kernel
theorem dX67_setWord_15 : decode cX67_setWord 15 = .ok (.bipush 64, 2) := by decide +kernel
theorem dX67_setWord_17 : decode cX67_setWord 17 = .ok (.iload_n 2, 1) := by decide +kernel
theorem dX67_setWord_18 : decode cX67_setWord 18 = .ok (.imul, 1) := by decide +kernel
theorem dX67_setWord_19 : decode cX67_setWord 19 = .ok (.iadd, 1) := by decide +kernel
theorem dX67_setWord_20 : decode cX67_setWord 20 = .ok (.iload_n 3, 1) := by decide +kernel
theorem dX67_setWord_21 : decode cX67_setWord 21 = .ok (.iadd, 1) := by decide +kernel
theorem dX67_setWord_22 : decode cX67_setWord 22 = .ok (.lload 4, 2) := by decide +kernel
theorem dX67_setWord_24 : decode cX67_setWord 24 = .ok (.lastore, 1) := by decide +kernel
theorem dX67_setWord_25 : decode cX67_setWord 25 = .ok (.goto 27, 3) := by decide +kernel
theorem dX67_setWord_28 : decode cX67_setWord 28 = .ok (.aload_n 0, 1) := by decide +kernel
theorem dX67_setWord_29 : decode cX67_setWord 29 = .ok (.getfield 57, 3) := by decide +kernel
theorem dX67_setWord_32 : decode cX67_setWord 32 = .ok (.sipush 1024, 3) := by decide +kernel
theorem dX67_setWord_35 : decode cX67_setWord 35 = .ok (.aload_n 0, 1) := by decide +kernel
theorem dX67_setWord_36 : decode cX67_setWord 36 = .ok (.getfield 125, 3) := by decide +kernel
theorem dX67_setWord_39 : decode cX67_setWord 39 = .ok (.bipush 32, 2) := by decide +kernel
theorem dX67_setWord_41 : decode cX67_setWord 41 = .ok (.iload_n 1, 1) := by decide +kernel
theorem dX67_setWord_42 : decode cX67_setWord 42 = .ok (.imul, 1) := by decide +kernel
theorem dX67_setWord_43 : decode cX67_setWord 43 = .ok (.iload_n 2, 1) := by decide +kernel
theorem dX67_setWord_44 : decode cX67_setWord 44 = .ok (.iadd, 1) := by decide +kernel
theorem dX67_setWord_45 : decode cX67_setWord 45 = .ok (.iaload, 1) := by decide +kernel
theorem dX67_setWord_46 : decode cX67_setWord 46 = .ok (.imul, 1) := by decide +kernel
theorem dX67_setWord_47 : decode cX67_setWord 47 = .ok (.iload_n 3, 1) := by decide +kernel
theorem dX67_setWord_48 : decode cX67_setWord 48 = .ok (.iadd, 1) := by decide +kernel
theorem dX67_setWord_49 : decode cX67_setWord 49 = .ok (.lload 4, 2) := by decide +kernel
theorem dX67_setWord_51 : decode cX67_setWord 51 = .ok (.lastore, 1) := by decide +kernel
theorem dX67_setWord_52 : decode cX67_setWord 52 = .ok (.return_, 1) := by decide +kernel
theorem zy_X67_setWord : yX67_setWord.cls ≠ "java/lang/invoke/MethodHandle" ∧ yX67_setWord.cls ≠ "java/lang/invoke/VarHandle" ∧ (parseMethodDescriptor yX67_setWord.desc).map (fun d => d.parameters.length) = some 4 := by decide +kernel
theorem w_fX67_setWord {K : zK} (E : zE K cX67_setWord "RingHouseModel" none 0) (hN : zNl K = 6) (hT : zTr K = none) (x1 : Int) (x2 : Int) (x3 : Int) (x4 : Int) : zR K 0 [(0, 69, 0), (1, 0, x1), (2, 0, x2), (3, 0, x3), (4, 1, x4)] [] (fX67_setWord x1 x2 x3 x4) := by
  refine r_iload_n E dX67_setWord_0 rfl 2 rfl ?_
  refine r_bipush E dX67_setWord_1 (by decide) (zkI (by decide) (by decide)) ?_
  refine r_icmp_ge E 28 (by decide) dX67_setWord_3 (fun _ => ?_) (fun _ => ?_)
  · refine r_aload_n E dX67_setWord_28 rfl 0 rfl ?_
    refine r_gec (y := 0) E zc_69 dX67_setWord_29 q3231 zr_69 (zh_6816 (by decide)) (by decide) ?_
    refine r_sipush E dX67_setWord_32 (by decide) (zkI (by decide) (by decide)) ?_
    refine r_aload_n E dX67_setWord_35 rfl 0 rfl ?_
    refine r_gec (y := 0) E zc_69 dX67_setWord_36 q3253 zr_69 (zh_6838 (by decide)) (by decide) ?_
    refine r_bipush E dX67_setWord_39 (by decide) (zkI (by decide) (by decide)) ?_
    refine r_iload_n E dX67_setWord_41 rfl 1 rfl ?_
    refine r_imul E dX67_setWord_42 ?_
    refine r_iload_n E dX67_setWord_43 rfl 2 rfl ?_
    refine r_iadd E dX67_setWord_44 ?_
    refine r_iaload E zc_6838 za_6838 zt_6838 zx_6838 rfl rfl dX67_setWord_45 (by decide) (fun v1 => ?_)
    refine r_imul E dX67_setWord_46 ?_
    refine r_iload_n E dX67_setWord_47 rfl 3 rfl ?_
    refine r_iadd E dX67_setWord_48 ?_
    refine r_lload E dX67_setWord_49 4 rfl ?_
    refine r_lastore E zc_6816 za_6816 zt_6816 zo_6816 zx_6816 rfl rfl dX67_setWord_51 (by decide) ?_
    exact r_return E rfl hT dX67_setWord_52
  · refine r_aload_n E dX67_setWord_6 rfl 0 rfl ?_
    refine r_gec (y := 0) E zc_69 dX67_setWord_7 q3252 zr_69 (zh_6837 (by decide)) (by decide) ?_
    refine r_sipush E dX67_setWord_10 (by decide) (zkI (by decide) (by decide)) ?_
    refine r_iload_n E dX67_setWord_13 rfl 1 rfl ?_
    refine r_imul E dX67_setWord_14 ?_
    refine r_bipush E dX67_setWord_15 (by decide) (zkI (by decide) (by decide)) ?_
    refine r_iload_n E dX67_setWord_17 rfl 2 rfl ?_
    refine r_imul E dX67_setWord_18 ?_
    refine r_iadd E dX67_setWord_19 ?_
    refine r_iload_n E dX67_setWord_20 rfl 3 rfl ?_
    refine r_iadd E dX67_setWord_21 ?_
    refine r_lload E dX67_setWord_22 4 rfl ?_
    refine r_lastore E zc_6837 za_6837 zt_6837 zo_6837 zx_6837 rfl rfl dX67_setWord_24 (by decide) ?_
    refine r_goto E 52 (by decide) dX67_setWord_25 ?_
    exact r_return E rfl hT dX67_setWord_52
theorem k_fX67_setWord (l : Launch) (G : zG) (x1 : Int) (x2 : Int) (x3 : Int) (x4 : Int) : zCt l G yX67_setWord cX67_setWord 6 none 0 [(69, 0), (0, x1), (0, x2), (0, x3), (1, x4)] none (fX67_setWord x1 x2 x3 x4) := zCt.of (by decide) (Nat.le_of_ble_eq_true rfl) (fun K E _ _ hN hT => w_fX67_setWord E hN hT x1 x2 x3 x4)
theorem dX67_pointerWord_0 : decode cX67_pointerWord 0 = .ok (.ldc2_w 534, 3) := by decide +kernel
theorem dX67_pointerWord_3 : decode cX67_pointerWord 3 = .ok (.iload_n 2, 1) := by decide +kernel
theorem dX67_pointerWord_4 : decode cX67_pointerWord 4 = .ok (.i2l, 1) := by decide +kernel
theorem dX67_pointerWord_5 : decode cX67_pointerWord 5 = .ok (.bipush 30, 2) := by decide +kernel
theorem dX67_pointerWord_7 : decode cX67_pointerWord 7 = .ok (.lshl, 1) := by decide +kernel
theorem dX67_pointerWord_8 : decode cX67_pointerWord 8 = .ok (.lor, 1) := by decide +kernel
theorem dX67_pointerWord_9 : decode cX67_pointerWord 9 = .ok (.iload_n 0, 1) := by decide +kernel
theorem dX67_pointerWord_10 : decode cX67_pointerWord 10 = .ok (.i2l, 1) := by decide +kernel
theorem dX67_pointerWord_11 : decode cX67_pointerWord 11 = .ok (.bipush 24, 2) := by decide +kernel
theorem dX67_pointerWord_13 : decode cX67_pointerWord 13 = .ok (.lshl, 1) := by decide +kernel
theorem dX67_pointerWord_14 : decode cX67_pointerWord 14 = .ok (.lor, 1) := by decide +kernel
theorem dX67_pointerWord_15 : decode cX67_pointerWord 15 = .ok (.iload_n 1, 1) := by decide +kernel
theorem dX67_pointerWord_16 : decode cX67_pointerWord 16 = .ok (.i2l, 1) := by decide +kernel
theorem dX67_pointerWord_17 : decode cX67_pointerWord 17 = .ok (.lor, 1) := by decide +kernel
theorem dX67_pointerWord_18 : decode cX67_pointerWord 18 = .ok (.lreturn, 1) := by decide +kernel
theorem zy_X67_pointerWord : yX67_pointerWord.cls ≠ "java/lang/invoke/MethodHandle" ∧ yX67_pointerWord.cls ≠ "java/lang/invoke/VarHandle" ∧ (parseMethodDescriptor yX67_pointerWord.desc).map (fun d => d.parameters.length) = some 3 := by decide +kernel
theorem w_fX67_pointerWord {K : zK} (E : zE K cX67_pointerWord "RingHouseModel" (some .long) 0) (hN : zNl K = 3) (hT : zTr K = (some 1)) (x0 : Int) (x1 : Int) (x2 : Int) : zR K 0 [(0, 0, x0), (1, 0, x1), (2, 0, x2)] [] (fX67_pointerWord x0 x1 x2) := by
  refine r_ldc2 (v := 42949672960) E dX67_pointerWord_0 q4052 (by decide) (zkJ (by decide) (by decide)) ?_
  refine r_iload_n E dX67_pointerWord_3 rfl 2 rfl ?_
  refine r_i2l E dX67_pointerWord_4 ?_
  refine r_bipush E dX67_pointerWord_5 (by decide) (zkI (by decide) (by decide)) ?_
  refine r_lshl (P := 1073741824) E (by decide) dX67_pointerWord_7 ?_
  refine r_lor E dX67_pointerWord_8 ?_
  refine r_iload_n E dX67_pointerWord_9 rfl 0 rfl ?_
  refine r_i2l E dX67_pointerWord_10 ?_
  refine r_bipush E dX67_pointerWord_11 (by decide) (zkI (by decide) (by decide)) ?_
  refine r_lshl (P := 16777216) E (by decide) dX67_pointerWord_13 ?_
  refine r_lor E dX67_pointerWord_14 ?_
  refine r_iload_n E dX67_pointerWord_15 rfl 1 rfl ?_
  refine r_i2l E dX67_pointerWord_16 ?_
  refine r_lor E dX67_pointerWord_17 ?_
  exact r_lreturn E rfl hT dX67_pointerWord_18
theorem k_fX67_pointerWord (l : Launch) (G : zG) (x0 : Int) (x1 : Int) (x2 : Int) : zCt l G yX67_pointerWord cX67_pointerWord 3 (some .long) 0 [(0, x0), (0, x1), (0, x2)] (some 1) (fX67_pointerWord x0 x1 x2) := zCt.of (by decide) (Nat.le_of_ble_eq_true rfl) (fun K E _ _ hN hT => w_fX67_pointerWord E hN hT x0 x1 x2)
theorem dX67_flag_0 : decode cX67_flag 0 = .ok (.aload_n 0, 1) := by decide +kernel
theorem dX67_flag_1 : decode cX67_flag 1 = .ok (.getfield 113, 3) := by decide +kernel
theorem dX67_flag_4 : decode cX67_flag 4 = .ok (.iload_n 1, 1) := by decide +kernel
theorem dX67_flag_5 : decode cX67_flag 5 = .ok (.lload_n 2, 1) := by decide +kernel
theorem dX67_flag_6 : decode cX67_flag 6 = .ok (.lconst 0, 1) := by decide +kernel
theorem dX67_flag_7 : decode cX67_flag 7 = .ok (.lcmp, 1) := by decide +kernel
theorem dX67_flag_8 : decode cX67_flag 8 = .ok (.ifCond .ne 7, 3) := by decide +kernel
theorem dX67_flag_11 : decode cX67_flag 11 = .ok (.iconst 1, 1) := by decide +kernel
theorem dX67_flag_12 : decode cX67_flag 12 = .ok (.goto 4, 3) := by decide +kernel
theorem dX67_flag_15 : decode cX67_flag 15 = .ok (.iconst 0, 1) := by decide +kernel
theorem dX67_flag_16 : decode cX67_flag 16 = .ok (.bastore, 1) := by decide +kernel
theorem dX67_flag_17 : decode cX67_flag 17 = .ok (.aload_n 0, 1) := by decide +kernel
theorem dX67_flag_18 : decode cX67_flag 18 = .ok (.getfield 116, 3) := by decide +kernel
theorem dX67_flag_21 : decode cX67_flag 21 = .ok (.iload_n 1, 1) := by decide +kernel
theorem dX67_flag_22 : decode cX67_flag 22 = .ok (.lload_n 2, 1) := by decide +kernel
theorem dX67_flag_23 : decode cX67_flag 23 = .ok (.ldc2_w 375, 3) := by decide +kernel
theorem dX67_flag_26 : decode cX67_flag 26 = .ok (.lcmp, 1) := by decide +kernel
theorem dX67_flag_27 : decode cX67_flag 27 = .ok (.ifCond .lt 7, 3) := by decide +kernel
theorem dX67_flag_30 : decode cX67_flag 30 = .ok (.iconst 1, 1) := by decide +kernel
theorem dX67_flag_31 : decode cX67_flag 31 = .ok (.goto 4, 3) := by decide +kernel
theorem dX67_flag_34 : decode cX67_flag 34 = .ok (.iconst 0, 1) := by decide +kernel
theorem dX67_flag_35 : decode cX67_flag 35 = .ok (.bastore, 1) := by decide +kernel
theorem dX67_flag_36 : decode cX67_flag 36 = .ok (.return_, 1) := by decide +kernel
theorem zy_X67_flag : yX67_flag.cls ≠ "java/lang/invoke/MethodHandle" ∧ yX67_flag.cls ≠ "java/lang/invoke/VarHandle" ∧ (parseMethodDescriptor yX67_flag.desc).map (fun d => d.parameters.length) = some 2 := by decide +kernel
theorem w_fX67_flag_J35 {K : zK} (E : zE K cX67_flag "RingHouseModel" none 0) (hN : zNl K = 4) (hT : zTr K = none) (s1 : Int) (s2 : Int) : zR K 35 [] [(0, s2), (0, s1), (6835, 0)] (fX67_flag_J35 s1 s2) := by
  refine r_zastore E zc_6835 za_6835 zt_6835 zo_6835 zx_6835 rfl rfl dX67_flag_35 (by decide) ?_
  exact r_return E rfl hT dX67_flag_36
theorem w_fX67_flag_J16 {K : zK} (E : zE K cX67_flag "RingHouseModel" none 0) (hN : zNl K = 4) (hT : zTr K = none) (x1 : Int) (x2 : Int) (s1 : Int) (s2 : Int) : zR K 16 [(0, 69, 0), (1, 0, x1), (2, 1, x2)] [(0, s2), (0, s1), (6834, 0)] (fX67_flag_J16 x1 x2 s1 s2) := by
  refine r_zastore E zc_6834 za_6834 zt_6834 zo_6834 zx_6834 rfl rfl dX67_flag_16 (by decide) ?_
  refine r_aload_n E dX67_flag_17 rfl 0 rfl ?_
  refine r_gec (y := 0) E zc_69 dX67_flag_18 q3250 zr_69 (zh_6835 (by decide)) (by decide) ?_
  refine r_iload_n E dX67_flag_21 rfl 1 rfl ?_
  refine r_lload_n E dX67_flag_22 rfl 2 rfl ?_
  refine r_ldc2 (v := 34359738368) E dX67_flag_23 q4035 (by decide) (zkJ (by decide) (by decide)) ?_
  refine r_lcmp_lt E 34 (by decide) dX67_flag_26 dX67_flag_27 (fun _ => ?_) (fun _ => ?_)
  · refine r_iconst E dX67_flag_34 (zkI (by decide) (by decide)) ?_
    refine r_pick E [] rfl ?_
    exact w_fX67_flag_J35 E hN hT x1 0
  · refine r_iconst E dX67_flag_30 (zkI (by decide) (by decide)) ?_
    refine r_goto E 35 (by decide) dX67_flag_31 ?_
    refine r_pick E [] rfl ?_
    exact w_fX67_flag_J35 E hN hT x1 1
theorem w_fX67_flag {K : zK} (E : zE K cX67_flag "RingHouseModel" none 0) (hN : zNl K = 4) (hT : zTr K = none) (x1 : Int) (x2 : Int) : zR K 0 [(0, 69, 0), (1, 0, x1), (2, 1, x2)] [] (fX67_flag x1 x2) := by
  refine r_aload_n E dX67_flag_0 rfl 0 rfl ?_
  refine r_gec (y := 0) E zc_69 dX67_flag_1 q3249 zr_69 (zh_6834 (by decide)) (by decide) ?_
  refine r_iload_n E dX67_flag_4 rfl 1 rfl ?_
  refine r_lload_n E dX67_flag_5 rfl 2 rfl ?_
  refine r_lconst (v := 0) E dX67_flag_6 (by decide) (zkJ (by decide) (by decide)) ?_
  refine r_lcmp_ne E 15 (by decide) dX67_flag_7 dX67_flag_8 (fun _ => ?_) (fun _ => ?_)
  · refine r_iconst E dX67_flag_15 (zkI (by decide) (by decide)) ?_
    exact w_fX67_flag_J16 E hN hT x1 x2 x1 0
  · refine r_iconst E dX67_flag_11 (zkI (by decide) (by decide)) ?_
    refine r_goto E 16 (by decide) dX67_flag_12 ?_
    exact w_fX67_flag_J16 E hN hT x1 x2 x1 1
theorem k_fX67_flag (l : Launch) (G : zG) (x1 : Int) (x2 : Int) : zCt l G yX67_flag cX67_flag 4 none 0 [(69, 0), (0, x1), (1, x2)] none (fX67_flag x1 x2) := zCt.of (by decide) (Nat.le_of_ble_eq_true rfl) (fun K E _ _ hN hT => w_fX67_flag E hN hT x1 x2)
theorem dX67_write_0 : decode cX67_write 0 = .ok (.aload_n 0, 1) := by decide +kernel
theorem dX67_write_1 : decode cX67_write 1 = .ok (.getfield 537, 3) := by decide +kernel
theorem dX67_write_4 : decode cX67_write 4 = .ok (.bipush 17, 2) := by decide +kernel
theorem dX67_write_6 : decode cX67_write 6 = .ok (.if_icmp .le 12, 3) := by decide +kernel
theorem dX67_write_9 : decode cX67_write 9 = .ok (.aload_n 0, 1) := by decide +kernel
theorem dX67_write_10 : decode cX67_write 10 = .ok (.iload_n 1, 1) := by decide +kernel
theorem dX67_write_11 : decode cX67_write 11 = .ok (.iconst 1, 1) := by decide +kernel
theorem dX67_write_12 : decode cX67_write 12 = .ok (.invokevirtual 584, 3) := by decide +kernel
theorem dX67_write_15 : decode cX67_write 15 = .ok (.ifCond .eq 12, 3) := by decide +kernel
theorem dX67_write_18 : decode cX67_write 18 = .ok (.aload_n 0, 1) := by decide +kernel
theorem dX67_write_19 : decode cX67_write 19 = .ok (.iload_n 1, 1) := by decide +kernel
theorem dX67_write_20 : decode cX67_write 20 = .ok (.iconst 4, 1) := by decide +kernel
theorem dX67_write_21 : decode cX67_write 21 = .ok (.invokevirtual 584, 3) := by decide +kernel
theorem dX67_write_24 : decode cX67_write 24 = .ok (.ifCond .ne 4, 3) := by decide +kernel
theorem dX67_write_27 : decode cX67_write 27 = .ok (.return_, 1) := by decide +kernel
theorem dX67_write_28 : decode cX67_write 28 = .ok (.aload_n 0, 1) := by decide +kernel
theorem dX67_write_29 : decode cX67_write 29 = .ok (.iload_n 1, 1) := by decide +kernel
theorem dX67_write_30 : decode cX67_write 30 = .ok (.aload_n 0, 1) := by decide +kernel
theorem dX67_write_31 : decode cX67_write 31 = .ok (.getfield 555, 3) := by decide +kernel
theorem dX67_write_34 : decode cX67_write 34 = .ok (.aload_n 0, 1) := by decide +kernel
theorem dX67_write_35 : decode cX67_write 35 = .ok (.getfield 558, 3) := by decide +kernel
theorem dX67_write_38 : decode cX67_write 38 = .ok (.invokevirtual 576, 3) := by decide +kernel
theorem dX67_write_41 : decode cX67_write 41 = .ok (.lstore_n 3, 1) := by decide +kernel
theorem dX67_write_42 : decode cX67_write 42 = .ok (.bipush 8, 2) := by decide +kernel
theorem dX67_write_44 : decode cX67_write 44 = .ok (.iload_n 1, 1) := by decide +kernel
theorem dX67_write_45 : decode cX67_write 45 = .ok (.imul, 1) := by decide +kernel
theorem dX67_write_46 : decode cX67_write 46 = .ok (.iload_n 2, 1) := by decide +kernel
theorem dX67_write_47 : decode cX67_write 47 = .ok (.iadd, 1) := by decide +kernel
theorem dX67_write_48 : decode cX67_write 48 = .ok (.istore 5, 2) := by decide +kernel
theorem dX67_write_50 : decode cX67_write 50 = .ok (.aload_n 0, 1) := by decide +kernel
theorem dX67_write_51 : decode cX67_write 51 = .ok (.getfield 537, 3) := by decide +kernel
theorem dX67_write_54 : decode cX67_write 54 = .ok (.tableswitch 180 14 18 #[34, 56, 78, 105, 145], 34) := by decide +kernel
theorem dX67_write_88 : decode cX67_write 88 = .ok (.aload_n 0, 1) := by decide +kernel
theorem dX67_write_89 : decode cX67_write 89 = .ok (.iload_n 1, 1) := by decide +kernel
theorem dX67_write_90 : decode cX67_write 90 = .ok (.aload_n 0, 1) := by decide +kernel
theorem dX67_write_91 : decode cX67_write 91 = .ok (.getfield 555, 3) := by decide +kernel
theorem dX67_write_94 : decode cX67_write 94 = .ok (.aload_n 0, 1) := by decide +kernel
theorem dX67_write_95 : decode cX67_write 95 = .ok (.getfield 558, 3) := by decide +kernel
theorem dX67_write_98 : decode cX67_write 98 = .ok (.aload_n 0, 1) := by decide +kernel
theorem dX67_write_99 : decode cX67_write 99 = .ok (.getfield 86, 3) := by decide +kernel
theorem dX67_write_102 : decode cX67_write 102 = .ok (.iload_n 1, 1) := by decide +kernel
theorem dX67_write_103 : decode cX67_write 103 = .ok (.laload, 1) := by decide +kernel
theorem dX67_write_104 : decode cX67_write 104 = .ok (.invokevirtual 602, 3) := by decide +kernel
theorem dX67_write_107 : decode cX67_write 107 = .ok (.goto 159, 3) := by decide +kernel
theorem dX67_write_110 : decode cX67_write 110 = .ok (.aload_n 0, 1) := by decide +kernel
theorem dX67_write_111 : decode cX67_write 111 = .ok (.iload_n 1, 1) := by decide +kernel
theorem dX67_write_112 : decode cX67_write 112 = .ok (.aload_n 0, 1) := by decide +kernel
theorem dX67_write_113 : decode cX67_write 113 = .ok (.getfield 555, 3) := by decide +kernel
theorem dX67_write_116 : decode cX67_write 116 = .ok (.aload_n 0, 1) := by decide +kernel
theorem dX67_write_117 : decode cX67_write 117 = .ok (.getfield 558, 3) := by decide +kernel
theorem dX67_write_120 : decode cX67_write 120 = .ok (.aload_n 0, 1) := by decide +kernel
theorem dX67_write_121 : decode cX67_write 121 = .ok (.getfield 89, 3) := by decide +kernel
theorem dX67_write_124 : decode cX67_write 124 = .ok (.iload_n 1, 1) := by decide +kernel
theorem dX67_write_125 : decode cX67_write 125 = .ok (.laload, 1) := by decide +kernel
theorem dX67_write_126 : decode cX67_write 126 = .ok (.invokevirtual 602, 3) := by decide +kernel
theorem dX67_write_129 : decode cX67_write 129 = .ok (.goto 137, 3) := by decide +kernel
theorem dX67_write_132 : decode cX67_write 132 = .ok (.aload_n 0, 1) := by decide +kernel
theorem dX67_write_133 : decode cX67_write 133 = .ok (.iload_n 1, 1) := by decide +kernel
theorem dX67_write_134 : decode cX67_write 134 = .ok (.aload_n 0, 1) := by decide +kernel
theorem dX67_write_135 : decode cX67_write 135 = .ok (.getfield 555, 3) := by decide +kernel
theorem dX67_write_138 : decode cX67_write 138 = .ok (.aload_n 0, 1) := by decide +kernel
theorem dX67_write_139 : decode cX67_write 139 = .ok (.getfield 558, 3) := by decide +kernel
theorem dX67_write_142 : decode cX67_write 142 = .ok (.aload_n 0, 1) := by decide +kernel
theorem dX67_write_143 : decode cX67_write 143 = .ok (.getfield 92, 3) := by decide +kernel
theorem dX67_write_146 : decode cX67_write 146 = .ok (.iconst 4, 1) := by decide +kernel
theorem dX67_write_147 : decode cX67_write 147 = .ok (.iload_n 1, 1) := by decide +kernel
theorem dX67_write_148 : decode cX67_write 148 = .ok (.imul, 1) := by decide +kernel
theorem dX67_write_149 : decode cX67_write 149 = .ok (.iload_n 2, 1) := by decide +kernel
theorem dX67_write_150 : decode cX67_write 150 = .ok (.iadd, 1) := by decide +kernel
theorem dX67_write_151 : decode cX67_write 151 = .ok (.iaload, 1) := by decide +kernel
theorem dX67_write_152 : decode cX67_write 152 = .ok (.i2l, 1) := by decide +kernel
theorem dX67_write_153 : decode cX67_write 153 = .ok (.invokevirtual 602, 3) := by decide +kernel
theorem dX67_write_156 : decode cX67_write 156 = .ok (.goto 110, 3) := by decide +kernel
theorem dX67_write_159 : decode cX67_write 159 = .ok (.aload_n 0, 1) := by decide +kernel
theorem dX67_write_160 : decode cX67_write 160 = .ok (.iload_n 1, 1) := by decide +kernel
theorem dX67_write_161 : decode cX67_write 161 = .ok (.aload_n 0, 1) := by decide +kernel
theorem dX67_write_162 : decode cX67_write 162 = .ok (.getfield 555, 3) := by decide +kernel
theorem dX67_write_165 : decode cX67_write 165 = .ok (.aload_n 0, 1) := by decide +kernel
theorem dX67_write_166 : decode cX67_write 166 = .ok (.getfield 558, 3) := by decide +kernel
theorem dX67_write_169 : decode cX67_write 169 = .ok (.aload_n 0, 1) := by decide +kernel
theorem dX67_write_170 : decode cX67_write 170 = .ok (.getfield 95, 3) := by decide +kernel
theorem dX67_write_173 : decode cX67_write 173 = .ok (.iload 5, 2) := by decide +kernel
theorem dX67_write_175 : decode cX67_write 175 = .ok (.iaload, 1) := by decide +kernel
theorem dX67_write_176 : decode cX67_write 176 = .ok (.aload_n 0, 1) := by decide +kernel
theorem dX67_write_177 : decode cX67_write 177 = .ok (.getfield 98, 3) := by decide +kernel
theorem dX67_write_180 : decode cX67_write 180 = .ok (.iload 5, 2) := by decide +kernel
theorem dX67_write_182 : decode cX67_write 182 = .ok (.iaload, 1) := by decide +kernel
theorem dX67_write_183 : decode cX67_write 183 = .ok (.aload_n 0, 1) := by decide +kernel
theorem dX67_write_184 : decode cX67_write 184 = .ok (.getfield 101, 3) := by decide +kernel
theorem dX67_write_187 : decode cX67_write 187 = .ok (.iload 5, 2) := by decide +kernel
theorem dX67_write_189 : decode cX67_write 189 = .ok (.iaload, 1) := by decide +kernel
theorem dX67_write_190 : decode cX67_write 190 = .ok (.invokestatic 606, 3) := by decide +kernel
theorem dX67_write_193 : decode cX67_write 193 = .ok (.invokevirtual 602, 3) := by decide +kernel
theorem dX67_write_196 : decode cX67_write 196 = .ok (.goto 70, 3) := by decide +kernel
theorem dX67_write_199 : decode cX67_write 199 = .ok (.aload_n 0, 1) := by decide +kernel
theorem dX67_write_200 : decode cX67_write 200 = .ok (.iload_n 1, 1) := by decide +kernel
theorem dX67_write_201 : decode cX67_write 201 = .ok (.aload_n 0, 1) := by decide +kernel
theorem dX67_write_202 : decode cX67_write 202 = .ok (.getfield 555, 3) := by decide +kernel
theorem dX67_write_205 : decode cX67_write 205 = .ok (.aload_n 0, 1) := by decide +kernel
theorem dX67_write_206 : decode cX67_write 206 = .ok (.getfield 558, 3) := by decide +kernel
theorem dX67_write_209 : decode cX67_write 209 = .ok (.lload_n 3, 1) := by decide +kernel
theorem dX67_write_210 : decode cX67_write 210 = .ok (.lconst 1, 1) := by decide +kernel
theorem dX67_write_211 : decode cX67_write 211 = .ok (.ladd, 1) := by decide +kernel
theorem dX67_write_212 : decode cX67_write 212 = .ok (.ldc2_w 361, 3) := by decide +kernel
theorem dX67_write_215 : decode cX67_write 215 = .ok (.land, 1) := by decide +kernel
theorem dX67_write_216 : decode cX67_write 216 = .ok (.invokevirtual 602, 3) := by decide +kernel
theorem dX67_write_219 : decode cX67_write 219 = .ok (.aload_n 0, 1) := by decide +kernel
theorem dX67_write_220 : decode cX67_write 220 = .ok (.iload_n 1, 1) := by decide +kernel
theorem dX67_write_221 : decode cX67_write 221 = .ok (.lload_n 3, 1) := by decide +kernel
theorem dX67_write_222 : decode cX67_write 222 = .ok (.lconst 1, 1) := by decide +kernel
theorem dX67_write_223 : decode cX67_write 223 = .ok (.ladd, 1) := by decide +kernel
theorem dX67_write_224 : decode cX67_write 224 = .ok (.ldc2_w 361, 3) := by decide +kernel
theorem dX67_write_227 : decode cX67_write 227 = .ok (.land, 1) := by decide +kernel
theorem dX67_write_228 : decode cX67_write 228 = .ok (.invokevirtual 591, 3) := by decide +kernel
theorem dX67_write_231 : decode cX67_write 231 = .ok (.goto 35, 3) := by decide +kernel
theorem dX67_write_234 : decode cX67_write 234 = .ok (.aload_n 0, 1) := by decide +kernel
theorem dX67_write_235 : decode cX67_write 235 = .ok (.iload_n 1, 1) := by decide +kernel
theorem dX67_write_236 : decode cX67_write 236 = .ok (.aload_n 0, 1) := by decide +kernel
theorem dX67_write_237 : decode cX67_write 237 = .ok (.getfield 555, 3) := by decide +kernel
theorem dX67_write_240 : decode cX67_write 240 = .ok (.aload_n 0, 1) := by decide +kernel
theorem dX67_write_241 : decode cX67_write 241 = .ok (.getfield 558, 3) := by decide +kernel
theorem dX67_write_244 : decode cX67_write 244 = .ok (.aload_n 0, 1) := by decide +kernel
theorem dX67_write_245 : decode cX67_write 245 = .ok (.getfield 86, 3) := by decide +kernel
theorem dX67_write_248 : decode cX67_write 248 = .ok (.iload_n 1, 1) := by decide +kernel
theorem dX67_write_249 : decode cX67_write 249 = .ok (.laload, 1) := by decide +kernel
theorem dX67_write_250 : decode cX67_write 250 = .ok (.invokevirtual 602, 3) := by decide +kernel
theorem dX67_write_253 : decode cX67_write 253 = .ok (.aload_n 0, 1) := by decide +kernel
theorem dX67_write_254 : decode cX67_write 254 = .ok (.getfield 86, 3) := by decide +kernel
theorem dX67_write_257 : decode cX67_write 257 = .ok (.iload_n 1, 1) := by decide +kernel
theorem dX67_write_258 : decode cX67_write 258 = .ok (.lload_n 3, 1) := by decide +kernel
theorem dX67_write_259 : decode cX67_write 259 = .ok (.lastore, 1) := by decide +kernel
theorem dX67_write_260 : decode cX67_write 260 = .ok (.aload_n 0, 1) := by decide +kernel
theorem dX67_write_261 : decode cX67_write 261 = .ok (.iload_n 1, 1) := by decide +kernel
theorem dX67_write_262 : decode cX67_write 262 = .ok (.lload_n 3, 1) := by decide +kernel
theorem dX67_write_263 : decode cX67_write 263 = .ok (.invokevirtual 591, 3) := by decide +kernel
theorem dX67_write_266 : decode cX67_write 266 = .ok (.return_, 1) := by decide +kernel
theorem zy_X67_write : yX67_write.cls ≠ "java/lang/invoke/MethodHandle" ∧ yX67_write.cls ≠ "java/lang/invoke/VarHandle" ∧ (parseMethodDescriptor yX67_write.desc).map (fun d => d.parameters.length) = some 2 := by decide +kernel
theorem w_fX67_write_J18 {K : zK} (E : zE K cX67_write "RingHouseModel" none 4) (hN : zNl K = 6) (hT : zTr K = none) (x1 : Int) (x2 : Int) : zR K 18 [(0, 69, 0), (1, 0, x1), (2, 0, x2)] [] (fX67_write_J18 x1 x2) := by
  refine r_aload_n E dX67_write_18 rfl 0 rfl ?_
  refine r_iload_n E dX67_write_19 rfl 1 rfl ?_
  refine r_iconst E dX67_write_20 (zkI (by decide) (by decide)) ?_
  refine r_callV E [(0, x1), (0, 4)] [] rfl zc_69 zr_69 (fun o _ => ⟨_, zw_X67.1 o, rfl⟩) (lw_V q4067 q4069 qs168 q294 q4070) dX67_write_21 zy_X67_may rfl (by omega) (by decide) (Nat.le_of_ble_eq_true rfl) (by decide) (fun l G => k_fX67_may l G x1 4) (fun v2 => ?_)
  refine r_if_ne E 28 (by decide) dX67_write_24 (fun _ => ?_) (fun _ => ?_)
  · refine r_aload_n E dX67_write_28 rfl 0 rfl ?_
    refine r_iload_n E dX67_write_29 rfl 1 rfl ?_
    refine r_aload_n E dX67_write_30 rfl 0 rfl ?_
    refine r_get E zc_69 zt_6878 dX67_write_31 q3293 zr_69 (zg_6878 _) (by decide) (fun v3 => ?_)
    refine r_aload_n E dX67_write_34 rfl 0 rfl ?_
    refine r_get E zc_69 zt_6879 dX67_write_35 q3294 zr_69 (zg_6879 _) (by decide) (fun v4 => ?_)
    refine r_callV E [(0, x1), (0, v3), (0, v4)] [] rfl zc_69 zr_69 (fun o _ => ⟨_, zw_X67.1 o, rfl⟩) (lw_V q3855 q3857 qs124 q294 q3858) dX67_write_38 zy_X67_wordAt rfl (by omega) (by decide) (Nat.le_of_ble_eq_true rfl) (by decide) (fun l G => k_fX67_wordAt l G x1 v3 v4) (fun v5 => ?_)
    refine r_lstore_n (ls' := [(3, 1, v5), (0, 69, 0), (1, 0, x1), (2, 0, x2)]) E dX67_write_41 rfl (by rw [hN]; decide) rfl ?_
    refine r_bipush E dX67_write_42 (by decide) (zkI (by decide) (by decide)) ?_
    refine r_iload_n E dX67_write_44 rfl 2 rfl ?_
    refine r_imul E dX67_write_45 ?_
    refine r_iload_n E dX67_write_46 rfl 3 rfl ?_
    refine r_iadd E dX67_write_47 ?_
    refine r_let E (fun v6 ev6 => ?_)
    refine r_istore (ls' := [(5, 0, v6), (3, 1, v5), (0, 69, 0), (1, 0, x1), (2, 0, x2)]) E dX67_write_48 (by rw [hN]; decide) rfl ?_
    refine r_aload_n E dX67_write_50 rfl 2 rfl ?_
    refine r_get E zc_69 zt_6881 dX67_write_51 q3296 zr_69 (zg_6881 _) (by decide) (fun v7 => ?_)
    refine r_tabc E dX67_write_54 0 88 (by decide) (by decide) rfl (by decide) (fun _ => ?_) (fun ht8 => ?_)
    · refine r_aload_n E dX67_write_88 rfl 2 rfl ?_
      refine r_iload_n E dX67_write_89 rfl 3 rfl ?_
      refine r_aload_n E dX67_write_90 rfl 2 rfl ?_
      refine r_get E zc_69 zt_6878 dX67_write_91 q3293 zr_69 (zg_6878 _) (by decide) (fun v9 => ?_)
      refine r_aload_n E dX67_write_94 rfl 2 rfl ?_
      refine r_get E zc_69 zt_6879 dX67_write_95 q3294 zr_69 (zg_6879 _) (by decide) (fun v10 => ?_)
      refine r_aload_n E dX67_write_98 rfl 2 rfl ?_
      refine r_gec (y := 0) E zc_69 dX67_write_99 q3240 zr_69 (zh_6825 (by decide)) (by decide) ?_
      refine r_iload_n E dX67_write_102 rfl 3 rfl ?_
      refine r_laload E zc_6825 za_6825 zt_6825 zx_6825 rfl rfl dX67_write_103 (by decide) (fun v11 => ?_)
      refine r_callV E [(0, x1), (0, v9), (0, v10), (1, v11)] [] rfl zc_69 zr_69 (fun o _ => ⟨_, zw_X67.1 o, rfl⟩) (lw_V q4075 q4077 qs170 q294 q4078) dX67_write_104 zy_X67_setWord rfl (by omega) (by decide) (Nat.le_of_ble_eq_true rfl) (by decide) (fun l G => k_fX67_setWord l G x1 v9 v10 v11) (fun _ => ?_)
      refine r_goto E 266 (by decide) dX67_write_107 ?_
      exact r_return E rfl hT dX67_write_266
    · refine r_tabc E dX67_write_54 1 110 (by decide) (by decide) rfl (by decide) (fun _ => ?_) (fun ht13 => ?_)
      · refine r_aload_n E dX67_write_110 rfl 2 rfl ?_
        refine r_iload_n E dX67_write_111 rfl 3 rfl ?_
        refine r_aload_n E dX67_write_112 rfl 2 rfl ?_
        refine r_get E zc_69 zt_6878 dX67_write_113 q3293 zr_69 (zg_6878 _) (by decide) (fun v14 => ?_)
        refine r_aload_n E dX67_write_116 rfl 2 rfl ?_
        refine r_get E zc_69 zt_6879 dX67_write_117 q3294 zr_69 (zg_6879 _) (by decide) (fun v15 => ?_)
        refine r_aload_n E dX67_write_120 rfl 2 rfl ?_
        refine r_gec (y := 0) E zc_69 dX67_write_121 q3241 zr_69 (zh_6826 (by decide)) (by decide) ?_
        refine r_iload_n E dX67_write_124 rfl 3 rfl ?_
        refine r_laload E zc_6826 za_6826 zt_6826 zx_6826 rfl rfl dX67_write_125 (by decide) (fun v16 => ?_)
        refine r_callV E [(0, x1), (0, v14), (0, v15), (1, v16)] [] rfl zc_69 zr_69 (fun o _ => ⟨_, zw_X67.1 o, rfl⟩) (lw_V q4075 q4077 qs170 q294 q4078) dX67_write_126 zy_X67_setWord rfl (by omega) (by decide) (Nat.le_of_ble_eq_true rfl) (by decide) (fun l G => k_fX67_setWord l G x1 v14 v15 v16) (fun _ => ?_)
        refine r_goto E 266 (by decide) dX67_write_129 ?_
        exact r_return E rfl hT dX67_write_266
      · refine r_tabc E dX67_write_54 2 132 (by decide) (by decide) rfl (by decide) (fun _ => ?_) (fun ht18 => ?_)
        · refine r_aload_n E dX67_write_132 rfl 2 rfl ?_
          refine r_iload_n E dX67_write_133 rfl 3 rfl ?_
          refine r_aload_n E dX67_write_134 rfl 2 rfl ?_
          refine r_get E zc_69 zt_6878 dX67_write_135 q3293 zr_69 (zg_6878 _) (by decide) (fun v19 => ?_)
          refine r_aload_n E dX67_write_138 rfl 2 rfl ?_
          refine r_get E zc_69 zt_6879 dX67_write_139 q3294 zr_69 (zg_6879 _) (by decide) (fun v20 => ?_)
          refine r_aload_n E dX67_write_142 rfl 2 rfl ?_
          refine r_gec (y := 0) E zc_69 dX67_write_143 q3242 zr_69 (zh_6827 (by decide)) (by decide) ?_
          refine r_iconst E dX67_write_146 (zkI (by decide) (by decide)) ?_
          refine r_iload_n E dX67_write_147 rfl 3 rfl ?_
          refine r_imul E dX67_write_148 ?_
          refine r_iload_n E dX67_write_149 rfl 4 rfl ?_
          refine r_iadd E dX67_write_150 ?_
          refine r_iaload E zc_6827 za_6827 zt_6827 zx_6827 rfl rfl dX67_write_151 (by decide) (fun v21 => ?_)
          refine r_i2l E dX67_write_152 ?_
          refine r_callV E [(0, x1), (0, v19), (0, v20), (1, v21)] [] rfl zc_69 zr_69 (fun o _ => ⟨_, zw_X67.1 o, rfl⟩) (lw_V q4075 q4077 qs170 q294 q4078) dX67_write_153 zy_X67_setWord rfl (by omega) (by decide) (Nat.le_of_ble_eq_true rfl) (by decide) (fun l G => k_fX67_setWord l G x1 v19 v20 v21) (fun _ => ?_)
          refine r_goto E 266 (by decide) dX67_write_156 ?_
          exact r_return E rfl hT dX67_write_266
        · refine r_tabc E dX67_write_54 3 159 (by decide) (by decide) rfl (by decide) (fun _ => ?_) (fun ht23 => ?_)
          · refine r_aload_n E dX67_write_159 rfl 2 rfl ?_
            refine r_iload_n E dX67_write_160 rfl 3 rfl ?_
            refine r_aload_n E dX67_write_161 rfl 2 rfl ?_
            refine r_get E zc_69 zt_6878 dX67_write_162 q3293 zr_69 (zg_6878 _) (by decide) (fun v24 => ?_)
            refine r_aload_n E dX67_write_165 rfl 2 rfl ?_
            refine r_get E zc_69 zt_6879 dX67_write_166 q3294 zr_69 (zg_6879 _) (by decide) (fun v25 => ?_)
            refine r_aload_n E dX67_write_169 rfl 2 rfl ?_
            refine r_gec (y := 0) E zc_69 dX67_write_170 q3243 zr_69 (zh_6828 (by decide)) (by decide) ?_
            refine r_iload E dX67_write_173 0 rfl ?_
            refine r_iaload E zc_6828 za_6828 zt_6828 zx_6828 rfl rfl dX67_write_175 (by decide) (fun v26 => ?_)
            refine r_aload_n E dX67_write_176 rfl 2 rfl ?_
            refine r_gec (y := 0) E zc_69 dX67_write_177 q3244 zr_69 (zh_6829 (by decide)) (by decide) ?_
            refine r_iload E dX67_write_180 0 rfl ?_
            refine r_iaload E zc_6829 za_6829 zt_6829 zx_6829 rfl rfl dX67_write_182 (by decide) (fun v27 => ?_)
            refine r_aload_n E dX67_write_183 rfl 2 rfl ?_
            refine r_gec (y := 0) E zc_69 dX67_write_184 q3245 zr_69 (zh_6830 (by decide)) (by decide) ?_
            refine r_iload E dX67_write_187 0 rfl ?_
            refine r_iaload E zc_6830 za_6830 zt_6830 zx_6830 rfl rfl dX67_write_189 (by decide) (fun v28 => ?_)
            refine r_callS E [(0, v26), (0, v27), (0, v28)] [(0, v25), (0, v24), (0, x1), (69, 0)] rfl q4049 q4050 q294 q4051 dX67_write_190 zy_X67_pointerWord rfl (by omega) (by decide) (Nat.le_of_ble_eq_true rfl) (fun l G => k_fX67_pointerWord l G v26 v27 v28) (fun v29 => ?_)
            refine r_callV E [(0, x1), (0, v24), (0, v25), (1, v29)] [] rfl zc_69 zr_69 (fun o _ => ⟨_, zw_X67.1 o, rfl⟩) (lw_V q4075 q4077 qs170 q294 q4078) dX67_write_193 zy_X67_setWord rfl (by omega) (by decide) (Nat.le_of_ble_eq_true rfl) (by decide) (fun l G => k_fX67_setWord l G x1 v24 v25 v29) (fun _ => ?_)
            refine r_goto E 266 (by decide) dX67_write_196 ?_
            exact r_return E rfl hT dX67_write_266
          · refine r_tabc E dX67_write_54 4 199 (by decide) (by decide) rfl (by decide) (fun _ => ?_) (fun ht31 => ?_)
            · refine r_aload_n E dX67_write_199 rfl 2 rfl ?_
              refine r_iload_n E dX67_write_200 rfl 3 rfl ?_
              refine r_aload_n E dX67_write_201 rfl 2 rfl ?_
              refine r_get E zc_69 zt_6878 dX67_write_202 q3293 zr_69 (zg_6878 _) (by decide) (fun v32 => ?_)
              refine r_aload_n E dX67_write_205 rfl 2 rfl ?_
              refine r_get E zc_69 zt_6879 dX67_write_206 q3294 zr_69 (zg_6879 _) (by decide) (fun v33 => ?_)
              refine r_lload_n E dX67_write_209 rfl 1 rfl ?_
              refine r_lconst (v := 1) E dX67_write_210 (by decide) (zkJ (by decide) (by decide)) ?_
              refine r_ladd E dX67_write_211 ?_
              refine r_ldc2 (v := 68719476735) E dX67_write_212 q3628 (by decide) (zkJ (by decide) (by decide)) ?_
              refine r_lmask (P := 68719476736) E 36 (by decide) (by decide) (by decide) dX67_write_215 ?_
              refine r_callV E [(0, x1), (0, v32), (0, v33), (1, ((zl (v5 + 1)) % 68719476736))] [] rfl zc_69 zr_69 (fun o _ => ⟨_, zw_X67.1 o, rfl⟩) (lw_V q4075 q4077 qs170 q294 q4078) dX67_write_216 zy_X67_setWord rfl (by omega) (by decide) (Nat.le_of_ble_eq_true rfl) (by decide) (fun l G => k_fX67_setWord l G x1 v32 v33 ((zl (v5 + 1)) % 68719476736)) (fun _ => ?_)
              refine r_aload_n E dX67_write_219 rfl 2 rfl ?_
              refine r_iload_n E dX67_write_220 rfl 3 rfl ?_
              refine r_lload_n E dX67_write_221 rfl 1 rfl ?_
              refine r_lconst (v := 1) E dX67_write_222 (by decide) (zkJ (by decide) (by decide)) ?_
              refine r_ladd E dX67_write_223 ?_
              refine r_ldc2 (v := 68719476735) E dX67_write_224 q3628 (by decide) (zkJ (by decide) (by decide)) ?_
              refine r_lmask (P := 68719476736) E 36 (by decide) (by decide) (by decide) dX67_write_227 ?_
              refine r_callV E [(0, x1), (1, ((zl (v5 + 1)) % 68719476736))] [] rfl zc_69 zr_69 (fun o _ => ⟨_, zw_X67.1 o, rfl⟩) (lw_V q4031 q4033 qs162 q294 q4034) dX67_write_228 zy_X67_flag rfl (by omega) (by decide) (Nat.le_of_ble_eq_true rfl) (by decide) (fun l G => k_fX67_flag l G x1 ((zl (v5 + 1)) % 68719476736)) (fun _ => ?_)
              refine r_goto E 266 (by decide) dX67_write_231 ?_
              exact r_return E rfl hT dX67_write_266
            · refine r_tabd E dX67_write_54 234 [14, 15, 16, 17, 18] (by decide) (by decide) (by decide) ⟨ht8, ht13, ht18, ht23, ht31, trivial⟩ ?_
              refine r_aload_n E dX67_write_234 rfl 2 rfl ?_
              refine r_iload_n E dX67_write_235 rfl 3 rfl ?_
              refine r_aload_n E dX67_write_236 rfl 2 rfl ?_
              refine r_get E zc_69 zt_6878 dX67_write_237 q3293 zr_69 (zg_6878 _) (by decide) (fun v36 => ?_)
              refine r_aload_n E dX67_write_240 rfl 2 rfl ?_
              refine r_get E zc_69 zt_6879 dX67_write_241 q3294 zr_69 (zg_6879 _) (by decide) (fun v37 => ?_)
              refine r_aload_n E dX67_write_244 rfl 2 rfl ?_
              refine r_gec (y := 0) E zc_69 dX67_write_245 q3240 zr_69 (zh_6825 (by decide)) (by decide) ?_
              refine r_iload_n E dX67_write_248 rfl 3 rfl ?_
              refine r_laload E zc_6825 za_6825 zt_6825 zx_6825 rfl rfl dX67_write_249 (by decide) (fun v38 => ?_)
              refine r_callV E [(0, x1), (0, v36), (0, v37), (1, v38)] [] rfl zc_69 zr_69 (fun o _ => ⟨_, zw_X67.1 o, rfl⟩) (lw_V q4075 q4077 qs170 q294 q4078) dX67_write_250 zy_X67_setWord rfl (by omega) (by decide) (Nat.le_of_ble_eq_true rfl) (by decide) (fun l G => k_fX67_setWord l G x1 v36 v37 v38) (fun _ => ?_)
              refine r_aload_n E dX67_write_253 rfl 2 rfl ?_
              refine r_gec (y := 0) E zc_69 dX67_write_254 q3240 zr_69 (zh_6825 (by decide)) (by decide) ?_
              refine r_iload_n E dX67_write_257 rfl 3 rfl ?_
              refine r_lload_n E dX67_write_258 rfl 1 rfl ?_
              refine r_lastore E zc_6825 za_6825 zt_6825 zo_6825 zx_6825 rfl rfl dX67_write_259 (by decide) ?_
              refine r_aload_n E dX67_write_260 rfl 2 rfl ?_
              refine r_iload_n E dX67_write_261 rfl 3 rfl ?_
              refine r_lload_n E dX67_write_262 rfl 1 rfl ?_
              refine r_callV E [(0, x1), (1, v5)] [] rfl zc_69 zr_69 (fun o _ => ⟨_, zw_X67.1 o, rfl⟩) (lw_V q4031 q4033 qs162 q294 q4034) dX67_write_263 zy_X67_flag rfl (by omega) (by decide) (Nat.le_of_ble_eq_true rfl) (by decide) (fun l G => k_fX67_flag l G x1 v5) (fun _ => ?_)
              exact r_return E rfl hT dX67_write_266
  · exact r_return E rfl hT dX67_write_27
theorem w_fX67_write {K : zK} (E : zE K cX67_write "RingHouseModel" none 4) (hN : zNl K = 6) (hT : zTr K = none) (x1 : Int) (x2 : Int) : zR K 0 [(0, 69, 0), (1, 0, x1), (2, 0, x2)] [] (fX67_write x1 x2) := by
  refine r_aload_n E dX67_write_0 rfl 0 rfl ?_
  refine r_get E zc_69 zt_6881 dX67_write_1 q3296 zr_69 (zg_6881 _) (by decide) (fun v1 => ?_)
  refine r_bipush E dX67_write_4 (by decide) (zkI (by decide) (by decide)) ?_
  refine r_icmp_le E 18 (by decide) dX67_write_6 (fun _ => ?_) (fun _ => ?_)
  · exact w_fX67_write_J18 E hN hT x1 x2
  · refine r_aload_n E dX67_write_9 rfl 0 rfl ?_
    refine r_iload_n E dX67_write_10 rfl 1 rfl ?_
    refine r_iconst E dX67_write_11 (zkI (by decide) (by decide)) ?_
    refine r_callV E [(0, x1), (0, 1)] [] rfl zc_69 zr_69 (fun o _ => ⟨_, zw_X67.1 o, rfl⟩) (lw_V q4067 q4069 qs168 q294 q4070) dX67_write_12 zy_X67_may rfl (by omega) (by decide) (Nat.le_of_ble_eq_true rfl) (by decide) (fun l G => k_fX67_may l G x1 1) (fun v41 => ?_)
    refine r_if_eq E 27 (by decide) dX67_write_15 (fun _ => ?_) (fun _ => ?_)
    · exact r_return E rfl hT dX67_write_27
    · exact w_fX67_write_J18 E hN hT x1 x2
theorem k_fX67_write (l : Launch) (G : zG) (x1 : Int) (x2 : Int) : zCt l G yX67_write cX67_write 6 none 4 [(69, 0), (0, x1), (0, x2)] none (fX67_write x1 x2) := zCt.of (by decide) (Nat.le_of_ble_eq_true rfl) (fun K E _ _ hN hT => w_fX67_write E hN hT x1 x2)
theorem dX67_value_0 : decode cX67_value 0 = .ok (.aload_n 0, 1) := by decide +kernel
theorem dX67_value_1 : decode cX67_value 1 = .ok (.getfield 546, 3) := by decide +kernel
theorem dX67_value_4 : decode cX67_value 4 = .ok (.iconst 2, 1) := by decide +kernel
theorem dX67_value_5 : decode cX67_value 5 = .ok (.if_icmp .ne 33, 3) := by decide +kernel
theorem dX67_value_8 : decode cX67_value 8 = .ok (.aload_n 0, 1) := by decide +kernel
theorem dX67_value_9 : decode cX67_value 9 = .ok (.getfield 558, 3) := by decide +kernel
theorem dX67_value_12 : decode cX67_value 12 = .ok (.ldc_w 536, 3) := by decide +kernel
theorem dX67_value_15 : decode cX67_value 15 = .ok (.if_icmp .ge 10, 3) := by decide +kernel
theorem dX67_value_18 : decode cX67_value 18 = .ok (.aload_n 0, 1) := by decide +kernel
theorem dX67_value_19 : decode cX67_value 19 = .ok (.getfield 558, 3) := by decide +kernel
theorem dX67_value_22 : decode cX67_value 22 = .ok (.goto 10, 3) := by decide +kernel
theorem dX67_value_25 : decode cX67_value 25 = .ok (.aload_n 0, 1) := by decide +kernel
theorem dX67_value_26 : decode cX67_value 26 = .ok (.getfield 558, 3) := by decide +kernel
theorem dX67_value_29 : decode cX67_value 29 = .ok (.ldc 56, 2) := by decide +kernel
theorem dX67_value_31 : decode cX67_value 31 = .ok (.isub, 1) := by decide +kernel
theorem dX67_value_32 : decode cX67_value 32 = .ok (.i2l, 1) := by decide +kernel
theorem dX67_value_33 : decode cX67_value 33 = .ok (.ldc2_w 361, 3) := by decide +kernel
theorem dX67_value_36 : decode cX67_value 36 = .ok (.land, 1) := by decide +kernel
theorem dX67_value_37 : decode cX67_value 37 = .ok (.lreturn, 1) := by decide +kernel
theorem dX67_value_38 : decode cX67_value 38 = .ok (.aload_n 0, 1) := by decide +kernel
theorem dX67_value_39 : decode cX67_value 39 = .ok (.iload_n 1, 1) := by decide +kernel
theorem dX67_value_40 : decode cX67_value 40 = .ok (.iconst 1, 1) := by decide +kernel
theorem dX67_value_41 : decode cX67_value 41 = .ok (.invokevirtual 584, 3) := by decide +kernel
theorem dX67_value_44 : decode cX67_value 44 = .ok (.ifCond .eq 19, 3) := by decide +kernel
theorem dX67_value_47 : decode cX67_value 47 = .ok (.aload_n 0, 1) := by decide +kernel
theorem dX67_value_48 : decode cX67_value 48 = .ok (.iload_n 1, 1) := by decide +kernel
theorem dX67_value_49 : decode cX67_value 49 = .ok (.aload_n 0, 1) := by decide +kernel
theorem dX67_value_50 : decode cX67_value 50 = .ok (.getfield 555, 3) := by decide +kernel
theorem dX67_value_53 : decode cX67_value 53 = .ok (.aload_n 0, 1) := by decide +kernel
theorem dX67_value_54 : decode cX67_value 54 = .ok (.getfield 558, 3) := by decide +kernel
theorem dX67_value_57 : decode cX67_value 57 = .ok (.invokevirtual 576, 3) := by decide +kernel
theorem dX67_value_60 : decode cX67_value 60 = .ok (.goto 4, 3) := by decide +kernel
theorem dX67_value_63 : decode cX67_value 63 = .ok (.lconst 0, 1) := by decide +kernel
theorem dX67_value_64 : decode cX67_value 64 = .ok (.lreturn, 1) := by decide +kernel
theorem zy_X67_value : yX67_value.cls ≠ "java/lang/invoke/MethodHandle" ∧ yX67_value.cls ≠ "java/lang/invoke/VarHandle" ∧ (parseMethodDescriptor yX67_value.desc).map (fun d => d.parameters.length) = some 1 := by decide +kernel
theorem w_fX67_value_J32 {K : zK} (E : zE K cX67_value "RingHouseModel" (some .long) 4) (hN : zNl K = 2) (hT : zTr K = (some 1)) (s0 : Int) : zR K 32 [] [(0, s0)] (fX67_value_J32 s0) := by
  refine r_i2l E dX67_value_32 ?_
  refine r_ldc2 (v := 68719476735) E dX67_value_33 q3628 (by decide) (zkJ (by decide) (by decide)) ?_
  refine r_lmask (P := 68719476736) E 36 (by decide) (by decide) (by decide) dX67_value_36 ?_
  exact r_lreturn E rfl hT dX67_value_37
theorem w_fX67_value {K : zK} (E : zE K cX67_value "RingHouseModel" (some .long) 4) (hN : zNl K = 2) (hT : zTr K = (some 1)) (x1 : Int) : zR K 0 [(0, 69, 0), (1, 0, x1)] [] (fX67_value x1) := by
  refine r_aload_n E dX67_value_0 rfl 0 rfl ?_
  refine r_get E zc_69 zt_6882 dX67_value_1 q3297 zr_69 (zg_6882 _) (by decide) (fun v1 => ?_)
  refine r_iconst E dX67_value_4 (zkI (by decide) (by decide)) ?_
  refine r_icmp_ne E 38 (by decide) dX67_value_5 (fun _ => ?_) (fun _ => ?_)
  · refine r_aload_n E dX67_value_38 rfl 0 rfl ?_
    refine r_iload_n E dX67_value_39 rfl 1 rfl ?_
    refine r_iconst E dX67_value_40 (zkI (by decide) (by decide)) ?_
    refine r_callV E [(0, x1), (0, 1)] [] rfl zc_69 zr_69 (fun o _ => ⟨_, zw_X67.1 o, rfl⟩) (lw_V q4067 q4069 qs168 q294 q4070) dX67_value_41 zy_X67_may rfl (by omega) (by decide) (Nat.le_of_ble_eq_true rfl) (by decide) (fun l G => k_fX67_may l G x1 1) (fun v2 => ?_)
    refine r_if_eq E 63 (by decide) dX67_value_44 (fun _ => ?_) (fun _ => ?_)
    · refine r_lconst (v := 0) E dX67_value_63 (by decide) (zkJ (by decide) (by decide)) ?_
      exact r_lreturn E rfl hT dX67_value_64
    · refine r_aload_n E dX67_value_47 rfl 0 rfl ?_
      refine r_iload_n E dX67_value_48 rfl 1 rfl ?_
      refine r_aload_n E dX67_value_49 rfl 0 rfl ?_
      refine r_get E zc_69 zt_6878 dX67_value_50 q3293 zr_69 (zg_6878 _) (by decide) (fun v3 => ?_)
      refine r_aload_n E dX67_value_53 rfl 0 rfl ?_
      refine r_get E zc_69 zt_6879 dX67_value_54 q3294 zr_69 (zg_6879 _) (by decide) (fun v4 => ?_)
      refine r_callV E [(0, x1), (0, v3), (0, v4)] [] rfl zc_69 zr_69 (fun o _ => ⟨_, zw_X67.1 o, rfl⟩) (lw_V q3855 q3857 qs124 q294 q3858) dX67_value_57 zy_X67_wordAt rfl (by omega) (by decide) (Nat.le_of_ble_eq_true rfl) (by decide) (fun l G => k_fX67_wordAt l G x1 v3 v4) (fun v5 => ?_)
      refine r_goto E 64 (by decide) dX67_value_60 ?_
      exact r_lreturn E rfl hT dX67_value_64
  · refine r_aload_n E dX67_value_8 rfl 0 rfl ?_
    refine r_get E zc_69 zt_6879 dX67_value_9 q3294 zr_69 (zg_6879 _) (by decide) (fun v6 => ?_)
    refine r_ldcw (v := 131072) E dX67_value_12 q4044 (by decide) (zkI (by decide) (by decide)) ?_
    refine r_icmp_ge E 25 (by decide) dX67_value_15 (fun _ => ?_) (fun _ => ?_)
    · refine r_aload_n E dX67_value_25 rfl 0 rfl ?_
      refine r_get E zc_69 zt_6879 dX67_value_26 q3294 zr_69 (zg_6879 _) (by decide) (fun v7 => ?_)
      refine r_ldc (v := 262144) E dX67_value_29 q3170 (by decide) (zkI (by decide) (by decide)) ?_
      refine r_isub E dX67_value_31 ?_
      refine r_pick E [] rfl ?_
      exact w_fX67_value_J32 E hN hT (zi (v7 - 262144))
    · refine r_aload_n E dX67_value_18 rfl 0 rfl ?_
      refine r_get E zc_69 zt_6879 dX67_value_19 q3294 zr_69 (zg_6879 _) (by decide) (fun v8 => ?_)
      refine r_goto E 32 (by decide) dX67_value_22 ?_
      refine r_pick E [] rfl ?_
      exact w_fX67_value_J32 E hN hT v8
theorem k_fX67_value (l : Launch) (G : zG) (x1 : Int) : zCt l G yX67_value cX67_value 2 (some .long) 4 [(69, 0), (0, x1)] (some 1) (fX67_value x1) := zCt.of (by decide) (Nat.le_of_ble_eq_true rfl) (fun K E _ _ hN hT => w_fX67_value E hN hT x1)
theorem dX67_signed_0 : decode cX67_signed 0 = .ok (.lload_n 0, 1) := by decide +kernel
theorem dX67_signed_1 : decode cX67_signed 1 = .ok (.ldc2_w 375, 3) := by decide +kernel
theorem dX67_signed_4 : decode cX67_signed 4 = .ok (.lcmp, 1) := by decide +kernel
theorem dX67_signed_5 : decode cX67_signed 5 = .ok (.ifCond .lt 13, 3) := by decide +kernel
theorem dX67_signed_8 : decode cX67_signed 8 = .ok (.lload_n 0, 1) := by decide +kernel
theorem dX67_signed_9 : decode cX67_signed 9 = .ok (.ldc2_w 361, 3) := by decide +kernel
theorem dX67_signed_12 : decode cX67_signed 12 = .ok (.lsub, 1) := by decide +kernel
theorem dX67_signed_13 : decode cX67_signed 13 = .ok (.lconst 1, 1) := by decide +kernel
theorem dX67_signed_14 : decode cX67_signed 14 = .ok (.lsub, 1) := by decide +kernel
theorem dX67_signed_15 : decode cX67_signed 15 = .ok (.goto 4, 3) := by decide +kernel
theorem dX67_signed_18 : decode cX67_signed 18 = .ok (.lload_n 0, 1) := by decide +kernel
theorem dX67_signed_19 : decode cX67_signed 19 = .ok (.lreturn, 1) := by decide +kernel
theorem zy_X67_signed : yX67_signed.cls ≠ "java/lang/invoke/MethodHandle" ∧ yX67_signed.cls ≠ "java/lang/invoke/VarHandle" ∧ (parseMethodDescriptor yX67_signed.desc).map (fun d => d.parameters.length) = some 1 := by decide +kernel
theorem w_fX67_signed {K : zK} (E : zE K cX67_signed "RingHouseModel" (some .long) 0) (hN : zNl K = 2) (hT : zTr K = (some 1)) (x0 : Int) : zR K 0 [(0, 1, x0)] [] (fX67_signed x0) := by
  refine r_lload_n E dX67_signed_0 rfl 0 rfl ?_
  refine r_ldc2 (v := 34359738368) E dX67_signed_1 q4035 (by decide) (zkJ (by decide) (by decide)) ?_
  refine r_lcmp_lt E 18 (by decide) dX67_signed_4 dX67_signed_5 (fun _ => ?_) (fun _ => ?_)
  · refine r_lload_n E dX67_signed_18 rfl 0 rfl ?_
    exact r_lreturn E rfl hT dX67_signed_19
  · refine r_lload_n E dX67_signed_8 rfl 0 rfl ?_
    refine r_ldc2 (v := 68719476735) E dX67_signed_9 q3628 (by decide) (zkJ (by decide) (by decide)) ?_
    refine r_lsub E dX67_signed_12 ?_
    refine r_lconst (v := 1) E dX67_signed_13 (by decide) (zkJ (by decide) (by decide)) ?_
    refine r_lsub E dX67_signed_14 ?_
    refine r_goto E 19 (by decide) dX67_signed_15 ?_
    exact r_lreturn E rfl hT dX67_signed_19
theorem k_fX67_signed (l : Launch) (G : zG) (x0 : Int) : zCt l G yX67_signed cX67_signed 2 (some .long) 0 [(1, x0)] (some 1) (fX67_signed x0) := zCt.of (by decide) (Nat.le_of_ble_eq_true rfl) (fun K E _ _ hN hT => w_fX67_signed E hN hT x0)
theorem dX67_flagHalf_0 : decode cX67_flagHalf 0 = .ok (.aload_n 0, 1) := by decide +kernel
theorem dX67_flagHalf_1 : decode cX67_flagHalf 1 = .ok (.getfield 113, 3) := by decide +kernel
theorem dX67_flagHalf_4 : decode cX67_flagHalf 4 = .ok (.iload_n 1, 1) := by decide +kernel
theorem dX67_flagHalf_5 : decode cX67_flagHalf 5 = .ok (.iload_n 2, 1) := by decide +kernel
theorem dX67_flagHalf_6 : decode cX67_flagHalf 6 = .ok (.ifCond .ne 7, 3) := by decide +kernel
theorem dX67_flagHalf_9 : decode cX67_flagHalf 9 = .ok (.iconst 1, 1) := by decide +kernel
theorem dX67_flagHalf_10 : decode cX67_flagHalf 10 = .ok (.goto 4, 3) := by decide +kernel
theorem dX67_flagHalf_13 : decode cX67_flagHalf 13 = .ok (.iconst 0, 1) := by decide +kernel
theorem dX67_flagHalf_14 : decode cX67_flagHalf 14 = .ok (.bastore, 1) := by decide +kernel
theorem dX67_flagHalf_15 : decode cX67_flagHalf 15 = .ok (.aload_n 0, 1) := by decide +kernel
theorem dX67_flagHalf_16 : decode cX67_flagHalf 16 = .ok (.getfield 116, 3) := by decide +kernel
theorem dX67_flagHalf_19 : decode cX67_flagHalf 19 = .ok (.iload_n 1, 1) := by decide +kernel
theorem dX67_flagHalf_20 : decode cX67_flagHalf 20 = .ok (.iload_n 2, 1) := by decide +kernel
theorem dX67_flagHalf_21 : decode cX67_flagHalf 21 = .ok (.ldc_w 536, 3) := by decide +kernel
theorem dX67_flagHalf_24 : decode cX67_flagHalf 24 = .ok (.if_icmp .lt 7, 3) := by decide +kernel
theorem dX67_flagHalf_27 : decode cX67_flagHalf 27 = .ok (.iconst 1, 1) := by decide +kernel
theorem dX67_flagHalf_28 : decode cX67_flagHalf 28 = .ok (.goto 4, 3) := by decide +kernel
theorem dX67_flagHalf_31 : decode cX67_flagHalf 31 = .ok (.iconst 0, 1) := by decide +kernel
theorem dX67_flagHalf_32 : decode cX67_flagHalf 32 = .ok (.bastore, 1) := by decide +kernel
theorem dX67_flagHalf_33 : decode cX67_flagHalf 33 = .ok (.return_, 1) := by decide +kernel
theorem zy_X67_flagHalf : yX67_flagHalf.cls ≠ "java/lang/invoke/MethodHandle" ∧ yX67_flagHalf.cls ≠ "java/lang/invoke/VarHandle" ∧ (parseMethodDescriptor yX67_flagHalf.desc).map (fun d => d.parameters.length) = some 2 := by decide +kernel
theorem w_fX67_flagHalf_J32 {K : zK} (E : zE K cX67_flagHalf "RingHouseModel" none 0) (hN : zNl K = 3) (hT : zTr K = none) (s1 : Int) (s2 : Int) : zR K 32 [] [(0, s2), (0, s1), (6835, 0)] (fX67_flagHalf_J32 s1 s2) := by
  refine r_zastore E zc_6835 za_6835 zt_6835 zo_6835 zx_6835 rfl rfl dX67_flagHalf_32 (by decide) ?_
  exact r_return E rfl hT dX67_flagHalf_33
theorem w_fX67_flagHalf_J14 {K : zK} (E : zE K cX67_flagHalf "RingHouseModel" none 0) (hN : zNl K = 3) (hT : zTr K = none) (x1 : Int) (x2 : Int) (s1 : Int) (s2 : Int) : zR K 14 [(0, 69, 0), (1, 0, x1), (2, 0, x2)] [(0, s2), (0, s1), (6834, 0)] (fX67_flagHalf_J14 x1 x2 s1 s2) := by
  refine r_zastore E zc_6834 za_6834 zt_6834 zo_6834 zx_6834 rfl rfl dX67_flagHalf_14 (by decide) ?_
  refine r_aload_n E dX67_flagHalf_15 rfl 0 rfl ?_
  refine r_gec (y := 0) E zc_69 dX67_flagHalf_16 q3250 zr_69 (zh_6835 (by decide)) (by decide) ?_
  refine r_iload_n E dX67_flagHalf_19 rfl 1 rfl ?_
  refine r_iload_n E dX67_flagHalf_20 rfl 2 rfl ?_
  refine r_ldcw (v := 131072) E dX67_flagHalf_21 q4044 (by decide) (zkI (by decide) (by decide)) ?_
  refine r_icmp_lt E 31 (by decide) dX67_flagHalf_24 (fun _ => ?_) (fun _ => ?_)
  · refine r_iconst E dX67_flagHalf_31 (zkI (by decide) (by decide)) ?_
    refine r_pick E [] rfl ?_
    exact w_fX67_flagHalf_J32 E hN hT x1 0
  · refine r_iconst E dX67_flagHalf_27 (zkI (by decide) (by decide)) ?_
    refine r_goto E 32 (by decide) dX67_flagHalf_28 ?_
    refine r_pick E [] rfl ?_
    exact w_fX67_flagHalf_J32 E hN hT x1 1
theorem w_fX67_flagHalf {K : zK} (E : zE K cX67_flagHalf "RingHouseModel" none 0) (hN : zNl K = 3) (hT : zTr K = none) (x1 : Int) (x2 : Int) : zR K 0 [(0, 69, 0), (1, 0, x1), (2, 0, x2)] [] (fX67_flagHalf x1 x2) := by
  refine r_aload_n E dX67_flagHalf_0 rfl 0 rfl ?_
  refine r_gec (y := 0) E zc_69 dX67_flagHalf_1 q3249 zr_69 (zh_6834 (by decide)) (by decide) ?_
  refine r_iload_n E dX67_flagHalf_4 rfl 1 rfl ?_
  refine r_iload_n E dX67_flagHalf_5 rfl 2 rfl ?_
  refine r_if_ne E 13 (by decide) dX67_flagHalf_6 (fun _ => ?_) (fun _ => ?_)
  · refine r_iconst E dX67_flagHalf_13 (zkI (by decide) (by decide)) ?_
    exact w_fX67_flagHalf_J14 E hN hT x1 x2 x1 0
  · refine r_iconst E dX67_flagHalf_9 (zkI (by decide) (by decide)) ?_
    refine r_goto E 14 (by decide) dX67_flagHalf_10 ?_
    exact w_fX67_flagHalf_J14 E hN hT x1 x2 x1 1
theorem k_fX67_flagHalf (l : Launch) (G : zG) (x1 : Int) (x2 : Int) : zCt l G yX67_flagHalf cX67_flagHalf 3 none 0 [(69, 0), (0, x1), (0, x2)] none (fX67_flagHalf x1 x2) := zCt.of (by decide) (Nat.le_of_ble_eq_true rfl) (fun K E _ _ hN hT => w_fX67_flagHalf E hN hT x1 x2)
theorem dX67_reckon_0 : decode cX67_reckon 0 = .ok (.aload_n 0, 1) := by decide +kernel
theorem dX67_reckon_1 : decode cX67_reckon 1 = .ok (.iload_n 1, 1) := by decide +kernel
theorem dX67_reckon_2 : decode cX67_reckon 2 = .ok (.invokevirtual 587, 3) := by decide +kernel
theorem dX67_reckon_5 : decode cX67_reckon 5 = .ok (.lstore_n 3, 1) := by decide +kernel
theorem dX67_reckon_6 : decode cX67_reckon 6 = .ok (.aload_n 0, 1) := by decide +kernel
theorem dX67_reckon_7 : decode cX67_reckon 7 = .ok (.getfield 537, 3) := by decide +kernel
theorem dX67_reckon_10 : decode cX67_reckon 10 = .ok (.bipush 7, 2) := by decide +kernel
theorem dX67_reckon_12 : decode cX67_reckon 12 = .ok (.if_icmp .ne 40, 3) := by decide +kernel
theorem dX67_reckon_15 : decode cX67_reckon 15 = .ok (.lload_n 3, 1) := by decide +kernel
theorem dX67_reckon_16 : decode cX67_reckon 16 = .ok (.lconst 0, 1) := by decide +kernel
theorem dX67_reckon_17 : decode cX67_reckon 17 = .ok (.lcmp, 1) := by decide +kernel
theorem dX67_reckon_18 : decode cX67_reckon 18 = .ok (.ifCond .ne 34, 3) := by decide +kernel
theorem dX67_reckon_21 : decode cX67_reckon 21 = .ok (.aload_n 0, 1) := by decide +kernel
theorem dX67_reckon_22 : decode cX67_reckon 22 = .ok (.getfield 510, 3) := by decide +kernel
theorem dX67_reckon_25 : decode cX67_reckon 25 = .ok (.ifCond .ne 27, 3) := by decide +kernel
theorem dX67_reckon_28 : decode cX67_reckon 28 = .ok (.aload_n 0, 1) := by decide +kernel
theorem dX67_reckon_29 : decode cX67_reckon 29 = .ok (.bipush 12, 2) := by decide +kernel
theorem dX67_reckon_31 : decode cX67_reckon 31 = .ok (.aload_n 0, 1) := by decide +kernel
theorem dX67_reckon_32 : decode cX67_reckon 32 = .ok (.getfield 104, 3) := by decide +kernel
theorem dX67_reckon_35 : decode cX67_reckon 35 = .ok (.iload_n 1, 1) := by decide +kernel
theorem dX67_reckon_36 : decode cX67_reckon 36 = .ok (.iaload, 1) := by decide +kernel
theorem dX67_reckon_37 : decode cX67_reckon 37 = .ok (.aload_n 0, 1) := by decide +kernel
theorem dX67_reckon_38 : decode cX67_reckon 38 = .ok (.getfield 107, 3) := by decide +kernel
theorem dX67_reckon_41 : decode cX67_reckon 41 = .ok (.iload_n 1, 1) := by decide +kernel
theorem dX67_reckon_42 : decode cX67_reckon 42 = .ok (.iaload, 1) := by decide +kernel
theorem dX67_reckon_43 : decode cX67_reckon 43 = .ok (.aload_n 0, 1) := by decide +kernel
theorem dX67_reckon_44 : decode cX67_reckon 44 = .ok (.getfield 110, 3) := by decide +kernel
theorem dX67_reckon_47 : decode cX67_reckon 47 = .ok (.iload_n 1, 1) := by decide +kernel
theorem dX67_reckon_48 : decode cX67_reckon 48 = .ok (.iaload, 1) := by decide +kernel
theorem dX67_reckon_49 : decode cX67_reckon 49 = .ok (.invokevirtual 531, 3) := by decide +kernel
theorem dX67_reckon_52 : decode cX67_reckon 52 = .ok (.aload_n 0, 1) := by decide +kernel
theorem dX67_reckon_53 : decode cX67_reckon 53 = .ok (.getfield 510, 3) := by decide +kernel
theorem dX67_reckon_56 : decode cX67_reckon 56 = .ok (.ifCond .le 4, 3) := by decide +kernel
theorem dX67_reckon_59 : decode cX67_reckon 59 = .ok (.return_, 1) := by decide +kernel
theorem dX67_reckon_60 : decode cX67_reckon 60 = .ok (.aload_n 0, 1) := by decide +kernel
theorem dX67_reckon_61 : decode cX67_reckon 61 = .ok (.getfield 86, 3) := by decide +kernel
theorem dX67_reckon_64 : decode cX67_reckon 64 = .ok (.iload_n 1, 1) := by decide +kernel
theorem dX67_reckon_65 : decode cX67_reckon 65 = .ok (.laload, 1) := by decide +kernel
theorem dX67_reckon_66 : decode cX67_reckon 66 = .ok (.lstore 5, 2) := by decide +kernel
theorem dX67_reckon_68 : decode cX67_reckon 68 = .ok (.aload_n 0, 1) := by decide +kernel
theorem dX67_reckon_69 : decode cX67_reckon 69 = .ok (.getfield 537, 3) := by decide +kernel
theorem dX67_reckon_72 : decode cX67_reckon 72 = .ok (.tableswitch 256 2 11 #[56, 66, 80, 97, 114, 131, 174, 187, 200, 213], 56) := by decide +kernel
theorem dX67_reckon_128 : decode cX67_reckon 128 = .ok (.aload_n 0, 1) := by decide +kernel
theorem dX67_reckon_129 : decode cX67_reckon 129 = .ok (.getfield 86, 3) := by decide +kernel
theorem dX67_reckon_132 : decode cX67_reckon 132 = .ok (.iload_n 1, 1) := by decide +kernel
theorem dX67_reckon_133 : decode cX67_reckon 133 = .ok (.lload_n 3, 1) := by decide +kernel
theorem dX67_reckon_134 : decode cX67_reckon 134 = .ok (.lastore, 1) := by decide +kernel
theorem dX67_reckon_135 : decode cX67_reckon 135 = .ok (.goto 248, 3) := by decide +kernel
theorem dX67_reckon_138 : decode cX67_reckon 138 = .ok (.aload_n 0, 1) := by decide +kernel
theorem dX67_reckon_139 : decode cX67_reckon 139 = .ok (.getfield 89, 3) := by decide +kernel
theorem dX67_reckon_142 : decode cX67_reckon 142 = .ok (.iload_n 1, 1) := by decide +kernel
theorem dX67_reckon_143 : decode cX67_reckon 143 = .ok (.lload_n 3, 1) := by decide +kernel
theorem dX67_reckon_144 : decode cX67_reckon 144 = .ok (.lastore, 1) := by decide +kernel
theorem dX67_reckon_145 : decode cX67_reckon 145 = .ok (.aload_n 0, 1) := by decide +kernel
theorem dX67_reckon_146 : decode cX67_reckon 146 = .ok (.iload_n 1, 1) := by decide +kernel
theorem dX67_reckon_147 : decode cX67_reckon 147 = .ok (.lload_n 3, 1) := by decide +kernel
theorem dX67_reckon_148 : decode cX67_reckon 148 = .ok (.invokevirtual 591, 3) := by decide +kernel
theorem dX67_reckon_151 : decode cX67_reckon 151 = .ok (.return_, 1) := by decide +kernel
theorem dX67_reckon_152 : decode cX67_reckon 152 = .ok (.aload_n 0, 1) := by decide +kernel
theorem dX67_reckon_153 : decode cX67_reckon 153 = .ok (.getfield 86, 3) := by decide +kernel
theorem dX67_reckon_156 : decode cX67_reckon 156 = .ok (.iload_n 1, 1) := by decide +kernel
theorem dX67_reckon_157 : decode cX67_reckon 157 = .ok (.lload 5, 2) := by decide +kernel
theorem dX67_reckon_159 : decode cX67_reckon 159 = .ok (.lload_n 3, 1) := by decide +kernel
theorem dX67_reckon_160 : decode cX67_reckon 160 = .ok (.ladd, 1) := by decide +kernel
theorem dX67_reckon_161 : decode cX67_reckon 161 = .ok (.ldc2_w 361, 3) := by decide +kernel
theorem dX67_reckon_164 : decode cX67_reckon 164 = .ok (.land, 1) := by decide +kernel
theorem dX67_reckon_165 : decode cX67_reckon 165 = .ok (.lastore, 1) := by decide +kernel
theorem dX67_reckon_166 : decode cX67_reckon 166 = .ok (.goto 217, 3) := by decide +kernel
theorem dX67_reckon_169 : decode cX67_reckon 169 = .ok (.aload_n 0, 1) := by decide +kernel
theorem dX67_reckon_170 : decode cX67_reckon 170 = .ok (.getfield 86, 3) := by decide +kernel
theorem dX67_reckon_173 : decode cX67_reckon 173 = .ok (.iload_n 1, 1) := by decide +kernel
theorem dX67_reckon_174 : decode cX67_reckon 174 = .ok (.lload 5, 2) := by decide +kernel
theorem dX67_reckon_176 : decode cX67_reckon 176 = .ok (.lload_n 3, 1) := by decide +kernel
theorem dX67_reckon_177 : decode cX67_reckon 177 = .ok (.lsub, 1) := by decide +kernel
theorem dX67_reckon_178 : decode cX67_reckon 178 = .ok (.ldc2_w 361, 3) := by decide +kernel
theorem dX67_reckon_181 : decode cX67_reckon 181 = .ok (.land, 1) := by decide +kernel
theorem dX67_reckon_182 : decode cX67_reckon 182 = .ok (.lastore, 1) := by decide +kernel
theorem dX67_reckon_183 : decode cX67_reckon 183 = .ok (.goto 200, 3) := by decide +kernel
theorem dX67_reckon_186 : decode cX67_reckon 186 = .ok (.aload_n 0, 1) := by decide +kernel
theorem dX67_reckon_187 : decode cX67_reckon 187 = .ok (.getfield 86, 3) := by decide +kernel
theorem dX67_reckon_190 : decode cX67_reckon 190 = .ok (.iload_n 1, 1) := by decide +kernel
theorem dX67_reckon_191 : decode cX67_reckon 191 = .ok (.lload 5, 2) := by decide +kernel
theorem dX67_reckon_193 : decode cX67_reckon 193 = .ok (.lload_n 3, 1) := by decide +kernel
theorem dX67_reckon_194 : decode cX67_reckon 194 = .ok (.lmul, 1) := by decide +kernel
theorem dX67_reckon_195 : decode cX67_reckon 195 = .ok (.ldc2_w 361, 3) := by decide +kernel
theorem dX67_reckon_198 : decode cX67_reckon 198 = .ok (.land, 1) := by decide +kernel
theorem dX67_reckon_199 : decode cX67_reckon 199 = .ok (.lastore, 1) := by decide +kernel
theorem dX67_reckon_200 : decode cX67_reckon 200 = .ok (.goto 183, 3) := by decide +kernel
theorem dX67_reckon_203 : decode cX67_reckon 203 = .ok (.aload_n 0, 1) := by decide +kernel
theorem dX67_reckon_204 : decode cX67_reckon 204 = .ok (.getfield 86, 3) := by decide +kernel
theorem dX67_reckon_207 : decode cX67_reckon 207 = .ok (.iload_n 1, 1) := by decide +kernel
theorem dX67_reckon_208 : decode cX67_reckon 208 = .ok (.lload 5, 2) := by decide +kernel
theorem dX67_reckon_210 : decode cX67_reckon 210 = .ok (.invokestatic 595, 3) := by decide +kernel
theorem dX67_reckon_213 : decode cX67_reckon 213 = .ok (.lload_n 3, 1) := by decide +kernel
theorem dX67_reckon_214 : decode cX67_reckon 214 = .ok (.invokestatic 595, 3) := by decide +kernel
theorem dX67_reckon_217 : decode cX67_reckon 217 = .ok (.ldiv, 1) := by decide +kernel
theorem dX67_reckon_218 : decode cX67_reckon 218 = .ok (.ldc2_w 361, 3) := by decide +kernel
theorem dX67_reckon_221 : decode cX67_reckon 221 = .ok (.land, 1) := by decide +kernel
theorem dX67_reckon_222 : decode cX67_reckon 222 = .ok (.lastore, 1) := by decide +kernel
theorem dX67_reckon_223 : decode cX67_reckon 223 = .ok (.aload_n 0, 1) := by decide +kernel
theorem dX67_reckon_224 : decode cX67_reckon 224 = .ok (.getfield 89, 3) := by decide +kernel
theorem dX67_reckon_227 : decode cX67_reckon 227 = .ok (.iload_n 1, 1) := by decide +kernel
theorem dX67_reckon_228 : decode cX67_reckon 228 = .ok (.lload 5, 2) := by decide +kernel
theorem dX67_reckon_230 : decode cX67_reckon 230 = .ok (.invokestatic 595, 3) := by decide +kernel
theorem dX67_reckon_233 : decode cX67_reckon 233 = .ok (.lload_n 3, 1) := by decide +kernel
theorem dX67_reckon_234 : decode cX67_reckon 234 = .ok (.invokestatic 595, 3) := by decide +kernel
theorem dX67_reckon_237 : decode cX67_reckon 237 = .ok (.lrem, 1) := by decide +kernel
theorem dX67_reckon_238 : decode cX67_reckon 238 = .ok (.ldc2_w 361, 3) := by decide +kernel
theorem dX67_reckon_241 : decode cX67_reckon 241 = .ok (.land, 1) := by decide +kernel
theorem dX67_reckon_242 : decode cX67_reckon 242 = .ok (.lastore, 1) := by decide +kernel
theorem dX67_reckon_243 : decode cX67_reckon 243 = .ok (.goto 140, 3) := by decide +kernel
theorem dX67_reckon_246 : decode cX67_reckon 246 = .ok (.aload_n 0, 1) := by decide +kernel
theorem dX67_reckon_247 : decode cX67_reckon 247 = .ok (.getfield 86, 3) := by decide +kernel
theorem dX67_reckon_250 : decode cX67_reckon 250 = .ok (.iload_n 1, 1) := by decide +kernel
theorem dX67_reckon_251 : decode cX67_reckon 251 = .ok (.lload 5, 2) := by decide +kernel
theorem dX67_reckon_253 : decode cX67_reckon 253 = .ok (.lload_n 3, 1) := by decide +kernel
theorem dX67_reckon_254 : decode cX67_reckon 254 = .ok (.land, 1) := by decide +kernel
theorem dX67_reckon_255 : decode cX67_reckon 255 = .ok (.lastore, 1) := by decide +kernel
theorem dX67_reckon_256 : decode cX67_reckon 256 = .ok (.goto 127, 3) := by decide +kernel
theorem dX67_reckon_259 : decode cX67_reckon 259 = .ok (.aload_n 0, 1) := by decide +kernel
theorem dX67_reckon_260 : decode cX67_reckon 260 = .ok (.getfield 86, 3) := by decide +kernel
theorem dX67_reckon_263 : decode cX67_reckon 263 = .ok (.iload_n 1, 1) := by decide +kernel
theorem dX67_reckon_264 : decode cX67_reckon 264 = .ok (.lload 5, 2) := by decide +kernel
theorem dX67_reckon_266 : decode cX67_reckon 266 = .ok (.lload_n 3, 1) := by decide +kernel
theorem dX67_reckon_267 : decode cX67_reckon 267 = .ok (.lor, 1) := by decide +kernel
theorem dX67_reckon_268 : decode cX67_reckon 268 = .ok (.lastore, 1) := by decide +kernel
theorem dX67_reckon_269 : decode cX67_reckon 269 = .ok (.goto 114, 3) := by decide +kernel
theorem dX67_reckon_272 : decode cX67_reckon 272 = .ok (.aload_n 0, 1) := by decide +kernel
theorem dX67_reckon_273 : decode cX67_reckon 273 = .ok (.getfield 86, 3) := by decide +kernel
theorem dX67_reckon_276 : decode cX67_reckon 276 = .ok (.iload_n 1, 1) := by decide +kernel
theorem dX67_reckon_277 : decode cX67_reckon 277 = .ok (.lload 5, 2) := by decide +kernel
theorem dX67_reckon_279 : decode cX67_reckon 279 = .ok (.lload_n 3, 1) := by decide +kernel
theorem dX67_reckon_280 : decode cX67_reckon 280 = .ok (.lxor, 1) := by decide +kernel
theorem dX67_reckon_281 : decode cX67_reckon 281 = .ok (.lastore, 1) := by decide +kernel
theorem dX67_reckon_282 : decode cX67_reckon 282 = .ok (.goto 101, 3) := by decide +kernel
theorem dX67_reckon_285 : decode cX67_reckon 285 = .ok (.aload_n 0, 1) := by decide +kernel
theorem dX67_reckon_286 : decode cX67_reckon 286 = .ok (.getfield 113, 3) := by decide +kernel
theorem dX67_reckon_289 : decode cX67_reckon 289 = .ok (.iload_n 1, 1) := by decide +kernel
theorem dX67_reckon_290 : decode cX67_reckon 290 = .ok (.lload 5, 2) := by decide +kernel
theorem dX67_reckon_292 : decode cX67_reckon 292 = .ok (.lload_n 3, 1) := by decide +kernel
theorem dX67_reckon_293 : decode cX67_reckon 293 = .ok (.lcmp, 1) := by decide +kernel
theorem dX67_reckon_294 : decode cX67_reckon 294 = .ok (.ifCond .ne 7, 3) := by decide +kernel
theorem dX67_reckon_297 : decode cX67_reckon 297 = .ok (.iconst 1, 1) := by decide +kernel
theorem dX67_reckon_298 : decode cX67_reckon 298 = .ok (.goto 4, 3) := by decide +kernel
theorem dX67_reckon_301 : decode cX67_reckon 301 = .ok (.iconst 0, 1) := by decide +kernel
theorem dX67_reckon_302 : decode cX67_reckon 302 = .ok (.bastore, 1) := by decide +kernel
theorem dX67_reckon_303 : decode cX67_reckon 303 = .ok (.aload_n 0, 1) := by decide +kernel
theorem dX67_reckon_304 : decode cX67_reckon 304 = .ok (.getfield 116, 3) := by decide +kernel
theorem dX67_reckon_307 : decode cX67_reckon 307 = .ok (.iload_n 1, 1) := by decide +kernel
theorem dX67_reckon_308 : decode cX67_reckon 308 = .ok (.lload 5, 2) := by decide +kernel
theorem dX67_reckon_310 : decode cX67_reckon 310 = .ok (.invokestatic 595, 3) := by decide +kernel
theorem dX67_reckon_313 : decode cX67_reckon 313 = .ok (.lload_n 3, 1) := by decide +kernel
theorem dX67_reckon_314 : decode cX67_reckon 314 = .ok (.invokestatic 595, 3) := by decide +kernel
theorem dX67_reckon_317 : decode cX67_reckon 317 = .ok (.lcmp, 1) := by decide +kernel
theorem dX67_reckon_318 : decode cX67_reckon 318 = .ok (.ifCond .ge 7, 3) := by decide +kernel
theorem dX67_reckon_321 : decode cX67_reckon 321 = .ok (.iconst 1, 1) := by decide +kernel
theorem dX67_reckon_322 : decode cX67_reckon 322 = .ok (.goto 4, 3) := by decide +kernel
theorem dX67_reckon_325 : decode cX67_reckon 325 = .ok (.iconst 0, 1) := by decide +kernel
theorem dX67_reckon_326 : decode cX67_reckon 326 = .ok (.bastore, 1) := by decide +kernel
theorem dX67_reckon_327 : decode cX67_reckon 327 = .ok (.return_, 1) := by decide +kernel
theorem dX67_reckon_328 : decode cX67_reckon 328 = .ok (.iconst 4, 1) := by decide +kernel
theorem dX67_reckon_329 : decode cX67_reckon 329 = .ok (.iload_n 1, 1) := by decide +kernel
theorem dX67_reckon_330 : decode cX67_reckon 330 = .ok (.imul, 1) := by decide +kernel
theorem dX67_reckon_331 : decode cX67_reckon 331 = .ok (.iload_n 2, 1) := by decide +kernel
theorem dX67_reckon_332 : decode cX67_reckon 332 = .ok (.iadd, 1) := by decide +kernel
theorem dX67_reckon_333 : decode cX67_reckon 333 = .ok (.istore 7, 2) := by decide +kernel
theorem dX67_reckon_335 : decode cX67_reckon 335 = .ok (.aload_n 0, 1) := by decide +kernel
theorem dX67_reckon_336 : decode cX67_reckon 336 = .ok (.getfield 92, 3) := by decide +kernel
theorem dX67_reckon_339 : decode cX67_reckon 339 = .ok (.iload 7, 2) := by decide +kernel
theorem dX67_reckon_341 : decode cX67_reckon 341 = .ok (.aload_n 0, 1) := by decide +kernel
theorem dX67_reckon_342 : decode cX67_reckon 342 = .ok (.getfield 537, 3) := by decide +kernel
theorem dX67_reckon_345 : decode cX67_reckon 345 = .ok (.bipush 12, 2) := by decide +kernel
theorem dX67_reckon_347 : decode cX67_reckon 347 = .ok (.if_icmp .ne 7, 3) := by decide +kernel
theorem dX67_reckon_350 : decode cX67_reckon 350 = .ok (.lload_n 3, 1) := by decide +kernel
theorem dX67_reckon_351 : decode cX67_reckon 351 = .ok (.goto 13, 3) := by decide +kernel
theorem dX67_reckon_354 : decode cX67_reckon 354 = .ok (.aload_n 0, 1) := by decide +kernel
theorem dX67_reckon_355 : decode cX67_reckon 355 = .ok (.getfield 92, 3) := by decide +kernel
theorem dX67_reckon_358 : decode cX67_reckon 358 = .ok (.iload 7, 2) := by decide +kernel
theorem dX67_reckon_360 : decode cX67_reckon 360 = .ok (.iaload, 1) := by decide +kernel
theorem dX67_reckon_361 : decode cX67_reckon 361 = .ok (.i2l, 1) := by decide +kernel
theorem dX67_reckon_362 : decode cX67_reckon 362 = .ok (.lload_n 3, 1) := by decide +kernel
theorem dX67_reckon_363 : decode cX67_reckon 363 = .ok (.ladd, 1) := by decide +kernel
theorem dX67_reckon_364 : decode cX67_reckon 364 = .ok (.ldc2_w 582, 3) := by decide +kernel
theorem dX67_reckon_367 : decode cX67_reckon 367 = .ok (.land, 1) := by decide +kernel
theorem dX67_reckon_368 : decode cX67_reckon 368 = .ok (.l2i, 1) := by decide +kernel
theorem dX67_reckon_369 : decode cX67_reckon 369 = .ok (.iastore, 1) := by decide +kernel
theorem dX67_reckon_370 : decode cX67_reckon 370 = .ok (.aload_n 0, 1) := by decide +kernel
theorem dX67_reckon_371 : decode cX67_reckon 371 = .ok (.iload_n 1, 1) := by decide +kernel
theorem dX67_reckon_372 : decode cX67_reckon 372 = .ok (.aload_n 0, 1) := by decide +kernel
theorem dX67_reckon_373 : decode cX67_reckon 373 = .ok (.getfield 92, 3) := by decide +kernel
theorem dX67_reckon_376 : decode cX67_reckon 376 = .ok (.iload 7, 2) := by decide +kernel
theorem dX67_reckon_378 : decode cX67_reckon 378 = .ok (.iaload, 1) := by decide +kernel
theorem dX67_reckon_379 : decode cX67_reckon 379 = .ok (.invokevirtual 599, 3) := by decide +kernel
theorem dX67_reckon_382 : decode cX67_reckon 382 = .ok (.return_, 1) := by decide +kernel
theorem dX67_reckon_383 : decode cX67_reckon 383 = .ok (.aload_n 0, 1) := by decide +kernel
theorem dX67_reckon_384 : decode cX67_reckon 384 = .ok (.iload_n 1, 1) := by decide +kernel
theorem dX67_reckon_385 : decode cX67_reckon 385 = .ok (.aload_n 0, 1) := by decide +kernel
theorem dX67_reckon_386 : decode cX67_reckon 386 = .ok (.getfield 86, 3) := by decide +kernel
theorem dX67_reckon_389 : decode cX67_reckon 389 = .ok (.iload_n 1, 1) := by decide +kernel
theorem dX67_reckon_390 : decode cX67_reckon 390 = .ok (.laload, 1) := by decide +kernel
theorem dX67_reckon_391 : decode cX67_reckon 391 = .ok (.invokevirtual 591, 3) := by decide +kernel
theorem dX67_reckon_394 : decode cX67_reckon 394 = .ok (.return_, 1) := by decide +kernel
theorem zy_X67_reckon : yX67_reckon.cls ≠ "java/lang/invoke/MethodHandle" ∧ yX67_reckon.cls ≠ "java/lang/invoke/VarHandle" ∧ (parseMethodDescriptor yX67_reckon.desc).map (fun d => d.parameters.length) = some 2 := by decide +kernel
theorem w_fX67_reckon_J383 {K : zK} (E : zE K cX67_reckon "RingHouseModel" none 5) (hN : zNl K = 8) (hT : zTr K = none) (x1 : Int) : zR K 383 [(0, 69, 0), (1, 0, x1)] [] (fX67_reckon_J383 x1) := by
  refine r_aload_n E dX67_reckon_383 rfl 0 rfl ?_
  refine r_iload_n E dX67_reckon_384 rfl 1 rfl ?_
  refine r_aload_n E dX67_reckon_385 rfl 0 rfl ?_
  refine r_gec (y := 0) E zc_69 dX67_reckon_386 q3240 zr_69 (zh_6825 (by decide)) (by decide) ?_
  refine r_iload_n E dX67_reckon_389 rfl 1 rfl ?_
  refine r_laload E zc_6825 za_6825 zt_6825 zx_6825 rfl rfl dX67_reckon_390 (by decide) (fun v7 => ?_)
  refine r_callV E [(0, x1), (1, v7)] [] rfl zc_69 zr_69 (fun o _ => ⟨_, zw_X67.1 o, rfl⟩) (lw_V q4031 q4033 qs162 q294 q4034) dX67_reckon_391 zy_X67_flag rfl (by omega) (by decide) (Nat.le_of_ble_eq_true rfl) (by decide) (fun l G => k_fX67_flag l G x1 v7) (fun _ => ?_)
  exact r_return E rfl hT dX67_reckon_394
theorem w_fX67_reckon_J326 {K : zK} (E : zE K cX67_reckon "RingHouseModel" none 5) (hN : zNl K = 8) (hT : zTr K = none) (s1 : Int) (s2 : Int) : zR K 326 [] [(0, s2), (0, s1), (6835, 0)] (fX67_reckon_J326 s1 s2) := by
  refine r_zastore E zc_6835 za_6835 zt_6835 zo_6835 zx_6835 rfl rfl dX67_reckon_326 (by decide) ?_
  exact r_return E rfl hT dX67_reckon_327
theorem w_fX67_reckon_J302 {K : zK} (E : zE K cX67_reckon "RingHouseModel" none 5) (hN : zNl K = 8) (hT : zTr K = none) (x1 : Int) (x3 : Int) (x5 : Int) (s1 : Int) (s2 : Int) : zR K 302 [(0, 69, 0), (1, 0, x1), (3, 1, x3), (5, 1, x5)] [(0, s2), (0, s1), (6834, 0)] (fX67_reckon_J302 x1 x3 x5 s1 s2) := by
  refine r_zastore E zc_6834 za_6834 zt_6834 zo_6834 zx_6834 rfl rfl dX67_reckon_302 (by decide) ?_
  refine r_aload_n E dX67_reckon_303 rfl 0 rfl ?_
  refine r_gec (y := 0) E zc_69 dX67_reckon_304 q3250 zr_69 (zh_6835 (by decide)) (by decide) ?_
  refine r_iload_n E dX67_reckon_307 rfl 1 rfl ?_
  refine r_lload E dX67_reckon_308 3 rfl ?_
  refine r_callS E [(1, x5)] [(0, x1), (6835, 0)] rfl q4056 q4057 q294 q4058 dX67_reckon_310 zy_X67_signed rfl (by omega) (by decide) (Nat.le_of_ble_eq_true rfl) (fun l G => k_fX67_signed l G x5) (fun v25 => ?_)
  refine r_lload_n E dX67_reckon_313 rfl 2 rfl ?_
  refine r_callS E [(1, x3)] [(1, v25), (0, x1), (6835, 0)] rfl q4056 q4057 q294 q4058 dX67_reckon_314 zy_X67_signed rfl (by omega) (by decide) (Nat.le_of_ble_eq_true rfl) (fun l G => k_fX67_signed l G x3) (fun v26 => ?_)
  refine r_lcmp_ge E 325 (by decide) dX67_reckon_317 dX67_reckon_318 (fun _ => ?_) (fun _ => ?_)
  · refine r_iconst E dX67_reckon_325 (zkI (by decide) (by decide)) ?_
    refine r_pick E [] rfl ?_
    exact w_fX67_reckon_J326 E hN hT x1 0
  · refine r_iconst E dX67_reckon_321 (zkI (by decide) (by decide)) ?_
    refine r_goto E 326 (by decide) dX67_reckon_322 ?_
    refine r_pick E [] rfl ?_
    exact w_fX67_reckon_J326 E hN hT x1 1
theorem w_fX67_reckon_J364 {K : zK} (E : zE K cX67_reckon "RingHouseModel" none 5) (hN : zNl K = 8) (hT : zTr K = none) (x1 : Int) (x7 : Int) (s1 : Int) (s2 : Int) : zR K 364 [(0, 69, 0), (1, 0, x1), (7, 0, x7)] [(1, s2), (0, s1), (6827, 0)] (fX67_reckon_J364 x1 x7 s1 s2) := by
  refine r_ldc2 (v := 262143) E dX67_reckon_364 q3807 (by decide) (zkJ (by decide) (by decide)) ?_
  refine r_lmask (P := 262144) E 18 (by decide) (by decide) (by decide) dX67_reckon_367 ?_
  refine r_l2i E dX67_reckon_368 ?_
  refine r_iastore E zc_6827 za_6827 zt_6827 zo_6827 zx_6827 rfl rfl dX67_reckon_369 (by decide) ?_
  refine r_aload_n E dX67_reckon_370 rfl 0 rfl ?_
  refine r_iload_n E dX67_reckon_371 rfl 1 rfl ?_
  refine r_aload_n E dX67_reckon_372 rfl 0 rfl ?_
  refine r_gec (y := 0) E zc_69 dX67_reckon_373 q3242 zr_69 (zh_6827 (by decide)) (by decide) ?_
  refine r_iload E dX67_reckon_376 2 rfl ?_
  refine r_iaload E zc_6827 za_6827 zt_6827 zx_6827 rfl rfl dX67_reckon_378 (by decide) (fun v30 => ?_)
  refine r_callV E [(0, x1), (0, v30)] [] rfl zc_69 zr_69 (fun o _ => ⟨_, zw_X67.1 o, rfl⟩) (lw_V q4040 q4042 qs164 q294 q4043) dX67_reckon_379 zy_X67_flagHalf rfl (by omega) (by decide) (Nat.le_of_ble_eq_true rfl) (by decide) (fun l G => k_fX67_flagHalf l G x1 v30) (fun _ => ?_)
  exact r_return E rfl hT dX67_reckon_382
theorem w_fX67_reckon_J52 {K : zK} (E : zE K cX67_reckon "RingHouseModel" none 5) (hN : zNl K = 8) (hT : zTr K = none) (x1 : Int) (x2 : Int) (x3 : Int) : zR K 52 [(0, 69, 0), (1, 0, x1), (2, 0, x2), (3, 1, x3)] [] (fX67_reckon_J52 x1 x2 x3) := by
  refine r_aload_n E dX67_reckon_52 rfl 0 rfl ?_
  refine r_get E zc_69 zt_6874 dX67_reckon_53 q3289 zr_69 (zg_6874 _) (by decide) (fun v3 => ?_)
  refine r_if_le E 60 (by decide) dX67_reckon_56 (fun _ => ?_) (fun _ => ?_)
  · refine r_aload_n E dX67_reckon_60 rfl 0 rfl ?_
    refine r_gec (y := 0) E zc_69 dX67_reckon_61 q3240 zr_69 (zh_6825 (by decide)) (by decide) ?_
    refine r_iload_n E dX67_reckon_64 rfl 1 rfl ?_
    refine r_laload E zc_6825 za_6825 zt_6825 zx_6825 rfl rfl dX67_reckon_65 (by decide) (fun v4 => ?_)
    refine r_lstore (ls' := [(5, 1, v4), (0, 69, 0), (1, 0, x1), (2, 0, x2), (3, 1, x3)]) E dX67_reckon_66 (by rw [hN]; decide) rfl ?_
    refine r_aload_n E dX67_reckon_68 rfl 1 rfl ?_
    refine r_get E zc_69 zt_6881 dX67_reckon_69 q3296 zr_69 (zg_6881 _) (by decide) (fun v5 => ?_)
    refine r_tabc E dX67_reckon_72 0 128 (by decide) (by decide) rfl (by decide) (fun _ => ?_) (fun ht6 => ?_)
    · refine r_aload_n E dX67_reckon_128 rfl 1 rfl ?_
      refine r_gec (y := 0) E zc_69 dX67_reckon_129 q3240 zr_69 (zh_6825 (by decide)) (by decide) ?_
      refine r_iload_n E dX67_reckon_132 rfl 2 rfl ?_
      refine r_lload_n E dX67_reckon_133 rfl 4 rfl ?_
      refine r_lastore E zc_6825 za_6825 zt_6825 zo_6825 zx_6825 rfl rfl dX67_reckon_134 (by decide) ?_
      refine r_goto E 383 (by decide) dX67_reckon_135 ?_
      refine r_pick E [1, 2] rfl ?_
      exact w_fX67_reckon_J383 E hN hT x1
    · refine r_tabc E dX67_reckon_72 1 138 (by decide) (by decide) rfl (by decide) (fun _ => ?_) (fun ht9 => ?_)
      · refine r_aload_n E dX67_reckon_138 rfl 1 rfl ?_
        refine r_gec (y := 0) E zc_69 dX67_reckon_139 q3241 zr_69 (zh_6826 (by decide)) (by decide) ?_
        refine r_iload_n E dX67_reckon_142 rfl 2 rfl ?_
        refine r_lload_n E dX67_reckon_143 rfl 4 rfl ?_
        refine r_lastore E zc_6826 za_6826 zt_6826 zo_6826 zx_6826 rfl rfl dX67_reckon_144 (by decide) ?_
        refine r_aload_n E dX67_reckon_145 rfl 1 rfl ?_
        refine r_iload_n E dX67_reckon_146 rfl 2 rfl ?_
        refine r_lload_n E dX67_reckon_147 rfl 4 rfl ?_
        refine r_callV E [(0, x1), (1, x3)] [] rfl zc_69 zr_69 (fun o _ => ⟨_, zw_X67.1 o, rfl⟩) (lw_V q4031 q4033 qs162 q294 q4034) dX67_reckon_148 zy_X67_flag rfl (by omega) (by decide) (Nat.le_of_ble_eq_true rfl) (by decide) (fun l G => k_fX67_flag l G x1 x3) (fun _ => ?_)
        exact r_return E rfl hT dX67_reckon_151
      · refine r_tabc E dX67_reckon_72 2 152 (by decide) (by decide) rfl (by decide) (fun _ => ?_) (fun ht11 => ?_)
        · refine r_aload_n E dX67_reckon_152 rfl 1 rfl ?_
          refine r_gec (y := 0) E zc_69 dX67_reckon_153 q3240 zr_69 (zh_6825 (by decide)) (by decide) ?_
          refine r_iload_n E dX67_reckon_156 rfl 2 rfl ?_
          refine r_lload E dX67_reckon_157 0 rfl ?_
          refine r_lload_n E dX67_reckon_159 rfl 4 rfl ?_
          refine r_ladd E dX67_reckon_160 ?_
          refine r_ldc2 (v := 68719476735) E dX67_reckon_161 q3628 (by decide) (zkJ (by decide) (by decide)) ?_
          refine r_lmask (P := 68719476736) E 36 (by decide) (by decide) (by decide) dX67_reckon_164 ?_
          refine r_lastore E zc_6825 za_6825 zt_6825 zo_6825 zx_6825 rfl rfl dX67_reckon_165 (by decide) ?_
          refine r_goto E 383 (by decide) dX67_reckon_166 ?_
          refine r_pick E [1, 2] rfl ?_
          exact w_fX67_reckon_J383 E hN hT x1
        · refine r_tabc E dX67_reckon_72 3 169 (by decide) (by decide) rfl (by decide) (fun _ => ?_) (fun ht12 => ?_)
          · refine r_aload_n E dX67_reckon_169 rfl 1 rfl ?_
            refine r_gec (y := 0) E zc_69 dX67_reckon_170 q3240 zr_69 (zh_6825 (by decide)) (by decide) ?_
            refine r_iload_n E dX67_reckon_173 rfl 2 rfl ?_
            refine r_lload E dX67_reckon_174 0 rfl ?_
            refine r_lload_n E dX67_reckon_176 rfl 4 rfl ?_
            refine r_lsub E dX67_reckon_177 ?_
            refine r_ldc2 (v := 68719476735) E dX67_reckon_178 q3628 (by decide) (zkJ (by decide) (by decide)) ?_
            refine r_lmask (P := 68719476736) E 36 (by decide) (by decide) (by decide) dX67_reckon_181 ?_
            refine r_lastore E zc_6825 za_6825 zt_6825 zo_6825 zx_6825 rfl rfl dX67_reckon_182 (by decide) ?_
            refine r_goto E 383 (by decide) dX67_reckon_183 ?_
            refine r_pick E [1, 2] rfl ?_
            exact w_fX67_reckon_J383 E hN hT x1
          · refine r_tabc E dX67_reckon_72 4 186 (by decide) (by decide) rfl (by decide) (fun _ => ?_) (fun ht13 => ?_)
            · refine r_aload_n E dX67_reckon_186 rfl 1 rfl ?_
              refine r_gec (y := 0) E zc_69 dX67_reckon_187 q3240 zr_69 (zh_6825 (by decide)) (by decide) ?_
              refine r_iload_n E dX67_reckon_190 rfl 2 rfl ?_
              refine r_lload E dX67_reckon_191 0 rfl ?_
              refine r_lload_n E dX67_reckon_193 rfl 4 rfl ?_
              refine r_lmul E dX67_reckon_194 ?_
              refine r_ldc2 (v := 68719476735) E dX67_reckon_195 q3628 (by decide) (zkJ (by decide) (by decide)) ?_
              refine r_lmask (P := 68719476736) E 36 (by decide) (by decide) (by decide) dX67_reckon_198 ?_
              refine r_lastore E zc_6825 za_6825 zt_6825 zo_6825 zx_6825 rfl rfl dX67_reckon_199 (by decide) ?_
              refine r_goto E 383 (by decide) dX67_reckon_200 ?_
              refine r_pick E [1, 2] rfl ?_
              exact w_fX67_reckon_J383 E hN hT x1
            · refine r_tabc E dX67_reckon_72 5 203 (by decide) (by decide) rfl (by decide) (fun _ => ?_) (fun ht14 => ?_)
              · refine r_aload_n E dX67_reckon_203 rfl 1 rfl ?_
                refine r_gec (y := 0) E zc_69 dX67_reckon_204 q3240 zr_69 (zh_6825 (by decide)) (by decide) ?_
                refine r_iload_n E dX67_reckon_207 rfl 2 rfl ?_
                refine r_lload E dX67_reckon_208 0 rfl ?_
                refine r_callS E [(1, v4)] [(0, x1), (6825, 0)] rfl q4056 q4057 q294 q4058 dX67_reckon_210 zy_X67_signed rfl (by omega) (by decide) (Nat.le_of_ble_eq_true rfl) (fun l G => k_fX67_signed l G v4) (fun v15 => ?_)
                refine r_lload_n E dX67_reckon_213 rfl 4 rfl ?_
                refine r_callS E [(1, x3)] [(1, v15), (0, x1), (6825, 0)] rfl q4056 q4057 q294 q4058 dX67_reckon_214 zy_X67_signed rfl (by omega) (by decide) (Nat.le_of_ble_eq_true rfl) (fun l G => k_fX67_signed l G x3) (fun v16 => ?_)
                refine r_ne E (fun hq17 => ?_)
                refine r_ldiv E hq17 dX67_reckon_217 ?_
                refine r_ldc2 (v := 68719476735) E dX67_reckon_218 q3628 (by decide) (zkJ (by decide) (by decide)) ?_
                refine r_lmask (P := 68719476736) E 36 (by decide) (by decide) (by decide) dX67_reckon_221 ?_
                refine r_lastore E zc_6825 za_6825 zt_6825 zo_6825 zx_6825 rfl rfl dX67_reckon_222 (by decide) ?_
                refine r_aload_n E dX67_reckon_223 rfl 1 rfl ?_
                refine r_gec (y := 0) E zc_69 dX67_reckon_224 q3241 zr_69 (zh_6826 (by decide)) (by decide) ?_
                refine r_iload_n E dX67_reckon_227 rfl 2 rfl ?_
                refine r_lload E dX67_reckon_228 0 rfl ?_
                refine r_callS E [(1, v4)] [(0, x1), (6826, 0)] rfl q4056 q4057 q294 q4058 dX67_reckon_230 zy_X67_signed rfl (by omega) (by decide) (Nat.le_of_ble_eq_true rfl) (fun l G => k_fX67_signed l G v4) (fun v18 => ?_)
                refine r_lload_n E dX67_reckon_233 rfl 4 rfl ?_
                refine r_callS E [(1, x3)] [(1, v18), (0, x1), (6826, 0)] rfl q4056 q4057 q294 q4058 dX67_reckon_234 zy_X67_signed rfl (by omega) (by decide) (Nat.le_of_ble_eq_true rfl) (fun l G => k_fX67_signed l G x3) (fun v19 => ?_)
                refine r_ne E (fun hq20 => ?_)
                refine r_lrem E hq20 dX67_reckon_237 ?_
                refine r_ldc2 (v := 68719476735) E dX67_reckon_238 q3628 (by decide) (zkJ (by decide) (by decide)) ?_
                refine r_lmask (P := 68719476736) E 36 (by decide) (by decide) (by decide) dX67_reckon_241 ?_
                refine r_lastore E zc_6826 za_6826 zt_6826 zo_6826 zx_6826 rfl rfl dX67_reckon_242 (by decide) ?_
                refine r_goto E 383 (by decide) dX67_reckon_243 ?_
                refine r_pick E [1, 2] rfl ?_
                exact w_fX67_reckon_J383 E hN hT x1
              · refine r_tabc E dX67_reckon_72 6 246 (by decide) (by decide) rfl (by decide) (fun _ => ?_) (fun ht21 => ?_)
                · refine r_aload_n E dX67_reckon_246 rfl 1 rfl ?_
                  refine r_gec (y := 0) E zc_69 dX67_reckon_247 q3240 zr_69 (zh_6825 (by decide)) (by decide) ?_
                  refine r_iload_n E dX67_reckon_250 rfl 2 rfl ?_
                  refine r_lload E dX67_reckon_251 0 rfl ?_
                  refine r_lload_n E dX67_reckon_253 rfl 4 rfl ?_
                  refine r_land E dX67_reckon_254 ?_
                  refine r_lastore E zc_6825 za_6825 zt_6825 zo_6825 zx_6825 rfl rfl dX67_reckon_255 (by decide) ?_
                  refine r_goto E 383 (by decide) dX67_reckon_256 ?_
                  refine r_pick E [1, 2] rfl ?_
                  exact w_fX67_reckon_J383 E hN hT x1
                · refine r_tabc E dX67_reckon_72 7 259 (by decide) (by decide) rfl (by decide) (fun _ => ?_) (fun ht22 => ?_)
                  · refine r_aload_n E dX67_reckon_259 rfl 1 rfl ?_
                    refine r_gec (y := 0) E zc_69 dX67_reckon_260 q3240 zr_69 (zh_6825 (by decide)) (by decide) ?_
                    refine r_iload_n E dX67_reckon_263 rfl 2 rfl ?_
                    refine r_lload E dX67_reckon_264 0 rfl ?_
                    refine r_lload_n E dX67_reckon_266 rfl 4 rfl ?_
                    refine r_lor E dX67_reckon_267 ?_
                    refine r_lastore E zc_6825 za_6825 zt_6825 zo_6825 zx_6825 rfl rfl dX67_reckon_268 (by decide) ?_
                    refine r_goto E 383 (by decide) dX67_reckon_269 ?_
                    refine r_pick E [1, 2] rfl ?_
                    exact w_fX67_reckon_J383 E hN hT x1
                  · refine r_tabc E dX67_reckon_72 8 272 (by decide) (by decide) rfl (by decide) (fun _ => ?_) (fun ht23 => ?_)
                    · refine r_aload_n E dX67_reckon_272 rfl 1 rfl ?_
                      refine r_gec (y := 0) E zc_69 dX67_reckon_273 q3240 zr_69 (zh_6825 (by decide)) (by decide) ?_
                      refine r_iload_n E dX67_reckon_276 rfl 2 rfl ?_
                      refine r_lload E dX67_reckon_277 0 rfl ?_
                      refine r_lload_n E dX67_reckon_279 rfl 4 rfl ?_
                      refine r_lxor E dX67_reckon_280 ?_
                      refine r_lastore E zc_6825 za_6825 zt_6825 zo_6825 zx_6825 rfl rfl dX67_reckon_281 (by decide) ?_
                      refine r_goto E 383 (by decide) dX67_reckon_282 ?_
                      refine r_pick E [1, 2] rfl ?_
                      exact w_fX67_reckon_J383 E hN hT x1
                    · refine r_tabc E dX67_reckon_72 9 285 (by decide) (by decide) rfl (by decide) (fun _ => ?_) (fun ht24 => ?_)
                      · refine r_aload_n E dX67_reckon_285 rfl 1 rfl ?_
                        refine r_gec (y := 0) E zc_69 dX67_reckon_286 q3249 zr_69 (zh_6834 (by decide)) (by decide) ?_
                        refine r_iload_n E dX67_reckon_289 rfl 2 rfl ?_
                        refine r_lload E dX67_reckon_290 0 rfl ?_
                        refine r_lload_n E dX67_reckon_292 rfl 4 rfl ?_
                        refine r_lcmp_ne E 301 (by decide) dX67_reckon_293 dX67_reckon_294 (fun _ => ?_) (fun _ => ?_)
                        · refine r_iconst E dX67_reckon_301 (zkI (by decide) (by decide)) ?_
                          refine r_pick E [1, 2, 4, 0] rfl ?_
                          exact w_fX67_reckon_J302 E hN hT x1 x3 v4 x1 0
                        · refine r_iconst E dX67_reckon_297 (zkI (by decide) (by decide)) ?_
                          refine r_goto E 302 (by decide) dX67_reckon_298 ?_
                          refine r_pick E [1, 2, 4, 0] rfl ?_
                          exact w_fX67_reckon_J302 E hN hT x1 x3 v4 x1 1
                      · refine r_tabd E dX67_reckon_72 328 [2, 3, 4, 5, 6, 7, 8, 9, 10, 11] (by decide) (by decide) (by decide) ⟨ht6, ht9, ht11, ht12, ht13, ht14, ht21, ht22, ht23, ht24, trivial⟩ ?_
                        refine r_iconst E dX67_reckon_328 (zkI (by decide) (by decide)) ?_
                        refine r_iload_n E dX67_reckon_329 rfl 2 rfl ?_
                        refine r_imul E dX67_reckon_330 ?_
                        refine r_iload_n E dX67_reckon_331 rfl 3 rfl ?_
                        refine r_iadd E dX67_reckon_332 ?_
                        refine r_let E (fun v27 ev27 => ?_)
                        refine r_istore (ls' := [(7, 0, v27), (5, 1, v4), (0, 69, 0), (1, 0, x1), (2, 0, x2), (3, 1, x3)]) E dX67_reckon_333 (by rw [hN]; decide) rfl ?_
                        refine r_aload_n E dX67_reckon_335 rfl 2 rfl ?_
                        refine r_gec (y := 0) E zc_69 dX67_reckon_336 q3242 zr_69 (zh_6827 (by decide)) (by decide) ?_
                        refine r_iload E dX67_reckon_339 0 rfl ?_
                        refine r_aload_n E dX67_reckon_341 rfl 2 rfl ?_
                        refine r_get E zc_69 zt_6881 dX67_reckon_342 q3296 zr_69 (zg_6881 _) (by decide) (fun v28 => ?_)
                        refine r_bipush E dX67_reckon_345 (by decide) (zkI (by decide) (by decide)) ?_
                        refine r_icmp_ne E 354 (by decide) dX67_reckon_347 (fun _ => ?_) (fun _ => ?_)
                        · refine r_aload_n E dX67_reckon_354 rfl 2 rfl ?_
                          refine r_gec (y := 0) E zc_69 dX67_reckon_355 q3242 zr_69 (zh_6827 (by decide)) (by decide) ?_
                          refine r_iload E dX67_reckon_358 0 rfl ?_
                          refine r_iaload E zc_6827 za_6827 zt_6827 zx_6827 rfl rfl dX67_reckon_360 (by decide) (fun v29 => ?_)
                          refine r_i2l E dX67_reckon_361 ?_
                          refine r_lload_n E dX67_reckon_362 rfl 5 rfl ?_
                          refine r_ladd E dX67_reckon_363 ?_
                          refine r_pick E [2, 3, 0] rfl ?_
                          exact w_fX67_reckon_J364 E hN hT x1 v27 v27 (zl (v29 + x3))
                        · refine r_lload_n E dX67_reckon_350 rfl 5 rfl ?_
                          refine r_goto E 364 (by decide) dX67_reckon_351 ?_
                          refine r_pick E [2, 3, 0] rfl ?_
                          exact w_fX67_reckon_J364 E hN hT x1 v27 v27 x3
  · exact r_return E rfl hT dX67_reckon_59
theorem w_fX67_reckon {K : zK} (E : zE K cX67_reckon "RingHouseModel" none 5) (hN : zNl K = 8) (hT : zTr K = none) (x1 : Int) (x2 : Int) : zR K 0 [(0, 69, 0), (1, 0, x1), (2, 0, x2)] [] (fX67_reckon x1 x2) := by
  refine r_aload_n E dX67_reckon_0 rfl 0 rfl ?_
  refine r_iload_n E dX67_reckon_1 rfl 1 rfl ?_
  refine r_callV E [(0, x1)] [] rfl zc_69 zr_69 (fun o _ => ⟨_, zw_X67.1 o, rfl⟩) (lw_V q4063 q4065 qs167 q294 q4066) dX67_reckon_2 zy_X67_value rfl (by omega) (by decide) (Nat.le_of_ble_eq_true rfl) (by decide) (fun l G => k_fX67_value l G x1) (fun v1 => ?_)
  refine r_lstore_n (ls' := [(3, 1, v1), (0, 69, 0), (1, 0, x1), (2, 0, x2)]) E dX67_reckon_5 rfl (by rw [hN]; decide) rfl ?_
  refine r_aload_n E dX67_reckon_6 rfl 1 rfl ?_
  refine r_get E zc_69 zt_6881 dX67_reckon_7 q3296 zr_69 (zg_6881 _) (by decide) (fun v2 => ?_)
  refine r_bipush E dX67_reckon_10 (by decide) (zkI (by decide) (by decide)) ?_
  refine r_icmp_ne E 52 (by decide) dX67_reckon_12 (fun _ => ?_) (fun _ => ?_)
  · refine r_pick E [1, 2, 3, 0] rfl ?_
    exact w_fX67_reckon_J52 E hN hT x1 x2 v1
  · refine r_lload_n E dX67_reckon_15 rfl 0 rfl ?_
    refine r_lconst (v := 0) E dX67_reckon_16 (by decide) (zkJ (by decide) (by decide)) ?_
    refine r_lcmp_ne E 52 (by decide) dX67_reckon_17 dX67_reckon_18 (fun _ => ?_) (fun _ => ?_)
    · refine r_pick E [1, 2, 3, 0] rfl ?_
      exact w_fX67_reckon_J52 E hN hT x1 x2 v1
    · refine r_aload_n E dX67_reckon_21 rfl 1 rfl ?_
      refine r_get E zc_69 zt_6874 dX67_reckon_22 q3289 zr_69 (zg_6874 _) (by decide) (fun v32 => ?_)
      refine r_if_ne E 52 (by decide) dX67_reckon_25 (fun _ => ?_) (fun _ => ?_)
      · refine r_pick E [1, 2, 3, 0] rfl ?_
        exact w_fX67_reckon_J52 E hN hT x1 x2 v1
      · refine r_aload_n E dX67_reckon_28 rfl 1 rfl ?_
        refine r_bipush E dX67_reckon_29 (by decide) (zkI (by decide) (by decide)) ?_
        refine r_aload_n E dX67_reckon_31 rfl 1 rfl ?_
        refine r_gec (y := 0) E zc_69 dX67_reckon_32 q3246 zr_69 (zh_6831 (by decide)) (by decide) ?_
        refine r_iload_n E dX67_reckon_35 rfl 2 rfl ?_
        refine r_iaload E zc_6831 za_6831 zt_6831 zx_6831 rfl rfl dX67_reckon_36 (by decide) (fun v33 => ?_)
        refine r_aload_n E dX67_reckon_37 rfl 1 rfl ?_
        refine r_gec (y := 0) E zc_69 dX67_reckon_38 q3247 zr_69 (zh_6832 (by decide)) (by decide) ?_
        refine r_iload_n E dX67_reckon_41 rfl 2 rfl ?_
        refine r_iaload E zc_6832 za_6832 zt_6832 zx_6832 rfl rfl dX67_reckon_42 (by decide) (fun v34 => ?_)
        refine r_aload_n E dX67_reckon_43 rfl 1 rfl ?_
        refine r_gec (y := 0) E zc_69 dX67_reckon_44 q3248 zr_69 (zh_6833 (by decide)) (by decide) ?_
        refine r_iload_n E dX67_reckon_47 rfl 2 rfl ?_
        refine r_iaload E zc_6833 za_6833 zt_6833 zx_6833 rfl rfl dX67_reckon_48 (by decide) (fun v35 => ?_)
        refine r_callV E [(0, 12), (0, v33), (0, v34), (0, v35)] [] rfl zc_69 zr_69 (fun o _ => ⟨_, zw_X67.1 o, rfl⟩) (lw_V q3851 q3853 qs123 q294 q3854) dX67_reckon_49 zy_X67_fail rfl (by omega) (by decide) (Nat.le_of_ble_eq_true rfl) (by decide) (fun l G => k_fX67_fail l G 12 v33 v34 v35) (fun _ => ?_)
        refine r_pick E [1, 2, 3, 0] rfl ?_
        exact w_fX67_reckon_J52 E hN hT x1 x2 v1
theorem k_fX67_reckon (l : Launch) (G : zG) (x1 : Int) (x2 : Int) : zCt l G yX67_reckon cX67_reckon 8 none 5 [(69, 0), (0, x1), (0, x2)] none (fX67_reckon x1 x2) := zCt.of (by decide) (Nat.le_of_ble_eq_true rfl) (fun K E _ _ hN hT => w_fX67_reckon E hN hT x1 x2)
theorem dX67_shifted_0 : decode cX67_shifted 0 = .ok (.iload_n 2, 1) := by decide +kernel
theorem dX67_shifted_1 : decode cX67_shifted 1 = .ok (.bipush 22, 2) := by decide +kernel
theorem dX67_shifted_3 : decode cX67_shifted 3 = .ok (.if_icmp .ne 21, 3) := by decide +kernel
theorem dX67_shifted_6 : decode cX67_shifted 6 = .ok (.iload_n 3, 1) := by decide +kernel
theorem dX67_shifted_7 : decode cX67_shifted 7 = .ok (.bipush 35, 2) := by decide +kernel
theorem dX67_shifted_9 : decode cX67_shifted 9 = .ok (.if_icmp .le 7, 3) := by decide +kernel
theorem dX67_shifted_12 : decode cX67_shifted 12 = .ok (.lconst 0, 1) := by decide +kernel
theorem dX67_shifted_13 : decode cX67_shifted 13 = .ok (.goto 10, 3) := by decide +kernel
theorem dX67_shifted_16 : decode cX67_shifted 16 = .ok (.lload_n 0, 1) := by decide +kernel
theorem dX67_shifted_17 : decode cX67_shifted 17 = .ok (.iload_n 3, 1) := by decide +kernel
theorem dX67_shifted_18 : decode cX67_shifted 18 = .ok (.lshl, 1) := by decide +kernel
theorem dX67_shifted_19 : decode cX67_shifted 19 = .ok (.ldc2_w 361, 3) := by decide +kernel
theorem dX67_shifted_22 : decode cX67_shifted 22 = .ok (.land, 1) := by decide +kernel
theorem dX67_shifted_23 : decode cX67_shifted 23 = .ok (.lreturn, 1) := by decide +kernel
theorem dX67_shifted_24 : decode cX67_shifted 24 = .ok (.iload_n 2, 1) := by decide +kernel
theorem dX67_shifted_25 : decode cX67_shifted 25 = .ok (.bipush 24, 2) := by decide +kernel
theorem dX67_shifted_27 : decode cX67_shifted 27 = .ok (.if_icmp .ne 17, 3) := by decide +kernel
theorem dX67_shifted_30 : decode cX67_shifted 30 = .ok (.iload_n 3, 1) := by decide +kernel
theorem dX67_shifted_31 : decode cX67_shifted 31 = .ok (.bipush 35, 2) := by decide +kernel
theorem dX67_shifted_33 : decode cX67_shifted 33 = .ok (.if_icmp .le 7, 3) := by decide +kernel
theorem dX67_shifted_36 : decode cX67_shifted 36 = .ok (.lconst 0, 1) := by decide +kernel
theorem dX67_shifted_37 : decode cX67_shifted 37 = .ok (.goto 6, 3) := by decide +kernel
theorem dX67_shifted_40 : decode cX67_shifted 40 = .ok (.lload_n 0, 1) := by decide +kernel
theorem dX67_shifted_41 : decode cX67_shifted 41 = .ok (.iload_n 3, 1) := by decide +kernel
theorem dX67_shifted_42 : decode cX67_shifted 42 = .ok (.lshr, 1) := by decide +kernel
theorem dX67_shifted_43 : decode cX67_shifted 43 = .ok (.lreturn, 1) := by decide +kernel
theorem dX67_shifted_44 : decode cX67_shifted 44 = .ok (.lload_n 0, 1) := by decide +kernel
theorem dX67_shifted_45 : decode cX67_shifted 45 = .ok (.invokestatic 595, 3) := by decide +kernel
theorem dX67_shifted_48 : decode cX67_shifted 48 = .ok (.iload_n 3, 1) := by decide +kernel
theorem dX67_shifted_49 : decode cX67_shifted 49 = .ok (.bipush 40, 2) := by decide +kernel
theorem dX67_shifted_51 : decode cX67_shifted 51 = .ok (.if_icmp .le 8, 3) := by decide +kernel
theorem dX67_shifted_54 : decode cX67_shifted 54 = .ok (.bipush 40, 2) := by decide +kernel
theorem dX67_shifted_56 : decode cX67_shifted 56 = .ok (.goto 4, 3) := by decide +kernel
theorem dX67_shifted_59 : decode cX67_shifted 59 = .ok (.iload_n 3, 1) := by decide +kernel
theorem dX67_shifted_60 : decode cX67_shifted 60 = .ok (.lshr, 1) := by decide +kernel
theorem dX67_shifted_61 : decode cX67_shifted 61 = .ok (.ldc2_w 361, 3) := by decide +kernel
theorem dX67_shifted_64 : decode cX67_shifted 64 = .ok (.land, 1) := by decide +kernel
theorem dX67_shifted_65 : decode cX67_shifted 65 = .ok (.lreturn, 1) := by decide +kernel
theorem zy_X67_shifted : yX67_shifted.cls ≠ "java/lang/invoke/MethodHandle" ∧ yX67_shifted.cls ≠ "java/lang/invoke/VarHandle" ∧ (parseMethodDescriptor yX67_shifted.desc).map (fun d => d.parameters.length) = some 3 := by decide +kernel
theorem w_fX67_shifted_J60 {K : zK} (E : zE K cX67_shifted "RingHouseModel" (some .long) 1) (hN : zNl K = 4) (hT : zTr K = (some 1)) (s0 : Int) (s1 : Int) : zR K 60 [] [(0, s1), (1, s0)] (fX67_shifted_J60 s0 s1) := by
  refine r_lshr E rfl dX67_shifted_60 ?_
  refine r_ldc2 (v := 68719476735) E dX67_shifted_61 q3628 (by decide) (zkJ (by decide) (by decide)) ?_
  refine r_lmask (P := 68719476736) E 36 (by decide) (by decide) (by decide) dX67_shifted_64 ?_
  exact r_lreturn E rfl hT dX67_shifted_65
theorem w_fX67_shifted {K : zK} (E : zE K cX67_shifted "RingHouseModel" (some .long) 1) (hN : zNl K = 4) (hT : zTr K = (some 1)) (x0 : Int) (x2 : Int) (x3 : Int) : zR K 0 [(0, 1, x0), (2, 0, x2), (3, 0, x3)] [] (fX67_shifted x0 x2 x3) := by
  refine r_iload_n E dX67_shifted_0 rfl 1 rfl ?_
  refine r_bipush E dX67_shifted_1 (by decide) (zkI (by decide) (by decide)) ?_
  refine r_icmp_ne E 24 (by decide) dX67_shifted_3 (fun _ => ?_) (fun _ => ?_)
  · refine r_iload_n E dX67_shifted_24 rfl 1 rfl ?_
    refine r_bipush E dX67_shifted_25 (by decide) (zkI (by decide) (by decide)) ?_
    refine r_icmp_ne E 44 (by decide) dX67_shifted_27 (fun _ => ?_) (fun _ => ?_)
    · refine r_lload_n E dX67_shifted_44 rfl 0 rfl ?_
      refine r_callS E [(1, x0)] [] rfl q4056 q4057 q294 q4058 dX67_shifted_45 zy_X67_signed rfl (by omega) (by decide) (Nat.le_of_ble_eq_true rfl) (fun l G => k_fX67_signed l G x0) (fun v1 => ?_)
      refine r_iload_n E dX67_shifted_48 rfl 2 rfl ?_
      refine r_bipush E dX67_shifted_49 (by decide) (zkI (by decide) (by decide)) ?_
      refine r_icmp_le E 59 (by decide) dX67_shifted_51 (fun _ => ?_) (fun _ => ?_)
      · refine r_iload_n E dX67_shifted_59 rfl 2 rfl ?_
        refine r_pick E [] rfl ?_
        exact w_fX67_shifted_J60 E hN hT v1 x3
      · refine r_bipush E dX67_shifted_54 (by decide) (zkI (by decide) (by decide)) ?_
        refine r_goto E 60 (by decide) dX67_shifted_56 ?_
        refine r_pick E [] rfl ?_
        exact w_fX67_shifted_J60 E hN hT v1 40
    · refine r_iload_n E dX67_shifted_30 rfl 2 rfl ?_
      refine r_bipush E dX67_shifted_31 (by decide) (zkI (by decide) (by decide)) ?_
      refine r_icmp_le E 40 (by decide) dX67_shifted_33 (fun _ => ?_) (fun _ => ?_)
      · refine r_lload_n E dX67_shifted_40 rfl 0 rfl ?_
        refine r_iload_n E dX67_shifted_41 rfl 2 rfl ?_
        refine r_lshr E rfl dX67_shifted_42 ?_
        exact r_lreturn E rfl hT dX67_shifted_43
      · refine r_lconst (v := 0) E dX67_shifted_36 (by decide) (zkJ (by decide) (by decide)) ?_
        refine r_goto E 43 (by decide) dX67_shifted_37 ?_
        exact r_lreturn E rfl hT dX67_shifted_43
  · refine r_iload_n E dX67_shifted_6 rfl 2 rfl ?_
    refine r_bipush E dX67_shifted_7 (by decide) (zkI (by decide) (by decide)) ?_
    refine r_icmp_le E 16 (by decide) dX67_shifted_9 (fun _ => ?_) (fun _ => ?_)
    · refine r_lload_n E dX67_shifted_16 rfl 0 rfl ?_
      refine r_iload_n E dX67_shifted_17 rfl 2 rfl ?_
      refine r_lshl E rfl dX67_shifted_18 ?_
      refine r_ldc2 (v := 68719476735) E dX67_shifted_19 q3628 (by decide) (zkJ (by decide) (by decide)) ?_
      refine r_lmask (P := 68719476736) E 36 (by decide) (by decide) (by decide) dX67_shifted_22 ?_
      exact r_lreturn E rfl hT dX67_shifted_23
    · refine r_lconst (v := 0) E dX67_shifted_12 (by decide) (zkJ (by decide) (by decide)) ?_
      refine r_goto E 23 (by decide) dX67_shifted_13 ?_
      exact r_lreturn E rfl hT dX67_shifted_23
theorem k_fX67_shifted (l : Launch) (G : zG) (x0 : Int) (x2 : Int) (x3 : Int) : zCt l G yX67_shifted cX67_shifted 4 (some .long) 1 [(1, x0), (0, x2), (0, x3)] (some 1) (fX67_shifted x0 x2 x3) := zCt.of (by decide) (Nat.le_of_ble_eq_true rfl) (fun K E _ _ hN hT => w_fX67_shifted E hN hT x0 x2 x3)
theorem dX67_place_0 : decode cX67_place 0 = .ok (.aload_n 0, 1) := by decide +kernel
theorem dX67_place_1 : decode cX67_place 1 = .ok (.getfield 537, 3) := by decide +kernel
theorem dX67_place_4 : decode cX67_place 4 = .ok (.tableswitch 167 20 26 #[44, 70, 167, 167, 167, 95, 143], 44) := by decide +kernel
theorem dX67_place_48 : decode cX67_place 48 = .ok (.aload_n 0, 1) := by decide +kernel
theorem dX67_place_49 : decode cX67_place 49 = .ok (.getfield 92, 3) := by decide +kernel
theorem dX67_place_52 : decode cX67_place 52 = .ok (.iconst 4, 1) := by decide +kernel
theorem dX67_place_53 : decode cX67_place 53 = .ok (.iload_n 1, 1) := by decide +kernel
theorem dX67_place_54 : decode cX67_place 54 = .ok (.imul, 1) := by decide +kernel
theorem dX67_place_55 : decode cX67_place 55 = .ok (.iload_n 2, 1) := by decide +kernel
theorem dX67_place_56 : decode cX67_place 56 = .ok (.iadd, 1) := by decide +kernel
theorem dX67_place_57 : decode cX67_place 57 = .ok (.aload_n 0, 1) := by decide +kernel
theorem dX67_place_58 : decode cX67_place 58 = .ok (.getfield 558, 3) := by decide +kernel
theorem dX67_place_61 : decode cX67_place 61 = .ok (.iastore, 1) := by decide +kernel
theorem dX67_place_62 : decode cX67_place 62 = .ok (.aload_n 0, 1) := by decide +kernel
theorem dX67_place_63 : decode cX67_place 63 = .ok (.iload_n 1, 1) := by decide +kernel
theorem dX67_place_64 : decode cX67_place 64 = .ok (.aload_n 0, 1) := by decide +kernel
theorem dX67_place_65 : decode cX67_place 65 = .ok (.getfield 558, 3) := by decide +kernel
theorem dX67_place_68 : decode cX67_place 68 = .ok (.invokevirtual 599, 3) := by decide +kernel
theorem dX67_place_71 : decode cX67_place 71 = .ok (.goto 134, 3) := by decide +kernel
theorem dX67_place_74 : decode cX67_place 74 = .ok (.aload_n 0, 1) := by decide +kernel
theorem dX67_place_75 : decode cX67_place 75 = .ok (.getfield 86, 3) := by decide +kernel
theorem dX67_place_78 : decode cX67_place 78 = .ok (.iload_n 1, 1) := by decide +kernel
theorem dX67_place_79 : decode cX67_place 79 = .ok (.aload_n 0, 1) := by decide +kernel
theorem dX67_place_80 : decode cX67_place 80 = .ok (.getfield 558, 3) := by decide +kernel
theorem dX67_place_83 : decode cX67_place 83 = .ok (.i2l, 1) := by decide +kernel
theorem dX67_place_84 : decode cX67_place 84 = .ok (.lastore, 1) := by decide +kernel
theorem dX67_place_85 : decode cX67_place 85 = .ok (.aload_n 0, 1) := by decide +kernel
theorem dX67_place_86 : decode cX67_place 86 = .ok (.iload_n 1, 1) := by decide +kernel
theorem dX67_place_87 : decode cX67_place 87 = .ok (.aload_n 0, 1) := by decide +kernel
theorem dX67_place_88 : decode cX67_place 88 = .ok (.getfield 86, 3) := by decide +kernel
theorem dX67_place_91 : decode cX67_place 91 = .ok (.iload_n 1, 1) := by decide +kernel
theorem dX67_place_92 : decode cX67_place 92 = .ok (.laload, 1) := by decide +kernel
theorem dX67_place_93 : decode cX67_place 93 = .ok (.invokevirtual 591, 3) := by decide +kernel
theorem dX67_place_96 : decode cX67_place 96 = .ok (.goto 109, 3) := by decide +kernel
theorem dX67_place_99 : decode cX67_place 99 = .ok (.aload_n 0, 1) := by decide +kernel
theorem dX67_place_100 : decode cX67_place 100 = .ok (.getfield 95, 3) := by decide +kernel
theorem dX67_place_103 : decode cX67_place 103 = .ok (.bipush 8, 2) := by decide +kernel
theorem dX67_place_105 : decode cX67_place 105 = .ok (.iload_n 1, 1) := by decide +kernel
theorem dX67_place_106 : decode cX67_place 106 = .ok (.imul, 1) := by decide +kernel
theorem dX67_place_107 : decode cX67_place 107 = .ok (.iload_n 2, 1) := by decide +kernel
theorem dX67_place_108 : decode cX67_place 108 = .ok (.iadd, 1) := by decide +kernel
theorem dX67_place_109 : decode cX67_place 109 = .ok (.aload_n 0, 1) := by decide +kernel
theorem dX67_place_110 : decode cX67_place 110 = .ok (.getfield 555, 3) := by decide +kernel
theorem dX67_place_113 : decode cX67_place 113 = .ok (.iastore, 1) := by decide +kernel
theorem dX67_place_114 : decode cX67_place 114 = .ok (.aload_n 0, 1) := by decide +kernel
theorem dX67_place_115 : decode cX67_place 115 = .ok (.getfield 98, 3) := by decide +kernel
theorem dX67_place_118 : decode cX67_place 118 = .ok (.bipush 8, 2) := by decide +kernel
theorem dX67_place_120 : decode cX67_place 120 = .ok (.iload_n 1, 1) := by decide +kernel
theorem dX67_place_121 : decode cX67_place 121 = .ok (.imul, 1) := by decide +kernel
theorem dX67_place_122 : decode cX67_place 122 = .ok (.iload_n 2, 1) := by decide +kernel
theorem dX67_place_123 : decode cX67_place 123 = .ok (.iadd, 1) := by decide +kernel
theorem dX67_place_124 : decode cX67_place 124 = .ok (.aload_n 0, 1) := by decide +kernel
theorem dX67_place_125 : decode cX67_place 125 = .ok (.getfield 558, 3) := by decide +kernel
theorem dX67_place_128 : decode cX67_place 128 = .ok (.iastore, 1) := by decide +kernel
theorem dX67_place_129 : decode cX67_place 129 = .ok (.aload_n 0, 1) := by decide +kernel
theorem dX67_place_130 : decode cX67_place 130 = .ok (.getfield 101, 3) := by decide +kernel
theorem dX67_place_133 : decode cX67_place 133 = .ok (.bipush 8, 2) := by decide +kernel
theorem dX67_place_135 : decode cX67_place 135 = .ok (.iload_n 1, 1) := by decide +kernel
theorem dX67_place_136 : decode cX67_place 136 = .ok (.imul, 1) := by decide +kernel
theorem dX67_place_137 : decode cX67_place 137 = .ok (.iload_n 2, 1) := by decide +kernel
theorem dX67_place_138 : decode cX67_place 138 = .ok (.iadd, 1) := by decide +kernel
theorem dX67_place_139 : decode cX67_place 139 = .ok (.aload_n 0, 1) := by decide +kernel
theorem dX67_place_140 : decode cX67_place 140 = .ok (.getfield 561, 3) := by decide +kernel
theorem dX67_place_143 : decode cX67_place 143 = .ok (.iastore, 1) := by decide +kernel
theorem dX67_place_144 : decode cX67_place 144 = .ok (.goto 61, 3) := by decide +kernel
theorem dX67_place_147 : decode cX67_place 147 = .ok (.aload_n 0, 1) := by decide +kernel
theorem dX67_place_148 : decode cX67_place 148 = .ok (.getfield 86, 3) := by decide +kernel
theorem dX67_place_151 : decode cX67_place 151 = .ok (.iload_n 1, 1) := by decide +kernel
theorem dX67_place_152 : decode cX67_place 152 = .ok (.aload_n 0, 1) := by decide +kernel
theorem dX67_place_153 : decode cX67_place 153 = .ok (.getfield 555, 3) := by decide +kernel
theorem dX67_place_156 : decode cX67_place 156 = .ok (.aload_n 0, 1) := by decide +kernel
theorem dX67_place_157 : decode cX67_place 157 = .ok (.getfield 558, 3) := by decide +kernel
theorem dX67_place_160 : decode cX67_place 160 = .ok (.aload_n 0, 1) := by decide +kernel
theorem dX67_place_161 : decode cX67_place 161 = .ok (.getfield 561, 3) := by decide +kernel
theorem dX67_place_164 : decode cX67_place 164 = .ok (.invokestatic 606, 3) := by decide +kernel
theorem dX67_place_167 : decode cX67_place 167 = .ok (.lastore, 1) := by decide +kernel
theorem dX67_place_168 : decode cX67_place 168 = .ok (.goto 37, 3) := by decide +kernel
theorem dX67_place_171 : decode cX67_place 171 = .ok (.aload_n 0, 1) := by decide +kernel
theorem dX67_place_172 : decode cX67_place 172 = .ok (.getfield 86, 3) := by decide +kernel
theorem dX67_place_175 : decode cX67_place 175 = .ok (.iload_n 1, 1) := by decide +kernel
theorem dX67_place_176 : decode cX67_place 176 = .ok (.aload_n 0, 1) := by decide +kernel
theorem dX67_place_177 : decode cX67_place 177 = .ok (.getfield 86, 3) := by decide +kernel
theorem dX67_place_180 : decode cX67_place 180 = .ok (.iload_n 1, 1) := by decide +kernel
theorem dX67_place_181 : decode cX67_place 181 = .ok (.laload, 1) := by decide +kernel
theorem dX67_place_182 : decode cX67_place 182 = .ok (.aload_n 0, 1) := by decide +kernel
theorem dX67_place_183 : decode cX67_place 183 = .ok (.getfield 537, 3) := by decide +kernel
theorem dX67_place_186 : decode cX67_place 186 = .ok (.aload_n 0, 1) := by decide +kernel
theorem dX67_place_187 : decode cX67_place 187 = .ok (.getfield 558, 3) := by decide +kernel
theorem dX67_place_190 : decode cX67_place 190 = .ok (.invokestatic 609, 3) := by decide +kernel
theorem dX67_place_193 : decode cX67_place 193 = .ok (.lastore, 1) := by decide +kernel
theorem dX67_place_194 : decode cX67_place 194 = .ok (.aload_n 0, 1) := by decide +kernel
theorem dX67_place_195 : decode cX67_place 195 = .ok (.iload_n 1, 1) := by decide +kernel
theorem dX67_place_196 : decode cX67_place 196 = .ok (.aload_n 0, 1) := by decide +kernel
theorem dX67_place_197 : decode cX67_place 197 = .ok (.getfield 86, 3) := by decide +kernel
theorem dX67_place_200 : decode cX67_place 200 = .ok (.iload_n 1, 1) := by decide +kernel
theorem dX67_place_201 : decode cX67_place 201 = .ok (.laload, 1) := by decide +kernel
theorem dX67_place_202 : decode cX67_place 202 = .ok (.invokevirtual 591, 3) := by decide +kernel
theorem dX67_place_205 : decode cX67_place 205 = .ok (.return_, 1) := by decide +kernel
theorem zy_X67_place : yX67_place.cls ≠ "java/lang/invoke/MethodHandle" ∧ yX67_place.cls ≠ "java/lang/invoke/VarHandle" ∧ (parseMethodDescriptor yX67_place.desc).map (fun d => d.parameters.length) = some 2 := by decide +kernel
theorem w_fX67_place {K : zK} (E : zE K cX67_place "RingHouseModel" none 2) (hN : zNl K = 3) (hT : zTr K = none) (x1 : Int) (x2 : Int) : zR K 0 [(0, 69, 0), (1, 0, x1), (2, 0, x2)] [] (fX67_place x1 x2) := by
  refine r_aload_n E dX67_place_0 rfl 0 rfl ?_
  refine r_get E zc_69 zt_6881 dX67_place_1 q3296 zr_69 (zg_6881 _) (by decide) (fun v1 => ?_)
  refine r_tabc E dX67_place_4 0 48 (by decide) (by decide) rfl (by decide) (fun _ => ?_) (fun ht2 => ?_)
  · refine r_aload_n E dX67_place_48 rfl 0 rfl ?_
    refine r_gec (y := 0) E zc_69 dX67_place_49 q3242 zr_69 (zh_6827 (by decide)) (by decide) ?_
    refine r_iconst E dX67_place_52 (zkI (by decide) (by decide)) ?_
    refine r_iload_n E dX67_place_53 rfl 1 rfl ?_
    refine r_imul E dX67_place_54 ?_
    refine r_iload_n E dX67_place_55 rfl 2 rfl ?_
    refine r_iadd E dX67_place_56 ?_
    refine r_aload_n E dX67_place_57 rfl 0 rfl ?_
    refine r_get E zc_69 zt_6879 dX67_place_58 q3294 zr_69 (zg_6879 _) (by decide) (fun v3 => ?_)
    refine r_iastore E zc_6827 za_6827 zt_6827 zo_6827 zx_6827 rfl rfl dX67_place_61 (by decide) ?_
    refine r_aload_n E dX67_place_62 rfl 0 rfl ?_
    refine r_iload_n E dX67_place_63 rfl 1 rfl ?_
    refine r_aload_n E dX67_place_64 rfl 0 rfl ?_
    refine r_get E zc_69 zt_6879 dX67_place_65 q3294 zr_69 (zg_6879 _) (by decide) (fun v4 => ?_)
    refine r_callV E [(0, x1), (0, v4)] [] rfl zc_69 zr_69 (fun o _ => ⟨_, zw_X67.1 o, rfl⟩) (lw_V q4040 q4042 qs164 q294 q4043) dX67_place_68 zy_X67_flagHalf rfl (by omega) (by decide) (Nat.le_of_ble_eq_true rfl) (by decide) (fun l G => k_fX67_flagHalf l G x1 v4) (fun _ => ?_)
    refine r_goto E 205 (by decide) dX67_place_71 ?_
    exact r_return E rfl hT dX67_place_205
  · refine r_tabc E dX67_place_4 1 74 (by decide) (by decide) rfl (by decide) (fun _ => ?_) (fun ht6 => ?_)
    · refine r_aload_n E dX67_place_74 rfl 0 rfl ?_
      refine r_gec (y := 0) E zc_69 dX67_place_75 q3240 zr_69 (zh_6825 (by decide)) (by decide) ?_
      refine r_iload_n E dX67_place_78 rfl 1 rfl ?_
      refine r_aload_n E dX67_place_79 rfl 0 rfl ?_
      refine r_get E zc_69 zt_6879 dX67_place_80 q3294 zr_69 (zg_6879 _) (by decide) (fun v7 => ?_)
      refine r_i2l E dX67_place_83 ?_
      refine r_lastore E zc_6825 za_6825 zt_6825 zo_6825 zx_6825 rfl rfl dX67_place_84 (by decide) ?_
      refine r_aload_n E dX67_place_85 rfl 0 rfl ?_
      refine r_iload_n E dX67_place_86 rfl 1 rfl ?_
      refine r_aload_n E dX67_place_87 rfl 0 rfl ?_
      refine r_gec (y := 0) E zc_69 dX67_place_88 q3240 zr_69 (zh_6825 (by decide)) (by decide) ?_
      refine r_iload_n E dX67_place_91 rfl 1 rfl ?_
      refine r_laload E zc_6825 za_6825 zt_6825 zx_6825 rfl rfl dX67_place_92 (by decide) (fun v8 => ?_)
      refine r_callV E [(0, x1), (1, v8)] [] rfl zc_69 zr_69 (fun o _ => ⟨_, zw_X67.1 o, rfl⟩) (lw_V q4031 q4033 qs162 q294 q4034) dX67_place_93 zy_X67_flag rfl (by omega) (by decide) (Nat.le_of_ble_eq_true rfl) (by decide) (fun l G => k_fX67_flag l G x1 v8) (fun _ => ?_)
      refine r_goto E 205 (by decide) dX67_place_96 ?_
      exact r_return E rfl hT dX67_place_205
    · refine r_tabc E dX67_place_4 5 99 (by decide) (by decide) rfl (by decide) (fun _ => ?_) (fun ht10 => ?_)
      · refine r_aload_n E dX67_place_99 rfl 0 rfl ?_
        refine r_gec (y := 0) E zc_69 dX67_place_100 q3243 zr_69 (zh_6828 (by decide)) (by decide) ?_
        refine r_bipush E dX67_place_103 (by decide) (zkI (by decide) (by decide)) ?_
        refine r_iload_n E dX67_place_105 rfl 1 rfl ?_
        refine r_imul E dX67_place_106 ?_
        refine r_iload_n E dX67_place_107 rfl 2 rfl ?_
        refine r_iadd E dX67_place_108 ?_
        refine r_aload_n E dX67_place_109 rfl 0 rfl ?_
        refine r_get E zc_69 zt_6878 dX67_place_110 q3293 zr_69 (zg_6878 _) (by decide) (fun v11 => ?_)
        refine r_iastore E zc_6828 za_6828 zt_6828 zo_6828 zx_6828 rfl rfl dX67_place_113 (by decide) ?_
        refine r_aload_n E dX67_place_114 rfl 0 rfl ?_
        refine r_gec (y := 0) E zc_69 dX67_place_115 q3244 zr_69 (zh_6829 (by decide)) (by decide) ?_
        refine r_bipush E dX67_place_118 (by decide) (zkI (by decide) (by decide)) ?_
        refine r_iload_n E dX67_place_120 rfl 1 rfl ?_
        refine r_imul E dX67_place_121 ?_
        refine r_iload_n E dX67_place_122 rfl 2 rfl ?_
        refine r_iadd E dX67_place_123 ?_
        refine r_aload_n E dX67_place_124 rfl 0 rfl ?_
        refine r_get E zc_69 zt_6879 dX67_place_125 q3294 zr_69 (zg_6879 _) (by decide) (fun v12 => ?_)
        refine r_iastore E zc_6829 za_6829 zt_6829 zo_6829 zx_6829 rfl rfl dX67_place_128 (by decide) ?_
        refine r_aload_n E dX67_place_129 rfl 0 rfl ?_
        refine r_gec (y := 0) E zc_69 dX67_place_130 q3245 zr_69 (zh_6830 (by decide)) (by decide) ?_
        refine r_bipush E dX67_place_133 (by decide) (zkI (by decide) (by decide)) ?_
        refine r_iload_n E dX67_place_135 rfl 1 rfl ?_
        refine r_imul E dX67_place_136 ?_
        refine r_iload_n E dX67_place_137 rfl 2 rfl ?_
        refine r_iadd E dX67_place_138 ?_
        refine r_aload_n E dX67_place_139 rfl 0 rfl ?_
        refine r_get E zc_69 zt_6880 dX67_place_140 q3295 zr_69 (zg_6880 _) (by decide) (fun v13 => ?_)
        refine r_iastore E zc_6830 za_6830 zt_6830 zo_6830 zx_6830 rfl rfl dX67_place_143 (by decide) ?_
        refine r_goto E 205 (by decide) dX67_place_144 ?_
        exact r_return E rfl hT dX67_place_205
      · refine r_tabc E dX67_place_4 6 147 (by decide) (by decide) rfl (by decide) (fun _ => ?_) (fun ht14 => ?_)
        · refine r_aload_n E dX67_place_147 rfl 0 rfl ?_
          refine r_gec (y := 0) E zc_69 dX67_place_148 q3240 zr_69 (zh_6825 (by decide)) (by decide) ?_
          refine r_iload_n E dX67_place_151 rfl 1 rfl ?_
          refine r_aload_n E dX67_place_152 rfl 0 rfl ?_
          refine r_get E zc_69 zt_6878 dX67_place_153 q3293 zr_69 (zg_6878 _) (by decide) (fun v15 => ?_)
          refine r_aload_n E dX67_place_156 rfl 0 rfl ?_
          refine r_get E zc_69 zt_6879 dX67_place_157 q3294 zr_69 (zg_6879 _) (by decide) (fun v16 => ?_)
          refine r_aload_n E dX67_place_160 rfl 0 rfl ?_
          refine r_get E zc_69 zt_6880 dX67_place_161 q3295 zr_69 (zg_6880 _) (by decide) (fun v17 => ?_)
          refine r_callS E [(0, v15), (0, v16), (0, v17)] [(0, x1), (6825, 0)] rfl q4049 q4050 q294 q4051 dX67_place_164 zy_X67_pointerWord rfl (by omega) (by decide) (Nat.le_of_ble_eq_true rfl) (fun l G => k_fX67_pointerWord l G v15 v16 v17) (fun v18 => ?_)
          refine r_lastore E zc_6825 za_6825 zt_6825 zo_6825 zx_6825 rfl rfl dX67_place_167 (by decide) ?_
          refine r_goto E 205 (by decide) dX67_place_168 ?_
          exact r_return E rfl hT dX67_place_205
        · refine r_tabd E dX67_place_4 171 [20, 21, 25, 26] (by decide) (by decide) (by decide) ⟨ht2, ht6, ht10, ht14, trivial⟩ ?_
          refine r_aload_n E dX67_place_171 rfl 0 rfl ?_
          refine r_gec (y := 0) E zc_69 dX67_place_172 q3240 zr_69 (zh_6825 (by decide)) (by decide) ?_
          refine r_iload_n E dX67_place_175 rfl 1 rfl ?_
          refine r_aload_n E dX67_place_176 rfl 0 rfl ?_
          refine r_gec (y := 0) E zc_69 dX67_place_177 q3240 zr_69 (zh_6825 (by decide)) (by decide) ?_
          refine r_iload_n E dX67_place_180 rfl 1 rfl ?_
          refine r_laload E zc_6825 za_6825 zt_6825 zx_6825 rfl rfl dX67_place_181 (by decide) (fun v19 => ?_)
          refine r_aload_n E dX67_place_182 rfl 0 rfl ?_
          refine r_get E zc_69 zt_6881 dX67_place_183 q3296 zr_69 (zg_6881 _) (by decide) (fun v20 => ?_)
          refine r_aload_n E dX67_place_186 rfl 0 rfl ?_
          refine r_get E zc_69 zt_6879 dX67_place_187 q3294 zr_69 (zg_6879 _) (by decide) (fun v21 => ?_)
          refine r_callS E [(1, v19), (0, v20), (0, v21)] [(0, x1), (6825, 0)] rfl q4053 q4054 q294 q4055 dX67_place_190 zy_X67_shifted rfl (by omega) (by decide) (Nat.le_of_ble_eq_true rfl) (fun l G => k_fX67_shifted l G v19 v20 v21) (fun v22 => ?_)
          refine r_lastore E zc_6825 za_6825 zt_6825 zo_6825 zx_6825 rfl rfl dX67_place_193 (by decide) ?_
          refine r_aload_n E dX67_place_194 rfl 0 rfl ?_
          refine r_iload_n E dX67_place_195 rfl 1 rfl ?_
          refine r_aload_n E dX67_place_196 rfl 0 rfl ?_
          refine r_gec (y := 0) E zc_69 dX67_place_197 q3240 zr_69 (zh_6825 (by decide)) (by decide) ?_
          refine r_iload_n E dX67_place_200 rfl 1 rfl ?_
          refine r_laload E zc_6825 za_6825 zt_6825 zx_6825 rfl rfl dX67_place_201 (by decide) (fun v23 => ?_)
          refine r_callV E [(0, x1), (1, v23)] [] rfl zc_69 zr_69 (fun o _ => ⟨_, zw_X67.1 o, rfl⟩) (lw_V q4031 q4033 qs162 q294 q4034) dX67_place_202 zy_X67_flag rfl (by omega) (by decide) (Nat.le_of_ble_eq_true rfl) (by decide) (fun l G => k_fX67_flag l G x1 v23) (fun _ => ?_)
          exact r_return E rfl hT dX67_place_205
theorem k_fX67_place (l : Launch) (G : zG) (x1 : Int) (x2 : Int) : zCt l G yX67_place cX67_place 3 none 2 [(69, 0), (0, x1), (0, x2)] none (fX67_place x1 x2) := zCt.of (by decide) (Nat.le_of_ble_eq_true rfl) (fun K E _ _ hN hT => w_fX67_place E hN hT x1 x2)
theorem dX67_go_0 : decode cX67_go 0 = .ok (.aload_n 0, 1) := by decide +kernel
theorem dX67_go_1 : decode cX67_go 1 = .ok (.getfield 104, 3) := by decide +kernel
theorem dX67_go_4 : decode cX67_go 4 = .ok (.iload_n 1, 1) := by decide +kernel
theorem dX67_go_5 : decode cX67_go 5 = .ok (.aload_n 0, 1) := by decide +kernel
theorem dX67_go_6 : decode cX67_go 6 = .ok (.getfield 555, 3) := by decide +kernel
theorem dX67_go_9 : decode cX67_go 9 = .ok (.iastore, 1) := by decide +kernel
theorem dX67_go_10 : decode cX67_go 10 = .ok (.aload_n 0, 1) := by decide +kernel
theorem dX67_go_11 : decode cX67_go 11 = .ok (.getfield 107, 3) := by decide +kernel
theorem dX67_go_14 : decode cX67_go 14 = .ok (.iload_n 1, 1) := by decide +kernel
theorem dX67_go_15 : decode cX67_go 15 = .ok (.aload_n 0, 1) := by decide +kernel
theorem dX67_go_16 : decode cX67_go 16 = .ok (.getfield 558, 3) := by decide +kernel
theorem dX67_go_19 : decode cX67_go 19 = .ok (.iastore, 1) := by decide +kernel
theorem dX67_go_20 : decode cX67_go 20 = .ok (.return_, 1) := by decide +kernel
theorem zy_X67_go : yX67_go.cls ≠ "java/lang/invoke/MethodHandle" ∧ yX67_go.cls ≠ "java/lang/invoke/VarHandle" ∧ (parseMethodDescriptor yX67_go.desc).map (fun d => d.parameters.length) = some 1 := by decide +kernel
theorem w_fX67_go {K : zK} (E : zE K cX67_go "RingHouseModel" none 0) (hN : zNl K = 2) (hT : zTr K = none) (x1 : Int) : zR K 0 [(0, 69, 0), (1, 0, x1)] [] (fX67_go x1) := by
  refine r_aload_n E dX67_go_0 rfl 0 rfl ?_
  refine r_gec (y := 0) E zc_69 dX67_go_1 q3246 zr_69 (zh_6831 (by decide)) (by decide) ?_
  refine r_iload_n E dX67_go_4 rfl 1 rfl ?_
  refine r_aload_n E dX67_go_5 rfl 0 rfl ?_
  refine r_get E zc_69 zt_6878 dX67_go_6 q3293 zr_69 (zg_6878 _) (by decide) (fun v1 => ?_)
  refine r_iastore E zc_6831 za_6831 zt_6831 zo_6831 zx_6831 rfl rfl dX67_go_9 (by decide) ?_
  refine r_aload_n E dX67_go_10 rfl 0 rfl ?_
  refine r_gec (y := 0) E zc_69 dX67_go_11 q3247 zr_69 (zh_6832 (by decide)) (by decide) ?_
  refine r_iload_n E dX67_go_14 rfl 1 rfl ?_
  refine r_aload_n E dX67_go_15 rfl 0 rfl ?_
  refine r_get E zc_69 zt_6879 dX67_go_16 q3294 zr_69 (zg_6879 _) (by decide) (fun v2 => ?_)
  refine r_iastore E zc_6832 za_6832 zt_6832 zo_6832 zx_6832 rfl rfl dX67_go_19 (by decide) ?_
  exact r_return E rfl hT dX67_go_20
theorem k_fX67_go (l : Launch) (G : zG) (x1 : Int) : zCt l G yX67_go cX67_go 2 none 0 [(69, 0), (0, x1)] none (fX67_go x1) := zCt.of (by decide) (Nat.le_of_ble_eq_true rfl) (fun K E _ _ hN hT => w_fX67_go E hN hT x1)
theorem dX67_jump_0 : decode cX67_jump 0 = .ok (.aload_n 0, 1) := by decide +kernel
theorem dX67_jump_1 : decode cX67_jump 1 = .ok (.getfield 537, 3) := by decide +kernel
theorem dX67_jump_4 : decode cX67_jump 4 = .ok (.bipush 32, 2) := by decide +kernel
theorem dX67_jump_6 : decode cX67_jump 6 = .ok (.if_icmp .ne 55, 3) := by decide +kernel
theorem dX67_jump_9 : decode cX67_jump 9 = .ok (.iconst 4, 1) := by decide +kernel
theorem dX67_jump_10 : decode cX67_jump 10 = .ok (.iload_n 1, 1) := by decide +kernel
theorem dX67_jump_11 : decode cX67_jump 11 = .ok (.imul, 1) := by decide +kernel
theorem dX67_jump_12 : decode cX67_jump 12 = .ok (.iload_n 2, 1) := by decide +kernel
theorem dX67_jump_13 : decode cX67_jump 13 = .ok (.iadd, 1) := by decide +kernel
theorem dX67_jump_14 : decode cX67_jump 14 = .ok (.istore_n 3, 1) := by decide +kernel
theorem dX67_jump_15 : decode cX67_jump 15 = .ok (.aload_n 0, 1) := by decide +kernel
theorem dX67_jump_16 : decode cX67_jump 16 = .ok (.getfield 92, 3) := by decide +kernel
theorem dX67_jump_19 : decode cX67_jump 19 = .ok (.iload_n 3, 1) := by decide +kernel
theorem dX67_jump_20 : decode cX67_jump 20 = .ok (.aload_n 0, 1) := by decide +kernel
theorem dX67_jump_21 : decode cX67_jump 21 = .ok (.getfield 92, 3) := by decide +kernel
theorem dX67_jump_24 : decode cX67_jump 24 = .ok (.iload_n 3, 1) := by decide +kernel
theorem dX67_jump_25 : decode cX67_jump 25 = .ok (.iaload, 1) := by decide +kernel
theorem dX67_jump_26 : decode cX67_jump 26 = .ok (.ldc 56, 2) := by decide +kernel
theorem dX67_jump_28 : decode cX67_jump 28 = .ok (.iadd, 1) := by decide +kernel
theorem dX67_jump_29 : decode cX67_jump 29 = .ok (.iconst 1, 1) := by decide +kernel
theorem dX67_jump_30 : decode cX67_jump 30 = .ok (.isub, 1) := by decide +kernel
theorem dX67_jump_31 : decode cX67_jump 31 = .ok (.ldc 56, 2) := by decide +kernel
theorem dX67_jump_33 : decode cX67_jump 33 = .ok (.irem, 1) := by decide +kernel
theorem dX67_jump_34 : decode cX67_jump 34 = .ok (.iastore, 1) := by decide +kernel
theorem dX67_jump_35 : decode cX67_jump 35 = .ok (.aload_n 0, 1) := by decide +kernel
theorem dX67_jump_36 : decode cX67_jump 36 = .ok (.iload_n 1, 1) := by decide +kernel
theorem dX67_jump_37 : decode cX67_jump 37 = .ok (.aload_n 0, 1) := by decide +kernel
theorem dX67_jump_38 : decode cX67_jump 38 = .ok (.getfield 92, 3) := by decide +kernel
theorem dX67_jump_41 : decode cX67_jump 41 = .ok (.iload_n 3, 1) := by decide +kernel
theorem dX67_jump_42 : decode cX67_jump 42 = .ok (.iaload, 1) := by decide +kernel
theorem dX67_jump_43 : decode cX67_jump 43 = .ok (.invokevirtual 599, 3) := by decide +kernel
theorem dX67_jump_46 : decode cX67_jump 46 = .ok (.aload_n 0, 1) := by decide +kernel
theorem dX67_jump_47 : decode cX67_jump 47 = .ok (.getfield 92, 3) := by decide +kernel
theorem dX67_jump_50 : decode cX67_jump 50 = .ok (.iload_n 3, 1) := by decide +kernel
theorem dX67_jump_51 : decode cX67_jump 51 = .ok (.iaload, 1) := by decide +kernel
theorem dX67_jump_52 : decode cX67_jump 52 = .ok (.ifCond .eq 8, 3) := by decide +kernel
theorem dX67_jump_55 : decode cX67_jump 55 = .ok (.aload_n 0, 1) := by decide +kernel
theorem dX67_jump_56 : decode cX67_jump 56 = .ok (.iload_n 1, 1) := by decide +kernel
theorem dX67_jump_57 : decode cX67_jump 57 = .ok (.invokevirtual 613, 3) := by decide +kernel
theorem dX67_jump_60 : decode cX67_jump 60 = .ok (.return_, 1) := by decide +kernel
theorem dX67_jump_61 : decode cX67_jump 61 = .ok (.aload_n 0, 1) := by decide +kernel
theorem dX67_jump_62 : decode cX67_jump 62 = .ok (.getfield 537, 3) := by decide +kernel
theorem dX67_jump_65 : decode cX67_jump 65 = .ok (.bipush 27, 2) := by decide +kernel
theorem dX67_jump_67 : decode cX67_jump 67 = .ok (.if_icmp .eq 75, 3) := by decide +kernel
theorem dX67_jump_70 : decode cX67_jump 70 = .ok (.aload_n 0, 1) := by decide +kernel
theorem dX67_jump_71 : decode cX67_jump 71 = .ok (.getfield 537, 3) := by decide +kernel
theorem dX67_jump_74 : decode cX67_jump 74 = .ok (.bipush 28, 2) := by decide +kernel
theorem dX67_jump_76 : decode cX67_jump 76 = .ok (.if_icmp .ne 12, 3) := by decide +kernel
theorem dX67_jump_79 : decode cX67_jump 79 = .ok (.aload_n 0, 1) := by decide +kernel
theorem dX67_jump_80 : decode cX67_jump 80 = .ok (.getfield 113, 3) := by decide +kernel
theorem dX67_jump_83 : decode cX67_jump 83 = .ok (.iload_n 1, 1) := by decide +kernel
theorem dX67_jump_84 : decode cX67_jump 84 = .ok (.baload, 1) := by decide +kernel
theorem dX67_jump_85 : decode cX67_jump 85 = .ok (.ifCond .ne 57, 3) := by decide +kernel
theorem dX67_jump_88 : decode cX67_jump 88 = .ok (.aload_n 0, 1) := by decide +kernel
theorem dX67_jump_89 : decode cX67_jump 89 = .ok (.getfield 537, 3) := by decide +kernel
theorem dX67_jump_92 : decode cX67_jump 92 = .ok (.bipush 29, 2) := by decide +kernel
theorem dX67_jump_94 : decode cX67_jump 94 = .ok (.if_icmp .ne 12, 3) := by decide +kernel
theorem dX67_jump_97 : decode cX67_jump 97 = .ok (.aload_n 0, 1) := by decide +kernel
theorem dX67_jump_98 : decode cX67_jump 98 = .ok (.getfield 113, 3) := by decide +kernel
theorem dX67_jump_101 : decode cX67_jump 101 = .ok (.iload_n 1, 1) := by decide +kernel
theorem dX67_jump_102 : decode cX67_jump 102 = .ok (.baload, 1) := by decide +kernel
theorem dX67_jump_103 : decode cX67_jump 103 = .ok (.ifCond .eq 39, 3) := by decide +kernel
theorem dX67_jump_106 : decode cX67_jump 106 = .ok (.aload_n 0, 1) := by decide +kernel
theorem dX67_jump_107 : decode cX67_jump 107 = .ok (.getfield 537, 3) := by decide +kernel
theorem dX67_jump_110 : decode cX67_jump 110 = .ok (.bipush 30, 2) := by decide +kernel
theorem dX67_jump_112 : decode cX67_jump 112 = .ok (.if_icmp .ne 12, 3) := by decide +kernel
theorem dX67_jump_115 : decode cX67_jump 115 = .ok (.aload_n 0, 1) := by decide +kernel
theorem dX67_jump_116 : decode cX67_jump 116 = .ok (.getfield 116, 3) := by decide +kernel
theorem dX67_jump_119 : decode cX67_jump 119 = .ok (.iload_n 1, 1) := by decide +kernel
theorem dX67_jump_120 : decode cX67_jump 120 = .ok (.baload, 1) := by decide +kernel
theorem dX67_jump_121 : decode cX67_jump 121 = .ok (.ifCond .ne 21, 3) := by decide +kernel
theorem dX67_jump_124 : decode cX67_jump 124 = .ok (.aload_n 0, 1) := by decide +kernel
theorem dX67_jump_125 : decode cX67_jump 125 = .ok (.getfield 537, 3) := by decide +kernel
theorem dX67_jump_128 : decode cX67_jump 128 = .ok (.bipush 31, 2) := by decide +kernel
theorem dX67_jump_130 : decode cX67_jump 130 = .ok (.if_icmp .ne 16, 3) := by decide +kernel
theorem dX67_jump_133 : decode cX67_jump 133 = .ok (.aload_n 0, 1) := by decide +kernel
theorem dX67_jump_134 : decode cX67_jump 134 = .ok (.getfield 116, 3) := by decide +kernel
theorem dX67_jump_137 : decode cX67_jump 137 = .ok (.iload_n 1, 1) := by decide +kernel
theorem dX67_jump_138 : decode cX67_jump 138 = .ok (.baload, 1) := by decide +kernel
theorem dX67_jump_139 : decode cX67_jump 139 = .ok (.ifCond .ne 7, 3) := by decide +kernel
theorem dX67_jump_142 : decode cX67_jump 142 = .ok (.iconst 1, 1) := by decide +kernel
theorem dX67_jump_143 : decode cX67_jump 143 = .ok (.goto 4, 3) := by decide +kernel
theorem dX67_jump_146 : decode cX67_jump 146 = .ok (.iconst 0, 1) := by decide +kernel
theorem dX67_jump_147 : decode cX67_jump 147 = .ok (.istore_n 3, 1) := by decide +kernel
theorem dX67_jump_148 : decode cX67_jump 148 = .ok (.iload_n 3, 1) := by decide +kernel
theorem dX67_jump_149 : decode cX67_jump 149 = .ok (.ifCond .eq 8, 3) := by decide +kernel
theorem dX67_jump_152 : decode cX67_jump 152 = .ok (.aload_n 0, 1) := by decide +kernel
theorem dX67_jump_153 : decode cX67_jump 153 = .ok (.iload_n 1, 1) := by decide +kernel
theorem dX67_jump_154 : decode cX67_jump 154 = .ok (.invokevirtual 613, 3) := by decide +kernel
theorem dX67_jump_157 : decode cX67_jump 157 = .ok (.return_, 1) := by decide +kernel
theorem zy_X67_jump : yX67_jump.cls ≠ "java/lang/invoke/MethodHandle" ∧ yX67_jump.cls ≠ "java/lang/invoke/VarHandle" ∧ (parseMethodDescriptor yX67_jump.desc).map (fun d => d.parameters.length) = some 2 := by decide +kernel
theorem w_fX67_jump_J147 {K : zK} (E : zE K cX67_jump "RingHouseModel" none 1) (hN : zNl K = 4) (hT : zTr K = none) (x1 : Int) (s0 : Int) : zR K 147 [(0, 69, 0), (1, 0, x1)] [(0, s0)] (fX67_jump_J147 x1 s0) := by
  refine r_istore_n (ls' := [(3, 0, s0), (0, 69, 0), (1, 0, x1)]) E dX67_jump_147 rfl (by rw [hN]; decide) rfl ?_
  refine r_iload_n E dX67_jump_148 rfl 0 rfl ?_
  refine r_if_eq E 157 (by decide) dX67_jump_149 (fun _ => ?_) (fun _ => ?_)
  · exact r_return E rfl hT dX67_jump_157
  · refine r_aload_n E dX67_jump_152 rfl 1 rfl ?_
    refine r_iload_n E dX67_jump_153 rfl 2 rfl ?_
    refine r_callV E [(0, x1)] [] rfl zc_69 zr_69 (fun o _ => ⟨_, zw_X67.1 o, rfl⟩) (lw_V q3921 q3923 qs139 q294 q3924) dX67_jump_154 zy_X67_go rfl (by omega) (by decide) (Nat.le_of_ble_eq_true rfl) (by decide) (fun l G => k_fX67_go l G x1) (fun _ => ?_)
    exact r_return E rfl hT dX67_jump_157
theorem w_fX67_jump_J142 {K : zK} (E : zE K cX67_jump "RingHouseModel" none 1) (hN : zNl K = 4) (hT : zTr K = none) (x1 : Int) : zR K 142 [(0, 69, 0), (1, 0, x1)] [] (fX67_jump_J142 x1) := by
  refine r_iconst E dX67_jump_142 (zkI (by decide) (by decide)) ?_
  refine r_goto E 147 (by decide) dX67_jump_143 ?_
  exact w_fX67_jump_J147 E hN hT x1 1
theorem w_fX67_jump_J146 {K : zK} (E : zE K cX67_jump "RingHouseModel" none 1) (hN : zNl K = 4) (hT : zTr K = none) (x1 : Int) : zR K 146 [(0, 69, 0), (1, 0, x1)] [] (fX67_jump_J146 x1) := by
  refine r_iconst E dX67_jump_146 (zkI (by decide) (by decide)) ?_
  exact w_fX67_jump_J147 E hN hT x1 0
theorem w_fX67_jump_J124 {K : zK} (E : zE K cX67_jump "RingHouseModel" none 1) (hN : zNl K = 4) (hT : zTr K = none) (x1 : Int) : zR K 124 [(0, 69, 0), (1, 0, x1)] [] (fX67_jump_J124 x1) := by
  refine r_aload_n E dX67_jump_124 rfl 0 rfl ?_
  refine r_get E zc_69 zt_6881 dX67_jump_125 q3296 zr_69 (zg_6881 _) (by decide) (fun v7 => ?_)
  refine r_bipush E dX67_jump_128 (by decide) (zkI (by decide) (by decide)) ?_
  refine r_icmp_ne E 146 (by decide) dX67_jump_130 (fun _ => ?_) (fun _ => ?_)
  · exact w_fX67_jump_J146 E hN hT x1
  · refine r_aload_n E dX67_jump_133 rfl 0 rfl ?_
    refine r_gec (y := 0) E zc_69 dX67_jump_134 q3250 zr_69 (zh_6835 (by decide)) (by decide) ?_
    refine r_iload_n E dX67_jump_137 rfl 1 rfl ?_
    refine r_baloadz E zc_6835 za_6835 zt_6835 zx_6835 rfl rfl dX67_jump_138 (by decide) (fun v8 => ?_)
    refine r_if_ne E 146 (by decide) dX67_jump_139 (fun _ => ?_) (fun _ => ?_)
    · exact w_fX67_jump_J146 E hN hT x1
    · exact w_fX67_jump_J142 E hN hT x1
theorem w_fX67_jump_J106 {K : zK} (E : zE K cX67_jump "RingHouseModel" none 1) (hN : zNl K = 4) (hT : zTr K = none) (x1 : Int) : zR K 106 [(0, 69, 0), (1, 0, x1)] [] (fX67_jump_J106 x1) := by
  refine r_aload_n E dX67_jump_106 rfl 0 rfl ?_
  refine r_get E zc_69 zt_6881 dX67_jump_107 q3296 zr_69 (zg_6881 _) (by decide) (fun v6 => ?_)
  refine r_bipush E dX67_jump_110 (by decide) (zkI (by decide) (by decide)) ?_
  refine r_icmp_ne E 124 (by decide) dX67_jump_112 (fun _ => ?_) (fun _ => ?_)
  · exact w_fX67_jump_J124 E hN hT x1
  · refine r_aload_n E dX67_jump_115 rfl 0 rfl ?_
    refine r_gec (y := 0) E zc_69 dX67_jump_116 q3250 zr_69 (zh_6835 (by decide)) (by decide) ?_
    refine r_iload_n E dX67_jump_119 rfl 1 rfl ?_
    refine r_baloadz E zc_6835 za_6835 zt_6835 zx_6835 rfl rfl dX67_jump_120 (by decide) (fun v9 => ?_)
    refine r_if_ne E 142 (by decide) dX67_jump_121 (fun _ => ?_) (fun _ => ?_)
    · exact w_fX67_jump_J142 E hN hT x1
    · exact w_fX67_jump_J124 E hN hT x1
theorem w_fX67_jump_J88 {K : zK} (E : zE K cX67_jump "RingHouseModel" none 1) (hN : zNl K = 4) (hT : zTr K = none) (x1 : Int) : zR K 88 [(0, 69, 0), (1, 0, x1)] [] (fX67_jump_J88 x1) := by
  refine r_aload_n E dX67_jump_88 rfl 0 rfl ?_
  refine r_get E zc_69 zt_6881 dX67_jump_89 q3296 zr_69 (zg_6881 _) (by decide) (fun v5 => ?_)
  refine r_bipush E dX67_jump_92 (by decide) (zkI (by decide) (by decide)) ?_
  refine r_icmp_ne E 106 (by decide) dX67_jump_94 (fun _ => ?_) (fun _ => ?_)
  · exact w_fX67_jump_J106 E hN hT x1
  · refine r_aload_n E dX67_jump_97 rfl 0 rfl ?_
    refine r_gec (y := 0) E zc_69 dX67_jump_98 q3249 zr_69 (zh_6834 (by decide)) (by decide) ?_
    refine r_iload_n E dX67_jump_101 rfl 1 rfl ?_
    refine r_baloadz E zc_6834 za_6834 zt_6834 zx_6834 rfl rfl dX67_jump_102 (by decide) (fun v10 => ?_)
    refine r_if_eq E 142 (by decide) dX67_jump_103 (fun _ => ?_) (fun _ => ?_)
    · exact w_fX67_jump_J142 E hN hT x1
    · exact w_fX67_jump_J106 E hN hT x1
theorem w_fX67_jump {K : zK} (E : zE K cX67_jump "RingHouseModel" none 1) (hN : zNl K = 4) (hT : zTr K = none) (x1 : Int) (x2 : Int) : zR K 0 [(0, 69, 0), (1, 0, x1), (2, 0, x2)] [] (fX67_jump x1 x2) := by
  refine r_aload_n E dX67_jump_0 rfl 0 rfl ?_
  refine r_get E zc_69 zt_6881 dX67_jump_1 q3296 zr_69 (zg_6881 _) (by decide) (fun v1 => ?_)
  refine r_bipush E dX67_jump_4 (by decide) (zkI (by decide) (by decide)) ?_
  refine r_icmp_ne E 61 (by decide) dX67_jump_6 (fun _ => ?_) (fun _ => ?_)
  · refine r_aload_n E dX67_jump_61 rfl 0 rfl ?_
    refine r_get E zc_69 zt_6881 dX67_jump_62 q3296 zr_69 (zg_6881 _) (by decide) (fun v2 => ?_)
    refine r_bipush E dX67_jump_65 (by decide) (zkI (by decide) (by decide)) ?_
    refine r_icmp_eq E 142 (by decide) dX67_jump_67 (fun _ => ?_) (fun _ => ?_)
    · refine r_pick E [0, 1] rfl ?_
      exact w_fX67_jump_J142 E hN hT x1
    · refine r_aload_n E dX67_jump_70 rfl 0 rfl ?_
      refine r_get E zc_69 zt_6881 dX67_jump_71 q3296 zr_69 (zg_6881 _) (by decide) (fun v4 => ?_)
      refine r_bipush E dX67_jump_74 (by decide) (zkI (by decide) (by decide)) ?_
      refine r_icmp_ne E 88 (by decide) dX67_jump_76 (fun _ => ?_) (fun _ => ?_)
      · refine r_pick E [0, 1] rfl ?_
        exact w_fX67_jump_J88 E hN hT x1
      · refine r_aload_n E dX67_jump_79 rfl 0 rfl ?_
        refine r_gec (y := 0) E zc_69 dX67_jump_80 q3249 zr_69 (zh_6834 (by decide)) (by decide) ?_
        refine r_iload_n E dX67_jump_83 rfl 1 rfl ?_
        refine r_baloadz E zc_6834 za_6834 zt_6834 zx_6834 rfl rfl dX67_jump_84 (by decide) (fun v11 => ?_)
        refine r_if_ne E 142 (by decide) dX67_jump_85 (fun _ => ?_) (fun _ => ?_)
        · refine r_pick E [0, 1] rfl ?_
          exact w_fX67_jump_J142 E hN hT x1
        · refine r_pick E [0, 1] rfl ?_
          exact w_fX67_jump_J88 E hN hT x1
  · refine r_iconst E dX67_jump_9 (zkI (by decide) (by decide)) ?_
    refine r_iload_n E dX67_jump_10 rfl 1 rfl ?_
    refine r_imul E dX67_jump_11 ?_
    refine r_iload_n E dX67_jump_12 rfl 2 rfl ?_
    refine r_iadd E dX67_jump_13 ?_
    refine r_let E (fun v12 ev12 => ?_)
    refine r_istore_n (ls' := [(3, 0, v12), (0, 69, 0), (1, 0, x1), (2, 0, x2)]) E dX67_jump_14 rfl (by rw [hN]; decide) rfl ?_
    refine r_aload_n E dX67_jump_15 rfl 1 rfl ?_
    refine r_gec (y := 0) E zc_69 dX67_jump_16 q3242 zr_69 (zh_6827 (by decide)) (by decide) ?_
    refine r_iload_n E dX67_jump_19 rfl 0 rfl ?_
    refine r_aload_n E dX67_jump_20 rfl 1 rfl ?_
    refine r_gec (y := 0) E zc_69 dX67_jump_21 q3242 zr_69 (zh_6827 (by decide)) (by decide) ?_
    refine r_iload_n E dX67_jump_24 rfl 0 rfl ?_
    refine r_iaload E zc_6827 za_6827 zt_6827 zx_6827 rfl rfl dX67_jump_25 (by decide) (fun v13 => ?_)
    refine r_ldc (v := 262144) E dX67_jump_26 q3170 (by decide) (zkI (by decide) (by decide)) ?_
    refine r_iadd E dX67_jump_28 ?_
    refine r_iconst E dX67_jump_29 (zkI (by decide) (by decide)) ?_
    refine r_isub E dX67_jump_30 ?_
    refine r_ldc (v := 262144) E dX67_jump_31 q3170 (by decide) (zkI (by decide) (by decide)) ?_
    refine r_irem E (by decide) dX67_jump_33 ?_
    refine r_iastore E zc_6827 za_6827 zt_6827 zo_6827 zx_6827 rfl rfl dX67_jump_34 (by decide) ?_
    refine r_aload_n E dX67_jump_35 rfl 1 rfl ?_
    refine r_iload_n E dX67_jump_36 rfl 2 rfl ?_
    refine r_aload_n E dX67_jump_37 rfl 1 rfl ?_
    refine r_gec (y := 0) E zc_69 dX67_jump_38 q3242 zr_69 (zh_6827 (by decide)) (by decide) ?_
    refine r_iload_n E dX67_jump_41 rfl 0 rfl ?_
    refine r_iaload E zc_6827 za_6827 zt_6827 zx_6827 rfl rfl dX67_jump_42 (by decide) (fun v14 => ?_)
    refine r_callV E [(0, x1), (0, v14)] [] rfl zc_69 zr_69 (fun o _ => ⟨_, zw_X67.1 o, rfl⟩) (lw_V q4040 q4042 qs164 q294 q4043) dX67_jump_43 zy_X67_flagHalf rfl (by omega) (by decide) (Nat.le_of_ble_eq_true rfl) (by decide) (fun l G => k_fX67_flagHalf l G x1 v14) (fun _ => ?_)
    refine r_aload_n E dX67_jump_46 rfl 1 rfl ?_
    refine r_gec (y := 0) E zc_69 dX67_jump_47 q3242 zr_69 (zh_6827 (by decide)) (by decide) ?_
    refine r_iload_n E dX67_jump_50 rfl 0 rfl ?_
    refine r_iaload E zc_6827 za_6827 zt_6827 zx_6827 rfl rfl dX67_jump_51 (by decide) (fun v16 => ?_)
    refine r_if_eq E 60 (by decide) dX67_jump_52 (fun _ => ?_) (fun _ => ?_)
    · exact r_return E rfl hT dX67_jump_60
    · refine r_aload_n E dX67_jump_55 rfl 1 rfl ?_
      refine r_iload_n E dX67_jump_56 rfl 2 rfl ?_
      refine r_callV E [(0, x1)] [] rfl zc_69 zr_69 (fun o _ => ⟨_, zw_X67.1 o, rfl⟩) (lw_V q3921 q3923 qs139 q294 q3924) dX67_jump_57 zy_X67_go rfl (by omega) (by decide) (Nat.le_of_ble_eq_true rfl) (by decide) (fun l G => k_fX67_go l G x1) (fun _ => ?_)
      exact r_return E rfl hT dX67_jump_60
theorem k_fX67_jump (l : Launch) (G : zG) (x1 : Int) (x2 : Int) : zCt l G yX67_jump cX67_jump 4 none 1 [(69, 0), (0, x1), (0, x2)] none (fX67_jump x1 x2) := zCt.of (by decide) (Nat.le_of_ble_eq_true rfl) (fun K E _ _ hN hT => w_fX67_jump E hN hT x1 x2)
theorem dX67_tell_0 : decode cX67_tell 0 = .ok (.sipush 256, 3) := by decide +kernel
theorem dX67_tell_3 : decode cX67_tell 3 = .ok (.iload_n 1, 1) := by decide +kernel
theorem dX67_tell_4 : decode cX67_tell 4 = .ok (.imul, 1) := by decide +kernel
theorem dX67_tell_5 : decode cX67_tell 5 = .ok (.iconst 4, 1) := by decide +kernel
theorem dX67_tell_6 : decode cX67_tell 6 = .ok (.aload_n 0, 1) := by decide +kernel
theorem dX67_tell_7 : decode cX67_tell 7 = .ok (.getfield 191, 3) := by decide +kernel
theorem dX67_tell_10 : decode cX67_tell 10 = .ok (.iload_n 1, 1) := by decide +kernel
theorem dX67_tell_11 : decode cX67_tell 11 = .ok (.iaload, 1) := by decide +kernel
theorem dX67_tell_12 : decode cX67_tell 12 = .ok (.bipush 64, 2) := by decide +kernel
theorem dX67_tell_14 : decode cX67_tell 14 = .ok (.irem, 1) := by decide +kernel
theorem dX67_tell_15 : decode cX67_tell 15 = .ok (.imul, 1) := by decide +kernel
theorem dX67_tell_16 : decode cX67_tell 16 = .ok (.iadd, 1) := by decide +kernel
theorem dX67_tell_17 : decode cX67_tell 17 = .ok (.istore 9, 2) := by decide +kernel
theorem dX67_tell_19 : decode cX67_tell 19 = .ok (.aload_n 0, 1) := by decide +kernel
theorem dX67_tell_20 : decode cX67_tell 20 = .ok (.getfield 194, 3) := by decide +kernel
theorem dX67_tell_23 : decode cX67_tell 23 = .ok (.iload 9, 2) := by decide +kernel
theorem dX67_tell_25 : decode cX67_tell 25 = .ok (.iload_n 2, 1) := by decide +kernel
theorem dX67_tell_26 : decode cX67_tell 26 = .ok (.i2l, 1) := by decide +kernel
theorem dX67_tell_27 : decode cX67_tell 27 = .ok (.lastore, 1) := by decide +kernel
theorem dX67_tell_28 : decode cX67_tell 28 = .ok (.aload_n 0, 1) := by decide +kernel
theorem dX67_tell_29 : decode cX67_tell 29 = .ok (.getfield 194, 3) := by decide +kernel
theorem dX67_tell_32 : decode cX67_tell 32 = .ok (.iload 9, 2) := by decide +kernel
theorem dX67_tell_34 : decode cX67_tell 34 = .ok (.iconst 1, 1) := by decide +kernel
theorem dX67_tell_35 : decode cX67_tell 35 = .ok (.iadd, 1) := by decide +kernel
theorem dX67_tell_36 : decode cX67_tell 36 = .ok (.lload_n 3, 1) := by decide +kernel
theorem dX67_tell_37 : decode cX67_tell 37 = .ok (.lastore, 1) := by decide +kernel
theorem dX67_tell_38 : decode cX67_tell 38 = .ok (.aload_n 0, 1) := by decide +kernel
theorem dX67_tell_39 : decode cX67_tell 39 = .ok (.getfield 194, 3) := by decide +kernel
theorem dX67_tell_42 : decode cX67_tell 42 = .ok (.iload 9, 2) := by decide +kernel
theorem dX67_tell_44 : decode cX67_tell 44 = .ok (.iconst 2, 1) := by decide +kernel
theorem dX67_tell_45 : decode cX67_tell 45 = .ok (.iadd, 1) := by decide +kernel
theorem dX67_tell_46 : decode cX67_tell 46 = .ok (.lload 5, 2) := by decide +kernel
theorem dX67_tell_48 : decode cX67_tell 48 = .ok (.lastore, 1) := by decide +kernel
theorem dX67_tell_49 : decode cX67_tell 49 = .ok (.aload_n 0, 1) := by decide +kernel
theorem dX67_tell_50 : decode cX67_tell 50 = .ok (.getfield 194, 3) := by decide +kernel
theorem dX67_tell_53 : decode cX67_tell 53 = .ok (.iload 9, 2) := by decide +kernel
theorem dX67_tell_55 : decode cX67_tell 55 = .ok (.iconst 3, 1) := by decide +kernel
theorem dX67_tell_56 : decode cX67_tell 56 = .ok (.iadd, 1) := by decide +kernel
theorem dX67_tell_57 : decode cX67_tell 57 = .ok (.lload 7, 2) := by decide +kernel
theorem dX67_tell_59 : decode cX67_tell 59 = .ok (.lastore, 1) := by decide +kernel
theorem dX67_tell_60 : decode cX67_tell 60 = .ok (.iload 9, 2) := by decide +kernel
theorem dX67_tell_62 : decode cX67_tell 62 = .ok (.istore 10, 2) := by decide +kernel
theorem dX67_tell_64 : decode cX67_tell 64 = .ok (.iload 10, 2) := by decide +kernel
theorem dX67_tell_66 : decode cX67_tell 66 = .ok (.iload 9, 2) := by decide +kernel
theorem dX67_tell_68 : decode cX67_tell 68 = .ok (.iconst 4, 1) := by decide +kernel
theorem dX67_tell_69 : decode cX67_tell 69 = .ok (.iadd, 1) := by decide +kernel
theorem dX67_tell_70 : decode cX67_tell 70 = .ok (.if_icmp .ge 33, 3) := by decide +kernel
theorem dX67_tell_73 : decode cX67_tell 73 = .ok (.aload_n 0, 1) := by decide +kernel
theorem dX67_tell_74 : decode cX67_tell 74 = .ok (.getfield 197, 3) := by decide +kernel
theorem dX67_tell_77 : decode cX67_tell 77 = .ok (.iload_n 1, 1) := by decide +kernel
theorem dX67_tell_78 : decode cX67_tell 78 = .ok (.aload_n 0, 1) := by decide +kernel
theorem dX67_tell_79 : decode cX67_tell 79 = .ok (.getfield 197, 3) := by decide +kernel
theorem dX67_tell_82 : decode cX67_tell 82 = .ok (.iload_n 1, 1) := by decide +kernel
theorem dX67_tell_83 : decode cX67_tell 83 = .ok (.laload, 1) := by decide +kernel
theorem dX67_tell_84 : decode cX67_tell 84 = .ok (.aload_n 0, 1) := by decide +kernel
theorem dX67_tell_85 : decode cX67_tell 85 = .ok (.getfield 194, 3) := by decide +kernel
theorem dX67_tell_88 : decode cX67_tell 88 = .ok (.iload 10, 2) := by decide +kernel
theorem dX67_tell_90 : decode cX67_tell 90 = .ok (.laload, 1) := by decide +kernel
theorem dX67_tell_91 : decode cX67_tell 91 = .ok (.lxor, 1) := by decide +kernel
theorem dX67_tell_92 : decode cX67_tell 92 = .ok (.ldc2_w 522, 3) := by decide +kernel
theorem dX67_tell_95 : decode cX67_tell 95 = .ok (.lmul, 1) := by decide +kernel
theorem dX67_tell_96 : decode cX67_tell 96 = .ok (.lastore, 1) := by decide +kernel
theorem dX67_tell_97 : decode cX67_tell 97 = .ok (.iinc 10 1, 3) := by decide +kernel
theorem dX67_tell_100 : decode cX67_tell 100 = .ok (.goto (-36), 3) := by decide +kernel
theorem dX67_tell_103 : decode cX67_tell 103 = .ok (.aload_n 0, 1) := by decide +kernel
theorem dX67_tell_104 : decode cX67_tell 104 = .ok (.getfield 191, 3) := by decide +kernel
theorem dX67_tell_107 : decode cX67_tell 107 = .ok (.iload_n 1, 1) := by decide +kernel
theorem dX67_tell_108 : decode cX67_tell 108 = .ok (.dup2, 1) := by decide +kernel
theorem dX67_tell_109 : decode cX67_tell 109 = .ok (.iaload, 1) := by decide +kernel
theorem dX67_tell_110 : decode cX67_tell 110 = .ok (.iconst 1, 1) := by decide +kernel
theorem dX67_tell_111 : decode cX67_tell 111 = .ok (.iadd, 1) := by decide +kernel
theorem dX67_tell_112 : decode cX67_tell 112 = .ok (.iastore, 1) := by decide +kernel
theorem dX67_tell_113 : decode cX67_tell 113 = .ok (.return_, 1) := by decide +kernel
theorem zy_X67_tell : yX67_tell.cls ≠ "java/lang/invoke/MethodHandle" ∧ yX67_tell.cls ≠ "java/lang/invoke/VarHandle" ∧ (parseMethodDescriptor yX67_tell.desc).map (fun d => d.parameters.length) = some 5 := by decide +kernel
theorem w_fX67_tell_J103 {K : zK} (E : zE K cX67_tell "RingHouseModel" none 0) (hN : zNl K = 11) (hT : zTr K = none) (x1 : Int) : zR K 103 [(0, 69, 0), (1, 0, x1)] [] (fX67_tell_J103 x1) := by
  refine r_aload_n E dX67_tell_103 rfl 0 rfl ?_
  refine r_gec (y := 0) E zc_69 dX67_tell_104 q3275 zr_69 (zh_6860 (by decide)) (by decide) ?_
  refine r_iload_n E dX67_tell_107 rfl 1 rfl ?_
  refine r_dup22 E (zn1 rfl) (zn1 rfl) dX67_tell_108 ?_
  refine r_iaload E zc_6860 za_6860 zt_6860 zx_6860 rfl rfl dX67_tell_109 (by decide) (fun v3 => ?_)
  refine r_iconst E dX67_tell_110 (zkI (by decide) (by decide)) ?_
  refine r_iadd E dX67_tell_111 ?_
  refine r_iastore E zc_6860 za_6860 zt_6860 zo_6860 zx_6860 rfl rfl dX67_tell_112 (by decide) ?_
  exact r_return E rfl hT dX67_tell_113
theorem w_fX67_tell_B64 {K : zK} (E : zE K cX67_tell "RingHouseModel" none 0) (hN : zNl K = 11) (hT : zTr K = none) (x1 : Int) (x9 : Int) : ∀ r64 : Int → zX, (∀ s : Int, zR K 64 [(0, 69, 0), (1, 0, x1), (9, 0, x9), (10, 0, s)] [] (r64 s)) → ∀ s : Int, zR K 64 [(0, 69, 0), (1, 0, x1), (9, 0, x9), (10, 0, s)] [] (fX67_tell_B64 x1 x9 r64 s) := by
  intro r64 hr64 x10
  refine r_iload E dX67_tell_64 3 rfl ?_
  refine r_iload E dX67_tell_66 2 rfl ?_
  refine r_iconst E dX67_tell_68 (zkI (by decide) (by decide)) ?_
  refine r_iadd E dX67_tell_69 ?_
  refine r_icmp_ge E 103 (by decide) dX67_tell_70 (fun _ => ?_) (fun _ => ?_)
  · refine r_pick E [0, 1] rfl ?_
    exact w_fX67_tell_J103 E hN hT x1
  · refine r_aload_n E dX67_tell_73 rfl 0 rfl ?_
    refine r_gec (y := 0) E zc_69 dX67_tell_74 q3277 zr_69 (zh_6862 (by decide)) (by decide) ?_
    refine r_iload_n E dX67_tell_77 rfl 1 rfl ?_
    refine r_aload_n E dX67_tell_78 rfl 0 rfl ?_
    refine r_gec (y := 0) E zc_69 dX67_tell_79 q3277 zr_69 (zh_6862 (by decide)) (by decide) ?_
    refine r_iload_n E dX67_tell_82 rfl 1 rfl ?_
    refine r_laload E zc_6862 za_6862 zt_6862 zx_6862 rfl rfl dX67_tell_83 (by decide) (fun v4 => ?_)
    refine r_aload_n E dX67_tell_84 rfl 0 rfl ?_
    refine r_gec (y := 0) E zc_69 dX67_tell_85 q3276 zr_69 (zh_6861 (by decide)) (by decide) ?_
    refine r_iload E dX67_tell_88 3 rfl ?_
    refine r_laload E zc_6861 za_6861 zt_6861 zx_6861 rfl rfl dX67_tell_90 (by decide) (fun v5 => ?_)
    refine r_lxor E dX67_tell_91 ?_
    refine r_ldc2 (v := 1099511628211) E dX67_tell_92 q3834 (by decide) (zkJ (by decide) (by decide)) ?_
    refine r_lmul E dX67_tell_95 ?_
    refine r_lastore E zc_6862 za_6862 zt_6862 zo_6862 zx_6862 rfl rfl dX67_tell_96 (by decide) ?_
    refine r_iinc (ls' := fun v6 => [(10, 0, v6), (0, 69, 0), (1, 0, x1), (9, 0, x9)]) E 3 rfl (by rw [hN]; decide) (fun _ => rfl) dX67_tell_97 (fun v6 _ => ?_)
    refine r_goto E 64 (by decide) dX67_tell_100 ?_
    refine r_pick E [1, 2, 3, 0] rfl ?_
    exact hr64 v6
theorem w_fX67_tell {K : zK} (E : zE K cX67_tell "RingHouseModel" none 0) (hN : zNl K = 11) (hT : zTr K = none) (x1 : Int) (x2 : Int) (x3 : Int) (x5 : Int) (x7 : Int) : zR K 0 [(0, 69, 0), (1, 0, x1), (2, 0, x2), (3, 1, x3), (5, 1, x5), (7, 1, x7)] [] (fX67_tell x1 x2 x3 x5 x7) := by
  refine r_sipush E dX67_tell_0 (by decide) (zkI (by decide) (by decide)) ?_
  refine r_iload_n E dX67_tell_3 rfl 1 rfl ?_
  refine r_imul E dX67_tell_4 ?_
  refine r_iconst E dX67_tell_5 (zkI (by decide) (by decide)) ?_
  refine r_aload_n E dX67_tell_6 rfl 0 rfl ?_
  refine r_gec (y := 0) E zc_69 dX67_tell_7 q3275 zr_69 (zh_6860 (by decide)) (by decide) ?_
  refine r_iload_n E dX67_tell_10 rfl 1 rfl ?_
  refine r_iaload E zc_6860 za_6860 zt_6860 zx_6860 rfl rfl dX67_tell_11 (by decide) (fun v1 => ?_)
  refine r_bipush E dX67_tell_12 (by decide) (zkI (by decide) (by decide)) ?_
  refine r_irem E (by decide) dX67_tell_14 ?_
  refine r_imul E dX67_tell_15 ?_
  refine r_iadd E dX67_tell_16 ?_
  refine r_let E (fun v2 ev2 => ?_)
  refine r_istore (ls' := [(9, 0, v2), (0, 69, 0), (1, 0, x1), (2, 0, x2), (3, 1, x3), (5, 1, x5), (7, 1, x7)]) E dX67_tell_17 (by rw [hN]; decide) rfl ?_
  refine r_aload_n E dX67_tell_19 rfl 1 rfl ?_
  refine r_gec (y := 0) E zc_69 dX67_tell_20 q3276 zr_69 (zh_6861 (by decide)) (by decide) ?_
  refine r_iload E dX67_tell_23 0 rfl ?_
  refine r_iload_n E dX67_tell_25 rfl 3 rfl ?_
  refine r_i2l E dX67_tell_26 ?_
  refine r_lastore E zc_6861 za_6861 zt_6861 zo_6861 zx_6861 rfl rfl dX67_tell_27 (by decide) ?_
  refine r_aload_n E dX67_tell_28 rfl 1 rfl ?_
  refine r_gec (y := 0) E zc_69 dX67_tell_29 q3276 zr_69 (zh_6861 (by decide)) (by decide) ?_
  refine r_iload E dX67_tell_32 0 rfl ?_
  refine r_iconst E dX67_tell_34 (zkI (by decide) (by decide)) ?_
  refine r_iadd E dX67_tell_35 ?_
  refine r_lload_n E dX67_tell_36 rfl 4 rfl ?_
  refine r_lastore E zc_6861 za_6861 zt_6861 zo_6861 zx_6861 rfl rfl dX67_tell_37 (by decide) ?_
  refine r_aload_n E dX67_tell_38 rfl 1 rfl ?_
  refine r_gec (y := 0) E zc_69 dX67_tell_39 q3276 zr_69 (zh_6861 (by decide)) (by decide) ?_
  refine r_iload E dX67_tell_42 0 rfl ?_
  refine r_iconst E dX67_tell_44 (zkI (by decide) (by decide)) ?_
  refine r_iadd E dX67_tell_45 ?_
  refine r_lload E dX67_tell_46 5 rfl ?_
  refine r_lastore E zc_6861 za_6861 zt_6861 zo_6861 zx_6861 rfl rfl dX67_tell_48 (by decide) ?_
  refine r_aload_n E dX67_tell_49 rfl 1 rfl ?_
  refine r_gec (y := 0) E zc_69 dX67_tell_50 q3276 zr_69 (zh_6861 (by decide)) (by decide) ?_
  refine r_iload E dX67_tell_53 0 rfl ?_
  refine r_iconst E dX67_tell_55 (zkI (by decide) (by decide)) ?_
  refine r_iadd E dX67_tell_56 ?_
  refine r_lload E dX67_tell_57 6 rfl ?_
  refine r_lastore E zc_6861 za_6861 zt_6861 zo_6861 zx_6861 rfl rfl dX67_tell_59 (by decide) ?_
  refine r_iload E dX67_tell_60 0 rfl ?_
  refine r_istore (ls' := [(10, 0, v2), (9, 0, v2), (0, 69, 0), (1, 0, x1), (2, 0, x2), (3, 1, x3), (5, 1, x5), (7, 1, x7)]) E dX67_tell_62 (by rw [hN]; decide) rfl ?_
  refine r_pick E [2, 3, 1, 0] rfl ?_
  exact r_loop (L := fun s => [(0, 69, 0), (1, 0, x1), (9, 0, v2), (10, 0, s)]) (w_fX67_tell_B64 E hN hT x1 v2) zBIG v2
theorem k_fX67_tell (l : Launch) (G : zG) (x1 : Int) (x2 : Int) (x3 : Int) (x5 : Int) (x7 : Int) : zCt l G yX67_tell cX67_tell 11 none 0 [(69, 0), (0, x1), (0, x2), (1, x3), (1, x5), (1, x7)] none (fX67_tell x1 x2 x3 x5 x7) := zCt.of (by decide) (Nat.le_of_ble_eq_true rfl) (fun K E _ _ hN hT => w_fX67_tell E hN hT x1 x2 x3 x5 x7)
theorem dX67_act_0 : decode cX67_act 0 = .ok (.aload_n 0, 1) := by decide +kernel
theorem dX67_act_1 : decode cX67_act 1 = .ok (.getfield 537, 3) := by decide +kernel
theorem dX67_act_4 : decode cX67_act 4 = .ok (.ifCond .ne 23, 3) := by decide +kernel
theorem dX67_act_7 : decode cX67_act 7 = .ok (.aload_n 0, 1) := by decide +kernel
theorem dX67_act_8 : decode cX67_act 8 = .ok (.getfield 74, 3) := by decide +kernel
theorem dX67_act_11 : decode cX67_act 11 = .ok (.iload_n 1, 1) := by decide +kernel
theorem dX67_act_12 : decode cX67_act 12 = .ok (.iconst 2, 1) := by decide +kernel
theorem dX67_act_13 : decode cX67_act 13 = .ok (.iastore, 1) := by decide +kernel
theorem dX67_act_14 : decode cX67_act 14 = .ok (.aload_n 0, 1) := by decide +kernel
theorem dX67_act_15 : decode cX67_act 15 = .ok (.iload_n 1, 1) := by decide +kernel
theorem dX67_act_16 : decode cX67_act 16 = .ok (.bipush 6, 2) := by decide +kernel
theorem dX67_act_18 : decode cX67_act 18 = .ok (.lconst 0, 1) := by decide +kernel
theorem dX67_act_19 : decode cX67_act 19 = .ok (.lconst 0, 1) := by decide +kernel
theorem dX67_act_20 : decode cX67_act 20 = .ok (.lconst 0, 1) := by decide +kernel
theorem dX67_act_21 : decode cX67_act 21 = .ok (.invokevirtual 616, 3) := by decide +kernel
theorem dX67_act_24 : decode cX67_act 24 = .ok (.goto 192, 3) := by decide +kernel
theorem dX67_act_27 : decode cX67_act 27 = .ok (.aload_n 0, 1) := by decide +kernel
theorem dX67_act_28 : decode cX67_act 28 = .ok (.getfield 537, 3) := by decide +kernel
theorem dX67_act_31 : decode cX67_act 31 = .ok (.bipush 36, 2) := by decide +kernel
theorem dX67_act_33 : decode cX67_act 33 = .ok (.if_icmp .ne 45, 3) := by decide +kernel
theorem dX67_act_36 : decode cX67_act 36 = .ok (.aload_n 0, 1) := by decide +kernel
theorem dX67_act_37 : decode cX67_act 37 = .ok (.getfield 86, 3) := by decide +kernel
theorem dX67_act_40 : decode cX67_act 40 = .ok (.iload_n 1, 1) := by decide +kernel
theorem dX67_act_41 : decode cX67_act 41 = .ok (.laload, 1) := by decide +kernel
theorem dX67_act_42 : decode cX67_act 42 = .ok (.lstore 4, 2) := by decide +kernel
theorem dX67_act_44 : decode cX67_act 44 = .ok (.aload_n 0, 1) := by decide +kernel
theorem dX67_act_45 : decode cX67_act 45 = .ok (.getfield 86, 3) := by decide +kernel
theorem dX67_act_48 : decode cX67_act 48 = .ok (.iload_n 1, 1) := by decide +kernel
theorem dX67_act_49 : decode cX67_act 49 = .ok (.aload_n 0, 1) := by decide +kernel
theorem dX67_act_50 : decode cX67_act 50 = .ok (.getfield 89, 3) := by decide +kernel
theorem dX67_act_53 : decode cX67_act 53 = .ok (.iload_n 1, 1) := by decide +kernel
theorem dX67_act_54 : decode cX67_act 54 = .ok (.laload, 1) := by decide +kernel
theorem dX67_act_55 : decode cX67_act 55 = .ok (.lastore, 1) := by decide +kernel
theorem dX67_act_56 : decode cX67_act 56 = .ok (.aload_n 0, 1) := by decide +kernel
theorem dX67_act_57 : decode cX67_act 57 = .ok (.getfield 89, 3) := by decide +kernel
theorem dX67_act_60 : decode cX67_act 60 = .ok (.iload_n 1, 1) := by decide +kernel
theorem dX67_act_61 : decode cX67_act 61 = .ok (.lload 4, 2) := by decide +kernel
theorem dX67_act_63 : decode cX67_act 63 = .ok (.lastore, 1) := by decide +kernel
theorem dX67_act_64 : decode cX67_act 64 = .ok (.aload_n 0, 1) := by decide +kernel
theorem dX67_act_65 : decode cX67_act 65 = .ok (.iload_n 1, 1) := by decide +kernel
theorem dX67_act_66 : decode cX67_act 66 = .ok (.aload_n 0, 1) := by decide +kernel
theorem dX67_act_67 : decode cX67_act 67 = .ok (.getfield 86, 3) := by decide +kernel
theorem dX67_act_70 : decode cX67_act 70 = .ok (.iload_n 1, 1) := by decide +kernel
theorem dX67_act_71 : decode cX67_act 71 = .ok (.laload, 1) := by decide +kernel
theorem dX67_act_72 : decode cX67_act 72 = .ok (.invokevirtual 591, 3) := by decide +kernel
theorem dX67_act_75 : decode cX67_act 75 = .ok (.goto 141, 3) := by decide +kernel
theorem dX67_act_78 : decode cX67_act 78 = .ok (.aload_n 0, 1) := by decide +kernel
theorem dX67_act_79 : decode cX67_act 79 = .ok (.getfield 537, 3) := by decide +kernel
theorem dX67_act_82 : decode cX67_act 82 = .ok (.bipush 37, 2) := by decide +kernel
theorem dX67_act_84 : decode cX67_act 84 = .ok (.if_icmp .ne 34, 3) := by decide +kernel
theorem dX67_act_87 : decode cX67_act 87 = .ok (.aload_n 0, 1) := by decide +kernel
theorem dX67_act_88 : decode cX67_act 88 = .ok (.getfield 86, 3) := by decide +kernel
theorem dX67_act_91 : decode cX67_act 91 = .ok (.iload_n 1, 1) := by decide +kernel
theorem dX67_act_92 : decode cX67_act 92 = .ok (.aload_n 0, 1) := by decide +kernel
theorem dX67_act_93 : decode cX67_act 93 = .ok (.getfield 86, 3) := by decide +kernel
theorem dX67_act_96 : decode cX67_act 96 = .ok (.iload_n 1, 1) := by decide +kernel
theorem dX67_act_97 : decode cX67_act 97 = .ok (.laload, 1) := by decide +kernel
theorem dX67_act_98 : decode cX67_act 98 = .ok (.lneg, 1) := by decide +kernel
theorem dX67_act_99 : decode cX67_act 99 = .ok (.ldc2_w 361, 3) := by decide +kernel
theorem dX67_act_102 : decode cX67_act 102 = .ok (.land, 1) := by decide +kernel
theorem dX67_act_103 : decode cX67_act 103 = .ok (.lastore, 1) := by decide +kernel
theorem dX67_act_104 : decode cX67_act 104 = .ok (.aload_n 0, 1) := by decide +kernel
theorem dX67_act_105 : decode cX67_act 105 = .ok (.iload_n 1, 1) := by decide +kernel
theorem dX67_act_106 : decode cX67_act 106 = .ok (.aload_n 0, 1) := by decide +kernel
theorem dX67_act_107 : decode cX67_act 107 = .ok (.getfield 86, 3) := by decide +kernel
theorem dX67_act_110 : decode cX67_act 110 = .ok (.iload_n 1, 1) := by decide +kernel
theorem dX67_act_111 : decode cX67_act 111 = .ok (.laload, 1) := by decide +kernel
theorem dX67_act_112 : decode cX67_act 112 = .ok (.invokevirtual 591, 3) := by decide +kernel
theorem dX67_act_115 : decode cX67_act 115 = .ok (.goto 101, 3) := by decide +kernel
theorem dX67_act_118 : decode cX67_act 118 = .ok (.aload_n 0, 1) := by decide +kernel
theorem dX67_act_119 : decode cX67_act 119 = .ok (.getfield 537, 3) := by decide +kernel
theorem dX67_act_122 : decode cX67_act 122 = .ok (.bipush 26, 2) := by decide +kernel
theorem dX67_act_124 : decode cX67_act 124 = .ok (.if_icmp .le 12, 3) := by decide +kernel
theorem dX67_act_127 : decode cX67_act 127 = .ok (.aload_n 0, 1) := by decide +kernel
theorem dX67_act_128 : decode cX67_act 128 = .ok (.iload_n 1, 1) := by decide +kernel
theorem dX67_act_129 : decode cX67_act 129 = .ok (.iload_n 2, 1) := by decide +kernel
theorem dX67_act_130 : decode cX67_act 130 = .ok (.invokevirtual 638, 3) := by decide +kernel
theorem dX67_act_133 : decode cX67_act 133 = .ok (.goto 83, 3) := by decide +kernel
theorem dX67_act_136 : decode cX67_act 136 = .ok (.aload_n 0, 1) := by decide +kernel
theorem dX67_act_137 : decode cX67_act 137 = .ok (.getfield 537, 3) := by decide +kernel
theorem dX67_act_140 : decode cX67_act 140 = .ok (.bipush 19, 2) := by decide +kernel
theorem dX67_act_142 : decode cX67_act 142 = .ok (.if_icmp .le 12, 3) := by decide +kernel
theorem dX67_act_145 : decode cX67_act 145 = .ok (.aload_n 0, 1) := by decide +kernel
theorem dX67_act_146 : decode cX67_act 146 = .ok (.iload_n 1, 1) := by decide +kernel
theorem dX67_act_147 : decode cX67_act 147 = .ok (.iload_n 2, 1) := by decide +kernel
theorem dX67_act_148 : decode cX67_act 148 = .ok (.invokevirtual 641, 3) := by decide +kernel
theorem dX67_act_151 : decode cX67_act 151 = .ok (.goto 65, 3) := by decide +kernel
theorem dX67_act_154 : decode cX67_act 154 = .ok (.aload_n 0, 1) := by decide +kernel
theorem dX67_act_155 : decode cX67_act 155 = .ok (.getfield 537, 3) := by decide +kernel
theorem dX67_act_158 : decode cX67_act 158 = .ok (.iconst 1, 1) := by decide +kernel
theorem dX67_act_159 : decode cX67_act 159 = .ok (.if_icmp .le 57, 3) := by decide +kernel
theorem dX67_act_162 : decode cX67_act 162 = .ok (.aload_n 0, 1) := by decide +kernel
theorem dX67_act_163 : decode cX67_act 163 = .ok (.getfield 107, 3) := by decide +kernel
theorem dX67_act_166 : decode cX67_act 166 = .ok (.iload_n 1, 1) := by decide +kernel
theorem dX67_act_167 : decode cX67_act 167 = .ok (.iload_n 3, 1) := by decide +kernel
theorem dX67_act_168 : decode cX67_act 168 = .ok (.iastore, 1) := by decide +kernel
theorem dX67_act_169 : decode cX67_act 169 = .ok (.aload_n 0, 1) := by decide +kernel
theorem dX67_act_170 : decode cX67_act 170 = .ok (.getfield 537, 3) := by decide +kernel
theorem dX67_act_173 : decode cX67_act 173 = .ok (.bipush 14, 2) := by decide +kernel
theorem dX67_act_175 : decode cX67_act 175 = .ok (.if_icmp .ge 12, 3) := by decide +kernel
theorem dX67_act_178 : decode cX67_act 178 = .ok (.aload_n 0, 1) := by decide +kernel
theorem dX67_act_179 : decode cX67_act 179 = .ok (.iload_n 1, 1) := by decide +kernel
theorem dX67_act_180 : decode cX67_act 180 = .ok (.iload_n 2, 1) := by decide +kernel
theorem dX67_act_181 : decode cX67_act 181 = .ok (.invokevirtual 643, 3) := by decide +kernel
theorem dX67_act_184 : decode cX67_act 184 = .ok (.goto 9, 3) := by decide +kernel
theorem dX67_act_187 : decode cX67_act 187 = .ok (.aload_n 0, 1) := by decide +kernel
theorem dX67_act_188 : decode cX67_act 188 = .ok (.iload_n 1, 1) := by decide +kernel
theorem dX67_act_189 : decode cX67_act 189 = .ok (.iload_n 2, 1) := by decide +kernel
theorem dX67_act_190 : decode cX67_act 190 = .ok (.invokevirtual 646, 3) := by decide +kernel
theorem dX67_act_193 : decode cX67_act 193 = .ok (.aload_n 0, 1) := by decide +kernel
theorem dX67_act_194 : decode cX67_act 194 = .ok (.getfield 107, 3) := by decide +kernel
theorem dX67_act_197 : decode cX67_act 197 = .ok (.iload_n 1, 1) := by decide +kernel
theorem dX67_act_198 : decode cX67_act 198 = .ok (.aload_n 0, 1) := by decide +kernel
theorem dX67_act_199 : decode cX67_act 199 = .ok (.getfield 510, 3) := by decide +kernel
theorem dX67_act_202 : decode cX67_act 202 = .ok (.ifCond .le 7, 3) := by decide +kernel
theorem dX67_act_205 : decode cX67_act 205 = .ok (.iload_n 3, 1) := by decide +kernel
theorem dX67_act_206 : decode cX67_act 206 = .ok (.goto 9, 3) := by decide +kernel
theorem dX67_act_209 : decode cX67_act 209 = .ok (.iload_n 3, 1) := by decide +kernel
theorem dX67_act_210 : decode cX67_act 210 = .ok (.iconst 1, 1) := by decide +kernel
theorem dX67_act_211 : decode cX67_act 211 = .ok (.iadd, 1) := by decide +kernel
theorem dX67_act_212 : decode cX67_act 212 = .ok (.ldc 56, 2) := by decide +kernel
theorem dX67_act_214 : decode cX67_act 214 = .ok (.irem, 1) := by decide +kernel
theorem dX67_act_215 : decode cX67_act 215 = .ok (.iastore, 1) := by decide +kernel
theorem dX67_act_216 : decode cX67_act 216 = .ok (.return_, 1) := by decide +kernel
theorem zy_X67_act : yX67_act.cls ≠ "java/lang/invoke/MethodHandle" ∧ yX67_act.cls ≠ "java/lang/invoke/VarHandle" ∧ (parseMethodDescriptor yX67_act.desc).map (fun d => d.parameters.length) = some 3 := by decide +kernel
theorem w_fX67_act_J215 {K : zK} (E : zE K cX67_act "RingHouseModel" none 6) (hN : zNl K = 6) (hT : zTr K = none) (s1 : Int) (s2 : Int) : zR K 215 [] [(0, s2), (0, s1), (6832, 0)] (fX67_act_J215 s1 s2) := by
  refine r_iastore E zc_6832 za_6832 zt_6832 zo_6832 zx_6832 rfl rfl dX67_act_215 (by decide) ?_
  exact r_return E rfl hT dX67_act_216
theorem w_fX67_act_J193 {K : zK} (E : zE K cX67_act "RingHouseModel" none 6) (hN : zNl K = 6) (hT : zTr K = none) (x1 : Int) (x3 : Int) : zR K 193 [(0, 69, 0), (1, 0, x1), (3, 0, x3)] [] (fX67_act_J193 x1 x3) := by
  refine r_aload_n E dX67_act_193 rfl 0 rfl ?_
  refine r_gec (y := 0) E zc_69 dX67_act_194 q3247 zr_69 (zh_6832 (by decide)) (by decide) ?_
  refine r_iload_n E dX67_act_197 rfl 1 rfl ?_
  refine r_aload_n E dX67_act_198 rfl 0 rfl ?_
  refine r_get E zc_69 zt_6874 dX67_act_199 q3289 zr_69 (zg_6874 _) (by decide) (fun v9 => ?_)
  refine r_if_le E 209 (by decide) dX67_act_202 (fun _ => ?_) (fun _ => ?_)
  · refine r_iload_n E dX67_act_209 rfl 2 rfl ?_
    refine r_iconst E dX67_act_210 (zkI (by decide) (by decide)) ?_
    refine r_iadd E dX67_act_211 ?_
    refine r_ldc (v := 262144) E dX67_act_212 q3170 (by decide) (zkI (by decide) (by decide)) ?_
    refine r_irem E (by decide) dX67_act_214 ?_
    refine r_pick E [] rfl ?_
    exact w_fX67_act_J215 E hN hT x1 (Int.tmod (zi (x3 + 1)) 262144)
  · refine r_iload_n E dX67_act_205 rfl 2 rfl ?_
    refine r_goto E 215 (by decide) dX67_act_206 ?_
    refine r_pick E [] rfl ?_
    exact w_fX67_act_J215 E hN hT x1 x3
theorem w_fX67_act {K : zK} (E : zE K cX67_act "RingHouseModel" none 6) (hN : zNl K = 6) (hT : zTr K = none) (x1 : Int) (x2 : Int) (x3 : Int) : zR K 0 [(0, 69, 0), (1, 0, x1), (2, 0, x2), (3, 0, x3)] [] (fX67_act x1 x2 x3) := by
  refine r_aload_n E dX67_act_0 rfl 0 rfl ?_
  refine r_get E zc_69 zt_6881 dX67_act_1 q3296 zr_69 (zg_6881 _) (by decide) (fun v1 => ?_)
  refine r_if_ne E 27 (by decide) dX67_act_4 (fun _ => ?_) (fun _ => ?_)
  · refine r_aload_n E dX67_act_27 rfl 0 rfl ?_
    refine r_get E zc_69 zt_6881 dX67_act_28 q3296 zr_69 (zg_6881 _) (by decide) (fun v2 => ?_)
    refine r_bipush E dX67_act_31 (by decide) (zkI (by decide) (by decide)) ?_
    refine r_icmp_ne E 78 (by decide) dX67_act_33 (fun _ => ?_) (fun _ => ?_)
    · refine r_aload_n E dX67_act_78 rfl 0 rfl ?_
      refine r_get E zc_69 zt_6881 dX67_act_79 q3296 zr_69 (zg_6881 _) (by decide) (fun v3 => ?_)
      refine r_bipush E dX67_act_82 (by decide) (zkI (by decide) (by decide)) ?_
      refine r_icmp_ne E 118 (by decide) dX67_act_84 (fun _ => ?_) (fun _ => ?_)
      · refine r_aload_n E dX67_act_118 rfl 0 rfl ?_
        refine r_get E zc_69 zt_6881 dX67_act_119 q3296 zr_69 (zg_6881 _) (by decide) (fun v4 => ?_)
        refine r_bipush E dX67_act_122 (by decide) (zkI (by decide) (by decide)) ?_
        refine r_icmp_le E 136 (by decide) dX67_act_124 (fun _ => ?_) (fun _ => ?_)
        · refine r_aload_n E dX67_act_136 rfl 0 rfl ?_
          refine r_get E zc_69 zt_6881 dX67_act_137 q3296 zr_69 (zg_6881 _) (by decide) (fun v5 => ?_)
          refine r_bipush E dX67_act_140 (by decide) (zkI (by decide) (by decide)) ?_
          refine r_icmp_le E 154 (by decide) dX67_act_142 (fun _ => ?_) (fun _ => ?_)
          · refine r_aload_n E dX67_act_154 rfl 0 rfl ?_
            refine r_get E zc_69 zt_6881 dX67_act_155 q3296 zr_69 (zg_6881 _) (by decide) (fun v6 => ?_)
            refine r_iconst E dX67_act_158 (zkI (by decide) (by decide)) ?_
            refine r_icmp_le E 216 (by decide) dX67_act_159 (fun _ => ?_) (fun _ => ?_)
            · exact r_return E rfl hT dX67_act_216
            · refine r_aload_n E dX67_act_162 rfl 0 rfl ?_
              refine r_gec (y := 0) E zc_69 dX67_act_163 q3247 zr_69 (zh_6832 (by decide)) (by decide) ?_
              refine r_iload_n E dX67_act_166 rfl 1 rfl ?_
              refine r_iload_n E dX67_act_167 rfl 3 rfl ?_
              refine r_iastore E zc_6832 za_6832 zt_6832 zo_6832 zx_6832 rfl rfl dX67_act_168 (by decide) ?_
              refine r_aload_n E dX67_act_169 rfl 0 rfl ?_
              refine r_get E zc_69 zt_6881 dX67_act_170 q3296 zr_69 (zg_6881 _) (by decide) (fun v7 => ?_)
              refine r_bipush E dX67_act_173 (by decide) (zkI (by decide) (by decide)) ?_
              refine r_icmp_ge E 187 (by decide) dX67_act_175 (fun _ => ?_) (fun _ => ?_)
              · refine r_aload_n E dX67_act_187 rfl 0 rfl ?_
                refine r_iload_n E dX67_act_188 rfl 1 rfl ?_
                refine r_iload_n E dX67_act_189 rfl 2 rfl ?_
                refine r_callV E [(0, x1), (0, x2)] [] rfl zc_69 zr_69 (fun o _ => ⟨_, zw_X67.1 o, rfl⟩) (lw_V q4071 q4073 qs169 q294 q4074) dX67_act_190 zy_X67_write rfl (by omega) (by decide) (Nat.le_of_ble_eq_true rfl) (by decide) (fun l G => k_fX67_write l G x1 x2) (fun _ => ?_)
                refine r_pick E [0, 1, 3] rfl ?_
                exact w_fX67_act_J193 E hN hT x1 x3
              · refine r_aload_n E dX67_act_178 rfl 0 rfl ?_
                refine r_iload_n E dX67_act_179 rfl 1 rfl ?_
                refine r_iload_n E dX67_act_180 rfl 2 rfl ?_
                refine r_callV E [(0, x1), (0, x2)] [] rfl zc_69 zr_69 (fun o _ => ⟨_, zw_X67.1 o, rfl⟩) (lw_V q4059 q4061 qs166 q294 q4062) dX67_act_181 zy_X67_reckon rfl (by omega) (by decide) (Nat.le_of_ble_eq_true rfl) (by decide) (fun l G => k_fX67_reckon l G x1 x2) (fun _ => ?_)
                refine r_goto E 193 (by decide) dX67_act_184 ?_
                refine r_pick E [0, 1, 3] rfl ?_
                exact w_fX67_act_J193 E hN hT x1 x3
          · refine r_aload_n E dX67_act_145 rfl 0 rfl ?_
            refine r_iload_n E dX67_act_146 rfl 1 rfl ?_
            refine r_iload_n E dX67_act_147 rfl 2 rfl ?_
            refine r_callV E [(0, x1), (0, x2)] [] rfl zc_69 zr_69 (fun o _ => ⟨_, zw_X67.1 o, rfl⟩) (lw_V q4045 q4047 qs165 q294 q4048) dX67_act_148 zy_X67_place rfl (by omega) (by decide) (Nat.le_of_ble_eq_true rfl) (by decide) (fun l G => k_fX67_place l G x1 x2) (fun _ => ?_)
            refine r_goto E 216 (by decide) dX67_act_151 ?_
            exact r_return E rfl hT dX67_act_216
        · refine r_aload_n E dX67_act_127 rfl 0 rfl ?_
          refine r_iload_n E dX67_act_128 rfl 1 rfl ?_
          refine r_iload_n E dX67_act_129 rfl 2 rfl ?_
          refine r_callV E [(0, x1), (0, x2)] [] rfl zc_69 zr_69 (fun o _ => ⟨_, zw_X67.1 o, rfl⟩) (lw_V q4036 q4038 qs163 q294 q4039) dX67_act_130 zy_X67_jump rfl (by omega) (by decide) (Nat.le_of_ble_eq_true rfl) (by decide) (fun l G => k_fX67_jump l G x1 x2) (fun _ => ?_)
          refine r_goto E 216 (by decide) dX67_act_133 ?_
          exact r_return E rfl hT dX67_act_216
      · refine r_aload_n E dX67_act_87 rfl 0 rfl ?_
        refine r_gec (y := 0) E zc_69 dX67_act_88 q3240 zr_69 (zh_6825 (by decide)) (by decide) ?_
        refine r_iload_n E dX67_act_91 rfl 1 rfl ?_
        refine r_aload_n E dX67_act_92 rfl 0 rfl ?_
        refine r_gec (y := 0) E zc_69 dX67_act_93 q3240 zr_69 (zh_6825 (by decide)) (by decide) ?_
        refine r_iload_n E dX67_act_96 rfl 1 rfl ?_
        refine r_laload E zc_6825 za_6825 zt_6825 zx_6825 rfl rfl dX67_act_97 (by decide) (fun v13 => ?_)
        refine r_lneg E dX67_act_98 ?_
        refine r_ldc2 (v := 68719476735) E dX67_act_99 q3628 (by decide) (zkJ (by decide) (by decide)) ?_
        refine r_lmask (P := 68719476736) E 36 (by decide) (by decide) (by decide) dX67_act_102 ?_
        refine r_lastore E zc_6825 za_6825 zt_6825 zo_6825 zx_6825 rfl rfl dX67_act_103 (by decide) ?_
        refine r_aload_n E dX67_act_104 rfl 0 rfl ?_
        refine r_iload_n E dX67_act_105 rfl 1 rfl ?_
        refine r_aload_n E dX67_act_106 rfl 0 rfl ?_
        refine r_gec (y := 0) E zc_69 dX67_act_107 q3240 zr_69 (zh_6825 (by decide)) (by decide) ?_
        refine r_iload_n E dX67_act_110 rfl 1 rfl ?_
        refine r_laload E zc_6825 za_6825 zt_6825 zx_6825 rfl rfl dX67_act_111 (by decide) (fun v14 => ?_)
        refine r_callV E [(0, x1), (1, v14)] [] rfl zc_69 zr_69 (fun o _ => ⟨_, zw_X67.1 o, rfl⟩) (lw_V q4031 q4033 qs162 q294 q4034) dX67_act_112 zy_X67_flag rfl (by omega) (by decide) (Nat.le_of_ble_eq_true rfl) (by decide) (fun l G => k_fX67_flag l G x1 v14) (fun _ => ?_)
        refine r_goto E 216 (by decide) dX67_act_115 ?_
        exact r_return E rfl hT dX67_act_216
    · refine r_aload_n E dX67_act_36 rfl 0 rfl ?_
      refine r_gec (y := 0) E zc_69 dX67_act_37 q3240 zr_69 (zh_6825 (by decide)) (by decide) ?_
      refine r_iload_n E dX67_act_40 rfl 1 rfl ?_
      refine r_laload E zc_6825 za_6825 zt_6825 zx_6825 rfl rfl dX67_act_41 (by decide) (fun v16 => ?_)
      refine r_lstore (ls' := [(4, 1, v16), (0, 69, 0), (1, 0, x1), (2, 0, x2), (3, 0, x3)]) E dX67_act_42 (by rw [hN]; decide) rfl ?_
      refine r_aload_n E dX67_act_44 rfl 1 rfl ?_
      refine r_gec (y := 0) E zc_69 dX67_act_45 q3240 zr_69 (zh_6825 (by decide)) (by decide) ?_
      refine r_iload_n E dX67_act_48 rfl 2 rfl ?_
      refine r_aload_n E dX67_act_49 rfl 1 rfl ?_
      refine r_gec (y := 0) E zc_69 dX67_act_50 q3241 zr_69 (zh_6826 (by decide)) (by decide) ?_
      refine r_iload_n E dX67_act_53 rfl 2 rfl ?_
      refine r_laload E zc_6826 za_6826 zt_6826 zx_6826 rfl rfl dX67_act_54 (by decide) (fun v17 => ?_)
      refine r_lastore E zc_6825 za_6825 zt_6825 zo_6825 zx_6825 rfl rfl dX67_act_55 (by decide) ?_
      refine r_aload_n E dX67_act_56 rfl 1 rfl ?_
      refine r_gec (y := 0) E zc_69 dX67_act_57 q3241 zr_69 (zh_6826 (by decide)) (by decide) ?_
      refine r_iload_n E dX67_act_60 rfl 2 rfl ?_
      refine r_lload E dX67_act_61 0 rfl ?_
      refine r_lastore E zc_6826 za_6826 zt_6826 zo_6826 zx_6826 rfl rfl dX67_act_63 (by decide) ?_
      refine r_aload_n E dX67_act_64 rfl 1 rfl ?_
      refine r_iload_n E dX67_act_65 rfl 2 rfl ?_
      refine r_aload_n E dX67_act_66 rfl 1 rfl ?_
      refine r_gec (y := 0) E zc_69 dX67_act_67 q3240 zr_69 (zh_6825 (by decide)) (by decide) ?_
      refine r_iload_n E dX67_act_70 rfl 2 rfl ?_
      refine r_laload E zc_6825 za_6825 zt_6825 zx_6825 rfl rfl dX67_act_71 (by decide) (fun v18 => ?_)
      refine r_callV E [(0, x1), (1, v18)] [] rfl zc_69 zr_69 (fun o _ => ⟨_, zw_X67.1 o, rfl⟩) (lw_V q4031 q4033 qs162 q294 q4034) dX67_act_72 zy_X67_flag rfl (by omega) (by decide) (Nat.le_of_ble_eq_true rfl) (by decide) (fun l G => k_fX67_flag l G x1 v18) (fun _ => ?_)
      refine r_goto E 216 (by decide) dX67_act_75 ?_
      exact r_return E rfl hT dX67_act_216
  · refine r_aload_n E dX67_act_7 rfl 0 rfl ?_
    refine r_gec (y := 0) E zc_69 dX67_act_8 q3236 zr_69 (zh_6821 (by decide)) (by decide) ?_
    refine r_iload_n E dX67_act_11 rfl 1 rfl ?_
    refine r_iconst E dX67_act_12 (zkI (by decide) (by decide)) ?_
    refine r_iastore E zc_6821 za_6821 zt_6821 zo_6821 zx_6821 rfl rfl dX67_act_13 (by decide) ?_
    refine r_aload_n E dX67_act_14 rfl 0 rfl ?_
    refine r_iload_n E dX67_act_15 rfl 1 rfl ?_
    refine r_bipush E dX67_act_16 (by decide) (zkI (by decide) (by decide)) ?_
    refine r_lconst (v := 0) E dX67_act_18 (by decide) (zkJ (by decide) (by decide)) ?_
    refine r_lconst (v := 0) E dX67_act_19 (by decide) (zkJ (by decide) (by decide)) ?_
    refine r_lconst (v := 0) E dX67_act_20 (by decide) (zkJ (by decide) (by decide)) ?_
    refine r_callV E [(0, x1), (0, 6), (1, 0), (1, 0), (1, 0)] [] rfl zc_69 zr_69 (fun o _ => ⟨_, zw_X67.1 o, rfl⟩) (lw_V q3830 q3832 qs118 q294 q3833) dX67_act_21 zy_X67_tell rfl (by omega) (by decide) (Nat.le_of_ble_eq_true rfl) (by decide) (fun l G => k_fX67_tell l G x1 6 0 0 0) (fun _ => ?_)
    refine r_goto E 216 (by decide) dX67_act_24 ?_
    exact r_return E rfl hT dX67_act_216
theorem k_fX67_act (l : Launch) (G : zG) (x1 : Int) (x2 : Int) (x3 : Int) : zCt l G yX67_act cX67_act 6 none 6 [(69, 0), (0, x1), (0, x2), (0, x3)] none (fX67_act x1 x2 x3) := zCt.of (by decide) (Nat.le_of_ble_eq_true rfl) (fun K E _ _ hN hT => w_fX67_act E hN hT x1 x2 x3)
theorem dX67_isOfEntry_0 : decode cX67_isOfEntry 0 = .ok (.iload_n 0, 1) := by decide +kernel
theorem dX67_isOfEntry_1 : decode cX67_isOfEntry 1 = .ok (.iconst 1, 1) := by decide +kernel
theorem dX67_isOfEntry_2 : decode cX67_isOfEntry 2 = .ok (.if_icmp .eq 48, 3) := by decide +kernel
theorem dX67_isOfEntry_5 : decode cX67_isOfEntry 5 = .ok (.iload_n 0, 1) := by decide +kernel
theorem dX67_isOfEntry_6 : decode cX67_isOfEntry 6 = .ok (.iconst 4, 1) := by decide +kernel
theorem dX67_isOfEntry_7 : decode cX67_isOfEntry 7 = .ok (.if_icmp .eq 43, 3) := by decide +kernel
theorem dX67_isOfEntry_10 : decode cX67_isOfEntry 10 = .ok (.iload_n 0, 1) := by decide +kernel
theorem dX67_isOfEntry_11 : decode cX67_isOfEntry 11 = .ok (.bipush 7, 2) := by decide +kernel
theorem dX67_isOfEntry_13 : decode cX67_isOfEntry 13 = .ok (.if_icmp .eq 37, 3) := by decide +kernel
theorem dX67_isOfEntry_16 : decode cX67_isOfEntry 16 = .ok (.iload_n 0, 1) := by decide +kernel
theorem dX67_isOfEntry_17 : decode cX67_isOfEntry 17 = .ok (.i2l, 1) := by decide +kernel
theorem dX67_isOfEntry_18 : decode cX67_isOfEntry 18 = .ok (.ldc2_w 704, 3) := by decide +kernel
theorem dX67_isOfEntry_21 : decode cX67_isOfEntry 21 = .ok (.ldc2_w 540, 3) := by decide +kernel
theorem dX67_isOfEntry_24 : decode cX67_isOfEntry 24 = .ok (.invokestatic 363, 3) := by decide +kernel
theorem dX67_isOfEntry_27 : decode cX67_isOfEntry 27 = .ok (.ifCond .ne 23, 3) := by decide +kernel
theorem dX67_isOfEntry_30 : decode cX67_isOfEntry 30 = .ok (.iload_n 0, 1) := by decide +kernel
theorem dX67_isOfEntry_31 : decode cX67_isOfEntry 31 = .ok (.bipush 15, 2) := by decide +kernel
theorem dX67_isOfEntry_33 : decode cX67_isOfEntry 33 = .ok (.if_icmp .eq 17, 3) := by decide +kernel
theorem dX67_isOfEntry_36 : decode cX67_isOfEntry 36 = .ok (.iload_n 0, 1) := by decide +kernel
theorem dX67_isOfEntry_37 : decode cX67_isOfEntry 37 = .ok (.i2l, 1) := by decide +kernel
theorem dX67_isOfEntry_38 : decode cX67_isOfEntry 38 = .ok (.ldc2_w 706, 3) := by decide +kernel
theorem dX67_isOfEntry_41 : decode cX67_isOfEntry 41 = .ok (.ldc2_w 708, 3) := by decide +kernel
theorem dX67_isOfEntry_44 : decode cX67_isOfEntry 44 = .ok (.invokestatic 363, 3) := by decide +kernel
theorem dX67_isOfEntry_47 : decode cX67_isOfEntry 47 = .ok (.ifCond .eq 7, 3) := by decide +kernel
theorem dX67_isOfEntry_50 : decode cX67_isOfEntry 50 = .ok (.iconst 1, 1) := by decide +kernel
theorem dX67_isOfEntry_51 : decode cX67_isOfEntry 51 = .ok (.goto 4, 3) := by decide +kernel
theorem dX67_isOfEntry_54 : decode cX67_isOfEntry 54 = .ok (.iconst 0, 1) := by decide +kernel
theorem dX67_isOfEntry_55 : decode cX67_isOfEntry 55 = .ok (.ireturn, 1) := by decide +kernel
theorem zy_X67_isOfEntry : yX67_isOfEntry.cls ≠ "java/lang/invoke/MethodHandle" ∧ yX67_isOfEntry.cls ≠ "java/lang/invoke/VarHandle" ∧ (parseMethodDescriptor yX67_isOfEntry.desc).map (fun d => d.parameters.length) = some 1 := by decide +kernel
theorem w_fX67_isOfEntry {K : zK} (E : zE K cX67_isOfEntry "RingHouseModel" (some .boolean) 1) (hN : zNl K = 1) (hT : zTr K = (some 0)) (x0 : Int) : zR K 0 [(0, 0, x0)] [] (fX67_isOfEntry x0) := by
  refine r_iload_n E dX67_isOfEntry_0 rfl 0 rfl ?_
  refine r_iconst E dX67_isOfEntry_1 (zkI (by decide) (by decide)) ?_
  refine r_icmp_eq E 50 (by decide) dX67_isOfEntry_2 (fun _ => ?_) (fun _ => ?_)
  · refine r_iconst E dX67_isOfEntry_50 (zkI (by decide) (by decide)) ?_
    refine r_goto E 55 (by decide) dX67_isOfEntry_51 ?_
    exact r_zreturn E rfl hT (by decide) dX67_isOfEntry_55
  · refine r_iload_n E dX67_isOfEntry_5 rfl 0 rfl ?_
    refine r_iconst E dX67_isOfEntry_6 (zkI (by decide) (by decide)) ?_
    refine r_icmp_eq E 50 (by decide) dX67_isOfEntry_7 (fun _ => ?_) (fun _ => ?_)
    · refine r_iconst E dX67_isOfEntry_50 (zkI (by decide) (by decide)) ?_
      refine r_goto E 55 (by decide) dX67_isOfEntry_51 ?_
      exact r_zreturn E rfl hT (by decide) dX67_isOfEntry_55
    · refine r_iload_n E dX67_isOfEntry_10 rfl 0 rfl ?_
      refine r_bipush E dX67_isOfEntry_11 (by decide) (zkI (by decide) (by decide)) ?_
      refine r_icmp_eq E 50 (by decide) dX67_isOfEntry_13 (fun _ => ?_) (fun _ => ?_)
      · refine r_iconst E dX67_isOfEntry_50 (zkI (by decide) (by decide)) ?_
        refine r_goto E 55 (by decide) dX67_isOfEntry_51 ?_
        exact r_zreturn E rfl hT (by decide) dX67_isOfEntry_55
      · refine r_iload_n E dX67_isOfEntry_16 rfl 0 rfl ?_
        refine r_i2l E dX67_isOfEntry_17 ?_
        refine r_ldc2 (v := 10) E dX67_isOfEntry_18 q3940 (by decide) (zkJ (by decide) (by decide)) ?_
        refine r_ldc2 (v := 13) E dX67_isOfEntry_21 q3863 (by decide) (zkJ (by decide) (by decide)) ?_
        refine r_callS E [(1, x0), (1, 10), (1, 13)] [] rfl q3619 q3620 q294 q3621 dX67_isOfEntry_24 zy_X67_in rfl (by omega) (by decide) (Nat.le_of_ble_eq_true rfl) (fun l G => k_fX67_in l G x0 10 13) (fun v1 => ?_)
        refine r_if_ne E 50 (by decide) dX67_isOfEntry_27 (fun _ => ?_) (fun _ => ?_)
        · refine r_iconst E dX67_isOfEntry_50 (zkI (by decide) (by decide)) ?_
          refine r_goto E 55 (by decide) dX67_isOfEntry_51 ?_
          exact r_zreturn E rfl hT (by decide) dX67_isOfEntry_55
        · refine r_iload_n E dX67_isOfEntry_30 rfl 0 rfl ?_
          refine r_bipush E dX67_isOfEntry_31 (by decide) (zkI (by decide) (by decide)) ?_
          refine r_icmp_eq E 50 (by decide) dX67_isOfEntry_33 (fun _ => ?_) (fun _ => ?_)
          · refine r_iconst E dX67_isOfEntry_50 (zkI (by decide) (by decide)) ?_
            refine r_goto E 55 (by decide) dX67_isOfEntry_51 ?_
            exact r_zreturn E rfl hT (by decide) dX67_isOfEntry_55
          · refine r_iload_n E dX67_isOfEntry_36 rfl 0 rfl ?_
            refine r_i2l E dX67_isOfEntry_37 ?_
            refine r_ldc2 (v := 25) E dX67_isOfEntry_38 q3941 (by decide) (zkJ (by decide) (by decide)) ?_
            refine r_ldc2 (v := 27) E dX67_isOfEntry_41 q3942 (by decide) (zkJ (by decide) (by decide)) ?_
            refine r_callS E [(1, x0), (1, 25), (1, 27)] [] rfl q3619 q3620 q294 q3621 dX67_isOfEntry_44 zy_X67_in rfl (by omega) (by decide) (Nat.le_of_ble_eq_true rfl) (fun l G => k_fX67_in l G x0 25 27) (fun v2 => ?_)
            refine r_if_eq E 54 (by decide) dX67_isOfEntry_47 (fun _ => ?_) (fun _ => ?_)
            · refine r_iconst E dX67_isOfEntry_54 (zkI (by decide) (by decide)) ?_
              exact r_zreturn E rfl hT (by decide) dX67_isOfEntry_55
            · refine r_iconst E dX67_isOfEntry_50 (zkI (by decide) (by decide)) ?_
              refine r_goto E 55 (by decide) dX67_isOfEntry_51 ?_
              exact r_zreturn E rfl hT (by decide) dX67_isOfEntry_55
theorem k_fX67_isOfEntry (l : Launch) (G : zG) (x0 : Int) : zCt l G yX67_isOfEntry cX67_isOfEntry 1 (some .boolean) 1 [(0, x0)] (some 0) (fX67_isOfEntry x0) := zCt.of (by decide) (Nat.le_of_ble_eq_true rfl) (fun K E _ _ hN hT => w_fX67_isOfEntry E hN hT x0)
theorem dX67_askDirectory_0 : decode cX67_askDirectory 0 = .ok (.aload_n 0, 1) := by decide +kernel
theorem dX67_askDirectory_1 : decode cX67_askDirectory 1 = .ok (.iload_n 2, 1) := by decide +kernel
theorem dX67_askDirectory_2 : decode cX67_askDirectory 2 = .ok (.aload_n 0, 1) := by decide +kernel
theorem dX67_askDirectory_3 : decode cX67_askDirectory 3 = .ok (.getfield 77, 3) := by decide +kernel
theorem dX67_askDirectory_6 : decode cX67_askDirectory 6 = .ok (.iload_n 1, 1) := by decide +kernel
theorem dX67_askDirectory_7 : decode cX67_askDirectory 7 = .ok (.iaload, 1) := by decide +kernel
theorem dX67_askDirectory_8 : decode cX67_askDirectory 8 = .ok (.aload_n 0, 1) := by decide +kernel
theorem dX67_askDirectory_9 : decode cX67_askDirectory 9 = .ok (.getfield 80, 3) := by decide +kernel
theorem dX67_askDirectory_12 : decode cX67_askDirectory 12 = .ok (.iload_n 1, 1) := by decide +kernel
theorem dX67_askDirectory_13 : decode cX67_askDirectory 13 = .ok (.iaload, 1) := by decide +kernel
theorem dX67_askDirectory_14 : decode cX67_askDirectory 14 = .ok (.invokevirtual 498, 3) := by decide +kernel
theorem dX67_askDirectory_17 : decode cX67_askDirectory 17 = .ok (.iload_n 3, 1) := by decide +kernel
theorem dX67_askDirectory_18 : decode cX67_askDirectory 18 = .ok (.iand, 1) := by decide +kernel
theorem dX67_askDirectory_19 : decode cX67_askDirectory 19 = .ok (.ifCond .ne 6, 3) := by decide +kernel
theorem dX67_askDirectory_22 : decode cX67_askDirectory 22 = .ok (.bipush (-2), 2) := by decide +kernel
theorem dX67_askDirectory_24 : decode cX67_askDirectory 24 = .ok (.ireturn, 1) := by decide +kernel
theorem dX67_askDirectory_25 : decode cX67_askDirectory 25 = .ok (.iload_n 3, 1) := by decide +kernel
theorem dX67_askDirectory_26 : decode cX67_askDirectory 26 = .ok (.iconst 1, 1) := by decide +kernel
theorem dX67_askDirectory_27 : decode cX67_askDirectory 27 = .ok (.if_icmp .ne 24, 3) := by decide +kernel
theorem dX67_askDirectory_30 : decode cX67_askDirectory 30 = .ok (.aload_n 0, 1) := by decide +kernel
theorem dX67_askDirectory_31 : decode cX67_askDirectory 31 = .ok (.getfield 83, 3) := by decide +kernel
theorem dX67_askDirectory_34 : decode cX67_askDirectory 34 = .ok (.iload_n 1, 1) := by decide +kernel
theorem dX67_askDirectory_35 : decode cX67_askDirectory 35 = .ok (.iaload, 1) := by decide +kernel
theorem dX67_askDirectory_36 : decode cX67_askDirectory 36 = .ok (.aload_n 0, 1) := by decide +kernel
theorem dX67_askDirectory_37 : decode cX67_askDirectory 37 = .ok (.getfield 20, 3) := by decide +kernel
theorem dX67_askDirectory_40 : decode cX67_askDirectory 40 = .ok (.iload_n 2, 1) := by decide +kernel
theorem dX67_askDirectory_41 : decode cX67_askDirectory 41 = .ok (.iaload, 1) := by decide +kernel
theorem dX67_askDirectory_42 : decode cX67_askDirectory 42 = .ok (.invokestatic 447, 3) := by decide +kernel
theorem dX67_askDirectory_45 : decode cX67_askDirectory 45 = .ok (.ifCond .ne 24, 3) := by decide +kernel
theorem dX67_askDirectory_48 : decode cX67_askDirectory 48 = .ok (.goto 18, 3) := by decide +kernel
theorem dX67_askDirectory_51 : decode cX67_askDirectory 51 = .ok (.aload_n 0, 1) := by decide +kernel
theorem dX67_askDirectory_52 : decode cX67_askDirectory 52 = .ok (.getfield 83, 3) := by decide +kernel
theorem dX67_askDirectory_55 : decode cX67_askDirectory 55 = .ok (.iload_n 1, 1) := by decide +kernel
theorem dX67_askDirectory_56 : decode cX67_askDirectory 56 = .ok (.iaload, 1) := by decide +kernel
theorem dX67_askDirectory_57 : decode cX67_askDirectory 57 = .ok (.aload_n 0, 1) := by decide +kernel
theorem dX67_askDirectory_58 : decode cX67_askDirectory 58 = .ok (.getfield 20, 3) := by decide +kernel
theorem dX67_askDirectory_61 : decode cX67_askDirectory 61 = .ok (.iload_n 2, 1) := by decide +kernel
theorem dX67_askDirectory_62 : decode cX67_askDirectory 62 = .ok (.iaload, 1) := by decide +kernel
theorem dX67_askDirectory_63 : decode cX67_askDirectory 63 = .ok (.if_icmp .eq 6, 3) := by decide +kernel
theorem dX67_askDirectory_66 : decode cX67_askDirectory 66 = .ok (.bipush (-3), 2) := by decide +kernel
theorem dX67_askDirectory_68 : decode cX67_askDirectory 68 = .ok (.ireturn, 1) := by decide +kernel
theorem dX67_askDirectory_69 : decode cX67_askDirectory 69 = .ok (.aload_n 0, 1) := by decide +kernel
theorem dX67_askDirectory_70 : decode cX67_askDirectory 70 = .ok (.getfield 110, 3) := by decide +kernel
theorem dX67_askDirectory_73 : decode cX67_askDirectory 73 = .ok (.iload_n 1, 1) := by decide +kernel
theorem dX67_askDirectory_74 : decode cX67_askDirectory 74 = .ok (.iaload, 1) := by decide +kernel
theorem dX67_askDirectory_75 : decode cX67_askDirectory 75 = .ok (.aload_n 0, 1) := by decide +kernel
theorem dX67_askDirectory_76 : decode cX67_askDirectory 76 = .ok (.getfield 23, 3) := by decide +kernel
theorem dX67_askDirectory_79 : decode cX67_askDirectory 79 = .ok (.iconst 3, 1) := by decide +kernel
theorem dX67_askDirectory_80 : decode cX67_askDirectory 80 = .ok (.iload_n 2, 1) := by decide +kernel
theorem dX67_askDirectory_81 : decode cX67_askDirectory 81 = .ok (.imul, 1) := by decide +kernel
theorem dX67_askDirectory_82 : decode cX67_askDirectory 82 = .ok (.iload_n 3, 1) := by decide +kernel
theorem dX67_askDirectory_83 : decode cX67_askDirectory 83 = .ok (.iconst 1, 1) := by decide +kernel
theorem dX67_askDirectory_84 : decode cX67_askDirectory 84 = .ok (.if_icmp .ne 7, 3) := by decide +kernel
theorem dX67_askDirectory_87 : decode cX67_askDirectory 87 = .ok (.iconst 1, 1) := by decide +kernel
theorem dX67_askDirectory_88 : decode cX67_askDirectory 88 = .ok (.goto 4, 3) := by decide +kernel
theorem dX67_askDirectory_91 : decode cX67_askDirectory 91 = .ok (.iconst 0, 1) := by decide +kernel
theorem dX67_askDirectory_92 : decode cX67_askDirectory 92 = .ok (.iadd, 1) := by decide +kernel
theorem dX67_askDirectory_93 : decode cX67_askDirectory 93 = .ok (.iaload, 1) := by decide +kernel
theorem dX67_askDirectory_94 : decode cX67_askDirectory 94 = .ok (.if_icmp .le 8, 3) := by decide +kernel
theorem dX67_askDirectory_97 : decode cX67_askDirectory 97 = .ok (.bipush (-4), 2) := by decide +kernel
theorem dX67_askDirectory_99 : decode cX67_askDirectory 99 = .ok (.goto 4, 3) := by decide +kernel
theorem dX67_askDirectory_102 : decode cX67_askDirectory 102 = .ok (.iconst 0, 1) := by decide +kernel
theorem dX67_askDirectory_103 : decode cX67_askDirectory 103 = .ok (.ireturn, 1) := by decide +kernel
theorem zy_X67_askDirectory : yX67_askDirectory.cls ≠ "java/lang/invoke/MethodHandle" ∧ yX67_askDirectory.cls ≠ "java/lang/invoke/VarHandle" ∧ (parseMethodDescriptor yX67_askDirectory.desc).map (fun d => d.parameters.length) = some 3 := by decide +kernel
theorem w_fX67_askDirectory_J92 {K : zK} (E : zE K cX67_askDirectory "RingHouseModel" (some .int) 1) (hN : zNl K = 4) (hT : zTr K = (some 0)) (s0 : Int) (s2 : Int) (s3 : Int) : zR K 92 [] [(0, s3), (0, s2), (6804, 0), (0, s0)] (fX67_askDirectory_J92 s0 s2 s3) := by
  refine r_iadd E dX67_askDirectory_92 ?_
  refine r_iaload E zc_6804 za_6804 zt_6804 zx_6804 rfl rfl dX67_askDirectory_93 (by decide) (fun v7 => ?_)
  refine r_icmp_le E 102 (by decide) dX67_askDirectory_94 (fun _ => ?_) (fun _ => ?_)
  · refine r_iconst E dX67_askDirectory_102 (zkI (by decide) (by decide)) ?_
    exact r_ireturn E rfl hT dX67_askDirectory_103
  · refine r_bipush E dX67_askDirectory_97 (by decide) (zkI (by decide) (by decide)) ?_
    refine r_goto E 103 (by decide) dX67_askDirectory_99 ?_
    exact r_ireturn E rfl hT dX67_askDirectory_103
theorem w_fX67_askDirectory_J69 {K : zK} (E : zE K cX67_askDirectory "RingHouseModel" (some .int) 1) (hN : zNl K = 4) (hT : zTr K = (some 0)) (x1 : Int) (x2 : Int) (x3 : Int) : zR K 69 [(0, 69, 0), (1, 0, x1), (2, 0, x2), (3, 0, x3)] [] (fX67_askDirectory_J69 x1 x2 x3) := by
  refine r_aload_n E dX67_askDirectory_69 rfl 0 rfl ?_
  refine r_gec (y := 0) E zc_69 dX67_askDirectory_70 q3248 zr_69 (zh_6833 (by decide)) (by decide) ?_
  refine r_iload_n E dX67_askDirectory_73 rfl 1 rfl ?_
  refine r_iaload E zc_6833 za_6833 zt_6833 zx_6833 rfl rfl dX67_askDirectory_74 (by decide) (fun v6 => ?_)
  refine r_aload_n E dX67_askDirectory_75 rfl 0 rfl ?_
  refine r_gec (y := 0) E zc_69 dX67_askDirectory_76 q3219 zr_69 (zh_6804 (by decide)) (by decide) ?_
  refine r_iconst E dX67_askDirectory_79 (zkI (by decide) (by decide)) ?_
  refine r_iload_n E dX67_askDirectory_80 rfl 2 rfl ?_
  refine r_imul E dX67_askDirectory_81 ?_
  refine r_iload_n E dX67_askDirectory_82 rfl 3 rfl ?_
  refine r_iconst E dX67_askDirectory_83 (zkI (by decide) (by decide)) ?_
  refine r_icmp_ne E 91 (by decide) dX67_askDirectory_84 (fun _ => ?_) (fun _ => ?_)
  · refine r_iconst E dX67_askDirectory_91 (zkI (by decide) (by decide)) ?_
    refine r_pick E [] rfl ?_
    exact w_fX67_askDirectory_J92 E hN hT v6 (zi (3 * x2)) 0
  · refine r_iconst E dX67_askDirectory_87 (zkI (by decide) (by decide)) ?_
    refine r_goto E 92 (by decide) dX67_askDirectory_88 ?_
    refine r_pick E [] rfl ?_
    exact w_fX67_askDirectory_J92 E hN hT v6 (zi (3 * x2)) 1
theorem w_fX67_askDirectory {K : zK} (E : zE K cX67_askDirectory "RingHouseModel" (some .int) 1) (hN : zNl K = 4) (hT : zTr K = (some 0)) (x1 : Int) (x2 : Int) (x3 : Int) : zR K 0 [(0, 69, 0), (1, 0, x1), (2, 0, x2), (3, 0, x3)] [] (fX67_askDirectory x1 x2 x3) := by
  refine r_aload_n E dX67_askDirectory_0 rfl 0 rfl ?_
  refine r_iload_n E dX67_askDirectory_1 rfl 2 rfl ?_
  refine r_aload_n E dX67_askDirectory_2 rfl 0 rfl ?_
  refine r_gec (y := 0) E zc_69 dX67_askDirectory_3 q3237 zr_69 (zh_6822 (by decide)) (by decide) ?_
  refine r_iload_n E dX67_askDirectory_6 rfl 1 rfl ?_
  refine r_iaload E zc_6822 za_6822 zt_6822 zx_6822 rfl rfl dX67_askDirectory_7 (by decide) (fun v1 => ?_)
  refine r_aload_n E dX67_askDirectory_8 rfl 0 rfl ?_
  refine r_gec (y := 0) E zc_69 dX67_askDirectory_9 q3238 zr_69 (zh_6823 (by decide)) (by decide) ?_
  refine r_iload_n E dX67_askDirectory_12 rfl 1 rfl ?_
  refine r_iaload E zc_6823 za_6823 zt_6823 zx_6823 rfl rfl dX67_askDirectory_13 (by decide) (fun v2 => ?_)
  refine r_callV E [(0, x2), (0, v1), (0, v2)] [] rfl zc_69 zr_69 (fun o _ => ⟨_, zw_X67.1 o, rfl⟩) (lw_V q3778 q3780 qs114 q294 q3781) dX67_askDirectory_14 zy_X67_modesFor rfl (by omega) (by decide) (Nat.le_of_ble_eq_true rfl) (by decide) (fun l G => k_fX67_modesFor l G x2 v1 v2) (fun v3 => ?_)
  refine r_iload_n E dX67_askDirectory_17 rfl 3 rfl ?_
  refine r_iand E dX67_askDirectory_18 ?_
  refine r_if_ne E 25 (by decide) dX67_askDirectory_19 (fun _ => ?_) (fun _ => ?_)
  · refine r_iload_n E dX67_askDirectory_25 rfl 3 rfl ?_
    refine r_iconst E dX67_askDirectory_26 (zkI (by decide) (by decide)) ?_
    refine r_icmp_ne E 51 (by decide) dX67_askDirectory_27 (fun _ => ?_) (fun _ => ?_)
    · refine r_aload_n E dX67_askDirectory_51 rfl 0 rfl ?_
      refine r_gec (y := 0) E zc_69 dX67_askDirectory_52 q3239 zr_69 (zh_6824 (by decide)) (by decide) ?_
      refine r_iload_n E dX67_askDirectory_55 rfl 1 rfl ?_
      refine r_iaload E zc_6824 za_6824 zt_6824 zx_6824 rfl rfl dX67_askDirectory_56 (by decide) (fun v4 => ?_)
      refine r_aload_n E dX67_askDirectory_57 rfl 0 rfl ?_
      refine r_gec (y := 0) E zc_69 dX67_askDirectory_58 q3218 zr_69 (zh_6803 (by decide)) (by decide) ?_
      refine r_iload_n E dX67_askDirectory_61 rfl 2 rfl ?_
      refine r_iaload E zc_6803 za_6803 zt_6803 zx_6803 rfl rfl dX67_askDirectory_62 (by decide) (fun v5 => ?_)
      refine r_icmp_eq E 69 (by decide) dX67_askDirectory_63 (fun _ => ?_) (fun _ => ?_)
      · exact w_fX67_askDirectory_J69 E hN hT x1 x2 x3
      · refine r_bipush E dX67_askDirectory_66 (by decide) (zkI (by decide) (by decide)) ?_
        exact r_ireturn E rfl hT dX67_askDirectory_68
    · refine r_aload_n E dX67_askDirectory_30 rfl 0 rfl ?_
      refine r_gec (y := 0) E zc_69 dX67_askDirectory_31 q3239 zr_69 (zh_6824 (by decide)) (by decide) ?_
      refine r_iload_n E dX67_askDirectory_34 rfl 1 rfl ?_
      refine r_iaload E zc_6824 za_6824 zt_6824 zx_6824 rfl rfl dX67_askDirectory_35 (by decide) (fun v8 => ?_)
      refine r_aload_n E dX67_askDirectory_36 rfl 0 rfl ?_
      refine r_gec (y := 0) E zc_69 dX67_askDirectory_37 q3218 zr_69 (zh_6803 (by decide)) (by decide) ?_
      refine r_iload_n E dX67_askDirectory_40 rfl 2 rfl ?_
      refine r_iaload E zc_6803 za_6803 zt_6803 zx_6803 rfl rfl dX67_askDirectory_41 (by decide) (fun v9 => ?_)
      refine r_callS E [(0, v8), (0, v9)] [] rfl q3632 q3633 q294 q3634 dX67_askDirectory_42 zy_X67_dominates rfl (by omega) (by decide) (Nat.le_of_ble_eq_true rfl) (fun l G => k_fX67_dominates l G v8 v9) (fun v10 => ?_)
      refine r_if_ne E 69 (by decide) dX67_askDirectory_45 (fun _ => ?_) (fun _ => ?_)
      · exact w_fX67_askDirectory_J69 E hN hT x1 x2 x3
      · refine r_goto E 66 (by decide) dX67_askDirectory_48 ?_
        refine r_bipush E dX67_askDirectory_66 (by decide) (zkI (by decide) (by decide)) ?_
        exact r_ireturn E rfl hT dX67_askDirectory_68
  · refine r_bipush E dX67_askDirectory_22 (by decide) (zkI (by decide) (by decide)) ?_
    exact r_ireturn E rfl hT dX67_askDirectory_24
theorem k_fX67_askDirectory (l : Launch) (G : zG) (x1 : Int) (x2 : Int) (x3 : Int) : zCt l G yX67_askDirectory cX67_askDirectory 4 (some .int) 1 [(69, 0), (0, x1), (0, x2), (0, x3)] (some 0) (fX67_askDirectory x1 x2 x3) := zCt.of (by decide) (Nat.le_of_ble_eq_true rfl) (fun K E _ _ hN hT => w_fX67_askDirectory E hN hT x1 x2 x3)
theorem dX67_add_0 : decode cX67_add 0 = .ok (.aload_n 0, 1) := by decide +kernel
theorem dX67_add_1 : decode cX67_add 1 = .ok (.getfield 131, 3) := by decide +kernel
theorem dX67_add_4 : decode cX67_add 4 = .ok (.iload_n 1, 1) := by decide +kernel
theorem dX67_add_5 : decode cX67_add 5 = .ok (.iaload, 1) := by decide +kernel
theorem dX67_add_6 : decode cX67_add 6 = .ok (.istore_n 3, 1) := by decide +kernel
theorem dX67_add_7 : decode cX67_add 7 = .ok (.aload_n 0, 1) := by decide +kernel
theorem dX67_add_8 : decode cX67_add 8 = .ok (.iload_n 3, 1) := by decide +kernel
theorem dX67_add_9 : decode cX67_add 9 = .ok (.putfield 689, 3) := by decide +kernel
theorem dX67_add_12 : decode cX67_add 12 = .ok (.aload_n 0, 1) := by decide +kernel
theorem dX67_add_13 : decode cX67_add 13 = .ok (.iload_n 1, 1) := by decide +kernel
theorem dX67_add_14 : decode cX67_add 14 = .ok (.iload_n 3, 1) := by decide +kernel
theorem dX67_add_15 : decode cX67_add 15 = .ok (.iconst 4, 1) := by decide +kernel
theorem dX67_add_16 : decode cX67_add 16 = .ok (.invokevirtual 665, 3) := by decide +kernel
theorem dX67_add_19 : decode cX67_add 19 = .ok (.istore 4, 2) := by decide +kernel
theorem dX67_add_21 : decode cX67_add 21 = .ok (.iload 4, 2) := by decide +kernel
theorem dX67_add_23 : decode cX67_add 23 = .ok (.ifCond .ge 6, 3) := by decide +kernel
theorem dX67_add_26 : decode cX67_add 26 = .ok (.iload 4, 2) := by decide +kernel
theorem dX67_add_28 : decode cX67_add 28 = .ok (.ireturn, 1) := by decide +kernel
theorem dX67_add_29 : decode cX67_add 29 = .ok (.iload_n 2, 1) := by decide +kernel
theorem dX67_add_30 : decode cX67_add 30 = .ok (.bipush 8, 2) := by decide +kernel
theorem dX67_add_32 : decode cX67_add 32 = .ok (.if_icmp .ne 7, 3) := by decide +kernel
theorem dX67_add_35 : decode cX67_add 35 = .ok (.iconst 2, 1) := by decide +kernel
theorem dX67_add_36 : decode cX67_add 36 = .ok (.goto 14, 3) := by decide +kernel
theorem dX67_add_39 : decode cX67_add 39 = .ok (.iload_n 2, 1) := by decide +kernel
theorem dX67_add_40 : decode cX67_add 40 = .ok (.bipush 9, 2) := by decide +kernel
theorem dX67_add_42 : decode cX67_add 42 = .ok (.if_icmp .ne 7, 3) := by decide +kernel
theorem dX67_add_45 : decode cX67_add 45 = .ok (.iconst 1, 1) := by decide +kernel
theorem dX67_add_46 : decode cX67_add 46 = .ok (.goto 4, 3) := by decide +kernel
theorem dX67_add_49 : decode cX67_add 49 = .ok (.iconst 3, 1) := by decide +kernel
theorem dX67_add_50 : decode cX67_add 50 = .ok (.istore 5, 2) := by decide +kernel
theorem dX67_add_52 : decode cX67_add 52 = .ok (.aload_n 0, 1) := by decide +kernel
theorem dX67_add_53 : decode cX67_add 53 = .ok (.getfield 92, 3) := by decide +kernel
theorem dX67_add_56 : decode cX67_add 56 = .ok (.iconst 4, 1) := by decide +kernel
theorem dX67_add_57 : decode cX67_add 57 = .ok (.iload_n 1, 1) := by decide +kernel
theorem dX67_add_58 : decode cX67_add 58 = .ok (.imul, 1) := by decide +kernel
theorem dX67_add_59 : decode cX67_add 59 = .ok (.iaload, 1) := by decide +kernel
theorem dX67_add_60 : decode cX67_add 60 = .ok (.istore 6, 2) := by decide +kernel
theorem dX67_add_62 : decode cX67_add 62 = .ok (.aload_n 0, 1) := by decide +kernel
theorem dX67_add_63 : decode cX67_add 63 = .ok (.getfield 86, 3) := by decide +kernel
theorem dX67_add_66 : decode cX67_add 66 = .ok (.iload_n 1, 1) := by decide +kernel
theorem dX67_add_67 : decode cX67_add 67 = .ok (.laload, 1) := by decide +kernel
theorem dX67_add_68 : decode cX67_add 68 = .ok (.invokestatic 442, 3) := by decide +kernel
theorem dX67_add_71 : decode cX67_add 71 = .ok (.istore 7, 2) := by decide +kernel
theorem dX67_add_73 : decode cX67_add 73 = .ok (.iload_n 2, 1) := by decide +kernel
theorem dX67_add_74 : decode cX67_add 74 = .ok (.bipush 8, 2) := by decide +kernel
theorem dX67_add_76 : decode cX67_add 76 = .ok (.if_icmp .ne 31, 3) := by decide +kernel
theorem dX67_add_79 : decode cX67_add 79 = .ok (.iload 7, 2) := by decide +kernel
theorem dX67_add_81 : decode cX67_add 81 = .ok (.ifCond .eq 20, 3) := by decide +kernel
theorem dX67_add_84 : decode cX67_add 84 = .ok (.aload_n 0, 1) := by decide +kernel
theorem dX67_add_85 : decode cX67_add 85 = .ok (.getfield 89, 3) := by decide +kernel
theorem dX67_add_88 : decode cX67_add 88 = .ok (.iload_n 1, 1) := by decide +kernel
theorem dX67_add_89 : decode cX67_add 89 = .ok (.laload, 1) := by decide +kernel
theorem dX67_add_90 : decode cX67_add 90 = .ok (.ldc2_w 464, 3) := by decide +kernel
theorem dX67_add_93 : decode cX67_add 93 = .ok (.lcmp, 1) := by decide +kernel
theorem dX67_add_94 : decode cX67_add 94 = .ok (.ifCond .gt 7, 3) := by decide +kernel
theorem dX67_add_97 : decode cX67_add 97 = .ok (.iconst 1, 1) := by decide +kernel
theorem dX67_add_98 : decode cX67_add 98 = .ok (.goto 4, 3) := by decide +kernel
theorem dX67_add_101 : decode cX67_add 101 = .ok (.iconst 0, 1) := by decide +kernel
theorem dX67_add_102 : decode cX67_add 102 = .ok (.istore 7, 2) := by decide +kernel
theorem dX67_add_104 : decode cX67_add 104 = .ok (.goto 83, 3) := by decide +kernel
theorem dX67_add_107 : decode cX67_add 107 = .ok (.iload_n 2, 1) := by decide +kernel
theorem dX67_add_108 : decode cX67_add 108 = .ok (.bipush 9, 2) := by decide +kernel
theorem dX67_add_110 : decode cX67_add 110 = .ok (.if_icmp .ne 77, 3) := by decide +kernel
theorem dX67_add_113 : decode cX67_add 113 = .ok (.iload 7, 2) := by decide +kernel
theorem dX67_add_115 : decode cX67_add 115 = .ok (.ifCond .eq 69, 3) := by decide +kernel
theorem dX67_add_118 : decode cX67_add 118 = .ok (.aload_n 0, 1) := by decide +kernel
theorem dX67_add_119 : decode cX67_add 119 = .ok (.getfield 89, 3) := by decide +kernel
theorem dX67_add_122 : decode cX67_add 122 = .ok (.iload_n 1, 1) := by decide +kernel
theorem dX67_add_123 : decode cX67_add 123 = .ok (.laload, 1) := by decide +kernel
theorem dX67_add_124 : decode cX67_add 124 = .ok (.ldc2_w 753, 3) := by decide +kernel
theorem dX67_add_127 : decode cX67_add 127 = .ok (.lcmp, 1) := by decide +kernel
theorem dX67_add_128 : decode cX67_add 128 = .ok (.ifCond .ge 56, 3) := by decide +kernel
theorem dX67_add_131 : decode cX67_add 131 = .ok (.aload_n 0, 1) := by decide +kernel
theorem dX67_add_132 : decode cX67_add 132 = .ok (.getfield 89, 3) := by decide +kernel
theorem dX67_add_135 : decode cX67_add 135 = .ok (.iload_n 1, 1) := by decide +kernel
theorem dX67_add_136 : decode cX67_add 136 = .ok (.laload, 1) := by decide +kernel
theorem dX67_add_137 : decode cX67_add 137 = .ok (.l2i, 1) := by decide +kernel
theorem dX67_add_138 : decode cX67_add 138 = .ok (.aload_n 0, 1) := by decide +kernel
theorem dX67_add_139 : decode cX67_add 139 = .ok (.getfield 20, 3) := by decide +kernel
theorem dX67_add_142 : decode cX67_add 142 = .ok (.iload_n 3, 1) := by decide +kernel
theorem dX67_add_143 : decode cX67_add 143 = .ok (.iaload, 1) := by decide +kernel
theorem dX67_add_144 : decode cX67_add 144 = .ok (.invokestatic 447, 3) := by decide +kernel
theorem dX67_add_147 : decode cX67_add 147 = .ok (.ifCond .eq 37, 3) := by decide +kernel
theorem dX67_add_150 : decode cX67_add 150 = .ok (.iload 6, 2) := by decide +kernel
theorem dX67_add_152 : decode cX67_add 152 = .ok (.sipush 256, 3) := by decide +kernel
theorem dX67_add_155 : decode cX67_add 155 = .ok (.if_icmp .ge 29, 3) := by decide +kernel
theorem dX67_add_158 : decode cX67_add 158 = .ok (.aload_n 0, 1) := by decide +kernel
theorem dX67_add_159 : decode cX67_add 159 = .ok (.getfield 89, 3) := by decide +kernel
theorem dX67_add_162 : decode cX67_add 162 = .ok (.iload_n 1, 1) := by decide +kernel
theorem dX67_add_163 : decode cX67_add 163 = .ok (.laload, 1) := by decide +kernel
theorem dX67_add_164 : decode cX67_add 164 = .ok (.aload_n 0, 1) := by decide +kernel
theorem dX67_add_165 : decode cX67_add 165 = .ok (.getfield 20, 3) := by decide +kernel
theorem dX67_add_168 : decode cX67_add 168 = .ok (.iload_n 3, 1) := by decide +kernel
theorem dX67_add_169 : decode cX67_add 169 = .ok (.iaload, 1) := by decide +kernel
theorem dX67_add_170 : decode cX67_add 170 = .ok (.i2l, 1) := by decide +kernel
theorem dX67_add_171 : decode cX67_add 171 = .ok (.lcmp, 1) := by decide +kernel
theorem dX67_add_172 : decode cX67_add 172 = .ok (.ifCond .eq 8, 3) := by decide +kernel
theorem dX67_add_175 : decode cX67_add 175 = .ok (.iload 6, 2) := by decide +kernel
theorem dX67_add_177 : decode cX67_add 177 = .ok (.ifCond .le 7, 3) := by decide +kernel
theorem dX67_add_180 : decode cX67_add 180 = .ok (.iconst 1, 1) := by decide +kernel
theorem dX67_add_181 : decode cX67_add 181 = .ok (.goto 4, 3) := by decide +kernel
theorem dX67_add_184 : decode cX67_add 184 = .ok (.iconst 0, 1) := by decide +kernel
theorem dX67_add_185 : decode cX67_add 185 = .ok (.istore 7, 2) := by decide +kernel
theorem dX67_add_187 : decode cX67_add 187 = .ok (.iload 7, 2) := by decide +kernel
theorem dX67_add_189 : decode cX67_add 189 = .ok (.ifCond .ne 6, 3) := by decide +kernel
theorem dX67_add_192 : decode cX67_add 192 = .ok (.bipush (-8), 2) := by decide +kernel
theorem dX67_add_194 : decode cX67_add 194 = .ok (.ireturn, 1) := by decide +kernel
theorem dX67_add_195 : decode cX67_add 195 = .ok (.iload_n 2, 1) := by decide +kernel
theorem dX67_add_196 : decode cX67_add 196 = .ok (.bipush 8, 2) := by decide +kernel
theorem dX67_add_198 : decode cX67_add 198 = .ok (.if_icmp .ne 13, 3) := by decide +kernel
theorem dX67_add_201 : decode cX67_add 201 = .ok (.aload_n 0, 1) := by decide +kernel
theorem dX67_add_202 : decode cX67_add 202 = .ok (.getfield 89, 3) := by decide +kernel
theorem dX67_add_205 : decode cX67_add 205 = .ok (.iload_n 1, 1) := by decide +kernel
theorem dX67_add_206 : decode cX67_add 206 = .ok (.laload, 1) := by decide +kernel
theorem dX67_add_207 : decode cX67_add 207 = .ok (.l2i, 1) := by decide +kernel
theorem dX67_add_208 : decode cX67_add 208 = .ok (.goto 15, 3) := by decide +kernel
theorem dX67_add_211 : decode cX67_add 211 = .ok (.iload_n 2, 1) := by decide +kernel
theorem dX67_add_212 : decode cX67_add 212 = .ok (.bipush 9, 2) := by decide +kernel
theorem dX67_add_214 : decode cX67_add 214 = .ok (.if_icmp .ne 8, 3) := by decide +kernel
theorem dX67_add_217 : decode cX67_add 217 = .ok (.iload 6, 2) := by decide +kernel
theorem dX67_add_219 : decode cX67_add 219 = .ok (.goto 4, 3) := by decide +kernel
theorem dX67_add_222 : decode cX67_add 222 = .ok (.iconst 0, 1) := by decide +kernel
theorem dX67_add_223 : decode cX67_add 223 = .ok (.istore 8, 2) := by decide +kernel
theorem dX67_add_225 : decode cX67_add 225 = .ok (.aload_n 0, 1) := by decide +kernel
theorem dX67_add_226 : decode cX67_add 226 = .ok (.iload_n 3, 1) := by decide +kernel
theorem dX67_add_227 : decode cX67_add 227 = .ok (.aload_n 0, 1) := by decide +kernel
theorem dX67_add_228 : decode cX67_add 228 = .ok (.getfield 86, 3) := by decide +kernel
theorem dX67_add_231 : decode cX67_add 231 = .ok (.iload_n 1, 1) := by decide +kernel
theorem dX67_add_232 : decode cX67_add 232 = .ok (.laload, 1) := by decide +kernel
theorem dX67_add_233 : decode cX67_add 233 = .ok (.invokevirtual 450, 3) := by decide +kernel
theorem dX67_add_236 : decode cX67_add 236 = .ok (.ifCond .lt 6, 3) := by decide +kernel
theorem dX67_add_239 : decode cX67_add 239 = .ok (.bipush (-6), 2) := by decide +kernel
theorem dX67_add_241 : decode cX67_add 241 = .ok (.ireturn, 1) := by decide +kernel
theorem dX67_add_242 : decode cX67_add 242 = .ok (.aload_n 0, 1) := by decide +kernel
theorem dX67_add_243 : decode cX67_add 243 = .ok (.iload_n 3, 1) := by decide +kernel
theorem dX67_add_244 : decode cX67_add 244 = .ok (.iload 5, 2) := by decide +kernel
theorem dX67_add_246 : decode cX67_add 246 = .ok (.iload 8, 2) := by decide +kernel
theorem dX67_add_248 : decode cX67_add 248 = .ok (.invokestatic 387, 3) := by decide +kernel
theorem dX67_add_251 : decode cX67_add 251 = .ok (.invokevirtual 454, 3) := by decide +kernel
theorem dX67_add_254 : decode cX67_add 254 = .ok (.ifCond .ne 6, 3) := by decide +kernel
theorem dX67_add_257 : decode cX67_add 257 = .ok (.bipush (-5), 2) := by decide +kernel
theorem dX67_add_259 : decode cX67_add 259 = .ok (.ireturn, 1) := by decide +kernel
theorem dX67_add_260 : decode cX67_add 260 = .ok (.aload_n 0, 1) := by decide +kernel
theorem dX67_add_261 : decode cX67_add 261 = .ok (.iload 5, 2) := by decide +kernel
theorem dX67_add_263 : decode cX67_add 263 = .ok (.iload_n 3, 1) := by decide +kernel
theorem dX67_add_264 : decode cX67_add 264 = .ok (.aload_n 0, 1) := by decide +kernel
theorem dX67_add_265 : decode cX67_add 265 = .ok (.getfield 86, 3) := by decide +kernel
theorem dX67_add_268 : decode cX67_add 268 = .ok (.iload_n 1, 1) := by decide +kernel
theorem dX67_add_269 : decode cX67_add 269 = .ok (.laload, 1) := by decide +kernel
theorem dX67_add_270 : decode cX67_add 270 = .ok (.iload_n 2, 1) := by decide +kernel
theorem dX67_add_271 : decode cX67_add 271 = .ok (.bipush 9, 2) := by decide +kernel
theorem dX67_add_273 : decode cX67_add 273 = .ok (.if_icmp .ne 13, 3) := by decide +kernel
theorem dX67_add_276 : decode cX67_add 276 = .ok (.aload_n 0, 1) := by decide +kernel
theorem dX67_add_277 : decode cX67_add 277 = .ok (.getfield 89, 3) := by decide +kernel
theorem dX67_add_280 : decode cX67_add 280 = .ok (.iload_n 1, 1) := by decide +kernel
theorem dX67_add_281 : decode cX67_add 281 = .ok (.laload, 1) := by decide +kernel
theorem dX67_add_282 : decode cX67_add 282 = .ok (.l2i, 1) := by decide +kernel
theorem dX67_add_283 : decode cX67_add 283 = .ok (.goto 9, 3) := by decide +kernel
theorem dX67_add_286 : decode cX67_add 286 = .ok (.aload_n 0, 1) := by decide +kernel
theorem dX67_add_287 : decode cX67_add 287 = .ok (.getfield 20, 3) := by decide +kernel
theorem dX67_add_290 : decode cX67_add 290 = .ok (.iload_n 3, 1) := by decide +kernel
theorem dX67_add_291 : decode cX67_add 291 = .ok (.iaload, 1) := by decide +kernel
theorem dX67_add_292 : decode cX67_add 292 = .ok (.iload 8, 2) := by decide +kernel
theorem dX67_add_294 : decode cX67_add 294 = .ok (.invokevirtual 457, 3) := by decide +kernel
theorem dX67_add_297 : decode cX67_add 297 = .ok (.istore 9, 2) := by decide +kernel
theorem dX67_add_299 : decode cX67_add 299 = .ok (.aload_n 0, 1) := by decide +kernel
theorem dX67_add_300 : decode cX67_add 300 = .ok (.iload 9, 2) := by decide +kernel
theorem dX67_add_302 : decode cX67_add 302 = .ok (.aload_n 0, 1) := by decide +kernel
theorem dX67_add_303 : decode cX67_add 303 = .ok (.getfield 110, 3) := by decide +kernel
theorem dX67_add_306 : decode cX67_add 306 = .ok (.iload_n 1, 1) := by decide +kernel
theorem dX67_add_307 : decode cX67_add 307 = .ok (.iaload, 1) := by decide +kernel
theorem dX67_add_308 : decode cX67_add 308 = .ok (.aload_n 0, 1) := by decide +kernel
theorem dX67_add_309 : decode cX67_add 309 = .ok (.getfield 110, 3) := by decide +kernel
theorem dX67_add_312 : decode cX67_add 312 = .ok (.iload_n 1, 1) := by decide +kernel
theorem dX67_add_313 : decode cX67_add 313 = .ok (.iaload, 1) := by decide +kernel
theorem dX67_add_314 : decode cX67_add 314 = .ok (.aload_n 0, 1) := by decide +kernel
theorem dX67_add_315 : decode cX67_add 315 = .ok (.getfield 110, 3) := by decide +kernel
theorem dX67_add_318 : decode cX67_add 318 = .ok (.iload_n 1, 1) := by decide +kernel
theorem dX67_add_319 : decode cX67_add 319 = .ok (.iaload, 1) := by decide +kernel
theorem dX67_add_320 : decode cX67_add 320 = .ok (.invokevirtual 402, 3) := by decide +kernel
theorem dX67_add_323 : decode cX67_add 323 = .ok (.aload_n 0, 1) := by decide +kernel
theorem dX67_add_324 : decode cX67_add 324 = .ok (.iload 9, 2) := by decide +kernel
theorem dX67_add_326 : decode cX67_add 326 = .ok (.aload_n 0, 1) := by decide +kernel
theorem dX67_add_327 : decode cX67_add 327 = .ok (.getfield 77, 3) := by decide +kernel
theorem dX67_add_330 : decode cX67_add 330 = .ok (.iload_n 1, 1) := by decide +kernel
theorem dX67_add_331 : decode cX67_add 331 = .ok (.iaload, 1) := by decide +kernel
theorem dX67_add_332 : decode cX67_add 332 = .ok (.aload_n 0, 1) := by decide +kernel
theorem dX67_add_333 : decode cX67_add 333 = .ok (.getfield 80, 3) := by decide +kernel
theorem dX67_add_336 : decode cX67_add 336 = .ok (.iload_n 1, 1) := by decide +kernel
theorem dX67_add_337 : decode cX67_add 337 = .ok (.iaload, 1) := by decide +kernel
theorem dX67_add_338 : decode cX67_add 338 = .ok (.bipush 7, 2) := by decide +kernel
theorem dX67_add_340 : decode cX67_add 340 = .ok (.invokevirtual 406, 3) := by decide +kernel
theorem dX67_add_343 : decode cX67_add 343 = .ok (.aload_n 0, 1) := by decide +kernel
theorem dX67_add_344 : decode cX67_add 344 = .ok (.iload 9, 2) := by decide +kernel
theorem dX67_add_346 : decode cX67_add 346 = .ok (.aload_n 0, 1) := by decide +kernel
theorem dX67_add_347 : decode cX67_add 347 = .ok (.getfield 77, 3) := by decide +kernel
theorem dX67_add_350 : decode cX67_add 350 = .ok (.iload_n 1, 1) := by decide +kernel
theorem dX67_add_351 : decode cX67_add 351 = .ok (.iaload, 1) := by decide +kernel
theorem dX67_add_352 : decode cX67_add 352 = .ok (.aload_n 0, 1) := by decide +kernel
theorem dX67_add_353 : decode cX67_add 353 = .ok (.getfield 80, 3) := by decide +kernel
theorem dX67_add_356 : decode cX67_add 356 = .ok (.iload_n 1, 1) := by decide +kernel
theorem dX67_add_357 : decode cX67_add 357 = .ok (.iaload, 1) := by decide +kernel
theorem dX67_add_358 : decode cX67_add 358 = .ok (.invokevirtual 435, 3) := by decide +kernel
theorem dX67_add_361 : decode cX67_add 361 = .ok (.iconst 0, 1) := by decide +kernel
theorem dX67_add_362 : decode cX67_add 362 = .ok (.ireturn, 1) := by decide +kernel
theorem zy_X67_add : yX67_add.cls ≠ "java/lang/invoke/MethodHandle" ∧ yX67_add.cls ≠ "java/lang/invoke/VarHandle" ∧ (parseMethodDescriptor yX67_add.desc).map (fun d => d.parameters.length) = some 2 := by decide +kernel
theorem w_fX67_add_J292 {K : zK} (E : zE K cX67_add "RingHouseModel" (some .int) 3) (hN : zNl K = 10) (hT : zTr K = (some 0)) (x1 : Int) (x8 : Int) (s1 : Int) (s2 : Int) (s3 : Int) (s4 : Int) : zR K 292 [(0, 69, 0), (1, 0, x1), (8, 0, x8)] [(0, s4), (1, s3), (0, s2), (0, s1), (69, 0)] (fX67_add_J292 x1 x8 s1 s2 s3 s4) := by
  refine r_iload E dX67_add_292 2 rfl ?_
  refine r_callV E [(0, s1), (0, s2), (1, s3), (0, s4), (0, x8)] [] rfl zc_69 zr_69 (fun o _ => ⟨_, zw_X67.1 o, rfl⟩) (lw_V q3650 q3652 qs97 q294 q3653) dX67_add_294 zy_X67_make rfl (by omega) (by decide) (Nat.le_of_ble_eq_true rfl) (by decide) (fun l G => k_fX67_make l G s1 s2 s3 s4 x8) (fun v12 => ?_)
  refine r_istore (ls' := [(9, 0, v12), (0, 69, 0), (1, 0, x1), (8, 0, x8)]) E dX67_add_297 (by rw [hN]; decide) rfl ?_
  refine r_aload_n E dX67_add_299 rfl 1 rfl ?_
  refine r_iload E dX67_add_300 0 rfl ?_
  refine r_aload_n E dX67_add_302 rfl 1 rfl ?_
  refine r_gec (y := 0) E zc_69 dX67_add_303 q3248 zr_69 (zh_6833 (by decide)) (by decide) ?_
  refine r_iload_n E dX67_add_306 rfl 2 rfl ?_
  refine r_iaload E zc_6833 za_6833 zt_6833 zx_6833 rfl rfl dX67_add_307 (by decide) (fun v13 => ?_)
  refine r_aload_n E dX67_add_308 rfl 1 rfl ?_
  refine r_gec (y := 0) E zc_69 dX67_add_309 q3248 zr_69 (zh_6833 (by decide)) (by decide) ?_
  refine r_iload_n E dX67_add_312 rfl 2 rfl ?_
  refine r_iaload E zc_6833 za_6833 zt_6833 zx_6833 rfl rfl dX67_add_313 (by decide) (fun v14 => ?_)
  refine r_aload_n E dX67_add_314 rfl 1 rfl ?_
  refine r_gec (y := 0) E zc_69 dX67_add_315 q3248 zr_69 (zh_6833 (by decide)) (by decide) ?_
  refine r_iload_n E dX67_add_318 rfl 2 rfl ?_
  refine r_iaload E zc_6833 za_6833 zt_6833 zx_6833 rfl rfl dX67_add_319 (by decide) (fun v15 => ?_)
  refine r_callV E [(0, v12), (0, v13), (0, v14), (0, v15)] [] rfl zc_69 zr_69 (fun o _ => ⟨_, zw_X67.1 o, rfl⟩) (lw_V q3658 q3660 qs99 q294 q3661) dX67_add_320 zy_X67_setBrackets rfl (by omega) (by decide) (Nat.le_of_ble_eq_true rfl) (by decide) (fun l G => k_fX67_setBrackets l G v12 v13 v14 v15) (fun _ => ?_)
  refine r_aload_n E dX67_add_323 rfl 1 rfl ?_
  refine r_iload E dX67_add_324 0 rfl ?_
  refine r_aload_n E dX67_add_326 rfl 1 rfl ?_
  refine r_gec (y := 0) E zc_69 dX67_add_327 q3237 zr_69 (zh_6822 (by decide)) (by decide) ?_
  refine r_iload_n E dX67_add_330 rfl 2 rfl ?_
  refine r_iaload E zc_6822 za_6822 zt_6822 zx_6822 rfl rfl dX67_add_331 (by decide) (fun v17 => ?_)
  refine r_aload_n E dX67_add_332 rfl 1 rfl ?_
  refine r_gec (y := 0) E zc_69 dX67_add_333 q3238 zr_69 (zh_6823 (by decide)) (by decide) ?_
  refine r_iload_n E dX67_add_336 rfl 2 rfl ?_
  refine r_iaload E zc_6823 za_6823 zt_6823 zx_6823 rfl rfl dX67_add_337 (by decide) (fun v18 => ?_)
  refine r_bipush E dX67_add_338 (by decide) (zkI (by decide) (by decide)) ?_
  refine r_callV E [(0, v12), (0, v17), (0, v18), (0, 7)] [] rfl zc_69 zr_69 (fun o _ => ⟨_, zw_X67.1 o, rfl⟩) (lw_V q3670 q3672 qs102 q294 q3673) dX67_add_340 zy_X67_addItem rfl (by omega) (by decide) (Nat.le_of_ble_eq_true rfl) (by decide) (fun l G => k_fX67_addItem l G v12 v17 v18 7) (fun _ => ?_)
  refine r_aload_n E dX67_add_343 rfl 1 rfl ?_
  refine r_iload E dX67_add_344 0 rfl ?_
  refine r_aload_n E dX67_add_346 rfl 1 rfl ?_
  refine r_gec (y := 0) E zc_69 dX67_add_347 q3237 zr_69 (zh_6822 (by decide)) (by decide) ?_
  refine r_iload_n E dX67_add_350 rfl 2 rfl ?_
  refine r_iaload E zc_6822 za_6822 zt_6822 zx_6822 rfl rfl dX67_add_351 (by decide) (fun v20 => ?_)
  refine r_aload_n E dX67_add_352 rfl 1 rfl ?_
  refine r_gec (y := 0) E zc_69 dX67_add_353 q3238 zr_69 (zh_6823 (by decide)) (by decide) ?_
  refine r_iload_n E dX67_add_356 rfl 2 rfl ?_
  refine r_iaload E zc_6823 za_6823 zt_6823 zx_6823 rfl rfl dX67_add_357 (by decide) (fun v21 => ?_)
  refine r_callV E [(0, v12), (0, v20), (0, v21)] [] rfl zc_69 zr_69 (fun o _ => ⟨_, zw_X67.1 o, rfl⟩) (lw_V q3666 q3668 qs101 q294 q3669) dX67_add_358 zy_X67_giveFirsts rfl (by omega) (by decide) (Nat.le_of_ble_eq_true rfl) (by decide) (fun l G => k_fX67_giveFirsts l G v12 v20 v21) (fun _ => ?_)
  refine r_iconst E dX67_add_361 (zkI (by decide) (by decide)) ?_
  exact r_ireturn E rfl hT dX67_add_362
theorem w_fX67_add_J223 {K : zK} (E : zE K cX67_add "RingHouseModel" (some .int) 3) (hN : zNl K = 10) (hT : zTr K = (some 0)) (x1 : Int) (x2 : Int) (x3 : Int) (x5 : Int) (s0 : Int) : zR K 223 [(0, 69, 0), (1, 0, x1), (2, 0, x2), (3, 0, x3), (5, 0, x5)] [(0, s0)] (fX67_add_J223 x1 x2 x3 x5 s0) := by
  refine r_istore (ls' := [(8, 0, s0), (0, 69, 0), (1, 0, x1), (2, 0, x2), (3, 0, x3), (5, 0, x5)]) E dX67_add_223 (by rw [hN]; decide) rfl ?_
  refine r_aload_n E dX67_add_225 rfl 1 rfl ?_
  refine r_iload_n E dX67_add_226 rfl 4 rfl ?_
  refine r_aload_n E dX67_add_227 rfl 1 rfl ?_
  refine r_gec (y := 0) E zc_69 dX67_add_228 q3240 zr_69 (zh_6825 (by decide)) (by decide) ?_
  refine r_iload_n E dX67_add_231 rfl 2 rfl ?_
  refine r_laload E zc_6825 za_6825 zt_6825 zx_6825 rfl rfl dX67_add_232 (by decide) (fun v6 => ?_)
  refine r_callV E [(0, x3), (1, v6)] [] rfl zc_69 zr_69 (fun o _ => ⟨_, zw_X67.1 o, rfl⟩) (lw_V q3635 q3637 qs94 q294 q3638) dX67_add_233 zy_X67_entryNamed rfl (by omega) (by decide) (Nat.le_of_ble_eq_true rfl) (by decide) (fun l G => k_fX67_entryNamed l G x3 v6) (fun v7 => ?_)
  refine r_if_lt E 242 (by decide) dX67_add_236 (fun _ => ?_) (fun _ => ?_)
  · refine r_aload_n E dX67_add_242 rfl 1 rfl ?_
    refine r_iload_n E dX67_add_243 rfl 4 rfl ?_
    refine r_iload E dX67_add_244 5 rfl ?_
    refine r_iload E dX67_add_246 0 rfl ?_
    refine r_callS E [(0, x5), (0, s0)] [(0, x3), (69, 0)] rfl q3639 q3640 q294 q3641 dX67_add_248 zy_X67_costOf rfl (by omega) (by decide) (Nat.le_of_ble_eq_true rfl) (fun l G => k_fX67_costOf l G x5 s0) (fun v8 => ?_)
    refine r_callV E [(0, x3), (0, v8)] [] rfl zc_69 zr_69 (fun o _ => ⟨_, zw_X67.1 o, rfl⟩) (lw_V q3642 q3644 qs95 q294 q3645) dX67_add_251 zy_X67_hasRoom rfl (by omega) (by decide) (Nat.le_of_ble_eq_true rfl) (by decide) (fun l G => k_fX67_hasRoom l G x3 v8) (fun v9 => ?_)
    refine r_if_ne E 260 (by decide) dX67_add_254 (fun _ => ?_) (fun _ => ?_)
    · refine r_aload_n E dX67_add_260 rfl 1 rfl ?_
      refine r_iload E dX67_add_261 5 rfl ?_
      refine r_iload_n E dX67_add_263 rfl 4 rfl ?_
      refine r_aload_n E dX67_add_264 rfl 1 rfl ?_
      refine r_gec (y := 0) E zc_69 dX67_add_265 q3240 zr_69 (zh_6825 (by decide)) (by decide) ?_
      refine r_iload_n E dX67_add_268 rfl 2 rfl ?_
      refine r_laload E zc_6825 za_6825 zt_6825 zx_6825 rfl rfl dX67_add_269 (by decide) (fun v10 => ?_)
      refine r_iload_n E dX67_add_270 rfl 3 rfl ?_
      refine r_bipush E dX67_add_271 (by decide) (zkI (by decide) (by decide)) ?_
      refine r_icmp_ne E 286 (by decide) dX67_add_273 (fun _ => ?_) (fun _ => ?_)
      · refine r_aload_n E dX67_add_286 rfl 1 rfl ?_
        refine r_gec (y := 0) E zc_69 dX67_add_287 q3218 zr_69 (zh_6803 (by decide)) (by decide) ?_
        refine r_iload_n E dX67_add_290 rfl 4 rfl ?_
        refine r_iaload E zc_6803 za_6803 zt_6803 zx_6803 rfl rfl dX67_add_291 (by decide) (fun v11 => ?_)
        refine r_pick E [1, 2, 0] rfl ?_
        exact w_fX67_add_J292 E hN hT x1 s0 x5 x3 v10 v11
      · refine r_aload_n E dX67_add_276 rfl 1 rfl ?_
        refine r_gec (y := 0) E zc_69 dX67_add_277 q3241 zr_69 (zh_6826 (by decide)) (by decide) ?_
        refine r_iload_n E dX67_add_280 rfl 2 rfl ?_
        refine r_laload E zc_6826 za_6826 zt_6826 zx_6826 rfl rfl dX67_add_281 (by decide) (fun v23 => ?_)
        refine r_l2i E dX67_add_282 ?_
        refine r_goto E 292 (by decide) dX67_add_283 ?_
        refine r_pick E [1, 2, 0] rfl ?_
        exact w_fX67_add_J292 E hN hT x1 s0 x5 x3 v10 (zi v23)
    · refine r_bipush E dX67_add_257 (by decide) (zkI (by decide) (by decide)) ?_
      exact r_ireturn E rfl hT dX67_add_259
  · refine r_bipush E dX67_add_239 (by decide) (zkI (by decide) (by decide)) ?_
    exact r_ireturn E rfl hT dX67_add_241
theorem w_fX67_add_J187 {K : zK} (E : zE K cX67_add "RingHouseModel" (some .int) 3) (hN : zNl K = 10) (hT : zTr K = (some 0)) (x1 : Int) (x2 : Int) (x3 : Int) (x5 : Int) (x6 : Int) (x7 : Int) : zR K 187 [(0, 69, 0), (1, 0, x1), (2, 0, x2), (3, 0, x3), (5, 0, x5), (6, 0, x6), (7, 0, x7)] [] (fX67_add_J187 x1 x2 x3 x5 x6 x7) := by
  refine r_iload E dX67_add_187 6 rfl ?_
  refine r_if_ne E 195 (by decide) dX67_add_189 (fun _ => ?_) (fun _ => ?_)
  · refine r_iload_n E dX67_add_195 rfl 2 rfl ?_
    refine r_bipush E dX67_add_196 (by decide) (zkI (by decide) (by decide)) ?_
    refine r_icmp_ne E 211 (by decide) dX67_add_198 (fun _ => ?_) (fun _ => ?_)
    · refine r_iload_n E dX67_add_211 rfl 2 rfl ?_
      refine r_bipush E dX67_add_212 (by decide) (zkI (by decide) (by decide)) ?_
      refine r_icmp_ne E 222 (by decide) dX67_add_214 (fun _ => ?_) (fun _ => ?_)
      · refine r_iconst E dX67_add_222 (zkI (by decide) (by decide)) ?_
        refine r_pick E [0, 1, 2, 3, 4] rfl ?_
        exact w_fX67_add_J223 E hN hT x1 x2 x3 x5 0
      · refine r_iload E dX67_add_217 5 rfl ?_
        refine r_goto E 223 (by decide) dX67_add_219 ?_
        refine r_pick E [0, 1, 2, 3, 4] rfl ?_
        exact w_fX67_add_J223 E hN hT x1 x2 x3 x5 x6
    · refine r_aload_n E dX67_add_201 rfl 0 rfl ?_
      refine r_gec (y := 0) E zc_69 dX67_add_202 q3241 zr_69 (zh_6826 (by decide)) (by decide) ?_
      refine r_iload_n E dX67_add_205 rfl 1 rfl ?_
      refine r_laload E zc_6826 za_6826 zt_6826 zx_6826 rfl rfl dX67_add_206 (by decide) (fun v24 => ?_)
      refine r_l2i E dX67_add_207 ?_
      refine r_goto E 223 (by decide) dX67_add_208 ?_
      refine r_pick E [0, 1, 2, 3, 4] rfl ?_
      exact w_fX67_add_J223 E hN hT x1 x2 x3 x5 (zi v24)
  · refine r_bipush E dX67_add_192 (by decide) (zkI (by decide) (by decide)) ?_
    exact r_ireturn E rfl hT dX67_add_194
theorem w_fX67_add_J185 {K : zK} (E : zE K cX67_add "RingHouseModel" (some .int) 3) (hN : zNl K = 10) (hT : zTr K = (some 0)) (x1 : Int) (x2 : Int) (x3 : Int) (x5 : Int) (x6 : Int) (s0 : Int) : zR K 185 [(0, 69, 0), (1, 0, x1), (2, 0, x2), (3, 0, x3), (5, 0, x5), (6, 0, x6)] [(0, s0)] (fX67_add_J185 x1 x2 x3 x5 x6 s0) := by
  refine r_istore (ls' := [(7, 0, s0), (0, 69, 0), (1, 0, x1), (2, 0, x2), (3, 0, x3), (5, 0, x5), (6, 0, x6)]) E dX67_add_185 (by rw [hN]; decide) rfl ?_
  refine r_pick E [1, 2, 3, 4, 5, 6, 0] rfl ?_
  exact w_fX67_add_J187 E hN hT x1 x2 x3 x5 x6 s0
theorem w_fX67_add_J184 {K : zK} (E : zE K cX67_add "RingHouseModel" (some .int) 3) (hN : zNl K = 10) (hT : zTr K = (some 0)) (x1 : Int) (x2 : Int) (x3 : Int) (x5 : Int) (x6 : Int) : zR K 184 [(0, 69, 0), (1, 0, x1), (2, 0, x2), (3, 0, x3), (5, 0, x5), (6, 0, x6)] [] (fX67_add_J184 x1 x2 x3 x5 x6) := by
  refine r_iconst E dX67_add_184 (zkI (by decide) (by decide)) ?_
  exact w_fX67_add_J185 E hN hT x1 x2 x3 x5 x6 0
theorem w_fX67_add_J180 {K : zK} (E : zE K cX67_add "RingHouseModel" (some .int) 3) (hN : zNl K = 10) (hT : zTr K = (some 0)) (x1 : Int) (x2 : Int) (x3 : Int) (x5 : Int) (x6 : Int) : zR K 180 [(0, 69, 0), (1, 0, x1), (2, 0, x2), (3, 0, x3), (5, 0, x5), (6, 0, x6)] [] (fX67_add_J180 x1 x2 x3 x5 x6) := by
  refine r_iconst E dX67_add_180 (zkI (by decide) (by decide)) ?_
  refine r_goto E 185 (by decide) dX67_add_181 ?_
  exact w_fX67_add_J185 E hN hT x1 x2 x3 x5 x6 1
theorem w_fX67_add_J102 {K : zK} (E : zE K cX67_add "RingHouseModel" (some .int) 3) (hN : zNl K = 10) (hT : zTr K = (some 0)) (x1 : Int) (x2 : Int) (x3 : Int) (x5 : Int) (x6 : Int) (s0 : Int) : zR K 102 [(0, 69, 0), (1, 0, x1), (2, 0, x2), (3, 0, x3), (5, 0, x5), (6, 0, x6)] [(0, s0)] (fX67_add_J102 x1 x2 x3 x5 x6 s0) := by
  refine r_istore (ls' := [(7, 0, s0), (0, 69, 0), (1, 0, x1), (2, 0, x2), (3, 0, x3), (5, 0, x5), (6, 0, x6)]) E dX67_add_102 (by rw [hN]; decide) rfl ?_
  refine r_goto E 187 (by decide) dX67_add_104 ?_
  refine r_pick E [1, 2, 3, 4, 5, 6, 0] rfl ?_
  exact w_fX67_add_J187 E hN hT x1 x2 x3 x5 x6 s0
theorem w_fX67_add_J101 {K : zK} (E : zE K cX67_add "RingHouseModel" (some .int) 3) (hN : zNl K = 10) (hT : zTr K = (some 0)) (x1 : Int) (x2 : Int) (x3 : Int) (x5 : Int) (x6 : Int) : zR K 101 [(0, 69, 0), (1, 0, x1), (2, 0, x2), (3, 0, x3), (5, 0, x5), (6, 0, x6)] [] (fX67_add_J101 x1 x2 x3 x5 x6) := by
  refine r_iconst E dX67_add_101 (zkI (by decide) (by decide)) ?_
  exact w_fX67_add_J102 E hN hT x1 x2 x3 x5 x6 0
theorem w_fX67_add_J50 {K : zK} (E : zE K cX67_add "RingHouseModel" (some .int) 3) (hN : zNl K = 10) (hT : zTr K = (some 0)) (x1 : Int) (x2 : Int) (x3 : Int) (s0 : Int) : zR K 50 [(0, 69, 0), (1, 0, x1), (2, 0, x2), (3, 0, x3)] [(0, s0)] (fX67_add_J50 x1 x2 x3 s0) := by
  refine r_istore (ls' := [(5, 0, s0), (0, 69, 0), (1, 0, x1), (2, 0, x2), (3, 0, x3)]) E dX67_add_50 (by rw [hN]; decide) rfl ?_
  refine r_aload_n E dX67_add_52 rfl 1 rfl ?_
  refine r_gec (y := 0) E zc_69 dX67_add_53 q3242 zr_69 (zh_6827 (by decide)) (by decide) ?_
  refine r_iconst E dX67_add_56 (zkI (by decide) (by decide)) ?_
  refine r_iload_n E dX67_add_57 rfl 2 rfl ?_
  refine r_imul E dX67_add_58 ?_
  refine r_iaload E zc_6827 za_6827 zt_6827 zx_6827 rfl rfl dX67_add_59 (by decide) (fun v3 => ?_)
  refine r_istore (ls' := [(6, 0, v3), (5, 0, s0), (0, 69, 0), (1, 0, x1), (2, 0, x2), (3, 0, x3)]) E dX67_add_60 (by rw [hN]; decide) rfl ?_
  refine r_aload_n E dX67_add_62 rfl 2 rfl ?_
  refine r_gec (y := 0) E zc_69 dX67_add_63 q3240 zr_69 (zh_6825 (by decide)) (by decide) ?_
  refine r_iload_n E dX67_add_66 rfl 3 rfl ?_
  refine r_laload E zc_6825 za_6825 zt_6825 zx_6825 rfl rfl dX67_add_67 (by decide) (fun v4 => ?_)
  refine r_callS E [(1, v4)] [] rfl q3622 q3623 q294 q3624 dX67_add_68 zy_X67_isName rfl (by omega) (by decide) (Nat.le_of_ble_eq_true rfl) (fun l G => k_fX67_isName l G v4) (fun v5 => ?_)
  refine r_istore (ls' := [(7, 0, v5), (6, 0, v3), (5, 0, s0), (0, 69, 0), (1, 0, x1), (2, 0, x2), (3, 0, x3)]) E dX67_add_71 (by rw [hN]; decide) rfl ?_
  refine r_iload_n E dX67_add_73 rfl 5 rfl ?_
  refine r_bipush E dX67_add_74 (by decide) (zkI (by decide) (by decide)) ?_
  refine r_icmp_ne E 107 (by decide) dX67_add_76 (fun _ => ?_) (fun _ => ?_)
  · refine r_iload_n E dX67_add_107 rfl 5 rfl ?_
    refine r_bipush E dX67_add_108 (by decide) (zkI (by decide) (by decide)) ?_
    refine r_icmp_ne E 187 (by decide) dX67_add_110 (fun _ => ?_) (fun _ => ?_)
    · refine r_pick E [3, 4, 5, 6, 2, 1, 0] rfl ?_
      exact w_fX67_add_J187 E hN hT x1 x2 x3 s0 v3 v5
    · refine r_iload E dX67_add_113 0 rfl ?_
      refine r_if_eq E 184 (by decide) dX67_add_115 (fun _ => ?_) (fun _ => ?_)
      · refine r_pick E [3, 4, 5, 6, 2, 1] rfl ?_
        exact w_fX67_add_J184 E hN hT x1 x2 x3 s0 v3
      · refine r_aload_n E dX67_add_118 rfl 3 rfl ?_
        refine r_gec (y := 0) E zc_69 dX67_add_119 q3241 zr_69 (zh_6826 (by decide)) (by decide) ?_
        refine r_iload_n E dX67_add_122 rfl 4 rfl ?_
        refine r_laload E zc_6826 za_6826 zt_6826 zx_6826 rfl rfl dX67_add_123 (by decide) (fun v25 => ?_)
        refine r_ldc2 (v := 32) E dX67_add_124 q3991 (by decide) (zkJ (by decide) (by decide)) ?_
        refine r_lcmp_ge E 184 (by decide) dX67_add_127 dX67_add_128 (fun _ => ?_) (fun _ => ?_)
        · refine r_pick E [3, 4, 5, 6, 2, 1] rfl ?_
          exact w_fX67_add_J184 E hN hT x1 x2 x3 s0 v3
        · refine r_aload_n E dX67_add_131 rfl 3 rfl ?_
          refine r_gec (y := 0) E zc_69 dX67_add_132 q3241 zr_69 (zh_6826 (by decide)) (by decide) ?_
          refine r_iload_n E dX67_add_135 rfl 4 rfl ?_
          refine r_laload E zc_6826 za_6826 zt_6826 zx_6826 rfl rfl dX67_add_136 (by decide) (fun v26 => ?_)
          refine r_l2i E dX67_add_137 ?_
          refine r_aload_n E dX67_add_138 rfl 3 rfl ?_
          refine r_gec (y := 0) E zc_69 dX67_add_139 q3218 zr_69 (zh_6803 (by decide)) (by decide) ?_
          refine r_iload_n E dX67_add_142 rfl 6 rfl ?_
          refine r_iaload E zc_6803 za_6803 zt_6803 zx_6803 rfl rfl dX67_add_143 (by decide) (fun v27 => ?_)
          refine r_callS E [(0, (zi v26)), (0, v27)] [] rfl q3632 q3633 q294 q3634 dX67_add_144 zy_X67_dominates rfl (by omega) (by decide) (Nat.le_of_ble_eq_true rfl) (fun l G => k_fX67_dominates l G (zi v26) v27) (fun v28 => ?_)
          refine r_if_eq E 184 (by decide) dX67_add_147 (fun _ => ?_) (fun _ => ?_)
          · refine r_pick E [3, 4, 5, 6, 2, 1] rfl ?_
            exact w_fX67_add_J184 E hN hT x1 x2 x3 s0 v3
          · refine r_iload E dX67_add_150 1 rfl ?_
            refine r_sipush E dX67_add_152 (by decide) (zkI (by decide) (by decide)) ?_
            refine r_icmp_ge E 184 (by decide) dX67_add_155 (fun _ => ?_) (fun _ => ?_)
            · refine r_pick E [3, 4, 5, 6, 2, 1] rfl ?_
              exact w_fX67_add_J184 E hN hT x1 x2 x3 s0 v3
            · refine r_aload_n E dX67_add_158 rfl 3 rfl ?_
              refine r_gec (y := 0) E zc_69 dX67_add_159 q3241 zr_69 (zh_6826 (by decide)) (by decide) ?_
              refine r_iload_n E dX67_add_162 rfl 4 rfl ?_
              refine r_laload E zc_6826 za_6826 zt_6826 zx_6826 rfl rfl dX67_add_163 (by decide) (fun v29 => ?_)
              refine r_aload_n E dX67_add_164 rfl 3 rfl ?_
              refine r_gec (y := 0) E zc_69 dX67_add_165 q3218 zr_69 (zh_6803 (by decide)) (by decide) ?_
              refine r_iload_n E dX67_add_168 rfl 6 rfl ?_
              refine r_iaload E zc_6803 za_6803 zt_6803 zx_6803 rfl rfl dX67_add_169 (by decide) (fun v30 => ?_)
              refine r_i2l E dX67_add_170 ?_
              refine r_lcmp_eq E 180 (by decide) dX67_add_171 dX67_add_172 (fun _ => ?_) (fun _ => ?_)
              · refine r_pick E [3, 4, 5, 6, 2, 1] rfl ?_
                exact w_fX67_add_J180 E hN hT x1 x2 x3 s0 v3
              · refine r_iload E dX67_add_175 1 rfl ?_
                refine r_if_le E 184 (by decide) dX67_add_177 (fun _ => ?_) (fun _ => ?_)
                · refine r_pick E [3, 4, 5, 6, 2, 1] rfl ?_
                  exact w_fX67_add_J184 E hN hT x1 x2 x3 s0 v3
                · refine r_pick E [3, 4, 5, 6, 2, 1] rfl ?_
                  exact w_fX67_add_J180 E hN hT x1 x2 x3 s0 v3
  · refine r_iload E dX67_add_79 0 rfl ?_
    refine r_if_eq E 101 (by decide) dX67_add_81 (fun _ => ?_) (fun _ => ?_)
    · refine r_pick E [3, 4, 5, 6, 2, 1] rfl ?_
      exact w_fX67_add_J101 E hN hT x1 x2 x3 s0 v3
    · refine r_aload_n E dX67_add_84 rfl 3 rfl ?_
      refine r_gec (y := 0) E zc_69 dX67_add_85 q3241 zr_69 (zh_6826 (by decide)) (by decide) ?_
      refine r_iload_n E dX67_add_88 rfl 4 rfl ?_
      refine r_laload E zc_6826 za_6826 zt_6826 zx_6826 rfl rfl dX67_add_89 (by decide) (fun v31 => ?_)
      refine r_ldc2 (v := 1024) E dX67_add_90 q3678 (by decide) (zkJ (by decide) (by decide)) ?_
      refine r_lcmp_gt E 101 (by decide) dX67_add_93 dX67_add_94 (fun _ => ?_) (fun _ => ?_)
      · refine r_pick E [3, 4, 5, 6, 2, 1] rfl ?_
        exact w_fX67_add_J101 E hN hT x1 x2 x3 s0 v3
      · refine r_iconst E dX67_add_97 (zkI (by decide) (by decide)) ?_
        refine r_goto E 102 (by decide) dX67_add_98 ?_
        refine r_pick E [3, 4, 5, 6, 2, 1] rfl ?_
        exact w_fX67_add_J102 E hN hT x1 x2 x3 s0 v3 1
theorem w_fX67_add {K : zK} (E : zE K cX67_add "RingHouseModel" (some .int) 3) (hN : zNl K = 10) (hT : zTr K = (some 0)) (x1 : Int) (x2 : Int) : zR K 0 [(0, 69, 0), (1, 0, x1), (2, 0, x2)] [] (fX67_add x1 x2) := by
  refine r_aload_n E dX67_add_0 rfl 0 rfl ?_
  refine r_gec (y := 0) E zc_69 dX67_add_1 q3255 zr_69 (zh_6840 (by decide)) (by decide) ?_
  refine r_iload_n E dX67_add_4 rfl 1 rfl ?_
  refine r_iaload E zc_6840 za_6840 zt_6840 zx_6840 rfl rfl dX67_add_5 (by decide) (fun v1 => ?_)
  refine r_istore_n (ls' := [(3, 0, v1), (0, 69, 0), (1, 0, x1), (2, 0, x2)]) E dX67_add_6 rfl (by rw [hN]; decide) rfl ?_
  refine r_aload_n E dX67_add_7 rfl 1 rfl ?_
  refine r_iload_n E dX67_add_8 rfl 0 rfl ?_
  refine r_put E zc_69 zt_6886 zo_6886 dX67_add_9 q3301 zr_69 zw_X67 zp_6886 (fun _ => rfl) (fun _ => rfl) (by decide) ?_
  refine r_aload_n E dX67_add_12 rfl 1 rfl ?_
  refine r_iload_n E dX67_add_13 rfl 2 rfl ?_
  refine r_iload_n E dX67_add_14 rfl 0 rfl ?_
  refine r_iconst E dX67_add_15 (zkI (by decide) (by decide)) ?_
  refine r_callV E [(0, x1), (0, v1), (0, 4)] [] rfl zc_69 zr_69 (fun o _ => ⟨_, zw_X67.1 o, rfl⟩) (lw_V q3892 q3894 qs132 q294 q3895) dX67_add_16 zy_X67_askDirectory rfl (by omega) (by decide) (Nat.le_of_ble_eq_true rfl) (by decide) (fun l G => k_fX67_askDirectory l G x1 v1 4) (fun v2 => ?_)
  refine r_istore (ls' := [(4, 0, v2), (3, 0, v1), (0, 69, 0), (1, 0, x1), (2, 0, x2)]) E dX67_add_19 (by rw [hN]; decide) rfl ?_
  refine r_iload E dX67_add_21 0 rfl ?_
  refine r_if_ge E 29 (by decide) dX67_add_23 (fun _ => ?_) (fun _ => ?_)
  · refine r_iload_n E dX67_add_29 rfl 4 rfl ?_
    refine r_bipush E dX67_add_30 (by decide) (zkI (by decide) (by decide)) ?_
    refine r_icmp_ne E 39 (by decide) dX67_add_32 (fun _ => ?_) (fun _ => ?_)
    · refine r_iload_n E dX67_add_39 rfl 4 rfl ?_
      refine r_bipush E dX67_add_40 (by decide) (zkI (by decide) (by decide)) ?_
      refine r_icmp_ne E 49 (by decide) dX67_add_42 (fun _ => ?_) (fun _ => ?_)
      · refine r_iconst E dX67_add_49 (zkI (by decide) (by decide)) ?_
        refine r_pick E [2, 3, 4, 1] rfl ?_
        exact w_fX67_add_J50 E hN hT x1 x2 v1 3
      · refine r_iconst E dX67_add_45 (zkI (by decide) (by decide)) ?_
        refine r_goto E 50 (by decide) dX67_add_46 ?_
        refine r_pick E [2, 3, 4, 1] rfl ?_
        exact w_fX67_add_J50 E hN hT x1 x2 v1 1
    · refine r_iconst E dX67_add_35 (zkI (by decide) (by decide)) ?_
      refine r_goto E 50 (by decide) dX67_add_36 ?_
      refine r_pick E [2, 3, 4, 1] rfl ?_
      exact w_fX67_add_J50 E hN hT x1 x2 v1 2
  · refine r_iload E dX67_add_26 0 rfl ?_
    exact r_ireturn E rfl hT dX67_add_28
theorem k_fX67_add (l : Launch) (G : zG) (x1 : Int) (x2 : Int) : zCt l G yX67_add cX67_add 10 (some .int) 3 [(69, 0), (0, x1), (0, x2)] (some 0) (fX67_add x1 x2) := zCt.of (by decide) (Nat.le_of_ble_eq_true rfl) (fun K E _ _ hN hT => w_fX67_add E hN hT x1 x2)
theorem dX67_note_0 : decode cX67_note 0 = .ok (.iconst 4, 1) := by decide +kernel
theorem dX67_note_1 : decode cX67_note 1 = .ok (.aload_n 0, 1) := by decide +kernel
theorem dX67_note_2 : decode cX67_note 2 = .ok (.getfield 505, 3) := by decide +kernel
theorem dX67_note_5 : decode cX67_note 5 = .ok (.bipush 64, 2) := by decide +kernel
theorem dX67_note_7 : decode cX67_note 7 = .ok (.irem, 1) := by decide +kernel
theorem dX67_note_8 : decode cX67_note 8 = .ok (.imul, 1) := by decide +kernel
theorem dX67_note_9 : decode cX67_note 9 = .ok (.istore 5, 2) := by decide +kernel
theorem dX67_note_11 : decode cX67_note 11 = .ok (.aload_n 0, 1) := by decide +kernel
theorem dX67_note_12 : decode cX67_note 12 = .ok (.getfield 203, 3) := by decide +kernel
theorem dX67_note_15 : decode cX67_note 15 = .ok (.iload 5, 2) := by decide +kernel
theorem dX67_note_17 : decode cX67_note 17 = .ok (.iload_n 1, 1) := by decide +kernel
theorem dX67_note_18 : decode cX67_note 18 = .ok (.iastore, 1) := by decide +kernel
theorem dX67_note_19 : decode cX67_note 19 = .ok (.aload_n 0, 1) := by decide +kernel
theorem dX67_note_20 : decode cX67_note 20 = .ok (.getfield 203, 3) := by decide +kernel
theorem dX67_note_23 : decode cX67_note 23 = .ok (.iload 5, 2) := by decide +kernel
theorem dX67_note_25 : decode cX67_note 25 = .ok (.iconst 1, 1) := by decide +kernel
theorem dX67_note_26 : decode cX67_note 26 = .ok (.iadd, 1) := by decide +kernel
theorem dX67_note_27 : decode cX67_note 27 = .ok (.iload_n 2, 1) := by decide +kernel
theorem dX67_note_28 : decode cX67_note 28 = .ok (.iastore, 1) := by decide +kernel
theorem dX67_note_29 : decode cX67_note 29 = .ok (.aload_n 0, 1) := by decide +kernel
theorem dX67_note_30 : decode cX67_note 30 = .ok (.getfield 203, 3) := by decide +kernel
theorem dX67_note_33 : decode cX67_note 33 = .ok (.iload 5, 2) := by decide +kernel
theorem dX67_note_35 : decode cX67_note 35 = .ok (.iconst 2, 1) := by decide +kernel
theorem dX67_note_36 : decode cX67_note 36 = .ok (.iadd, 1) := by decide +kernel
theorem dX67_note_37 : decode cX67_note 37 = .ok (.iload_n 3, 1) := by decide +kernel
theorem dX67_note_38 : decode cX67_note 38 = .ok (.iastore, 1) := by decide +kernel
theorem dX67_note_39 : decode cX67_note 39 = .ok (.aload_n 0, 1) := by decide +kernel
theorem dX67_note_40 : decode cX67_note 40 = .ok (.getfield 203, 3) := by decide +kernel
theorem dX67_note_43 : decode cX67_note 43 = .ok (.iload 5, 2) := by decide +kernel
theorem dX67_note_45 : decode cX67_note 45 = .ok (.iconst 3, 1) := by decide +kernel
theorem dX67_note_46 : decode cX67_note 46 = .ok (.iadd, 1) := by decide +kernel
theorem dX67_note_47 : decode cX67_note 47 = .ok (.iload 4, 2) := by decide +kernel
theorem dX67_note_49 : decode cX67_note 49 = .ok (.iastore, 1) := by decide +kernel
theorem dX67_note_50 : decode cX67_note 50 = .ok (.aload_n 0, 1) := by decide +kernel
theorem dX67_note_51 : decode cX67_note 51 = .ok (.dup, 1) := by decide +kernel
theorem dX67_note_52 : decode cX67_note 52 = .ok (.getfield 505, 3) := by decide +kernel
theorem dX67_note_55 : decode cX67_note 55 = .ok (.iconst 1, 1) := by decide +kernel
theorem dX67_note_56 : decode cX67_note 56 = .ok (.iadd, 1) := by decide +kernel
theorem dX67_note_57 : decode cX67_note 57 = .ok (.putfield 505, 3) := by decide +kernel
theorem dX67_note_60 : decode cX67_note 60 = .ok (.return_, 1) := by decide +kernel
theorem zy_X67_note : yX67_note.cls ≠ "java/lang/invoke/MethodHandle" ∧ yX67_note.cls ≠ "java/lang/invoke/VarHandle" ∧ (parseMethodDescriptor yX67_note.desc).map (fun d => d.parameters.length) = some 4 := by decide +kernel
theorem w_fX67_note {K : zK} (E : zE K cX67_note "RingHouseModel" none 0) (hN : zNl K = 6) (hT : zTr K = none) (x1 : Int) (x2 : Int) (x3 : Int) (x4 : Int) : zR K 0 [(0, 69, 0), (1, 0, x1), (2, 0, x2), (3, 0, x3), (4, 0, x4)] [] (fX67_note x1 x2 x3 x4) := by
  refine r_iconst E dX67_note_0 (zkI (by decide) (by decide)) ?_
  refine r_aload_n E dX67_note_1 rfl 0 rfl ?_
  refine r_get E zc_69 zt_6865 dX67_note_2 q3280 zr_69 (zg_6865 _) (by decide) (fun v1 => ?_)
  refine r_bipush E dX67_note_5 (by decide) (zkI (by decide) (by decide)) ?_
  refine r_irem E (by decide) dX67_note_7 ?_
  refine r_imul E dX67_note_8 ?_
  refine r_let E (fun v2 ev2 => ?_)
  refine r_istore (ls' := [(5, 0, v2), (0, 69, 0), (1, 0, x1), (2, 0, x2), (3, 0, x3), (4, 0, x4)]) E dX67_note_9 (by rw [hN]; decide) rfl ?_
  refine r_aload_n E dX67_note_11 rfl 1 rfl ?_
  refine r_gec (y := 0) E zc_69 dX67_note_12 q3281 zr_69 (zh_6866 (by decide)) (by decide) ?_
  refine r_iload E dX67_note_15 0 rfl ?_
  refine r_iload_n E dX67_note_17 rfl 2 rfl ?_
  refine r_iastore E zc_6866 za_6866 zt_6866 zo_6866 zx_6866 rfl rfl dX67_note_18 (by decide) ?_
  refine r_aload_n E dX67_note_19 rfl 1 rfl ?_
  refine r_gec (y := 0) E zc_69 dX67_note_20 q3281 zr_69 (zh_6866 (by decide)) (by decide) ?_
  refine r_iload E dX67_note_23 0 rfl ?_
  refine r_iconst E dX67_note_25 (zkI (by decide) (by decide)) ?_
  refine r_iadd E dX67_note_26 ?_
  refine r_iload_n E dX67_note_27 rfl 3 rfl ?_
  refine r_iastore E zc_6866 za_6866 zt_6866 zo_6866 zx_6866 rfl rfl dX67_note_28 (by decide) ?_
  refine r_aload_n E dX67_note_29 rfl 1 rfl ?_
  refine r_gec (y := 0) E zc_69 dX67_note_30 q3281 zr_69 (zh_6866 (by decide)) (by decide) ?_
  refine r_iload E dX67_note_33 0 rfl ?_
  refine r_iconst E dX67_note_35 (zkI (by decide) (by decide)) ?_
  refine r_iadd E dX67_note_36 ?_
  refine r_iload_n E dX67_note_37 rfl 4 rfl ?_
  refine r_iastore E zc_6866 za_6866 zt_6866 zo_6866 zx_6866 rfl rfl dX67_note_38 (by decide) ?_
  refine r_aload_n E dX67_note_39 rfl 1 rfl ?_
  refine r_gec (y := 0) E zc_69 dX67_note_40 q3281 zr_69 (zh_6866 (by decide)) (by decide) ?_
  refine r_iload E dX67_note_43 0 rfl ?_
  refine r_iconst E dX67_note_45 (zkI (by decide) (by decide)) ?_
  refine r_iadd E dX67_note_46 ?_
  refine r_iload E dX67_note_47 5 rfl ?_
  refine r_iastore E zc_6866 za_6866 zt_6866 zo_6866 zx_6866 rfl rfl dX67_note_49 (by decide) ?_
  refine r_aload_n E dX67_note_50 rfl 1 rfl ?_
  refine r_dup E (zn1 rfl) dX67_note_51 ?_
  refine r_get E zc_69 zt_6865 dX67_note_52 q3280 zr_69 (zg_6865 _) (by decide) (fun v3 => ?_)
  refine r_iconst E dX67_note_55 (zkI (by decide) (by decide)) ?_
  refine r_iadd E dX67_note_56 ?_
  refine r_put E zc_69 zt_6865 zo_6865 dX67_note_57 q3280 zr_69 zw_X67 zp_6865 (fun _ => rfl) (fun _ => rfl) (by decide) ?_
  exact r_return E rfl hT dX67_note_60
theorem k_fX67_note (l : Launch) (G : zG) (x1 : Int) (x2 : Int) (x3 : Int) (x4 : Int) : zCt l G yX67_note cX67_note 6 none 0 [(69, 0), (0, x1), (0, x2), (0, x3), (0, x4)] none (fX67_note x1 x2 x3 x4) := zCt.of (by decide) (Nat.le_of_ble_eq_true rfl) (fun K E _ _ hN hT => w_fX67_note E hN hT x1 x2 x3 x4)
theorem dX67_entryBehind_0 : decode cX67_entryBehind 0 = .ok (.iconst (-1), 1) := by decide +kernel
theorem dX67_entryBehind_1 : decode cX67_entryBehind 1 = .ok (.istore_n 3, 1) := by decide +kernel
theorem dX67_entryBehind_2 : decode cX67_entryBehind 2 = .ok (.iconst 1, 1) := by decide +kernel
theorem dX67_entryBehind_3 : decode cX67_entryBehind 3 = .ok (.istore 4, 2) := by decide +kernel
theorem dX67_entryBehind_5 : decode cX67_entryBehind 5 = .ok (.iload 4, 2) := by decide +kernel
theorem dX67_entryBehind_7 : decode cX67_entryBehind 7 = .ok (.sipush 256, 3) := by decide +kernel
theorem dX67_entryBehind_10 : decode cX67_entryBehind 10 = .ok (.if_icmp .ge 91, 3) := by decide +kernel
theorem dX67_entryBehind_13 : decode cX67_entryBehind 13 = .ok (.aload_n 0, 1) := by decide +kernel
theorem dX67_entryBehind_14 : decode cX67_entryBehind 14 = .ok (.getfield 7, 3) := by decide +kernel
theorem dX67_entryBehind_17 : decode cX67_entryBehind 17 = .ok (.iload 4, 2) := by decide +kernel
theorem dX67_entryBehind_19 : decode cX67_entryBehind 19 = .ok (.iaload, 1) := by decide +kernel
theorem dX67_entryBehind_20 : decode cX67_entryBehind 20 = .ok (.ifCond .le 39, 3) := by decide +kernel
theorem dX67_entryBehind_23 : decode cX67_entryBehind 23 = .ok (.aload_n 0, 1) := by decide +kernel
theorem dX67_entryBehind_24 : decode cX67_entryBehind 24 = .ok (.getfield 17, 3) := by decide +kernel
theorem dX67_entryBehind_27 : decode cX67_entryBehind 27 = .ok (.iload 4, 2) := by decide +kernel
theorem dX67_entryBehind_29 : decode cX67_entryBehind 29 = .ok (.iaload, 1) := by decide +kernel
theorem dX67_entryBehind_30 : decode cX67_entryBehind 30 = .ok (.iload_n 1, 1) := by decide +kernel
theorem dX67_entryBehind_31 : decode cX67_entryBehind 31 = .ok (.if_icmp .ne 28, 3) := by decide +kernel
theorem dX67_entryBehind_34 : decode cX67_entryBehind 34 = .ok (.iload_n 2, 1) := by decide +kernel
theorem dX67_entryBehind_35 : decode cX67_entryBehind 35 = .ok (.ifCond .eq 20, 3) := by decide +kernel
theorem dX67_entryBehind_38 : decode cX67_entryBehind 38 = .ok (.aload_n 0, 1) := by decide +kernel
theorem dX67_entryBehind_39 : decode cX67_entryBehind 39 = .ok (.getfield 41, 3) := by decide +kernel
theorem dX67_entryBehind_42 : decode cX67_entryBehind 42 = .ok (.iload 4, 2) := by decide +kernel
theorem dX67_entryBehind_44 : decode cX67_entryBehind 44 = .ok (.laload, 1) := by decide +kernel
theorem dX67_entryBehind_45 : decode cX67_entryBehind 45 = .ok (.aload_n 0, 1) := by decide +kernel
theorem dX67_entryBehind_46 : decode cX67_entryBehind 46 = .ok (.getfield 41, 3) := by decide +kernel
theorem dX67_entryBehind_49 : decode cX67_entryBehind 49 = .ok (.iload_n 2, 1) := by decide +kernel
theorem dX67_entryBehind_50 : decode cX67_entryBehind 50 = .ok (.laload, 1) := by decide +kernel
theorem dX67_entryBehind_51 : decode cX67_entryBehind 51 = .ok (.lcmp, 1) := by decide +kernel
theorem dX67_entryBehind_52 : decode cX67_entryBehind 52 = .ok (.ifCond .le 7, 3) := by decide +kernel
theorem dX67_entryBehind_55 : decode cX67_entryBehind 55 = .ok (.iconst 1, 1) := by decide +kernel
theorem dX67_entryBehind_56 : decode cX67_entryBehind 56 = .ok (.goto 4, 3) := by decide +kernel
theorem dX67_entryBehind_59 : decode cX67_entryBehind 59 = .ok (.iconst 0, 1) := by decide +kernel
theorem dX67_entryBehind_60 : decode cX67_entryBehind 60 = .ok (.istore 5, 2) := by decide +kernel
theorem dX67_entryBehind_62 : decode cX67_entryBehind 62 = .ok (.iload 5, 2) := by decide +kernel
theorem dX67_entryBehind_64 : decode cX67_entryBehind 64 = .ok (.ifCond .eq 29, 3) := by decide +kernel
theorem dX67_entryBehind_67 : decode cX67_entryBehind 67 = .ok (.iload_n 3, 1) := by decide +kernel
theorem dX67_entryBehind_68 : decode cX67_entryBehind 68 = .ok (.ifCond .lt 20, 3) := by decide +kernel
theorem dX67_entryBehind_71 : decode cX67_entryBehind 71 = .ok (.aload_n 0, 1) := by decide +kernel
theorem dX67_entryBehind_72 : decode cX67_entryBehind 72 = .ok (.getfield 41, 3) := by decide +kernel
theorem dX67_entryBehind_75 : decode cX67_entryBehind 75 = .ok (.iload 4, 2) := by decide +kernel
theorem dX67_entryBehind_77 : decode cX67_entryBehind 77 = .ok (.laload, 1) := by decide +kernel
theorem dX67_entryBehind_78 : decode cX67_entryBehind 78 = .ok (.aload_n 0, 1) := by decide +kernel
theorem dX67_entryBehind_79 : decode cX67_entryBehind 79 = .ok (.getfield 41, 3) := by decide +kernel
theorem dX67_entryBehind_82 : decode cX67_entryBehind 82 = .ok (.iload_n 3, 1) := by decide +kernel
theorem dX67_entryBehind_83 : decode cX67_entryBehind 83 = .ok (.laload, 1) := by decide +kernel
theorem dX67_entryBehind_84 : decode cX67_entryBehind 84 = .ok (.lcmp, 1) := by decide +kernel
theorem dX67_entryBehind_85 : decode cX67_entryBehind 85 = .ok (.ifCond .ge 8, 3) := by decide +kernel
theorem dX67_entryBehind_88 : decode cX67_entryBehind 88 = .ok (.iload 4, 2) := by decide +kernel
theorem dX67_entryBehind_90 : decode cX67_entryBehind 90 = .ok (.goto 4, 3) := by decide +kernel
theorem dX67_entryBehind_93 : decode cX67_entryBehind 93 = .ok (.iload_n 3, 1) := by decide +kernel
theorem dX67_entryBehind_94 : decode cX67_entryBehind 94 = .ok (.istore_n 3, 1) := by decide +kernel
theorem dX67_entryBehind_95 : decode cX67_entryBehind 95 = .ok (.iinc 4 1, 3) := by decide +kernel
theorem dX67_entryBehind_98 : decode cX67_entryBehind 98 = .ok (.goto (-93), 3) := by decide +kernel
theorem dX67_entryBehind_101 : decode cX67_entryBehind 101 = .ok (.iload_n 3, 1) := by decide +kernel
theorem dX67_entryBehind_102 : decode cX67_entryBehind 102 = .ok (.ireturn, 1) := by decide +kernel
theorem zy_X67_entryBehind : yX67_entryBehind.cls ≠ "java/lang/invoke/MethodHandle" ∧ yX67_entryBehind.cls ≠ "java/lang/invoke/VarHandle" ∧ (parseMethodDescriptor yX67_entryBehind.desc).map (fun d => d.parameters.length) = some 2 := by decide +kernel
theorem w_fX67_entryBehind_J94 {K : zK} (E : zE K cX67_entryBehind "RingHouseModel" (some .int) 0) (hN : zNl K = 6) (hT : zTr K = (some 0)) (x1 : Int) (x2 : Int) (x4 : Int) (s0 : Int) {r5 : Int × Int → zX} (hr5 : ∀ s : Int × Int, zR K 5 [(0, 69, 0), (1, 0, x1), (2, 0, x2), (3, 0, s.1), (4, 0, s.2)] [] (r5 s)) : zR K 94 [(0, 69, 0), (1, 0, x1), (2, 0, x2), (4, 0, x4)] [(0, s0)] (fX67_entryBehind_J94 r5 x1 x2 x4 s0) := by
  refine r_istore_n (ls' := [(3, 0, s0), (0, 69, 0), (1, 0, x1), (2, 0, x2), (4, 0, x4)]) E dX67_entryBehind_94 rfl (by rw [hN]; decide) rfl ?_
  refine r_iinc (ls' := fun v2 => [(4, 0, v2), (3, 0, s0), (0, 69, 0), (1, 0, x1), (2, 0, x2)]) E 4 rfl (by rw [hN]; decide) (fun _ => rfl) dX67_entryBehind_95 (fun v2 _ => ?_)
  refine r_goto E 5 (by decide) dX67_entryBehind_98 ?_
  refine r_pick E [2, 3, 4, 1, 0] rfl ?_
  exact hr5 (s0, v2)
theorem w_fX67_entryBehind_J93 {K : zK} (E : zE K cX67_entryBehind "RingHouseModel" (some .int) 0) (hN : zNl K = 6) (hT : zTr K = (some 0)) (x1 : Int) (x2 : Int) (x3 : Int) (x4 : Int) {r5 : Int × Int → zX} (hr5 : ∀ s : Int × Int, zR K 5 [(0, 69, 0), (1, 0, x1), (2, 0, x2), (3, 0, s.1), (4, 0, s.2)] [] (r5 s)) : zR K 93 [(0, 69, 0), (1, 0, x1), (2, 0, x2), (3, 0, x3), (4, 0, x4)] [] (fX67_entryBehind_J93 r5 x1 x2 x3 x4) := by
  refine r_iload_n E dX67_entryBehind_93 rfl 3 rfl ?_
  refine r_pick E [0, 1, 2, 4] rfl ?_
  exact w_fX67_entryBehind_J94 E hN hT x1 x2 x4 x3 hr5
theorem w_fX67_entryBehind_J88 {K : zK} (E : zE K cX67_entryBehind "RingHouseModel" (some .int) 0) (hN : zNl K = 6) (hT : zTr K = (some 0)) (x1 : Int) (x2 : Int) (x4 : Int) {r5 : Int × Int → zX} (hr5 : ∀ s : Int × Int, zR K 5 [(0, 69, 0), (1, 0, x1), (2, 0, x2), (3, 0, s.1), (4, 0, s.2)] [] (r5 s)) : zR K 88 [(0, 69, 0), (1, 0, x1), (2, 0, x2), (4, 0, x4)] [] (fX67_entryBehind_J88 r5 x1 x2 x4) := by
  refine r_iload E dX67_entryBehind_88 3 rfl ?_
  refine r_goto E 94 (by decide) dX67_entryBehind_90 ?_
  exact w_fX67_entryBehind_J94 E hN hT x1 x2 x4 x4 hr5
theorem w_fX67_entryBehind_J60 {K : zK} (E : zE K cX67_entryBehind "RingHouseModel" (some .int) 0) (hN : zNl K = 6) (hT : zTr K = (some 0)) (x1 : Int) (x2 : Int) (x3 : Int) (x4 : Int) (s0 : Int) {r5 : Int × Int → zX} (hr5 : ∀ s : Int × Int, zR K 5 [(0, 69, 0), (1, 0, x1), (2, 0, x2), (3, 0, s.1), (4, 0, s.2)] [] (r5 s)) : zR K 60 [(0, 69, 0), (1, 0, x1), (2, 0, x2), (3, 0, x3), (4, 0, x4)] [(0, s0)] (fX67_entryBehind_J60 r5 x1 x2 x3 x4 s0) := by
  refine r_istore (ls' := [(5, 0, s0), (0, 69, 0), (1, 0, x1), (2, 0, x2), (3, 0, x3), (4, 0, x4)]) E dX67_entryBehind_60 (by rw [hN]; decide) rfl ?_
  refine r_iload E dX67_entryBehind_62 0 rfl ?_
  refine r_if_eq E 93 (by decide) dX67_entryBehind_64 (fun _ => ?_) (fun _ => ?_)
  · refine r_pick E [1, 2, 3, 4, 5] rfl ?_
    exact w_fX67_entryBehind_J93 E hN hT x1 x2 x3 x4 hr5
  · refine r_iload_n E dX67_entryBehind_67 rfl 4 rfl ?_
    refine r_if_lt E 88 (by decide) dX67_entryBehind_68 (fun _ => ?_) (fun _ => ?_)
    · refine r_pick E [1, 2, 3, 5] rfl ?_
      exact w_fX67_entryBehind_J88 E hN hT x1 x2 x4 hr5
    · refine r_aload_n E dX67_entryBehind_71 rfl 1 rfl ?_
      refine r_gec (y := 0) E zc_69 dX67_entryBehind_72 q3225 zr_69 (zh_6810 (by decide)) (by decide) ?_
      refine r_iload E dX67_entryBehind_75 5 rfl ?_
      refine r_laload E zc_6810 za_6810 zt_6810 zx_6810 rfl rfl dX67_entryBehind_77 (by decide) (fun v3 => ?_)
      refine r_aload_n E dX67_entryBehind_78 rfl 1 rfl ?_
      refine r_gec (y := 0) E zc_69 dX67_entryBehind_79 q3225 zr_69 (zh_6810 (by decide)) (by decide) ?_
      refine r_iload_n E dX67_entryBehind_82 rfl 4 rfl ?_
      refine r_laload E zc_6810 za_6810 zt_6810 zx_6810 rfl rfl dX67_entryBehind_83 (by decide) (fun v4 => ?_)
      refine r_lcmp_ge E 93 (by decide) dX67_entryBehind_84 dX67_entryBehind_85 (fun _ => ?_) (fun _ => ?_)
      · refine r_pick E [1, 2, 3, 4, 5] rfl ?_
        exact w_fX67_entryBehind_J93 E hN hT x1 x2 x3 x4 hr5
      · refine r_pick E [1, 2, 3, 5] rfl ?_
        exact w_fX67_entryBehind_J88 E hN hT x1 x2 x4 hr5
theorem w_fX67_entryBehind_J59 {K : zK} (E : zE K cX67_entryBehind "RingHouseModel" (some .int) 0) (hN : zNl K = 6) (hT : zTr K = (some 0)) (x1 : Int) (x2 : Int) (x3 : Int) (x4 : Int) {r5 : Int × Int → zX} (hr5 : ∀ s : Int × Int, zR K 5 [(0, 69, 0), (1, 0, x1), (2, 0, x2), (3, 0, s.1), (4, 0, s.2)] [] (r5 s)) : zR K 59 [(0, 69, 0), (1, 0, x1), (2, 0, x2), (3, 0, x3), (4, 0, x4)] [] (fX67_entryBehind_J59 r5 x1 x2 x3 x4) := by
  refine r_iconst E dX67_entryBehind_59 (zkI (by decide) (by decide)) ?_
  exact w_fX67_entryBehind_J60 E hN hT x1 x2 x3 x4 0 hr5
theorem w_fX67_entryBehind_J55 {K : zK} (E : zE K cX67_entryBehind "RingHouseModel" (some .int) 0) (hN : zNl K = 6) (hT : zTr K = (some 0)) (x1 : Int) (x2 : Int) (x3 : Int) (x4 : Int) {r5 : Int × Int → zX} (hr5 : ∀ s : Int × Int, zR K 5 [(0, 69, 0), (1, 0, x1), (2, 0, x2), (3, 0, s.1), (4, 0, s.2)] [] (r5 s)) : zR K 55 [(0, 69, 0), (1, 0, x1), (2, 0, x2), (3, 0, x3), (4, 0, x4)] [] (fX67_entryBehind_J55 r5 x1 x2 x3 x4) := by
  refine r_iconst E dX67_entryBehind_55 (zkI (by decide) (by decide)) ?_
  refine r_goto E 60 (by decide) dX67_entryBehind_56 ?_
  exact w_fX67_entryBehind_J60 E hN hT x1 x2 x3 x4 1 hr5
theorem w_fX67_entryBehind_B5 {K : zK} (E : zE K cX67_entryBehind "RingHouseModel" (some .int) 0) (hN : zNl K = 6) (hT : zTr K = (some 0)) (x1 : Int) (x2 : Int) : ∀ r5 : Int × Int → zX, (∀ s : Int × Int, zR K 5 [(0, 69, 0), (1, 0, x1), (2, 0, x2), (3, 0, s.1), (4, 0, s.2)] [] (r5 s)) → ∀ s : Int × Int, zR K 5 [(0, 69, 0), (1, 0, x1), (2, 0, x2), (3, 0, s.1), (4, 0, s.2)] [] (fX67_entryBehind_B5 x1 x2 r5 s) := by
  intro r5 hr5 s
  obtain ⟨x3, x4⟩ := s
  refine r_iload E dX67_entryBehind_5 4 rfl ?_
  refine r_sipush E dX67_entryBehind_7 (by decide) (zkI (by decide) (by decide)) ?_
  refine r_icmp_ge E 101 (by decide) dX67_entryBehind_10 (fun _ => ?_) (fun _ => ?_)
  · refine r_iload_n E dX67_entryBehind_101 rfl 3 rfl ?_
    exact r_ireturn E rfl hT dX67_entryBehind_102
  · refine r_aload_n E dX67_entryBehind_13 rfl 0 rfl ?_
    refine r_gec (y := 0) E zc_69 dX67_entryBehind_14 q3215 zr_69 (zh_6800 (by decide)) (by decide) ?_
    refine r_iload E dX67_entryBehind_17 4 rfl ?_
    refine r_iaload E zc_6800 za_6800 zt_6800 zx_6800 rfl rfl dX67_entryBehind_19 (by decide) (fun v1 => ?_)
    refine r_if_le E 59 (by decide) dX67_entryBehind_20 (fun _ => ?_) (fun _ => ?_)
    · exact w_fX67_entryBehind_J59 E hN hT x1 x2 x3 x4 hr5
    · refine r_aload_n E dX67_entryBehind_23 rfl 0 rfl ?_
      refine r_gec (y := 0) E zc_69 dX67_entryBehind_24 q3217 zr_69 (zh_6802 (by decide)) (by decide) ?_
      refine r_iload E dX67_entryBehind_27 4 rfl ?_
      refine r_iaload E zc_6802 za_6802 zt_6802 zx_6802 rfl rfl dX67_entryBehind_29 (by decide) (fun v5 => ?_)
      refine r_iload_n E dX67_entryBehind_30 rfl 1 rfl ?_
      refine r_icmp_ne E 59 (by decide) dX67_entryBehind_31 (fun _ => ?_) (fun _ => ?_)
      · exact w_fX67_entryBehind_J59 E hN hT x1 x2 x3 x4 hr5
      · refine r_iload_n E dX67_entryBehind_34 rfl 2 rfl ?_
        refine r_if_eq E 55 (by decide) dX67_entryBehind_35 (fun _ => ?_) (fun _ => ?_)
        · exact w_fX67_entryBehind_J55 E hN hT x1 x2 x3 x4 hr5
        · refine r_aload_n E dX67_entryBehind_38 rfl 0 rfl ?_
          refine r_gec (y := 0) E zc_69 dX67_entryBehind_39 q3225 zr_69 (zh_6810 (by decide)) (by decide) ?_
          refine r_iload E dX67_entryBehind_42 4 rfl ?_
          refine r_laload E zc_6810 za_6810 zt_6810 zx_6810 rfl rfl dX67_entryBehind_44 (by decide) (fun v6 => ?_)
          refine r_aload_n E dX67_entryBehind_45 rfl 0 rfl ?_
          refine r_gec (y := 0) E zc_69 dX67_entryBehind_46 q3225 zr_69 (zh_6810 (by decide)) (by decide) ?_
          refine r_iload_n E dX67_entryBehind_49 rfl 2 rfl ?_
          refine r_laload E zc_6810 za_6810 zt_6810 zx_6810 rfl rfl dX67_entryBehind_50 (by decide) (fun v7 => ?_)
          refine r_lcmp_le E 59 (by decide) dX67_entryBehind_51 dX67_entryBehind_52 (fun _ => ?_) (fun _ => ?_)
          · exact w_fX67_entryBehind_J59 E hN hT x1 x2 x3 x4 hr5
          · exact w_fX67_entryBehind_J55 E hN hT x1 x2 x3 x4 hr5
theorem w_fX67_entryBehind {K : zK} (E : zE K cX67_entryBehind "RingHouseModel" (some .int) 0) (hN : zNl K = 6) (hT : zTr K = (some 0)) (x1 : Int) (x2 : Int) : zR K 0 [(0, 69, 0), (1, 0, x1), (2, 0, x2)] [] (fX67_entryBehind x1 x2) := by
  refine r_iconst E dX67_entryBehind_0 (zkI (by decide) (by decide)) ?_
  refine r_istore_n (ls' := [(3, 0, (-1)), (0, 69, 0), (1, 0, x1), (2, 0, x2)]) E dX67_entryBehind_1 rfl (by rw [hN]; decide) rfl ?_
  refine r_iconst E dX67_entryBehind_2 (zkI (by decide) (by decide)) ?_
  refine r_istore (ls' := [(4, 0, 1), (3, 0, (-1)), (0, 69, 0), (1, 0, x1), (2, 0, x2)]) E dX67_entryBehind_3 (by rw [hN]; decide) rfl ?_
  refine r_pick E [2, 3, 4, 1, 0] rfl ?_
  exact r_loop (L := fun s => [(0, 69, 0), (1, 0, x1), (2, 0, x2), (3, 0, s.1), (4, 0, s.2)]) (w_fX67_entryBehind_B5 E hN hT x1 x2) zBIG ((-1), 1)
theorem k_fX67_entryBehind (l : Launch) (G : zG) (x1 : Int) (x2 : Int) : zCt l G yX67_entryBehind cX67_entryBehind 6 (some .int) 0 [(69, 0), (0, x1), (0, x2)] (some 0) (fX67_entryBehind x1 x2) := zCt.of (by decide) (Nat.le_of_ble_eq_true rfl) (fun K E _ _ hN hT => w_fX67_entryBehind E hN hT x1 x2)
theorem dX67_entryAt_0 : decode cX67_entryAt 0 = .ok (.lload_n 2, 1) := by decide +kernel
theorem dX67_entryAt_1 : decode cX67_entryAt 1 = .ok (.lconst 0, 1) := by decide +kernel
theorem dX67_entryAt_2 : decode cX67_entryAt 2 = .ok (.lcmp, 1) := by decide +kernel
theorem dX67_entryAt_3 : decode cX67_entryAt 3 = .ok (.ifCond .ge 5, 3) := by decide +kernel
theorem dX67_entryAt_6 : decode cX67_entryAt 6 = .ok (.iconst (-1), 1) := by decide +kernel
theorem dX67_entryAt_7 : decode cX67_entryAt 7 = .ok (.ireturn, 1) := by decide +kernel
theorem dX67_entryAt_8 : decode cX67_entryAt 8 = .ok (.aload_n 0, 1) := by decide +kernel
theorem dX67_entryAt_9 : decode cX67_entryAt 9 = .ok (.iload_n 1, 1) := by decide +kernel
theorem dX67_entryAt_10 : decode cX67_entryAt 10 = .ok (.iconst 0, 1) := by decide +kernel
theorem dX67_entryAt_11 : decode cX67_entryAt 11 = .ok (.invokevirtual 383, 3) := by decide +kernel
theorem dX67_entryAt_14 : decode cX67_entryAt 14 = .ok (.istore 4, 2) := by decide +kernel
theorem dX67_entryAt_16 : decode cX67_entryAt 16 = .ok (.lconst 0, 1) := by decide +kernel
theorem dX67_entryAt_17 : decode cX67_entryAt 17 = .ok (.lstore 5, 2) := by decide +kernel
theorem dX67_entryAt_19 : decode cX67_entryAt 19 = .ok (.lload 5, 2) := by decide +kernel
theorem dX67_entryAt_21 : decode cX67_entryAt 21 = .ok (.lload_n 2, 1) := by decide +kernel
theorem dX67_entryAt_22 : decode cX67_entryAt 22 = .ok (.lcmp, 1) := by decide +kernel
theorem dX67_entryAt_23 : decode cX67_entryAt 23 = .ok (.ifCond .ge 26, 3) := by decide +kernel
theorem dX67_entryAt_26 : decode cX67_entryAt 26 = .ok (.iload 4, 2) := by decide +kernel
theorem dX67_entryAt_28 : decode cX67_entryAt 28 = .ok (.ifCond .lt 21, 3) := by decide +kernel
theorem dX67_entryAt_31 : decode cX67_entryAt 31 = .ok (.aload_n 0, 1) := by decide +kernel
theorem dX67_entryAt_32 : decode cX67_entryAt 32 = .ok (.iload_n 1, 1) := by decide +kernel
theorem dX67_entryAt_33 : decode cX67_entryAt 33 = .ok (.iload 4, 2) := by decide +kernel
theorem dX67_entryAt_35 : decode cX67_entryAt 35 = .ok (.invokevirtual 383, 3) := by decide +kernel
theorem dX67_entryAt_38 : decode cX67_entryAt 38 = .ok (.istore 4, 2) := by decide +kernel
theorem dX67_entryAt_40 : decode cX67_entryAt 40 = .ok (.lload 5, 2) := by decide +kernel
theorem dX67_entryAt_42 : decode cX67_entryAt 42 = .ok (.lconst 1, 1) := by decide +kernel
theorem dX67_entryAt_43 : decode cX67_entryAt 43 = .ok (.ladd, 1) := by decide +kernel
theorem dX67_entryAt_44 : decode cX67_entryAt 44 = .ok (.lstore 5, 2) := by decide +kernel
theorem dX67_entryAt_46 : decode cX67_entryAt 46 = .ok (.goto (-27), 3) := by decide +kernel
theorem dX67_entryAt_49 : decode cX67_entryAt 49 = .ok (.iload 4, 2) := by decide +kernel
theorem dX67_entryAt_51 : decode cX67_entryAt 51 = .ok (.ireturn, 1) := by decide +kernel
theorem zy_X67_entryAt : yX67_entryAt.cls ≠ "java/lang/invoke/MethodHandle" ∧ yX67_entryAt.cls ≠ "java/lang/invoke/VarHandle" ∧ (parseMethodDescriptor yX67_entryAt.desc).map (fun d => d.parameters.length) = some 2 := by decide +kernel
theorem w_fX67_entryAt_B19 {K : zK} (E : zE K cX67_entryAt "RingHouseModel" (some .int) 1) (hN : zNl K = 7) (hT : zTr K = (some 0)) (x1 : Int) (x2 : Int) : ∀ r19 : Int × Int → zX, (∀ s : Int × Int, zR K 19 [(0, 69, 0), (1, 0, x1), (2, 1, x2), (4, 0, s.1), (5, 1, s.2)] [] (r19 s)) → ∀ s : Int × Int, zR K 19 [(0, 69, 0), (1, 0, x1), (2, 1, x2), (4, 0, s.1), (5, 1, s.2)] [] (fX67_entryAt_B19 x1 x2 r19 s) := by
  intro r19 hr19 s
  obtain ⟨x4, x5⟩ := s
  refine r_lload E dX67_entryAt_19 4 rfl ?_
  refine r_lload_n E dX67_entryAt_21 rfl 2 rfl ?_
  refine r_lcmp_ge E 49 (by decide) dX67_entryAt_22 dX67_entryAt_23 (fun _ => ?_) (fun _ => ?_)
  · refine r_iload E dX67_entryAt_49 3 rfl ?_
    exact r_ireturn E rfl hT dX67_entryAt_51
  · refine r_iload E dX67_entryAt_26 3 rfl ?_
    refine r_if_lt E 49 (by decide) dX67_entryAt_28 (fun _ => ?_) (fun _ => ?_)
    · refine r_iload E dX67_entryAt_49 3 rfl ?_
      exact r_ireturn E rfl hT dX67_entryAt_51
    · refine r_aload_n E dX67_entryAt_31 rfl 0 rfl ?_
      refine r_iload_n E dX67_entryAt_32 rfl 1 rfl ?_
      refine r_iload E dX67_entryAt_33 3 rfl ?_
      refine r_callV E [(0, x1), (0, x4)] [] rfl zc_69 zr_69 (fun o _ => ⟨_, zw_X67.1 o, rfl⟩) (lw_V q4005 q4007 qs156 q294 q4008) dX67_entryAt_35 zy_X67_entryBehind rfl (by omega) (by decide) (Nat.le_of_ble_eq_true rfl) (by decide) (fun l G => k_fX67_entryBehind l G x1 x4) (fun v2 => ?_)
      refine r_istore (ls' := [(4, 0, v2), (0, 69, 0), (1, 0, x1), (2, 1, x2), (5, 1, x5)]) E dX67_entryAt_38 (by rw [hN]; decide) rfl ?_
      refine r_lload E dX67_entryAt_40 4 rfl ?_
      refine r_lconst (v := 1) E dX67_entryAt_42 (by decide) (zkJ (by decide) (by decide)) ?_
      refine r_ladd E dX67_entryAt_43 ?_
      refine r_let E (fun v3 ev3 => ?_)
      refine r_lstore (ls' := [(5, 1, v3), (4, 0, v2), (0, 69, 0), (1, 0, x1), (2, 1, x2)]) E dX67_entryAt_44 (by rw [hN]; decide) rfl ?_
      refine r_goto E 19 (by decide) dX67_entryAt_46 ?_
      refine r_pick E [2, 3, 4, 1, 0] rfl ?_
      exact hr19 (v2, v3)
theorem w_fX67_entryAt {K : zK} (E : zE K cX67_entryAt "RingHouseModel" (some .int) 1) (hN : zNl K = 7) (hT : zTr K = (some 0)) (x1 : Int) (x2 : Int) : zR K 0 [(0, 69, 0), (1, 0, x1), (2, 1, x2)] [] (fX67_entryAt x1 x2) := by
  refine r_lload_n E dX67_entryAt_0 rfl 2 rfl ?_
  refine r_lconst (v := 0) E dX67_entryAt_1 (by decide) (zkJ (by decide) (by decide)) ?_
  refine r_lcmp_ge E 8 (by decide) dX67_entryAt_2 dX67_entryAt_3 (fun _ => ?_) (fun _ => ?_)
  · refine r_aload_n E dX67_entryAt_8 rfl 0 rfl ?_
    refine r_iload_n E dX67_entryAt_9 rfl 1 rfl ?_
    refine r_iconst E dX67_entryAt_10 (zkI (by decide) (by decide)) ?_
    refine r_callV E [(0, x1), (0, 0)] [] rfl zc_69 zr_69 (fun o _ => ⟨_, zw_X67.1 o, rfl⟩) (lw_V q4005 q4007 qs156 q294 q4008) dX67_entryAt_11 zy_X67_entryBehind rfl (by omega) (by decide) (Nat.le_of_ble_eq_true rfl) (by decide) (fun l G => k_fX67_entryBehind l G x1 0) (fun v1 => ?_)
    refine r_istore (ls' := [(4, 0, v1), (0, 69, 0), (1, 0, x1), (2, 1, x2)]) E dX67_entryAt_14 (by rw [hN]; decide) rfl ?_
    refine r_lconst (v := 0) E dX67_entryAt_16 (by decide) (zkJ (by decide) (by decide)) ?_
    refine r_lstore (ls' := [(5, 1, 0), (4, 0, v1), (0, 69, 0), (1, 0, x1), (2, 1, x2)]) E dX67_entryAt_17 (by rw [hN]; decide) rfl ?_
    refine r_pick E [2, 3, 4, 1, 0] rfl ?_
    exact r_loop (L := fun s => [(0, 69, 0), (1, 0, x1), (2, 1, x2), (4, 0, s.1), (5, 1, s.2)]) (w_fX67_entryAt_B19 E hN hT x1 x2) zBIG (v1, 0)
  · refine r_iconst E dX67_entryAt_6 (zkI (by decide) (by decide)) ?_
    exact r_ireturn E rfl hT dX67_entryAt_7
theorem k_fX67_entryAt (l : Launch) (G : zG) (x1 : Int) (x2 : Int) : zCt l G yX67_entryAt cX67_entryAt 7 (some .int) 1 [(69, 0), (0, x1), (1, x2)] (some 0) (fX67_entryAt x1 x2) := zCt.of (by decide) (Nat.le_of_ble_eq_true rfl) (fun K E _ _ hN hT => w_fX67_entryAt E hN hT x1 x2)
theorem dX67_nameOf_0 : decode cX67_nameOf 0 = .ok (.aload_n 0, 1) := by decide +kernel
theorem dX67_nameOf_1 : decode cX67_nameOf 1 = .ok (.aload_n 0, 1) := by decide +kernel
theorem dX67_nameOf_2 : decode cX67_nameOf 2 = .ok (.getfield 131, 3) := by decide +kernel
theorem dX67_nameOf_5 : decode cX67_nameOf 5 = .ok (.iload_n 1, 1) := by decide +kernel
theorem dX67_nameOf_6 : decode cX67_nameOf 6 = .ok (.iaload, 1) := by decide +kernel
theorem dX67_nameOf_7 : decode cX67_nameOf 7 = .ok (.putfield 689, 3) := by decide +kernel
theorem dX67_nameOf_10 : decode cX67_nameOf 10 = .ok (.aload_n 0, 1) := by decide +kernel
theorem dX67_nameOf_11 : decode cX67_nameOf 11 = .ok (.iload_n 1, 1) := by decide +kernel
theorem dX67_nameOf_12 : decode cX67_nameOf 12 = .ok (.aload_n 0, 1) := by decide +kernel
theorem dX67_nameOf_13 : decode cX67_nameOf 13 = .ok (.getfield 131, 3) := by decide +kernel
theorem dX67_nameOf_16 : decode cX67_nameOf 16 = .ok (.iload_n 1, 1) := by decide +kernel
theorem dX67_nameOf_17 : decode cX67_nameOf 17 = .ok (.iaload, 1) := by decide +kernel
theorem dX67_nameOf_18 : decode cX67_nameOf 18 = .ok (.iconst 1, 1) := by decide +kernel
theorem dX67_nameOf_19 : decode cX67_nameOf 19 = .ok (.invokevirtual 665, 3) := by decide +kernel
theorem dX67_nameOf_22 : decode cX67_nameOf 22 = .ok (.istore_n 2, 1) := by decide +kernel
theorem dX67_nameOf_23 : decode cX67_nameOf 23 = .ok (.iload_n 2, 1) := by decide +kernel
theorem dX67_nameOf_24 : decode cX67_nameOf 24 = .ok (.ifCond .ge 5, 3) := by decide +kernel
theorem dX67_nameOf_27 : decode cX67_nameOf 27 = .ok (.iload_n 2, 1) := by decide +kernel
theorem dX67_nameOf_28 : decode cX67_nameOf 28 = .ok (.ireturn, 1) := by decide +kernel
theorem dX67_nameOf_29 : decode cX67_nameOf 29 = .ok (.aload_n 0, 1) := by decide +kernel
theorem dX67_nameOf_30 : decode cX67_nameOf 30 = .ok (.getfield 86, 3) := by decide +kernel
theorem dX67_nameOf_33 : decode cX67_nameOf 33 = .ok (.iload_n 1, 1) := by decide +kernel
theorem dX67_nameOf_34 : decode cX67_nameOf 34 = .ok (.laload, 1) := by decide +kernel
theorem dX67_nameOf_35 : decode cX67_nameOf 35 = .ok (.ldc2_w 767, 3) := by decide +kernel
theorem dX67_nameOf_38 : decode cX67_nameOf 38 = .ok (.lcmp, 1) := by decide +kernel
theorem dX67_nameOf_39 : decode cX67_nameOf 39 = .ok (.ifCond .le 7, 3) := by decide +kernel
theorem dX67_nameOf_42 : decode cX67_nameOf 42 = .ok (.iconst (-1), 1) := by decide +kernel
theorem dX67_nameOf_43 : decode cX67_nameOf 43 = .ok (.goto 19, 3) := by decide +kernel
theorem dX67_nameOf_46 : decode cX67_nameOf 46 = .ok (.aload_n 0, 1) := by decide +kernel
theorem dX67_nameOf_47 : decode cX67_nameOf 47 = .ok (.aload_n 0, 1) := by decide +kernel
theorem dX67_nameOf_48 : decode cX67_nameOf 48 = .ok (.getfield 131, 3) := by decide +kernel
theorem dX67_nameOf_51 : decode cX67_nameOf 51 = .ok (.iload_n 1, 1) := by decide +kernel
theorem dX67_nameOf_52 : decode cX67_nameOf 52 = .ok (.iaload, 1) := by decide +kernel
theorem dX67_nameOf_53 : decode cX67_nameOf 53 = .ok (.aload_n 0, 1) := by decide +kernel
theorem dX67_nameOf_54 : decode cX67_nameOf 54 = .ok (.getfield 86, 3) := by decide +kernel
theorem dX67_nameOf_57 : decode cX67_nameOf 57 = .ok (.iload_n 1, 1) := by decide +kernel
theorem dX67_nameOf_58 : decode cX67_nameOf 58 = .ok (.laload, 1) := by decide +kernel
theorem dX67_nameOf_59 : decode cX67_nameOf 59 = .ok (.invokevirtual 769, 3) := by decide +kernel
theorem dX67_nameOf_62 : decode cX67_nameOf 62 = .ok (.istore_n 3, 1) := by decide +kernel
theorem dX67_nameOf_63 : decode cX67_nameOf 63 = .ok (.iload_n 3, 1) := by decide +kernel
theorem dX67_nameOf_64 : decode cX67_nameOf 64 = .ok (.ifCond .ge 5, 3) := by decide +kernel
theorem dX67_nameOf_67 : decode cX67_nameOf 67 = .ok (.iconst (-1), 1) := by decide +kernel
theorem dX67_nameOf_68 : decode cX67_nameOf 68 = .ok (.ireturn, 1) := by decide +kernel
theorem dX67_nameOf_69 : decode cX67_nameOf 69 = .ok (.aload_n 0, 1) := by decide +kernel
theorem dX67_nameOf_70 : decode cX67_nameOf 70 = .ok (.getfield 89, 3) := by decide +kernel
theorem dX67_nameOf_73 : decode cX67_nameOf 73 = .ok (.iload_n 1, 1) := by decide +kernel
theorem dX67_nameOf_74 : decode cX67_nameOf 74 = .ok (.aload_n 0, 1) := by decide +kernel
theorem dX67_nameOf_75 : decode cX67_nameOf 75 = .ok (.getfield 13, 3) := by decide +kernel
theorem dX67_nameOf_78 : decode cX67_nameOf 78 = .ok (.iload_n 3, 1) := by decide +kernel
theorem dX67_nameOf_79 : decode cX67_nameOf 79 = .ok (.laload, 1) := by decide +kernel
theorem dX67_nameOf_80 : decode cX67_nameOf 80 = .ok (.lastore, 1) := by decide +kernel
theorem dX67_nameOf_81 : decode cX67_nameOf 81 = .ok (.iconst 0, 1) := by decide +kernel
theorem dX67_nameOf_82 : decode cX67_nameOf 82 = .ok (.ireturn, 1) := by decide +kernel
theorem zy_X67_nameOf : yX67_nameOf.cls ≠ "java/lang/invoke/MethodHandle" ∧ yX67_nameOf.cls ≠ "java/lang/invoke/VarHandle" ∧ (parseMethodDescriptor yX67_nameOf.desc).map (fun d => d.parameters.length) = some 1 := by decide +kernel
theorem w_fX67_nameOf_J62 {K : zK} (E : zE K cX67_nameOf "RingHouseModel" (some .int) 2) (hN : zNl K = 4) (hT : zTr K = (some 0)) (x1 : Int) (s0 : Int) : zR K 62 [(0, 69, 0), (1, 0, x1)] [(0, s0)] (fX67_nameOf_J62 x1 s0) := by
  refine r_istore_n (ls' := [(3, 0, s0), (0, 69, 0), (1, 0, x1)]) E dX67_nameOf_62 rfl (by rw [hN]; decide) rfl ?_
  refine r_iload_n E dX67_nameOf_63 rfl 0 rfl ?_
  refine r_if_ge E 69 (by decide) dX67_nameOf_64 (fun _ => ?_) (fun _ => ?_)
  · refine r_aload_n E dX67_nameOf_69 rfl 1 rfl ?_
    refine r_gec (y := 0) E zc_69 dX67_nameOf_70 q3241 zr_69 (zh_6826 (by decide)) (by decide) ?_
    refine r_iload_n E dX67_nameOf_73 rfl 2 rfl ?_
    refine r_aload_n E dX67_nameOf_74 rfl 1 rfl ?_
    refine r_gec (y := 0) E zc_69 dX67_nameOf_75 q3216 zr_69 (zh_6801 (by decide)) (by decide) ?_
    refine r_iload_n E dX67_nameOf_78 rfl 0 rfl ?_
    refine r_laload E zc_6801 za_6801 zt_6801 zx_6801 rfl rfl dX67_nameOf_79 (by decide) (fun v8 => ?_)
    refine r_lastore E zc_6826 za_6826 zt_6826 zo_6826 zx_6826 rfl rfl dX67_nameOf_80 (by decide) ?_
    refine r_iconst E dX67_nameOf_81 (zkI (by decide) (by decide)) ?_
    exact r_ireturn E rfl hT dX67_nameOf_82
  · refine r_iconst E dX67_nameOf_67 (zkI (by decide) (by decide)) ?_
    exact r_ireturn E rfl hT dX67_nameOf_68
theorem w_fX67_nameOf {K : zK} (E : zE K cX67_nameOf "RingHouseModel" (some .int) 2) (hN : zNl K = 4) (hT : zTr K = (some 0)) (x1 : Int) : zR K 0 [(0, 69, 0), (1, 0, x1)] [] (fX67_nameOf x1) := by
  refine r_aload_n E dX67_nameOf_0 rfl 0 rfl ?_
  refine r_aload_n E dX67_nameOf_1 rfl 0 rfl ?_
  refine r_gec (y := 0) E zc_69 dX67_nameOf_2 q3255 zr_69 (zh_6840 (by decide)) (by decide) ?_
  refine r_iload_n E dX67_nameOf_5 rfl 1 rfl ?_
  refine r_iaload E zc_6840 za_6840 zt_6840 zx_6840 rfl rfl dX67_nameOf_6 (by decide) (fun v1 => ?_)
  refine r_put E zc_69 zt_6886 zo_6886 dX67_nameOf_7 q3301 zr_69 zw_X67 zp_6886 (fun _ => rfl) (fun _ => rfl) (by decide) ?_
  refine r_aload_n E dX67_nameOf_10 rfl 0 rfl ?_
  refine r_iload_n E dX67_nameOf_11 rfl 1 rfl ?_
  refine r_aload_n E dX67_nameOf_12 rfl 0 rfl ?_
  refine r_gec (y := 0) E zc_69 dX67_nameOf_13 q3255 zr_69 (zh_6840 (by decide)) (by decide) ?_
  refine r_iload_n E dX67_nameOf_16 rfl 1 rfl ?_
  refine r_iaload E zc_6840 za_6840 zt_6840 zx_6840 rfl rfl dX67_nameOf_17 (by decide) (fun v2 => ?_)
  refine r_iconst E dX67_nameOf_18 (zkI (by decide) (by decide)) ?_
  refine r_callV E [(0, x1), (0, v2), (0, 1)] [] rfl zc_69 zr_69 (fun o _ => ⟨_, zw_X67.1 o, rfl⟩) (lw_V q3892 q3894 qs132 q294 q3895) dX67_nameOf_19 zy_X67_askDirectory rfl (by omega) (by decide) (Nat.le_of_ble_eq_true rfl) (by decide) (fun l G => k_fX67_askDirectory l G x1 v2 1) (fun v3 => ?_)
  refine r_istore_n (ls' := [(2, 0, v3), (0, 69, 0), (1, 0, x1)]) E dX67_nameOf_22 rfl (by rw [hN]; decide) rfl ?_
  refine r_iload_n E dX67_nameOf_23 rfl 0 rfl ?_
  refine r_if_ge E 29 (by decide) dX67_nameOf_24 (fun _ => ?_) (fun _ => ?_)
  · refine r_aload_n E dX67_nameOf_29 rfl 1 rfl ?_
    refine r_gec (y := 0) E zc_69 dX67_nameOf_30 q3240 zr_69 (zh_6825 (by decide)) (by decide) ?_
    refine r_iload_n E dX67_nameOf_33 rfl 2 rfl ?_
    refine r_laload E zc_6825 za_6825 zt_6825 zx_6825 rfl rfl dX67_nameOf_34 (by decide) (fun v4 => ?_)
    refine r_ldc2 (v := 256) E dX67_nameOf_35 q4000 (by decide) (zkJ (by decide) (by decide)) ?_
    refine r_lcmp_le E 46 (by decide) dX67_nameOf_38 dX67_nameOf_39 (fun _ => ?_) (fun _ => ?_)
    · refine r_aload_n E dX67_nameOf_46 rfl 1 rfl ?_
      refine r_aload_n E dX67_nameOf_47 rfl 1 rfl ?_
      refine r_gec (y := 0) E zc_69 dX67_nameOf_48 q3255 zr_69 (zh_6840 (by decide)) (by decide) ?_
      refine r_iload_n E dX67_nameOf_51 rfl 2 rfl ?_
      refine r_iaload E zc_6840 za_6840 zt_6840 zx_6840 rfl rfl dX67_nameOf_52 (by decide) (fun v5 => ?_)
      refine r_aload_n E dX67_nameOf_53 rfl 1 rfl ?_
      refine r_gec (y := 0) E zc_69 dX67_nameOf_54 q3240 zr_69 (zh_6825 (by decide)) (by decide) ?_
      refine r_iload_n E dX67_nameOf_57 rfl 2 rfl ?_
      refine r_laload E zc_6825 za_6825 zt_6825 zx_6825 rfl rfl dX67_nameOf_58 (by decide) (fun v6 => ?_)
      refine r_callV E [(0, v5), (1, v6)] [] rfl zc_69 zr_69 (fun o _ => ⟨_, zw_X67.1 o, rfl⟩) (lw_V q4001 q4003 qs155 q294 q4004) dX67_nameOf_59 zy_X67_entryAt rfl (by omega) (by decide) (Nat.le_of_ble_eq_true rfl) (by decide) (fun l G => k_fX67_entryAt l G v5 v6) (fun v7 => ?_)
      refine r_pick E [1, 2] rfl ?_
      exact w_fX67_nameOf_J62 E hN hT x1 v7
    · refine r_iconst E dX67_nameOf_42 (zkI (by decide) (by decide)) ?_
      refine r_goto E 62 (by decide) dX67_nameOf_43 ?_
      refine r_pick E [1, 2] rfl ?_
      exact w_fX67_nameOf_J62 E hN hT x1 (-1)
  · refine r_iload_n E dX67_nameOf_27 rfl 0 rfl ?_
    exact r_ireturn E rfl hT dX67_nameOf_28
theorem k_fX67_nameOf (l : Launch) (G : zG) (x1 : Int) : zCt l G yX67_nameOf cX67_nameOf 4 (some .int) 2 [(69, 0), (0, x1)] (some 0) (fX67_nameOf x1) := zCt.of (by decide) (Nat.le_of_ble_eq_true rfl) (fun K E _ _ hN hT => w_fX67_nameOf E hN hT x1)
theorem dX67_newLength_0 : decode cX67_newLength 0 = .ok (.aload_n 0, 1) := by decide +kernel
theorem dX67_newLength_1 : decode cX67_newLength 1 = .ok (.getfield 86, 3) := by decide +kernel
theorem dX67_newLength_4 : decode cX67_newLength 4 = .ok (.iload_n 1, 1) := by decide +kernel
theorem dX67_newLength_5 : decode cX67_newLength 5 = .ok (.laload, 1) := by decide +kernel
theorem dX67_newLength_6 : decode cX67_newLength 6 = .ok (.ldc2_w 411, 3) := by decide +kernel
theorem dX67_newLength_9 : decode cX67_newLength 9 = .ok (.ldc2_w 445, 3) := by decide +kernel
theorem dX67_newLength_12 : decode cX67_newLength 12 = .ok (.invokestatic 363, 3) := by decide +kernel
theorem dX67_newLength_15 : decode cX67_newLength 15 = .ok (.ifCond .eq 23, 3) := by decide +kernel
theorem dX67_newLength_18 : decode cX67_newLength 18 = .ok (.aload_n 0, 1) := by decide +kernel
theorem dX67_newLength_19 : decode cX67_newLength 19 = .ok (.getfield 125, 3) := by decide +kernel
theorem dX67_newLength_22 : decode cX67_newLength 22 = .ok (.bipush 32, 2) := by decide +kernel
theorem dX67_newLength_24 : decode cX67_newLength 24 = .ok (.iload_n 1, 1) := by decide +kernel
theorem dX67_newLength_25 : decode cX67_newLength 25 = .ok (.imul, 1) := by decide +kernel
theorem dX67_newLength_26 : decode cX67_newLength 26 = .ok (.aload_n 0, 1) := by decide +kernel
theorem dX67_newLength_27 : decode cX67_newLength 27 = .ok (.getfield 86, 3) := by decide +kernel
theorem dX67_newLength_30 : decode cX67_newLength 30 = .ok (.iload_n 1, 1) := by decide +kernel
theorem dX67_newLength_31 : decode cX67_newLength 31 = .ok (.laload, 1) := by decide +kernel
theorem dX67_newLength_32 : decode cX67_newLength 32 = .ok (.l2i, 1) := by decide +kernel
theorem dX67_newLength_33 : decode cX67_newLength 33 = .ok (.iadd, 1) := by decide +kernel
theorem dX67_newLength_34 : decode cX67_newLength 34 = .ok (.iaload, 1) := by decide +kernel
theorem dX67_newLength_35 : decode cX67_newLength 35 = .ok (.goto 4, 3) := by decide +kernel
theorem dX67_newLength_38 : decode cX67_newLength 38 = .ok (.iconst (-1), 1) := by decide +kernel
theorem dX67_newLength_39 : decode cX67_newLength 39 = .ok (.istore_n 2, 1) := by decide +kernel
theorem dX67_newLength_40 : decode cX67_newLength 40 = .ok (.iload_n 2, 1) := by decide +kernel
theorem dX67_newLength_41 : decode cX67_newLength 41 = .ok (.ifCond .ge 5, 3) := by decide +kernel
theorem dX67_newLength_44 : decode cX67_newLength 44 = .ok (.iconst (-1), 1) := by decide +kernel
theorem dX67_newLength_45 : decode cX67_newLength 45 = .ok (.ireturn, 1) := by decide +kernel
theorem dX67_newLength_46 : decode cX67_newLength 46 = .ok (.aload_n 0, 1) := by decide +kernel
theorem dX67_newLength_47 : decode cX67_newLength 47 = .ok (.iload_n 2, 1) := by decide +kernel
theorem dX67_newLength_48 : decode cX67_newLength 48 = .ok (.putfield 689, 3) := by decide +kernel
theorem dX67_newLength_51 : decode cX67_newLength 51 = .ok (.aload_n 0, 1) := by decide +kernel
theorem dX67_newLength_52 : decode cX67_newLength 52 = .ok (.iload_n 1, 1) := by decide +kernel
theorem dX67_newLength_53 : decode cX67_newLength 53 = .ok (.iload_n 2, 1) := by decide +kernel
theorem dX67_newLength_54 : decode cX67_newLength 54 = .ok (.aload_n 0, 1) := by decide +kernel
theorem dX67_newLength_55 : decode cX67_newLength 55 = .ok (.getfield 110, 3) := by decide +kernel
theorem dX67_newLength_58 : decode cX67_newLength 58 = .ok (.iload_n 1, 1) := by decide +kernel
theorem dX67_newLength_59 : decode cX67_newLength 59 = .ok (.iaload, 1) := by decide +kernel
theorem dX67_newLength_60 : decode cX67_newLength 60 = .ok (.iconst 4, 1) := by decide +kernel
theorem dX67_newLength_61 : decode cX67_newLength 61 = .ok (.invokevirtual 527, 3) := by decide +kernel
theorem dX67_newLength_64 : decode cX67_newLength 64 = .ok (.istore_n 3, 1) := by decide +kernel
theorem dX67_newLength_65 : decode cX67_newLength 65 = .ok (.iload_n 3, 1) := by decide +kernel
theorem dX67_newLength_66 : decode cX67_newLength 66 = .ok (.ifCond .le 7, 3) := by decide +kernel
theorem dX67_newLength_69 : decode cX67_newLength 69 = .ok (.iconst 1, 1) := by decide +kernel
theorem dX67_newLength_70 : decode cX67_newLength 70 = .ok (.iload_n 3, 1) := by decide +kernel
theorem dX67_newLength_71 : decode cX67_newLength 71 = .ok (.isub, 1) := by decide +kernel
theorem dX67_newLength_72 : decode cX67_newLength 72 = .ok (.ireturn, 1) := by decide +kernel
theorem dX67_newLength_73 : decode cX67_newLength 73 = .ok (.aload_n 0, 1) := by decide +kernel
theorem dX67_newLength_74 : decode cX67_newLength 74 = .ok (.getfield 89, 3) := by decide +kernel
theorem dX67_newLength_77 : decode cX67_newLength 77 = .ok (.iload_n 1, 1) := by decide +kernel
theorem dX67_newLength_78 : decode cX67_newLength 78 = .ok (.laload, 1) := by decide +kernel
theorem dX67_newLength_79 : decode cX67_newLength 79 = .ok (.ldc2_w 464, 3) := by decide +kernel
theorem dX67_newLength_82 : decode cX67_newLength 82 = .ok (.lcmp, 1) := by decide +kernel
theorem dX67_newLength_83 : decode cX67_newLength 83 = .ok (.ifCond .le 6, 3) := by decide +kernel
theorem dX67_newLength_86 : decode cX67_newLength 86 = .ok (.bipush (-8), 2) := by decide +kernel
theorem dX67_newLength_88 : decode cX67_newLength 88 = .ok (.ireturn, 1) := by decide +kernel
theorem dX67_newLength_89 : decode cX67_newLength 89 = .ok (.aload_n 0, 1) := by decide +kernel
theorem dX67_newLength_90 : decode cX67_newLength 90 = .ok (.iload_n 2, 1) := by decide +kernel
theorem dX67_newLength_91 : decode cX67_newLength 91 = .ok (.aload_n 0, 1) := by decide +kernel
theorem dX67_newLength_92 : decode cX67_newLength 92 = .ok (.getfield 89, 3) := by decide +kernel
theorem dX67_newLength_95 : decode cX67_newLength 95 = .ok (.iload_n 1, 1) := by decide +kernel
theorem dX67_newLength_96 : decode cX67_newLength 96 = .ok (.laload, 1) := by decide +kernel
theorem dX67_newLength_97 : decode cX67_newLength 97 = .ok (.l2i, 1) := by decide +kernel
theorem dX67_newLength_98 : decode cX67_newLength 98 = .ok (.invokevirtual 482, 3) := by decide +kernel
theorem dX67_newLength_101 : decode cX67_newLength 101 = .ok (.ifCond .eq 7, 3) := by decide +kernel
theorem dX67_newLength_104 : decode cX67_newLength 104 = .ok (.iconst 0, 1) := by decide +kernel
theorem dX67_newLength_105 : decode cX67_newLength 105 = .ok (.goto 5, 3) := by decide +kernel
theorem dX67_newLength_108 : decode cX67_newLength 108 = .ok (.bipush (-5), 2) := by decide +kernel
theorem dX67_newLength_110 : decode cX67_newLength 110 = .ok (.ireturn, 1) := by decide +kernel
theorem zy_X67_newLength : yX67_newLength.cls ≠ "java/lang/invoke/MethodHandle" ∧ yX67_newLength.cls ≠ "java/lang/invoke/VarHandle" ∧ (parseMethodDescriptor yX67_newLength.desc).map (fun d => d.parameters.length) = some 1 := by decide +kernel
theorem w_fX67_newLength_J39 {K : zK} (E : zE K cX67_newLength "RingHouseModel" (some .int) 3) (hN : zNl K = 4) (hT : zTr K = (some 0)) (x1 : Int) (s0 : Int) : zR K 39 [(0, 69, 0), (1, 0, x1)] [(0, s0)] (fX67_newLength_J39 x1 s0) := by
  refine r_istore_n (ls' := [(2, 0, s0), (0, 69, 0), (1, 0, x1)]) E dX67_newLength_39 rfl (by rw [hN]; decide) rfl ?_
  refine r_iload_n E dX67_newLength_40 rfl 0 rfl ?_
  refine r_if_ge E 46 (by decide) dX67_newLength_41 (fun _ => ?_) (fun _ => ?_)
  · refine r_aload_n E dX67_newLength_46 rfl 1 rfl ?_
    refine r_iload_n E dX67_newLength_47 rfl 0 rfl ?_
    refine r_put E zc_69 zt_6886 zo_6886 dX67_newLength_48 q3301 zr_69 zw_X67 zp_6886 (fun _ => rfl) (fun _ => rfl) (by decide) ?_
    refine r_aload_n E dX67_newLength_51 rfl 1 rfl ?_
    refine r_iload_n E dX67_newLength_52 rfl 2 rfl ?_
    refine r_iload_n E dX67_newLength_53 rfl 0 rfl ?_
    refine r_aload_n E dX67_newLength_54 rfl 1 rfl ?_
    refine r_gec (y := 0) E zc_69 dX67_newLength_55 q3248 zr_69 (zh_6833 (by decide)) (by decide) ?_
    refine r_iload_n E dX67_newLength_58 rfl 2 rfl ?_
    refine r_iaload E zc_6833 za_6833 zt_6833 zx_6833 rfl rfl dX67_newLength_59 (by decide) (fun v3 => ?_)
    refine r_iconst E dX67_newLength_60 (zkI (by decide) (by decide)) ?_
    refine r_callV E [(0, x1), (0, s0), (0, v3), (0, 4)] [] rfl zc_69 zr_69 (fun o _ => ⟨_, zw_X67.1 o, rfl⟩) (lw_V q3847 q3849 qs122 q294 q3850) dX67_newLength_61 zy_X67_barred rfl (by omega) (by decide) (Nat.le_of_ble_eq_true rfl) (by decide) (fun l G => k_fX67_barred l G x1 s0 v3 4) (fun v4 => ?_)
    refine r_istore_n (ls' := [(3, 0, v4), (2, 0, s0), (0, 69, 0), (1, 0, x1)]) E dX67_newLength_64 rfl (by rw [hN]; decide) rfl ?_
    refine r_iload_n E dX67_newLength_65 rfl 0 rfl ?_
    refine r_if_le E 73 (by decide) dX67_newLength_66 (fun _ => ?_) (fun _ => ?_)
    · refine r_aload_n E dX67_newLength_73 rfl 2 rfl ?_
      refine r_gec (y := 0) E zc_69 dX67_newLength_74 q3241 zr_69 (zh_6826 (by decide)) (by decide) ?_
      refine r_iload_n E dX67_newLength_77 rfl 3 rfl ?_
      refine r_laload E zc_6826 za_6826 zt_6826 zx_6826 rfl rfl dX67_newLength_78 (by decide) (fun v5 => ?_)
      refine r_ldc2 (v := 1024) E dX67_newLength_79 q3678 (by decide) (zkJ (by decide) (by decide)) ?_
      refine r_lcmp_le E 89 (by decide) dX67_newLength_82 dX67_newLength_83 (fun _ => ?_) (fun _ => ?_)
      · refine r_aload_n E dX67_newLength_89 rfl 2 rfl ?_
        refine r_iload_n E dX67_newLength_90 rfl 1 rfl ?_
        refine r_aload_n E dX67_newLength_91 rfl 2 rfl ?_
        refine r_gec (y := 0) E zc_69 dX67_newLength_92 q3241 zr_69 (zh_6826 (by decide)) (by decide) ?_
        refine r_iload_n E dX67_newLength_95 rfl 3 rfl ?_
        refine r_laload E zc_6826 za_6826 zt_6826 zx_6826 rfl rfl dX67_newLength_96 (by decide) (fun v6 => ?_)
        refine r_l2i E dX67_newLength_97 ?_
        refine r_callV E [(0, s0), (0, (zi v6))] [] rfl zc_69 zr_69 (fun o _ => ⟨_, zw_X67.1 o, rfl⟩) (lw_V q3714 q3716 qs105 q294 q3717) dX67_newLength_98 zy_X67_setLength rfl (by omega) (by decide) (Nat.le_of_ble_eq_true rfl) (by decide) (fun l G => k_fX67_setLength l G s0 (zi v6)) (fun v7 => ?_)
        refine r_if_eq E 108 (by decide) dX67_newLength_101 (fun _ => ?_) (fun _ => ?_)
        · refine r_bipush E dX67_newLength_108 (by decide) (zkI (by decide) (by decide)) ?_
          exact r_ireturn E rfl hT dX67_newLength_110
        · refine r_iconst E dX67_newLength_104 (zkI (by decide) (by decide)) ?_
          refine r_goto E 110 (by decide) dX67_newLength_105 ?_
          exact r_ireturn E rfl hT dX67_newLength_110
      · refine r_bipush E dX67_newLength_86 (by decide) (zkI (by decide) (by decide)) ?_
        exact r_ireturn E rfl hT dX67_newLength_88
    · refine r_iconst E dX67_newLength_69 (zkI (by decide) (by decide)) ?_
      refine r_iload_n E dX67_newLength_70 rfl 0 rfl ?_
      refine r_isub E dX67_newLength_71 ?_
      exact r_ireturn E rfl hT dX67_newLength_72
  · refine r_iconst E dX67_newLength_44 (zkI (by decide) (by decide)) ?_
    exact r_ireturn E rfl hT dX67_newLength_45
theorem w_fX67_newLength {K : zK} (E : zE K cX67_newLength "RingHouseModel" (some .int) 3) (hN : zNl K = 4) (hT : zTr K = (some 0)) (x1 : Int) : zR K 0 [(0, 69, 0), (1, 0, x1)] [] (fX67_newLength x1) := by
  refine r_aload_n E dX67_newLength_0 rfl 0 rfl ?_
  refine r_gec (y := 0) E zc_69 dX67_newLength_1 q3240 zr_69 (zh_6825 (by decide)) (by decide) ?_
  refine r_iload_n E dX67_newLength_4 rfl 1 rfl ?_
  refine r_laload E zc_6825 za_6825 zt_6825 zx_6825 rfl rfl dX67_newLength_5 (by decide) (fun v1 => ?_)
  refine r_ldc2 (v := 8) E dX67_newLength_6 q3692 (by decide) (zkJ (by decide) (by decide)) ?_
  refine r_ldc2 (v := 31) E dX67_newLength_9 q3631 (by decide) (zkJ (by decide) (by decide)) ?_
  refine r_callS E [(1, v1), (1, 8), (1, 31)] [] rfl q3619 q3620 q294 q3621 dX67_newLength_12 zy_X67_in rfl (by omega) (by decide) (Nat.le_of_ble_eq_true rfl) (fun l G => k_fX67_in l G v1 8 31) (fun v2 => ?_)
  refine r_if_eq E 38 (by decide) dX67_newLength_15 (fun _ => ?_) (fun _ => ?_)
  · refine r_iconst E dX67_newLength_38 (zkI (by decide) (by decide)) ?_
    exact w_fX67_newLength_J39 E hN hT x1 (-1)
  · refine r_aload_n E dX67_newLength_18 rfl 0 rfl ?_
    refine r_gec (y := 0) E zc_69 dX67_newLength_19 q3253 zr_69 (zh_6838 (by decide)) (by decide) ?_
    refine r_bipush E dX67_newLength_22 (by decide) (zkI (by decide) (by decide)) ?_
    refine r_iload_n E dX67_newLength_24 rfl 1 rfl ?_
    refine r_imul E dX67_newLength_25 ?_
    refine r_aload_n E dX67_newLength_26 rfl 0 rfl ?_
    refine r_gec (y := 0) E zc_69 dX67_newLength_27 q3240 zr_69 (zh_6825 (by decide)) (by decide) ?_
    refine r_iload_n E dX67_newLength_30 rfl 1 rfl ?_
    refine r_laload E zc_6825 za_6825 zt_6825 zx_6825 rfl rfl dX67_newLength_31 (by decide) (fun v8 => ?_)
    refine r_l2i E dX67_newLength_32 ?_
    refine r_iadd E dX67_newLength_33 ?_
    refine r_iaload E zc_6838 za_6838 zt_6838 zx_6838 rfl rfl dX67_newLength_34 (by decide) (fun v9 => ?_)
    refine r_goto E 39 (by decide) dX67_newLength_35 ?_
    exact w_fX67_newLength_J39 E hN hT x1 v9
theorem k_fX67_newLength (l : Launch) (G : zG) (x1 : Int) : zCt l G yX67_newLength cX67_newLength 4 (some .int) 3 [(69, 0), (0, x1)] (some 0) (fX67_newLength x1) := zCt.of (by decide) (Nat.le_of_ble_eq_true rfl) (fun K E _ _ hN hT => w_fX67_newLength E hN hT x1)
theorem dX67_newFirst_0 : decode cX67_newFirst 0 = .ok (.aload_n 0, 1) := by decide +kernel
theorem dX67_newFirst_1 : decode cX67_newFirst 1 = .ok (.aload_n 0, 1) := by decide +kernel
theorem dX67_newFirst_2 : decode cX67_newFirst 2 = .ok (.getfield 131, 3) := by decide +kernel
theorem dX67_newFirst_5 : decode cX67_newFirst 5 = .ok (.iload_n 1, 1) := by decide +kernel
theorem dX67_newFirst_6 : decode cX67_newFirst 6 = .ok (.iaload, 1) := by decide +kernel
theorem dX67_newFirst_7 : decode cX67_newFirst 7 = .ok (.putfield 689, 3) := by decide +kernel
theorem dX67_newFirst_10 : decode cX67_newFirst 10 = .ok (.aload_n 0, 1) := by decide +kernel
theorem dX67_newFirst_11 : decode cX67_newFirst 11 = .ok (.iload_n 1, 1) := by decide +kernel
theorem dX67_newFirst_12 : decode cX67_newFirst 12 = .ok (.aload_n 0, 1) := by decide +kernel
theorem dX67_newFirst_13 : decode cX67_newFirst 13 = .ok (.getfield 131, 3) := by decide +kernel
theorem dX67_newFirst_16 : decode cX67_newFirst 16 = .ok (.iload_n 1, 1) := by decide +kernel
theorem dX67_newFirst_17 : decode cX67_newFirst 17 = .ok (.iaload, 1) := by decide +kernel
theorem dX67_newFirst_18 : decode cX67_newFirst 18 = .ok (.iconst 2, 1) := by decide +kernel
theorem dX67_newFirst_19 : decode cX67_newFirst 19 = .ok (.invokevirtual 665, 3) := by decide +kernel
theorem dX67_newFirst_22 : decode cX67_newFirst 22 = .ok (.istore_n 2, 1) := by decide +kernel
theorem dX67_newFirst_23 : decode cX67_newFirst 23 = .ok (.iload_n 2, 1) := by decide +kernel
theorem dX67_newFirst_24 : decode cX67_newFirst 24 = .ok (.ifCond .ge 5, 3) := by decide +kernel
theorem dX67_newFirst_27 : decode cX67_newFirst 27 = .ok (.iload_n 2, 1) := by decide +kernel
theorem dX67_newFirst_28 : decode cX67_newFirst 28 = .ok (.ireturn, 1) := by decide +kernel
theorem dX67_newFirst_29 : decode cX67_newFirst 29 = .ok (.iconst 4, 1) := by decide +kernel
theorem dX67_newFirst_30 : decode cX67_newFirst 30 = .ok (.iload_n 1, 1) := by decide +kernel
theorem dX67_newFirst_31 : decode cX67_newFirst 31 = .ok (.imul, 1) := by decide +kernel
theorem dX67_newFirst_32 : decode cX67_newFirst 32 = .ok (.istore_n 3, 1) := by decide +kernel
theorem dX67_newFirst_33 : decode cX67_newFirst 33 = .ok (.aload_n 0, 1) := by decide +kernel
theorem dX67_newFirst_34 : decode cX67_newFirst 34 = .ok (.getfield 86, 3) := by decide +kernel
theorem dX67_newFirst_37 : decode cX67_newFirst 37 = .ok (.iload_n 1, 1) := by decide +kernel
theorem dX67_newFirst_38 : decode cX67_newFirst 38 = .ok (.laload, 1) := by decide +kernel
theorem dX67_newFirst_39 : decode cX67_newFirst 39 = .ok (.lconst 1, 1) := by decide +kernel
theorem dX67_newFirst_40 : decode cX67_newFirst 40 = .ok (.ldc2_w 466, 3) := by decide +kernel
theorem dX67_newFirst_43 : decode cX67_newFirst 43 = .ok (.invokestatic 363, 3) := by decide +kernel
theorem dX67_newFirst_46 : decode cX67_newFirst 46 = .ok (.ifCond .eq 31, 3) := by decide +kernel
theorem dX67_newFirst_49 : decode cX67_newFirst 49 = .ok (.aload_n 0, 1) := by decide +kernel
theorem dX67_newFirst_50 : decode cX67_newFirst 50 = .ok (.getfield 92, 3) := by decide +kernel
theorem dX67_newFirst_53 : decode cX67_newFirst 53 = .ok (.iload_n 3, 1) := by decide +kernel
theorem dX67_newFirst_54 : decode cX67_newFirst 54 = .ok (.iaload, 1) := by decide +kernel
theorem dX67_newFirst_55 : decode cX67_newFirst 55 = .ok (.aload_n 0, 1) := by decide +kernel
theorem dX67_newFirst_56 : decode cX67_newFirst 56 = .ok (.getfield 92, 3) := by decide +kernel
theorem dX67_newFirst_59 : decode cX67_newFirst 59 = .ok (.iload_n 3, 1) := by decide +kernel
theorem dX67_newFirst_60 : decode cX67_newFirst 60 = .ok (.iconst 1, 1) := by decide +kernel
theorem dX67_newFirst_61 : decode cX67_newFirst 61 = .ok (.iadd, 1) := by decide +kernel
theorem dX67_newFirst_62 : decode cX67_newFirst 62 = .ok (.iaload, 1) := by decide +kernel
theorem dX67_newFirst_63 : decode cX67_newFirst 63 = .ok (.aload_n 0, 1) := by decide +kernel
theorem dX67_newFirst_64 : decode cX67_newFirst 64 = .ok (.getfield 92, 3) := by decide +kernel
theorem dX67_newFirst_67 : decode cX67_newFirst 67 = .ok (.iload_n 3, 1) := by decide +kernel
theorem dX67_newFirst_68 : decode cX67_newFirst 68 = .ok (.iconst 2, 1) := by decide +kernel
theorem dX67_newFirst_69 : decode cX67_newFirst 69 = .ok (.iadd, 1) := by decide +kernel
theorem dX67_newFirst_70 : decode cX67_newFirst 70 = .ok (.iaload, 1) := by decide +kernel
theorem dX67_newFirst_71 : decode cX67_newFirst 71 = .ok (.invokestatic 468, 3) := by decide +kernel
theorem dX67_newFirst_74 : decode cX67_newFirst 74 = .ok (.ifCond .ne 6, 3) := by decide +kernel
theorem dX67_newFirst_77 : decode cX67_newFirst 77 = .ok (.bipush (-8), 2) := by decide +kernel
theorem dX67_newFirst_79 : decode cX67_newFirst 79 = .ok (.ireturn, 1) := by decide +kernel
theorem dX67_newFirst_80 : decode cX67_newFirst 80 = .ok (.aload_n 0, 1) := by decide +kernel
theorem dX67_newFirst_81 : decode cX67_newFirst 81 = .ok (.aload_n 0, 1) := by decide +kernel
theorem dX67_newFirst_82 : decode cX67_newFirst 82 = .ok (.getfield 131, 3) := by decide +kernel
theorem dX67_newFirst_85 : decode cX67_newFirst 85 = .ok (.iload_n 1, 1) := by decide +kernel
theorem dX67_newFirst_86 : decode cX67_newFirst 86 = .ok (.iaload, 1) := by decide +kernel
theorem dX67_newFirst_87 : decode cX67_newFirst 87 = .ok (.aload_n 0, 1) := by decide +kernel
theorem dX67_newFirst_88 : decode cX67_newFirst 88 = .ok (.getfield 86, 3) := by decide +kernel
theorem dX67_newFirst_91 : decode cX67_newFirst 91 = .ok (.iload_n 1, 1) := by decide +kernel
theorem dX67_newFirst_92 : decode cX67_newFirst 92 = .ok (.laload, 1) := by decide +kernel
theorem dX67_newFirst_93 : decode cX67_newFirst 93 = .ok (.l2i, 1) := by decide +kernel
theorem dX67_newFirst_94 : decode cX67_newFirst 94 = .ok (.aload_n 0, 1) := by decide +kernel
theorem dX67_newFirst_95 : decode cX67_newFirst 95 = .ok (.getfield 92, 3) := by decide +kernel
theorem dX67_newFirst_98 : decode cX67_newFirst 98 = .ok (.iload_n 3, 1) := by decide +kernel
theorem dX67_newFirst_99 : decode cX67_newFirst 99 = .ok (.iaload, 1) := by decide +kernel
theorem dX67_newFirst_100 : decode cX67_newFirst 100 = .ok (.aload_n 0, 1) := by decide +kernel
theorem dX67_newFirst_101 : decode cX67_newFirst 101 = .ok (.getfield 92, 3) := by decide +kernel
theorem dX67_newFirst_104 : decode cX67_newFirst 104 = .ok (.iload_n 3, 1) := by decide +kernel
theorem dX67_newFirst_105 : decode cX67_newFirst 105 = .ok (.iconst 1, 1) := by decide +kernel
theorem dX67_newFirst_106 : decode cX67_newFirst 106 = .ok (.iadd, 1) := by decide +kernel
theorem dX67_newFirst_107 : decode cX67_newFirst 107 = .ok (.iaload, 1) := by decide +kernel
theorem dX67_newFirst_108 : decode cX67_newFirst 108 = .ok (.aload_n 0, 1) := by decide +kernel
theorem dX67_newFirst_109 : decode cX67_newFirst 109 = .ok (.getfield 92, 3) := by decide +kernel
theorem dX67_newFirst_112 : decode cX67_newFirst 112 = .ok (.iload_n 3, 1) := by decide +kernel
theorem dX67_newFirst_113 : decode cX67_newFirst 113 = .ok (.iconst 2, 1) := by decide +kernel
theorem dX67_newFirst_114 : decode cX67_newFirst 114 = .ok (.iadd, 1) := by decide +kernel
theorem dX67_newFirst_115 : decode cX67_newFirst 115 = .ok (.iaload, 1) := by decide +kernel
theorem dX67_newFirst_116 : decode cX67_newFirst 116 = .ok (.invokevirtual 772, 3) := by decide +kernel
theorem dX67_newFirst_119 : decode cX67_newFirst 119 = .ok (.istore 4, 2) := by decide +kernel
theorem dX67_newFirst_121 : decode cX67_newFirst 121 = .ok (.iload 4, 2) := by decide +kernel
theorem dX67_newFirst_123 : decode cX67_newFirst 123 = .ok (.ifCond .ge 8, 3) := by decide +kernel
theorem dX67_newFirst_126 : decode cX67_newFirst 126 = .ok (.iload 4, 2) := by decide +kernel
theorem dX67_newFirst_128 : decode cX67_newFirst 128 = .ok (.goto 4, 3) := by decide +kernel
theorem dX67_newFirst_131 : decode cX67_newFirst 131 = .ok (.iconst 0, 1) := by decide +kernel
theorem dX67_newFirst_132 : decode cX67_newFirst 132 = .ok (.ireturn, 1) := by decide +kernel
theorem zy_X67_newFirst : yX67_newFirst.cls ≠ "java/lang/invoke/MethodHandle" ∧ yX67_newFirst.cls ≠ "java/lang/invoke/VarHandle" ∧ (parseMethodDescriptor yX67_newFirst.desc).map (fun d => d.parameters.length) = some 1 := by decide +kernel
theorem w_fX67_newFirst {K : zK} (E : zE K cX67_newFirst "RingHouseModel" (some .int) 4) (hN : zNl K = 5) (hT : zTr K = (some 0)) (x1 : Int) : zR K 0 [(0, 69, 0), (1, 0, x1)] [] (fX67_newFirst x1) := by
  refine r_aload_n E dX67_newFirst_0 rfl 0 rfl ?_
  refine r_aload_n E dX67_newFirst_1 rfl 0 rfl ?_
  refine r_gec (y := 0) E zc_69 dX67_newFirst_2 q3255 zr_69 (zh_6840 (by decide)) (by decide) ?_
  refine r_iload_n E dX67_newFirst_5 rfl 1 rfl ?_
  refine r_iaload E zc_6840 za_6840 zt_6840 zx_6840 rfl rfl dX67_newFirst_6 (by decide) (fun v1 => ?_)
  refine r_put E zc_69 zt_6886 zo_6886 dX67_newFirst_7 q3301 zr_69 zw_X67 zp_6886 (fun _ => rfl) (fun _ => rfl) (by decide) ?_
  refine r_aload_n E dX67_newFirst_10 rfl 0 rfl ?_
  refine r_iload_n E dX67_newFirst_11 rfl 1 rfl ?_
  refine r_aload_n E dX67_newFirst_12 rfl 0 rfl ?_
  refine r_gec (y := 0) E zc_69 dX67_newFirst_13 q3255 zr_69 (zh_6840 (by decide)) (by decide) ?_
  refine r_iload_n E dX67_newFirst_16 rfl 1 rfl ?_
  refine r_iaload E zc_6840 za_6840 zt_6840 zx_6840 rfl rfl dX67_newFirst_17 (by decide) (fun v2 => ?_)
  refine r_iconst E dX67_newFirst_18 (zkI (by decide) (by decide)) ?_
  refine r_callV E [(0, x1), (0, v2), (0, 2)] [] rfl zc_69 zr_69 (fun o _ => ⟨_, zw_X67.1 o, rfl⟩) (lw_V q3892 q3894 qs132 q294 q3895) dX67_newFirst_19 zy_X67_askDirectory rfl (by omega) (by decide) (Nat.le_of_ble_eq_true rfl) (by decide) (fun l G => k_fX67_askDirectory l G x1 v2 2) (fun v3 => ?_)
  refine r_istore_n (ls' := [(2, 0, v3), (0, 69, 0), (1, 0, x1)]) E dX67_newFirst_22 rfl (by rw [hN]; decide) rfl ?_
  refine r_iload_n E dX67_newFirst_23 rfl 0 rfl ?_
  refine r_if_ge E 29 (by decide) dX67_newFirst_24 (fun _ => ?_) (fun _ => ?_)
  · refine r_iconst E dX67_newFirst_29 (zkI (by decide) (by decide)) ?_
    refine r_iload_n E dX67_newFirst_30 rfl 2 rfl ?_
    refine r_imul E dX67_newFirst_31 ?_
    refine r_let E (fun v4 ev4 => ?_)
    refine r_istore_n (ls' := [(3, 0, v4), (2, 0, v3), (0, 69, 0), (1, 0, x1)]) E dX67_newFirst_32 rfl (by rw [hN]; decide) rfl ?_
    refine r_aload_n E dX67_newFirst_33 rfl 2 rfl ?_
    refine r_gec (y := 0) E zc_69 dX67_newFirst_34 q3240 zr_69 (zh_6825 (by decide)) (by decide) ?_
    refine r_iload_n E dX67_newFirst_37 rfl 3 rfl ?_
    refine r_laload E zc_6825 za_6825 zt_6825 zx_6825 rfl rfl dX67_newFirst_38 (by decide) (fun v5 => ?_)
    refine r_lconst (v := 1) E dX67_newFirst_39 (by decide) (zkJ (by decide) (by decide)) ?_
    refine r_ldc2 (v := 2) E dX67_newFirst_40 q3687 (by decide) (zkJ (by decide) (by decide)) ?_
    refine r_callS E [(1, v5), (1, 1), (1, 2)] [] rfl q3619 q3620 q294 q3621 dX67_newFirst_43 zy_X67_in rfl (by omega) (by decide) (Nat.le_of_ble_eq_true rfl) (fun l G => k_fX67_in l G v5 1 2) (fun v6 => ?_)
    refine r_if_eq E 77 (by decide) dX67_newFirst_46 (fun _ => ?_) (fun _ => ?_)
    · refine r_bipush E dX67_newFirst_77 (by decide) (zkI (by decide) (by decide)) ?_
      exact r_ireturn E rfl hT dX67_newFirst_79
    · refine r_aload_n E dX67_newFirst_49 rfl 2 rfl ?_
      refine r_gec (y := 0) E zc_69 dX67_newFirst_50 q3242 zr_69 (zh_6827 (by decide)) (by decide) ?_
      refine r_iload_n E dX67_newFirst_53 rfl 0 rfl ?_
      refine r_iaload E zc_6827 za_6827 zt_6827 zx_6827 rfl rfl dX67_newFirst_54 (by decide) (fun v7 => ?_)
      refine r_aload_n E dX67_newFirst_55 rfl 2 rfl ?_
      refine r_gec (y := 0) E zc_69 dX67_newFirst_56 q3242 zr_69 (zh_6827 (by decide)) (by decide) ?_
      refine r_iload_n E dX67_newFirst_59 rfl 0 rfl ?_
      refine r_iconst E dX67_newFirst_60 (zkI (by decide) (by decide)) ?_
      refine r_iadd E dX67_newFirst_61 ?_
      refine r_iaload E zc_6827 za_6827 zt_6827 zx_6827 rfl rfl dX67_newFirst_62 (by decide) (fun v8 => ?_)
      refine r_aload_n E dX67_newFirst_63 rfl 2 rfl ?_
      refine r_gec (y := 0) E zc_69 dX67_newFirst_64 q3242 zr_69 (zh_6827 (by decide)) (by decide) ?_
      refine r_iload_n E dX67_newFirst_67 rfl 0 rfl ?_
      refine r_iconst E dX67_newFirst_68 (zkI (by decide) (by decide)) ?_
      refine r_iadd E dX67_newFirst_69 ?_
      refine r_iaload E zc_6827 za_6827 zt_6827 zx_6827 rfl rfl dX67_newFirst_70 (by decide) (fun v9 => ?_)
      refine r_callS E [(0, v7), (0, v8), (0, v9)] [] rfl q3688 q3689 q294 q3690 dX67_newFirst_71 zy_X67_isItem rfl (by omega) (by decide) (Nat.le_of_ble_eq_true rfl) (fun l G => k_fX67_isItem l G v7 v8 v9) (fun v10 => ?_)
      refine r_if_ne E 80 (by decide) dX67_newFirst_74 (fun _ => ?_) (fun _ => ?_)
      · refine r_aload_n E dX67_newFirst_80 rfl 2 rfl ?_
        refine r_aload_n E dX67_newFirst_81 rfl 2 rfl ?_
        refine r_gec (y := 0) E zc_69 dX67_newFirst_82 q3255 zr_69 (zh_6840 (by decide)) (by decide) ?_
        refine r_iload_n E dX67_newFirst_85 rfl 3 rfl ?_
        refine r_iaload E zc_6840 za_6840 zt_6840 zx_6840 rfl rfl dX67_newFirst_86 (by decide) (fun v11 => ?_)
        refine r_aload_n E dX67_newFirst_87 rfl 2 rfl ?_
        refine r_gec (y := 0) E zc_69 dX67_newFirst_88 q3240 zr_69 (zh_6825 (by decide)) (by decide) ?_
        refine r_iload_n E dX67_newFirst_91 rfl 3 rfl ?_
        refine r_laload E zc_6825 za_6825 zt_6825 zx_6825 rfl rfl dX67_newFirst_92 (by decide) (fun v12 => ?_)
        refine r_l2i E dX67_newFirst_93 ?_
        refine r_aload_n E dX67_newFirst_94 rfl 2 rfl ?_
        refine r_gec (y := 0) E zc_69 dX67_newFirst_95 q3242 zr_69 (zh_6827 (by decide)) (by decide) ?_
        refine r_iload_n E dX67_newFirst_98 rfl 0 rfl ?_
        refine r_iaload E zc_6827 za_6827 zt_6827 zx_6827 rfl rfl dX67_newFirst_99 (by decide) (fun v13 => ?_)
        refine r_aload_n E dX67_newFirst_100 rfl 2 rfl ?_
        refine r_gec (y := 0) E zc_69 dX67_newFirst_101 q3242 zr_69 (zh_6827 (by decide)) (by decide) ?_
        refine r_iload_n E dX67_newFirst_104 rfl 0 rfl ?_
        refine r_iconst E dX67_newFirst_105 (zkI (by decide) (by decide)) ?_
        refine r_iadd E dX67_newFirst_106 ?_
        refine r_iaload E zc_6827 za_6827 zt_6827 zx_6827 rfl rfl dX67_newFirst_107 (by decide) (fun v14 => ?_)
        refine r_aload_n E dX67_newFirst_108 rfl 2 rfl ?_
        refine r_gec (y := 0) E zc_69 dX67_newFirst_109 q3242 zr_69 (zh_6827 (by decide)) (by decide) ?_
        refine r_iload_n E dX67_newFirst_112 rfl 0 rfl ?_
        refine r_iconst E dX67_newFirst_113 (zkI (by decide) (by decide)) ?_
        refine r_iadd E dX67_newFirst_114 ?_
        refine r_iaload E zc_6827 za_6827 zt_6827 zx_6827 rfl rfl dX67_newFirst_115 (by decide) (fun v15 => ?_)
        refine r_callV E [(0, v11), (0, (zi v12)), (0, v13), (0, v14), (0, v15)] [] rfl zc_69 zr_69 (fun o _ => ⟨_, zw_X67.1 o, rfl⟩) (lw_V q4017 q3684 q3685 q294 q3686) dX67_newFirst_116 zy_X67_initial rfl (by omega) (by decide) (Nat.le_of_ble_eq_true rfl) (by decide) (fun l G => k_fX67_initial l G v11 (zi v12) v13 v14 v15) (fun v16 => ?_)
        refine r_istore (ls' := [(4, 0, v16), (3, 0, v4), (2, 0, v3), (0, 69, 0), (1, 0, x1)]) E dX67_newFirst_119 (by rw [hN]; decide) rfl ?_
        refine r_iload E dX67_newFirst_121 0 rfl ?_
        refine r_if_ge E 131 (by decide) dX67_newFirst_123 (fun _ => ?_) (fun _ => ?_)
        · refine r_iconst E dX67_newFirst_131 (zkI (by decide) (by decide)) ?_
          exact r_ireturn E rfl hT dX67_newFirst_132
        · refine r_iload E dX67_newFirst_126 0 rfl ?_
          refine r_goto E 132 (by decide) dX67_newFirst_128 ?_
          exact r_ireturn E rfl hT dX67_newFirst_132
      · refine r_bipush E dX67_newFirst_77 (by decide) (zkI (by decide) (by decide)) ?_
        exact r_ireturn E rfl hT dX67_newFirst_79
  · refine r_iload_n E dX67_newFirst_27 rfl 0 rfl ?_
    exact r_ireturn E rfl hT dX67_newFirst_28
theorem k_fX67_newFirst (l : Launch) (G : zG) (x1 : Int) : zCt l G yX67_newFirst cX67_newFirst 5 (some .int) 4 [(69, 0), (0, x1)] (some 0) (fX67_newFirst x1) := zCt.of (by decide) (Nat.le_of_ble_eq_true rfl) (fun K E _ _ hN hT => w_fX67_newFirst E hN hT x1)
theorem dX67_doable_0 : decode cX67_doable 0 = .ok (.aload_n 0, 1) := by decide +kernel
theorem dX67_doable_1 : decode cX67_doable 1 = .ok (.getfield 86, 3) := by decide +kernel
theorem dX67_doable_4 : decode cX67_doable 4 = .ok (.iload_n 1, 1) := by decide +kernel
theorem dX67_doable_5 : decode cX67_doable 5 = .ok (.laload, 1) := by decide +kernel
theorem dX67_doable_6 : decode cX67_doable 6 = .ok (.ldc2_w 445, 3) := by decide +kernel
theorem dX67_doable_9 : decode cX67_doable 9 = .ok (.lcmp, 1) := by decide +kernel
theorem dX67_doable_10 : decode cX67_doable 10 = .ok (.ifCond .le 5, 3) := by decide +kernel
theorem dX67_doable_13 : decode cX67_doable 13 = .ok (.iconst (-1), 1) := by decide +kernel
theorem dX67_doable_14 : decode cX67_doable 14 = .ok (.ireturn, 1) := by decide +kernel
theorem dX67_doable_15 : decode cX67_doable 15 = .ok (.aload_n 0, 1) := by decide +kernel
theorem dX67_doable_16 : decode cX67_doable 16 = .ok (.getfield 86, 3) := by decide +kernel
theorem dX67_doable_19 : decode cX67_doable 19 = .ok (.iload_n 1, 1) := by decide +kernel
theorem dX67_doable_20 : decode cX67_doable 20 = .ok (.laload, 1) := by decide +kernel
theorem dX67_doable_21 : decode cX67_doable 21 = .ok (.l2i, 1) := by decide +kernel
theorem dX67_doable_22 : decode cX67_doable 22 = .ok (.istore_n 2, 1) := by decide +kernel
theorem dX67_doable_23 : decode cX67_doable 23 = .ok (.iload_n 2, 1) := by decide +kernel
theorem dX67_doable_24 : decode cX67_doable 24 = .ok (.bipush 8, 2) := by decide +kernel
theorem dX67_doable_26 : decode cX67_doable 26 = .ok (.if_icmp .ge 28, 3) := by decide +kernel
theorem dX67_doable_29 : decode cX67_doable 29 = .ok (.aload_n 0, 1) := by decide +kernel
theorem dX67_doable_30 : decode cX67_doable 30 = .ok (.getfield 89, 3) := by decide +kernel
theorem dX67_doable_33 : decode cX67_doable 33 = .ok (.iload_n 1, 1) := by decide +kernel
theorem dX67_doable_34 : decode cX67_doable 34 = .ok (.aload_n 0, 1) := by decide +kernel
theorem dX67_doable_35 : decode cX67_doable 35 = .ok (.getfield 110, 3) := by decide +kernel
theorem dX67_doable_38 : decode cX67_doable 38 = .ok (.iload_n 1, 1) := by decide +kernel
theorem dX67_doable_39 : decode cX67_doable 39 = .ok (.iaload, 1) := by decide +kernel
theorem dX67_doable_40 : decode cX67_doable 40 = .ok (.iload_n 2, 1) := by decide +kernel
theorem dX67_doable_41 : decode cX67_doable 41 = .ok (.if_icmp .gt 9, 3) := by decide +kernel
theorem dX67_doable_44 : decode cX67_doable 44 = .ok (.ldc2_w 580, 3) := by decide +kernel
theorem dX67_doable_47 : decode cX67_doable 47 = .ok (.goto 4, 3) := by decide +kernel
theorem dX67_doable_50 : decode cX67_doable 50 = .ok (.lconst 0, 1) := by decide +kernel
theorem dX67_doable_51 : decode cX67_doable 51 = .ok (.lastore, 1) := by decide +kernel
theorem dX67_doable_52 : decode cX67_doable 52 = .ok (.iconst 0, 1) := by decide +kernel
theorem dX67_doable_53 : decode cX67_doable 53 = .ok (.ireturn, 1) := by decide +kernel
theorem dX67_doable_54 : decode cX67_doable 54 = .ok (.aload_n 0, 1) := by decide +kernel
theorem dX67_doable_55 : decode cX67_doable 55 = .ok (.getfield 125, 3) := by decide +kernel
theorem dX67_doable_58 : decode cX67_doable 58 = .ok (.bipush 32, 2) := by decide +kernel
theorem dX67_doable_60 : decode cX67_doable 60 = .ok (.iload_n 1, 1) := by decide +kernel
theorem dX67_doable_61 : decode cX67_doable 61 = .ok (.imul, 1) := by decide +kernel
theorem dX67_doable_62 : decode cX67_doable 62 = .ok (.iload_n 2, 1) := by decide +kernel
theorem dX67_doable_63 : decode cX67_doable 63 = .ok (.iadd, 1) := by decide +kernel
theorem dX67_doable_64 : decode cX67_doable 64 = .ok (.iaload, 1) := by decide +kernel
theorem dX67_doable_65 : decode cX67_doable 65 = .ok (.istore_n 3, 1) := by decide +kernel
theorem dX67_doable_66 : decode cX67_doable 66 = .ok (.iload_n 3, 1) := by decide +kernel
theorem dX67_doable_67 : decode cX67_doable 67 = .ok (.ifCond .ge 5, 3) := by decide +kernel
theorem dX67_doable_70 : decode cX67_doable 70 = .ok (.iconst (-1), 1) := by decide +kernel
theorem dX67_doable_71 : decode cX67_doable 71 = .ok (.ireturn, 1) := by decide +kernel
theorem dX67_doable_72 : decode cX67_doable 72 = .ok (.aload_n 0, 1) := by decide +kernel
theorem dX67_doable_73 : decode cX67_doable 73 = .ok (.getfield 89, 3) := by decide +kernel
theorem dX67_doable_76 : decode cX67_doable 76 = .ok (.iload_n 1, 1) := by decide +kernel
theorem dX67_doable_77 : decode cX67_doable 77 = .ok (.aload_n 0, 1) := by decide +kernel
theorem dX67_doable_78 : decode cX67_doable 78 = .ok (.iload_n 1, 1) := by decide +kernel
theorem dX67_doable_79 : decode cX67_doable 79 = .ok (.iload_n 3, 1) := by decide +kernel
theorem dX67_doable_80 : decode cX67_doable 80 = .ok (.aload_n 0, 1) := by decide +kernel
theorem dX67_doable_81 : decode cX67_doable 81 = .ok (.getfield 110, 3) := by decide +kernel
theorem dX67_doable_84 : decode cX67_doable 84 = .ok (.iload_n 1, 1) := by decide +kernel
theorem dX67_doable_85 : decode cX67_doable 85 = .ok (.iaload, 1) := by decide +kernel
theorem dX67_doable_86 : decode cX67_doable 86 = .ok (.iconst 1, 1) := by decide +kernel
theorem dX67_doable_87 : decode cX67_doable 87 = .ok (.invokevirtual 527, 3) := by decide +kernel
theorem dX67_doable_90 : decode cX67_doable 90 = .ok (.ifCond .ne 7, 3) := by decide +kernel
theorem dX67_doable_93 : decode cX67_doable 93 = .ok (.iconst 1, 1) := by decide +kernel
theorem dX67_doable_94 : decode cX67_doable 94 = .ok (.goto 4, 3) := by decide +kernel
theorem dX67_doable_97 : decode cX67_doable 97 = .ok (.iconst 0, 1) := by decide +kernel
theorem dX67_doable_98 : decode cX67_doable 98 = .ok (.aload_n 0, 1) := by decide +kernel
theorem dX67_doable_99 : decode cX67_doable 99 = .ok (.iload_n 1, 1) := by decide +kernel
theorem dX67_doable_100 : decode cX67_doable 100 = .ok (.iload_n 3, 1) := by decide +kernel
theorem dX67_doable_101 : decode cX67_doable 101 = .ok (.aload_n 0, 1) := by decide +kernel
theorem dX67_doable_102 : decode cX67_doable 102 = .ok (.getfield 110, 3) := by decide +kernel
theorem dX67_doable_105 : decode cX67_doable 105 = .ok (.iload_n 1, 1) := by decide +kernel
theorem dX67_doable_106 : decode cX67_doable 106 = .ok (.iaload, 1) := by decide +kernel
theorem dX67_doable_107 : decode cX67_doable 107 = .ok (.iconst 2, 1) := by decide +kernel
theorem dX67_doable_108 : decode cX67_doable 108 = .ok (.invokevirtual 527, 3) := by decide +kernel
theorem dX67_doable_111 : decode cX67_doable 111 = .ok (.ifCond .ne 7, 3) := by decide +kernel
theorem dX67_doable_114 : decode cX67_doable 114 = .ok (.iconst 2, 1) := by decide +kernel
theorem dX67_doable_115 : decode cX67_doable 115 = .ok (.goto 4, 3) := by decide +kernel
theorem dX67_doable_118 : decode cX67_doable 118 = .ok (.iconst 0, 1) := by decide +kernel
theorem dX67_doable_119 : decode cX67_doable 119 = .ok (.iadd, 1) := by decide +kernel
theorem dX67_doable_120 : decode cX67_doable 120 = .ok (.aload_n 0, 1) := by decide +kernel
theorem dX67_doable_121 : decode cX67_doable 121 = .ok (.iload_n 1, 1) := by decide +kernel
theorem dX67_doable_122 : decode cX67_doable 122 = .ok (.iload_n 3, 1) := by decide +kernel
theorem dX67_doable_123 : decode cX67_doable 123 = .ok (.aload_n 0, 1) := by decide +kernel
theorem dX67_doable_124 : decode cX67_doable 124 = .ok (.getfield 110, 3) := by decide +kernel
theorem dX67_doable_127 : decode cX67_doable 127 = .ok (.iload_n 1, 1) := by decide +kernel
theorem dX67_doable_128 : decode cX67_doable 128 = .ok (.iaload, 1) := by decide +kernel
theorem dX67_doable_129 : decode cX67_doable 129 = .ok (.iconst 4, 1) := by decide +kernel
theorem dX67_doable_130 : decode cX67_doable 130 = .ok (.invokevirtual 527, 3) := by decide +kernel
theorem dX67_doable_133 : decode cX67_doable 133 = .ok (.ifCond .ne 7, 3) := by decide +kernel
theorem dX67_doable_136 : decode cX67_doable 136 = .ok (.iconst 4, 1) := by decide +kernel
theorem dX67_doable_137 : decode cX67_doable 137 = .ok (.goto 4, 3) := by decide +kernel
theorem dX67_doable_140 : decode cX67_doable 140 = .ok (.iconst 0, 1) := by decide +kernel
theorem dX67_doable_141 : decode cX67_doable 141 = .ok (.iadd, 1) := by decide +kernel
theorem dX67_doable_142 : decode cX67_doable 142 = .ok (.i2l, 1) := by decide +kernel
theorem dX67_doable_143 : decode cX67_doable 143 = .ok (.lastore, 1) := by decide +kernel
theorem dX67_doable_144 : decode cX67_doable 144 = .ok (.iconst 0, 1) := by decide +kernel
theorem dX67_doable_145 : decode cX67_doable 145 = .ok (.ireturn, 1) := by decide +kernel
theorem zy_X67_doable : yX67_doable.cls ≠ "java/lang/invoke/MethodHandle" ∧ yX67_doable.cls ≠ "java/lang/invoke/VarHandle" ∧ (parseMethodDescriptor yX67_doable.desc).map (fun d => d.parameters.length) = some 1 := by decide +kernel
theorem w_fX67_doable_J141 {K : zK} (E : zE K cX67_doable "RingHouseModel" (some .int) 2) (hN : zNl K = 4) (hT : zTr K = (some 0)) (s1 : Int) (s2 : Int) (s3 : Int) : zR K 141 [] [(0, s3), (0, s2), (0, s1), (6826, 0)] (fX67_doable_J141 s1 s2 s3) := by
  refine r_iadd E dX67_doable_141 ?_
  refine r_i2l E dX67_doable_142 ?_
  refine r_lastore E zc_6826 za_6826 zt_6826 zo_6826 zx_6826 rfl rfl dX67_doable_143 (by decide) ?_
  refine r_iconst E dX67_doable_144 (zkI (by decide) (by decide)) ?_
  exact r_ireturn E rfl hT dX67_doable_145
theorem w_fX67_doable_J119 {K : zK} (E : zE K cX67_doable "RingHouseModel" (some .int) 2) (hN : zNl K = 4) (hT : zTr K = (some 0)) (x1 : Int) (x3 : Int) (s1 : Int) (s2 : Int) (s3 : Int) : zR K 119 [(0, 69, 0), (1, 0, x1), (3, 0, x3)] [(0, s3), (0, s2), (0, s1), (6826, 0)] (fX67_doable_J119 x1 x3 s1 s2 s3) := by
  refine r_iadd E dX67_doable_119 ?_
  refine r_aload_n E dX67_doable_120 rfl 0 rfl ?_
  refine r_iload_n E dX67_doable_121 rfl 1 rfl ?_
  refine r_iload_n E dX67_doable_122 rfl 2 rfl ?_
  refine r_aload_n E dX67_doable_123 rfl 0 rfl ?_
  refine r_gec (y := 0) E zc_69 dX67_doable_124 q3248 zr_69 (zh_6833 (by decide)) (by decide) ?_
  refine r_iload_n E dX67_doable_127 rfl 1 rfl ?_
  refine r_iaload E zc_6833 za_6833 zt_6833 zx_6833 rfl rfl dX67_doable_128 (by decide) (fun v9 => ?_)
  refine r_iconst E dX67_doable_129 (zkI (by decide) (by decide)) ?_
  refine r_callV E [(0, x1), (0, x3), (0, v9), (0, 4)] [(0, (zi (s2 + s3))), (0, s1), (6826, 0)] rfl zc_69 zr_69 (fun o _ => ⟨_, zw_X67.1 o, rfl⟩) (lw_V q3847 q3849 qs122 q294 q3850) dX67_doable_130 zy_X67_barred rfl (by omega) (by decide) (Nat.le_of_ble_eq_true rfl) (by decide) (fun l G => k_fX67_barred l G x1 x3 v9 4) (fun v10 => ?_)
  refine r_if_ne E 140 (by decide) dX67_doable_133 (fun _ => ?_) (fun _ => ?_)
  · refine r_iconst E dX67_doable_140 (zkI (by decide) (by decide)) ?_
    refine r_pick E [] rfl ?_
    exact w_fX67_doable_J141 E hN hT s1 (zi (s2 + s3)) 0
  · refine r_iconst E dX67_doable_136 (zkI (by decide) (by decide)) ?_
    refine r_goto E 141 (by decide) dX67_doable_137 ?_
    refine r_pick E [] rfl ?_
    exact w_fX67_doable_J141 E hN hT s1 (zi (s2 + s3)) 4
theorem w_fX67_doable_J98 {K : zK} (E : zE K cX67_doable "RingHouseModel" (some .int) 2) (hN : zNl K = 4) (hT : zTr K = (some 0)) (x1 : Int) (x3 : Int) (s1 : Int) (s2 : Int) : zR K 98 [(0, 69, 0), (1, 0, x1), (3, 0, x3)] [(0, s2), (0, s1), (6826, 0)] (fX67_doable_J98 x1 x3 s1 s2) := by
  refine r_aload_n E dX67_doable_98 rfl 0 rfl ?_
  refine r_iload_n E dX67_doable_99 rfl 1 rfl ?_
  refine r_iload_n E dX67_doable_100 rfl 2 rfl ?_
  refine r_aload_n E dX67_doable_101 rfl 0 rfl ?_
  refine r_gec (y := 0) E zc_69 dX67_doable_102 q3248 zr_69 (zh_6833 (by decide)) (by decide) ?_
  refine r_iload_n E dX67_doable_105 rfl 1 rfl ?_
  refine r_iaload E zc_6833 za_6833 zt_6833 zx_6833 rfl rfl dX67_doable_106 (by decide) (fun v7 => ?_)
  refine r_iconst E dX67_doable_107 (zkI (by decide) (by decide)) ?_
  refine r_callV E [(0, x1), (0, x3), (0, v7), (0, 2)] [(0, s2), (0, s1), (6826, 0)] rfl zc_69 zr_69 (fun o _ => ⟨_, zw_X67.1 o, rfl⟩) (lw_V q3847 q3849 qs122 q294 q3850) dX67_doable_108 zy_X67_barred rfl (by omega) (by decide) (Nat.le_of_ble_eq_true rfl) (by decide) (fun l G => k_fX67_barred l G x1 x3 v7 2) (fun v8 => ?_)
  refine r_if_ne E 118 (by decide) dX67_doable_111 (fun _ => ?_) (fun _ => ?_)
  · refine r_iconst E dX67_doable_118 (zkI (by decide) (by decide)) ?_
    exact w_fX67_doable_J119 E hN hT x1 x3 s1 s2 0
  · refine r_iconst E dX67_doable_114 (zkI (by decide) (by decide)) ?_
    refine r_goto E 119 (by decide) dX67_doable_115 ?_
    exact w_fX67_doable_J119 E hN hT x1 x3 s1 s2 2
theorem w_fX67_doable_J51 {K : zK} (E : zE K cX67_doable "RingHouseModel" (some .int) 2) (hN : zNl K = 4) (hT : zTr K = (some 0)) (s1 : Int) (s2 : Int) : zR K 51 [] [(1, s2), (0, s1), (6826, 0)] (fX67_doable_J51 s1 s2) := by
  refine r_lastore E zc_6826 za_6826 zt_6826 zo_6826 zx_6826 rfl rfl dX67_doable_51 (by decide) ?_
  refine r_iconst E dX67_doable_52 (zkI (by decide) (by decide)) ?_
  exact r_ireturn E rfl hT dX67_doable_53
theorem w_fX67_doable {K : zK} (E : zE K cX67_doable "RingHouseModel" (some .int) 2) (hN : zNl K = 4) (hT : zTr K = (some 0)) (x1 : Int) : zR K 0 [(0, 69, 0), (1, 0, x1)] [] (fX67_doable x1) := by
  refine r_aload_n E dX67_doable_0 rfl 0 rfl ?_
  refine r_gec (y := 0) E zc_69 dX67_doable_1 q3240 zr_69 (zh_6825 (by decide)) (by decide) ?_
  refine r_iload_n E dX67_doable_4 rfl 1 rfl ?_
  refine r_laload E zc_6825 za_6825 zt_6825 zx_6825 rfl rfl dX67_doable_5 (by decide) (fun v1 => ?_)
  refine r_ldc2 (v := 31) E dX67_doable_6 q3631 (by decide) (zkJ (by decide) (by decide)) ?_
  refine r_lcmp_le E 15 (by decide) dX67_doable_9 dX67_doable_10 (fun _ => ?_) (fun _ => ?_)
  · refine r_aload_n E dX67_doable_15 rfl 0 rfl ?_
    refine r_gec (y := 0) E zc_69 dX67_doable_16 q3240 zr_69 (zh_6825 (by decide)) (by decide) ?_
    refine r_iload_n E dX67_doable_19 rfl 1 rfl ?_
    refine r_laload E zc_6825 za_6825 zt_6825 zx_6825 rfl rfl dX67_doable_20 (by decide) (fun v2 => ?_)
    refine r_l2i E dX67_doable_21 ?_
    refine r_let E (fun v3 ev3 => ?_)
    refine r_istore_n (ls' := [(2, 0, v3), (0, 69, 0), (1, 0, x1)]) E dX67_doable_22 rfl (by rw [hN]; decide) rfl ?_
    refine r_iload_n E dX67_doable_23 rfl 0 rfl ?_
    refine r_bipush E dX67_doable_24 (by decide) (zkI (by decide) (by decide)) ?_
    refine r_icmp_ge E 54 (by decide) dX67_doable_26 (fun _ => ?_) (fun _ => ?_)
    · refine r_aload_n E dX67_doable_54 rfl 1 rfl ?_
      refine r_gec (y := 0) E zc_69 dX67_doable_55 q3253 zr_69 (zh_6838 (by decide)) (by decide) ?_
      refine r_bipush E dX67_doable_58 (by decide) (zkI (by decide) (by decide)) ?_
      refine r_iload_n E dX67_doable_60 rfl 2 rfl ?_
      refine r_imul E dX67_doable_61 ?_
      refine r_iload_n E dX67_doable_62 rfl 0 rfl ?_
      refine r_iadd E dX67_doable_63 ?_
      refine r_iaload E zc_6838 za_6838 zt_6838 zx_6838 rfl rfl dX67_doable_64 (by decide) (fun v4 => ?_)
      refine r_istore_n (ls' := [(3, 0, v4), (2, 0, v3), (0, 69, 0), (1, 0, x1)]) E dX67_doable_65 rfl (by rw [hN]; decide) rfl ?_
      refine r_iload_n E dX67_doable_66 rfl 0 rfl ?_
      refine r_if_ge E 72 (by decide) dX67_doable_67 (fun _ => ?_) (fun _ => ?_)
      · refine r_aload_n E dX67_doable_72 rfl 2 rfl ?_
        refine r_gec (y := 0) E zc_69 dX67_doable_73 q3241 zr_69 (zh_6826 (by decide)) (by decide) ?_
        refine r_iload_n E dX67_doable_76 rfl 3 rfl ?_
        refine r_aload_n E dX67_doable_77 rfl 2 rfl ?_
        refine r_iload_n E dX67_doable_78 rfl 3 rfl ?_
        refine r_iload_n E dX67_doable_79 rfl 0 rfl ?_
        refine r_aload_n E dX67_doable_80 rfl 2 rfl ?_
        refine r_gec (y := 0) E zc_69 dX67_doable_81 q3248 zr_69 (zh_6833 (by decide)) (by decide) ?_
        refine r_iload_n E dX67_doable_84 rfl 3 rfl ?_
        refine r_iaload E zc_6833 za_6833 zt_6833 zx_6833 rfl rfl dX67_doable_85 (by decide) (fun v5 => ?_)
        refine r_iconst E dX67_doable_86 (zkI (by decide) (by decide)) ?_
        refine r_callV E [(0, x1), (0, v4), (0, v5), (0, 1)] [(0, x1), (6826, 0)] rfl zc_69 zr_69 (fun o _ => ⟨_, zw_X67.1 o, rfl⟩) (lw_V q3847 q3849 qs122 q294 q3850) dX67_doable_87 zy_X67_barred rfl (by omega) (by decide) (Nat.le_of_ble_eq_true rfl) (by decide) (fun l G => k_fX67_barred l G x1 v4 v5 1) (fun v6 => ?_)
        refine r_if_ne E 97 (by decide) dX67_doable_90 (fun _ => ?_) (fun _ => ?_)
        · refine r_iconst E dX67_doable_97 (zkI (by decide) (by decide)) ?_
          refine r_pick E [2, 3, 0] rfl ?_
          exact w_fX67_doable_J98 E hN hT x1 v4 x1 0
        · refine r_iconst E dX67_doable_93 (zkI (by decide) (by decide)) ?_
          refine r_goto E 98 (by decide) dX67_doable_94 ?_
          refine r_pick E [2, 3, 0] rfl ?_
          exact w_fX67_doable_J98 E hN hT x1 v4 x1 1
      · refine r_iconst E dX67_doable_70 (zkI (by decide) (by decide)) ?_
        exact r_ireturn E rfl hT dX67_doable_71
    · refine r_aload_n E dX67_doable_29 rfl 1 rfl ?_
      refine r_gec (y := 0) E zc_69 dX67_doable_30 q3241 zr_69 (zh_6826 (by decide)) (by decide) ?_
      refine r_iload_n E dX67_doable_33 rfl 2 rfl ?_
      refine r_aload_n E dX67_doable_34 rfl 1 rfl ?_
      refine r_gec (y := 0) E zc_69 dX67_doable_35 q3248 zr_69 (zh_6833 (by decide)) (by decide) ?_
      refine r_iload_n E dX67_doable_38 rfl 2 rfl ?_
      refine r_iaload E zc_6833 za_6833 zt_6833 zx_6833 rfl rfl dX67_doable_39 (by decide) (fun v11 => ?_)
      refine r_iload_n E dX67_doable_40 rfl 0 rfl ?_
      refine r_icmp_gt E 50 (by decide) dX67_doable_41 (fun _ => ?_) (fun _ => ?_)
      · refine r_lconst (v := 0) E dX67_doable_50 (by decide) (zkJ (by decide) (by decide)) ?_
        refine r_pick E [] rfl ?_
        exact w_fX67_doable_J51 E hN hT x1 0
      · refine r_ldc2 (v := 5) E dX67_doable_44 q3912 (by decide) (zkJ (by decide) (by decide)) ?_
        refine r_goto E 51 (by decide) dX67_doable_47 ?_
        refine r_pick E [] rfl ?_
        exact w_fX67_doable_J51 E hN hT x1 5
  · refine r_iconst E dX67_doable_13 (zkI (by decide) (by decide)) ?_
    exact r_ireturn E rfl hT dX67_doable_14
theorem k_fX67_doable (l : Launch) (G : zG) (x1 : Int) : zCt l G yX67_doable cX67_doable 4 (some .int) 2 [(69, 0), (0, x1)] (some 0) (fX67_doable x1) := zCt.of (by decide) (Nat.le_of_ble_eq_true rfl) (fun K E _ _ hN hT => w_fX67_doable E hN hT x1)
theorem dX67_among_0 : decode cX67_among 0 = .ok (.iload_n 2, 1) := by decide +kernel
theorem dX67_among_1 : decode cX67_among 1 = .ok (.bipush 19, 2) := by decide +kernel
theorem dX67_among_3 : decode cX67_among 3 = .ok (.if_icmp .ne 91, 3) := by decide +kernel
theorem dX67_among_6 : decode cX67_among 6 = .ok (.aload_n 0, 1) := by decide +kernel
theorem dX67_among_7 : decode cX67_among 7 = .ok (.getfield 92, 3) := by decide +kernel
theorem dX67_among_10 : decode cX67_among 10 = .ok (.iconst 4, 1) := by decide +kernel
theorem dX67_among_11 : decode cX67_among 11 = .ok (.iload_n 1, 1) := by decide +kernel
theorem dX67_among_12 : decode cX67_among 12 = .ok (.imul, 1) := by decide +kernel
theorem dX67_among_13 : decode cX67_among 13 = .ok (.iaload, 1) := by decide +kernel
theorem dX67_among_14 : decode cX67_among 14 = .ok (.istore_n 3, 1) := by decide +kernel
theorem dX67_among_15 : decode cX67_among 15 = .ok (.iload_n 3, 1) := by decide +kernel
theorem dX67_among_16 : decode cX67_among 16 = .ok (.bipush 8, 2) := by decide +kernel
theorem dX67_among_18 : decode cX67_among 18 = .ok (.if_icmp .ge 73, 3) := by decide +kernel
theorem dX67_among_21 : decode cX67_among 21 = .ok (.aload_n 0, 1) := by decide +kernel
theorem dX67_among_22 : decode cX67_among 22 = .ok (.getfield 70, 3) := by decide +kernel
theorem dX67_among_25 : decode cX67_among 25 = .ok (.iload_n 3, 1) := by decide +kernel
theorem dX67_among_26 : decode cX67_among 26 = .ok (.baload, 1) := by decide +kernel
theorem dX67_among_27 : decode cX67_among 27 = .ok (.ifCond .eq 64, 3) := by decide +kernel
theorem dX67_among_30 : decode cX67_among 30 = .ok (.aload_n 0, 1) := by decide +kernel
theorem dX67_among_31 : decode cX67_among 31 = .ok (.getfield 83, 3) := by decide +kernel
theorem dX67_among_34 : decode cX67_among 34 = .ok (.iload_n 3, 1) := by decide +kernel
theorem dX67_among_35 : decode cX67_among 35 = .ok (.iaload, 1) := by decide +kernel
theorem dX67_among_36 : decode cX67_among 36 = .ok (.aload_n 0, 1) := by decide +kernel
theorem dX67_among_37 : decode cX67_among 37 = .ok (.getfield 83, 3) := by decide +kernel
theorem dX67_among_40 : decode cX67_among 40 = .ok (.iload_n 1, 1) := by decide +kernel
theorem dX67_among_41 : decode cX67_among 41 = .ok (.iaload, 1) := by decide +kernel
theorem dX67_among_42 : decode cX67_among 42 = .ok (.invokestatic 447, 3) := by decide +kernel
theorem dX67_among_45 : decode cX67_among 45 = .ok (.ifCond .eq 46, 3) := by decide +kernel
theorem dX67_among_48 : decode cX67_among 48 = .ok (.aload_n 0, 1) := by decide +kernel
theorem dX67_among_49 : decode cX67_among 49 = .ok (.getfield 149, 3) := by decide +kernel
theorem dX67_among_52 : decode cX67_among 52 = .ok (.iload_n 3, 1) := by decide +kernel
theorem dX67_among_53 : decode cX67_among 53 = .ok (.iaload, 1) := by decide +kernel
theorem dX67_among_54 : decode cX67_among 54 = .ok (.bipush 8, 2) := by decide +kernel
theorem dX67_among_56 : decode cX67_among 56 = .ok (.if_icmp .ge 35, 3) := by decide +kernel
theorem dX67_among_59 : decode cX67_among 59 = .ok (.aload_n 0, 1) := by decide +kernel
theorem dX67_among_60 : decode cX67_among 60 = .ok (.getfield 152, 3) := by decide +kernel
theorem dX67_among_63 : decode cX67_among 63 = .ok (.bipush 8, 2) := by decide +kernel
theorem dX67_among_65 : decode cX67_among 65 = .ok (.iload_n 3, 1) := by decide +kernel
theorem dX67_among_66 : decode cX67_among 66 = .ok (.imul, 1) := by decide +kernel
theorem dX67_among_67 : decode cX67_among 67 = .ok (.aload_n 0, 1) := by decide +kernel
theorem dX67_among_68 : decode cX67_among 68 = .ok (.getfield 149, 3) := by decide +kernel
theorem dX67_among_71 : decode cX67_among 71 = .ok (.iload_n 3, 1) := by decide +kernel
theorem dX67_among_72 : decode cX67_among 72 = .ok (.iaload, 1) := by decide +kernel
theorem dX67_among_73 : decode cX67_among 73 = .ok (.iadd, 1) := by decide +kernel
theorem dX67_among_74 : decode cX67_among 74 = .ok (.aload_n 0, 1) := by decide +kernel
theorem dX67_among_75 : decode cX67_among 75 = .ok (.getfield 89, 3) := by decide +kernel
theorem dX67_among_78 : decode cX67_among 78 = .ok (.iload_n 1, 1) := by decide +kernel
theorem dX67_among_79 : decode cX67_among 79 = .ok (.laload, 1) := by decide +kernel
theorem dX67_among_80 : decode cX67_among 80 = .ok (.lastore, 1) := by decide +kernel
theorem dX67_among_81 : decode cX67_among 81 = .ok (.aload_n 0, 1) := by decide +kernel
theorem dX67_among_82 : decode cX67_among 82 = .ok (.getfield 149, 3) := by decide +kernel
theorem dX67_among_85 : decode cX67_among 85 = .ok (.iload_n 3, 1) := by decide +kernel
theorem dX67_among_86 : decode cX67_among 86 = .ok (.dup2, 1) := by decide +kernel
theorem dX67_among_87 : decode cX67_among 87 = .ok (.iaload, 1) := by decide +kernel
theorem dX67_among_88 : decode cX67_among 88 = .ok (.iconst 1, 1) := by decide +kernel
theorem dX67_among_89 : decode cX67_among 89 = .ok (.iadd, 1) := by decide +kernel
theorem dX67_among_90 : decode cX67_among 90 = .ok (.iastore, 1) := by decide +kernel
theorem dX67_among_91 : decode cX67_among 91 = .ok (.goto 163, 3) := by decide +kernel
theorem dX67_among_94 : decode cX67_among 94 = .ok (.iload_n 2, 1) := by decide +kernel
theorem dX67_among_95 : decode cX67_among 95 = .ok (.bipush 20, 2) := by decide +kernel
theorem dX67_among_97 : decode cX67_among 97 = .ok (.if_icmp .ne 71, 3) := by decide +kernel
theorem dX67_among_100 : decode cX67_among 100 = .ok (.aload_n 0, 1) := by decide +kernel
theorem dX67_among_101 : decode cX67_among 101 = .ok (.getfield 89, 3) := by decide +kernel
theorem dX67_among_104 : decode cX67_among 104 = .ok (.iload_n 1, 1) := by decide +kernel
theorem dX67_among_105 : decode cX67_among 105 = .ok (.aload_n 0, 1) := by decide +kernel
theorem dX67_among_106 : decode cX67_among 106 = .ok (.getfield 152, 3) := by decide +kernel
theorem dX67_among_109 : decode cX67_among 109 = .ok (.bipush 8, 2) := by decide +kernel
theorem dX67_among_111 : decode cX67_among 111 = .ok (.iload_n 1, 1) := by decide +kernel
theorem dX67_among_112 : decode cX67_among 112 = .ok (.imul, 1) := by decide +kernel
theorem dX67_among_113 : decode cX67_among 113 = .ok (.laload, 1) := by decide +kernel
theorem dX67_among_114 : decode cX67_among 114 = .ok (.lastore, 1) := by decide +kernel
theorem dX67_among_115 : decode cX67_among 115 = .ok (.aload_n 0, 1) := by decide +kernel
theorem dX67_among_116 : decode cX67_among 116 = .ok (.getfield 149, 3) := by decide +kernel
theorem dX67_among_119 : decode cX67_among 119 = .ok (.iload_n 1, 1) := by decide +kernel
theorem dX67_among_120 : decode cX67_among 120 = .ok (.dup2, 1) := by decide +kernel
theorem dX67_among_121 : decode cX67_among 121 = .ok (.iaload, 1) := by decide +kernel
theorem dX67_among_122 : decode cX67_among 122 = .ok (.iconst 1, 1) := by decide +kernel
theorem dX67_among_123 : decode cX67_among 123 = .ok (.isub, 1) := by decide +kernel
theorem dX67_among_124 : decode cX67_among 124 = .ok (.iastore, 1) := by decide +kernel
theorem dX67_among_125 : decode cX67_among 125 = .ok (.bipush 8, 2) := by decide +kernel
theorem dX67_among_127 : decode cX67_among 127 = .ok (.iload_n 1, 1) := by decide +kernel
theorem dX67_among_128 : decode cX67_among 128 = .ok (.imul, 1) := by decide +kernel
theorem dX67_among_129 : decode cX67_among 129 = .ok (.istore_n 3, 1) := by decide +kernel
theorem dX67_among_130 : decode cX67_among 130 = .ok (.iload_n 3, 1) := by decide +kernel
theorem dX67_among_131 : decode cX67_among 131 = .ok (.bipush 8, 2) := by decide +kernel
theorem dX67_among_133 : decode cX67_among 133 = .ok (.iload_n 1, 1) := by decide +kernel
theorem dX67_among_134 : decode cX67_among 134 = .ok (.imul, 1) := by decide +kernel
theorem dX67_among_135 : decode cX67_among 135 = .ok (.aload_n 0, 1) := by decide +kernel
theorem dX67_among_136 : decode cX67_among 136 = .ok (.getfield 149, 3) := by decide +kernel
theorem dX67_among_139 : decode cX67_among 139 = .ok (.iload_n 1, 1) := by decide +kernel
theorem dX67_among_140 : decode cX67_among 140 = .ok (.iaload, 1) := by decide +kernel
theorem dX67_among_141 : decode cX67_among 141 = .ok (.iadd, 1) := by decide +kernel
theorem dX67_among_142 : decode cX67_among 142 = .ok (.if_icmp .ge 23, 3) := by decide +kernel
theorem dX67_among_145 : decode cX67_among 145 = .ok (.aload_n 0, 1) := by decide +kernel
theorem dX67_among_146 : decode cX67_among 146 = .ok (.getfield 152, 3) := by decide +kernel
theorem dX67_among_149 : decode cX67_among 149 = .ok (.iload_n 3, 1) := by decide +kernel
theorem dX67_among_150 : decode cX67_among 150 = .ok (.aload_n 0, 1) := by decide +kernel
theorem dX67_among_151 : decode cX67_among 151 = .ok (.getfield 152, 3) := by decide +kernel
theorem dX67_among_154 : decode cX67_among 154 = .ok (.iload_n 3, 1) := by decide +kernel
theorem dX67_among_155 : decode cX67_among 155 = .ok (.iconst 1, 1) := by decide +kernel
theorem dX67_among_156 : decode cX67_among 156 = .ok (.iadd, 1) := by decide +kernel
theorem dX67_among_157 : decode cX67_among 157 = .ok (.laload, 1) := by decide +kernel
theorem dX67_among_158 : decode cX67_among 158 = .ok (.lastore, 1) := by decide +kernel
theorem dX67_among_159 : decode cX67_among 159 = .ok (.iinc 3 1, 3) := by decide +kernel
theorem dX67_among_162 : decode cX67_among 162 = .ok (.goto (-32), 3) := by decide +kernel
theorem dX67_among_165 : decode cX67_among 165 = .ok (.goto 89, 3) := by decide +kernel
theorem dX67_among_168 : decode cX67_among 168 = .ok (.iload_n 2, 1) := by decide +kernel
theorem dX67_among_169 : decode cX67_among 169 = .ok (.bipush 21, 2) := by decide +kernel
theorem dX67_among_171 : decode cX67_among 171 = .ok (.if_icmp .ne 19, 3) := by decide +kernel
theorem dX67_among_174 : decode cX67_among 174 = .ok (.aload_n 0, 1) := by decide +kernel
theorem dX67_among_175 : decode cX67_among 175 = .ok (.getfield 89, 3) := by decide +kernel
theorem dX67_among_178 : decode cX67_among 178 = .ok (.iload_n 1, 1) := by decide +kernel
theorem dX67_among_179 : decode cX67_among 179 = .ok (.aload_n 0, 1) := by decide +kernel
theorem dX67_among_180 : decode cX67_among 180 = .ok (.getfield 119, 3) := by decide +kernel
theorem dX67_among_183 : decode cX67_among 183 = .ok (.iload_n 1, 1) := by decide +kernel
theorem dX67_among_184 : decode cX67_among 184 = .ok (.iaload, 1) := by decide +kernel
theorem dX67_among_185 : decode cX67_among 185 = .ok (.i2l, 1) := by decide +kernel
theorem dX67_among_186 : decode cX67_among 186 = .ok (.lastore, 1) := by decide +kernel
theorem dX67_among_187 : decode cX67_among 187 = .ok (.goto 67, 3) := by decide +kernel
theorem dX67_among_190 : decode cX67_among 190 = .ok (.iload_n 2, 1) := by decide +kernel
theorem dX67_among_191 : decode cX67_among 191 = .ok (.bipush 22, 2) := by decide +kernel
theorem dX67_among_193 : decode cX67_among 193 = .ok (.if_icmp .ne 55, 3) := by decide +kernel
theorem dX67_among_196 : decode cX67_among 196 = .ok (.aload_n 0, 1) := by decide +kernel
theorem dX67_among_197 : decode cX67_among 197 = .ok (.getfield 89, 3) := by decide +kernel
theorem dX67_among_200 : decode cX67_among 200 = .ok (.iload_n 1, 1) := by decide +kernel
theorem dX67_among_201 : decode cX67_among 201 = .ok (.aload_n 0, 1) := by decide +kernel
theorem dX67_among_202 : decode cX67_among 202 = .ok (.getfield 77, 3) := by decide +kernel
theorem dX67_among_205 : decode cX67_among 205 = .ok (.iload_n 1, 1) := by decide +kernel
theorem dX67_among_206 : decode cX67_among 206 = .ok (.iaload, 1) := by decide +kernel
theorem dX67_among_207 : decode cX67_among 207 = .ok (.i2l, 1) := by decide +kernel
theorem dX67_among_208 : decode cX67_among 208 = .ok (.ldc2_w 409, 3) := by decide +kernel
theorem dX67_among_211 : decode cX67_among 211 = .ok (.aload_n 0, 1) := by decide +kernel
theorem dX67_among_212 : decode cX67_among 212 = .ok (.getfield 80, 3) := by decide +kernel
theorem dX67_among_215 : decode cX67_among 215 = .ok (.iload_n 1, 1) := by decide +kernel
theorem dX67_among_216 : decode cX67_among 216 = .ok (.iaload, 1) := by decide +kernel
theorem dX67_among_217 : decode cX67_among 217 = .ok (.i2l, 1) := by decide +kernel
theorem dX67_among_218 : decode cX67_among 218 = .ok (.lmul, 1) := by decide +kernel
theorem dX67_among_219 : decode cX67_among 219 = .ok (.ladd, 1) := by decide +kernel
theorem dX67_among_220 : decode cX67_among 220 = .ok (.ldc2_w 721, 3) := by decide +kernel
theorem dX67_among_223 : decode cX67_among 223 = .ok (.aload_n 0, 1) := by decide +kernel
theorem dX67_among_224 : decode cX67_among 224 = .ok (.getfield 83, 3) := by decide +kernel
theorem dX67_among_227 : decode cX67_among 227 = .ok (.iload_n 1, 1) := by decide +kernel
theorem dX67_among_228 : decode cX67_among 228 = .ok (.iaload, 1) := by decide +kernel
theorem dX67_among_229 : decode cX67_among 229 = .ok (.i2l, 1) := by decide +kernel
theorem dX67_among_230 : decode cX67_among 230 = .ok (.lmul, 1) := by decide +kernel
theorem dX67_among_231 : decode cX67_among 231 = .ok (.ladd, 1) := by decide +kernel
theorem dX67_among_232 : decode cX67_among 232 = .ok (.ldc2_w 775, 3) := by decide +kernel
theorem dX67_among_235 : decode cX67_among 235 = .ok (.aload_n 0, 1) := by decide +kernel
theorem dX67_among_236 : decode cX67_among 236 = .ok (.getfield 110, 3) := by decide +kernel
theorem dX67_among_239 : decode cX67_among 239 = .ok (.iload_n 1, 1) := by decide +kernel
theorem dX67_among_240 : decode cX67_among 240 = .ok (.iaload, 1) := by decide +kernel
theorem dX67_among_241 : decode cX67_among 241 = .ok (.i2l, 1) := by decide +kernel
theorem dX67_among_242 : decode cX67_among 242 = .ok (.lmul, 1) := by decide +kernel
theorem dX67_among_243 : decode cX67_among 243 = .ok (.ladd, 1) := by decide +kernel
theorem dX67_among_244 : decode cX67_among 244 = .ok (.lastore, 1) := by decide +kernel
theorem dX67_among_245 : decode cX67_among 245 = .ok (.goto 9, 3) := by decide +kernel
theorem dX67_among_248 : decode cX67_among 248 = .ok (.aload_n 0, 1) := by decide +kernel
theorem dX67_among_249 : decode cX67_among 249 = .ok (.iload_n 1, 1) := by decide +kernel
theorem dX67_among_250 : decode cX67_among 250 = .ok (.invokevirtual 777, 3) := by decide +kernel
theorem dX67_among_253 : decode cX67_among 253 = .ok (.ireturn, 1) := by decide +kernel
theorem dX67_among_254 : decode cX67_among 254 = .ok (.iconst 0, 1) := by decide +kernel
theorem dX67_among_255 : decode cX67_among 255 = .ok (.ireturn, 1) := by decide +kernel
theorem zy_X67_among : yX67_among.cls ≠ "java/lang/invoke/MethodHandle" ∧ yX67_among.cls ≠ "java/lang/invoke/VarHandle" ∧ (parseMethodDescriptor yX67_among.desc).map (fun d => d.parameters.length) = some 2 := by decide +kernel
theorem w_fX67_among_B130 {K : zK} (E : zE K cX67_among "RingHouseModel" (some .int) 3) (hN : zNl K = 4) (hT : zTr K = (some 0)) (x1 : Int) : ∀ r130 : Int → zX, (∀ s : Int, zR K 130 [(0, 69, 0), (1, 0, x1), (3, 0, s)] [] (r130 s)) → ∀ s : Int, zR K 130 [(0, 69, 0), (1, 0, x1), (3, 0, s)] [] (fX67_among_B130 x1 r130 s) := by
  intro r130 hr130 x3
  refine r_iload_n E dX67_among_130 rfl 2 rfl ?_
  refine r_bipush E dX67_among_131 (by decide) (zkI (by decide) (by decide)) ?_
  refine r_iload_n E dX67_among_133 rfl 1 rfl ?_
  refine r_imul E dX67_among_134 ?_
  refine r_aload_n E dX67_among_135 rfl 0 rfl ?_
  refine r_gec (y := 0) E zc_69 dX67_among_136 q3261 zr_69 (zh_6846 (by decide)) (by decide) ?_
  refine r_iload_n E dX67_among_139 rfl 1 rfl ?_
  refine r_iaload E zc_6846 za_6846 zt_6846 zx_6846 rfl rfl dX67_among_140 (by decide) (fun v10 => ?_)
  refine r_iadd E dX67_among_141 ?_
  refine r_icmp_ge E 165 (by decide) dX67_among_142 (fun _ => ?_) (fun _ => ?_)
  · refine r_goto E 254 (by decide) dX67_among_165 ?_
    refine r_iconst E dX67_among_254 (zkI (by decide) (by decide)) ?_
    exact r_ireturn E rfl hT dX67_among_255
  · refine r_aload_n E dX67_among_145 rfl 0 rfl ?_
    refine r_gec (y := 0) E zc_69 dX67_among_146 q3262 zr_69 (zh_6847 (by decide)) (by decide) ?_
    refine r_iload_n E dX67_among_149 rfl 2 rfl ?_
    refine r_aload_n E dX67_among_150 rfl 0 rfl ?_
    refine r_gec (y := 0) E zc_69 dX67_among_151 q3262 zr_69 (zh_6847 (by decide)) (by decide) ?_
    refine r_iload_n E dX67_among_154 rfl 2 rfl ?_
    refine r_iconst E dX67_among_155 (zkI (by decide) (by decide)) ?_
    refine r_iadd E dX67_among_156 ?_
    refine r_laload E zc_6847 za_6847 zt_6847 zx_6847 rfl rfl dX67_among_157 (by decide) (fun v11 => ?_)
    refine r_lastore E zc_6847 za_6847 zt_6847 zo_6847 zx_6847 rfl rfl dX67_among_158 (by decide) ?_
    refine r_iinc (ls' := fun v12 => [(3, 0, v12), (0, 69, 0), (1, 0, x1)]) E 2 rfl (by rw [hN]; decide) (fun _ => rfl) dX67_among_159 (fun v12 _ => ?_)
    refine r_goto E 130 (by decide) dX67_among_162 ?_
    refine r_pick E [1, 2, 0] rfl ?_
    exact hr130 v12
theorem w_fX67_among {K : zK} (E : zE K cX67_among "RingHouseModel" (some .int) 3) (hN : zNl K = 4) (hT : zTr K = (some 0)) (x1 : Int) (x2 : Int) : zR K 0 [(0, 69, 0), (1, 0, x1), (2, 0, x2)] [] (fX67_among x1 x2) := by
  refine r_iload_n E dX67_among_0 rfl 2 rfl ?_
  refine r_bipush E dX67_among_1 (by decide) (zkI (by decide) (by decide)) ?_
  refine r_icmp_ne E 94 (by decide) dX67_among_3 (fun _ => ?_) (fun _ => ?_)
  · refine r_iload_n E dX67_among_94 rfl 2 rfl ?_
    refine r_bipush E dX67_among_95 (by decide) (zkI (by decide) (by decide)) ?_
    refine r_icmp_ne E 168 (by decide) dX67_among_97 (fun _ => ?_) (fun _ => ?_)
    · refine r_iload_n E dX67_among_168 rfl 2 rfl ?_
      refine r_bipush E dX67_among_169 (by decide) (zkI (by decide) (by decide)) ?_
      refine r_icmp_ne E 190 (by decide) dX67_among_171 (fun _ => ?_) (fun _ => ?_)
      · refine r_iload_n E dX67_among_190 rfl 2 rfl ?_
        refine r_bipush E dX67_among_191 (by decide) (zkI (by decide) (by decide)) ?_
        refine r_icmp_ne E 248 (by decide) dX67_among_193 (fun _ => ?_) (fun _ => ?_)
        · refine r_aload_n E dX67_among_248 rfl 0 rfl ?_
          refine r_iload_n E dX67_among_249 rfl 1 rfl ?_
          refine r_callV E [(0, x1)] [] rfl zc_69 zr_69 (fun o _ => ⟨_, zw_X67.1 o, rfl⟩) (lw_V q4023 q4025 qs160 q294 q4026) dX67_among_250 zy_X67_doable rfl (by omega) (by decide) (Nat.le_of_ble_eq_true rfl) (by decide) (fun l G => k_fX67_doable l G x1) (fun v1 => ?_)
          exact r_ireturn E rfl hT dX67_among_253
        · refine r_aload_n E dX67_among_196 rfl 0 rfl ?_
          refine r_gec (y := 0) E zc_69 dX67_among_197 q3241 zr_69 (zh_6826 (by decide)) (by decide) ?_
          refine r_iload_n E dX67_among_200 rfl 1 rfl ?_
          refine r_aload_n E dX67_among_201 rfl 0 rfl ?_
          refine r_gec (y := 0) E zc_69 dX67_among_202 q3237 zr_69 (zh_6822 (by decide)) (by decide) ?_
          refine r_iload_n E dX67_among_205 rfl 1 rfl ?_
          refine r_iaload E zc_6822 za_6822 zt_6822 zx_6822 rfl rfl dX67_among_206 (by decide) (fun v2 => ?_)
          refine r_i2l E dX67_among_207 ?_
          refine r_ldc2 (v := 16) E dX67_among_208 q3691 (by decide) (zkJ (by decide) (by decide)) ?_
          refine r_aload_n E dX67_among_211 rfl 0 rfl ?_
          refine r_gec (y := 0) E zc_69 dX67_among_212 q3238 zr_69 (zh_6823 (by decide)) (by decide) ?_
          refine r_iload_n E dX67_among_215 rfl 1 rfl ?_
          refine r_iaload E zc_6823 za_6823 zt_6823 zx_6823 rfl rfl dX67_among_216 (by decide) (fun v3 => ?_)
          refine r_i2l E dX67_among_217 ?_
          refine r_lmul E dX67_among_218 ?_
          refine r_ladd E dX67_among_219 ?_
          refine r_ldc2 (v := 128) E dX67_among_220 q3984 (by decide) (zkJ (by decide) (by decide)) ?_
          refine r_aload_n E dX67_among_223 rfl 0 rfl ?_
          refine r_gec (y := 0) E zc_69 dX67_among_224 q3239 zr_69 (zh_6824 (by decide)) (by decide) ?_
          refine r_iload_n E dX67_among_227 rfl 1 rfl ?_
          refine r_iaload E zc_6824 za_6824 zt_6824 zx_6824 rfl rfl dX67_among_228 (by decide) (fun v4 => ?_)
          refine r_i2l E dX67_among_229 ?_
          refine r_lmul E dX67_among_230 ?_
          refine r_ladd E dX67_among_231 ?_
          refine r_ldc2 (v := 4096) E dX67_among_232 q4022 (by decide) (zkJ (by decide) (by decide)) ?_
          refine r_aload_n E dX67_among_235 rfl 0 rfl ?_
          refine r_gec (y := 0) E zc_69 dX67_among_236 q3248 zr_69 (zh_6833 (by decide)) (by decide) ?_
          refine r_iload_n E dX67_among_239 rfl 1 rfl ?_
          refine r_iaload E zc_6833 za_6833 zt_6833 zx_6833 rfl rfl dX67_among_240 (by decide) (fun v5 => ?_)
          refine r_i2l E dX67_among_241 ?_
          refine r_lmul E dX67_among_242 ?_
          refine r_ladd E dX67_among_243 ?_
          refine r_lastore E zc_6826 za_6826 zt_6826 zo_6826 zx_6826 rfl rfl dX67_among_244 (by decide) ?_
          refine r_goto E 254 (by decide) dX67_among_245 ?_
          refine r_iconst E dX67_among_254 (zkI (by decide) (by decide)) ?_
          exact r_ireturn E rfl hT dX67_among_255
      · refine r_aload_n E dX67_among_174 rfl 0 rfl ?_
        refine r_gec (y := 0) E zc_69 dX67_among_175 q3241 zr_69 (zh_6826 (by decide)) (by decide) ?_
        refine r_iload_n E dX67_among_178 rfl 1 rfl ?_
        refine r_aload_n E dX67_among_179 rfl 0 rfl ?_
        refine r_gec (y := 0) E zc_69 dX67_among_180 q3251 zr_69 (zh_6836 (by decide)) (by decide) ?_
        refine r_iload_n E dX67_among_183 rfl 1 rfl ?_
        refine r_iaload E zc_6836 za_6836 zt_6836 zx_6836 rfl rfl dX67_among_184 (by decide) (fun v6 => ?_)
        refine r_i2l E dX67_among_185 ?_
        refine r_lastore E zc_6826 za_6826 zt_6826 zo_6826 zx_6826 rfl rfl dX67_among_186 (by decide) ?_
        refine r_goto E 254 (by decide) dX67_among_187 ?_
        refine r_iconst E dX67_among_254 (zkI (by decide) (by decide)) ?_
        exact r_ireturn E rfl hT dX67_among_255
    · refine r_aload_n E dX67_among_100 rfl 0 rfl ?_
      refine r_gec (y := 0) E zc_69 dX67_among_101 q3241 zr_69 (zh_6826 (by decide)) (by decide) ?_
      refine r_iload_n E dX67_among_104 rfl 1 rfl ?_
      refine r_aload_n E dX67_among_105 rfl 0 rfl ?_
      refine r_gec (y := 0) E zc_69 dX67_among_106 q3262 zr_69 (zh_6847 (by decide)) (by decide) ?_
      refine r_bipush E dX67_among_109 (by decide) (zkI (by decide) (by decide)) ?_
      refine r_iload_n E dX67_among_111 rfl 1 rfl ?_
      refine r_imul E dX67_among_112 ?_
      refine r_laload E zc_6847 za_6847 zt_6847 zx_6847 rfl rfl dX67_among_113 (by decide) (fun v7 => ?_)
      refine r_lastore E zc_6826 za_6826 zt_6826 zo_6826 zx_6826 rfl rfl dX67_among_114 (by decide) ?_
      refine r_aload_n E dX67_among_115 rfl 0 rfl ?_
      refine r_gec (y := 0) E zc_69 dX67_among_116 q3261 zr_69 (zh_6846 (by decide)) (by decide) ?_
      refine r_iload_n E dX67_among_119 rfl 1 rfl ?_
      refine r_dup22 E (zn1 rfl) (zn1 rfl) dX67_among_120 ?_
      refine r_iaload E zc_6846 za_6846 zt_6846 zx_6846 rfl rfl dX67_among_121 (by decide) (fun v8 => ?_)
      refine r_iconst E dX67_among_122 (zkI (by decide) (by decide)) ?_
      refine r_isub E dX67_among_123 ?_
      refine r_iastore E zc_6846 za_6846 zt_6846 zo_6846 zx_6846 rfl rfl dX67_among_124 (by decide) ?_
      refine r_bipush E dX67_among_125 (by decide) (zkI (by decide) (by decide)) ?_
      refine r_iload_n E dX67_among_127 rfl 1 rfl ?_
      refine r_imul E dX67_among_128 ?_
      refine r_let E (fun v9 ev9 => ?_)
      refine r_istore_n (ls' := [(3, 0, v9), (0, 69, 0), (1, 0, x1), (2, 0, x2)]) E dX67_among_129 rfl (by rw [hN]; decide) rfl ?_
      refine r_pick E [1, 2, 0] rfl ?_
      exact r_loop (L := fun s => [(0, 69, 0), (1, 0, x1), (3, 0, s)]) (w_fX67_among_B130 E hN hT x1) zBIG v9
  · refine r_aload_n E dX67_among_6 rfl 0 rfl ?_
    refine r_gec (y := 0) E zc_69 dX67_among_7 q3242 zr_69 (zh_6827 (by decide)) (by decide) ?_
    refine r_iconst E dX67_among_10 (zkI (by decide) (by decide)) ?_
    refine r_iload_n E dX67_among_11 rfl 1 rfl ?_
    refine r_imul E dX67_among_12 ?_
    refine r_iaload E zc_6827 za_6827 zt_6827 zx_6827 rfl rfl dX67_among_13 (by decide) (fun v13 => ?_)
    refine r_istore_n (ls' := [(3, 0, v13), (0, 69, 0), (1, 0, x1), (2, 0, x2)]) E dX67_among_14 rfl (by rw [hN]; decide) rfl ?_
    refine r_iload_n E dX67_among_15 rfl 0 rfl ?_
    refine r_bipush E dX67_among_16 (by decide) (zkI (by decide) (by decide)) ?_
    refine r_icmp_ge E 91 (by decide) dX67_among_18 (fun _ => ?_) (fun _ => ?_)
    · refine r_goto E 254 (by decide) dX67_among_91 ?_
      refine r_iconst E dX67_among_254 (zkI (by decide) (by decide)) ?_
      exact r_ireturn E rfl hT dX67_among_255
    · refine r_aload_n E dX67_among_21 rfl 1 rfl ?_
      refine r_gec (y := 0) E zc_69 dX67_among_22 q3235 zr_69 (zh_6820 (by decide)) (by decide) ?_
      refine r_iload_n E dX67_among_25 rfl 0 rfl ?_
      refine r_baloadz E zc_6820 za_6820 zt_6820 zx_6820 rfl rfl dX67_among_26 (by decide) (fun v14 => ?_)
      refine r_if_eq E 91 (by decide) dX67_among_27 (fun _ => ?_) (fun _ => ?_)
      · refine r_goto E 254 (by decide) dX67_among_91 ?_
        refine r_iconst E dX67_among_254 (zkI (by decide) (by decide)) ?_
        exact r_ireturn E rfl hT dX67_among_255
      · refine r_aload_n E dX67_among_30 rfl 1 rfl ?_
        refine r_gec (y := 0) E zc_69 dX67_among_31 q3239 zr_69 (zh_6824 (by decide)) (by decide) ?_
        refine r_iload_n E dX67_among_34 rfl 0 rfl ?_
        refine r_iaload E zc_6824 za_6824 zt_6824 zx_6824 rfl rfl dX67_among_35 (by decide) (fun v15 => ?_)
        refine r_aload_n E dX67_among_36 rfl 1 rfl ?_
        refine r_gec (y := 0) E zc_69 dX67_among_37 q3239 zr_69 (zh_6824 (by decide)) (by decide) ?_
        refine r_iload_n E dX67_among_40 rfl 2 rfl ?_
        refine r_iaload E zc_6824 za_6824 zt_6824 zx_6824 rfl rfl dX67_among_41 (by decide) (fun v16 => ?_)
        refine r_callS E [(0, v15), (0, v16)] [] rfl q3632 q3633 q294 q3634 dX67_among_42 zy_X67_dominates rfl (by omega) (by decide) (Nat.le_of_ble_eq_true rfl) (fun l G => k_fX67_dominates l G v15 v16) (fun v17 => ?_)
        refine r_if_eq E 91 (by decide) dX67_among_45 (fun _ => ?_) (fun _ => ?_)
        · refine r_goto E 254 (by decide) dX67_among_91 ?_
          refine r_iconst E dX67_among_254 (zkI (by decide) (by decide)) ?_
          exact r_ireturn E rfl hT dX67_among_255
        · refine r_aload_n E dX67_among_48 rfl 1 rfl ?_
          refine r_gec (y := 0) E zc_69 dX67_among_49 q3261 zr_69 (zh_6846 (by decide)) (by decide) ?_
          refine r_iload_n E dX67_among_52 rfl 0 rfl ?_
          refine r_iaload E zc_6846 za_6846 zt_6846 zx_6846 rfl rfl dX67_among_53 (by decide) (fun v18 => ?_)
          refine r_bipush E dX67_among_54 (by decide) (zkI (by decide) (by decide)) ?_
          refine r_icmp_ge E 91 (by decide) dX67_among_56 (fun _ => ?_) (fun _ => ?_)
          · refine r_goto E 254 (by decide) dX67_among_91 ?_
            refine r_iconst E dX67_among_254 (zkI (by decide) (by decide)) ?_
            exact r_ireturn E rfl hT dX67_among_255
          · refine r_aload_n E dX67_among_59 rfl 1 rfl ?_
            refine r_gec (y := 0) E zc_69 dX67_among_60 q3262 zr_69 (zh_6847 (by decide)) (by decide) ?_
            refine r_bipush E dX67_among_63 (by decide) (zkI (by decide) (by decide)) ?_
            refine r_iload_n E dX67_among_65 rfl 0 rfl ?_
            refine r_imul E dX67_among_66 ?_
            refine r_aload_n E dX67_among_67 rfl 1 rfl ?_
            refine r_gec (y := 0) E zc_69 dX67_among_68 q3261 zr_69 (zh_6846 (by decide)) (by decide) ?_
            refine r_iload_n E dX67_among_71 rfl 0 rfl ?_
            refine r_iaload E zc_6846 za_6846 zt_6846 zx_6846 rfl rfl dX67_among_72 (by decide) (fun v19 => ?_)
            refine r_iadd E dX67_among_73 ?_
            refine r_aload_n E dX67_among_74 rfl 1 rfl ?_
            refine r_gec (y := 0) E zc_69 dX67_among_75 q3241 zr_69 (zh_6826 (by decide)) (by decide) ?_
            refine r_iload_n E dX67_among_78 rfl 2 rfl ?_
            refine r_laload E zc_6826 za_6826 zt_6826 zx_6826 rfl rfl dX67_among_79 (by decide) (fun v20 => ?_)
            refine r_lastore E zc_6847 za_6847 zt_6847 zo_6847 zx_6847 rfl rfl dX67_among_80 (by decide) ?_
            refine r_aload_n E dX67_among_81 rfl 1 rfl ?_
            refine r_gec (y := 0) E zc_69 dX67_among_82 q3261 zr_69 (zh_6846 (by decide)) (by decide) ?_
            refine r_iload_n E dX67_among_85 rfl 0 rfl ?_
            refine r_dup22 E (zn1 rfl) (zn1 rfl) dX67_among_86 ?_
            refine r_iaload E zc_6846 za_6846 zt_6846 zx_6846 rfl rfl dX67_among_87 (by decide) (fun v21 => ?_)
            refine r_iconst E dX67_among_88 (zkI (by decide) (by decide)) ?_
            refine r_iadd E dX67_among_89 ?_
            refine r_iastore E zc_6846 za_6846 zt_6846 zo_6846 zx_6846 rfl rfl dX67_among_90 (by decide) ?_
            refine r_goto E 254 (by decide) dX67_among_91 ?_
            refine r_iconst E dX67_among_254 (zkI (by decide) (by decide)) ?_
            exact r_ireturn E rfl hT dX67_among_255
theorem k_fX67_among (l : Launch) (G : zG) (x1 : Int) (x2 : Int) : zCt l G yX67_among cX67_among 4 (some .int) 3 [(69, 0), (0, x1), (0, x2)] (some 0) (fX67_among x1 x2) := zCt.of (by decide) (Nat.le_of_ble_eq_true rfl) (fun K E _ _ hN hT => w_fX67_among E hN hT x1 x2)
