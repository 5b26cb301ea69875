set_option maxRecDepth 100000
theorem dX65_reload_0 : decode cX65_reload 0 = .ok (.aload_n 0, 1) := by decide +kernel
theorem dX65_reload_1 : decode cX65_reload 1 = .ok (.aload_n 1, 1) := by decide +kernel
theorem dX65_reload_2 : decode cX65_reload 2 = .ok (.invokevirtual 278, 3) := by decide +kernel
theorem dX65_reload_5 : decode cX65_reload 5 = .ok (.ifCond .ne 11, 3) := by decide +kernel
theorem dX65_reload_8 : decode cX65_reload 8 = .ok (.bipush (-10), 2) := by decide +kernel
theorem dX65_reload_10 : decode cX65_reload 10 = .ok (.aload_n 0, 1) := by decide +kernel
theorem dX65_reload_11 : decode cX65_reload 11 = .ok (.getfield 160, 3) := by decide +kernel
theorem dX65_reload_14 : decode cX65_reload 14 = .ok (.isub, 1) := by decide +kernel
theorem dX65_reload_15 : decode cX65_reload 15 = .ok (.ireturn, 1) := by decide +kernel
theorem dX65_reload_16 : decode cX65_reload 16 = .ok (.aload_n 0, 1) := by decide +kernel
theorem dX65_reload_17 : decode cX65_reload 17 = .ok (.iconst 3, 1) := by decide +kernel
theorem dX65_reload_18 : decode cX65_reload 18 = .ok (.putfield 166, 3) := by decide +kernel
theorem dX65_reload_21 : decode cX65_reload 21 = .ok (.aload_n 0, 1) := by decide +kernel
theorem dX65_reload_22 : decode cX65_reload 22 = .ok (.aload_n 1, 1) := by decide +kernel
theorem dX65_reload_23 : decode cX65_reload 23 = .ok (.lload_n 2, 1) := by decide +kernel
theorem dX65_reload_24 : decode cX65_reload 24 = .ok (.invokevirtual 255, 3) := by decide +kernel
theorem dX65_reload_27 : decode cX65_reload 27 = .ok (.astore 4, 2) := by decide +kernel
theorem dX65_reload_29 : decode cX65_reload 29 = .ok (.aload_n 0, 1) := by decide +kernel
theorem dX65_reload_30 : decode cX65_reload 30 = .ok (.getfield 42, 3) := by decide +kernel
theorem dX65_reload_33 : decode cX65_reload 33 = .ok (.dup, 1) := by decide +kernel
theorem dX65_reload_34 : decode cX65_reload 34 = .ok (.getfield 282, 3) := by decide +kernel
theorem dX65_reload_37 : decode cX65_reload 37 = .ok (.iconst 1, 1) := by decide +kernel
theorem dX65_reload_38 : decode cX65_reload 38 = .ok (.iadd, 1) := by decide +kernel
theorem dX65_reload_39 : decode cX65_reload 39 = .ok (.putfield 282, 3) := by decide +kernel
theorem dX65_reload_42 : decode cX65_reload 42 = .ok (.aload 4, 2) := by decide +kernel
theorem dX65_reload_44 : decode cX65_reload 44 = .ok (.getfield 285, 3) := by decide +kernel
theorem dX65_reload_47 : decode cX65_reload 47 = .ok (.ireturn, 1) := by decide +kernel
theorem zy_X65_reload : yX65_reload.cls ≠ "java/lang/invoke/MethodHandle" ∧ yX65_reload.cls ≠ "java/lang/invoke/VarHandle" ∧ (parseMethodDescriptor yX65_reload.desc).map (fun d => d.parameters.length) = some 2 := by decide +kernel
theorem w_fX65_reload {K : zK} (E : zE K cX65_reload "RingHouse$Tape" (some .int) 306) (hN : zNl K = 5) (hT : zTr K = (some 0)) (x1 : Int) (x2 : Int) : zR K 0 [(0, 67, 0), (1, 6, x1), (2, 1, x2)] [] (fX65_reload x1 x2) := by
  refine r_aload_n E dX65_reload_0 rfl 0 rfl ?_
  refine r_aload_n E dX65_reload_1 rfl 1 rfl ?_
  refine r_callV E [(6, x1)] [] rfl zc_67 zr_67 (fun o _ => ⟨_, zw_X65.1 o, rfl⟩) (lw_V q3082 q3084 qs76 q292 q3085) dX65_reload_2 zy_X65_isSound rfl (by omega) (by decide) (Nat.le_of_ble_eq_true rfl) (by decide) (fun l G => k_fX65_isSound l G x1) (fun v1 => ?_)
  refine r_if_ne E 16 (by decide) dX65_reload_5 (fun _ => ?_) (fun _ => ?_)
  · refine r_aload_n E dX65_reload_16 rfl 0 rfl ?_
    refine r_iconst E dX65_reload_17 (zkI (by decide) (by decide)) ?_
    refine r_put E zc_67 zt_6603 zo_6603 dX65_reload_18 q1718 zr_67 zw_X65 zp_6603 (fun _ => rfl) (fun _ => rfl) (by decide) ?_
    refine r_aload_n E dX65_reload_21 rfl 0 rfl ?_
    refine r_aload_n E dX65_reload_22 rfl 1 rfl ?_
    refine r_lload_n E dX65_reload_23 rfl 2 rfl ?_
    refine r_callV E [(6, x1), (1, x2)] [] rfl zc_67 zr_67 (fun o _ => ⟨_, zw_X65.1 o, rfl⟩) (lw_V q3141 q3143 qs89 q292 q3144) dX65_reload_24 zy_X65_makeNode rfl (by omega) (by decide) (Nat.le_of_ble_eq_true rfl) (by decide) (fun l G => k_fX65_makeNode l G x1 x2) (fun v2 => ?_)
    refine r_astore (ls' := [(4, 6, v2), (0, 67, 0), (1, 6, x1), (2, 1, x2)]) E dX65_reload_27 (by rw [hN]; decide) rfl ?_
    refine r_aload_n E dX65_reload_29 rfl 1 rfl ?_
    refine r_gec (y := 0) E zc_67 dX65_reload_30 q1713 zr_67 (zh_6600 (by decide)) (by decide) ?_
    refine r_dup E (zn1 rfl) dX65_reload_33 ?_
    refine r_getN E zc_3 zt_207 dX65_reload_34 q605 zr_3 (zg_207 _) (by decide) (fun v3 => ?_)
    refine r_iconst E dX65_reload_37 (zkI (by decide) (by decide)) ?_
    refine r_iadd E dX65_reload_38 ?_
    refine r_putN E zc_3 zt_207 zo_207 dX65_reload_39 q605 zr_3 zw_X1 zp_207 (fun _ => rfl) (fun _ => rfl) (by decide) ?_
    refine r_aload E dX65_reload_42 0 rfl ?_
    refine r_nn E (fun hn4 => ?_)
    refine r_gecN (y := v2) E zc_6 dX65_reload_44 q375 zr_6 (zh_500 (by omega)) hn4 ?_
    exact r_ireturn E rfl hT dX65_reload_47
  · refine r_bipush E dX65_reload_8 (by decide) (zkI (by decide) (by decide)) ?_
    refine r_aload_n E dX65_reload_10 rfl 0 rfl ?_
    refine r_get E zc_67 zt_6604 dX65_reload_11 q1719 zr_67 (zg_6604 _) (by decide) (fun v5 => ?_)
    refine r_isub E dX65_reload_14 ?_
    exact r_ireturn E rfl hT dX65_reload_15
theorem k_fX65_reload (l : Launch) (G : zG) (x1 : Int) (x2 : Int) : zCt l G yX65_reload cX65_reload 5 (some .int) 306 [(67, 0), (6, x1), (1, x2)] (some 0) (fX65_reload x1 x2) := zCt.of (by decide) (Nat.le_of_ble_eq_true rfl) (fun K E _ _ hN hT => w_fX65_reload E hN hT x1 x2)
theorem dX0_reload_0 : decode cX0_reload 0 = .ok (.aload_n 0, 1) := by decide +kernel
theorem dX0_reload_1 : decode cX0_reload 1 = .ok (.getfield 42, 3) := by decide +kernel
theorem dX0_reload_4 : decode cX0_reload 4 = .ok (.iload_n 1, 1) := by decide +kernel
theorem dX0_reload_5 : decode cX0_reload 5 = .ok (.invokevirtual 115, 3) := by decide +kernel
theorem dX0_reload_8 : decode cX0_reload 8 = .ok (.astore 4, 2) := by decide +kernel
theorem dX0_reload_10 : decode cX0_reload 10 = .ok (.aload 4, 2) := by decide +kernel
theorem dX0_reload_12 : decode cX0_reload 12 = .ok (.ifnull 10, 3) := by decide +kernel
theorem dX0_reload_15 : decode cX0_reload 15 = .ok (.lload_n 2, 1) := by decide +kernel
theorem dX0_reload_16 : decode cX0_reload 16 = .ok (.invokestatic 119, 3) := by decide +kernel
theorem dX0_reload_19 : decode cX0_reload 19 = .ok (.ifCond .ne 6, 3) := by decide +kernel
theorem dX0_reload_22 : decode cX0_reload 22 = .ok (.bipush (-8), 2) := by decide +kernel
theorem dX0_reload_24 : decode cX0_reload 24 = .ok (.ireturn, 1) := by decide +kernel
theorem dX0_reload_25 : decode cX0_reload 25 = .ok (.aload_n 0, 1) := by decide +kernel
theorem dX0_reload_26 : decode cX0_reload 26 = .ok (.getfield 42, 3) := by decide +kernel
theorem dX0_reload_29 : decode cX0_reload 29 = .ok (.getfield 210, 3) := by decide +kernel
theorem dX0_reload_32 : decode cX0_reload 32 = .ok (.aload 4, 2) := by decide +kernel
theorem dX0_reload_34 : decode cX0_reload 34 = .ok (.lload_n 2, 1) := by decide +kernel
theorem dX0_reload_35 : decode cX0_reload 35 = .ok (.invokevirtual 217, 3) := by decide +kernel
theorem dX0_reload_38 : decode cX0_reload 38 = .ok (.ifnull 6, 3) := by decide +kernel
theorem dX0_reload_41 : decode cX0_reload 41 = .ok (.bipush (-6), 2) := by decide +kernel
theorem dX0_reload_43 : decode cX0_reload 43 = .ok (.ireturn, 1) := by decide +kernel
theorem dX0_reload_44 : decode cX0_reload 44 = .ok (.aload_n 0, 1) := by decide +kernel
theorem dX0_reload_45 : decode cX0_reload 45 = .ok (.getfield 98, 3) := by decide +kernel
theorem dX0_reload_48 : decode cX0_reload 48 = .ok (.aload 4, 2) := by decide +kernel
theorem dX0_reload_50 : decode cX0_reload 50 = .ok (.lload_n 2, 1) := by decide +kernel
theorem dX0_reload_51 : decode cX0_reload 51 = .ok (.invokevirtual 480, 3) := by decide +kernel
theorem dX0_reload_54 : decode cX0_reload 54 = .ok (.istore 5, 2) := by decide +kernel
theorem dX0_reload_56 : decode cX0_reload 56 = .ok (.aload_n 0, 1) := by decide +kernel
theorem dX0_reload_57 : decode cX0_reload 57 = .ok (.iload 5, 2) := by decide +kernel
theorem dX0_reload_59 : decode cX0_reload 59 = .ok (.ifCond .ge 13, 3) := by decide +kernel
theorem dX0_reload_62 : decode cX0_reload 62 = .ok (.aload_n 0, 1) := by decide +kernel
theorem dX0_reload_63 : decode cX0_reload 63 = .ok (.getfield 98, 3) := by decide +kernel
theorem dX0_reload_66 : decode cX0_reload 66 = .ok (.getfield 483, 3) := by decide +kernel
theorem dX0_reload_69 : decode cX0_reload 69 = .ok (.goto 4, 3) := by decide +kernel
theorem dX0_reload_72 : decode cX0_reload 72 = .ok (.iconst (-1), 1) := by decide +kernel
theorem dX0_reload_73 : decode cX0_reload 73 = .ok (.putfield 63, 3) := by decide +kernel
theorem dX0_reload_76 : decode cX0_reload 76 = .ok (.iload 5, 2) := by decide +kernel
theorem dX0_reload_78 : decode cX0_reload 78 = .ok (.ireturn, 1) := by decide +kernel
theorem zy_X0_reload : yX0_reload.cls ≠ "java/lang/invoke/MethodHandle" ∧ yX0_reload.cls ≠ "java/lang/invoke/VarHandle" ∧ (parseMethodDescriptor yX0_reload.desc).map (fun d => d.parameters.length) = some 2 := by decide +kernel
theorem w_fX0_reload_J73 {K : zK} (E : zE K cX0_reload "RingHouse" (some .int) 307) (hN : zNl K = 6) (hT : zTr K = (some 0)) (x5 : Int) (s1 : Int) : zR K 73 [(5, 0, x5)] [(0, s1), (2, 0)] (fX0_reload_J73 x5 s1) := by
  refine r_put E zc_2 zt_109 zo_109 dX0_reload_73 q1799 zr_2 zw_X0 zp_109 (fun _ => rfl) (fun _ => rfl) (by decide) ?_
  refine r_iload E dX0_reload_76 0 rfl ?_
  exact r_ireturn E rfl hT dX0_reload_78
theorem w_fX0_reload {K : zK} (E : zE K cX0_reload "RingHouse" (some .int) 307) (hN : zNl K = 6) (hT : zTr K = (some 0)) (x1 : Int) (x2 : Int) : zR K 0 [(0, 2, 0), (1, 0, x1), (2, 1, x2)] [] (fX0_reload x1 x2) := by
  refine r_aload_n E dX0_reload_0 rfl 0 rfl ?_
  refine r_gec (y := 0) E zc_2 dX0_reload_1 q1790 zr_2 (zh_100 (by decide)) (by decide) ?_
  refine r_iload_n E dX0_reload_4 rfl 1 rfl ?_
  refine r_callV E [(0, x1)] [] rfl zc_3 zr_3 (fun o _ => ⟨_, zw_X1.1 o, rfl⟩) (lw_V q1825 q1826 q1827 q228 q1828) dX0_reload_5 zy_X1_directory rfl (by omega) (by decide) (Nat.le_of_ble_eq_true rfl) (by decide) (fun l G => k_fX1_directory l G x1) (fun v1 => ?_)
  refine r_astore (ls' := [(4, 6, v1), (0, 2, 0), (1, 0, x1), (2, 1, x2)]) E dX0_reload_8 (by rw [hN]; decide) rfl ?_
  refine r_aload E dX0_reload_10 0 rfl ?_
  refine r_ifnull E 22 (by decide) dX0_reload_12 (fun _ => ?_) (fun hz2 => ?_)
  · refine r_bipush E dX0_reload_22 (by decide) (zkI (by decide) (by decide)) ?_
    exact r_ireturn E rfl hT dX0_reload_24
  · refine r_lload_n E dX0_reload_15 rfl 3 rfl ?_
    refine r_callS E [(1, x2)] [] rfl q1841 q1842 q227 q1843 dX0_reload_16 zy_X0_isName rfl (by omega) (by decide) (Nat.le_of_ble_eq_true rfl) (fun l G => k_fX0_isName l G x2) (fun v3 => ?_)
    refine r_if_ne E 25 (by decide) dX0_reload_19 (fun _ => ?_) (fun _ => ?_)
    · refine r_aload_n E dX0_reload_25 rfl 1 rfl ?_
      refine r_gec (y := 0) E zc_2 dX0_reload_26 q1790 zr_2 (zh_100 (by decide)) (by decide) ?_
      refine r_gecN (y := 0) E zc_3 dX0_reload_29 q591 zr_3 (zh_201 (by decide)) (by decide) ?_
      refine r_aload E dX0_reload_32 0 rfl ?_
      refine r_lload_n E dX0_reload_34 rfl 3 rfl ?_
      refine r_callV E [(6, v1), (1, x2)] [] rfl zc_4 zr_4 (fun o _ => ⟨_, zw_X2.1 o, rfl⟩) (lw_V q2020 q1866 q1867 q229 q1868) dX0_reload_35 zy_X2_find rfl (by omega) (by decide) (Nat.le_of_ble_eq_true rfl) (by decide) (fun l G => k_fX2_find l G v1 x2) (fun v4 => ?_)
      refine r_ifnull E 44 (by decide) dX0_reload_38 (fun _ => ?_) (fun hz5 => ?_)
      · refine r_aload_n E dX0_reload_44 rfl 1 rfl ?_
        refine r_gec (y := 0) E zc_2 dX0_reload_45 q1794 zr_2 (zh_104 (by decide)) (by decide) ?_
        refine r_aload E dX0_reload_48 0 rfl ?_
        refine r_lload_n E dX0_reload_50 rfl 3 rfl ?_
        refine r_callV E [(6, v1), (1, x2)] [] rfl zc_67 zr_67 (fun o _ => ⟨_, zw_X65.1 o, rfl⟩) (lw_V q3078 q3079 q3080 q292 q3081) dX0_reload_51 zy_X65_reload rfl (by omega) (by decide) (Nat.le_of_ble_eq_true rfl) (by decide) (fun l G => k_fX65_reload l G v1 x2) (fun v6 => ?_)
        refine r_istore (ls' := [(5, 0, v6), (4, 6, v1), (0, 2, 0), (1, 0, x1), (2, 1, x2)]) E dX0_reload_54 (by rw [hN]; decide) rfl ?_
        refine r_aload_n E dX0_reload_56 rfl 2 rfl ?_
        refine r_iload E dX0_reload_57 0 rfl ?_
        refine r_if_ge E 72 (by decide) dX0_reload_59 (fun _ => ?_) (fun _ => ?_)
        · refine r_iconst E dX0_reload_72 (zkI (by decide) (by decide)) ?_
          refine r_pick E [0] rfl ?_
          exact w_fX0_reload_J73 E hN hT v6 (-1)
        · refine r_aload_n E dX0_reload_62 rfl 2 rfl ?_
          refine r_gec (y := 0) E zc_2 dX0_reload_63 q1794 zr_2 (zh_104 (by decide)) (by decide) ?_
          refine r_getN E zc_67 zt_6605 dX0_reload_66 q1721 zr_67 (zg_6605 _) (by decide) (fun v7 => ?_)
          refine r_goto E 73 (by decide) dX0_reload_69 ?_
          refine r_pick E [0] rfl ?_
          exact w_fX0_reload_J73 E hN hT v6 v7
      · refine r_bipush E dX0_reload_41 (by decide) (zkI (by decide) (by decide)) ?_
        exact r_ireturn E rfl hT dX0_reload_43
    · refine r_bipush E dX0_reload_22 (by decide) (zkI (by decide) (by decide)) ?_
      exact r_ireturn E rfl hT dX0_reload_24
theorem k_fX0_reload (l : Launch) (G : zG) (x1 : Int) (x2 : Int) : zCt l G yX0_reload cX0_reload 6 (some .int) 307 [(2, 0), (0, x1), (1, x2)] (some 0) (fX0_reload x1 x2) := zCt.of (by decide) (Nat.le_of_ble_eq_true rfl) (fun K E _ _ hN hT => w_fX0_reload E hN hT x1 x2)
theorem dX0_count_0 : decode cX0_count 0 = .ok (.iload_n 1, 1) := by decide +kernel
theorem dX0_count_1 : decode cX0_count 1 = .ok (.tableswitch 117 0 5 #[39, 47, 85, 93, 101, 106], 39) := by decide +kernel
theorem dX0_count_40 : decode cX0_count 40 = .ok (.aload_n 0, 1) := by decide +kernel
theorem dX0_count_41 : decode cX0_count 41 = .ok (.getfield 42, 3) := by decide +kernel
theorem dX0_count_44 : decode cX0_count 44 = .ok (.getfield 484, 3) := by decide +kernel
theorem dX0_count_47 : decode cX0_count 47 = .ok (.ireturn, 1) := by decide +kernel
theorem dX0_count_48 : decode cX0_count 48 = .ok (.iconst 0, 1) := by decide +kernel
theorem dX0_count_49 : decode cX0_count 49 = .ok (.istore_n 2, 1) := by decide +kernel
theorem dX0_count_50 : decode cX0_count 50 = .ok (.iconst 0, 1) := by decide +kernel
theorem dX0_count_51 : decode cX0_count 51 = .ok (.istore_n 3, 1) := by decide +kernel
theorem dX0_count_52 : decode cX0_count 52 = .ok (.iload_n 3, 1) := by decide +kernel
theorem dX0_count_53 : decode cX0_count 53 = .ok (.bipush 8, 2) := by decide +kernel
theorem dX0_count_55 : decode cX0_count 55 = .ok (.if_icmp .ge 29, 3) := by decide +kernel
theorem dX0_count_58 : decode cX0_count 58 = .ok (.iload_n 2, 1) := by decide +kernel
theorem dX0_count_59 : decode cX0_count 59 = .ok (.aload_n 0, 1) := by decide +kernel
theorem dX0_count_60 : decode cX0_count 60 = .ok (.getfield 48, 3) := by decide +kernel
theorem dX0_count_63 : decode cX0_count 63 = .ok (.iload_n 3, 1) := by decide +kernel
theorem dX0_count_64 : decode cX0_count 64 = .ok (.aaload, 1) := by decide +kernel
theorem dX0_count_65 : decode cX0_count 65 = .ok (.getfield 111, 3) := by decide +kernel
theorem dX0_count_68 : decode cX0_count 68 = .ok (.ifCond .eq 7, 3) := by decide +kernel
theorem dX0_count_71 : decode cX0_count 71 = .ok (.iconst 1, 1) := by decide +kernel
theorem dX0_count_72 : decode cX0_count 72 = .ok (.goto 4, 3) := by decide +kernel
theorem dX0_count_75 : decode cX0_count 75 = .ok (.iconst 0, 1) := by decide +kernel
theorem dX0_count_76 : decode cX0_count 76 = .ok (.iadd, 1) := by decide +kernel
theorem dX0_count_77 : decode cX0_count 77 = .ok (.istore_n 2, 1) := by decide +kernel
theorem dX0_count_78 : decode cX0_count 78 = .ok (.iinc 3 1, 3) := by decide +kernel
theorem dX0_count_81 : decode cX0_count 81 = .ok (.goto (-29), 3) := by decide +kernel
theorem dX0_count_84 : decode cX0_count 84 = .ok (.iload_n 2, 1) := by decide +kernel
theorem dX0_count_85 : decode cX0_count 85 = .ok (.ireturn, 1) := by decide +kernel
theorem dX0_count_86 : decode cX0_count 86 = .ok (.aload_n 0, 1) := by decide +kernel
theorem dX0_count_87 : decode cX0_count 87 = .ok (.getfield 89, 3) := by decide +kernel
theorem dX0_count_90 : decode cX0_count 90 = .ok (.getfield 450, 3) := by decide +kernel
theorem dX0_count_93 : decode cX0_count 93 = .ok (.ireturn, 1) := by decide +kernel
theorem dX0_count_94 : decode cX0_count 94 = .ok (.aload_n 0, 1) := by decide +kernel
theorem dX0_count_95 : decode cX0_count 95 = .ok (.getfield 98, 3) := by decide +kernel
theorem dX0_count_98 : decode cX0_count 98 = .ok (.getfield 474, 3) := by decide +kernel
theorem dX0_count_101 : decode cX0_count 101 = .ok (.ireturn, 1) := by decide +kernel
theorem dX0_count_102 : decode cX0_count 102 = .ok (.aload_n 0, 1) := by decide +kernel
theorem dX0_count_103 : decode cX0_count 103 = .ok (.getfield 352, 3) := by decide +kernel
theorem dX0_count_106 : decode cX0_count 106 = .ok (.ireturn, 1) := by decide +kernel
theorem dX0_count_107 : decode cX0_count 107 = .ok (.aload_n 0, 1) := by decide +kernel
theorem dX0_count_108 : decode cX0_count 108 = .ok (.getfield 76, 3) := by decide +kernel
theorem dX0_count_111 : decode cX0_count 111 = .ok (.getfield 308, 3) := by decide +kernel
theorem dX0_count_114 : decode cX0_count 114 = .ok (.getfield 485, 3) := by decide +kernel
theorem dX0_count_117 : decode cX0_count 117 = .ok (.ireturn, 1) := by decide +kernel
theorem dX0_count_118 : decode cX0_count 118 = .ok (.bipush (-8), 2) := by decide +kernel
theorem dX0_count_120 : decode cX0_count 120 = .ok (.ireturn, 1) := by decide +kernel
theorem zy_X0_count : yX0_count.cls ≠ "java/lang/invoke/MethodHandle" ∧ yX0_count.cls ≠ "java/lang/invoke/VarHandle" ∧ (parseMethodDescriptor yX0_count.desc).map (fun d => d.parameters.length) = some 1 := by decide +kernel
theorem w_fX0_count_J76 {K : zK} (E : zE K cX0_count "RingHouse" (some .int) 0) (hN : zNl K = 4) (hT : zTr K = (some 0)) (x3 : Int) (s0 : Int) (s1 : Int) {r52 : Int × Int → zX} (hr52 : ∀ s : Int × Int, zR K 52 [(0, 2, 0), (2, 0, s.1), (3, 0, s.2)] [] (r52 s)) : zR K 76 [(0, 2, 0), (3, 0, x3)] [(0, s1), (0, s0)] (fX0_count_J76 r52 x3 s0 s1) := by
  refine r_iadd E dX0_count_76 ?_
  refine r_let E (fun v7 ev7 => ?_)
  refine r_istore_n (ls' := [(2, 0, v7), (0, 2, 0), (3, 0, x3)]) E dX0_count_77 rfl (by rw [hN]; decide) rfl ?_
  refine r_iinc (ls' := fun v8 => [(3, 0, v8), (2, 0, v7), (0, 2, 0)]) E 2 rfl (by rw [hN]; decide) (fun _ => rfl) dX0_count_78 (fun v8 _ => ?_)
  refine r_goto E 52 (by decide) dX0_count_81 ?_
  refine r_pick E [2, 1, 0] rfl ?_
  exact hr52 (v7, v8)
theorem w_fX0_count_B52 {K : zK} (E : zE K cX0_count "RingHouse" (some .int) 0) (hN : zNl K = 4) (hT : zTr K = (some 0)) : ∀ r52 : Int × Int → zX, (∀ s : Int × Int, zR K 52 [(0, 2, 0), (2, 0, s.1), (3, 0, s.2)] [] (r52 s)) → ∀ s : Int × Int, zR K 52 [(0, 2, 0), (2, 0, s.1), (3, 0, s.2)] [] (fX0_count_B52 r52 s) := by
  intro r52 hr52 s
  obtain ⟨x2, x3⟩ := s
  refine r_iload_n E dX0_count_52 rfl 2 rfl ?_
  refine r_bipush E dX0_count_53 (by decide) (zkI (by decide) (by decide)) ?_
  refine r_icmp_ge E 84 (by decide) dX0_count_55 (fun _ => ?_) (fun _ => ?_)
  · refine r_iload_n E dX0_count_84 rfl 1 rfl ?_
    exact r_ireturn E rfl hT dX0_count_85
  · refine r_iload_n E dX0_count_58 rfl 1 rfl ?_
    refine r_aload_n E dX0_count_59 rfl 0 rfl ?_
    refine r_gec (y := 0) E zc_2 dX0_count_60 q1791 zr_2 (zh_101 (by decide)) (by decide) ?_
    refine r_iload_n E dX0_count_63 rfl 2 rfl ?_
    refine r_aaloc (y := x3) E zc_101 za_101 zt_101 zx_101 rfl rfl (by omega) dX0_count_64 (by decide) (fun hi5 => ?_)
    refine r_getN E zc_10 zt_902 dX0_count_65 q861 zr_10 (zg_902 _) hi5 (fun v6 => ?_)
    refine r_if_eq E 75 (by decide) dX0_count_68 (fun _ => ?_) (fun _ => ?_)
    · refine r_iconst E dX0_count_75 (zkI (by decide) (by decide)) ?_
      refine r_pick E [0, 2] rfl ?_
      exact w_fX0_count_J76 E hN hT x3 x2 0 hr52
    · refine r_iconst E dX0_count_71 (zkI (by decide) (by decide)) ?_
      refine r_goto E 76 (by decide) dX0_count_72 ?_
      refine r_pick E [0, 2] rfl ?_
      exact w_fX0_count_J76 E hN hT x3 x2 1 hr52
theorem w_fX0_count {K : zK} (E : zE K cX0_count "RingHouse" (some .int) 0) (hN : zNl K = 4) (hT : zTr K = (some 0)) (x1 : Int) : zR K 0 [(0, 2, 0), (1, 0, x1)] [] (fX0_count x1) := by
  refine r_iload_n E dX0_count_0 rfl 1 rfl ?_
  refine r_tabc E dX0_count_1 0 40 (by decide) (by decide) rfl (by decide) (fun _ => ?_) (fun ht1 => ?_)
  · refine r_aload_n E dX0_count_40 rfl 0 rfl ?_
    refine r_gec (y := 0) E zc_2 dX0_count_41 q1790 zr_2 (zh_100 (by decide)) (by decide) ?_
    refine r_getN E zc_3 zt_206 dX0_count_44 q600 zr_3 (zg_206 _) (by decide) (fun v2 => ?_)
    exact r_ireturn E rfl hT dX0_count_47
  · refine r_tabc E dX0_count_1 1 48 (by decide) (by decide) rfl (by decide) (fun _ => ?_) (fun ht3 => ?_)
    · refine r_iconst E dX0_count_48 (zkI (by decide) (by decide)) ?_
      refine r_istore_n (ls' := [(2, 0, 0), (0, 2, 0), (1, 0, x1)]) E dX0_count_49 rfl (by rw [hN]; decide) rfl ?_
      refine r_iconst E dX0_count_50 (zkI (by decide) (by decide)) ?_
      refine r_istore_n (ls' := [(3, 0, 0), (2, 0, 0), (0, 2, 0), (1, 0, x1)]) E dX0_count_51 rfl (by rw [hN]; decide) rfl ?_
      refine r_pick E [2, 1, 0] rfl ?_
      exact r_loop (L := fun s => [(0, 2, 0), (2, 0, s.1), (3, 0, s.2)]) (w_fX0_count_B52 E hN hT) zBIG (0, 0)
    · refine r_tabc E dX0_count_1 2 86 (by decide) (by decide) rfl (by decide) (fun _ => ?_) (fun ht9 => ?_)
      · refine r_aload_n E dX0_count_86 rfl 0 rfl ?_
        refine r_gec (y := 0) E zc_2 dX0_count_87 q1793 zr_2 (zh_103 (by decide)) (by decide) ?_
        refine r_getN E zc_66 zt_6503 dX0_count_90 q1632 zr_66 (zg_6503 _) (by decide) (fun v10 => ?_)
        exact r_ireturn E rfl hT dX0_count_93
      · refine r_tabc E dX0_count_1 3 94 (by decide) (by decide) rfl (by decide) (fun _ => ?_) (fun ht11 => ?_)
        · refine r_aload_n E dX0_count_94 rfl 0 rfl ?_
          refine r_gec (y := 0) E zc_2 dX0_count_95 q1794 zr_2 (zh_104 (by decide)) (by decide) ?_
          refine r_getN E zc_67 zt_6602 dX0_count_98 q1717 zr_67 (zg_6602 _) (by decide) (fun v12 => ?_)
          exact r_ireturn E rfl hT dX0_count_101
        · refine r_tabc E dX0_count_1 4 102 (by decide) (by decide) rfl (by decide) (fun _ => ?_) (fun ht13 => ?_)
          · refine r_aload_n E dX0_count_102 rfl 0 rfl ?_
            refine r_get E zc_2 zt_108 dX0_count_103 q1798 zr_2 (zg_108 _) (by decide) (fun v14 => ?_)
            exact r_ireturn E rfl hT dX0_count_106
          · refine r_tabc E dX0_count_1 5 107 (by decide) (by decide) rfl (by decide) (fun _ => ?_) (fun ht15 => ?_)
            · refine r_aload_n E dX0_count_107 rfl 0 rfl ?_
              refine r_gec (y := 0) E zc_2 dX0_count_108 q1792 zr_2 (zh_102 (by decide)) (by decide) ?_
              refine r_gecN (y := 0) E zc_14 dX0_count_111 q1543 zr_14 (zh_1305 (by decide)) (by decide) ?_
              refine r_getN E zc_15 zt_1401 dX0_count_114 q1014 zr_15 (zg_1401 _) (by decide) (fun v16 => ?_)
              exact r_ireturn E rfl hT dX0_count_117
            · refine r_tabd E dX0_count_1 118 [0, 1, 2, 3, 4, 5] (by decide) (by decide) (by decide) ⟨ht1, ht3, ht9, ht11, ht13, ht15, trivial⟩ ?_
              refine r_bipush E dX0_count_118 (by decide) (zkI (by decide) (by decide)) ?_
              exact r_ireturn E rfl hT dX0_count_120
theorem k_fX0_count (l : Launch) (G : zG) (x1 : Int) : zCt l G yX0_count cX0_count 4 (some .int) 0 [(2, 0), (0, x1)] (some 0) (fX0_count x1) := zCt.of (by decide) (Nat.le_of_ble_eq_true rfl) (fun K E _ _ hN hT => w_fX0_count E hN hT x1)
theorem dX67_in_0 : decode cX67_in 0 = .ok (.lload_n 0, 1) := by decide +kernel
theorem dX67_in_1 : decode cX67_in 1 = .ok (.lload_n 2, 1) := by decide +kernel
theorem dX67_in_2 : decode cX67_in 2 = .ok (.lcmp, 1) := by decide +kernel
theorem dX67_in_3 : decode cX67_in 3 = .ok (.ifCond .lt 14, 3) := by decide +kernel
theorem dX67_in_6 : decode cX67_in 6 = .ok (.lload_n 0, 1) := by decide +kernel
theorem dX67_in_7 : decode cX67_in 7 = .ok (.lload 4, 2) := by decide +kernel
theorem dX67_in_9 : decode cX67_in 9 = .ok (.lcmp, 1) := by decide +kernel
theorem dX67_in_10 : decode cX67_in 10 = .ok (.ifCond .gt 7, 3) := by decide +kernel
theorem dX67_in_13 : decode cX67_in 13 = .ok (.iconst 1, 1) := by decide +kernel
theorem dX67_in_14 : decode cX67_in 14 = .ok (.goto 4, 3) := by decide +kernel
theorem dX67_in_17 : decode cX67_in 17 = .ok (.iconst 0, 1) := by decide +kernel
theorem dX67_in_18 : decode cX67_in 18 = .ok (.ireturn, 1) := by decide +kernel
theorem zy_X67_in : yX67_in.cls ≠ "java/lang/invoke/MethodHandle" ∧ yX67_in.cls ≠ "java/lang/invoke/VarHandle" ∧ (parseMethodDescriptor yX67_in.desc).map (fun d => d.parameters.length) = some 3 := by decide +kernel
theorem w_fX67_in {K : zK} (E : zE K cX67_in "RingHouseModel" (some .boolean) 0) (hN : zNl K = 6) (hT : zTr K = (some 0)) (x0 : Int) (x2 : Int) (x4 : Int) : zR K 0 [(0, 1, x0), (2, 1, x2), (4, 1, x4)] [] (fX67_in x0 x2 x4) := by
  refine r_lload_n E dX67_in_0 rfl 0 rfl ?_
  refine r_lload_n E dX67_in_1 rfl 1 rfl ?_
  refine r_lcmp_lt E 17 (by decide) dX67_in_2 dX67_in_3 (fun _ => ?_) (fun _ => ?_)
  · refine r_iconst E dX67_in_17 (zkI (by decide) (by decide)) ?_
    exact r_zreturn E rfl hT (by decide) dX67_in_18
  · refine r_lload_n E dX67_in_6 rfl 0 rfl ?_
    refine r_lload E dX67_in_7 2 rfl ?_
    refine r_lcmp_gt E 17 (by decide) dX67_in_9 dX67_in_10 (fun _ => ?_) (fun _ => ?_)
    · refine r_iconst E dX67_in_17 (zkI (by decide) (by decide)) ?_
      exact r_zreturn E rfl hT (by decide) dX67_in_18
    · refine r_iconst E dX67_in_13 (zkI (by decide) (by decide)) ?_
      refine r_goto E 18 (by decide) dX67_in_14 ?_
      exact r_zreturn E rfl hT (by decide) dX67_in_18
theorem k_fX67_in (l : Launch) (G : zG) (x0 : Int) (x2 : Int) (x4 : Int) : zCt l G yX67_in cX67_in 6 (some .boolean) 0 [(1, x0), (1, x2), (1, x4)] (some 0) (fX67_in x0 x2 x4) := zCt.of (by decide) (Nat.le_of_ble_eq_true rfl) (fun K E _ _ hN hT => w_fX67_in E hN hT x0 x2 x4)
theorem dX67_isNode_0 : decode cX67_isNode 0 = .ok (.iload_n 1, 1) := by decide +kernel
theorem dX67_isNode_1 : decode cX67_isNode 1 = .ok (.i2l, 1) := by decide +kernel
theorem dX67_isNode_2 : decode cX67_isNode 2 = .ok (.lconst 0, 1) := by decide +kernel
theorem dX67_isNode_3 : decode cX67_isNode 3 = .ok (.ldc2_w 377, 3) := by decide +kernel
theorem dX67_isNode_6 : decode cX67_isNode 6 = .ok (.invokestatic 363, 3) := by decide +kernel
theorem dX67_isNode_9 : decode cX67_isNode 9 = .ok (.ifCond .eq 16, 3) := by decide +kernel
theorem dX67_isNode_12 : decode cX67_isNode 12 = .ok (.aload_n 0, 1) := by decide +kernel
theorem dX67_isNode_13 : decode cX67_isNode 13 = .ok (.getfield 7, 3) := by decide +kernel
theorem dX67_isNode_16 : decode cX67_isNode 16 = .ok (.iload_n 1, 1) := by decide +kernel
theorem dX67_isNode_17 : decode cX67_isNode 17 = .ok (.iaload, 1) := by decide +kernel
theorem dX67_isNode_18 : decode cX67_isNode 18 = .ok (.ifCond .le 7, 3) := by decide +kernel
theorem dX67_isNode_21 : decode cX67_isNode 21 = .ok (.iconst 1, 1) := by decide +kernel
theorem dX67_isNode_22 : decode cX67_isNode 22 = .ok (.goto 4, 3) := by decide +kernel
theorem dX67_isNode_25 : decode cX67_isNode 25 = .ok (.iconst 0, 1) := by decide +kernel
theorem dX67_isNode_26 : decode cX67_isNode 26 = .ok (.ireturn, 1) := by decide +kernel
theorem zy_X67_isNode : yX67_isNode.cls ≠ "java/lang/invoke/MethodHandle" ∧ yX67_isNode.cls ≠ "java/lang/invoke/VarHandle" ∧ (parseMethodDescriptor yX67_isNode.desc).map (fun d => d.parameters.length) = some 1 := by decide +kernel
theorem w_fX67_isNode {K : zK} (E : zE K cX67_isNode "RingHouseModel" (some .boolean) 1) (hN : zNl K = 2) (hT : zTr K = (some 0)) (x1 : Int) : zR K 0 [(0, 69, 0), (1, 0, x1)] [] (fX67_isNode x1) := by
  refine r_iload_n E dX67_isNode_0 rfl 1 rfl ?_
  refine r_i2l E dX67_isNode_1 ?_
  refine r_lconst (v := 0) E dX67_isNode_2 (by decide) (zkJ (by decide) (by decide)) ?_
  refine r_ldc2 (v := 255) E dX67_isNode_3 q3618 (by decide) (zkJ (by decide) (by decide)) ?_
  refine r_callS E [(1, x1), (1, 0), (1, 255)] [] rfl q3619 q3620 q294 q3621 dX67_isNode_6 zy_X67_in rfl (by omega) (by decide) (Nat.le_of_ble_eq_true rfl) (fun l G => k_fX67_in l G x1 0 255) (fun v1 => ?_)
  refine r_if_eq E 25 (by decide) dX67_isNode_9 (fun _ => ?_) (fun _ => ?_)
  · refine r_iconst E dX67_isNode_25 (zkI (by decide) (by decide)) ?_
    exact r_zreturn E rfl hT (by decide) dX67_isNode_26
  · refine r_aload_n E dX67_isNode_12 rfl 0 rfl ?_
    refine r_gec (y := 0) E zc_69 dX67_isNode_13 q3215 zr_69 (zh_6800 (by decide)) (by decide) ?_
    refine r_iload_n E dX67_isNode_16 rfl 1 rfl ?_
    refine r_iaload E zc_6800 za_6800 zt_6800 zx_6800 rfl rfl dX67_isNode_17 (by decide) (fun v2 => ?_)
    refine r_if_le E 25 (by decide) dX67_isNode_18 (fun _ => ?_) (fun _ => ?_)
    · refine r_iconst E dX67_isNode_25 (zkI (by decide) (by decide)) ?_
      exact r_zreturn E rfl hT (by decide) dX67_isNode_26
    · refine r_iconst E dX67_isNode_21 (zkI (by decide) (by decide)) ?_
      refine r_goto E 26 (by decide) dX67_isNode_22 ?_
      exact r_zreturn E rfl hT (by decide) dX67_isNode_26
theorem k_fX67_isNode (l : Launch) (G : zG) (x1 : Int) : zCt l G yX67_isNode cX67_isNode 2 (some .boolean) 1 [(69, 0), (0, x1)] (some 0) (fX67_isNode x1) := zCt.of (by decide) (Nat.le_of_ble_eq_true rfl) (fun K E _ _ hN hT => w_fX67_isNode E hN hT x1)
theorem dX67_isOf_0 : decode cX67_isOf 0 = .ok (.aload_n 0, 1) := by decide +kernel
theorem dX67_isOf_1 : decode cX67_isOf 1 = .ok (.iload_n 1, 1) := by decide +kernel
theorem dX67_isOf_2 : decode cX67_isOf 2 = .ok (.invokevirtual 379, 3) := by decide +kernel
theorem dX67_isOf_5 : decode cX67_isOf 5 = .ok (.ifCond .eq 17, 3) := by decide +kernel
theorem dX67_isOf_8 : decode cX67_isOf 8 = .ok (.aload_n 0, 1) := by decide +kernel
theorem dX67_isOf_9 : decode cX67_isOf 9 = .ok (.getfield 7, 3) := by decide +kernel
theorem dX67_isOf_12 : decode cX67_isOf 12 = .ok (.iload_n 1, 1) := by decide +kernel
theorem dX67_isOf_13 : decode cX67_isOf 13 = .ok (.iaload, 1) := by decide +kernel
theorem dX67_isOf_14 : decode cX67_isOf 14 = .ok (.iload_n 2, 1) := by decide +kernel
theorem dX67_isOf_15 : decode cX67_isOf 15 = .ok (.if_icmp .ne 7, 3) := by decide +kernel
theorem dX67_isOf_18 : decode cX67_isOf 18 = .ok (.iconst 1, 1) := by decide +kernel
theorem dX67_isOf_19 : decode cX67_isOf 19 = .ok (.goto 4, 3) := by decide +kernel
theorem dX67_isOf_22 : decode cX67_isOf 22 = .ok (.iconst 0, 1) := by decide +kernel
theorem dX67_isOf_23 : decode cX67_isOf 23 = .ok (.ireturn, 1) := by decide +kernel
theorem zy_X67_isOf : yX67_isOf.cls ≠ "java/lang/invoke/MethodHandle" ∧ yX67_isOf.cls ≠ "java/lang/invoke/VarHandle" ∧ (parseMethodDescriptor yX67_isOf.desc).map (fun d => d.parameters.length) = some 2 := by decide +kernel
theorem w_fX67_isOf {K : zK} (E : zE K cX67_isOf "RingHouseModel" (some .boolean) 2) (hN : zNl K = 3) (hT : zTr K = (some 0)) (x1 : Int) (x2 : Int) : zR K 0 [(0, 69, 0), (1, 0, x1), (2, 0, x2)] [] (fX67_isOf x1 x2) := by
  refine r_aload_n E dX67_isOf_0 rfl 0 rfl ?_
  refine r_iload_n E dX67_isOf_1 rfl 1 rfl ?_
  refine r_callV E [(0, x1)] [] rfl zc_69 zr_69 (fun o _ => ⟨_, zw_X67.1 o, rfl⟩) (lw_V q3614 q3616 qs93 q294 q3617) dX67_isOf_2 zy_X67_isNode rfl (by omega) (by decide) (Nat.le_of_ble_eq_true rfl) (by decide) (fun l G => k_fX67_isNode l G x1) (fun v1 => ?_)
  refine r_if_eq E 22 (by decide) dX67_isOf_5 (fun _ => ?_) (fun _ => ?_)
  · refine r_iconst E dX67_isOf_22 (zkI (by decide) (by decide)) ?_
    exact r_zreturn E rfl hT (by decide) dX67_isOf_23
  · refine r_aload_n E dX67_isOf_8 rfl 0 rfl ?_
    refine r_gec (y := 0) E zc_69 dX67_isOf_9 q3215 zr_69 (zh_6800 (by decide)) (by decide) ?_
    refine r_iload_n E dX67_isOf_12 rfl 1 rfl ?_
    refine r_iaload E zc_6800 za_6800 zt_6800 zx_6800 rfl rfl dX67_isOf_13 (by decide) (fun v2 => ?_)
    refine r_iload_n E dX67_isOf_14 rfl 2 rfl ?_
    refine r_icmp_ne E 22 (by decide) dX67_isOf_15 (fun _ => ?_) (fun _ => ?_)
    · refine r_iconst E dX67_isOf_22 (zkI (by decide) (by decide)) ?_
      exact r_zreturn E rfl hT (by decide) dX67_isOf_23
    · refine r_iconst E dX67_isOf_18 (zkI (by decide) (by decide)) ?_
      refine r_goto E 23 (by decide) dX67_isOf_19 ?_
      exact r_zreturn E rfl hT (by decide) dX67_isOf_23
theorem k_fX67_isOf (l : Launch) (G : zG) (x1 : Int) (x2 : Int) : zCt l G yX67_isOf cX67_isOf 3 (some .boolean) 2 [(69, 0), (0, x1), (0, x2)] (some 0) (fX67_isOf x1 x2) := zCt.of (by decide) (Nat.le_of_ble_eq_true rfl) (fun K E _ _ hN hT => w_fX67_isOf E hN hT x1 x2)
theorem dX67_isWord_0 : decode cX67_isWord 0 = .ok (.lload_n 0, 1) := by decide +kernel
theorem dX67_isWord_1 : decode cX67_isWord 1 = .ok (.lconst 0, 1) := by decide +kernel
theorem dX67_isWord_2 : decode cX67_isWord 2 = .ok (.ldc2_w 361, 3) := by decide +kernel
theorem dX67_isWord_5 : decode cX67_isWord 5 = .ok (.invokestatic 363, 3) := by decide +kernel
theorem dX67_isWord_8 : decode cX67_isWord 8 = .ok (.ireturn, 1) := by decide +kernel
theorem zy_X67_isWord : yX67_isWord.cls ≠ "java/lang/invoke/MethodHandle" ∧ yX67_isWord.cls ≠ "java/lang/invoke/VarHandle" ∧ (parseMethodDescriptor yX67_isWord.desc).map (fun d => d.parameters.length) = some 1 := by decide +kernel
theorem w_fX67_isWord {K : zK} (E : zE K cX67_isWord "RingHouseModel" (some .boolean) 1) (hN : zNl K = 2) (hT : zTr K = (some 0)) (x0 : Int) : zR K 0 [(0, 1, x0)] [] (fX67_isWord x0) := by
  refine r_lload_n E dX67_isWord_0 rfl 0 rfl ?_
  refine r_lconst (v := 0) E dX67_isWord_1 (by decide) (zkJ (by decide) (by decide)) ?_
  refine r_ldc2 (v := 68719476735) E dX67_isWord_2 q3628 (by decide) (zkJ (by decide) (by decide)) ?_
  refine r_callS E [(1, x0), (1, 0), (1, 68719476735)] [] rfl q3619 q3620 q294 q3621 dX67_isWord_5 zy_X67_in rfl (by omega) (by decide) (Nat.le_of_ble_eq_true rfl) (fun l G => k_fX67_in l G x0 0 68719476735) (fun v1 => ?_)
  exact r_zreturnb E rfl hT dX67_isWord_8
theorem k_fX67_isWord (l : Launch) (G : zG) (x0 : Int) : zCt l G yX67_isWord cX67_isWord 2 (some .boolean) 1 [(1, x0)] (some 0) (fX67_isWord x0) := zCt.of (by decide) (Nat.le_of_ble_eq_true rfl) (fun K E _ _ hN hT => w_fX67_isWord E hN hT x0)
theorem dX67_isName_0 : decode cX67_isName 0 = .ok (.lload_n 0, 1) := by decide +kernel
theorem dX67_isName_1 : decode cX67_isName 1 = .ok (.invokestatic 367, 3) := by decide +kernel
theorem dX67_isName_4 : decode cX67_isName 4 = .ok (.ifCond .eq 9, 3) := by decide +kernel
theorem dX67_isName_7 : decode cX67_isName 7 = .ok (.lload_n 0, 1) := by decide +kernel
theorem dX67_isName_8 : decode cX67_isName 8 = .ok (.lconst 0, 1) := by decide +kernel
theorem dX67_isName_9 : decode cX67_isName 9 = .ok (.lcmp, 1) := by decide +kernel
theorem dX67_isName_10 : decode cX67_isName 10 = .ok (.ifCond .ne 5, 3) := by decide +kernel
theorem dX67_isName_13 : decode cX67_isName 13 = .ok (.iconst 0, 1) := by decide +kernel
theorem dX67_isName_14 : decode cX67_isName 14 = .ok (.ireturn, 1) := by decide +kernel
theorem dX67_isName_15 : decode cX67_isName 15 = .ok (.iconst 0, 1) := by decide +kernel
theorem dX67_isName_16 : decode cX67_isName 16 = .ok (.istore_n 2, 1) := by decide +kernel
theorem dX67_isName_17 : decode cX67_isName 17 = .ok (.iconst 1, 1) := by decide +kernel
theorem dX67_isName_18 : decode cX67_isName 18 = .ok (.istore_n 3, 1) := by decide +kernel
theorem dX67_isName_19 : decode cX67_isName 19 = .ok (.bipush 30, 2) := by decide +kernel
theorem dX67_isName_21 : decode cX67_isName 21 = .ok (.istore 4, 2) := by decide +kernel
theorem dX67_isName_23 : decode cX67_isName 23 = .ok (.iload 4, 2) := by decide +kernel
theorem dX67_isName_25 : decode cX67_isName 25 = .ok (.ifCond .lt 66, 3) := by decide +kernel
theorem dX67_isName_28 : decode cX67_isName 28 = .ok (.lload_n 0, 1) := by decide +kernel
theorem dX67_isName_29 : decode cX67_isName 29 = .ok (.iload 4, 2) := by decide +kernel
theorem dX67_isName_31 : decode cX67_isName 31 = .ok (.lshr, 1) := by decide +kernel
theorem dX67_isName_32 : decode cX67_isName 32 = .ok (.ldc2_w 371, 3) := by decide +kernel
theorem dX67_isName_35 : decode cX67_isName 35 = .ok (.land, 1) := by decide +kernel
theorem dX67_isName_36 : decode cX67_isName 36 = .ok (.lstore 5, 2) := by decide +kernel
theorem dX67_isName_38 : decode cX67_isName 38 = .ok (.iload_n 3, 1) := by decide +kernel
theorem dX67_isName_39 : decode cX67_isName 39 = .ok (.ifCond .eq 27, 3) := by decide +kernel
theorem dX67_isName_42 : decode cX67_isName 42 = .ok (.lload 5, 2) := by decide +kernel
theorem dX67_isName_44 : decode cX67_isName 44 = .ok (.ldc2_w 373, 3) := by decide +kernel
theorem dX67_isName_47 : decode cX67_isName 47 = .ok (.lcmp, 1) := by decide +kernel
theorem dX67_isName_48 : decode cX67_isName 48 = .ok (.ifCond .gt 18, 3) := by decide +kernel
theorem dX67_isName_51 : decode cX67_isName 51 = .ok (.iload_n 2, 1) := by decide +kernel
theorem dX67_isName_52 : decode cX67_isName 52 = .ok (.ifCond .eq 10, 3) := by decide +kernel
theorem dX67_isName_55 : decode cX67_isName 55 = .ok (.lload 5, 2) := by decide +kernel
theorem dX67_isName_57 : decode cX67_isName 57 = .ok (.lconst 0, 1) := by decide +kernel
theorem dX67_isName_58 : decode cX67_isName 58 = .ok (.lcmp, 1) := by decide +kernel
theorem dX67_isName_59 : decode cX67_isName 59 = .ok (.ifCond .gt 7, 3) := by decide +kernel
theorem dX67_isName_62 : decode cX67_isName 62 = .ok (.iconst 1, 1) := by decide +kernel
theorem dX67_isName_63 : decode cX67_isName 63 = .ok (.goto 4, 3) := by decide +kernel
theorem dX67_isName_66 : decode cX67_isName 66 = .ok (.iconst 0, 1) := by decide +kernel
theorem dX67_isName_67 : decode cX67_isName 67 = .ok (.istore_n 3, 1) := by decide +kernel
theorem dX67_isName_68 : decode cX67_isName 68 = .ok (.iload_n 2, 1) := by decide +kernel
theorem dX67_isName_69 : decode cX67_isName 69 = .ok (.ifCond .ne 10, 3) := by decide +kernel
theorem dX67_isName_72 : decode cX67_isName 72 = .ok (.lload 5, 2) := by decide +kernel
theorem dX67_isName_74 : decode cX67_isName 74 = .ok (.lconst 0, 1) := by decide +kernel
theorem dX67_isName_75 : decode cX67_isName 75 = .ok (.lcmp, 1) := by decide +kernel
theorem dX67_isName_76 : decode cX67_isName 76 = .ok (.ifCond .ne 7, 3) := by decide +kernel
theorem dX67_isName_79 : decode cX67_isName 79 = .ok (.iconst 1, 1) := by decide +kernel
theorem dX67_isName_80 : decode cX67_isName 80 = .ok (.goto 4, 3) := by decide +kernel
theorem dX67_isName_83 : decode cX67_isName 83 = .ok (.iconst 0, 1) := by decide +kernel
theorem dX67_isName_84 : decode cX67_isName 84 = .ok (.istore_n 2, 1) := by decide +kernel
theorem dX67_isName_85 : decode cX67_isName 85 = .ok (.iinc 4 (-6), 3) := by decide +kernel
theorem dX67_isName_88 : decode cX67_isName 88 = .ok (.goto (-65), 3) := by decide +kernel
theorem dX67_isName_91 : decode cX67_isName 91 = .ok (.iload_n 3, 1) := by decide +kernel
theorem dX67_isName_92 : decode cX67_isName 92 = .ok (.ifCond .eq 16, 3) := by decide +kernel
theorem dX67_isName_95 : decode cX67_isName 95 = .ok (.lload_n 0, 1) := by decide +kernel
theorem dX67_isName_96 : decode cX67_isName 96 = .ok (.bipush 30, 2) := by decide +kernel
theorem dX67_isName_98 : decode cX67_isName 98 = .ok (.lshr, 1) := by decide +kernel
theorem dX67_isName_99 : decode cX67_isName 99 = .ok (.lconst 0, 1) := by decide +kernel
theorem dX67_isName_100 : decode cX67_isName 100 = .ok (.lcmp, 1) := by decide +kernel
theorem dX67_isName_101 : decode cX67_isName 101 = .ok (.ifCond .le 7, 3) := by decide +kernel
theorem dX67_isName_104 : decode cX67_isName 104 = .ok (.iconst 1, 1) := by decide +kernel
theorem dX67_isName_105 : decode cX67_isName 105 = .ok (.goto 4, 3) := by decide +kernel
theorem dX67_isName_108 : decode cX67_isName 108 = .ok (.iconst 0, 1) := by decide +kernel
theorem dX67_isName_109 : decode cX67_isName 109 = .ok (.ireturn, 1) := by decide +kernel
theorem zy_X67_isName : yX67_isName.cls ≠ "java/lang/invoke/MethodHandle" ∧ yX67_isName.cls ≠ "java/lang/invoke/VarHandle" ∧ (parseMethodDescriptor yX67_isName.desc).map (fun d => d.parameters.length) = some 1 := by decide +kernel
theorem w_fX67_isName_J91 {K : zK} (E : zE K cX67_isName "RingHouseModel" (some .boolean) 2) (hN : zNl K = 7) (hT : zTr K = (some 0)) (x0 : Int) (x3 : Int) : zR K 91 [(0, 1, x0), (3, 0, x3)] [] (fX67_isName_J91 x0 x3) := by
  refine r_iload_n E dX67_isName_91 rfl 1 rfl ?_
  refine r_if_eq E 108 (by decide) dX67_isName_92 (fun _ => ?_) (fun _ => ?_)
  · refine r_iconst E dX67_isName_108 (zkI (by decide) (by decide)) ?_
    exact r_zreturn E rfl hT (by decide) dX67_isName_109
  · refine r_lload_n E dX67_isName_95 rfl 0 rfl ?_
    refine r_bipush E dX67_isName_96 (by decide) (zkI (by decide) (by decide)) ?_
    refine r_lshr (P := 1073741824) E (by decide) dX67_isName_98 ?_
    refine r_lconst (v := 0) E dX67_isName_99 (by decide) (zkJ (by decide) (by decide)) ?_
    refine r_lcmp_le E 108 (by decide) dX67_isName_100 dX67_isName_101 (fun _ => ?_) (fun _ => ?_)
    · refine r_iconst E dX67_isName_108 (zkI (by decide) (by decide)) ?_
      exact r_zreturn E rfl hT (by decide) dX67_isName_109
    · refine r_iconst E dX67_isName_104 (zkI (by decide) (by decide)) ?_
      refine r_goto E 109 (by decide) dX67_isName_105 ?_
      exact r_zreturn E rfl hT (by decide) dX67_isName_109
theorem w_fX67_isName_J84 {K : zK} (E : zE K cX67_isName "RingHouseModel" (some .boolean) 2) (hN : zNl K = 7) (hT : zTr K = (some 0)) (x0 : Int) (x3 : Int) (x4 : Int) (s0 : Int) {r23 : Int × Int × Int → zX} (hr23 : ∀ s : Int × Int × Int, zR K 23 [(0, 1, x0), (2, 0, s.1), (3, 0, s.2.1), (4, 0, s.2.2)] [] (r23 s)) : zR K 84 [(0, 1, x0), (3, 0, x3), (4, 0, x4)] [(0, s0)] (fX67_isName_J84 r23 x0 x3 x4 s0) := by
  refine r_istore_n (ls' := [(2, 0, s0), (0, 1, x0), (3, 0, x3), (4, 0, x4)]) E dX67_isName_84 rfl (by rw [hN]; decide) rfl ?_
  refine r_iinc (ls' := fun v3 => [(4, 0, v3), (2, 0, s0), (0, 1, x0), (3, 0, x3)]) E 3 rfl (by rw [hN]; decide) (fun _ => rfl) dX67_isName_85 (fun v3 _ => ?_)
  refine r_goto E 23 (by decide) dX67_isName_88 ?_
  refine r_pick E [2, 1, 3, 0] rfl ?_
  exact hr23 (s0, x3, v3)
theorem w_fX67_isName_J79 {K : zK} (E : zE K cX67_isName "RingHouseModel" (some .boolean) 2) (hN : zNl K = 7) (hT : zTr K = (some 0)) (x0 : Int) (x3 : Int) (x4 : Int) {r23 : Int × Int × Int → zX} (hr23 : ∀ s : Int × Int × Int, zR K 23 [(0, 1, x0), (2, 0, s.1), (3, 0, s.2.1), (4, 0, s.2.2)] [] (r23 s)) : zR K 79 [(0, 1, x0), (3, 0, x3), (4, 0, x4)] [] (fX67_isName_J79 r23 x0 x3 x4) := by
  refine r_iconst E dX67_isName_79 (zkI (by decide) (by decide)) ?_
  refine r_goto E 84 (by decide) dX67_isName_80 ?_
  exact w_fX67_isName_J84 E hN hT x0 x3 x4 1 hr23
theorem w_fX67_isName_J67 {K : zK} (E : zE K cX67_isName "RingHouseModel" (some .boolean) 2) (hN : zNl K = 7) (hT : zTr K = (some 0)) (x0 : Int) (x2 : Int) (x4 : Int) (x5 : Int) (s0 : Int) {r23 : Int × Int × Int → zX} (hr23 : ∀ s : Int × Int × Int, zR K 23 [(0, 1, x0), (2, 0, s.1), (3, 0, s.2.1), (4, 0, s.2.2)] [] (r23 s)) : zR K 67 [(0, 1, x0), (2, 0, x2), (4, 0, x4), (5, 1, x5)] [(0, s0)] (fX67_isName_J67 r23 x0 x2 x4 x5 s0) := by
  refine r_istore_n (ls' := [(3, 0, s0), (0, 1, x0), (2, 0, x2), (4, 0, x4), (5, 1, x5)]) E dX67_isName_67 rfl (by rw [hN]; decide) rfl ?_
  refine r_iload_n E dX67_isName_68 rfl 2 rfl ?_
  refine r_if_ne E 79 (by decide) dX67_isName_69 (fun _ => ?_) (fun _ => ?_)
  · refine r_pick E [1, 0, 3] rfl ?_
    exact w_fX67_isName_J79 E hN hT x0 s0 x4 hr23
  · refine r_lload E dX67_isName_72 4 rfl ?_
    refine r_lconst (v := 0) E dX67_isName_74 (by decide) (zkJ (by decide) (by decide)) ?_
    refine r_lcmp_ne E 83 (by decide) dX67_isName_75 dX67_isName_76 (fun _ => ?_) (fun _ => ?_)
    · refine r_iconst E dX67_isName_83 (zkI (by decide) (by decide)) ?_
      refine r_pick E [1, 0, 3] rfl ?_
      exact w_fX67_isName_J84 E hN hT x0 s0 x4 0 hr23
    · refine r_pick E [1, 0, 3] rfl ?_
      exact w_fX67_isName_J79 E hN hT x0 s0 x4 hr23
theorem w_fX67_isName_J66 {K : zK} (E : zE K cX67_isName "RingHouseModel" (some .boolean) 2) (hN : zNl K = 7) (hT : zTr K = (some 0)) (x0 : Int) (x2 : Int) (x4 : Int) (x5 : Int) {r23 : Int × Int × Int → zX} (hr23 : ∀ s : Int × Int × Int, zR K 23 [(0, 1, x0), (2, 0, s.1), (3, 0, s.2.1), (4, 0, s.2.2)] [] (r23 s)) : zR K 66 [(0, 1, x0), (2, 0, x2), (4, 0, x4), (5, 1, x5)] [] (fX67_isName_J66 r23 x0 x2 x4 x5) := by
  refine r_iconst E dX67_isName_66 (zkI (by decide) (by decide)) ?_
  exact w_fX67_isName_J67 E hN hT x0 x2 x4 x5 0 hr23
theorem w_fX67_isName_J62 {K : zK} (E : zE K cX67_isName "RingHouseModel" (some .boolean) 2) (hN : zNl K = 7) (hT : zTr K = (some 0)) (x0 : Int) (x2 : Int) (x4 : Int) (x5 : Int) {r23 : Int × Int × Int → zX} (hr23 : ∀ s : Int × Int × Int, zR K 23 [(0, 1, x0), (2, 0, s.1), (3, 0, s.2.1), (4, 0, s.2.2)] [] (r23 s)) : zR K 62 [(0, 1, x0), (2, 0, x2), (4, 0, x4), (5, 1, x5)] [] (fX67_isName_J62 r23 x0 x2 x4 x5) := by
  refine r_iconst E dX67_isName_62 (zkI (by decide) (by decide)) ?_
  refine r_goto E 67 (by decide) dX67_isName_63 ?_
  exact w_fX67_isName_J67 E hN hT x0 x2 x4 x5 1 hr23
theorem w_fX67_isName_B23 {K : zK} (E : zE K cX67_isName "RingHouseModel" (some .boolean) 2) (hN : zNl K = 7) (hT : zTr K = (some 0)) (x0 : Int) : ∀ r23 : Int × Int × Int → zX, (∀ s : Int × Int × Int, zR K 23 [(0, 1, x0), (2, 0, s.1), (3, 0, s.2.1), (4, 0, s.2.2)] [] (r23 s)) → ∀ s : Int × Int × Int, zR K 23 [(0, 1, x0), (2, 0, s.1), (3, 0, s.2.1), (4, 0, s.2.2)] [] (fX67_isName_B23 x0 r23 s) := by
  intro r23 hr23 s
  obtain ⟨x2, x3, x4⟩ := s
  refine r_iload E dX67_isName_23 3 rfl ?_
  refine r_if_lt E 91 (by decide) dX67_isName_25 (fun _ => ?_) (fun _ => ?_)
  · refine r_pick E [0, 2] rfl ?_
    exact w_fX67_isName_J91 E hN hT x0 x3
  · refine r_lload_n E dX67_isName_28 rfl 0 rfl ?_
    refine r_iload E dX67_isName_29 3 rfl ?_
    refine r_lshr E rfl dX67_isName_31 ?_
    refine r_ldc2 (v := 63) E dX67_isName_32 q3629 (by decide) (zkJ (by decide) (by decide)) ?_
    refine r_lmask (P := 64) E 6 (by decide) (by decide) (by decide) dX67_isName_35 ?_
    refine r_let E (fun v2 ev2 => ?_)
    refine r_lstore (ls' := [(5, 1, v2), (0, 1, x0), (2, 0, x2), (3, 0, x3), (4, 0, x4)]) E dX67_isName_36 (by rw [hN]; decide) rfl ?_
    refine r_iload_n E dX67_isName_38 rfl 3 rfl ?_
    refine r_if_eq E 66 (by decide) dX67_isName_39 (fun _ => ?_) (fun _ => ?_)
    · refine r_pick E [1, 2, 4, 0] rfl ?_
      exact w_fX67_isName_J66 E hN hT x0 x2 x4 v2 hr23
    · refine r_lload E dX67_isName_42 0 rfl ?_
      refine r_ldc2 (v := 38) E dX67_isName_44 q3630 (by decide) (zkJ (by decide) (by decide)) ?_
      refine r_lcmp_gt E 66 (by decide) dX67_isName_47 dX67_isName_48 (fun _ => ?_) (fun _ => ?_)
      · refine r_pick E [1, 2, 4, 0] rfl ?_
        exact w_fX67_isName_J66 E hN hT x0 x2 x4 v2 hr23
      · refine r_iload_n E dX67_isName_51 rfl 2 rfl ?_
        refine r_if_eq E 62 (by decide) dX67_isName_52 (fun _ => ?_) (fun _ => ?_)
        · refine r_pick E [1, 2, 4, 0] rfl ?_
          exact w_fX67_isName_J62 E hN hT x0 x2 x4 v2 hr23
        · refine r_lload E dX67_isName_55 0 rfl ?_
          refine r_lconst (v := 0) E dX67_isName_57 (by decide) (zkJ (by decide) (by decide)) ?_
          refine r_lcmp_gt E 66 (by decide) dX67_isName_58 dX67_isName_59 (fun _ => ?_) (fun _ => ?_)
          · refine r_pick E [1, 2, 4, 0] rfl ?_
            exact w_fX67_isName_J66 E hN hT x0 x2 x4 v2 hr23
          · refine r_pick E [1, 2, 4, 0] rfl ?_
            exact w_fX67_isName_J62 E hN hT x0 x2 x4 v2 hr23
theorem w_fX67_isName {K : zK} (E : zE K cX67_isName "RingHouseModel" (some .boolean) 2) (hN : zNl K = 7) (hT : zTr K = (some 0)) (x0 : Int) : zR K 0 [(0, 1, x0)] [] (fX67_isName x0) := by
  refine r_lload_n E dX67_isName_0 rfl 0 rfl ?_
  refine r_callS E [(1, x0)] [] rfl q3625 q3626 q294 q3627 dX67_isName_1 zy_X67_isWord rfl (by omega) (by decide) (Nat.le_of_ble_eq_true rfl) (fun l G => k_fX67_isWord l G x0) (fun v1 => ?_)
  refine r_if_eq E 13 (by decide) dX67_isName_4 (fun _ => ?_) (fun _ => ?_)
  · refine r_iconst E dX67_isName_13 (zkI (by decide) (by decide)) ?_
    exact r_zreturn E rfl hT (by decide) dX67_isName_14
  · refine r_lload_n E dX67_isName_7 rfl 0 rfl ?_
    refine r_lconst (v := 0) E dX67_isName_8 (by decide) (zkJ (by decide) (by decide)) ?_
    refine r_lcmp_ne E 15 (by decide) dX67_isName_9 dX67_isName_10 (fun _ => ?_) (fun _ => ?_)
    · refine r_iconst E dX67_isName_15 (zkI (by decide) (by decide)) ?_
      refine r_istore_n (ls' := [(2, 0, 0), (0, 1, x0)]) E dX67_isName_16 rfl (by rw [hN]; decide) rfl ?_
      refine r_iconst E dX67_isName_17 (zkI (by decide) (by decide)) ?_
      refine r_istore_n (ls' := [(3, 0, 1), (2, 0, 0), (0, 1, x0)]) E dX67_isName_18 rfl (by rw [hN]; decide) rfl ?_
      refine r_bipush E dX67_isName_19 (by decide) (zkI (by decide) (by decide)) ?_
      refine r_istore (ls' := [(4, 0, 30), (3, 0, 1), (2, 0, 0), (0, 1, x0)]) E dX67_isName_21 (by rw [hN]; decide) rfl ?_
      refine r_pick E [3, 2, 1, 0] rfl ?_
      exact r_loop (L := fun s => [(0, 1, x0), (2, 0, s.1), (3, 0, s.2.1), (4, 0, s.2.2)]) (w_fX67_isName_B23 E hN hT x0) zBIG (0, 1, 30)
    · refine r_iconst E dX67_isName_13 (zkI (by decide) (by decide)) ?_
      exact r_zreturn E rfl hT (by decide) dX67_isName_14
theorem k_fX67_isName (l : Launch) (G : zG) (x0 : Int) : zCt l G yX67_isName cX67_isName 7 (some .boolean) 2 [(1, x0)] (some 0) (fX67_isName x0) := zCt.of (by decide) (Nat.le_of_ble_eq_true rfl) (fun K E _ _ hN hT => w_fX67_isName E hN hT x0)
theorem dX67_dominates_0 : decode cX67_dominates 0 = .ok (.iload_n 0, 1) := by decide +kernel
theorem dX67_dominates_1 : decode cX67_dominates 1 = .ok (.bipush 8, 2) := by decide +kernel
theorem dX67_dominates_3 : decode cX67_dominates 3 = .ok (.idiv, 1) := by decide +kernel
theorem dX67_dominates_4 : decode cX67_dominates 4 = .ok (.iload_n 1, 1) := by decide +kernel
theorem dX67_dominates_5 : decode cX67_dominates 5 = .ok (.bipush 8, 2) := by decide +kernel
theorem dX67_dominates_7 : decode cX67_dominates 7 = .ok (.idiv, 1) := by decide +kernel
theorem dX67_dominates_8 : decode cX67_dominates 8 = .ok (.if_icmp .lt 20, 3) := by decide +kernel
theorem dX67_dominates_11 : decode cX67_dominates 11 = .ok (.iload_n 0, 1) := by decide +kernel
theorem dX67_dominates_12 : decode cX67_dominates 12 = .ok (.iload_n 1, 1) := by decide +kernel
theorem dX67_dominates_13 : decode cX67_dominates 13 = .ok (.iand, 1) := by decide +kernel
theorem dX67_dominates_14 : decode cX67_dominates 14 = .ok (.bipush 7, 2) := by decide +kernel
theorem dX67_dominates_16 : decode cX67_dominates 16 = .ok (.iand, 1) := by decide +kernel
theorem dX67_dominates_17 : decode cX67_dominates 17 = .ok (.iload_n 1, 1) := by decide +kernel
theorem dX67_dominates_18 : decode cX67_dominates 18 = .ok (.bipush 7, 2) := by decide +kernel
theorem dX67_dominates_20 : decode cX67_dominates 20 = .ok (.iand, 1) := by decide +kernel
theorem dX67_dominates_21 : decode cX67_dominates 21 = .ok (.if_icmp .ne 7, 3) := by decide +kernel
theorem dX67_dominates_24 : decode cX67_dominates 24 = .ok (.iconst 1, 1) := by decide +kernel
theorem dX67_dominates_25 : decode cX67_dominates 25 = .ok (.goto 4, 3) := by decide +kernel
theorem dX67_dominates_28 : decode cX67_dominates 28 = .ok (.iconst 0, 1) := by decide +kernel
theorem dX67_dominates_29 : decode cX67_dominates 29 = .ok (.ireturn, 1) := by decide +kernel
theorem zy_X67_dominates : yX67_dominates.cls ≠ "java/lang/invoke/MethodHandle" ∧ yX67_dominates.cls ≠ "java/lang/invoke/VarHandle" ∧ (parseMethodDescriptor yX67_dominates.desc).map (fun d => d.parameters.length) = some 2 := by decide +kernel
theorem w_fX67_dominates {K : zK} (E : zE K cX67_dominates "RingHouseModel" (some .boolean) 0) (hN : zNl K = 2) (hT : zTr K = (some 0)) (x0 : Int) (x1 : Int) : zR K 0 [(0, 0, x0), (1, 0, x1)] [] (fX67_dominates x0 x1) := by
  refine r_iload_n E dX67_dominates_0 rfl 0 rfl ?_
  refine r_bipush E dX67_dominates_1 (by decide) (zkI (by decide) (by decide)) ?_
  refine r_idiv E (by decide) dX67_dominates_3 ?_
  refine r_iload_n E dX67_dominates_4 rfl 1 rfl ?_
  refine r_bipush E dX67_dominates_5 (by decide) (zkI (by decide) (by decide)) ?_
  refine r_idiv E (by decide) dX67_dominates_7 ?_
  refine r_icmp_lt E 28 (by decide) dX67_dominates_8 (fun _ => ?_) (fun _ => ?_)
  · refine r_iconst E dX67_dominates_28 (zkI (by decide) (by decide)) ?_
    exact r_zreturn E rfl hT (by decide) dX67_dominates_29
  · refine r_iload_n E dX67_dominates_11 rfl 0 rfl ?_
    refine r_iload_n E dX67_dominates_12 rfl 1 rfl ?_
    refine r_iand E dX67_dominates_13 ?_
    refine r_bipush E dX67_dominates_14 (by decide) (zkI (by decide) (by decide)) ?_
    refine r_imask (P := 8) E 3 (by decide) (by decide) (by decide) dX67_dominates_16 ?_
    refine r_iload_n E dX67_dominates_17 rfl 1 rfl ?_
    refine r_bipush E dX67_dominates_18 (by decide) (zkI (by decide) (by decide)) ?_
    refine r_imask (P := 8) E 3 (by decide) (by decide) (by decide) dX67_dominates_20 ?_
    refine r_icmp_ne E 28 (by decide) dX67_dominates_21 (fun _ => ?_) (fun _ => ?_)
    · refine r_iconst E dX67_dominates_28 (zkI (by decide) (by decide)) ?_
      exact r_zreturn E rfl hT (by decide) dX67_dominates_29
    · refine r_iconst E dX67_dominates_24 (zkI (by decide) (by decide)) ?_
      refine r_goto E 29 (by decide) dX67_dominates_25 ?_
      exact r_zreturn E rfl hT (by decide) dX67_dominates_29
theorem k_fX67_dominates (l : Launch) (G : zG) (x0 : Int) (x1 : Int) : zCt l G yX67_dominates cX67_dominates 2 (some .boolean) 0 [(0, x0), (0, x1)] (some 0) (fX67_dominates x0 x1) := zCt.of (by decide) (Nat.le_of_ble_eq_true rfl) (fun K E _ _ hN hT => w_fX67_dominates E hN hT x0 x1)
theorem dX67_entryNamed_0 : decode cX67_entryNamed 0 = .ok (.iconst (-1), 1) := by decide +kernel
theorem dX67_entryNamed_1 : decode cX67_entryNamed 1 = .ok (.istore 4, 2) := by decide +kernel
theorem dX67_entryNamed_3 : decode cX67_entryNamed 3 = .ok (.iconst 1, 1) := by decide +kernel
theorem dX67_entryNamed_4 : decode cX67_entryNamed 4 = .ok (.istore 5, 2) := by decide +kernel
theorem dX67_entryNamed_6 : decode cX67_entryNamed 6 = .ok (.iload 5, 2) := by decide +kernel
theorem dX67_entryNamed_8 : decode cX67_entryNamed 8 = .ok (.sipush 256, 3) := by decide +kernel
theorem dX67_entryNamed_11 : decode cX67_entryNamed 11 = .ok (.if_icmp .ge 51, 3) := by decide +kernel
theorem dX67_entryNamed_14 : decode cX67_entryNamed 14 = .ok (.aload_n 0, 1) := by decide +kernel
theorem dX67_entryNamed_15 : decode cX67_entryNamed 15 = .ok (.getfield 7, 3) := by decide +kernel
theorem dX67_entryNamed_18 : decode cX67_entryNamed 18 = .ok (.iload 5, 2) := by decide +kernel
theorem dX67_entryNamed_20 : decode cX67_entryNamed 20 = .ok (.iaload, 1) := by decide +kernel
theorem dX67_entryNamed_21 : decode cX67_entryNamed 21 = .ok (.ifCond .le 31, 3) := by decide +kernel
theorem dX67_entryNamed_24 : decode cX67_entryNamed 24 = .ok (.aload_n 0, 1) := by decide +kernel
theorem dX67_entryNamed_25 : decode cX67_entryNamed 25 = .ok (.getfield 17, 3) := by decide +kernel
theorem dX67_entryNamed_28 : decode cX67_entryNamed 28 = .ok (.iload 5, 2) := by decide +kernel
theorem dX67_entryNamed_30 : decode cX67_entryNamed 30 = .ok (.iaload, 1) := by decide +kernel
theorem dX67_entryNamed_31 : decode cX67_entryNamed 31 = .ok (.iload_n 1, 1) := by decide +kernel
theorem dX67_entryNamed_32 : decode cX67_entryNamed 32 = .ok (.if_icmp .ne 20, 3) := by decide +kernel
theorem dX67_entryNamed_35 : decode cX67_entryNamed 35 = .ok (.aload_n 0, 1) := by decide +kernel
theorem dX67_entryNamed_36 : decode cX67_entryNamed 36 = .ok (.getfield 13, 3) := by decide +kernel
theorem dX67_entryNamed_39 : decode cX67_entryNamed 39 = .ok (.iload 5, 2) := by decide +kernel
theorem dX67_entryNamed_41 : decode cX67_entryNamed 41 = .ok (.laload, 1) := by decide +kernel
theorem dX67_entryNamed_42 : decode cX67_entryNamed 42 = .ok (.lload_n 2, 1) := by decide +kernel
theorem dX67_entryNamed_43 : decode cX67_entryNamed 43 = .ok (.lcmp, 1) := by decide +kernel
theorem dX67_entryNamed_44 : decode cX67_entryNamed 44 = .ok (.ifCond .ne 8, 3) := by decide +kernel
theorem dX67_entryNamed_47 : decode cX67_entryNamed 47 = .ok (.iload 5, 2) := by decide +kernel
theorem dX67_entryNamed_49 : decode cX67_entryNamed 49 = .ok (.goto 5, 3) := by decide +kernel
theorem dX67_entryNamed_52 : decode cX67_entryNamed 52 = .ok (.iload 4, 2) := by decide +kernel
theorem dX67_entryNamed_54 : decode cX67_entryNamed 54 = .ok (.istore 4, 2) := by decide +kernel
theorem dX67_entryNamed_56 : decode cX67_entryNamed 56 = .ok (.iinc 5 1, 3) := by decide +kernel
theorem dX67_entryNamed_59 : decode cX67_entryNamed 59 = .ok (.goto (-53), 3) := by decide +kernel
theorem dX67_entryNamed_62 : decode cX67_entryNamed 62 = .ok (.iload 4, 2) := by decide +kernel
theorem dX67_entryNamed_64 : decode cX67_entryNamed 64 = .ok (.ireturn, 1) := by decide +kernel
theorem zy_X67_entryNamed : yX67_entryNamed.cls ≠ "java/lang/invoke/MethodHandle" ∧ yX67_entryNamed.cls ≠ "java/lang/invoke/VarHandle" ∧ (parseMethodDescriptor yX67_entryNamed.desc).map (fun d => d.parameters.length) = some 2 := by decide +kernel
theorem w_fX67_entryNamed_J54 {K : zK} (E : zE K cX67_entryNamed "RingHouseModel" (some .int) 0) (hN : zNl K = 6) (hT : zTr K = (some 0)) (x1 : Int) (x2 : Int) (x5 : Int) (s0 : Int) {r6 : Int × Int → zX} (hr6 : ∀ s : Int × Int, zR K 6 [(0, 69, 0), (1, 0, x1), (2, 1, x2), (4, 0, s.1), (5, 0, s.2)] [] (r6 s)) : zR K 54 [(0, 69, 0), (1, 0, x1), (2, 1, x2), (5, 0, x5)] [(0, s0)] (fX67_entryNamed_J54 r6 x1 x2 x5 s0) := by
  refine r_istore (ls' := [(4, 0, s0), (0, 69, 0), (1, 0, x1), (2, 1, x2), (5, 0, x5)]) E dX67_entryNamed_54 (by rw [hN]; decide) rfl ?_
  refine r_iinc (ls' := fun v2 => [(5, 0, v2), (4, 0, s0), (0, 69, 0), (1, 0, x1), (2, 1, x2)]) E 4 rfl (by rw [hN]; decide) (fun _ => rfl) dX67_entryNamed_56 (fun v2 _ => ?_)
  refine r_goto E 6 (by decide) dX67_entryNamed_59 ?_
  refine r_pick E [2, 3, 4, 1, 0] rfl ?_
  exact hr6 (s0, v2)
theorem w_fX67_entryNamed_J52 {K : zK} (E : zE K cX67_entryNamed "RingHouseModel" (some .int) 0) (hN : zNl K = 6) (hT : zTr K = (some 0)) (x1 : Int) (x2 : Int) (x4 : Int) (x5 : Int) {r6 : Int × Int → zX} (hr6 : ∀ s : Int × Int, zR K 6 [(0, 69, 0), (1, 0, x1), (2, 1, x2), (4, 0, s.1), (5, 0, s.2)] [] (r6 s)) : zR K 52 [(0, 69, 0), (1, 0, x1), (2, 1, x2), (4, 0, x4), (5, 0, x5)] [] (fX67_entryNamed_J52 r6 x1 x2 x4 x5) := by
  refine r_iload E dX67_entryNamed_52 3 rfl ?_
  refine r_pick E [0, 1, 2, 4] rfl ?_
  exact w_fX67_entryNamed_J54 E hN hT x1 x2 x5 x4 hr6
theorem w_fX67_entryNamed_B6 {K : zK} (E : zE K cX67_entryNamed "RingHouseModel" (some .int) 0) (hN : zNl K = 6) (hT : zTr K = (some 0)) (x1 : Int) (x2 : Int) : ∀ r6 : Int × Int → zX, (∀ s : Int × Int, zR K 6 [(0, 69, 0), (1, 0, x1), (2, 1, x2), (4, 0, s.1), (5, 0, s.2)] [] (r6 s)) → ∀ s : Int × Int, zR K 6 [(0, 69, 0), (1, 0, x1), (2, 1, x2), (4, 0, s.1), (5, 0, s.2)] [] (fX67_entryNamed_B6 x1 x2 r6 s) := by
  intro r6 hr6 s
  obtain ⟨x4, x5⟩ := s
  refine r_iload E dX67_entryNamed_6 4 rfl ?_
  refine r_sipush E dX67_entryNamed_8 (by decide) (zkI (by decide) (by decide)) ?_
  refine r_icmp_ge E 62 (by decide) dX67_entryNamed_11 (fun _ => ?_) (fun _ => ?_)
  · refine r_iload E dX67_entryNamed_62 3 rfl ?_
    exact r_ireturn E rfl hT dX67_entryNamed_64
  · refine r_aload_n E dX67_entryNamed_14 rfl 0 rfl ?_
    refine r_gec (y := 0) E zc_69 dX67_entryNamed_15 q3215 zr_69 (zh_6800 (by decide)) (by decide) ?_
    refine r_iload E dX67_entryNamed_18 4 rfl ?_
    refine r_iaload E zc_6800 za_6800 zt_6800 zx_6800 rfl rfl dX67_entryNamed_20 (by decide) (fun v1 => ?_)
    refine r_if_le E 52 (by decide) dX67_entryNamed_21 (fun _ => ?_) (fun _ => ?_)
    · exact w_fX67_entryNamed_J52 E hN hT x1 x2 x4 x5 hr6
    · refine r_aload_n E dX67_entryNamed_24 rfl 0 rfl ?_
      refine r_gec (y := 0) E zc_69 dX67_entryNamed_25 q3217 zr_69 (zh_6802 (by decide)) (by decide) ?_
      refine r_iload E dX67_entryNamed_28 4 rfl ?_
      refine r_iaload E zc_6802 za_6802 zt_6802 zx_6802 rfl rfl dX67_entryNamed_30 (by decide) (fun v3 => ?_)
      refine r_iload_n E dX67_entryNamed_31 rfl 1 rfl ?_
      refine r_icmp_ne E 52 (by decide) dX67_entryNamed_32 (fun _ => ?_) (fun _ => ?_)
      · exact w_fX67_entryNamed_J52 E hN hT x1 x2 x4 x5 hr6
      · refine r_aload_n E dX67_entryNamed_35 rfl 0 rfl ?_
        refine r_gec (y := 0) E zc_69 dX67_entryNamed_36 q3216 zr_69 (zh_6801 (by decide)) (by decide) ?_
        refine r_iload E dX67_entryNamed_39 4 rfl ?_
        refine r_laload E zc_6801 za_6801 zt_6801 zx_6801 rfl rfl dX67_entryNamed_41 (by decide) (fun v4 => ?_)
        refine r_lload_n E dX67_entryNamed_42 rfl 2 rfl ?_
        refine r_lcmp_ne E 52 (by decide) dX67_entryNamed_43 dX67_entryNamed_44 (fun _ => ?_) (fun _ => ?_)
        · exact w_fX67_entryNamed_J52 E hN hT x1 x2 x4 x5 hr6
        · refine r_iload E dX67_entryNamed_47 4 rfl ?_
          refine r_goto E 54 (by decide) dX67_entryNamed_49 ?_
          refine r_pick E [0, 1, 2, 4] rfl ?_
          exact w_fX67_entryNamed_J54 E hN hT x1 x2 x5 x5 hr6
theorem w_fX67_entryNamed {K : zK} (E : zE K cX67_entryNamed "RingHouseModel" (some .int) 0) (hN : zNl K = 6) (hT : zTr K = (some 0)) (x1 : Int) (x2 : Int) : zR K 0 [(0, 69, 0), (1, 0, x1), (2, 1, x2)] [] (fX67_entryNamed x1 x2) := by
  refine r_iconst E dX67_entryNamed_0 (zkI (by decide) (by decide)) ?_
  refine r_istore (ls' := [(4, 0, (-1)), (0, 69, 0), (1, 0, x1), (2, 1, x2)]) E dX67_entryNamed_1 (by rw [hN]; decide) rfl ?_
  refine r_iconst E dX67_entryNamed_3 (zkI (by decide) (by decide)) ?_
  refine r_istore (ls' := [(5, 0, 1), (4, 0, (-1)), (0, 69, 0), (1, 0, x1), (2, 1, x2)]) E dX67_entryNamed_4 (by rw [hN]; decide) rfl ?_
  refine r_pick E [2, 3, 4, 1, 0] rfl ?_
  exact r_loop (L := fun s => [(0, 69, 0), (1, 0, x1), (2, 1, x2), (4, 0, s.1), (5, 0, s.2)]) (w_fX67_entryNamed_B6 E hN hT x1 x2) zBIG ((-1), 1)
theorem k_fX67_entryNamed (l : Launch) (G : zG) (x1 : Int) (x2 : Int) : zCt l G yX67_entryNamed cX67_entryNamed 6 (some .int) 0 [(69, 0), (0, x1), (1, x2)] (some 0) (fX67_entryNamed x1 x2) := zCt.of (by decide) (Nat.le_of_ble_eq_true rfl) (fun K E _ _ hN hT => w_fX67_entryNamed E hN hT x1 x2)
theorem dX67_costOf_0 : decode cX67_costOf 0 = .ok (.iload_n 0, 1) := by decide +kernel
theorem dX67_costOf_1 : decode cX67_costOf 1 = .ok (.iconst 2, 1) := by decide +kernel
theorem dX67_costOf_2 : decode cX67_costOf 2 = .ok (.if_icmp .ne 15, 3) := by decide +kernel
theorem dX67_costOf_5 : decode cX67_costOf 5 = .ok (.iconst 1, 1) := by decide +kernel
theorem dX67_costOf_6 : decode cX67_costOf 6 = .ok (.iload_n 1, 1) := by decide +kernel
theorem dX67_costOf_7 : decode cX67_costOf 7 = .ok (.bipush 63, 2) := by decide +kernel
theorem dX67_costOf_9 : decode cX67_costOf 9 = .ok (.iadd, 1) := by decide +kernel
theorem dX67_costOf_10 : decode cX67_costOf 10 = .ok (.bipush 64, 2) := by decide +kernel
theorem dX67_costOf_12 : decode cX67_costOf 12 = .ok (.idiv, 1) := by decide +kernel
theorem dX67_costOf_13 : decode cX67_costOf 13 = .ok (.iadd, 1) := by decide +kernel
theorem dX67_costOf_14 : decode cX67_costOf 14 = .ok (.goto 16, 3) := by decide +kernel
theorem dX67_costOf_17 : decode cX67_costOf 17 = .ok (.iload_n 0, 1) := by decide +kernel
theorem dX67_costOf_18 : decode cX67_costOf 18 = .ok (.iconst 3, 1) := by decide +kernel
theorem dX67_costOf_19 : decode cX67_costOf 19 = .ok (.if_icmp .ne 8, 3) := by decide +kernel
theorem dX67_costOf_22 : decode cX67_costOf 22 = .ok (.bipush 17, 2) := by decide +kernel
theorem dX67_costOf_24 : decode cX67_costOf 24 = .ok (.goto 6, 3) := by decide +kernel
theorem dX67_costOf_27 : decode cX67_costOf 27 = .ok (.iconst 1, 1) := by decide +kernel
theorem dX67_costOf_28 : decode cX67_costOf 28 = .ok (.iload_n 1, 1) := by decide +kernel
theorem dX67_costOf_29 : decode cX67_costOf 29 = .ok (.iadd, 1) := by decide +kernel
theorem dX67_costOf_30 : decode cX67_costOf 30 = .ok (.ireturn, 1) := by decide +kernel
theorem zy_X67_costOf : yX67_costOf.cls ≠ "java/lang/invoke/MethodHandle" ∧ yX67_costOf.cls ≠ "java/lang/invoke/VarHandle" ∧ (parseMethodDescriptor yX67_costOf.desc).map (fun d => d.parameters.length) = some 2 := by decide +kernel
theorem w_fX67_costOf {K : zK} (E : zE K cX67_costOf "RingHouseModel" (some .int) 0) (hN : zNl K = 2) (hT : zTr K = (some 0)) (x0 : Int) (x1 : Int) : zR K 0 [(0, 0, x0), (1, 0, x1)] [] (fX67_costOf x0 x1) := by
  refine r_iload_n E dX67_costOf_0 rfl 0 rfl ?_
  refine r_iconst E dX67_costOf_1 (zkI (by decide) (by decide)) ?_
  refine r_icmp_ne E 17 (by decide) dX67_costOf_2 (fun _ => ?_) (fun _ => ?_)
  · refine r_iload_n E dX67_costOf_17 rfl 0 rfl ?_
    refine r_iconst E dX67_costOf_18 (zkI (by decide) (by decide)) ?_
    refine r_icmp_ne E 27 (by decide) dX67_costOf_19 (fun _ => ?_) (fun _ => ?_)
    · refine r_iconst E dX67_costOf_27 (zkI (by decide) (by decide)) ?_
      refine r_iload_n E dX67_costOf_28 rfl 1 rfl ?_
      refine r_iadd E dX67_costOf_29 ?_
      exact r_ireturn E rfl hT dX67_costOf_30
    · refine r_bipush E dX67_costOf_22 (by decide) (zkI (by decide) (by decide)) ?_
      refine r_goto E 30 (by decide) dX67_costOf_24 ?_
      exact r_ireturn E rfl hT dX67_costOf_30
  · refine r_iconst E dX67_costOf_5 (zkI (by decide) (by decide)) ?_
    refine r_iload_n E dX67_costOf_6 rfl 1 rfl ?_
    refine r_bipush E dX67_costOf_7 (by decide) (zkI (by decide) (by decide)) ?_
    refine r_iadd E dX67_costOf_9 ?_
    refine r_bipush E dX67_costOf_10 (by decide) (zkI (by decide) (by decide)) ?_
    refine r_idiv E (by decide) dX67_costOf_12 ?_
    refine r_iadd E dX67_costOf_13 ?_
    refine r_goto E 30 (by decide) dX67_costOf_14 ?_
    exact r_ireturn E rfl hT dX67_costOf_30
theorem k_fX67_costOf (l : Launch) (G : zG) (x0 : Int) (x1 : Int) : zCt l G yX67_costOf cX67_costOf 2 (some .int) 0 [(0, x0), (0, x1)] (some 0) (fX67_costOf x0 x1) := zCt.of (by decide) (Nat.le_of_ble_eq_true rfl) (fun K E _ _ hN hT => w_fX67_costOf E hN hT x0 x1)
theorem dX67_account_0 : decode cX67_account 0 = .ok (.iload_n 1, 1) := by decide +kernel
theorem dX67_account_1 : decode cX67_account 1 = .ok (.istore_n 2, 1) := by decide +kernel
theorem dX67_account_2 : decode cX67_account 2 = .ok (.aload_n 0, 1) := by decide +kernel
theorem dX67_account_3 : decode cX67_account 3 = .ok (.getfield 32, 3) := by decide +kernel
theorem dX67_account_6 : decode cX67_account 6 = .ok (.iload_n 2, 1) := by decide +kernel
theorem dX67_account_7 : decode cX67_account 7 = .ok (.iaload, 1) := by decide +kernel
theorem dX67_account_8 : decode cX67_account 8 = .ok (.ifCond .ne 13, 3) := by decide +kernel
theorem dX67_account_11 : decode cX67_account 11 = .ok (.aload_n 0, 1) := by decide +kernel
theorem dX67_account_12 : decode cX67_account 12 = .ok (.getfield 17, 3) := by decide +kernel
theorem dX67_account_15 : decode cX67_account 15 = .ok (.iload_n 2, 1) := by decide +kernel
theorem dX67_account_16 : decode cX67_account 16 = .ok (.iaload, 1) := by decide +kernel
theorem dX67_account_17 : decode cX67_account 17 = .ok (.istore_n 2, 1) := by decide +kernel
theorem dX67_account_18 : decode cX67_account 18 = .ok (.goto (-16), 3) := by decide +kernel
theorem dX67_account_21 : decode cX67_account 21 = .ok (.iload_n 2, 1) := by decide +kernel
theorem dX67_account_22 : decode cX67_account 22 = .ok (.ireturn, 1) := by decide +kernel
theorem zy_X67_account : yX67_account.cls ≠ "java/lang/invoke/MethodHandle" ∧ yX67_account.cls ≠ "java/lang/invoke/VarHandle" ∧ (parseMethodDescriptor yX67_account.desc).map (fun d => d.parameters.length) = some 1 := by decide +kernel
theorem w_fX67_account_B2 {K : zK} (E : zE K cX67_account "RingHouseModel" (some .int) 0) (hN : zNl K = 3) (hT : zTr K = (some 0)) : ∀ r2 : Int → zX, (∀ s : Int, zR K 2 [(0, 69, 0), (2, 0, s)] [] (r2 s)) → ∀ s : Int, zR K 2 [(0, 69, 0), (2, 0, s)] [] (fX67_account_B2 r2 s) := by
  intro r2 hr2 x2
  refine r_aload_n E dX67_account_2 rfl 0 rfl ?_
  refine r_gec (y := 0) E zc_69 dX67_account_3 q3222 zr_69 (zh_6807 (by decide)) (by decide) ?_
  refine r_iload_n E dX67_account_6 rfl 1 rfl ?_
  refine r_iaload E zc_6807 za_6807 zt_6807 zx_6807 rfl rfl dX67_account_7 (by decide) (fun v1 => ?_)
  refine r_if_ne E 21 (by decide) dX67_account_8 (fun _ => ?_) (fun _ => ?_)
  · refine r_iload_n E dX67_account_21 rfl 1 rfl ?_
    exact r_ireturn E rfl hT dX67_account_22
  · refine r_aload_n E dX67_account_11 rfl 0 rfl ?_
    refine r_gec (y := 0) E zc_69 dX67_account_12 q3217 zr_69 (zh_6802 (by decide)) (by decide) ?_
    refine r_iload_n E dX67_account_15 rfl 1 rfl ?_
    refine r_iaload E zc_6802 za_6802 zt_6802 zx_6802 rfl rfl dX67_account_16 (by decide) (fun v2 => ?_)
    refine r_istore_n (ls' := [(2, 0, v2), (0, 69, 0)]) E dX67_account_17 rfl (by rw [hN]; decide) rfl ?_
    refine r_goto E 2 (by decide) dX67_account_18 ?_
    refine r_pick E [1, 0] rfl ?_
    exact hr2 v2
theorem w_fX67_account {K : zK} (E : zE K cX67_account "RingHouseModel" (some .int) 0) (hN : zNl K = 3) (hT : zTr K = (some 0)) (x1 : Int) : zR K 0 [(0, 69, 0), (1, 0, x1)] [] (fX67_account x1) := by
  refine r_iload_n E dX67_account_0 rfl 1 rfl ?_
  refine r_istore_n (ls' := [(2, 0, x1), (0, 69, 0), (1, 0, x1)]) E dX67_account_1 rfl (by rw [hN]; decide) rfl ?_
  refine r_pick E [1, 0] rfl ?_
  exact r_loop (L := fun s => [(0, 69, 0), (2, 0, s)]) (w_fX67_account_B2 E hN hT) zBIG x1
theorem k_fX67_account (l : Launch) (G : zG) (x1 : Int) : zCt l G yX67_account cX67_account 3 (some .int) 0 [(69, 0), (0, x1)] (some 0) (fX67_account x1) := zCt.of (by decide) (Nat.le_of_ble_eq_true rfl) (fun K E _ _ hN hT => w_fX67_account E hN hT x1)
theorem dX67_hasRoom_0 : decode cX67_hasRoom 0 = .ok (.aload_n 0, 1) := by decide +kernel
theorem dX67_hasRoom_1 : decode cX67_hasRoom 1 = .ok (.iload_n 1, 1) := by decide +kernel
theorem dX67_hasRoom_2 : decode cX67_hasRoom 2 = .ok (.invokevirtual 390, 3) := by decide +kernel
theorem dX67_hasRoom_5 : decode cX67_hasRoom 5 = .ok (.istore_n 3, 1) := by decide +kernel
theorem dX67_hasRoom_6 : decode cX67_hasRoom 6 = .ok (.aload_n 0, 1) := by decide +kernel
theorem dX67_hasRoom_7 : decode cX67_hasRoom 7 = .ok (.getfield 35, 3) := by decide +kernel
theorem dX67_hasRoom_10 : decode cX67_hasRoom 10 = .ok (.iload_n 3, 1) := by decide +kernel
theorem dX67_hasRoom_11 : decode cX67_hasRoom 11 = .ok (.iaload, 1) := by decide +kernel
theorem dX67_hasRoom_12 : decode cX67_hasRoom 12 = .ok (.iload_n 2, 1) := by decide +kernel
theorem dX67_hasRoom_13 : decode cX67_hasRoom 13 = .ok (.iadd, 1) := by decide +kernel
theorem dX67_hasRoom_14 : decode cX67_hasRoom 14 = .ok (.aload_n 0, 1) := by decide +kernel
theorem dX67_hasRoom_15 : decode cX67_hasRoom 15 = .ok (.getfield 32, 3) := by decide +kernel
theorem dX67_hasRoom_18 : decode cX67_hasRoom 18 = .ok (.iload_n 3, 1) := by decide +kernel
theorem dX67_hasRoom_19 : decode cX67_hasRoom 19 = .ok (.iaload, 1) := by decide +kernel
theorem dX67_hasRoom_20 : decode cX67_hasRoom 20 = .ok (.if_icmp .gt 7, 3) := by decide +kernel
theorem dX67_hasRoom_23 : decode cX67_hasRoom 23 = .ok (.iconst 1, 1) := by decide +kernel
theorem dX67_hasRoom_24 : decode cX67_hasRoom 24 = .ok (.goto 4, 3) := by decide +kernel
theorem dX67_hasRoom_27 : decode cX67_hasRoom 27 = .ok (.iconst 0, 1) := by decide +kernel
theorem dX67_hasRoom_28 : decode cX67_hasRoom 28 = .ok (.ireturn, 1) := by decide +kernel
theorem zy_X67_hasRoom : yX67_hasRoom.cls ≠ "java/lang/invoke/MethodHandle" ∧ yX67_hasRoom.cls ≠ "java/lang/invoke/VarHandle" ∧ (parseMethodDescriptor yX67_hasRoom.desc).map (fun d => d.parameters.length) = some 2 := by decide +kernel
theorem w_fX67_hasRoom {K : zK} (E : zE K cX67_hasRoom "RingHouseModel" (some .boolean) 1) (hN : zNl K = 4) (hT : zTr K = (some 0)) (x1 : Int) (x2 : Int) : zR K 0 [(0, 69, 0), (1, 0, x1), (2, 0, x2)] [] (fX67_hasRoom x1 x2) := by
  refine r_aload_n E dX67_hasRoom_0 rfl 0 rfl ?_
  refine r_iload_n E dX67_hasRoom_1 rfl 1 rfl ?_
  refine r_callV E [(0, x1)] [] rfl zc_69 zr_69 (fun o _ => ⟨_, zw_X67.1 o, rfl⟩) (lw_V q3646 q3648 qs96 q294 q3649) dX67_hasRoom_2 zy_X67_account rfl (by omega) (by decide) (Nat.le_of_ble_eq_true rfl) (by decide) (fun l G => k_fX67_account l G x1) (fun v1 => ?_)
  refine r_istore_n (ls' := [(3, 0, v1), (0, 69, 0), (1, 0, x1), (2, 0, x2)]) E dX67_hasRoom_5 rfl (by rw [hN]; decide) rfl ?_
  refine r_aload_n E dX67_hasRoom_6 rfl 1 rfl ?_
  refine r_gec (y := 0) E zc_69 dX67_hasRoom_7 q3223 zr_69 (zh_6808 (by decide)) (by decide) ?_
  refine r_iload_n E dX67_hasRoom_10 rfl 0 rfl ?_
  refine r_iaload E zc_6808 za_6808 zt_6808 zx_6808 rfl rfl dX67_hasRoom_11 (by decide) (fun v2 => ?_)
  refine r_iload_n E dX67_hasRoom_12 rfl 3 rfl ?_
  refine r_iadd E dX67_hasRoom_13 ?_
  refine r_aload_n E dX67_hasRoom_14 rfl 1 rfl ?_
  refine r_gec (y := 0) E zc_69 dX67_hasRoom_15 q3222 zr_69 (zh_6807 (by decide)) (by decide) ?_
  refine r_iload_n E dX67_hasRoom_18 rfl 0 rfl ?_
  refine r_iaload E zc_6807 za_6807 zt_6807 zx_6807 rfl rfl dX67_hasRoom_19 (by decide) (fun v3 => ?_)
  refine r_icmp_gt E 27 (by decide) dX67_hasRoom_20 (fun _ => ?_) (fun _ => ?_)
  · refine r_iconst E dX67_hasRoom_27 (zkI (by decide) (by decide)) ?_
    exact r_zreturn E rfl hT (by decide) dX67_hasRoom_28
  · refine r_iconst E dX67_hasRoom_23 (zkI (by decide) (by decide)) ?_
    refine r_goto E 28 (by decide) dX67_hasRoom_24 ?_
    exact r_zreturn E rfl hT (by decide) dX67_hasRoom_28
theorem k_fX67_hasRoom (l : Launch) (G : zG) (x1 : Int) (x2 : Int) : zCt l G yX67_hasRoom cX67_hasRoom 4 (some .boolean) 1 [(69, 0), (0, x1), (0, x2)] (some 0) (fX67_hasRoom x1 x2) := zCt.of (by decide) (Nat.le_of_ble_eq_true rfl) (fun K E _ _ hN hT => w_fX67_hasRoom E hN hT x1 x2)
theorem dX67_free_0 : decode cX67_free 0 = .ok (.iconst 0, 1) := by decide +kernel
theorem dX67_free_1 : decode cX67_free 1 = .ok (.istore_n 1, 1) := by decide +kernel
theorem dX67_free_2 : decode cX67_free 2 = .ok (.iload_n 1, 1) := by decide +kernel
theorem dX67_free_3 : decode cX67_free 3 = .ok (.sipush 256, 3) := by decide +kernel
theorem dX67_free_6 : decode cX67_free 6 = .ok (.if_icmp .ge 18, 3) := by decide +kernel
theorem dX67_free_9 : decode cX67_free 9 = .ok (.aload_n 0, 1) := by decide +kernel
theorem dX67_free_10 : decode cX67_free 10 = .ok (.getfield 7, 3) := by decide +kernel
theorem dX67_free_13 : decode cX67_free 13 = .ok (.iload_n 1, 1) := by decide +kernel
theorem dX67_free_14 : decode cX67_free 14 = .ok (.iaload, 1) := by decide +kernel
theorem dX67_free_15 : decode cX67_free 15 = .ok (.ifCond .le 9, 3) := by decide +kernel
theorem dX67_free_18 : decode cX67_free 18 = .ok (.iinc 1 1, 3) := by decide +kernel
theorem dX67_free_21 : decode cX67_free 21 = .ok (.goto (-19), 3) := by decide +kernel
theorem dX67_free_24 : decode cX67_free 24 = .ok (.iload_n 1, 1) := by decide +kernel
theorem dX67_free_25 : decode cX67_free 25 = .ok (.ireturn, 1) := by decide +kernel
theorem zy_X67_free : yX67_free.cls ≠ "java/lang/invoke/MethodHandle" ∧ yX67_free.cls ≠ "java/lang/invoke/VarHandle" ∧ (parseMethodDescriptor yX67_free.desc).map (fun d => d.parameters.length) = some 0 := by decide +kernel
theorem w_fX67_free_B2 {K : zK} (E : zE K cX67_free "RingHouseModel" (some .int) 0) (hN : zNl K = 2) (hT : zTr K = (some 0)) : ∀ r2 : Int → zX, (∀ s : Int, zR K 2 [(0, 69, 0), (1, 0, s)] [] (r2 s)) → ∀ s : Int, zR K 2 [(0, 69, 0), (1, 0, s)] [] (fX67_free_B2 r2 s) := by
  intro r2 hr2 x1
  refine r_iload_n E dX67_free_2 rfl 1 rfl ?_
  refine r_sipush E dX67_free_3 (by decide) (zkI (by decide) (by decide)) ?_
  refine r_icmp_ge E 24 (by decide) dX67_free_6 (fun _ => ?_) (fun _ => ?_)
  · refine r_iload_n E dX67_free_24 rfl 1 rfl ?_
    exact r_ireturn E rfl hT dX67_free_25
  · refine r_aload_n E dX67_free_9 rfl 0 rfl ?_
    refine r_gec (y := 0) E zc_69 dX67_free_10 q3215 zr_69 (zh_6800 (by decide)) (by decide) ?_
    refine r_iload_n E dX67_free_13 rfl 1 rfl ?_
    refine r_iaload E zc_6800 za_6800 zt_6800 zx_6800 rfl rfl dX67_free_14 (by decide) (fun v1 => ?_)
    refine r_if_le E 24 (by decide) dX67_free_15 (fun _ => ?_) (fun _ => ?_)
    · refine r_iload_n E dX67_free_24 rfl 1 rfl ?_
      exact r_ireturn E rfl hT dX67_free_25
    · refine r_iinc (ls' := fun v2 => [(1, 0, v2), (0, 69, 0)]) E 1 rfl (by rw [hN]; decide) (fun _ => rfl) dX67_free_18 (fun v2 _ => ?_)
      refine r_goto E 2 (by decide) dX67_free_21 ?_
      refine r_pick E [1, 0] rfl ?_
      exact hr2 v2
theorem w_fX67_free {K : zK} (E : zE K cX67_free "RingHouseModel" (some .int) 0) (hN : zNl K = 2) (hT : zTr K = (some 0)) : zR K 0 [(0, 69, 0)] [] (fX67_free) := by
  refine r_iconst E dX67_free_0 (zkI (by decide) (by decide)) ?_
  refine r_istore_n (ls' := [(1, 0, 0), (0, 69, 0)]) E dX67_free_1 rfl (by rw [hN]; decide) rfl ?_
  refine r_pick E [1, 0] rfl ?_
  exact r_loop (L := fun s => [(0, 69, 0), (1, 0, s)]) (w_fX67_free_B2 E hN hT) zBIG 0
theorem k_fX67_free (l : Launch) (G : zG) : zCt l G yX67_free cX67_free 2 (some .int) 0 [(69, 0)] (some 0) (fX67_free) := zCt.of (by decide) (Nat.le_of_ble_eq_true rfl) (fun K E _ _ hN hT => w_fX67_free E hN hT)
theorem dX67_setBrackets_0 : decode cX67_setBrackets 0 = .ok (.aload_n 0, 1) := by decide +kernel
theorem dX67_setBrackets_1 : decode cX67_setBrackets 1 = .ok (.getfield 23, 3) := by decide +kernel
theorem dX67_setBrackets_4 : decode cX67_setBrackets 4 = .ok (.iconst 3, 1) := by decide +kernel
theorem dX67_setBrackets_5 : decode cX67_setBrackets 5 = .ok (.iload_n 1, 1) := by decide +kernel
theorem dX67_setBrackets_6 : decode cX67_setBrackets 6 = .ok (.imul, 1) := by decide +kernel
theorem dX67_setBrackets_7 : decode cX67_setBrackets 7 = .ok (.iload_n 2, 1) := by decide +kernel
theorem dX67_setBrackets_8 : decode cX67_setBrackets 8 = .ok (.iastore, 1) := by decide +kernel
theorem dX67_setBrackets_9 : decode cX67_setBrackets 9 = .ok (.aload_n 0, 1) := by decide +kernel
theorem dX67_setBrackets_10 : decode cX67_setBrackets 10 = .ok (.getfield 23, 3) := by decide +kernel
theorem dX67_setBrackets_13 : decode cX67_setBrackets 13 = .ok (.iconst 3, 1) := by decide +kernel
theorem dX67_setBrackets_14 : decode cX67_setBrackets 14 = .ok (.iload_n 1, 1) := by decide +kernel
theorem dX67_setBrackets_15 : decode cX67_setBrackets 15 = .ok (.imul, 1) := by decide +kernel
theorem dX67_setBrackets_16 : decode cX67_setBrackets 16 = .ok (.iconst 1, 1) := by decide +kernel
theorem dX67_setBrackets_17 : decode cX67_setBrackets 17 = .ok (.iadd, 1) := by decide +kernel
theorem dX67_setBrackets_18 : decode cX67_setBrackets 18 = .ok (.iload_n 3, 1) := by decide +kernel
theorem dX67_setBrackets_19 : decode cX67_setBrackets 19 = .ok (.iastore, 1) := by decide +kernel
theorem dX67_setBrackets_20 : decode cX67_setBrackets 20 = .ok (.aload_n 0, 1) := by decide +kernel
theorem dX67_setBrackets_21 : decode cX67_setBrackets 21 = .ok (.getfield 23, 3) := by decide +kernel
theorem dX67_setBrackets_24 : decode cX67_setBrackets 24 = .ok (.iconst 3, 1) := by decide +kernel
theorem dX67_setBrackets_25 : decode cX67_setBrackets 25 = .ok (.iload_n 1, 1) := by decide +kernel
theorem dX67_setBrackets_26 : decode cX67_setBrackets 26 = .ok (.imul, 1) := by decide +kernel
theorem dX67_setBrackets_27 : decode cX67_setBrackets 27 = .ok (.iconst 2, 1) := by decide +kernel
theorem dX67_setBrackets_28 : decode cX67_setBrackets 28 = .ok (.iadd, 1) := by decide +kernel
theorem dX67_setBrackets_29 : decode cX67_setBrackets 29 = .ok (.iload 4, 2) := by decide +kernel
theorem dX67_setBrackets_31 : decode cX67_setBrackets 31 = .ok (.iastore, 1) := by decide +kernel
theorem dX67_setBrackets_32 : decode cX67_setBrackets 32 = .ok (.return_, 1) := by decide +kernel
theorem zy_X67_setBrackets : yX67_setBrackets.cls ≠ "java/lang/invoke/MethodHandle" ∧ yX67_setBrackets.cls ≠ "java/lang/invoke/VarHandle" ∧ (parseMethodDescriptor yX67_setBrackets.desc).map (fun d => d.parameters.length) = some 4 := by decide +kernel
theorem w_fX67_setBrackets {K : zK} (E : zE K cX67_setBrackets "RingHouseModel" none 0) (hN : zNl K = 5) (hT : zTr K = none) (x1 : Int) (x2 : Int) (x3 : Int) (x4 : Int) : zR K 0 [(0, 69, 0), (1, 0, x1), (2, 0, x2), (3, 0, x3), (4, 0, x4)] [] (fX67_setBrackets x1 x2 x3 x4) := by
  refine r_aload_n E dX67_setBrackets_0 rfl 0 rfl ?_
  refine r_gec (y := 0) E zc_69 dX67_setBrackets_1 q3219 zr_69 (zh_6804 (by decide)) (by decide) ?_
  refine r_iconst E dX67_setBrackets_4 (zkI (by decide) (by decide)) ?_
  refine r_iload_n E dX67_setBrackets_5 rfl 1 rfl ?_
  refine r_imul E dX67_setBrackets_6 ?_
  refine r_iload_n E dX67_setBrackets_7 rfl 2 rfl ?_
  refine r_iastore E zc_6804 za_6804 zt_6804 zo_6804 zx_6804 rfl rfl dX67_setBrackets_8 (by decide) ?_
  refine r_aload_n E dX67_setBrackets_9 rfl 0 rfl ?_
  refine r_gec (y := 0) E zc_69 dX67_setBrackets_10 q3219 zr_69 (zh_6804 (by decide)) (by decide) ?_
  refine r_iconst E dX67_setBrackets_13 (zkI (by decide) (by decide)) ?_
  refine r_iload_n E dX67_setBrackets_14 rfl 1 rfl ?_
  refine r_imul E dX67_setBrackets_15 ?_
  refine r_iconst E dX67_setBrackets_16 (zkI (by decide) (by decide)) ?_
  refine r_iadd E dX67_setBrackets_17 ?_
  refine r_iload_n E dX67_setBrackets_18 rfl 3 rfl ?_
  refine r_iastore E zc_6804 za_6804 zt_6804 zo_6804 zx_6804 rfl rfl dX67_setBrackets_19 (by decide) ?_
  refine r_aload_n E dX67_setBrackets_20 rfl 0 rfl ?_
  refine r_gec (y := 0) E zc_69 dX67_setBrackets_21 q3219 zr_69 (zh_6804 (by decide)) (by decide) ?_
  refine r_iconst E dX67_setBrackets_24 (zkI (by decide) (by decide)) ?_
  refine r_iload_n E dX67_setBrackets_25 rfl 1 rfl ?_
  refine r_imul E dX67_setBrackets_26 ?_
  refine r_iconst E dX67_setBrackets_27 (zkI (by decide) (by decide)) ?_
  refine r_iadd E dX67_setBrackets_28 ?_
  refine r_iload E dX67_setBrackets_29 4 rfl ?_
  refine r_iastore E zc_6804 za_6804 zt_6804 zo_6804 zx_6804 rfl rfl dX67_setBrackets_31 (by decide) ?_
  exact r_return E rfl hT dX67_setBrackets_32
theorem k_fX67_setBrackets (l : Launch) (G : zG) (x1 : Int) (x2 : Int) (x3 : Int) (x4 : Int) : zCt l G yX67_setBrackets cX67_setBrackets 5 none 0 [(69, 0), (0, x1), (0, x2), (0, x3), (0, x4)] none (fX67_setBrackets x1 x2 x3 x4) := zCt.of (by decide) (Nat.le_of_ble_eq_true rfl) (fun K E _ _ hN hT => w_fX67_setBrackets E hN hT x1 x2 x3 x4)
theorem dX67_make_0 : decode cX67_make 0 = .ok (.aload_n 0, 1) := by decide +kernel
theorem dX67_make_1 : decode cX67_make 1 = .ok (.invokevirtual 394, 3) := by decide +kernel
theorem dX67_make_4 : decode cX67_make 4 = .ok (.istore 7, 2) := by decide +kernel
theorem dX67_make_6 : decode cX67_make 6 = .ok (.aload_n 0, 1) := by decide +kernel
theorem dX67_make_7 : decode cX67_make 7 = .ok (.getfield 7, 3) := by decide +kernel
theorem dX67_make_10 : decode cX67_make 10 = .ok (.iload 7, 2) := by decide +kernel
theorem dX67_make_12 : decode cX67_make 12 = .ok (.iload_n 1, 1) := by decide +kernel
theorem dX67_make_13 : decode cX67_make 13 = .ok (.iastore, 1) := by decide +kernel
theorem dX67_make_14 : decode cX67_make 14 = .ok (.aload_n 0, 1) := by decide +kernel
theorem dX67_make_15 : decode cX67_make 15 = .ok (.getfield 13, 3) := by decide +kernel
theorem dX67_make_18 : decode cX67_make 18 = .ok (.iload 7, 2) := by decide +kernel
theorem dX67_make_20 : decode cX67_make 20 = .ok (.lload_n 3, 1) := by decide +kernel
theorem dX67_make_21 : decode cX67_make 21 = .ok (.lastore, 1) := by decide +kernel
theorem dX67_make_22 : decode cX67_make 22 = .ok (.aload_n 0, 1) := by decide +kernel
theorem dX67_make_23 : decode cX67_make 23 = .ok (.getfield 17, 3) := by decide +kernel
theorem dX67_make_26 : decode cX67_make 26 = .ok (.iload 7, 2) := by decide +kernel
theorem dX67_make_28 : decode cX67_make 28 = .ok (.iload_n 2, 1) := by decide +kernel
theorem dX67_make_29 : decode cX67_make 29 = .ok (.iastore, 1) := by decide +kernel
theorem dX67_make_30 : decode cX67_make 30 = .ok (.aload_n 0, 1) := by decide +kernel
theorem dX67_make_31 : decode cX67_make 31 = .ok (.getfield 20, 3) := by decide +kernel
theorem dX67_make_34 : decode cX67_make 34 = .ok (.iload 7, 2) := by decide +kernel
theorem dX67_make_36 : decode cX67_make 36 = .ok (.iload 5, 2) := by decide +kernel
theorem dX67_make_38 : decode cX67_make 38 = .ok (.iastore, 1) := by decide +kernel
theorem dX67_make_39 : decode cX67_make 39 = .ok (.aload_n 0, 1) := by decide +kernel
theorem dX67_make_40 : decode cX67_make 40 = .ok (.getfield 26, 3) := by decide +kernel
theorem dX67_make_43 : decode cX67_make 43 = .ok (.iload 7, 2) := by decide +kernel
theorem dX67_make_45 : decode cX67_make 45 = .ok (.iconst 0, 1) := by decide +kernel
theorem dX67_make_46 : decode cX67_make 46 = .ok (.iastore, 1) := by decide +kernel
theorem dX67_make_47 : decode cX67_make 47 = .ok (.aload_n 0, 1) := by decide +kernel
theorem dX67_make_48 : decode cX67_make 48 = .ok (.getfield 29, 3) := by decide +kernel
theorem dX67_make_51 : decode cX67_make 51 = .ok (.iload 7, 2) := by decide +kernel
theorem dX67_make_53 : decode cX67_make 53 = .ok (.iload_n 1, 1) := by decide +kernel
theorem dX67_make_54 : decode cX67_make 54 = .ok (.iconst 2, 1) := by decide +kernel
theorem dX67_make_55 : decode cX67_make 55 = .ok (.if_icmp .ne 8, 3) := by decide +kernel
theorem dX67_make_58 : decode cX67_make 58 = .ok (.iload 6, 2) := by decide +kernel
theorem dX67_make_60 : decode cX67_make 60 = .ok (.goto 4, 3) := by decide +kernel
theorem dX67_make_63 : decode cX67_make 63 = .ok (.iconst 0, 1) := by decide +kernel
theorem dX67_make_64 : decode cX67_make 64 = .ok (.iastore, 1) := by decide +kernel
theorem dX67_make_65 : decode cX67_make 65 = .ok (.aload_n 0, 1) := by decide +kernel
theorem dX67_make_66 : decode cX67_make 66 = .ok (.getfield 32, 3) := by decide +kernel
theorem dX67_make_69 : decode cX67_make 69 = .ok (.iload 7, 2) := by decide +kernel
theorem dX67_make_71 : decode cX67_make 71 = .ok (.iload_n 1, 1) := by decide +kernel
theorem dX67_make_72 : decode cX67_make 72 = .ok (.iconst 1, 1) := by decide +kernel
theorem dX67_make_73 : decode cX67_make 73 = .ok (.if_icmp .ne 8, 3) := by decide +kernel
theorem dX67_make_76 : decode cX67_make 76 = .ok (.iload 6, 2) := by decide +kernel
theorem dX67_make_78 : decode cX67_make 78 = .ok (.goto 4, 3) := by decide +kernel
theorem dX67_make_81 : decode cX67_make 81 = .ok (.iconst 0, 1) := by decide +kernel
theorem dX67_make_82 : decode cX67_make 82 = .ok (.iastore, 1) := by decide +kernel
theorem dX67_make_83 : decode cX67_make 83 = .ok (.aload_n 0, 1) := by decide +kernel
theorem dX67_make_84 : decode cX67_make 84 = .ok (.getfield 35, 3) := by decide +kernel
theorem dX67_make_87 : decode cX67_make 87 = .ok (.iload 7, 2) := by decide +kernel
theorem dX67_make_89 : decode cX67_make 89 = .ok (.iconst 0, 1) := by decide +kernel
theorem dX67_make_90 : decode cX67_make 90 = .ok (.iastore, 1) := by decide +kernel
theorem dX67_make_91 : decode cX67_make 91 = .ok (.aload_n 0, 1) := by decide +kernel
theorem dX67_make_92 : decode cX67_make 92 = .ok (.getfield 38, 3) := by decide +kernel
theorem dX67_make_95 : decode cX67_make 95 = .ok (.iload 7, 2) := by decide +kernel
theorem dX67_make_97 : decode cX67_make 97 = .ok (.iconst 0, 1) := by decide +kernel
theorem dX67_make_98 : decode cX67_make 98 = .ok (.iastore, 1) := by decide +kernel
theorem dX67_make_99 : decode cX67_make 99 = .ok (.aload_n 0, 1) := by decide +kernel
theorem dX67_make_100 : decode cX67_make 100 = .ok (.getfield 44, 3) := by decide +kernel
theorem dX67_make_103 : decode cX67_make 103 = .ok (.iload 7, 2) := by decide +kernel
theorem dX67_make_105 : decode cX67_make 105 = .ok (.iconst 0, 1) := by decide +kernel
theorem dX67_make_106 : decode cX67_make 106 = .ok (.iastore, 1) := by decide +kernel
theorem dX67_make_107 : decode cX67_make 107 = .ok (.aload_n 0, 1) := by decide +kernel
theorem dX67_make_108 : decode cX67_make 108 = .ok (.getfield 50, 3) := by decide +kernel
theorem dX67_make_111 : decode cX67_make 111 = .ok (.iconst 2, 1) := by decide +kernel
theorem dX67_make_112 : decode cX67_make 112 = .ok (.iload 7, 2) := by decide +kernel
theorem dX67_make_114 : decode cX67_make 114 = .ok (.imul, 1) := by decide +kernel
theorem dX67_make_115 : decode cX67_make 115 = .ok (.iconst 0, 1) := by decide +kernel
theorem dX67_make_116 : decode cX67_make 116 = .ok (.iastore, 1) := by decide +kernel
theorem dX67_make_117 : decode cX67_make 117 = .ok (.aload_n 0, 1) := by decide +kernel
theorem dX67_make_118 : decode cX67_make 118 = .ok (.getfield 50, 3) := by decide +kernel
theorem dX67_make_121 : decode cX67_make 121 = .ok (.iconst 2, 1) := by decide +kernel
theorem dX67_make_122 : decode cX67_make 122 = .ok (.iload 7, 2) := by decide +kernel
theorem dX67_make_124 : decode cX67_make 124 = .ok (.imul, 1) := by decide +kernel
theorem dX67_make_125 : decode cX67_make 125 = .ok (.iconst 1, 1) := by decide +kernel
theorem dX67_make_126 : decode cX67_make 126 = .ok (.iadd, 1) := by decide +kernel
theorem dX67_make_127 : decode cX67_make 127 = .ok (.iconst 0, 1) := by decide +kernel
theorem dX67_make_128 : decode cX67_make 128 = .ok (.iastore, 1) := by decide +kernel
theorem dX67_make_129 : decode cX67_make 129 = .ok (.aload_n 0, 1) := by decide +kernel
theorem dX67_make_130 : decode cX67_make 130 = .ok (.getfield 60, 3) := by decide +kernel
theorem dX67_make_133 : decode cX67_make 133 = .ok (.iload 7, 2) := by decide +kernel
theorem dX67_make_135 : decode cX67_make 135 = .ok (.iconst 0, 1) := by decide +kernel
theorem dX67_make_136 : decode cX67_make 136 = .ok (.iastore, 1) := by decide +kernel
theorem dX67_make_137 : decode cX67_make 137 = .ok (.aload_n 0, 1) := by decide +kernel
theorem dX67_make_138 : decode cX67_make 138 = .ok (.dup, 1) := by decide +kernel
theorem dX67_make_139 : decode cX67_make 139 = .ok (.getfield 398, 3) := by decide +kernel
theorem dX67_make_142 : decode cX67_make 142 = .ok (.lconst 1, 1) := by decide +kernel
theorem dX67_make_143 : decode cX67_make 143 = .ok (.ladd, 1) := by decide +kernel
theorem dX67_make_144 : decode cX67_make 144 = .ok (.putfield 398, 3) := by decide +kernel
theorem dX67_make_147 : decode cX67_make 147 = .ok (.aload_n 0, 1) := by decide +kernel
theorem dX67_make_148 : decode cX67_make 148 = .ok (.getfield 41, 3) := by decide +kernel
theorem dX67_make_151 : decode cX67_make 151 = .ok (.iload 7, 2) := by decide +kernel
theorem dX67_make_153 : decode cX67_make 153 = .ok (.aload_n 0, 1) := by decide +kernel
theorem dX67_make_154 : decode cX67_make 154 = .ok (.getfield 398, 3) := by decide +kernel
theorem dX67_make_157 : decode cX67_make 157 = .ok (.lastore, 1) := by decide +kernel
theorem dX67_make_158 : decode cX67_make 158 = .ok (.iconst 0, 1) := by decide +kernel
theorem dX67_make_159 : decode cX67_make 159 = .ok (.istore 8, 2) := by decide +kernel
theorem dX67_make_161 : decode cX67_make 161 = .ok (.iload 8, 2) := by decide +kernel
theorem dX67_make_163 : decode cX67_make 163 = .ok (.sipush 1024, 3) := by decide +kernel
theorem dX67_make_166 : decode cX67_make 166 = .ok (.if_icmp .ge 24, 3) := by decide +kernel
theorem dX67_make_169 : decode cX67_make 169 = .ok (.aload_n 0, 1) := by decide +kernel
theorem dX67_make_170 : decode cX67_make 170 = .ok (.getfield 57, 3) := by decide +kernel
theorem dX67_make_173 : decode cX67_make 173 = .ok (.sipush 1024, 3) := by decide +kernel
theorem dX67_make_176 : decode cX67_make 176 = .ok (.iload 7, 2) := by decide +kernel
theorem dX67_make_178 : decode cX67_make 178 = .ok (.imul, 1) := by decide +kernel
theorem dX67_make_179 : decode cX67_make 179 = .ok (.iload 8, 2) := by decide +kernel
theorem dX67_make_181 : decode cX67_make 181 = .ok (.iadd, 1) := by decide +kernel
theorem dX67_make_182 : decode cX67_make 182 = .ok (.lconst 0, 1) := by decide +kernel
theorem dX67_make_183 : decode cX67_make 183 = .ok (.lastore, 1) := by decide +kernel
theorem dX67_make_184 : decode cX67_make 184 = .ok (.iinc 8 1, 3) := by decide +kernel
theorem dX67_make_187 : decode cX67_make 187 = .ok (.goto (-26), 3) := by decide +kernel
theorem dX67_make_190 : decode cX67_make 190 = .ok (.aload_n 0, 1) := by decide +kernel
theorem dX67_make_191 : decode cX67_make 191 = .ok (.iload 7, 2) := by decide +kernel
theorem dX67_make_193 : decode cX67_make 193 = .ok (.iconst 4, 1) := by decide +kernel
theorem dX67_make_194 : decode cX67_make 194 = .ok (.iconst 4, 1) := by decide +kernel
theorem dX67_make_195 : decode cX67_make 195 = .ok (.iconst 4, 1) := by decide +kernel
theorem dX67_make_196 : decode cX67_make 196 = .ok (.invokevirtual 402, 3) := by decide +kernel
theorem dX67_make_199 : decode cX67_make 199 = .ok (.aload_n 0, 1) := by decide +kernel
theorem dX67_make_200 : decode cX67_make 200 = .ok (.getfield 35, 3) := by decide +kernel
theorem dX67_make_203 : decode cX67_make 203 = .ok (.aload_n 0, 1) := by decide +kernel
theorem dX67_make_204 : decode cX67_make 204 = .ok (.iload_n 2, 1) := by decide +kernel
theorem dX67_make_205 : decode cX67_make 205 = .ok (.invokevirtual 390, 3) := by decide +kernel
theorem dX67_make_208 : decode cX67_make 208 = .ok (.dup2, 1) := by decide +kernel
theorem dX67_make_209 : decode cX67_make 209 = .ok (.iaload, 1) := by decide +kernel
theorem dX67_make_210 : decode cX67_make 210 = .ok (.iload_n 1, 1) := by decide +kernel
theorem dX67_make_211 : decode cX67_make 211 = .ok (.iload 6, 2) := by decide +kernel
theorem dX67_make_213 : decode cX67_make 213 = .ok (.invokestatic 387, 3) := by decide +kernel
theorem dX67_make_216 : decode cX67_make 216 = .ok (.iadd, 1) := by decide +kernel
theorem dX67_make_217 : decode cX67_make 217 = .ok (.iastore, 1) := by decide +kernel
theorem dX67_make_218 : decode cX67_make 218 = .ok (.iload 7, 2) := by decide +kernel
theorem dX67_make_220 : decode cX67_make 220 = .ok (.ireturn, 1) := by decide +kernel
theorem zy_X67_make : yX67_make.cls ≠ "java/lang/invoke/MethodHandle" ∧ yX67_make.cls ≠ "java/lang/invoke/VarHandle" ∧ (parseMethodDescriptor yX67_make.desc).map (fun d => d.parameters.length) = some 5 := by decide +kernel
theorem w_fX67_make_J190 {K : zK} (E : zE K cX67_make "RingHouseModel" (some .int) 1) (hN : zNl K = 9) (hT : zTr K = (some 0)) (x1 : Int) (x2 : Int) (x6 : Int) (x7 : Int) : zR K 190 [(0, 69, 0), (1, 0, x1), (2, 0, x2), (6, 0, x6), (7, 0, x7)] [] (fX67_make_J190 x1 x2 x6 x7) := by
  refine r_aload_n E dX67_make_190 rfl 0 rfl ?_
  refine r_iload E dX67_make_191 4 rfl ?_
  refine r_iconst E dX67_make_193 (zkI (by decide) (by decide)) ?_
  refine r_iconst E dX67_make_194 (zkI (by decide) (by decide)) ?_
  refine r_iconst E dX67_make_195 (zkI (by decide) (by decide)) ?_
  refine r_callV E [(0, x7), (0, 4), (0, 4), (0, 4)] [] rfl zc_69 zr_69 (fun o _ => ⟨_, zw_X67.1 o, rfl⟩) (lw_V q3658 q3660 qs99 q294 q3661) dX67_make_196 zy_X67_setBrackets rfl (by omega) (by decide) (Nat.le_of_ble_eq_true rfl) (by decide) (fun l G => k_fX67_setBrackets l G x7 4 4 4) (fun _ => ?_)
  refine r_aload_n E dX67_make_199 rfl 0 rfl ?_
  refine r_gec (y := 0) E zc_69 dX67_make_200 q3223 zr_69 (zh_6808 (by decide)) (by decide) ?_
  refine r_aload_n E dX67_make_203 rfl 0 rfl ?_
  refine r_iload_n E dX67_make_204 rfl 2 rfl ?_
  refine r_callV E [(0, x2)] [(6808, 0)] rfl zc_69 zr_69 (fun o _ => ⟨_, zw_X67.1 o, rfl⟩) (lw_V q3646 q3648 qs96 q294 q3649) dX67_make_205 zy_X67_account rfl (by omega) (by decide) (Nat.le_of_ble_eq_true rfl) (by decide) (fun l G => k_fX67_account l G x2) (fun v5 => ?_)
  refine r_dup22 E (zn1 rfl) (zn1 rfl) dX67_make_208 ?_
  refine r_iaload E zc_6808 za_6808 zt_6808 zx_6808 rfl rfl dX67_make_209 (by decide) (fun v6 => ?_)
  refine r_iload_n E dX67_make_210 rfl 1 rfl ?_
  refine r_iload E dX67_make_211 3 rfl ?_
  refine r_callS E [(0, x1), (0, x6)] [(0, v6), (0, v5), (6808, 0)] rfl q3639 q3640 q294 q3641 dX67_make_213 zy_X67_costOf rfl (by omega) (by decide) (Nat.le_of_ble_eq_true rfl) (fun l G => k_fX67_costOf l G x1 x6) (fun v7 => ?_)
  refine r_iadd E dX67_make_216 ?_
  refine r_iastore E zc_6808 za_6808 zt_6808 zo_6808 zx_6808 rfl rfl dX67_make_217 (by decide) ?_
  refine r_iload E dX67_make_218 4 rfl ?_
  exact r_ireturn E rfl hT dX67_make_220
theorem w_fX67_make_B161 {K : zK} (E : zE K cX67_make "RingHouseModel" (some .int) 1) (hN : zNl K = 9) (hT : zTr K = (some 0)) (x1 : Int) (x2 : Int) (x6 : Int) (x7 : Int) : ∀ r161 : Int → zX, (∀ s : Int, zR K 161 [(0, 69, 0), (1, 0, x1), (2, 0, x2), (6, 0, x6), (7, 0, x7), (8, 0, s)] [] (r161 s)) → ∀ s : Int, zR K 161 [(0, 69, 0), (1, 0, x1), (2, 0, x2), (6, 0, x6), (7, 0, x7), (8, 0, s)] [] (fX67_make_B161 x1 x2 x6 x7 r161 s) := by
  intro r161 hr161 x8
  refine r_iload E dX67_make_161 5 rfl ?_
  refine r_sipush E dX67_make_163 (by decide) (zkI (by decide) (by decide)) ?_
  refine r_icmp_ge E 190 (by decide) dX67_make_166 (fun _ => ?_) (fun _ => ?_)
  · refine r_pick E [0, 1, 2, 3, 4] rfl ?_
    exact w_fX67_make_J190 E hN hT x1 x2 x6 x7
  · refine r_aload_n E dX67_make_169 rfl 0 rfl ?_
    refine r_gec (y := 0) E zc_69 dX67_make_170 q3231 zr_69 (zh_6816 (by decide)) (by decide) ?_
    refine r_sipush E dX67_make_173 (by decide) (zkI (by decide) (by decide)) ?_
    refine r_iload E dX67_make_176 4 rfl ?_
    refine r_imul E dX67_make_178 ?_
    refine r_iload E dX67_make_179 5 rfl ?_
    refine r_iadd E dX67_make_181 ?_
    refine r_lconst (v := 0) E dX67_make_182 (by decide) (zkJ (by decide) (by decide)) ?_
    refine r_lastore E zc_6816 za_6816 zt_6816 zo_6816 zx_6816 rfl rfl dX67_make_183 (by decide) ?_
    refine r_iinc (ls' := fun v8 => [(8, 0, v8), (0, 69, 0), (1, 0, x1), (2, 0, x2), (6, 0, x6), (7, 0, x7)]) E 5 rfl (by rw [hN]; decide) (fun _ => rfl) dX67_make_184 (fun v8 _ => ?_)
    refine r_goto E 161 (by decide) dX67_make_187 ?_
    refine r_pick E [1, 2, 3, 4, 5, 0] rfl ?_
    exact hr161 v8
theorem w_fX67_make_J82 {K : zK} (E : zE K cX67_make "RingHouseModel" (some .int) 1) (hN : zNl K = 9) (hT : zTr K = (some 0)) (x1 : Int) (x2 : Int) (x6 : Int) (x7 : Int) (s1 : Int) (s2 : Int) : zR K 82 [(0, 69, 0), (1, 0, x1), (2, 0, x2), (6, 0, x6), (7, 0, x7)] [(0, s2), (0, s1), (6807, 0)] (fX67_make_J82 x1 x2 x6 x7 s1 s2) := by
  refine r_iastore E zc_6807 za_6807 zt_6807 zo_6807 zx_6807 rfl rfl dX67_make_82 (by decide) ?_
  refine r_aload_n E dX67_make_83 rfl 0 rfl ?_
  refine r_gec (y := 0) E zc_69 dX67_make_84 q3223 zr_69 (zh_6808 (by decide)) (by decide) ?_
  refine r_iload E dX67_make_87 4 rfl ?_
  refine r_iconst E dX67_make_89 (zkI (by decide) (by decide)) ?_
  refine r_iastore E zc_6808 za_6808 zt_6808 zo_6808 zx_6808 rfl rfl dX67_make_90 (by decide) ?_
  refine r_aload_n E dX67_make_91 rfl 0 rfl ?_
  refine r_gec (y := 0) E zc_69 dX67_make_92 q3224 zr_69 (zh_6809 (by decide)) (by decide) ?_
  refine r_iload E dX67_make_95 4 rfl ?_
  refine r_iconst E dX67_make_97 (zkI (by decide) (by decide)) ?_
  refine r_iastore E zc_6809 za_6809 zt_6809 zo_6809 zx_6809 rfl rfl dX67_make_98 (by decide) ?_
  refine r_aload_n E dX67_make_99 rfl 0 rfl ?_
  refine r_gec (y := 0) E zc_69 dX67_make_100 q3227 zr_69 (zh_6812 (by decide)) (by decide) ?_
  refine r_iload E dX67_make_103 4 rfl ?_
  refine r_iconst E dX67_make_105 (zkI (by decide) (by decide)) ?_
  refine r_iastore E zc_6812 za_6812 zt_6812 zo_6812 zx_6812 rfl rfl dX67_make_106 (by decide) ?_
  refine r_aload_n E dX67_make_107 rfl 0 rfl ?_
  refine r_gec (y := 0) E zc_69 dX67_make_108 q3229 zr_69 (zh_6814 (by decide)) (by decide) ?_
  refine r_iconst E dX67_make_111 (zkI (by decide) (by decide)) ?_
  refine r_iload E dX67_make_112 4 rfl ?_
  refine r_imul E dX67_make_114 ?_
  refine r_iconst E dX67_make_115 (zkI (by decide) (by decide)) ?_
  refine r_iastore E zc_6814 za_6814 zt_6814 zo_6814 zx_6814 rfl rfl dX67_make_116 (by decide) ?_
  refine r_aload_n E dX67_make_117 rfl 0 rfl ?_
  refine r_gec (y := 0) E zc_69 dX67_make_118 q3229 zr_69 (zh_6814 (by decide)) (by decide) ?_
  refine r_iconst E dX67_make_121 (zkI (by decide) (by decide)) ?_
  refine r_iload E dX67_make_122 4 rfl ?_
  refine r_imul E dX67_make_124 ?_
  refine r_iconst E dX67_make_125 (zkI (by decide) (by decide)) ?_
  refine r_iadd E dX67_make_126 ?_
  refine r_iconst E dX67_make_127 (zkI (by decide) (by decide)) ?_
  refine r_iastore E zc_6814 za_6814 zt_6814 zo_6814 zx_6814 rfl rfl dX67_make_128 (by decide) ?_
  refine r_aload_n E dX67_make_129 rfl 0 rfl ?_
  refine r_gec (y := 0) E zc_69 dX67_make_130 q3232 zr_69 (zh_6817 (by decide)) (by decide) ?_
  refine r_iload E dX67_make_133 4 rfl ?_
  refine r_iconst E dX67_make_135 (zkI (by decide) (by decide)) ?_
  refine r_iastore E zc_6817 za_6817 zt_6817 zo_6817 zx_6817 rfl rfl dX67_make_136 (by decide) ?_
  refine r_aload_n E dX67_make_137 rfl 0 rfl ?_
  refine r_dup E (zn1 rfl) dX67_make_138 ?_
  refine r_get E zc_69 zt_6811 dX67_make_139 q3226 zr_69 (zg_6811 _) (by decide) (fun v2 => ?_)
  refine r_lconst (v := 1) E dX67_make_142 (by decide) (zkJ (by decide) (by decide)) ?_
  refine r_ladd E dX67_make_143 ?_
  refine r_put E zc_69 zt_6811 zo_6811 dX67_make_144 q3226 zr_69 zw_X67 zp_6811 (fun _ => rfl) (fun _ => rfl) (by decide) ?_
  refine r_aload_n E dX67_make_147 rfl 0 rfl ?_
  refine r_gec (y := 0) E zc_69 dX67_make_148 q3225 zr_69 (zh_6810 (by decide)) (by decide) ?_
  refine r_iload E dX67_make_151 4 rfl ?_
  refine r_aload_n E dX67_make_153 rfl 0 rfl ?_
  refine r_get E zc_69 zt_6811 dX67_make_154 q3226 zr_69 (zg_6811 _) (by decide) (fun v3 => ?_)
  refine r_lastore E zc_6810 za_6810 zt_6810 zo_6810 zx_6810 rfl rfl dX67_make_157 (by decide) ?_
  refine r_iconst E dX67_make_158 (zkI (by decide) (by decide)) ?_
  refine r_istore (ls' := [(8, 0, 0), (0, 69, 0), (1, 0, x1), (2, 0, x2), (6, 0, x6), (7, 0, x7)]) E dX67_make_159 (by rw [hN]; decide) rfl ?_
  refine r_pick E [1, 2, 3, 4, 5, 0] rfl ?_
  exact r_loop (L := fun s => [(0, 69, 0), (1, 0, x1), (2, 0, x2), (6, 0, x6), (7, 0, x7), (8, 0, s)]) (w_fX67_make_B161 E hN hT x1 x2 x6 x7) zBIG 0
theorem w_fX67_make_J64 {K : zK} (E : zE K cX67_make "RingHouseModel" (some .int) 1) (hN : zNl K = 9) (hT : zTr K = (some 0)) (x1 : Int) (x2 : Int) (x6 : Int) (x7 : Int) (s1 : Int) (s2 : Int) : zR K 64 [(0, 69, 0), (1, 0, x1), (2, 0, x2), (6, 0, x6), (7, 0, x7)] [(0, s2), (0, s1), (6806, 0)] (fX67_make_J64 x1 x2 x6 x7 s1 s2) := by
  refine r_iastore E zc_6806 za_6806 zt_6806 zo_6806 zx_6806 rfl rfl dX67_make_64 (by decide) ?_
  refine r_aload_n E dX67_make_65 rfl 0 rfl ?_
  refine r_gec (y := 0) E zc_69 dX67_make_66 q3222 zr_69 (zh_6807 (by decide)) (by decide) ?_
  refine r_iload E dX67_make_69 4 rfl ?_
  refine r_iload_n E dX67_make_71 rfl 1 rfl ?_
  refine r_iconst E dX67_make_72 (zkI (by decide) (by decide)) ?_
  refine r_icmp_ne E 81 (by decide) dX67_make_73 (fun _ => ?_) (fun _ => ?_)
  · refine r_iconst E dX67_make_81 (zkI (by decide) (by decide)) ?_
    exact w_fX67_make_J82 E hN hT x1 x2 x6 x7 x7 0
  · refine r_iload E dX67_make_76 3 rfl ?_
    refine r_goto E 82 (by decide) dX67_make_78 ?_
    exact w_fX67_make_J82 E hN hT x1 x2 x6 x7 x7 x6
theorem w_fX67_make {K : zK} (E : zE K cX67_make "RingHouseModel" (some .int) 1) (hN : zNl K = 9) (hT : zTr K = (some 0)) (x1 : Int) (x2 : Int) (x3 : Int) (x5 : Int) (x6 : Int) : zR K 0 [(0, 69, 0), (1, 0, x1), (2, 0, x2), (3, 1, x3), (5, 0, x5), (6, 0, x6)] [] (fX67_make x1 x2 x3 x5 x6) := by
  refine r_aload_n E dX67_make_0 rfl 0 rfl ?_
  refine r_callV E [] [] rfl zc_69 zr_69 (fun o _ => ⟨_, zw_X67.1 o, rfl⟩) (lw_V q3654 q3656 qs98 q294 q3657) dX67_make_1 zy_X67_free rfl (by omega) (by decide) (Nat.le_of_ble_eq_true rfl) (by decide) (fun l G => k_fX67_free l G) (fun v1 => ?_)
  refine r_istore (ls' := [(7, 0, v1), (0, 69, 0), (1, 0, x1), (2, 0, x2), (3, 1, x3), (5, 0, x5), (6, 0, x6)]) E dX67_make_4 (by rw [hN]; decide) rfl ?_
  refine r_aload_n E dX67_make_6 rfl 1 rfl ?_
  refine r_gec (y := 0) E zc_69 dX67_make_7 q3215 zr_69 (zh_6800 (by decide)) (by decide) ?_
  refine r_iload E dX67_make_10 0 rfl ?_
  refine r_iload_n E dX67_make_12 rfl 2 rfl ?_
  refine r_iastore E zc_6800 za_6800 zt_6800 zo_6800 zx_6800 rfl rfl dX67_make_13 (by decide) ?_
  refine r_aload_n E dX67_make_14 rfl 1 rfl ?_
  refine r_gec (y := 0) E zc_69 dX67_make_15 q3216 zr_69 (zh_6801 (by decide)) (by decide) ?_
  refine r_iload E dX67_make_18 0 rfl ?_
  refine r_lload_n E dX67_make_20 rfl 4 rfl ?_
  refine r_lastore E zc_6801 za_6801 zt_6801 zo_6801 zx_6801 rfl rfl dX67_make_21 (by decide) ?_
  refine r_aload_n E dX67_make_22 rfl 1 rfl ?_
  refine r_gec (y := 0) E zc_69 dX67_make_23 q3217 zr_69 (zh_6802 (by decide)) (by decide) ?_
  refine r_iload E dX67_make_26 0 rfl ?_
  refine r_iload_n E dX67_make_28 rfl 3 rfl ?_
  refine r_iastore E zc_6802 za_6802 zt_6802 zo_6802 zx_6802 rfl rfl dX67_make_29 (by decide) ?_
  refine r_aload_n E dX67_make_30 rfl 1 rfl ?_
  refine r_gec (y := 0) E zc_69 dX67_make_31 q3218 zr_69 (zh_6803 (by decide)) (by decide) ?_
  refine r_iload E dX67_make_34 0 rfl ?_
  refine r_iload E dX67_make_36 5 rfl ?_
  refine r_iastore E zc_6803 za_6803 zt_6803 zo_6803 zx_6803 rfl rfl dX67_make_38 (by decide) ?_
  refine r_aload_n E dX67_make_39 rfl 1 rfl ?_
  refine r_gec (y := 0) E zc_69 dX67_make_40 q3220 zr_69 (zh_6805 (by decide)) (by decide) ?_
  refine r_iload E dX67_make_43 0 rfl ?_
  refine r_iconst E dX67_make_45 (zkI (by decide) (by decide)) ?_
  refine r_iastore E zc_6805 za_6805 zt_6805 zo_6805 zx_6805 rfl rfl dX67_make_46 (by decide) ?_
  refine r_aload_n E dX67_make_47 rfl 1 rfl ?_
  refine r_gec (y := 0) E zc_69 dX67_make_48 q3221 zr_69 (zh_6806 (by decide)) (by decide) ?_
  refine r_iload E dX67_make_51 0 rfl ?_
  refine r_iload_n E dX67_make_53 rfl 2 rfl ?_
  refine r_iconst E dX67_make_54 (zkI (by decide) (by decide)) ?_
  refine r_icmp_ne E 63 (by decide) dX67_make_55 (fun _ => ?_) (fun _ => ?_)
  · refine r_iconst E dX67_make_63 (zkI (by decide) (by decide)) ?_
    refine r_pick E [1, 2, 3, 6, 0] rfl ?_
    exact w_fX67_make_J64 E hN hT x1 x2 x6 v1 v1 0
  · refine r_iload E dX67_make_58 6 rfl ?_
    refine r_goto E 64 (by decide) dX67_make_60 ?_
    refine r_pick E [1, 2, 3, 6, 0] rfl ?_
    exact w_fX67_make_J64 E hN hT x1 x2 x6 v1 v1 x6
theorem k_fX67_make (l : Launch) (G : zG) (x1 : Int) (x2 : Int) (x3 : Int) (x5 : Int) (x6 : Int) : zCt l G yX67_make cX67_make 9 (some .int) 1 [(69, 0), (0, x1), (0, x2), (1, x3), (0, x5), (0, x6)] (some 0) (fX67_make x1 x2 x3 x5 x6) := zCt.of (by decide) (Nat.le_of_ble_eq_true rfl) (fun K E _ _ hN hT => w_fX67_make E hN hT x1 x2 x3 x5 x6)
theorem dX67_addItem_0 : decode cX67_addItem 0 = .ok (.bipush 18, 2) := by decide +kernel
theorem dX67_addItem_2 : decode cX67_addItem 2 = .ok (.iload_n 1, 1) := by decide +kernel
theorem dX67_addItem_3 : decode cX67_addItem 3 = .ok (.imul, 1) := by decide +kernel
theorem dX67_addItem_4 : decode cX67_addItem 4 = .ok (.iconst 3, 1) := by decide +kernel
theorem dX67_addItem_5 : decode cX67_addItem 5 = .ok (.aload_n 0, 1) := by decide +kernel
theorem dX67_addItem_6 : decode cX67_addItem 6 = .ok (.getfield 44, 3) := by decide +kernel
theorem dX67_addItem_9 : decode cX67_addItem 9 = .ok (.iload_n 1, 1) := by decide +kernel
theorem dX67_addItem_10 : decode cX67_addItem 10 = .ok (.iaload, 1) := by decide +kernel
theorem dX67_addItem_11 : decode cX67_addItem 11 = .ok (.imul, 1) := by decide +kernel
theorem dX67_addItem_12 : decode cX67_addItem 12 = .ok (.iadd, 1) := by decide +kernel
theorem dX67_addItem_13 : decode cX67_addItem 13 = .ok (.istore 5, 2) := by decide +kernel
theorem dX67_addItem_15 : decode cX67_addItem 15 = .ok (.aload_n 0, 1) := by decide +kernel
theorem dX67_addItem_16 : decode cX67_addItem 16 = .ok (.getfield 47, 3) := by decide +kernel
theorem dX67_addItem_19 : decode cX67_addItem 19 = .ok (.iload 5, 2) := by decide +kernel
theorem dX67_addItem_21 : decode cX67_addItem 21 = .ok (.iload_n 2, 1) := by decide +kernel
theorem dX67_addItem_22 : decode cX67_addItem 22 = .ok (.iastore, 1) := by decide +kernel
theorem dX67_addItem_23 : decode cX67_addItem 23 = .ok (.aload_n 0, 1) := by decide +kernel
theorem dX67_addItem_24 : decode cX67_addItem 24 = .ok (.getfield 47, 3) := by decide +kernel
theorem dX67_addItem_27 : decode cX67_addItem 27 = .ok (.iload 5, 2) := by decide +kernel
theorem dX67_addItem_29 : decode cX67_addItem 29 = .ok (.iconst 1, 1) := by decide +kernel
theorem dX67_addItem_30 : decode cX67_addItem 30 = .ok (.iadd, 1) := by decide +kernel
theorem dX67_addItem_31 : decode cX67_addItem 31 = .ok (.iload_n 3, 1) := by decide +kernel
theorem dX67_addItem_32 : decode cX67_addItem 32 = .ok (.iastore, 1) := by decide +kernel
theorem dX67_addItem_33 : decode cX67_addItem 33 = .ok (.aload_n 0, 1) := by decide +kernel
theorem dX67_addItem_34 : decode cX67_addItem 34 = .ok (.getfield 47, 3) := by decide +kernel
theorem dX67_addItem_37 : decode cX67_addItem 37 = .ok (.iload 5, 2) := by decide +kernel
theorem dX67_addItem_39 : decode cX67_addItem 39 = .ok (.iconst 2, 1) := by decide +kernel
theorem dX67_addItem_40 : decode cX67_addItem 40 = .ok (.iadd, 1) := by decide +kernel
theorem dX67_addItem_41 : decode cX67_addItem 41 = .ok (.iload 4, 2) := by decide +kernel
theorem dX67_addItem_43 : decode cX67_addItem 43 = .ok (.iastore, 1) := by decide +kernel
theorem dX67_addItem_44 : decode cX67_addItem 44 = .ok (.aload_n 0, 1) := by decide +kernel
theorem dX67_addItem_45 : decode cX67_addItem 45 = .ok (.getfield 44, 3) := by decide +kernel
theorem dX67_addItem_48 : decode cX67_addItem 48 = .ok (.iload_n 1, 1) := by decide +kernel
theorem dX67_addItem_49 : decode cX67_addItem 49 = .ok (.dup2, 1) := by decide +kernel
theorem dX67_addItem_50 : decode cX67_addItem 50 = .ok (.iaload, 1) := by decide +kernel
theorem dX67_addItem_51 : decode cX67_addItem 51 = .ok (.iconst 1, 1) := by decide +kernel
theorem dX67_addItem_52 : decode cX67_addItem 52 = .ok (.iadd, 1) := by decide +kernel
theorem dX67_addItem_53 : decode cX67_addItem 53 = .ok (.iastore, 1) := by decide +kernel
theorem dX67_addItem_54 : decode cX67_addItem 54 = .ok (.return_, 1) := by decide +kernel
theorem zy_X67_addItem : yX67_addItem.cls ≠ "java/lang/invoke/MethodHandle" ∧ yX67_addItem.cls ≠ "java/lang/invoke/VarHandle" ∧ (parseMethodDescriptor yX67_addItem.desc).map (fun d => d.parameters.length) = some 4 := by decide +kernel
theorem w_fX67_addItem {K : zK} (E : zE K cX67_addItem "RingHouseModel" none 0) (hN : zNl K = 6) (hT : zTr K = none) (x1 : Int) (x2 : Int) (x3 : Int) (x4 : Int) : zR K 0 [(0, 69, 0), (1, 0, x1), (2, 0, x2), (3, 0, x3), (4, 0, x4)] [] (fX67_addItem x1 x2 x3 x4) := by
  refine r_bipush E dX67_addItem_0 (by decide) (zkI (by decide) (by decide)) ?_
  refine r_iload_n E dX67_addItem_2 rfl 1 rfl ?_
  refine r_imul E dX67_addItem_3 ?_
  refine r_iconst E dX67_addItem_4 (zkI (by decide) (by decide)) ?_
  refine r_aload_n E dX67_addItem_5 rfl 0 rfl ?_
  refine r_gec (y := 0) E zc_69 dX67_addItem_6 q3227 zr_69 (zh_6812 (by decide)) (by decide) ?_
  refine r_iload_n E dX67_addItem_9 rfl 1 rfl ?_
  refine r_iaload E zc_6812 za_6812 zt_6812 zx_6812 rfl rfl dX67_addItem_10 (by decide) (fun v1 => ?_)
  refine r_imul E dX67_addItem_11 ?_
  refine r_iadd E dX67_addItem_12 ?_
  refine r_let E (fun v2 ev2 => ?_)
  refine r_istore (ls' := [(5, 0, v2), (0, 69, 0), (1, 0, x1), (2, 0, x2), (3, 0, x3), (4, 0, x4)]) E dX67_addItem_13 (by rw [hN]; decide) rfl ?_
  refine r_aload_n E dX67_addItem_15 rfl 1 rfl ?_
  refine r_gec (y := 0) E zc_69 dX67_addItem_16 q3228 zr_69 (zh_6813 (by decide)) (by decide) ?_
  refine r_iload E dX67_addItem_19 0 rfl ?_
  refine r_iload_n E dX67_addItem_21 rfl 3 rfl ?_
  refine r_iastore E zc_6813 za_6813 zt_6813 zo_6813 zx_6813 rfl rfl dX67_addItem_22 (by decide) ?_
  refine r_aload_n E dX67_addItem_23 rfl 1 rfl ?_
  refine r_gec (y := 0) E zc_69 dX67_addItem_24 q3228 zr_69 (zh_6813 (by decide)) (by decide) ?_
  refine r_iload E dX67_addItem_27 0 rfl ?_
  refine r_iconst E dX67_addItem_29 (zkI (by decide) (by decide)) ?_
  refine r_iadd E dX67_addItem_30 ?_
  refine r_iload_n E dX67_addItem_31 rfl 4 rfl ?_
  refine r_iastore E zc_6813 za_6813 zt_6813 zo_6813 zx_6813 rfl rfl dX67_addItem_32 (by decide) ?_
  refine r_aload_n E dX67_addItem_33 rfl 1 rfl ?_
  refine r_gec (y := 0) E zc_69 dX67_addItem_34 q3228 zr_69 (zh_6813 (by decide)) (by decide) ?_
  refine r_iload E dX67_addItem_37 0 rfl ?_
  refine r_iconst E dX67_addItem_39 (zkI (by decide) (by decide)) ?_
  refine r_iadd E dX67_addItem_40 ?_
  refine r_iload E dX67_addItem_41 5 rfl ?_
  refine r_iastore E zc_6813 za_6813 zt_6813 zo_6813 zx_6813 rfl rfl dX67_addItem_43 (by decide) ?_
  refine r_aload_n E dX67_addItem_44 rfl 1 rfl ?_
  refine r_gec (y := 0) E zc_69 dX67_addItem_45 q3227 zr_69 (zh_6812 (by decide)) (by decide) ?_
  refine r_iload_n E dX67_addItem_48 rfl 2 rfl ?_
  refine r_dup22 E (zn1 rfl) (zn1 rfl) dX67_addItem_49 ?_
  refine r_iaload E zc_6812 za_6812 zt_6812 zx_6812 rfl rfl dX67_addItem_50 (by decide) (fun v3 => ?_)
  refine r_iconst E dX67_addItem_51 (zkI (by decide) (by decide)) ?_
  refine r_iadd E dX67_addItem_52 ?_
  refine r_iastore E zc_6812 za_6812 zt_6812 zo_6812 zx_6812 rfl rfl dX67_addItem_53 (by decide) ?_
  exact r_return E rfl hT dX67_addItem_54
theorem k_fX67_addItem (l : Launch) (G : zG) (x1 : Int) (x2 : Int) (x3 : Int) (x4 : Int) : zCt l G yX67_addItem cX67_addItem 6 none 0 [(69, 0), (0, x1), (0, x2), (0, x3), (0, x4)] none (fX67_addItem x1 x2 x3 x4) := zCt.of (by decide) (Nat.le_of_ble_eq_true rfl) (fun K E _ _ hN hT => w_fX67_addItem E hN hT x1 x2 x3 x4)
theorem dX67_giveFirsts_0 : decode cX67_giveFirsts 0 = .ok (.iconst 2, 1) := by decide +kernel
theorem dX67_giveFirsts_1 : decode cX67_giveFirsts 1 = .ok (.aload_n 0, 1) := by decide +kernel
theorem dX67_giveFirsts_2 : decode cX67_giveFirsts 2 = .ok (.getfield 17, 3) := by decide +kernel
theorem dX67_giveFirsts_5 : decode cX67_giveFirsts 5 = .ok (.iload_n 1, 1) := by decide +kernel
theorem dX67_giveFirsts_6 : decode cX67_giveFirsts 6 = .ok (.iaload, 1) := by decide +kernel
theorem dX67_giveFirsts_7 : decode cX67_giveFirsts 7 = .ok (.imul, 1) := by decide +kernel
theorem dX67_giveFirsts_8 : decode cX67_giveFirsts 8 = .ok (.aload_n 0, 1) := by decide +kernel
theorem dX67_giveFirsts_9 : decode cX67_giveFirsts 9 = .ok (.getfield 7, 3) := by decide +kernel
theorem dX67_giveFirsts_12 : decode cX67_giveFirsts 12 = .ok (.iload_n 1, 1) := by decide +kernel
theorem dX67_giveFirsts_13 : decode cX67_giveFirsts 13 = .ok (.iaload, 1) := by decide +kernel
theorem dX67_giveFirsts_14 : decode cX67_giveFirsts 14 = .ok (.iconst 1, 1) := by decide +kernel
theorem dX67_giveFirsts_15 : decode cX67_giveFirsts 15 = .ok (.if_icmp .ne 7, 3) := by decide +kernel
theorem dX67_giveFirsts_18 : decode cX67_giveFirsts 18 = .ok (.iconst 0, 1) := by decide +kernel
theorem dX67_giveFirsts_19 : decode cX67_giveFirsts 19 = .ok (.goto 4, 3) := by decide +kernel
theorem dX67_giveFirsts_22 : decode cX67_giveFirsts 22 = .ok (.iconst 1, 1) := by decide +kernel
theorem dX67_giveFirsts_23 : decode cX67_giveFirsts 23 = .ok (.iadd, 1) := by decide +kernel
theorem dX67_giveFirsts_24 : decode cX67_giveFirsts 24 = .ok (.istore 4, 2) := by decide +kernel
theorem dX67_giveFirsts_26 : decode cX67_giveFirsts 26 = .ok (.iconst 0, 1) := by decide +kernel
theorem dX67_giveFirsts_27 : decode cX67_giveFirsts 27 = .ok (.istore 5, 2) := by decide +kernel
theorem dX67_giveFirsts_29 : decode cX67_giveFirsts 29 = .ok (.iload 5, 2) := by decide +kernel
theorem dX67_giveFirsts_31 : decode cX67_giveFirsts 31 = .ok (.aload_n 0, 1) := by decide +kernel
theorem dX67_giveFirsts_32 : decode cX67_giveFirsts 32 = .ok (.getfield 50, 3) := by decide +kernel
theorem dX67_giveFirsts_35 : decode cX67_giveFirsts 35 = .ok (.iload 4, 2) := by decide +kernel
theorem dX67_giveFirsts_37 : decode cX67_giveFirsts 37 = .ok (.iaload, 1) := by decide +kernel
theorem dX67_giveFirsts_38 : decode cX67_giveFirsts 38 = .ok (.if_icmp .ge 75, 3) := by decide +kernel
theorem dX67_giveFirsts_41 : decode cX67_giveFirsts 41 = .ok (.bipush 9, 2) := by decide +kernel
theorem dX67_giveFirsts_43 : decode cX67_giveFirsts 43 = .ok (.iload 4, 2) := by decide +kernel
theorem dX67_giveFirsts_45 : decode cX67_giveFirsts 45 = .ok (.imul, 1) := by decide +kernel
theorem dX67_giveFirsts_46 : decode cX67_giveFirsts 46 = .ok (.iconst 3, 1) := by decide +kernel
theorem dX67_giveFirsts_47 : decode cX67_giveFirsts 47 = .ok (.iload 5, 2) := by decide +kernel
theorem dX67_giveFirsts_49 : decode cX67_giveFirsts 49 = .ok (.imul, 1) := by decide +kernel
theorem dX67_giveFirsts_50 : decode cX67_giveFirsts 50 = .ok (.iadd, 1) := by decide +kernel
theorem dX67_giveFirsts_51 : decode cX67_giveFirsts 51 = .ok (.istore 6, 2) := by decide +kernel
theorem dX67_giveFirsts_53 : decode cX67_giveFirsts 53 = .ok (.aload_n 0, 1) := by decide +kernel
theorem dX67_giveFirsts_54 : decode cX67_giveFirsts 54 = .ok (.getfield 53, 3) := by decide +kernel
theorem dX67_giveFirsts_57 : decode cX67_giveFirsts 57 = .ok (.iload 6, 2) := by decide +kernel
theorem dX67_giveFirsts_59 : decode cX67_giveFirsts 59 = .ok (.iaload, 1) := by decide +kernel
theorem dX67_giveFirsts_60 : decode cX67_giveFirsts 60 = .ok (.iload_n 2, 1) := by decide +kernel
theorem dX67_giveFirsts_61 : decode cX67_giveFirsts 61 = .ok (.if_icmp .ne 16, 3) := by decide +kernel
theorem dX67_giveFirsts_64 : decode cX67_giveFirsts 64 = .ok (.aload_n 0, 1) := by decide +kernel
theorem dX67_giveFirsts_65 : decode cX67_giveFirsts 65 = .ok (.getfield 53, 3) := by decide +kernel
theorem dX67_giveFirsts_68 : decode cX67_giveFirsts 68 = .ok (.iload 6, 2) := by decide +kernel
theorem dX67_giveFirsts_70 : decode cX67_giveFirsts 70 = .ok (.iconst 1, 1) := by decide +kernel
theorem dX67_giveFirsts_71 : decode cX67_giveFirsts 71 = .ok (.iadd, 1) := by decide +kernel
theorem dX67_giveFirsts_72 : decode cX67_giveFirsts 72 = .ok (.iaload, 1) := by decide +kernel
theorem dX67_giveFirsts_73 : decode cX67_giveFirsts 73 = .ok (.iload_n 3, 1) := by decide +kernel
theorem dX67_giveFirsts_74 : decode cX67_giveFirsts 74 = .ok (.if_icmp .eq 33, 3) := by decide +kernel
theorem dX67_giveFirsts_77 : decode cX67_giveFirsts 77 = .ok (.aload_n 0, 1) := by decide +kernel
theorem dX67_giveFirsts_78 : decode cX67_giveFirsts 78 = .ok (.iload_n 1, 1) := by decide +kernel
theorem dX67_giveFirsts_79 : decode cX67_giveFirsts 79 = .ok (.aload_n 0, 1) := by decide +kernel
theorem dX67_giveFirsts_80 : decode cX67_giveFirsts 80 = .ok (.getfield 53, 3) := by decide +kernel
theorem dX67_giveFirsts_83 : decode cX67_giveFirsts 83 = .ok (.iload 6, 2) := by decide +kernel
theorem dX67_giveFirsts_85 : decode cX67_giveFirsts 85 = .ok (.iaload, 1) := by decide +kernel
theorem dX67_giveFirsts_86 : decode cX67_giveFirsts 86 = .ok (.aload_n 0, 1) := by decide +kernel
theorem dX67_giveFirsts_87 : decode cX67_giveFirsts 87 = .ok (.getfield 53, 3) := by decide +kernel
theorem dX67_giveFirsts_90 : decode cX67_giveFirsts 90 = .ok (.iload 6, 2) := by decide +kernel
theorem dX67_giveFirsts_92 : decode cX67_giveFirsts 92 = .ok (.iconst 1, 1) := by decide +kernel
theorem dX67_giveFirsts_93 : decode cX67_giveFirsts 93 = .ok (.iadd, 1) := by decide +kernel
theorem dX67_giveFirsts_94 : decode cX67_giveFirsts 94 = .ok (.iaload, 1) := by decide +kernel
theorem dX67_giveFirsts_95 : decode cX67_giveFirsts 95 = .ok (.aload_n 0, 1) := by decide +kernel
theorem dX67_giveFirsts_96 : decode cX67_giveFirsts 96 = .ok (.getfield 53, 3) := by decide +kernel
theorem dX67_giveFirsts_99 : decode cX67_giveFirsts 99 = .ok (.iload 6, 2) := by decide +kernel
theorem dX67_giveFirsts_101 : decode cX67_giveFirsts 101 = .ok (.iconst 2, 1) := by decide +kernel
theorem dX67_giveFirsts_102 : decode cX67_giveFirsts 102 = .ok (.iadd, 1) := by decide +kernel
theorem dX67_giveFirsts_103 : decode cX67_giveFirsts 103 = .ok (.iaload, 1) := by decide +kernel
theorem dX67_giveFirsts_104 : decode cX67_giveFirsts 104 = .ok (.invokevirtual 406, 3) := by decide +kernel
theorem dX67_giveFirsts_107 : decode cX67_giveFirsts 107 = .ok (.iinc 5 1, 3) := by decide +kernel
theorem dX67_giveFirsts_110 : decode cX67_giveFirsts 110 = .ok (.goto (-81), 3) := by decide +kernel
theorem dX67_giveFirsts_113 : decode cX67_giveFirsts 113 = .ok (.return_, 1) := by decide +kernel
theorem zy_X67_giveFirsts : yX67_giveFirsts.cls ≠ "java/lang/invoke/MethodHandle" ∧ yX67_giveFirsts.cls ≠ "java/lang/invoke/VarHandle" ∧ (parseMethodDescriptor yX67_giveFirsts.desc).map (fun d => d.parameters.length) = some 3 := by decide +kernel
theorem w_fX67_giveFirsts_J107 {K : zK} (E : zE K cX67_giveFirsts "RingHouseModel" none 1) (hN : zNl K = 7) (hT : zTr K = none) (x1 : Int) (x2 : Int) (x3 : Int) (x4 : Int) (x5 : Int) {r29 : Int → zX} (hr29 : ∀ s : Int, zR K 29 [(0, 69, 0), (1, 0, x1), (2, 0, x2), (3, 0, x3), (4, 0, x4), (5, 0, s)] [] (r29 s)) : zR K 107 [(0, 69, 0), (1, 0, x1), (2, 0, x2), (3, 0, x3), (4, 0, x4), (5, 0, x5)] [] (fX67_giveFirsts_J107 r29 x1 x2 x3 x4 x5) := by
  refine r_iinc (ls' := fun v11 => [(5, 0, v11), (0, 69, 0), (1, 0, x1), (2, 0, x2), (3, 0, x3), (4, 0, x4)]) E 5 rfl (by rw [hN]; decide) (fun _ => rfl) dX67_giveFirsts_107 (fun v11 _ => ?_)
  refine r_goto E 29 (by decide) dX67_giveFirsts_110 ?_
  refine r_pick E [1, 2, 3, 4, 5, 0] rfl ?_
  exact hr29 v11
theorem w_fX67_giveFirsts_J77 {K : zK} (E : zE K cX67_giveFirsts "RingHouseModel" none 1) (hN : zNl K = 7) (hT : zTr K = none) (x1 : Int) (x2 : Int) (x3 : Int) (x4 : Int) (x5 : Int) (x6 : Int) {r29 : Int → zX} (hr29 : ∀ s : Int, zR K 29 [(0, 69, 0), (1, 0, x1), (2, 0, x2), (3, 0, x3), (4, 0, x4), (5, 0, s)] [] (r29 s)) : zR K 77 [(0, 69, 0), (1, 0, x1), (2, 0, x2), (3, 0, x3), (4, 0, x4), (5, 0, x5), (6, 0, x6)] [] (fX67_giveFirsts_J77 r29 x1 x2 x3 x4 x5 x6) := by
  refine r_aload_n E dX67_giveFirsts_77 rfl 0 rfl ?_
  refine r_iload_n E dX67_giveFirsts_78 rfl 1 rfl ?_
  refine r_aload_n E dX67_giveFirsts_79 rfl 0 rfl ?_
  refine r_gec (y := 0) E zc_69 dX67_giveFirsts_80 q3230 zr_69 (zh_6815 (by decide)) (by decide) ?_
  refine r_iload E dX67_giveFirsts_83 6 rfl ?_
  refine r_iaload E zc_6815 za_6815 zt_6815 zx_6815 rfl rfl dX67_giveFirsts_85 (by decide) (fun v7 => ?_)
  refine r_aload_n E dX67_giveFirsts_86 rfl 0 rfl ?_
  refine r_gec (y := 0) E zc_69 dX67_giveFirsts_87 q3230 zr_69 (zh_6815 (by decide)) (by decide) ?_
  refine r_iload E dX67_giveFirsts_90 6 rfl ?_
  refine r_iconst E dX67_giveFirsts_92 (zkI (by decide) (by decide)) ?_
  refine r_iadd E dX67_giveFirsts_93 ?_
  refine r_iaload E zc_6815 za_6815 zt_6815 zx_6815 rfl rfl dX67_giveFirsts_94 (by decide) (fun v8 => ?_)
  refine r_aload_n E dX67_giveFirsts_95 rfl 0 rfl ?_
  refine r_gec (y := 0) E zc_69 dX67_giveFirsts_96 q3230 zr_69 (zh_6815 (by decide)) (by decide) ?_
  refine r_iload E dX67_giveFirsts_99 6 rfl ?_
  refine r_iconst E dX67_giveFirsts_101 (zkI (by decide) (by decide)) ?_
  refine r_iadd E dX67_giveFirsts_102 ?_
  refine r_iaload E zc_6815 za_6815 zt_6815 zx_6815 rfl rfl dX67_giveFirsts_103 (by decide) (fun v9 => ?_)
  refine r_callV E [(0, x1), (0, v7), (0, v8), (0, v9)] [] rfl zc_69 zr_69 (fun o _ => ⟨_, zw_X67.1 o, rfl⟩) (lw_V q3670 q3672 qs102 q294 q3673) dX67_giveFirsts_104 zy_X67_addItem rfl (by omega) (by decide) (Nat.le_of_ble_eq_true rfl) (by decide) (fun l G => k_fX67_addItem l G x1 v7 v8 v9) (fun _ => ?_)
  refine r_pick E [0, 1, 2, 3, 4, 5] rfl ?_
  exact w_fX67_giveFirsts_J107 E hN hT x1 x2 x3 x4 x5 hr29
theorem w_fX67_giveFirsts_B29 {K : zK} (E : zE K cX67_giveFirsts "RingHouseModel" none 1) (hN : zNl K = 7) (hT : zTr K = none) (x1 : Int) (x2 : Int) (x3 : Int) (x4 : Int) : ∀ r29 : Int → zX, (∀ s : Int, zR K 29 [(0, 69, 0), (1, 0, x1), (2, 0, x2), (3, 0, x3), (4, 0, x4), (5, 0, s)] [] (r29 s)) → ∀ s : Int, zR K 29 [(0, 69, 0), (1, 0, x1), (2, 0, x2), (3, 0, x3), (4, 0, x4), (5, 0, s)] [] (fX67_giveFirsts_B29 x1 x2 x3 x4 r29 s) := by
  intro r29 hr29 x5
  refine r_iload E dX67_giveFirsts_29 5 rfl ?_
  refine r_aload_n E dX67_giveFirsts_31 rfl 0 rfl ?_
  refine r_gec (y := 0) E zc_69 dX67_giveFirsts_32 q3229 zr_69 (zh_6814 (by decide)) (by decide) ?_
  refine r_iload E dX67_giveFirsts_35 4 rfl ?_
  refine r_iaload E zc_6814 za_6814 zt_6814 zx_6814 rfl rfl dX67_giveFirsts_37 (by decide) (fun v4 => ?_)
  refine r_icmp_ge E 113 (by decide) dX67_giveFirsts_38 (fun _ => ?_) (fun _ => ?_)
  · exact r_return E rfl hT dX67_giveFirsts_113
  · refine r_bipush E dX67_giveFirsts_41 (by decide) (zkI (by decide) (by decide)) ?_
    refine r_iload E dX67_giveFirsts_43 4 rfl ?_
    refine r_imul E dX67_giveFirsts_45 ?_
    refine r_iconst E dX67_giveFirsts_46 (zkI (by decide) (by decide)) ?_
    refine r_iload E dX67_giveFirsts_47 5 rfl ?_
    refine r_imul E dX67_giveFirsts_49 ?_
    refine r_iadd E dX67_giveFirsts_50 ?_
    refine r_let E (fun v5 ev5 => ?_)
    refine r_istore (ls' := [(6, 0, v5), (0, 69, 0), (1, 0, x1), (2, 0, x2), (3, 0, x3), (4, 0, x4), (5, 0, x5)]) E dX67_giveFirsts_51 (by rw [hN]; decide) rfl ?_
    refine r_aload_n E dX67_giveFirsts_53 rfl 1 rfl ?_
    refine r_gec (y := 0) E zc_69 dX67_giveFirsts_54 q3230 zr_69 (zh_6815 (by decide)) (by decide) ?_
    refine r_iload E dX67_giveFirsts_57 0 rfl ?_
    refine r_iaload E zc_6815 za_6815 zt_6815 zx_6815 rfl rfl dX67_giveFirsts_59 (by decide) (fun v6 => ?_)
    refine r_iload_n E dX67_giveFirsts_60 rfl 3 rfl ?_
    refine r_icmp_ne E 77 (by decide) dX67_giveFirsts_61 (fun _ => ?_) (fun _ => ?_)
    · refine r_pick E [1, 2, 3, 4, 5, 6, 0] rfl ?_
      exact w_fX67_giveFirsts_J77 E hN hT x1 x2 x3 x4 x5 v5 hr29
    · refine r_aload_n E dX67_giveFirsts_64 rfl 1 rfl ?_
      refine r_gec (y := 0) E zc_69 dX67_giveFirsts_65 q3230 zr_69 (zh_6815 (by decide)) (by decide) ?_
      refine r_iload E dX67_giveFirsts_68 0 rfl ?_
      refine r_iconst E dX67_giveFirsts_70 (zkI (by decide) (by decide)) ?_
      refine r_iadd E dX67_giveFirsts_71 ?_
      refine r_iaload E zc_6815 za_6815 zt_6815 zx_6815 rfl rfl dX67_giveFirsts_72 (by decide) (fun v12 => ?_)
      refine r_iload_n E dX67_giveFirsts_73 rfl 4 rfl ?_
      refine r_icmp_eq E 107 (by decide) dX67_giveFirsts_74 (fun _ => ?_) (fun _ => ?_)
      · refine r_pick E [1, 2, 3, 4, 5, 6] rfl ?_
        exact w_fX67_giveFirsts_J107 E hN hT x1 x2 x3 x4 x5 hr29
      · refine r_pick E [1, 2, 3, 4, 5, 6, 0] rfl ?_
        exact w_fX67_giveFirsts_J77 E hN hT x1 x2 x3 x4 x5 v5 hr29
theorem w_fX67_giveFirsts_J23 {K : zK} (E : zE K cX67_giveFirsts "RingHouseModel" none 1) (hN : zNl K = 7) (hT : zTr K = none) (x1 : Int) (x2 : Int) (x3 : Int) (s0 : Int) (s1 : Int) : zR K 23 [(0, 69, 0), (1, 0, x1), (2, 0, x2), (3, 0, x3)] [(0, s1), (0, s0)] (fX67_giveFirsts_J23 x1 x2 x3 s0 s1) := by
  refine r_iadd E dX67_giveFirsts_23 ?_
  refine r_let E (fun v3 ev3 => ?_)
  refine r_istore (ls' := [(4, 0, v3), (0, 69, 0), (1, 0, x1), (2, 0, x2), (3, 0, x3)]) E dX67_giveFirsts_24 (by rw [hN]; decide) rfl ?_
  refine r_iconst E dX67_giveFirsts_26 (zkI (by decide) (by decide)) ?_
  refine r_istore (ls' := [(5, 0, 0), (4, 0, v3), (0, 69, 0), (1, 0, x1), (2, 0, x2), (3, 0, x3)]) E dX67_giveFirsts_27 (by rw [hN]; decide) rfl ?_
  refine r_pick E [2, 3, 4, 5, 1, 0] rfl ?_
  exact r_loop (L := fun s => [(0, 69, 0), (1, 0, x1), (2, 0, x2), (3, 0, x3), (4, 0, v3), (5, 0, s)]) (w_fX67_giveFirsts_B29 E hN hT x1 x2 x3 v3) zBIG 0
theorem w_fX67_giveFirsts {K : zK} (E : zE K cX67_giveFirsts "RingHouseModel" none 1) (hN : zNl K = 7) (hT : zTr K = none) (x1 : Int) (x2 : Int) (x3 : Int) : zR K 0 [(0, 69, 0), (1, 0, x1), (2, 0, x2), (3, 0, x3)] [] (fX67_giveFirsts x1 x2 x3) := by
  refine r_iconst E dX67_giveFirsts_0 (zkI (by decide) (by decide)) ?_
  refine r_aload_n E dX67_giveFirsts_1 rfl 0 rfl ?_
  refine r_gec (y := 0) E zc_69 dX67_giveFirsts_2 q3217 zr_69 (zh_6802 (by decide)) (by decide) ?_
  refine r_iload_n E dX67_giveFirsts_5 rfl 1 rfl ?_
  refine r_iaload E zc_6802 za_6802 zt_6802 zx_6802 rfl rfl dX67_giveFirsts_6 (by decide) (fun v1 => ?_)
  refine r_imul E dX67_giveFirsts_7 ?_
  refine r_aload_n E dX67_giveFirsts_8 rfl 0 rfl ?_
  refine r_gec (y := 0) E zc_69 dX67_giveFirsts_9 q3215 zr_69 (zh_6800 (by decide)) (by decide) ?_
  refine r_iload_n E dX67_giveFirsts_12 rfl 1 rfl ?_
  refine r_iaload E zc_6800 za_6800 zt_6800 zx_6800 rfl rfl dX67_giveFirsts_13 (by decide) (fun v2 => ?_)
  refine r_iconst E dX67_giveFirsts_14 (zkI (by decide) (by decide)) ?_
  refine r_icmp_ne E 22 (by decide) dX67_giveFirsts_15 (fun _ => ?_) (fun _ => ?_)
  · refine r_iconst E dX67_giveFirsts_22 (zkI (by decide) (by decide)) ?_
    exact w_fX67_giveFirsts_J23 E hN hT x1 x2 x3 (zi (2 * v1)) 1
  · refine r_iconst E dX67_giveFirsts_18 (zkI (by decide) (by decide)) ?_
    refine r_goto E 23 (by decide) dX67_giveFirsts_19 ?_
    exact w_fX67_giveFirsts_J23 E hN hT x1 x2 x3 (zi (2 * v1)) 0
theorem k_fX67_giveFirsts (l : Launch) (G : zG) (x1 : Int) (x2 : Int) (x3 : Int) : zCt l G yX67_giveFirsts cX67_giveFirsts 7 none 1 [(69, 0), (0, x1), (0, x2), (0, x3)] none (fX67_giveFirsts x1 x2 x3) := zCt.of (by decide) (Nat.le_of_ble_eq_true rfl) (fun K E _ _ hN hT => w_fX67_giveFirsts E hN hT x1 x2 x3)
theorem dX67_made_0 : decode cX67_made 0 = .ok (.aload_n 0, 1) := by decide +kernel
theorem dX67_made_1 : decode cX67_made 1 = .ok (.iload_n 1, 1) := by decide +kernel
theorem dX67_made_2 : decode cX67_made 2 = .ok (.iconst (-1), 1) := by decide +kernel
theorem dX67_made_3 : decode cX67_made 3 = .ok (.iconst (-1), 1) := by decide +kernel
theorem dX67_made_4 : decode cX67_made 4 = .ok (.invokevirtual 435, 3) := by decide +kernel
theorem dX67_made_7 : decode cX67_made 7 = .ok (.iload_n 1, 1) := by decide +kernel
theorem dX67_made_8 : decode cX67_made 8 = .ok (.ireturn, 1) := by decide +kernel
theorem zy_X67_made : yX67_made.cls ≠ "java/lang/invoke/MethodHandle" ∧ yX67_made.cls ≠ "java/lang/invoke/VarHandle" ∧ (parseMethodDescriptor yX67_made.desc).map (fun d => d.parameters.length) = some 1 := by decide +kernel
theorem w_fX67_made {K : zK} (E : zE K cX67_made "RingHouseModel" (some .int) 2) (hN : zNl K = 2) (hT : zTr K = (some 0)) (x1 : Int) : zR K 0 [(0, 69, 0), (1, 0, x1)] [] (fX67_made x1) := by
  refine r_aload_n E dX67_made_0 rfl 0 rfl ?_
  refine r_iload_n E dX67_made_1 rfl 1 rfl ?_
  refine r_iconst E dX67_made_2 (zkI (by decide) (by decide)) ?_
  refine r_iconst E dX67_made_3 (zkI (by decide) (by decide)) ?_
  refine r_callV E [(0, x1), (0, (-1)), (0, (-1))] [] rfl zc_69 zr_69 (fun o _ => ⟨_, zw_X67.1 o, rfl⟩) (lw_V q3666 q3668 qs101 q294 q3669) dX67_made_4 zy_X67_giveFirsts rfl (by omega) (by decide) (Nat.le_of_ble_eq_true rfl) (by decide) (fun l G => k_fX67_giveFirsts l G x1 (-1) (-1)) (fun _ => ?_)
  refine r_iload_n E dX67_made_7 rfl 1 rfl ?_
  exact r_ireturn E rfl hT dX67_made_8
theorem k_fX67_made (l : Launch) (G : zG) (x1 : Int) : zCt l G yX67_made cX67_made 2 (some .int) 2 [(69, 0), (0, x1)] (some 0) (fX67_made x1) := zCt.of (by decide) (Nat.le_of_ble_eq_true rfl) (fun K E _ _ hN hT => w_fX67_made E hN hT x1)
theorem dX67_directory_0 : decode cX67_directory 0 = .ok (.aload_n 0, 1) := by decide +kernel
theorem dX67_directory_1 : decode cX67_directory 1 = .ok (.iload_n 1, 1) := by decide +kernel
theorem dX67_directory_2 : decode cX67_directory 2 = .ok (.iconst 1, 1) := by decide +kernel
theorem dX67_directory_3 : decode cX67_directory 3 = .ok (.invokevirtual 439, 3) := by decide +kernel
theorem dX67_directory_6 : decode cX67_directory 6 = .ok (.ifCond .eq 66, 3) := by decide +kernel
theorem dX67_directory_9 : decode cX67_directory 9 = .ok (.lload_n 2, 1) := by decide +kernel
theorem dX67_directory_10 : decode cX67_directory 10 = .ok (.invokestatic 442, 3) := by decide +kernel
theorem dX67_directory_13 : decode cX67_directory 13 = .ok (.ifCond .eq 59, 3) := by decide +kernel
theorem dX67_directory_16 : decode cX67_directory 16 = .ok (.iload 4, 2) := by decide +kernel
theorem dX67_directory_18 : decode cX67_directory 18 = .ok (.i2l, 1) := by decide +kernel
theorem dX67_directory_19 : decode cX67_directory 19 = .ok (.lconst 0, 1) := by decide +kernel
theorem dX67_directory_20 : decode cX67_directory 20 = .ok (.ldc2_w 445, 3) := by decide +kernel
theorem dX67_directory_23 : decode cX67_directory 23 = .ok (.invokestatic 363, 3) := by decide +kernel
theorem dX67_directory_26 : decode cX67_directory 26 = .ok (.ifCond .eq 46, 3) := by decide +kernel
theorem dX67_directory_29 : decode cX67_directory 29 = .ok (.iload 4, 2) := by decide +kernel
theorem dX67_directory_31 : decode cX67_directory 31 = .ok (.aload_n 0, 1) := by decide +kernel
theorem dX67_directory_32 : decode cX67_directory 32 = .ok (.getfield 20, 3) := by decide +kernel
theorem dX67_directory_35 : decode cX67_directory 35 = .ok (.iload_n 1, 1) := by decide +kernel
theorem dX67_directory_36 : decode cX67_directory 36 = .ok (.iaload, 1) := by decide +kernel
theorem dX67_directory_37 : decode cX67_directory 37 = .ok (.invokestatic 447, 3) := by decide +kernel
theorem dX67_directory_40 : decode cX67_directory 40 = .ok (.ifCond .eq 32, 3) := by decide +kernel
theorem dX67_directory_43 : decode cX67_directory 43 = .ok (.iload 5, 2) := by decide +kernel
theorem dX67_directory_45 : decode cX67_directory 45 = .ok (.i2l, 1) := by decide +kernel
theorem dX67_directory_46 : decode cX67_directory 46 = .ok (.lconst 0, 1) := by decide +kernel
theorem dX67_directory_47 : decode cX67_directory 47 = .ok (.ldc2_w 377, 3) := by decide +kernel
theorem dX67_directory_50 : decode cX67_directory 50 = .ok (.invokestatic 363, 3) := by decide +kernel
theorem dX67_directory_53 : decode cX67_directory 53 = .ok (.ifCond .eq 19, 3) := by decide +kernel
theorem dX67_directory_56 : decode cX67_directory 56 = .ok (.iload 4, 2) := by decide +kernel
theorem dX67_directory_58 : decode cX67_directory 58 = .ok (.aload_n 0, 1) := by decide +kernel
theorem dX67_directory_59 : decode cX67_directory 59 = .ok (.getfield 20, 3) := by decide +kernel
theorem dX67_directory_62 : decode cX67_directory 62 = .ok (.iload_n 1, 1) := by decide +kernel
theorem dX67_directory_63 : decode cX67_directory 63 = .ok (.iaload, 1) := by decide +kernel
theorem dX67_directory_64 : decode cX67_directory 64 = .ok (.if_icmp .eq 11, 3) := by decide +kernel
theorem dX67_directory_67 : decode cX67_directory 67 = .ok (.iload 5, 2) := by decide +kernel
theorem dX67_directory_69 : decode cX67_directory 69 = .ok (.ifCond .ne 6, 3) := by decide +kernel
theorem dX67_directory_72 : decode cX67_directory 72 = .ok (.bipush (-8), 2) := by decide +kernel
theorem dX67_directory_74 : decode cX67_directory 74 = .ok (.ireturn, 1) := by decide +kernel
theorem dX67_directory_75 : decode cX67_directory 75 = .ok (.aload_n 0, 1) := by decide +kernel
theorem dX67_directory_76 : decode cX67_directory 76 = .ok (.iload_n 1, 1) := by decide +kernel
theorem dX67_directory_77 : decode cX67_directory 77 = .ok (.lload_n 2, 1) := by decide +kernel
theorem dX67_directory_78 : decode cX67_directory 78 = .ok (.invokevirtual 450, 3) := by decide +kernel
theorem dX67_directory_81 : decode cX67_directory 81 = .ok (.ifCond .lt 8, 3) := by decide +kernel
theorem dX67_directory_84 : decode cX67_directory 84 = .ok (.bipush (-6), 2) := by decide +kernel
theorem dX67_directory_86 : decode cX67_directory 86 = .ok (.goto 37, 3) := by decide +kernel
theorem dX67_directory_89 : decode cX67_directory 89 = .ok (.aload_n 0, 1) := by decide +kernel
theorem dX67_directory_90 : decode cX67_directory 90 = .ok (.iload_n 1, 1) := by decide +kernel
theorem dX67_directory_91 : decode cX67_directory 91 = .ok (.iconst 1, 1) := by decide +kernel
theorem dX67_directory_92 : decode cX67_directory 92 = .ok (.iload 5, 2) := by decide +kernel
theorem dX67_directory_94 : decode cX67_directory 94 = .ok (.invokestatic 387, 3) := by decide +kernel
theorem dX67_directory_97 : decode cX67_directory 97 = .ok (.invokevirtual 454, 3) := by decide +kernel
theorem dX67_directory_100 : decode cX67_directory 100 = .ok (.ifCond .ne 8, 3) := by decide +kernel
theorem dX67_directory_103 : decode cX67_directory 103 = .ok (.bipush (-5), 2) := by decide +kernel
theorem dX67_directory_105 : decode cX67_directory 105 = .ok (.goto 18, 3) := by decide +kernel
theorem dX67_directory_108 : decode cX67_directory 108 = .ok (.aload_n 0, 1) := by decide +kernel
theorem dX67_directory_109 : decode cX67_directory 109 = .ok (.aload_n 0, 1) := by decide +kernel
theorem dX67_directory_110 : decode cX67_directory 110 = .ok (.iconst 1, 1) := by decide +kernel
theorem dX67_directory_111 : decode cX67_directory 111 = .ok (.iload_n 1, 1) := by decide +kernel
theorem dX67_directory_112 : decode cX67_directory 112 = .ok (.lload_n 2, 1) := by decide +kernel
theorem dX67_directory_113 : decode cX67_directory 113 = .ok (.iload 4, 2) := by decide +kernel
theorem dX67_directory_115 : decode cX67_directory 115 = .ok (.iload 5, 2) := by decide +kernel
theorem dX67_directory_117 : decode cX67_directory 117 = .ok (.invokevirtual 457, 3) := by decide +kernel
theorem dX67_directory_120 : decode cX67_directory 120 = .ok (.invokevirtual 461, 3) := by decide +kernel
theorem dX67_directory_123 : decode cX67_directory 123 = .ok (.ireturn, 1) := by decide +kernel
theorem zy_X67_directory : yX67_directory.cls ≠ "java/lang/invoke/MethodHandle" ∧ yX67_directory.cls ≠ "java/lang/invoke/VarHandle" ∧ (parseMethodDescriptor yX67_directory.desc).map (fun d => d.parameters.length) = some 4 := by decide +kernel
theorem w_fX67_directory_J75 {K : zK} (E : zE K cX67_directory "RingHouseModel" (some .int) 3) (hN : zNl K = 6) (hT : zTr K = (some 0)) (x1 : Int) (x2 : Int) (x4 : Int) (x5 : Int) : zR K 75 [(0, 69, 0), (1, 0, x1), (2, 1, x2), (4, 0, x4), (5, 0, x5)] [] (fX67_directory_J75 x1 x2 x4 x5) := by
  refine r_aload_n E dX67_directory_75 rfl 0 rfl ?_
  refine r_iload_n E dX67_directory_76 rfl 1 rfl ?_
  refine r_lload_n E dX67_directory_77 rfl 2 rfl ?_
  refine r_callV E [(0, x1), (1, x2)] [] rfl zc_69 zr_69 (fun o _ => ⟨_, zw_X67.1 o, rfl⟩) (lw_V q3635 q3637 qs94 q294 q3638) dX67_directory_78 zy_X67_entryNamed rfl (by omega) (by decide) (Nat.le_of_ble_eq_true rfl) (by decide) (fun l G => k_fX67_entryNamed l G x1 x2) (fun v8 => ?_)
  refine r_if_lt E 89 (by decide) dX67_directory_81 (fun _ => ?_) (fun _ => ?_)
  · refine r_aload_n E dX67_directory_89 rfl 0 rfl ?_
    refine r_iload_n E dX67_directory_90 rfl 1 rfl ?_
    refine r_iconst E dX67_directory_91 (zkI (by decide) (by decide)) ?_
    refine r_iload E dX67_directory_92 4 rfl ?_
    refine r_callS E [(0, 1), (0, x5)] [(0, x1), (69, 0)] rfl q3639 q3640 q294 q3641 dX67_directory_94 zy_X67_costOf rfl (by omega) (by decide) (Nat.le_of_ble_eq_true rfl) (fun l G => k_fX67_costOf l G 1 x5) (fun v9 => ?_)
    refine r_callV E [(0, x1), (0, v9)] [] rfl zc_69 zr_69 (fun o _ => ⟨_, zw_X67.1 o, rfl⟩) (lw_V q3642 q3644 qs95 q294 q3645) dX67_directory_97 zy_X67_hasRoom rfl (by omega) (by decide) (Nat.le_of_ble_eq_true rfl) (by decide) (fun l G => k_fX67_hasRoom l G x1 v9) (fun v10 => ?_)
    refine r_if_ne E 108 (by decide) dX67_directory_100 (fun _ => ?_) (fun _ => ?_)
    · refine r_aload_n E dX67_directory_108 rfl 0 rfl ?_
      refine r_aload_n E dX67_directory_109 rfl 0 rfl ?_
      refine r_iconst E dX67_directory_110 (zkI (by decide) (by decide)) ?_
      refine r_iload_n E dX67_directory_111 rfl 1 rfl ?_
      refine r_lload_n E dX67_directory_112 rfl 2 rfl ?_
      refine r_iload E dX67_directory_113 3 rfl ?_
      refine r_iload E dX67_directory_115 4 rfl ?_
      refine r_callV E [(0, 1), (0, x1), (1, x2), (0, x4), (0, x5)] [(69, 0)] rfl zc_69 zr_69 (fun o _ => ⟨_, zw_X67.1 o, rfl⟩) (lw_V q3650 q3652 qs97 q294 q3653) dX67_directory_117 zy_X67_make rfl (by omega) (by decide) (Nat.le_of_ble_eq_true rfl) (by decide) (fun l G => k_fX67_make l G 1 x1 x2 x4 x5) (fun v11 => ?_)
      refine r_callV E [(0, v11)] [] rfl zc_69 zr_69 (fun o _ => ⟨_, zw_X67.1 o, rfl⟩) (lw_V q3662 q3664 qs100 q294 q3665) dX67_directory_120 zy_X67_made rfl (by omega) (by decide) (Nat.le_of_ble_eq_true rfl) (by decide) (fun l G => k_fX67_made l G v11) (fun v12 => ?_)
      exact r_ireturn E rfl hT dX67_directory_123
    · refine r_bipush E dX67_directory_103 (by decide) (zkI (by decide) (by decide)) ?_
      refine r_goto E 123 (by decide) dX67_directory_105 ?_
      exact r_ireturn E rfl hT dX67_directory_123
  · refine r_bipush E dX67_directory_84 (by decide) (zkI (by decide) (by decide)) ?_
    refine r_goto E 123 (by decide) dX67_directory_86 ?_
    exact r_ireturn E rfl hT dX67_directory_123
theorem w_fX67_directory {K : zK} (E : zE K cX67_directory "RingHouseModel" (some .int) 3) (hN : zNl K = 6) (hT : zTr K = (some 0)) (x1 : Int) (x2 : Int) (x4 : Int) (x5 : Int) : zR K 0 [(0, 69, 0), (1, 0, x1), (2, 1, x2), (4, 0, x4), (5, 0, x5)] [] (fX67_directory x1 x2 x4 x5) := by
  refine r_aload_n E dX67_directory_0 rfl 0 rfl ?_
  refine r_iload_n E dX67_directory_1 rfl 1 rfl ?_
  refine r_iconst E dX67_directory_2 (zkI (by decide) (by decide)) ?_
  refine r_callV E [(0, x1), (0, 1)] [] rfl zc_69 zr_69 (fun o _ => ⟨_, zw_X67.1 o, rfl⟩) (lw_V q3610 q3612 qs92 q294 q3613) dX67_directory_3 zy_X67_isOf rfl (by omega) (by decide) (Nat.le_of_ble_eq_true rfl) (by decide) (fun l G => k_fX67_isOf l G x1 1) (fun v1 => ?_)
  refine r_if_eq E 72 (by decide) dX67_directory_6 (fun _ => ?_) (fun _ => ?_)
  · refine r_bipush E dX67_directory_72 (by decide) (zkI (by decide) (by decide)) ?_
    exact r_ireturn E rfl hT dX67_directory_74
  · refine r_lload_n E dX67_directory_9 rfl 2 rfl ?_
    refine r_callS E [(1, x2)] [] rfl q3622 q3623 q294 q3624 dX67_directory_10 zy_X67_isName rfl (by omega) (by decide) (Nat.le_of_ble_eq_true rfl) (fun l G => k_fX67_isName l G x2) (fun v2 => ?_)
    refine r_if_eq E 72 (by decide) dX67_directory_13 (fun _ => ?_) (fun _ => ?_)
    · refine r_bipush E dX67_directory_72 (by decide) (zkI (by decide) (by decide)) ?_
      exact r_ireturn E rfl hT dX67_directory_74
    · refine r_iload E dX67_directory_16 3 rfl ?_
      refine r_i2l E dX67_directory_18 ?_
      refine r_lconst (v := 0) E dX67_directory_19 (by decide) (zkJ (by decide) (by decide)) ?_
      refine r_ldc2 (v := 31) E dX67_directory_20 q3631 (by decide) (zkJ (by decide) (by decide)) ?_
      refine r_callS E [(1, x4), (1, 0), (1, 31)] [] rfl q3619 q3620 q294 q3621 dX67_directory_23 zy_X67_in rfl (by omega) (by decide) (Nat.le_of_ble_eq_true rfl) (fun l G => k_fX67_in l G x4 0 31) (fun v3 => ?_)
      refine r_if_eq E 72 (by decide) dX67_directory_26 (fun _ => ?_) (fun _ => ?_)
      · refine r_bipush E dX67_directory_72 (by decide) (zkI (by decide) (by decide)) ?_
        exact r_ireturn E rfl hT dX67_directory_74
      · refine r_iload E dX67_directory_29 3 rfl ?_
        refine r_aload_n E dX67_directory_31 rfl 0 rfl ?_
        refine r_gec (y := 0) E zc_69 dX67_directory_32 q3218 zr_69 (zh_6803 (by decide)) (by decide) ?_
        refine r_iload_n E dX67_directory_35 rfl 1 rfl ?_
        refine r_iaload E zc_6803 za_6803 zt_6803 zx_6803 rfl rfl dX67_directory_36 (by decide) (fun v4 => ?_)
        refine r_callS E [(0, x4), (0, v4)] [] rfl q3632 q3633 q294 q3634 dX67_directory_37 zy_X67_dominates rfl (by omega) (by decide) (Nat.le_of_ble_eq_true rfl) (fun l G => k_fX67_dominates l G x4 v4) (fun v5 => ?_)
        refine r_if_eq E 72 (by decide) dX67_directory_40 (fun _ => ?_) (fun _ => ?_)
        · refine r_bipush E dX67_directory_72 (by decide) (zkI (by decide) (by decide)) ?_
          exact r_ireturn E rfl hT dX67_directory_74
        · refine r_iload E dX67_directory_43 4 rfl ?_
          refine r_i2l E dX67_directory_45 ?_
          refine r_lconst (v := 0) E dX67_directory_46 (by decide) (zkJ (by decide) (by decide)) ?_
          refine r_ldc2 (v := 255) E dX67_directory_47 q3618 (by decide) (zkJ (by decide) (by decide)) ?_
          refine r_callS E [(1, x5), (1, 0), (1, 255)] [] rfl q3619 q3620 q294 q3621 dX67_directory_50 zy_X67_in rfl (by omega) (by decide) (Nat.le_of_ble_eq_true rfl) (fun l G => k_fX67_in l G x5 0 255) (fun v6 => ?_)
          refine r_if_eq E 72 (by decide) dX67_directory_53 (fun _ => ?_) (fun _ => ?_)
          · refine r_bipush E dX67_directory_72 (by decide) (zkI (by decide) (by decide)) ?_
            exact r_ireturn E rfl hT dX67_directory_74
          · refine r_iload E dX67_directory_56 3 rfl ?_
            refine r_aload_n E dX67_directory_58 rfl 0 rfl ?_
            refine r_gec (y := 0) E zc_69 dX67_directory_59 q3218 zr_69 (zh_6803 (by decide)) (by decide) ?_
            refine r_iload_n E dX67_directory_62 rfl 1 rfl ?_
            refine r_iaload E zc_6803 za_6803 zt_6803 zx_6803 rfl rfl dX67_directory_63 (by decide) (fun v7 => ?_)
            refine r_icmp_eq E 75 (by decide) dX67_directory_64 (fun _ => ?_) (fun _ => ?_)
            · exact w_fX67_directory_J75 E hN hT x1 x2 x4 x5
            · refine r_iload E dX67_directory_67 4 rfl ?_
              refine r_if_ne E 75 (by decide) dX67_directory_69 (fun _ => ?_) (fun _ => ?_)
              · exact w_fX67_directory_J75 E hN hT x1 x2 x4 x5
              · refine r_bipush E dX67_directory_72 (by decide) (zkI (by decide) (by decide)) ?_
                exact r_ireturn E rfl hT dX67_directory_74
theorem k_fX67_directory (l : Launch) (G : zG) (x1 : Int) (x2 : Int) (x4 : Int) (x5 : Int) : zCt l G yX67_directory cX67_directory 6 (some .int) 3 [(69, 0), (0, x1), (1, x2), (0, x4), (0, x5)] (some 0) (fX67_directory x1 x2 x4 x5) := zCt.of (by decide) (Nat.le_of_ble_eq_true rfl) (fun K E _ _ hN hT => w_fX67_directory E hN hT x1 x2 x4 x5)
theorem dX67_segment_0 : decode cX67_segment 0 = .ok (.aload_n 0, 1) := by decide +kernel
theorem dX67_segment_1 : decode cX67_segment 1 = .ok (.iload_n 1, 1) := by decide +kernel
theorem dX67_segment_2 : decode cX67_segment 2 = .ok (.iconst 1, 1) := by decide +kernel
theorem dX67_segment_3 : decode cX67_segment 3 = .ok (.invokevirtual 439, 3) := by decide +kernel
theorem dX67_segment_6 : decode cX67_segment 6 = .ok (.ifCond .eq 23, 3) := by decide +kernel
theorem dX67_segment_9 : decode cX67_segment 9 = .ok (.lload_n 2, 1) := by decide +kernel
theorem dX67_segment_10 : decode cX67_segment 10 = .ok (.invokestatic 442, 3) := by decide +kernel
theorem dX67_segment_13 : decode cX67_segment 13 = .ok (.ifCond .eq 16, 3) := by decide +kernel
theorem dX67_segment_16 : decode cX67_segment 16 = .ok (.iload 4, 2) := by decide +kernel
theorem dX67_segment_18 : decode cX67_segment 18 = .ok (.i2l, 1) := by decide +kernel
theorem dX67_segment_19 : decode cX67_segment 19 = .ok (.lconst 0, 1) := by decide +kernel
theorem dX67_segment_20 : decode cX67_segment 20 = .ok (.ldc2_w 464, 3) := by decide +kernel
theorem dX67_segment_23 : decode cX67_segment 23 = .ok (.invokestatic 363, 3) := by decide +kernel
theorem dX67_segment_26 : decode cX67_segment 26 = .ok (.ifCond .ne 6, 3) := by decide +kernel
theorem dX67_segment_29 : decode cX67_segment 29 = .ok (.bipush (-8), 2) := by decide +kernel
theorem dX67_segment_31 : decode cX67_segment 31 = .ok (.ireturn, 1) := by decide +kernel
theorem dX67_segment_32 : decode cX67_segment 32 = .ok (.aload_n 0, 1) := by decide +kernel
theorem dX67_segment_33 : decode cX67_segment 33 = .ok (.iload_n 1, 1) := by decide +kernel
theorem dX67_segment_34 : decode cX67_segment 34 = .ok (.lload_n 2, 1) := by decide +kernel
theorem dX67_segment_35 : decode cX67_segment 35 = .ok (.invokevirtual 450, 3) := by decide +kernel
theorem dX67_segment_38 : decode cX67_segment 38 = .ok (.ifCond .lt 8, 3) := by decide +kernel
theorem dX67_segment_41 : decode cX67_segment 41 = .ok (.bipush (-6), 2) := by decide +kernel
theorem dX67_segment_43 : decode cX67_segment 43 = .ok (.goto 41, 3) := by decide +kernel
theorem dX67_segment_46 : decode cX67_segment 46 = .ok (.aload_n 0, 1) := by decide +kernel
theorem dX67_segment_47 : decode cX67_segment 47 = .ok (.iload_n 1, 1) := by decide +kernel
theorem dX67_segment_48 : decode cX67_segment 48 = .ok (.iconst 2, 1) := by decide +kernel
theorem dX67_segment_49 : decode cX67_segment 49 = .ok (.iload 4, 2) := by decide +kernel
theorem dX67_segment_51 : decode cX67_segment 51 = .ok (.invokestatic 387, 3) := by decide +kernel
theorem dX67_segment_54 : decode cX67_segment 54 = .ok (.invokevirtual 454, 3) := by decide +kernel
theorem dX67_segment_57 : decode cX67_segment 57 = .ok (.ifCond .ne 8, 3) := by decide +kernel
theorem dX67_segment_60 : decode cX67_segment 60 = .ok (.bipush (-5), 2) := by decide +kernel
theorem dX67_segment_62 : decode cX67_segment 62 = .ok (.goto 22, 3) := by decide +kernel
theorem dX67_segment_65 : decode cX67_segment 65 = .ok (.aload_n 0, 1) := by decide +kernel
theorem dX67_segment_66 : decode cX67_segment 66 = .ok (.aload_n 0, 1) := by decide +kernel
theorem dX67_segment_67 : decode cX67_segment 67 = .ok (.iconst 2, 1) := by decide +kernel
theorem dX67_segment_68 : decode cX67_segment 68 = .ok (.iload_n 1, 1) := by decide +kernel
theorem dX67_segment_69 : decode cX67_segment 69 = .ok (.lload_n 2, 1) := by decide +kernel
theorem dX67_segment_70 : decode cX67_segment 70 = .ok (.aload_n 0, 1) := by decide +kernel
theorem dX67_segment_71 : decode cX67_segment 71 = .ok (.getfield 20, 3) := by decide +kernel
theorem dX67_segment_74 : decode cX67_segment 74 = .ok (.iload_n 1, 1) := by decide +kernel
theorem dX67_segment_75 : decode cX67_segment 75 = .ok (.iaload, 1) := by decide +kernel
theorem dX67_segment_76 : decode cX67_segment 76 = .ok (.iload 4, 2) := by decide +kernel
theorem dX67_segment_78 : decode cX67_segment 78 = .ok (.invokevirtual 457, 3) := by decide +kernel
theorem dX67_segment_81 : decode cX67_segment 81 = .ok (.invokevirtual 461, 3) := by decide +kernel
theorem dX67_segment_84 : decode cX67_segment 84 = .ok (.ireturn, 1) := by decide +kernel
theorem zy_X67_segment : yX67_segment.cls ≠ "java/lang/invoke/MethodHandle" ∧ yX67_segment.cls ≠ "java/lang/invoke/VarHandle" ∧ (parseMethodDescriptor yX67_segment.desc).map (fun d => d.parameters.length) = some 3 := by decide +kernel
theorem w_fX67_segment {K : zK} (E : zE K cX67_segment "RingHouseModel" (some .int) 3) (hN : zNl K = 5) (hT : zTr K = (some 0)) (x1 : Int) (x2 : Int) (x4 : Int) : zR K 0 [(0, 69, 0), (1, 0, x1), (2, 1, x2), (4, 0, x4)] [] (fX67_segment x1 x2 x4) := by
  refine r_aload_n E dX67_segment_0 rfl 0 rfl ?_
  refine r_iload_n E dX67_segment_1 rfl 1 rfl ?_
  refine r_iconst E dX67_segment_2 (zkI (by decide) (by decide)) ?_
  refine r_callV E [(0, x1), (0, 1)] [] rfl zc_69 zr_69 (fun o _ => ⟨_, zw_X67.1 o, rfl⟩) (lw_V q3610 q3612 qs92 q294 q3613) dX67_segment_3 zy_X67_isOf rfl (by omega) (by decide) (Nat.le_of_ble_eq_true rfl) (by decide) (fun l G => k_fX67_isOf l G x1 1) (fun v1 => ?_)
  refine r_if_eq E 29 (by decide) dX67_segment_6 (fun _ => ?_) (fun _ => ?_)
  · refine r_bipush E dX67_segment_29 (by decide) (zkI (by decide) (by decide)) ?_
    exact r_ireturn E rfl hT dX67_segment_31
  · refine r_lload_n E dX67_segment_9 rfl 2 rfl ?_
    refine r_callS E [(1, x2)] [] rfl q3622 q3623 q294 q3624 dX67_segment_10 zy_X67_isName rfl (by omega) (by decide) (Nat.le_of_ble_eq_true rfl) (fun l G => k_fX67_isName l G x2) (fun v2 => ?_)
    refine r_if_eq E 29 (by decide) dX67_segment_13 (fun _ => ?_) (fun _ => ?_)
    · refine r_bipush E dX67_segment_29 (by decide) (zkI (by decide) (by decide)) ?_
      exact r_ireturn E rfl hT dX67_segment_31
    · refine r_iload E dX67_segment_16 3 rfl ?_
      refine r_i2l E dX67_segment_18 ?_
      refine r_lconst (v := 0) E dX67_segment_19 (by decide) (zkJ (by decide) (by decide)) ?_
      refine r_ldc2 (v := 1024) E dX67_segment_20 q3678 (by decide) (zkJ (by decide) (by decide)) ?_
      refine r_callS E [(1, x4), (1, 0), (1, 1024)] [] rfl q3619 q3620 q294 q3621 dX67_segment_23 zy_X67_in rfl (by omega) (by decide) (Nat.le_of_ble_eq_true rfl) (fun l G => k_fX67_in l G x4 0 1024) (fun v3 => ?_)
      refine r_if_ne E 32 (by decide) dX67_segment_26 (fun _ => ?_) (fun _ => ?_)
      · refine r_aload_n E dX67_segment_32 rfl 0 rfl ?_
        refine r_iload_n E dX67_segment_33 rfl 1 rfl ?_
        refine r_lload_n E dX67_segment_34 rfl 2 rfl ?_
        refine r_callV E [(0, x1), (1, x2)] [] rfl zc_69 zr_69 (fun o _ => ⟨_, zw_X67.1 o, rfl⟩) (lw_V q3635 q3637 qs94 q294 q3638) dX67_segment_35 zy_X67_entryNamed rfl (by omega) (by decide) (Nat.le_of_ble_eq_true rfl) (by decide) (fun l G => k_fX67_entryNamed l G x1 x2) (fun v4 => ?_)
        refine r_if_lt E 46 (by decide) dX67_segment_38 (fun _ => ?_) (fun _ => ?_)
        · refine r_aload_n E dX67_segment_46 rfl 0 rfl ?_
          refine r_iload_n E dX67_segment_47 rfl 1 rfl ?_
          refine r_iconst E dX67_segment_48 (zkI (by decide) (by decide)) ?_
          refine r_iload E dX67_segment_49 3 rfl ?_
          refine r_callS E [(0, 2), (0, x4)] [(0, x1), (69, 0)] rfl q3639 q3640 q294 q3641 dX67_segment_51 zy_X67_costOf rfl (by omega) (by decide) (Nat.le_of_ble_eq_true rfl) (fun l G => k_fX67_costOf l G 2 x4) (fun v5 => ?_)
          refine r_callV E [(0, x1), (0, v5)] [] rfl zc_69 zr_69 (fun o _ => ⟨_, zw_X67.1 o, rfl⟩) (lw_V q3642 q3644 qs95 q294 q3645) dX67_segment_54 zy_X67_hasRoom rfl (by omega) (by decide) (Nat.le_of_ble_eq_true rfl) (by decide) (fun l G => k_fX67_hasRoom l G x1 v5) (fun v6 => ?_)
          refine r_if_ne E 65 (by decide) dX67_segment_57 (fun _ => ?_) (fun _ => ?_)
          · refine r_aload_n E dX67_segment_65 rfl 0 rfl ?_
            refine r_aload_n E dX67_segment_66 rfl 0 rfl ?_
            refine r_iconst E dX67_segment_67 (zkI (by decide) (by decide)) ?_
            refine r_iload_n E dX67_segment_68 rfl 1 rfl ?_
            refine r_lload_n E dX67_segment_69 rfl 2 rfl ?_
            refine r_aload_n E dX67_segment_70 rfl 0 rfl ?_
            refine r_gec (y := 0) E zc_69 dX67_segment_71 q3218 zr_69 (zh_6803 (by decide)) (by decide) ?_
            refine r_iload_n E dX67_segment_74 rfl 1 rfl ?_
            refine r_iaload E zc_6803 za_6803 zt_6803 zx_6803 rfl rfl dX67_segment_75 (by decide) (fun v7 => ?_)
            refine r_iload E dX67_segment_76 3 rfl ?_
            refine r_callV E [(0, 2), (0, x1), (1, x2), (0, v7), (0, x4)] [(69, 0)] rfl zc_69 zr_69 (fun o _ => ⟨_, zw_X67.1 o, rfl⟩) (lw_V q3650 q3652 qs97 q294 q3653) dX67_segment_78 zy_X67_make rfl (by omega) (by decide) (Nat.le_of_ble_eq_true rfl) (by decide) (fun l G => k_fX67_make l G 2 x1 x2 v7 x4) (fun v8 => ?_)
            refine r_callV E [(0, v8)] [] rfl zc_69 zr_69 (fun o _ => ⟨_, zw_X67.1 o, rfl⟩) (lw_V q3662 q3664 qs100 q294 q3665) dX67_segment_81 zy_X67_made rfl (by omega) (by decide) (Nat.le_of_ble_eq_true rfl) (by decide) (fun l G => k_fX67_made l G v8) (fun v9 => ?_)
            exact r_ireturn E rfl hT dX67_segment_84
          · refine r_bipush E dX67_segment_60 (by decide) (zkI (by decide) (by decide)) ?_
            refine r_goto E 84 (by decide) dX67_segment_62 ?_
            exact r_ireturn E rfl hT dX67_segment_84
        · refine r_bipush E dX67_segment_41 (by decide) (zkI (by decide) (by decide)) ?_
          refine r_goto E 84 (by decide) dX67_segment_43 ?_
          exact r_ireturn E rfl hT dX67_segment_84
      · refine r_bipush E dX67_segment_29 (by decide) (zkI (by decide) (by decide)) ?_
        exact r_ireturn E rfl hT dX67_segment_31
theorem k_fX67_segment (l : Launch) (G : zG) (x1 : Int) (x2 : Int) (x4 : Int) : zCt l G yX67_segment cX67_segment 5 (some .int) 3 [(69, 0), (0, x1), (1, x2), (0, x4)] (some 0) (fX67_segment x1 x2 x4) := zCt.of (by decide) (Nat.le_of_ble_eq_true rfl) (fun K E _ _ hN hT => w_fX67_segment E hN hT x1 x2 x4)
theorem dX67_mailbox_0 : decode cX67_mailbox 0 = .ok (.aload_n 0, 1) := by decide +kernel
theorem dX67_mailbox_1 : decode cX67_mailbox 1 = .ok (.iload_n 1, 1) := by decide +kernel
theorem dX67_mailbox_2 : decode cX67_mailbox 2 = .ok (.iconst 1, 1) := by decide +kernel
theorem dX67_mailbox_3 : decode cX67_mailbox 3 = .ok (.invokevirtual 439, 3) := by decide +kernel
theorem dX67_mailbox_6 : decode cX67_mailbox 6 = .ok (.ifCond .eq 10, 3) := by decide +kernel
theorem dX67_mailbox_9 : decode cX67_mailbox 9 = .ok (.lload_n 2, 1) := by decide +kernel
theorem dX67_mailbox_10 : decode cX67_mailbox 10 = .ok (.invokestatic 442, 3) := by decide +kernel
theorem dX67_mailbox_13 : decode cX67_mailbox 13 = .ok (.ifCond .ne 6, 3) := by decide +kernel
theorem dX67_mailbox_16 : decode cX67_mailbox 16 = .ok (.bipush (-8), 2) := by decide +kernel
theorem dX67_mailbox_18 : decode cX67_mailbox 18 = .ok (.ireturn, 1) := by decide +kernel
theorem dX67_mailbox_19 : decode cX67_mailbox 19 = .ok (.aload_n 0, 1) := by decide +kernel
theorem dX67_mailbox_20 : decode cX67_mailbox 20 = .ok (.iload_n 1, 1) := by decide +kernel
theorem dX67_mailbox_21 : decode cX67_mailbox 21 = .ok (.lload_n 2, 1) := by decide +kernel
theorem dX67_mailbox_22 : decode cX67_mailbox 22 = .ok (.invokevirtual 450, 3) := by decide +kernel
theorem dX67_mailbox_25 : decode cX67_mailbox 25 = .ok (.ifCond .lt 8, 3) := by decide +kernel
theorem dX67_mailbox_28 : decode cX67_mailbox 28 = .ok (.bipush (-6), 2) := by decide +kernel
theorem dX67_mailbox_30 : decode cX67_mailbox 30 = .ok (.goto 39, 3) := by decide +kernel
theorem dX67_mailbox_33 : decode cX67_mailbox 33 = .ok (.aload_n 0, 1) := by decide +kernel
theorem dX67_mailbox_34 : decode cX67_mailbox 34 = .ok (.iload_n 1, 1) := by decide +kernel
theorem dX67_mailbox_35 : decode cX67_mailbox 35 = .ok (.iconst 3, 1) := by decide +kernel
theorem dX67_mailbox_36 : decode cX67_mailbox 36 = .ok (.iconst 0, 1) := by decide +kernel
theorem dX67_mailbox_37 : decode cX67_mailbox 37 = .ok (.invokestatic 387, 3) := by decide +kernel
theorem dX67_mailbox_40 : decode cX67_mailbox 40 = .ok (.invokevirtual 454, 3) := by decide +kernel
theorem dX67_mailbox_43 : decode cX67_mailbox 43 = .ok (.ifCond .ne 8, 3) := by decide +kernel
theorem dX67_mailbox_46 : decode cX67_mailbox 46 = .ok (.bipush (-5), 2) := by decide +kernel
theorem dX67_mailbox_48 : decode cX67_mailbox 48 = .ok (.goto 21, 3) := by decide +kernel
theorem dX67_mailbox_51 : decode cX67_mailbox 51 = .ok (.aload_n 0, 1) := by decide +kernel
theorem dX67_mailbox_52 : decode cX67_mailbox 52 = .ok (.aload_n 0, 1) := by decide +kernel
theorem dX67_mailbox_53 : decode cX67_mailbox 53 = .ok (.iconst 3, 1) := by decide +kernel
theorem dX67_mailbox_54 : decode cX67_mailbox 54 = .ok (.iload_n 1, 1) := by decide +kernel
theorem dX67_mailbox_55 : decode cX67_mailbox 55 = .ok (.lload_n 2, 1) := by decide +kernel
theorem dX67_mailbox_56 : decode cX67_mailbox 56 = .ok (.aload_n 0, 1) := by decide +kernel
theorem dX67_mailbox_57 : decode cX67_mailbox 57 = .ok (.getfield 20, 3) := by decide +kernel
theorem dX67_mailbox_60 : decode cX67_mailbox 60 = .ok (.iload_n 1, 1) := by decide +kernel
theorem dX67_mailbox_61 : decode cX67_mailbox 61 = .ok (.iaload, 1) := by decide +kernel
theorem dX67_mailbox_62 : decode cX67_mailbox 62 = .ok (.iconst 0, 1) := by decide +kernel
theorem dX67_mailbox_63 : decode cX67_mailbox 63 = .ok (.invokevirtual 457, 3) := by decide +kernel
theorem dX67_mailbox_66 : decode cX67_mailbox 66 = .ok (.invokevirtual 461, 3) := by decide +kernel
theorem dX67_mailbox_69 : decode cX67_mailbox 69 = .ok (.ireturn, 1) := by decide +kernel
theorem zy_X67_mailbox : yX67_mailbox.cls ≠ "java/lang/invoke/MethodHandle" ∧ yX67_mailbox.cls ≠ "java/lang/invoke/VarHandle" ∧ (parseMethodDescriptor yX67_mailbox.desc).map (fun d => d.parameters.length) = some 2 := by decide +kernel
theorem w_fX67_mailbox {K : zK} (E : zE K cX67_mailbox "RingHouseModel" (some .int) 3) (hN : zNl K = 4) (hT : zTr K = (some 0)) (x1 : Int) (x2 : Int) : zR K 0 [(0, 69, 0), (1, 0, x1), (2, 1, x2)] [] (fX67_mailbox x1 x2) := by
  refine r_aload_n E dX67_mailbox_0 rfl 0 rfl ?_
  refine r_iload_n E dX67_mailbox_1 rfl 1 rfl ?_
  refine r_iconst E dX67_mailbox_2 (zkI (by decide) (by decide)) ?_
  refine r_callV E [(0, x1), (0, 1)] [] rfl zc_69 zr_69 (fun o _ => ⟨_, zw_X67.1 o, rfl⟩) (lw_V q3610 q3612 qs92 q294 q3613) dX67_mailbox_3 zy_X67_isOf rfl (by omega) (by decide) (Nat.le_of_ble_eq_true rfl) (by decide) (fun l G => k_fX67_isOf l G x1 1) (fun v1 => ?_)
  refine r_if_eq E 16 (by decide) dX67_mailbox_6 (fun _ => ?_) (fun _ => ?_)
  · refine r_bipush E dX67_mailbox_16 (by decide) (zkI (by decide) (by decide)) ?_
    exact r_ireturn E rfl hT dX67_mailbox_18
  · refine r_lload_n E dX67_mailbox_9 rfl 2 rfl ?_
    refine r_callS E [(1, x2)] [] rfl q3622 q3623 q294 q3624 dX67_mailbox_10 zy_X67_isName rfl (by omega) (by decide) (Nat.le_of_ble_eq_true rfl) (fun l G => k_fX67_isName l G x2) (fun v2 => ?_)
    refine r_if_ne E 19 (by decide) dX67_mailbox_13 (fun _ => ?_) (fun _ => ?_)
    · refine r_aload_n E dX67_mailbox_19 rfl 0 rfl ?_
      refine r_iload_n E dX67_mailbox_20 rfl 1 rfl ?_
      refine r_lload_n E dX67_mailbox_21 rfl 2 rfl ?_
      refine r_callV E [(0, x1), (1, x2)] [] rfl zc_69 zr_69 (fun o _ => ⟨_, zw_X67.1 o, rfl⟩) (lw_V q3635 q3637 qs94 q294 q3638) dX67_mailbox_22 zy_X67_entryNamed rfl (by omega) (by decide) (Nat.le_of_ble_eq_true rfl) (by decide) (fun l G => k_fX67_entryNamed l G x1 x2) (fun v3 => ?_)
      refine r_if_lt E 33 (by decide) dX67_mailbox_25 (fun _ => ?_) (fun _ => ?_)
      · refine r_aload_n E dX67_mailbox_33 rfl 0 rfl ?_
        refine r_iload_n E dX67_mailbox_34 rfl 1 rfl ?_
        refine r_iconst E dX67_mailbox_35 (zkI (by decide) (by decide)) ?_
        refine r_iconst E dX67_mailbox_36 (zkI (by decide) (by decide)) ?_
        refine r_callS E [(0, 3), (0, 0)] [(0, x1), (69, 0)] rfl q3639 q3640 q294 q3641 dX67_mailbox_37 zy_X67_costOf rfl (by omega) (by decide) (Nat.le_of_ble_eq_true rfl) (fun l G => k_fX67_costOf l G 3 0) (fun v4 => ?_)
        refine r_callV E [(0, x1), (0, v4)] [] rfl zc_69 zr_69 (fun o _ => ⟨_, zw_X67.1 o, rfl⟩) (lw_V q3642 q3644 qs95 q294 q3645) dX67_mailbox_40 zy_X67_hasRoom rfl (by omega) (by decide) (Nat.le_of_ble_eq_true rfl) (by decide) (fun l G => k_fX67_hasRoom l G x1 v4) (fun v5 => ?_)
        refine r_if_ne E 51 (by decide) dX67_mailbox_43 (fun _ => ?_) (fun _ => ?_)
        · refine r_aload_n E dX67_mailbox_51 rfl 0 rfl ?_
          refine r_aload_n E dX67_mailbox_52 rfl 0 rfl ?_
          refine r_iconst E dX67_mailbox_53 (zkI (by decide) (by decide)) ?_
          refine r_iload_n E dX67_mailbox_54 rfl 1 rfl ?_
          refine r_lload_n E dX67_mailbox_55 rfl 2 rfl ?_
          refine r_aload_n E dX67_mailbox_56 rfl 0 rfl ?_
          refine r_gec (y := 0) E zc_69 dX67_mailbox_57 q3218 zr_69 (zh_6803 (by decide)) (by decide) ?_
          refine r_iload_n E dX67_mailbox_60 rfl 1 rfl ?_
          refine r_iaload E zc_6803 za_6803 zt_6803 zx_6803 rfl rfl dX67_mailbox_61 (by decide) (fun v6 => ?_)
          refine r_iconst E dX67_mailbox_62 (zkI (by decide) (by decide)) ?_
          refine r_callV E [(0, 3), (0, x1), (1, x2), (0, v6), (0, 0)] [(69, 0)] rfl zc_69 zr_69 (fun o _ => ⟨_, zw_X67.1 o, rfl⟩) (lw_V q3650 q3652 qs97 q294 q3653) dX67_mailbox_63 zy_X67_make rfl (by omega) (by decide) (Nat.le_of_ble_eq_true rfl) (by decide) (fun l G => k_fX67_make l G 3 x1 x2 v6 0) (fun v7 => ?_)
          refine r_callV E [(0, v7)] [] rfl zc_69 zr_69 (fun o _ => ⟨_, zw_X67.1 o, rfl⟩) (lw_V q3662 q3664 qs100 q294 q3665) dX67_mailbox_66 zy_X67_made rfl (by omega) (by decide) (Nat.le_of_ble_eq_true rfl) (by decide) (fun l G => k_fX67_made l G v7) (fun v8 => ?_)
          exact r_ireturn E rfl hT dX67_mailbox_69
        · refine r_bipush E dX67_mailbox_46 (by decide) (zkI (by decide) (by decide)) ?_
          refine r_goto E 69 (by decide) dX67_mailbox_48 ?_
          exact r_ireturn E rfl hT dX67_mailbox_69
      · refine r_bipush E dX67_mailbox_28 (by decide) (zkI (by decide) (by decide)) ?_
        refine r_goto E 69 (by decide) dX67_mailbox_30 ?_
        exact r_ireturn E rfl hT dX67_mailbox_69
    · refine r_bipush E dX67_mailbox_16 (by decide) (zkI (by decide) (by decide)) ?_
      exact r_ireturn E rfl hT dX67_mailbox_18
theorem k_fX67_mailbox (l : Launch) (G : zG) (x1 : Int) (x2 : Int) : zCt l G yX67_mailbox cX67_mailbox 4 (some .int) 3 [(69, 0), (0, x1), (1, x2)] (some 0) (fX67_mailbox x1 x2) := zCt.of (by decide) (Nat.le_of_ble_eq_true rfl) (fun K E _ _ hN hT => w_fX67_mailbox E hN hT x1 x2)
theorem dX67_isItem_0 : decode cX67_isItem 0 = .ok (.iload_n 0, 1) := by decide +kernel
theorem dX67_isItem_1 : decode cX67_isItem 1 = .ok (.i2l, 1) := by decide +kernel
theorem dX67_isItem_2 : decode cX67_isItem 2 = .ok (.lconst 0, 1) := by decide +kernel
theorem dX67_isItem_3 : decode cX67_isItem 3 = .ok (.ldc2_w 409, 3) := by decide +kernel
theorem dX67_isItem_6 : decode cX67_isItem 6 = .ok (.invokestatic 363, 3) := by decide +kernel
theorem dX67_isItem_9 : decode cX67_isItem 9 = .ok (.ifCond .eq 31, 3) := by decide +kernel
theorem dX67_isItem_12 : decode cX67_isItem 12 = .ok (.iload_n 1, 1) := by decide +kernel
theorem dX67_isItem_13 : decode cX67_isItem 13 = .ok (.i2l, 1) := by decide +kernel
theorem dX67_isItem_14 : decode cX67_isItem 14 = .ok (.lconst 0, 1) := by decide +kernel
theorem dX67_isItem_15 : decode cX67_isItem 15 = .ok (.ldc2_w 411, 3) := by decide +kernel
theorem dX67_isItem_18 : decode cX67_isItem 18 = .ok (.invokestatic 363, 3) := by decide +kernel
theorem dX67_isItem_21 : decode cX67_isItem 21 = .ok (.ifCond .eq 19, 3) := by decide +kernel
theorem dX67_isItem_24 : decode cX67_isItem 24 = .ok (.iload_n 2, 1) := by decide +kernel
theorem dX67_isItem_25 : decode cX67_isItem 25 = .ok (.i2l, 1) := by decide +kernel
theorem dX67_isItem_26 : decode cX67_isItem 26 = .ok (.lconst 0, 1) := by decide +kernel
theorem dX67_isItem_27 : decode cX67_isItem 27 = .ok (.ldc2_w 411, 3) := by decide +kernel
theorem dX67_isItem_30 : decode cX67_isItem 30 = .ok (.invokestatic 363, 3) := by decide +kernel
theorem dX67_isItem_33 : decode cX67_isItem 33 = .ok (.ifCond .eq 7, 3) := by decide +kernel
theorem dX67_isItem_36 : decode cX67_isItem 36 = .ok (.iconst 1, 1) := by decide +kernel
theorem dX67_isItem_37 : decode cX67_isItem 37 = .ok (.goto 4, 3) := by decide +kernel
theorem dX67_isItem_40 : decode cX67_isItem 40 = .ok (.iconst 0, 1) := by decide +kernel
theorem dX67_isItem_41 : decode cX67_isItem 41 = .ok (.ireturn, 1) := by decide +kernel
theorem zy_X67_isItem : yX67_isItem.cls ≠ "java/lang/invoke/MethodHandle" ∧ yX67_isItem.cls ≠ "java/lang/invoke/VarHandle" ∧ (parseMethodDescriptor yX67_isItem.desc).map (fun d => d.parameters.length) = some 3 := by decide +kernel
theorem w_fX67_isItem {K : zK} (E : zE K cX67_isItem "RingHouseModel" (some .boolean) 1) (hN : zNl K = 3) (hT : zTr K = (some 0)) (x0 : Int) (x1 : Int) (x2 : Int) : zR K 0 [(0, 0, x0), (1, 0, x1), (2, 0, x2)] [] (fX67_isItem x0 x1 x2) := by
  refine r_iload_n E dX67_isItem_0 rfl 0 rfl ?_
  refine r_i2l E dX67_isItem_1 ?_
  refine r_lconst (v := 0) E dX67_isItem_2 (by decide) (zkJ (by decide) (by decide)) ?_
  refine r_ldc2 (v := 16) E dX67_isItem_3 q3691 (by decide) (zkJ (by decide) (by decide)) ?_
  refine r_callS E [(1, x0), (1, 0), (1, 16)] [] rfl q3619 q3620 q294 q3621 dX67_isItem_6 zy_X67_in rfl (by omega) (by decide) (Nat.le_of_ble_eq_true rfl) (fun l G => k_fX67_in l G x0 0 16) (fun v1 => ?_)
  refine r_if_eq E 40 (by decide) dX67_isItem_9 (fun _ => ?_) (fun _ => ?_)
  · refine r_iconst E dX67_isItem_40 (zkI (by decide) (by decide)) ?_
    exact r_zreturn E rfl hT (by decide) dX67_isItem_41
  · refine r_iload_n E dX67_isItem_12 rfl 1 rfl ?_
    refine r_i2l E dX67_isItem_13 ?_
    refine r_lconst (v := 0) E dX67_isItem_14 (by decide) (zkJ (by decide) (by decide)) ?_
    refine r_ldc2 (v := 8) E dX67_isItem_15 q3692 (by decide) (zkJ (by decide) (by decide)) ?_
    refine r_callS E [(1, x1), (1, 0), (1, 8)] [] rfl q3619 q3620 q294 q3621 dX67_isItem_18 zy_X67_in rfl (by omega) (by decide) (Nat.le_of_ble_eq_true rfl) (fun l G => k_fX67_in l G x1 0 8) (fun v2 => ?_)
    refine r_if_eq E 40 (by decide) dX67_isItem_21 (fun _ => ?_) (fun _ => ?_)
    · refine r_iconst E dX67_isItem_40 (zkI (by decide) (by decide)) ?_
      exact r_zreturn E rfl hT (by decide) dX67_isItem_41
    · refine r_iload_n E dX67_isItem_24 rfl 2 rfl ?_
      refine r_i2l E dX67_isItem_25 ?_
      refine r_lconst (v := 0) E dX67_isItem_26 (by decide) (zkJ (by decide) (by decide)) ?_
      refine r_ldc2 (v := 8) E dX67_isItem_27 q3692 (by decide) (zkJ (by decide) (by decide)) ?_
      refine r_callS E [(1, x2), (1, 0), (1, 8)] [] rfl q3619 q3620 q294 q3621 dX67_isItem_30 zy_X67_in rfl (by omega) (by decide) (Nat.le_of_ble_eq_true rfl) (fun l G => k_fX67_in l G x2 0 8) (fun v3 => ?_)
      refine r_if_eq E 40 (by decide) dX67_isItem_33 (fun _ => ?_) (fun _ => ?_)
      · refine r_iconst E dX67_isItem_40 (zkI (by decide) (by decide)) ?_
        exact r_zreturn E rfl hT (by decide) dX67_isItem_41
      · refine r_iconst E dX67_isItem_36 (zkI (by decide) (by decide)) ?_
        refine r_goto E 41 (by decide) dX67_isItem_37 ?_
        exact r_zreturn E rfl hT (by decide) dX67_isItem_41
theorem k_fX67_isItem (l : Launch) (G : zG) (x0 : Int) (x1 : Int) (x2 : Int) : zCt l G yX67_isItem cX67_isItem 3 (some .boolean) 1 [(0, x0), (0, x1), (0, x2)] (some 0) (fX67_isItem x0 x1 x2) := zCt.of (by decide) (Nat.le_of_ble_eq_true rfl) (fun K E _ _ hN hT => w_fX67_isItem E hN hT x0 x1 x2)
theorem dX67_setItem_0 : decode cX67_setItem 0 = .ok (.iconst 0, 1) := by decide +kernel
theorem dX67_setItem_1 : decode cX67_setItem 1 = .ok (.istore 8, 2) := by decide +kernel
theorem dX67_setItem_3 : decode cX67_setItem 3 = .ok (.iload 8, 2) := by decide +kernel
theorem dX67_setItem_5 : decode cX67_setItem 5 = .ok (.iload_n 3, 1) := by decide +kernel
theorem dX67_setItem_6 : decode cX67_setItem 6 = .ok (.if_icmp .ge 37, 3) := by decide +kernel
theorem dX67_setItem_9 : decode cX67_setItem 9 = .ok (.aload_n 1, 1) := by decide +kernel
theorem dX67_setItem_10 : decode cX67_setItem 10 = .ok (.iload_n 2, 1) := by decide +kernel
theorem dX67_setItem_11 : decode cX67_setItem 11 = .ok (.iconst 3, 1) := by decide +kernel
theorem dX67_setItem_12 : decode cX67_setItem 12 = .ok (.iload 8, 2) := by decide +kernel
theorem dX67_setItem_14 : decode cX67_setItem 14 = .ok (.imul, 1) := by decide +kernel
theorem dX67_setItem_15 : decode cX67_setItem 15 = .ok (.iadd, 1) := by decide +kernel
theorem dX67_setItem_16 : decode cX67_setItem 16 = .ok (.iaload, 1) := by decide +kernel
theorem dX67_setItem_17 : decode cX67_setItem 17 = .ok (.iload 5, 2) := by decide +kernel
theorem dX67_setItem_19 : decode cX67_setItem 19 = .ok (.if_icmp .ne 18, 3) := by decide +kernel
theorem dX67_setItem_22 : decode cX67_setItem 22 = .ok (.aload_n 1, 1) := by decide +kernel
theorem dX67_setItem_23 : decode cX67_setItem 23 = .ok (.iload_n 2, 1) := by decide +kernel
theorem dX67_setItem_24 : decode cX67_setItem 24 = .ok (.iconst 3, 1) := by decide +kernel
theorem dX67_setItem_25 : decode cX67_setItem 25 = .ok (.iload 8, 2) := by decide +kernel
theorem dX67_setItem_27 : decode cX67_setItem 27 = .ok (.imul, 1) := by decide +kernel
theorem dX67_setItem_28 : decode cX67_setItem 28 = .ok (.iadd, 1) := by decide +kernel
theorem dX67_setItem_29 : decode cX67_setItem 29 = .ok (.iconst 1, 1) := by decide +kernel
theorem dX67_setItem_30 : decode cX67_setItem 30 = .ok (.iadd, 1) := by decide +kernel
theorem dX67_setItem_31 : decode cX67_setItem 31 = .ok (.iaload, 1) := by decide +kernel
theorem dX67_setItem_32 : decode cX67_setItem 32 = .ok (.iload 6, 2) := by decide +kernel
theorem dX67_setItem_34 : decode cX67_setItem 34 = .ok (.if_icmp .eq 9, 3) := by decide +kernel
theorem dX67_setItem_37 : decode cX67_setItem 37 = .ok (.iinc 8 1, 3) := by decide +kernel
theorem dX67_setItem_40 : decode cX67_setItem 40 = .ok (.goto (-37), 3) := by decide +kernel
theorem dX67_setItem_43 : decode cX67_setItem 43 = .ok (.iload 7, 2) := by decide +kernel
theorem dX67_setItem_45 : decode cX67_setItem 45 = .ok (.bipush 8, 2) := by decide +kernel
theorem dX67_setItem_47 : decode cX67_setItem 47 = .ok (.if_icmp .ne 51, 3) := by decide +kernel
theorem dX67_setItem_50 : decode cX67_setItem 50 = .ok (.iload 8, 2) := by decide +kernel
theorem dX67_setItem_52 : decode cX67_setItem 52 = .ok (.iload_n 3, 1) := by decide +kernel
theorem dX67_setItem_53 : decode cX67_setItem 53 = .ok (.if_icmp .ne 5, 3) := by decide +kernel
theorem dX67_setItem_56 : decode cX67_setItem 56 = .ok (.iconst (-1), 1) := by decide +kernel
theorem dX67_setItem_57 : decode cX67_setItem 57 = .ok (.ireturn, 1) := by decide +kernel
theorem dX67_setItem_58 : decode cX67_setItem 58 = .ok (.iload_n 2, 1) := by decide +kernel
theorem dX67_setItem_59 : decode cX67_setItem 59 = .ok (.iconst 3, 1) := by decide +kernel
theorem dX67_setItem_60 : decode cX67_setItem 60 = .ok (.iload 8, 2) := by decide +kernel
theorem dX67_setItem_62 : decode cX67_setItem 62 = .ok (.imul, 1) := by decide +kernel
theorem dX67_setItem_63 : decode cX67_setItem 63 = .ok (.iadd, 1) := by decide +kernel
theorem dX67_setItem_64 : decode cX67_setItem 64 = .ok (.istore 9, 2) := by decide +kernel
theorem dX67_setItem_66 : decode cX67_setItem 66 = .ok (.iload 9, 2) := by decide +kernel
theorem dX67_setItem_68 : decode cX67_setItem 68 = .ok (.iconst 3, 1) := by decide +kernel
theorem dX67_setItem_69 : decode cX67_setItem 69 = .ok (.iadd, 1) := by decide +kernel
theorem dX67_setItem_70 : decode cX67_setItem 70 = .ok (.iload_n 2, 1) := by decide +kernel
theorem dX67_setItem_71 : decode cX67_setItem 71 = .ok (.iconst 3, 1) := by decide +kernel
theorem dX67_setItem_72 : decode cX67_setItem 72 = .ok (.iload_n 3, 1) := by decide +kernel
theorem dX67_setItem_73 : decode cX67_setItem 73 = .ok (.imul, 1) := by decide +kernel
theorem dX67_setItem_74 : decode cX67_setItem 74 = .ok (.iadd, 1) := by decide +kernel
theorem dX67_setItem_75 : decode cX67_setItem 75 = .ok (.if_icmp .ge 19, 3) := by decide +kernel
theorem dX67_setItem_78 : decode cX67_setItem 78 = .ok (.aload_n 1, 1) := by decide +kernel
theorem dX67_setItem_79 : decode cX67_setItem 79 = .ok (.iload 9, 2) := by decide +kernel
theorem dX67_setItem_81 : decode cX67_setItem 81 = .ok (.aload_n 1, 1) := by decide +kernel
theorem dX67_setItem_82 : decode cX67_setItem 82 = .ok (.iload 9, 2) := by decide +kernel
theorem dX67_setItem_84 : decode cX67_setItem 84 = .ok (.iconst 3, 1) := by decide +kernel
theorem dX67_setItem_85 : decode cX67_setItem 85 = .ok (.iadd, 1) := by decide +kernel
theorem dX67_setItem_86 : decode cX67_setItem 86 = .ok (.iaload, 1) := by decide +kernel
theorem dX67_setItem_87 : decode cX67_setItem 87 = .ok (.iastore, 1) := by decide +kernel
theorem dX67_setItem_88 : decode cX67_setItem 88 = .ok (.iinc 9 1, 3) := by decide +kernel
theorem dX67_setItem_91 : decode cX67_setItem 91 = .ok (.goto (-25), 3) := by decide +kernel
theorem dX67_setItem_94 : decode cX67_setItem 94 = .ok (.iload_n 3, 1) := by decide +kernel
theorem dX67_setItem_95 : decode cX67_setItem 95 = .ok (.iconst 1, 1) := by decide +kernel
theorem dX67_setItem_96 : decode cX67_setItem 96 = .ok (.isub, 1) := by decide +kernel
theorem dX67_setItem_97 : decode cX67_setItem 97 = .ok (.ireturn, 1) := by decide +kernel
theorem dX67_setItem_98 : decode cX67_setItem 98 = .ok (.iload 8, 2) := by decide +kernel
theorem dX67_setItem_100 : decode cX67_setItem 100 = .ok (.iload 4, 2) := by decide +kernel
theorem dX67_setItem_102 : decode cX67_setItem 102 = .ok (.if_icmp .ne 6, 3) := by decide +kernel
theorem dX67_setItem_105 : decode cX67_setItem 105 = .ok (.bipush (-5), 2) := by decide +kernel
theorem dX67_setItem_107 : decode cX67_setItem 107 = .ok (.ireturn, 1) := by decide +kernel
theorem dX67_setItem_108 : decode cX67_setItem 108 = .ok (.aload_n 1, 1) := by decide +kernel
theorem dX67_setItem_109 : decode cX67_setItem 109 = .ok (.iload_n 2, 1) := by decide +kernel
theorem dX67_setItem_110 : decode cX67_setItem 110 = .ok (.iconst 3, 1) := by decide +kernel
theorem dX67_setItem_111 : decode cX67_setItem 111 = .ok (.iload 8, 2) := by decide +kernel
theorem dX67_setItem_113 : decode cX67_setItem 113 = .ok (.imul, 1) := by decide +kernel
theorem dX67_setItem_114 : decode cX67_setItem 114 = .ok (.iadd, 1) := by decide +kernel
theorem dX67_setItem_115 : decode cX67_setItem 115 = .ok (.iload 5, 2) := by decide +kernel
theorem dX67_setItem_117 : decode cX67_setItem 117 = .ok (.iastore, 1) := by decide +kernel
theorem dX67_setItem_118 : decode cX67_setItem 118 = .ok (.aload_n 1, 1) := by decide +kernel
theorem dX67_setItem_119 : decode cX67_setItem 119 = .ok (.iload_n 2, 1) := by decide +kernel
theorem dX67_setItem_120 : decode cX67_setItem 120 = .ok (.iconst 3, 1) := by decide +kernel
theorem dX67_setItem_121 : decode cX67_setItem 121 = .ok (.iload 8, 2) := by decide +kernel
theorem dX67_setItem_123 : decode cX67_setItem 123 = .ok (.imul, 1) := by decide +kernel
theorem dX67_setItem_124 : decode cX67_setItem 124 = .ok (.iadd, 1) := by decide +kernel
theorem dX67_setItem_125 : decode cX67_setItem 125 = .ok (.iconst 1, 1) := by decide +kernel
theorem dX67_setItem_126 : decode cX67_setItem 126 = .ok (.iadd, 1) := by decide +kernel
theorem dX67_setItem_127 : decode cX67_setItem 127 = .ok (.iload 6, 2) := by decide +kernel
theorem dX67_setItem_129 : decode cX67_setItem 129 = .ok (.iastore, 1) := by decide +kernel
theorem dX67_setItem_130 : decode cX67_setItem 130 = .ok (.aload_n 1, 1) := by decide +kernel
theorem dX67_setItem_131 : decode cX67_setItem 131 = .ok (.iload_n 2, 1) := by decide +kernel
theorem dX67_setItem_132 : decode cX67_setItem 132 = .ok (.iconst 3, 1) := by decide +kernel
theorem dX67_setItem_133 : decode cX67_setItem 133 = .ok (.iload 8, 2) := by decide +kernel
theorem dX67_setItem_135 : decode cX67_setItem 135 = .ok (.imul, 1) := by decide +kernel
theorem dX67_setItem_136 : decode cX67_setItem 136 = .ok (.iadd, 1) := by decide +kernel
theorem dX67_setItem_137 : decode cX67_setItem 137 = .ok (.iconst 2, 1) := by decide +kernel
theorem dX67_setItem_138 : decode cX67_setItem 138 = .ok (.iadd, 1) := by decide +kernel
theorem dX67_setItem_139 : decode cX67_setItem 139 = .ok (.iload 7, 2) := by decide +kernel
theorem dX67_setItem_141 : decode cX67_setItem 141 = .ok (.iastore, 1) := by decide +kernel
theorem dX67_setItem_142 : decode cX67_setItem 142 = .ok (.iload 8, 2) := by decide +kernel
theorem dX67_setItem_144 : decode cX67_setItem 144 = .ok (.iload_n 3, 1) := by decide +kernel
theorem dX67_setItem_145 : decode cX67_setItem 145 = .ok (.if_icmp .ne 9, 3) := by decide +kernel
theorem dX67_setItem_148 : decode cX67_setItem 148 = .ok (.iload_n 3, 1) := by decide +kernel
theorem dX67_setItem_149 : decode cX67_setItem 149 = .ok (.iconst 1, 1) := by decide +kernel
theorem dX67_setItem_150 : decode cX67_setItem 150 = .ok (.iadd, 1) := by decide +kernel
theorem dX67_setItem_151 : decode cX67_setItem 151 = .ok (.goto 4, 3) := by decide +kernel
theorem dX67_setItem_154 : decode cX67_setItem 154 = .ok (.iload_n 3, 1) := by decide +kernel
theorem dX67_setItem_155 : decode cX67_setItem 155 = .ok (.ireturn, 1) := by decide +kernel
theorem zy_X67_setItem : yX67_setItem.cls ≠ "java/lang/invoke/MethodHandle" ∧ yX67_setItem.cls ≠ "java/lang/invoke/VarHandle" ∧ (parseMethodDescriptor yX67_setItem.desc).map (fun d => d.parameters.length) = some 7 := by decide +kernel
theorem w6813_fX67_setItem_J94 {K : zK} (E : zE K cX67_setItem "RingHouseModel" (some .int) 0) (hN : zNl K = 10) (hT : zTr K = (some 0)) (x3 : Int) : zR K 94 [(3, 0, x3)] [] (fX67_setItem_J94 6813 x3) := by
  refine r_iload_n E dX67_setItem_94 rfl 0 rfl ?_
  refine r_iconst E dX67_setItem_95 (zkI (by decide) (by decide)) ?_
  refine r_isub E dX67_setItem_96 ?_
  exact r_ireturn E rfl hT dX67_setItem_97
theorem w6813_fX67_setItem_B66 {K : zK} (E : zE K cX67_setItem "RingHouseModel" (some .int) 0) (hN : zNl K = 10) (hT : zTr K = (some 0)) (x2 : Int) (x3 : Int) : ∀ r66 : Int → zX, (∀ s : Int, zR K 66 [(1, 6813, 0), (2, 0, x2), (3, 0, x3), (9, 0, s)] [] (r66 s)) → ∀ s : Int, zR K 66 [(1, 6813, 0), (2, 0, x2), (3, 0, x3), (9, 0, s)] [] (fX67_setItem_B66 6813 x2 x3 r66 s) := by
  intro r66 hr66 x9
  refine r_iload E dX67_setItem_66 3 rfl ?_
  refine r_iconst E dX67_setItem_68 (zkI (by decide) (by decide)) ?_
  refine r_iadd E dX67_setItem_69 ?_
  refine r_iload_n E dX67_setItem_70 rfl 1 rfl ?_
  refine r_iconst E dX67_setItem_71 (zkI (by decide) (by decide)) ?_
  refine r_iload_n E dX67_setItem_72 rfl 2 rfl ?_
  refine r_imul E dX67_setItem_73 ?_
  refine r_iadd E dX67_setItem_74 ?_
  refine r_icmp_ge E 94 (by decide) dX67_setItem_75 (fun _ => ?_) (fun _ => ?_)
  · refine r_pick E [2] rfl ?_
    exact w6813_fX67_setItem_J94 E hN hT x3
  · refine r_aload_n E dX67_setItem_78 rfl 0 rfl ?_
    refine r_iload E dX67_setItem_79 3 rfl ?_
    refine r_aload_n E dX67_setItem_81 rfl 0 rfl ?_
    refine r_iload E dX67_setItem_82 3 rfl ?_
    refine r_iconst E dX67_setItem_84 (zkI (by decide) (by decide)) ?_
    refine r_iadd E dX67_setItem_85 ?_
    refine r_iaload E zc_6813 za_6813 zt_6813 zx_6813 rfl rfl dX67_setItem_86 (by decide) (fun v2 => ?_)
    refine r_iastore E zc_6813 za_6813 zt_6813 zo_6813 zx_6813 rfl rfl dX67_setItem_87 (by decide) ?_
    refine r_iinc (ls' := fun v3 => [(9, 0, v3), (1, 6813, 0), (2, 0, x2), (3, 0, x3)]) E 3 rfl (by rw [hN]; decide) (fun _ => rfl) dX67_setItem_88 (fun v3 _ => ?_)
    refine r_goto E 66 (by decide) dX67_setItem_91 ?_
    refine r_pick E [1, 2, 3, 0] rfl ?_
    exact hr66 v3
theorem w6813_fX67_setItem_J43 {K : zK} (E : zE K cX67_setItem "RingHouseModel" (some .int) 0) (hN : zNl K = 10) (hT : zTr K = (some 0)) (x2 : Int) (x3 : Int) (x4 : Int) (x5 : Int) (x6 : Int) (x7 : Int) (x8 : Int) : zR K 43 [(1, 6813, 0), (2, 0, x2), (3, 0, x3), (4, 0, x4), (5, 0, x5), (6, 0, x6), (7, 0, x7), (8, 0, x8)] [] (fX67_setItem_J43 6813 x2 x3 x4 x5 x6 x7 x8) := by
  refine r_iload E dX67_setItem_43 6 rfl ?_
  refine r_bipush E dX67_setItem_45 (by decide) (zkI (by decide) (by decide)) ?_
  refine r_icmp_ne E 98 (by decide) dX67_setItem_47 (fun _ => ?_) (fun _ => ?_)
  · refine r_iload E dX67_setItem_98 7 rfl ?_
    refine r_iload E dX67_setItem_100 3 rfl ?_
    refine r_icmp_ne E 108 (by decide) dX67_setItem_102 (fun _ => ?_) (fun _ => ?_)
    · refine r_aload_n E dX67_setItem_108 rfl 0 rfl ?_
      refine r_iload_n E dX67_setItem_109 rfl 1 rfl ?_
      refine r_iconst E dX67_setItem_110 (zkI (by decide) (by decide)) ?_
      refine r_iload E dX67_setItem_111 7 rfl ?_
      refine r_imul E dX67_setItem_113 ?_
      refine r_iadd E dX67_setItem_114 ?_
      refine r_iload E dX67_setItem_115 4 rfl ?_
      refine r_iastore E zc_6813 za_6813 zt_6813 zo_6813 zx_6813 rfl rfl dX67_setItem_117 (by decide) ?_
      refine r_aload_n E dX67_setItem_118 rfl 0 rfl ?_
      refine r_iload_n E dX67_setItem_119 rfl 1 rfl ?_
      refine r_iconst E dX67_setItem_120 (zkI (by decide) (by decide)) ?_
      refine r_iload E dX67_setItem_121 7 rfl ?_
      refine r_imul E dX67_setItem_123 ?_
      refine r_iadd E dX67_setItem_124 ?_
      refine r_iconst E dX67_setItem_125 (zkI (by decide) (by decide)) ?_
      refine r_iadd E dX67_setItem_126 ?_
      refine r_iload E dX67_setItem_127 5 rfl ?_
      refine r_iastore E zc_6813 za_6813 zt_6813 zo_6813 zx_6813 rfl rfl dX67_setItem_129 (by decide) ?_
      refine r_aload_n E dX67_setItem_130 rfl 0 rfl ?_
      refine r_iload_n E dX67_setItem_131 rfl 1 rfl ?_
      refine r_iconst E dX67_setItem_132 (zkI (by decide) (by decide)) ?_
      refine r_iload E dX67_setItem_133 7 rfl ?_
      refine r_imul E dX67_setItem_135 ?_
      refine r_iadd E dX67_setItem_136 ?_
      refine r_iconst E dX67_setItem_137 (zkI (by decide) (by decide)) ?_
      refine r_iadd E dX67_setItem_138 ?_
      refine r_iload E dX67_setItem_139 6 rfl ?_
      refine r_iastore E zc_6813 za_6813 zt_6813 zo_6813 zx_6813 rfl rfl dX67_setItem_141 (by decide) ?_
      refine r_iload E dX67_setItem_142 7 rfl ?_
      refine r_iload_n E dX67_setItem_144 rfl 2 rfl ?_
      refine r_icmp_ne E 154 (by decide) dX67_setItem_145 (fun _ => ?_) (fun _ => ?_)
      · refine r_iload_n E dX67_setItem_154 rfl 2 rfl ?_
        exact r_ireturn E rfl hT dX67_setItem_155
      · refine r_iload_n E dX67_setItem_148 rfl 2 rfl ?_
        refine r_iconst E dX67_setItem_149 (zkI (by decide) (by decide)) ?_
        refine r_iadd E dX67_setItem_150 ?_
        refine r_goto E 155 (by decide) dX67_setItem_151 ?_
        exact r_ireturn E rfl hT dX67_setItem_155
    · refine r_bipush E dX67_setItem_105 (by decide) (zkI (by decide) (by decide)) ?_
      exact r_ireturn E rfl hT dX67_setItem_107
  · refine r_iload E dX67_setItem_50 7 rfl ?_
    refine r_iload_n E dX67_setItem_52 rfl 2 rfl ?_
    refine r_icmp_ne E 58 (by decide) dX67_setItem_53 (fun _ => ?_) (fun _ => ?_)
    · refine r_iload_n E dX67_setItem_58 rfl 1 rfl ?_
      refine r_iconst E dX67_setItem_59 (zkI (by decide) (by decide)) ?_
      refine r_iload E dX67_setItem_60 7 rfl ?_
      refine r_imul E dX67_setItem_62 ?_
      refine r_iadd E dX67_setItem_63 ?_
      refine r_let E (fun v1 ev1 => ?_)
      refine r_istore (ls' := [(9, 0, v1), (1, 6813, 0), (2, 0, x2), (3, 0, x3), (4, 0, x4), (5, 0, x5), (6, 0, x6), (7, 0, x7), (8, 0, x8)]) E dX67_setItem_64 (by rw [hN]; decide) rfl ?_
      refine r_pick E [1, 2, 3, 0] rfl ?_
      exact r_loop (L := fun s => [(1, 6813, 0), (2, 0, x2), (3, 0, x3), (9, 0, s)]) (w6813_fX67_setItem_B66 E hN hT x2 x3) zBIG v1
    · refine r_iconst E dX67_setItem_56 (zkI (by decide) (by decide)) ?_
      exact r_ireturn E rfl hT dX67_setItem_57
theorem w6813_fX67_setItem_J37 {K : zK} (E : zE K cX67_setItem "RingHouseModel" (some .int) 0) (hN : zNl K = 10) (hT : zTr K = (some 0)) (x2 : Int) (x3 : Int) (x4 : Int) (x5 : Int) (x6 : Int) (x7 : Int) (x8 : Int) {r3 : Int → zX} (hr3 : ∀ s : Int, zR K 3 [(1, 6813, 0), (2, 0, x2), (3, 0, x3), (4, 0, x4), (5, 0, x5), (6, 0, x6), (7, 0, x7), (8, 0, s)] [] (r3 s)) : zR K 37 [(1, 6813, 0), (2, 0, x2), (3, 0, x3), (4, 0, x4), (5, 0, x5), (6, 0, x6), (7, 0, x7), (8, 0, x8)] [] (fX67_setItem_J37 6813 r3 x2 x3 x4 x5 x6 x7 x8) := by
  refine r_iinc (ls' := fun v5 => [(8, 0, v5), (1, 6813, 0), (2, 0, x2), (3, 0, x3), (4, 0, x4), (5, 0, x5), (6, 0, x6), (7, 0, x7)]) E 7 rfl (by rw [hN]; decide) (fun _ => rfl) dX67_setItem_37 (fun v5 _ => ?_)
  refine r_goto E 3 (by decide) dX67_setItem_40 ?_
  refine r_pick E [1, 2, 3, 4, 5, 6, 7, 0] rfl ?_
  exact hr3 v5
theorem w6813_fX67_setItem_B3 {K : zK} (E : zE K cX67_setItem "RingHouseModel" (some .int) 0) (hN : zNl K = 10) (hT : zTr K = (some 0)) (x2 : Int) (x3 : Int) (x4 : Int) (x5 : Int) (x6 : Int) (x7 : Int) : ∀ r3 : Int → zX, (∀ s : Int, zR K 3 [(1, 6813, 0), (2, 0, x2), (3, 0, x3), (4, 0, x4), (5, 0, x5), (6, 0, x6), (7, 0, x7), (8, 0, s)] [] (r3 s)) → ∀ s : Int, zR K 3 [(1, 6813, 0), (2, 0, x2), (3, 0, x3), (4, 0, x4), (5, 0, x5), (6, 0, x6), (7, 0, x7), (8, 0, s)] [] (fX67_setItem_B3 6813 x2 x3 x4 x5 x6 x7 r3 s) := by
  intro r3 hr3 x8
  refine r_iload E dX67_setItem_3 7 rfl ?_
  refine r_iload_n E dX67_setItem_5 rfl 2 rfl ?_
  refine r_icmp_ge E 43 (by decide) dX67_setItem_6 (fun _ => ?_) (fun _ => ?_)
  · exact w6813_fX67_setItem_J43 E hN hT x2 x3 x4 x5 x6 x7 x8
  · refine r_aload_n E dX67_setItem_9 rfl 0 rfl ?_
    refine r_iload_n E dX67_setItem_10 rfl 1 rfl ?_
    refine r_iconst E dX67_setItem_11 (zkI (by decide) (by decide)) ?_
    refine r_iload E dX67_setItem_12 7 rfl ?_
    refine r_imul E dX67_setItem_14 ?_
    refine r_iadd E dX67_setItem_15 ?_
    refine r_iaload E zc_6813 za_6813 zt_6813 zx_6813 rfl rfl dX67_setItem_16 (by decide) (fun v4 => ?_)
    refine r_iload E dX67_setItem_17 4 rfl ?_
    refine r_icmp_ne E 37 (by decide) dX67_setItem_19 (fun _ => ?_) (fun _ => ?_)
    · exact w6813_fX67_setItem_J37 E hN hT x2 x3 x4 x5 x6 x7 x8 hr3
    · refine r_aload_n E dX67_setItem_22 rfl 0 rfl ?_
      refine r_iload_n E dX67_setItem_23 rfl 1 rfl ?_
      refine r_iconst E dX67_setItem_24 (zkI (by decide) (by decide)) ?_
      refine r_iload E dX67_setItem_25 7 rfl ?_
      refine r_imul E dX67_setItem_27 ?_
      refine r_iadd E dX67_setItem_28 ?_
      refine r_iconst E dX67_setItem_29 (zkI (by decide) (by decide)) ?_
      refine r_iadd E dX67_setItem_30 ?_
      refine r_iaload E zc_6813 za_6813 zt_6813 zx_6813 rfl rfl dX67_setItem_31 (by decide) (fun v6 => ?_)
      refine r_iload E dX67_setItem_32 5 rfl ?_
      refine r_icmp_eq E 43 (by decide) dX67_setItem_34 (fun _ => ?_) (fun _ => ?_)
      · exact w6813_fX67_setItem_J43 E hN hT x2 x3 x4 x5 x6 x7 x8
      · exact w6813_fX67_setItem_J37 E hN hT x2 x3 x4 x5 x6 x7 x8 hr3
theorem w6813_fX67_setItem {K : zK} (E : zE K cX67_setItem "RingHouseModel" (some .int) 0) (hN : zNl K = 10) (hT : zTr K = (some 0)) (x2 : Int) (x3 : Int) (x4 : Int) (x5 : Int) (x6 : Int) (x7 : Int) : zR K 0 [(0, 69, 0), (1, 6813, 0), (2, 0, x2), (3, 0, x3), (4, 0, x4), (5, 0, x5), (6, 0, x6), (7, 0, x7)] [] (fX67_setItem 6813 x2 x3 x4 x5 x6 x7) := by
  refine r_iconst E dX67_setItem_0 (zkI (by decide) (by decide)) ?_
  refine r_istore (ls' := [(8, 0, 0), (0, 69, 0), (1, 6813, 0), (2, 0, x2), (3, 0, x3), (4, 0, x4), (5, 0, x5), (6, 0, x6), (7, 0, x7)]) E dX67_setItem_1 (by rw [hN]; decide) rfl ?_
  refine r_pick E [2, 3, 4, 5, 6, 7, 8, 0] rfl ?_
  exact r_loop (L := fun s => [(1, 6813, 0), (2, 0, x2), (3, 0, x3), (4, 0, x4), (5, 0, x5), (6, 0, x6), (7, 0, x7), (8, 0, s)]) (w6813_fX67_setItem_B3 E hN hT x2 x3 x4 x5 x6 x7) zBIG 0
theorem w6815_fX67_setItem_J94 {K : zK} (E : zE K cX67_setItem "RingHouseModel" (some .int) 0) (hN : zNl K = 10) (hT : zTr K = (some 0)) (x3 : Int) : zR K 94 [(3, 0, x3)] [] (fX67_setItem_J94 6815 x3) := by
  refine r_iload_n E dX67_setItem_94 rfl 0 rfl ?_
  refine r_iconst E dX67_setItem_95 (zkI (by decide) (by decide)) ?_
  refine r_isub E dX67_setItem_96 ?_
  exact r_ireturn E rfl hT dX67_setItem_97
theorem w6815_fX67_setItem_B66 {K : zK} (E : zE K cX67_setItem "RingHouseModel" (some .int) 0) (hN : zNl K = 10) (hT : zTr K = (some 0)) (x2 : Int) (x3 : Int) : ∀ r66 : Int → zX, (∀ s : Int, zR K 66 [(1, 6815, 0), (2, 0, x2), (3, 0, x3), (9, 0, s)] [] (r66 s)) → ∀ s : Int, zR K 66 [(1, 6815, 0), (2, 0, x2), (3, 0, x3), (9, 0, s)] [] (fX67_setItem_B66 6815 x2 x3 r66 s) := by
  intro r66 hr66 x9
  refine r_iload E dX67_setItem_66 3 rfl ?_
  refine r_iconst E dX67_setItem_68 (zkI (by decide) (by decide)) ?_
  refine r_iadd E dX67_setItem_69 ?_
  refine r_iload_n E dX67_setItem_70 rfl 1 rfl ?_
  refine r_iconst E dX67_setItem_71 (zkI (by decide) (by decide)) ?_
  refine r_iload_n E dX67_setItem_72 rfl 2 rfl ?_
  refine r_imul E dX67_setItem_73 ?_
  refine r_iadd E dX67_setItem_74 ?_
  refine r_icmp_ge E 94 (by decide) dX67_setItem_75 (fun _ => ?_) (fun _ => ?_)
  · refine r_pick E [2] rfl ?_
    exact w6815_fX67_setItem_J94 E hN hT x3
  · refine r_aload_n E dX67_setItem_78 rfl 0 rfl ?_
    refine r_iload E dX67_setItem_79 3 rfl ?_
    refine r_aload_n E dX67_setItem_81 rfl 0 rfl ?_
    refine r_iload E dX67_setItem_82 3 rfl ?_
    refine r_iconst E dX67_setItem_84 (zkI (by decide) (by decide)) ?_
    refine r_iadd E dX67_setItem_85 ?_
    refine r_iaload E zc_6815 za_6815 zt_6815 zx_6815 rfl rfl dX67_setItem_86 (by decide) (fun v2 => ?_)
    refine r_iastore E zc_6815 za_6815 zt_6815 zo_6815 zx_6815 rfl rfl dX67_setItem_87 (by decide) ?_
    refine r_iinc (ls' := fun v3 => [(9, 0, v3), (1, 6815, 0), (2, 0, x2), (3, 0, x3)]) E 3 rfl (by rw [hN]; decide) (fun _ => rfl) dX67_setItem_88 (fun v3 _ => ?_)
    refine r_goto E 66 (by decide) dX67_setItem_91 ?_
    refine r_pick E [1, 2, 3, 0] rfl ?_
    exact hr66 v3
theorem w6815_fX67_setItem_J43 {K : zK} (E : zE K cX67_setItem "RingHouseModel" (some .int) 0) (hN : zNl K = 10) (hT : zTr K = (some 0)) (x2 : Int) (x3 : Int) (x4 : Int) (x5 : Int) (x6 : Int) (x7 : Int) (x8 : Int) : zR K 43 [(1, 6815, 0), (2, 0, x2), (3, 0, x3), (4, 0, x4), (5, 0, x5), (6, 0, x6), (7, 0, x7), (8, 0, x8)] [] (fX67_setItem_J43 6815 x2 x3 x4 x5 x6 x7 x8) := by
  refine r_iload E dX67_setItem_43 6 rfl ?_
  refine r_bipush E dX67_setItem_45 (by decide) (zkI (by decide) (by decide)) ?_
  refine r_icmp_ne E 98 (by decide) dX67_setItem_47 (fun _ => ?_) (fun _ => ?_)
  · refine r_iload E dX67_setItem_98 7 rfl ?_
    refine r_iload E dX67_setItem_100 3 rfl ?_
    refine r_icmp_ne E 108 (by decide) dX67_setItem_102 (fun _ => ?_) (fun _ => ?_)
    · refine r_aload_n E dX67_setItem_108 rfl 0 rfl ?_
      refine r_iload_n E dX67_setItem_109 rfl 1 rfl ?_
      refine r_iconst E dX67_setItem_110 (zkI (by decide) (by decide)) ?_
      refine r_iload E dX67_setItem_111 7 rfl ?_
      refine r_imul E dX67_setItem_113 ?_
      refine r_iadd E dX67_setItem_114 ?_
      refine r_iload E dX67_setItem_115 4 rfl ?_
      refine r_iastore E zc_6815 za_6815 zt_6815 zo_6815 zx_6815 rfl rfl dX67_setItem_117 (by decide) ?_
      refine r_aload_n E dX67_setItem_118 rfl 0 rfl ?_
      refine r_iload_n E dX67_setItem_119 rfl 1 rfl ?_
      refine r_iconst E dX67_setItem_120 (zkI (by decide) (by decide)) ?_
      refine r_iload E dX67_setItem_121 7 rfl ?_
      refine r_imul E dX67_setItem_123 ?_
      refine r_iadd E dX67_setItem_124 ?_
      refine r_iconst E dX67_setItem_125 (zkI (by decide) (by decide)) ?_
      refine r_iadd E dX67_setItem_126 ?_
      refine r_iload E dX67_setItem_127 5 rfl ?_
      refine r_iastore E zc_6815 za_6815 zt_6815 zo_6815 zx_6815 rfl rfl dX67_setItem_129 (by decide) ?_
      refine r_aload_n E dX67_setItem_130 rfl 0 rfl ?_
      refine r_iload_n E dX67_setItem_131 rfl 1 rfl ?_
      refine r_iconst E dX67_setItem_132 (zkI (by decide) (by decide)) ?_
      refine r_iload E dX67_setItem_133 7 rfl ?_
      refine r_imul E dX67_setItem_135 ?_
      refine r_iadd E dX67_setItem_136 ?_
      refine r_iconst E dX67_setItem_137 (zkI (by decide) (by decide)) ?_
      refine r_iadd E dX67_setItem_138 ?_
      refine r_iload E dX67_setItem_139 6 rfl ?_
      refine r_iastore E zc_6815 za_6815 zt_6815 zo_6815 zx_6815 rfl rfl dX67_setItem_141 (by decide) ?_
      refine r_iload E dX67_setItem_142 7 rfl ?_
      refine r_iload_n E dX67_setItem_144 rfl 2 rfl ?_
      refine r_icmp_ne E 154 (by decide) dX67_setItem_145 (fun _ => ?_) (fun _ => ?_)
      · refine r_iload_n E dX67_setItem_154 rfl 2 rfl ?_
        exact r_ireturn E rfl hT dX67_setItem_155
      · refine r_iload_n E dX67_setItem_148 rfl 2 rfl ?_
        refine r_iconst E dX67_setItem_149 (zkI (by decide) (by decide)) ?_
        refine r_iadd E dX67_setItem_150 ?_
        refine r_goto E 155 (by decide) dX67_setItem_151 ?_
        exact r_ireturn E rfl hT dX67_setItem_155
    · refine r_bipush E dX67_setItem_105 (by decide) (zkI (by decide) (by decide)) ?_
      exact r_ireturn E rfl hT dX67_setItem_107
  · refine r_iload E dX67_setItem_50 7 rfl ?_
    refine r_iload_n E dX67_setItem_52 rfl 2 rfl ?_
    refine r_icmp_ne E 58 (by decide) dX67_setItem_53 (fun _ => ?_) (fun _ => ?_)
    · refine r_iload_n E dX67_setItem_58 rfl 1 rfl ?_
      refine r_iconst E dX67_setItem_59 (zkI (by decide) (by decide)) ?_
      refine r_iload E dX67_setItem_60 7 rfl ?_
      refine r_imul E dX67_setItem_62 ?_
      refine r_iadd E dX67_setItem_63 ?_
      refine r_let E (fun v1 ev1 => ?_)
      refine r_istore (ls' := [(9, 0, v1), (1, 6815, 0), (2, 0, x2), (3, 0, x3), (4, 0, x4), (5, 0, x5), (6, 0, x6), (7, 0, x7), (8, 0, x8)]) E dX67_setItem_64 (by rw [hN]; decide) rfl ?_
      refine r_pick E [1, 2, 3, 0] rfl ?_
      exact r_loop (L := fun s => [(1, 6815, 0), (2, 0, x2), (3, 0, x3), (9, 0, s)]) (w6815_fX67_setItem_B66 E hN hT x2 x3) zBIG v1
    · refine r_iconst E dX67_setItem_56 (zkI (by decide) (by decide)) ?_
      exact r_ireturn E rfl hT dX67_setItem_57
theorem w6815_fX67_setItem_J37 {K : zK} (E : zE K cX67_setItem "RingHouseModel" (some .int) 0) (hN : zNl K = 10) (hT : zTr K = (some 0)) (x2 : Int) (x3 : Int) (x4 : Int) (x5 : Int) (x6 : Int) (x7 : Int) (x8 : Int) {r3 : Int → zX} (hr3 : ∀ s : Int, zR K 3 [(1, 6815, 0), (2, 0, x2), (3, 0, x3), (4, 0, x4), (5, 0, x5), (6, 0, x6), (7, 0, x7), (8, 0, s)] [] (r3 s)) : zR K 37 [(1, 6815, 0), (2, 0, x2), (3, 0, x3), (4, 0, x4), (5, 0, x5), (6, 0, x6), (7, 0, x7), (8, 0, x8)] [] (fX67_setItem_J37 6815 r3 x2 x3 x4 x5 x6 x7 x8) := by
  refine r_iinc (ls' := fun v5 => [(8, 0, v5), (1, 6815, 0), (2, 0, x2), (3, 0, x3), (4, 0, x4), (5, 0, x5), (6, 0, x6), (7, 0, x7)]) E 7 rfl (by rw [hN]; decide) (fun _ => rfl) dX67_setItem_37 (fun v5 _ => ?_)
  refine r_goto E 3 (by decide) dX67_setItem_40 ?_
  refine r_pick E [1, 2, 3, 4, 5, 6, 7, 0] rfl ?_
  exact hr3 v5
theorem w6815_fX67_setItem_B3 {K : zK} (E : zE K cX67_setItem "RingHouseModel" (some .int) 0) (hN : zNl K = 10) (hT : zTr K = (some 0)) (x2 : Int) (x3 : Int) (x4 : Int) (x5 : Int) (x6 : Int) (x7 : Int) : ∀ r3 : Int → zX, (∀ s : Int, zR K 3 [(1, 6815, 0), (2, 0, x2), (3, 0, x3), (4, 0, x4), (5, 0, x5), (6, 0, x6), (7, 0, x7), (8, 0, s)] [] (r3 s)) → ∀ s : Int, zR K 3 [(1, 6815, 0), (2, 0, x2), (3, 0, x3), (4, 0, x4), (5, 0, x5), (6, 0, x6), (7, 0, x7), (8, 0, s)] [] (fX67_setItem_B3 6815 x2 x3 x4 x5 x6 x7 r3 s) := by
  intro r3 hr3 x8
  refine r_iload E dX67_setItem_3 7 rfl ?_
  refine r_iload_n E dX67_setItem_5 rfl 2 rfl ?_
  refine r_icmp_ge E 43 (by decide) dX67_setItem_6 (fun _ => ?_) (fun _ => ?_)
  · exact w6815_fX67_setItem_J43 E hN hT x2 x3 x4 x5 x6 x7 x8
  · refine r_aload_n E dX67_setItem_9 rfl 0 rfl ?_
    refine r_iload_n E dX67_setItem_10 rfl 1 rfl ?_
    refine r_iconst E dX67_setItem_11 (zkI (by decide) (by decide)) ?_
    refine r_iload E dX67_setItem_12 7 rfl ?_
    refine r_imul E dX67_setItem_14 ?_
    refine r_iadd E dX67_setItem_15 ?_
    refine r_iaload E zc_6815 za_6815 zt_6815 zx_6815 rfl rfl dX67_setItem_16 (by decide) (fun v4 => ?_)
    refine r_iload E dX67_setItem_17 4 rfl ?_
    refine r_icmp_ne E 37 (by decide) dX67_setItem_19 (fun _ => ?_) (fun _ => ?_)
    · exact w6815_fX67_setItem_J37 E hN hT x2 x3 x4 x5 x6 x7 x8 hr3
    · refine r_aload_n E dX67_setItem_22 rfl 0 rfl ?_
      refine r_iload_n E dX67_setItem_23 rfl 1 rfl ?_
      refine r_iconst E dX67_setItem_24 (zkI (by decide) (by decide)) ?_
      refine r_iload E dX67_setItem_25 7 rfl ?_
      refine r_imul E dX67_setItem_27 ?_
      refine r_iadd E dX67_setItem_28 ?_
      refine r_iconst E dX67_setItem_29 (zkI (by decide) (by decide)) ?_
      refine r_iadd E dX67_setItem_30 ?_
      refine r_iaload E zc_6815 za_6815 zt_6815 zx_6815 rfl rfl dX67_setItem_31 (by decide) (fun v6 => ?_)
      refine r_iload E dX67_setItem_32 5 rfl ?_
      refine r_icmp_eq E 43 (by decide) dX67_setItem_34 (fun _ => ?_) (fun _ => ?_)
      · exact w6815_fX67_setItem_J43 E hN hT x2 x3 x4 x5 x6 x7 x8
      · exact w6815_fX67_setItem_J37 E hN hT x2 x3 x4 x5 x6 x7 x8 hr3
theorem w6815_fX67_setItem {K : zK} (E : zE K cX67_setItem "RingHouseModel" (some .int) 0) (hN : zNl K = 10) (hT : zTr K = (some 0)) (x2 : Int) (x3 : Int) (x4 : Int) (x5 : Int) (x6 : Int) (x7 : Int) : zR K 0 [(0, 69, 0), (1, 6815, 0), (2, 0, x2), (3, 0, x3), (4, 0, x4), (5, 0, x5), (6, 0, x6), (7, 0, x7)] [] (fX67_setItem 6815 x2 x3 x4 x5 x6 x7) := by
  refine r_iconst E dX67_setItem_0 (zkI (by decide) (by decide)) ?_
  refine r_istore (ls' := [(8, 0, 0), (0, 69, 0), (1, 6815, 0), (2, 0, x2), (3, 0, x3), (4, 0, x4), (5, 0, x5), (6, 0, x6), (7, 0, x7)]) E dX67_setItem_1 (by rw [hN]; decide) rfl ?_
  refine r_pick E [2, 3, 4, 5, 6, 7, 8, 0] rfl ?_
  exact r_loop (L := fun s => [(1, 6815, 0), (2, 0, x2), (3, 0, x3), (4, 0, x4), (5, 0, x5), (6, 0, x6), (7, 0, x7), (8, 0, s)]) (w6815_fX67_setItem_B3 E hN hT x2 x3 x4 x5 x6 x7) zBIG 0
theorem k_fX67_setItem (l : Launch) (G : zG) (c1 : Nat) (x2 : Int) (x3 : Int) (x4 : Int) (x5 : Int) (x6 : Int) (x7 : Int) (hc : c1 = 6813 ∨ c1 = 6815) : zCt l G yX67_setItem cX67_setItem 10 (some .int) 0 [(69, 0), (c1, 0), (0, x2), (0, x3), (0, x4), (0, x5), (0, x6), (0, x7)] (some 0) (fX67_setItem c1 x2 x3 x4 x5 x6 x7) := by
  rcases hc with rfl | rfl
  · exact zCt.of (by decide) (Nat.le_of_ble_eq_true rfl) (fun K E _ _ hN hT => w6813_fX67_setItem E hN hT x2 x3 x4 x5 x6 x7)
  · exact zCt.of (by decide) (Nat.le_of_ble_eq_true rfl) (fun K E _ _ hN hT => w6815_fX67_setItem E hN hT x2 x3 x4 x5 x6 x7)
theorem dX67_initial_0 : decode cX67_initial 0 = .ok (.aload_n 0, 1) := by decide +kernel
theorem dX67_initial_1 : decode cX67_initial 1 = .ok (.iload_n 1, 1) := by decide +kernel
theorem dX67_initial_2 : decode cX67_initial 2 = .ok (.iconst 1, 1) := by decide +kernel
theorem dX67_initial_3 : decode cX67_initial 3 = .ok (.invokevirtual 439, 3) := by decide +kernel
theorem dX67_initial_6 : decode cX67_initial 6 = .ok (.ifCond .eq 26, 3) := by decide +kernel
theorem dX67_initial_9 : decode cX67_initial 9 = .ok (.iload_n 2, 1) := by decide +kernel
theorem dX67_initial_10 : decode cX67_initial 10 = .ok (.i2l, 1) := by decide +kernel
theorem dX67_initial_11 : decode cX67_initial 11 = .ok (.lconst 1, 1) := by decide +kernel
theorem dX67_initial_12 : decode cX67_initial 12 = .ok (.ldc2_w 466, 3) := by decide +kernel
theorem dX67_initial_15 : decode cX67_initial 15 = .ok (.invokestatic 363, 3) := by decide +kernel
theorem dX67_initial_18 : decode cX67_initial 18 = .ok (.ifCond .eq 14, 3) := by decide +kernel
theorem dX67_initial_21 : decode cX67_initial 21 = .ok (.iload_n 3, 1) := by decide +kernel
theorem dX67_initial_22 : decode cX67_initial 22 = .ok (.iload 4, 2) := by decide +kernel
theorem dX67_initial_24 : decode cX67_initial 24 = .ok (.iload 5, 2) := by decide +kernel
theorem dX67_initial_26 : decode cX67_initial 26 = .ok (.invokestatic 468, 3) := by decide +kernel
theorem dX67_initial_29 : decode cX67_initial 29 = .ok (.ifCond .ne 6, 3) := by decide +kernel
theorem dX67_initial_32 : decode cX67_initial 32 = .ok (.bipush (-8), 2) := by decide +kernel
theorem dX67_initial_34 : decode cX67_initial 34 = .ok (.ireturn, 1) := by decide +kernel
theorem dX67_initial_35 : decode cX67_initial 35 = .ok (.iconst 2, 1) := by decide +kernel
theorem dX67_initial_36 : decode cX67_initial 36 = .ok (.iload_n 1, 1) := by decide +kernel
theorem dX67_initial_37 : decode cX67_initial 37 = .ok (.imul, 1) := by decide +kernel
theorem dX67_initial_38 : decode cX67_initial 38 = .ok (.iload_n 2, 1) := by decide +kernel
theorem dX67_initial_39 : decode cX67_initial 39 = .ok (.iadd, 1) := by decide +kernel
theorem dX67_initial_40 : decode cX67_initial 40 = .ok (.iconst 1, 1) := by decide +kernel
theorem dX67_initial_41 : decode cX67_initial 41 = .ok (.isub, 1) := by decide +kernel
theorem dX67_initial_42 : decode cX67_initial 42 = .ok (.istore 6, 2) := by decide +kernel
theorem dX67_initial_44 : decode cX67_initial 44 = .ok (.aload_n 0, 1) := by decide +kernel
theorem dX67_initial_45 : decode cX67_initial 45 = .ok (.aload_n 0, 1) := by decide +kernel
theorem dX67_initial_46 : decode cX67_initial 46 = .ok (.getfield 53, 3) := by decide +kernel
theorem dX67_initial_49 : decode cX67_initial 49 = .ok (.bipush 9, 2) := by decide +kernel
theorem dX67_initial_51 : decode cX67_initial 51 = .ok (.iload 6, 2) := by decide +kernel
theorem dX67_initial_53 : decode cX67_initial 53 = .ok (.imul, 1) := by decide +kernel
theorem dX67_initial_54 : decode cX67_initial 54 = .ok (.aload_n 0, 1) := by decide +kernel
theorem dX67_initial_55 : decode cX67_initial 55 = .ok (.getfield 50, 3) := by decide +kernel
theorem dX67_initial_58 : decode cX67_initial 58 = .ok (.iload 6, 2) := by decide +kernel
theorem dX67_initial_60 : decode cX67_initial 60 = .ok (.iaload, 1) := by decide +kernel
theorem dX67_initial_61 : decode cX67_initial 61 = .ok (.iconst 3, 1) := by decide +kernel
theorem dX67_initial_62 : decode cX67_initial 62 = .ok (.iload_n 3, 1) := by decide +kernel
theorem dX67_initial_63 : decode cX67_initial 63 = .ok (.iload 4, 2) := by decide +kernel
theorem dX67_initial_65 : decode cX67_initial 65 = .ok (.iload 5, 2) := by decide +kernel
theorem dX67_initial_67 : decode cX67_initial 67 = .ok (.invokevirtual 472, 3) := by decide +kernel
theorem dX67_initial_70 : decode cX67_initial 70 = .ok (.istore 7, 2) := by decide +kernel
theorem dX67_initial_72 : decode cX67_initial 72 = .ok (.aload_n 0, 1) := by decide +kernel
theorem dX67_initial_73 : decode cX67_initial 73 = .ok (.getfield 50, 3) := by decide +kernel
theorem dX67_initial_76 : decode cX67_initial 76 = .ok (.iload 6, 2) := by decide +kernel
theorem dX67_initial_78 : decode cX67_initial 78 = .ok (.iload 7, 2) := by decide +kernel
theorem dX67_initial_80 : decode cX67_initial 80 = .ok (.ifCond .lt 8, 3) := by decide +kernel
theorem dX67_initial_83 : decode cX67_initial 83 = .ok (.iload 7, 2) := by decide +kernel
theorem dX67_initial_85 : decode cX67_initial 85 = .ok (.goto 10, 3) := by decide +kernel
theorem dX67_initial_88 : decode cX67_initial 88 = .ok (.aload_n 0, 1) := by decide +kernel
theorem dX67_initial_89 : decode cX67_initial 89 = .ok (.getfield 50, 3) := by decide +kernel
theorem dX67_initial_92 : decode cX67_initial 92 = .ok (.iload 6, 2) := by decide +kernel
theorem dX67_initial_94 : decode cX67_initial 94 = .ok (.iaload, 1) := by decide +kernel
theorem dX67_initial_95 : decode cX67_initial 95 = .ok (.iastore, 1) := by decide +kernel
theorem dX67_initial_96 : decode cX67_initial 96 = .ok (.iload 7, 2) := by decide +kernel
theorem dX67_initial_98 : decode cX67_initial 98 = .ok (.ireturn, 1) := by decide +kernel
theorem zy_X67_initial : yX67_initial.cls ≠ "java/lang/invoke/MethodHandle" ∧ yX67_initial.cls ≠ "java/lang/invoke/VarHandle" ∧ (parseMethodDescriptor yX67_initial.desc).map (fun d => d.parameters.length) = some 5 := by decide +kernel
theorem w_fX67_initial_J95 {K : zK} (E : zE K cX67_initial "RingHouseModel" (some .int) 3) (hN : zNl K = 8) (hT : zTr K = (some 0)) (x7 : Int) (s1 : Int) (s2 : Int) : zR K 95 [(7, 0, x7)] [(0, s2), (0, s1), (6814, 0)] (fX67_initial_J95 x7 s1 s2) := by
  refine r_iastore E zc_6814 za_6814 zt_6814 zo_6814 zx_6814 rfl rfl dX67_initial_95 (by decide) ?_
  refine r_iload E dX67_initial_96 0 rfl ?_
  exact r_ireturn E rfl hT dX67_initial_98
theorem w_fX67_initial {K : zK} (E : zE K cX67_initial "RingHouseModel" (some .int) 3) (hN : zNl K = 8) (hT : zTr K = (some 0)) (x1 : Int) (x2 : Int) (x3 : Int) (x4 : Int) (x5 : Int) : zR K 0 [(0, 69, 0), (1, 0, x1), (2, 0, x2), (3, 0, x3), (4, 0, x4), (5, 0, x5)] [] (fX67_initial x1 x2 x3 x4 x5) := by
  refine r_aload_n E dX67_initial_0 rfl 0 rfl ?_
  refine r_iload_n E dX67_initial_1 rfl 1 rfl ?_
  refine r_iconst E dX67_initial_2 (zkI (by decide) (by decide)) ?_
  refine r_callV E [(0, x1), (0, 1)] [] rfl zc_69 zr_69 (fun o _ => ⟨_, zw_X67.1 o, rfl⟩) (lw_V q3610 q3612 qs92 q294 q3613) dX67_initial_3 zy_X67_isOf rfl (by omega) (by decide) (Nat.le_of_ble_eq_true rfl) (by decide) (fun l G => k_fX67_isOf l G x1 1) (fun v1 => ?_)
  refine r_if_eq E 32 (by decide) dX67_initial_6 (fun _ => ?_) (fun _ => ?_)
  · refine r_bipush E dX67_initial_32 (by decide) (zkI (by decide) (by decide)) ?_
    exact r_ireturn E rfl hT dX67_initial_34
  · refine r_iload_n E dX67_initial_9 rfl 2 rfl ?_
    refine r_i2l E dX67_initial_10 ?_
    refine r_lconst (v := 1) E dX67_initial_11 (by decide) (zkJ (by decide) (by decide)) ?_
    refine r_ldc2 (v := 2) E dX67_initial_12 q3687 (by decide) (zkJ (by decide) (by decide)) ?_
    refine r_callS E [(1, x2), (1, 1), (1, 2)] [] rfl q3619 q3620 q294 q3621 dX67_initial_15 zy_X67_in rfl (by omega) (by decide) (Nat.le_of_ble_eq_true rfl) (fun l G => k_fX67_in l G x2 1 2) (fun v2 => ?_)
    refine r_if_eq E 32 (by decide) dX67_initial_18 (fun _ => ?_) (fun _ => ?_)
    · refine r_bipush E dX67_initial_32 (by decide) (zkI (by decide) (by decide)) ?_
      exact r_ireturn E rfl hT dX67_initial_34
    · refine r_iload_n E dX67_initial_21 rfl 3 rfl ?_
      refine r_iload E dX67_initial_22 4 rfl ?_
      refine r_iload E dX67_initial_24 5 rfl ?_
      refine r_callS E [(0, x3), (0, x4), (0, x5)] [] rfl q3688 q3689 q294 q3690 dX67_initial_26 zy_X67_isItem rfl (by omega) (by decide) (Nat.le_of_ble_eq_true rfl) (fun l G => k_fX67_isItem l G x3 x4 x5) (fun v3 => ?_)
      refine r_if_ne E 35 (by decide) dX67_initial_29 (fun _ => ?_) (fun _ => ?_)
      · refine r_iconst E dX67_initial_35 (zkI (by decide) (by decide)) ?_
        refine r_iload_n E dX67_initial_36 rfl 1 rfl ?_
        refine r_imul E dX67_initial_37 ?_
        refine r_iload_n E dX67_initial_38 rfl 2 rfl ?_
        refine r_iadd E dX67_initial_39 ?_
        refine r_iconst E dX67_initial_40 (zkI (by decide) (by decide)) ?_
        refine r_isub E dX67_initial_41 ?_
        refine r_let E (fun v4 ev4 => ?_)
        refine r_istore (ls' := [(6, 0, v4), (0, 69, 0), (1, 0, x1), (2, 0, x2), (3, 0, x3), (4, 0, x4), (5, 0, x5)]) E dX67_initial_42 (by rw [hN]; decide) rfl ?_
        refine r_aload_n E dX67_initial_44 rfl 1 rfl ?_
        refine r_aload_n E dX67_initial_45 rfl 1 rfl ?_
        refine r_gec (y := 0) E zc_69 dX67_initial_46 q3230 zr_69 (zh_6815 (by decide)) (by decide) ?_
        refine r_bipush E dX67_initial_49 (by decide) (zkI (by decide) (by decide)) ?_
        refine r_iload E dX67_initial_51 0 rfl ?_
        refine r_imul E dX67_initial_53 ?_
        refine r_aload_n E dX67_initial_54 rfl 1 rfl ?_
        refine r_gec (y := 0) E zc_69 dX67_initial_55 q3229 zr_69 (zh_6814 (by decide)) (by decide) ?_
        refine r_iload E dX67_initial_58 0 rfl ?_
        refine r_iaload E zc_6814 za_6814 zt_6814 zx_6814 rfl rfl dX67_initial_60 (by decide) (fun v5 => ?_)
        refine r_iconst E dX67_initial_61 (zkI (by decide) (by decide)) ?_
        refine r_iload_n E dX67_initial_62 rfl 4 rfl ?_
        refine r_iload E dX67_initial_63 5 rfl ?_
        refine r_iload E dX67_initial_65 6 rfl ?_
        refine r_callV E [(6815, 0), (0, (zi (9 * v4))), (0, v5), (0, 3), (0, x3), (0, x4), (0, x5)] [] rfl zc_69 zr_69 (fun o _ => ⟨_, zw_X67.1 o, rfl⟩) (lw_V q3693 q3695 qs103 q294 q3696) dX67_initial_67 zy_X67_setItem rfl (by omega) (by decide) (Nat.le_of_ble_eq_true rfl) (by decide) (fun l G => k_fX67_setItem l G 6815 (zi (9 * v4)) v5 3 x3 x4 x5 (by decide)) (fun v6 => ?_)
        refine r_istore (ls' := [(7, 0, v6), (6, 0, v4), (0, 69, 0), (1, 0, x1), (2, 0, x2), (3, 0, x3), (4, 0, x4), (5, 0, x5)]) E dX67_initial_70 (by rw [hN]; decide) rfl ?_
        refine r_aload_n E dX67_initial_72 rfl 2 rfl ?_
        refine r_gec (y := 0) E zc_69 dX67_initial_73 q3229 zr_69 (zh_6814 (by decide)) (by decide) ?_
        refine r_iload E dX67_initial_76 1 rfl ?_
        refine r_iload E dX67_initial_78 0 rfl ?_
        refine r_if_lt E 88 (by decide) dX67_initial_80 (fun _ => ?_) (fun _ => ?_)
        · refine r_aload_n E dX67_initial_88 rfl 2 rfl ?_
          refine r_gec (y := 0) E zc_69 dX67_initial_89 q3229 zr_69 (zh_6814 (by decide)) (by decide) ?_
          refine r_iload E dX67_initial_92 1 rfl ?_
          refine r_iaload E zc_6814 za_6814 zt_6814 zx_6814 rfl rfl dX67_initial_94 (by decide) (fun v7 => ?_)
          refine r_pick E [0] rfl ?_
          exact w_fX67_initial_J95 E hN hT v6 v4 v7
        · refine r_iload E dX67_initial_83 0 rfl ?_
          refine r_goto E 95 (by decide) dX67_initial_85 ?_
          refine r_pick E [0] rfl ?_
          exact w_fX67_initial_J95 E hN hT v6 v4 v6
      · refine r_bipush E dX67_initial_32 (by decide) (zkI (by decide) (by decide)) ?_
        exact r_ireturn E rfl hT dX67_initial_34
theorem k_fX67_initial (l : Launch) (G : zG) (x1 : Int) (x2 : Int) (x3 : Int) (x4 : Int) (x5 : Int) : zCt l G yX67_initial cX67_initial 8 (some .int) 3 [(69, 0), (0, x1), (0, x2), (0, x3), (0, x4), (0, x5)] (some 0) (fX67_initial x1 x2 x3 x4 x5) := zCt.of (by decide) (Nat.le_of_ble_eq_true rfl) (fun K E _ _ hN hT => w_fX67_initial E hN hT x1 x2 x3 x4 x5)
theorem dX67_item_0 : decode cX67_item 0 = .ok (.aload_n 0, 1) := by decide +kernel
theorem dX67_item_1 : decode cX67_item 1 = .ok (.iload_n 1, 1) := by decide +kernel
theorem dX67_item_2 : decode cX67_item 2 = .ok (.invokevirtual 379, 3) := by decide +kernel
theorem dX67_item_5 : decode cX67_item 5 = .ok (.ifCond .eq 13, 3) := by decide +kernel
theorem dX67_item_8 : decode cX67_item 8 = .ok (.iload_n 2, 1) := by decide +kernel
theorem dX67_item_9 : decode cX67_item 9 = .ok (.iload_n 3, 1) := by decide +kernel
theorem dX67_item_10 : decode cX67_item 10 = .ok (.iload 4, 2) := by decide +kernel
theorem dX67_item_12 : decode cX67_item 12 = .ok (.invokestatic 468, 3) := by decide +kernel
theorem dX67_item_15 : decode cX67_item 15 = .ok (.ifCond .ne 6, 3) := by decide +kernel
theorem dX67_item_18 : decode cX67_item 18 = .ok (.bipush (-8), 2) := by decide +kernel
theorem dX67_item_20 : decode cX67_item 20 = .ok (.ireturn, 1) := by decide +kernel
theorem dX67_item_21 : decode cX67_item 21 = .ok (.aload_n 0, 1) := by decide +kernel
theorem dX67_item_22 : decode cX67_item 22 = .ok (.aload_n 0, 1) := by decide +kernel
theorem dX67_item_23 : decode cX67_item 23 = .ok (.getfield 47, 3) := by decide +kernel
theorem dX67_item_26 : decode cX67_item 26 = .ok (.bipush 18, 2) := by decide +kernel
theorem dX67_item_28 : decode cX67_item 28 = .ok (.iload_n 1, 1) := by decide +kernel
theorem dX67_item_29 : decode cX67_item 29 = .ok (.imul, 1) := by decide +kernel
theorem dX67_item_30 : decode cX67_item 30 = .ok (.aload_n 0, 1) := by decide +kernel
theorem dX67_item_31 : decode cX67_item 31 = .ok (.getfield 44, 3) := by decide +kernel
theorem dX67_item_34 : decode cX67_item 34 = .ok (.iload_n 1, 1) := by decide +kernel
theorem dX67_item_35 : decode cX67_item 35 = .ok (.iaload, 1) := by decide +kernel
theorem dX67_item_36 : decode cX67_item 36 = .ok (.bipush 6, 2) := by decide +kernel
theorem dX67_item_38 : decode cX67_item 38 = .ok (.iload_n 2, 1) := by decide +kernel
theorem dX67_item_39 : decode cX67_item 39 = .ok (.iload_n 3, 1) := by decide +kernel
theorem dX67_item_40 : decode cX67_item 40 = .ok (.iload 4, 2) := by decide +kernel
theorem dX67_item_42 : decode cX67_item 42 = .ok (.invokevirtual 472, 3) := by decide +kernel
theorem dX67_item_45 : decode cX67_item 45 = .ok (.istore 5, 2) := by decide +kernel
theorem dX67_item_47 : decode cX67_item 47 = .ok (.aload_n 0, 1) := by decide +kernel
theorem dX67_item_48 : decode cX67_item 48 = .ok (.getfield 44, 3) := by decide +kernel
theorem dX67_item_51 : decode cX67_item 51 = .ok (.iload_n 1, 1) := by decide +kernel
theorem dX67_item_52 : decode cX67_item 52 = .ok (.iload 5, 2) := by decide +kernel
theorem dX67_item_54 : decode cX67_item 54 = .ok (.ifCond .lt 8, 3) := by decide +kernel
theorem dX67_item_57 : decode cX67_item 57 = .ok (.iload 5, 2) := by decide +kernel
theorem dX67_item_59 : decode cX67_item 59 = .ok (.goto 9, 3) := by decide +kernel
theorem dX67_item_62 : decode cX67_item 62 = .ok (.aload_n 0, 1) := by decide +kernel
theorem dX67_item_63 : decode cX67_item 63 = .ok (.getfield 44, 3) := by decide +kernel
theorem dX67_item_66 : decode cX67_item 66 = .ok (.iload_n 1, 1) := by decide +kernel
theorem dX67_item_67 : decode cX67_item 67 = .ok (.iaload, 1) := by decide +kernel
theorem dX67_item_68 : decode cX67_item 68 = .ok (.iastore, 1) := by decide +kernel
theorem dX67_item_69 : decode cX67_item 69 = .ok (.iload 5, 2) := by decide +kernel
theorem dX67_item_71 : decode cX67_item 71 = .ok (.ireturn, 1) := by decide +kernel
theorem zy_X67_item : yX67_item.cls ≠ "java/lang/invoke/MethodHandle" ∧ yX67_item.cls ≠ "java/lang/invoke/VarHandle" ∧ (parseMethodDescriptor yX67_item.desc).map (fun d => d.parameters.length) = some 4 := by decide +kernel
theorem w_fX67_item_J68 {K : zK} (E : zE K cX67_item "RingHouseModel" (some .int) 2) (hN : zNl K = 6) (hT : zTr K = (some 0)) (x5 : Int) (s1 : Int) (s2 : Int) : zR K 68 [(5, 0, x5)] [(0, s2), (0, s1), (6812, 0)] (fX67_item_J68 x5 s1 s2) := by
  refine r_iastore E zc_6812 za_6812 zt_6812 zo_6812 zx_6812 rfl rfl dX67_item_68 (by decide) ?_
  refine r_iload E dX67_item_69 0 rfl ?_
  exact r_ireturn E rfl hT dX67_item_71
theorem w_fX67_item {K : zK} (E : zE K cX67_item "RingHouseModel" (some .int) 2) (hN : zNl K = 6) (hT : zTr K = (some 0)) (x1 : Int) (x2 : Int) (x3 : Int) (x4 : Int) : zR K 0 [(0, 69, 0), (1, 0, x1), (2, 0, x2), (3, 0, x3), (4, 0, x4)] [] (fX67_item x1 x2 x3 x4) := by
  refine r_aload_n E dX67_item_0 rfl 0 rfl ?_
  refine r_iload_n E dX67_item_1 rfl 1 rfl ?_
  refine r_callV E [(0, x1)] [] rfl zc_69 zr_69 (fun o _ => ⟨_, zw_X67.1 o, rfl⟩) (lw_V q3614 q3616 qs93 q294 q3617) dX67_item_2 zy_X67_isNode rfl (by omega) (by decide) (Nat.le_of_ble_eq_true rfl) (by decide) (fun l G => k_fX67_isNode l G x1) (fun v1 => ?_)
  refine r_if_eq E 18 (by decide) dX67_item_5 (fun _ => ?_) (fun _ => ?_)
  · refine r_bipush E dX67_item_18 (by decide) (zkI (by decide) (by decide)) ?_
    exact r_ireturn E rfl hT dX67_item_20
  · refine r_iload_n E dX67_item_8 rfl 2 rfl ?_
    refine r_iload_n E dX67_item_9 rfl 3 rfl ?_
    refine r_iload E dX67_item_10 4 rfl ?_
    refine r_callS E [(0, x2), (0, x3), (0, x4)] [] rfl q3688 q3689 q294 q3690 dX67_item_12 zy_X67_isItem rfl (by omega) (by decide) (Nat.le_of_ble_eq_true rfl) (fun l G => k_fX67_isItem l G x2 x3 x4) (fun v2 => ?_)
    refine r_if_ne E 21 (by decide) dX67_item_15 (fun _ => ?_) (fun _ => ?_)
    · refine r_aload_n E dX67_item_21 rfl 0 rfl ?_
      refine r_aload_n E dX67_item_22 rfl 0 rfl ?_
      refine r_gec (y := 0) E zc_69 dX67_item_23 q3228 zr_69 (zh_6813 (by decide)) (by decide) ?_
      refine r_bipush E dX67_item_26 (by decide) (zkI (by decide) (by decide)) ?_
      refine r_iload_n E dX67_item_28 rfl 1 rfl ?_
      refine r_imul E dX67_item_29 ?_
      refine r_aload_n E dX67_item_30 rfl 0 rfl ?_
      refine r_gec (y := 0) E zc_69 dX67_item_31 q3227 zr_69 (zh_6812 (by decide)) (by decide) ?_
      refine r_iload_n E dX67_item_34 rfl 1 rfl ?_
      refine r_iaload E zc_6812 za_6812 zt_6812 zx_6812 rfl rfl dX67_item_35 (by decide) (fun v3 => ?_)
      refine r_bipush E dX67_item_36 (by decide) (zkI (by decide) (by decide)) ?_
      refine r_iload_n E dX67_item_38 rfl 2 rfl ?_
      refine r_iload_n E dX67_item_39 rfl 3 rfl ?_
      refine r_iload E dX67_item_40 4 rfl ?_
      refine r_callV E [(6813, 0), (0, (zi (18 * x1))), (0, v3), (0, 6), (0, x2), (0, x3), (0, x4)] [] rfl zc_69 zr_69 (fun o _ => ⟨_, zw_X67.1 o, rfl⟩) (lw_V q3693 q3695 qs103 q294 q3696) dX67_item_42 zy_X67_setItem rfl (by omega) (by decide) (Nat.le_of_ble_eq_true rfl) (by decide) (fun l G => k_fX67_setItem l G 6813 (zi (18 * x1)) v3 6 x2 x3 x4 (by decide)) (fun v4 => ?_)
      refine r_istore (ls' := [(5, 0, v4), (0, 69, 0), (1, 0, x1), (2, 0, x2), (3, 0, x3), (4, 0, x4)]) E dX67_item_45 (by rw [hN]; decide) rfl ?_
      refine r_aload_n E dX67_item_47 rfl 1 rfl ?_
      refine r_gec (y := 0) E zc_69 dX67_item_48 q3227 zr_69 (zh_6812 (by decide)) (by decide) ?_
      refine r_iload_n E dX67_item_51 rfl 2 rfl ?_
      refine r_iload E dX67_item_52 0 rfl ?_
      refine r_if_lt E 62 (by decide) dX67_item_54 (fun _ => ?_) (fun _ => ?_)
      · refine r_aload_n E dX67_item_62 rfl 1 rfl ?_
        refine r_gec (y := 0) E zc_69 dX67_item_63 q3227 zr_69 (zh_6812 (by decide)) (by decide) ?_
        refine r_iload_n E dX67_item_66 rfl 2 rfl ?_
        refine r_iaload E zc_6812 za_6812 zt_6812 zx_6812 rfl rfl dX67_item_67 (by decide) (fun v5 => ?_)
        refine r_pick E [0] rfl ?_
        exact w_fX67_item_J68 E hN hT v4 x1 v5
      · refine r_iload E dX67_item_57 0 rfl ?_
        refine r_goto E 68 (by decide) dX67_item_59 ?_
        refine r_pick E [0] rfl ?_
        exact w_fX67_item_J68 E hN hT v4 x1 v4
    · refine r_bipush E dX67_item_18 (by decide) (zkI (by decide) (by decide)) ?_
      exact r_ireturn E rfl hT dX67_item_20
theorem k_fX67_item (l : Launch) (G : zG) (x1 : Int) (x2 : Int) (x3 : Int) (x4 : Int) : zCt l G yX67_item cX67_item 6 (some .int) 2 [(69, 0), (0, x1), (0, x2), (0, x3), (0, x4)] (some 0) (fX67_item x1 x2 x3 x4) := zCt.of (by decide) (Nat.le_of_ble_eq_true rfl) (fun K E _ _ hN hT => w_fX67_item E hN hT x1 x2 x3 x4)
theorem dX67_areBrackets_0 : decode cX67_areBrackets 0 = .ok (.iload_n 2, 1) := by decide +kernel
theorem dX67_areBrackets_1 : decode cX67_areBrackets 1 = .ok (.i2l, 1) := by decide +kernel
theorem dX67_areBrackets_2 : decode cX67_areBrackets 2 = .ok (.lconst 0, 1) := by decide +kernel
theorem dX67_areBrackets_3 : decode cX67_areBrackets 3 = .ok (.iload_n 3, 1) := by decide +kernel
theorem dX67_areBrackets_4 : decode cX67_areBrackets 4 = .ok (.i2l, 1) := by decide +kernel
theorem dX67_areBrackets_5 : decode cX67_areBrackets 5 = .ok (.invokestatic 363, 3) := by decide +kernel
theorem dX67_areBrackets_8 : decode cX67_areBrackets 8 = .ok (.ifCond .eq 59, 3) := by decide +kernel
theorem dX67_areBrackets_11 : decode cX67_areBrackets 11 = .ok (.iload_n 3, 1) := by decide +kernel
theorem dX67_areBrackets_12 : decode cX67_areBrackets 12 = .ok (.i2l, 1) := by decide +kernel
theorem dX67_areBrackets_13 : decode cX67_areBrackets 13 = .ok (.lconst 0, 1) := by decide +kernel
theorem dX67_areBrackets_14 : decode cX67_areBrackets 14 = .ok (.iload 4, 2) := by decide +kernel
theorem dX67_areBrackets_16 : decode cX67_areBrackets 16 = .ok (.i2l, 1) := by decide +kernel
theorem dX67_areBrackets_17 : decode cX67_areBrackets 17 = .ok (.invokestatic 363, 3) := by decide +kernel
theorem dX67_areBrackets_20 : decode cX67_areBrackets 20 = .ok (.ifCond .eq 47, 3) := by decide +kernel
theorem dX67_areBrackets_23 : decode cX67_areBrackets 23 = .ok (.iload 4, 2) := by decide +kernel
theorem dX67_areBrackets_25 : decode cX67_areBrackets 25 = .ok (.i2l, 1) := by decide +kernel
theorem dX67_areBrackets_26 : decode cX67_areBrackets 26 = .ok (.lconst 0, 1) := by decide +kernel
theorem dX67_areBrackets_27 : decode cX67_areBrackets 27 = .ok (.ldc2_w 476, 3) := by decide +kernel
theorem dX67_areBrackets_30 : decode cX67_areBrackets 30 = .ok (.invokestatic 363, 3) := by decide +kernel
theorem dX67_areBrackets_33 : decode cX67_areBrackets 33 = .ok (.ifCond .eq 34, 3) := by decide +kernel
theorem dX67_areBrackets_36 : decode cX67_areBrackets 36 = .ok (.iload 5, 2) := by decide +kernel
theorem dX67_areBrackets_38 : decode cX67_areBrackets 38 = .ok (.i2l, 1) := by decide +kernel
theorem dX67_areBrackets_39 : decode cX67_areBrackets 39 = .ok (.lconst 0, 1) := by decide +kernel
theorem dX67_areBrackets_40 : decode cX67_areBrackets 40 = .ok (.aload_n 0, 1) := by decide +kernel
theorem dX67_areBrackets_41 : decode cX67_areBrackets 41 = .ok (.getfield 7, 3) := by decide +kernel
theorem dX67_areBrackets_44 : decode cX67_areBrackets 44 = .ok (.iload_n 1, 1) := by decide +kernel
theorem dX67_areBrackets_45 : decode cX67_areBrackets 45 = .ok (.iaload, 1) := by decide +kernel
theorem dX67_areBrackets_46 : decode cX67_areBrackets 46 = .ok (.iconst 2, 1) := by decide +kernel
theorem dX67_areBrackets_47 : decode cX67_areBrackets 47 = .ok (.if_icmp .ne 9, 3) := by decide +kernel
theorem dX67_areBrackets_50 : decode cX67_areBrackets 50 = .ok (.ldc2_w 371, 3) := by decide +kernel
theorem dX67_areBrackets_53 : decode cX67_areBrackets 53 = .ok (.goto 4, 3) := by decide +kernel
theorem dX67_areBrackets_56 : decode cX67_areBrackets 56 = .ok (.lconst 0, 1) := by decide +kernel
theorem dX67_areBrackets_57 : decode cX67_areBrackets 57 = .ok (.invokestatic 363, 3) := by decide +kernel
theorem dX67_areBrackets_60 : decode cX67_areBrackets 60 = .ok (.ifCond .eq 7, 3) := by decide +kernel
theorem dX67_areBrackets_63 : decode cX67_areBrackets 63 = .ok (.iconst 1, 1) := by decide +kernel
theorem dX67_areBrackets_64 : decode cX67_areBrackets 64 = .ok (.goto 4, 3) := by decide +kernel
theorem dX67_areBrackets_67 : decode cX67_areBrackets 67 = .ok (.iconst 0, 1) := by decide +kernel
theorem dX67_areBrackets_68 : decode cX67_areBrackets 68 = .ok (.ireturn, 1) := by decide +kernel
theorem zy_X67_areBrackets : yX67_areBrackets.cls ≠ "java/lang/invoke/MethodHandle" ∧ yX67_areBrackets.cls ≠ "java/lang/invoke/VarHandle" ∧ (parseMethodDescriptor yX67_areBrackets.desc).map (fun d => d.parameters.length) = some 5 := by decide +kernel
theorem w_fX67_areBrackets_J57 {K : zK} (E : zE K cX67_areBrackets "RingHouseModel" (some .boolean) 1) (hN : zNl K = 6) (hT : zTr K = (some 0)) (s0 : Int) (s1 : Int) (s2 : Int) : zR K 57 [] [(1, s2), (1, s1), (1, s0)] (fX67_areBrackets_J57 s0 s1 s2) := by
  refine r_callS E [(1, s0), (1, s1), (1, s2)] [] rfl q3619 q3620 q294 q3621 dX67_areBrackets_57 zy_X67_in rfl (by omega) (by decide) (Nat.le_of_ble_eq_true rfl) (fun l G => k_fX67_in l G s0 s1 s2) (fun v5 => ?_)
  refine r_if_eq E 67 (by decide) dX67_areBrackets_60 (fun _ => ?_) (fun _ => ?_)
  · refine r_iconst E dX67_areBrackets_67 (zkI (by decide) (by decide)) ?_
    exact r_zreturn E rfl hT (by decide) dX67_areBrackets_68
  · refine r_iconst E dX67_areBrackets_63 (zkI (by decide) (by decide)) ?_
    refine r_goto E 68 (by decide) dX67_areBrackets_64 ?_
    exact r_zreturn E rfl hT (by decide) dX67_areBrackets_68
theorem w_fX67_areBrackets {K : zK} (E : zE K cX67_areBrackets "RingHouseModel" (some .boolean) 1) (hN : zNl K = 6) (hT : zTr K = (some 0)) (x1 : Int) (x2 : Int) (x3 : Int) (x4 : Int) (x5 : Int) : zR K 0 [(0, 69, 0), (1, 0, x1), (2, 0, x2), (3, 0, x3), (4, 0, x4), (5, 0, x5)] [] (fX67_areBrackets x1 x2 x3 x4 x5) := by
  refine r_iload_n E dX67_areBrackets_0 rfl 2 rfl ?_
  refine r_i2l E dX67_areBrackets_1 ?_
  refine r_lconst (v := 0) E dX67_areBrackets_2 (by decide) (zkJ (by decide) (by decide)) ?_
  refine r_iload_n E dX67_areBrackets_3 rfl 3 rfl ?_
  refine r_i2l E dX67_areBrackets_4 ?_
  refine r_callS E [(1, x2), (1, 0), (1, x3)] [] rfl q3619 q3620 q294 q3621 dX67_areBrackets_5 zy_X67_in rfl (by omega) (by decide) (Nat.le_of_ble_eq_true rfl) (fun l G => k_fX67_in l G x2 0 x3) (fun v1 => ?_)
  refine r_if_eq E 67 (by decide) dX67_areBrackets_8 (fun _ => ?_) (fun _ => ?_)
  · refine r_iconst E dX67_areBrackets_67 (zkI (by decide) (by decide)) ?_
    exact r_zreturn E rfl hT (by decide) dX67_areBrackets_68
  · refine r_iload_n E dX67_areBrackets_11 rfl 3 rfl ?_
    refine r_i2l E dX67_areBrackets_12 ?_
    refine r_lconst (v := 0) E dX67_areBrackets_13 (by decide) (zkJ (by decide) (by decide)) ?_
    refine r_iload E dX67_areBrackets_14 4 rfl ?_
    refine r_i2l E dX67_areBrackets_16 ?_
    refine r_callS E [(1, x3), (1, 0), (1, x4)] [] rfl q3619 q3620 q294 q3621 dX67_areBrackets_17 zy_X67_in rfl (by omega) (by decide) (Nat.le_of_ble_eq_true rfl) (fun l G => k_fX67_in l G x3 0 x4) (fun v2 => ?_)
    refine r_if_eq E 67 (by decide) dX67_areBrackets_20 (fun _ => ?_) (fun _ => ?_)
    · refine r_iconst E dX67_areBrackets_67 (zkI (by decide) (by decide)) ?_
      exact r_zreturn E rfl hT (by decide) dX67_areBrackets_68
    · refine r_iload E dX67_areBrackets_23 4 rfl ?_
      refine r_i2l E dX67_areBrackets_25 ?_
      refine r_lconst (v := 0) E dX67_areBrackets_26 (by decide) (zkJ (by decide) (by decide)) ?_
      refine r_ldc2 (v := 7) E dX67_areBrackets_27 q3709 (by decide) (zkJ (by decide) (by decide)) ?_
      refine r_callS E [(1, x4), (1, 0), (1, 7)] [] rfl q3619 q3620 q294 q3621 dX67_areBrackets_30 zy_X67_in rfl (by omega) (by decide) (Nat.le_of_ble_eq_true rfl) (fun l G => k_fX67_in l G x4 0 7) (fun v3 => ?_)
      refine r_if_eq E 67 (by decide) dX67_areBrackets_33 (fun _ => ?_) (fun _ => ?_)
      · refine r_iconst E dX67_areBrackets_67 (zkI (by decide) (by decide)) ?_
        exact r_zreturn E rfl hT (by decide) dX67_areBrackets_68
      · refine r_iload E dX67_areBrackets_36 5 rfl ?_
        refine r_i2l E dX67_areBrackets_38 ?_
        refine r_lconst (v := 0) E dX67_areBrackets_39 (by decide) (zkJ (by decide) (by decide)) ?_
        refine r_aload_n E dX67_areBrackets_40 rfl 0 rfl ?_
        refine r_gec (y := 0) E zc_69 dX67_areBrackets_41 q3215 zr_69 (zh_6800 (by decide)) (by decide) ?_
        refine r_iload_n E dX67_areBrackets_44 rfl 1 rfl ?_
        refine r_iaload E zc_6800 za_6800 zt_6800 zx_6800 rfl rfl dX67_areBrackets_45 (by decide) (fun v4 => ?_)
        refine r_iconst E dX67_areBrackets_46 (zkI (by decide) (by decide)) ?_
        refine r_icmp_ne E 56 (by decide) dX67_areBrackets_47 (fun _ => ?_) (fun _ => ?_)
        · refine r_lconst (v := 0) E dX67_areBrackets_56 (by decide) (zkJ (by decide) (by decide)) ?_
          refine r_pick E [] rfl ?_
          exact w_fX67_areBrackets_J57 E hN hT x5 0 0
        · refine r_ldc2 (v := 63) E dX67_areBrackets_50 q3629 (by decide) (zkJ (by decide) (by decide)) ?_
          refine r_goto E 57 (by decide) dX67_areBrackets_53 ?_
          refine r_pick E [] rfl ?_
          exact w_fX67_areBrackets_J57 E hN hT x5 0 63
theorem k_fX67_areBrackets (l : Launch) (G : zG) (x1 : Int) (x2 : Int) (x3 : Int) (x4 : Int) (x5 : Int) : zCt l G yX67_areBrackets cX67_areBrackets 6 (some .boolean) 1 [(69, 0), (0, x1), (0, x2), (0, x3), (0, x4), (0, x5)] (some 0) (fX67_areBrackets x1 x2 x3 x4 x5) := zCt.of (by decide) (Nat.le_of_ble_eq_true rfl) (fun K E _ _ hN hT => w_fX67_areBrackets E hN hT x1 x2 x3 x4 x5)
theorem dX67_brackets_0 : decode cX67_brackets 0 = .ok (.aload_n 0, 1) := by decide +kernel
theorem dX67_brackets_1 : decode cX67_brackets 1 = .ok (.iload_n 1, 1) := by decide +kernel
theorem dX67_brackets_2 : decode cX67_brackets 2 = .ok (.invokevirtual 379, 3) := by decide +kernel
theorem dX67_brackets_5 : decode cX67_brackets 5 = .ok (.ifCond .eq 17, 3) := by decide +kernel
theorem dX67_brackets_8 : decode cX67_brackets 8 = .ok (.aload_n 0, 1) := by decide +kernel
theorem dX67_brackets_9 : decode cX67_brackets 9 = .ok (.iload_n 1, 1) := by decide +kernel
theorem dX67_brackets_10 : decode cX67_brackets 10 = .ok (.iload_n 2, 1) := by decide +kernel
theorem dX67_brackets_11 : decode cX67_brackets 11 = .ok (.iload_n 3, 1) := by decide +kernel
theorem dX67_brackets_12 : decode cX67_brackets 12 = .ok (.iload 4, 2) := by decide +kernel
theorem dX67_brackets_14 : decode cX67_brackets 14 = .ok (.iload 5, 2) := by decide +kernel
theorem dX67_brackets_16 : decode cX67_brackets 16 = .ok (.invokevirtual 478, 3) := by decide +kernel
theorem dX67_brackets_19 : decode cX67_brackets 19 = .ok (.ifCond .ne 6, 3) := by decide +kernel
theorem dX67_brackets_22 : decode cX67_brackets 22 = .ok (.bipush (-8), 2) := by decide +kernel
theorem dX67_brackets_24 : decode cX67_brackets 24 = .ok (.ireturn, 1) := by decide +kernel
theorem dX67_brackets_25 : decode cX67_brackets 25 = .ok (.aload_n 0, 1) := by decide +kernel
theorem dX67_brackets_26 : decode cX67_brackets 26 = .ok (.iload_n 1, 1) := by decide +kernel
theorem dX67_brackets_27 : decode cX67_brackets 27 = .ok (.iload_n 2, 1) := by decide +kernel
theorem dX67_brackets_28 : decode cX67_brackets 28 = .ok (.iload_n 3, 1) := by decide +kernel
theorem dX67_brackets_29 : decode cX67_brackets 29 = .ok (.iload 4, 2) := by decide +kernel
theorem dX67_brackets_31 : decode cX67_brackets 31 = .ok (.invokevirtual 402, 3) := by decide +kernel
theorem dX67_brackets_34 : decode cX67_brackets 34 = .ok (.aload_n 0, 1) := by decide +kernel
theorem dX67_brackets_35 : decode cX67_brackets 35 = .ok (.getfield 26, 3) := by decide +kernel
theorem dX67_brackets_38 : decode cX67_brackets 38 = .ok (.iload_n 1, 1) := by decide +kernel
theorem dX67_brackets_39 : decode cX67_brackets 39 = .ok (.iload 5, 2) := by decide +kernel
theorem dX67_brackets_41 : decode cX67_brackets 41 = .ok (.iastore, 1) := by decide +kernel
theorem dX67_brackets_42 : decode cX67_brackets 42 = .ok (.iconst 0, 1) := by decide +kernel
theorem dX67_brackets_43 : decode cX67_brackets 43 = .ok (.ireturn, 1) := by decide +kernel
theorem zy_X67_brackets : yX67_brackets.cls ≠ "java/lang/invoke/MethodHandle" ∧ yX67_brackets.cls ≠ "java/lang/invoke/VarHandle" ∧ (parseMethodDescriptor yX67_brackets.desc).map (fun d => d.parameters.length) = some 5 := by decide +kernel
theorem w_fX67_brackets {K : zK} (E : zE K cX67_brackets "RingHouseModel" (some .int) 2) (hN : zNl K = 6) (hT : zTr K = (some 0)) (x1 : Int) (x2 : Int) (x3 : Int) (x4 : Int) (x5 : Int) : zR K 0 [(0, 69, 0), (1, 0, x1), (2, 0, x2), (3, 0, x3), (4, 0, x4), (5, 0, x5)] [] (fX67_brackets x1 x2 x3 x4 x5) := by
  refine r_aload_n E dX67_brackets_0 rfl 0 rfl ?_
  refine r_iload_n E dX67_brackets_1 rfl 1 rfl ?_
  refine r_callV E [(0, x1)] [] rfl zc_69 zr_69 (fun o _ => ⟨_, zw_X67.1 o, rfl⟩) (lw_V q3614 q3616 qs93 q294 q3617) dX67_brackets_2 zy_X67_isNode rfl (by omega) (by decide) (Nat.le_of_ble_eq_true rfl) (by decide) (fun l G => k_fX67_isNode l G x1) (fun v1 => ?_)
  refine r_if_eq E 22 (by decide) dX67_brackets_5 (fun _ => ?_) (fun _ => ?_)
  · refine r_bipush E dX67_brackets_22 (by decide) (zkI (by decide) (by decide)) ?_
    exact r_ireturn E rfl hT dX67_brackets_24
  · refine r_aload_n E dX67_brackets_8 rfl 0 rfl ?_
    refine r_iload_n E dX67_brackets_9 rfl 1 rfl ?_
    refine r_iload_n E dX67_brackets_10 rfl 2 rfl ?_
    refine r_iload_n E dX67_brackets_11 rfl 3 rfl ?_
    refine r_iload E dX67_brackets_12 4 rfl ?_
    refine r_iload E dX67_brackets_14 5 rfl ?_
    refine r_callV E [(0, x1), (0, x2), (0, x3), (0, x4), (0, x5)] [] rfl zc_69 zr_69 (fun o _ => ⟨_, zw_X67.1 o, rfl⟩) (lw_V q3705 q3707 qs104 q294 q3708) dX67_brackets_16 zy_X67_areBrackets rfl (by omega) (by decide) (Nat.le_of_ble_eq_true rfl) (by decide) (fun l G => k_fX67_areBrackets l G x1 x2 x3 x4 x5) (fun v2 => ?_)
    refine r_if_ne E 25 (by decide) dX67_brackets_19 (fun _ => ?_) (fun _ => ?_)
    · refine r_aload_n E dX67_brackets_25 rfl 0 rfl ?_
      refine r_iload_n E dX67_brackets_26 rfl 1 rfl ?_
      refine r_iload_n E dX67_brackets_27 rfl 2 rfl ?_
      refine r_iload_n E dX67_brackets_28 rfl 3 rfl ?_
      refine r_iload E dX67_brackets_29 4 rfl ?_
      refine r_callV E [(0, x1), (0, x2), (0, x3), (0, x4)] [] rfl zc_69 zr_69 (fun o _ => ⟨_, zw_X67.1 o, rfl⟩) (lw_V q3658 q3660 qs99 q294 q3661) dX67_brackets_31 zy_X67_setBrackets rfl (by omega) (by decide) (Nat.le_of_ble_eq_true rfl) (by decide) (fun l G => k_fX67_setBrackets l G x1 x2 x3 x4) (fun _ => ?_)
      refine r_aload_n E dX67_brackets_34 rfl 0 rfl ?_
      refine r_gec (y := 0) E zc_69 dX67_brackets_35 q3220 zr_69 (zh_6805 (by decide)) (by decide) ?_
      refine r_iload_n E dX67_brackets_38 rfl 1 rfl ?_
      refine r_iload E dX67_brackets_39 5 rfl ?_
      refine r_iastore E zc_6805 za_6805 zt_6805 zo_6805 zx_6805 rfl rfl dX67_brackets_41 (by decide) ?_
      refine r_iconst E dX67_brackets_42 (zkI (by decide) (by decide)) ?_
      exact r_ireturn E rfl hT dX67_brackets_43
    · refine r_bipush E dX67_brackets_22 (by decide) (zkI (by decide) (by decide)) ?_
      exact r_ireturn E rfl hT dX67_brackets_24
theorem k_fX67_brackets (l : Launch) (G : zG) (x1 : Int) (x2 : Int) (x3 : Int) (x4 : Int) (x5 : Int) : zCt l G yX67_brackets cX67_brackets 6 (some .int) 2 [(69, 0), (0, x1), (0, x2), (0, x3), (0, x4), (0, x5)] (some 0) (fX67_brackets x1 x2 x3 x4 x5) := zCt.of (by decide) (Nat.le_of_ble_eq_true rfl) (fun K E _ _ hN hT => w_fX67_brackets E hN hT x1 x2 x3 x4 x5)
theorem dX67_cost_0 : decode cX67_cost 0 = .ok (.aload_n 0, 1) := by decide +kernel
theorem dX67_cost_1 : decode cX67_cost 1 = .ok (.getfield 7, 3) := by decide +kernel
theorem dX67_cost_4 : decode cX67_cost 4 = .ok (.iload_n 1, 1) := by decide +kernel
theorem dX67_cost_5 : decode cX67_cost 5 = .ok (.iaload, 1) := by decide +kernel
theorem dX67_cost_6 : decode cX67_cost 6 = .ok (.aload_n 0, 1) := by decide +kernel
theorem dX67_cost_7 : decode cX67_cost 7 = .ok (.getfield 7, 3) := by decide +kernel
theorem dX67_cost_10 : decode cX67_cost 10 = .ok (.iload_n 1, 1) := by decide +kernel
theorem dX67_cost_11 : decode cX67_cost 11 = .ok (.iaload, 1) := by decide +kernel
theorem dX67_cost_12 : decode cX67_cost 12 = .ok (.iconst 2, 1) := by decide +kernel
theorem dX67_cost_13 : decode cX67_cost 13 = .ok (.if_icmp .ne 12, 3) := by decide +kernel
theorem dX67_cost_16 : decode cX67_cost 16 = .ok (.aload_n 0, 1) := by decide +kernel
theorem dX67_cost_17 : decode cX67_cost 17 = .ok (.getfield 29, 3) := by decide +kernel
theorem dX67_cost_20 : decode cX67_cost 20 = .ok (.iload_n 1, 1) := by decide +kernel
theorem dX67_cost_21 : decode cX67_cost 21 = .ok (.iaload, 1) := by decide +kernel
theorem dX67_cost_22 : decode cX67_cost 22 = .ok (.goto 9, 3) := by decide +kernel
theorem dX67_cost_25 : decode cX67_cost 25 = .ok (.aload_n 0, 1) := by decide +kernel
theorem dX67_cost_26 : decode cX67_cost 26 = .ok (.getfield 32, 3) := by decide +kernel
theorem dX67_cost_29 : decode cX67_cost 29 = .ok (.iload_n 1, 1) := by decide +kernel
theorem dX67_cost_30 : decode cX67_cost 30 = .ok (.iaload, 1) := by decide +kernel
theorem dX67_cost_31 : decode cX67_cost 31 = .ok (.invokestatic 387, 3) := by decide +kernel
theorem dX67_cost_34 : decode cX67_cost 34 = .ok (.ireturn, 1) := by decide +kernel
theorem zy_X67_cost : yX67_cost.cls ≠ "java/lang/invoke/MethodHandle" ∧ yX67_cost.cls ≠ "java/lang/invoke/VarHandle" ∧ (parseMethodDescriptor yX67_cost.desc).map (fun d => d.parameters.length) = some 1 := by decide +kernel
theorem w_fX67_cost_J31 {K : zK} (E : zE K cX67_cost "RingHouseModel" (some .int) 1) (hN : zNl K = 2) (hT : zTr K = (some 0)) (s0 : Int) (s1 : Int) : zR K 31 [] [(0, s1), (0, s0)] (fX67_cost_J31 s0 s1) := by
  refine r_callS E [(0, s0), (0, s1)] [] rfl q3639 q3640 q294 q3641 dX67_cost_31 zy_X67_costOf rfl (by omega) (by decide) (Nat.le_of_ble_eq_true rfl) (fun l G => k_fX67_costOf l G s0 s1) (fun v4 => ?_)
  exact r_ireturn E rfl hT dX67_cost_34
theorem w_fX67_cost {K : zK} (E : zE K cX67_cost "RingHouseModel" (some .int) 1) (hN : zNl K = 2) (hT : zTr K = (some 0)) (x1 : Int) : zR K 0 [(0, 69, 0), (1, 0, x1)] [] (fX67_cost x1) := by
  refine r_aload_n E dX67_cost_0 rfl 0 rfl ?_
  refine r_gec (y := 0) E zc_69 dX67_cost_1 q3215 zr_69 (zh_6800 (by decide)) (by decide) ?_
  refine r_iload_n E dX67_cost_4 rfl 1 rfl ?_
  refine r_iaload E zc_6800 za_6800 zt_6800 zx_6800 rfl rfl dX67_cost_5 (by decide) (fun v1 => ?_)
  refine r_aload_n E dX67_cost_6 rfl 0 rfl ?_
  refine r_gec (y := 0) E zc_69 dX67_cost_7 q3215 zr_69 (zh_6800 (by decide)) (by decide) ?_
  refine r_iload_n E dX67_cost_10 rfl 1 rfl ?_
  refine r_iaload E zc_6800 za_6800 zt_6800 zx_6800 rfl rfl dX67_cost_11 (by decide) (fun v2 => ?_)
  refine r_iconst E dX67_cost_12 (zkI (by decide) (by decide)) ?_
  refine r_icmp_ne E 25 (by decide) dX67_cost_13 (fun _ => ?_) (fun _ => ?_)
  · refine r_aload_n E dX67_cost_25 rfl 0 rfl ?_
    refine r_gec (y := 0) E zc_69 dX67_cost_26 q3222 zr_69 (zh_6807 (by decide)) (by decide) ?_
    refine r_iload_n E dX67_cost_29 rfl 1 rfl ?_
    refine r_iaload E zc_6807 za_6807 zt_6807 zx_6807 rfl rfl dX67_cost_30 (by decide) (fun v3 => ?_)
    refine r_pick E [] rfl ?_
    exact w_fX67_cost_J31 E hN hT v1 v3
  · refine r_aload_n E dX67_cost_16 rfl 0 rfl ?_
    refine r_gec (y := 0) E zc_69 dX67_cost_17 q3221 zr_69 (zh_6806 (by decide)) (by decide) ?_
    refine r_iload_n E dX67_cost_20 rfl 1 rfl ?_
    refine r_iaload E zc_6806 za_6806 zt_6806 zx_6806 rfl rfl dX67_cost_21 (by decide) (fun v5 => ?_)
    refine r_goto E 31 (by decide) dX67_cost_22 ?_
    refine r_pick E [] rfl ?_
    exact w_fX67_cost_J31 E hN hT v1 v5
theorem k_fX67_cost (l : Launch) (G : zG) (x1 : Int) : zCt l G yX67_cost cX67_cost 2 (some .int) 1 [(69, 0), (0, x1)] (some 0) (fX67_cost x1) := zCt.of (by decide) (Nat.le_of_ble_eq_true rfl) (fun K E _ _ hN hT => w_fX67_cost E hN hT x1)
theorem dX67_setLength_0 : decode cX67_setLength 0 = .ok (.iconst 2, 1) := by decide +kernel
theorem dX67_setLength_1 : decode cX67_setLength 1 = .ok (.iload_n 2, 1) := by decide +kernel
theorem dX67_setLength_2 : decode cX67_setLength 2 = .ok (.invokestatic 387, 3) := by decide +kernel
theorem dX67_setLength_5 : decode cX67_setLength 5 = .ok (.aload_n 0, 1) := by decide +kernel
theorem dX67_setLength_6 : decode cX67_setLength 6 = .ok (.iload_n 1, 1) := by decide +kernel
theorem dX67_setLength_7 : decode cX67_setLength 7 = .ok (.invokevirtual 413, 3) := by decide +kernel
theorem dX67_setLength_10 : decode cX67_setLength 10 = .ok (.isub, 1) := by decide +kernel
theorem dX67_setLength_11 : decode cX67_setLength 11 = .ok (.istore_n 3, 1) := by decide +kernel
theorem dX67_setLength_12 : decode cX67_setLength 12 = .ok (.aload_n 0, 1) := by decide +kernel
theorem dX67_setLength_13 : decode cX67_setLength 13 = .ok (.aload_n 0, 1) := by decide +kernel
theorem dX67_setLength_14 : decode cX67_setLength 14 = .ok (.getfield 17, 3) := by decide +kernel
theorem dX67_setLength_17 : decode cX67_setLength 17 = .ok (.iload_n 1, 1) := by decide +kernel
theorem dX67_setLength_18 : decode cX67_setLength 18 = .ok (.iaload, 1) := by decide +kernel
theorem dX67_setLength_19 : decode cX67_setLength 19 = .ok (.iload_n 3, 1) := by decide +kernel
theorem dX67_setLength_20 : decode cX67_setLength 20 = .ok (.invokevirtual 454, 3) := by decide +kernel
theorem dX67_setLength_23 : decode cX67_setLength 23 = .ok (.ifCond .ne 5, 3) := by decide +kernel
theorem dX67_setLength_26 : decode cX67_setLength 26 = .ok (.iconst 0, 1) := by decide +kernel
theorem dX67_setLength_27 : decode cX67_setLength 27 = .ok (.ireturn, 1) := by decide +kernel
theorem dX67_setLength_28 : decode cX67_setLength 28 = .ok (.aload_n 0, 1) := by decide +kernel
theorem dX67_setLength_29 : decode cX67_setLength 29 = .ok (.getfield 35, 3) := by decide +kernel
theorem dX67_setLength_32 : decode cX67_setLength 32 = .ok (.aload_n 0, 1) := by decide +kernel
theorem dX67_setLength_33 : decode cX67_setLength 33 = .ok (.aload_n 0, 1) := by decide +kernel
theorem dX67_setLength_34 : decode cX67_setLength 34 = .ok (.getfield 17, 3) := by decide +kernel
theorem dX67_setLength_37 : decode cX67_setLength 37 = .ok (.iload_n 1, 1) := by decide +kernel
theorem dX67_setLength_38 : decode cX67_setLength 38 = .ok (.iaload, 1) := by decide +kernel
theorem dX67_setLength_39 : decode cX67_setLength 39 = .ok (.invokevirtual 390, 3) := by decide +kernel
theorem dX67_setLength_42 : decode cX67_setLength 42 = .ok (.dup2, 1) := by decide +kernel
theorem dX67_setLength_43 : decode cX67_setLength 43 = .ok (.iaload, 1) := by decide +kernel
theorem dX67_setLength_44 : decode cX67_setLength 44 = .ok (.iload_n 3, 1) := by decide +kernel
theorem dX67_setLength_45 : decode cX67_setLength 45 = .ok (.iadd, 1) := by decide +kernel
theorem dX67_setLength_46 : decode cX67_setLength 46 = .ok (.iastore, 1) := by decide +kernel
theorem dX67_setLength_47 : decode cX67_setLength 47 = .ok (.aload_n 0, 1) := by decide +kernel
theorem dX67_setLength_48 : decode cX67_setLength 48 = .ok (.getfield 29, 3) := by decide +kernel
theorem dX67_setLength_51 : decode cX67_setLength 51 = .ok (.iload_n 1, 1) := by decide +kernel
theorem dX67_setLength_52 : decode cX67_setLength 52 = .ok (.iaload, 1) := by decide +kernel
theorem dX67_setLength_53 : decode cX67_setLength 53 = .ok (.istore 4, 2) := by decide +kernel
theorem dX67_setLength_55 : decode cX67_setLength 55 = .ok (.iload 4, 2) := by decide +kernel
theorem dX67_setLength_57 : decode cX67_setLength 57 = .ok (.iload_n 2, 1) := by decide +kernel
theorem dX67_setLength_58 : decode cX67_setLength 58 = .ok (.if_icmp .ge 23, 3) := by decide +kernel
theorem dX67_setLength_61 : decode cX67_setLength 61 = .ok (.aload_n 0, 1) := by decide +kernel
theorem dX67_setLength_62 : decode cX67_setLength 62 = .ok (.getfield 57, 3) := by decide +kernel
theorem dX67_setLength_65 : decode cX67_setLength 65 = .ok (.sipush 1024, 3) := by decide +kernel
theorem dX67_setLength_68 : decode cX67_setLength 68 = .ok (.iload_n 1, 1) := by decide +kernel
theorem dX67_setLength_69 : decode cX67_setLength 69 = .ok (.imul, 1) := by decide +kernel
theorem dX67_setLength_70 : decode cX67_setLength 70 = .ok (.iload 4, 2) := by decide +kernel
theorem dX67_setLength_72 : decode cX67_setLength 72 = .ok (.iadd, 1) := by decide +kernel
theorem dX67_setLength_73 : decode cX67_setLength 73 = .ok (.lconst 0, 1) := by decide +kernel
theorem dX67_setLength_74 : decode cX67_setLength 74 = .ok (.lastore, 1) := by decide +kernel
theorem dX67_setLength_75 : decode cX67_setLength 75 = .ok (.iinc 4 1, 3) := by decide +kernel
theorem dX67_setLength_78 : decode cX67_setLength 78 = .ok (.goto (-23), 3) := by decide +kernel
theorem dX67_setLength_81 : decode cX67_setLength 81 = .ok (.aload_n 0, 1) := by decide +kernel
theorem dX67_setLength_82 : decode cX67_setLength 82 = .ok (.getfield 29, 3) := by decide +kernel
theorem dX67_setLength_85 : decode cX67_setLength 85 = .ok (.iload_n 1, 1) := by decide +kernel
theorem dX67_setLength_86 : decode cX67_setLength 86 = .ok (.iload_n 2, 1) := by decide +kernel
theorem dX67_setLength_87 : decode cX67_setLength 87 = .ok (.iastore, 1) := by decide +kernel
theorem dX67_setLength_88 : decode cX67_setLength 88 = .ok (.iconst 1, 1) := by decide +kernel
theorem dX67_setLength_89 : decode cX67_setLength 89 = .ok (.ireturn, 1) := by decide +kernel
theorem zy_X67_setLength : yX67_setLength.cls ≠ "java/lang/invoke/MethodHandle" ∧ yX67_setLength.cls ≠ "java/lang/invoke/VarHandle" ∧ (parseMethodDescriptor yX67_setLength.desc).map (fun d => d.parameters.length) = some 2 := by decide +kernel
theorem w_fX67_setLength_J81 {K : zK} (E : zE K cX67_setLength "RingHouseModel" (some .boolean) 2) (hN : zNl K = 5) (hT : zTr K = (some 0)) (x1 : Int) (x2 : Int) : zR K 81 [(0, 69, 0), (1, 0, x1), (2, 0, x2)] [] (fX67_setLength_J81 x1 x2) := by
  refine r_aload_n E dX67_setLength_81 rfl 0 rfl ?_
  refine r_gec (y := 0) E zc_69 dX67_setLength_82 q3221 zr_69 (zh_6806 (by decide)) (by decide) ?_
  refine r_iload_n E dX67_setLength_85 rfl 1 rfl ?_
  refine r_iload_n E dX67_setLength_86 rfl 2 rfl ?_
  refine r_iastore E zc_6806 za_6806 zt_6806 zo_6806 zx_6806 rfl rfl dX67_setLength_87 (by decide) ?_
  refine r_iconst E dX67_setLength_88 (zkI (by decide) (by decide)) ?_
  exact r_zreturn E rfl hT (by decide) dX67_setLength_89
theorem w_fX67_setLength_B55 {K : zK} (E : zE K cX67_setLength "RingHouseModel" (some .boolean) 2) (hN : zNl K = 5) (hT : zTr K = (some 0)) (x1 : Int) (x2 : Int) : ∀ r55 : Int → zX, (∀ s : Int, zR K 55 [(0, 69, 0), (1, 0, x1), (2, 0, x2), (4, 0, s)] [] (r55 s)) → ∀ s : Int, zR K 55 [(0, 69, 0), (1, 0, x1), (2, 0, x2), (4, 0, s)] [] (fX67_setLength_B55 x1 x2 r55 s) := by
  intro r55 hr55 x4
  refine r_iload E dX67_setLength_55 3 rfl ?_
  refine r_iload_n E dX67_setLength_57 rfl 2 rfl ?_
  refine r_icmp_ge E 81 (by decide) dX67_setLength_58 (fun _ => ?_) (fun _ => ?_)
  · refine r_pick E [0, 1, 2] rfl ?_
    exact w_fX67_setLength_J81 E hN hT x1 x2
  · refine r_aload_n E dX67_setLength_61 rfl 0 rfl ?_
    refine r_gec (y := 0) E zc_69 dX67_setLength_62 q3231 zr_69 (zh_6816 (by decide)) (by decide) ?_
    refine r_sipush E dX67_setLength_65 (by decide) (zkI (by decide) (by decide)) ?_
    refine r_iload_n E dX67_setLength_68 rfl 1 rfl ?_
    refine r_imul E dX67_setLength_69 ?_
    refine r_iload E dX67_setLength_70 3 rfl ?_
    refine r_iadd E dX67_setLength_72 ?_
    refine r_lconst (v := 0) E dX67_setLength_73 (by decide) (zkJ (by decide) (by decide)) ?_
    refine r_lastore E zc_6816 za_6816 zt_6816 zo_6816 zx_6816 rfl rfl dX67_setLength_74 (by decide) ?_
    refine r_iinc (ls' := fun v10 => [(4, 0, v10), (0, 69, 0), (1, 0, x1), (2, 0, x2)]) E 3 rfl (by rw [hN]; decide) (fun _ => rfl) dX67_setLength_75 (fun v10 _ => ?_)
    refine r_goto E 55 (by decide) dX67_setLength_78 ?_
    refine r_pick E [1, 2, 3, 0] rfl ?_
    exact hr55 v10
theorem w_fX67_setLength {K : zK} (E : zE K cX67_setLength "RingHouseModel" (some .boolean) 2) (hN : zNl K = 5) (hT : zTr K = (some 0)) (x1 : Int) (x2 : Int) : zR K 0 [(0, 69, 0), (1, 0, x1), (2, 0, x2)] [] (fX67_setLength x1 x2) := by
  refine r_iconst E dX67_setLength_0 (zkI (by decide) (by decide)) ?_
  refine r_iload_n E dX67_setLength_1 rfl 2 rfl ?_
  refine r_callS E [(0, 2), (0, x2)] [] rfl q3639 q3640 q294 q3641 dX67_setLength_2 zy_X67_costOf rfl (by omega) (by decide) (Nat.le_of_ble_eq_true rfl) (fun l G => k_fX67_costOf l G 2 x2) (fun v1 => ?_)
  refine r_aload_n E dX67_setLength_5 rfl 0 rfl ?_
  refine r_iload_n E dX67_setLength_6 rfl 1 rfl ?_
  refine r_callV E [(0, x1)] [(0, v1)] rfl zc_69 zr_69 (fun o _ => ⟨_, zw_X67.1 o, rfl⟩) (lw_V q3718 q3720 qs106 q294 q3721) dX67_setLength_7 zy_X67_cost rfl (by omega) (by decide) (Nat.le_of_ble_eq_true rfl) (by decide) (fun l G => k_fX67_cost l G x1) (fun v2 => ?_)
  refine r_isub E dX67_setLength_10 ?_
  refine r_let E (fun v3 ev3 => ?_)
  refine r_istore_n (ls' := [(3, 0, v3), (0, 69, 0), (1, 0, x1), (2, 0, x2)]) E dX67_setLength_11 rfl (by rw [hN]; decide) rfl ?_
  refine r_aload_n E dX67_setLength_12 rfl 1 rfl ?_
  refine r_aload_n E dX67_setLength_13 rfl 1 rfl ?_
  refine r_gec (y := 0) E zc_69 dX67_setLength_14 q3217 zr_69 (zh_6802 (by decide)) (by decide) ?_
  refine r_iload_n E dX67_setLength_17 rfl 2 rfl ?_
  refine r_iaload E zc_6802 za_6802 zt_6802 zx_6802 rfl rfl dX67_setLength_18 (by decide) (fun v4 => ?_)
  refine r_iload_n E dX67_setLength_19 rfl 0 rfl ?_
  refine r_callV E [(0, v4), (0, v3)] [] rfl zc_69 zr_69 (fun o _ => ⟨_, zw_X67.1 o, rfl⟩) (lw_V q3642 q3644 qs95 q294 q3645) dX67_setLength_20 zy_X67_hasRoom rfl (by omega) (by decide) (Nat.le_of_ble_eq_true rfl) (by decide) (fun l G => k_fX67_hasRoom l G v4 v3) (fun v5 => ?_)
  refine r_if_ne E 28 (by decide) dX67_setLength_23 (fun _ => ?_) (fun _ => ?_)
  · refine r_aload_n E dX67_setLength_28 rfl 1 rfl ?_
    refine r_gec (y := 0) E zc_69 dX67_setLength_29 q3223 zr_69 (zh_6808 (by decide)) (by decide) ?_
    refine r_aload_n E dX67_setLength_32 rfl 1 rfl ?_
    refine r_aload_n E dX67_setLength_33 rfl 1 rfl ?_
    refine r_gec (y := 0) E zc_69 dX67_setLength_34 q3217 zr_69 (zh_6802 (by decide)) (by decide) ?_
    refine r_iload_n E dX67_setLength_37 rfl 2 rfl ?_
    refine r_iaload E zc_6802 za_6802 zt_6802 zx_6802 rfl rfl dX67_setLength_38 (by decide) (fun v6 => ?_)
    refine r_callV E [(0, v6)] [(6808, 0)] rfl zc_69 zr_69 (fun o _ => ⟨_, zw_X67.1 o, rfl⟩) (lw_V q3646 q3648 qs96 q294 q3649) dX67_setLength_39 zy_X67_account rfl (by omega) (by decide) (Nat.le_of_ble_eq_true rfl) (by decide) (fun l G => k_fX67_account l G v6) (fun v7 => ?_)
    refine r_dup22 E (zn1 rfl) (zn1 rfl) dX67_setLength_42 ?_
    refine r_iaload E zc_6808 za_6808 zt_6808 zx_6808 rfl rfl dX67_setLength_43 (by decide) (fun v8 => ?_)
    refine r_iload_n E dX67_setLength_44 rfl 0 rfl ?_
    refine r_iadd E dX67_setLength_45 ?_
    refine r_iastore E zc_6808 za_6808 zt_6808 zo_6808 zx_6808 rfl rfl dX67_setLength_46 (by decide) ?_
    refine r_aload_n E dX67_setLength_47 rfl 1 rfl ?_
    refine r_gec (y := 0) E zc_69 dX67_setLength_48 q3221 zr_69 (zh_6806 (by decide)) (by decide) ?_
    refine r_iload_n E dX67_setLength_51 rfl 2 rfl ?_
    refine r_iaload E zc_6806 za_6806 zt_6806 zx_6806 rfl rfl dX67_setLength_52 (by decide) (fun v9 => ?_)
    refine r_istore (ls' := [(4, 0, v9), (3, 0, v3), (0, 69, 0), (1, 0, x1), (2, 0, x2)]) E dX67_setLength_53 (by rw [hN]; decide) rfl ?_
    refine r_pick E [2, 3, 4, 0] rfl ?_
    exact r_loop (L := fun s => [(0, 69, 0), (1, 0, x1), (2, 0, x2), (4, 0, s)]) (w_fX67_setLength_B55 E hN hT x1 x2) zBIG v9
  · refine r_iconst E dX67_setLength_26 (zkI (by decide) (by decide)) ?_
    exact r_zreturn E rfl hT (by decide) dX67_setLength_27
theorem k_fX67_setLength (l : Launch) (G : zG) (x1 : Int) (x2 : Int) : zCt l G yX67_setLength cX67_setLength 5 (some .boolean) 2 [(69, 0), (0, x1), (0, x2)] (some 0) (fX67_setLength x1 x2) := zCt.of (by decide) (Nat.le_of_ble_eq_true rfl) (fun K E _ _ hN hT => w_fX67_setLength E hN hT x1 x2)
theorem dX67_length_0 : decode cX67_length 0 = .ok (.aload_n 0, 1) := by decide +kernel
theorem dX67_length_1 : decode cX67_length 1 = .ok (.iload_n 1, 1) := by decide +kernel
theorem dX67_length_2 : decode cX67_length 2 = .ok (.iconst 2, 1) := by decide +kernel
theorem dX67_length_3 : decode cX67_length 3 = .ok (.invokevirtual 439, 3) := by decide +kernel
theorem dX67_length_6 : decode cX67_length 6 = .ok (.ifCond .eq 15, 3) := by decide +kernel
theorem dX67_length_9 : decode cX67_length 9 = .ok (.iload_n 2, 1) := by decide +kernel
theorem dX67_length_10 : decode cX67_length 10 = .ok (.i2l, 1) := by decide +kernel
theorem dX67_length_11 : decode cX67_length 11 = .ok (.lconst 0, 1) := by decide +kernel
theorem dX67_length_12 : decode cX67_length 12 = .ok (.ldc2_w 464, 3) := by decide +kernel
theorem dX67_length_15 : decode cX67_length 15 = .ok (.invokestatic 363, 3) := by decide +kernel
theorem dX67_length_18 : decode cX67_length 18 = .ok (.ifCond .ne 6, 3) := by decide +kernel
theorem dX67_length_21 : decode cX67_length 21 = .ok (.bipush (-8), 2) := by decide +kernel
theorem dX67_length_23 : decode cX67_length 23 = .ok (.ireturn, 1) := by decide +kernel
theorem dX67_length_24 : decode cX67_length 24 = .ok (.aload_n 0, 1) := by decide +kernel
theorem dX67_length_25 : decode cX67_length 25 = .ok (.getfield 29, 3) := by decide +kernel
theorem dX67_length_28 : decode cX67_length 28 = .ok (.iload_n 1, 1) := by decide +kernel
theorem dX67_length_29 : decode cX67_length 29 = .ok (.iaload, 1) := by decide +kernel
theorem dX67_length_30 : decode cX67_length 30 = .ok (.istore_n 3, 1) := by decide +kernel
theorem dX67_length_31 : decode cX67_length 31 = .ok (.aload_n 0, 1) := by decide +kernel
theorem dX67_length_32 : decode cX67_length 32 = .ok (.iload_n 1, 1) := by decide +kernel
theorem dX67_length_33 : decode cX67_length 33 = .ok (.iload_n 2, 1) := by decide +kernel
theorem dX67_length_34 : decode cX67_length 34 = .ok (.invokevirtual 482, 3) := by decide +kernel
theorem dX67_length_37 : decode cX67_length 37 = .ok (.ifCond .eq 7, 3) := by decide +kernel
theorem dX67_length_40 : decode cX67_length 40 = .ok (.iload_n 3, 1) := by decide +kernel
theorem dX67_length_41 : decode cX67_length 41 = .ok (.goto 5, 3) := by decide +kernel
theorem dX67_length_44 : decode cX67_length 44 = .ok (.bipush (-5), 2) := by decide +kernel
theorem dX67_length_46 : decode cX67_length 46 = .ok (.ireturn, 1) := by decide +kernel
theorem zy_X67_length : yX67_length.cls ≠ "java/lang/invoke/MethodHandle" ∧ yX67_length.cls ≠ "java/lang/invoke/VarHandle" ∧ (parseMethodDescriptor yX67_length.desc).map (fun d => d.parameters.length) = some 2 := by decide +kernel
theorem w_fX67_length {K : zK} (E : zE K cX67_length "RingHouseModel" (some .int) 3) (hN : zNl K = 4) (hT : zTr K = (some 0)) (x1 : Int) (x2 : Int) : zR K 0 [(0, 69, 0), (1, 0, x1), (2, 0, x2)] [] (fX67_length x1 x2) := by
  refine r_aload_n E dX67_length_0 rfl 0 rfl ?_
  refine r_iload_n E dX67_length_1 rfl 1 rfl ?_
  refine r_iconst E dX67_length_2 (zkI (by decide) (by decide)) ?_
  refine r_callV E [(0, x1), (0, 2)] [] rfl zc_69 zr_69 (fun o _ => ⟨_, zw_X67.1 o, rfl⟩) (lw_V q3610 q3612 qs92 q294 q3613) dX67_length_3 zy_X67_isOf rfl (by omega) (by decide) (Nat.le_of_ble_eq_true rfl) (by decide) (fun l G => k_fX67_isOf l G x1 2) (fun v1 => ?_)
  refine r_if_eq E 21 (by decide) dX67_length_6 (fun _ => ?_) (fun _ => ?_)
  · refine r_bipush E dX67_length_21 (by decide) (zkI (by decide) (by decide)) ?_
    exact r_ireturn E rfl hT dX67_length_23
  · refine r_iload_n E dX67_length_9 rfl 2 rfl ?_
    refine r_i2l E dX67_length_10 ?_
    refine r_lconst (v := 0) E dX67_length_11 (by decide) (zkJ (by decide) (by decide)) ?_
    refine r_ldc2 (v := 1024) E dX67_length_12 q3678 (by decide) (zkJ (by decide) (by decide)) ?_
    refine r_callS E [(1, x2), (1, 0), (1, 1024)] [] rfl q3619 q3620 q294 q3621 dX67_length_15 zy_X67_in rfl (by omega) (by decide) (Nat.le_of_ble_eq_true rfl) (fun l G => k_fX67_in l G x2 0 1024) (fun v2 => ?_)
    refine r_if_ne E 24 (by decide) dX67_length_18 (fun _ => ?_) (fun _ => ?_)
    · refine r_aload_n E dX67_length_24 rfl 0 rfl ?_
      refine r_gec (y := 0) E zc_69 dX67_length_25 q3221 zr_69 (zh_6806 (by decide)) (by decide) ?_
      refine r_iload_n E dX67_length_28 rfl 1 rfl ?_
      refine r_iaload E zc_6806 za_6806 zt_6806 zx_6806 rfl rfl dX67_length_29 (by decide) (fun v3 => ?_)
      refine r_istore_n (ls' := [(3, 0, v3), (0, 69, 0), (1, 0, x1), (2, 0, x2)]) E dX67_length_30 rfl (by rw [hN]; decide) rfl ?_
      refine r_aload_n E dX67_length_31 rfl 1 rfl ?_
      refine r_iload_n E dX67_length_32 rfl 2 rfl ?_
      refine r_iload_n E dX67_length_33 rfl 3 rfl ?_
      refine r_callV E [(0, x1), (0, x2)] [] rfl zc_69 zr_69 (fun o _ => ⟨_, zw_X67.1 o, rfl⟩) (lw_V q3714 q3716 qs105 q294 q3717) dX67_length_34 zy_X67_setLength rfl (by omega) (by decide) (Nat.le_of_ble_eq_true rfl) (by decide) (fun l G => k_fX67_setLength l G x1 x2) (fun v4 => ?_)
      refine r_if_eq E 44 (by decide) dX67_length_37 (fun _ => ?_) (fun _ => ?_)
      · refine r_bipush E dX67_length_44 (by decide) (zkI (by decide) (by decide)) ?_
        exact r_ireturn E rfl hT dX67_length_46
      · refine r_iload_n E dX67_length_40 rfl 0 rfl ?_
        refine r_goto E 46 (by decide) dX67_length_41 ?_
        exact r_ireturn E rfl hT dX67_length_46
    · refine r_bipush E dX67_length_21 (by decide) (zkI (by decide) (by decide)) ?_
      exact r_ireturn E rfl hT dX67_length_23
theorem k_fX67_length (l : Launch) (G : zG) (x1 : Int) (x2 : Int) : zCt l G yX67_length cX67_length 4 (some .int) 3 [(69, 0), (0, x1), (0, x2)] (some 0) (fX67_length x1 x2) := zCt.of (by decide) (Nat.le_of_ble_eq_true rfl) (fun K E _ _ hN hT => w_fX67_length E hN hT x1 x2)
theorem dX67_setLimit_0 : decode cX67_setLimit 0 = .ok (.iload_n 2, 1) := by decide +kernel
theorem dX67_setLimit_1 : decode cX67_setLimit 1 = .ok (.aload_n 0, 1) := by decide +kernel
theorem dX67_setLimit_2 : decode cX67_setLimit 2 = .ok (.getfield 35, 3) := by decide +kernel
theorem dX67_setLimit_5 : decode cX67_setLimit 5 = .ok (.iload_n 1, 1) := by decide +kernel
theorem dX67_setLimit_6 : decode cX67_setLimit 6 = .ok (.iaload, 1) := by decide +kernel
theorem dX67_setLimit_7 : decode cX67_setLimit 7 = .ok (.if_icmp .lt 24, 3) := by decide +kernel
theorem dX67_setLimit_10 : decode cX67_setLimit 10 = .ok (.aload_n 0, 1) := by decide +kernel
theorem dX67_setLimit_11 : decode cX67_setLimit 11 = .ok (.aload_n 0, 1) := by decide +kernel
theorem dX67_setLimit_12 : decode cX67_setLimit 12 = .ok (.getfield 17, 3) := by decide +kernel
theorem dX67_setLimit_15 : decode cX67_setLimit 15 = .ok (.iload_n 1, 1) := by decide +kernel
theorem dX67_setLimit_16 : decode cX67_setLimit 16 = .ok (.iaload, 1) := by decide +kernel
theorem dX67_setLimit_17 : decode cX67_setLimit 17 = .ok (.iload_n 2, 1) := by decide +kernel
theorem dX67_setLimit_18 : decode cX67_setLimit 18 = .ok (.aload_n 0, 1) := by decide +kernel
theorem dX67_setLimit_19 : decode cX67_setLimit 19 = .ok (.getfield 32, 3) := by decide +kernel
theorem dX67_setLimit_22 : decode cX67_setLimit 22 = .ok (.iload_n 1, 1) := by decide +kernel
theorem dX67_setLimit_23 : decode cX67_setLimit 23 = .ok (.iaload, 1) := by decide +kernel
theorem dX67_setLimit_24 : decode cX67_setLimit 24 = .ok (.isub, 1) := by decide +kernel
theorem dX67_setLimit_25 : decode cX67_setLimit 25 = .ok (.invokevirtual 454, 3) := by decide +kernel
theorem dX67_setLimit_28 : decode cX67_setLimit 28 = .ok (.ifCond .ne 5, 3) := by decide +kernel
theorem dX67_setLimit_31 : decode cX67_setLimit 31 = .ok (.iconst 0, 1) := by decide +kernel
theorem dX67_setLimit_32 : decode cX67_setLimit 32 = .ok (.ireturn, 1) := by decide +kernel
theorem dX67_setLimit_33 : decode cX67_setLimit 33 = .ok (.aload_n 0, 1) := by decide +kernel
theorem dX67_setLimit_34 : decode cX67_setLimit 34 = .ok (.getfield 35, 3) := by decide +kernel
theorem dX67_setLimit_37 : decode cX67_setLimit 37 = .ok (.aload_n 0, 1) := by decide +kernel
theorem dX67_setLimit_38 : decode cX67_setLimit 38 = .ok (.aload_n 0, 1) := by decide +kernel
theorem dX67_setLimit_39 : decode cX67_setLimit 39 = .ok (.getfield 17, 3) := by decide +kernel
theorem dX67_setLimit_42 : decode cX67_setLimit 42 = .ok (.iload_n 1, 1) := by decide +kernel
theorem dX67_setLimit_43 : decode cX67_setLimit 43 = .ok (.iaload, 1) := by decide +kernel
theorem dX67_setLimit_44 : decode cX67_setLimit 44 = .ok (.invokevirtual 390, 3) := by decide +kernel
theorem dX67_setLimit_47 : decode cX67_setLimit 47 = .ok (.dup2, 1) := by decide +kernel
theorem dX67_setLimit_48 : decode cX67_setLimit 48 = .ok (.iaload, 1) := by decide +kernel
theorem dX67_setLimit_49 : decode cX67_setLimit 49 = .ok (.iload_n 2, 1) := by decide +kernel
theorem dX67_setLimit_50 : decode cX67_setLimit 50 = .ok (.aload_n 0, 1) := by decide +kernel
theorem dX67_setLimit_51 : decode cX67_setLimit 51 = .ok (.getfield 32, 3) := by decide +kernel
theorem dX67_setLimit_54 : decode cX67_setLimit 54 = .ok (.iload_n 1, 1) := by decide +kernel
theorem dX67_setLimit_55 : decode cX67_setLimit 55 = .ok (.iaload, 1) := by decide +kernel
theorem dX67_setLimit_56 : decode cX67_setLimit 56 = .ok (.isub, 1) := by decide +kernel
theorem dX67_setLimit_57 : decode cX67_setLimit 57 = .ok (.iadd, 1) := by decide +kernel
theorem dX67_setLimit_58 : decode cX67_setLimit 58 = .ok (.iastore, 1) := by decide +kernel
theorem dX67_setLimit_59 : decode cX67_setLimit 59 = .ok (.aload_n 0, 1) := by decide +kernel
theorem dX67_setLimit_60 : decode cX67_setLimit 60 = .ok (.getfield 32, 3) := by decide +kernel
theorem dX67_setLimit_63 : decode cX67_setLimit 63 = .ok (.iload_n 1, 1) := by decide +kernel
theorem dX67_setLimit_64 : decode cX67_setLimit 64 = .ok (.iload_n 2, 1) := by decide +kernel
theorem dX67_setLimit_65 : decode cX67_setLimit 65 = .ok (.iastore, 1) := by decide +kernel
theorem dX67_setLimit_66 : decode cX67_setLimit 66 = .ok (.iconst 1, 1) := by decide +kernel
theorem dX67_setLimit_67 : decode cX67_setLimit 67 = .ok (.ireturn, 1) := by decide +kernel
theorem zy_X67_setLimit : yX67_setLimit.cls ≠ "java/lang/invoke/MethodHandle" ∧ yX67_setLimit.cls ≠ "java/lang/invoke/VarHandle" ∧ (parseMethodDescriptor yX67_setLimit.desc).map (fun d => d.parameters.length) = some 2 := by decide +kernel
theorem w_fX67_setLimit {K : zK} (E : zE K cX67_setLimit "RingHouseModel" (some .boolean) 2) (hN : zNl K = 3) (hT : zTr K = (some 0)) (x1 : Int) (x2 : Int) : zR K 0 [(0, 69, 0), (1, 0, x1), (2, 0, x2)] [] (fX67_setLimit x1 x2) := by
  refine r_iload_n E dX67_setLimit_0 rfl 2 rfl ?_
  refine r_aload_n E dX67_setLimit_1 rfl 0 rfl ?_
  refine r_gec (y := 0) E zc_69 dX67_setLimit_2 q3223 zr_69 (zh_6808 (by decide)) (by decide) ?_
  refine r_iload_n E dX67_setLimit_5 rfl 1 rfl ?_
  refine r_iaload E zc_6808 za_6808 zt_6808 zx_6808 rfl rfl dX67_setLimit_6 (by decide) (fun v1 => ?_)
  refine r_icmp_lt E 31 (by decide) dX67_setLimit_7 (fun _ => ?_) (fun _ => ?_)
  · refine r_iconst E dX67_setLimit_31 (zkI (by decide) (by decide)) ?_
    exact r_zreturn E rfl hT (by decide) dX67_setLimit_32
  · refine r_aload_n E dX67_setLimit_10 rfl 0 rfl ?_
    refine r_aload_n E dX67_setLimit_11 rfl 0 rfl ?_
    refine r_gec (y := 0) E zc_69 dX67_setLimit_12 q3217 zr_69 (zh_6802 (by decide)) (by decide) ?_
    refine r_iload_n E dX67_setLimit_15 rfl 1 rfl ?_
    refine r_iaload E zc_6802 za_6802 zt_6802 zx_6802 rfl rfl dX67_setLimit_16 (by decide) (fun v2 => ?_)
    refine r_iload_n E dX67_setLimit_17 rfl 2 rfl ?_
    refine r_aload_n E dX67_setLimit_18 rfl 0 rfl ?_
    refine r_gec (y := 0) E zc_69 dX67_setLimit_19 q3222 zr_69 (zh_6807 (by decide)) (by decide) ?_
    refine r_iload_n E dX67_setLimit_22 rfl 1 rfl ?_
    refine r_iaload E zc_6807 za_6807 zt_6807 zx_6807 rfl rfl dX67_setLimit_23 (by decide) (fun v3 => ?_)
    refine r_isub E dX67_setLimit_24 ?_
    refine r_callV E [(0, v2), (0, (zi (x2 - v3)))] [] rfl zc_69 zr_69 (fun o _ => ⟨_, zw_X67.1 o, rfl⟩) (lw_V q3642 q3644 qs95 q294 q3645) dX67_setLimit_25 zy_X67_hasRoom rfl (by omega) (by decide) (Nat.le_of_ble_eq_true rfl) (by decide) (fun l G => k_fX67_hasRoom l G v2 (zi (x2 - v3))) (fun v4 => ?_)
    refine r_if_ne E 33 (by decide) dX67_setLimit_28 (fun _ => ?_) (fun _ => ?_)
    · refine r_aload_n E dX67_setLimit_33 rfl 0 rfl ?_
      refine r_gec (y := 0) E zc_69 dX67_setLimit_34 q3223 zr_69 (zh_6808 (by decide)) (by decide) ?_
      refine r_aload_n E dX67_setLimit_37 rfl 0 rfl ?_
      refine r_aload_n E dX67_setLimit_38 rfl 0 rfl ?_
      refine r_gec (y := 0) E zc_69 dX67_setLimit_39 q3217 zr_69 (zh_6802 (by decide)) (by decide) ?_
      refine r_iload_n E dX67_setLimit_42 rfl 1 rfl ?_
      refine r_iaload E zc_6802 za_6802 zt_6802 zx_6802 rfl rfl dX67_setLimit_43 (by decide) (fun v5 => ?_)
      refine r_callV E [(0, v5)] [(6808, 0)] rfl zc_69 zr_69 (fun o _ => ⟨_, zw_X67.1 o, rfl⟩) (lw_V q3646 q3648 qs96 q294 q3649) dX67_setLimit_44 zy_X67_account rfl (by omega) (by decide) (Nat.le_of_ble_eq_true rfl) (by decide) (fun l G => k_fX67_account l G v5) (fun v6 => ?_)
      refine r_dup22 E (zn1 rfl) (zn1 rfl) dX67_setLimit_47 ?_
      refine r_iaload E zc_6808 za_6808 zt_6808 zx_6808 rfl rfl dX67_setLimit_48 (by decide) (fun v7 => ?_)
      refine r_iload_n E dX67_setLimit_49 rfl 2 rfl ?_
      refine r_aload_n E dX67_setLimit_50 rfl 0 rfl ?_
      refine r_gec (y := 0) E zc_69 dX67_setLimit_51 q3222 zr_69 (zh_6807 (by decide)) (by decide) ?_
      refine r_iload_n E dX67_setLimit_54 rfl 1 rfl ?_
      refine r_iaload E zc_6807 za_6807 zt_6807 zx_6807 rfl rfl dX67_setLimit_55 (by decide) (fun v8 => ?_)
      refine r_isub E dX67_setLimit_56 ?_
      refine r_iadd E dX67_setLimit_57 ?_
      refine r_iastore E zc_6808 za_6808 zt_6808 zo_6808 zx_6808 rfl rfl dX67_setLimit_58 (by decide) ?_
      refine r_aload_n E dX67_setLimit_59 rfl 0 rfl ?_
      refine r_gec (y := 0) E zc_69 dX67_setLimit_60 q3222 zr_69 (zh_6807 (by decide)) (by decide) ?_
      refine r_iload_n E dX67_setLimit_63 rfl 1 rfl ?_
      refine r_iload_n E dX67_setLimit_64 rfl 2 rfl ?_
      refine r_iastore E zc_6807 za_6807 zt_6807 zo_6807 zx_6807 rfl rfl dX67_setLimit_65 (by decide) ?_
      refine r_iconst E dX67_setLimit_66 (zkI (by decide) (by decide)) ?_
      exact r_zreturn E rfl hT (by decide) dX67_setLimit_67
    · refine r_iconst E dX67_setLimit_31 (zkI (by decide) (by decide)) ?_
      exact r_zreturn E rfl hT (by decide) dX67_setLimit_32
theorem k_fX67_setLimit (l : Launch) (G : zG) (x1 : Int) (x2 : Int) : zCt l G yX67_setLimit cX67_setLimit 3 (some .boolean) 2 [(69, 0), (0, x1), (0, x2)] (some 0) (fX67_setLimit x1 x2) := zCt.of (by decide) (Nat.le_of_ble_eq_true rfl) (fun K E _ _ hN hT => w_fX67_setLimit E hN hT x1 x2)
theorem dX67_limit_0 : decode cX67_limit 0 = .ok (.aload_n 0, 1) := by decide +kernel
theorem dX67_limit_1 : decode cX67_limit 1 = .ok (.iload_n 1, 1) := by decide +kernel
theorem dX67_limit_2 : decode cX67_limit 2 = .ok (.iconst 1, 1) := by decide +kernel
theorem dX67_limit_3 : decode cX67_limit 3 = .ok (.invokevirtual 439, 3) := by decide +kernel
theorem dX67_limit_6 : decode cX67_limit 6 = .ok (.ifCond .eq 28, 3) := by decide +kernel
theorem dX67_limit_9 : decode cX67_limit 9 = .ok (.iload_n 1, 1) := by decide +kernel
theorem dX67_limit_10 : decode cX67_limit 10 = .ok (.ifCond .eq 24, 3) := by decide +kernel
theorem dX67_limit_13 : decode cX67_limit 13 = .ok (.aload_n 0, 1) := by decide +kernel
theorem dX67_limit_14 : decode cX67_limit 14 = .ok (.getfield 32, 3) := by decide +kernel
theorem dX67_limit_17 : decode cX67_limit 17 = .ok (.iload_n 1, 1) := by decide +kernel
theorem dX67_limit_18 : decode cX67_limit 18 = .ok (.iaload, 1) := by decide +kernel
theorem dX67_limit_19 : decode cX67_limit 19 = .ok (.ifCond .eq 15, 3) := by decide +kernel
theorem dX67_limit_22 : decode cX67_limit 22 = .ok (.iload_n 2, 1) := by decide +kernel
theorem dX67_limit_23 : decode cX67_limit 23 = .ok (.i2l, 1) := by decide +kernel
theorem dX67_limit_24 : decode cX67_limit 24 = .ok (.lconst 1, 1) := by decide +kernel
theorem dX67_limit_25 : decode cX67_limit 25 = .ok (.ldc2_w 377, 3) := by decide +kernel
theorem dX67_limit_28 : decode cX67_limit 28 = .ok (.invokestatic 363, 3) := by decide +kernel
theorem dX67_limit_31 : decode cX67_limit 31 = .ok (.ifCond .ne 6, 3) := by decide +kernel
theorem dX67_limit_34 : decode cX67_limit 34 = .ok (.bipush (-8), 2) := by decide +kernel
theorem dX67_limit_36 : decode cX67_limit 36 = .ok (.ireturn, 1) := by decide +kernel
theorem dX67_limit_37 : decode cX67_limit 37 = .ok (.aload_n 0, 1) := by decide +kernel
theorem dX67_limit_38 : decode cX67_limit 38 = .ok (.getfield 32, 3) := by decide +kernel
theorem dX67_limit_41 : decode cX67_limit 41 = .ok (.iload_n 1, 1) := by decide +kernel
theorem dX67_limit_42 : decode cX67_limit 42 = .ok (.iaload, 1) := by decide +kernel
theorem dX67_limit_43 : decode cX67_limit 43 = .ok (.istore_n 3, 1) := by decide +kernel
theorem dX67_limit_44 : decode cX67_limit 44 = .ok (.aload_n 0, 1) := by decide +kernel
theorem dX67_limit_45 : decode cX67_limit 45 = .ok (.iload_n 1, 1) := by decide +kernel
theorem dX67_limit_46 : decode cX67_limit 46 = .ok (.iload_n 2, 1) := by decide +kernel
theorem dX67_limit_47 : decode cX67_limit 47 = .ok (.invokevirtual 485, 3) := by decide +kernel
theorem dX67_limit_50 : decode cX67_limit 50 = .ok (.ifCond .eq 7, 3) := by decide +kernel
theorem dX67_limit_53 : decode cX67_limit 53 = .ok (.iload_n 3, 1) := by decide +kernel
theorem dX67_limit_54 : decode cX67_limit 54 = .ok (.goto 5, 3) := by decide +kernel
theorem dX67_limit_57 : decode cX67_limit 57 = .ok (.bipush (-5), 2) := by decide +kernel
theorem dX67_limit_59 : decode cX67_limit 59 = .ok (.ireturn, 1) := by decide +kernel
theorem zy_X67_limit : yX67_limit.cls ≠ "java/lang/invoke/MethodHandle" ∧ yX67_limit.cls ≠ "java/lang/invoke/VarHandle" ∧ (parseMethodDescriptor yX67_limit.desc).map (fun d => d.parameters.length) = some 2 := by decide +kernel
theorem w_fX67_limit {K : zK} (E : zE K cX67_limit "RingHouseModel" (some .int) 3) (hN : zNl K = 4) (hT : zTr K = (some 0)) (x1 : Int) (x2 : Int) : zR K 0 [(0, 69, 0), (1, 0, x1), (2, 0, x2)] [] (fX67_limit x1 x2) := by
  refine r_aload_n E dX67_limit_0 rfl 0 rfl ?_
  refine r_iload_n E dX67_limit_1 rfl 1 rfl ?_
  refine r_iconst E dX67_limit_2 (zkI (by decide) (by decide)) ?_
  refine r_callV E [(0, x1), (0, 1)] [] rfl zc_69 zr_69 (fun o _ => ⟨_, zw_X67.1 o, rfl⟩) (lw_V q3610 q3612 qs92 q294 q3613) dX67_limit_3 zy_X67_isOf rfl (by omega) (by decide) (Nat.le_of_ble_eq_true rfl) (by decide) (fun l G => k_fX67_isOf l G x1 1) (fun v1 => ?_)
  refine r_if_eq E 34 (by decide) dX67_limit_6 (fun _ => ?_) (fun _ => ?_)
  · refine r_bipush E dX67_limit_34 (by decide) (zkI (by decide) (by decide)) ?_
    exact r_ireturn E rfl hT dX67_limit_36
  · refine r_iload_n E dX67_limit_9 rfl 1 rfl ?_
    refine r_if_eq E 34 (by decide) dX67_limit_10 (fun _ => ?_) (fun _ => ?_)
    · refine r_bipush E dX67_limit_34 (by decide) (zkI (by decide) (by decide)) ?_
      exact r_ireturn E rfl hT dX67_limit_36
    · refine r_aload_n E dX67_limit_13 rfl 0 rfl ?_
      refine r_gec (y := 0) E zc_69 dX67_limit_14 q3222 zr_69 (zh_6807 (by decide)) (by decide) ?_
      refine r_iload_n E dX67_limit_17 rfl 1 rfl ?_
      refine r_iaload E zc_6807 za_6807 zt_6807 zx_6807 rfl rfl dX67_limit_18 (by decide) (fun v2 => ?_)
      refine r_if_eq E 34 (by decide) dX67_limit_19 (fun _ => ?_) (fun _ => ?_)
      · refine r_bipush E dX67_limit_34 (by decide) (zkI (by decide) (by decide)) ?_
        exact r_ireturn E rfl hT dX67_limit_36
      · refine r_iload_n E dX67_limit_22 rfl 2 rfl ?_
        refine r_i2l E dX67_limit_23 ?_
        refine r_lconst (v := 1) E dX67_limit_24 (by decide) (zkJ (by decide) (by decide)) ?_
        refine r_ldc2 (v := 255) E dX67_limit_25 q3618 (by decide) (zkJ (by decide) (by decide)) ?_
        refine r_callS E [(1, x2), (1, 1), (1, 255)] [] rfl q3619 q3620 q294 q3621 dX67_limit_28 zy_X67_in rfl (by omega) (by decide) (Nat.le_of_ble_eq_true rfl) (fun l G => k_fX67_in l G x2 1 255) (fun v3 => ?_)
        refine r_if_ne E 37 (by decide) dX67_limit_31 (fun _ => ?_) (fun _ => ?_)
        · refine r_aload_n E dX67_limit_37 rfl 0 rfl ?_
          refine r_gec (y := 0) E zc_69 dX67_limit_38 q3222 zr_69 (zh_6807 (by decide)) (by decide) ?_
          refine r_iload_n E dX67_limit_41 rfl 1 rfl ?_
          refine r_iaload E zc_6807 za_6807 zt_6807 zx_6807 rfl rfl dX67_limit_42 (by decide) (fun v4 => ?_)
          refine r_istore_n (ls' := [(3, 0, v4), (0, 69, 0), (1, 0, x1), (2, 0, x2)]) E dX67_limit_43 rfl (by rw [hN]; decide) rfl ?_
          refine r_aload_n E dX67_limit_44 rfl 1 rfl ?_
          refine r_iload_n E dX67_limit_45 rfl 2 rfl ?_
          refine r_iload_n E dX67_limit_46 rfl 3 rfl ?_
          refine r_callV E [(0, x1), (0, x2)] [] rfl zc_69 zr_69 (fun o _ => ⟨_, zw_X67.1 o, rfl⟩) (lw_V q3726 q3728 qs107 q294 q3729) dX67_limit_47 zy_X67_setLimit rfl (by omega) (by decide) (Nat.le_of_ble_eq_true rfl) (by decide) (fun l G => k_fX67_setLimit l G x1 x2) (fun v5 => ?_)
          refine r_if_eq E 57 (by decide) dX67_limit_50 (fun _ => ?_) (fun _ => ?_)
          · refine r_bipush E dX67_limit_57 (by decide) (zkI (by decide) (by decide)) ?_
            exact r_ireturn E rfl hT dX67_limit_59
          · refine r_iload_n E dX67_limit_53 rfl 0 rfl ?_
            refine r_goto E 59 (by decide) dX67_limit_54 ?_
            exact r_ireturn E rfl hT dX67_limit_59
        · refine r_bipush E dX67_limit_34 (by decide) (zkI (by decide) (by decide)) ?_
          exact r_ireturn E rfl hT dX67_limit_36
theorem k_fX67_limit (l : Launch) (G : zG) (x1 : Int) (x2 : Int) : zCt l G yX67_limit cX67_limit 4 (some .int) 3 [(69, 0), (0, x1), (0, x2)] (some 0) (fX67_limit x1 x2) := zCt.of (by decide) (Nat.le_of_ble_eq_true rfl) (fun K E _ _ hN hT => w_fX67_limit E hN hT x1 x2)
theorem dX67_rename_0 : decode cX67_rename 0 = .ok (.aload_n 0, 1) := by decide +kernel
theorem dX67_rename_1 : decode cX67_rename 1 = .ok (.iload_n 1, 1) := by decide +kernel
theorem dX67_rename_2 : decode cX67_rename 2 = .ok (.invokevirtual 379, 3) := by decide +kernel
theorem dX67_rename_5 : decode cX67_rename 5 = .ok (.ifCond .eq 14, 3) := by decide +kernel
theorem dX67_rename_8 : decode cX67_rename 8 = .ok (.iload_n 1, 1) := by decide +kernel
theorem dX67_rename_9 : decode cX67_rename 9 = .ok (.ifCond .eq 10, 3) := by decide +kernel
theorem dX67_rename_12 : decode cX67_rename 12 = .ok (.lload_n 2, 1) := by decide +kernel
theorem dX67_rename_13 : decode cX67_rename 13 = .ok (.invokestatic 442, 3) := by decide +kernel
theorem dX67_rename_16 : decode cX67_rename 16 = .ok (.ifCond .ne 6, 3) := by decide +kernel
theorem dX67_rename_19 : decode cX67_rename 19 = .ok (.bipush (-8), 2) := by decide +kernel
theorem dX67_rename_21 : decode cX67_rename 21 = .ok (.ireturn, 1) := by decide +kernel
theorem dX67_rename_22 : decode cX67_rename 22 = .ok (.aload_n 0, 1) := by decide +kernel
theorem dX67_rename_23 : decode cX67_rename 23 = .ok (.aload_n 0, 1) := by decide +kernel
theorem dX67_rename_24 : decode cX67_rename 24 = .ok (.getfield 17, 3) := by decide +kernel
theorem dX67_rename_27 : decode cX67_rename 27 = .ok (.iload_n 1, 1) := by decide +kernel
theorem dX67_rename_28 : decode cX67_rename 28 = .ok (.iaload, 1) := by decide +kernel
theorem dX67_rename_29 : decode cX67_rename 29 = .ok (.lload_n 2, 1) := by decide +kernel
theorem dX67_rename_30 : decode cX67_rename 30 = .ok (.invokevirtual 450, 3) := by decide +kernel
theorem dX67_rename_33 : decode cX67_rename 33 = .ok (.istore 4, 2) := by decide +kernel
theorem dX67_rename_35 : decode cX67_rename 35 = .ok (.iload 4, 2) := by decide +kernel
theorem dX67_rename_37 : decode cX67_rename 37 = .ok (.ifCond .lt 12, 3) := by decide +kernel
theorem dX67_rename_40 : decode cX67_rename 40 = .ok (.iload 4, 2) := by decide +kernel
theorem dX67_rename_42 : decode cX67_rename 42 = .ok (.iload_n 1, 1) := by decide +kernel
theorem dX67_rename_43 : decode cX67_rename 43 = .ok (.if_icmp .eq 6, 3) := by decide +kernel
theorem dX67_rename_46 : decode cX67_rename 46 = .ok (.bipush (-6), 2) := by decide +kernel
theorem dX67_rename_48 : decode cX67_rename 48 = .ok (.ireturn, 1) := by decide +kernel
theorem dX67_rename_49 : decode cX67_rename 49 = .ok (.aload_n 0, 1) := by decide +kernel
theorem dX67_rename_50 : decode cX67_rename 50 = .ok (.getfield 13, 3) := by decide +kernel
theorem dX67_rename_53 : decode cX67_rename 53 = .ok (.iload_n 1, 1) := by decide +kernel
theorem dX67_rename_54 : decode cX67_rename 54 = .ok (.lload_n 2, 1) := by decide +kernel
theorem dX67_rename_55 : decode cX67_rename 55 = .ok (.lastore, 1) := by decide +kernel
theorem dX67_rename_56 : decode cX67_rename 56 = .ok (.iconst 0, 1) := by decide +kernel
theorem dX67_rename_57 : decode cX67_rename 57 = .ok (.ireturn, 1) := by decide +kernel
theorem zy_X67_rename : yX67_rename.cls ≠ "java/lang/invoke/MethodHandle" ∧ yX67_rename.cls ≠ "java/lang/invoke/VarHandle" ∧ (parseMethodDescriptor yX67_rename.desc).map (fun d => d.parameters.length) = some 2 := by decide +kernel
theorem w_fX67_rename_J49 {K : zK} (E : zE K cX67_rename "RingHouseModel" (some .int) 3) (hN : zNl K = 5) (hT : zTr K = (some 0)) (x1 : Int) (x2 : Int) : zR K 49 [(0, 69, 0), (1, 0, x1), (2, 1, x2)] [] (fX67_rename_J49 x1 x2) := by
  refine r_aload_n E dX67_rename_49 rfl 0 rfl ?_
  refine r_gec (y := 0) E zc_69 dX67_rename_50 q3216 zr_69 (zh_6801 (by decide)) (by decide) ?_
  refine r_iload_n E dX67_rename_53 rfl 1 rfl ?_
  refine r_lload_n E dX67_rename_54 rfl 2 rfl ?_
  refine r_lastore E zc_6801 za_6801 zt_6801 zo_6801 zx_6801 rfl rfl dX67_rename_55 (by decide) ?_
  refine r_iconst E dX67_rename_56 (zkI (by decide) (by decide)) ?_
  exact r_ireturn E rfl hT dX67_rename_57
theorem w_fX67_rename {K : zK} (E : zE K cX67_rename "RingHouseModel" (some .int) 3) (hN : zNl K = 5) (hT : zTr K = (some 0)) (x1 : Int) (x2 : Int) : zR K 0 [(0, 69, 0), (1, 0, x1), (2, 1, x2)] [] (fX67_rename x1 x2) := by
  refine r_aload_n E dX67_rename_0 rfl 0 rfl ?_
  refine r_iload_n E dX67_rename_1 rfl 1 rfl ?_
  refine r_callV E [(0, x1)] [] rfl zc_69 zr_69 (fun o _ => ⟨_, zw_X67.1 o, rfl⟩) (lw_V q3614 q3616 qs93 q294 q3617) dX67_rename_2 zy_X67_isNode rfl (by omega) (by decide) (Nat.le_of_ble_eq_true rfl) (by decide) (fun l G => k_fX67_isNode l G x1) (fun v1 => ?_)
  refine r_if_eq E 19 (by decide) dX67_rename_5 (fun _ => ?_) (fun _ => ?_)
  · refine r_bipush E dX67_rename_19 (by decide) (zkI (by decide) (by decide)) ?_
    exact r_ireturn E rfl hT dX67_rename_21
  · refine r_iload_n E dX67_rename_8 rfl 1 rfl ?_
    refine r_if_eq E 19 (by decide) dX67_rename_9 (fun _ => ?_) (fun _ => ?_)
    · refine r_bipush E dX67_rename_19 (by decide) (zkI (by decide) (by decide)) ?_
      exact r_ireturn E rfl hT dX67_rename_21
    · refine r_lload_n E dX67_rename_12 rfl 2 rfl ?_
      refine r_callS E [(1, x2)] [] rfl q3622 q3623 q294 q3624 dX67_rename_13 zy_X67_isName rfl (by omega) (by decide) (Nat.le_of_ble_eq_true rfl) (fun l G => k_fX67_isName l G x2) (fun v2 => ?_)
      refine r_if_ne E 22 (by decide) dX67_rename_16 (fun _ => ?_) (fun _ => ?_)
      · refine r_aload_n E dX67_rename_22 rfl 0 rfl ?_
        refine r_aload_n E dX67_rename_23 rfl 0 rfl ?_
        refine r_gec (y := 0) E zc_69 dX67_rename_24 q3217 zr_69 (zh_6802 (by decide)) (by decide) ?_
        refine r_iload_n E dX67_rename_27 rfl 1 rfl ?_
        refine r_iaload E zc_6802 za_6802 zt_6802 zx_6802 rfl rfl dX67_rename_28 (by decide) (fun v3 => ?_)
        refine r_lload_n E dX67_rename_29 rfl 2 rfl ?_
        refine r_callV E [(0, v3), (1, x2)] [] rfl zc_69 zr_69 (fun o _ => ⟨_, zw_X67.1 o, rfl⟩) (lw_V q3635 q3637 qs94 q294 q3638) dX67_rename_30 zy_X67_entryNamed rfl (by omega) (by decide) (Nat.le_of_ble_eq_true rfl) (by decide) (fun l G => k_fX67_entryNamed l G v3 x2) (fun v4 => ?_)
        refine r_istore (ls' := [(4, 0, v4), (0, 69, 0), (1, 0, x1), (2, 1, x2)]) E dX67_rename_33 (by rw [hN]; decide) rfl ?_
        refine r_iload E dX67_rename_35 0 rfl ?_
        refine r_if_lt E 49 (by decide) dX67_rename_37 (fun _ => ?_) (fun _ => ?_)
        · refine r_pick E [1, 2, 3] rfl ?_
          exact w_fX67_rename_J49 E hN hT x1 x2
        · refine r_iload E dX67_rename_40 0 rfl ?_
          refine r_iload_n E dX67_rename_42 rfl 2 rfl ?_
          refine r_icmp_eq E 49 (by decide) dX67_rename_43 (fun _ => ?_) (fun _ => ?_)
          · refine r_pick E [1, 2, 3] rfl ?_
            exact w_fX67_rename_J49 E hN hT x1 x2
          · refine r_bipush E dX67_rename_46 (by decide) (zkI (by decide) (by decide)) ?_
            exact r_ireturn E rfl hT dX67_rename_48
      · refine r_bipush E dX67_rename_19 (by decide) (zkI (by decide) (by decide)) ?_
        exact r_ireturn E rfl hT dX67_rename_21
theorem k_fX67_rename (l : Launch) (G : zG) (x1 : Int) (x2 : Int) : zCt l G yX67_rename cX67_rename 5 (some .int) 3 [(69, 0), (0, x1), (1, x2)] (some 0) (fX67_rename x1 x2) := zCt.of (by decide) (Nat.le_of_ble_eq_true rfl) (fun K E _ _ hN hT => w_fX67_rename E hN hT x1 x2)
theorem dX67_forget_0 : decode cX67_forget 0 = .ok (.aload_n 0, 1) := by decide +kernel
theorem dX67_forget_1 : decode cX67_forget 1 = .ok (.getfield 125, 3) := by decide +kernel
theorem dX67_forget_4 : decode cX67_forget 4 = .ok (.bipush 32, 2) := by decide +kernel
theorem dX67_forget_6 : decode cX67_forget 6 = .ok (.iload_n 1, 1) := by decide +kernel
theorem dX67_forget_7 : decode cX67_forget 7 = .ok (.imul, 1) := by decide +kernel
theorem dX67_forget_8 : decode cX67_forget 8 = .ok (.iload_n 2, 1) := by decide +kernel
theorem dX67_forget_9 : decode cX67_forget 9 = .ok (.iadd, 1) := by decide +kernel
theorem dX67_forget_10 : decode cX67_forget 10 = .ok (.iconst (-1), 1) := by decide +kernel
theorem dX67_forget_11 : decode cX67_forget 11 = .ok (.iastore, 1) := by decide +kernel
theorem dX67_forget_12 : decode cX67_forget 12 = .ok (.sipush 512, 3) := by decide +kernel
theorem dX67_forget_15 : decode cX67_forget 15 = .ok (.iload_n 1, 1) := by decide +kernel
theorem dX67_forget_16 : decode cX67_forget 16 = .ok (.imul, 1) := by decide +kernel
theorem dX67_forget_17 : decode cX67_forget 17 = .ok (.istore_n 3, 1) := by decide +kernel
theorem dX67_forget_18 : decode cX67_forget 18 = .ok (.iload_n 3, 1) := by decide +kernel
theorem dX67_forget_19 : decode cX67_forget 19 = .ok (.sipush 512, 3) := by decide +kernel
theorem dX67_forget_22 : decode cX67_forget 22 = .ok (.iload_n 1, 1) := by decide +kernel
theorem dX67_forget_23 : decode cX67_forget 23 = .ok (.imul, 1) := by decide +kernel
theorem dX67_forget_24 : decode cX67_forget 24 = .ok (.sipush 512, 3) := by decide +kernel
theorem dX67_forget_27 : decode cX67_forget 27 = .ok (.iadd, 1) := by decide +kernel
theorem dX67_forget_28 : decode cX67_forget 28 = .ok (.if_icmp .ge 80, 3) := by decide +kernel
theorem dX67_forget_31 : decode cX67_forget 31 = .ok (.iload_n 3, 1) := by decide +kernel
theorem dX67_forget_32 : decode cX67_forget 32 = .ok (.sipush 512, 3) := by decide +kernel
theorem dX67_forget_35 : decode cX67_forget 35 = .ok (.iload_n 1, 1) := by decide +kernel
theorem dX67_forget_36 : decode cX67_forget 36 = .ok (.imul, 1) := by decide +kernel
theorem dX67_forget_37 : decode cX67_forget 37 = .ok (.isub, 1) := by decide +kernel
theorem dX67_forget_38 : decode cX67_forget 38 = .ok (.bipush 16, 2) := by decide +kernel
theorem dX67_forget_40 : decode cX67_forget 40 = .ok (.idiv, 1) := by decide +kernel
theorem dX67_forget_41 : decode cX67_forget 41 = .ok (.iload_n 2, 1) := by decide +kernel
theorem dX67_forget_42 : decode cX67_forget 42 = .ok (.if_icmp .ne 7, 3) := by decide +kernel
theorem dX67_forget_45 : decode cX67_forget 45 = .ok (.iconst 1, 1) := by decide +kernel
theorem dX67_forget_46 : decode cX67_forget 46 = .ok (.goto 4, 3) := by decide +kernel
theorem dX67_forget_49 : decode cX67_forget 49 = .ok (.iconst 0, 1) := by decide +kernel
theorem dX67_forget_50 : decode cX67_forget 50 = .ok (.istore 4, 2) := by decide +kernel
theorem dX67_forget_52 : decode cX67_forget 52 = .ok (.aload_n 0, 1) := by decide +kernel
theorem dX67_forget_53 : decode cX67_forget 53 = .ok (.getfield 128, 3) := by decide +kernel
theorem dX67_forget_56 : decode cX67_forget 56 = .ok (.iload_n 3, 1) := by decide +kernel
theorem dX67_forget_57 : decode cX67_forget 57 = .ok (.iload 4, 2) := by decide +kernel
theorem dX67_forget_59 : decode cX67_forget 59 = .ok (.ifCond .ne 30, 3) := by decide +kernel
theorem dX67_forget_62 : decode cX67_forget 62 = .ok (.aload_n 0, 1) := by decide +kernel
theorem dX67_forget_63 : decode cX67_forget 63 = .ok (.getfield 128, 3) := by decide +kernel
theorem dX67_forget_66 : decode cX67_forget 66 = .ok (.iload_n 3, 1) := by decide +kernel
theorem dX67_forget_67 : decode cX67_forget 67 = .ok (.laload, 1) := by decide +kernel
theorem dX67_forget_68 : decode cX67_forget 68 = .ok (.lconst 0, 1) := by decide +kernel
theorem dX67_forget_69 : decode cX67_forget 69 = .ok (.lcmp, 1) := by decide +kernel
theorem dX67_forget_70 : decode cX67_forget 70 = .ok (.ifCond .lt 25, 3) := by decide +kernel
theorem dX67_forget_73 : decode cX67_forget 73 = .ok (.aload_n 0, 1) := by decide +kernel
theorem dX67_forget_74 : decode cX67_forget 74 = .ok (.getfield 128, 3) := by decide +kernel
theorem dX67_forget_77 : decode cX67_forget 77 = .ok (.iload_n 3, 1) := by decide +kernel
theorem dX67_forget_78 : decode cX67_forget 78 = .ok (.laload, 1) := by decide +kernel
theorem dX67_forget_79 : decode cX67_forget 79 = .ok (.ldc2_w 420, 3) := by decide +kernel
theorem dX67_forget_82 : decode cX67_forget 82 = .ok (.ldiv, 1) := by decide +kernel
theorem dX67_forget_83 : decode cX67_forget 83 = .ok (.iload_n 2, 1) := by decide +kernel
theorem dX67_forget_84 : decode cX67_forget 84 = .ok (.i2l, 1) := by decide +kernel
theorem dX67_forget_85 : decode cX67_forget 85 = .ok (.lcmp, 1) := by decide +kernel
theorem dX67_forget_86 : decode cX67_forget 86 = .ok (.ifCond .ne 9, 3) := by decide +kernel
theorem dX67_forget_89 : decode cX67_forget 89 = .ok (.ldc2_w 422, 3) := by decide +kernel
theorem dX67_forget_92 : decode cX67_forget 92 = .ok (.goto 9, 3) := by decide +kernel
theorem dX67_forget_95 : decode cX67_forget 95 = .ok (.aload_n 0, 1) := by decide +kernel
theorem dX67_forget_96 : decode cX67_forget 96 = .ok (.getfield 128, 3) := by decide +kernel
theorem dX67_forget_99 : decode cX67_forget 99 = .ok (.iload_n 3, 1) := by decide +kernel
theorem dX67_forget_100 : decode cX67_forget 100 = .ok (.laload, 1) := by decide +kernel
theorem dX67_forget_101 : decode cX67_forget 101 = .ok (.lastore, 1) := by decide +kernel
theorem dX67_forget_102 : decode cX67_forget 102 = .ok (.iinc 3 1, 3) := by decide +kernel
theorem dX67_forget_105 : decode cX67_forget 105 = .ok (.goto (-87), 3) := by decide +kernel
theorem dX67_forget_108 : decode cX67_forget 108 = .ok (.return_, 1) := by decide +kernel
theorem zy_X67_forget : yX67_forget.cls ≠ "java/lang/invoke/MethodHandle" ∧ yX67_forget.cls ≠ "java/lang/invoke/VarHandle" ∧ (parseMethodDescriptor yX67_forget.desc).map (fun d => d.parameters.length) = some 2 := by decide +kernel
theorem w_fX67_forget_J101 {K : zK} (E : zE K cX67_forget "RingHouseModel" none 0) (hN : zNl K = 5) (hT : zTr K = none) (x1 : Int) (x2 : Int) (x3 : Int) (s1 : Int) (s2 : Int) {r18 : Int → zX} (hr18 : ∀ s : Int, zR K 18 [(0, 69, 0), (1, 0, x1), (2, 0, x2), (3, 0, s)] [] (r18 s)) : zR K 101 [(0, 69, 0), (1, 0, x1), (2, 0, x2), (3, 0, x3)] [(1, s2), (0, s1), (6839, 0)] (fX67_forget_J101 r18 x1 x2 x3 s1 s2) := by
  refine r_lastore E zc_6839 za_6839 zt_6839 zo_6839 zx_6839 rfl rfl dX67_forget_101 (by decide) ?_
  refine r_iinc (ls' := fun v2 => [(3, 0, v2), (0, 69, 0), (1, 0, x1), (2, 0, x2)]) E 3 rfl (by rw [hN]; decide) (fun _ => rfl) dX67_forget_102 (fun v2 _ => ?_)
  refine r_goto E 18 (by decide) dX67_forget_105 ?_
  refine r_pick E [1, 2, 3, 0] rfl ?_
  exact hr18 v2
theorem w_fX67_forget_J89 {K : zK} (E : zE K cX67_forget "RingHouseModel" none 0) (hN : zNl K = 5) (hT : zTr K = none) (x1 : Int) (x2 : Int) (x3 : Int) (s1 : Int) {r18 : Int → zX} (hr18 : ∀ s : Int, zR K 18 [(0, 69, 0), (1, 0, x1), (2, 0, x2), (3, 0, s)] [] (r18 s)) : zR K 89 [(0, 69, 0), (1, 0, x1), (2, 0, x2), (3, 0, x3)] [(0, s1), (6839, 0)] (fX67_forget_J89 r18 x1 x2 x3 s1) := by
  refine r_ldc2 (v := (-1)) E dX67_forget_89 q3759 (by decide) (zkJ (by decide) (by decide)) ?_
  refine r_goto E 101 (by decide) dX67_forget_92 ?_
  exact w_fX67_forget_J101 E hN hT x1 x2 x3 s1 (-1) hr18
theorem w_fX67_forget_J95 {K : zK} (E : zE K cX67_forget "RingHouseModel" none 0) (hN : zNl K = 5) (hT : zTr K = none) (x1 : Int) (x2 : Int) (x3 : Int) (s1 : Int) {r18 : Int → zX} (hr18 : ∀ s : Int, zR K 18 [(0, 69, 0), (1, 0, x1), (2, 0, x2), (3, 0, s)] [] (r18 s)) : zR K 95 [(0, 69, 0), (1, 0, x1), (2, 0, x2), (3, 0, x3)] [(0, s1), (6839, 0)] (fX67_forget_J95 r18 x1 x2 x3 s1) := by
  refine r_aload_n E dX67_forget_95 rfl 0 rfl ?_
  refine r_gec (y := 0) E zc_69 dX67_forget_96 q3254 zr_69 (zh_6839 (by decide)) (by decide) ?_
  refine r_iload_n E dX67_forget_99 rfl 3 rfl ?_
  refine r_laload E zc_6839 za_6839 zt_6839 zx_6839 rfl rfl dX67_forget_100 (by decide) (fun v4 => ?_)
  exact w_fX67_forget_J101 E hN hT x1 x2 x3 s1 v4 hr18
theorem w_fX67_forget_J50 {K : zK} (E : zE K cX67_forget "RingHouseModel" none 0) (hN : zNl K = 5) (hT : zTr K = none) (x1 : Int) (x2 : Int) (x3 : Int) (s0 : Int) {r18 : Int → zX} (hr18 : ∀ s : Int, zR K 18 [(0, 69, 0), (1, 0, x1), (2, 0, x2), (3, 0, s)] [] (r18 s)) : zR K 50 [(0, 69, 0), (1, 0, x1), (2, 0, x2), (3, 0, x3)] [(0, s0)] (fX67_forget_J50 r18 x1 x2 x3 s0) := by
  refine r_istore (ls' := [(4, 0, s0), (0, 69, 0), (1, 0, x1), (2, 0, x2), (3, 0, x3)]) E dX67_forget_50 (by rw [hN]; decide) rfl ?_
  refine r_aload_n E dX67_forget_52 rfl 1 rfl ?_
  refine r_gec (y := 0) E zc_69 dX67_forget_53 q3254 zr_69 (zh_6839 (by decide)) (by decide) ?_
  refine r_iload_n E dX67_forget_56 rfl 4 rfl ?_
  refine r_iload E dX67_forget_57 0 rfl ?_
  refine r_if_ne E 89 (by decide) dX67_forget_59 (fun _ => ?_) (fun _ => ?_)
  · refine r_pick E [1, 2, 3, 4] rfl ?_
    exact w_fX67_forget_J89 E hN hT x1 x2 x3 x3 hr18
  · refine r_aload_n E dX67_forget_62 rfl 1 rfl ?_
    refine r_gec (y := 0) E zc_69 dX67_forget_63 q3254 zr_69 (zh_6839 (by decide)) (by decide) ?_
    refine r_iload_n E dX67_forget_66 rfl 4 rfl ?_
    refine r_laload E zc_6839 za_6839 zt_6839 zx_6839 rfl rfl dX67_forget_67 (by decide) (fun v3 => ?_)
    refine r_lconst (v := 0) E dX67_forget_68 (by decide) (zkJ (by decide) (by decide)) ?_
    refine r_lcmp_lt E 95 (by decide) dX67_forget_69 dX67_forget_70 (fun _ => ?_) (fun _ => ?_)
    · refine r_pick E [1, 2, 3, 4] rfl ?_
      exact w_fX67_forget_J95 E hN hT x1 x2 x3 x3 hr18
    · refine r_aload_n E dX67_forget_73 rfl 1 rfl ?_
      refine r_gec (y := 0) E zc_69 dX67_forget_74 q3254 zr_69 (zh_6839 (by decide)) (by decide) ?_
      refine r_iload_n E dX67_forget_77 rfl 4 rfl ?_
      refine r_laload E zc_6839 za_6839 zt_6839 zx_6839 rfl rfl dX67_forget_78 (by decide) (fun v5 => ?_)
      refine r_ldc2 (v := 262144) E dX67_forget_79 q3758 (by decide) (zkJ (by decide) (by decide)) ?_
      refine r_ldiv E (by decide) dX67_forget_82 ?_
      refine r_iload_n E dX67_forget_83 rfl 3 rfl ?_
      refine r_i2l E dX67_forget_84 ?_
      refine r_lcmp_ne E 95 (by decide) dX67_forget_85 dX67_forget_86 (fun _ => ?_) (fun _ => ?_)
      · refine r_pick E [1, 2, 3, 4] rfl ?_
        exact w_fX67_forget_J95 E hN hT x1 x2 x3 x3 hr18
      · refine r_pick E [1, 2, 3, 4] rfl ?_
        exact w_fX67_forget_J89 E hN hT x1 x2 x3 x3 hr18
theorem w_fX67_forget_B18 {K : zK} (E : zE K cX67_forget "RingHouseModel" none 0) (hN : zNl K = 5) (hT : zTr K = none) (x1 : Int) (x2 : Int) : ∀ r18 : Int → zX, (∀ s : Int, zR K 18 [(0, 69, 0), (1, 0, x1), (2, 0, x2), (3, 0, s)] [] (r18 s)) → ∀ s : Int, zR K 18 [(0, 69, 0), (1, 0, x1), (2, 0, x2), (3, 0, s)] [] (fX67_forget_B18 x1 x2 r18 s) := by
  intro r18 hr18 x3
  refine r_iload_n E dX67_forget_18 rfl 3 rfl ?_
  refine r_sipush E dX67_forget_19 (by decide) (zkI (by decide) (by decide)) ?_
  refine r_iload_n E dX67_forget_22 rfl 1 rfl ?_
  refine r_imul E dX67_forget_23 ?_
  refine r_sipush E dX67_forget_24 (by decide) (zkI (by decide) (by decide)) ?_
  refine r_iadd E dX67_forget_27 ?_
  refine r_icmp_ge E 108 (by decide) dX67_forget_28 (fun _ => ?_) (fun _ => ?_)
  · exact r_return E rfl hT dX67_forget_108
  · refine r_iload_n E dX67_forget_31 rfl 3 rfl ?_
    refine r_sipush E dX67_forget_32 (by decide) (zkI (by decide) (by decide)) ?_
    refine r_iload_n E dX67_forget_35 rfl 1 rfl ?_
    refine r_imul E dX67_forget_36 ?_
    refine r_isub E dX67_forget_37 ?_
    refine r_bipush E dX67_forget_38 (by decide) (zkI (by decide) (by decide)) ?_
    refine r_idiv E (by decide) dX67_forget_40 ?_
    refine r_iload_n E dX67_forget_41 rfl 2 rfl ?_
    refine r_icmp_ne E 49 (by decide) dX67_forget_42 (fun _ => ?_) (fun _ => ?_)
    · refine r_iconst E dX67_forget_49 (zkI (by decide) (by decide)) ?_
      exact w_fX67_forget_J50 E hN hT x1 x2 x3 0 hr18
    · refine r_iconst E dX67_forget_45 (zkI (by decide) (by decide)) ?_
      refine r_goto E 50 (by decide) dX67_forget_46 ?_
      exact w_fX67_forget_J50 E hN hT x1 x2 x3 1 hr18
theorem w_fX67_forget {K : zK} (E : zE K cX67_forget "RingHouseModel" none 0) (hN : zNl K = 5) (hT : zTr K = none) (x1 : Int) (x2 : Int) : zR K 0 [(0, 69, 0), (1, 0, x1), (2, 0, x2)] [] (fX67_forget x1 x2) := by
  refine r_aload_n E dX67_forget_0 rfl 0 rfl ?_
  refine r_gec (y := 0) E zc_69 dX67_forget_1 q3253 zr_69 (zh_6838 (by decide)) (by decide) ?_
  refine r_bipush E dX67_forget_4 (by decide) (zkI (by decide) (by decide)) ?_
  refine r_iload_n E dX67_forget_6 rfl 1 rfl ?_
  refine r_imul E dX67_forget_7 ?_
  refine r_iload_n E dX67_forget_8 rfl 2 rfl ?_
  refine r_iadd E dX67_forget_9 ?_
  refine r_iconst E dX67_forget_10 (zkI (by decide) (by decide)) ?_
  refine r_iastore E zc_6838 za_6838 zt_6838 zo_6838 zx_6838 rfl rfl dX67_forget_11 (by decide) ?_
  refine r_sipush E dX67_forget_12 (by decide) (zkI (by decide) (by decide)) ?_
  refine r_iload_n E dX67_forget_15 rfl 1 rfl ?_
  refine r_imul E dX67_forget_16 ?_
  refine r_let E (fun v1 ev1 => ?_)
  refine r_istore_n (ls' := [(3, 0, v1), (0, 69, 0), (1, 0, x1), (2, 0, x2)]) E dX67_forget_17 rfl (by rw [hN]; decide) rfl ?_
  refine r_pick E [1, 2, 3, 0] rfl ?_
  exact r_loop (L := fun s => [(0, 69, 0), (1, 0, x1), (2, 0, x2), (3, 0, s)]) (w_fX67_forget_B18 E hN hT x1 x2) zBIG v1
theorem k_fX67_forget (l : Launch) (G : zG) (x1 : Int) (x2 : Int) : zCt l G yX67_forget cX67_forget 5 none 0 [(69, 0), (0, x1), (0, x2)] none (fX67_forget x1 x2) := zCt.of (by decide) (Nat.le_of_ble_eq_true rfl) (fun K E _ _ hN hT => w_fX67_forget E hN hT x1 x2)
theorem dX67_drop_0 : decode cX67_drop 0 = .ok (.aload_n 0, 1) := by decide +kernel
theorem dX67_drop_1 : decode cX67_drop 1 = .ok (.getfield 35, 3) := by decide +kernel
theorem dX67_drop_4 : decode cX67_drop 4 = .ok (.aload_n 0, 1) := by decide +kernel
theorem dX67_drop_5 : decode cX67_drop 5 = .ok (.aload_n 0, 1) := by decide +kernel
theorem dX67_drop_6 : decode cX67_drop 6 = .ok (.getfield 17, 3) := by decide +kernel
theorem dX67_drop_9 : decode cX67_drop 9 = .ok (.iload_n 1, 1) := by decide +kernel
theorem dX67_drop_10 : decode cX67_drop 10 = .ok (.iaload, 1) := by decide +kernel
theorem dX67_drop_11 : decode cX67_drop 11 = .ok (.invokevirtual 390, 3) := by decide +kernel
theorem dX67_drop_14 : decode cX67_drop 14 = .ok (.dup2, 1) := by decide +kernel
theorem dX67_drop_15 : decode cX67_drop 15 = .ok (.iaload, 1) := by decide +kernel
theorem dX67_drop_16 : decode cX67_drop 16 = .ok (.aload_n 0, 1) := by decide +kernel
theorem dX67_drop_17 : decode cX67_drop 17 = .ok (.iload_n 1, 1) := by decide +kernel
theorem dX67_drop_18 : decode cX67_drop 18 = .ok (.invokevirtual 413, 3) := by decide +kernel
theorem dX67_drop_21 : decode cX67_drop 21 = .ok (.isub, 1) := by decide +kernel
theorem dX67_drop_22 : decode cX67_drop 22 = .ok (.iastore, 1) := by decide +kernel
theorem dX67_drop_23 : decode cX67_drop 23 = .ok (.aload_n 0, 1) := by decide +kernel
theorem dX67_drop_24 : decode cX67_drop 24 = .ok (.getfield 7, 3) := by decide +kernel
theorem dX67_drop_27 : decode cX67_drop 27 = .ok (.iload_n 1, 1) := by decide +kernel
theorem dX67_drop_28 : decode cX67_drop 28 = .ok (.iconst 0, 1) := by decide +kernel
theorem dX67_drop_29 : decode cX67_drop 29 = .ok (.iastore, 1) := by decide +kernel
theorem dX67_drop_30 : decode cX67_drop 30 = .ok (.iconst 0, 1) := by decide +kernel
theorem dX67_drop_31 : decode cX67_drop 31 = .ok (.istore_n 2, 1) := by decide +kernel
theorem dX67_drop_32 : decode cX67_drop 32 = .ok (.iload_n 2, 1) := by decide +kernel
theorem dX67_drop_33 : decode cX67_drop 33 = .ok (.bipush 8, 2) := by decide +kernel
theorem dX67_drop_35 : decode cX67_drop 35 = .ok (.if_icmp .ge 125, 3) := by decide +kernel
theorem dX67_drop_38 : decode cX67_drop 38 = .ok (.bipush 8, 2) := by decide +kernel
theorem dX67_drop_40 : decode cX67_drop 40 = .ok (.istore_n 3, 1) := by decide +kernel
theorem dX67_drop_41 : decode cX67_drop 41 = .ok (.iload_n 3, 1) := by decide +kernel
theorem dX67_drop_42 : decode cX67_drop 42 = .ok (.bipush 32, 2) := by decide +kernel
theorem dX67_drop_44 : decode cX67_drop 44 = .ok (.if_icmp .ge 39, 3) := by decide +kernel
theorem dX67_drop_47 : decode cX67_drop 47 = .ok (.aload_n 0, 1) := by decide +kernel
theorem dX67_drop_48 : decode cX67_drop 48 = .ok (.getfield 70, 3) := by decide +kernel
theorem dX67_drop_51 : decode cX67_drop 51 = .ok (.iload_n 2, 1) := by decide +kernel
theorem dX67_drop_52 : decode cX67_drop 52 = .ok (.baload, 1) := by decide +kernel
theorem dX67_drop_53 : decode cX67_drop 53 = .ok (.ifCond .eq 24, 3) := by decide +kernel
theorem dX67_drop_56 : decode cX67_drop 56 = .ok (.aload_n 0, 1) := by decide +kernel
theorem dX67_drop_57 : decode cX67_drop 57 = .ok (.getfield 125, 3) := by decide +kernel
theorem dX67_drop_60 : decode cX67_drop 60 = .ok (.bipush 32, 2) := by decide +kernel
theorem dX67_drop_62 : decode cX67_drop 62 = .ok (.iload_n 2, 1) := by decide +kernel
theorem dX67_drop_63 : decode cX67_drop 63 = .ok (.imul, 1) := by decide +kernel
theorem dX67_drop_64 : decode cX67_drop 64 = .ok (.iload_n 3, 1) := by decide +kernel
theorem dX67_drop_65 : decode cX67_drop 65 = .ok (.iadd, 1) := by decide +kernel
theorem dX67_drop_66 : decode cX67_drop 66 = .ok (.iaload, 1) := by decide +kernel
theorem dX67_drop_67 : decode cX67_drop 67 = .ok (.iload_n 1, 1) := by decide +kernel
theorem dX67_drop_68 : decode cX67_drop 68 = .ok (.if_icmp .ne 9, 3) := by decide +kernel
theorem dX67_drop_71 : decode cX67_drop 71 = .ok (.aload_n 0, 1) := by decide +kernel
theorem dX67_drop_72 : decode cX67_drop 72 = .ok (.iload_n 2, 1) := by decide +kernel
theorem dX67_drop_73 : decode cX67_drop 73 = .ok (.iload_n 3, 1) := by decide +kernel
theorem dX67_drop_74 : decode cX67_drop 74 = .ok (.invokevirtual 416, 3) := by decide +kernel
theorem dX67_drop_77 : decode cX67_drop 77 = .ok (.iinc 3 1, 3) := by decide +kernel
theorem dX67_drop_80 : decode cX67_drop 80 = .ok (.goto (-39), 3) := by decide +kernel
theorem dX67_drop_83 : decode cX67_drop 83 = .ok (.aload_n 0, 1) := by decide +kernel
theorem dX67_drop_84 : decode cX67_drop 84 = .ok (.getfield 131, 3) := by decide +kernel
theorem dX67_drop_87 : decode cX67_drop 87 = .ok (.iload_n 2, 1) := by decide +kernel
theorem dX67_drop_88 : decode cX67_drop 88 = .ok (.aload_n 0, 1) := by decide +kernel
theorem dX67_drop_89 : decode cX67_drop 89 = .ok (.getfield 131, 3) := by decide +kernel
theorem dX67_drop_92 : decode cX67_drop 92 = .ok (.iload_n 2, 1) := by decide +kernel
theorem dX67_drop_93 : decode cX67_drop 93 = .ok (.iaload, 1) := by decide +kernel
theorem dX67_drop_94 : decode cX67_drop 94 = .ok (.iload_n 1, 1) := by decide +kernel
theorem dX67_drop_95 : decode cX67_drop 95 = .ok (.if_icmp .ne 7, 3) := by decide +kernel
theorem dX67_drop_98 : decode cX67_drop 98 = .ok (.iconst 0, 1) := by decide +kernel
theorem dX67_drop_99 : decode cX67_drop 99 = .ok (.goto 9, 3) := by decide +kernel
theorem dX67_drop_102 : decode cX67_drop 102 = .ok (.aload_n 0, 1) := by decide +kernel
theorem dX67_drop_103 : decode cX67_drop 103 = .ok (.getfield 131, 3) := by decide +kernel
theorem dX67_drop_106 : decode cX67_drop 106 = .ok (.iload_n 2, 1) := by decide +kernel
theorem dX67_drop_107 : decode cX67_drop 107 = .ok (.iaload, 1) := by decide +kernel
theorem dX67_drop_108 : decode cX67_drop 108 = .ok (.iastore, 1) := by decide +kernel
theorem dX67_drop_109 : decode cX67_drop 109 = .ok (.iconst 4, 1) := by decide +kernel
theorem dX67_drop_110 : decode cX67_drop 110 = .ok (.iload_n 2, 1) := by decide +kernel
theorem dX67_drop_111 : decode cX67_drop 111 = .ok (.imul, 1) := by decide +kernel
theorem dX67_drop_112 : decode cX67_drop 112 = .ok (.istore_n 3, 1) := by decide +kernel
theorem dX67_drop_113 : decode cX67_drop 113 = .ok (.iload_n 3, 1) := by decide +kernel
theorem dX67_drop_114 : decode cX67_drop 114 = .ok (.iconst 4, 1) := by decide +kernel
theorem dX67_drop_115 : decode cX67_drop 115 = .ok (.iload_n 2, 1) := by decide +kernel
theorem dX67_drop_116 : decode cX67_drop 116 = .ok (.imul, 1) := by decide +kernel
theorem dX67_drop_117 : decode cX67_drop 117 = .ok (.iconst 4, 1) := by decide +kernel
theorem dX67_drop_118 : decode cX67_drop 118 = .ok (.iadd, 1) := by decide +kernel
theorem dX67_drop_119 : decode cX67_drop 119 = .ok (.if_icmp .ge 35, 3) := by decide +kernel
theorem dX67_drop_122 : decode cX67_drop 122 = .ok (.aload_n 0, 1) := by decide +kernel
theorem dX67_drop_123 : decode cX67_drop 123 = .ok (.getfield 134, 3) := by decide +kernel
theorem dX67_drop_126 : decode cX67_drop 126 = .ok (.iload_n 3, 1) := by decide +kernel
theorem dX67_drop_127 : decode cX67_drop 127 = .ok (.aload_n 0, 1) := by decide +kernel
theorem dX67_drop_128 : decode cX67_drop 128 = .ok (.getfield 134, 3) := by decide +kernel
theorem dX67_drop_131 : decode cX67_drop 131 = .ok (.iload_n 3, 1) := by decide +kernel
theorem dX67_drop_132 : decode cX67_drop 132 = .ok (.iaload, 1) := by decide +kernel
theorem dX67_drop_133 : decode cX67_drop 133 = .ok (.iload_n 1, 1) := by decide +kernel
theorem dX67_drop_134 : decode cX67_drop 134 = .ok (.if_icmp .ne 7, 3) := by decide +kernel
theorem dX67_drop_137 : decode cX67_drop 137 = .ok (.iconst (-1), 1) := by decide +kernel
theorem dX67_drop_138 : decode cX67_drop 138 = .ok (.goto 9, 3) := by decide +kernel
theorem dX67_drop_141 : decode cX67_drop 141 = .ok (.aload_n 0, 1) := by decide +kernel
theorem dX67_drop_142 : decode cX67_drop 142 = .ok (.getfield 134, 3) := by decide +kernel
theorem dX67_drop_145 : decode cX67_drop 145 = .ok (.iload_n 3, 1) := by decide +kernel
theorem dX67_drop_146 : decode cX67_drop 146 = .ok (.iaload, 1) := by decide +kernel
theorem dX67_drop_147 : decode cX67_drop 147 = .ok (.iastore, 1) := by decide +kernel
theorem dX67_drop_148 : decode cX67_drop 148 = .ok (.iinc 3 1, 3) := by decide +kernel
theorem dX67_drop_151 : decode cX67_drop 151 = .ok (.goto (-38), 3) := by decide +kernel
theorem dX67_drop_154 : decode cX67_drop 154 = .ok (.iinc 2 1, 3) := by decide +kernel
theorem dX67_drop_157 : decode cX67_drop 157 = .ok (.goto (-125), 3) := by decide +kernel
theorem dX67_drop_160 : decode cX67_drop 160 = .ok (.return_, 1) := by decide +kernel
theorem zy_X67_drop : yX67_drop.cls ≠ "java/lang/invoke/MethodHandle" ∧ yX67_drop.cls ≠ "java/lang/invoke/VarHandle" ∧ (parseMethodDescriptor yX67_drop.desc).map (fun d => d.parameters.length) = some 1 := by decide +kernel
theorem w_fX67_drop_J154 {K : zK} (E : zE K cX67_drop "RingHouseModel" none 2) (hN : zNl K = 4) (hT : zTr K = none) (x1 : Int) (x2 : Int) {r32 : Int → zX} (hr32 : ∀ s : Int, zR K 32 [(0, 69, 0), (1, 0, x1), (2, 0, s)] [] (r32 s)) : zR K 154 [(0, 69, 0), (1, 0, x1), (2, 0, x2)] [] (fX67_drop_J154 r32 x1 x2) := by
  refine r_iinc (ls' := fun v8 => [(2, 0, v8), (0, 69, 0), (1, 0, x1)]) E 2 rfl (by rw [hN]; decide) (fun _ => rfl) dX67_drop_154 (fun v8 _ => ?_)
  refine r_goto E 32 (by decide) dX67_drop_157 ?_
  refine r_pick E [1, 2, 0] rfl ?_
  exact hr32 v8
theorem w_fX67_drop_J147 {K : zK} (E : zE K cX67_drop "RingHouseModel" none 2) (hN : zNl K = 4) (hT : zTr K = none) (x1 : Int) (x2 : Int) (x3 : Int) (s1 : Int) (s2 : Int) {r32 : Int → zX} (hr32 : ∀ s : Int, zR K 32 [(0, 69, 0), (1, 0, x1), (2, 0, s)] [] (r32 s)) {r113 : Int → zX} (hr113 : ∀ s : Int, zR K 113 [(0, 69, 0), (1, 0, x1), (2, 0, x2), (3, 0, s)] [] (r113 s)) : zR K 147 [(0, 69, 0), (1, 0, x1), (2, 0, x2), (3, 0, x3)] [(0, s2), (0, s1), (6841, 0)] (fX67_drop_J147 r32 r113 x1 x2 x3 s1 s2) := by
  refine r_iastore E zc_6841 za_6841 zt_6841 zo_6841 zx_6841 rfl rfl dX67_drop_147 (by decide) ?_
  refine r_iinc (ls' := fun v11 => [(3, 0, v11), (0, 69, 0), (1, 0, x1), (2, 0, x2)]) E 3 rfl (by rw [hN]; decide) (fun _ => rfl) dX67_drop_148 (fun v11 _ => ?_)
  refine r_goto E 113 (by decide) dX67_drop_151 ?_
  refine r_pick E [1, 2, 3, 0] rfl ?_
  exact hr113 v11
theorem w_fX67_drop_B113 {K : zK} (E : zE K cX67_drop "RingHouseModel" none 2) (hN : zNl K = 4) (hT : zTr K = none) (x1 : Int) (x2 : Int) {r32 : Int → zX} (hr32 : ∀ s : Int, zR K 32 [(0, 69, 0), (1, 0, x1), (2, 0, s)] [] (r32 s)) : ∀ r113 : Int → zX, (∀ s : Int, zR K 113 [(0, 69, 0), (1, 0, x1), (2, 0, x2), (3, 0, s)] [] (r113 s)) → ∀ s : Int, zR K 113 [(0, 69, 0), (1, 0, x1), (2, 0, x2), (3, 0, s)] [] (fX67_drop_B113 r32 x1 x2 r113 s) := by
  intro r113 hr113 x3
  refine r_iload_n E dX67_drop_113 rfl 3 rfl ?_
  refine r_iconst E dX67_drop_114 (zkI (by decide) (by decide)) ?_
  refine r_iload_n E dX67_drop_115 rfl 2 rfl ?_
  refine r_imul E dX67_drop_116 ?_
  refine r_iconst E dX67_drop_117 (zkI (by decide) (by decide)) ?_
  refine r_iadd E dX67_drop_118 ?_
  refine r_icmp_ge E 154 (by decide) dX67_drop_119 (fun _ => ?_) (fun _ => ?_)
  · refine r_pick E [0, 1, 2] rfl ?_
    exact w_fX67_drop_J154 E hN hT x1 x2 hr32
  · refine r_aload_n E dX67_drop_122 rfl 0 rfl ?_
    refine r_gec (y := 0) E zc_69 dX67_drop_123 q3256 zr_69 (zh_6841 (by decide)) (by decide) ?_
    refine r_iload_n E dX67_drop_126 rfl 3 rfl ?_
    refine r_aload_n E dX67_drop_127 rfl 0 rfl ?_
    refine r_gec (y := 0) E zc_69 dX67_drop_128 q3256 zr_69 (zh_6841 (by decide)) (by decide) ?_
    refine r_iload_n E dX67_drop_131 rfl 3 rfl ?_
    refine r_iaload E zc_6841 za_6841 zt_6841 zx_6841 rfl rfl dX67_drop_132 (by decide) (fun v9 => ?_)
    refine r_iload_n E dX67_drop_133 rfl 1 rfl ?_
    refine r_icmp_ne E 141 (by decide) dX67_drop_134 (fun _ => ?_) (fun _ => ?_)
    · refine r_aload_n E dX67_drop_141 rfl 0 rfl ?_
      refine r_gec (y := 0) E zc_69 dX67_drop_142 q3256 zr_69 (zh_6841 (by decide)) (by decide) ?_
      refine r_iload_n E dX67_drop_145 rfl 3 rfl ?_
      refine r_iaload E zc_6841 za_6841 zt_6841 zx_6841 rfl rfl dX67_drop_146 (by decide) (fun v10 => ?_)
      exact w_fX67_drop_J147 E hN hT x1 x2 x3 x3 v10 hr32 hr113
    · refine r_iconst E dX67_drop_137 (zkI (by decide) (by decide)) ?_
      refine r_goto E 147 (by decide) dX67_drop_138 ?_
      exact w_fX67_drop_J147 E hN hT x1 x2 x3 x3 (-1) hr32 hr113
theorem w_fX67_drop_J108 {K : zK} (E : zE K cX67_drop "RingHouseModel" none 2) (hN : zNl K = 4) (hT : zTr K = none) (x1 : Int) (x2 : Int) (s1 : Int) (s2 : Int) {r32 : Int → zX} (hr32 : ∀ s : Int, zR K 32 [(0, 69, 0), (1, 0, x1), (2, 0, s)] [] (r32 s)) : zR K 108 [(0, 69, 0), (1, 0, x1), (2, 0, x2)] [(0, s2), (0, s1), (6840, 0)] (fX67_drop_J108 r32 x1 x2 s1 s2) := by
  refine r_iastore E zc_6840 za_6840 zt_6840 zo_6840 zx_6840 rfl rfl dX67_drop_108 (by decide) ?_
  refine r_iconst E dX67_drop_109 (zkI (by decide) (by decide)) ?_
  refine r_iload_n E dX67_drop_110 rfl 2 rfl ?_
  refine r_imul E dX67_drop_111 ?_
  refine r_let E (fun v7 ev7 => ?_)
  refine r_istore_n (ls' := [(3, 0, v7), (0, 69, 0), (1, 0, x1), (2, 0, x2)]) E dX67_drop_112 rfl (by rw [hN]; decide) rfl ?_
  refine r_pick E [1, 2, 3, 0] rfl ?_
  exact r_loop (L := fun s => [(0, 69, 0), (1, 0, x1), (2, 0, x2), (3, 0, s)]) (w_fX67_drop_B113 E hN hT x1 x2 hr32) zBIG v7
theorem w_fX67_drop_J83 {K : zK} (E : zE K cX67_drop "RingHouseModel" none 2) (hN : zNl K = 4) (hT : zTr K = none) (x1 : Int) (x2 : Int) {r32 : Int → zX} (hr32 : ∀ s : Int, zR K 32 [(0, 69, 0), (1, 0, x1), (2, 0, s)] [] (r32 s)) : zR K 83 [(0, 69, 0), (1, 0, x1), (2, 0, x2)] [] (fX67_drop_J83 r32 x1 x2) := by
  refine r_aload_n E dX67_drop_83 rfl 0 rfl ?_
  refine r_gec (y := 0) E zc_69 dX67_drop_84 q3255 zr_69 (zh_6840 (by decide)) (by decide) ?_
  refine r_iload_n E dX67_drop_87 rfl 2 rfl ?_
  refine r_aload_n E dX67_drop_88 rfl 0 rfl ?_
  refine r_gec (y := 0) E zc_69 dX67_drop_89 q3255 zr_69 (zh_6840 (by decide)) (by decide) ?_
  refine r_iload_n E dX67_drop_92 rfl 2 rfl ?_
  refine r_iaload E zc_6840 za_6840 zt_6840 zx_6840 rfl rfl dX67_drop_93 (by decide) (fun v5 => ?_)
  refine r_iload_n E dX67_drop_94 rfl 1 rfl ?_
  refine r_icmp_ne E 102 (by decide) dX67_drop_95 (fun _ => ?_) (fun _ => ?_)
  · refine r_aload_n E dX67_drop_102 rfl 0 rfl ?_
    refine r_gec (y := 0) E zc_69 dX67_drop_103 q3255 zr_69 (zh_6840 (by decide)) (by decide) ?_
    refine r_iload_n E dX67_drop_106 rfl 2 rfl ?_
    refine r_iaload E zc_6840 za_6840 zt_6840 zx_6840 rfl rfl dX67_drop_107 (by decide) (fun v6 => ?_)
    exact w_fX67_drop_J108 E hN hT x1 x2 x2 v6 hr32
  · refine r_iconst E dX67_drop_98 (zkI (by decide) (by decide)) ?_
    refine r_goto E 108 (by decide) dX67_drop_99 ?_
    exact w_fX67_drop_J108 E hN hT x1 x2 x2 0 hr32
theorem w_fX67_drop_J77 {K : zK} (E : zE K cX67_drop "RingHouseModel" none 2) (hN : zNl K = 4) (hT : zTr K = none) (x1 : Int) (x2 : Int) (x3 : Int) {r32 : Int → zX} (hr32 : ∀ s : Int, zR K 32 [(0, 69, 0), (1, 0, x1), (2, 0, s)] [] (r32 s)) {r41 : Int → zX} (hr41 : ∀ s : Int, zR K 41 [(0, 69, 0), (1, 0, x1), (2, 0, x2), (3, 0, s)] [] (r41 s)) : zR K 77 [(0, 69, 0), (1, 0, x1), (2, 0, x2), (3, 0, x3)] [] (fX67_drop_J77 r32 r41 x1 x2 x3) := by
  refine r_iinc (ls' := fun v13 => [(3, 0, v13), (0, 69, 0), (1, 0, x1), (2, 0, x2)]) E 3 rfl (by rw [hN]; decide) (fun _ => rfl) dX67_drop_77 (fun v13 _ => ?_)
  refine r_goto E 41 (by decide) dX67_drop_80 ?_
  refine r_pick E [1, 2, 3, 0] rfl ?_
  exact hr41 v13
theorem w_fX67_drop_B41 {K : zK} (E : zE K cX67_drop "RingHouseModel" none 2) (hN : zNl K = 4) (hT : zTr K = none) (x1 : Int) (x2 : Int) {r32 : Int → zX} (hr32 : ∀ s : Int, zR K 32 [(0, 69, 0), (1, 0, x1), (2, 0, s)] [] (r32 s)) : ∀ r41 : Int → zX, (∀ s : Int, zR K 41 [(0, 69, 0), (1, 0, x1), (2, 0, x2), (3, 0, s)] [] (r41 s)) → ∀ s : Int, zR K 41 [(0, 69, 0), (1, 0, x1), (2, 0, x2), (3, 0, s)] [] (fX67_drop_B41 r32 x1 x2 r41 s) := by
  intro r41 hr41 x3
  refine r_iload_n E dX67_drop_41 rfl 3 rfl ?_
  refine r_bipush E dX67_drop_42 (by decide) (zkI (by decide) (by decide)) ?_
  refine r_icmp_ge E 83 (by decide) dX67_drop_44 (fun _ => ?_) (fun _ => ?_)
  · refine r_pick E [0, 1, 2] rfl ?_
    exact w_fX67_drop_J83 E hN hT x1 x2 hr32
  · refine r_aload_n E dX67_drop_47 rfl 0 rfl ?_
    refine r_gec (y := 0) E zc_69 dX67_drop_48 q3235 zr_69 (zh_6820 (by decide)) (by decide) ?_
    refine r_iload_n E dX67_drop_51 rfl 2 rfl ?_
    refine r_baloadz E zc_6820 za_6820 zt_6820 zx_6820 rfl rfl dX67_drop_52 (by decide) (fun v12 => ?_)
    refine r_if_eq E 77 (by decide) dX67_drop_53 (fun _ => ?_) (fun _ => ?_)
    · exact w_fX67_drop_J77 E hN hT x1 x2 x3 hr32 hr41
    · refine r_aload_n E dX67_drop_56 rfl 0 rfl ?_
      refine r_gec (y := 0) E zc_69 dX67_drop_57 q3253 zr_69 (zh_6838 (by decide)) (by decide) ?_
      refine r_bipush E dX67_drop_60 (by decide) (zkI (by decide) (by decide)) ?_
      refine r_iload_n E dX67_drop_62 rfl 2 rfl ?_
      refine r_imul E dX67_drop_63 ?_
      refine r_iload_n E dX67_drop_64 rfl 3 rfl ?_
      refine r_iadd E dX67_drop_65 ?_
      refine r_iaload E zc_6838 za_6838 zt_6838 zx_6838 rfl rfl dX67_drop_66 (by decide) (fun v14 => ?_)
      refine r_iload_n E dX67_drop_67 rfl 1 rfl ?_
      refine r_icmp_ne E 77 (by decide) dX67_drop_68 (fun _ => ?_) (fun _ => ?_)
      · exact w_fX67_drop_J77 E hN hT x1 x2 x3 hr32 hr41
      · refine r_aload_n E dX67_drop_71 rfl 0 rfl ?_
        refine r_iload_n E dX67_drop_72 rfl 2 rfl ?_
        refine r_iload_n E dX67_drop_73 rfl 3 rfl ?_
        refine r_callV E [(0, x2), (0, x3)] [] rfl zc_69 zr_69 (fun o _ => ⟨_, zw_X67.1 o, rfl⟩) (lw_V q3754 q3756 qs112 q294 q3757) dX67_drop_74 zy_X67_forget rfl (by omega) (by decide) (Nat.le_of_ble_eq_true rfl) (by decide) (fun l G => k_fX67_forget l G x2 x3) (fun _ => ?_)
        exact w_fX67_drop_J77 E hN hT x1 x2 x3 hr32 hr41
theorem w_fX67_drop_B32 {K : zK} (E : zE K cX67_drop "RingHouseModel" none 2) (hN : zNl K = 4) (hT : zTr K = none) (x1 : Int) : ∀ r32 : Int → zX, (∀ s : Int, zR K 32 [(0, 69, 0), (1, 0, x1), (2, 0, s)] [] (r32 s)) → ∀ s : Int, zR K 32 [(0, 69, 0), (1, 0, x1), (2, 0, s)] [] (fX67_drop_B32 x1 r32 s) := by
  intro r32 hr32 x2
  refine r_iload_n E dX67_drop_32 rfl 2 rfl ?_
  refine r_bipush E dX67_drop_33 (by decide) (zkI (by decide) (by decide)) ?_
  refine r_icmp_ge E 160 (by decide) dX67_drop_35 (fun _ => ?_) (fun _ => ?_)
  · exact r_return E rfl hT dX67_drop_160
  · refine r_bipush E dX67_drop_38 (by decide) (zkI (by decide) (by decide)) ?_
    refine r_istore_n (ls' := [(3, 0, 8), (0, 69, 0), (1, 0, x1), (2, 0, x2)]) E dX67_drop_40 rfl (by rw [hN]; decide) rfl ?_
    refine r_pick E [1, 2, 3, 0] rfl ?_
    exact r_loop (L := fun s => [(0, 69, 0), (1, 0, x1), (2, 0, x2), (3, 0, s)]) (w_fX67_drop_B41 E hN hT x1 x2 hr32) zBIG 8
theorem w_fX67_drop {K : zK} (E : zE K cX67_drop "RingHouseModel" none 2) (hN : zNl K = 4) (hT : zTr K = none) (x1 : Int) : zR K 0 [(0, 69, 0), (1, 0, x1)] [] (fX67_drop x1) := by
  refine r_aload_n E dX67_drop_0 rfl 0 rfl ?_
  refine r_gec (y := 0) E zc_69 dX67_drop_1 q3223 zr_69 (zh_6808 (by decide)) (by decide) ?_
  refine r_aload_n E dX67_drop_4 rfl 0 rfl ?_
  refine r_aload_n E dX67_drop_5 rfl 0 rfl ?_
  refine r_gec (y := 0) E zc_69 dX67_drop_6 q3217 zr_69 (zh_6802 (by decide)) (by decide) ?_
  refine r_iload_n E dX67_drop_9 rfl 1 rfl ?_
  refine r_iaload E zc_6802 za_6802 zt_6802 zx_6802 rfl rfl dX67_drop_10 (by decide) (fun v1 => ?_)
  refine r_callV E [(0, v1)] [(6808, 0)] rfl zc_69 zr_69 (fun o _ => ⟨_, zw_X67.1 o, rfl⟩) (lw_V q3646 q3648 qs96 q294 q3649) dX67_drop_11 zy_X67_account rfl (by omega) (by decide) (Nat.le_of_ble_eq_true rfl) (by decide) (fun l G => k_fX67_account l G v1) (fun v2 => ?_)
  refine r_dup22 E (zn1 rfl) (zn1 rfl) dX67_drop_14 ?_
  refine r_iaload E zc_6808 za_6808 zt_6808 zx_6808 rfl rfl dX67_drop_15 (by decide) (fun v3 => ?_)
  refine r_aload_n E dX67_drop_16 rfl 0 rfl ?_
  refine r_iload_n E dX67_drop_17 rfl 1 rfl ?_
  refine r_callV E [(0, x1)] [(0, v3), (0, v2), (6808, 0)] rfl zc_69 zr_69 (fun o _ => ⟨_, zw_X67.1 o, rfl⟩) (lw_V q3718 q3720 qs106 q294 q3721) dX67_drop_18 zy_X67_cost rfl (by omega) (by decide) (Nat.le_of_ble_eq_true rfl) (by decide) (fun l G => k_fX67_cost l G x1) (fun v4 => ?_)
  refine r_isub E dX67_drop_21 ?_
  refine r_iastore E zc_6808 za_6808 zt_6808 zo_6808 zx_6808 rfl rfl dX67_drop_22 (by decide) ?_
  refine r_aload_n E dX67_drop_23 rfl 0 rfl ?_
  refine r_gec (y := 0) E zc_69 dX67_drop_24 q3215 zr_69 (zh_6800 (by decide)) (by decide) ?_
  refine r_iload_n E dX67_drop_27 rfl 1 rfl ?_
  refine r_iconst E dX67_drop_28 (zkI (by decide) (by decide)) ?_
  refine r_iastore E zc_6800 za_6800 zt_6800 zo_6800 zx_6800 rfl rfl dX67_drop_29 (by decide) ?_
  refine r_iconst E dX67_drop_30 (zkI (by decide) (by decide)) ?_
  refine r_istore_n (ls' := [(2, 0, 0), (0, 69, 0), (1, 0, x1)]) E dX67_drop_31 rfl (by rw [hN]; decide) rfl ?_
  refine r_pick E [1, 2, 0] rfl ?_
  exact r_loop (L := fun s => [(0, 69, 0), (1, 0, x1), (2, 0, s)]) (w_fX67_drop_B32 E hN hT x1) zBIG 0
theorem k_fX67_drop (l : Launch) (G : zG) (x1 : Int) : zCt l G yX67_drop cX67_drop 4 none 2 [(69, 0), (0, x1)] none (fX67_drop x1) := zCt.of (by decide) (Nat.le_of_ble_eq_true rfl) (fun K E _ _ hN hT => w_fX67_drop E hN hT x1)
theorem dX67_depth_0 : decode cX67_depth 0 = .ok (.iconst 0, 1) := by decide +kernel
theorem dX67_depth_1 : decode cX67_depth 1 = .ok (.istore_n 2, 1) := by decide +kernel
theorem dX67_depth_2 : decode cX67_depth 2 = .ok (.iload_n 1, 1) := by decide +kernel
theorem dX67_depth_3 : decode cX67_depth 3 = .ok (.istore_n 3, 1) := by decide +kernel
theorem dX67_depth_4 : decode cX67_depth 4 = .ok (.iload_n 3, 1) := by decide +kernel
theorem dX67_depth_5 : decode cX67_depth 5 = .ok (.ifCond .le 16, 3) := by decide +kernel
theorem dX67_depth_8 : decode cX67_depth 8 = .ok (.iinc 2 1, 3) := by decide +kernel
theorem dX67_depth_11 : decode cX67_depth 11 = .ok (.aload_n 0, 1) := by decide +kernel
theorem dX67_depth_12 : decode cX67_depth 12 = .ok (.getfield 17, 3) := by decide +kernel
theorem dX67_depth_15 : decode cX67_depth 15 = .ok (.iload_n 3, 1) := by decide +kernel
theorem dX67_depth_16 : decode cX67_depth 16 = .ok (.iaload, 1) := by decide +kernel
theorem dX67_depth_17 : decode cX67_depth 17 = .ok (.istore_n 3, 1) := by decide +kernel
theorem dX67_depth_18 : decode cX67_depth 18 = .ok (.goto (-14), 3) := by decide +kernel
theorem dX67_depth_21 : decode cX67_depth 21 = .ok (.iload_n 2, 1) := by decide +kernel
theorem dX67_depth_22 : decode cX67_depth 22 = .ok (.ireturn, 1) := by decide +kernel
theorem zy_X67_depth : yX67_depth.cls ≠ "java/lang/invoke/MethodHandle" ∧ yX67_depth.cls ≠ "java/lang/invoke/VarHandle" ∧ (parseMethodDescriptor yX67_depth.desc).map (fun d => d.parameters.length) = some 1 := by decide +kernel
theorem w_fX67_depth_B4 {K : zK} (E : zE K cX67_depth "RingHouseModel" (some .int) 0) (hN : zNl K = 4) (hT : zTr K = (some 0)) : ∀ r4 : Int × Int → zX, (∀ s : Int × Int, zR K 4 [(0, 69, 0), (2, 0, s.1), (3, 0, s.2)] [] (r4 s)) → ∀ s : Int × Int, zR K 4 [(0, 69, 0), (2, 0, s.1), (3, 0, s.2)] [] (fX67_depth_B4 r4 s) := by
  intro r4 hr4 s
  obtain ⟨x2, x3⟩ := s
  refine r_iload_n E dX67_depth_4 rfl 2 rfl ?_
  refine r_if_le E 21 (by decide) dX67_depth_5 (fun _ => ?_) (fun _ => ?_)
  · refine r_iload_n E dX67_depth_21 rfl 1 rfl ?_
    exact r_ireturn E rfl hT dX67_depth_22
  · refine r_iinc (ls' := fun v1 => [(2, 0, v1), (0, 69, 0), (3, 0, x3)]) E 1 rfl (by rw [hN]; decide) (fun _ => rfl) dX67_depth_8 (fun v1 _ => ?_)
    refine r_aload_n E dX67_depth_11 rfl 1 rfl ?_
    refine r_gec (y := 0) E zc_69 dX67_depth_12 q3217 zr_69 (zh_6802 (by decide)) (by decide) ?_
    refine r_iload_n E dX67_depth_15 rfl 2 rfl ?_
    refine r_iaload E zc_6802 za_6802 zt_6802 zx_6802 rfl rfl dX67_depth_16 (by decide) (fun v2 => ?_)
    refine r_istore_n (ls' := [(3, 0, v2), (2, 0, v1), (0, 69, 0)]) E dX67_depth_17 rfl (by rw [hN]; decide) rfl ?_
    refine r_goto E 4 (by decide) dX67_depth_18 ?_
    refine r_pick E [2, 1, 0] rfl ?_
    exact hr4 (v1, v2)
theorem w_fX67_depth {K : zK} (E : zE K cX67_depth "RingHouseModel" (some .int) 0) (hN : zNl K = 4) (hT : zTr K = (some 0)) (x1 : Int) : zR K 0 [(0, 69, 0), (1, 0, x1)] [] (fX67_depth x1) := by
  refine r_iconst E dX67_depth_0 (zkI (by decide) (by decide)) ?_
  refine r_istore_n (ls' := [(2, 0, 0), (0, 69, 0), (1, 0, x1)]) E dX67_depth_1 rfl (by rw [hN]; decide) rfl ?_
  refine r_iload_n E dX67_depth_2 rfl 2 rfl ?_
  refine r_istore_n (ls' := [(3, 0, x1), (2, 0, 0), (0, 69, 0), (1, 0, x1)]) E dX67_depth_3 rfl (by rw [hN]; decide) rfl ?_
  refine r_pick E [2, 1, 0] rfl ?_
  exact r_loop (L := fun s => [(0, 69, 0), (2, 0, s.1), (3, 0, s.2)]) (w_fX67_depth_B4 E hN hT) zBIG (0, x1)
theorem k_fX67_depth (l : Launch) (G : zG) (x1 : Int) : zCt l G yX67_depth cX67_depth 4 (some .int) 0 [(69, 0), (0, x1)] (some 0) (fX67_depth x1) := zCt.of (by decide) (Nat.le_of_ble_eq_true rfl) (fun K E _ _ hN hT => w_fX67_depth E hN hT x1)
theorem dX67_isWithin_0 : decode cX67_isWithin 0 = .ok (.iload_n 1, 1) := by decide +kernel
theorem dX67_isWithin_1 : decode cX67_isWithin 1 = .ok (.istore_n 3, 1) := by decide +kernel
theorem dX67_isWithin_2 : decode cX67_isWithin 2 = .ok (.iload_n 3, 1) := by decide +kernel
theorem dX67_isWithin_3 : decode cX67_isWithin 3 = .ok (.ifCond .le 18, 3) := by decide +kernel
theorem dX67_isWithin_6 : decode cX67_isWithin 6 = .ok (.iload_n 3, 1) := by decide +kernel
theorem dX67_isWithin_7 : decode cX67_isWithin 7 = .ok (.iload_n 2, 1) := by decide +kernel
theorem dX67_isWithin_8 : decode cX67_isWithin 8 = .ok (.if_icmp .eq 13, 3) := by decide +kernel
theorem dX67_isWithin_11 : decode cX67_isWithin 11 = .ok (.aload_n 0, 1) := by decide +kernel
theorem dX67_isWithin_12 : decode cX67_isWithin 12 = .ok (.getfield 17, 3) := by decide +kernel
theorem dX67_isWithin_15 : decode cX67_isWithin 15 = .ok (.iload_n 3, 1) := by decide +kernel
theorem dX67_isWithin_16 : decode cX67_isWithin 16 = .ok (.iaload, 1) := by decide +kernel
theorem dX67_isWithin_17 : decode cX67_isWithin 17 = .ok (.istore_n 3, 1) := by decide +kernel
theorem dX67_isWithin_18 : decode cX67_isWithin 18 = .ok (.goto (-16), 3) := by decide +kernel
theorem dX67_isWithin_21 : decode cX67_isWithin 21 = .ok (.iload_n 3, 1) := by decide +kernel
theorem dX67_isWithin_22 : decode cX67_isWithin 22 = .ok (.iload_n 2, 1) := by decide +kernel
theorem dX67_isWithin_23 : decode cX67_isWithin 23 = .ok (.if_icmp .ne 7, 3) := by decide +kernel
theorem dX67_isWithin_26 : decode cX67_isWithin 26 = .ok (.iconst 1, 1) := by decide +kernel
theorem dX67_isWithin_27 : decode cX67_isWithin 27 = .ok (.goto 4, 3) := by decide +kernel
theorem dX67_isWithin_30 : decode cX67_isWithin 30 = .ok (.iconst 0, 1) := by decide +kernel
theorem dX67_isWithin_31 : decode cX67_isWithin 31 = .ok (.ireturn, 1) := by decide +kernel
theorem zy_X67_isWithin : yX67_isWithin.cls ≠ "java/lang/invoke/MethodHandle" ∧ yX67_isWithin.cls ≠ "java/lang/invoke/VarHandle" ∧ (parseMethodDescriptor yX67_isWithin.desc).map (fun d => d.parameters.length) = some 2 := by decide +kernel
theorem w_fX67_isWithin_J21 {K : zK} (E : zE K cX67_isWithin "RingHouseModel" (some .boolean) 0) (hN : zNl K = 4) (hT : zTr K = (some 0)) (x2 : Int) (x3 : Int) : zR K 21 [(2, 0, x2), (3, 0, x3)] [] (fX67_isWithin_J21 x2 x3) := by
  refine r_iload_n E dX67_isWithin_21 rfl 1 rfl ?_
  refine r_iload_n E dX67_isWithin_22 rfl 0 rfl ?_
  refine r_icmp_ne E 30 (by decide) dX67_isWithin_23 (fun _ => ?_) (fun _ => ?_)
  · refine r_iconst E dX67_isWithin_30 (zkI (by decide) (by decide)) ?_
    exact r_zreturn E rfl hT (by decide) dX67_isWithin_31
  · refine r_iconst E dX67_isWithin_26 (zkI (by decide) (by decide)) ?_
    refine r_goto E 31 (by decide) dX67_isWithin_27 ?_
    exact r_zreturn E rfl hT (by decide) dX67_isWithin_31
theorem w_fX67_isWithin_B2 {K : zK} (E : zE K cX67_isWithin "RingHouseModel" (some .boolean) 0) (hN : zNl K = 4) (hT : zTr K = (some 0)) (x2 : Int) : ∀ r2 : Int → zX, (∀ s : Int, zR K 2 [(0, 69, 0), (2, 0, x2), (3, 0, s)] [] (r2 s)) → ∀ s : Int, zR K 2 [(0, 69, 0), (2, 0, x2), (3, 0, s)] [] (fX67_isWithin_B2 x2 r2 s) := by
  intro r2 hr2 x3
  refine r_iload_n E dX67_isWithin_2 rfl 2 rfl ?_
  refine r_if_le E 21 (by decide) dX67_isWithin_3 (fun _ => ?_) (fun _ => ?_)
  · refine r_pick E [1, 2] rfl ?_
    exact w_fX67_isWithin_J21 E hN hT x2 x3
  · refine r_iload_n E dX67_isWithin_6 rfl 2 rfl ?_
    refine r_iload_n E dX67_isWithin_7 rfl 1 rfl ?_
    refine r_icmp_eq E 21 (by decide) dX67_isWithin_8 (fun _ => ?_) (fun _ => ?_)
    · refine r_pick E [1, 2] rfl ?_
      exact w_fX67_isWithin_J21 E hN hT x2 x3
    · refine r_aload_n E dX67_isWithin_11 rfl 0 rfl ?_
      refine r_gec (y := 0) E zc_69 dX67_isWithin_12 q3217 zr_69 (zh_6802 (by decide)) (by decide) ?_
      refine r_iload_n E dX67_isWithin_15 rfl 2 rfl ?_
      refine r_iaload E zc_6802 za_6802 zt_6802 zx_6802 rfl rfl dX67_isWithin_16 (by decide) (fun v1 => ?_)
      refine r_istore_n (ls' := [(3, 0, v1), (0, 69, 0), (2, 0, x2)]) E dX67_isWithin_17 rfl (by rw [hN]; decide) rfl ?_
      refine r_goto E 2 (by decide) dX67_isWithin_18 ?_
      refine r_pick E [1, 2, 0] rfl ?_
      exact hr2 v1
theorem w_fX67_isWithin {K : zK} (E : zE K cX67_isWithin "RingHouseModel" (some .boolean) 0) (hN : zNl K = 4) (hT : zTr K = (some 0)) (x1 : Int) (x2 : Int) : zR K 0 [(0, 69, 0), (1, 0, x1), (2, 0, x2)] [] (fX67_isWithin x1 x2) := by
  refine r_iload_n E dX67_isWithin_0 rfl 1 rfl ?_
  refine r_istore_n (ls' := [(3, 0, x1), (0, 69, 0), (1, 0, x1), (2, 0, x2)]) E dX67_isWithin_1 rfl (by rw [hN]; decide) rfl ?_
  refine r_pick E [1, 3, 0] rfl ?_
  exact r_loop (L := fun s => [(0, 69, 0), (2, 0, x2), (3, 0, s)]) (w_fX67_isWithin_B2 E hN hT x2) zBIG x1
theorem k_fX67_isWithin (l : Launch) (G : zG) (x1 : Int) (x2 : Int) : zCt l G yX67_isWithin cX67_isWithin 4 (some .boolean) 0 [(69, 0), (0, x1), (0, x2)] (some 0) (fX67_isWithin x1 x2) := zCt.of (by decide) (Nat.le_of_ble_eq_true rfl) (fun K E _ _ hN hT => w_fX67_isWithin E hN hT x1 x2)
theorem dX67_dropAll_0 : decode cX67_dropAll 0 = .ok (.iconst 0, 1) := by decide +kernel
theorem dX67_dropAll_1 : decode cX67_dropAll 1 = .ok (.istore_n 2, 1) := by decide +kernel
theorem dX67_dropAll_2 : decode cX67_dropAll 2 = .ok (.iconst 1, 1) := by decide +kernel
theorem dX67_dropAll_3 : decode cX67_dropAll 3 = .ok (.istore_n 3, 1) := by decide +kernel
theorem dX67_dropAll_4 : decode cX67_dropAll 4 = .ok (.iload_n 3, 1) := by decide +kernel
theorem dX67_dropAll_5 : decode cX67_dropAll 5 = .ok (.ifCond .eq 108, 3) := by decide +kernel
theorem dX67_dropAll_8 : decode cX67_dropAll 8 = .ok (.iconst (-1), 1) := by decide +kernel
theorem dX67_dropAll_9 : decode cX67_dropAll 9 = .ok (.istore 4, 2) := by decide +kernel
theorem dX67_dropAll_11 : decode cX67_dropAll 11 = .ok (.iconst 1, 1) := by decide +kernel
theorem dX67_dropAll_12 : decode cX67_dropAll 12 = .ok (.istore 5, 2) := by decide +kernel
theorem dX67_dropAll_14 : decode cX67_dropAll 14 = .ok (.iload 5, 2) := by decide +kernel
theorem dX67_dropAll_16 : decode cX67_dropAll 16 = .ok (.sipush 256, 3) := by decide +kernel
theorem dX67_dropAll_19 : decode cX67_dropAll 19 = .ok (.if_icmp .ge 70, 3) := by decide +kernel
theorem dX67_dropAll_22 : decode cX67_dropAll 22 = .ok (.aload_n 0, 1) := by decide +kernel
theorem dX67_dropAll_23 : decode cX67_dropAll 23 = .ok (.getfield 7, 3) := by decide +kernel
theorem dX67_dropAll_26 : decode cX67_dropAll 26 = .ok (.iload 5, 2) := by decide +kernel
theorem dX67_dropAll_28 : decode cX67_dropAll 28 = .ok (.iaload, 1) := by decide +kernel
theorem dX67_dropAll_29 : decode cX67_dropAll 29 = .ok (.ifCond .le 17, 3) := by decide +kernel
theorem dX67_dropAll_32 : decode cX67_dropAll 32 = .ok (.aload_n 0, 1) := by decide +kernel
theorem dX67_dropAll_33 : decode cX67_dropAll 33 = .ok (.iload 5, 2) := by decide +kernel
theorem dX67_dropAll_35 : decode cX67_dropAll 35 = .ok (.iload_n 1, 1) := by decide +kernel
theorem dX67_dropAll_36 : decode cX67_dropAll 36 = .ok (.invokevirtual 424, 3) := by decide +kernel
theorem dX67_dropAll_39 : decode cX67_dropAll 39 = .ok (.ifCond .eq 7, 3) := by decide +kernel
theorem dX67_dropAll_42 : decode cX67_dropAll 42 = .ok (.iconst 1, 1) := by decide +kernel
theorem dX67_dropAll_43 : decode cX67_dropAll 43 = .ok (.goto 4, 3) := by decide +kernel
theorem dX67_dropAll_46 : decode cX67_dropAll 46 = .ok (.iconst 0, 1) := by decide +kernel
theorem dX67_dropAll_47 : decode cX67_dropAll 47 = .ok (.istore 6, 2) := by decide +kernel
theorem dX67_dropAll_49 : decode cX67_dropAll 49 = .ok (.iload 6, 2) := by decide +kernel
theorem dX67_dropAll_51 : decode cX67_dropAll 51 = .ok (.ifCond .eq 28, 3) := by decide +kernel
theorem dX67_dropAll_54 : decode cX67_dropAll 54 = .ok (.iload 4, 2) := by decide +kernel
theorem dX67_dropAll_56 : decode cX67_dropAll 56 = .ok (.ifCond .lt 18, 3) := by decide +kernel
theorem dX67_dropAll_59 : decode cX67_dropAll 59 = .ok (.aload_n 0, 1) := by decide +kernel
theorem dX67_dropAll_60 : decode cX67_dropAll 60 = .ok (.iload 5, 2) := by decide +kernel
theorem dX67_dropAll_62 : decode cX67_dropAll 62 = .ok (.invokevirtual 428, 3) := by decide +kernel
theorem dX67_dropAll_65 : decode cX67_dropAll 65 = .ok (.aload_n 0, 1) := by decide +kernel
theorem dX67_dropAll_66 : decode cX67_dropAll 66 = .ok (.iload 4, 2) := by decide +kernel
theorem dX67_dropAll_68 : decode cX67_dropAll 68 = .ok (.invokevirtual 428, 3) := by decide +kernel
theorem dX67_dropAll_71 : decode cX67_dropAll 71 = .ok (.if_icmp .le 8, 3) := by decide +kernel
theorem dX67_dropAll_74 : decode cX67_dropAll 74 = .ok (.iload 5, 2) := by decide +kernel
theorem dX67_dropAll_76 : decode cX67_dropAll 76 = .ok (.goto 5, 3) := by decide +kernel
theorem dX67_dropAll_79 : decode cX67_dropAll 79 = .ok (.iload 4, 2) := by decide +kernel
theorem dX67_dropAll_81 : decode cX67_dropAll 81 = .ok (.istore 4, 2) := by decide +kernel
theorem dX67_dropAll_83 : decode cX67_dropAll 83 = .ok (.iinc 5 1, 3) := by decide +kernel
theorem dX67_dropAll_86 : decode cX67_dropAll 86 = .ok (.goto (-72), 3) := by decide +kernel
theorem dX67_dropAll_89 : decode cX67_dropAll 89 = .ok (.iload 4, 2) := by decide +kernel
theorem dX67_dropAll_91 : decode cX67_dropAll 91 = .ok (.iload_n 1, 1) := by decide +kernel
theorem dX67_dropAll_92 : decode cX67_dropAll 92 = .ok (.if_icmp .eq 7, 3) := by decide +kernel
theorem dX67_dropAll_95 : decode cX67_dropAll 95 = .ok (.iconst 1, 1) := by decide +kernel
theorem dX67_dropAll_96 : decode cX67_dropAll 96 = .ok (.goto 4, 3) := by decide +kernel
theorem dX67_dropAll_99 : decode cX67_dropAll 99 = .ok (.iconst 0, 1) := by decide +kernel
theorem dX67_dropAll_100 : decode cX67_dropAll 100 = .ok (.istore_n 3, 1) := by decide +kernel
theorem dX67_dropAll_101 : decode cX67_dropAll 101 = .ok (.aload_n 0, 1) := by decide +kernel
theorem dX67_dropAll_102 : decode cX67_dropAll 102 = .ok (.iload 4, 2) := by decide +kernel
theorem dX67_dropAll_104 : decode cX67_dropAll 104 = .ok (.invokevirtual 431, 3) := by decide +kernel
theorem dX67_dropAll_107 : decode cX67_dropAll 107 = .ok (.iinc 2 1, 3) := by decide +kernel
theorem dX67_dropAll_110 : decode cX67_dropAll 110 = .ok (.goto (-106), 3) := by decide +kernel
theorem dX67_dropAll_113 : decode cX67_dropAll 113 = .ok (.iload_n 2, 1) := by decide +kernel
theorem dX67_dropAll_114 : decode cX67_dropAll 114 = .ok (.ireturn, 1) := by decide +kernel
theorem zy_X67_dropAll : yX67_dropAll.cls ≠ "java/lang/invoke/MethodHandle" ∧ yX67_dropAll.cls ≠ "java/lang/invoke/VarHandle" ∧ (parseMethodDescriptor yX67_dropAll.desc).map (fun d => d.parameters.length) = some 1 := by decide +kernel
theorem w_fX67_dropAll_J100 {K : zK} (E : zE K cX67_dropAll "RingHouseModel" (some .int) 3) (hN : zNl K = 7) (hT : zTr K = (some 0)) (x1 : Int) (x2 : Int) (x4 : Int) (s0 : Int) {r4 : Int × Int → zX} (hr4 : ∀ s : Int × Int, zR K 4 [(0, 69, 0), (1, 0, x1), (2, 0, s.1), (3, 0, s.2)] [] (r4 s)) : zR K 100 [(0, 69, 0), (1, 0, x1), (2, 0, x2), (4, 0, x4)] [(0, s0)] (fX67_dropAll_J100 r4 x1 x2 x4 s0) := by
  refine r_istore_n (ls' := [(3, 0, s0), (0, 69, 0), (1, 0, x1), (2, 0, x2), (4, 0, x4)]) E dX67_dropAll_100 rfl (by rw [hN]; decide) rfl ?_
  refine r_aload_n E dX67_dropAll_101 rfl 1 rfl ?_
  refine r_iload E dX67_dropAll_102 4 rfl ?_
  refine r_callV E [(0, x4)] [] rfl zc_69 zr_69 (fun o _ => ⟨_, zw_X67.1 o, rfl⟩) (lw_V q3750 q3752 qs111 q294 q3753) dX67_dropAll_104 zy_X67_drop rfl (by omega) (by decide) (Nat.le_of_ble_eq_true rfl) (by decide) (fun l G => k_fX67_drop l G x4) (fun _ => ?_)
  refine r_iinc (ls' := fun v2 => [(2, 0, v2), (3, 0, s0), (0, 69, 0), (1, 0, x1), (4, 0, x4)]) E 3 rfl (by rw [hN]; decide) (fun _ => rfl) dX67_dropAll_107 (fun v2 _ => ?_)
  refine r_goto E 4 (by decide) dX67_dropAll_110 ?_
  refine r_pick E [2, 3, 0, 1] rfl ?_
  exact hr4 (v2, s0)
theorem w_fX67_dropAll_J89 {K : zK} (E : zE K cX67_dropAll "RingHouseModel" (some .int) 3) (hN : zNl K = 7) (hT : zTr K = (some 0)) (x1 : Int) (x2 : Int) (x4 : Int) {r4 : Int × Int → zX} (hr4 : ∀ s : Int × Int, zR K 4 [(0, 69, 0), (1, 0, x1), (2, 0, s.1), (3, 0, s.2)] [] (r4 s)) : zR K 89 [(0, 69, 0), (1, 0, x1), (2, 0, x2), (4, 0, x4)] [] (fX67_dropAll_J89 r4 x1 x2 x4) := by
  refine r_iload E dX67_dropAll_89 3 rfl ?_
  refine r_iload_n E dX67_dropAll_91 rfl 1 rfl ?_
  refine r_icmp_eq E 99 (by decide) dX67_dropAll_92 (fun _ => ?_) (fun _ => ?_)
  · refine r_iconst E dX67_dropAll_99 (zkI (by decide) (by decide)) ?_
    exact w_fX67_dropAll_J100 E hN hT x1 x2 x4 0 hr4
  · refine r_iconst E dX67_dropAll_95 (zkI (by decide) (by decide)) ?_
    refine r_goto E 100 (by decide) dX67_dropAll_96 ?_
    exact w_fX67_dropAll_J100 E hN hT x1 x2 x4 1 hr4
theorem w_fX67_dropAll_J81 {K : zK} (E : zE K cX67_dropAll "RingHouseModel" (some .int) 3) (hN : zNl K = 7) (hT : zTr K = (some 0)) (x1 : Int) (x2 : Int) (x5 : Int) (s0 : Int) {r4 : Int × Int → zX} (hr4 : ∀ s : Int × Int, zR K 4 [(0, 69, 0), (1, 0, x1), (2, 0, s.1), (3, 0, s.2)] [] (r4 s)) {r14 : Int × Int → zX} (hr14 : ∀ s : Int × Int, zR K 14 [(0, 69, 0), (1, 0, x1), (2, 0, x2), (4, 0, s.1), (5, 0, s.2)] [] (r14 s)) : zR K 81 [(0, 69, 0), (1, 0, x1), (2, 0, x2), (5, 0, x5)] [(0, s0)] (fX67_dropAll_J81 r4 r14 x1 x2 x5 s0) := by
  refine r_istore (ls' := [(4, 0, s0), (0, 69, 0), (1, 0, x1), (2, 0, x2), (5, 0, x5)]) E dX67_dropAll_81 (by rw [hN]; decide) rfl ?_
  refine r_iinc (ls' := fun v4 => [(5, 0, v4), (4, 0, s0), (0, 69, 0), (1, 0, x1), (2, 0, x2)]) E 4 rfl (by rw [hN]; decide) (fun _ => rfl) dX67_dropAll_83 (fun v4 _ => ?_)
  refine r_goto E 14 (by decide) dX67_dropAll_86 ?_
  refine r_pick E [2, 3, 4, 1, 0] rfl ?_
  exact hr14 (s0, v4)
theorem w_fX67_dropAll_J79 {K : zK} (E : zE K cX67_dropAll "RingHouseModel" (some .int) 3) (hN : zNl K = 7) (hT : zTr K = (some 0)) (x1 : Int) (x2 : Int) (x4 : Int) (x5 : Int) {r4 : Int × Int → zX} (hr4 : ∀ s : Int × Int, zR K 4 [(0, 69, 0), (1, 0, x1), (2, 0, s.1), (3, 0, s.2)] [] (r4 s)) {r14 : Int × Int → zX} (hr14 : ∀ s : Int × Int, zR K 14 [(0, 69, 0), (1, 0, x1), (2, 0, x2), (4, 0, s.1), (5, 0, s.2)] [] (r14 s)) : zR K 79 [(0, 69, 0), (1, 0, x1), (2, 0, x2), (4, 0, x4), (5, 0, x5)] [] (fX67_dropAll_J79 r4 r14 x1 x2 x4 x5) := by
  refine r_iload E dX67_dropAll_79 3 rfl ?_
  refine r_pick E [0, 1, 2, 4] rfl ?_
  exact w_fX67_dropAll_J81 E hN hT x1 x2 x5 x4 hr4 hr14
theorem w_fX67_dropAll_J74 {K : zK} (E : zE K cX67_dropAll "RingHouseModel" (some .int) 3) (hN : zNl K = 7) (hT : zTr K = (some 0)) (x1 : Int) (x2 : Int) (x5 : Int) {r4 : Int × Int → zX} (hr4 : ∀ s : Int × Int, zR K 4 [(0, 69, 0), (1, 0, x1), (2, 0, s.1), (3, 0, s.2)] [] (r4 s)) {r14 : Int × Int → zX} (hr14 : ∀ s : Int × Int, zR K 14 [(0, 69, 0), (1, 0, x1), (2, 0, x2), (4, 0, s.1), (5, 0, s.2)] [] (r14 s)) : zR K 74 [(0, 69, 0), (1, 0, x1), (2, 0, x2), (5, 0, x5)] [] (fX67_dropAll_J74 r4 r14 x1 x2 x5) := by
  refine r_iload E dX67_dropAll_74 3 rfl ?_
  refine r_goto E 81 (by decide) dX67_dropAll_76 ?_
  exact w_fX67_dropAll_J81 E hN hT x1 x2 x5 x5 hr4 hr14
theorem w_fX67_dropAll_J47 {K : zK} (E : zE K cX67_dropAll "RingHouseModel" (some .int) 3) (hN : zNl K = 7) (hT : zTr K = (some 0)) (x1 : Int) (x2 : Int) (x4 : Int) (x5 : Int) (s0 : Int) {r4 : Int × Int → zX} (hr4 : ∀ s : Int × Int, zR K 4 [(0, 69, 0), (1, 0, x1), (2, 0, s.1), (3, 0, s.2)] [] (r4 s)) {r14 : Int × Int → zX} (hr14 : ∀ s : Int × Int, zR K 14 [(0, 69, 0), (1, 0, x1), (2, 0, x2), (4, 0, s.1), (5, 0, s.2)] [] (r14 s)) : zR K 47 [(0, 69, 0), (1, 0, x1), (2, 0, x2), (4, 0, x4), (5, 0, x5)] [(0, s0)] (fX67_dropAll_J47 r4 r14 x1 x2 x4 x5 s0) := by
  refine r_istore (ls' := [(6, 0, s0), (0, 69, 0), (1, 0, x1), (2, 0, x2), (4, 0, x4), (5, 0, x5)]) E dX67_dropAll_47 (by rw [hN]; decide) rfl ?_
  refine r_iload E dX67_dropAll_49 0 rfl ?_
  refine r_if_eq E 79 (by decide) dX67_dropAll_51 (fun _ => ?_) (fun _ => ?_)
  · refine r_pick E [1, 2, 3, 4, 5] rfl ?_
    exact w_fX67_dropAll_J79 E hN hT x1 x2 x4 x5 hr4 hr14
  · refine r_iload E dX67_dropAll_54 4 rfl ?_
    refine r_if_lt E 74 (by decide) dX67_dropAll_56 (fun _ => ?_) (fun _ => ?_)
    · refine r_pick E [1, 2, 3, 5] rfl ?_
      exact w_fX67_dropAll_J74 E hN hT x1 x2 x5 hr4 hr14
    · refine r_aload_n E dX67_dropAll_59 rfl 1 rfl ?_
      refine r_iload E dX67_dropAll_60 5 rfl ?_
      refine r_callV E [(0, x5)] [] rfl zc_69 zr_69 (fun o _ => ⟨_, zw_X67.1 o, rfl⟩) (lw_V q3746 q3748 qs110 q294 q3749) dX67_dropAll_62 zy_X67_depth rfl (by omega) (by decide) (Nat.le_of_ble_eq_true rfl) (by decide) (fun l G => k_fX67_depth l G x5) (fun v5 => ?_)
      refine r_aload_n E dX67_dropAll_65 rfl 1 rfl ?_
      refine r_iload E dX67_dropAll_66 4 rfl ?_
      refine r_callV E [(0, x4)] [(0, v5)] rfl zc_69 zr_69 (fun o _ => ⟨_, zw_X67.1 o, rfl⟩) (lw_V q3746 q3748 qs110 q294 q3749) dX67_dropAll_68 zy_X67_depth rfl (by omega) (by decide) (Nat.le_of_ble_eq_true rfl) (by decide) (fun l G => k_fX67_depth l G x4) (fun v6 => ?_)
      refine r_icmp_le E 79 (by decide) dX67_dropAll_71 (fun _ => ?_) (fun _ => ?_)
      · refine r_pick E [1, 2, 3, 4, 5] rfl ?_
        exact w_fX67_dropAll_J79 E hN hT x1 x2 x4 x5 hr4 hr14
      · refine r_pick E [1, 2, 3, 5] rfl ?_
        exact w_fX67_dropAll_J74 E hN hT x1 x2 x5 hr4 hr14
theorem w_fX67_dropAll_J46 {K : zK} (E : zE K cX67_dropAll "RingHouseModel" (some .int) 3) (hN : zNl K = 7) (hT : zTr K = (some 0)) (x1 : Int) (x2 : Int) (x4 : Int) (x5 : Int) {r4 : Int × Int → zX} (hr4 : ∀ s : Int × Int, zR K 4 [(0, 69, 0), (1, 0, x1), (2, 0, s.1), (3, 0, s.2)] [] (r4 s)) {r14 : Int × Int → zX} (hr14 : ∀ s : Int × Int, zR K 14 [(0, 69, 0), (1, 0, x1), (2, 0, x2), (4, 0, s.1), (5, 0, s.2)] [] (r14 s)) : zR K 46 [(0, 69, 0), (1, 0, x1), (2, 0, x2), (4, 0, x4), (5, 0, x5)] [] (fX67_dropAll_J46 r4 r14 x1 x2 x4 x5) := by
  refine r_iconst E dX67_dropAll_46 (zkI (by decide) (by decide)) ?_
  exact w_fX67_dropAll_J47 E hN hT x1 x2 x4 x5 0 hr4 hr14
theorem w_fX67_dropAll_B14 {K : zK} (E : zE K cX67_dropAll "RingHouseModel" (some .int) 3) (hN : zNl K = 7) (hT : zTr K = (some 0)) (x1 : Int) (x2 : Int) {r4 : Int × Int → zX} (hr4 : ∀ s : Int × Int, zR K 4 [(0, 69, 0), (1, 0, x1), (2, 0, s.1), (3, 0, s.2)] [] (r4 s)) : ∀ r14 : Int × Int → zX, (∀ s : Int × Int, zR K 14 [(0, 69, 0), (1, 0, x1), (2, 0, x2), (4, 0, s.1), (5, 0, s.2)] [] (r14 s)) → ∀ s : Int × Int, zR K 14 [(0, 69, 0), (1, 0, x1), (2, 0, x2), (4, 0, s.1), (5, 0, s.2)] [] (fX67_dropAll_B14 r4 x1 x2 r14 s) := by
  intro r14 hr14 s
  obtain ⟨x4, x5⟩ := s
  refine r_iload E dX67_dropAll_14 4 rfl ?_
  refine r_sipush E dX67_dropAll_16 (by decide) (zkI (by decide) (by decide)) ?_
  refine r_icmp_ge E 89 (by decide) dX67_dropAll_19 (fun _ => ?_) (fun _ => ?_)
  · refine r_pick E [0, 1, 2, 3] rfl ?_
    exact w_fX67_dropAll_J89 E hN hT x1 x2 x4 hr4
  · refine r_aload_n E dX67_dropAll_22 rfl 0 rfl ?_
    refine r_gec (y := 0) E zc_69 dX67_dropAll_23 q3215 zr_69 (zh_6800 (by decide)) (by decide) ?_
    refine r_iload E dX67_dropAll_26 4 rfl ?_
    refine r_iaload E zc_6800 za_6800 zt_6800 zx_6800 rfl rfl dX67_dropAll_28 (by decide) (fun v3 => ?_)
    refine r_if_le E 46 (by decide) dX67_dropAll_29 (fun _ => ?_) (fun _ => ?_)
    · exact w_fX67_dropAll_J46 E hN hT x1 x2 x4 x5 hr4 hr14
    · refine r_aload_n E dX67_dropAll_32 rfl 0 rfl ?_
      refine r_iload E dX67_dropAll_33 4 rfl ?_
      refine r_iload_n E dX67_dropAll_35 rfl 1 rfl ?_
      refine r_callV E [(0, x5), (0, x1)] [] rfl zc_69 zr_69 (fun o _ => ⟨_, zw_X67.1 o, rfl⟩) (lw_V q3742 q3744 qs109 q294 q3745) dX67_dropAll_36 zy_X67_isWithin rfl (by omega) (by decide) (Nat.le_of_ble_eq_true rfl) (by decide) (fun l G => k_fX67_isWithin l G x5 x1) (fun v7 => ?_)
      refine r_if_eq E 46 (by decide) dX67_dropAll_39 (fun _ => ?_) (fun _ => ?_)
      · exact w_fX67_dropAll_J46 E hN hT x1 x2 x4 x5 hr4 hr14
      · refine r_iconst E dX67_dropAll_42 (zkI (by decide) (by decide)) ?_
        refine r_goto E 47 (by decide) dX67_dropAll_43 ?_
        exact w_fX67_dropAll_J47 E hN hT x1 x2 x4 x5 1 hr4 hr14
theorem w_fX67_dropAll_B4 {K : zK} (E : zE K cX67_dropAll "RingHouseModel" (some .int) 3) (hN : zNl K = 7) (hT : zTr K = (some 0)) (x1 : Int) : ∀ r4 : Int × Int → zX, (∀ s : Int × Int, zR K 4 [(0, 69, 0), (1, 0, x1), (2, 0, s.1), (3, 0, s.2)] [] (r4 s)) → ∀ s : Int × Int, zR K 4 [(0, 69, 0), (1, 0, x1), (2, 0, s.1), (3, 0, s.2)] [] (fX67_dropAll_B4 x1 r4 s) := by
  intro r4 hr4 s
  obtain ⟨x2, x3⟩ := s
  refine r_iload_n E dX67_dropAll_4 rfl 3 rfl ?_
  refine r_if_eq E 113 (by decide) dX67_dropAll_5 (fun _ => ?_) (fun _ => ?_)
  · refine r_iload_n E dX67_dropAll_113 rfl 2 rfl ?_
    exact r_ireturn E rfl hT dX67_dropAll_114
  · refine r_iconst E dX67_dropAll_8 (zkI (by decide) (by decide)) ?_
    refine r_istore (ls' := [(4, 0, (-1)), (0, 69, 0), (1, 0, x1), (2, 0, x2), (3, 0, x3)]) E dX67_dropAll_9 (by rw [hN]; decide) rfl ?_
    refine r_iconst E dX67_dropAll_11 (zkI (by decide) (by decide)) ?_
    refine r_istore (ls' := [(5, 0, 1), (4, 0, (-1)), (0, 69, 0), (1, 0, x1), (2, 0, x2), (3, 0, x3)]) E dX67_dropAll_12 (by rw [hN]; decide) rfl ?_
    refine r_pick E [2, 3, 4, 1, 0] rfl ?_
    exact r_loop (L := fun s => [(0, 69, 0), (1, 0, x1), (2, 0, x2), (4, 0, s.1), (5, 0, s.2)]) (w_fX67_dropAll_B14 E hN hT x1 x2 hr4) zBIG ((-1), 1)
theorem w_fX67_dropAll {K : zK} (E : zE K cX67_dropAll "RingHouseModel" (some .int) 3) (hN : zNl K = 7) (hT : zTr K = (some 0)) (x1 : Int) : zR K 0 [(0, 69, 0), (1, 0, x1)] [] (fX67_dropAll x1) := by
  refine r_iconst E dX67_dropAll_0 (zkI (by decide) (by decide)) ?_
  refine r_istore_n (ls' := [(2, 0, 0), (0, 69, 0), (1, 0, x1)]) E dX67_dropAll_1 rfl (by rw [hN]; decide) rfl ?_
  refine r_iconst E dX67_dropAll_2 (zkI (by decide) (by decide)) ?_
  refine r_istore_n (ls' := [(3, 0, 1), (2, 0, 0), (0, 69, 0), (1, 0, x1)]) E dX67_dropAll_3 rfl (by rw [hN]; decide) rfl ?_
  refine r_pick E [2, 3, 1, 0] rfl ?_
  exact r_loop (L := fun s => [(0, 69, 0), (1, 0, x1), (2, 0, s.1), (3, 0, s.2)]) (w_fX67_dropAll_B4 E hN hT x1) zBIG (0, 1)
theorem k_fX67_dropAll (l : Launch) (G : zG) (x1 : Int) : zCt l G yX67_dropAll cX67_dropAll 7 (some .int) 3 [(69, 0), (0, x1)] (some 0) (fX67_dropAll x1) := zCt.of (by decide) (Nat.le_of_ble_eq_true rfl) (fun K E _ _ hN hT => w_fX67_dropAll E hN hT x1)
theorem dX67_remove_0 : decode cX67_remove 0 = .ok (.aload_n 0, 1) := by decide +kernel
theorem dX67_remove_1 : decode cX67_remove 1 = .ok (.iload_n 1, 1) := by decide +kernel
theorem dX67_remove_2 : decode cX67_remove 2 = .ok (.invokevirtual 379, 3) := by decide +kernel
theorem dX67_remove_5 : decode cX67_remove 5 = .ok (.ifCond .eq 7, 3) := by decide +kernel
theorem dX67_remove_8 : decode cX67_remove 8 = .ok (.iload_n 1, 1) := by decide +kernel
theorem dX67_remove_9 : decode cX67_remove 9 = .ok (.ifCond .ne 8, 3) := by decide +kernel
theorem dX67_remove_12 : decode cX67_remove 12 = .ok (.bipush (-8), 2) := by decide +kernel
theorem dX67_remove_14 : decode cX67_remove 14 = .ok (.goto 8, 3) := by decide +kernel
theorem dX67_remove_17 : decode cX67_remove 17 = .ok (.aload_n 0, 1) := by decide +kernel
theorem dX67_remove_18 : decode cX67_remove 18 = .ok (.iload_n 1, 1) := by decide +kernel
theorem dX67_remove_19 : decode cX67_remove 19 = .ok (.invokevirtual 488, 3) := by decide +kernel
theorem dX67_remove_22 : decode cX67_remove 22 = .ok (.ireturn, 1) := by decide +kernel
theorem zy_X67_remove : yX67_remove.cls ≠ "java/lang/invoke/MethodHandle" ∧ yX67_remove.cls ≠ "java/lang/invoke/VarHandle" ∧ (parseMethodDescriptor yX67_remove.desc).map (fun d => d.parameters.length) = some 1 := by decide +kernel
theorem w_fX67_remove {K : zK} (E : zE K cX67_remove "RingHouseModel" (some .int) 4) (hN : zNl K = 2) (hT : zTr K = (some 0)) (x1 : Int) : zR K 0 [(0, 69, 0), (1, 0, x1)] [] (fX67_remove x1) := by
  refine r_aload_n E dX67_remove_0 rfl 0 rfl ?_
  refine r_iload_n E dX67_remove_1 rfl 1 rfl ?_
  refine r_callV E [(0, x1)] [] rfl zc_69 zr_69 (fun o _ => ⟨_, zw_X67.1 o, rfl⟩) (lw_V q3614 q3616 qs93 q294 q3617) dX67_remove_2 zy_X67_isNode rfl (by omega) (by decide) (Nat.le_of_ble_eq_true rfl) (by decide) (fun l G => k_fX67_isNode l G x1) (fun v1 => ?_)
  refine r_if_eq E 12 (by decide) dX67_remove_5 (fun _ => ?_) (fun _ => ?_)
  · refine r_bipush E dX67_remove_12 (by decide) (zkI (by decide) (by decide)) ?_
    refine r_goto E 22 (by decide) dX67_remove_14 ?_
    exact r_ireturn E rfl hT dX67_remove_22
  · refine r_iload_n E dX67_remove_8 rfl 1 rfl ?_
    refine r_if_ne E 17 (by decide) dX67_remove_9 (fun _ => ?_) (fun _ => ?_)
    · refine r_aload_n E dX67_remove_17 rfl 0 rfl ?_
      refine r_iload_n E dX67_remove_18 rfl 1 rfl ?_
      refine r_callV E [(0, x1)] [] rfl zc_69 zr_69 (fun o _ => ⟨_, zw_X67.1 o, rfl⟩) (lw_V q3738 q3740 qs108 q294 q3741) dX67_remove_19 zy_X67_dropAll rfl (by omega) (by decide) (Nat.le_of_ble_eq_true rfl) (by decide) (fun l G => k_fX67_dropAll l G x1) (fun v2 => ?_)
      exact r_ireturn E rfl hT dX67_remove_22
    · refine r_bipush E dX67_remove_12 (by decide) (zkI (by decide) (by decide)) ?_
      refine r_goto E 22 (by decide) dX67_remove_14 ?_
      exact r_ireturn E rfl hT dX67_remove_22
theorem k_fX67_remove (l : Launch) (G : zG) (x1 : Int) : zCt l G yX67_remove cX67_remove 2 (some .int) 4 [(69, 0), (0, x1)] (some 0) (fX67_remove x1) := zCt.of (by decide) (Nat.le_of_ble_eq_true rfl) (fun K E _ _ hN hT => w_fX67_remove E hN hT x1)
theorem dX67_find_0 : decode cX67_find 0 = .ok (.aload_n 0, 1) := by decide +kernel
theorem dX67_find_1 : decode cX67_find 1 = .ok (.iload_n 1, 1) := by decide +kernel
theorem dX67_find_2 : decode cX67_find 2 = .ok (.iconst 1, 1) := by decide +kernel
theorem dX67_find_3 : decode cX67_find 3 = .ok (.invokevirtual 439, 3) := by decide +kernel
theorem dX67_find_6 : decode cX67_find 6 = .ok (.ifCond .ne 8, 3) := by decide +kernel
theorem dX67_find_9 : decode cX67_find 9 = .ok (.bipush (-8), 2) := by decide +kernel
theorem dX67_find_11 : decode cX67_find 11 = .ok (.goto 9, 3) := by decide +kernel
theorem dX67_find_14 : decode cX67_find 14 = .ok (.aload_n 0, 1) := by decide +kernel
theorem dX67_find_15 : decode cX67_find 15 = .ok (.iload_n 1, 1) := by decide +kernel
theorem dX67_find_16 : decode cX67_find 16 = .ok (.lload_n 2, 1) := by decide +kernel
theorem dX67_find_17 : decode cX67_find 17 = .ok (.invokevirtual 450, 3) := by decide +kernel
theorem dX67_find_20 : decode cX67_find 20 = .ok (.ireturn, 1) := by decide +kernel
theorem zy_X67_find : yX67_find.cls ≠ "java/lang/invoke/MethodHandle" ∧ yX67_find.cls ≠ "java/lang/invoke/VarHandle" ∧ (parseMethodDescriptor yX67_find.desc).map (fun d => d.parameters.length) = some 2 := by decide +kernel
theorem w_fX67_find {K : zK} (E : zE K cX67_find "RingHouseModel" (some .int) 3) (hN : zNl K = 4) (hT : zTr K = (some 0)) (x1 : Int) (x2 : Int) : zR K 0 [(0, 69, 0), (1, 0, x1), (2, 1, x2)] [] (fX67_find x1 x2) := by
  refine r_aload_n E dX67_find_0 rfl 0 rfl ?_
  refine r_iload_n E dX67_find_1 rfl 1 rfl ?_
  refine r_iconst E dX67_find_2 (zkI (by decide) (by decide)) ?_
  refine r_callV E [(0, x1), (0, 1)] [] rfl zc_69 zr_69 (fun o _ => ⟨_, zw_X67.1 o, rfl⟩) (lw_V q3610 q3612 qs92 q294 q3613) dX67_find_3 zy_X67_isOf rfl (by omega) (by decide) (Nat.le_of_ble_eq_true rfl) (by decide) (fun l G => k_fX67_isOf l G x1 1) (fun v1 => ?_)
  refine r_if_ne E 14 (by decide) dX67_find_6 (fun _ => ?_) (fun _ => ?_)
  · refine r_aload_n E dX67_find_14 rfl 0 rfl ?_
    refine r_iload_n E dX67_find_15 rfl 1 rfl ?_
    refine r_lload_n E dX67_find_16 rfl 2 rfl ?_
    refine r_callV E [(0, x1), (1, x2)] [] rfl zc_69 zr_69 (fun o _ => ⟨_, zw_X67.1 o, rfl⟩) (lw_V q3635 q3637 qs94 q294 q3638) dX67_find_17 zy_X67_entryNamed rfl (by omega) (by decide) (Nat.le_of_ble_eq_true rfl) (by decide) (fun l G => k_fX67_entryNamed l G x1 x2) (fun v2 => ?_)
    exact r_ireturn E rfl hT dX67_find_20
  · refine r_bipush E dX67_find_9 (by decide) (zkI (by decide) (by decide)) ?_
    refine r_goto E 20 (by decide) dX67_find_11 ?_
    exact r_ireturn E rfl hT dX67_find_20
theorem k_fX67_find (l : Launch) (G : zG) (x1 : Int) (x2 : Int) : zCt l G yX67_find cX67_find 4 (some .int) 3 [(69, 0), (0, x1), (1, x2)] (some 0) (fX67_find x1 x2) := zCt.of (by decide) (Nat.le_of_ble_eq_true rfl) (fun K E _ _ hN hT => w_fX67_find E hN hT x1 x2)
theorem dX67_countEntries_0 : decode cX67_countEntries 0 = .ok (.iconst 0, 1) := by decide +kernel
theorem dX67_countEntries_1 : decode cX67_countEntries 1 = .ok (.istore_n 2, 1) := by decide +kernel
theorem dX67_countEntries_2 : decode cX67_countEntries 2 = .ok (.iconst 1, 1) := by decide +kernel
theorem dX67_countEntries_3 : decode cX67_countEntries 3 = .ok (.istore_n 3, 1) := by decide +kernel
theorem dX67_countEntries_4 : decode cX67_countEntries 4 = .ok (.iload_n 3, 1) := by decide +kernel
theorem dX67_countEntries_5 : decode cX67_countEntries 5 = .ok (.sipush 256, 3) := by decide +kernel
theorem dX67_countEntries_8 : decode cX67_countEntries 8 = .ok (.if_icmp .ge 36, 3) := by decide +kernel
theorem dX67_countEntries_11 : decode cX67_countEntries 11 = .ok (.aload_n 0, 1) := by decide +kernel
theorem dX67_countEntries_12 : decode cX67_countEntries 12 = .ok (.getfield 7, 3) := by decide +kernel
theorem dX67_countEntries_15 : decode cX67_countEntries 15 = .ok (.iload_n 3, 1) := by decide +kernel
theorem dX67_countEntries_16 : decode cX67_countEntries 16 = .ok (.iaload, 1) := by decide +kernel
theorem dX67_countEntries_17 : decode cX67_countEntries 17 = .ok (.ifCond .le 19, 3) := by decide +kernel
theorem dX67_countEntries_20 : decode cX67_countEntries 20 = .ok (.aload_n 0, 1) := by decide +kernel
theorem dX67_countEntries_21 : decode cX67_countEntries 21 = .ok (.getfield 17, 3) := by decide +kernel
theorem dX67_countEntries_24 : decode cX67_countEntries 24 = .ok (.iload_n 3, 1) := by decide +kernel
theorem dX67_countEntries_25 : decode cX67_countEntries 25 = .ok (.iaload, 1) := by decide +kernel
theorem dX67_countEntries_26 : decode cX67_countEntries 26 = .ok (.iload_n 1, 1) := by decide +kernel
theorem dX67_countEntries_27 : decode cX67_countEntries 27 = .ok (.if_icmp .ne 9, 3) := by decide +kernel
theorem dX67_countEntries_30 : decode cX67_countEntries 30 = .ok (.iload_n 2, 1) := by decide +kernel
theorem dX67_countEntries_31 : decode cX67_countEntries 31 = .ok (.iconst 1, 1) := by decide +kernel
theorem dX67_countEntries_32 : decode cX67_countEntries 32 = .ok (.iadd, 1) := by decide +kernel
theorem dX67_countEntries_33 : decode cX67_countEntries 33 = .ok (.goto 4, 3) := by decide +kernel
theorem dX67_countEntries_36 : decode cX67_countEntries 36 = .ok (.iload_n 2, 1) := by decide +kernel
theorem dX67_countEntries_37 : decode cX67_countEntries 37 = .ok (.istore_n 2, 1) := by decide +kernel
theorem dX67_countEntries_38 : decode cX67_countEntries 38 = .ok (.iinc 3 1, 3) := by decide +kernel
theorem dX67_countEntries_41 : decode cX67_countEntries 41 = .ok (.goto (-37), 3) := by decide +kernel
theorem dX67_countEntries_44 : decode cX67_countEntries 44 = .ok (.iload_n 2, 1) := by decide +kernel
theorem dX67_countEntries_45 : decode cX67_countEntries 45 = .ok (.ireturn, 1) := by decide +kernel
theorem zy_X67_countEntries : yX67_countEntries.cls ≠ "java/lang/invoke/MethodHandle" ∧ yX67_countEntries.cls ≠ "java/lang/invoke/VarHandle" ∧ (parseMethodDescriptor yX67_countEntries.desc).map (fun d => d.parameters.length) = some 1 := by decide +kernel
theorem w_fX67_countEntries_J37 {K : zK} (E : zE K cX67_countEntries "RingHouseModel" (some .int) 0) (hN : zNl K = 4) (hT : zTr K = (some 0)) (x1 : Int) (x3 : Int) (s0 : Int) {r4 : Int × Int → zX} (hr4 : ∀ s : Int × Int, zR K 4 [(0, 69, 0), (1, 0, x1), (2, 0, s.1), (3, 0, s.2)] [] (r4 s)) : zR K 37 [(0, 69, 0), (1, 0, x1), (3, 0, x3)] [(0, s0)] (fX67_countEntries_J37 r4 x1 x3 s0) := by
  refine r_istore_n (ls' := [(2, 0, s0), (0, 69, 0), (1, 0, x1), (3, 0, x3)]) E dX67_countEntries_37 rfl (by rw [hN]; decide) rfl ?_
  refine r_iinc (ls' := fun v2 => [(3, 0, v2), (2, 0, s0), (0, 69, 0), (1, 0, x1)]) E 3 rfl (by rw [hN]; decide) (fun _ => rfl) dX67_countEntries_38 (fun v2 _ => ?_)
  refine r_goto E 4 (by decide) dX67_countEntries_41 ?_
  refine r_pick E [2, 3, 1, 0] rfl ?_
  exact hr4 (s0, v2)
theorem w_fX67_countEntries_J36 {K : zK} (E : zE K cX67_countEntries "RingHouseModel" (some .int) 0) (hN : zNl K = 4) (hT : zTr K = (some 0)) (x1 : Int) (x2 : Int) (x3 : Int) {r4 : Int × Int → zX} (hr4 : ∀ s : Int × Int, zR K 4 [(0, 69, 0), (1, 0, x1), (2, 0, s.1), (3, 0, s.2)] [] (r4 s)) : zR K 36 [(0, 69, 0), (1, 0, x1), (2, 0, x2), (3, 0, x3)] [] (fX67_countEntries_J36 r4 x1 x2 x3) := by
  refine r_iload_n E dX67_countEntries_36 rfl 2 rfl ?_
  refine r_pick E [0, 1, 3] rfl ?_
  exact w_fX67_countEntries_J37 E hN hT x1 x3 x2 hr4
theorem w_fX67_countEntries_B4 {K : zK} (E : zE K cX67_countEntries "RingHouseModel" (some .int) 0) (hN : zNl K = 4) (hT : zTr K = (some 0)) (x1 : Int) : ∀ r4 : Int × Int → zX, (∀ s : Int × Int, zR K 4 [(0, 69, 0), (1, 0, x1), (2, 0, s.1), (3, 0, s.2)] [] (r4 s)) → ∀ s : Int × Int, zR K 4 [(0, 69, 0), (1, 0, x1), (2, 0, s.1), (3, 0, s.2)] [] (fX67_countEntries_B4 x1 r4 s) := by
  intro r4 hr4 s
  obtain ⟨x2, x3⟩ := s
  refine r_iload_n E dX67_countEntries_4 rfl 3 rfl ?_
  refine r_sipush E dX67_countEntries_5 (by decide) (zkI (by decide) (by decide)) ?_
  refine r_icmp_ge E 44 (by decide) dX67_countEntries_8 (fun _ => ?_) (fun _ => ?_)
  · refine r_iload_n E dX67_countEntries_44 rfl 2 rfl ?_
    exact r_ireturn E rfl hT dX67_countEntries_45
  · refine r_aload_n E dX67_countEntries_11 rfl 0 rfl ?_
    refine r_gec (y := 0) E zc_69 dX67_countEntries_12 q3215 zr_69 (zh_6800 (by decide)) (by decide) ?_
    refine r_iload_n E dX67_countEntries_15 rfl 3 rfl ?_
    refine r_iaload E zc_6800 za_6800 zt_6800 zx_6800 rfl rfl dX67_countEntries_16 (by decide) (fun v1 => ?_)
    refine r_if_le E 36 (by decide) dX67_countEntries_17 (fun _ => ?_) (fun _ => ?_)
    · exact w_fX67_countEntries_J36 E hN hT x1 x2 x3 hr4
    · refine r_aload_n E dX67_countEntries_20 rfl 0 rfl ?_
      refine r_gec (y := 0) E zc_69 dX67_countEntries_21 q3217 zr_69 (zh_6802 (by decide)) (by decide) ?_
      refine r_iload_n E dX67_countEntries_24 rfl 3 rfl ?_
      refine r_iaload E zc_6802 za_6802 zt_6802 zx_6802 rfl rfl dX67_countEntries_25 (by decide) (fun v3 => ?_)
      refine r_iload_n E dX67_countEntries_26 rfl 1 rfl ?_
      refine r_icmp_ne E 36 (by decide) dX67_countEntries_27 (fun _ => ?_) (fun _ => ?_)
      · exact w_fX67_countEntries_J36 E hN hT x1 x2 x3 hr4
      · refine r_iload_n E dX67_countEntries_30 rfl 2 rfl ?_
        refine r_iconst E dX67_countEntries_31 (zkI (by decide) (by decide)) ?_
        refine r_iadd E dX67_countEntries_32 ?_
        refine r_goto E 37 (by decide) dX67_countEntries_33 ?_
        refine r_pick E [0, 1, 3] rfl ?_
        exact w_fX67_countEntries_J37 E hN hT x1 x3 (zi (x2 + 1)) hr4
theorem w_fX67_countEntries {K : zK} (E : zE K cX67_countEntries "RingHouseModel" (some .int) 0) (hN : zNl K = 4) (hT : zTr K = (some 0)) (x1 : Int) : zR K 0 [(0, 69, 0), (1, 0, x1)] [] (fX67_countEntries x1) := by
  refine r_iconst E dX67_countEntries_0 (zkI (by decide) (by decide)) ?_
  refine r_istore_n (ls' := [(2, 0, 0), (0, 69, 0), (1, 0, x1)]) E dX67_countEntries_1 rfl (by rw [hN]; decide) rfl ?_
  refine r_iconst E dX67_countEntries_2 (zkI (by decide) (by decide)) ?_
  refine r_istore_n (ls' := [(3, 0, 1), (2, 0, 0), (0, 69, 0), (1, 0, x1)]) E dX67_countEntries_3 rfl (by rw [hN]; decide) rfl ?_
  refine r_pick E [2, 3, 1, 0] rfl ?_
  exact r_loop (L := fun s => [(0, 69, 0), (1, 0, x1), (2, 0, s.1), (3, 0, s.2)]) (w_fX67_countEntries_B4 E hN hT x1) zBIG (0, 1)
theorem k_fX67_countEntries (l : Launch) (G : zG) (x1 : Int) : zCt l G yX67_countEntries cX67_countEntries 4 (some .int) 0 [(69, 0), (0, x1)] (some 0) (fX67_countEntries x1) := zCt.of (by decide) (Nat.le_of_ble_eq_true rfl) (fun K E _ _ hN hT => w_fX67_countEntries E hN hT x1)
theorem dX67_about_0 : decode cX67_about 0 = .ok (.aload_n 0, 1) := by decide +kernel
theorem dX67_about_1 : decode cX67_about 1 = .ok (.iload_n 1, 1) := by decide +kernel
theorem dX67_about_2 : decode cX67_about 2 = .ok (.invokevirtual 379, 3) := by decide +kernel
theorem dX67_about_5 : decode cX67_about 5 = .ok (.ifCond .ne 7, 3) := by decide +kernel
theorem dX67_about_8 : decode cX67_about 8 = .ok (.ldc2_w 422, 3) := by decide +kernel
theorem dX67_about_11 : decode cX67_about 11 = .ok (.lreturn, 1) := by decide +kernel
theorem dX67_about_12 : decode cX67_about 12 = .ok (.iload_n 2, 1) := by decide +kernel
theorem dX67_about_13 : decode cX67_about 13 = .ok (.tableswitch 206 0 16 #[83, 91, 99, 107, 107, 107, 121, 129, 137, 145, 153, 160, 168, 176, 183, 191, 191], 83) := by decide +kernel
theorem dX67_about_96 : decode cX67_about 96 = .ok (.aload_n 0, 1) := by decide +kernel
theorem dX67_about_97 : decode cX67_about 97 = .ok (.getfield 7, 3) := by decide +kernel
theorem dX67_about_100 : decode cX67_about 100 = .ok (.iload_n 1, 1) := by decide +kernel
theorem dX67_about_101 : decode cX67_about 101 = .ok (.iaload, 1) := by decide +kernel
theorem dX67_about_102 : decode cX67_about 102 = .ok (.i2l, 1) := by decide +kernel
theorem dX67_about_103 : decode cX67_about 103 = .ok (.lreturn, 1) := by decide +kernel
theorem dX67_about_104 : decode cX67_about 104 = .ok (.aload_n 0, 1) := by decide +kernel
theorem dX67_about_105 : decode cX67_about 105 = .ok (.getfield 17, 3) := by decide +kernel
theorem dX67_about_108 : decode cX67_about 108 = .ok (.iload_n 1, 1) := by decide +kernel
theorem dX67_about_109 : decode cX67_about 109 = .ok (.iaload, 1) := by decide +kernel
theorem dX67_about_110 : decode cX67_about 110 = .ok (.i2l, 1) := by decide +kernel
theorem dX67_about_111 : decode cX67_about 111 = .ok (.lreturn, 1) := by decide +kernel
theorem dX67_about_112 : decode cX67_about 112 = .ok (.aload_n 0, 1) := by decide +kernel
theorem dX67_about_113 : decode cX67_about 113 = .ok (.getfield 20, 3) := by decide +kernel
theorem dX67_about_116 : decode cX67_about 116 = .ok (.iload_n 1, 1) := by decide +kernel
theorem dX67_about_117 : decode cX67_about 117 = .ok (.iaload, 1) := by decide +kernel
theorem dX67_about_118 : decode cX67_about 118 = .ok (.i2l, 1) := by decide +kernel
theorem dX67_about_119 : decode cX67_about 119 = .ok (.lreturn, 1) := by decide +kernel
theorem dX67_about_120 : decode cX67_about 120 = .ok (.aload_n 0, 1) := by decide +kernel
theorem dX67_about_121 : decode cX67_about 121 = .ok (.getfield 23, 3) := by decide +kernel
theorem dX67_about_124 : decode cX67_about 124 = .ok (.iconst 3, 1) := by decide +kernel
theorem dX67_about_125 : decode cX67_about 125 = .ok (.iload_n 1, 1) := by decide +kernel
theorem dX67_about_126 : decode cX67_about 126 = .ok (.imul, 1) := by decide +kernel
theorem dX67_about_127 : decode cX67_about 127 = .ok (.iload_n 2, 1) := by decide +kernel
theorem dX67_about_128 : decode cX67_about 128 = .ok (.iadd, 1) := by decide +kernel
theorem dX67_about_129 : decode cX67_about 129 = .ok (.iconst 3, 1) := by decide +kernel
theorem dX67_about_130 : decode cX67_about 130 = .ok (.isub, 1) := by decide +kernel
theorem dX67_about_131 : decode cX67_about 131 = .ok (.iaload, 1) := by decide +kernel
theorem dX67_about_132 : decode cX67_about 132 = .ok (.i2l, 1) := by decide +kernel
theorem dX67_about_133 : decode cX67_about 133 = .ok (.lreturn, 1) := by decide +kernel
theorem dX67_about_134 : decode cX67_about 134 = .ok (.aload_n 0, 1) := by decide +kernel
theorem dX67_about_135 : decode cX67_about 135 = .ok (.getfield 26, 3) := by decide +kernel
theorem dX67_about_138 : decode cX67_about 138 = .ok (.iload_n 1, 1) := by decide +kernel
theorem dX67_about_139 : decode cX67_about 139 = .ok (.iaload, 1) := by decide +kernel
theorem dX67_about_140 : decode cX67_about 140 = .ok (.i2l, 1) := by decide +kernel
theorem dX67_about_141 : decode cX67_about 141 = .ok (.lreturn, 1) := by decide +kernel
theorem dX67_about_142 : decode cX67_about 142 = .ok (.aload_n 0, 1) := by decide +kernel
theorem dX67_about_143 : decode cX67_about 143 = .ok (.getfield 29, 3) := by decide +kernel
theorem dX67_about_146 : decode cX67_about 146 = .ok (.iload_n 1, 1) := by decide +kernel
theorem dX67_about_147 : decode cX67_about 147 = .ok (.iaload, 1) := by decide +kernel
theorem dX67_about_148 : decode cX67_about 148 = .ok (.i2l, 1) := by decide +kernel
theorem dX67_about_149 : decode cX67_about 149 = .ok (.lreturn, 1) := by decide +kernel
theorem dX67_about_150 : decode cX67_about 150 = .ok (.aload_n 0, 1) := by decide +kernel
theorem dX67_about_151 : decode cX67_about 151 = .ok (.getfield 32, 3) := by decide +kernel
theorem dX67_about_154 : decode cX67_about 154 = .ok (.iload_n 1, 1) := by decide +kernel
theorem dX67_about_155 : decode cX67_about 155 = .ok (.iaload, 1) := by decide +kernel
theorem dX67_about_156 : decode cX67_about 156 = .ok (.i2l, 1) := by decide +kernel
theorem dX67_about_157 : decode cX67_about 157 = .ok (.lreturn, 1) := by decide +kernel
theorem dX67_about_158 : decode cX67_about 158 = .ok (.aload_n 0, 1) := by decide +kernel
theorem dX67_about_159 : decode cX67_about 159 = .ok (.getfield 35, 3) := by decide +kernel
theorem dX67_about_162 : decode cX67_about 162 = .ok (.iload_n 1, 1) := by decide +kernel
theorem dX67_about_163 : decode cX67_about 163 = .ok (.iaload, 1) := by decide +kernel
theorem dX67_about_164 : decode cX67_about 164 = .ok (.i2l, 1) := by decide +kernel
theorem dX67_about_165 : decode cX67_about 165 = .ok (.lreturn, 1) := by decide +kernel
theorem dX67_about_166 : decode cX67_about 166 = .ok (.aload_n 0, 1) := by decide +kernel
theorem dX67_about_167 : decode cX67_about 167 = .ok (.iload_n 1, 1) := by decide +kernel
theorem dX67_about_168 : decode cX67_about 168 = .ok (.invokevirtual 491, 3) := by decide +kernel
theorem dX67_about_171 : decode cX67_about 171 = .ok (.i2l, 1) := by decide +kernel
theorem dX67_about_172 : decode cX67_about 172 = .ok (.lreturn, 1) := by decide +kernel
theorem dX67_about_173 : decode cX67_about 173 = .ok (.aload_n 0, 1) := by decide +kernel
theorem dX67_about_174 : decode cX67_about 174 = .ok (.getfield 44, 3) := by decide +kernel
theorem dX67_about_177 : decode cX67_about 177 = .ok (.iload_n 1, 1) := by decide +kernel
theorem dX67_about_178 : decode cX67_about 178 = .ok (.iaload, 1) := by decide +kernel
theorem dX67_about_179 : decode cX67_about 179 = .ok (.i2l, 1) := by decide +kernel
theorem dX67_about_180 : decode cX67_about 180 = .ok (.lreturn, 1) := by decide +kernel
theorem dX67_about_181 : decode cX67_about 181 = .ok (.aload_n 0, 1) := by decide +kernel
theorem dX67_about_182 : decode cX67_about 182 = .ok (.getfield 38, 3) := by decide +kernel
theorem dX67_about_185 : decode cX67_about 185 = .ok (.iload_n 1, 1) := by decide +kernel
theorem dX67_about_186 : decode cX67_about 186 = .ok (.iaload, 1) := by decide +kernel
theorem dX67_about_187 : decode cX67_about 187 = .ok (.i2l, 1) := by decide +kernel
theorem dX67_about_188 : decode cX67_about 188 = .ok (.lreturn, 1) := by decide +kernel
theorem dX67_about_189 : decode cX67_about 189 = .ok (.aload_n 0, 1) := by decide +kernel
theorem dX67_about_190 : decode cX67_about 190 = .ok (.getfield 13, 3) := by decide +kernel
theorem dX67_about_193 : decode cX67_about 193 = .ok (.iload_n 1, 1) := by decide +kernel
theorem dX67_about_194 : decode cX67_about 194 = .ok (.laload, 1) := by decide +kernel
theorem dX67_about_195 : decode cX67_about 195 = .ok (.lreturn, 1) := by decide +kernel
theorem dX67_about_196 : decode cX67_about 196 = .ok (.aload_n 0, 1) := by decide +kernel
theorem dX67_about_197 : decode cX67_about 197 = .ok (.getfield 60, 3) := by decide +kernel
theorem dX67_about_200 : decode cX67_about 200 = .ok (.iload_n 1, 1) := by decide +kernel
theorem dX67_about_201 : decode cX67_about 201 = .ok (.iaload, 1) := by decide +kernel
theorem dX67_about_202 : decode cX67_about 202 = .ok (.i2l, 1) := by decide +kernel
theorem dX67_about_203 : decode cX67_about 203 = .ok (.lreturn, 1) := by decide +kernel
theorem dX67_about_204 : decode cX67_about 204 = .ok (.aload_n 0, 1) := by decide +kernel
theorem dX67_about_205 : decode cX67_about 205 = .ok (.getfield 50, 3) := by decide +kernel
theorem dX67_about_208 : decode cX67_about 208 = .ok (.iconst 2, 1) := by decide +kernel
theorem dX67_about_209 : decode cX67_about 209 = .ok (.iload_n 1, 1) := by decide +kernel
theorem dX67_about_210 : decode cX67_about 210 = .ok (.imul, 1) := by decide +kernel
theorem dX67_about_211 : decode cX67_about 211 = .ok (.iload_n 2, 1) := by decide +kernel
theorem dX67_about_212 : decode cX67_about 212 = .ok (.iadd, 1) := by decide +kernel
theorem dX67_about_213 : decode cX67_about 213 = .ok (.bipush 15, 2) := by decide +kernel
theorem dX67_about_215 : decode cX67_about 215 = .ok (.isub, 1) := by decide +kernel
theorem dX67_about_216 : decode cX67_about 216 = .ok (.iaload, 1) := by decide +kernel
theorem dX67_about_217 : decode cX67_about 217 = .ok (.i2l, 1) := by decide +kernel
theorem dX67_about_218 : decode cX67_about 218 = .ok (.lreturn, 1) := by decide +kernel
theorem dX67_about_219 : decode cX67_about 219 = .ok (.ldc2_w 494, 3) := by decide +kernel
theorem dX67_about_222 : decode cX67_about 222 = .ok (.lreturn, 1) := by decide +kernel
theorem zy_X67_about : yX67_about.cls ≠ "java/lang/invoke/MethodHandle" ∧ yX67_about.cls ≠ "java/lang/invoke/VarHandle" ∧ (parseMethodDescriptor yX67_about.desc).map (fun d => d.parameters.length) = some 2 := by decide +kernel
theorem w_fX67_about {K : zK} (E : zE K cX67_about "RingHouseModel" (some .long) 2) (hN : zNl K = 3) (hT : zTr K = (some 1)) (x1 : Int) (x2 : Int) : zR K 0 [(0, 69, 0), (1, 0, x1), (2, 0, x2)] [] (fX67_about x1 x2) := by
  refine r_aload_n E dX67_about_0 rfl 0 rfl ?_
  refine r_iload_n E dX67_about_1 rfl 1 rfl ?_
  refine r_callV E [(0, x1)] [] rfl zc_69 zr_69 (fun o _ => ⟨_, zw_X67.1 o, rfl⟩) (lw_V q3614 q3616 qs93 q294 q3617) dX67_about_2 zy_X67_isNode rfl (by omega) (by decide) (Nat.le_of_ble_eq_true rfl) (by decide) (fun l G => k_fX67_isNode l G x1) (fun v1 => ?_)
  refine r_if_ne E 12 (by decide) dX67_about_5 (fun _ => ?_) (fun _ => ?_)
  · refine r_iload_n E dX67_about_12 rfl 2 rfl ?_
    refine r_tabc E dX67_about_13 0 96 (by decide) (by decide) rfl (by decide) (fun _ => ?_) (fun ht2 => ?_)
    · refine r_aload_n E dX67_about_96 rfl 0 rfl ?_
      refine r_gec (y := 0) E zc_69 dX67_about_97 q3215 zr_69 (zh_6800 (by decide)) (by decide) ?_
      refine r_iload_n E dX67_about_100 rfl 1 rfl ?_
      refine r_iaload E zc_6800 za_6800 zt_6800 zx_6800 rfl rfl dX67_about_101 (by decide) (fun v3 => ?_)
      refine r_i2l E dX67_about_102 ?_
      exact r_lreturn E rfl hT dX67_about_103
    · refine r_tabc E dX67_about_13 1 104 (by decide) (by decide) rfl (by decide) (fun _ => ?_) (fun ht4 => ?_)
      · refine r_aload_n E dX67_about_104 rfl 0 rfl ?_
        refine r_gec (y := 0) E zc_69 dX67_about_105 q3217 zr_69 (zh_6802 (by decide)) (by decide) ?_
        refine r_iload_n E dX67_about_108 rfl 1 rfl ?_
        refine r_iaload E zc_6802 za_6802 zt_6802 zx_6802 rfl rfl dX67_about_109 (by decide) (fun v5 => ?_)
        refine r_i2l E dX67_about_110 ?_
        exact r_lreturn E rfl hT dX67_about_111
      · refine r_tabc E dX67_about_13 2 112 (by decide) (by decide) rfl (by decide) (fun _ => ?_) (fun ht6 => ?_)
        · refine r_aload_n E dX67_about_112 rfl 0 rfl ?_
          refine r_gec (y := 0) E zc_69 dX67_about_113 q3218 zr_69 (zh_6803 (by decide)) (by decide) ?_
          refine r_iload_n E dX67_about_116 rfl 1 rfl ?_
          refine r_iaload E zc_6803 za_6803 zt_6803 zx_6803 rfl rfl dX67_about_117 (by decide) (fun v7 => ?_)
          refine r_i2l E dX67_about_118 ?_
          exact r_lreturn E rfl hT dX67_about_119
        · refine r_tabc E dX67_about_13 3 120 (by decide) (by decide) rfl (by decide) (fun _ => ?_) (fun ht8 => ?_)
          · refine r_aload_n E dX67_about_120 rfl 0 rfl ?_
            refine r_gec (y := 0) E zc_69 dX67_about_121 q3219 zr_69 (zh_6804 (by decide)) (by decide) ?_
            refine r_iconst E dX67_about_124 (zkI (by decide) (by decide)) ?_
            refine r_iload_n E dX67_about_125 rfl 1 rfl ?_
            refine r_imul E dX67_about_126 ?_
            refine r_iload_n E dX67_about_127 rfl 2 rfl ?_
            refine r_iadd E dX67_about_128 ?_
            refine r_iconst E dX67_about_129 (zkI (by decide) (by decide)) ?_
            refine r_isub E dX67_about_130 ?_
            refine r_iaload E zc_6804 za_6804 zt_6804 zx_6804 rfl rfl dX67_about_131 (by decide) (fun v9 => ?_)
            refine r_i2l E dX67_about_132 ?_
            exact r_lreturn E rfl hT dX67_about_133
          · refine r_tabc E dX67_about_13 4 120 (by decide) (by decide) rfl (by decide) (fun _ => ?_) (fun ht10 => ?_)
            · refine r_aload_n E dX67_about_120 rfl 0 rfl ?_
              refine r_gec (y := 0) E zc_69 dX67_about_121 q3219 zr_69 (zh_6804 (by decide)) (by decide) ?_
              refine r_iconst E dX67_about_124 (zkI (by decide) (by decide)) ?_
              refine r_iload_n E dX67_about_125 rfl 1 rfl ?_
              refine r_imul E dX67_about_126 ?_
              refine r_iload_n E dX67_about_127 rfl 2 rfl ?_
              refine r_iadd E dX67_about_128 ?_
              refine r_iconst E dX67_about_129 (zkI (by decide) (by decide)) ?_
              refine r_isub E dX67_about_130 ?_
              refine r_iaload E zc_6804 za_6804 zt_6804 zx_6804 rfl rfl dX67_about_131 (by decide) (fun v11 => ?_)
              refine r_i2l E dX67_about_132 ?_
              exact r_lreturn E rfl hT dX67_about_133
            · refine r_tabc E dX67_about_13 5 120 (by decide) (by decide) rfl (by decide) (fun _ => ?_) (fun ht12 => ?_)
              · refine r_aload_n E dX67_about_120 rfl 0 rfl ?_
                refine r_gec (y := 0) E zc_69 dX67_about_121 q3219 zr_69 (zh_6804 (by decide)) (by decide) ?_
                refine r_iconst E dX67_about_124 (zkI (by decide) (by decide)) ?_
                refine r_iload_n E dX67_about_125 rfl 1 rfl ?_
                refine r_imul E dX67_about_126 ?_
                refine r_iload_n E dX67_about_127 rfl 2 rfl ?_
                refine r_iadd E dX67_about_128 ?_
                refine r_iconst E dX67_about_129 (zkI (by decide) (by decide)) ?_
                refine r_isub E dX67_about_130 ?_
                refine r_iaload E zc_6804 za_6804 zt_6804 zx_6804 rfl rfl dX67_about_131 (by decide) (fun v13 => ?_)
                refine r_i2l E dX67_about_132 ?_
                exact r_lreturn E rfl hT dX67_about_133
              · refine r_tabc E dX67_about_13 6 134 (by decide) (by decide) rfl (by decide) (fun _ => ?_) (fun ht14 => ?_)
                · refine r_aload_n E dX67_about_134 rfl 0 rfl ?_
                  refine r_gec (y := 0) E zc_69 dX67_about_135 q3220 zr_69 (zh_6805 (by decide)) (by decide) ?_
                  refine r_iload_n E dX67_about_138 rfl 1 rfl ?_
                  refine r_iaload E zc_6805 za_6805 zt_6805 zx_6805 rfl rfl dX67_about_139 (by decide) (fun v15 => ?_)
                  refine r_i2l E dX67_about_140 ?_
                  exact r_lreturn E rfl hT dX67_about_141
                · refine r_tabc E dX67_about_13 7 142 (by decide) (by decide) rfl (by decide) (fun _ => ?_) (fun ht16 => ?_)
                  · refine r_aload_n E dX67_about_142 rfl 0 rfl ?_
                    refine r_gec (y := 0) E zc_69 dX67_about_143 q3221 zr_69 (zh_6806 (by decide)) (by decide) ?_
                    refine r_iload_n E dX67_about_146 rfl 1 rfl ?_
                    refine r_iaload E zc_6806 za_6806 zt_6806 zx_6806 rfl rfl dX67_about_147 (by decide) (fun v17 => ?_)
                    refine r_i2l E dX67_about_148 ?_
                    exact r_lreturn E rfl hT dX67_about_149
                  · refine r_tabc E dX67_about_13 8 150 (by decide) (by decide) rfl (by decide) (fun _ => ?_) (fun ht18 => ?_)
                    · refine r_aload_n E dX67_about_150 rfl 0 rfl ?_
                      refine r_gec (y := 0) E zc_69 dX67_about_151 q3222 zr_69 (zh_6807 (by decide)) (by decide) ?_
                      refine r_iload_n E dX67_about_154 rfl 1 rfl ?_
                      refine r_iaload E zc_6807 za_6807 zt_6807 zx_6807 rfl rfl dX67_about_155 (by decide) (fun v19 => ?_)
                      refine r_i2l E dX67_about_156 ?_
                      exact r_lreturn E rfl hT dX67_about_157
                    · refine r_tabc E dX67_about_13 9 158 (by decide) (by decide) rfl (by decide) (fun _ => ?_) (fun ht20 => ?_)
                      · refine r_aload_n E dX67_about_158 rfl 0 rfl ?_
                        refine r_gec (y := 0) E zc_69 dX67_about_159 q3223 zr_69 (zh_6808 (by decide)) (by decide) ?_
                        refine r_iload_n E dX67_about_162 rfl 1 rfl ?_
                        refine r_iaload E zc_6808 za_6808 zt_6808 zx_6808 rfl rfl dX67_about_163 (by decide) (fun v21 => ?_)
                        refine r_i2l E dX67_about_164 ?_
                        exact r_lreturn E rfl hT dX67_about_165
                      · refine r_tabc E dX67_about_13 10 166 (by decide) (by decide) rfl (by decide) (fun _ => ?_) (fun ht22 => ?_)
                        · refine r_aload_n E dX67_about_166 rfl 0 rfl ?_
                          refine r_iload_n E dX67_about_167 rfl 1 rfl ?_
                          refine r_callV E [(0, x1)] [] rfl zc_69 zr_69 (fun o _ => ⟨_, zw_X67.1 o, rfl⟩) (lw_V q3768 q3770 qs113 q294 q3771) dX67_about_168 zy_X67_countEntries rfl (by omega) (by decide) (Nat.le_of_ble_eq_true rfl) (by decide) (fun l G => k_fX67_countEntries l G x1) (fun v23 => ?_)
                          refine r_i2l E dX67_about_171 ?_
                          exact r_lreturn E rfl hT dX67_about_172
                        · refine r_tabc E dX67_about_13 11 173 (by decide) (by decide) rfl (by decide) (fun _ => ?_) (fun ht24 => ?_)
                          · refine r_aload_n E dX67_about_173 rfl 0 rfl ?_
                            refine r_gec (y := 0) E zc_69 dX67_about_174 q3227 zr_69 (zh_6812 (by decide)) (by decide) ?_
                            refine r_iload_n E dX67_about_177 rfl 1 rfl ?_
                            refine r_iaload E zc_6812 za_6812 zt_6812 zx_6812 rfl rfl dX67_about_178 (by decide) (fun v25 => ?_)
                            refine r_i2l E dX67_about_179 ?_
                            exact r_lreturn E rfl hT dX67_about_180
                          · refine r_tabc E dX67_about_13 12 181 (by decide) (by decide) rfl (by decide) (fun _ => ?_) (fun ht26 => ?_)
                            · refine r_aload_n E dX67_about_181 rfl 0 rfl ?_
                              refine r_gec (y := 0) E zc_69 dX67_about_182 q3224 zr_69 (zh_6809 (by decide)) (by decide) ?_
                              refine r_iload_n E dX67_about_185 rfl 1 rfl ?_
                              refine r_iaload E zc_6809 za_6809 zt_6809 zx_6809 rfl rfl dX67_about_186 (by decide) (fun v27 => ?_)
                              refine r_i2l E dX67_about_187 ?_
                              exact r_lreturn E rfl hT dX67_about_188
                            · refine r_tabc E dX67_about_13 13 189 (by decide) (by decide) rfl (by decide) (fun _ => ?_) (fun ht28 => ?_)
                              · refine r_aload_n E dX67_about_189 rfl 0 rfl ?_
                                refine r_gec (y := 0) E zc_69 dX67_about_190 q3216 zr_69 (zh_6801 (by decide)) (by decide) ?_
                                refine r_iload_n E dX67_about_193 rfl 1 rfl ?_
                                refine r_laload E zc_6801 za_6801 zt_6801 zx_6801 rfl rfl dX67_about_194 (by decide) (fun v29 => ?_)
                                exact r_lreturn E rfl hT dX67_about_195
                              · refine r_tabc E dX67_about_13 14 196 (by decide) (by decide) rfl (by decide) (fun _ => ?_) (fun ht30 => ?_)
                                · refine r_aload_n E dX67_about_196 rfl 0 rfl ?_
                                  refine r_gec (y := 0) E zc_69 dX67_about_197 q3232 zr_69 (zh_6817 (by decide)) (by decide) ?_
                                  refine r_iload_n E dX67_about_200 rfl 1 rfl ?_
                                  refine r_iaload E zc_6817 za_6817 zt_6817 zx_6817 rfl rfl dX67_about_201 (by decide) (fun v31 => ?_)
                                  refine r_i2l E dX67_about_202 ?_
                                  exact r_lreturn E rfl hT dX67_about_203
                                · refine r_tabc E dX67_about_13 15 204 (by decide) (by decide) rfl (by decide) (fun _ => ?_) (fun ht32 => ?_)
                                  · refine r_aload_n E dX67_about_204 rfl 0 rfl ?_
                                    refine r_gec (y := 0) E zc_69 dX67_about_205 q3229 zr_69 (zh_6814 (by decide)) (by decide) ?_
                                    refine r_iconst E dX67_about_208 (zkI (by decide) (by decide)) ?_
                                    refine r_iload_n E dX67_about_209 rfl 1 rfl ?_
                                    refine r_imul E dX67_about_210 ?_
                                    refine r_iload_n E dX67_about_211 rfl 2 rfl ?_
                                    refine r_iadd E dX67_about_212 ?_
                                    refine r_bipush E dX67_about_213 (by decide) (zkI (by decide) (by decide)) ?_
                                    refine r_isub E dX67_about_215 ?_
                                    refine r_iaload E zc_6814 za_6814 zt_6814 zx_6814 rfl rfl dX67_about_216 (by decide) (fun v33 => ?_)
                                    refine r_i2l E dX67_about_217 ?_
                                    exact r_lreturn E rfl hT dX67_about_218
                                  · refine r_tabc E dX67_about_13 16 204 (by decide) (by decide) rfl (by decide) (fun _ => ?_) (fun ht34 => ?_)
                                    · refine r_aload_n E dX67_about_204 rfl 0 rfl ?_
                                      refine r_gec (y := 0) E zc_69 dX67_about_205 q3229 zr_69 (zh_6814 (by decide)) (by decide) ?_
                                      refine r_iconst E dX67_about_208 (zkI (by decide) (by decide)) ?_
                                      refine r_iload_n E dX67_about_209 rfl 1 rfl ?_
                                      refine r_imul E dX67_about_210 ?_
                                      refine r_iload_n E dX67_about_211 rfl 2 rfl ?_
                                      refine r_iadd E dX67_about_212 ?_
                                      refine r_bipush E dX67_about_213 (by decide) (zkI (by decide) (by decide)) ?_
                                      refine r_isub E dX67_about_215 ?_
                                      refine r_iaload E zc_6814 za_6814 zt_6814 zx_6814 rfl rfl dX67_about_216 (by decide) (fun v35 => ?_)
                                      refine r_i2l E dX67_about_217 ?_
                                      exact r_lreturn E rfl hT dX67_about_218
                                    · refine r_tabd E dX67_about_13 219 [0, 1, 2, 3, 4, 5, 6, 7, 8, 9, 10, 11, 12, 13, 14, 15, 16] (by decide) (by decide) (by decide) ⟨ht2, ht4, ht6, ht8, ht10, ht12, ht14, ht16, ht18, ht20, ht22, ht24, ht26, ht28, ht30, ht32, ht34, trivial⟩ ?_
                                      refine r_ldc2 (v := (-8)) E dX67_about_219 q3772 (by decide) (zkJ (by decide) (by decide)) ?_
                                      exact r_lreturn E rfl hT dX67_about_222
  · refine r_ldc2 (v := (-1)) E dX67_about_8 q3759 (by decide) (zkJ (by decide) (by decide)) ?_
    exact r_lreturn E rfl hT dX67_about_11
theorem k_fX67_about (l : Launch) (G : zG) (x1 : Int) (x2 : Int) : zCt l G yX67_about cX67_about 3 (some .long) 2 [(69, 0), (0, x1), (0, x2)] (some 1) (fX67_about x1 x2) := zCt.of (by decide) (Nat.le_of_ble_eq_true rfl) (fun K E _ _ hN hT => w_fX67_about E hN hT x1 x2)
theorem dX67_modesFor_0 : decode cX67_modesFor 0 = .ok (.iconst (-1), 1) := by decide +kernel
theorem dX67_modesFor_1 : decode cX67_modesFor 1 = .ok (.istore 4, 2) := by decide +kernel
theorem dX67_modesFor_3 : decode cX67_modesFor 3 = .ok (.iconst 0, 1) := by decide +kernel
theorem dX67_modesFor_4 : decode cX67_modesFor 4 = .ok (.istore 5, 2) := by decide +kernel
theorem dX67_modesFor_6 : decode cX67_modesFor 6 = .ok (.iconst 0, 1) := by decide +kernel
theorem dX67_modesFor_7 : decode cX67_modesFor 7 = .ok (.istore 6, 2) := by decide +kernel
theorem dX67_modesFor_9 : decode cX67_modesFor 9 = .ok (.iload 6, 2) := by decide +kernel
theorem dX67_modesFor_11 : decode cX67_modesFor 11 = .ok (.aload_n 0, 1) := by decide +kernel
theorem dX67_modesFor_12 : decode cX67_modesFor 12 = .ok (.getfield 44, 3) := by decide +kernel
theorem dX67_modesFor_15 : decode cX67_modesFor 15 = .ok (.iload_n 1, 1) := by decide +kernel
theorem dX67_modesFor_16 : decode cX67_modesFor 16 = .ok (.iaload, 1) := by decide +kernel
theorem dX67_modesFor_17 : decode cX67_modesFor 17 = .ok (.if_icmp .ge 143, 3) := by decide +kernel
theorem dX67_modesFor_20 : decode cX67_modesFor 20 = .ok (.bipush 18, 2) := by decide +kernel
theorem dX67_modesFor_22 : decode cX67_modesFor 22 = .ok (.iload_n 1, 1) := by decide +kernel
theorem dX67_modesFor_23 : decode cX67_modesFor 23 = .ok (.imul, 1) := by decide +kernel
theorem dX67_modesFor_24 : decode cX67_modesFor 24 = .ok (.iconst 3, 1) := by decide +kernel
theorem dX67_modesFor_25 : decode cX67_modesFor 25 = .ok (.iload 6, 2) := by decide +kernel
theorem dX67_modesFor_27 : decode cX67_modesFor 27 = .ok (.imul, 1) := by decide +kernel
theorem dX67_modesFor_28 : decode cX67_modesFor 28 = .ok (.iadd, 1) := by decide +kernel
theorem dX67_modesFor_29 : decode cX67_modesFor 29 = .ok (.istore 7, 2) := by decide +kernel
theorem dX67_modesFor_31 : decode cX67_modesFor 31 = .ok (.aload_n 0, 1) := by decide +kernel
theorem dX67_modesFor_32 : decode cX67_modesFor 32 = .ok (.getfield 47, 3) := by decide +kernel
theorem dX67_modesFor_35 : decode cX67_modesFor 35 = .ok (.iload 7, 2) := by decide +kernel
theorem dX67_modesFor_37 : decode cX67_modesFor 37 = .ok (.iaload, 1) := by decide +kernel
theorem dX67_modesFor_38 : decode cX67_modesFor 38 = .ok (.iload_n 2, 1) := by decide +kernel
theorem dX67_modesFor_39 : decode cX67_modesFor 39 = .ok (.if_icmp .eq 15, 3) := by decide +kernel
theorem dX67_modesFor_42 : decode cX67_modesFor 42 = .ok (.aload_n 0, 1) := by decide +kernel
theorem dX67_modesFor_43 : decode cX67_modesFor 43 = .ok (.getfield 47, 3) := by decide +kernel
theorem dX67_modesFor_46 : decode cX67_modesFor 46 = .ok (.iload 7, 2) := by decide +kernel
theorem dX67_modesFor_48 : decode cX67_modesFor 48 = .ok (.iaload, 1) := by decide +kernel
theorem dX67_modesFor_49 : decode cX67_modesFor 49 = .ok (.bipush 16, 2) := by decide +kernel
theorem dX67_modesFor_51 : decode cX67_modesFor 51 = .ok (.if_icmp .ne 34, 3) := by decide +kernel
theorem dX67_modesFor_54 : decode cX67_modesFor 54 = .ok (.aload_n 0, 1) := by decide +kernel
theorem dX67_modesFor_55 : decode cX67_modesFor 55 = .ok (.getfield 47, 3) := by decide +kernel
theorem dX67_modesFor_58 : decode cX67_modesFor 58 = .ok (.iload 7, 2) := by decide +kernel
theorem dX67_modesFor_60 : decode cX67_modesFor 60 = .ok (.iconst 1, 1) := by decide +kernel
theorem dX67_modesFor_61 : decode cX67_modesFor 61 = .ok (.iadd, 1) := by decide +kernel
theorem dX67_modesFor_62 : decode cX67_modesFor 62 = .ok (.iaload, 1) := by decide +kernel
theorem dX67_modesFor_63 : decode cX67_modesFor 63 = .ok (.iload_n 3, 1) := by decide +kernel
theorem dX67_modesFor_64 : decode cX67_modesFor 64 = .ok (.if_icmp .eq 17, 3) := by decide +kernel
theorem dX67_modesFor_67 : decode cX67_modesFor 67 = .ok (.aload_n 0, 1) := by decide +kernel
theorem dX67_modesFor_68 : decode cX67_modesFor 68 = .ok (.getfield 47, 3) := by decide +kernel
theorem dX67_modesFor_71 : decode cX67_modesFor 71 = .ok (.iload 7, 2) := by decide +kernel
theorem dX67_modesFor_73 : decode cX67_modesFor 73 = .ok (.iconst 1, 1) := by decide +kernel
theorem dX67_modesFor_74 : decode cX67_modesFor 74 = .ok (.iadd, 1) := by decide +kernel
theorem dX67_modesFor_75 : decode cX67_modesFor 75 = .ok (.iaload, 1) := by decide +kernel
theorem dX67_modesFor_76 : decode cX67_modesFor 76 = .ok (.bipush 8, 2) := by decide +kernel
theorem dX67_modesFor_78 : decode cX67_modesFor 78 = .ok (.if_icmp .ne 7, 3) := by decide +kernel
theorem dX67_modesFor_81 : decode cX67_modesFor 81 = .ok (.iconst 1, 1) := by decide +kernel
theorem dX67_modesFor_82 : decode cX67_modesFor 82 = .ok (.goto 4, 3) := by decide +kernel
theorem dX67_modesFor_85 : decode cX67_modesFor 85 = .ok (.iconst 0, 1) := by decide +kernel
theorem dX67_modesFor_86 : decode cX67_modesFor 86 = .ok (.istore 8, 2) := by decide +kernel
theorem dX67_modesFor_88 : decode cX67_modesFor 88 = .ok (.aload_n 0, 1) := by decide +kernel
theorem dX67_modesFor_89 : decode cX67_modesFor 89 = .ok (.getfield 47, 3) := by decide +kernel
theorem dX67_modesFor_92 : decode cX67_modesFor 92 = .ok (.iload 7, 2) := by decide +kernel
theorem dX67_modesFor_94 : decode cX67_modesFor 94 = .ok (.iaload, 1) := by decide +kernel
theorem dX67_modesFor_95 : decode cX67_modesFor 95 = .ok (.bipush 16, 2) := by decide +kernel
theorem dX67_modesFor_97 : decode cX67_modesFor 97 = .ok (.if_icmp .ne 7, 3) := by decide +kernel
theorem dX67_modesFor_100 : decode cX67_modesFor 100 = .ok (.iconst 0, 1) := by decide +kernel
theorem dX67_modesFor_101 : decode cX67_modesFor 101 = .ok (.goto 4, 3) := by decide +kernel
theorem dX67_modesFor_104 : decode cX67_modesFor 104 = .ok (.iconst 2, 1) := by decide +kernel
theorem dX67_modesFor_105 : decode cX67_modesFor 105 = .ok (.aload_n 0, 1) := by decide +kernel
theorem dX67_modesFor_106 : decode cX67_modesFor 106 = .ok (.getfield 47, 3) := by decide +kernel
theorem dX67_modesFor_109 : decode cX67_modesFor 109 = .ok (.iload 7, 2) := by decide +kernel
theorem dX67_modesFor_111 : decode cX67_modesFor 111 = .ok (.iconst 1, 1) := by decide +kernel
theorem dX67_modesFor_112 : decode cX67_modesFor 112 = .ok (.iadd, 1) := by decide +kernel
theorem dX67_modesFor_113 : decode cX67_modesFor 113 = .ok (.iaload, 1) := by decide +kernel
theorem dX67_modesFor_114 : decode cX67_modesFor 114 = .ok (.bipush 8, 2) := by decide +kernel
theorem dX67_modesFor_116 : decode cX67_modesFor 116 = .ok (.if_icmp .ne 7, 3) := by decide +kernel
theorem dX67_modesFor_119 : decode cX67_modesFor 119 = .ok (.iconst 0, 1) := by decide +kernel
theorem dX67_modesFor_120 : decode cX67_modesFor 120 = .ok (.goto 4, 3) := by decide +kernel
theorem dX67_modesFor_123 : decode cX67_modesFor 123 = .ok (.iconst 1, 1) := by decide +kernel
theorem dX67_modesFor_124 : decode cX67_modesFor 124 = .ok (.iadd, 1) := by decide +kernel
theorem dX67_modesFor_125 : decode cX67_modesFor 125 = .ok (.istore 9, 2) := by decide +kernel
theorem dX67_modesFor_127 : decode cX67_modesFor 127 = .ok (.iload 8, 2) := by decide +kernel
theorem dX67_modesFor_129 : decode cX67_modesFor 129 = .ok (.ifCond .eq 25, 3) := by decide +kernel
theorem dX67_modesFor_132 : decode cX67_modesFor 132 = .ok (.iload 9, 2) := by decide +kernel
theorem dX67_modesFor_134 : decode cX67_modesFor 134 = .ok (.iload 4, 2) := by decide +kernel
theorem dX67_modesFor_136 : decode cX67_modesFor 136 = .ok (.if_icmp .le 18, 3) := by decide +kernel
theorem dX67_modesFor_139 : decode cX67_modesFor 139 = .ok (.iload 9, 2) := by decide +kernel
theorem dX67_modesFor_141 : decode cX67_modesFor 141 = .ok (.istore 4, 2) := by decide +kernel
theorem dX67_modesFor_143 : decode cX67_modesFor 143 = .ok (.aload_n 0, 1) := by decide +kernel
theorem dX67_modesFor_144 : decode cX67_modesFor 144 = .ok (.getfield 47, 3) := by decide +kernel
theorem dX67_modesFor_147 : decode cX67_modesFor 147 = .ok (.iload 7, 2) := by decide +kernel
theorem dX67_modesFor_149 : decode cX67_modesFor 149 = .ok (.iconst 2, 1) := by decide +kernel
theorem dX67_modesFor_150 : decode cX67_modesFor 150 = .ok (.iadd, 1) := by decide +kernel
theorem dX67_modesFor_151 : decode cX67_modesFor 151 = .ok (.iaload, 1) := by decide +kernel
theorem dX67_modesFor_152 : decode cX67_modesFor 152 = .ok (.istore 5, 2) := by decide +kernel
theorem dX67_modesFor_154 : decode cX67_modesFor 154 = .ok (.iinc 6 1, 3) := by decide +kernel
theorem dX67_modesFor_157 : decode cX67_modesFor 157 = .ok (.goto (-148), 3) := by decide +kernel
theorem dX67_modesFor_160 : decode cX67_modesFor 160 = .ok (.iload 5, 2) := by decide +kernel
theorem dX67_modesFor_162 : decode cX67_modesFor 162 = .ok (.ireturn, 1) := by decide +kernel
theorem zy_X67_modesFor : yX67_modesFor.cls ≠ "java/lang/invoke/MethodHandle" ∧ yX67_modesFor.cls ≠ "java/lang/invoke/VarHandle" ∧ (parseMethodDescriptor yX67_modesFor.desc).map (fun d => d.parameters.length) = some 3 := by decide +kernel
theorem w_fX67_modesFor_J154 {K : zK} (E : zE K cX67_modesFor "RingHouseModel" (some .int) 0) (hN : zNl K = 10) (hT : zTr K = (some 0)) (x1 : Int) (x2 : Int) (x3 : Int) (x4 : Int) (x5 : Int) (x6 : Int) {r9 : Int × Int × Int → zX} (hr9 : ∀ s : Int × Int × Int, zR K 9 [(0, 69, 0), (1, 0, x1), (2, 0, x2), (3, 0, x3), (4, 0, s.1), (5, 0, s.2.1), (6, 0, s.2.2)] [] (r9 s)) : zR K 154 [(0, 69, 0), (1, 0, x1), (2, 0, x2), (3, 0, x3), (4, 0, x4), (5, 0, x5), (6, 0, x6)] [] (fX67_modesFor_J154 r9 x1 x2 x3 x4 x5 x6) := by
  refine r_iinc (ls' := fun v8 => [(6, 0, v8), (0, 69, 0), (1, 0, x1), (2, 0, x2), (3, 0, x3), (4, 0, x4), (5, 0, x5)]) E 6 rfl (by rw [hN]; decide) (fun _ => rfl) dX67_modesFor_154 (fun v8 _ => ?_)
  refine r_goto E 9 (by decide) dX67_modesFor_157 ?_
  refine r_pick E [1, 2, 3, 4, 5, 6, 0] rfl ?_
  exact hr9 (x4, x5, v8)
theorem w_fX67_modesFor_J124 {K : zK} (E : zE K cX67_modesFor "RingHouseModel" (some .int) 0) (hN : zNl K = 10) (hT : zTr K = (some 0)) (x1 : Int) (x2 : Int) (x3 : Int) (x4 : Int) (x5 : Int) (x6 : Int) (x7 : Int) (x8 : Int) (s0 : Int) (s1 : Int) {r9 : Int × Int × Int → zX} (hr9 : ∀ s : Int × Int × Int, zR K 9 [(0, 69, 0), (1, 0, x1), (2, 0, x2), (3, 0, x3), (4, 0, s.1), (5, 0, s.2.1), (6, 0, s.2.2)] [] (r9 s)) : zR K 124 [(0, 69, 0), (1, 0, x1), (2, 0, x2), (3, 0, x3), (4, 0, x4), (5, 0, x5), (6, 0, x6), (7, 0, x7), (8, 0, x8)] [(0, s1), (0, s0)] (fX67_modesFor_J124 r9 x1 x2 x3 x4 x5 x6 x7 x8 s0 s1) := by
  refine r_iadd E dX67_modesFor_124 ?_
  refine r_let E (fun v7 ev7 => ?_)
  refine r_istore (ls' := [(9, 0, v7), (0, 69, 0), (1, 0, x1), (2, 0, x2), (3, 0, x3), (4, 0, x4), (5, 0, x5), (6, 0, x6), (7, 0, x7), (8, 0, x8)]) E dX67_modesFor_125 (by rw [hN]; decide) rfl ?_
  refine r_iload E dX67_modesFor_127 9 rfl ?_
  refine r_if_eq E 154 (by decide) dX67_modesFor_129 (fun _ => ?_) (fun _ => ?_)
  · refine r_pick E [1, 2, 3, 4, 5, 6, 7] rfl ?_
    exact w_fX67_modesFor_J154 E hN hT x1 x2 x3 x4 x5 x6 hr9
  · refine r_iload E dX67_modesFor_132 0 rfl ?_
    refine r_iload E dX67_modesFor_134 5 rfl ?_
    refine r_icmp_le E 154 (by decide) dX67_modesFor_136 (fun _ => ?_) (fun _ => ?_)
    · refine r_pick E [1, 2, 3, 4, 5, 6, 7] rfl ?_
      exact w_fX67_modesFor_J154 E hN hT x1 x2 x3 x4 x5 x6 hr9
    · refine r_iload E dX67_modesFor_139 0 rfl ?_
      refine r_istore (ls' := [(4, 0, v7), (9, 0, v7), (0, 69, 0), (1, 0, x1), (2, 0, x2), (3, 0, x3), (5, 0, x5), (6, 0, x6), (7, 0, x7), (8, 0, x8)]) E dX67_modesFor_141 (by rw [hN]; decide) rfl ?_
      refine r_aload_n E dX67_modesFor_143 rfl 2 rfl ?_
      refine r_gec (y := 0) E zc_69 dX67_modesFor_144 q3228 zr_69 (zh_6813 (by decide)) (by decide) ?_
      refine r_iload E dX67_modesFor_147 8 rfl ?_
      refine r_iconst E dX67_modesFor_149 (zkI (by decide) (by decide)) ?_
      refine r_iadd E dX67_modesFor_150 ?_
      refine r_iaload E zc_6813 za_6813 zt_6813 zx_6813 rfl rfl dX67_modesFor_151 (by decide) (fun v9 => ?_)
      refine r_istore (ls' := [(5, 0, v9), (4, 0, v7), (9, 0, v7), (0, 69, 0), (1, 0, x1), (2, 0, x2), (3, 0, x3), (6, 0, x6), (7, 0, x7), (8, 0, x8)]) E dX67_modesFor_152 (by rw [hN]; decide) rfl ?_
      refine r_pick E [3, 4, 5, 6, 1, 0, 7] rfl ?_
      exact w_fX67_modesFor_J154 E hN hT x1 x2 x3 v7 v9 x6 hr9
theorem w_fX67_modesFor_J105 {K : zK} (E : zE K cX67_modesFor "RingHouseModel" (some .int) 0) (hN : zNl K = 10) (hT : zTr K = (some 0)) (x1 : Int) (x2 : Int) (x3 : Int) (x4 : Int) (x5 : Int) (x6 : Int) (x7 : Int) (x8 : Int) (s0 : Int) {r9 : Int × Int × Int → zX} (hr9 : ∀ s : Int × Int × Int, zR K 9 [(0, 69, 0), (1, 0, x1), (2, 0, x2), (3, 0, x3), (4, 0, s.1), (5, 0, s.2.1), (6, 0, s.2.2)] [] (r9 s)) : zR K 105 [(0, 69, 0), (1, 0, x1), (2, 0, x2), (3, 0, x3), (4, 0, x4), (5, 0, x5), (6, 0, x6), (7, 0, x7), (8, 0, x8)] [(0, s0)] (fX67_modesFor_J105 r9 x1 x2 x3 x4 x5 x6 x7 x8 s0) := by
  refine r_aload_n E dX67_modesFor_105 rfl 0 rfl ?_
  refine r_gec (y := 0) E zc_69 dX67_modesFor_106 q3228 zr_69 (zh_6813 (by decide)) (by decide) ?_
  refine r_iload E dX67_modesFor_109 7 rfl ?_
  refine r_iconst E dX67_modesFor_111 (zkI (by decide) (by decide)) ?_
  refine r_iadd E dX67_modesFor_112 ?_
  refine r_iaload E zc_6813 za_6813 zt_6813 zx_6813 rfl rfl dX67_modesFor_113 (by decide) (fun v6 => ?_)
  refine r_bipush E dX67_modesFor_114 (by decide) (zkI (by decide) (by decide)) ?_
  refine r_icmp_ne E 123 (by decide) dX67_modesFor_116 (fun _ => ?_) (fun _ => ?_)
  · refine r_iconst E dX67_modesFor_123 (zkI (by decide) (by decide)) ?_
    exact w_fX67_modesFor_J124 E hN hT x1 x2 x3 x4 x5 x6 x7 x8 s0 1 hr9
  · refine r_iconst E dX67_modesFor_119 (zkI (by decide) (by decide)) ?_
    refine r_goto E 124 (by decide) dX67_modesFor_120 ?_
    exact w_fX67_modesFor_J124 E hN hT x1 x2 x3 x4 x5 x6 x7 x8 s0 0 hr9
theorem w_fX67_modesFor_J86 {K : zK} (E : zE K cX67_modesFor "RingHouseModel" (some .int) 0) (hN : zNl K = 10) (hT : zTr K = (some 0)) (x1 : Int) (x2 : Int) (x3 : Int) (x4 : Int) (x5 : Int) (x6 : Int) (x7 : Int) (s0 : Int) {r9 : Int × Int × Int → zX} (hr9 : ∀ s : Int × Int × Int, zR K 9 [(0, 69, 0), (1, 0, x1), (2, 0, x2), (3, 0, x3), (4, 0, s.1), (5, 0, s.2.1), (6, 0, s.2.2)] [] (r9 s)) : zR K 86 [(0, 69, 0), (1, 0, x1), (2, 0, x2), (3, 0, x3), (4, 0, x4), (5, 0, x5), (6, 0, x6), (7, 0, x7)] [(0, s0)] (fX67_modesFor_J86 r9 x1 x2 x3 x4 x5 x6 x7 s0) := by
  refine r_istore (ls' := [(8, 0, s0), (0, 69, 0), (1, 0, x1), (2, 0, x2), (3, 0, x3), (4, 0, x4), (5, 0, x5), (6, 0, x6), (7, 0, x7)]) E dX67_modesFor_86 (by rw [hN]; decide) rfl ?_
  refine r_aload_n E dX67_modesFor_88 rfl 1 rfl ?_
  refine r_gec (y := 0) E zc_69 dX67_modesFor_89 q3228 zr_69 (zh_6813 (by decide)) (by decide) ?_
  refine r_iload E dX67_modesFor_92 8 rfl ?_
  refine r_iaload E zc_6813 za_6813 zt_6813 zx_6813 rfl rfl dX67_modesFor_94 (by decide) (fun v5 => ?_)
  refine r_bipush E dX67_modesFor_95 (by decide) (zkI (by decide) (by decide)) ?_
  refine r_icmp_ne E 104 (by decide) dX67_modesFor_97 (fun _ => ?_) (fun _ => ?_)
  · refine r_iconst E dX67_modesFor_104 (zkI (by decide) (by decide)) ?_
    refine r_pick E [1, 2, 3, 4, 5, 6, 7, 8, 0] rfl ?_
    exact w_fX67_modesFor_J105 E hN hT x1 x2 x3 x4 x5 x6 x7 s0 2 hr9
  · refine r_iconst E dX67_modesFor_100 (zkI (by decide) (by decide)) ?_
    refine r_goto E 105 (by decide) dX67_modesFor_101 ?_
    refine r_pick E [1, 2, 3, 4, 5, 6, 7, 8, 0] rfl ?_
    exact w_fX67_modesFor_J105 E hN hT x1 x2 x3 x4 x5 x6 x7 s0 0 hr9
theorem w_fX67_modesFor_J81 {K : zK} (E : zE K cX67_modesFor "RingHouseModel" (some .int) 0) (hN : zNl K = 10) (hT : zTr K = (some 0)) (x1 : Int) (x2 : Int) (x3 : Int) (x4 : Int) (x5 : Int) (x6 : Int) (x7 : Int) {r9 : Int × Int × Int → zX} (hr9 : ∀ s : Int × Int × Int, zR K 9 [(0, 69, 0), (1, 0, x1), (2, 0, x2), (3, 0, x3), (4, 0, s.1), (5, 0, s.2.1), (6, 0, s.2.2)] [] (r9 s)) : zR K 81 [(0, 69, 0), (1, 0, x1), (2, 0, x2), (3, 0, x3), (4, 0, x4), (5, 0, x5), (6, 0, x6), (7, 0, x7)] [] (fX67_modesFor_J81 r9 x1 x2 x3 x4 x5 x6 x7) := by
  refine r_iconst E dX67_modesFor_81 (zkI (by decide) (by decide)) ?_
  refine r_goto E 86 (by decide) dX67_modesFor_82 ?_
  exact w_fX67_modesFor_J86 E hN hT x1 x2 x3 x4 x5 x6 x7 1 hr9
theorem w_fX67_modesFor_J85 {K : zK} (E : zE K cX67_modesFor "RingHouseModel" (some .int) 0) (hN : zNl K = 10) (hT : zTr K = (some 0)) (x1 : Int) (x2 : Int) (x3 : Int) (x4 : Int) (x5 : Int) (x6 : Int) (x7 : Int) {r9 : Int × Int × Int → zX} (hr9 : ∀ s : Int × Int × Int, zR K 9 [(0, 69, 0), (1, 0, x1), (2, 0, x2), (3, 0, x3), (4, 0, s.1), (5, 0, s.2.1), (6, 0, s.2.2)] [] (r9 s)) : zR K 85 [(0, 69, 0), (1, 0, x1), (2, 0, x2), (3, 0, x3), (4, 0, x4), (5, 0, x5), (6, 0, x6), (7, 0, x7)] [] (fX67_modesFor_J85 r9 x1 x2 x3 x4 x5 x6 x7) := by
  refine r_iconst E dX67_modesFor_85 (zkI (by decide) (by decide)) ?_
  exact w_fX67_modesFor_J86 E hN hT x1 x2 x3 x4 x5 x6 x7 0 hr9
theorem w_fX67_modesFor_J54 {K : zK} (E : zE K cX67_modesFor "RingHouseModel" (some .int) 0) (hN : zNl K = 10) (hT : zTr K = (some 0)) (x1 : Int) (x2 : Int) (x3 : Int) (x4 : Int) (x5 : Int) (x6 : Int) (x7 : Int) {r9 : Int × Int × Int → zX} (hr9 : ∀ s : Int × Int × Int, zR K 9 [(0, 69, 0), (1, 0, x1), (2, 0, x2), (3, 0, x3), (4, 0, s.1), (5, 0, s.2.1), (6, 0, s.2.2)] [] (r9 s)) : zR K 54 [(0, 69, 0), (1, 0, x1), (2, 0, x2), (3, 0, x3), (4, 0, x4), (5, 0, x5), (6, 0, x6), (7, 0, x7)] [] (fX67_modesFor_J54 r9 x1 x2 x3 x4 x5 x6 x7) := by
  refine r_aload_n E dX67_modesFor_54 rfl 0 rfl ?_
  refine r_gec (y := 0) E zc_69 dX67_modesFor_55 q3228 zr_69 (zh_6813 (by decide)) (by decide) ?_
  refine r_iload E dX67_modesFor_58 7 rfl ?_
  refine r_iconst E dX67_modesFor_60 (zkI (by decide) (by decide)) ?_
  refine r_iadd E dX67_modesFor_61 ?_
  refine r_iaload E zc_6813 za_6813 zt_6813 zx_6813 rfl rfl dX67_modesFor_62 (by decide) (fun v4 => ?_)
  refine r_iload_n E dX67_modesFor_63 rfl 3 rfl ?_
  refine r_icmp_eq E 81 (by decide) dX67_modesFor_64 (fun _ => ?_) (fun _ => ?_)
  · exact w_fX67_modesFor_J81 E hN hT x1 x2 x3 x4 x5 x6 x7 hr9
  · refine r_aload_n E dX67_modesFor_67 rfl 0 rfl ?_
    refine r_gec (y := 0) E zc_69 dX67_modesFor_68 q3228 zr_69 (zh_6813 (by decide)) (by decide) ?_
    refine r_iload E dX67_modesFor_71 7 rfl ?_
    refine r_iconst E dX67_modesFor_73 (zkI (by decide) (by decide)) ?_
    refine r_iadd E dX67_modesFor_74 ?_
    refine r_iaload E zc_6813 za_6813 zt_6813 zx_6813 rfl rfl dX67_modesFor_75 (by decide) (fun v10 => ?_)
    refine r_bipush E dX67_modesFor_76 (by decide) (zkI (by decide) (by decide)) ?_
    refine r_icmp_ne E 85 (by decide) dX67_modesFor_78 (fun _ => ?_) (fun _ => ?_)
    · exact w_fX67_modesFor_J85 E hN hT x1 x2 x3 x4 x5 x6 x7 hr9
    · exact w_fX67_modesFor_J81 E hN hT x1 x2 x3 x4 x5 x6 x7 hr9
theorem w_fX67_modesFor_B9 {K : zK} (E : zE K cX67_modesFor "RingHouseModel" (some .int) 0) (hN : zNl K = 10) (hT : zTr K = (some 0)) (x1 : Int) (x2 : Int) (x3 : Int) : ∀ r9 : Int × Int × Int → zX, (∀ s : Int × Int × Int, zR K 9 [(0, 69, 0), (1, 0, x1), (2, 0, x2), (3, 0, x3), (4, 0, s.1), (5, 0, s.2.1), (6, 0, s.2.2)] [] (r9 s)) → ∀ s : Int × Int × Int, zR K 9 [(0, 69, 0), (1, 0, x1), (2, 0, x2), (3, 0, x3), (4, 0, s.1), (5, 0, s.2.1), (6, 0, s.2.2)] [] (fX67_modesFor_B9 x1 x2 x3 r9 s) := by
  intro r9 hr9 s
  obtain ⟨x4, x5, x6⟩ := s
  unfold fX67_modesFor_B9
  refine r_iload E dX67_modesFor_9 6 rfl ?_
  refine r_aload_n E dX67_modesFor_11 rfl 0 rfl ?_
  refine r_gec (y := 0) E zc_69 dX67_modesFor_12 q3227 zr_69 (zh_6812 (by decide)) (by decide) ?_
  refine r_iload_n E dX67_modesFor_15 rfl 1 rfl ?_
  refine r_iaload E zc_6812 za_6812 zt_6812 zx_6812 rfl rfl dX67_modesFor_16 (by decide) (fun v1 => ?_)
  refine r_icmp_ge E 160 (by decide) dX67_modesFor_17 (fun _ => ?_) (fun _ => ?_)
  · refine r_iload E dX67_modesFor_160 5 rfl ?_
    exact r_ireturn E rfl hT dX67_modesFor_162
  · refine r_bipush E dX67_modesFor_20 (by decide) (zkI (by decide) (by decide)) ?_
    refine r_iload_n E dX67_modesFor_22 rfl 1 rfl ?_
    refine r_imul E dX67_modesFor_23 ?_
    refine r_iconst E dX67_modesFor_24 (zkI (by decide) (by decide)) ?_
    refine r_iload E dX67_modesFor_25 6 rfl ?_
    refine r_imul E dX67_modesFor_27 ?_
    refine r_iadd E dX67_modesFor_28 ?_
    refine r_let E (fun v2 ev2 => ?_)
    refine r_istore (ls' := [(7, 0, v2), (0, 69, 0), (1, 0, x1), (2, 0, x2), (3, 0, x3), (4, 0, x4), (5, 0, x5), (6, 0, x6)]) E dX67_modesFor_29 (by rw [hN]; decide) rfl ?_
    refine r_aload_n E dX67_modesFor_31 rfl 1 rfl ?_
    refine r_gec (y := 0) E zc_69 dX67_modesFor_32 q3228 zr_69 (zh_6813 (by decide)) (by decide) ?_
    refine r_iload E dX67_modesFor_35 0 rfl ?_
    refine r_iaload E zc_6813 za_6813 zt_6813 zx_6813 rfl rfl dX67_modesFor_37 (by decide) (fun v3 => ?_)
    refine r_iload_n E dX67_modesFor_38 rfl 3 rfl ?_
    refine r_icmp_eq E 54 (by decide) dX67_modesFor_39 (fun _ => ?_) (fun _ => ?_)
    · refine r_pick E [1, 2, 3, 4, 5, 6, 7, 0] rfl ?_
      exact w_fX67_modesFor_J54 E hN hT x1 x2 x3 x4 x5 x6 v2 hr9
    · refine r_aload_n E dX67_modesFor_42 rfl 1 rfl ?_
      refine r_gec (y := 0) E zc_69 dX67_modesFor_43 q3228 zr_69 (zh_6813 (by decide)) (by decide) ?_
      refine r_iload E dX67_modesFor_46 0 rfl ?_
      refine r_iaload E zc_6813 za_6813 zt_6813 zx_6813 rfl rfl dX67_modesFor_48 (by decide) (fun v11 => ?_)
      refine r_bipush E dX67_modesFor_49 (by decide) (zkI (by decide) (by decide)) ?_
      refine r_icmp_ne E 85 (by decide) dX67_modesFor_51 (fun _ => ?_) (fun _ => ?_)
      · refine r_pick E [1, 2, 3, 4, 5, 6, 7, 0] rfl ?_
        exact w_fX67_modesFor_J85 E hN hT x1 x2 x3 x4 x5 x6 v2 hr9
      · refine r_pick E [1, 2, 3, 4, 5, 6, 7, 0] rfl ?_
        exact w_fX67_modesFor_J54 E hN hT x1 x2 x3 x4 x5 x6 v2 hr9
theorem w_fX67_modesFor {K : zK} (E : zE K cX67_modesFor "RingHouseModel" (some .int) 0) (hN : zNl K = 10) (hT : zTr K = (some 0)) (x1 : Int) (x2 : Int) (x3 : Int) : zR K 0 [(0, 69, 0), (1, 0, x1), (2, 0, x2), (3, 0, x3)] [] (fX67_modesFor x1 x2 x3) := by
  refine r_iconst E dX67_modesFor_0 (zkI (by decide) (by decide)) ?_
  refine r_istore (ls' := [(4, 0, (-1)), (0, 69, 0), (1, 0, x1), (2, 0, x2), (3, 0, x3)]) E dX67_modesFor_1 (by rw [hN]; decide) rfl ?_
  refine r_iconst E dX67_modesFor_3 (zkI (by decide) (by decide)) ?_
  refine r_istore (ls' := [(5, 0, 0), (4, 0, (-1)), (0, 69, 0), (1, 0, x1), (2, 0, x2), (3, 0, x3)]) E dX67_modesFor_4 (by rw [hN]; decide) rfl ?_
  refine r_iconst E dX67_modesFor_6 (zkI (by decide) (by decide)) ?_
  refine r_istore (ls' := [(6, 0, 0), (5, 0, 0), (4, 0, (-1)), (0, 69, 0), (1, 0, x1), (2, 0, x2), (3, 0, x3)]) E dX67_modesFor_7 (by rw [hN]; decide) rfl ?_
  refine r_pick E [3, 4, 5, 6, 2, 1, 0] rfl ?_
  exact r_loop (L := fun s => [(0, 69, 0), (1, 0, x1), (2, 0, x2), (3, 0, x3), (4, 0, s.1), (5, 0, s.2.1), (6, 0, s.2.2)]) (w_fX67_modesFor_B9 E hN hT x1 x2 x3) zBIG ((-1), 0, 0)
theorem k_fX67_modesFor (l : Launch) (G : zG) (x1 : Int) (x2 : Int) (x3 : Int) : zCt l G yX67_modesFor cX67_modesFor 10 (some .int) 0 [(69, 0), (0, x1), (0, x2), (0, x3)] (some 0) (fX67_modesFor x1 x2 x3) := zCt.of (by decide) (Nat.le_of_ble_eq_true rfl) (fun K E _ _ hN hT => w_fX67_modesFor E hN hT x1 x2 x3)
theorem dX67_modes_0 : decode cX67_modes 0 = .ok (.aload_n 0, 1) := by decide +kernel
theorem dX67_modes_1 : decode cX67_modes 1 = .ok (.iload_n 1, 1) := by decide +kernel
theorem dX67_modes_2 : decode cX67_modes 2 = .ok (.invokevirtual 379, 3) := by decide +kernel
theorem dX67_modes_5 : decode cX67_modes 5 = .ok (.ifCond .eq 27, 3) := by decide +kernel
theorem dX67_modes_8 : decode cX67_modes 8 = .ok (.iload_n 2, 1) := by decide +kernel
theorem dX67_modes_9 : decode cX67_modes 9 = .ok (.i2l, 1) := by decide +kernel
theorem dX67_modes_10 : decode cX67_modes 10 = .ok (.lconst 0, 1) := by decide +kernel
theorem dX67_modes_11 : decode cX67_modes 11 = .ok (.ldc2_w 496, 3) := by decide +kernel
theorem dX67_modes_14 : decode cX67_modes 14 = .ok (.invokestatic 363, 3) := by decide +kernel
theorem dX67_modes_17 : decode cX67_modes 17 = .ok (.ifCond .eq 15, 3) := by decide +kernel
theorem dX67_modes_20 : decode cX67_modes 20 = .ok (.iload_n 3, 1) := by decide +kernel
theorem dX67_modes_21 : decode cX67_modes 21 = .ok (.i2l, 1) := by decide +kernel
theorem dX67_modes_22 : decode cX67_modes 22 = .ok (.lconst 0, 1) := by decide +kernel
theorem dX67_modes_23 : decode cX67_modes 23 = .ok (.ldc2_w 476, 3) := by decide +kernel
theorem dX67_modes_26 : decode cX67_modes 26 = .ok (.invokestatic 363, 3) := by decide +kernel
theorem dX67_modes_29 : decode cX67_modes 29 = .ok (.ifCond .ne 8, 3) := by decide +kernel
theorem dX67_modes_32 : decode cX67_modes 32 = .ok (.bipush (-8), 2) := by decide +kernel
theorem dX67_modes_34 : decode cX67_modes 34 = .ok (.goto 10, 3) := by decide +kernel
theorem dX67_modes_37 : decode cX67_modes 37 = .ok (.aload_n 0, 1) := by decide +kernel
theorem dX67_modes_38 : decode cX67_modes 38 = .ok (.iload_n 1, 1) := by decide +kernel
theorem dX67_modes_39 : decode cX67_modes 39 = .ok (.iload_n 2, 1) := by decide +kernel
theorem dX67_modes_40 : decode cX67_modes 40 = .ok (.iload_n 3, 1) := by decide +kernel
theorem dX67_modes_41 : decode cX67_modes 41 = .ok (.invokevirtual 498, 3) := by decide +kernel
theorem dX67_modes_44 : decode cX67_modes 44 = .ok (.ireturn, 1) := by decide +kernel
theorem zy_X67_modes : yX67_modes.cls ≠ "java/lang/invoke/MethodHandle" ∧ yX67_modes.cls ≠ "java/lang/invoke/VarHandle" ∧ (parseMethodDescriptor yX67_modes.desc).map (fun d => d.parameters.length) = some 3 := by decide +kernel
theorem w_fX67_modes {K : zK} (E : zE K cX67_modes "RingHouseModel" (some .int) 2) (hN : zNl K = 4) (hT : zTr K = (some 0)) (x1 : Int) (x2 : Int) (x3 : Int) : zR K 0 [(0, 69, 0), (1, 0, x1), (2, 0, x2), (3, 0, x3)] [] (fX67_modes x1 x2 x3) := by
  refine r_aload_n E dX67_modes_0 rfl 0 rfl ?_
  refine r_iload_n E dX67_modes_1 rfl 1 rfl ?_
  refine r_callV E [(0, x1)] [] rfl zc_69 zr_69 (fun o _ => ⟨_, zw_X67.1 o, rfl⟩) (lw_V q3614 q3616 qs93 q294 q3617) dX67_modes_2 zy_X67_isNode rfl (by omega) (by decide) (Nat.le_of_ble_eq_true rfl) (by decide) (fun l G => k_fX67_isNode l G x1) (fun v1 => ?_)
  refine r_if_eq E 32 (by decide) dX67_modes_5 (fun _ => ?_) (fun _ => ?_)
  · refine r_bipush E dX67_modes_32 (by decide) (zkI (by decide) (by decide)) ?_
    refine r_goto E 44 (by decide) dX67_modes_34 ?_
    exact r_ireturn E rfl hT dX67_modes_44
  · refine r_iload_n E dX67_modes_8 rfl 2 rfl ?_
    refine r_i2l E dX67_modes_9 ?_
    refine r_lconst (v := 0) E dX67_modes_10 (by decide) (zkJ (by decide) (by decide)) ?_
    refine r_ldc2 (v := 15) E dX67_modes_11 q3777 (by decide) (zkJ (by decide) (by decide)) ?_
    refine r_callS E [(1, x2), (1, 0), (1, 15)] [] rfl q3619 q3620 q294 q3621 dX67_modes_14 zy_X67_in rfl (by omega) (by decide) (Nat.le_of_ble_eq_true rfl) (fun l G => k_fX67_in l G x2 0 15) (fun v2 => ?_)
    refine r_if_eq E 32 (by decide) dX67_modes_17 (fun _ => ?_) (fun _ => ?_)
    · refine r_bipush E dX67_modes_32 (by decide) (zkI (by decide) (by decide)) ?_
      refine r_goto E 44 (by decide) dX67_modes_34 ?_
      exact r_ireturn E rfl hT dX67_modes_44
    · refine r_iload_n E dX67_modes_20 rfl 3 rfl ?_
      refine r_i2l E dX67_modes_21 ?_
      refine r_lconst (v := 0) E dX67_modes_22 (by decide) (zkJ (by decide) (by decide)) ?_
      refine r_ldc2 (v := 7) E dX67_modes_23 q3709 (by decide) (zkJ (by decide) (by decide)) ?_
      refine r_callS E [(1, x3), (1, 0), (1, 7)] [] rfl q3619 q3620 q294 q3621 dX67_modes_26 zy_X67_in rfl (by omega) (by decide) (Nat.le_of_ble_eq_true rfl) (fun l G => k_fX67_in l G x3 0 7) (fun v3 => ?_)
      refine r_if_ne E 37 (by decide) dX67_modes_29 (fun _ => ?_) (fun _ => ?_)
      · refine r_aload_n E dX67_modes_37 rfl 0 rfl ?_
        refine r_iload_n E dX67_modes_38 rfl 1 rfl ?_
        refine r_iload_n E dX67_modes_39 rfl 2 rfl ?_
        refine r_iload_n E dX67_modes_40 rfl 3 rfl ?_
        refine r_callV E [(0, x1), (0, x2), (0, x3)] [] rfl zc_69 zr_69 (fun o _ => ⟨_, zw_X67.1 o, rfl⟩) (lw_V q3778 q3780 qs114 q294 q3781) dX67_modes_41 zy_X67_modesFor rfl (by omega) (by decide) (Nat.le_of_ble_eq_true rfl) (by decide) (fun l G => k_fX67_modesFor l G x1 x2 x3) (fun v4 => ?_)
        exact r_ireturn E rfl hT dX67_modes_44
      · refine r_bipush E dX67_modes_32 (by decide) (zkI (by decide) (by decide)) ?_
        refine r_goto E 44 (by decide) dX67_modes_34 ?_
        exact r_ireturn E rfl hT dX67_modes_44
theorem k_fX67_modes (l : Launch) (G : zG) (x1 : Int) (x2 : Int) (x3 : Int) : zCt l G yX67_modes cX67_modes 4 (some .int) 2 [(69, 0), (0, x1), (0, x2), (0, x3)] (some 0) (fX67_modes x1 x2 x3) := zCt.of (by decide) (Nat.le_of_ble_eq_true rfl) (fun K E _ _ hN hT => w_fX67_modes E hN hT x1 x2 x3)
theorem dX67_isPlace_0 : decode cX67_isPlace 0 = .ok (.aload_n 0, 1) := by decide +kernel
theorem dX67_isPlace_1 : decode cX67_isPlace 1 = .ok (.iload_n 1, 1) := by decide +kernel
theorem dX67_isPlace_2 : decode cX67_isPlace 2 = .ok (.iconst 2, 1) := by decide +kernel
theorem dX67_isPlace_3 : decode cX67_isPlace 3 = .ok (.invokevirtual 439, 3) := by decide +kernel
theorem dX67_isPlace_6 : decode cX67_isPlace 6 = .ok (.ifCond .eq 25, 3) := by decide +kernel
theorem dX67_isPlace_9 : decode cX67_isPlace 9 = .ok (.iload_n 2, 1) := by decide +kernel
theorem dX67_isPlace_10 : decode cX67_isPlace 10 = .ok (.i2l, 1) := by decide +kernel
theorem dX67_isPlace_11 : decode cX67_isPlace 11 = .ok (.lconst 0, 1) := by decide +kernel
theorem dX67_isPlace_12 : decode cX67_isPlace 12 = .ok (.aload_n 0, 1) := by decide +kernel
theorem dX67_isPlace_13 : decode cX67_isPlace 13 = .ok (.getfield 29, 3) := by decide +kernel
theorem dX67_isPlace_16 : decode cX67_isPlace 16 = .ok (.iload_n 1, 1) := by decide +kernel
theorem dX67_isPlace_17 : decode cX67_isPlace 17 = .ok (.iaload, 1) := by decide +kernel
theorem dX67_isPlace_18 : decode cX67_isPlace 18 = .ok (.iconst 1, 1) := by decide +kernel
theorem dX67_isPlace_19 : decode cX67_isPlace 19 = .ok (.isub, 1) := by decide +kernel
theorem dX67_isPlace_20 : decode cX67_isPlace 20 = .ok (.i2l, 1) := by decide +kernel
theorem dX67_isPlace_21 : decode cX67_isPlace 21 = .ok (.invokestatic 363, 3) := by decide +kernel
theorem dX67_isPlace_24 : decode cX67_isPlace 24 = .ok (.ifCond .eq 7, 3) := by decide +kernel
theorem dX67_isPlace_27 : decode cX67_isPlace 27 = .ok (.iconst 1, 1) := by decide +kernel
theorem dX67_isPlace_28 : decode cX67_isPlace 28 = .ok (.goto 4, 3) := by decide +kernel
theorem dX67_isPlace_31 : decode cX67_isPlace 31 = .ok (.iconst 0, 1) := by decide +kernel
theorem dX67_isPlace_32 : decode cX67_isPlace 32 = .ok (.ireturn, 1) := by decide +kernel
theorem zy_X67_isPlace : yX67_isPlace.cls ≠ "java/lang/invoke/MethodHandle" ∧ yX67_isPlace.cls ≠ "java/lang/invoke/VarHandle" ∧ (parseMethodDescriptor yX67_isPlace.desc).map (fun d => d.parameters.length) = some 2 := by decide +kernel
theorem w_fX67_isPlace {K : zK} (E : zE K cX67_isPlace "RingHouseModel" (some .boolean) 3) (hN : zNl K = 3) (hT : zTr K = (some 0)) (x1 : Int) (x2 : Int) : zR K 0 [(0, 69, 0), (1, 0, x1), (2, 0, x2)] [] (fX67_isPlace x1 x2) := by
  refine r_aload_n E dX67_isPlace_0 rfl 0 rfl ?_
  refine r_iload_n E dX67_isPlace_1 rfl 1 rfl ?_
  refine r_iconst E dX67_isPlace_2 (zkI (by decide) (by decide)) ?_
  refine r_callV E [(0, x1), (0, 2)] [] rfl zc_69 zr_69 (fun o _ => ⟨_, zw_X67.1 o, rfl⟩) (lw_V q3610 q3612 qs92 q294 q3613) dX67_isPlace_3 zy_X67_isOf rfl (by omega) (by decide) (Nat.le_of_ble_eq_true rfl) (by decide) (fun l G => k_fX67_isOf l G x1 2) (fun v1 => ?_)
  refine r_if_eq E 31 (by decide) dX67_isPlace_6 (fun _ => ?_) (fun _ => ?_)
  · refine r_iconst E dX67_isPlace_31 (zkI (by decide) (by decide)) ?_
    exact r_zreturn E rfl hT (by decide) dX67_isPlace_32
  · refine r_iload_n E dX67_isPlace_9 rfl 2 rfl ?_
    refine r_i2l E dX67_isPlace_10 ?_
    refine r_lconst (v := 0) E dX67_isPlace_11 (by decide) (zkJ (by decide) (by decide)) ?_
    refine r_aload_n E dX67_isPlace_12 rfl 0 rfl ?_
    refine r_gec (y := 0) E zc_69 dX67_isPlace_13 q3221 zr_69 (zh_6806 (by decide)) (by decide) ?_
    refine r_iload_n E dX67_isPlace_16 rfl 1 rfl ?_
    refine r_iaload E zc_6806 za_6806 zt_6806 zx_6806 rfl rfl dX67_isPlace_17 (by decide) (fun v2 => ?_)
    refine r_iconst E dX67_isPlace_18 (zkI (by decide) (by decide)) ?_
    refine r_isub E dX67_isPlace_19 ?_
    refine r_i2l E dX67_isPlace_20 ?_
    refine r_callS E [(1, x2), (1, 0), (1, (zi (v2 - 1)))] [] rfl q3619 q3620 q294 q3621 dX67_isPlace_21 zy_X67_in rfl (by omega) (by decide) (Nat.le_of_ble_eq_true rfl) (fun l G => k_fX67_in l G x2 0 (zi (v2 - 1))) (fun v3 => ?_)
    refine r_if_eq E 31 (by decide) dX67_isPlace_24 (fun _ => ?_) (fun _ => ?_)
    · refine r_iconst E dX67_isPlace_31 (zkI (by decide) (by decide)) ?_
      exact r_zreturn E rfl hT (by decide) dX67_isPlace_32
    · refine r_iconst E dX67_isPlace_27 (zkI (by decide) (by decide)) ?_
      refine r_goto E 32 (by decide) dX67_isPlace_28 ?_
      exact r_zreturn E rfl hT (by decide) dX67_isPlace_32
theorem k_fX67_isPlace (l : Launch) (G : zG) (x1 : Int) (x2 : Int) : zCt l G yX67_isPlace cX67_isPlace 3 (some .boolean) 3 [(69, 0), (0, x1), (0, x2)] (some 0) (fX67_isPlace x1 x2) := zCt.of (by decide) (Nat.le_of_ble_eq_true rfl) (fun K E _ _ hN hT => w_fX67_isPlace E hN hT x1 x2)
theorem dX67_word_0 : decode cX67_word 0 = .ok (.aload_n 0, 1) := by decide +kernel
theorem dX67_word_1 : decode cX67_word 1 = .ok (.iload_n 1, 1) := by decide +kernel
theorem dX67_word_2 : decode cX67_word 2 = .ok (.iload_n 2, 1) := by decide +kernel
theorem dX67_word_3 : decode cX67_word 3 = .ok (.invokevirtual 502, 3) := by decide +kernel
theorem dX67_word_6 : decode cX67_word 6 = .ok (.ifCond .eq 18, 3) := by decide +kernel
theorem dX67_word_9 : decode cX67_word 9 = .ok (.aload_n 0, 1) := by decide +kernel
theorem dX67_word_10 : decode cX67_word 10 = .ok (.getfield 57, 3) := by decide +kernel
theorem dX67_word_13 : decode cX67_word 13 = .ok (.sipush 1024, 3) := by decide +kernel
theorem dX67_word_16 : decode cX67_word 16 = .ok (.iload_n 1, 1) := by decide +kernel
theorem dX67_word_17 : decode cX67_word 17 = .ok (.imul, 1) := by decide +kernel
theorem dX67_word_18 : decode cX67_word 18 = .ok (.iload_n 2, 1) := by decide +kernel
theorem dX67_word_19 : decode cX67_word 19 = .ok (.iadd, 1) := by decide +kernel
theorem dX67_word_20 : decode cX67_word 20 = .ok (.laload, 1) := by decide +kernel
theorem dX67_word_21 : decode cX67_word 21 = .ok (.goto 6, 3) := by decide +kernel
theorem dX67_word_24 : decode cX67_word 24 = .ok (.ldc2_w 422, 3) := by decide +kernel
theorem dX67_word_27 : decode cX67_word 27 = .ok (.lreturn, 1) := by decide +kernel
theorem zy_X67_word : yX67_word.cls ≠ "java/lang/invoke/MethodHandle" ∧ yX67_word.cls ≠ "java/lang/invoke/VarHandle" ∧ (parseMethodDescriptor yX67_word.desc).map (fun d => d.parameters.length) = some 2 := by decide +kernel
theorem w_fX67_word {K : zK} (E : zE K cX67_word "RingHouseModel" (some .long) 4) (hN : zNl K = 3) (hT : zTr K = (some 1)) (x1 : Int) (x2 : Int) : zR K 0 [(0, 69, 0), (1, 0, x1), (2, 0, x2)] [] (fX67_word x1 x2) := by
  refine r_aload_n E dX67_word_0 rfl 0 rfl ?_
  refine r_iload_n E dX67_word_1 rfl 1 rfl ?_
  refine r_iload_n E dX67_word_2 rfl 2 rfl ?_
  refine r_callV E [(0, x1), (0, x2)] [] rfl zc_69 zr_69 (fun o _ => ⟨_, zw_X67.1 o, rfl⟩) (lw_V q3786 q3788 qs115 q294 q3789) dX67_word_3 zy_X67_isPlace rfl (by omega) (by decide) (Nat.le_of_ble_eq_true rfl) (by decide) (fun l G => k_fX67_isPlace l G x1 x2) (fun v1 => ?_)
  refine r_if_eq E 24 (by decide) dX67_word_6 (fun _ => ?_) (fun _ => ?_)
  · refine r_ldc2 (v := (-1)) E dX67_word_24 q3759 (by decide) (zkJ (by decide) (by decide)) ?_
    exact r_lreturn E rfl hT dX67_word_27
  · refine r_aload_n E dX67_word_9 rfl 0 rfl ?_
    refine r_gec (y := 0) E zc_69 dX67_word_10 q3231 zr_69 (zh_6816 (by decide)) (by decide) ?_
    refine r_sipush E dX67_word_13 (by decide) (zkI (by decide) (by decide)) ?_
    refine r_iload_n E dX67_word_16 rfl 1 rfl ?_
    refine r_imul E dX67_word_17 ?_
    refine r_iload_n E dX67_word_18 rfl 2 rfl ?_
    refine r_iadd E dX67_word_19 ?_
    refine r_laload E zc_6816 za_6816 zt_6816 zx_6816 rfl rfl dX67_word_20 (by decide) (fun v2 => ?_)
    refine r_goto E 27 (by decide) dX67_word_21 ?_
    exact r_lreturn E rfl hT dX67_word_27
theorem k_fX67_word (l : Launch) (G : zG) (x1 : Int) (x2 : Int) : zCt l G yX67_word cX67_word 3 (some .long) 4 [(69, 0), (0, x1), (0, x2)] (some 1) (fX67_word x1 x2) := zCt.of (by decide) (Nat.le_of_ble_eq_true rfl) (fun K E _ _ hN hT => w_fX67_word E hN hT x1 x2)
theorem dX67_put_0 : decode cX67_put 0 = .ok (.aload_n 0, 1) := by decide +kernel
theorem dX67_put_1 : decode cX67_put 1 = .ok (.iload_n 1, 1) := by decide +kernel
theorem dX67_put_2 : decode cX67_put 2 = .ok (.iload_n 2, 1) := by decide +kernel
theorem dX67_put_3 : decode cX67_put 3 = .ok (.invokevirtual 502, 3) := by decide +kernel
theorem dX67_put_6 : decode cX67_put 6 = .ok (.ifCond .ne 7, 3) := by decide +kernel
theorem dX67_put_9 : decode cX67_put 9 = .ok (.ldc2_w 422, 3) := by decide +kernel
theorem dX67_put_12 : decode cX67_put 12 = .ok (.lreturn, 1) := by decide +kernel
theorem dX67_put_13 : decode cX67_put 13 = .ok (.lload_n 3, 1) := by decide +kernel
theorem dX67_put_14 : decode cX67_put 14 = .ok (.invokestatic 367, 3) := by decide +kernel
theorem dX67_put_17 : decode cX67_put 17 = .ok (.ifCond .ne 7, 3) := by decide +kernel
theorem dX67_put_20 : decode cX67_put 20 = .ok (.ldc2_w 494, 3) := by decide +kernel
theorem dX67_put_23 : decode cX67_put 23 = .ok (.lreturn, 1) := by decide +kernel
theorem dX67_put_24 : decode cX67_put 24 = .ok (.aload_n 0, 1) := by decide +kernel
theorem dX67_put_25 : decode cX67_put 25 = .ok (.getfield 57, 3) := by decide +kernel
theorem dX67_put_28 : decode cX67_put 28 = .ok (.sipush 1024, 3) := by decide +kernel
theorem dX67_put_31 : decode cX67_put 31 = .ok (.iload_n 1, 1) := by decide +kernel
theorem dX67_put_32 : decode cX67_put 32 = .ok (.imul, 1) := by decide +kernel
theorem dX67_put_33 : decode cX67_put 33 = .ok (.iload_n 2, 1) := by decide +kernel
theorem dX67_put_34 : decode cX67_put 34 = .ok (.iadd, 1) := by decide +kernel
theorem dX67_put_35 : decode cX67_put 35 = .ok (.laload, 1) := by decide +kernel
theorem dX67_put_36 : decode cX67_put 36 = .ok (.lstore 5, 2) := by decide +kernel
theorem dX67_put_38 : decode cX67_put 38 = .ok (.aload_n 0, 1) := by decide +kernel
theorem dX67_put_39 : decode cX67_put 39 = .ok (.getfield 57, 3) := by decide +kernel
theorem dX67_put_42 : decode cX67_put 42 = .ok (.sipush 1024, 3) := by decide +kernel
theorem dX67_put_45 : decode cX67_put 45 = .ok (.iload_n 1, 1) := by decide +kernel
theorem dX67_put_46 : decode cX67_put 46 = .ok (.imul, 1) := by decide +kernel
theorem dX67_put_47 : decode cX67_put 47 = .ok (.iload_n 2, 1) := by decide +kernel
theorem dX67_put_48 : decode cX67_put 48 = .ok (.iadd, 1) := by decide +kernel
theorem dX67_put_49 : decode cX67_put 49 = .ok (.lload_n 3, 1) := by decide +kernel
theorem dX67_put_50 : decode cX67_put 50 = .ok (.lastore, 1) := by decide +kernel
theorem dX67_put_51 : decode cX67_put 51 = .ok (.lload 5, 2) := by decide +kernel
theorem dX67_put_53 : decode cX67_put 53 = .ok (.lreturn, 1) := by decide +kernel
theorem zy_X67_put : yX67_put.cls ≠ "java/lang/invoke/MethodHandle" ∧ yX67_put.cls ≠ "java/lang/invoke/VarHandle" ∧ (parseMethodDescriptor yX67_put.desc).map (fun d => d.parameters.length) = some 3 := by decide +kernel
theorem w_fX67_put {K : zK} (E : zE K cX67_put "RingHouseModel" (some .long) 4) (hN : zNl K = 7) (hT : zTr K = (some 1)) (x1 : Int) (x2 : Int) (x3 : Int) : zR K 0 [(0, 69, 0), (1, 0, x1), (2, 0, x2), (3, 1, x3)] [] (fX67_put x1 x2 x3) := by
  refine r_aload_n E dX67_put_0 rfl 0 rfl ?_
  refine r_iload_n E dX67_put_1 rfl 1 rfl ?_
  refine r_iload_n E dX67_put_2 rfl 2 rfl ?_
  refine r_callV E [(0, x1), (0, x2)] [] rfl zc_69 zr_69 (fun o _ => ⟨_, zw_X67.1 o, rfl⟩) (lw_V q3786 q3788 qs115 q294 q3789) dX67_put_3 zy_X67_isPlace rfl (by omega) (by decide) (Nat.le_of_ble_eq_true rfl) (by decide) (fun l G => k_fX67_isPlace l G x1 x2) (fun v1 => ?_)
  refine r_if_ne E 13 (by decide) dX67_put_6 (fun _ => ?_) (fun _ => ?_)
  · refine r_lload_n E dX67_put_13 rfl 3 rfl ?_
    refine r_callS E [(1, x3)] [] rfl q3625 q3626 q294 q3627 dX67_put_14 zy_X67_isWord rfl (by omega) (by decide) (Nat.le_of_ble_eq_true rfl) (fun l G => k_fX67_isWord l G x3) (fun v2 => ?_)
    refine r_if_ne E 24 (by decide) dX67_put_17 (fun _ => ?_) (fun _ => ?_)
    · refine r_aload_n E dX67_put_24 rfl 0 rfl ?_
      refine r_gec (y := 0) E zc_69 dX67_put_25 q3231 zr_69 (zh_6816 (by decide)) (by decide) ?_
      refine r_sipush E dX67_put_28 (by decide) (zkI (by decide) (by decide)) ?_
      refine r_iload_n E dX67_put_31 rfl 1 rfl ?_
      refine r_imul E dX67_put_32 ?_
      refine r_iload_n E dX67_put_33 rfl 2 rfl ?_
      refine r_iadd E dX67_put_34 ?_
      refine r_laload E zc_6816 za_6816 zt_6816 zx_6816 rfl rfl dX67_put_35 (by decide) (fun v3 => ?_)
      refine r_lstore (ls' := [(5, 1, v3), (0, 69, 0), (1, 0, x1), (2, 0, x2), (3, 1, x3)]) E dX67_put_36 (by rw [hN]; decide) rfl ?_
      refine r_aload_n E dX67_put_38 rfl 1 rfl ?_
      refine r_gec (y := 0) E zc_69 dX67_put_39 q3231 zr_69 (zh_6816 (by decide)) (by decide) ?_
      refine r_sipush E dX67_put_42 (by decide) (zkI (by decide) (by decide)) ?_
      refine r_iload_n E dX67_put_45 rfl 2 rfl ?_
      refine r_imul E dX67_put_46 ?_
      refine r_iload_n E dX67_put_47 rfl 3 rfl ?_
      refine r_iadd E dX67_put_48 ?_
      refine r_lload_n E dX67_put_49 rfl 4 rfl ?_
      refine r_lastore E zc_6816 za_6816 zt_6816 zo_6816 zx_6816 rfl rfl dX67_put_50 (by decide) ?_
      refine r_lload E dX67_put_51 0 rfl ?_
      exact r_lreturn E rfl hT dX67_put_53
    · refine r_ldc2 (v := (-8)) E dX67_put_20 q3772 (by decide) (zkJ (by decide) (by decide)) ?_
      exact r_lreturn E rfl hT dX67_put_23
  · refine r_ldc2 (v := (-1)) E dX67_put_9 q3759 (by decide) (zkJ (by decide) (by decide)) ?_
    exact r_lreturn E rfl hT dX67_put_12
theorem k_fX67_put (l : Launch) (G : zG) (x1 : Int) (x2 : Int) (x3 : Int) : zCt l G yX67_put cX67_put 7 (some .long) 4 [(69, 0), (0, x1), (0, x2), (1, x3)] (some 1) (fX67_put x1 x2 x3) := zCt.of (by decide) (Nat.le_of_ble_eq_true rfl) (fun K E _ _ hN hT => w_fX67_put E hN hT x1 x2 x3)
theorem dX67_letter_0 : decode cX67_letter 0 = .ok (.aload_n 0, 1) := by decide +kernel
theorem dX67_letter_1 : decode cX67_letter 1 = .ok (.iload_n 1, 1) := by decide +kernel
theorem dX67_letter_2 : decode cX67_letter 2 = .ok (.iconst 3, 1) := by decide +kernel
theorem dX67_letter_3 : decode cX67_letter 3 = .ok (.invokevirtual 439, 3) := by decide +kernel
theorem dX67_letter_6 : decode cX67_letter 6 = .ok (.ifCond .eq 21, 3) := by decide +kernel
theorem dX67_letter_9 : decode cX67_letter 9 = .ok (.iload_n 2, 1) := by decide +kernel
theorem dX67_letter_10 : decode cX67_letter 10 = .ok (.i2l, 1) := by decide +kernel
theorem dX67_letter_11 : decode cX67_letter 11 = .ok (.lconst 0, 1) := by decide +kernel
theorem dX67_letter_12 : decode cX67_letter 12 = .ok (.aload_n 0, 1) := by decide +kernel
theorem dX67_letter_13 : decode cX67_letter 13 = .ok (.getfield 60, 3) := by decide +kernel
theorem dX67_letter_16 : decode cX67_letter 16 = .ok (.iload_n 1, 1) := by decide +kernel
theorem dX67_letter_17 : decode cX67_letter 17 = .ok (.iaload, 1) := by decide +kernel
theorem dX67_letter_18 : decode cX67_letter 18 = .ok (.iconst 1, 1) := by decide +kernel
theorem dX67_letter_19 : decode cX67_letter 19 = .ok (.isub, 1) := by decide +kernel
theorem dX67_letter_20 : decode cX67_letter 20 = .ok (.i2l, 1) := by decide +kernel
theorem dX67_letter_21 : decode cX67_letter 21 = .ok (.invokestatic 363, 3) := by decide +kernel
theorem dX67_letter_24 : decode cX67_letter 24 = .ok (.ifCond .ne 7, 3) := by decide +kernel
theorem dX67_letter_27 : decode cX67_letter 27 = .ok (.ldc2_w 422, 3) := by decide +kernel
theorem dX67_letter_30 : decode cX67_letter 30 = .ok (.lreturn, 1) := by decide +kernel
theorem dX67_letter_31 : decode cX67_letter 31 = .ok (.iload_n 3, 1) := by decide +kernel
theorem dX67_letter_32 : decode cX67_letter 32 = .ok (.ifCond .ne 18, 3) := by decide +kernel
theorem dX67_letter_35 : decode cX67_letter 35 = .ok (.aload_n 0, 1) := by decide +kernel
theorem dX67_letter_36 : decode cX67_letter 36 = .ok (.getfield 64, 3) := by decide +kernel
theorem dX67_letter_39 : decode cX67_letter 39 = .ok (.sipush 128, 3) := by decide +kernel
theorem dX67_letter_42 : decode cX67_letter 42 = .ok (.iload_n 1, 1) := by decide +kernel
theorem dX67_letter_43 : decode cX67_letter 43 = .ok (.imul, 1) := by decide +kernel
theorem dX67_letter_44 : decode cX67_letter 44 = .ok (.iload_n 2, 1) := by decide +kernel
theorem dX67_letter_45 : decode cX67_letter 45 = .ok (.iadd, 1) := by decide +kernel
theorem dX67_letter_46 : decode cX67_letter 46 = .ok (.laload, 1) := by decide +kernel
theorem dX67_letter_47 : decode cX67_letter 47 = .ok (.goto 27, 3) := by decide +kernel
theorem dX67_letter_50 : decode cX67_letter 50 = .ok (.iload_n 3, 1) := by decide +kernel
theorem dX67_letter_51 : decode cX67_letter 51 = .ok (.iconst 1, 1) := by decide +kernel
theorem dX67_letter_52 : decode cX67_letter 52 = .ok (.if_icmp .ne 19, 3) := by decide +kernel
theorem dX67_letter_55 : decode cX67_letter 55 = .ok (.aload_n 0, 1) := by decide +kernel
theorem dX67_letter_56 : decode cX67_letter 56 = .ok (.getfield 67, 3) := by decide +kernel
theorem dX67_letter_59 : decode cX67_letter 59 = .ok (.sipush 128, 3) := by decide +kernel
theorem dX67_letter_62 : decode cX67_letter 62 = .ok (.iload_n 1, 1) := by decide +kernel
theorem dX67_letter_63 : decode cX67_letter 63 = .ok (.imul, 1) := by decide +kernel
theorem dX67_letter_64 : decode cX67_letter 64 = .ok (.iload_n 2, 1) := by decide +kernel
theorem dX67_letter_65 : decode cX67_letter 65 = .ok (.iadd, 1) := by decide +kernel
theorem dX67_letter_66 : decode cX67_letter 66 = .ok (.iaload, 1) := by decide +kernel
theorem dX67_letter_67 : decode cX67_letter 67 = .ok (.i2l, 1) := by decide +kernel
theorem dX67_letter_68 : decode cX67_letter 68 = .ok (.goto 6, 3) := by decide +kernel
theorem dX67_letter_71 : decode cX67_letter 71 = .ok (.ldc2_w 494, 3) := by decide +kernel
theorem dX67_letter_74 : decode cX67_letter 74 = .ok (.lreturn, 1) := by decide +kernel
theorem zy_X67_letter : yX67_letter.cls ≠ "java/lang/invoke/MethodHandle" ∧ yX67_letter.cls ≠ "java/lang/invoke/VarHandle" ∧ (parseMethodDescriptor yX67_letter.desc).map (fun d => d.parameters.length) = some 3 := by decide +kernel
theorem w_fX67_letter {K : zK} (E : zE K cX67_letter "RingHouseModel" (some .long) 3) (hN : zNl K = 4) (hT : zTr K = (some 1)) (x1 : Int) (x2 : Int) (x3 : Int) : zR K 0 [(0, 69, 0), (1, 0, x1), (2, 0, x2), (3, 0, x3)] [] (fX67_letter x1 x2 x3) := by
  refine r_aload_n E dX67_letter_0 rfl 0 rfl ?_
  refine r_iload_n E dX67_letter_1 rfl 1 rfl ?_
  refine r_iconst E dX67_letter_2 (zkI (by decide) (by decide)) ?_
  refine r_callV E [(0, x1), (0, 3)] [] rfl zc_69 zr_69 (fun o _ => ⟨_, zw_X67.1 o, rfl⟩) (lw_V q3610 q3612 qs92 q294 q3613) dX67_letter_3 zy_X67_isOf rfl (by omega) (by decide) (Nat.le_of_ble_eq_true rfl) (by decide) (fun l G => k_fX67_isOf l G x1 3) (fun v1 => ?_)
  refine r_if_eq E 27 (by decide) dX67_letter_6 (fun _ => ?_) (fun _ => ?_)
  · refine r_ldc2 (v := (-1)) E dX67_letter_27 q3759 (by decide) (zkJ (by decide) (by decide)) ?_
    exact r_lreturn E rfl hT dX67_letter_30
  · refine r_iload_n E dX67_letter_9 rfl 2 rfl ?_
    refine r_i2l E dX67_letter_10 ?_
    refine r_lconst (v := 0) E dX67_letter_11 (by decide) (zkJ (by decide) (by decide)) ?_
    refine r_aload_n E dX67_letter_12 rfl 0 rfl ?_
    refine r_gec (y := 0) E zc_69 dX67_letter_13 q3232 zr_69 (zh_6817 (by decide)) (by decide) ?_
    refine r_iload_n E dX67_letter_16 rfl 1 rfl ?_
    refine r_iaload E zc_6817 za_6817 zt_6817 zx_6817 rfl rfl dX67_letter_17 (by decide) (fun v2 => ?_)
    refine r_iconst E dX67_letter_18 (zkI (by decide) (by decide)) ?_
    refine r_isub E dX67_letter_19 ?_
    refine r_i2l E dX67_letter_20 ?_
    refine r_callS E [(1, x2), (1, 0), (1, (zi (v2 - 1)))] [] rfl q3619 q3620 q294 q3621 dX67_letter_21 zy_X67_in rfl (by omega) (by decide) (Nat.le_of_ble_eq_true rfl) (fun l G => k_fX67_in l G x2 0 (zi (v2 - 1))) (fun v3 => ?_)
    refine r_if_ne E 31 (by decide) dX67_letter_24 (fun _ => ?_) (fun _ => ?_)
    · refine r_iload_n E dX67_letter_31 rfl 3 rfl ?_
      refine r_if_ne E 50 (by decide) dX67_letter_32 (fun _ => ?_) (fun _ => ?_)
      · refine r_iload_n E dX67_letter_50 rfl 3 rfl ?_
        refine r_iconst E dX67_letter_51 (zkI (by decide) (by decide)) ?_
        refine r_icmp_ne E 71 (by decide) dX67_letter_52 (fun _ => ?_) (fun _ => ?_)
        · refine r_ldc2 (v := (-8)) E dX67_letter_71 q3772 (by decide) (zkJ (by decide) (by decide)) ?_
          exact r_lreturn E rfl hT dX67_letter_74
        · refine r_aload_n E dX67_letter_55 rfl 0 rfl ?_
          refine r_gec (y := 0) E zc_69 dX67_letter_56 q3234 zr_69 (zh_6819 (by decide)) (by decide) ?_
          refine r_sipush E dX67_letter_59 (by decide) (zkI (by decide) (by decide)) ?_
          refine r_iload_n E dX67_letter_62 rfl 1 rfl ?_
          refine r_imul E dX67_letter_63 ?_
          refine r_iload_n E dX67_letter_64 rfl 2 rfl ?_
          refine r_iadd E dX67_letter_65 ?_
          refine r_iaload E zc_6819 za_6819 zt_6819 zx_6819 rfl rfl dX67_letter_66 (by decide) (fun v4 => ?_)
          refine r_i2l E dX67_letter_67 ?_
          refine r_goto E 74 (by decide) dX67_letter_68 ?_
          exact r_lreturn E rfl hT dX67_letter_74
      · refine r_aload_n E dX67_letter_35 rfl 0 rfl ?_
        refine r_gec (y := 0) E zc_69 dX67_letter_36 q3233 zr_69 (zh_6818 (by decide)) (by decide) ?_
        refine r_sipush E dX67_letter_39 (by decide) (zkI (by decide) (by decide)) ?_
        refine r_iload_n E dX67_letter_42 rfl 1 rfl ?_
        refine r_imul E dX67_letter_43 ?_
        refine r_iload_n E dX67_letter_44 rfl 2 rfl ?_
        refine r_iadd E dX67_letter_45 ?_
        refine r_laload E zc_6818 za_6818 zt_6818 zx_6818 rfl rfl dX67_letter_46 (by decide) (fun v5 => ?_)
        refine r_goto E 74 (by decide) dX67_letter_47 ?_
        exact r_lreturn E rfl hT dX67_letter_74
    · refine r_ldc2 (v := (-1)) E dX67_letter_27 q3759 (by decide) (zkJ (by decide) (by decide)) ?_
      exact r_lreturn E rfl hT dX67_letter_30
theorem k_fX67_letter (l : Launch) (G : zG) (x1 : Int) (x2 : Int) (x3 : Int) : zCt l G yX67_letter cX67_letter 4 (some .long) 3 [(69, 0), (0, x1), (0, x2), (0, x3)] (some 1) (fX67_letter x1 x2 x3) := zCt.of (by decide) (Nat.le_of_ble_eq_true rfl) (fun K E _ _ hN hT => w_fX67_letter E hN hT x1 x2 x3)
theorem dX67_audit_0 : decode cX67_audit 0 = .ok (.iload_n 1, 1) := by decide +kernel
theorem dX67_audit_1 : decode cX67_audit 1 = .ok (.ifCond .lt 22, 3) := by decide +kernel
theorem dX67_audit_4 : decode cX67_audit 4 = .ok (.iload_n 1, 1) := by decide +kernel
theorem dX67_audit_5 : decode cX67_audit 5 = .ok (.aload_n 0, 1) := by decide +kernel
theorem dX67_audit_6 : decode cX67_audit 6 = .ok (.getfield 505, 3) := by decide +kernel
theorem dX67_audit_9 : decode cX67_audit 9 = .ok (.if_icmp .ge 14, 3) := by decide +kernel
theorem dX67_audit_12 : decode cX67_audit 12 = .ok (.iload_n 1, 1) := by decide +kernel
theorem dX67_audit_13 : decode cX67_audit 13 = .ok (.aload_n 0, 1) := by decide +kernel
theorem dX67_audit_14 : decode cX67_audit 14 = .ok (.getfield 505, 3) := by decide +kernel
theorem dX67_audit_17 : decode cX67_audit 17 = .ok (.bipush 64, 2) := by decide +kernel
theorem dX67_audit_19 : decode cX67_audit 19 = .ok (.isub, 1) := by decide +kernel
theorem dX67_audit_20 : decode cX67_audit 20 = .ok (.if_icmp .ge 5, 3) := by decide +kernel
theorem dX67_audit_23 : decode cX67_audit 23 = .ok (.iconst (-1), 1) := by decide +kernel
theorem dX67_audit_24 : decode cX67_audit 24 = .ok (.ireturn, 1) := by decide +kernel
theorem dX67_audit_25 : decode cX67_audit 25 = .ok (.iload_n 2, 1) := by decide +kernel
theorem dX67_audit_26 : decode cX67_audit 26 = .ok (.i2l, 1) := by decide +kernel
theorem dX67_audit_27 : decode cX67_audit 27 = .ok (.lconst 0, 1) := by decide +kernel
theorem dX67_audit_28 : decode cX67_audit 28 = .ok (.ldc2_w 508, 3) := by decide +kernel
theorem dX67_audit_31 : decode cX67_audit 31 = .ok (.invokestatic 363, 3) := by decide +kernel
theorem dX67_audit_34 : decode cX67_audit 34 = .ok (.ifCond .eq 19, 3) := by decide +kernel
theorem dX67_audit_37 : decode cX67_audit 37 = .ok (.aload_n 0, 1) := by decide +kernel
theorem dX67_audit_38 : decode cX67_audit 38 = .ok (.getfield 203, 3) := by decide +kernel
theorem dX67_audit_41 : decode cX67_audit 41 = .ok (.iconst 4, 1) := by decide +kernel
theorem dX67_audit_42 : decode cX67_audit 42 = .ok (.iload_n 1, 1) := by decide +kernel
theorem dX67_audit_43 : decode cX67_audit 43 = .ok (.bipush 64, 2) := by decide +kernel
theorem dX67_audit_45 : decode cX67_audit 45 = .ok (.irem, 1) := by decide +kernel
theorem dX67_audit_46 : decode cX67_audit 46 = .ok (.imul, 1) := by decide +kernel
theorem dX67_audit_47 : decode cX67_audit 47 = .ok (.iload_n 2, 1) := by decide +kernel
theorem dX67_audit_48 : decode cX67_audit 48 = .ok (.iadd, 1) := by decide +kernel
theorem dX67_audit_49 : decode cX67_audit 49 = .ok (.iaload, 1) := by decide +kernel
theorem dX67_audit_50 : decode cX67_audit 50 = .ok (.goto 5, 3) := by decide +kernel
theorem dX67_audit_53 : decode cX67_audit 53 = .ok (.bipush (-8), 2) := by decide +kernel
theorem dX67_audit_55 : decode cX67_audit 55 = .ok (.ireturn, 1) := by decide +kernel
theorem zy_X67_audit : yX67_audit.cls ≠ "java/lang/invoke/MethodHandle" ∧ yX67_audit.cls ≠ "java/lang/invoke/VarHandle" ∧ (parseMethodDescriptor yX67_audit.desc).map (fun d => d.parameters.length) = some 2 := by decide +kernel
theorem w_fX67_audit {K : zK} (E : zE K cX67_audit "RingHouseModel" (some .int) 1) (hN : zNl K = 3) (hT : zTr K = (some 0)) (x1 : Int) (x2 : Int) : zR K 0 [(0, 69, 0), (1, 0, x1), (2, 0, x2)] [] (fX67_audit x1 x2) := by
  refine r_iload_n E dX67_audit_0 rfl 1 rfl ?_
  refine r_if_lt E 23 (by decide) dX67_audit_1 (fun _ => ?_) (fun _ => ?_)
  · refine r_iconst E dX67_audit_23 (zkI (by decide) (by decide)) ?_
    exact r_ireturn E rfl hT dX67_audit_24
  · refine r_iload_n E dX67_audit_4 rfl 1 rfl ?_
    refine r_aload_n E dX67_audit_5 rfl 0 rfl ?_
    refine r_get E zc_69 zt_6865 dX67_audit_6 q3280 zr_69 (zg_6865 _) (by decide) (fun v1 => ?_)
    refine r_icmp_ge E 23 (by decide) dX67_audit_9 (fun _ => ?_) (fun _ => ?_)
    · refine r_iconst E dX67_audit_23 (zkI (by decide) (by decide)) ?_
      exact r_ireturn E rfl hT dX67_audit_24
    · refine r_iload_n E dX67_audit_12 rfl 1 rfl ?_
      refine r_aload_n E dX67_audit_13 rfl 0 rfl ?_
      refine r_get E zc_69 zt_6865 dX67_audit_14 q3280 zr_69 (zg_6865 _) (by decide) (fun v2 => ?_)
      refine r_bipush E dX67_audit_17 (by decide) (zkI (by decide) (by decide)) ?_
      refine r_isub E dX67_audit_19 ?_
      refine r_icmp_ge E 25 (by decide) dX67_audit_20 (fun _ => ?_) (fun _ => ?_)
      · refine r_iload_n E dX67_audit_25 rfl 2 rfl ?_
        refine r_i2l E dX67_audit_26 ?_
        refine r_lconst (v := 0) E dX67_audit_27 (by decide) (zkJ (by decide) (by decide)) ?_
        refine r_ldc2 (v := 3) E dX67_audit_28 q3802 (by decide) (zkJ (by decide) (by decide)) ?_
        refine r_callS E [(1, x2), (1, 0), (1, 3)] [] rfl q3619 q3620 q294 q3621 dX67_audit_31 zy_X67_in rfl (by omega) (by decide) (Nat.le_of_ble_eq_true rfl) (fun l G => k_fX67_in l G x2 0 3) (fun v3 => ?_)
        refine r_if_eq E 53 (by decide) dX67_audit_34 (fun _ => ?_) (fun _ => ?_)
        · refine r_bipush E dX67_audit_53 (by decide) (zkI (by decide) (by decide)) ?_
          exact r_ireturn E rfl hT dX67_audit_55
        · refine r_aload_n E dX67_audit_37 rfl 0 rfl ?_
          refine r_gec (y := 0) E zc_69 dX67_audit_38 q3281 zr_69 (zh_6866 (by decide)) (by decide) ?_
          refine r_iconst E dX67_audit_41 (zkI (by decide) (by decide)) ?_
          refine r_iload_n E dX67_audit_42 rfl 1 rfl ?_
          refine r_bipush E dX67_audit_43 (by decide) (zkI (by decide) (by decide)) ?_
          refine r_irem E (by decide) dX67_audit_45 ?_
          refine r_imul E dX67_audit_46 ?_
          refine r_iload_n E dX67_audit_47 rfl 2 rfl ?_
          refine r_iadd E dX67_audit_48 ?_
          refine r_iaload E zc_6866 za_6866 zt_6866 zx_6866 rfl rfl dX67_audit_49 (by decide) (fun v4 => ?_)
          refine r_goto E 55 (by decide) dX67_audit_50 ?_
          exact r_ireturn E rfl hT dX67_audit_55
      · refine r_iconst E dX67_audit_23 (zkI (by decide) (by decide)) ?_
        exact r_ireturn E rfl hT dX67_audit_24
theorem k_fX67_audit (l : Launch) (G : zG) (x1 : Int) (x2 : Int) : zCt l G yX67_audit cX67_audit 3 (some .int) 1 [(69, 0), (0, x1), (0, x2)] (some 0) (fX67_audit x1 x2) := zCt.of (by decide) (Nat.le_of_ble_eq_true rfl) (fun K E _ _ hN hT => w_fX67_audit E hN hT x1 x2)
theorem dX67_login_0 : decode cX67_login 0 = .ok (.iload_n 1, 1) := by decide +kernel
theorem dX67_login_1 : decode cX67_login 1 = .ok (.i2l, 1) := by decide +kernel
theorem dX67_login_2 : decode cX67_login 2 = .ok (.lconst 0, 1) := by decide +kernel
theorem dX67_login_3 : decode cX67_login 3 = .ok (.ldc2_w 496, 3) := by decide +kernel
theorem dX67_login_6 : decode cX67_login 6 = .ok (.invokestatic 363, 3) := by decide +kernel
theorem dX67_login_9 : decode cX67_login 9 = .ok (.ifCond .eq 63, 3) := by decide +kernel
theorem dX67_login_12 : decode cX67_login 12 = .ok (.iload_n 2, 1) := by decide +kernel
theorem dX67_login_13 : decode cX67_login 13 = .ok (.i2l, 1) := by decide +kernel
theorem dX67_login_14 : decode cX67_login 14 = .ok (.lconst 0, 1) := by decide +kernel
theorem dX67_login_15 : decode cX67_login 15 = .ok (.ldc2_w 476, 3) := by decide +kernel
theorem dX67_login_18 : decode cX67_login 18 = .ok (.invokestatic 363, 3) := by decide +kernel
theorem dX67_login_21 : decode cX67_login 21 = .ok (.ifCond .eq 51, 3) := by decide +kernel
theorem dX67_login_24 : decode cX67_login 24 = .ok (.iload_n 3, 1) := by decide +kernel
theorem dX67_login_25 : decode cX67_login 25 = .ok (.i2l, 1) := by decide +kernel
theorem dX67_login_26 : decode cX67_login 26 = .ok (.lconst 0, 1) := by decide +kernel
theorem dX67_login_27 : decode cX67_login 27 = .ok (.ldc2_w 445, 3) := by decide +kernel
theorem dX67_login_30 : decode cX67_login 30 = .ok (.invokestatic 363, 3) := by decide +kernel
theorem dX67_login_33 : decode cX67_login 33 = .ok (.ifCond .eq 39, 3) := by decide +kernel
theorem dX67_login_36 : decode cX67_login 36 = .ok (.aload_n 0, 1) := by decide +kernel
theorem dX67_login_37 : decode cX67_login 37 = .ok (.iload 4, 2) := by decide +kernel
theorem dX67_login_39 : decode cX67_login 39 = .ok (.iconst 2, 1) := by decide +kernel
theorem dX67_login_40 : decode cX67_login 40 = .ok (.invokevirtual 439, 3) := by decide +kernel
theorem dX67_login_43 : decode cX67_login 43 = .ok (.ifCond .eq 29, 3) := by decide +kernel
theorem dX67_login_46 : decode cX67_login 46 = .ok (.iload 5, 2) := by decide +kernel
theorem dX67_login_48 : decode cX67_login 48 = .ok (.i2l, 1) := by decide +kernel
theorem dX67_login_49 : decode cX67_login 49 = .ok (.lconst 0, 1) := by decide +kernel
theorem dX67_login_50 : decode cX67_login 50 = .ok (.ldc2_w 582, 3) := by decide +kernel
theorem dX67_login_53 : decode cX67_login 53 = .ok (.invokestatic 363, 3) := by decide +kernel
theorem dX67_login_56 : decode cX67_login 56 = .ok (.ifCond .eq 16, 3) := by decide +kernel
theorem dX67_login_59 : decode cX67_login 59 = .ok (.iload 6, 2) := by decide +kernel
theorem dX67_login_61 : decode cX67_login 61 = .ok (.i2l, 1) := by decide +kernel
theorem dX67_login_62 : decode cX67_login 62 = .ok (.lconst 0, 1) := by decide +kernel
theorem dX67_login_63 : decode cX67_login 63 = .ok (.ldc2_w 476, 3) := by decide +kernel
theorem dX67_login_66 : decode cX67_login 66 = .ok (.invokestatic 363, 3) := by decide +kernel
theorem dX67_login_69 : decode cX67_login 69 = .ok (.ifCond .ne 6, 3) := by decide +kernel
theorem dX67_login_72 : decode cX67_login 72 = .ok (.bipush (-8), 2) := by decide +kernel
theorem dX67_login_74 : decode cX67_login 74 = .ok (.ireturn, 1) := by decide +kernel
theorem dX67_login_75 : decode cX67_login 75 = .ok (.iconst 0, 1) := by decide +kernel
theorem dX67_login_76 : decode cX67_login 76 = .ok (.istore 7, 2) := by decide +kernel
theorem dX67_login_78 : decode cX67_login 78 = .ok (.iload 7, 2) := by decide +kernel
theorem dX67_login_80 : decode cX67_login 80 = .ok (.bipush 8, 2) := by decide +kernel
theorem dX67_login_82 : decode cX67_login 82 = .ok (.if_icmp .ge 19, 3) := by decide +kernel
theorem dX67_login_85 : decode cX67_login 85 = .ok (.aload_n 0, 1) := by decide +kernel
theorem dX67_login_86 : decode cX67_login 86 = .ok (.getfield 70, 3) := by decide +kernel
theorem dX67_login_89 : decode cX67_login 89 = .ok (.iload 7, 2) := by decide +kernel
theorem dX67_login_91 : decode cX67_login 91 = .ok (.baload, 1) := by decide +kernel
theorem dX67_login_92 : decode cX67_login 92 = .ok (.ifCond .eq 9, 3) := by decide +kernel
theorem dX67_login_95 : decode cX67_login 95 = .ok (.iinc 7 1, 3) := by decide +kernel
theorem dX67_login_98 : decode cX67_login 98 = .ok (.goto (-20), 3) := by decide +kernel
theorem dX67_login_101 : decode cX67_login 101 = .ok (.iload 7, 2) := by decide +kernel
theorem dX67_login_103 : decode cX67_login 103 = .ok (.bipush 8, 2) := by decide +kernel
theorem dX67_login_105 : decode cX67_login 105 = .ok (.if_icmp .ne 6, 3) := by decide +kernel
theorem dX67_login_108 : decode cX67_login 108 = .ok (.bipush (-5), 2) := by decide +kernel
theorem dX67_login_110 : decode cX67_login 110 = .ok (.ireturn, 1) := by decide +kernel
theorem dX67_login_111 : decode cX67_login 111 = .ok (.aload_n 0, 1) := by decide +kernel
theorem dX67_login_112 : decode cX67_login 112 = .ok (.getfield 70, 3) := by decide +kernel
theorem dX67_login_115 : decode cX67_login 115 = .ok (.iload 7, 2) := by decide +kernel
theorem dX67_login_117 : decode cX67_login 117 = .ok (.iconst 1, 1) := by decide +kernel
theorem dX67_login_118 : decode cX67_login 118 = .ok (.bastore, 1) := by decide +kernel
theorem dX67_login_119 : decode cX67_login 119 = .ok (.aload_n 0, 1) := by decide +kernel
theorem dX67_login_120 : decode cX67_login 120 = .ok (.getfield 74, 3) := by decide +kernel
theorem dX67_login_123 : decode cX67_login 123 = .ok (.iload 7, 2) := by decide +kernel
theorem dX67_login_125 : decode cX67_login 125 = .ok (.iconst 0, 1) := by decide +kernel
theorem dX67_login_126 : decode cX67_login 126 = .ok (.iastore, 1) := by decide +kernel
theorem dX67_login_127 : decode cX67_login 127 = .ok (.aload_n 0, 1) := by decide +kernel
theorem dX67_login_128 : decode cX67_login 128 = .ok (.getfield 77, 3) := by decide +kernel
theorem dX67_login_131 : decode cX67_login 131 = .ok (.iload 7, 2) := by decide +kernel
theorem dX67_login_133 : decode cX67_login 133 = .ok (.iload_n 1, 1) := by decide +kernel
theorem dX67_login_134 : decode cX67_login 134 = .ok (.iastore, 1) := by decide +kernel
theorem dX67_login_135 : decode cX67_login 135 = .ok (.aload_n 0, 1) := by decide +kernel
theorem dX67_login_136 : decode cX67_login 136 = .ok (.getfield 80, 3) := by decide +kernel
theorem dX67_login_139 : decode cX67_login 139 = .ok (.iload 7, 2) := by decide +kernel
theorem dX67_login_141 : decode cX67_login 141 = .ok (.iload_n 2, 1) := by decide +kernel
theorem dX67_login_142 : decode cX67_login 142 = .ok (.iastore, 1) := by decide +kernel
theorem dX67_login_143 : decode cX67_login 143 = .ok (.aload_n 0, 1) := by decide +kernel
theorem dX67_login_144 : decode cX67_login 144 = .ok (.getfield 83, 3) := by decide +kernel
theorem dX67_login_147 : decode cX67_login 147 = .ok (.iload 7, 2) := by decide +kernel
theorem dX67_login_149 : decode cX67_login 149 = .ok (.iload_n 3, 1) := by decide +kernel
theorem dX67_login_150 : decode cX67_login 150 = .ok (.iastore, 1) := by decide +kernel
theorem dX67_login_151 : decode cX67_login 151 = .ok (.aload_n 0, 1) := by decide +kernel
theorem dX67_login_152 : decode cX67_login 152 = .ok (.getfield 86, 3) := by decide +kernel
theorem dX67_login_155 : decode cX67_login 155 = .ok (.iload 7, 2) := by decide +kernel
theorem dX67_login_157 : decode cX67_login 157 = .ok (.lconst 0, 1) := by decide +kernel
theorem dX67_login_158 : decode cX67_login 158 = .ok (.lastore, 1) := by decide +kernel
theorem dX67_login_159 : decode cX67_login 159 = .ok (.aload_n 0, 1) := by decide +kernel
theorem dX67_login_160 : decode cX67_login 160 = .ok (.getfield 89, 3) := by decide +kernel
theorem dX67_login_163 : decode cX67_login 163 = .ok (.iload 7, 2) := by decide +kernel
theorem dX67_login_165 : decode cX67_login 165 = .ok (.lconst 0, 1) := by decide +kernel
theorem dX67_login_166 : decode cX67_login 166 = .ok (.lastore, 1) := by decide +kernel
theorem dX67_login_167 : decode cX67_login 167 = .ok (.iconst 0, 1) := by decide +kernel
theorem dX67_login_168 : decode cX67_login 168 = .ok (.istore 8, 2) := by decide +kernel
theorem dX67_login_170 : decode cX67_login 170 = .ok (.iload 8, 2) := by decide +kernel
theorem dX67_login_172 : decode cX67_login 172 = .ok (.iconst 4, 1) := by decide +kernel
theorem dX67_login_173 : decode cX67_login 173 = .ok (.if_icmp .ge 35, 3) := by decide +kernel
theorem dX67_login_176 : decode cX67_login 176 = .ok (.aload_n 0, 1) := by decide +kernel
theorem dX67_login_177 : decode cX67_login 177 = .ok (.getfield 92, 3) := by decide +kernel
theorem dX67_login_180 : decode cX67_login 180 = .ok (.iconst 4, 1) := by decide +kernel
theorem dX67_login_181 : decode cX67_login 181 = .ok (.iload 7, 2) := by decide +kernel
theorem dX67_login_183 : decode cX67_login 183 = .ok (.imul, 1) := by decide +kernel
theorem dX67_login_184 : decode cX67_login 184 = .ok (.iload 8, 2) := by decide +kernel
theorem dX67_login_186 : decode cX67_login 186 = .ok (.iadd, 1) := by decide +kernel
theorem dX67_login_187 : decode cX67_login 187 = .ok (.iconst 0, 1) := by decide +kernel
theorem dX67_login_188 : decode cX67_login 188 = .ok (.iastore, 1) := by decide +kernel
theorem dX67_login_189 : decode cX67_login 189 = .ok (.aload_n 0, 1) := by decide +kernel
theorem dX67_login_190 : decode cX67_login 190 = .ok (.getfield 134, 3) := by decide +kernel
theorem dX67_login_193 : decode cX67_login 193 = .ok (.iconst 4, 1) := by decide +kernel
theorem dX67_login_194 : decode cX67_login 194 = .ok (.iload 7, 2) := by decide +kernel
theorem dX67_login_196 : decode cX67_login 196 = .ok (.imul, 1) := by decide +kernel
theorem dX67_login_197 : decode cX67_login 197 = .ok (.iload 8, 2) := by decide +kernel
theorem dX67_login_199 : decode cX67_login 199 = .ok (.iadd, 1) := by decide +kernel
theorem dX67_login_200 : decode cX67_login 200 = .ok (.iconst (-1), 1) := by decide +kernel
theorem dX67_login_201 : decode cX67_login 201 = .ok (.iastore, 1) := by decide +kernel
theorem dX67_login_202 : decode cX67_login 202 = .ok (.iinc 8 1, 3) := by decide +kernel
theorem dX67_login_205 : decode cX67_login 205 = .ok (.goto (-35), 3) := by decide +kernel
theorem dX67_login_208 : decode cX67_login 208 = .ok (.bipush 8, 2) := by decide +kernel
theorem dX67_login_210 : decode cX67_login 210 = .ok (.iload 7, 2) := by decide +kernel
theorem dX67_login_212 : decode cX67_login 212 = .ok (.imul, 1) := by decide +kernel
theorem dX67_login_213 : decode cX67_login 213 = .ok (.istore 8, 2) := by decide +kernel
theorem dX67_login_215 : decode cX67_login 215 = .ok (.iload 8, 2) := by decide +kernel
theorem dX67_login_217 : decode cX67_login 217 = .ok (.bipush 8, 2) := by decide +kernel
theorem dX67_login_219 : decode cX67_login 219 = .ok (.iload 7, 2) := by decide +kernel
theorem dX67_login_221 : decode cX67_login 221 = .ok (.imul, 1) := by decide +kernel
theorem dX67_login_222 : decode cX67_login 222 = .ok (.bipush 8, 2) := by decide +kernel
theorem dX67_login_224 : decode cX67_login 224 = .ok (.iadd, 1) := by decide +kernel
theorem dX67_login_225 : decode cX67_login 225 = .ok (.if_icmp .ge 33, 3) := by decide +kernel
theorem dX67_login_228 : decode cX67_login 228 = .ok (.aload_n 0, 1) := by decide +kernel
theorem dX67_login_229 : decode cX67_login 229 = .ok (.getfield 95, 3) := by decide +kernel
theorem dX67_login_232 : decode cX67_login 232 = .ok (.iload 8, 2) := by decide +kernel
theorem dX67_login_234 : decode cX67_login 234 = .ok (.iconst 0, 1) := by decide +kernel
theorem dX67_login_235 : decode cX67_login 235 = .ok (.iastore, 1) := by decide +kernel
theorem dX67_login_236 : decode cX67_login 236 = .ok (.aload_n 0, 1) := by decide +kernel
theorem dX67_login_237 : decode cX67_login 237 = .ok (.getfield 98, 3) := by decide +kernel
theorem dX67_login_240 : decode cX67_login 240 = .ok (.iload 8, 2) := by decide +kernel
theorem dX67_login_242 : decode cX67_login 242 = .ok (.iconst 0, 1) := by decide +kernel
theorem dX67_login_243 : decode cX67_login 243 = .ok (.iastore, 1) := by decide +kernel
theorem dX67_login_244 : decode cX67_login 244 = .ok (.aload_n 0, 1) := by decide +kernel
theorem dX67_login_245 : decode cX67_login 245 = .ok (.getfield 101, 3) := by decide +kernel
theorem dX67_login_248 : decode cX67_login 248 = .ok (.iload 8, 2) := by decide +kernel
theorem dX67_login_250 : decode cX67_login 250 = .ok (.iconst 0, 1) := by decide +kernel
theorem dX67_login_251 : decode cX67_login 251 = .ok (.iastore, 1) := by decide +kernel
theorem dX67_login_252 : decode cX67_login 252 = .ok (.iinc 8 1, 3) := by decide +kernel
theorem dX67_login_255 : decode cX67_login 255 = .ok (.goto (-40), 3) := by decide +kernel
theorem dX67_login_258 : decode cX67_login 258 = .ok (.sipush 512, 3) := by decide +kernel
theorem dX67_login_261 : decode cX67_login 261 = .ok (.iload 7, 2) := by decide +kernel
theorem dX67_login_263 : decode cX67_login 263 = .ok (.imul, 1) := by decide +kernel
theorem dX67_login_264 : decode cX67_login 264 = .ok (.istore 8, 2) := by decide +kernel
theorem dX67_login_266 : decode cX67_login 266 = .ok (.iload 8, 2) := by decide +kernel
theorem dX67_login_268 : decode cX67_login 268 = .ok (.sipush 512, 3) := by decide +kernel
theorem dX67_login_271 : decode cX67_login 271 = .ok (.iload 7, 2) := by decide +kernel
theorem dX67_login_273 : decode cX67_login 273 = .ok (.imul, 1) := by decide +kernel
theorem dX67_login_274 : decode cX67_login 274 = .ok (.sipush 512, 3) := by decide +kernel
theorem dX67_login_277 : decode cX67_login 277 = .ok (.iadd, 1) := by decide +kernel
theorem dX67_login_278 : decode cX67_login 278 = .ok (.if_icmp .ge 27, 3) := by decide +kernel
theorem dX67_login_281 : decode cX67_login 281 = .ok (.aload_n 0, 1) := by decide +kernel
theorem dX67_login_282 : decode cX67_login 282 = .ok (.getfield 122, 3) := by decide +kernel
theorem dX67_login_285 : decode cX67_login 285 = .ok (.iload 8, 2) := by decide +kernel
theorem dX67_login_287 : decode cX67_login 287 = .ok (.lconst 0, 1) := by decide +kernel
theorem dX67_login_288 : decode cX67_login 288 = .ok (.lastore, 1) := by decide +kernel
theorem dX67_login_289 : decode cX67_login 289 = .ok (.aload_n 0, 1) := by decide +kernel
theorem dX67_login_290 : decode cX67_login 290 = .ok (.getfield 128, 3) := by decide +kernel
theorem dX67_login_293 : decode cX67_login 293 = .ok (.iload 8, 2) := by decide +kernel
theorem dX67_login_295 : decode cX67_login 295 = .ok (.ldc2_w 422, 3) := by decide +kernel
theorem dX67_login_298 : decode cX67_login 298 = .ok (.lastore, 1) := by decide +kernel
theorem dX67_login_299 : decode cX67_login 299 = .ok (.iinc 8 1, 3) := by decide +kernel
theorem dX67_login_302 : decode cX67_login 302 = .ok (.goto (-36), 3) := by decide +kernel
theorem dX67_login_305 : decode cX67_login 305 = .ok (.bipush 32, 2) := by decide +kernel
theorem dX67_login_307 : decode cX67_login 307 = .ok (.iload 7, 2) := by decide +kernel
theorem dX67_login_309 : decode cX67_login 309 = .ok (.imul, 1) := by decide +kernel
theorem dX67_login_310 : decode cX67_login 310 = .ok (.istore 8, 2) := by decide +kernel
theorem dX67_login_312 : decode cX67_login 312 = .ok (.iload 8, 2) := by decide +kernel
theorem dX67_login_314 : decode cX67_login 314 = .ok (.bipush 32, 2) := by decide +kernel
theorem dX67_login_316 : decode cX67_login 316 = .ok (.iload 7, 2) := by decide +kernel
theorem dX67_login_318 : decode cX67_login 318 = .ok (.imul, 1) := by decide +kernel
theorem dX67_login_319 : decode cX67_login 319 = .ok (.bipush 32, 2) := by decide +kernel
theorem dX67_login_321 : decode cX67_login 321 = .ok (.iadd, 1) := by decide +kernel
theorem dX67_login_322 : decode cX67_login 322 = .ok (.if_icmp .ge 17, 3) := by decide +kernel
theorem dX67_login_325 : decode cX67_login 325 = .ok (.aload_n 0, 1) := by decide +kernel
theorem dX67_login_326 : decode cX67_login 326 = .ok (.getfield 125, 3) := by decide +kernel
theorem dX67_login_329 : decode cX67_login 329 = .ok (.iload 8, 2) := by decide +kernel
theorem dX67_login_331 : decode cX67_login 331 = .ok (.iconst (-1), 1) := by decide +kernel
theorem dX67_login_332 : decode cX67_login 332 = .ok (.iastore, 1) := by decide +kernel
theorem dX67_login_333 : decode cX67_login 333 = .ok (.iinc 8 1, 3) := by decide +kernel
theorem dX67_login_336 : decode cX67_login 336 = .ok (.goto (-24), 3) := by decide +kernel
theorem dX67_login_339 : decode cX67_login 339 = .ok (.aload_n 0, 1) := by decide +kernel
theorem dX67_login_340 : decode cX67_login 340 = .ok (.getfield 125, 3) := by decide +kernel
theorem dX67_login_343 : decode cX67_login 343 = .ok (.bipush 32, 2) := by decide +kernel
theorem dX67_login_345 : decode cX67_login 345 = .ok (.iload 7, 2) := by decide +kernel
theorem dX67_login_347 : decode cX67_login 347 = .ok (.imul, 1) := by decide +kernel
theorem dX67_login_348 : decode cX67_login 348 = .ok (.bipush 8, 2) := by decide +kernel
theorem dX67_login_350 : decode cX67_login 350 = .ok (.iadd, 1) := by decide +kernel
theorem dX67_login_351 : decode cX67_login 351 = .ok (.iload 4, 2) := by decide +kernel
theorem dX67_login_353 : decode cX67_login 353 = .ok (.iastore, 1) := by decide +kernel
theorem dX67_login_354 : decode cX67_login 354 = .ok (.aload_n 0, 1) := by decide +kernel
theorem dX67_login_355 : decode cX67_login 355 = .ok (.getfield 104, 3) := by decide +kernel
theorem dX67_login_358 : decode cX67_login 358 = .ok (.iload 7, 2) := by decide +kernel
theorem dX67_login_360 : decode cX67_login 360 = .ok (.bipush 8, 2) := by decide +kernel
theorem dX67_login_362 : decode cX67_login 362 = .ok (.iastore, 1) := by decide +kernel
theorem dX67_login_363 : decode cX67_login 363 = .ok (.aload_n 0, 1) := by decide +kernel
theorem dX67_login_364 : decode cX67_login 364 = .ok (.getfield 107, 3) := by decide +kernel
theorem dX67_login_367 : decode cX67_login 367 = .ok (.iload 7, 2) := by decide +kernel
theorem dX67_login_369 : decode cX67_login 369 = .ok (.iload 5, 2) := by decide +kernel
theorem dX67_login_371 : decode cX67_login 371 = .ok (.iastore, 1) := by decide +kernel
theorem dX67_login_372 : decode cX67_login 372 = .ok (.aload_n 0, 1) := by decide +kernel
theorem dX67_login_373 : decode cX67_login 373 = .ok (.getfield 110, 3) := by decide +kernel
theorem dX67_login_376 : decode cX67_login 376 = .ok (.iload 7, 2) := by decide +kernel
theorem dX67_login_378 : decode cX67_login 378 = .ok (.iload 6, 2) := by decide +kernel
theorem dX67_login_380 : decode cX67_login 380 = .ok (.iastore, 1) := by decide +kernel
theorem dX67_login_381 : decode cX67_login 381 = .ok (.aload_n 0, 1) := by decide +kernel
theorem dX67_login_382 : decode cX67_login 382 = .ok (.getfield 113, 3) := by decide +kernel
theorem dX67_login_385 : decode cX67_login 385 = .ok (.iload 7, 2) := by decide +kernel
theorem dX67_login_387 : decode cX67_login 387 = .ok (.iconst 0, 1) := by decide +kernel
theorem dX67_login_388 : decode cX67_login 388 = .ok (.bastore, 1) := by decide +kernel
theorem dX67_login_389 : decode cX67_login 389 = .ok (.aload_n 0, 1) := by decide +kernel
theorem dX67_login_390 : decode cX67_login 390 = .ok (.getfield 116, 3) := by decide +kernel
theorem dX67_login_393 : decode cX67_login 393 = .ok (.iload 7, 2) := by decide +kernel
theorem dX67_login_395 : decode cX67_login 395 = .ok (.iconst 0, 1) := by decide +kernel
theorem dX67_login_396 : decode cX67_login 396 = .ok (.bastore, 1) := by decide +kernel
theorem dX67_login_397 : decode cX67_login 397 = .ok (.aload_n 0, 1) := by decide +kernel
theorem dX67_login_398 : decode cX67_login 398 = .ok (.getfield 119, 3) := by decide +kernel
theorem dX67_login_401 : decode cX67_login 401 = .ok (.iload 7, 2) := by decide +kernel
theorem dX67_login_403 : decode cX67_login 403 = .ok (.iconst 0, 1) := by decide +kernel
theorem dX67_login_404 : decode cX67_login 404 = .ok (.iastore, 1) := by decide +kernel
theorem dX67_login_405 : decode cX67_login 405 = .ok (.aload_n 0, 1) := by decide +kernel
theorem dX67_login_406 : decode cX67_login 406 = .ok (.getfield 131, 3) := by decide +kernel
theorem dX67_login_409 : decode cX67_login 409 = .ok (.iload 7, 2) := by decide +kernel
theorem dX67_login_411 : decode cX67_login 411 = .ok (.iconst 0, 1) := by decide +kernel
theorem dX67_login_412 : decode cX67_login 412 = .ok (.iastore, 1) := by decide +kernel
theorem dX67_login_413 : decode cX67_login 413 = .ok (.aload_n 0, 1) := by decide +kernel
theorem dX67_login_414 : decode cX67_login 414 = .ok (.getfield 137, 3) := by decide +kernel
theorem dX67_login_417 : decode cX67_login 417 = .ok (.iload 7, 2) := by decide +kernel
theorem dX67_login_419 : decode cX67_login 419 = .ok (.iconst 0, 1) := by decide +kernel
theorem dX67_login_420 : decode cX67_login 420 = .ok (.bastore, 1) := by decide +kernel
theorem dX67_login_421 : decode cX67_login 421 = .ok (.aload_n 0, 1) := by decide +kernel
theorem dX67_login_422 : decode cX67_login 422 = .ok (.getfield 149, 3) := by decide +kernel
theorem dX67_login_425 : decode cX67_login 425 = .ok (.iload 7, 2) := by decide +kernel
theorem dX67_login_427 : decode cX67_login 427 = .ok (.iconst 0, 1) := by decide +kernel
theorem dX67_login_428 : decode cX67_login 428 = .ok (.iastore, 1) := by decide +kernel
theorem dX67_login_429 : decode cX67_login 429 = .ok (.aload_n 0, 1) := by decide +kernel
theorem dX67_login_430 : decode cX67_login 430 = .ok (.getfield 155, 3) := by decide +kernel
theorem dX67_login_433 : decode cX67_login 433 = .ok (.iload 7, 2) := by decide +kernel
theorem dX67_login_435 : decode cX67_login 435 = .ok (.iconst 0, 1) := by decide +kernel
theorem dX67_login_436 : decode cX67_login 436 = .ok (.iastore, 1) := by decide +kernel
theorem dX67_login_437 : decode cX67_login 437 = .ok (.aload_n 0, 1) := by decide +kernel
theorem dX67_login_438 : decode cX67_login 438 = .ok (.getfield 191, 3) := by decide +kernel
theorem dX67_login_441 : decode cX67_login 441 = .ok (.iload 7, 2) := by decide +kernel
theorem dX67_login_443 : decode cX67_login 443 = .ok (.iconst 0, 1) := by decide +kernel
theorem dX67_login_444 : decode cX67_login 444 = .ok (.iastore, 1) := by decide +kernel
theorem dX67_login_445 : decode cX67_login 445 = .ok (.aload_n 0, 1) := by decide +kernel
theorem dX67_login_446 : decode cX67_login 446 = .ok (.getfield 197, 3) := by decide +kernel
theorem dX67_login_449 : decode cX67_login 449 = .ok (.iload 7, 2) := by decide +kernel
theorem dX67_login_451 : decode cX67_login 451 = .ok (.ldc2_w 780, 3) := by decide +kernel
theorem dX67_login_454 : decode cX67_login 454 = .ok (.lastore, 1) := by decide +kernel
theorem dX67_login_455 : decode cX67_login 455 = .ok (.iload 7, 2) := by decide +kernel
theorem dX67_login_457 : decode cX67_login 457 = .ok (.ireturn, 1) := by decide +kernel
theorem zy_X67_login : yX67_login.cls ≠ "java/lang/invoke/MethodHandle" ∧ yX67_login.cls ≠ "java/lang/invoke/VarHandle" ∧ (parseMethodDescriptor yX67_login.desc).map (fun d => d.parameters.length) = some 6 := by decide +kernel
theorem w_fX67_login_J339 {K : zK} (E : zE K cX67_login "RingHouseModel" (some .int) 3) (hN : zNl K = 9) (hT : zTr K = (some 0)) (x4 : Int) (x5 : Int) (x6 : Int) (x7 : Int) : zR K 339 [(0, 69, 0), (4, 0, x4), (5, 0, x5), (6, 0, x6), (7, 0, x7)] [] (fX67_login_J339 x4 x5 x6 x7) := by
  refine r_aload_n E dX67_login_339 rfl 0 rfl ?_
  refine r_gec (y := 0) E zc_69 dX67_login_340 q3253 zr_69 (zh_6838 (by decide)) (by decide) ?_
  refine r_bipush E dX67_login_343 (by decide) (zkI (by decide) (by decide)) ?_
  refine r_iload E dX67_login_345 4 rfl ?_
  refine r_imul E dX67_login_347 ?_
  refine r_bipush E dX67_login_348 (by decide) (zkI (by decide) (by decide)) ?_
  refine r_iadd E dX67_login_350 ?_
  refine r_iload E dX67_login_351 1 rfl ?_
  refine r_iastore E zc_6838 za_6838 zt_6838 zo_6838 zx_6838 rfl rfl dX67_login_353 (by decide) ?_
  refine r_aload_n E dX67_login_354 rfl 0 rfl ?_
  refine r_gec (y := 0) E zc_69 dX67_login_355 q3246 zr_69 (zh_6831 (by decide)) (by decide) ?_
  refine r_iload E dX67_login_358 4 rfl ?_
  refine r_bipush E dX67_login_360 (by decide) (zkI (by decide) (by decide)) ?_
  refine r_iastore E zc_6831 za_6831 zt_6831 zo_6831 zx_6831 rfl rfl dX67_login_362 (by decide) ?_
  refine r_aload_n E dX67_login_363 rfl 0 rfl ?_
  refine r_gec (y := 0) E zc_69 dX67_login_364 q3247 zr_69 (zh_6832 (by decide)) (by decide) ?_
  refine r_iload E dX67_login_367 4 rfl ?_
  refine r_iload E dX67_login_369 2 rfl ?_
  refine r_iastore E zc_6832 za_6832 zt_6832 zo_6832 zx_6832 rfl rfl dX67_login_371 (by decide) ?_
  refine r_aload_n E dX67_login_372 rfl 0 rfl ?_
  refine r_gec (y := 0) E zc_69 dX67_login_373 q3248 zr_69 (zh_6833 (by decide)) (by decide) ?_
  refine r_iload E dX67_login_376 4 rfl ?_
  refine r_iload E dX67_login_378 3 rfl ?_
  refine r_iastore E zc_6833 za_6833 zt_6833 zo_6833 zx_6833 rfl rfl dX67_login_380 (by decide) ?_
  refine r_aload_n E dX67_login_381 rfl 0 rfl ?_
  refine r_gec (y := 0) E zc_69 dX67_login_382 q3249 zr_69 (zh_6834 (by decide)) (by decide) ?_
  refine r_iload E dX67_login_385 4 rfl ?_
  refine r_iconst E dX67_login_387 (zkI (by decide) (by decide)) ?_
  refine r_zastore E zc_6834 za_6834 zt_6834 zo_6834 zx_6834 rfl rfl dX67_login_388 (by decide) ?_
  refine r_aload_n E dX67_login_389 rfl 0 rfl ?_
  refine r_gec (y := 0) E zc_69 dX67_login_390 q3250 zr_69 (zh_6835 (by decide)) (by decide) ?_
  refine r_iload E dX67_login_393 4 rfl ?_
  refine r_iconst E dX67_login_395 (zkI (by decide) (by decide)) ?_
  refine r_zastore E zc_6835 za_6835 zt_6835 zo_6835 zx_6835 rfl rfl dX67_login_396 (by decide) ?_
  refine r_aload_n E dX67_login_397 rfl 0 rfl ?_
  refine r_gec (y := 0) E zc_69 dX67_login_398 q3251 zr_69 (zh_6836 (by decide)) (by decide) ?_
  refine r_iload E dX67_login_401 4 rfl ?_
  refine r_iconst E dX67_login_403 (zkI (by decide) (by decide)) ?_
  refine r_iastore E zc_6836 za_6836 zt_6836 zo_6836 zx_6836 rfl rfl dX67_login_404 (by decide) ?_
  refine r_aload_n E dX67_login_405 rfl 0 rfl ?_
  refine r_gec (y := 0) E zc_69 dX67_login_406 q3255 zr_69 (zh_6840 (by decide)) (by decide) ?_
  refine r_iload E dX67_login_409 4 rfl ?_
  refine r_iconst E dX67_login_411 (zkI (by decide) (by decide)) ?_
  refine r_iastore E zc_6840 za_6840 zt_6840 zo_6840 zx_6840 rfl rfl dX67_login_412 (by decide) ?_
  refine r_aload_n E dX67_login_413 rfl 0 rfl ?_
  refine r_gec (y := 0) E zc_69 dX67_login_414 q3257 zr_69 (zh_6842 (by decide)) (by decide) ?_
  refine r_iload E dX67_login_417 4 rfl ?_
  refine r_iconst E dX67_login_419 (zkI (by decide) (by decide)) ?_
  refine r_zastore E zc_6842 za_6842 zt_6842 zo_6842 zx_6842 rfl rfl dX67_login_420 (by decide) ?_
  refine r_aload_n E dX67_login_421 rfl 0 rfl ?_
  refine r_gec (y := 0) E zc_69 dX67_login_422 q3261 zr_69 (zh_6846 (by decide)) (by decide) ?_
  refine r_iload E dX67_login_425 4 rfl ?_
  refine r_iconst E dX67_login_427 (zkI (by decide) (by decide)) ?_
  refine r_iastore E zc_6846 za_6846 zt_6846 zo_6846 zx_6846 rfl rfl dX67_login_428 (by decide) ?_
  refine r_aload_n E dX67_login_429 rfl 0 rfl ?_
  refine r_gec (y := 0) E zc_69 dX67_login_430 q3263 zr_69 (zh_6848 (by decide)) (by decide) ?_
  refine r_iload E dX67_login_433 4 rfl ?_
  refine r_iconst E dX67_login_435 (zkI (by decide) (by decide)) ?_
  refine r_iastore E zc_6848 za_6848 zt_6848 zo_6848 zx_6848 rfl rfl dX67_login_436 (by decide) ?_
  refine r_aload_n E dX67_login_437 rfl 0 rfl ?_
  refine r_gec (y := 0) E zc_69 dX67_login_438 q3275 zr_69 (zh_6860 (by decide)) (by decide) ?_
  refine r_iload E dX67_login_441 4 rfl ?_
  refine r_iconst E dX67_login_443 (zkI (by decide) (by decide)) ?_
  refine r_iastore E zc_6860 za_6860 zt_6860 zo_6860 zx_6860 rfl rfl dX67_login_444 (by decide) ?_
  refine r_aload_n E dX67_login_445 rfl 0 rfl ?_
  refine r_gec (y := 0) E zc_69 dX67_login_446 q3277 zr_69 (zh_6862 (by decide)) (by decide) ?_
  refine r_iload E dX67_login_449 4 rfl ?_
  refine r_ldc2 (v := (-3750763034362895579)) E dX67_login_451 q3808 (by decide) (zkJ (by decide) (by decide)) ?_
  refine r_lastore E zc_6862 za_6862 zt_6862 zo_6862 zx_6862 rfl rfl dX67_login_454 (by decide) ?_
  refine r_iload E dX67_login_455 4 rfl ?_
  exact r_ireturn E rfl hT dX67_login_457
theorem w_fX67_login_B312 {K : zK} (E : zE K cX67_login "RingHouseModel" (some .int) 3) (hN : zNl K = 9) (hT : zTr K = (some 0)) (x4 : Int) (x5 : Int) (x6 : Int) (x7 : Int) : ∀ r312 : Int → zX, (∀ s : Int, zR K 312 [(0, 69, 0), (4, 0, x4), (5, 0, x5), (6, 0, x6), (7, 0, x7), (8, 0, s)] [] (r312 s)) → ∀ s : Int, zR K 312 [(0, 69, 0), (4, 0, x4), (5, 0, x5), (6, 0, x6), (7, 0, x7), (8, 0, s)] [] (fX67_login_B312 x4 x5 x6 x7 r312 s) := by
  intro r312 hr312 x8
  refine r_iload E dX67_login_312 5 rfl ?_
  refine r_bipush E dX67_login_314 (by decide) (zkI (by decide) (by decide)) ?_
  refine r_iload E dX67_login_316 4 rfl ?_
  refine r_imul E dX67_login_318 ?_
  refine r_bipush E dX67_login_319 (by decide) (zkI (by decide) (by decide)) ?_
  refine r_iadd E dX67_login_321 ?_
  refine r_icmp_ge E 339 (by decide) dX67_login_322 (fun _ => ?_) (fun _ => ?_)
  · refine r_pick E [0, 1, 2, 3, 4] rfl ?_
    exact w_fX67_login_J339 E hN hT x4 x5 x6 x7
  · refine r_aload_n E dX67_login_325 rfl 0 rfl ?_
    refine r_gec (y := 0) E zc_69 dX67_login_326 q3253 zr_69 (zh_6838 (by decide)) (by decide) ?_
    refine r_iload E dX67_login_329 5 rfl ?_
    refine r_iconst E dX67_login_331 (zkI (by decide) (by decide)) ?_
    refine r_iastore E zc_6838 za_6838 zt_6838 zo_6838 zx_6838 rfl rfl dX67_login_332 (by decide) ?_
    refine r_iinc (ls' := fun v10 => [(8, 0, v10), (0, 69, 0), (4, 0, x4), (5, 0, x5), (6, 0, x6), (7, 0, x7)]) E 5 rfl (by rw [hN]; decide) (fun _ => rfl) dX67_login_333 (fun v10 _ => ?_)
    refine r_goto E 312 (by decide) dX67_login_336 ?_
    refine r_pick E [1, 2, 3, 4, 5, 0] rfl ?_
    exact hr312 v10
theorem w_fX67_login_J305 {K : zK} (E : zE K cX67_login "RingHouseModel" (some .int) 3) (hN : zNl K = 9) (hT : zTr K = (some 0)) (x4 : Int) (x5 : Int) (x6 : Int) (x7 : Int) : zR K 305 [(0, 69, 0), (4, 0, x4), (5, 0, x5), (6, 0, x6), (7, 0, x7)] [] (fX67_login_J305 x4 x5 x6 x7) := by
  refine r_bipush E dX67_login_305 (by decide) (zkI (by decide) (by decide)) ?_
  refine r_iload E dX67_login_307 4 rfl ?_
  refine r_imul E dX67_login_309 ?_
  refine r_let E (fun v9 ev9 => ?_)
  refine r_istore (ls' := [(8, 0, v9), (0, 69, 0), (4, 0, x4), (5, 0, x5), (6, 0, x6), (7, 0, x7)]) E dX67_login_310 (by rw [hN]; decide) rfl ?_
  refine r_pick E [1, 2, 3, 4, 5, 0] rfl ?_
  exact r_loop (L := fun s => [(0, 69, 0), (4, 0, x4), (5, 0, x5), (6, 0, x6), (7, 0, x7), (8, 0, s)]) (w_fX67_login_B312 E hN hT x4 x5 x6 x7) zBIG v9
theorem w_fX67_login_B266 {K : zK} (E : zE K cX67_login "RingHouseModel" (some .int) 3) (hN : zNl K = 9) (hT : zTr K = (some 0)) (x4 : Int) (x5 : Int) (x6 : Int) (x7 : Int) : ∀ r266 : Int → zX, (∀ s : Int, zR K 266 [(0, 69, 0), (4, 0, x4), (5, 0, x5), (6, 0, x6), (7, 0, x7), (8, 0, s)] [] (r266 s)) → ∀ s : Int, zR K 266 [(0, 69, 0), (4, 0, x4), (5, 0, x5), (6, 0, x6), (7, 0, x7), (8, 0, s)] [] (fX67_login_B266 x4 x5 x6 x7 r266 s) := by
  intro r266 hr266 x8
  refine r_iload E dX67_login_266 5 rfl ?_
  refine r_sipush E dX67_login_268 (by decide) (zkI (by decide) (by decide)) ?_
  refine r_iload E dX67_login_271 4 rfl ?_
  refine r_imul E dX67_login_273 ?_
  refine r_sipush E dX67_login_274 (by decide) (zkI (by decide) (by decide)) ?_
  refine r_iadd E dX67_login_277 ?_
  refine r_icmp_ge E 305 (by decide) dX67_login_278 (fun _ => ?_) (fun _ => ?_)
  · refine r_pick E [0, 1, 2, 3, 4] rfl ?_
    exact w_fX67_login_J305 E hN hT x4 x5 x6 x7
  · refine r_aload_n E dX67_login_281 rfl 0 rfl ?_
    refine r_gec (y := 0) E zc_69 dX67_login_282 q3252 zr_69 (zh_6837 (by decide)) (by decide) ?_
    refine r_iload E dX67_login_285 5 rfl ?_
    refine r_lconst (v := 0) E dX67_login_287 (by decide) (zkJ (by decide) (by decide)) ?_
    refine r_lastore E zc_6837 za_6837 zt_6837 zo_6837 zx_6837 rfl rfl dX67_login_288 (by decide) ?_
    refine r_aload_n E dX67_login_289 rfl 0 rfl ?_
    refine r_gec (y := 0) E zc_69 dX67_login_290 q3254 zr_69 (zh_6839 (by decide)) (by decide) ?_
    refine r_iload E dX67_login_293 5 rfl ?_
    refine r_ldc2 (v := (-1)) E dX67_login_295 q3759 (by decide) (zkJ (by decide) (by decide)) ?_
    refine r_lastore E zc_6839 za_6839 zt_6839 zo_6839 zx_6839 rfl rfl dX67_login_298 (by decide) ?_
    refine r_iinc (ls' := fun v11 => [(8, 0, v11), (0, 69, 0), (4, 0, x4), (5, 0, x5), (6, 0, x6), (7, 0, x7)]) E 5 rfl (by rw [hN]; decide) (fun _ => rfl) dX67_login_299 (fun v11 _ => ?_)
    refine r_goto E 266 (by decide) dX67_login_302 ?_
    refine r_pick E [1, 2, 3, 4, 5, 0] rfl ?_
    exact hr266 v11
theorem w_fX67_login_J258 {K : zK} (E : zE K cX67_login "RingHouseModel" (some .int) 3) (hN : zNl K = 9) (hT : zTr K = (some 0)) (x4 : Int) (x5 : Int) (x6 : Int) (x7 : Int) : zR K 258 [(0, 69, 0), (4, 0, x4), (5, 0, x5), (6, 0, x6), (7, 0, x7)] [] (fX67_login_J258 x4 x5 x6 x7) := by
  refine r_sipush E dX67_login_258 (by decide) (zkI (by decide) (by decide)) ?_
  refine r_iload E dX67_login_261 4 rfl ?_
  refine r_imul E dX67_login_263 ?_
  refine r_let E (fun v8 ev8 => ?_)
  refine r_istore (ls' := [(8, 0, v8), (0, 69, 0), (4, 0, x4), (5, 0, x5), (6, 0, x6), (7, 0, x7)]) E dX67_login_264 (by rw [hN]; decide) rfl ?_
  refine r_pick E [1, 2, 3, 4, 5, 0] rfl ?_
  exact r_loop (L := fun s => [(0, 69, 0), (4, 0, x4), (5, 0, x5), (6, 0, x6), (7, 0, x7), (8, 0, s)]) (w_fX67_login_B266 E hN hT x4 x5 x6 x7) zBIG v8
theorem w_fX67_login_B215 {K : zK} (E : zE K cX67_login "RingHouseModel" (some .int) 3) (hN : zNl K = 9) (hT : zTr K = (some 0)) (x4 : Int) (x5 : Int) (x6 : Int) (x7 : Int) : ∀ r215 : Int → zX, (∀ s : Int, zR K 215 [(0, 69, 0), (4, 0, x4), (5, 0, x5), (6, 0, x6), (7, 0, x7), (8, 0, s)] [] (r215 s)) → ∀ s : Int, zR K 215 [(0, 69, 0), (4, 0, x4), (5, 0, x5), (6, 0, x6), (7, 0, x7), (8, 0, s)] [] (fX67_login_B215 x4 x5 x6 x7 r215 s) := by
  intro r215 hr215 x8
  refine r_iload E dX67_login_215 5 rfl ?_
  refine r_bipush E dX67_login_217 (by decide) (zkI (by decide) (by decide)) ?_
  refine r_iload E dX67_login_219 4 rfl ?_
  refine r_imul E dX67_login_221 ?_
  refine r_bipush E dX67_login_222 (by decide) (zkI (by decide) (by decide)) ?_
  refine r_iadd E dX67_login_224 ?_
  refine r_icmp_ge E 258 (by decide) dX67_login_225 (fun _ => ?_) (fun _ => ?_)
  · refine r_pick E [0, 1, 2, 3, 4] rfl ?_
    exact w_fX67_login_J258 E hN hT x4 x5 x6 x7
  · refine r_aload_n E dX67_login_228 rfl 0 rfl ?_
    refine r_gec (y := 0) E zc_69 dX67_login_229 q3243 zr_69 (zh_6828 (by decide)) (by decide) ?_
    refine r_iload E dX67_login_232 5 rfl ?_
    refine r_iconst E dX67_login_234 (zkI (by decide) (by decide)) ?_
    refine r_iastore E zc_6828 za_6828 zt_6828 zo_6828 zx_6828 rfl rfl dX67_login_235 (by decide) ?_
    refine r_aload_n E dX67_login_236 rfl 0 rfl ?_
    refine r_gec (y := 0) E zc_69 dX67_login_237 q3244 zr_69 (zh_6829 (by decide)) (by decide) ?_
    refine r_iload E dX67_login_240 5 rfl ?_
    refine r_iconst E dX67_login_242 (zkI (by decide) (by decide)) ?_
    refine r_iastore E zc_6829 za_6829 zt_6829 zo_6829 zx_6829 rfl rfl dX67_login_243 (by decide) ?_
    refine r_aload_n E dX67_login_244 rfl 0 rfl ?_
    refine r_gec (y := 0) E zc_69 dX67_login_245 q3245 zr_69 (zh_6830 (by decide)) (by decide) ?_
    refine r_iload E dX67_login_248 5 rfl ?_
    refine r_iconst E dX67_login_250 (zkI (by decide) (by decide)) ?_
    refine r_iastore E zc_6830 za_6830 zt_6830 zo_6830 zx_6830 rfl rfl dX67_login_251 (by decide) ?_
    refine r_iinc (ls' := fun v12 => [(8, 0, v12), (0, 69, 0), (4, 0, x4), (5, 0, x5), (6, 0, x6), (7, 0, x7)]) E 5 rfl (by rw [hN]; decide) (fun _ => rfl) dX67_login_252 (fun v12 _ => ?_)
    refine r_goto E 215 (by decide) dX67_login_255 ?_
    refine r_pick E [1, 2, 3, 4, 5, 0] rfl ?_
    exact hr215 v12
theorem w_fX67_login_J208 {K : zK} (E : zE K cX67_login "RingHouseModel" (some .int) 3) (hN : zNl K = 9) (hT : zTr K = (some 0)) (x4 : Int) (x5 : Int) (x6 : Int) (x7 : Int) : zR K 208 [(0, 69, 0), (4, 0, x4), (5, 0, x5), (6, 0, x6), (7, 0, x7)] [] (fX67_login_J208 x4 x5 x6 x7) := by
  refine r_bipush E dX67_login_208 (by decide) (zkI (by decide) (by decide)) ?_
  refine r_iload E dX67_login_210 4 rfl ?_
  refine r_imul E dX67_login_212 ?_
  refine r_let E (fun v7 ev7 => ?_)
  refine r_istore (ls' := [(8, 0, v7), (0, 69, 0), (4, 0, x4), (5, 0, x5), (6, 0, x6), (7, 0, x7)]) E dX67_login_213 (by rw [hN]; decide) rfl ?_
  refine r_pick E [1, 2, 3, 4, 5, 0] rfl ?_
  exact r_loop (L := fun s => [(0, 69, 0), (4, 0, x4), (5, 0, x5), (6, 0, x6), (7, 0, x7), (8, 0, s)]) (w_fX67_login_B215 E hN hT x4 x5 x6 x7) zBIG v7
theorem w_fX67_login_B170 {K : zK} (E : zE K cX67_login "RingHouseModel" (some .int) 3) (hN : zNl K = 9) (hT : zTr K = (some 0)) (x4 : Int) (x5 : Int) (x6 : Int) (x7 : Int) : ∀ r170 : Int → zX, (∀ s : Int, zR K 170 [(0, 69, 0), (4, 0, x4), (5, 0, x5), (6, 0, x6), (7, 0, x7), (8, 0, s)] [] (r170 s)) → ∀ s : Int, zR K 170 [(0, 69, 0), (4, 0, x4), (5, 0, x5), (6, 0, x6), (7, 0, x7), (8, 0, s)] [] (fX67_login_B170 x4 x5 x6 x7 r170 s) := by
  intro r170 hr170 x8
  refine r_iload E dX67_login_170 5 rfl ?_
  refine r_iconst E dX67_login_172 (zkI (by decide) (by decide)) ?_
  refine r_icmp_ge E 208 (by decide) dX67_login_173 (fun _ => ?_) (fun _ => ?_)
  · refine r_pick E [0, 1, 2, 3, 4] rfl ?_
    exact w_fX67_login_J208 E hN hT x4 x5 x6 x7
  · refine r_aload_n E dX67_login_176 rfl 0 rfl ?_
    refine r_gec (y := 0) E zc_69 dX67_login_177 q3242 zr_69 (zh_6827 (by decide)) (by decide) ?_
    refine r_iconst E dX67_login_180 (zkI (by decide) (by decide)) ?_
    refine r_iload E dX67_login_181 4 rfl ?_
    refine r_imul E dX67_login_183 ?_
    refine r_iload E dX67_login_184 5 rfl ?_
    refine r_iadd E dX67_login_186 ?_
    refine r_iconst E dX67_login_187 (zkI (by decide) (by decide)) ?_
    refine r_iastore E zc_6827 za_6827 zt_6827 zo_6827 zx_6827 rfl rfl dX67_login_188 (by decide) ?_
    refine r_aload_n E dX67_login_189 rfl 0 rfl ?_
    refine r_gec (y := 0) E zc_69 dX67_login_190 q3256 zr_69 (zh_6841 (by decide)) (by decide) ?_
    refine r_iconst E dX67_login_193 (zkI (by decide) (by decide)) ?_
    refine r_iload E dX67_login_194 4 rfl ?_
    refine r_imul E dX67_login_196 ?_
    refine r_iload E dX67_login_197 5 rfl ?_
    refine r_iadd E dX67_login_199 ?_
    refine r_iconst E dX67_login_200 (zkI (by decide) (by decide)) ?_
    refine r_iastore E zc_6841 za_6841 zt_6841 zo_6841 zx_6841 rfl rfl dX67_login_201 (by decide) ?_
    refine r_iinc (ls' := fun v13 => [(8, 0, v13), (0, 69, 0), (4, 0, x4), (5, 0, x5), (6, 0, x6), (7, 0, x7)]) E 5 rfl (by rw [hN]; decide) (fun _ => rfl) dX67_login_202 (fun v13 _ => ?_)
    refine r_goto E 170 (by decide) dX67_login_205 ?_
    refine r_pick E [1, 2, 3, 4, 5, 0] rfl ?_
    exact hr170 v13
theorem w_fX67_login_J101 {K : zK} (E : zE K cX67_login "RingHouseModel" (some .int) 3) (hN : zNl K = 9) (hT : zTr K = (some 0)) (x1 : Int) (x2 : Int) (x3 : Int) (x4 : Int) (x5 : Int) (x6 : Int) (x7 : Int) : zR K 101 [(0, 69, 0), (1, 0, x1), (2, 0, x2), (3, 0, x3), (4, 0, x4), (5, 0, x5), (6, 0, x6), (7, 0, x7)] [] (fX67_login_J101 x1 x2 x3 x4 x5 x6 x7) := by
  refine r_iload E dX67_login_101 7 rfl ?_
  refine r_bipush E dX67_login_103 (by decide) (zkI (by decide) (by decide)) ?_
  refine r_icmp_ne E 111 (by decide) dX67_login_105 (fun _ => ?_) (fun _ => ?_)
  · refine r_aload_n E dX67_login_111 rfl 0 rfl ?_
    refine r_gec (y := 0) E zc_69 dX67_login_112 q3235 zr_69 (zh_6820 (by decide)) (by decide) ?_
    refine r_iload E dX67_login_115 7 rfl ?_
    refine r_iconst E dX67_login_117 (zkI (by decide) (by decide)) ?_
    refine r_zastore E zc_6820 za_6820 zt_6820 zo_6820 zx_6820 rfl rfl dX67_login_118 (by decide) ?_
    refine r_aload_n E dX67_login_119 rfl 0 rfl ?_
    refine r_gec (y := 0) E zc_69 dX67_login_120 q3236 zr_69 (zh_6821 (by decide)) (by decide) ?_
    refine r_iload E dX67_login_123 7 rfl ?_
    refine r_iconst E dX67_login_125 (zkI (by decide) (by decide)) ?_
    refine r_iastore E zc_6821 za_6821 zt_6821 zo_6821 zx_6821 rfl rfl dX67_login_126 (by decide) ?_
    refine r_aload_n E dX67_login_127 rfl 0 rfl ?_
    refine r_gec (y := 0) E zc_69 dX67_login_128 q3237 zr_69 (zh_6822 (by decide)) (by decide) ?_
    refine r_iload E dX67_login_131 7 rfl ?_
    refine r_iload_n E dX67_login_133 rfl 1 rfl ?_
    refine r_iastore E zc_6822 za_6822 zt_6822 zo_6822 zx_6822 rfl rfl dX67_login_134 (by decide) ?_
    refine r_aload_n E dX67_login_135 rfl 0 rfl ?_
    refine r_gec (y := 0) E zc_69 dX67_login_136 q3238 zr_69 (zh_6823 (by decide)) (by decide) ?_
    refine r_iload E dX67_login_139 7 rfl ?_
    refine r_iload_n E dX67_login_141 rfl 2 rfl ?_
    refine r_iastore E zc_6823 za_6823 zt_6823 zo_6823 zx_6823 rfl rfl dX67_login_142 (by decide) ?_
    refine r_aload_n E dX67_login_143 rfl 0 rfl ?_
    refine r_gec (y := 0) E zc_69 dX67_login_144 q3239 zr_69 (zh_6824 (by decide)) (by decide) ?_
    refine r_iload E dX67_login_147 7 rfl ?_
    refine r_iload_n E dX67_login_149 rfl 3 rfl ?_
    refine r_iastore E zc_6824 za_6824 zt_6824 zo_6824 zx_6824 rfl rfl dX67_login_150 (by decide) ?_
    refine r_aload_n E dX67_login_151 rfl 0 rfl ?_
    refine r_gec (y := 0) E zc_69 dX67_login_152 q3240 zr_69 (zh_6825 (by decide)) (by decide) ?_
    refine r_iload E dX67_login_155 7 rfl ?_
    refine r_lconst (v := 0) E dX67_login_157 (by decide) (zkJ (by decide) (by decide)) ?_
    refine r_lastore E zc_6825 za_6825 zt_6825 zo_6825 zx_6825 rfl rfl dX67_login_158 (by decide) ?_
    refine r_aload_n E dX67_login_159 rfl 0 rfl ?_
    refine r_gec (y := 0) E zc_69 dX67_login_160 q3241 zr_69 (zh_6826 (by decide)) (by decide) ?_
    refine r_iload E dX67_login_163 7 rfl ?_
    refine r_lconst (v := 0) E dX67_login_165 (by decide) (zkJ (by decide) (by decide)) ?_
    refine r_lastore E zc_6826 za_6826 zt_6826 zo_6826 zx_6826 rfl rfl dX67_login_166 (by decide) ?_
    refine r_iconst E dX67_login_167 (zkI (by decide) (by decide)) ?_
    refine r_istore (ls' := [(8, 0, 0), (0, 69, 0), (1, 0, x1), (2, 0, x2), (3, 0, x3), (4, 0, x4), (5, 0, x5), (6, 0, x6), (7, 0, x7)]) E dX67_login_168 (by rw [hN]; decide) rfl ?_
    refine r_pick E [1, 5, 6, 7, 8, 0] rfl ?_
    exact r_loop (L := fun s => [(0, 69, 0), (4, 0, x4), (5, 0, x5), (6, 0, x6), (7, 0, x7), (8, 0, s)]) (w_fX67_login_B170 E hN hT x4 x5 x6 x7) zBIG 0
  · refine r_bipush E dX67_login_108 (by decide) (zkI (by decide) (by decide)) ?_
    exact r_ireturn E rfl hT dX67_login_110
theorem w_fX67_login_B78 {K : zK} (E : zE K cX67_login "RingHouseModel" (some .int) 3) (hN : zNl K = 9) (hT : zTr K = (some 0)) (x1 : Int) (x2 : Int) (x3 : Int) (x4 : Int) (x5 : Int) (x6 : Int) : ∀ r78 : Int → zX, (∀ s : Int, zR K 78 [(0, 69, 0), (1, 0, x1), (2, 0, x2), (3, 0, x3), (4, 0, x4), (5, 0, x5), (6, 0, x6), (7, 0, s)] [] (r78 s)) → ∀ s : Int, zR K 78 [(0, 69, 0), (1, 0, x1), (2, 0, x2), (3, 0, x3), (4, 0, x4), (5, 0, x5), (6, 0, x6), (7, 0, s)] [] (fX67_login_B78 x1 x2 x3 x4 x5 x6 r78 s) := by
  intro r78 hr78 x7
  refine r_iload E dX67_login_78 7 rfl ?_
  refine r_bipush E dX67_login_80 (by decide) (zkI (by decide) (by decide)) ?_
  refine r_icmp_ge E 101 (by decide) dX67_login_82 (fun _ => ?_) (fun _ => ?_)
  · exact w_fX67_login_J101 E hN hT x1 x2 x3 x4 x5 x6 x7
  · refine r_aload_n E dX67_login_85 rfl 0 rfl ?_
    refine r_gec (y := 0) E zc_69 dX67_login_86 q3235 zr_69 (zh_6820 (by decide)) (by decide) ?_
    refine r_iload E dX67_login_89 7 rfl ?_
    refine r_baloadz E zc_6820 za_6820 zt_6820 zx_6820 rfl rfl dX67_login_91 (by decide) (fun v14 => ?_)
    refine r_if_eq E 101 (by decide) dX67_login_92 (fun _ => ?_) (fun _ => ?_)
    · exact w_fX67_login_J101 E hN hT x1 x2 x3 x4 x5 x6 x7
    · refine r_iinc (ls' := fun v15 => [(7, 0, v15), (0, 69, 0), (1, 0, x1), (2, 0, x2), (3, 0, x3), (4, 0, x4), (5, 0, x5), (6, 0, x6)]) E 7 rfl (by rw [hN]; decide) (fun _ => rfl) dX67_login_95 (fun v15 _ => ?_)
      refine r_goto E 78 (by decide) dX67_login_98 ?_
      refine r_pick E [1, 2, 3, 4, 5, 6, 7, 0] rfl ?_
      exact hr78 v15
theorem w_fX67_login {K : zK} (E : zE K cX67_login "RingHouseModel" (some .int) 3) (hN : zNl K = 9) (hT : zTr K = (some 0)) (x1 : Int) (x2 : Int) (x3 : Int) (x4 : Int) (x5 : Int) (x6 : Int) : zR K 0 [(0, 69, 0), (1, 0, x1), (2, 0, x2), (3, 0, x3), (4, 0, x4), (5, 0, x5), (6, 0, x6)] [] (fX67_login x1 x2 x3 x4 x5 x6) := by
  refine r_iload_n E dX67_login_0 rfl 1 rfl ?_
  refine r_i2l E dX67_login_1 ?_
  refine r_lconst (v := 0) E dX67_login_2 (by decide) (zkJ (by decide) (by decide)) ?_
  refine r_ldc2 (v := 15) E dX67_login_3 q3777 (by decide) (zkJ (by decide) (by decide)) ?_
  refine r_callS E [(1, x1), (1, 0), (1, 15)] [] rfl q3619 q3620 q294 q3621 dX67_login_6 zy_X67_in rfl (by omega) (by decide) (Nat.le_of_ble_eq_true rfl) (fun l G => k_fX67_in l G x1 0 15) (fun v1 => ?_)
  refine r_if_eq E 72 (by decide) dX67_login_9 (fun _ => ?_) (fun _ => ?_)
  · refine r_bipush E dX67_login_72 (by decide) (zkI (by decide) (by decide)) ?_
    exact r_ireturn E rfl hT dX67_login_74
  · refine r_iload_n E dX67_login_12 rfl 2 rfl ?_
    refine r_i2l E dX67_login_13 ?_
    refine r_lconst (v := 0) E dX67_login_14 (by decide) (zkJ (by decide) (by decide)) ?_
    refine r_ldc2 (v := 7) E dX67_login_15 q3709 (by decide) (zkJ (by decide) (by decide)) ?_
    refine r_callS E [(1, x2), (1, 0), (1, 7)] [] rfl q3619 q3620 q294 q3621 dX67_login_18 zy_X67_in rfl (by omega) (by decide) (Nat.le_of_ble_eq_true rfl) (fun l G => k_fX67_in l G x2 0 7) (fun v2 => ?_)
    refine r_if_eq E 72 (by decide) dX67_login_21 (fun _ => ?_) (fun _ => ?_)
    · refine r_bipush E dX67_login_72 (by decide) (zkI (by decide) (by decide)) ?_
      exact r_ireturn E rfl hT dX67_login_74
    · refine r_iload_n E dX67_login_24 rfl 3 rfl ?_
      refine r_i2l E dX67_login_25 ?_
      refine r_lconst (v := 0) E dX67_login_26 (by decide) (zkJ (by decide) (by decide)) ?_
      refine r_ldc2 (v := 31) E dX67_login_27 q3631 (by decide) (zkJ (by decide) (by decide)) ?_
      refine r_callS E [(1, x3), (1, 0), (1, 31)] [] rfl q3619 q3620 q294 q3621 dX67_login_30 zy_X67_in rfl (by omega) (by decide) (Nat.le_of_ble_eq_true rfl) (fun l G => k_fX67_in l G x3 0 31) (fun v3 => ?_)
      refine r_if_eq E 72 (by decide) dX67_login_33 (fun _ => ?_) (fun _ => ?_)
      · refine r_bipush E dX67_login_72 (by decide) (zkI (by decide) (by decide)) ?_
        exact r_ireturn E rfl hT dX67_login_74
      · refine r_aload_n E dX67_login_36 rfl 0 rfl ?_
        refine r_iload E dX67_login_37 4 rfl ?_
        refine r_iconst E dX67_login_39 (zkI (by decide) (by decide)) ?_
        refine r_callV E [(0, x4), (0, 2)] [] rfl zc_69 zr_69 (fun o _ => ⟨_, zw_X67.1 o, rfl⟩) (lw_V q3610 q3612 qs92 q294 q3613) dX67_login_40 zy_X67_isOf rfl (by omega) (by decide) (Nat.le_of_ble_eq_true rfl) (by decide) (fun l G => k_fX67_isOf l G x4 2) (fun v4 => ?_)
        refine r_if_eq E 72 (by decide) dX67_login_43 (fun _ => ?_) (fun _ => ?_)
        · refine r_bipush E dX67_login_72 (by decide) (zkI (by decide) (by decide)) ?_
          exact r_ireturn E rfl hT dX67_login_74
        · refine r_iload E dX67_login_46 5 rfl ?_
          refine r_i2l E dX67_login_48 ?_
          refine r_lconst (v := 0) E dX67_login_49 (by decide) (zkJ (by decide) (by decide)) ?_
          refine r_ldc2 (v := 262143) E dX67_login_50 q3807 (by decide) (zkJ (by decide) (by decide)) ?_
          refine r_callS E [(1, x5), (1, 0), (1, 262143)] [] rfl q3619 q3620 q294 q3621 dX67_login_53 zy_X67_in rfl (by omega) (by decide) (Nat.le_of_ble_eq_true rfl) (fun l G => k_fX67_in l G x5 0 262143) (fun v5 => ?_)
          refine r_if_eq E 72 (by decide) dX67_login_56 (fun _ => ?_) (fun _ => ?_)
          · refine r_bipush E dX67_login_72 (by decide) (zkI (by decide) (by decide)) ?_
            exact r_ireturn E rfl hT dX67_login_74
          · refine r_iload E dX67_login_59 6 rfl ?_
            refine r_i2l E dX67_login_61 ?_
            refine r_lconst (v := 0) E dX67_login_62 (by decide) (zkJ (by decide) (by decide)) ?_
            refine r_ldc2 (v := 7) E dX67_login_63 q3709 (by decide) (zkJ (by decide) (by decide)) ?_
            refine r_callS E [(1, x6), (1, 0), (1, 7)] [] rfl q3619 q3620 q294 q3621 dX67_login_66 zy_X67_in rfl (by omega) (by decide) (Nat.le_of_ble_eq_true rfl) (fun l G => k_fX67_in l G x6 0 7) (fun v6 => ?_)
            refine r_if_ne E 75 (by decide) dX67_login_69 (fun _ => ?_) (fun _ => ?_)
            · refine r_iconst E dX67_login_75 (zkI (by decide) (by decide)) ?_
              refine r_istore (ls' := [(7, 0, 0), (0, 69, 0), (1, 0, x1), (2, 0, x2), (3, 0, x3), (4, 0, x4), (5, 0, x5), (6, 0, x6)]) E dX67_login_76 (by rw [hN]; decide) rfl ?_
              refine r_pick E [1, 2, 3, 4, 5, 6, 7, 0] rfl ?_
              exact r_loop (L := fun s => [(0, 69, 0), (1, 0, x1), (2, 0, x2), (3, 0, x3), (4, 0, x4), (5, 0, x5), (6, 0, x6), (7, 0, s)]) (w_fX67_login_B78 E hN hT x1 x2 x3 x4 x5 x6) zBIG 0
            · refine r_bipush E dX67_login_72 (by decide) (zkI (by decide) (by decide)) ?_
              exact r_ireturn E rfl hT dX67_login_74
theorem k_fX67_login (l : Launch) (G : zG) (x1 : Int) (x2 : Int) (x3 : Int) (x4 : Int) (x5 : Int) (x6 : Int) : zCt l G yX67_login cX67_login 9 (some .int) 3 [(69, 0), (0, x1), (0, x2), (0, x3), (0, x4), (0, x5), (0, x6)] (some 0) (fX67_login x1 x2 x3 x4 x5 x6) := zCt.of (by decide) (Nat.le_of_ble_eq_true rfl) (fun K E _ _ hN hT => w_fX67_login E hN hT x1 x2 x3 x4 x5 x6)
