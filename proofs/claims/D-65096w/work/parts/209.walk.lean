set_option maxRecDepth 100000
theorem dX67_lineOfText_0 : decode cX67_lineOfText 0 = .ok (.aload_n 0, 1) := by decide +kernel
theorem dX67_lineOfText_1 : decode cX67_lineOfText 1 = .ok (.invokevirtual 846, 3) := by decide +kernel
theorem dX67_lineOfText_4 : decode cX67_lineOfText 4 = .ok (.aload_n 0, 1) := by decide +kernel
theorem dX67_lineOfText_5 : decode cX67_lineOfText 5 = .ok (.getfield 837, 3) := by decide +kernel
theorem dX67_lineOfText_8 : decode cX67_lineOfText 8 = .ok (.iconst 1, 1) := by decide +kernel
theorem dX67_lineOfText_9 : decode cX67_lineOfText 9 = .ok (.if_icmp .ne 120, 3) := by decide +kernel
theorem dX67_lineOfText_12 : decode cX67_lineOfText 12 = .ok (.aload_n 0, 1) := by decide +kernel
theorem dX67_lineOfText_13 : decode cX67_lineOfText 13 = .ok (.invokevirtual 926, 3) := by decide +kernel
theorem dX67_lineOfText_16 : decode cX67_lineOfText 16 = .ok (.bipush 58, 2) := by decide +kernel
theorem dX67_lineOfText_18 : decode cX67_lineOfText 18 = .ok (.if_icmp .ne 111, 3) := by decide +kernel
theorem dX67_lineOfText_21 : decode cX67_lineOfText 21 = .ok (.aload_n 0, 1) := by decide +kernel
theorem dX67_lineOfText_22 : decode cX67_lineOfText 22 = .ok (.getfield 831, 3) := by decide +kernel
theorem dX67_lineOfText_25 : decode cX67_lineOfText 25 = .ok (.istore_n 1, 1) := by decide +kernel
theorem dX67_lineOfText_26 : decode cX67_lineOfText 26 = .ok (.aload_n 0, 1) := by decide +kernel
theorem dX67_lineOfText_27 : decode cX67_lineOfText 27 = .ok (.invokevirtual 899, 3) := by decide +kernel
theorem dX67_lineOfText_30 : decode cX67_lineOfText 30 = .ok (.lstore_n 2, 1) := by decide +kernel
theorem dX67_lineOfText_31 : decode cX67_lineOfText 31 = .ok (.aload_n 0, 1) := by decide +kernel
theorem dX67_lineOfText_32 : decode cX67_lineOfText 32 = .ok (.getfield 813, 3) := by decide +kernel
theorem dX67_lineOfText_35 : decode cX67_lineOfText 35 = .ok (.ifCond .le 4, 3) := by decide +kernel
theorem dX67_lineOfText_38 : decode cX67_lineOfText 38 = .ok (.return_, 1) := by decide +kernel
theorem dX67_lineOfText_39 : decode cX67_lineOfText 39 = .ok (.aload_n 0, 1) := by decide +kernel
theorem dX67_lineOfText_40 : decode cX67_lineOfText 40 = .ok (.invokevirtual 846, 3) := by decide +kernel
theorem dX67_lineOfText_43 : decode cX67_lineOfText 43 = .ok (.aload_n 0, 1) := by decide +kernel
theorem dX67_lineOfText_44 : decode cX67_lineOfText 44 = .ok (.getfield 882, 3) := by decide +kernel
theorem dX67_lineOfText_47 : decode cX67_lineOfText 47 = .ok (.ifCond .ne 18, 3) := by decide +kernel
theorem dX67_lineOfText_50 : decode cX67_lineOfText 50 = .ok (.aload_n 0, 1) := by decide +kernel
theorem dX67_lineOfText_51 : decode cX67_lineOfText 51 = .ok (.lload_n 2, 1) := by decide +kernel
theorem dX67_lineOfText_52 : decode cX67_lineOfText 52 = .ok (.invokevirtual 886, 3) := by decide +kernel
theorem dX67_lineOfText_55 : decode cX67_lineOfText 55 = .ok (.ifCond .lt 10, 3) := by decide +kernel
theorem dX67_lineOfText_58 : decode cX67_lineOfText 58 = .ok (.aload_n 0, 1) := by decide +kernel
theorem dX67_lineOfText_59 : decode cX67_lineOfText 59 = .ok (.iconst 4, 1) := by decide +kernel
theorem dX67_lineOfText_60 : decode cX67_lineOfText 60 = .ok (.iload_n 1, 1) := by decide +kernel
theorem dX67_lineOfText_61 : decode cX67_lineOfText 61 = .ok (.invokevirtual 854, 3) := by decide +kernel
theorem dX67_lineOfText_64 : decode cX67_lineOfText 64 = .ok (.return_, 1) := by decide +kernel
theorem dX67_lineOfText_65 : decode cX67_lineOfText 65 = .ok (.aload_n 0, 1) := by decide +kernel
theorem dX67_lineOfText_66 : decode cX67_lineOfText 66 = .ok (.getfield 882, 3) := by decide +kernel
theorem dX67_lineOfText_69 : decode cX67_lineOfText 69 = .ok (.ifCond .ne 20, 3) := by decide +kernel
theorem dX67_lineOfText_72 : decode cX67_lineOfText 72 = .ok (.aload_n 0, 1) := by decide +kernel
theorem dX67_lineOfText_73 : decode cX67_lineOfText 73 = .ok (.getfield 857, 3) := by decide +kernel
theorem dX67_lineOfText_76 : decode cX67_lineOfText 76 = .ok (.bipush 64, 2) := by decide +kernel
theorem dX67_lineOfText_78 : decode cX67_lineOfText 78 = .ok (.if_icmp .ne 11, 3) := by decide +kernel
theorem dX67_lineOfText_81 : decode cX67_lineOfText 81 = .ok (.aload_n 0, 1) := by decide +kernel
theorem dX67_lineOfText_82 : decode cX67_lineOfText 82 = .ok (.bipush 6, 2) := by decide +kernel
theorem dX67_lineOfText_84 : decode cX67_lineOfText 84 = .ok (.iload_n 1, 1) := by decide +kernel
theorem dX67_lineOfText_85 : decode cX67_lineOfText 85 = .ok (.invokevirtual 854, 3) := by decide +kernel
theorem dX67_lineOfText_88 : decode cX67_lineOfText 88 = .ok (.return_, 1) := by decide +kernel
theorem dX67_lineOfText_89 : decode cX67_lineOfText 89 = .ok (.aload_n 0, 1) := by decide +kernel
theorem dX67_lineOfText_90 : decode cX67_lineOfText 90 = .ok (.getfield 882, 3) := by decide +kernel
theorem dX67_lineOfText_93 : decode cX67_lineOfText 93 = .ok (.ifCond .ne 36, 3) := by decide +kernel
theorem dX67_lineOfText_96 : decode cX67_lineOfText 96 = .ok (.aload_n 0, 1) := by decide +kernel
theorem dX67_lineOfText_97 : decode cX67_lineOfText 97 = .ok (.getfield 220, 3) := by decide +kernel
theorem dX67_lineOfText_100 : decode cX67_lineOfText 100 = .ok (.aload_n 0, 1) := by decide +kernel
theorem dX67_lineOfText_101 : decode cX67_lineOfText 101 = .ok (.getfield 857, 3) := by decide +kernel
theorem dX67_lineOfText_104 : decode cX67_lineOfText 104 = .ok (.lload_n 2, 1) := by decide +kernel
theorem dX67_lineOfText_105 : decode cX67_lineOfText 105 = .ok (.lastore, 1) := by decide +kernel
theorem dX67_lineOfText_106 : decode cX67_lineOfText 106 = .ok (.aload_n 0, 1) := by decide +kernel
theorem dX67_lineOfText_107 : decode cX67_lineOfText 107 = .ok (.getfield 223, 3) := by decide +kernel
theorem dX67_lineOfText_110 : decode cX67_lineOfText 110 = .ok (.aload_n 0, 1) := by decide +kernel
theorem dX67_lineOfText_111 : decode cX67_lineOfText 111 = .ok (.getfield 857, 3) := by decide +kernel
theorem dX67_lineOfText_114 : decode cX67_lineOfText 114 = .ok (.aload_n 0, 1) := by decide +kernel
theorem dX67_lineOfText_115 : decode cX67_lineOfText 115 = .ok (.getfield 918, 3) := by decide +kernel
theorem dX67_lineOfText_118 : decode cX67_lineOfText 118 = .ok (.iastore, 1) := by decide +kernel
theorem dX67_lineOfText_119 : decode cX67_lineOfText 119 = .ok (.aload_n 0, 1) := by decide +kernel
theorem dX67_lineOfText_120 : decode cX67_lineOfText 120 = .ok (.dup, 1) := by decide +kernel
theorem dX67_lineOfText_121 : decode cX67_lineOfText 121 = .ok (.getfield 857, 3) := by decide +kernel
theorem dX67_lineOfText_124 : decode cX67_lineOfText 124 = .ok (.iconst 1, 1) := by decide +kernel
theorem dX67_lineOfText_125 : decode cX67_lineOfText 125 = .ok (.iadd, 1) := by decide +kernel
theorem dX67_lineOfText_126 : decode cX67_lineOfText 126 = .ok (.putfield 857, 3) := by decide +kernel
theorem dX67_lineOfText_129 : decode cX67_lineOfText 129 = .ok (.aload_n 0, 1) := by decide +kernel
theorem dX67_lineOfText_130 : decode cX67_lineOfText 130 = .ok (.getfield 837, 3) := by decide +kernel
theorem dX67_lineOfText_133 : decode cX67_lineOfText 133 = .ok (.ifCond .eq 7, 3) := by decide +kernel
theorem dX67_lineOfText_136 : decode cX67_lineOfText 136 = .ok (.aload_n 0, 1) := by decide +kernel
theorem dX67_lineOfText_137 : decode cX67_lineOfText 137 = .ok (.invokevirtual 977, 3) := by decide +kernel
theorem dX67_lineOfText_140 : decode cX67_lineOfText 140 = .ok (.aload_n 0, 1) := by decide +kernel
theorem dX67_lineOfText_141 : decode cX67_lineOfText 141 = .ok (.getfield 813, 3) := by decide +kernel
theorem dX67_lineOfText_144 : decode cX67_lineOfText 144 = .ok (.ifCond .ne 19, 3) := by decide +kernel
theorem dX67_lineOfText_147 : decode cX67_lineOfText 147 = .ok (.aload_n 0, 1) := by decide +kernel
theorem dX67_lineOfText_148 : decode cX67_lineOfText 148 = .ok (.getfield 837, 3) := by decide +kernel
theorem dX67_lineOfText_151 : decode cX67_lineOfText 151 = .ok (.ifCond .eq 12, 3) := by decide +kernel
theorem dX67_lineOfText_154 : decode cX67_lineOfText 154 = .ok (.aload_n 0, 1) := by decide +kernel
theorem dX67_lineOfText_155 : decode cX67_lineOfText 155 = .ok (.iconst 1, 1) := by decide +kernel
theorem dX67_lineOfText_156 : decode cX67_lineOfText 156 = .ok (.aload_n 0, 1) := by decide +kernel
theorem dX67_lineOfText_157 : decode cX67_lineOfText 157 = .ok (.getfield 831, 3) := by decide +kernel
theorem dX67_lineOfText_160 : decode cX67_lineOfText 160 = .ok (.invokevirtual 854, 3) := by decide +kernel
theorem dX67_lineOfText_163 : decode cX67_lineOfText 163 = .ok (.return_, 1) := by decide +kernel
theorem zy_X67_lineOfText : yX67_lineOfText.cls ≠ "java/lang/invoke/MethodHandle" ∧ yX67_lineOfText.cls ≠ "java/lang/invoke/VarHandle" ∧ (parseMethodDescriptor yX67_lineOfText.desc).map (fun d => d.parameters.length) = some 0 := by decide +kernel
theorem w_fX67_lineOfText_J140 {K : zK} (E : zE K cX67_lineOfText "RingHouseModel" none 10) (hN : zNl K = 4) (hT : zTr K = none) : zR K 140 [(0, 69, 0)] [] (fX67_lineOfText_J140) := by
  refine r_aload_n E dX67_lineOfText_140 rfl 0 rfl ?_
  refine r_get E zc_69 zt_6891 dX67_lineOfText_141 q3306 zr_69 (zg_6891 _) (by decide) (fun v4 => ?_)
  refine r_if_ne E 163 (by decide) dX67_lineOfText_144 (fun _ => ?_) (fun _ => ?_)
  · exact r_return E rfl hT dX67_lineOfText_163
  · refine r_aload_n E dX67_lineOfText_147 rfl 0 rfl ?_
    refine r_get E zc_69 zt_6887 dX67_lineOfText_148 q3302 zr_69 (zg_6887 _) (by decide) (fun v5 => ?_)
    refine r_if_eq E 163 (by decide) dX67_lineOfText_151 (fun _ => ?_) (fun _ => ?_)
    · exact r_return E rfl hT dX67_lineOfText_163
    · refine r_aload_n E dX67_lineOfText_154 rfl 0 rfl ?_
      refine r_iconst E dX67_lineOfText_155 (zkI (by decide) (by decide)) ?_
      refine r_aload_n E dX67_lineOfText_156 rfl 0 rfl ?_
      refine r_get E zc_69 zt_6888 dX67_lineOfText_157 q3303 zr_69 (zg_6888 _) (by decide) (fun v6 => ?_)
      refine r_callV E [(0, 1), (0, v6)] [] rfl zc_69 zr_69 (fun o _ => ⟨_, zw_X67.1 o, rfl⟩) (lw_V q4163 q4165 qs178 q294 q4166) dX67_lineOfText_160 zy_X67_wrong rfl (by omega) (by decide) (Nat.le_of_ble_eq_true rfl) (by decide) (fun l G => k_fX67_wrong l G 1 v6) (fun _ => ?_)
      exact r_return E rfl hT dX67_lineOfText_163
theorem w_fX67_lineOfText_J129 {K : zK} (E : zE K cX67_lineOfText "RingHouseModel" none 10) (hN : zNl K = 4) (hT : zTr K = none) : zR K 129 [(0, 69, 0)] [] (fX67_lineOfText_J129) := by
  refine r_aload_n E dX67_lineOfText_129 rfl 0 rfl ?_
  refine r_get E zc_69 zt_6887 dX67_lineOfText_130 q3302 zr_69 (zg_6887 _) (by decide) (fun v3 => ?_)
  refine r_if_eq E 140 (by decide) dX67_lineOfText_133 (fun _ => ?_) (fun _ => ?_)
  · exact w_fX67_lineOfText_J140 E hN hT
  · refine r_aload_n E dX67_lineOfText_136 rfl 0 rfl ?_
    refine r_callV E [] [] rfl zc_69 zr_69 (fun o _ => ⟨_, zw_X67.1 o, rfl⟩) (lw_V q4183 q4185 qs182 q294 q4186) dX67_lineOfText_137 zy_X67_statement rfl (by omega) (by decide) (Nat.le_of_ble_eq_true rfl) (by decide) (fun l G => k_fX67_statement l G) (fun _ => ?_)
    exact w_fX67_lineOfText_J140 E hN hT
theorem w_fX67_lineOfText_J89 {K : zK} (E : zE K cX67_lineOfText "RingHouseModel" none 10) (hN : zNl K = 4) (hT : zTr K = none) (x2 : Int) : zR K 89 [(0, 69, 0), (2, 1, x2)] [] (fX67_lineOfText_J89 x2) := by
  refine r_aload_n E dX67_lineOfText_89 rfl 0 rfl ?_
  refine r_get E zc_69 zt_6903 dX67_lineOfText_90 q3318 zr_69 (zg_6903 _) (by decide) (fun v16 => ?_)
  refine r_if_ne E 129 (by decide) dX67_lineOfText_93 (fun _ => ?_) (fun _ => ?_)
  · refine r_pick E [0] rfl ?_
    exact w_fX67_lineOfText_J129 E hN hT
  · refine r_aload_n E dX67_lineOfText_96 rfl 0 rfl ?_
    refine r_gec (y := 0) E zc_69 dX67_lineOfText_97 q3309 zr_69 (zh_6894 (by decide)) (by decide) ?_
    refine r_aload_n E dX67_lineOfText_100 rfl 0 rfl ?_
    refine r_get E zc_69 zt_6893 dX67_lineOfText_101 q3308 zr_69 (zg_6893 _) (by decide) (fun v17 => ?_)
    refine r_lload_n E dX67_lineOfText_104 rfl 1 rfl ?_
    refine r_lastore E zc_6894 za_6894 zt_6894 zo_6894 zx_6894 rfl rfl dX67_lineOfText_105 (by decide) ?_
    refine r_aload_n E dX67_lineOfText_106 rfl 0 rfl ?_
    refine r_gec (y := 0) E zc_69 dX67_lineOfText_107 q3310 zr_69 (zh_6895 (by decide)) (by decide) ?_
    refine r_aload_n E dX67_lineOfText_110 rfl 0 rfl ?_
    refine r_get E zc_69 zt_6893 dX67_lineOfText_111 q3308 zr_69 (zg_6893 _) (by decide) (fun v18 => ?_)
    refine r_aload_n E dX67_lineOfText_114 rfl 0 rfl ?_
    refine r_get E zc_69 zt_6902 dX67_lineOfText_115 q3317 zr_69 (zg_6902 _) (by decide) (fun v19 => ?_)
    refine r_iastore E zc_6895 za_6895 zt_6895 zo_6895 zx_6895 rfl rfl dX67_lineOfText_118 (by decide) ?_
    refine r_aload_n E dX67_lineOfText_119 rfl 0 rfl ?_
    refine r_dup E (zn1 rfl) dX67_lineOfText_120 ?_
    refine r_get E zc_69 zt_6893 dX67_lineOfText_121 q3308 zr_69 (zg_6893 _) (by decide) (fun v20 => ?_)
    refine r_iconst E dX67_lineOfText_124 (zkI (by decide) (by decide)) ?_
    refine r_iadd E dX67_lineOfText_125 ?_
    refine r_put E zc_69 zt_6893 zo_6893 dX67_lineOfText_126 q3308 zr_69 zw_X67 zp_6893 (fun _ => rfl) (fun _ => rfl) (by decide) ?_
    refine r_pick E [0] rfl ?_
    exact w_fX67_lineOfText_J129 E hN hT
theorem w_fX67_lineOfText_J65 {K : zK} (E : zE K cX67_lineOfText "RingHouseModel" none 10) (hN : zNl K = 4) (hT : zTr K = none) (x1 : Int) (x2 : Int) : zR K 65 [(0, 69, 0), (1, 0, x1), (2, 1, x2)] [] (fX67_lineOfText_J65 x1 x2) := by
  refine r_aload_n E dX67_lineOfText_65 rfl 0 rfl ?_
  refine r_get E zc_69 zt_6903 dX67_lineOfText_66 q3318 zr_69 (zg_6903 _) (by decide) (fun v15 => ?_)
  refine r_if_ne E 89 (by decide) dX67_lineOfText_69 (fun _ => ?_) (fun _ => ?_)
  · refine r_pick E [0, 2] rfl ?_
    exact w_fX67_lineOfText_J89 E hN hT x2
  · refine r_aload_n E dX67_lineOfText_72 rfl 0 rfl ?_
    refine r_get E zc_69 zt_6893 dX67_lineOfText_73 q3308 zr_69 (zg_6893 _) (by decide) (fun v21 => ?_)
    refine r_bipush E dX67_lineOfText_76 (by decide) (zkI (by decide) (by decide)) ?_
    refine r_icmp_ne E 89 (by decide) dX67_lineOfText_78 (fun _ => ?_) (fun _ => ?_)
    · refine r_pick E [0, 2] rfl ?_
      exact w_fX67_lineOfText_J89 E hN hT x2
    · refine r_aload_n E dX67_lineOfText_81 rfl 0 rfl ?_
      refine r_bipush E dX67_lineOfText_82 (by decide) (zkI (by decide) (by decide)) ?_
      refine r_iload_n E dX67_lineOfText_84 rfl 1 rfl ?_
      refine r_callV E [(0, 6), (0, x1)] [] rfl zc_69 zr_69 (fun o _ => ⟨_, zw_X67.1 o, rfl⟩) (lw_V q4163 q4165 qs178 q294 q4166) dX67_lineOfText_85 zy_X67_wrong rfl (by omega) (by decide) (Nat.le_of_ble_eq_true rfl) (by decide) (fun l G => k_fX67_wrong l G 6 x1) (fun _ => ?_)
      exact r_return E rfl hT dX67_lineOfText_88
theorem w_fX67_lineOfText {K : zK} (E : zE K cX67_lineOfText "RingHouseModel" none 10) (hN : zNl K = 4) (hT : zTr K = none) : zR K 0 [(0, 69, 0)] [] (fX67_lineOfText) := by
  refine r_aload_n E dX67_lineOfText_0 rfl 0 rfl ?_
  refine r_callV E [] [] rfl zc_69 zr_69 (fun o _ => ⟨_, zw_X67.1 o, rfl⟩) (lw_V q4138 q4140 qs175 q294 q4141) dX67_lineOfText_1 zy_X67_next rfl (by omega) (by decide) (Nat.le_of_ble_eq_true rfl) (by decide) (fun l G => k_fX67_next l G) (fun _ => ?_)
  refine r_aload_n E dX67_lineOfText_4 rfl 0 rfl ?_
  refine r_get E zc_69 zt_6887 dX67_lineOfText_5 q3302 zr_69 (zg_6887 _) (by decide) (fun v2 => ?_)
  refine r_iconst E dX67_lineOfText_8 (zkI (by decide) (by decide)) ?_
  refine r_icmp_ne E 129 (by decide) dX67_lineOfText_9 (fun _ => ?_) (fun _ => ?_)
  · exact w_fX67_lineOfText_J129 E hN hT
  · refine r_aload_n E dX67_lineOfText_12 rfl 0 rfl ?_
    refine r_callV E [] [] rfl zc_69 zr_69 (fun o _ => ⟨_, zw_X67.1 o, rfl⟩) (lw_V q4155 q4157 qs176 q294 q4158) dX67_lineOfText_13 zy_X67_behindWord rfl (by omega) (by decide) (Nat.le_of_ble_eq_true rfl) (by decide) (fun l G => k_fX67_behindWord l G) (fun v9 => ?_)
    refine r_bipush E dX67_lineOfText_16 (by decide) (zkI (by decide) (by decide)) ?_
    refine r_icmp_ne E 129 (by decide) dX67_lineOfText_18 (fun _ => ?_) (fun _ => ?_)
    · exact w_fX67_lineOfText_J129 E hN hT
    · refine r_aload_n E dX67_lineOfText_21 rfl 0 rfl ?_
      refine r_get E zc_69 zt_6888 dX67_lineOfText_22 q3303 zr_69 (zg_6888 _) (by decide) (fun v10 => ?_)
      refine r_istore_n (ls' := [(1, 0, v10), (0, 69, 0)]) E dX67_lineOfText_25 rfl (by rw [hN]; decide) rfl ?_
      refine r_aload_n E dX67_lineOfText_26 rfl 1 rfl ?_
      refine r_callV E [] [] rfl zc_69 zr_69 (fun o _ => ⟨_, zw_X67.1 o, rfl⟩) (lw_V q4159 q4161 qs177 q294 q4162) dX67_lineOfText_27 zy_X67_labelWord rfl (by omega) (by decide) (Nat.le_of_ble_eq_true rfl) (by decide) (fun l G => k_fX67_labelWord l G) (fun v11 => ?_)
      refine r_lstore_n (ls' := [(2, 1, v11), (1, 0, v10), (0, 69, 0)]) E dX67_lineOfText_30 rfl (by rw [hN]; decide) rfl ?_
      refine r_aload_n E dX67_lineOfText_31 rfl 2 rfl ?_
      refine r_get E zc_69 zt_6891 dX67_lineOfText_32 q3306 zr_69 (zg_6891 _) (by decide) (fun v12 => ?_)
      refine r_if_le E 39 (by decide) dX67_lineOfText_35 (fun _ => ?_) (fun _ => ?_)
      · refine r_aload_n E dX67_lineOfText_39 rfl 2 rfl ?_
        refine r_callV E [] [] rfl zc_69 zr_69 (fun o _ => ⟨_, zw_X67.1 o, rfl⟩) (lw_V q4138 q4140 qs175 q294 q4141) dX67_lineOfText_40 zy_X67_next rfl (by omega) (by decide) (Nat.le_of_ble_eq_true rfl) (by decide) (fun l G => k_fX67_next l G) (fun _ => ?_)
        refine r_aload_n E dX67_lineOfText_43 rfl 2 rfl ?_
        refine r_get E zc_69 zt_6903 dX67_lineOfText_44 q3318 zr_69 (zg_6903 _) (by decide) (fun v14 => ?_)
        refine r_if_ne E 65 (by decide) dX67_lineOfText_47 (fun _ => ?_) (fun _ => ?_)
        · refine r_pick E [2, 1, 0] rfl ?_
          exact w_fX67_lineOfText_J65 E hN hT v10 v11
        · refine r_aload_n E dX67_lineOfText_50 rfl 2 rfl ?_
          refine r_lload_n E dX67_lineOfText_51 rfl 0 rfl ?_
          refine r_callV E [(1, v11)] [] rfl zc_69 zr_69 (fun o _ => ⟨_, zw_X67.1 o, rfl⟩) (lw_V q4179 q4181 qs181 q294 q4182) dX67_lineOfText_52 zy_X67_labelNamed rfl (by omega) (by decide) (Nat.le_of_ble_eq_true rfl) (by decide) (fun l G => k_fX67_labelNamed l G v11) (fun v23 => ?_)
          refine r_if_lt E 65 (by decide) dX67_lineOfText_55 (fun _ => ?_) (fun _ => ?_)
          · refine r_pick E [2, 1, 0] rfl ?_
            exact w_fX67_lineOfText_J65 E hN hT v10 v11
          · refine r_aload_n E dX67_lineOfText_58 rfl 2 rfl ?_
            refine r_iconst E dX67_lineOfText_59 (zkI (by decide) (by decide)) ?_
            refine r_iload_n E dX67_lineOfText_60 rfl 1 rfl ?_
            refine r_callV E [(0, 4), (0, v10)] [] rfl zc_69 zr_69 (fun o _ => ⟨_, zw_X67.1 o, rfl⟩) (lw_V q4163 q4165 qs178 q294 q4166) dX67_lineOfText_61 zy_X67_wrong rfl (by omega) (by decide) (Nat.le_of_ble_eq_true rfl) (by decide) (fun l G => k_fX67_wrong l G 4 v10) (fun _ => ?_)
            exact r_return E rfl hT dX67_lineOfText_64
      · exact r_return E rfl hT dX67_lineOfText_38
theorem k_fX67_lineOfText (l : Launch) (G : zG) : zCt l G yX67_lineOfText cX67_lineOfText 4 none 10 [(69, 0)] none (fX67_lineOfText) := zCt.of (by decide) (Nat.le_of_ble_eq_true rfl) (fun K E _ _ hN hT => w_fX67_lineOfText E hN hT)
theorem dX67_readText_0 : decode cX67_readText 0 = .ok (.aload_n 0, 1) := by decide +kernel
theorem dX67_readText_1 : decode cX67_readText 1 = .ok (.iload_n 1, 1) := by decide +kernel
theorem dX67_readText_2 : decode cX67_readText 2 = .ok (.putfield 882, 3) := by decide +kernel
theorem dX67_readText_5 : decode cX67_readText 5 = .ok (.aload_n 0, 1) := by decide +kernel
theorem dX67_readText_6 : decode cX67_readText 6 = .ok (.iconst 2, 1) := by decide +kernel
theorem dX67_readText_7 : decode cX67_readText 7 = .ok (.putfield 918, 3) := by decide +kernel
theorem dX67_readText_10 : decode cX67_readText 10 = .ok (.aload_n 0, 1) := by decide +kernel
theorem dX67_readText_11 : decode cX67_readText 11 = .ok (.iconst 0, 1) := by decide +kernel
theorem dX67_readText_12 : decode cX67_readText 12 = .ok (.putfield 957, 3) := by decide +kernel
theorem dX67_readText_15 : decode cX67_readText 15 = .ok (.iconst 0, 1) := by decide +kernel
theorem dX67_readText_16 : decode cX67_readText 16 = .ok (.istore_n 2, 1) := by decide +kernel
theorem dX67_readText_17 : decode cX67_readText 17 = .ok (.iload_n 2, 1) := by decide +kernel
theorem dX67_readText_18 : decode cX67_readText 18 = .ok (.aload_n 0, 1) := by decide +kernel
theorem dX67_readText_19 : decode cX67_readText 19 = .ok (.getfield 825, 3) := by decide +kernel
theorem dX67_readText_22 : decode cX67_readText 22 = .ok (.if_icmp .gt 64, 3) := by decide +kernel
theorem dX67_readText_25 : decode cX67_readText 25 = .ok (.aload_n 0, 1) := by decide +kernel
theorem dX67_readText_26 : decode cX67_readText 26 = .ok (.getfield 813, 3) := by decide +kernel
theorem dX67_readText_29 : decode cX67_readText 29 = .ok (.ifCond .ne 57, 3) := by decide +kernel
theorem dX67_readText_32 : decode cX67_readText 32 = .ok (.aload_n 0, 1) := by decide +kernel
theorem dX67_readText_33 : decode cX67_readText 33 = .ok (.aload_n 0, 1) := by decide +kernel
theorem dX67_readText_34 : decode cX67_readText 34 = .ok (.iload_n 2, 1) := by decide +kernel
theorem dX67_readText_35 : decode cX67_readText 35 = .ok (.invokevirtual 980, 3) := by decide +kernel
theorem dX67_readText_38 : decode cX67_readText 38 = .ok (.putfield 834, 3) := by decide +kernel
theorem dX67_readText_41 : decode cX67_readText 41 = .ok (.aload_n 0, 1) := by decide +kernel
theorem dX67_readText_42 : decode cX67_readText 42 = .ok (.iload_n 2, 1) := by decide +kernel
theorem dX67_readText_43 : decode cX67_readText 43 = .ok (.putfield 828, 3) := by decide +kernel
theorem dX67_readText_46 : decode cX67_readText 46 = .ok (.aload_n 0, 1) := by decide +kernel
theorem dX67_readText_47 : decode cX67_readText 47 = .ok (.invokevirtual 983, 3) := by decide +kernel
theorem dX67_readText_50 : decode cX67_readText 50 = .ok (.aload_n 0, 1) := by decide +kernel
theorem dX67_readText_51 : decode cX67_readText 51 = .ok (.getfield 834, 3) := by decide +kernel
theorem dX67_readText_54 : decode cX67_readText 54 = .ok (.istore_n 2, 1) := by decide +kernel
theorem dX67_readText_55 : decode cX67_readText 55 = .ok (.iload_n 2, 1) := by decide +kernel
theorem dX67_readText_56 : decode cX67_readText 56 = .ok (.aload_n 0, 1) := by decide +kernel
theorem dX67_readText_57 : decode cX67_readText 57 = .ok (.getfield 825, 3) := by decide +kernel
theorem dX67_readText_60 : decode cX67_readText 60 = .ok (.if_icmp .ge 20, 3) := by decide +kernel
theorem dX67_readText_63 : decode cX67_readText 63 = .ok (.aload_n 0, 1) := by decide +kernel
theorem dX67_readText_64 : decode cX67_readText 64 = .ok (.getfield 206, 3) := by decide +kernel
theorem dX67_readText_67 : decode cX67_readText 67 = .ok (.iload_n 2, 1) := by decide +kernel
theorem dX67_readText_68 : decode cX67_readText 68 = .ok (.iaload, 1) := by decide +kernel
theorem dX67_readText_69 : decode cX67_readText 69 = .ok (.bipush 10, 2) := by decide +kernel
theorem dX67_readText_71 : decode cX67_readText 71 = .ok (.if_icmp .eq 9, 3) := by decide +kernel
theorem dX67_readText_74 : decode cX67_readText 74 = .ok (.iinc 2 1, 3) := by decide +kernel
theorem dX67_readText_77 : decode cX67_readText 77 = .ok (.goto (-22), 3) := by decide +kernel
theorem dX67_readText_80 : decode cX67_readText 80 = .ok (.iinc 2 1, 3) := by decide +kernel
theorem dX67_readText_83 : decode cX67_readText 83 = .ok (.goto (-66), 3) := by decide +kernel
theorem dX67_readText_86 : decode cX67_readText 86 = .ok (.return_, 1) := by decide +kernel
theorem zy_X67_readText : yX67_readText.cls ≠ "java/lang/invoke/MethodHandle" ∧ yX67_readText.cls ≠ "java/lang/invoke/VarHandle" ∧ (parseMethodDescriptor yX67_readText.desc).map (fun d => d.parameters.length) = some 1 := by decide +kernel
theorem w_fX67_readText_J80 {K : zK} (E : zE K cX67_readText "RingHouseModel" none 11) (hN : zNl K = 3) (hT : zTr K = none) (x2 : Int) {r17 : Int → zX} (hr17 : ∀ s : Int, zR K 17 [(0, 69, 0), (2, 0, s)] [] (r17 s)) : zR K 80 [(0, 69, 0), (2, 0, x2)] [] (fX67_readText_J80 r17 x2) := by
  refine r_iinc (ls' := fun v8 => [(2, 0, v8), (0, 69, 0)]) E 1 rfl (by rw [hN]; decide) (fun _ => rfl) dX67_readText_80 (fun v8 _ => ?_)
  refine r_goto E 17 (by decide) dX67_readText_83 ?_
  refine r_pick E [1, 0] rfl ?_
  exact hr17 v8
theorem w_fX67_readText_B55 {K : zK} (E : zE K cX67_readText "RingHouseModel" none 11) (hN : zNl K = 3) (hT : zTr K = none) {r17 : Int → zX} (hr17 : ∀ s : Int, zR K 17 [(0, 69, 0), (2, 0, s)] [] (r17 s)) : ∀ r55 : Int → zX, (∀ s : Int, zR K 55 [(0, 69, 0), (2, 0, s)] [] (r55 s)) → ∀ s : Int, zR K 55 [(0, 69, 0), (2, 0, s)] [] (fX67_readText_B55 r17 r55 s) := by
  intro r55 hr55 x2
  refine r_iload_n E dX67_readText_55 rfl 1 rfl ?_
  refine r_aload_n E dX67_readText_56 rfl 0 rfl ?_
  refine r_get E zc_69 zt_6867 dX67_readText_57 q3282 zr_69 (zg_6867 _) (by decide) (fun v7 => ?_)
  refine r_icmp_ge E 80 (by decide) dX67_readText_60 (fun _ => ?_) (fun _ => ?_)
  · exact w_fX67_readText_J80 E hN hT x2 hr17
  · refine r_aload_n E dX67_readText_63 rfl 0 rfl ?_
    refine r_gec (y := 0) E zc_69 dX67_readText_64 q3283 zr_69 (zh_6868 (by decide)) (by decide) ?_
    refine r_iload_n E dX67_readText_67 rfl 1 rfl ?_
    refine r_iaload E zc_6868 za_6868 zt_6868 zx_6868 rfl rfl dX67_readText_68 (by decide) (fun v9 => ?_)
    refine r_bipush E dX67_readText_69 (by decide) (zkI (by decide) (by decide)) ?_
    refine r_icmp_eq E 80 (by decide) dX67_readText_71 (fun _ => ?_) (fun _ => ?_)
    · exact w_fX67_readText_J80 E hN hT x2 hr17
    · refine r_iinc (ls' := fun v10 => [(2, 0, v10), (0, 69, 0)]) E 1 rfl (by rw [hN]; decide) (fun _ => rfl) dX67_readText_74 (fun v10 _ => ?_)
      refine r_goto E 55 (by decide) dX67_readText_77 ?_
      refine r_pick E [1, 0] rfl ?_
      exact hr55 v10
theorem w_fX67_readText_B17 {K : zK} (E : zE K cX67_readText "RingHouseModel" none 11) (hN : zNl K = 3) (hT : zTr K = none) : ∀ r17 : Int → zX, (∀ s : Int, zR K 17 [(0, 69, 0), (2, 0, s)] [] (r17 s)) → ∀ s : Int, zR K 17 [(0, 69, 0), (2, 0, s)] [] (fX67_readText_B17 r17 s) := by
  intro r17 hr17 x2
  refine r_iload_n E dX67_readText_17 rfl 1 rfl ?_
  refine r_aload_n E dX67_readText_18 rfl 0 rfl ?_
  refine r_get E zc_69 zt_6867 dX67_readText_19 q3282 zr_69 (zg_6867 _) (by decide) (fun v2 => ?_)
  refine r_icmp_gt E 86 (by decide) dX67_readText_22 (fun _ => ?_) (fun _ => ?_)
  · exact r_return E rfl hT dX67_readText_86
  · refine r_aload_n E dX67_readText_25 rfl 0 rfl ?_
    refine r_get E zc_69 zt_6891 dX67_readText_26 q3306 zr_69 (zg_6891 _) (by decide) (fun v3 => ?_)
    refine r_if_ne E 86 (by decide) dX67_readText_29 (fun _ => ?_) (fun _ => ?_)
    · exact r_return E rfl hT dX67_readText_86
    · refine r_aload_n E dX67_readText_32 rfl 0 rfl ?_
      refine r_aload_n E dX67_readText_33 rfl 0 rfl ?_
      refine r_iload_n E dX67_readText_34 rfl 1 rfl ?_
      refine r_callV E [(0, x2)] [(69, 0)] rfl zc_69 zr_69 (fun o _ => ⟨_, zw_X67.1 o, rfl⟩) (lw_V q4130 q4132 qs173 q294 q4133) dX67_readText_35 zy_X67_lineEnd rfl (by omega) (by decide) (Nat.le_of_ble_eq_true rfl) (by decide) (fun l G => k_fX67_lineEnd l G x2) (fun v4 => ?_)
      refine r_put E zc_69 zt_6890 zo_6890 dX67_readText_38 q3305 zr_69 zw_X67 zp_6890 (fun _ => rfl) (fun _ => rfl) (by decide) ?_
      refine r_aload_n E dX67_readText_41 rfl 0 rfl ?_
      refine r_iload_n E dX67_readText_42 rfl 1 rfl ?_
      refine r_put E zc_69 zt_6889 zo_6889 dX67_readText_43 q3304 zr_69 zw_X67 zp_6889 (fun _ => rfl) (fun _ => rfl) (by decide) ?_
      refine r_aload_n E dX67_readText_46 rfl 0 rfl ?_
      refine r_callV E [] [] rfl zc_69 zr_69 (fun o _ => ⟨_, zw_X67.1 o, rfl⟩) (lw_V q4134 q4136 qs174 q294 q4137) dX67_readText_47 zy_X67_lineOfText rfl (by omega) (by decide) (Nat.le_of_ble_eq_true rfl) (by decide) (fun l G => k_fX67_lineOfText l G) (fun _ => ?_)
      refine r_aload_n E dX67_readText_50 rfl 0 rfl ?_
      refine r_get E zc_69 zt_6890 dX67_readText_51 q3305 zr_69 (zg_6890 _) (by decide) (fun v6 => ?_)
      refine r_istore_n (ls' := [(2, 0, v6), (0, 69, 0)]) E dX67_readText_54 rfl (by rw [hN]; decide) rfl ?_
      refine r_pick E [1, 0] rfl ?_
      exact r_loop (L := fun s => [(0, 69, 0), (2, 0, s)]) (w_fX67_readText_B55 E hN hT hr17) zBIG v6
theorem w_fX67_readText {K : zK} (E : zE K cX67_readText "RingHouseModel" none 11) (hN : zNl K = 3) (hT : zTr K = none) (x1 : Int) : zR K 0 [(0, 69, 0), (1, 0, x1)] [] (fX67_readText x1) := by
  refine r_aload_n E dX67_readText_0 rfl 0 rfl ?_
  refine r_iload_n E dX67_readText_1 rfl 1 rfl ?_
  refine r_pb (fun hb1 => ?_)
  refine r_put E zc_69 zt_6903 zo_6903 dX67_readText_2 q3318 zr_69 zw_X67 zp_6903 (znb hb1) (zfb hb1) (by decide) ?_
  refine r_aload_n E dX67_readText_5 rfl 0 rfl ?_
  refine r_iconst E dX67_readText_6 (zkI (by decide) (by decide)) ?_
  refine r_put E zc_69 zt_6902 zo_6902 dX67_readText_7 q3317 zr_69 zw_X67 zp_6902 (fun _ => rfl) (fun _ => rfl) (by decide) ?_
  refine r_aload_n E dX67_readText_10 rfl 0 rfl ?_
  refine r_iconst E dX67_readText_11 (zkI (by decide) (by decide)) ?_
  refine r_put E zc_69 zt_6899 zo_6899 dX67_readText_12 q3314 zr_69 zw_X67 zp_6899 (fun _ => rfl) (fun _ => rfl) (by decide) ?_
  refine r_iconst E dX67_readText_15 (zkI (by decide) (by decide)) ?_
  refine r_istore_n (ls' := [(2, 0, 0), (0, 69, 0), (1, 0, x1)]) E dX67_readText_16 rfl (by rw [hN]; decide) rfl ?_
  refine r_pick E [1, 0] rfl ?_
  exact r_loop (L := fun s => [(0, 69, 0), (2, 0, s)]) (w_fX67_readText_B17 E hN hT) zBIG 0
theorem k_fX67_readText (l : Launch) (G : zG) (x1 : Int) : zCt l G yX67_readText cX67_readText 3 none 11 [(69, 0), (0, x1)] none (fX67_readText x1) := zCt.of (by decide) (Nat.le_of_ble_eq_true rfl) (fun K E _ _ hN hT => w_fX67_readText E hN hT x1)
theorem dX67_assemble_0 : decode cX67_assemble 0 = .ok (.aload_n 0, 1) := by decide +kernel
theorem dX67_assemble_1 : decode cX67_assemble 1 = .ok (.iload_n 1, 1) := by decide +kernel
theorem dX67_assemble_2 : decode cX67_assemble 2 = .ok (.iconst 2, 1) := by decide +kernel
theorem dX67_assemble_3 : decode cX67_assemble 3 = .ok (.invokevirtual 439, 3) := by decide +kernel
theorem dX67_assemble_6 : decode cX67_assemble 6 = .ok (.ifCond .ne 6, 3) := by decide +kernel
theorem dX67_assemble_9 : decode cX67_assemble 9 = .ok (.bipush (-8), 2) := by decide +kernel
theorem dX67_assemble_11 : decode cX67_assemble 11 = .ok (.ireturn, 1) := by decide +kernel
theorem dX67_assemble_12 : decode cX67_assemble 12 = .ok (.aload_n 0, 1) := by decide +kernel
theorem dX67_assemble_13 : decode cX67_assemble 13 = .ok (.iconst 0, 1) := by decide +kernel
theorem dX67_assemble_14 : decode cX67_assemble 14 = .ok (.putfield 813, 3) := by decide +kernel
theorem dX67_assemble_17 : decode cX67_assemble 17 = .ok (.aload_n 0, 1) := by decide +kernel
theorem dX67_assemble_18 : decode cX67_assemble 18 = .ok (.iconst 0, 1) := by decide +kernel
theorem dX67_assemble_19 : decode cX67_assemble 19 = .ok (.putfield 819, 3) := by decide +kernel
theorem dX67_assemble_22 : decode cX67_assemble 22 = .ok (.aload_n 0, 1) := by decide +kernel
theorem dX67_assemble_23 : decode cX67_assemble 23 = .ok (.iconst 0, 1) := by decide +kernel
theorem dX67_assemble_24 : decode cX67_assemble 24 = .ok (.putfield 857, 3) := by decide +kernel
theorem dX67_assemble_27 : decode cX67_assemble 27 = .ok (.aload_n 0, 1) := by decide +kernel
theorem dX67_assemble_28 : decode cX67_assemble 28 = .ok (.iconst 0, 1) := by decide +kernel
theorem dX67_assemble_29 : decode cX67_assemble 29 = .ok (.putfield 921, 3) := by decide +kernel
theorem dX67_assemble_32 : decode cX67_assemble 32 = .ok (.aload_n 0, 1) := by decide +kernel
theorem dX67_assemble_33 : decode cX67_assemble 33 = .ok (.iconst 0, 1) := by decide +kernel
theorem dX67_assemble_34 : decode cX67_assemble 34 = .ok (.invokevirtual 986, 3) := by decide +kernel
theorem dX67_assemble_37 : decode cX67_assemble 37 = .ok (.aload_n 0, 1) := by decide +kernel
theorem dX67_assemble_38 : decode cX67_assemble 38 = .ok (.getfield 813, 3) := by decide +kernel
theorem dX67_assemble_41 : decode cX67_assemble 41 = .ok (.ifCond .ne 27, 3) := by decide +kernel
theorem dX67_assemble_44 : decode cX67_assemble 44 = .ok (.aload_n 0, 1) := by decide +kernel
theorem dX67_assemble_45 : decode cX67_assemble 45 = .ok (.iconst 1, 1) := by decide +kernel
theorem dX67_assemble_46 : decode cX67_assemble 46 = .ok (.invokevirtual 986, 3) := by decide +kernel
theorem dX67_assemble_49 : decode cX67_assemble 49 = .ok (.aload_n 0, 1) := by decide +kernel
theorem dX67_assemble_50 : decode cX67_assemble 50 = .ok (.getfield 819, 3) := by decide +kernel
theorem dX67_assemble_53 : decode cX67_assemble 53 = .ok (.ifCond .le 15, 3) := by decide +kernel
theorem dX67_assemble_56 : decode cX67_assemble 56 = .ok (.aload_n 0, 1) := by decide +kernel
theorem dX67_assemble_57 : decode cX67_assemble 57 = .ok (.aload_n 0, 1) := by decide +kernel
theorem dX67_assemble_58 : decode cX67_assemble 58 = .ok (.getfield 819, 3) := by decide +kernel
theorem dX67_assemble_61 : decode cX67_assemble 61 = .ok (.aload_n 0, 1) := by decide +kernel
theorem dX67_assemble_62 : decode cX67_assemble 62 = .ok (.getfield 822, 3) := by decide +kernel
theorem dX67_assemble_65 : decode cX67_assemble 65 = .ok (.invokevirtual 854, 3) := by decide +kernel
theorem dX67_assemble_68 : decode cX67_assemble 68 = .ok (.aload_n 0, 1) := by decide +kernel
theorem dX67_assemble_69 : decode cX67_assemble 69 = .ok (.getfield 918, 3) := by decide +kernel
theorem dX67_assemble_72 : decode cX67_assemble 72 = .ok (.istore_n 2, 1) := by decide +kernel
theorem dX67_assemble_73 : decode cX67_assemble 73 = .ok (.aload_n 0, 1) := by decide +kernel
theorem dX67_assemble_74 : decode cX67_assemble 74 = .ok (.getfield 918, 3) := by decide +kernel
theorem dX67_assemble_77 : decode cX67_assemble 77 = .ok (.iconst 2, 1) := by decide +kernel
theorem dX67_assemble_78 : decode cX67_assemble 78 = .ok (.aload_n 0, 1) := by decide +kernel
theorem dX67_assemble_79 : decode cX67_assemble 79 = .ok (.getfield 921, 3) := by decide +kernel
theorem dX67_assemble_82 : decode cX67_assemble 82 = .ok (.imul, 1) := by decide +kernel
theorem dX67_assemble_83 : decode cX67_assemble 83 = .ok (.iadd, 1) := by decide +kernel
theorem dX67_assemble_84 : decode cX67_assemble 84 = .ok (.istore_n 3, 1) := by decide +kernel
theorem dX67_assemble_85 : decode cX67_assemble 85 = .ok (.iload_n 3, 1) := by decide +kernel
theorem dX67_assemble_86 : decode cX67_assemble 86 = .ok (.iconst 2, 1) := by decide +kernel
theorem dX67_assemble_87 : decode cX67_assemble 87 = .ok (.aload_n 0, 1) := by decide +kernel
theorem dX67_assemble_88 : decode cX67_assemble 88 = .ok (.getfield 957, 3) := by decide +kernel
theorem dX67_assemble_91 : decode cX67_assemble 91 = .ok (.imul, 1) := by decide +kernel
theorem dX67_assemble_92 : decode cX67_assemble 92 = .ok (.iadd, 1) := by decide +kernel
theorem dX67_assemble_93 : decode cX67_assemble 93 = .ok (.istore 4, 2) := by decide +kernel
theorem dX67_assemble_95 : decode cX67_assemble 95 = .ok (.aload_n 0, 1) := by decide +kernel
theorem dX67_assemble_96 : decode cX67_assemble 96 = .ok (.getfield 813, 3) := by decide +kernel
theorem dX67_assemble_99 : decode cX67_assemble 99 = .ok (.ifCond .ne 24, 3) := by decide +kernel
theorem dX67_assemble_102 : decode cX67_assemble 102 = .ok (.iload 4, 2) := by decide +kernel
theorem dX67_assemble_104 : decode cX67_assemble 104 = .ok (.aload_n 0, 1) := by decide +kernel
theorem dX67_assemble_105 : decode cX67_assemble 105 = .ok (.getfield 29, 3) := by decide +kernel
theorem dX67_assemble_108 : decode cX67_assemble 108 = .ok (.iload_n 1, 1) := by decide +kernel
theorem dX67_assemble_109 : decode cX67_assemble 109 = .ok (.iaload, 1) := by decide +kernel
theorem dX67_assemble_110 : decode cX67_assemble 110 = .ok (.if_icmp .le 13, 3) := by decide +kernel
theorem dX67_assemble_113 : decode cX67_assemble 113 = .ok (.aload_n 0, 1) := by decide +kernel
theorem dX67_assemble_114 : decode cX67_assemble 114 = .ok (.bipush 6, 2) := by decide +kernel
theorem dX67_assemble_116 : decode cX67_assemble 116 = .ok (.aload_n 0, 1) := by decide +kernel
theorem dX67_assemble_117 : decode cX67_assemble 117 = .ok (.getfield 825, 3) := by decide +kernel
theorem dX67_assemble_120 : decode cX67_assemble 120 = .ok (.invokevirtual 854, 3) := by decide +kernel
theorem dX67_assemble_123 : decode cX67_assemble 123 = .ok (.aload_n 0, 1) := by decide +kernel
theorem dX67_assemble_124 : decode cX67_assemble 124 = .ok (.iconst 0, 1) := by decide +kernel
theorem dX67_assemble_125 : decode cX67_assemble 125 = .ok (.putfield 825, 3) := by decide +kernel
theorem dX67_assemble_128 : decode cX67_assemble 128 = .ok (.aload_n 0, 1) := by decide +kernel
theorem dX67_assemble_129 : decode cX67_assemble 129 = .ok (.aload_n 0, 1) := by decide +kernel
theorem dX67_assemble_130 : decode cX67_assemble 130 = .ok (.getfield 813, 3) := by decide +kernel
theorem dX67_assemble_133 : decode cX67_assemble 133 = .ok (.ifCond .le 10, 3) := by decide +kernel
theorem dX67_assemble_136 : decode cX67_assemble 136 = .ok (.aload_n 0, 1) := by decide +kernel
theorem dX67_assemble_137 : decode cX67_assemble 137 = .ok (.getfield 816, 3) := by decide +kernel
theorem dX67_assemble_140 : decode cX67_assemble 140 = .ok (.goto 4, 3) := by decide +kernel
theorem dX67_assemble_143 : decode cX67_assemble 143 = .ok (.iconst (-1), 1) := by decide +kernel
theorem dX67_assemble_144 : decode cX67_assemble 144 = .ok (.putfield 209, 3) := by decide +kernel
theorem dX67_assemble_147 : decode cX67_assemble 147 = .ok (.aload_n 0, 1) := by decide +kernel
theorem dX67_assemble_148 : decode cX67_assemble 148 = .ok (.getfield 813, 3) := by decide +kernel
theorem dX67_assemble_151 : decode cX67_assemble 151 = .ok (.ifCond .le 11, 3) := by decide +kernel
theorem dX67_assemble_154 : decode cX67_assemble 154 = .ok (.bipush (-10), 2) := by decide +kernel
theorem dX67_assemble_156 : decode cX67_assemble 156 = .ok (.aload_n 0, 1) := by decide +kernel
theorem dX67_assemble_157 : decode cX67_assemble 157 = .ok (.getfield 813, 3) := by decide +kernel
theorem dX67_assemble_160 : decode cX67_assemble 160 = .ok (.isub, 1) := by decide +kernel
theorem dX67_assemble_161 : decode cX67_assemble 161 = .ok (.ireturn, 1) := by decide +kernel
theorem dX67_assemble_162 : decode cX67_assemble 162 = .ok (.aload_n 0, 1) := by decide +kernel
theorem dX67_assemble_163 : decode cX67_assemble 163 = .ok (.getfield 238, 3) := by decide +kernel
theorem dX67_assemble_166 : decode cX67_assemble 166 = .ok (.iconst 0, 1) := by decide +kernel
theorem dX67_assemble_167 : decode cX67_assemble 167 = .ok (.ldc2_w 990, 3) := by decide +kernel
theorem dX67_assemble_170 : decode cX67_assemble 170 = .ok (.aload_n 0, 1) := by decide +kernel
theorem dX67_assemble_171 : decode cX67_assemble 171 = .ok (.getfield 921, 3) := by decide +kernel
theorem dX67_assemble_174 : decode cX67_assemble 174 = .ok (.i2l, 1) := by decide +kernel
theorem dX67_assemble_175 : decode cX67_assemble 175 = .ok (.bipush 18, 2) := by decide +kernel
theorem dX67_assemble_177 : decode cX67_assemble 177 = .ok (.lshl, 1) := by decide +kernel
theorem dX67_assemble_178 : decode cX67_assemble 178 = .ok (.lor, 1) := by decide +kernel
theorem dX67_assemble_179 : decode cX67_assemble 179 = .ok (.iload_n 2, 1) := by decide +kernel
theorem dX67_assemble_180 : decode cX67_assemble 180 = .ok (.i2l, 1) := by decide +kernel
theorem dX67_assemble_181 : decode cX67_assemble 181 = .ok (.lor, 1) := by decide +kernel
theorem dX67_assemble_182 : decode cX67_assemble 182 = .ok (.lastore, 1) := by decide +kernel
theorem dX67_assemble_183 : decode cX67_assemble 183 = .ok (.aload_n 0, 1) := by decide +kernel
theorem dX67_assemble_184 : decode cX67_assemble 184 = .ok (.getfield 238, 3) := by decide +kernel
theorem dX67_assemble_187 : decode cX67_assemble 187 = .ok (.iconst 1, 1) := by decide +kernel
theorem dX67_assemble_188 : decode cX67_assemble 188 = .ok (.aload_n 0, 1) := by decide +kernel
theorem dX67_assemble_189 : decode cX67_assemble 189 = .ok (.getfield 957, 3) := by decide +kernel
theorem dX67_assemble_192 : decode cX67_assemble 192 = .ok (.i2l, 1) := by decide +kernel
theorem dX67_assemble_193 : decode cX67_assemble 193 = .ok (.bipush 18, 2) := by decide +kernel
theorem dX67_assemble_195 : decode cX67_assemble 195 = .ok (.lshl, 1) := by decide +kernel
theorem dX67_assemble_196 : decode cX67_assemble 196 = .ok (.iload_n 3, 1) := by decide +kernel
theorem dX67_assemble_197 : decode cX67_assemble 197 = .ok (.i2l, 1) := by decide +kernel
theorem dX67_assemble_198 : decode cX67_assemble 198 = .ok (.lor, 1) := by decide +kernel
theorem dX67_assemble_199 : decode cX67_assemble 199 = .ok (.lastore, 1) := by decide +kernel
theorem dX67_assemble_200 : decode cX67_assemble 200 = .ok (.iconst 0, 1) := by decide +kernel
theorem dX67_assemble_201 : decode cX67_assemble 201 = .ok (.istore 5, 2) := by decide +kernel
theorem dX67_assemble_203 : decode cX67_assemble 203 = .ok (.iload 5, 2) := by decide +kernel
theorem dX67_assemble_205 : decode cX67_assemble 205 = .ok (.aload_n 0, 1) := by decide +kernel
theorem dX67_assemble_206 : decode cX67_assemble 206 = .ok (.getfield 921, 3) := by decide +kernel
theorem dX67_assemble_209 : decode cX67_assemble 209 = .ok (.if_icmp .ge 47, 3) := by decide +kernel
theorem dX67_assemble_212 : decode cX67_assemble 212 = .ok (.aload_n 0, 1) := by decide +kernel
theorem dX67_assemble_213 : decode cX67_assemble 213 = .ok (.getfield 238, 3) := by decide +kernel
theorem dX67_assemble_216 : decode cX67_assemble 216 = .ok (.iload_n 2, 1) := by decide +kernel
theorem dX67_assemble_217 : decode cX67_assemble 217 = .ok (.iconst 2, 1) := by decide +kernel
theorem dX67_assemble_218 : decode cX67_assemble 218 = .ok (.iload 5, 2) := by decide +kernel
theorem dX67_assemble_220 : decode cX67_assemble 220 = .ok (.imul, 1) := by decide +kernel
theorem dX67_assemble_221 : decode cX67_assemble 221 = .ok (.iadd, 1) := by decide +kernel
theorem dX67_assemble_222 : decode cX67_assemble 222 = .ok (.aload_n 0, 1) := by decide +kernel
theorem dX67_assemble_223 : decode cX67_assemble 223 = .ok (.getfield 226, 3) := by decide +kernel
theorem dX67_assemble_226 : decode cX67_assemble 226 = .ok (.iload 5, 2) := by decide +kernel
theorem dX67_assemble_228 : decode cX67_assemble 228 = .ok (.laload, 1) := by decide +kernel
theorem dX67_assemble_229 : decode cX67_assemble 229 = .ok (.lastore, 1) := by decide +kernel
theorem dX67_assemble_230 : decode cX67_assemble 230 = .ok (.aload_n 0, 1) := by decide +kernel
theorem dX67_assemble_231 : decode cX67_assemble 231 = .ok (.getfield 238, 3) := by decide +kernel
theorem dX67_assemble_234 : decode cX67_assemble 234 = .ok (.iload_n 2, 1) := by decide +kernel
theorem dX67_assemble_235 : decode cX67_assemble 235 = .ok (.iconst 2, 1) := by decide +kernel
theorem dX67_assemble_236 : decode cX67_assemble 236 = .ok (.iload 5, 2) := by decide +kernel
theorem dX67_assemble_238 : decode cX67_assemble 238 = .ok (.imul, 1) := by decide +kernel
theorem dX67_assemble_239 : decode cX67_assemble 239 = .ok (.iadd, 1) := by decide +kernel
theorem dX67_assemble_240 : decode cX67_assemble 240 = .ok (.iconst 1, 1) := by decide +kernel
theorem dX67_assemble_241 : decode cX67_assemble 241 = .ok (.iadd, 1) := by decide +kernel
theorem dX67_assemble_242 : decode cX67_assemble 242 = .ok (.aload_n 0, 1) := by decide +kernel
theorem dX67_assemble_243 : decode cX67_assemble 243 = .ok (.getfield 229, 3) := by decide +kernel
theorem dX67_assemble_246 : decode cX67_assemble 246 = .ok (.iload 5, 2) := by decide +kernel
theorem dX67_assemble_248 : decode cX67_assemble 248 = .ok (.laload, 1) := by decide +kernel
theorem dX67_assemble_249 : decode cX67_assemble 249 = .ok (.lastore, 1) := by decide +kernel
theorem dX67_assemble_250 : decode cX67_assemble 250 = .ok (.iinc 5 1, 3) := by decide +kernel
theorem dX67_assemble_253 : decode cX67_assemble 253 = .ok (.goto (-50), 3) := by decide +kernel
theorem dX67_assemble_256 : decode cX67_assemble 256 = .ok (.iconst 0, 1) := by decide +kernel
theorem dX67_assemble_257 : decode cX67_assemble 257 = .ok (.istore 5, 2) := by decide +kernel
theorem dX67_assemble_259 : decode cX67_assemble 259 = .ok (.iload 5, 2) := by decide +kernel
theorem dX67_assemble_261 : decode cX67_assemble 261 = .ok (.aload_n 0, 1) := by decide +kernel
theorem dX67_assemble_262 : decode cX67_assemble 262 = .ok (.getfield 957, 3) := by decide +kernel
theorem dX67_assemble_265 : decode cX67_assemble 265 = .ok (.if_icmp .ge 48, 3) := by decide +kernel
theorem dX67_assemble_268 : decode cX67_assemble 268 = .ok (.aload_n 0, 1) := by decide +kernel
theorem dX67_assemble_269 : decode cX67_assemble 269 = .ok (.getfield 238, 3) := by decide +kernel
theorem dX67_assemble_272 : decode cX67_assemble 272 = .ok (.iload_n 3, 1) := by decide +kernel
theorem dX67_assemble_273 : decode cX67_assemble 273 = .ok (.iconst 2, 1) := by decide +kernel
theorem dX67_assemble_274 : decode cX67_assemble 274 = .ok (.iload 5, 2) := by decide +kernel
theorem dX67_assemble_276 : decode cX67_assemble 276 = .ok (.imul, 1) := by decide +kernel
theorem dX67_assemble_277 : decode cX67_assemble 277 = .ok (.iadd, 1) := by decide +kernel
theorem dX67_assemble_278 : decode cX67_assemble 278 = .ok (.aload_n 0, 1) := by decide +kernel
theorem dX67_assemble_279 : decode cX67_assemble 279 = .ok (.getfield 232, 3) := by decide +kernel
theorem dX67_assemble_282 : decode cX67_assemble 282 = .ok (.iload 5, 2) := by decide +kernel
theorem dX67_assemble_284 : decode cX67_assemble 284 = .ok (.laload, 1) := by decide +kernel
theorem dX67_assemble_285 : decode cX67_assemble 285 = .ok (.lastore, 1) := by decide +kernel
theorem dX67_assemble_286 : decode cX67_assemble 286 = .ok (.aload_n 0, 1) := by decide +kernel
theorem dX67_assemble_287 : decode cX67_assemble 287 = .ok (.getfield 238, 3) := by decide +kernel
theorem dX67_assemble_290 : decode cX67_assemble 290 = .ok (.iload_n 3, 1) := by decide +kernel
theorem dX67_assemble_291 : decode cX67_assemble 291 = .ok (.iconst 2, 1) := by decide +kernel
theorem dX67_assemble_292 : decode cX67_assemble 292 = .ok (.iload 5, 2) := by decide +kernel
theorem dX67_assemble_294 : decode cX67_assemble 294 = .ok (.imul, 1) := by decide +kernel
theorem dX67_assemble_295 : decode cX67_assemble 295 = .ok (.iadd, 1) := by decide +kernel
theorem dX67_assemble_296 : decode cX67_assemble 296 = .ok (.iconst 1, 1) := by decide +kernel
theorem dX67_assemble_297 : decode cX67_assemble 297 = .ok (.iadd, 1) := by decide +kernel
theorem dX67_assemble_298 : decode cX67_assemble 298 = .ok (.aload_n 0, 1) := by decide +kernel
theorem dX67_assemble_299 : decode cX67_assemble 299 = .ok (.getfield 235, 3) := by decide +kernel
theorem dX67_assemble_302 : decode cX67_assemble 302 = .ok (.iload 5, 2) := by decide +kernel
theorem dX67_assemble_304 : decode cX67_assemble 304 = .ok (.iaload, 1) := by decide +kernel
theorem dX67_assemble_305 : decode cX67_assemble 305 = .ok (.i2l, 1) := by decide +kernel
theorem dX67_assemble_306 : decode cX67_assemble 306 = .ok (.lastore, 1) := by decide +kernel
theorem dX67_assemble_307 : decode cX67_assemble 307 = .ok (.iinc 5 1, 3) := by decide +kernel
theorem dX67_assemble_310 : decode cX67_assemble 310 = .ok (.goto (-51), 3) := by decide +kernel
theorem dX67_assemble_313 : decode cX67_assemble 313 = .ok (.iconst 0, 1) := by decide +kernel
theorem dX67_assemble_314 : decode cX67_assemble 314 = .ok (.istore 5, 2) := by decide +kernel
theorem dX67_assemble_316 : decode cX67_assemble 316 = .ok (.iload 5, 2) := by decide +kernel
theorem dX67_assemble_318 : decode cX67_assemble 318 = .ok (.aload_n 0, 1) := by decide +kernel
theorem dX67_assemble_319 : decode cX67_assemble 319 = .ok (.getfield 29, 3) := by decide +kernel
theorem dX67_assemble_322 : decode cX67_assemble 322 = .ok (.iload_n 1, 1) := by decide +kernel
theorem dX67_assemble_323 : decode cX67_assemble 323 = .ok (.iaload, 1) := by decide +kernel
theorem dX67_assemble_324 : decode cX67_assemble 324 = .ok (.if_icmp .ge 40, 3) := by decide +kernel
theorem dX67_assemble_327 : decode cX67_assemble 327 = .ok (.aload_n 0, 1) := by decide +kernel
theorem dX67_assemble_328 : decode cX67_assemble 328 = .ok (.getfield 57, 3) := by decide +kernel
theorem dX67_assemble_331 : decode cX67_assemble 331 = .ok (.sipush 1024, 3) := by decide +kernel
theorem dX67_assemble_334 : decode cX67_assemble 334 = .ok (.iload_n 1, 1) := by decide +kernel
theorem dX67_assemble_335 : decode cX67_assemble 335 = .ok (.imul, 1) := by decide +kernel
theorem dX67_assemble_336 : decode cX67_assemble 336 = .ok (.iload 5, 2) := by decide +kernel
theorem dX67_assemble_338 : decode cX67_assemble 338 = .ok (.iadd, 1) := by decide +kernel
theorem dX67_assemble_339 : decode cX67_assemble 339 = .ok (.iload 5, 2) := by decide +kernel
theorem dX67_assemble_341 : decode cX67_assemble 341 = .ok (.iload 4, 2) := by decide +kernel
theorem dX67_assemble_343 : decode cX67_assemble 343 = .ok (.if_icmp .ge 13, 3) := by decide +kernel
theorem dX67_assemble_346 : decode cX67_assemble 346 = .ok (.aload_n 0, 1) := by decide +kernel
theorem dX67_assemble_347 : decode cX67_assemble 347 = .ok (.getfield 238, 3) := by decide +kernel
theorem dX67_assemble_350 : decode cX67_assemble 350 = .ok (.iload 5, 2) := by decide +kernel
theorem dX67_assemble_352 : decode cX67_assemble 352 = .ok (.laload, 1) := by decide +kernel
theorem dX67_assemble_353 : decode cX67_assemble 353 = .ok (.goto 4, 3) := by decide +kernel
theorem dX67_assemble_356 : decode cX67_assemble 356 = .ok (.lconst 0, 1) := by decide +kernel
theorem dX67_assemble_357 : decode cX67_assemble 357 = .ok (.lastore, 1) := by decide +kernel
theorem dX67_assemble_358 : decode cX67_assemble 358 = .ok (.iinc 5 1, 3) := by decide +kernel
theorem dX67_assemble_361 : decode cX67_assemble 361 = .ok (.goto (-45), 3) := by decide +kernel
theorem dX67_assemble_364 : decode cX67_assemble 364 = .ok (.iload 4, 2) := by decide +kernel
theorem dX67_assemble_366 : decode cX67_assemble 366 = .ok (.ireturn, 1) := by decide +kernel
theorem zy_X67_assemble : yX67_assemble.cls ≠ "java/lang/invoke/MethodHandle" ∧ yX67_assemble.cls ≠ "java/lang/invoke/VarHandle" ∧ (parseMethodDescriptor yX67_assemble.desc).map (fun d => d.parameters.length) = some 1 := by decide +kernel
theorem w_fX67_assemble_J357 {K : zK} (E : zE K cX67_assemble "RingHouseModel" (some .int) 12) (hN : zNl K = 6) (hT : zTr K = (some 0)) (x1 : Int) (x4 : Int) (x5 : Int) (s1 : Int) (s2 : Int) {r316 : Int → zX} (hr316 : ∀ s : Int, zR K 316 [(0, 69, 0), (1, 0, x1), (4, 0, x4), (5, 0, s)] [] (r316 s)) : zR K 357 [(0, 69, 0), (1, 0, x1), (4, 0, x4), (5, 0, x5)] [(1, s2), (0, s1), (6816, 0)] (fX67_assemble_J357 r316 x1 x4 x5 s1 s2) := by
  refine r_lastore E zc_6816 za_6816 zt_6816 zo_6816 zx_6816 rfl rfl dX67_assemble_357 (by decide) ?_
  refine r_iinc (ls' := fun v18 => [(5, 0, v18), (0, 69, 0), (1, 0, x1), (4, 0, x4)]) E 3 rfl (by rw [hN]; decide) (fun _ => rfl) dX67_assemble_358 (fun v18 _ => ?_)
  refine r_goto E 316 (by decide) dX67_assemble_361 ?_
  refine r_pick E [1, 2, 3, 0] rfl ?_
  exact hr316 v18
theorem w_fX67_assemble_B316 {K : zK} (E : zE K cX67_assemble "RingHouseModel" (some .int) 12) (hN : zNl K = 6) (hT : zTr K = (some 0)) (x1 : Int) (x4 : Int) : ∀ r316 : Int → zX, (∀ s : Int, zR K 316 [(0, 69, 0), (1, 0, x1), (4, 0, x4), (5, 0, s)] [] (r316 s)) → ∀ s : Int, zR K 316 [(0, 69, 0), (1, 0, x1), (4, 0, x4), (5, 0, s)] [] (fX67_assemble_B316 x1 x4 r316 s) := by
  intro r316 hr316 x5
  refine r_iload E dX67_assemble_316 3 rfl ?_
  refine r_aload_n E dX67_assemble_318 rfl 0 rfl ?_
  refine r_gec (y := 0) E zc_69 dX67_assemble_319 q3221 zr_69 (zh_6806 (by decide)) (by decide) ?_
  refine r_iload_n E dX67_assemble_322 rfl 1 rfl ?_
  refine r_iaload E zc_6806 za_6806 zt_6806 zx_6806 rfl rfl dX67_assemble_323 (by decide) (fun v17 => ?_)
  refine r_icmp_ge E 364 (by decide) dX67_assemble_324 (fun _ => ?_) (fun _ => ?_)
  · refine r_iload E dX67_assemble_364 2 rfl ?_
    exact r_ireturn E rfl hT dX67_assemble_366
  · refine r_aload_n E dX67_assemble_327 rfl 0 rfl ?_
    refine r_gec (y := 0) E zc_69 dX67_assemble_328 q3231 zr_69 (zh_6816 (by decide)) (by decide) ?_
    refine r_sipush E dX67_assemble_331 (by decide) (zkI (by decide) (by decide)) ?_
    refine r_iload_n E dX67_assemble_334 rfl 1 rfl ?_
    refine r_imul E dX67_assemble_335 ?_
    refine r_iload E dX67_assemble_336 3 rfl ?_
    refine r_iadd E dX67_assemble_338 ?_
    refine r_iload E dX67_assemble_339 3 rfl ?_
    refine r_iload E dX67_assemble_341 2 rfl ?_
    refine r_icmp_ge E 356 (by decide) dX67_assemble_343 (fun _ => ?_) (fun _ => ?_)
    · refine r_lconst (v := 0) E dX67_assemble_356 (by decide) (zkJ (by decide) (by decide)) ?_
      exact w_fX67_assemble_J357 E hN hT x1 x4 x5 (zi ((zi (1024 * x1)) + x5)) 0 hr316
    · refine r_aload_n E dX67_assemble_346 rfl 0 rfl ?_
      refine r_gec (y := 0) E zc_69 dX67_assemble_347 q3321 zr_69 (zh_6907 (by decide)) (by decide) ?_
      refine r_iload E dX67_assemble_350 3 rfl ?_
      refine r_laload E zc_6907 za_6907 zt_6907 zx_6907 rfl rfl dX67_assemble_352 (by decide) (fun v19 => ?_)
      refine r_goto E 357 (by decide) dX67_assemble_353 ?_
      exact w_fX67_assemble_J357 E hN hT x1 x4 x5 (zi ((zi (1024 * x1)) + x5)) v19 hr316
theorem w_fX67_assemble_J313 {K : zK} (E : zE K cX67_assemble "RingHouseModel" (some .int) 12) (hN : zNl K = 6) (hT : zTr K = (some 0)) (x1 : Int) (x4 : Int) : zR K 313 [(0, 69, 0), (1, 0, x1), (4, 0, x4)] [] (fX67_assemble_J313 x1 x4) := by
  refine r_iconst E dX67_assemble_313 (zkI (by decide) (by decide)) ?_
  refine r_istore (ls' := [(5, 0, 0), (0, 69, 0), (1, 0, x1), (4, 0, x4)]) E dX67_assemble_314 (by rw [hN]; decide) rfl ?_
  refine r_pick E [1, 2, 3, 0] rfl ?_
  exact r_loop (L := fun s => [(0, 69, 0), (1, 0, x1), (4, 0, x4), (5, 0, s)]) (w_fX67_assemble_B316 E hN hT x1 x4) zBIG 0
theorem w_fX67_assemble_B259 {K : zK} (E : zE K cX67_assemble "RingHouseModel" (some .int) 12) (hN : zNl K = 6) (hT : zTr K = (some 0)) (x1 : Int) (x3 : Int) (x4 : Int) : ∀ r259 : Int → zX, (∀ s : Int, zR K 259 [(0, 69, 0), (1, 0, x1), (3, 0, x3), (4, 0, x4), (5, 0, s)] [] (r259 s)) → ∀ s : Int, zR K 259 [(0, 69, 0), (1, 0, x1), (3, 0, x3), (4, 0, x4), (5, 0, s)] [] (fX67_assemble_B259 x1 x3 x4 r259 s) := by
  intro r259 hr259 x5
  refine r_iload E dX67_assemble_259 4 rfl ?_
  refine r_aload_n E dX67_assemble_261 rfl 0 rfl ?_
  refine r_get E zc_69 zt_6899 dX67_assemble_262 q3314 zr_69 (zg_6899 _) (by decide) (fun v16 => ?_)
  refine r_icmp_ge E 313 (by decide) dX67_assemble_265 (fun _ => ?_) (fun _ => ?_)
  · refine r_pick E [0, 1, 3] rfl ?_
    exact w_fX67_assemble_J313 E hN hT x1 x4
  · refine r_aload_n E dX67_assemble_268 rfl 0 rfl ?_
    refine r_gec (y := 0) E zc_69 dX67_assemble_269 q3321 zr_69 (zh_6907 (by decide)) (by decide) ?_
    refine r_iload_n E dX67_assemble_272 rfl 2 rfl ?_
    refine r_iconst E dX67_assemble_273 (zkI (by decide) (by decide)) ?_
    refine r_iload E dX67_assemble_274 4 rfl ?_
    refine r_imul E dX67_assemble_276 ?_
    refine r_iadd E dX67_assemble_277 ?_
    refine r_aload_n E dX67_assemble_278 rfl 0 rfl ?_
    refine r_gec (y := 0) E zc_69 dX67_assemble_279 q3315 zr_69 (zh_6900 (by decide)) (by decide) ?_
    refine r_iload E dX67_assemble_282 4 rfl ?_
    refine r_laload E zc_6900 za_6900 zt_6900 zx_6900 rfl rfl dX67_assemble_284 (by decide) (fun v20 => ?_)
    refine r_lastore E zc_6907 za_6907 zt_6907 zo_6907 zx_6907 rfl rfl dX67_assemble_285 (by decide) ?_
    refine r_aload_n E dX67_assemble_286 rfl 0 rfl ?_
    refine r_gec (y := 0) E zc_69 dX67_assemble_287 q3321 zr_69 (zh_6907 (by decide)) (by decide) ?_
    refine r_iload_n E dX67_assemble_290 rfl 2 rfl ?_
    refine r_iconst E dX67_assemble_291 (zkI (by decide) (by decide)) ?_
    refine r_iload E dX67_assemble_292 4 rfl ?_
    refine r_imul E dX67_assemble_294 ?_
    refine r_iadd E dX67_assemble_295 ?_
    refine r_iconst E dX67_assemble_296 (zkI (by decide) (by decide)) ?_
    refine r_iadd E dX67_assemble_297 ?_
    refine r_aload_n E dX67_assemble_298 rfl 0 rfl ?_
    refine r_gec (y := 0) E zc_69 dX67_assemble_299 q3316 zr_69 (zh_6901 (by decide)) (by decide) ?_
    refine r_iload E dX67_assemble_302 4 rfl ?_
    refine r_iaload E zc_6901 za_6901 zt_6901 zx_6901 rfl rfl dX67_assemble_304 (by decide) (fun v21 => ?_)
    refine r_i2l E dX67_assemble_305 ?_
    refine r_lastore E zc_6907 za_6907 zt_6907 zo_6907 zx_6907 rfl rfl dX67_assemble_306 (by decide) ?_
    refine r_iinc (ls' := fun v22 => [(5, 0, v22), (0, 69, 0), (1, 0, x1), (3, 0, x3), (4, 0, x4)]) E 4 rfl (by rw [hN]; decide) (fun _ => rfl) dX67_assemble_307 (fun v22 _ => ?_)
    refine r_goto E 259 (by decide) dX67_assemble_310 ?_
    refine r_pick E [1, 2, 3, 4, 0] rfl ?_
    exact hr259 v22
theorem w_fX67_assemble_J256 {K : zK} (E : zE K cX67_assemble "RingHouseModel" (some .int) 12) (hN : zNl K = 6) (hT : zTr K = (some 0)) (x1 : Int) (x3 : Int) (x4 : Int) : zR K 256 [(0, 69, 0), (1, 0, x1), (3, 0, x3), (4, 0, x4)] [] (fX67_assemble_J256 x1 x3 x4) := by
  refine r_iconst E dX67_assemble_256 (zkI (by decide) (by decide)) ?_
  refine r_istore (ls' := [(5, 0, 0), (0, 69, 0), (1, 0, x1), (3, 0, x3), (4, 0, x4)]) E dX67_assemble_257 (by rw [hN]; decide) rfl ?_
  refine r_pick E [1, 2, 3, 4, 0] rfl ?_
  exact r_loop (L := fun s => [(0, 69, 0), (1, 0, x1), (3, 0, x3), (4, 0, x4), (5, 0, s)]) (w_fX67_assemble_B259 E hN hT x1 x3 x4) zBIG 0
theorem w_fX67_assemble_B203 {K : zK} (E : zE K cX67_assemble "RingHouseModel" (some .int) 12) (hN : zNl K = 6) (hT : zTr K = (some 0)) (x1 : Int) (x2 : Int) (x3 : Int) (x4 : Int) : ∀ r203 : Int → zX, (∀ s : Int, zR K 203 [(0, 69, 0), (1, 0, x1), (2, 0, x2), (3, 0, x3), (4, 0, x4), (5, 0, s)] [] (r203 s)) → ∀ s : Int, zR K 203 [(0, 69, 0), (1, 0, x1), (2, 0, x2), (3, 0, x3), (4, 0, x4), (5, 0, s)] [] (fX67_assemble_B203 x1 x2 x3 x4 r203 s) := by
  intro r203 hr203 x5
  refine r_iload E dX67_assemble_203 5 rfl ?_
  refine r_aload_n E dX67_assemble_205 rfl 0 rfl ?_
  refine r_get E zc_69 zt_6896 dX67_assemble_206 q3311 zr_69 (zg_6896 _) (by decide) (fun v15 => ?_)
  refine r_icmp_ge E 256 (by decide) dX67_assemble_209 (fun _ => ?_) (fun _ => ?_)
  · refine r_pick E [0, 1, 3, 4] rfl ?_
    exact w_fX67_assemble_J256 E hN hT x1 x3 x4
  · refine r_aload_n E dX67_assemble_212 rfl 0 rfl ?_
    refine r_gec (y := 0) E zc_69 dX67_assemble_213 q3321 zr_69 (zh_6907 (by decide)) (by decide) ?_
    refine r_iload_n E dX67_assemble_216 rfl 2 rfl ?_
    refine r_iconst E dX67_assemble_217 (zkI (by decide) (by decide)) ?_
    refine r_iload E dX67_assemble_218 5 rfl ?_
    refine r_imul E dX67_assemble_220 ?_
    refine r_iadd E dX67_assemble_221 ?_
    refine r_aload_n E dX67_assemble_222 rfl 0 rfl ?_
    refine r_gec (y := 0) E zc_69 dX67_assemble_223 q3312 zr_69 (zh_6897 (by decide)) (by decide) ?_
    refine r_iload E dX67_assemble_226 5 rfl ?_
    refine r_laload E zc_6897 za_6897 zt_6897 zx_6897 rfl rfl dX67_assemble_228 (by decide) (fun v23 => ?_)
    refine r_lastore E zc_6907 za_6907 zt_6907 zo_6907 zx_6907 rfl rfl dX67_assemble_229 (by decide) ?_
    refine r_aload_n E dX67_assemble_230 rfl 0 rfl ?_
    refine r_gec (y := 0) E zc_69 dX67_assemble_231 q3321 zr_69 (zh_6907 (by decide)) (by decide) ?_
    refine r_iload_n E dX67_assemble_234 rfl 2 rfl ?_
    refine r_iconst E dX67_assemble_235 (zkI (by decide) (by decide)) ?_
    refine r_iload E dX67_assemble_236 5 rfl ?_
    refine r_imul E dX67_assemble_238 ?_
    refine r_iadd E dX67_assemble_239 ?_
    refine r_iconst E dX67_assemble_240 (zkI (by decide) (by decide)) ?_
    refine r_iadd E dX67_assemble_241 ?_
    refine r_aload_n E dX67_assemble_242 rfl 0 rfl ?_
    refine r_gec (y := 0) E zc_69 dX67_assemble_243 q3313 zr_69 (zh_6898 (by decide)) (by decide) ?_
    refine r_iload E dX67_assemble_246 5 rfl ?_
    refine r_laload E zc_6898 za_6898 zt_6898 zx_6898 rfl rfl dX67_assemble_248 (by decide) (fun v24 => ?_)
    refine r_lastore E zc_6907 za_6907 zt_6907 zo_6907 zx_6907 rfl rfl dX67_assemble_249 (by decide) ?_
    refine r_iinc (ls' := fun v25 => [(5, 0, v25), (0, 69, 0), (1, 0, x1), (2, 0, x2), (3, 0, x3), (4, 0, x4)]) E 5 rfl (by rw [hN]; decide) (fun _ => rfl) dX67_assemble_250 (fun v25 _ => ?_)
    refine r_goto E 203 (by decide) dX67_assemble_253 ?_
    refine r_pick E [1, 2, 3, 4, 5, 0] rfl ?_
    exact hr203 v25
theorem w_fX67_assemble_J144 {K : zK} (E : zE K cX67_assemble "RingHouseModel" (some .int) 12) (hN : zNl K = 6) (hT : zTr K = (some 0)) (x1 : Int) (x2 : Int) (x3 : Int) (x4 : Int) (s1 : Int) : zR K 144 [(0, 69, 0), (1, 0, x1), (2, 0, x2), (3, 0, x3), (4, 0, x4)] [(0, s1), (69, 0)] (fX67_assemble_J144 x1 x2 x3 x4 s1) := by
  refine r_put E zc_69 zt_6869 zo_6869 dX67_assemble_144 q3284 zr_69 zw_X67 zp_6869 (fun _ => rfl) (fun _ => rfl) (by decide) ?_
  refine r_aload_n E dX67_assemble_147 rfl 0 rfl ?_
  refine r_get E zc_69 zt_6891 dX67_assemble_148 q3306 zr_69 (zg_6891 _) (by decide) (fun v12 => ?_)
  refine r_if_le E 162 (by decide) dX67_assemble_151 (fun _ => ?_) (fun _ => ?_)
  · refine r_aload_n E dX67_assemble_162 rfl 0 rfl ?_
    refine r_gec (y := 0) E zc_69 dX67_assemble_163 q3321 zr_69 (zh_6907 (by decide)) (by decide) ?_
    refine r_iconst E dX67_assemble_166 (zkI (by decide) (by decide)) ?_
    refine r_ldc2 (v := 48989470720) E dX67_assemble_167 q4277 (by decide) (zkJ (by decide) (by decide)) ?_
    refine r_aload_n E dX67_assemble_170 rfl 0 rfl ?_
    refine r_get E zc_69 zt_6896 dX67_assemble_171 q3311 zr_69 (zg_6896 _) (by decide) (fun v13 => ?_)
    refine r_i2l E dX67_assemble_174 ?_
    refine r_bipush E dX67_assemble_175 (by decide) (zkI (by decide) (by decide)) ?_
    refine r_lshl (P := 262144) E (by decide) dX67_assemble_177 ?_
    refine r_lor E dX67_assemble_178 ?_
    refine r_iload_n E dX67_assemble_179 rfl 2 rfl ?_
    refine r_i2l E dX67_assemble_180 ?_
    refine r_lor E dX67_assemble_181 ?_
    refine r_lastore E zc_6907 za_6907 zt_6907 zo_6907 zx_6907 rfl rfl dX67_assemble_182 (by decide) ?_
    refine r_aload_n E dX67_assemble_183 rfl 0 rfl ?_
    refine r_gec (y := 0) E zc_69 dX67_assemble_184 q3321 zr_69 (zh_6907 (by decide)) (by decide) ?_
    refine r_iconst E dX67_assemble_187 (zkI (by decide) (by decide)) ?_
    refine r_aload_n E dX67_assemble_188 rfl 0 rfl ?_
    refine r_get E zc_69 zt_6899 dX67_assemble_189 q3314 zr_69 (zg_6899 _) (by decide) (fun v14 => ?_)
    refine r_i2l E dX67_assemble_192 ?_
    refine r_bipush E dX67_assemble_193 (by decide) (zkI (by decide) (by decide)) ?_
    refine r_lshl (P := 262144) E (by decide) dX67_assemble_195 ?_
    refine r_iload_n E dX67_assemble_196 rfl 3 rfl ?_
    refine r_i2l E dX67_assemble_197 ?_
    refine r_lor E dX67_assemble_198 ?_
    refine r_lastore E zc_6907 za_6907 zt_6907 zo_6907 zx_6907 rfl rfl dX67_assemble_199 (by decide) ?_
    refine r_iconst E dX67_assemble_200 (zkI (by decide) (by decide)) ?_
    refine r_istore (ls' := [(5, 0, 0), (0, 69, 0), (1, 0, x1), (2, 0, x2), (3, 0, x3), (4, 0, x4)]) E dX67_assemble_201 (by rw [hN]; decide) rfl ?_
    refine r_pick E [1, 2, 3, 4, 5, 0] rfl ?_
    exact r_loop (L := fun s => [(0, 69, 0), (1, 0, x1), (2, 0, x2), (3, 0, x3), (4, 0, x4), (5, 0, s)]) (w_fX67_assemble_B203 E hN hT x1 x2 x3 x4) zBIG 0
  · refine r_bipush E dX67_assemble_154 (by decide) (zkI (by decide) (by decide)) ?_
    refine r_aload_n E dX67_assemble_156 rfl 0 rfl ?_
    refine r_get E zc_69 zt_6891 dX67_assemble_157 q3306 zr_69 (zg_6891 _) (by decide) (fun v26 => ?_)
    refine r_isub E dX67_assemble_160 ?_
    exact r_ireturn E rfl hT dX67_assemble_161
theorem w_fX67_assemble_J123 {K : zK} (E : zE K cX67_assemble "RingHouseModel" (some .int) 12) (hN : zNl K = 6) (hT : zTr K = (some 0)) (x1 : Int) (x2 : Int) (x3 : Int) (x4 : Int) : zR K 123 [(0, 69, 0), (1, 0, x1), (2, 0, x2), (3, 0, x3), (4, 0, x4)] [] (fX67_assemble_J123 x1 x2 x3 x4) := by
  refine r_aload_n E dX67_assemble_123 rfl 0 rfl ?_
  refine r_iconst E dX67_assemble_124 (zkI (by decide) (by decide)) ?_
  refine r_put E zc_69 zt_6867 zo_6867 dX67_assemble_125 q3282 zr_69 zw_X67 zp_6867 (fun _ => rfl) (fun _ => rfl) (by decide) ?_
  refine r_aload_n E dX67_assemble_128 rfl 0 rfl ?_
  refine r_aload_n E dX67_assemble_129 rfl 0 rfl ?_
  refine r_get E zc_69 zt_6891 dX67_assemble_130 q3306 zr_69 (zg_6891 _) (by decide) (fun v11 => ?_)
  refine r_if_le E 143 (by decide) dX67_assemble_133 (fun _ => ?_) (fun _ => ?_)
  · refine r_iconst E dX67_assemble_143 (zkI (by decide) (by decide)) ?_
    exact w_fX67_assemble_J144 E hN hT x1 x2 x3 x4 (-1)
  · refine r_aload_n E dX67_assemble_136 rfl 0 rfl ?_
    refine r_get E zc_69 zt_6892 dX67_assemble_137 q3307 zr_69 (zg_6892 _) (by decide) (fun v27 => ?_)
    refine r_goto E 144 (by decide) dX67_assemble_140 ?_
    exact w_fX67_assemble_J144 E hN hT x1 x2 x3 x4 v27
theorem w_fX67_assemble_J68 {K : zK} (E : zE K cX67_assemble "RingHouseModel" (some .int) 12) (hN : zNl K = 6) (hT : zTr K = (some 0)) (x1 : Int) : zR K 68 [(0, 69, 0), (1, 0, x1)] [] (fX67_assemble_J68 x1) := by
  refine r_aload_n E dX67_assemble_68 rfl 0 rfl ?_
  refine r_get E zc_69 zt_6902 dX67_assemble_69 q3317 zr_69 (zg_6902 _) (by decide) (fun v4 => ?_)
  refine r_istore_n (ls' := [(2, 0, v4), (0, 69, 0), (1, 0, x1)]) E dX67_assemble_72 rfl (by rw [hN]; decide) rfl ?_
  refine r_aload_n E dX67_assemble_73 rfl 1 rfl ?_
  refine r_get E zc_69 zt_6902 dX67_assemble_74 q3317 zr_69 (zg_6902 _) (by decide) (fun v5 => ?_)
  refine r_iconst E dX67_assemble_77 (zkI (by decide) (by decide)) ?_
  refine r_aload_n E dX67_assemble_78 rfl 1 rfl ?_
  refine r_get E zc_69 zt_6896 dX67_assemble_79 q3311 zr_69 (zg_6896 _) (by decide) (fun v6 => ?_)
  refine r_imul E dX67_assemble_82 ?_
  refine r_iadd E dX67_assemble_83 ?_
  refine r_let E (fun v7 ev7 => ?_)
  refine r_istore_n (ls' := [(3, 0, v7), (2, 0, v4), (0, 69, 0), (1, 0, x1)]) E dX67_assemble_84 rfl (by rw [hN]; decide) rfl ?_
  refine r_iload_n E dX67_assemble_85 rfl 0 rfl ?_
  refine r_iconst E dX67_assemble_86 (zkI (by decide) (by decide)) ?_
  refine r_aload_n E dX67_assemble_87 rfl 2 rfl ?_
  refine r_get E zc_69 zt_6899 dX67_assemble_88 q3314 zr_69 (zg_6899 _) (by decide) (fun v8 => ?_)
  refine r_imul E dX67_assemble_91 ?_
  refine r_iadd E dX67_assemble_92 ?_
  refine r_let E (fun v9 ev9 => ?_)
  refine r_istore (ls' := [(4, 0, v9), (3, 0, v7), (2, 0, v4), (0, 69, 0), (1, 0, x1)]) E dX67_assemble_93 (by rw [hN]; decide) rfl ?_
  refine r_aload_n E dX67_assemble_95 rfl 3 rfl ?_
  refine r_get E zc_69 zt_6891 dX67_assemble_96 q3306 zr_69 (zg_6891 _) (by decide) (fun v10 => ?_)
  refine r_if_ne E 123 (by decide) dX67_assemble_99 (fun _ => ?_) (fun _ => ?_)
  · refine r_pick E [3, 4, 2, 1, 0] rfl ?_
    exact w_fX67_assemble_J123 E hN hT x1 v4 v7 v9
  · refine r_iload E dX67_assemble_102 0 rfl ?_
    refine r_aload_n E dX67_assemble_104 rfl 3 rfl ?_
    refine r_gec (y := 0) E zc_69 dX67_assemble_105 q3221 zr_69 (zh_6806 (by decide)) (by decide) ?_
    refine r_iload_n E dX67_assemble_108 rfl 4 rfl ?_
    refine r_iaload E zc_6806 za_6806 zt_6806 zx_6806 rfl rfl dX67_assemble_109 (by decide) (fun v28 => ?_)
    refine r_icmp_le E 123 (by decide) dX67_assemble_110 (fun _ => ?_) (fun _ => ?_)
    · refine r_pick E [3, 4, 2, 1, 0] rfl ?_
      exact w_fX67_assemble_J123 E hN hT x1 v4 v7 v9
    · refine r_aload_n E dX67_assemble_113 rfl 3 rfl ?_
      refine r_bipush E dX67_assemble_114 (by decide) (zkI (by decide) (by decide)) ?_
      refine r_aload_n E dX67_assemble_116 rfl 3 rfl ?_
      refine r_get E zc_69 zt_6867 dX67_assemble_117 q3282 zr_69 (zg_6867 _) (by decide) (fun v29 => ?_)
      refine r_callV E [(0, 6), (0, v29)] [] rfl zc_69 zr_69 (fun o _ => ⟨_, zw_X67.1 o, rfl⟩) (lw_V q4163 q4165 qs178 q294 q4166) dX67_assemble_120 zy_X67_wrong rfl (by omega) (by decide) (Nat.le_of_ble_eq_true rfl) (by decide) (fun l G => k_fX67_wrong l G 6 v29) (fun _ => ?_)
      refine r_pick E [3, 4, 2, 1, 0] rfl ?_
      exact w_fX67_assemble_J123 E hN hT x1 v4 v7 v9
theorem w_fX67_assemble {K : zK} (E : zE K cX67_assemble "RingHouseModel" (some .int) 12) (hN : zNl K = 6) (hT : zTr K = (some 0)) (x1 : Int) : zR K 0 [(0, 69, 0), (1, 0, x1)] [] (fX67_assemble x1) := by
  refine r_aload_n E dX67_assemble_0 rfl 0 rfl ?_
  refine r_iload_n E dX67_assemble_1 rfl 1 rfl ?_
  refine r_iconst E dX67_assemble_2 (zkI (by decide) (by decide)) ?_
  refine r_callV E [(0, x1), (0, 2)] [] rfl zc_69 zr_69 (fun o _ => ⟨_, zw_X67.1 o, rfl⟩) (lw_V q3610 q3612 qs92 q294 q3613) dX67_assemble_3 zy_X67_isOf rfl (by omega) (by decide) (Nat.le_of_ble_eq_true rfl) (by decide) (fun l G => k_fX67_isOf l G x1 2) (fun v1 => ?_)
  refine r_if_ne E 12 (by decide) dX67_assemble_6 (fun _ => ?_) (fun _ => ?_)
  · refine r_aload_n E dX67_assemble_12 rfl 0 rfl ?_
    refine r_iconst E dX67_assemble_13 (zkI (by decide) (by decide)) ?_
    refine r_put E zc_69 zt_6891 zo_6891 dX67_assemble_14 q3306 zr_69 zw_X67 zp_6891 (fun _ => rfl) (fun _ => rfl) (by decide) ?_
    refine r_aload_n E dX67_assemble_17 rfl 0 rfl ?_
    refine r_iconst E dX67_assemble_18 (zkI (by decide) (by decide)) ?_
    refine r_put E zc_69 zt_6905 zo_6905 dX67_assemble_19 q3319 zr_69 zw_X67 zp_6905 (fun _ => rfl) (fun _ => rfl) (by decide) ?_
    refine r_aload_n E dX67_assemble_22 rfl 0 rfl ?_
    refine r_iconst E dX67_assemble_23 (zkI (by decide) (by decide)) ?_
    refine r_put E zc_69 zt_6893 zo_6893 dX67_assemble_24 q3308 zr_69 zw_X67 zp_6893 (fun _ => rfl) (fun _ => rfl) (by decide) ?_
    refine r_aload_n E dX67_assemble_27 rfl 0 rfl ?_
    refine r_iconst E dX67_assemble_28 (zkI (by decide) (by decide)) ?_
    refine r_put E zc_69 zt_6896 zo_6896 dX67_assemble_29 q3311 zr_69 zw_X67 zp_6896 (fun _ => rfl) (fun _ => rfl) (by decide) ?_
    refine r_aload_n E dX67_assemble_32 rfl 0 rfl ?_
    refine r_iconst E dX67_assemble_33 (zkI (by decide) (by decide)) ?_
    refine r_callV E [(0, 0)] [] rfl zc_69 zr_69 (fun o _ => ⟨_, zw_X67.1 o, rfl⟩) (lw_V q4126 q4128 qs172 q294 q4129) dX67_assemble_34 zy_X67_readText rfl (by omega) (by decide) (Nat.le_of_ble_eq_true rfl) (by decide) (fun l G => k_fX67_readText l G 0) (fun _ => ?_)
    refine r_aload_n E dX67_assemble_37 rfl 0 rfl ?_
    refine r_get E zc_69 zt_6891 dX67_assemble_38 q3306 zr_69 (zg_6891 _) (by decide) (fun v3 => ?_)
    refine r_if_ne E 68 (by decide) dX67_assemble_41 (fun _ => ?_) (fun _ => ?_)
    · exact w_fX67_assemble_J68 E hN hT x1
    · refine r_aload_n E dX67_assemble_44 rfl 0 rfl ?_
      refine r_iconst E dX67_assemble_45 (zkI (by decide) (by decide)) ?_
      refine r_callV E [(0, 1)] [] rfl zc_69 zr_69 (fun o _ => ⟨_, zw_X67.1 o, rfl⟩) (lw_V q4126 q4128 qs172 q294 q4129) dX67_assemble_46 zy_X67_readText rfl (by omega) (by decide) (Nat.le_of_ble_eq_true rfl) (by decide) (fun l G => k_fX67_readText l G 1) (fun _ => ?_)
      refine r_aload_n E dX67_assemble_49 rfl 0 rfl ?_
      refine r_get E zc_69 zt_6905 dX67_assemble_50 q3319 zr_69 (zg_6905 _) (by decide) (fun v32 => ?_)
      refine r_if_le E 68 (by decide) dX67_assemble_53 (fun _ => ?_) (fun _ => ?_)
      · exact w_fX67_assemble_J68 E hN hT x1
      · refine r_aload_n E dX67_assemble_56 rfl 0 rfl ?_
        refine r_aload_n E dX67_assemble_57 rfl 0 rfl ?_
        refine r_get E zc_69 zt_6905 dX67_assemble_58 q3319 zr_69 (zg_6905 _) (by decide) (fun v33 => ?_)
        refine r_aload_n E dX67_assemble_61 rfl 0 rfl ?_
        refine r_get E zc_69 zt_6906 dX67_assemble_62 q3320 zr_69 (zg_6906 _) (by decide) (fun v34 => ?_)
        refine r_callV E [(0, v33), (0, v34)] [] rfl zc_69 zr_69 (fun o _ => ⟨_, zw_X67.1 o, rfl⟩) (lw_V q4163 q4165 qs178 q294 q4166) dX67_assemble_65 zy_X67_wrong rfl (by omega) (by decide) (Nat.le_of_ble_eq_true rfl) (by decide) (fun l G => k_fX67_wrong l G v33 v34) (fun _ => ?_)
        exact w_fX67_assemble_J68 E hN hT x1
  · refine r_bipush E dX67_assemble_9 (by decide) (zkI (by decide) (by decide)) ?_
    exact r_ireturn E rfl hT dX67_assemble_11
theorem k_fX67_assemble (l : Launch) (G : zG) (x1 : Int) : zCt l G yX67_assemble cX67_assemble 6 (some .int) 12 [(69, 0), (0, x1)] (some 0) (fX67_assemble x1) := zCt.of (by decide) (Nat.le_of_ble_eq_true rfl) (fun K E _ _ hN hT => w_fX67_assemble E hN hT x1)
theorem dX67_type_0 : decode cX67_type 0 = .ok (.iload_n 3, 1) := by decide +kernel
theorem dX67_type_1 : decode cX67_type 1 = .ok (.i2l, 1) := by decide +kernel
theorem dX67_type_2 : decode cX67_type 2 = .ok (.lconst 1, 1) := by decide +kernel
theorem dX67_type_3 : decode cX67_type 3 = .ok (.ldc2_w 411, 3) := by decide +kernel
theorem dX67_type_6 : decode cX67_type 6 = .ok (.invokestatic 363, 3) := by decide +kernel
theorem dX67_type_9 : decode cX67_type 9 = .ok (.ifCond .ne 6, 3) := by decide +kernel
theorem dX67_type_12 : decode cX67_type 12 = .ok (.bipush (-8), 2) := by decide +kernel
theorem dX67_type_14 : decode cX67_type 14 = .ok (.ireturn, 1) := by decide +kernel
theorem dX67_type_15 : decode cX67_type 15 = .ok (.aload_n 0, 1) := by decide +kernel
theorem dX67_type_16 : decode cX67_type 16 = .ok (.getfield 825, 3) := by decide +kernel
theorem dX67_type_19 : decode cX67_type 19 = .ok (.iload_n 3, 1) := by decide +kernel
theorem dX67_type_20 : decode cX67_type 20 = .ok (.iadd, 1) := by decide +kernel
theorem dX67_type_21 : decode cX67_type 21 = .ok (.sipush 4096, 3) := by decide +kernel
theorem dX67_type_24 : decode cX67_type 24 = .ok (.if_icmp .le 6, 3) := by decide +kernel
theorem dX67_type_27 : decode cX67_type 27 = .ok (.bipush (-5), 2) := by decide +kernel
theorem dX67_type_29 : decode cX67_type 29 = .ok (.ireturn, 1) := by decide +kernel
theorem dX67_type_30 : decode cX67_type 30 = .ok (.iconst 0, 1) := by decide +kernel
theorem dX67_type_31 : decode cX67_type 31 = .ok (.istore 4, 2) := by decide +kernel
theorem dX67_type_33 : decode cX67_type 33 = .ok (.iload 4, 2) := by decide +kernel
theorem dX67_type_35 : decode cX67_type 35 = .ok (.iload_n 3, 1) := by decide +kernel
theorem dX67_type_36 : decode cX67_type 36 = .ok (.if_icmp .ge 40, 3) := by decide +kernel
theorem dX67_type_39 : decode cX67_type 39 = .ok (.aload_n 0, 1) := by decide +kernel
theorem dX67_type_40 : decode cX67_type 40 = .ok (.getfield 206, 3) := by decide +kernel
theorem dX67_type_43 : decode cX67_type 43 = .ok (.aload_n 0, 1) := by decide +kernel
theorem dX67_type_44 : decode cX67_type 44 = .ok (.getfield 825, 3) := by decide +kernel
theorem dX67_type_47 : decode cX67_type 47 = .ok (.lload_n 1, 1) := by decide +kernel
theorem dX67_type_48 : decode cX67_type 48 = .ok (.bipush 8, 2) := by decide +kernel
theorem dX67_type_50 : decode cX67_type 50 = .ok (.iload 4, 2) := by decide +kernel
theorem dX67_type_52 : decode cX67_type 52 = .ok (.imul, 1) := by decide +kernel
theorem dX67_type_53 : decode cX67_type 53 = .ok (.lshr, 1) := by decide +kernel
theorem dX67_type_54 : decode cX67_type 54 = .ok (.ldc2_w 377, 3) := by decide +kernel
theorem dX67_type_57 : decode cX67_type 57 = .ok (.land, 1) := by decide +kernel
theorem dX67_type_58 : decode cX67_type 58 = .ok (.l2i, 1) := by decide +kernel
theorem dX67_type_59 : decode cX67_type 59 = .ok (.iastore, 1) := by decide +kernel
theorem dX67_type_60 : decode cX67_type 60 = .ok (.aload_n 0, 1) := by decide +kernel
theorem dX67_type_61 : decode cX67_type 61 = .ok (.dup, 1) := by decide +kernel
theorem dX67_type_62 : decode cX67_type 62 = .ok (.getfield 825, 3) := by decide +kernel
theorem dX67_type_65 : decode cX67_type 65 = .ok (.iconst 1, 1) := by decide +kernel
theorem dX67_type_66 : decode cX67_type 66 = .ok (.iadd, 1) := by decide +kernel
theorem dX67_type_67 : decode cX67_type 67 = .ok (.putfield 825, 3) := by decide +kernel
theorem dX67_type_70 : decode cX67_type 70 = .ok (.iinc 4 1, 3) := by decide +kernel
theorem dX67_type_73 : decode cX67_type 73 = .ok (.goto (-40), 3) := by decide +kernel
theorem dX67_type_76 : decode cX67_type 76 = .ok (.aload_n 0, 1) := by decide +kernel
theorem dX67_type_77 : decode cX67_type 77 = .ok (.getfield 825, 3) := by decide +kernel
theorem dX67_type_80 : decode cX67_type 80 = .ok (.ireturn, 1) := by decide +kernel
theorem zy_X67_type : yX67_type.cls ≠ "java/lang/invoke/MethodHandle" ∧ yX67_type.cls ≠ "java/lang/invoke/VarHandle" ∧ (parseMethodDescriptor yX67_type.desc).map (fun d => d.parameters.length) = some 2 := by decide +kernel
theorem w_fX67_type_J76 {K : zK} (E : zE K cX67_type "RingHouseModel" (some .int) 1) (hN : zNl K = 5) (hT : zTr K = (some 0)) : zR K 76 [(0, 69, 0)] [] (fX67_type_J76) := by
  refine r_aload_n E dX67_type_76 rfl 0 rfl ?_
  refine r_get E zc_69 zt_6867 dX67_type_77 q3282 zr_69 (zg_6867 _) (by decide) (fun v3 => ?_)
  exact r_ireturn E rfl hT dX67_type_80
theorem w_fX67_type_B33 {K : zK} (E : zE K cX67_type "RingHouseModel" (some .int) 1) (hN : zNl K = 5) (hT : zTr K = (some 0)) (x1 : Int) (x3 : Int) : ∀ r33 : Int → zX, (∀ s : Int, zR K 33 [(0, 69, 0), (1, 1, x1), (3, 0, x3), (4, 0, s)] [] (r33 s)) → ∀ s : Int, zR K 33 [(0, 69, 0), (1, 1, x1), (3, 0, x3), (4, 0, s)] [] (fX67_type_B33 x1 x3 r33 s) := by
  intro r33 hr33 x4
  refine r_iload E dX67_type_33 3 rfl ?_
  refine r_iload_n E dX67_type_35 rfl 2 rfl ?_
  refine r_icmp_ge E 76 (by decide) dX67_type_36 (fun _ => ?_) (fun _ => ?_)
  · refine r_pick E [0] rfl ?_
    exact w_fX67_type_J76 E hN hT
  · refine r_aload_n E dX67_type_39 rfl 0 rfl ?_
    refine r_gec (y := 0) E zc_69 dX67_type_40 q3283 zr_69 (zh_6868 (by decide)) (by decide) ?_
    refine r_aload_n E dX67_type_43 rfl 0 rfl ?_
    refine r_get E zc_69 zt_6867 dX67_type_44 q3282 zr_69 (zg_6867 _) (by decide) (fun v4 => ?_)
    refine r_lload_n E dX67_type_47 rfl 1 rfl ?_
    refine r_bipush E dX67_type_48 (by decide) (zkI (by decide) (by decide)) ?_
    refine r_iload E dX67_type_50 3 rfl ?_
    refine r_imul E dX67_type_52 ?_
    refine r_lshr E rfl dX67_type_53 ?_
    refine r_ldc2 (v := 255) E dX67_type_54 q3618 (by decide) (zkJ (by decide) (by decide)) ?_
    refine r_lmask (P := 256) E 8 (by decide) (by decide) (by decide) dX67_type_57 ?_
    refine r_l2i E dX67_type_58 ?_
    refine r_iastore E zc_6868 za_6868 zt_6868 zo_6868 zx_6868 rfl rfl dX67_type_59 (by decide) ?_
    refine r_aload_n E dX67_type_60 rfl 0 rfl ?_
    refine r_dup E (zn1 rfl) dX67_type_61 ?_
    refine r_get E zc_69 zt_6867 dX67_type_62 q3282 zr_69 (zg_6867 _) (by decide) (fun v5 => ?_)
    refine r_iconst E dX67_type_65 (zkI (by decide) (by decide)) ?_
    refine r_iadd E dX67_type_66 ?_
    refine r_put E zc_69 zt_6867 zo_6867 dX67_type_67 q3282 zr_69 zw_X67 zp_6867 (fun _ => rfl) (fun _ => rfl) (by decide) ?_
    refine r_iinc (ls' := fun v6 => [(4, 0, v6), (0, 69, 0), (1, 1, x1), (3, 0, x3)]) E 3 rfl (by rw [hN]; decide) (fun _ => rfl) dX67_type_70 (fun v6 _ => ?_)
    refine r_goto E 33 (by decide) dX67_type_73 ?_
    refine r_pick E [1, 2, 3, 0] rfl ?_
    exact hr33 v6
theorem w_fX67_type {K : zK} (E : zE K cX67_type "RingHouseModel" (some .int) 1) (hN : zNl K = 5) (hT : zTr K = (some 0)) (x1 : Int) (x3 : Int) : zR K 0 [(0, 69, 0), (1, 1, x1), (3, 0, x3)] [] (fX67_type x1 x3) := by
  refine r_iload_n E dX67_type_0 rfl 2 rfl ?_
  refine r_i2l E dX67_type_1 ?_
  refine r_lconst (v := 1) E dX67_type_2 (by decide) (zkJ (by decide) (by decide)) ?_
  refine r_ldc2 (v := 8) E dX67_type_3 q3692 (by decide) (zkJ (by decide) (by decide)) ?_
  refine r_callS E [(1, x3), (1, 1), (1, 8)] [] rfl q3619 q3620 q294 q3621 dX67_type_6 zy_X67_in rfl (by omega) (by decide) (Nat.le_of_ble_eq_true rfl) (fun l G => k_fX67_in l G x3 1 8) (fun v1 => ?_)
  refine r_if_ne E 15 (by decide) dX67_type_9 (fun _ => ?_) (fun _ => ?_)
  · refine r_aload_n E dX67_type_15 rfl 0 rfl ?_
    refine r_get E zc_69 zt_6867 dX67_type_16 q3282 zr_69 (zg_6867 _) (by decide) (fun v2 => ?_)
    refine r_iload_n E dX67_type_19 rfl 2 rfl ?_
    refine r_iadd E dX67_type_20 ?_
    refine r_sipush E dX67_type_21 (by decide) (zkI (by decide) (by decide)) ?_
    refine r_icmp_le E 30 (by decide) dX67_type_24 (fun _ => ?_) (fun _ => ?_)
    · refine r_iconst E dX67_type_30 (zkI (by decide) (by decide)) ?_
      refine r_istore (ls' := [(4, 0, 0), (0, 69, 0), (1, 1, x1), (3, 0, x3)]) E dX67_type_31 (by rw [hN]; decide) rfl ?_
      refine r_pick E [1, 2, 3, 0] rfl ?_
      exact r_loop (L := fun s => [(0, 69, 0), (1, 1, x1), (3, 0, x3), (4, 0, s)]) (w_fX67_type_B33 E hN hT x1 x3) zBIG 0
    · refine r_bipush E dX67_type_27 (by decide) (zkI (by decide) (by decide)) ?_
      exact r_ireturn E rfl hT dX67_type_29
  · refine r_bipush E dX67_type_12 (by decide) (zkI (by decide) (by decide)) ?_
    exact r_ireturn E rfl hT dX67_type_14
theorem k_fX67_type (l : Launch) (G : zG) (x1 : Int) (x3 : Int) : zCt l G yX67_type cX67_type 5 (some .int) 1 [(69, 0), (1, x1), (0, x3)] (some 0) (fX67_type x1 x3) := zCt.of (by decide) (Nat.le_of_ble_eq_true rfl) (fun K E _ _ hN hT => w_fX67_type E hN hT x1 x3)
theorem dX67_place_2_0 : decode cX67_place_2 0 = .ok (.aload_n 0, 1) := by decide +kernel
theorem dX67_place_2_1 : decode cX67_place_2 1 = .ok (.getfield 209, 3) := by decide +kernel
theorem dX67_place_2_4 : decode cX67_place_2 4 = .ok (.ireturn, 1) := by decide +kernel
theorem zy_X67_place_2 : yX67_place_2.cls ≠ "java/lang/invoke/MethodHandle" ∧ yX67_place_2.cls ≠ "java/lang/invoke/VarHandle" ∧ (parseMethodDescriptor yX67_place_2.desc).map (fun d => d.parameters.length) = some 0 := by decide +kernel
theorem w_fX67_place_2 {K : zK} (E : zE K cX67_place_2 "RingHouseModel" (some .int) 0) (hN : zNl K = 1) (hT : zTr K = (some 0)) : zR K 0 [(0, 69, 0)] [] (fX67_place_2) := by
  refine r_aload_n E dX67_place_2_0 rfl 0 rfl ?_
  refine r_get E zc_69 zt_6869 dX67_place_2_1 q3284 zr_69 (zg_6869 _) (by decide) (fun v1 => ?_)
  exact r_ireturn E rfl hT dX67_place_2_4
theorem k_fX67_place_2 (l : Launch) (G : zG) : zCt l G yX67_place_2 cX67_place_2 1 (some .int) 0 [(69, 0)] (some 0) (fX67_place_2) := zCt.of (by decide) (Nat.le_of_ble_eq_true rfl) (fun K E _ _ hN hT => w_fX67_place_2 E hN hT)
theorem dX67_isListable_0 : decode cX67_isListable 0 = .ok (.lload_n 0, 1) := by decide +kernel
theorem dX67_isListable_1 : decode cX67_isListable 1 = .ok (.bipush 30, 2) := by decide +kernel
theorem dX67_isListable_3 : decode cX67_isListable 3 = .ok (.lshr, 1) := by decide +kernel
theorem dX67_isListable_4 : decode cX67_isListable 4 = .ok (.l2i, 1) := by decide +kernel
theorem dX67_isListable_5 : decode cX67_isListable 5 = .ok (.istore_n 2, 1) := by decide +kernel
theorem dX67_isListable_6 : decode cX67_isListable 6 = .ok (.lload_n 0, 1) := by decide +kernel
theorem dX67_isListable_7 : decode cX67_isListable 7 = .ok (.bipush 27, 2) := by decide +kernel
theorem dX67_isListable_9 : decode cX67_isListable 9 = .ok (.lshr, 1) := by decide +kernel
theorem dX67_isListable_10 : decode cX67_isListable 10 = .ok (.ldc2_w 476, 3) := by decide +kernel
theorem dX67_isListable_13 : decode cX67_isListable 13 = .ok (.land, 1) := by decide +kernel
theorem dX67_isListable_14 : decode cX67_isListable 14 = .ok (.l2i, 1) := by decide +kernel
theorem dX67_isListable_15 : decode cX67_isListable 15 = .ok (.istore_n 3, 1) := by decide +kernel
theorem dX67_isListable_16 : decode cX67_isListable 16 = .ok (.iload_n 2, 1) := by decide +kernel
theorem dX67_isListable_17 : decode cX67_isListable 17 = .ok (.bipush 37, 2) := by decide +kernel
theorem dX67_isListable_19 : decode cX67_isListable 19 = .ok (.if_icmp .gt 24, 3) := by decide +kernel
theorem dX67_isListable_22 : decode cX67_isListable 22 = .ok (.iload_n 2, 1) := by decide +kernel
theorem dX67_isListable_23 : decode cX67_isListable 23 = .ok (.iconst 2, 1) := by decide +kernel
theorem dX67_isListable_24 : decode cX67_isListable 24 = .ok (.if_icmp .lt 9, 3) := by decide +kernel
theorem dX67_isListable_27 : decode cX67_isListable 27 = .ok (.iload_n 2, 1) := by decide +kernel
theorem dX67_isListable_28 : decode cX67_isListable 28 = .ok (.bipush 35, 2) := by decide +kernel
theorem dX67_isListable_30 : decode cX67_isListable 30 = .ok (.if_icmp .le 15, 3) := by decide +kernel
theorem dX67_isListable_33 : decode cX67_isListable 33 = .ok (.lload_n 0, 1) := by decide +kernel
theorem dX67_isListable_34 : decode cX67_isListable 34 = .ok (.ldc2_w 997, 3) := by decide +kernel
theorem dX67_isListable_37 : decode cX67_isListable 37 = .ok (.land, 1) := by decide +kernel
theorem dX67_isListable_38 : decode cX67_isListable 38 = .ok (.lconst 0, 1) := by decide +kernel
theorem dX67_isListable_39 : decode cX67_isListable 39 = .ok (.lcmp, 1) := by decide +kernel
theorem dX67_isListable_40 : decode cX67_isListable 40 = .ok (.ifCond .eq 5, 3) := by decide +kernel
theorem dX67_isListable_43 : decode cX67_isListable 43 = .ok (.iconst 0, 1) := by decide +kernel
theorem dX67_isListable_44 : decode cX67_isListable 44 = .ok (.ireturn, 1) := by decide +kernel
theorem dX67_isListable_45 : decode cX67_isListable 45 = .ok (.iload_n 3, 1) := by decide +kernel
theorem dX67_isListable_46 : decode cX67_isListable 46 = .ok (.iconst 1, 1) := by decide +kernel
theorem dX67_isListable_47 : decode cX67_isListable 47 = .ok (.if_icmp .eq 8, 3) := by decide +kernel
theorem dX67_isListable_50 : decode cX67_isListable 50 = .ok (.iload_n 3, 1) := by decide +kernel
theorem dX67_isListable_51 : decode cX67_isListable 51 = .ok (.iconst 5, 1) := by decide +kernel
theorem dX67_isListable_52 : decode cX67_isListable 52 = .ok (.if_icmp .ne 7, 3) := by decide +kernel
theorem dX67_isListable_55 : decode cX67_isListable 55 = .ok (.iconst 1, 1) := by decide +kernel
theorem dX67_isListable_56 : decode cX67_isListable 56 = .ok (.goto 4, 3) := by decide +kernel
theorem dX67_isListable_59 : decode cX67_isListable 59 = .ok (.iconst 0, 1) := by decide +kernel
theorem dX67_isListable_60 : decode cX67_isListable 60 = .ok (.istore 4, 2) := by decide +kernel
theorem dX67_isListable_62 : decode cX67_isListable 62 = .ok (.lload_n 0, 1) := by decide +kernel
theorem dX67_isListable_63 : decode cX67_isListable 63 = .ok (.bipush 21, 2) := by decide +kernel
theorem dX67_isListable_65 : decode cX67_isListable 65 = .ok (.lshr, 1) := by decide +kernel
theorem dX67_isListable_66 : decode cX67_isListable 66 = .ok (.ldc2_w 476, 3) := by decide +kernel
theorem dX67_isListable_69 : decode cX67_isListable 69 = .ok (.land, 1) := by decide +kernel
theorem dX67_isListable_70 : decode cX67_isListable 70 = .ok (.lconst 0, 1) := by decide +kernel
theorem dX67_isListable_71 : decode cX67_isListable 71 = .ok (.iload_n 2, 1) := by decide +kernel
theorem dX67_isListable_72 : decode cX67_isListable 72 = .ok (.invokestatic 870, 3) := by decide +kernel
theorem dX67_isListable_75 : decode cX67_isListable 75 = .ok (.ifCond .eq 11, 3) := by decide +kernel
theorem dX67_isListable_78 : decode cX67_isListable 78 = .ok (.iload_n 2, 1) := by decide +kernel
theorem dX67_isListable_79 : decode cX67_isListable 79 = .ok (.invokestatic 873, 3) := by decide +kernel
theorem dX67_isListable_82 : decode cX67_isListable 82 = .ok (.i2l, 1) := by decide +kernel
theorem dX67_isListable_83 : decode cX67_isListable 83 = .ok (.goto 4, 3) := by decide +kernel
theorem dX67_isListable_86 : decode cX67_isListable 86 = .ok (.lconst 0, 1) := by decide +kernel
theorem dX67_isListable_87 : decode cX67_isListable 87 = .ok (.invokestatic 363, 3) := by decide +kernel
theorem dX67_isListable_90 : decode cX67_isListable 90 = .ok (.istore 5, 2) := by decide +kernel
theorem dX67_isListable_92 : decode cX67_isListable 92 = .ok (.iload_n 3, 1) := by decide +kernel
theorem dX67_isListable_93 : decode cX67_isListable 93 = .ok (.iconst 3, 1) := by decide +kernel
theorem dX67_isListable_94 : decode cX67_isListable 94 = .ok (.if_icmp .eq 51, 3) := by decide +kernel
theorem dX67_isListable_97 : decode cX67_isListable 97 = .ok (.iload_n 3, 1) := by decide +kernel
theorem dX67_isListable_98 : decode cX67_isListable 98 = .ok (.bipush 6, 2) := by decide +kernel
theorem dX67_isListable_100 : decode cX67_isListable 100 = .ok (.if_icmp .ge 45, 3) := by decide +kernel
theorem dX67_isListable_103 : decode cX67_isListable 103 = .ok (.iload 4, 2) := by decide +kernel
theorem dX67_isListable_105 : decode cX67_isListable 105 = .ok (.ifCond .ne 16, 3) := by decide +kernel
theorem dX67_isListable_108 : decode cX67_isListable 108 = .ok (.lload_n 0, 1) := by decide +kernel
theorem dX67_isListable_109 : decode cX67_isListable 109 = .ok (.bipush 24, 2) := by decide +kernel
theorem dX67_isListable_111 : decode cX67_isListable 111 = .ok (.lshr, 1) := by decide +kernel
theorem dX67_isListable_112 : decode cX67_isListable 112 = .ok (.ldc2_w 476, 3) := by decide +kernel
theorem dX67_isListable_115 : decode cX67_isListable 115 = .ok (.land, 1) := by decide +kernel
theorem dX67_isListable_116 : decode cX67_isListable 116 = .ok (.lconst 0, 1) := by decide +kernel
theorem dX67_isListable_117 : decode cX67_isListable 117 = .ok (.lcmp, 1) := by decide +kernel
theorem dX67_isListable_118 : decode cX67_isListable 118 = .ok (.ifCond .ne 27, 3) := by decide +kernel
theorem dX67_isListable_121 : decode cX67_isListable 121 = .ok (.iload 5, 2) := by decide +kernel
theorem dX67_isListable_123 : decode cX67_isListable 123 = .ok (.ifCond .eq 22, 3) := by decide +kernel
theorem dX67_isListable_126 : decode cX67_isListable 126 = .ok (.lload_n 0, 1) := by decide +kernel
theorem dX67_isListable_127 : decode cX67_isListable 127 = .ok (.bipush 18, 2) := by decide +kernel
theorem dX67_isListable_129 : decode cX67_isListable 129 = .ok (.lshr, 1) := by decide +kernel
theorem dX67_isListable_130 : decode cX67_isListable 130 = .ok (.ldc2_w 476, 3) := by decide +kernel
theorem dX67_isListable_133 : decode cX67_isListable 133 = .ok (.land, 1) := by decide +kernel
theorem dX67_isListable_134 : decode cX67_isListable 134 = .ok (.ldc2_w 580, 3) := by decide +kernel
theorem dX67_isListable_137 : decode cX67_isListable 137 = .ok (.lcmp, 1) := by decide +kernel
theorem dX67_isListable_138 : decode cX67_isListable 138 = .ok (.ifCond .ge 7, 3) := by decide +kernel
theorem dX67_isListable_141 : decode cX67_isListable 141 = .ok (.iconst 1, 1) := by decide +kernel
theorem dX67_isListable_142 : decode cX67_isListable 142 = .ok (.goto 4, 3) := by decide +kernel
theorem dX67_isListable_145 : decode cX67_isListable 145 = .ok (.iconst 0, 1) := by decide +kernel
theorem dX67_isListable_146 : decode cX67_isListable 146 = .ok (.ireturn, 1) := by decide +kernel
theorem zy_X67_isListable : yX67_isListable.cls ≠ "java/lang/invoke/MethodHandle" ∧ yX67_isListable.cls ≠ "java/lang/invoke/VarHandle" ∧ (parseMethodDescriptor yX67_isListable.desc).map (fun d => d.parameters.length) = some 1 := by decide +kernel
theorem w_fX67_isListable_J121 {K : zK} (E : zE K cX67_isListable "RingHouseModel" (some .boolean) 1) (hN : zNl K = 6) (hT : zTr K = (some 0)) (x0 : Int) (x5 : Int) : zR K 121 [(0, 1, x0), (5, 0, x5)] [] (fX67_isListable_J121 x0 x5) := by
  refine r_iload E dX67_isListable_121 1 rfl ?_
  refine r_if_eq E 145 (by decide) dX67_isListable_123 (fun _ => ?_) (fun _ => ?_)
  · refine r_iconst E dX67_isListable_145 (zkI (by decide) (by decide)) ?_
    exact r_zreturn E rfl hT (by decide) dX67_isListable_146
  · refine r_lload_n E dX67_isListable_126 rfl 0 rfl ?_
    refine r_bipush E dX67_isListable_127 (by decide) (zkI (by decide) (by decide)) ?_
    refine r_lshr (P := 262144) E (by decide) dX67_isListable_129 ?_
    refine r_ldc2 (v := 7) E dX67_isListable_130 q3709 (by decide) (zkJ (by decide) (by decide)) ?_
    refine r_lmask (P := 8) E 3 (by decide) (by decide) (by decide) dX67_isListable_133 ?_
    refine r_ldc2 (v := 5) E dX67_isListable_134 q3912 (by decide) (zkJ (by decide) (by decide)) ?_
    refine r_lcmp_ge E 145 (by decide) dX67_isListable_137 dX67_isListable_138 (fun _ => ?_) (fun _ => ?_)
    · refine r_iconst E dX67_isListable_145 (zkI (by decide) (by decide)) ?_
      exact r_zreturn E rfl hT (by decide) dX67_isListable_146
    · refine r_iconst E dX67_isListable_141 (zkI (by decide) (by decide)) ?_
      refine r_goto E 146 (by decide) dX67_isListable_142 ?_
      exact r_zreturn E rfl hT (by decide) dX67_isListable_146
theorem w_fX67_isListable_J87 {K : zK} (E : zE K cX67_isListable "RingHouseModel" (some .boolean) 1) (hN : zNl K = 6) (hT : zTr K = (some 0)) (x0 : Int) (x3 : Int) (x4 : Int) (s0 : Int) (s1 : Int) (s2 : Int) : zR K 87 [(0, 1, x0), (3, 0, x3), (4, 0, x4)] [(1, s2), (1, s1), (1, s0)] (fX67_isListable_J87 x0 x3 x4 s0 s1 s2) := by
  refine r_callS E [(1, s0), (1, s1), (1, s2)] [] rfl q3619 q3620 q294 q3621 dX67_isListable_87 zy_X67_in rfl (by omega) (by decide) (Nat.le_of_ble_eq_true rfl) (fun l G => k_fX67_in l G s0 s1 s2) (fun v4 => ?_)
  refine r_istore (ls' := [(5, 0, v4), (0, 1, x0), (3, 0, x3), (4, 0, x4)]) E dX67_isListable_90 (by rw [hN]; decide) rfl ?_
  refine r_iload_n E dX67_isListable_92 rfl 2 rfl ?_
  refine r_iconst E dX67_isListable_93 (zkI (by decide) (by decide)) ?_
  refine r_icmp_eq E 145 (by decide) dX67_isListable_94 (fun _ => ?_) (fun _ => ?_)
  · refine r_iconst E dX67_isListable_145 (zkI (by decide) (by decide)) ?_
    exact r_zreturn E rfl hT (by decide) dX67_isListable_146
  · refine r_iload_n E dX67_isListable_97 rfl 2 rfl ?_
    refine r_bipush E dX67_isListable_98 (by decide) (zkI (by decide) (by decide)) ?_
    refine r_icmp_ge E 145 (by decide) dX67_isListable_100 (fun _ => ?_) (fun _ => ?_)
    · refine r_iconst E dX67_isListable_145 (zkI (by decide) (by decide)) ?_
      exact r_zreturn E rfl hT (by decide) dX67_isListable_146
    · refine r_iload E dX67_isListable_103 3 rfl ?_
      refine r_if_ne E 121 (by decide) dX67_isListable_105 (fun _ => ?_) (fun _ => ?_)
      · refine r_pick E [1, 0] rfl ?_
        exact w_fX67_isListable_J121 E hN hT x0 v4
      · refine r_lload_n E dX67_isListable_108 rfl 1 rfl ?_
        refine r_bipush E dX67_isListable_109 (by decide) (zkI (by decide) (by decide)) ?_
        refine r_lshr (P := 16777216) E (by decide) dX67_isListable_111 ?_
        refine r_ldc2 (v := 7) E dX67_isListable_112 q3709 (by decide) (zkJ (by decide) (by decide)) ?_
        refine r_lmask (P := 8) E 3 (by decide) (by decide) (by decide) dX67_isListable_115 ?_
        refine r_lconst (v := 0) E dX67_isListable_116 (by decide) (zkJ (by decide) (by decide)) ?_
        refine r_lcmp_ne E 145 (by decide) dX67_isListable_117 dX67_isListable_118 (fun _ => ?_) (fun _ => ?_)
        · refine r_iconst E dX67_isListable_145 (zkI (by decide) (by decide)) ?_
          exact r_zreturn E rfl hT (by decide) dX67_isListable_146
        · refine r_pick E [1, 0] rfl ?_
          exact w_fX67_isListable_J121 E hN hT x0 v4
theorem w_fX67_isListable_J60 {K : zK} (E : zE K cX67_isListable "RingHouseModel" (some .boolean) 1) (hN : zNl K = 6) (hT : zTr K = (some 0)) (x0 : Int) (x2 : Int) (x3 : Int) (s0 : Int) : zR K 60 [(0, 1, x0), (2, 0, x2), (3, 0, x3)] [(0, s0)] (fX67_isListable_J60 x0 x2 x3 s0) := by
  refine r_istore (ls' := [(4, 0, s0), (0, 1, x0), (2, 0, x2), (3, 0, x3)]) E dX67_isListable_60 (by rw [hN]; decide) rfl ?_
  refine r_lload_n E dX67_isListable_62 rfl 1 rfl ?_
  refine r_bipush E dX67_isListable_63 (by decide) (zkI (by decide) (by decide)) ?_
  refine r_lshr (P := 2097152) E (by decide) dX67_isListable_65 ?_
  refine r_ldc2 (v := 7) E dX67_isListable_66 q3709 (by decide) (zkJ (by decide) (by decide)) ?_
  refine r_lmask (P := 8) E 3 (by decide) (by decide) (by decide) dX67_isListable_69 ?_
  refine r_lconst (v := 0) E dX67_isListable_70 (by decide) (zkJ (by decide) (by decide)) ?_
  refine r_iload_n E dX67_isListable_71 rfl 2 rfl ?_
  refine r_callS E [(0, x2)] [(1, 0), (1, ((x0 / 2097152) % 8))] rfl q4192 q4193 q294 q4194 dX67_isListable_72 zy_X67_takesN rfl (by omega) (by decide) (Nat.le_of_ble_eq_true rfl) (fun l G => k_fX67_takesN l G x2) (fun v3 => ?_)
  refine r_if_eq E 86 (by decide) dX67_isListable_75 (fun _ => ?_) (fun _ => ?_)
  · refine r_lconst (v := 0) E dX67_isListable_86 (by decide) (zkJ (by decide) (by decide)) ?_
    refine r_pick E [1, 3, 0] rfl ?_
    exact w_fX67_isListable_J87 E hN hT x0 x3 s0 ((x0 / 2097152) % 8) 0 0
  · refine r_iload_n E dX67_isListable_78 rfl 2 rfl ?_
    refine r_callS E [(0, x2)] [(1, 0), (1, ((x0 / 2097152) % 8))] rfl q4195 q4196 q294 q4197 dX67_isListable_79 zy_X67_mostN rfl (by omega) (by decide) (Nat.le_of_ble_eq_true rfl) (fun l G => k_fX67_mostN l G x2) (fun v5 => ?_)
    refine r_i2l E dX67_isListable_82 ?_
    refine r_goto E 87 (by decide) dX67_isListable_83 ?_
    refine r_pick E [1, 3, 0] rfl ?_
    exact w_fX67_isListable_J87 E hN hT x0 x3 s0 ((x0 / 2097152) % 8) 0 v5
theorem w_fX67_isListable_J55 {K : zK} (E : zE K cX67_isListable "RingHouseModel" (some .boolean) 1) (hN : zNl K = 6) (hT : zTr K = (some 0)) (x0 : Int) (x2 : Int) (x3 : Int) : zR K 55 [(0, 1, x0), (2, 0, x2), (3, 0, x3)] [] (fX67_isListable_J55 x0 x2 x3) := by
  refine r_iconst E dX67_isListable_55 (zkI (by decide) (by decide)) ?_
  refine r_goto E 60 (by decide) dX67_isListable_56 ?_
  exact w_fX67_isListable_J60 E hN hT x0 x2 x3 1
theorem w_fX67_isListable_J45 {K : zK} (E : zE K cX67_isListable "RingHouseModel" (some .boolean) 1) (hN : zNl K = 6) (hT : zTr K = (some 0)) (x0 : Int) (x2 : Int) (x3 : Int) : zR K 45 [(0, 1, x0), (2, 0, x2), (3, 0, x3)] [] (fX67_isListable_J45 x0 x2 x3) := by
  refine r_iload_n E dX67_isListable_45 rfl 2 rfl ?_
  refine r_iconst E dX67_isListable_46 (zkI (by decide) (by decide)) ?_
  refine r_icmp_eq E 55 (by decide) dX67_isListable_47 (fun _ => ?_) (fun _ => ?_)
  · exact w_fX67_isListable_J55 E hN hT x0 x2 x3
  · refine r_iload_n E dX67_isListable_50 rfl 2 rfl ?_
    refine r_iconst E dX67_isListable_51 (zkI (by decide) (by decide)) ?_
    refine r_icmp_ne E 59 (by decide) dX67_isListable_52 (fun _ => ?_) (fun _ => ?_)
    · refine r_iconst E dX67_isListable_59 (zkI (by decide) (by decide)) ?_
      exact w_fX67_isListable_J60 E hN hT x0 x2 x3 0
    · exact w_fX67_isListable_J55 E hN hT x0 x2 x3
theorem w_fX67_isListable_J33 {K : zK} (E : zE K cX67_isListable "RingHouseModel" (some .boolean) 1) (hN : zNl K = 6) (hT : zTr K = (some 0)) (x0 : Int) (x2 : Int) (x3 : Int) : zR K 33 [(0, 1, x0), (2, 0, x2), (3, 0, x3)] [] (fX67_isListable_J33 x0 x2 x3) := by
  refine r_lload_n E dX67_isListable_33 rfl 0 rfl ?_
  refine r_ldc2 (v := 1073741823) E dX67_isListable_34 q4293 (by decide) (zkJ (by decide) (by decide)) ?_
  refine r_lmask (P := 1073741824) E 30 (by decide) (by decide) (by decide) dX67_isListable_37 ?_
  refine r_lconst (v := 0) E dX67_isListable_38 (by decide) (zkJ (by decide) (by decide)) ?_
  refine r_lcmp_eq E 45 (by decide) dX67_isListable_39 dX67_isListable_40 (fun _ => ?_) (fun _ => ?_)
  · exact w_fX67_isListable_J45 E hN hT x0 x2 x3
  · refine r_iconst E dX67_isListable_43 (zkI (by decide) (by decide)) ?_
    exact r_zreturn E rfl hT (by decide) dX67_isListable_44
theorem w_fX67_isListable {K : zK} (E : zE K cX67_isListable "RingHouseModel" (some .boolean) 1) (hN : zNl K = 6) (hT : zTr K = (some 0)) (x0 : Int) : zR K 0 [(0, 1, x0)] [] (fX67_isListable x0) := by
  refine r_lload_n E dX67_isListable_0 rfl 0 rfl ?_
  refine r_bipush E dX67_isListable_1 (by decide) (zkI (by decide) (by decide)) ?_
  refine r_lshr (P := 1073741824) E (by decide) dX67_isListable_3 ?_
  refine r_l2i E dX67_isListable_4 ?_
  refine r_let E (fun v1 ev1 => ?_)
  refine r_istore_n (ls' := [(2, 0, v1), (0, 1, x0)]) E dX67_isListable_5 rfl (by rw [hN]; decide) rfl ?_
  refine r_lload_n E dX67_isListable_6 rfl 1 rfl ?_
  refine r_bipush E dX67_isListable_7 (by decide) (zkI (by decide) (by decide)) ?_
  refine r_lshr (P := 134217728) E (by decide) dX67_isListable_9 ?_
  refine r_ldc2 (v := 7) E dX67_isListable_10 q3709 (by decide) (zkJ (by decide) (by decide)) ?_
  refine r_lmask (P := 8) E 3 (by decide) (by decide) (by decide) dX67_isListable_13 ?_
  refine r_l2i E dX67_isListable_14 ?_
  refine r_let E (fun v2 ev2 => ?_)
  refine r_istore_n (ls' := [(3, 0, v2), (2, 0, v1), (0, 1, x0)]) E dX67_isListable_15 rfl (by rw [hN]; decide) rfl ?_
  refine r_iload_n E dX67_isListable_16 rfl 1 rfl ?_
  refine r_bipush E dX67_isListable_17 (by decide) (zkI (by decide) (by decide)) ?_
  refine r_icmp_gt E 43 (by decide) dX67_isListable_19 (fun _ => ?_) (fun _ => ?_)
  · refine r_iconst E dX67_isListable_43 (zkI (by decide) (by decide)) ?_
    exact r_zreturn E rfl hT (by decide) dX67_isListable_44
  · refine r_iload_n E dX67_isListable_22 rfl 1 rfl ?_
    refine r_iconst E dX67_isListable_23 (zkI (by decide) (by decide)) ?_
    refine r_icmp_lt E 33 (by decide) dX67_isListable_24 (fun _ => ?_) (fun _ => ?_)
    · refine r_pick E [2, 1, 0] rfl ?_
      exact w_fX67_isListable_J33 E hN hT x0 v1 v2
    · refine r_iload_n E dX67_isListable_27 rfl 1 rfl ?_
      refine r_bipush E dX67_isListable_28 (by decide) (zkI (by decide) (by decide)) ?_
      refine r_icmp_le E 45 (by decide) dX67_isListable_30 (fun _ => ?_) (fun _ => ?_)
      · refine r_pick E [2, 1, 0] rfl ?_
        exact w_fX67_isListable_J45 E hN hT x0 v1 v2
      · refine r_pick E [2, 1, 0] rfl ?_
        exact w_fX67_isListable_J33 E hN hT x0 v1 v2
theorem k_fX67_isListable (l : Launch) (G : zG) (x0 : Int) : zCt l G yX67_isListable cX67_isListable 6 (some .boolean) 1 [(1, x0)] (some 0) (fX67_isListable x0) := zCt.of (by decide) (Nat.le_of_ble_eq_true rfl) (fun K E _ _ hN hT => w_fX67_isListable E hN hT x0)
theorem dX67_write_2_0 : decode cX67_write_2 0 = .ok (.aload_n 0, 1) := by decide +kernel
theorem dX67_write_2_1 : decode cX67_write_2 1 = .ok (.getfield 213, 3) := by decide +kernel
theorem dX67_write_2_4 : decode cX67_write_2 4 = .ok (.aload_n 0, 1) := by decide +kernel
theorem dX67_write_2_5 : decode cX67_write_2 5 = .ok (.getfield 992, 3) := by decide +kernel
theorem dX67_write_2_8 : decode cX67_write_2 8 = .ok (.iload_n 1, 1) := by decide +kernel
theorem dX67_write_2_9 : decode cX67_write_2 9 = .ok (.iastore, 1) := by decide +kernel
theorem dX67_write_2_10 : decode cX67_write_2 10 = .ok (.aload_n 0, 1) := by decide +kernel
theorem dX67_write_2_11 : decode cX67_write_2 11 = .ok (.dup, 1) := by decide +kernel
theorem dX67_write_2_12 : decode cX67_write_2 12 = .ok (.getfield 992, 3) := by decide +kernel
theorem dX67_write_2_15 : decode cX67_write_2 15 = .ok (.iconst 1, 1) := by decide +kernel
theorem dX67_write_2_16 : decode cX67_write_2 16 = .ok (.iadd, 1) := by decide +kernel
theorem dX67_write_2_17 : decode cX67_write_2 17 = .ok (.putfield 992, 3) := by decide +kernel
theorem dX67_write_2_20 : decode cX67_write_2 20 = .ok (.return_, 1) := by decide +kernel
theorem zy_X67_write_2 : yX67_write_2.cls ≠ "java/lang/invoke/MethodHandle" ∧ yX67_write_2.cls ≠ "java/lang/invoke/VarHandle" ∧ (parseMethodDescriptor yX67_write_2.desc).map (fun d => d.parameters.length) = some 1 := by decide +kernel
theorem w_fX67_write_2 {K : zK} (E : zE K cX67_write_2 "RingHouseModel" none 0) (hN : zNl K = 2) (hT : zTr K = none) (x1 : Int) : zR K 0 [(0, 69, 0), (1, 0, x1)] [] (fX67_write_2 x1) := by
  refine r_aload_n E dX67_write_2_0 rfl 0 rfl ?_
  refine r_gec (y := 0) E zc_69 dX67_write_2_1 q3286 zr_69 (zh_6871 (by decide)) (by decide) ?_
  refine r_aload_n E dX67_write_2_4 rfl 0 rfl ?_
  refine r_get E zc_69 zt_6870 dX67_write_2_5 q3285 zr_69 (zg_6870 _) (by decide) (fun v1 => ?_)
  refine r_iload_n E dX67_write_2_8 rfl 1 rfl ?_
  refine r_iastore E zc_6871 za_6871 zt_6871 zo_6871 zx_6871 rfl rfl dX67_write_2_9 (by decide) ?_
  refine r_aload_n E dX67_write_2_10 rfl 0 rfl ?_
  refine r_dup E (zn1 rfl) dX67_write_2_11 ?_
  refine r_get E zc_69 zt_6870 dX67_write_2_12 q3285 zr_69 (zg_6870 _) (by decide) (fun v2 => ?_)
  refine r_iconst E dX67_write_2_15 (zkI (by decide) (by decide)) ?_
  refine r_iadd E dX67_write_2_16 ?_
  refine r_put E zc_69 zt_6870 zo_6870 dX67_write_2_17 q3285 zr_69 zw_X67 zp_6870 (fun _ => rfl) (fun _ => rfl) (by decide) ?_
  exact r_return E rfl hT dX67_write_2_20
theorem k_fX67_write_2 (l : Launch) (G : zG) (x1 : Int) : zCt l G yX67_write_2 cX67_write_2 2 none 0 [(69, 0), (0, x1)] none (fX67_write_2 x1) := zCt.of (by decide) (Nat.le_of_ble_eq_true rfl) (fun K E _ _ hN hT => w_fX67_write_2 E hN hT x1)
theorem dX67_writeName_0 : decode cX67_writeName 0 = .ok (.bipush 30, 2) := by decide +kernel
theorem dX67_writeName_2 : decode cX67_writeName 2 = .ok (.istore_n 3, 1) := by decide +kernel
theorem dX67_writeName_3 : decode cX67_writeName 3 = .ok (.iload_n 3, 1) := by decide +kernel
theorem dX67_writeName_4 : decode cX67_writeName 4 = .ok (.ifCond .lt 72, 3) := by decide +kernel
theorem dX67_writeName_7 : decode cX67_writeName 7 = .ok (.lload_n 1, 1) := by decide +kernel
theorem dX67_writeName_8 : decode cX67_writeName 8 = .ok (.iload_n 3, 1) := by decide +kernel
theorem dX67_writeName_9 : decode cX67_writeName 9 = .ok (.lshr, 1) := by decide +kernel
theorem dX67_writeName_10 : decode cX67_writeName 10 = .ok (.ldc2_w 371, 3) := by decide +kernel
theorem dX67_writeName_13 : decode cX67_writeName 13 = .ok (.land, 1) := by decide +kernel
theorem dX67_writeName_14 : decode cX67_writeName 14 = .ok (.l2i, 1) := by decide +kernel
theorem dX67_writeName_15 : decode cX67_writeName 15 = .ok (.istore 4, 2) := by decide +kernel
theorem dX67_writeName_17 : decode cX67_writeName 17 = .ok (.iload 4, 2) := by decide +kernel
theorem dX67_writeName_19 : decode cX67_writeName 19 = .ok (.ifCond .le 51, 3) := by decide +kernel
theorem dX67_writeName_22 : decode cX67_writeName 22 = .ok (.aload_n 0, 1) := by decide +kernel
theorem dX67_writeName_23 : decode cX67_writeName 23 = .ok (.iload 4, 2) := by decide +kernel
theorem dX67_writeName_25 : decode cX67_writeName 25 = .ok (.bipush 27, 2) := by decide +kernel
theorem dX67_writeName_27 : decode cX67_writeName 27 = .ok (.if_icmp .ge 11, 3) := by decide +kernel
theorem dX67_writeName_30 : decode cX67_writeName 30 = .ok (.iload 4, 2) := by decide +kernel
theorem dX67_writeName_32 : decode cX67_writeName 32 = .ok (.bipush 96, 2) := by decide +kernel
theorem dX67_writeName_34 : decode cX67_writeName 34 = .ok (.iadd, 1) := by decide +kernel
theorem dX67_writeName_35 : decode cX67_writeName 35 = .ok (.goto 32, 3) := by decide +kernel
theorem dX67_writeName_38 : decode cX67_writeName 38 = .ok (.iload 4, 2) := by decide +kernel
theorem dX67_writeName_40 : decode cX67_writeName 40 = .ok (.bipush 37, 2) := by decide +kernel
theorem dX67_writeName_42 : decode cX67_writeName 42 = .ok (.if_icmp .ge 11, 3) := by decide +kernel
theorem dX67_writeName_45 : decode cX67_writeName 45 = .ok (.iload 4, 2) := by decide +kernel
theorem dX67_writeName_47 : decode cX67_writeName 47 = .ok (.bipush 21, 2) := by decide +kernel
theorem dX67_writeName_49 : decode cX67_writeName 49 = .ok (.iadd, 1) := by decide +kernel
theorem dX67_writeName_50 : decode cX67_writeName 50 = .ok (.goto 17, 3) := by decide +kernel
theorem dX67_writeName_53 : decode cX67_writeName 53 = .ok (.iload 4, 2) := by decide +kernel
theorem dX67_writeName_55 : decode cX67_writeName 55 = .ok (.bipush 37, 2) := by decide +kernel
theorem dX67_writeName_57 : decode cX67_writeName 57 = .ok (.if_icmp .ne 8, 3) := by decide +kernel
theorem dX67_writeName_60 : decode cX67_writeName 60 = .ok (.bipush 95, 2) := by decide +kernel
theorem dX67_writeName_62 : decode cX67_writeName 62 = .ok (.goto 5, 3) := by decide +kernel
theorem dX67_writeName_65 : decode cX67_writeName 65 = .ok (.bipush 46, 2) := by decide +kernel
theorem dX67_writeName_67 : decode cX67_writeName 67 = .ok (.invokevirtual 995, 3) := by decide +kernel
theorem dX67_writeName_70 : decode cX67_writeName 70 = .ok (.iinc 3 (-6), 3) := by decide +kernel
theorem dX67_writeName_73 : decode cX67_writeName 73 = .ok (.goto (-70), 3) := by decide +kernel
theorem dX67_writeName_76 : decode cX67_writeName 76 = .ok (.return_, 1) := by decide +kernel
theorem zy_X67_writeName : yX67_writeName.cls ≠ "java/lang/invoke/MethodHandle" ∧ yX67_writeName.cls ≠ "java/lang/invoke/VarHandle" ∧ (parseMethodDescriptor yX67_writeName.desc).map (fun d => d.parameters.length) = some 1 := by decide +kernel
theorem w_fX67_writeName_J70 {K : zK} (E : zE K cX67_writeName "RingHouseModel" none 1) (hN : zNl K = 5) (hT : zTr K = none) (x1 : Int) (x3 : Int) {r3 : Int → zX} (hr3 : ∀ s : Int, zR K 3 [(0, 69, 0), (1, 1, x1), (3, 0, s)] [] (r3 s)) : zR K 70 [(0, 69, 0), (1, 1, x1), (3, 0, x3)] [] (fX67_writeName_J70 r3 x1 x3) := by
  refine r_iinc (ls' := fun v2 => [(3, 0, v2), (0, 69, 0), (1, 1, x1)]) E 2 rfl (by rw [hN]; decide) (fun _ => rfl) dX67_writeName_70 (fun v2 _ => ?_)
  refine r_goto E 3 (by decide) dX67_writeName_73 ?_
  refine r_pick E [1, 2, 0] rfl ?_
  exact hr3 v2
theorem w_fX67_writeName_J67 {K : zK} (E : zE K cX67_writeName "RingHouseModel" none 1) (hN : zNl K = 5) (hT : zTr K = none) (x1 : Int) (x3 : Int) (s1 : Int) {r3 : Int → zX} (hr3 : ∀ s : Int, zR K 3 [(0, 69, 0), (1, 1, x1), (3, 0, s)] [] (r3 s)) : zR K 67 [(0, 69, 0), (1, 1, x1), (3, 0, x3)] [(0, s1), (69, 0)] (fX67_writeName_J67 r3 x1 x3 s1) := by
  refine r_callV E [(0, s1)] [] rfl zc_69 zr_69 (fun o _ => ⟨_, zw_X67.1 o, rfl⟩) (lw_V q4298 q4300 qs203 q294 q4301) dX67_writeName_67 zy_X67_write_2 rfl (by omega) (by decide) (Nat.le_of_ble_eq_true rfl) (by decide) (fun l G => k_fX67_write_2 l G s1) (fun _ => ?_)
  exact w_fX67_writeName_J70 E hN hT x1 x3 hr3
theorem w_fX67_writeName_B3 {K : zK} (E : zE K cX67_writeName "RingHouseModel" none 1) (hN : zNl K = 5) (hT : zTr K = none) (x1 : Int) : ∀ r3 : Int → zX, (∀ s : Int, zR K 3 [(0, 69, 0), (1, 1, x1), (3, 0, s)] [] (r3 s)) → ∀ s : Int, zR K 3 [(0, 69, 0), (1, 1, x1), (3, 0, s)] [] (fX67_writeName_B3 x1 r3 s) := by
  intro r3 hr3 x3
  refine r_iload_n E dX67_writeName_3 rfl 2 rfl ?_
  refine r_if_lt E 76 (by decide) dX67_writeName_4 (fun _ => ?_) (fun _ => ?_)
  · exact r_return E rfl hT dX67_writeName_76
  · refine r_lload_n E dX67_writeName_7 rfl 1 rfl ?_
    refine r_iload_n E dX67_writeName_8 rfl 2 rfl ?_
    refine r_lshr E rfl dX67_writeName_9 ?_
    refine r_ldc2 (v := 63) E dX67_writeName_10 q3629 (by decide) (zkJ (by decide) (by decide)) ?_
    refine r_lmask (P := 64) E 6 (by decide) (by decide) (by decide) dX67_writeName_13 ?_
    refine r_l2i E dX67_writeName_14 ?_
    refine r_let E (fun v1 ev1 => ?_)
    refine r_istore (ls' := [(4, 0, v1), (0, 69, 0), (1, 1, x1), (3, 0, x3)]) E dX67_writeName_15 (by rw [hN]; decide) rfl ?_
    refine r_iload E dX67_writeName_17 0 rfl ?_
    refine r_if_le E 70 (by decide) dX67_writeName_19 (fun _ => ?_) (fun _ => ?_)
    · refine r_pick E [1, 2, 3] rfl ?_
      exact w_fX67_writeName_J70 E hN hT x1 x3 hr3
    · refine r_aload_n E dX67_writeName_22 rfl 1 rfl ?_
      refine r_iload E dX67_writeName_23 0 rfl ?_
      refine r_bipush E dX67_writeName_25 (by decide) (zkI (by decide) (by decide)) ?_
      refine r_icmp_ge E 38 (by decide) dX67_writeName_27 (fun _ => ?_) (fun _ => ?_)
      · refine r_iload E dX67_writeName_38 0 rfl ?_
        refine r_bipush E dX67_writeName_40 (by decide) (zkI (by decide) (by decide)) ?_
        refine r_icmp_ge E 53 (by decide) dX67_writeName_42 (fun _ => ?_) (fun _ => ?_)
        · refine r_iload E dX67_writeName_53 0 rfl ?_
          refine r_bipush E dX67_writeName_55 (by decide) (zkI (by decide) (by decide)) ?_
          refine r_icmp_ne E 65 (by decide) dX67_writeName_57 (fun _ => ?_) (fun _ => ?_)
          · refine r_bipush E dX67_writeName_65 (by decide) (zkI (by decide) (by decide)) ?_
            refine r_pick E [1, 2, 3] rfl ?_
            exact w_fX67_writeName_J67 E hN hT x1 x3 46 hr3
          · refine r_bipush E dX67_writeName_60 (by decide) (zkI (by decide) (by decide)) ?_
            refine r_goto E 67 (by decide) dX67_writeName_62 ?_
            refine r_pick E [1, 2, 3] rfl ?_
            exact w_fX67_writeName_J67 E hN hT x1 x3 95 hr3
        · refine r_iload E dX67_writeName_45 0 rfl ?_
          refine r_bipush E dX67_writeName_47 (by decide) (zkI (by decide) (by decide)) ?_
          refine r_iadd E dX67_writeName_49 ?_
          refine r_goto E 67 (by decide) dX67_writeName_50 ?_
          refine r_pick E [1, 2, 3] rfl ?_
          exact w_fX67_writeName_J67 E hN hT x1 x3 (zi (v1 + 21)) hr3
      · refine r_iload E dX67_writeName_30 0 rfl ?_
        refine r_bipush E dX67_writeName_32 (by decide) (zkI (by decide) (by decide)) ?_
        refine r_iadd E dX67_writeName_34 ?_
        refine r_goto E 67 (by decide) dX67_writeName_35 ?_
        refine r_pick E [1, 2, 3] rfl ?_
        exact w_fX67_writeName_J67 E hN hT x1 x3 (zi (v1 + 96)) hr3
theorem w_fX67_writeName {K : zK} (E : zE K cX67_writeName "RingHouseModel" none 1) (hN : zNl K = 5) (hT : zTr K = none) (x1 : Int) : zR K 0 [(0, 69, 0), (1, 1, x1)] [] (fX67_writeName x1) := by
  refine r_bipush E dX67_writeName_0 (by decide) (zkI (by decide) (by decide)) ?_
  refine r_istore_n (ls' := [(3, 0, 30), (0, 69, 0), (1, 1, x1)]) E dX67_writeName_2 rfl (by rw [hN]; decide) rfl ?_
  refine r_pick E [1, 2, 0] rfl ?_
  exact r_loop (L := fun s => [(0, 69, 0), (1, 1, x1), (3, 0, s)]) (w_fX67_writeName_B3 E hN hT x1) zBIG 30
theorem k_fX67_writeName (l : Launch) (G : zG) (x1 : Int) : zCt l G yX67_writeName cX67_writeName 5 none 1 [(69, 0), (1, x1)] none (fX67_writeName x1) := zCt.of (by decide) (Nat.le_of_ble_eq_true rfl) (fun K E _ _ hN hT => w_fX67_writeName E hN hT x1)
theorem dX67_writeNumber_0 : decode cX67_writeNumber 0 = .ok (.lconst 1, 1) := by decide +kernel
theorem dX67_writeNumber_1 : decode cX67_writeNumber 1 = .ok (.lstore_n 3, 1) := by decide +kernel
theorem dX67_writeNumber_2 : decode cX67_writeNumber 2 = .ok (.lload_n 3, 1) := by decide +kernel
theorem dX67_writeNumber_3 : decode cX67_writeNumber 3 = .ok (.ldc2_w 704, 3) := by decide +kernel
theorem dX67_writeNumber_6 : decode cX67_writeNumber 6 = .ok (.lmul, 1) := by decide +kernel
theorem dX67_writeNumber_7 : decode cX67_writeNumber 7 = .ok (.lload_n 1, 1) := by decide +kernel
theorem dX67_writeNumber_8 : decode cX67_writeNumber 8 = .ok (.lcmp, 1) := by decide +kernel
theorem dX67_writeNumber_9 : decode cX67_writeNumber 9 = .ok (.ifCond .gt 12, 3) := by decide +kernel
theorem dX67_writeNumber_12 : decode cX67_writeNumber 12 = .ok (.lload_n 3, 1) := by decide +kernel
theorem dX67_writeNumber_13 : decode cX67_writeNumber 13 = .ok (.ldc2_w 704, 3) := by decide +kernel
theorem dX67_writeNumber_16 : decode cX67_writeNumber 16 = .ok (.lmul, 1) := by decide +kernel
theorem dX67_writeNumber_17 : decode cX67_writeNumber 17 = .ok (.lstore_n 3, 1) := by decide +kernel
theorem dX67_writeNumber_18 : decode cX67_writeNumber 18 = .ok (.goto (-16), 3) := by decide +kernel
theorem dX67_writeNumber_21 : decode cX67_writeNumber 21 = .ok (.lload_n 3, 1) := by decide +kernel
theorem dX67_writeNumber_22 : decode cX67_writeNumber 22 = .ok (.lconst 0, 1) := by decide +kernel
theorem dX67_writeNumber_23 : decode cX67_writeNumber 23 = .ok (.lcmp, 1) := by decide +kernel
theorem dX67_writeNumber_24 : decode cX67_writeNumber 24 = .ok (.ifCond .le 28, 3) := by decide +kernel
theorem dX67_writeNumber_27 : decode cX67_writeNumber 27 = .ok (.aload_n 0, 1) := by decide +kernel
theorem dX67_writeNumber_28 : decode cX67_writeNumber 28 = .ok (.ldc2_w 799, 3) := by decide +kernel
theorem dX67_writeNumber_31 : decode cX67_writeNumber 31 = .ok (.lload_n 1, 1) := by decide +kernel
theorem dX67_writeNumber_32 : decode cX67_writeNumber 32 = .ok (.lload_n 3, 1) := by decide +kernel
theorem dX67_writeNumber_33 : decode cX67_writeNumber 33 = .ok (.ldiv, 1) := by decide +kernel
theorem dX67_writeNumber_34 : decode cX67_writeNumber 34 = .ok (.ldc2_w 704, 3) := by decide +kernel
theorem dX67_writeNumber_37 : decode cX67_writeNumber 37 = .ok (.lrem, 1) := by decide +kernel
theorem dX67_writeNumber_38 : decode cX67_writeNumber 38 = .ok (.ladd, 1) := by decide +kernel
theorem dX67_writeNumber_39 : decode cX67_writeNumber 39 = .ok (.l2i, 1) := by decide +kernel
theorem dX67_writeNumber_40 : decode cX67_writeNumber 40 = .ok (.invokevirtual 995, 3) := by decide +kernel
theorem dX67_writeNumber_43 : decode cX67_writeNumber 43 = .ok (.lload_n 3, 1) := by decide +kernel
theorem dX67_writeNumber_44 : decode cX67_writeNumber 44 = .ok (.ldc2_w 704, 3) := by decide +kernel
theorem dX67_writeNumber_47 : decode cX67_writeNumber 47 = .ok (.ldiv, 1) := by decide +kernel
theorem dX67_writeNumber_48 : decode cX67_writeNumber 48 = .ok (.lstore_n 3, 1) := by decide +kernel
theorem dX67_writeNumber_49 : decode cX67_writeNumber 49 = .ok (.goto (-28), 3) := by decide +kernel
theorem dX67_writeNumber_52 : decode cX67_writeNumber 52 = .ok (.return_, 1) := by decide +kernel
theorem zy_X67_writeNumber : yX67_writeNumber.cls ≠ "java/lang/invoke/MethodHandle" ∧ yX67_writeNumber.cls ≠ "java/lang/invoke/VarHandle" ∧ (parseMethodDescriptor yX67_writeNumber.desc).map (fun d => d.parameters.length) = some 1 := by decide +kernel
theorem w_fX67_writeNumber_B21 {K : zK} (E : zE K cX67_writeNumber "RingHouseModel" none 1) (hN : zNl K = 5) (hT : zTr K = none) (x1 : Int) : ∀ r21 : Int → zX, (∀ s : Int, zR K 21 [(0, 69, 0), (1, 1, x1), (3, 1, s)] [] (r21 s)) → ∀ s : Int, zR K 21 [(0, 69, 0), (1, 1, x1), (3, 1, s)] [] (fX67_writeNumber_B21 x1 r21 s) := by
  intro r21 hr21 x3
  refine r_lload_n E dX67_writeNumber_21 rfl 2 rfl ?_
  refine r_lconst (v := 0) E dX67_writeNumber_22 (by decide) (zkJ (by decide) (by decide)) ?_
  refine r_lcmp_le E 52 (by decide) dX67_writeNumber_23 dX67_writeNumber_24 (fun _ => ?_) (fun _ => ?_)
  · exact r_return E rfl hT dX67_writeNumber_52
  · refine r_aload_n E dX67_writeNumber_27 rfl 0 rfl ?_
    refine r_ldc2 (v := 48) E dX67_writeNumber_28 q4153 (by decide) (zkJ (by decide) (by decide)) ?_
    refine r_lload_n E dX67_writeNumber_31 rfl 1 rfl ?_
    refine r_lload_n E dX67_writeNumber_32 rfl 2 rfl ?_
    refine r_ne E (fun hq1 => ?_)
    refine r_ldiv E hq1 dX67_writeNumber_33 ?_
    refine r_ldc2 (v := 10) E dX67_writeNumber_34 q3940 (by decide) (zkJ (by decide) (by decide)) ?_
    refine r_lrem E (by decide) dX67_writeNumber_37 ?_
    refine r_ladd E dX67_writeNumber_38 ?_
    refine r_l2i E dX67_writeNumber_39 ?_
    refine r_callV E [(0, (zi (zl (48 + (Int.tmod (zl (Int.tdiv x1 x3)) 10)))))] [] rfl zc_69 zr_69 (fun o _ => ⟨_, zw_X67.1 o, rfl⟩) (lw_V q4298 q4300 qs203 q294 q4301) dX67_writeNumber_40 zy_X67_write_2 rfl (by omega) (by decide) (Nat.le_of_ble_eq_true rfl) (by decide) (fun l G => k_fX67_write_2 l G (zi (zl (48 + (Int.tmod (zl (Int.tdiv x1 x3)) 10))))) (fun _ => ?_)
    refine r_lload_n E dX67_writeNumber_43 rfl 2 rfl ?_
    refine r_ldc2 (v := 10) E dX67_writeNumber_44 q3940 (by decide) (zkJ (by decide) (by decide)) ?_
    refine r_ldiv E (by decide) dX67_writeNumber_47 ?_
    refine r_let E (fun v3 ev3 => ?_)
    refine r_lstore_n (ls' := [(3, 1, v3), (0, 69, 0), (1, 1, x1)]) E dX67_writeNumber_48 rfl (by rw [hN]; decide) rfl ?_
    refine r_goto E 21 (by decide) dX67_writeNumber_49 ?_
    refine r_pick E [1, 2, 0] rfl ?_
    exact hr21 v3
theorem w_fX67_writeNumber_B2 {K : zK} (E : zE K cX67_writeNumber "RingHouseModel" none 1) (hN : zNl K = 5) (hT : zTr K = none) (x1 : Int) : ∀ r2 : Int → zX, (∀ s : Int, zR K 2 [(0, 69, 0), (1, 1, x1), (3, 1, s)] [] (r2 s)) → ∀ s : Int, zR K 2 [(0, 69, 0), (1, 1, x1), (3, 1, s)] [] (fX67_writeNumber_B2 x1 r2 s) := by
  intro r2 hr2 x3
  refine r_lload_n E dX67_writeNumber_2 rfl 2 rfl ?_
  refine r_ldc2 (v := 10) E dX67_writeNumber_3 q3940 (by decide) (zkJ (by decide) (by decide)) ?_
  refine r_lmul E dX67_writeNumber_6 ?_
  refine r_lload_n E dX67_writeNumber_7 rfl 1 rfl ?_
  refine r_lcmp_gt E 21 (by decide) dX67_writeNumber_8 dX67_writeNumber_9 (fun _ => ?_) (fun _ => ?_)
  · exact r_loop (L := fun s => [(0, 69, 0), (1, 1, x1), (3, 1, s)]) (w_fX67_writeNumber_B21 E hN hT x1) zBIG x3
  · refine r_lload_n E dX67_writeNumber_12 rfl 2 rfl ?_
    refine r_ldc2 (v := 10) E dX67_writeNumber_13 q3940 (by decide) (zkJ (by decide) (by decide)) ?_
    refine r_lmul E dX67_writeNumber_16 ?_
    refine r_let E (fun v4 ev4 => ?_)
    refine r_lstore_n (ls' := [(3, 1, v4), (0, 69, 0), (1, 1, x1)]) E dX67_writeNumber_17 rfl (by rw [hN]; decide) rfl ?_
    refine r_goto E 2 (by decide) dX67_writeNumber_18 ?_
    refine r_pick E [1, 2, 0] rfl ?_
    exact hr2 v4
theorem w_fX67_writeNumber {K : zK} (E : zE K cX67_writeNumber "RingHouseModel" none 1) (hN : zNl K = 5) (hT : zTr K = none) (x1 : Int) : zR K 0 [(0, 69, 0), (1, 1, x1)] [] (fX67_writeNumber x1) := by
  refine r_lconst (v := 1) E dX67_writeNumber_0 (by decide) (zkJ (by decide) (by decide)) ?_
  refine r_lstore_n (ls' := [(3, 1, 1), (0, 69, 0), (1, 1, x1)]) E dX67_writeNumber_1 rfl (by rw [hN]; decide) rfl ?_
  refine r_pick E [1, 2, 0] rfl ?_
  exact r_loop (L := fun s => [(0, 69, 0), (1, 1, x1), (3, 1, s)]) (w_fX67_writeNumber_B2 E hN hT x1) zBIG 1
theorem k_fX67_writeNumber (l : Launch) (G : zG) (x1 : Int) : zCt l G yX67_writeNumber cX67_writeNumber 5 none 1 [(69, 0), (1, x1)] none (fX67_writeNumber x1) := zCt.of (by decide) (Nat.le_of_ble_eq_true rfl) (fun K E _ _ hN hT => w_fX67_writeNumber E hN hT x1)
theorem dX67_list_0 : decode cX67_list 0 = .ok (.lload_n 1, 1) := by decide +kernel
theorem dX67_list_1 : decode cX67_list 1 = .ok (.invokestatic 367, 3) := by decide +kernel
theorem dX67_list_4 : decode cX67_list 4 = .ok (.ifCond .ne 6, 3) := by decide +kernel
theorem dX67_list_7 : decode cX67_list 7 = .ok (.bipush (-8), 2) := by decide +kernel
theorem dX67_list_9 : decode cX67_list 9 = .ok (.ireturn, 1) := by decide +kernel
theorem dX67_list_10 : decode cX67_list 10 = .ok (.aload_n 0, 1) := by decide +kernel
theorem dX67_list_11 : decode cX67_list 11 = .ok (.iconst 0, 1) := by decide +kernel
theorem dX67_list_12 : decode cX67_list 12 = .ok (.putfield 992, 3) := by decide +kernel
theorem dX67_list_15 : decode cX67_list 15 = .ok (.lload_n 1, 1) := by decide +kernel
theorem dX67_list_16 : decode cX67_list 16 = .ok (.invokestatic 999, 3) := by decide +kernel
theorem dX67_list_19 : decode cX67_list 19 = .ok (.ifCond .ne 29, 3) := by decide +kernel
theorem dX67_list_22 : decode cX67_list 22 = .ok (.aload_n 0, 1) := by decide +kernel
theorem dX67_list_23 : decode cX67_list 23 = .ok (.aload_n 0, 1) := by decide +kernel
theorem dX67_list_24 : decode cX67_list 24 = .ok (.getfield 328, 3) := by decide +kernel
theorem dX67_list_27 : decode cX67_list 27 = .ok (.iconst 0, 1) := by decide +kernel
theorem dX67_list_28 : decode cX67_list 28 = .ok (.laload, 1) := by decide +kernel
theorem dX67_list_29 : decode cX67_list 29 = .ok (.invokevirtual 1002, 3) := by decide +kernel
theorem dX67_list_32 : decode cX67_list 32 = .ok (.aload_n 0, 1) := by decide +kernel
theorem dX67_list_33 : decode cX67_list 33 = .ok (.bipush 32, 2) := by decide +kernel
theorem dX67_list_35 : decode cX67_list 35 = .ok (.invokevirtual 995, 3) := by decide +kernel
theorem dX67_list_38 : decode cX67_list 38 = .ok (.aload_n 0, 1) := by decide +kernel
theorem dX67_list_39 : decode cX67_list 39 = .ok (.lload_n 1, 1) := by decide +kernel
theorem dX67_list_40 : decode cX67_list 40 = .ok (.invokevirtual 1005, 3) := by decide +kernel
theorem dX67_list_43 : decode cX67_list 43 = .ok (.aload_n 0, 1) := by decide +kernel
theorem dX67_list_44 : decode cX67_list 44 = .ok (.getfield 992, 3) := by decide +kernel
theorem dX67_list_47 : decode cX67_list 47 = .ok (.ireturn, 1) := by decide +kernel
theorem dX67_list_48 : decode cX67_list 48 = .ok (.lload_n 1, 1) := by decide +kernel
theorem dX67_list_49 : decode cX67_list 49 = .ok (.bipush 30, 2) := by decide +kernel
theorem dX67_list_51 : decode cX67_list 51 = .ok (.lshr, 1) := by decide +kernel
theorem dX67_list_52 : decode cX67_list 52 = .ok (.l2i, 1) := by decide +kernel
theorem dX67_list_53 : decode cX67_list 53 = .ok (.istore_n 3, 1) := by decide +kernel
theorem dX67_list_54 : decode cX67_list 54 = .ok (.lload_n 1, 1) := by decide +kernel
theorem dX67_list_55 : decode cX67_list 55 = .ok (.bipush 27, 2) := by decide +kernel
theorem dX67_list_57 : decode cX67_list 57 = .ok (.lshr, 1) := by decide +kernel
theorem dX67_list_58 : decode cX67_list 58 = .ok (.ldc2_w 476, 3) := by decide +kernel
theorem dX67_list_61 : decode cX67_list 61 = .ok (.land, 1) := by decide +kernel
theorem dX67_list_62 : decode cX67_list 62 = .ok (.l2i, 1) := by decide +kernel
theorem dX67_list_63 : decode cX67_list 63 = .ok (.istore 4, 2) := by decide +kernel
theorem dX67_list_65 : decode cX67_list 65 = .ok (.aload_n 0, 1) := by decide +kernel
theorem dX67_list_66 : decode cX67_list 66 = .ok (.aload_n 0, 1) := by decide +kernel
theorem dX67_list_67 : decode cX67_list 67 = .ok (.getfield 317, 3) := by decide +kernel
theorem dX67_list_70 : decode cX67_list 70 = .ok (.iload_n 3, 1) := by decide +kernel
theorem dX67_list_71 : decode cX67_list 71 = .ok (.laload, 1) := by decide +kernel
theorem dX67_list_72 : decode cX67_list 72 = .ok (.invokevirtual 1002, 3) := by decide +kernel
theorem dX67_list_75 : decode cX67_list 75 = .ok (.iload_n 3, 1) := by decide +kernel
theorem dX67_list_76 : decode cX67_list 76 = .ok (.invokestatic 870, 3) := by decide +kernel
theorem dX67_list_79 : decode cX67_list 79 = .ok (.ifCond .eq 15, 3) := by decide +kernel
theorem dX67_list_82 : decode cX67_list 82 = .ok (.aload_n 0, 1) := by decide +kernel
theorem dX67_list_83 : decode cX67_list 83 = .ok (.lload_n 1, 1) := by decide +kernel
theorem dX67_list_84 : decode cX67_list 84 = .ok (.bipush 21, 2) := by decide +kernel
theorem dX67_list_86 : decode cX67_list 86 = .ok (.lshr, 1) := by decide +kernel
theorem dX67_list_87 : decode cX67_list 87 = .ok (.ldc2_w 476, 3) := by decide +kernel
theorem dX67_list_90 : decode cX67_list 90 = .ok (.land, 1) := by decide +kernel
theorem dX67_list_91 : decode cX67_list 91 = .ok (.invokevirtual 1005, 3) := by decide +kernel
theorem dX67_list_94 : decode cX67_list 94 = .ok (.iload_n 3, 1) := by decide +kernel
theorem dX67_list_95 : decode cX67_list 95 = .ok (.iconst 2, 1) := by decide +kernel
theorem dX67_list_96 : decode cX67_list 96 = .ok (.if_icmp .lt 9, 3) := by decide +kernel
theorem dX67_list_99 : decode cX67_list 99 = .ok (.iload_n 3, 1) := by decide +kernel
theorem dX67_list_100 : decode cX67_list 100 = .ok (.bipush 35, 2) := by decide +kernel
theorem dX67_list_102 : decode cX67_list 102 = .ok (.if_icmp .le 8, 3) := by decide +kernel
theorem dX67_list_105 : decode cX67_list 105 = .ok (.aload_n 0, 1) := by decide +kernel
theorem dX67_list_106 : decode cX67_list 106 = .ok (.getfield 992, 3) := by decide +kernel
theorem dX67_list_109 : decode cX67_list 109 = .ok (.ireturn, 1) := by decide +kernel
theorem dX67_list_110 : decode cX67_list 110 = .ok (.aload_n 0, 1) := by decide +kernel
theorem dX67_list_111 : decode cX67_list 111 = .ok (.bipush 32, 2) := by decide +kernel
theorem dX67_list_113 : decode cX67_list 113 = .ok (.invokevirtual 995, 3) := by decide +kernel
theorem dX67_list_116 : decode cX67_list 116 = .ok (.iload 4, 2) := by decide +kernel
theorem dX67_list_118 : decode cX67_list 118 = .ok (.iconst 2, 1) := by decide +kernel
theorem dX67_list_119 : decode cX67_list 119 = .ok (.if_icmp .ne 12, 3) := by decide +kernel
theorem dX67_list_122 : decode cX67_list 122 = .ok (.aload_n 0, 1) := by decide +kernel
theorem dX67_list_123 : decode cX67_list 123 = .ok (.bipush 35, 2) := by decide +kernel
theorem dX67_list_125 : decode cX67_list 125 = .ok (.invokevirtual 995, 3) := by decide +kernel
theorem dX67_list_128 : decode cX67_list 128 = .ok (.goto 39, 3) := by decide +kernel
theorem dX67_list_131 : decode cX67_list 131 = .ok (.iload 4, 2) := by decide +kernel
theorem dX67_list_133 : decode cX67_list 133 = .ok (.iconst 1, 1) := by decide +kernel
theorem dX67_list_134 : decode cX67_list 134 = .ok (.if_icmp .eq 9, 3) := by decide +kernel
theorem dX67_list_137 : decode cX67_list 137 = .ok (.iload 4, 2) := by decide +kernel
theorem dX67_list_139 : decode cX67_list 139 = .ok (.iconst 5, 1) := by decide +kernel
theorem dX67_list_140 : decode cX67_list 140 = .ok (.if_icmp .ne 27, 3) := by decide +kernel
theorem dX67_list_143 : decode cX67_list 143 = .ok (.aload_n 0, 1) := by decide +kernel
theorem dX67_list_144 : decode cX67_list 144 = .ok (.bipush 112, 2) := by decide +kernel
theorem dX67_list_146 : decode cX67_list 146 = .ok (.invokevirtual 995, 3) := by decide +kernel
theorem dX67_list_149 : decode cX67_list 149 = .ok (.aload_n 0, 1) := by decide +kernel
theorem dX67_list_150 : decode cX67_list 150 = .ok (.lload_n 1, 1) := by decide +kernel
theorem dX67_list_151 : decode cX67_list 151 = .ok (.bipush 24, 2) := by decide +kernel
theorem dX67_list_153 : decode cX67_list 153 = .ok (.lshr, 1) := by decide +kernel
theorem dX67_list_154 : decode cX67_list 154 = .ok (.ldc2_w 476, 3) := by decide +kernel
theorem dX67_list_157 : decode cX67_list 157 = .ok (.land, 1) := by decide +kernel
theorem dX67_list_158 : decode cX67_list 158 = .ok (.invokevirtual 1005, 3) := by decide +kernel
theorem dX67_list_161 : decode cX67_list 161 = .ok (.aload_n 0, 1) := by decide +kernel
theorem dX67_list_162 : decode cX67_list 162 = .ok (.bipush 124, 2) := by decide +kernel
theorem dX67_list_164 : decode cX67_list 164 = .ok (.invokevirtual 995, 3) := by decide +kernel
theorem dX67_list_167 : decode cX67_list 167 = .ok (.aload_n 0, 1) := by decide +kernel
theorem dX67_list_168 : decode cX67_list 168 = .ok (.lload_n 1, 1) := by decide +kernel
theorem dX67_list_169 : decode cX67_list 169 = .ok (.ldc2_w 582, 3) := by decide +kernel
theorem dX67_list_172 : decode cX67_list 172 = .ok (.land, 1) := by decide +kernel
theorem dX67_list_173 : decode cX67_list 173 = .ok (.invokevirtual 1005, 3) := by decide +kernel
theorem dX67_list_176 : decode cX67_list 176 = .ok (.iload 4, 2) := by decide +kernel
theorem dX67_list_178 : decode cX67_list 178 = .ok (.iconst 3, 1) := by decide +kernel
theorem dX67_list_179 : decode cX67_list 179 = .ok (.if_icmp .le 9, 3) := by decide +kernel
theorem dX67_list_182 : decode cX67_list 182 = .ok (.aload_n 0, 1) := by decide +kernel
theorem dX67_list_183 : decode cX67_list 183 = .ok (.bipush 42, 2) := by decide +kernel
theorem dX67_list_185 : decode cX67_list 185 = .ok (.invokevirtual 995, 3) := by decide +kernel
theorem dX67_list_188 : decode cX67_list 188 = .ok (.lload_n 1, 1) := by decide +kernel
theorem dX67_list_189 : decode cX67_list 189 = .ok (.bipush 18, 2) := by decide +kernel
theorem dX67_list_191 : decode cX67_list 191 = .ok (.lshr, 1) := by decide +kernel
theorem dX67_list_192 : decode cX67_list 192 = .ok (.ldc2_w 476, 3) := by decide +kernel
theorem dX67_list_195 : decode cX67_list 195 = .ok (.land, 1) := by decide +kernel
theorem dX67_list_196 : decode cX67_list 196 = .ok (.lconst 0, 1) := by decide +kernel
theorem dX67_list_197 : decode cX67_list 197 = .ok (.lcmp, 1) := by decide +kernel
theorem dX67_list_198 : decode cX67_list 198 = .ok (.ifCond .le 29, 3) := by decide +kernel
theorem dX67_list_201 : decode cX67_list 201 = .ok (.aload_n 0, 1) := by decide +kernel
theorem dX67_list_202 : decode cX67_list 202 = .ok (.bipush 44, 2) := by decide +kernel
theorem dX67_list_204 : decode cX67_list 204 = .ok (.invokevirtual 995, 3) := by decide +kernel
theorem dX67_list_207 : decode cX67_list 207 = .ok (.aload_n 0, 1) := by decide +kernel
theorem dX67_list_208 : decode cX67_list 208 = .ok (.bipush 120, 2) := by decide +kernel
theorem dX67_list_210 : decode cX67_list 210 = .ok (.invokevirtual 995, 3) := by decide +kernel
theorem dX67_list_213 : decode cX67_list 213 = .ok (.aload_n 0, 1) := by decide +kernel
theorem dX67_list_214 : decode cX67_list 214 = .ok (.lload_n 1, 1) := by decide +kernel
theorem dX67_list_215 : decode cX67_list 215 = .ok (.bipush 18, 2) := by decide +kernel
theorem dX67_list_217 : decode cX67_list 217 = .ok (.lshr, 1) := by decide +kernel
theorem dX67_list_218 : decode cX67_list 218 = .ok (.ldc2_w 476, 3) := by decide +kernel
theorem dX67_list_221 : decode cX67_list 221 = .ok (.land, 1) := by decide +kernel
theorem dX67_list_222 : decode cX67_list 222 = .ok (.lconst 1, 1) := by decide +kernel
theorem dX67_list_223 : decode cX67_list 223 = .ok (.lsub, 1) := by decide +kernel
theorem dX67_list_224 : decode cX67_list 224 = .ok (.invokevirtual 1005, 3) := by decide +kernel
theorem dX67_list_227 : decode cX67_list 227 = .ok (.aload_n 0, 1) := by decide +kernel
theorem dX67_list_228 : decode cX67_list 228 = .ok (.getfield 992, 3) := by decide +kernel
theorem dX67_list_231 : decode cX67_list 231 = .ok (.ireturn, 1) := by decide +kernel
theorem zy_X67_list : yX67_list.cls ≠ "java/lang/invoke/MethodHandle" ∧ yX67_list.cls ≠ "java/lang/invoke/VarHandle" ∧ (parseMethodDescriptor yX67_list.desc).map (fun d => d.parameters.length) = some 1 := by decide +kernel
theorem w_fX67_list_J105 {K : zK} (E : zE K cX67_list "RingHouseModel" (some .int) 2) (hN : zNl K = 5) (hT : zTr K = (some 0)) : zR K 105 [(0, 69, 0)] [] (fX67_list_J105) := by
  refine r_aload_n E dX67_list_105 rfl 0 rfl ?_
  refine r_get E zc_69 zt_6870 dX67_list_106 q3285 zr_69 (zg_6870 _) (by decide) (fun v8 => ?_)
  exact r_ireturn E rfl hT dX67_list_109
theorem w_fX67_list_J227 {K : zK} (E : zE K cX67_list "RingHouseModel" (some .int) 2) (hN : zNl K = 5) (hT : zTr K = (some 0)) : zR K 227 [(0, 69, 0)] [] (fX67_list_J227) := by
  refine r_aload_n E dX67_list_227 rfl 0 rfl ?_
  refine r_get E zc_69 zt_6870 dX67_list_228 q3285 zr_69 (zg_6870 _) (by decide) (fun v14 => ?_)
  exact r_ireturn E rfl hT dX67_list_231
theorem w_fX67_list_J188 {K : zK} (E : zE K cX67_list "RingHouseModel" (some .int) 2) (hN : zNl K = 5) (hT : zTr K = (some 0)) (x1 : Int) : zR K 188 [(0, 69, 0), (1, 1, x1)] [] (fX67_list_J188 x1) := by
  refine r_lload_n E dX67_list_188 rfl 1 rfl ?_
  refine r_bipush E dX67_list_189 (by decide) (zkI (by decide) (by decide)) ?_
  refine r_lshr (P := 262144) E (by decide) dX67_list_191 ?_
  refine r_ldc2 (v := 7) E dX67_list_192 q3709 (by decide) (zkJ (by decide) (by decide)) ?_
  refine r_lmask (P := 8) E 3 (by decide) (by decide) (by decide) dX67_list_195 ?_
  refine r_lconst (v := 0) E dX67_list_196 (by decide) (zkJ (by decide) (by decide)) ?_
  refine r_lcmp_le E 227 (by decide) dX67_list_197 dX67_list_198 (fun _ => ?_) (fun _ => ?_)
  · refine r_pick E [0] rfl ?_
    exact w_fX67_list_J227 E hN hT
  · refine r_aload_n E dX67_list_201 rfl 0 rfl ?_
    refine r_bipush E dX67_list_202 (by decide) (zkI (by decide) (by decide)) ?_
    refine r_callV E [(0, 44)] [] rfl zc_69 zr_69 (fun o _ => ⟨_, zw_X67.1 o, rfl⟩) (lw_V q4298 q4300 qs203 q294 q4301) dX67_list_204 zy_X67_write_2 rfl (by omega) (by decide) (Nat.le_of_ble_eq_true rfl) (by decide) (fun l G => k_fX67_write_2 l G 44) (fun _ => ?_)
    refine r_aload_n E dX67_list_207 rfl 0 rfl ?_
    refine r_bipush E dX67_list_208 (by decide) (zkI (by decide) (by decide)) ?_
    refine r_callV E [(0, 120)] [] rfl zc_69 zr_69 (fun o _ => ⟨_, zw_X67.1 o, rfl⟩) (lw_V q4298 q4300 qs203 q294 q4301) dX67_list_210 zy_X67_write_2 rfl (by omega) (by decide) (Nat.le_of_ble_eq_true rfl) (by decide) (fun l G => k_fX67_write_2 l G 120) (fun _ => ?_)
    refine r_aload_n E dX67_list_213 rfl 0 rfl ?_
    refine r_lload_n E dX67_list_214 rfl 1 rfl ?_
    refine r_bipush E dX67_list_215 (by decide) (zkI (by decide) (by decide)) ?_
    refine r_lshr (P := 262144) E (by decide) dX67_list_217 ?_
    refine r_ldc2 (v := 7) E dX67_list_218 q3709 (by decide) (zkJ (by decide) (by decide)) ?_
    refine r_lmask (P := 8) E 3 (by decide) (by decide) (by decide) dX67_list_221 ?_
    refine r_lconst (v := 1) E dX67_list_222 (by decide) (zkJ (by decide) (by decide)) ?_
    refine r_lsub E dX67_list_223 ?_
    refine r_callV E [(1, (zl (((x1 / 262144) % 8) - 1)))] [] rfl zc_69 zr_69 (fun o _ => ⟨_, zw_X67.1 o, rfl⟩) (lw_V q4302 q4304 qs204 q294 q4305) dX67_list_224 zy_X67_writeNumber rfl (by omega) (by decide) (Nat.le_of_ble_eq_true rfl) (by decide) (fun l G => k_fX67_writeNumber l G (zl (((x1 / 262144) % 8) - 1))) (fun _ => ?_)
    refine r_pick E [0] rfl ?_
    exact w_fX67_list_J227 E hN hT
theorem w_fX67_list_J167 {K : zK} (E : zE K cX67_list "RingHouseModel" (some .int) 2) (hN : zNl K = 5) (hT : zTr K = (some 0)) (x1 : Int) (x4 : Int) : zR K 167 [(0, 69, 0), (1, 1, x1), (4, 0, x4)] [] (fX67_list_J167 x1 x4) := by
  refine r_aload_n E dX67_list_167 rfl 0 rfl ?_
  refine r_lload_n E dX67_list_168 rfl 1 rfl ?_
  refine r_ldc2 (v := 262143) E dX67_list_169 q3807 (by decide) (zkJ (by decide) (by decide)) ?_
  refine r_lmask (P := 262144) E 18 (by decide) (by decide) (by decide) dX67_list_172 ?_
  refine r_callV E [(1, (x1 % 262144))] [] rfl zc_69 zr_69 (fun o _ => ⟨_, zw_X67.1 o, rfl⟩) (lw_V q4302 q4304 qs204 q294 q4305) dX67_list_173 zy_X67_writeNumber rfl (by omega) (by decide) (Nat.le_of_ble_eq_true rfl) (by decide) (fun l G => k_fX67_writeNumber l G (x1 % 262144)) (fun _ => ?_)
  refine r_iload E dX67_list_176 2 rfl ?_
  refine r_iconst E dX67_list_178 (zkI (by decide) (by decide)) ?_
  refine r_icmp_le E 188 (by decide) dX67_list_179 (fun _ => ?_) (fun _ => ?_)
  · refine r_pick E [0, 1] rfl ?_
    exact w_fX67_list_J188 E hN hT x1
  · refine r_aload_n E dX67_list_182 rfl 0 rfl ?_
    refine r_bipush E dX67_list_183 (by decide) (zkI (by decide) (by decide)) ?_
    refine r_callV E [(0, 42)] [] rfl zc_69 zr_69 (fun o _ => ⟨_, zw_X67.1 o, rfl⟩) (lw_V q4298 q4300 qs203 q294 q4301) dX67_list_185 zy_X67_write_2 rfl (by omega) (by decide) (Nat.le_of_ble_eq_true rfl) (by decide) (fun l G => k_fX67_write_2 l G 42) (fun _ => ?_)
    refine r_pick E [0, 1] rfl ?_
    exact w_fX67_list_J188 E hN hT x1
theorem w_fX67_list_J143 {K : zK} (E : zE K cX67_list "RingHouseModel" (some .int) 2) (hN : zNl K = 5) (hT : zTr K = (some 0)) (x1 : Int) (x4 : Int) : zR K 143 [(0, 69, 0), (1, 1, x1), (4, 0, x4)] [] (fX67_list_J143 x1 x4) := by
  refine r_aload_n E dX67_list_143 rfl 0 rfl ?_
  refine r_bipush E dX67_list_144 (by decide) (zkI (by decide) (by decide)) ?_
  refine r_callV E [(0, 112)] [] rfl zc_69 zr_69 (fun o _ => ⟨_, zw_X67.1 o, rfl⟩) (lw_V q4298 q4300 qs203 q294 q4301) dX67_list_146 zy_X67_write_2 rfl (by omega) (by decide) (Nat.le_of_ble_eq_true rfl) (by decide) (fun l G => k_fX67_write_2 l G 112) (fun _ => ?_)
  refine r_aload_n E dX67_list_149 rfl 0 rfl ?_
  refine r_lload_n E dX67_list_150 rfl 1 rfl ?_
  refine r_bipush E dX67_list_151 (by decide) (zkI (by decide) (by decide)) ?_
  refine r_lshr (P := 16777216) E (by decide) dX67_list_153 ?_
  refine r_ldc2 (v := 7) E dX67_list_154 q3709 (by decide) (zkJ (by decide) (by decide)) ?_
  refine r_lmask (P := 8) E 3 (by decide) (by decide) (by decide) dX67_list_157 ?_
  refine r_callV E [(1, ((x1 / 16777216) % 8))] [] rfl zc_69 zr_69 (fun o _ => ⟨_, zw_X67.1 o, rfl⟩) (lw_V q4302 q4304 qs204 q294 q4305) dX67_list_158 zy_X67_writeNumber rfl (by omega) (by decide) (Nat.le_of_ble_eq_true rfl) (by decide) (fun l G => k_fX67_writeNumber l G ((x1 / 16777216) % 8)) (fun _ => ?_)
  refine r_aload_n E dX67_list_161 rfl 0 rfl ?_
  refine r_bipush E dX67_list_162 (by decide) (zkI (by decide) (by decide)) ?_
  refine r_callV E [(0, 124)] [] rfl zc_69 zr_69 (fun o _ => ⟨_, zw_X67.1 o, rfl⟩) (lw_V q4298 q4300 qs203 q294 q4301) dX67_list_164 zy_X67_write_2 rfl (by omega) (by decide) (Nat.le_of_ble_eq_true rfl) (by decide) (fun l G => k_fX67_write_2 l G 124) (fun _ => ?_)
  exact w_fX67_list_J167 E hN hT x1 x4
theorem w_fX67_list_J94 {K : zK} (E : zE K cX67_list "RingHouseModel" (some .int) 2) (hN : zNl K = 5) (hT : zTr K = (some 0)) (x1 : Int) (x3 : Int) (x4 : Int) : zR K 94 [(0, 69, 0), (1, 1, x1), (3, 0, x3), (4, 0, x4)] [] (fX67_list_J94 x1 x3 x4) := by
  refine r_iload_n E dX67_list_94 rfl 2 rfl ?_
  refine r_iconst E dX67_list_95 (zkI (by decide) (by decide)) ?_
  refine r_icmp_lt E 105 (by decide) dX67_list_96 (fun _ => ?_) (fun _ => ?_)
  · refine r_pick E [0] rfl ?_
    exact w_fX67_list_J105 E hN hT
  · refine r_iload_n E dX67_list_99 rfl 2 rfl ?_
    refine r_bipush E dX67_list_100 (by decide) (zkI (by decide) (by decide)) ?_
    refine r_icmp_le E 110 (by decide) dX67_list_102 (fun _ => ?_) (fun _ => ?_)
    · refine r_aload_n E dX67_list_110 rfl 0 rfl ?_
      refine r_bipush E dX67_list_111 (by decide) (zkI (by decide) (by decide)) ?_
      refine r_callV E [(0, 32)] [] rfl zc_69 zr_69 (fun o _ => ⟨_, zw_X67.1 o, rfl⟩) (lw_V q4298 q4300 qs203 q294 q4301) dX67_list_113 zy_X67_write_2 rfl (by omega) (by decide) (Nat.le_of_ble_eq_true rfl) (by decide) (fun l G => k_fX67_write_2 l G 32) (fun _ => ?_)
      refine r_iload E dX67_list_116 3 rfl ?_
      refine r_iconst E dX67_list_118 (zkI (by decide) (by decide)) ?_
      refine r_icmp_ne E 131 (by decide) dX67_list_119 (fun _ => ?_) (fun _ => ?_)
      · refine r_iload E dX67_list_131 3 rfl ?_
        refine r_iconst E dX67_list_133 (zkI (by decide) (by decide)) ?_
        refine r_icmp_eq E 143 (by decide) dX67_list_134 (fun _ => ?_) (fun _ => ?_)
        · refine r_pick E [0, 1, 3] rfl ?_
          exact w_fX67_list_J143 E hN hT x1 x4
        · refine r_iload E dX67_list_137 3 rfl ?_
          refine r_iconst E dX67_list_139 (zkI (by decide) (by decide)) ?_
          refine r_icmp_ne E 167 (by decide) dX67_list_140 (fun _ => ?_) (fun _ => ?_)
          · refine r_pick E [0, 1, 3] rfl ?_
            exact w_fX67_list_J167 E hN hT x1 x4
          · refine r_pick E [0, 1, 3] rfl ?_
            exact w_fX67_list_J143 E hN hT x1 x4
      · refine r_aload_n E dX67_list_122 rfl 0 rfl ?_
        refine r_bipush E dX67_list_123 (by decide) (zkI (by decide) (by decide)) ?_
        refine r_callV E [(0, 35)] [] rfl zc_69 zr_69 (fun o _ => ⟨_, zw_X67.1 o, rfl⟩) (lw_V q4298 q4300 qs203 q294 q4301) dX67_list_125 zy_X67_write_2 rfl (by omega) (by decide) (Nat.le_of_ble_eq_true rfl) (by decide) (fun l G => k_fX67_write_2 l G 35) (fun _ => ?_)
        refine r_goto E 167 (by decide) dX67_list_128 ?_
        refine r_pick E [0, 1, 3] rfl ?_
        exact w_fX67_list_J167 E hN hT x1 x4
    · refine r_pick E [0] rfl ?_
      exact w_fX67_list_J105 E hN hT
theorem w_fX67_list {K : zK} (E : zE K cX67_list "RingHouseModel" (some .int) 2) (hN : zNl K = 5) (hT : zTr K = (some 0)) (x1 : Int) : zR K 0 [(0, 69, 0), (1, 1, x1)] [] (fX67_list x1) := by
  refine r_lload_n E dX67_list_0 rfl 1 rfl ?_
  refine r_callS E [(1, x1)] [] rfl q3625 q3626 q294 q3627 dX67_list_1 zy_X67_isWord rfl (by omega) (by decide) (Nat.le_of_ble_eq_true rfl) (fun l G => k_fX67_isWord l G x1) (fun v1 => ?_)
  refine r_if_ne E 10 (by decide) dX67_list_4 (fun _ => ?_) (fun _ => ?_)
  · refine r_aload_n E dX67_list_10 rfl 0 rfl ?_
    refine r_iconst E dX67_list_11 (zkI (by decide) (by decide)) ?_
    refine r_put E zc_69 zt_6870 zo_6870 dX67_list_12 q3285 zr_69 zw_X67 zp_6870 (fun _ => rfl) (fun _ => rfl) (by decide) ?_
    refine r_lload_n E dX67_list_15 rfl 1 rfl ?_
    refine r_callS E [(1, x1)] [] rfl q4290 q4291 q294 q4292 dX67_list_16 zy_X67_isListable rfl (by omega) (by decide) (Nat.le_of_ble_eq_true rfl) (fun l G => k_fX67_isListable l G x1) (fun v2 => ?_)
    refine r_if_ne E 48 (by decide) dX67_list_19 (fun _ => ?_) (fun _ => ?_)
    · refine r_lload_n E dX67_list_48 rfl 1 rfl ?_
      refine r_bipush E dX67_list_49 (by decide) (zkI (by decide) (by decide)) ?_
      refine r_lshr (P := 1073741824) E (by decide) dX67_list_51 ?_
      refine r_l2i E dX67_list_52 ?_
      refine r_let E (fun v3 ev3 => ?_)
      refine r_istore_n (ls' := [(3, 0, v3), (0, 69, 0), (1, 1, x1)]) E dX67_list_53 rfl (by rw [hN]; decide) rfl ?_
      refine r_lload_n E dX67_list_54 rfl 2 rfl ?_
      refine r_bipush E dX67_list_55 (by decide) (zkI (by decide) (by decide)) ?_
      refine r_lshr (P := 134217728) E (by decide) dX67_list_57 ?_
      refine r_ldc2 (v := 7) E dX67_list_58 q3709 (by decide) (zkJ (by decide) (by decide)) ?_
      refine r_lmask (P := 8) E 3 (by decide) (by decide) (by decide) dX67_list_61 ?_
      refine r_l2i E dX67_list_62 ?_
      refine r_let E (fun v4 ev4 => ?_)
      refine r_istore (ls' := [(4, 0, v4), (3, 0, v3), (0, 69, 0), (1, 1, x1)]) E dX67_list_63 (by rw [hN]; decide) rfl ?_
      refine r_aload_n E dX67_list_65 rfl 2 rfl ?_
      refine r_aload_n E dX67_list_66 rfl 2 rfl ?_
      refine r_gec (y := 0) E zc_69 dX67_list_67 q3322 zr_69 (zh_6908 (by decide)) (by decide) ?_
      refine r_iload_n E dX67_list_70 rfl 1 rfl ?_
      refine r_lact E zc_6908 za_6908 zt_6908 zx_6908 rfl rfl rfl dX67_list_71 (by decide) (fun v5 => ?_)
      refine r_callV E [(1, v5)] [] rfl zc_69 zr_69 (fun o _ => ⟨_, zw_X67.1 o, rfl⟩) (lw_V q4294 q4296 qs202 q294 q4297) dX67_list_72 zy_X67_writeName rfl (by omega) (by decide) (Nat.le_of_ble_eq_true rfl) (by decide) (fun l G => k_fX67_writeName l G v5) (fun _ => ?_)
      refine r_iload_n E dX67_list_75 rfl 1 rfl ?_
      refine r_callS E [(0, v3)] [] rfl q4192 q4193 q294 q4194 dX67_list_76 zy_X67_takesN rfl (by omega) (by decide) (Nat.le_of_ble_eq_true rfl) (fun l G => k_fX67_takesN l G v3) (fun v7 => ?_)
      refine r_if_eq E 94 (by decide) dX67_list_79 (fun _ => ?_) (fun _ => ?_)
      · refine r_pick E [2, 3, 1, 0] rfl ?_
        exact w_fX67_list_J94 E hN hT x1 v3 v4
      · refine r_aload_n E dX67_list_82 rfl 2 rfl ?_
        refine r_lload_n E dX67_list_83 rfl 3 rfl ?_
        refine r_bipush E dX67_list_84 (by decide) (zkI (by decide) (by decide)) ?_
        refine r_lshr (P := 2097152) E (by decide) dX67_list_86 ?_
        refine r_ldc2 (v := 7) E dX67_list_87 q3709 (by decide) (zkJ (by decide) (by decide)) ?_
        refine r_lmask (P := 8) E 3 (by decide) (by decide) (by decide) dX67_list_90 ?_
        refine r_callV E [(1, ((x1 / 2097152) % 8))] [] rfl zc_69 zr_69 (fun o _ => ⟨_, zw_X67.1 o, rfl⟩) (lw_V q4302 q4304 qs204 q294 q4305) dX67_list_91 zy_X67_writeNumber rfl (by omega) (by decide) (Nat.le_of_ble_eq_true rfl) (by decide) (fun l G => k_fX67_writeNumber l G ((x1 / 2097152) % 8)) (fun _ => ?_)
        refine r_pick E [2, 3, 1, 0] rfl ?_
        exact w_fX67_list_J94 E hN hT x1 v3 v4
    · refine r_aload_n E dX67_list_22 rfl 0 rfl ?_
      refine r_aload_n E dX67_list_23 rfl 0 rfl ?_
      refine r_gec (y := 0) E zc_69 dX67_list_24 q3323 zr_69 (zh_6909 (by decide)) (by decide) ?_
      refine r_iconst E dX67_list_27 (zkI (by decide) (by decide)) ?_
      refine r_lact E zc_6909 za_6909 zt_6909 zx_6909 rfl rfl rfl dX67_list_28 (by decide) (fun v21 => ?_)
      refine r_callV E [(1, v21)] [] rfl zc_69 zr_69 (fun o _ => ⟨_, zw_X67.1 o, rfl⟩) (lw_V q4294 q4296 qs202 q294 q4297) dX67_list_29 zy_X67_writeName rfl (by omega) (by decide) (Nat.le_of_ble_eq_true rfl) (by decide) (fun l G => k_fX67_writeName l G v21) (fun _ => ?_)
      refine r_aload_n E dX67_list_32 rfl 0 rfl ?_
      refine r_bipush E dX67_list_33 (by decide) (zkI (by decide) (by decide)) ?_
      refine r_callV E [(0, 32)] [] rfl zc_69 zr_69 (fun o _ => ⟨_, zw_X67.1 o, rfl⟩) (lw_V q4298 q4300 qs203 q294 q4301) dX67_list_35 zy_X67_write_2 rfl (by omega) (by decide) (Nat.le_of_ble_eq_true rfl) (by decide) (fun l G => k_fX67_write_2 l G 32) (fun _ => ?_)
      refine r_aload_n E dX67_list_38 rfl 0 rfl ?_
      refine r_lload_n E dX67_list_39 rfl 1 rfl ?_
      refine r_callV E [(1, x1)] [] rfl zc_69 zr_69 (fun o _ => ⟨_, zw_X67.1 o, rfl⟩) (lw_V q4302 q4304 qs204 q294 q4305) dX67_list_40 zy_X67_writeNumber rfl (by omega) (by decide) (Nat.le_of_ble_eq_true rfl) (by decide) (fun l G => k_fX67_writeNumber l G x1) (fun _ => ?_)
      refine r_aload_n E dX67_list_43 rfl 0 rfl ?_
      refine r_get E zc_69 zt_6870 dX67_list_44 q3285 zr_69 (zg_6870 _) (by decide) (fun v25 => ?_)
      exact r_ireturn E rfl hT dX67_list_47
  · refine r_bipush E dX67_list_7 (by decide) (zkI (by decide) (by decide)) ?_
    exact r_ireturn E rfl hT dX67_list_9
theorem k_fX67_list (l : Launch) (G : zG) (x1 : Int) : zCt l G yX67_list cX67_list 5 (some .int) 2 [(69, 0), (1, x1)] (some 0) (fX67_list x1) := zCt.of (by decide) (Nat.le_of_ble_eq_true rfl) (fun K E _ _ hN hT => w_fX67_list E hN hT x1)
theorem dX67_listed_0 : decode cX67_listed 0 = .ok (.iload_n 1, 1) := by decide +kernel
theorem dX67_listed_1 : decode cX67_listed 1 = .ok (.i2l, 1) := by decide +kernel
theorem dX67_listed_2 : decode cX67_listed 2 = .ok (.lconst 0, 1) := by decide +kernel
theorem dX67_listed_3 : decode cX67_listed 3 = .ok (.aload_n 0, 1) := by decide +kernel
theorem dX67_listed_4 : decode cX67_listed 4 = .ok (.getfield 992, 3) := by decide +kernel
theorem dX67_listed_7 : decode cX67_listed 7 = .ok (.iconst 1, 1) := by decide +kernel
theorem dX67_listed_8 : decode cX67_listed 8 = .ok (.isub, 1) := by decide +kernel
theorem dX67_listed_9 : decode cX67_listed 9 = .ok (.i2l, 1) := by decide +kernel
theorem dX67_listed_10 : decode cX67_listed 10 = .ok (.invokestatic 363, 3) := by decide +kernel
theorem dX67_listed_13 : decode cX67_listed 13 = .ok (.ifCond .eq 12, 3) := by decide +kernel
theorem dX67_listed_16 : decode cX67_listed 16 = .ok (.aload_n 0, 1) := by decide +kernel
theorem dX67_listed_17 : decode cX67_listed 17 = .ok (.getfield 213, 3) := by decide +kernel
theorem dX67_listed_20 : decode cX67_listed 20 = .ok (.iload_n 1, 1) := by decide +kernel
theorem dX67_listed_21 : decode cX67_listed 21 = .ok (.iaload, 1) := by decide +kernel
theorem dX67_listed_22 : decode cX67_listed 22 = .ok (.goto 4, 3) := by decide +kernel
theorem dX67_listed_25 : decode cX67_listed 25 = .ok (.iconst (-1), 1) := by decide +kernel
theorem dX67_listed_26 : decode cX67_listed 26 = .ok (.ireturn, 1) := by decide +kernel
theorem zy_X67_listed : yX67_listed.cls ≠ "java/lang/invoke/MethodHandle" ∧ yX67_listed.cls ≠ "java/lang/invoke/VarHandle" ∧ (parseMethodDescriptor yX67_listed.desc).map (fun d => d.parameters.length) = some 1 := by decide +kernel
theorem w_fX67_listed {K : zK} (E : zE K cX67_listed "RingHouseModel" (some .int) 1) (hN : zNl K = 2) (hT : zTr K = (some 0)) (x1 : Int) : zR K 0 [(0, 69, 0), (1, 0, x1)] [] (fX67_listed x1) := by
  refine r_iload_n E dX67_listed_0 rfl 1 rfl ?_
  refine r_i2l E dX67_listed_1 ?_
  refine r_lconst (v := 0) E dX67_listed_2 (by decide) (zkJ (by decide) (by decide)) ?_
  refine r_aload_n E dX67_listed_3 rfl 0 rfl ?_
  refine r_get E zc_69 zt_6870 dX67_listed_4 q3285 zr_69 (zg_6870 _) (by decide) (fun v1 => ?_)
  refine r_iconst E dX67_listed_7 (zkI (by decide) (by decide)) ?_
  refine r_isub E dX67_listed_8 ?_
  refine r_i2l E dX67_listed_9 ?_
  refine r_callS E [(1, x1), (1, 0), (1, (zi (v1 - 1)))] [] rfl q3619 q3620 q294 q3621 dX67_listed_10 zy_X67_in rfl (by omega) (by decide) (Nat.le_of_ble_eq_true rfl) (fun l G => k_fX67_in l G x1 0 (zi (v1 - 1))) (fun v2 => ?_)
  refine r_if_eq E 25 (by decide) dX67_listed_13 (fun _ => ?_) (fun _ => ?_)
  · refine r_iconst E dX67_listed_25 (zkI (by decide) (by decide)) ?_
    exact r_ireturn E rfl hT dX67_listed_26
  · refine r_aload_n E dX67_listed_16 rfl 0 rfl ?_
    refine r_gec (y := 0) E zc_69 dX67_listed_17 q3286 zr_69 (zh_6871 (by decide)) (by decide) ?_
    refine r_iload_n E dX67_listed_20 rfl 1 rfl ?_
    refine r_iaload E zc_6871 za_6871 zt_6871 zx_6871 rfl rfl dX67_listed_21 (by decide) (fun v3 => ?_)
    refine r_goto E 26 (by decide) dX67_listed_22 ?_
    exact r_ireturn E rfl hT dX67_listed_26
theorem k_fX67_listed (l : Launch) (G : zG) (x1 : Int) : zCt l G yX67_listed cX67_listed 2 (some .int) 1 [(69, 0), (0, x1)] (some 0) (fX67_listed x1) := zCt.of (by decide) (Nat.le_of_ble_eq_true rfl) (fun K E _ _ hN hT => w_fX67_listed E hN hT x1)
theorem dX67_putByte_0 : decode cX67_putByte 0 = .ok (.aload_n 0, 1) := by decide +kernel
theorem dX67_putByte_1 : decode cX67_putByte 1 = .ok (.getfield 217, 3) := by decide +kernel
theorem dX67_putByte_4 : decode cX67_putByte 4 = .ok (.aload_n 0, 1) := by decide +kernel
theorem dX67_putByte_5 : decode cX67_putByte 5 = .ok (.getfield 1008, 3) := by decide +kernel
theorem dX67_putByte_8 : decode cX67_putByte 8 = .ok (.iload_n 1, 1) := by decide +kernel
theorem dX67_putByte_9 : decode cX67_putByte 9 = .ok (.iastore, 1) := by decide +kernel
theorem dX67_putByte_10 : decode cX67_putByte 10 = .ok (.aload_n 0, 1) := by decide +kernel
theorem dX67_putByte_11 : decode cX67_putByte 11 = .ok (.dup, 1) := by decide +kernel
theorem dX67_putByte_12 : decode cX67_putByte 12 = .ok (.getfield 1008, 3) := by decide +kernel
theorem dX67_putByte_15 : decode cX67_putByte 15 = .ok (.iconst 1, 1) := by decide +kernel
theorem dX67_putByte_16 : decode cX67_putByte 16 = .ok (.iadd, 1) := by decide +kernel
theorem dX67_putByte_17 : decode cX67_putByte 17 = .ok (.putfield 1008, 3) := by decide +kernel
theorem dX67_putByte_20 : decode cX67_putByte 20 = .ok (.aload_n 0, 1) := by decide +kernel
theorem dX67_putByte_21 : decode cX67_putByte 21 = .ok (.bipush 31, 2) := by decide +kernel
theorem dX67_putByte_23 : decode cX67_putByte 23 = .ok (.aload_n 0, 1) := by decide +kernel
theorem dX67_putByte_24 : decode cX67_putByte 24 = .ok (.getfield 1011, 3) := by decide +kernel
theorem dX67_putByte_27 : decode cX67_putByte 27 = .ok (.imul, 1) := by decide +kernel
theorem dX67_putByte_28 : decode cX67_putByte 28 = .ok (.iload_n 1, 1) := by decide +kernel
theorem dX67_putByte_29 : decode cX67_putByte 29 = .ok (.iadd, 1) := by decide +kernel
theorem dX67_putByte_30 : decode cX67_putByte 30 = .ok (.ldc_w 1014, 3) := by decide +kernel
theorem dX67_putByte_33 : decode cX67_putByte 33 = .ok (.irem, 1) := by decide +kernel
theorem dX67_putByte_34 : decode cX67_putByte 34 = .ok (.putfield 1011, 3) := by decide +kernel
theorem dX67_putByte_37 : decode cX67_putByte 37 = .ok (.return_, 1) := by decide +kernel
theorem zy_X67_putByte : yX67_putByte.cls ≠ "java/lang/invoke/MethodHandle" ∧ yX67_putByte.cls ≠ "java/lang/invoke/VarHandle" ∧ (parseMethodDescriptor yX67_putByte.desc).map (fun d => d.parameters.length) = some 1 := by decide +kernel
theorem w_fX67_putByte {K : zK} (E : zE K cX67_putByte "RingHouseModel" none 0) (hN : zNl K = 2) (hT : zTr K = none) (x1 : Int) : zR K 0 [(0, 69, 0), (1, 0, x1)] [] (fX67_putByte x1) := by
  refine r_aload_n E dX67_putByte_0 rfl 0 rfl ?_
  refine r_gec (y := 0) E zc_69 dX67_putByte_1 q3288 zr_69 (zh_6873 (by decide)) (by decide) ?_
  refine r_aload_n E dX67_putByte_4 rfl 0 rfl ?_
  refine r_get E zc_69 zt_6872 dX67_putByte_5 q3287 zr_69 (zg_6872 _) (by decide) (fun v1 => ?_)
  refine r_iload_n E dX67_putByte_8 rfl 1 rfl ?_
  refine r_iastore E zc_6873 za_6873 zt_6873 zo_6873 zx_6873 rfl rfl dX67_putByte_9 (by decide) ?_
  refine r_aload_n E dX67_putByte_10 rfl 0 rfl ?_
  refine r_dup E (zn1 rfl) dX67_putByte_11 ?_
  refine r_get E zc_69 zt_6872 dX67_putByte_12 q3287 zr_69 (zg_6872 _) (by decide) (fun v2 => ?_)
  refine r_iconst E dX67_putByte_15 (zkI (by decide) (by decide)) ?_
  refine r_iadd E dX67_putByte_16 ?_
  refine r_put E zc_69 zt_6872 zo_6872 dX67_putByte_17 q3287 zr_69 zw_X67 zp_6872 (fun _ => rfl) (fun _ => rfl) (by decide) ?_
  refine r_aload_n E dX67_putByte_20 rfl 0 rfl ?_
  refine r_bipush E dX67_putByte_21 (by decide) (zkI (by decide) (by decide)) ?_
  refine r_aload_n E dX67_putByte_23 rfl 0 rfl ?_
  refine r_get E zc_69 zt_6915 dX67_putByte_24 q3329 zr_69 (zg_6915 _) (by decide) (fun v3 => ?_)
  refine r_imul E dX67_putByte_27 ?_
  refine r_iload_n E dX67_putByte_28 rfl 1 rfl ?_
  refine r_iadd E dX67_putByte_29 ?_
  refine r_ldcw (v := 65536) E dX67_putByte_30 q4318 (by decide) (zkI (by decide) (by decide)) ?_
  refine r_irem E (by decide) dX67_putByte_33 ?_
  refine r_put E zc_69 zt_6915 zo_6915 dX67_putByte_34 q3329 zr_69 zw_X67 zp_6915 (fun _ => rfl) (fun _ => rfl) (by decide) ?_
  exact r_return E rfl hT dX67_putByte_37
theorem k_fX67_putByte (l : Launch) (G : zG) (x1 : Int) : zCt l G yX67_putByte cX67_putByte 2 none 0 [(69, 0), (0, x1)] none (fX67_putByte x1) := zCt.of (by decide) (Nat.le_of_ble_eq_true rfl) (fun K E _ _ hN hT => w_fX67_putByte E hN hT x1)
theorem dX67_putWord_0 : decode cX67_putWord 0 = .ok (.bipush 32, 2) := by decide +kernel
theorem dX67_putWord_2 : decode cX67_putWord 2 = .ok (.istore_n 3, 1) := by decide +kernel
theorem dX67_putWord_3 : decode cX67_putWord 3 = .ok (.iload_n 3, 1) := by decide +kernel
theorem dX67_putWord_4 : decode cX67_putWord 4 = .ok (.ifCond .lt 21, 3) := by decide +kernel
theorem dX67_putWord_7 : decode cX67_putWord 7 = .ok (.aload_n 0, 1) := by decide +kernel
theorem dX67_putWord_8 : decode cX67_putWord 8 = .ok (.lload_n 1, 1) := by decide +kernel
theorem dX67_putWord_9 : decode cX67_putWord 9 = .ok (.iload_n 3, 1) := by decide +kernel
theorem dX67_putWord_10 : decode cX67_putWord 10 = .ok (.lshr, 1) := by decide +kernel
theorem dX67_putWord_11 : decode cX67_putWord 11 = .ok (.ldc2_w 377, 3) := by decide +kernel
theorem dX67_putWord_14 : decode cX67_putWord 14 = .ok (.land, 1) := by decide +kernel
theorem dX67_putWord_15 : decode cX67_putWord 15 = .ok (.l2i, 1) := by decide +kernel
theorem dX67_putWord_16 : decode cX67_putWord 16 = .ok (.invokevirtual 1015, 3) := by decide +kernel
theorem dX67_putWord_19 : decode cX67_putWord 19 = .ok (.iinc 3 (-8), 3) := by decide +kernel
theorem dX67_putWord_22 : decode cX67_putWord 22 = .ok (.goto (-19), 3) := by decide +kernel
theorem dX67_putWord_25 : decode cX67_putWord 25 = .ok (.return_, 1) := by decide +kernel
theorem zy_X67_putWord : yX67_putWord.cls ≠ "java/lang/invoke/MethodHandle" ∧ yX67_putWord.cls ≠ "java/lang/invoke/VarHandle" ∧ (parseMethodDescriptor yX67_putWord.desc).map (fun d => d.parameters.length) = some 1 := by decide +kernel
theorem w_fX67_putWord_B3 {K : zK} (E : zE K cX67_putWord "RingHouseModel" none 1) (hN : zNl K = 4) (hT : zTr K = none) (x1 : Int) : ∀ r3 : Int → zX, (∀ s : Int, zR K 3 [(0, 69, 0), (1, 1, x1), (3, 0, s)] [] (r3 s)) → ∀ s : Int, zR K 3 [(0, 69, 0), (1, 1, x1), (3, 0, s)] [] (fX67_putWord_B3 x1 r3 s) := by
  intro r3 hr3 x3
  refine r_iload_n E dX67_putWord_3 rfl 2 rfl ?_
  refine r_if_lt E 25 (by decide) dX67_putWord_4 (fun _ => ?_) (fun _ => ?_)
  · exact r_return E rfl hT dX67_putWord_25
  · refine r_aload_n E dX67_putWord_7 rfl 0 rfl ?_
    refine r_lload_n E dX67_putWord_8 rfl 1 rfl ?_
    refine r_iload_n E dX67_putWord_9 rfl 2 rfl ?_
    refine r_lshr E rfl dX67_putWord_10 ?_
    refine r_ldc2 (v := 255) E dX67_putWord_11 q3618 (by decide) (zkJ (by decide) (by decide)) ?_
    refine r_lmask (P := 256) E 8 (by decide) (by decide) (by decide) dX67_putWord_14 ?_
    refine r_l2i E dX67_putWord_15 ?_
    refine r_callV E [(0, (zi ((x1 / 2 ^ (x3 % 64).toNat) % 256)))] [] rfl zc_69 zr_69 (fun o _ => ⟨_, zw_X67.1 o, rfl⟩) (lw_V q4314 q4316 qs205 q294 q4317) dX67_putWord_16 zy_X67_putByte rfl (by omega) (by decide) (Nat.le_of_ble_eq_true rfl) (by decide) (fun l G => k_fX67_putByte l G (zi ((x1 / 2 ^ (x3 % 64).toNat) % 256))) (fun _ => ?_)
    refine r_iinc (ls' := fun v2 => [(3, 0, v2), (0, 69, 0), (1, 1, x1)]) E 2 rfl (by rw [hN]; decide) (fun _ => rfl) dX67_putWord_19 (fun v2 _ => ?_)
    refine r_goto E 3 (by decide) dX67_putWord_22 ?_
    refine r_pick E [1, 2, 0] rfl ?_
    exact hr3 v2
theorem w_fX67_putWord {K : zK} (E : zE K cX67_putWord "RingHouseModel" none 1) (hN : zNl K = 4) (hT : zTr K = none) (x1 : Int) : zR K 0 [(0, 69, 0), (1, 1, x1)] [] (fX67_putWord x1) := by
  refine r_bipush E dX67_putWord_0 (by decide) (zkI (by decide) (by decide)) ?_
  refine r_istore_n (ls' := [(3, 0, 32), (0, 69, 0), (1, 1, x1)]) E dX67_putWord_2 rfl (by rw [hN]; decide) rfl ?_
  refine r_pick E [1, 2, 0] rfl ?_
  exact r_loop (L := fun s => [(0, 69, 0), (1, 1, x1), (3, 0, s)]) (w_fX67_putWord_B3 E hN hT x1) zBIG 32
theorem k_fX67_putWord (l : Launch) (G : zG) (x1 : Int) : zCt l G yX67_putWord cX67_putWord 4 none 1 [(69, 0), (1, x1)] none (fX67_putWord x1) := zCt.of (by decide) (Nat.le_of_ble_eq_true rfl) (fun K E _ _ hN hT => w_fX67_putWord E hN hT x1)
theorem dX67_putItems_0 : decode cX67_putItems 0 = .ok (.aload_n 0, 1) := by decide +kernel
theorem dX67_putItems_1 : decode cX67_putItems 1 = .ok (.iload_n 3, 1) := by decide +kernel
theorem dX67_putItems_2 : decode cX67_putItems 2 = .ok (.invokevirtual 1015, 3) := by decide +kernel
theorem dX67_putItems_5 : decode cX67_putItems 5 = .ok (.iload_n 2, 1) := by decide +kernel
theorem dX67_putItems_6 : decode cX67_putItems 6 = .ok (.istore 4, 2) := by decide +kernel
theorem dX67_putItems_8 : decode cX67_putItems 8 = .ok (.iload 4, 2) := by decide +kernel
theorem dX67_putItems_10 : decode cX67_putItems 10 = .ok (.iload_n 2, 1) := by decide +kernel
theorem dX67_putItems_11 : decode cX67_putItems 11 = .ok (.iconst 3, 1) := by decide +kernel
theorem dX67_putItems_12 : decode cX67_putItems 12 = .ok (.iload_n 3, 1) := by decide +kernel
theorem dX67_putItems_13 : decode cX67_putItems 13 = .ok (.imul, 1) := by decide +kernel
theorem dX67_putItems_14 : decode cX67_putItems 14 = .ok (.iadd, 1) := by decide +kernel
theorem dX67_putItems_15 : decode cX67_putItems 15 = .ok (.if_icmp .ge 17, 3) := by decide +kernel
theorem dX67_putItems_18 : decode cX67_putItems 18 = .ok (.aload_n 0, 1) := by decide +kernel
theorem dX67_putItems_19 : decode cX67_putItems 19 = .ok (.aload_n 1, 1) := by decide +kernel
theorem dX67_putItems_20 : decode cX67_putItems 20 = .ok (.iload 4, 2) := by decide +kernel
theorem dX67_putItems_22 : decode cX67_putItems 22 = .ok (.iaload, 1) := by decide +kernel
theorem dX67_putItems_23 : decode cX67_putItems 23 = .ok (.invokevirtual 1015, 3) := by decide +kernel
theorem dX67_putItems_26 : decode cX67_putItems 26 = .ok (.iinc 4 1, 3) := by decide +kernel
theorem dX67_putItems_29 : decode cX67_putItems 29 = .ok (.goto (-21), 3) := by decide +kernel
theorem dX67_putItems_32 : decode cX67_putItems 32 = .ok (.return_, 1) := by decide +kernel
theorem zy_X67_putItems : yX67_putItems.cls ≠ "java/lang/invoke/MethodHandle" ∧ yX67_putItems.cls ≠ "java/lang/invoke/VarHandle" ∧ (parseMethodDescriptor yX67_putItems.desc).map (fun d => d.parameters.length) = some 3 := by decide +kernel
theorem w6813_fX67_putItems_B8 {K : zK} (E : zE K cX67_putItems "RingHouseModel" none 1) (hN : zNl K = 5) (hT : zTr K = none) (x2 : Int) (x3 : Int) : ∀ r8 : Int → zX, (∀ s : Int, zR K 8 [(0, 69, 0), (1, 6813, 0), (2, 0, x2), (3, 0, x3), (4, 0, s)] [] (r8 s)) → ∀ s : Int, zR K 8 [(0, 69, 0), (1, 6813, 0), (2, 0, x2), (3, 0, x3), (4, 0, s)] [] (fX67_putItems_B8 6813 x2 x3 r8 s) := by
  intro r8 hr8 x4
  refine r_iload E dX67_putItems_8 4 rfl ?_
  refine r_iload_n E dX67_putItems_10 rfl 2 rfl ?_
  refine r_iconst E dX67_putItems_11 (zkI (by decide) (by decide)) ?_
  refine r_iload_n E dX67_putItems_12 rfl 3 rfl ?_
  refine r_imul E dX67_putItems_13 ?_
  refine r_iadd E dX67_putItems_14 ?_
  refine r_icmp_ge E 32 (by decide) dX67_putItems_15 (fun _ => ?_) (fun _ => ?_)
  · exact r_return E rfl hT dX67_putItems_32
  · refine r_aload_n E dX67_putItems_18 rfl 0 rfl ?_
    refine r_aload_n E dX67_putItems_19 rfl 1 rfl ?_
    refine r_iload E dX67_putItems_20 4 rfl ?_
    refine r_iaload E zc_6813 za_6813 zt_6813 zx_6813 rfl rfl dX67_putItems_22 (by decide) (fun v2 => ?_)
    refine r_callV E [(0, v2)] [] rfl zc_69 zr_69 (fun o _ => ⟨_, zw_X67.1 o, rfl⟩) (lw_V q4314 q4316 qs205 q294 q4317) dX67_putItems_23 zy_X67_putByte rfl (by omega) (by decide) (Nat.le_of_ble_eq_true rfl) (by decide) (fun l G => k_fX67_putByte l G v2) (fun _ => ?_)
    refine r_iinc (ls' := fun v4 => [(4, 0, v4), (0, 69, 0), (1, 6813, 0), (2, 0, x2), (3, 0, x3)]) E 4 rfl (by rw [hN]; decide) (fun _ => rfl) dX67_putItems_26 (fun v4 _ => ?_)
    refine r_goto E 8 (by decide) dX67_putItems_29 ?_
    refine r_pick E [1, 2, 3, 4, 0] rfl ?_
    exact hr8 v4
theorem w6813_fX67_putItems {K : zK} (E : zE K cX67_putItems "RingHouseModel" none 1) (hN : zNl K = 5) (hT : zTr K = none) (x2 : Int) (x3 : Int) : zR K 0 [(0, 69, 0), (1, 6813, 0), (2, 0, x2), (3, 0, x3)] [] (fX67_putItems 6813 x2 x3) := by
  refine r_aload_n E dX67_putItems_0 rfl 0 rfl ?_
  refine r_iload_n E dX67_putItems_1 rfl 3 rfl ?_
  refine r_callV E [(0, x3)] [] rfl zc_69 zr_69 (fun o _ => ⟨_, zw_X67.1 o, rfl⟩) (lw_V q4314 q4316 qs205 q294 q4317) dX67_putItems_2 zy_X67_putByte rfl (by omega) (by decide) (Nat.le_of_ble_eq_true rfl) (by decide) (fun l G => k_fX67_putByte l G x3) (fun _ => ?_)
  refine r_iload_n E dX67_putItems_5 rfl 2 rfl ?_
  refine r_istore (ls' := [(4, 0, x2), (0, 69, 0), (1, 6813, 0), (2, 0, x2), (3, 0, x3)]) E dX67_putItems_6 (by rw [hN]; decide) rfl ?_
  refine r_pick E [1, 2, 3, 4, 0] rfl ?_
  exact r_loop (L := fun s => [(0, 69, 0), (1, 6813, 0), (2, 0, x2), (3, 0, x3), (4, 0, s)]) (w6813_fX67_putItems_B8 E hN hT x2 x3) zBIG x2
theorem w6815_fX67_putItems_B8 {K : zK} (E : zE K cX67_putItems "RingHouseModel" none 1) (hN : zNl K = 5) (hT : zTr K = none) (x2 : Int) (x3 : Int) : ∀ r8 : Int → zX, (∀ s : Int, zR K 8 [(0, 69, 0), (1, 6815, 0), (2, 0, x2), (3, 0, x3), (4, 0, s)] [] (r8 s)) → ∀ s : Int, zR K 8 [(0, 69, 0), (1, 6815, 0), (2, 0, x2), (3, 0, x3), (4, 0, s)] [] (fX67_putItems_B8 6815 x2 x3 r8 s) := by
  intro r8 hr8 x4
  refine r_iload E dX67_putItems_8 4 rfl ?_
  refine r_iload_n E dX67_putItems_10 rfl 2 rfl ?_
  refine r_iconst E dX67_putItems_11 (zkI (by decide) (by decide)) ?_
  refine r_iload_n E dX67_putItems_12 rfl 3 rfl ?_
  refine r_imul E dX67_putItems_13 ?_
  refine r_iadd E dX67_putItems_14 ?_
  refine r_icmp_ge E 32 (by decide) dX67_putItems_15 (fun _ => ?_) (fun _ => ?_)
  · exact r_return E rfl hT dX67_putItems_32
  · refine r_aload_n E dX67_putItems_18 rfl 0 rfl ?_
    refine r_aload_n E dX67_putItems_19 rfl 1 rfl ?_
    refine r_iload E dX67_putItems_20 4 rfl ?_
    refine r_iaload E zc_6815 za_6815 zt_6815 zx_6815 rfl rfl dX67_putItems_22 (by decide) (fun v2 => ?_)
    refine r_callV E [(0, v2)] [] rfl zc_69 zr_69 (fun o _ => ⟨_, zw_X67.1 o, rfl⟩) (lw_V q4314 q4316 qs205 q294 q4317) dX67_putItems_23 zy_X67_putByte rfl (by omega) (by decide) (Nat.le_of_ble_eq_true rfl) (by decide) (fun l G => k_fX67_putByte l G v2) (fun _ => ?_)
    refine r_iinc (ls' := fun v4 => [(4, 0, v4), (0, 69, 0), (1, 6815, 0), (2, 0, x2), (3, 0, x3)]) E 4 rfl (by rw [hN]; decide) (fun _ => rfl) dX67_putItems_26 (fun v4 _ => ?_)
    refine r_goto E 8 (by decide) dX67_putItems_29 ?_
    refine r_pick E [1, 2, 3, 4, 0] rfl ?_
    exact hr8 v4
theorem w6815_fX67_putItems {K : zK} (E : zE K cX67_putItems "RingHouseModel" none 1) (hN : zNl K = 5) (hT : zTr K = none) (x2 : Int) (x3 : Int) : zR K 0 [(0, 69, 0), (1, 6815, 0), (2, 0, x2), (3, 0, x3)] [] (fX67_putItems 6815 x2 x3) := by
  refine r_aload_n E dX67_putItems_0 rfl 0 rfl ?_
  refine r_iload_n E dX67_putItems_1 rfl 3 rfl ?_
  refine r_callV E [(0, x3)] [] rfl zc_69 zr_69 (fun o _ => ⟨_, zw_X67.1 o, rfl⟩) (lw_V q4314 q4316 qs205 q294 q4317) dX67_putItems_2 zy_X67_putByte rfl (by omega) (by decide) (Nat.le_of_ble_eq_true rfl) (by decide) (fun l G => k_fX67_putByte l G x3) (fun _ => ?_)
  refine r_iload_n E dX67_putItems_5 rfl 2 rfl ?_
  refine r_istore (ls' := [(4, 0, x2), (0, 69, 0), (1, 6815, 0), (2, 0, x2), (3, 0, x3)]) E dX67_putItems_6 (by rw [hN]; decide) rfl ?_
  refine r_pick E [1, 2, 3, 4, 0] rfl ?_
  exact r_loop (L := fun s => [(0, 69, 0), (1, 6815, 0), (2, 0, x2), (3, 0, x3), (4, 0, s)]) (w6815_fX67_putItems_B8 E hN hT x2 x3) zBIG x2
theorem k_fX67_putItems (l : Launch) (G : zG) (c1 : Nat) (x2 : Int) (x3 : Int) (hc : c1 = 6813 ∨ c1 = 6815) : zCt l G yX67_putItems cX67_putItems 5 none 1 [(69, 0), (c1, 0), (0, x2), (0, x3)] none (fX67_putItems c1 x2 x3) := by
  rcases hc with rfl | rfl
  · exact zCt.of (by decide) (Nat.le_of_ble_eq_true rfl) (fun K E _ _ hN hT => w6813_fX67_putItems E hN hT x2 x3)
  · exact zCt.of (by decide) (Nat.le_of_ble_eq_true rfl) (fun K E _ _ hN hT => w6815_fX67_putItems E hN hT x2 x3)
theorem dX67_putNode_0 : decode cX67_putNode 0 = .ok (.aload_n 0, 1) := by decide +kernel
theorem dX67_putNode_1 : decode cX67_putNode 1 = .ok (.aload_n 0, 1) := by decide +kernel
theorem dX67_putNode_2 : decode cX67_putNode 2 = .ok (.getfield 7, 3) := by decide +kernel
theorem dX67_putNode_5 : decode cX67_putNode 5 = .ok (.iload_n 1, 1) := by decide +kernel
theorem dX67_putNode_6 : decode cX67_putNode 6 = .ok (.iaload, 1) := by decide +kernel
theorem dX67_putNode_7 : decode cX67_putNode 7 = .ok (.invokevirtual 1015, 3) := by decide +kernel
theorem dX67_putNode_10 : decode cX67_putNode 10 = .ok (.aload_n 0, 1) := by decide +kernel
theorem dX67_putNode_11 : decode cX67_putNode 11 = .ok (.aload_n 0, 1) := by decide +kernel
theorem dX67_putNode_12 : decode cX67_putNode 12 = .ok (.getfield 13, 3) := by decide +kernel
theorem dX67_putNode_15 : decode cX67_putNode 15 = .ok (.iload_n 1, 1) := by decide +kernel
theorem dX67_putNode_16 : decode cX67_putNode 16 = .ok (.laload, 1) := by decide +kernel
theorem dX67_putNode_17 : decode cX67_putNode 17 = .ok (.invokevirtual 1018, 3) := by decide +kernel
theorem dX67_putNode_20 : decode cX67_putNode 20 = .ok (.iconst 3, 1) := by decide +kernel
theorem dX67_putNode_21 : decode cX67_putNode 21 = .ok (.iload_n 1, 1) := by decide +kernel
theorem dX67_putNode_22 : decode cX67_putNode 22 = .ok (.imul, 1) := by decide +kernel
theorem dX67_putNode_23 : decode cX67_putNode 23 = .ok (.istore_n 2, 1) := by decide +kernel
theorem dX67_putNode_24 : decode cX67_putNode 24 = .ok (.iload_n 2, 1) := by decide +kernel
theorem dX67_putNode_25 : decode cX67_putNode 25 = .ok (.iconst 3, 1) := by decide +kernel
theorem dX67_putNode_26 : decode cX67_putNode 26 = .ok (.iload_n 1, 1) := by decide +kernel
theorem dX67_putNode_27 : decode cX67_putNode 27 = .ok (.imul, 1) := by decide +kernel
theorem dX67_putNode_28 : decode cX67_putNode 28 = .ok (.iconst 3, 1) := by decide +kernel
theorem dX67_putNode_29 : decode cX67_putNode 29 = .ok (.iadd, 1) := by decide +kernel
theorem dX67_putNode_30 : decode cX67_putNode 30 = .ok (.if_icmp .ge 19, 3) := by decide +kernel
theorem dX67_putNode_33 : decode cX67_putNode 33 = .ok (.aload_n 0, 1) := by decide +kernel
theorem dX67_putNode_34 : decode cX67_putNode 34 = .ok (.aload_n 0, 1) := by decide +kernel
theorem dX67_putNode_35 : decode cX67_putNode 35 = .ok (.getfield 23, 3) := by decide +kernel
theorem dX67_putNode_38 : decode cX67_putNode 38 = .ok (.iload_n 2, 1) := by decide +kernel
theorem dX67_putNode_39 : decode cX67_putNode 39 = .ok (.iaload, 1) := by decide +kernel
theorem dX67_putNode_40 : decode cX67_putNode 40 = .ok (.invokevirtual 1015, 3) := by decide +kernel
theorem dX67_putNode_43 : decode cX67_putNode 43 = .ok (.iinc 2 1, 3) := by decide +kernel
theorem dX67_putNode_46 : decode cX67_putNode 46 = .ok (.goto (-22), 3) := by decide +kernel
theorem dX67_putNode_49 : decode cX67_putNode 49 = .ok (.aload_n 0, 1) := by decide +kernel
theorem dX67_putNode_50 : decode cX67_putNode 50 = .ok (.aload_n 0, 1) := by decide +kernel
theorem dX67_putNode_51 : decode cX67_putNode 51 = .ok (.getfield 47, 3) := by decide +kernel
theorem dX67_putNode_54 : decode cX67_putNode 54 = .ok (.bipush 18, 2) := by decide +kernel
theorem dX67_putNode_56 : decode cX67_putNode 56 = .ok (.iload_n 1, 1) := by decide +kernel
theorem dX67_putNode_57 : decode cX67_putNode 57 = .ok (.imul, 1) := by decide +kernel
theorem dX67_putNode_58 : decode cX67_putNode 58 = .ok (.aload_n 0, 1) := by decide +kernel
theorem dX67_putNode_59 : decode cX67_putNode 59 = .ok (.getfield 44, 3) := by decide +kernel
theorem dX67_putNode_62 : decode cX67_putNode 62 = .ok (.iload_n 1, 1) := by decide +kernel
theorem dX67_putNode_63 : decode cX67_putNode 63 = .ok (.iaload, 1) := by decide +kernel
theorem dX67_putNode_64 : decode cX67_putNode 64 = .ok (.invokevirtual 1021, 3) := by decide +kernel
theorem dX67_putNode_67 : decode cX67_putNode 67 = .ok (.aload_n 0, 1) := by decide +kernel
theorem dX67_putNode_68 : decode cX67_putNode 68 = .ok (.getfield 7, 3) := by decide +kernel
theorem dX67_putNode_71 : decode cX67_putNode 71 = .ok (.iload_n 1, 1) := by decide +kernel
theorem dX67_putNode_72 : decode cX67_putNode 72 = .ok (.iaload, 1) := by decide +kernel
theorem dX67_putNode_73 : decode cX67_putNode 73 = .ok (.iconst 1, 1) := by decide +kernel
theorem dX67_putNode_74 : decode cX67_putNode 74 = .ok (.if_icmp .ne 80, 3) := by decide +kernel
theorem dX67_putNode_77 : decode cX67_putNode 77 = .ok (.aload_n 0, 1) := by decide +kernel
theorem dX67_putNode_78 : decode cX67_putNode 78 = .ok (.aload_n 0, 1) := by decide +kernel
theorem dX67_putNode_79 : decode cX67_putNode 79 = .ok (.getfield 20, 3) := by decide +kernel
theorem dX67_putNode_82 : decode cX67_putNode 82 = .ok (.iload_n 1, 1) := by decide +kernel
theorem dX67_putNode_83 : decode cX67_putNode 83 = .ok (.iaload, 1) := by decide +kernel
theorem dX67_putNode_84 : decode cX67_putNode 84 = .ok (.invokevirtual 1015, 3) := by decide +kernel
theorem dX67_putNode_87 : decode cX67_putNode 87 = .ok (.aload_n 0, 1) := by decide +kernel
theorem dX67_putNode_88 : decode cX67_putNode 88 = .ok (.aload_n 0, 1) := by decide +kernel
theorem dX67_putNode_89 : decode cX67_putNode 89 = .ok (.getfield 32, 3) := by decide +kernel
theorem dX67_putNode_92 : decode cX67_putNode 92 = .ok (.iload_n 1, 1) := by decide +kernel
theorem dX67_putNode_93 : decode cX67_putNode 93 = .ok (.iaload, 1) := by decide +kernel
theorem dX67_putNode_94 : decode cX67_putNode 94 = .ok (.invokevirtual 1015, 3) := by decide +kernel
theorem dX67_putNode_97 : decode cX67_putNode 97 = .ok (.aload_n 0, 1) := by decide +kernel
theorem dX67_putNode_98 : decode cX67_putNode 98 = .ok (.aload_n 0, 1) := by decide +kernel
theorem dX67_putNode_99 : decode cX67_putNode 99 = .ok (.getfield 53, 3) := by decide +kernel
theorem dX67_putNode_102 : decode cX67_putNode 102 = .ok (.bipush 18, 2) := by decide +kernel
theorem dX67_putNode_104 : decode cX67_putNode 104 = .ok (.iload_n 1, 1) := by decide +kernel
theorem dX67_putNode_105 : decode cX67_putNode 105 = .ok (.imul, 1) := by decide +kernel
theorem dX67_putNode_106 : decode cX67_putNode 106 = .ok (.bipush 9, 2) := by decide +kernel
theorem dX67_putNode_108 : decode cX67_putNode 108 = .ok (.iadd, 1) := by decide +kernel
theorem dX67_putNode_109 : decode cX67_putNode 109 = .ok (.aload_n 0, 1) := by decide +kernel
theorem dX67_putNode_110 : decode cX67_putNode 110 = .ok (.getfield 50, 3) := by decide +kernel
theorem dX67_putNode_113 : decode cX67_putNode 113 = .ok (.iconst 2, 1) := by decide +kernel
theorem dX67_putNode_114 : decode cX67_putNode 114 = .ok (.iload_n 1, 1) := by decide +kernel
theorem dX67_putNode_115 : decode cX67_putNode 115 = .ok (.imul, 1) := by decide +kernel
theorem dX67_putNode_116 : decode cX67_putNode 116 = .ok (.iconst 1, 1) := by decide +kernel
theorem dX67_putNode_117 : decode cX67_putNode 117 = .ok (.iadd, 1) := by decide +kernel
theorem dX67_putNode_118 : decode cX67_putNode 118 = .ok (.iaload, 1) := by decide +kernel
theorem dX67_putNode_119 : decode cX67_putNode 119 = .ok (.invokevirtual 1021, 3) := by decide +kernel
theorem dX67_putNode_122 : decode cX67_putNode 122 = .ok (.aload_n 0, 1) := by decide +kernel
theorem dX67_putNode_123 : decode cX67_putNode 123 = .ok (.aload_n 0, 1) := by decide +kernel
theorem dX67_putNode_124 : decode cX67_putNode 124 = .ok (.getfield 53, 3) := by decide +kernel
theorem dX67_putNode_127 : decode cX67_putNode 127 = .ok (.bipush 18, 2) := by decide +kernel
theorem dX67_putNode_129 : decode cX67_putNode 129 = .ok (.iload_n 1, 1) := by decide +kernel
theorem dX67_putNode_130 : decode cX67_putNode 130 = .ok (.imul, 1) := by decide +kernel
theorem dX67_putNode_131 : decode cX67_putNode 131 = .ok (.aload_n 0, 1) := by decide +kernel
theorem dX67_putNode_132 : decode cX67_putNode 132 = .ok (.getfield 50, 3) := by decide +kernel
theorem dX67_putNode_135 : decode cX67_putNode 135 = .ok (.iconst 2, 1) := by decide +kernel
theorem dX67_putNode_136 : decode cX67_putNode 136 = .ok (.iload_n 1, 1) := by decide +kernel
theorem dX67_putNode_137 : decode cX67_putNode 137 = .ok (.imul, 1) := by decide +kernel
theorem dX67_putNode_138 : decode cX67_putNode 138 = .ok (.iaload, 1) := by decide +kernel
theorem dX67_putNode_139 : decode cX67_putNode 139 = .ok (.invokevirtual 1021, 3) := by decide +kernel
theorem dX67_putNode_142 : decode cX67_putNode 142 = .ok (.aload_n 0, 1) := by decide +kernel
theorem dX67_putNode_143 : decode cX67_putNode 143 = .ok (.aload_n 0, 1) := by decide +kernel
theorem dX67_putNode_144 : decode cX67_putNode 144 = .ok (.iload_n 1, 1) := by decide +kernel
theorem dX67_putNode_145 : decode cX67_putNode 145 = .ok (.invokevirtual 491, 3) := by decide +kernel
theorem dX67_putNode_148 : decode cX67_putNode 148 = .ok (.invokevirtual 1015, 3) := by decide +kernel
theorem dX67_putNode_151 : decode cX67_putNode 151 = .ok (.goto 146, 3) := by decide +kernel
theorem dX67_putNode_154 : decode cX67_putNode 154 = .ok (.aload_n 0, 1) := by decide +kernel
theorem dX67_putNode_155 : decode cX67_putNode 155 = .ok (.getfield 7, 3) := by decide +kernel
theorem dX67_putNode_158 : decode cX67_putNode 158 = .ok (.iload_n 1, 1) := by decide +kernel
theorem dX67_putNode_159 : decode cX67_putNode 159 = .ok (.iaload, 1) := by decide +kernel
theorem dX67_putNode_160 : decode cX67_putNode 160 = .ok (.iconst 2, 1) := by decide +kernel
theorem dX67_putNode_161 : decode cX67_putNode 161 = .ok (.if_icmp .ne 78, 3) := by decide +kernel
theorem dX67_putNode_164 : decode cX67_putNode 164 = .ok (.aload_n 0, 1) := by decide +kernel
theorem dX67_putNode_165 : decode cX67_putNode 165 = .ok (.aload_n 0, 1) := by decide +kernel
theorem dX67_putNode_166 : decode cX67_putNode 166 = .ok (.getfield 26, 3) := by decide +kernel
theorem dX67_putNode_169 : decode cX67_putNode 169 = .ok (.iload_n 1, 1) := by decide +kernel
theorem dX67_putNode_170 : decode cX67_putNode 170 = .ok (.iaload, 1) := by decide +kernel
theorem dX67_putNode_171 : decode cX67_putNode 171 = .ok (.invokevirtual 1015, 3) := by decide +kernel
theorem dX67_putNode_174 : decode cX67_putNode 174 = .ok (.aload_n 0, 1) := by decide +kernel
theorem dX67_putNode_175 : decode cX67_putNode 175 = .ok (.aload_n 0, 1) := by decide +kernel
theorem dX67_putNode_176 : decode cX67_putNode 176 = .ok (.getfield 29, 3) := by decide +kernel
theorem dX67_putNode_179 : decode cX67_putNode 179 = .ok (.iload_n 1, 1) := by decide +kernel
theorem dX67_putNode_180 : decode cX67_putNode 180 = .ok (.iaload, 1) := by decide +kernel
theorem dX67_putNode_181 : decode cX67_putNode 181 = .ok (.sipush 256, 3) := by decide +kernel
theorem dX67_putNode_184 : decode cX67_putNode 184 = .ok (.idiv, 1) := by decide +kernel
theorem dX67_putNode_185 : decode cX67_putNode 185 = .ok (.invokevirtual 1015, 3) := by decide +kernel
theorem dX67_putNode_188 : decode cX67_putNode 188 = .ok (.aload_n 0, 1) := by decide +kernel
theorem dX67_putNode_189 : decode cX67_putNode 189 = .ok (.aload_n 0, 1) := by decide +kernel
theorem dX67_putNode_190 : decode cX67_putNode 190 = .ok (.getfield 29, 3) := by decide +kernel
theorem dX67_putNode_193 : decode cX67_putNode 193 = .ok (.iload_n 1, 1) := by decide +kernel
theorem dX67_putNode_194 : decode cX67_putNode 194 = .ok (.iaload, 1) := by decide +kernel
theorem dX67_putNode_195 : decode cX67_putNode 195 = .ok (.sipush 256, 3) := by decide +kernel
theorem dX67_putNode_198 : decode cX67_putNode 198 = .ok (.irem, 1) := by decide +kernel
theorem dX67_putNode_199 : decode cX67_putNode 199 = .ok (.invokevirtual 1015, 3) := by decide +kernel
theorem dX67_putNode_202 : decode cX67_putNode 202 = .ok (.iconst 0, 1) := by decide +kernel
theorem dX67_putNode_203 : decode cX67_putNode 203 = .ok (.istore_n 2, 1) := by decide +kernel
theorem dX67_putNode_204 : decode cX67_putNode 204 = .ok (.iload_n 2, 1) := by decide +kernel
theorem dX67_putNode_205 : decode cX67_putNode 205 = .ok (.aload_n 0, 1) := by decide +kernel
theorem dX67_putNode_206 : decode cX67_putNode 206 = .ok (.getfield 29, 3) := by decide +kernel
theorem dX67_putNode_209 : decode cX67_putNode 209 = .ok (.iload_n 1, 1) := by decide +kernel
theorem dX67_putNode_210 : decode cX67_putNode 210 = .ok (.iaload, 1) := by decide +kernel
theorem dX67_putNode_211 : decode cX67_putNode 211 = .ok (.if_icmp .ge 25, 3) := by decide +kernel
theorem dX67_putNode_214 : decode cX67_putNode 214 = .ok (.aload_n 0, 1) := by decide +kernel
theorem dX67_putNode_215 : decode cX67_putNode 215 = .ok (.aload_n 0, 1) := by decide +kernel
theorem dX67_putNode_216 : decode cX67_putNode 216 = .ok (.getfield 57, 3) := by decide +kernel
theorem dX67_putNode_219 : decode cX67_putNode 219 = .ok (.sipush 1024, 3) := by decide +kernel
theorem dX67_putNode_222 : decode cX67_putNode 222 = .ok (.iload_n 1, 1) := by decide +kernel
theorem dX67_putNode_223 : decode cX67_putNode 223 = .ok (.imul, 1) := by decide +kernel
theorem dX67_putNode_224 : decode cX67_putNode 224 = .ok (.iload_n 2, 1) := by decide +kernel
theorem dX67_putNode_225 : decode cX67_putNode 225 = .ok (.iadd, 1) := by decide +kernel
theorem dX67_putNode_226 : decode cX67_putNode 226 = .ok (.laload, 1) := by decide +kernel
theorem dX67_putNode_227 : decode cX67_putNode 227 = .ok (.invokevirtual 1018, 3) := by decide +kernel
theorem dX67_putNode_230 : decode cX67_putNode 230 = .ok (.iinc 2 1, 3) := by decide +kernel
theorem dX67_putNode_233 : decode cX67_putNode 233 = .ok (.goto (-29), 3) := by decide +kernel
theorem dX67_putNode_236 : decode cX67_putNode 236 = .ok (.goto 61, 3) := by decide +kernel
theorem dX67_putNode_239 : decode cX67_putNode 239 = .ok (.aload_n 0, 1) := by decide +kernel
theorem dX67_putNode_240 : decode cX67_putNode 240 = .ok (.aload_n 0, 1) := by decide +kernel
theorem dX67_putNode_241 : decode cX67_putNode 241 = .ok (.getfield 60, 3) := by decide +kernel
theorem dX67_putNode_244 : decode cX67_putNode 244 = .ok (.iload_n 1, 1) := by decide +kernel
theorem dX67_putNode_245 : decode cX67_putNode 245 = .ok (.iaload, 1) := by decide +kernel
theorem dX67_putNode_246 : decode cX67_putNode 246 = .ok (.invokevirtual 1015, 3) := by decide +kernel
theorem dX67_putNode_249 : decode cX67_putNode 249 = .ok (.sipush 128, 3) := by decide +kernel
theorem dX67_putNode_252 : decode cX67_putNode 252 = .ok (.iload_n 1, 1) := by decide +kernel
theorem dX67_putNode_253 : decode cX67_putNode 253 = .ok (.imul, 1) := by decide +kernel
theorem dX67_putNode_254 : decode cX67_putNode 254 = .ok (.istore_n 2, 1) := by decide +kernel
theorem dX67_putNode_255 : decode cX67_putNode 255 = .ok (.iload_n 2, 1) := by decide +kernel
theorem dX67_putNode_256 : decode cX67_putNode 256 = .ok (.sipush 128, 3) := by decide +kernel
theorem dX67_putNode_259 : decode cX67_putNode 259 = .ok (.iload_n 1, 1) := by decide +kernel
theorem dX67_putNode_260 : decode cX67_putNode 260 = .ok (.imul, 1) := by decide +kernel
theorem dX67_putNode_261 : decode cX67_putNode 261 = .ok (.aload_n 0, 1) := by decide +kernel
theorem dX67_putNode_262 : decode cX67_putNode 262 = .ok (.getfield 60, 3) := by decide +kernel
theorem dX67_putNode_265 : decode cX67_putNode 265 = .ok (.iload_n 1, 1) := by decide +kernel
theorem dX67_putNode_266 : decode cX67_putNode 266 = .ok (.iaload, 1) := by decide +kernel
theorem dX67_putNode_267 : decode cX67_putNode 267 = .ok (.iadd, 1) := by decide +kernel
theorem dX67_putNode_268 : decode cX67_putNode 268 = .ok (.if_icmp .ge 29, 3) := by decide +kernel
theorem dX67_putNode_271 : decode cX67_putNode 271 = .ok (.aload_n 0, 1) := by decide +kernel
theorem dX67_putNode_272 : decode cX67_putNode 272 = .ok (.aload_n 0, 1) := by decide +kernel
theorem dX67_putNode_273 : decode cX67_putNode 273 = .ok (.getfield 67, 3) := by decide +kernel
theorem dX67_putNode_276 : decode cX67_putNode 276 = .ok (.iload_n 2, 1) := by decide +kernel
theorem dX67_putNode_277 : decode cX67_putNode 277 = .ok (.iaload, 1) := by decide +kernel
theorem dX67_putNode_278 : decode cX67_putNode 278 = .ok (.invokevirtual 1015, 3) := by decide +kernel
theorem dX67_putNode_281 : decode cX67_putNode 281 = .ok (.aload_n 0, 1) := by decide +kernel
theorem dX67_putNode_282 : decode cX67_putNode 282 = .ok (.aload_n 0, 1) := by decide +kernel
theorem dX67_putNode_283 : decode cX67_putNode 283 = .ok (.getfield 64, 3) := by decide +kernel
theorem dX67_putNode_286 : decode cX67_putNode 286 = .ok (.iload_n 2, 1) := by decide +kernel
theorem dX67_putNode_287 : decode cX67_putNode 287 = .ok (.laload, 1) := by decide +kernel
theorem dX67_putNode_288 : decode cX67_putNode 288 = .ok (.invokevirtual 1018, 3) := by decide +kernel
theorem dX67_putNode_291 : decode cX67_putNode 291 = .ok (.iinc 2 1, 3) := by decide +kernel
theorem dX67_putNode_294 : decode cX67_putNode 294 = .ok (.goto (-39), 3) := by decide +kernel
theorem dX67_putNode_297 : decode cX67_putNode 297 = .ok (.return_, 1) := by decide +kernel
theorem zy_X67_putNode : yX67_putNode.cls ≠ "java/lang/invoke/MethodHandle" ∧ yX67_putNode.cls ≠ "java/lang/invoke/VarHandle" ∧ (parseMethodDescriptor yX67_putNode.desc).map (fun d => d.parameters.length) = some 1 := by decide +kernel
theorem w_fX67_putNode_B255 {K : zK} (E : zE K cX67_putNode "RingHouseModel" none 2) (hN : zNl K = 3) (hT : zTr K = none) (x1 : Int) : ∀ r255 : Int → zX, (∀ s : Int, zR K 255 [(0, 69, 0), (1, 0, x1), (2, 0, s)] [] (r255 s)) → ∀ s : Int, zR K 255 [(0, 69, 0), (1, 0, x1), (2, 0, s)] [] (fX67_putNode_B255 x1 r255 s) := by
  intro r255 hr255 x2
  refine r_iload_n E dX67_putNode_255 rfl 2 rfl ?_
  refine r_sipush E dX67_putNode_256 (by decide) (zkI (by decide) (by decide)) ?_
  refine r_iload_n E dX67_putNode_259 rfl 1 rfl ?_
  refine r_imul E dX67_putNode_260 ?_
  refine r_aload_n E dX67_putNode_261 rfl 0 rfl ?_
  refine r_gec (y := 0) E zc_69 dX67_putNode_262 q3232 zr_69 (zh_6817 (by decide)) (by decide) ?_
  refine r_iload_n E dX67_putNode_265 rfl 1 rfl ?_
  refine r_iaload E zc_6817 za_6817 zt_6817 zx_6817 rfl rfl dX67_putNode_266 (by decide) (fun v13 => ?_)
  refine r_iadd E dX67_putNode_267 ?_
  refine r_icmp_ge E 297 (by decide) dX67_putNode_268 (fun _ => ?_) (fun _ => ?_)
  · exact r_return E rfl hT dX67_putNode_297
  · refine r_aload_n E dX67_putNode_271 rfl 0 rfl ?_
    refine r_aload_n E dX67_putNode_272 rfl 0 rfl ?_
    refine r_gec (y := 0) E zc_69 dX67_putNode_273 q3234 zr_69 (zh_6819 (by decide)) (by decide) ?_
    refine r_iload_n E dX67_putNode_276 rfl 2 rfl ?_
    refine r_iaload E zc_6819 za_6819 zt_6819 zx_6819 rfl rfl dX67_putNode_277 (by decide) (fun v14 => ?_)
    refine r_callV E [(0, v14)] [] rfl zc_69 zr_69 (fun o _ => ⟨_, zw_X67.1 o, rfl⟩) (lw_V q4314 q4316 qs205 q294 q4317) dX67_putNode_278 zy_X67_putByte rfl (by omega) (by decide) (Nat.le_of_ble_eq_true rfl) (by decide) (fun l G => k_fX67_putByte l G v14) (fun _ => ?_)
    refine r_aload_n E dX67_putNode_281 rfl 0 rfl ?_
    refine r_aload_n E dX67_putNode_282 rfl 0 rfl ?_
    refine r_gec (y := 0) E zc_69 dX67_putNode_283 q3233 zr_69 (zh_6818 (by decide)) (by decide) ?_
    refine r_iload_n E dX67_putNode_286 rfl 2 rfl ?_
    refine r_laload E zc_6818 za_6818 zt_6818 zx_6818 rfl rfl dX67_putNode_287 (by decide) (fun v16 => ?_)
    refine r_callV E [(1, v16)] [] rfl zc_69 zr_69 (fun o _ => ⟨_, zw_X67.1 o, rfl⟩) (lw_V q4323 q4325 qs207 q294 q4326) dX67_putNode_288 zy_X67_putWord rfl (by omega) (by decide) (Nat.le_of_ble_eq_true rfl) (by decide) (fun l G => k_fX67_putWord l G v16) (fun _ => ?_)
    refine r_iinc (ls' := fun v18 => [(2, 0, v18), (0, 69, 0), (1, 0, x1)]) E 2 rfl (by rw [hN]; decide) (fun _ => rfl) dX67_putNode_291 (fun v18 _ => ?_)
    refine r_goto E 255 (by decide) dX67_putNode_294 ?_
    refine r_pick E [1, 2, 0] rfl ?_
    exact hr255 v18
theorem w_fX67_putNode_B204 {K : zK} (E : zE K cX67_putNode "RingHouseModel" none 2) (hN : zNl K = 3) (hT : zTr K = none) (x1 : Int) : ∀ r204 : Int → zX, (∀ s : Int, zR K 204 [(0, 69, 0), (1, 0, x1), (2, 0, s)] [] (r204 s)) → ∀ s : Int, zR K 204 [(0, 69, 0), (1, 0, x1), (2, 0, s)] [] (fX67_putNode_B204 x1 r204 s) := by
  intro r204 hr204 x2
  refine r_iload_n E dX67_putNode_204 rfl 2 rfl ?_
  refine r_aload_n E dX67_putNode_205 rfl 0 rfl ?_
  refine r_gec (y := 0) E zc_69 dX67_putNode_206 q3221 zr_69 (zh_6806 (by decide)) (by decide) ?_
  refine r_iload_n E dX67_putNode_209 rfl 1 rfl ?_
  refine r_iaload E zc_6806 za_6806 zt_6806 zx_6806 rfl rfl dX67_putNode_210 (by decide) (fun v25 => ?_)
  refine r_icmp_ge E 236 (by decide) dX67_putNode_211 (fun _ => ?_) (fun _ => ?_)
  · refine r_goto E 297 (by decide) dX67_putNode_236 ?_
    exact r_return E rfl hT dX67_putNode_297
  · refine r_aload_n E dX67_putNode_214 rfl 0 rfl ?_
    refine r_aload_n E dX67_putNode_215 rfl 0 rfl ?_
    refine r_gec (y := 0) E zc_69 dX67_putNode_216 q3231 zr_69 (zh_6816 (by decide)) (by decide) ?_
    refine r_sipush E dX67_putNode_219 (by decide) (zkI (by decide) (by decide)) ?_
    refine r_iload_n E dX67_putNode_222 rfl 1 rfl ?_
    refine r_imul E dX67_putNode_223 ?_
    refine r_iload_n E dX67_putNode_224 rfl 2 rfl ?_
    refine r_iadd E dX67_putNode_225 ?_
    refine r_laload E zc_6816 za_6816 zt_6816 zx_6816 rfl rfl dX67_putNode_226 (by decide) (fun v26 => ?_)
    refine r_callV E [(1, v26)] [] rfl zc_69 zr_69 (fun o _ => ⟨_, zw_X67.1 o, rfl⟩) (lw_V q4323 q4325 qs207 q294 q4326) dX67_putNode_227 zy_X67_putWord rfl (by omega) (by decide) (Nat.le_of_ble_eq_true rfl) (by decide) (fun l G => k_fX67_putWord l G v26) (fun _ => ?_)
    refine r_iinc (ls' := fun v28 => [(2, 0, v28), (0, 69, 0), (1, 0, x1)]) E 2 rfl (by rw [hN]; decide) (fun _ => rfl) dX67_putNode_230 (fun v28 _ => ?_)
    refine r_goto E 204 (by decide) dX67_putNode_233 ?_
    refine r_pick E [1, 2, 0] rfl ?_
    exact hr204 v28
theorem w_fX67_putNode_J49 {K : zK} (E : zE K cX67_putNode "RingHouseModel" none 2) (hN : zNl K = 3) (hT : zTr K = none) (x1 : Int) : zR K 49 [(0, 69, 0), (1, 0, x1)] [] (fX67_putNode_J49 x1) := by
  refine r_aload_n E dX67_putNode_49 rfl 0 rfl ?_
  refine r_aload_n E dX67_putNode_50 rfl 0 rfl ?_
  refine r_gec (y := 0) E zc_69 dX67_putNode_51 q3228 zr_69 (zh_6813 (by decide)) (by decide) ?_
  refine r_bipush E dX67_putNode_54 (by decide) (zkI (by decide) (by decide)) ?_
  refine r_iload_n E dX67_putNode_56 rfl 1 rfl ?_
  refine r_imul E dX67_putNode_57 ?_
  refine r_aload_n E dX67_putNode_58 rfl 0 rfl ?_
  refine r_gec (y := 0) E zc_69 dX67_putNode_59 q3227 zr_69 (zh_6812 (by decide)) (by decide) ?_
  refine r_iload_n E dX67_putNode_62 rfl 1 rfl ?_
  refine r_iaload E zc_6812 za_6812 zt_6812 zx_6812 rfl rfl dX67_putNode_63 (by decide) (fun v6 => ?_)
  refine r_callV E [(6813, 0), (0, (zi (18 * x1))), (0, v6)] [] rfl zc_69 zr_69 (fun o _ => ⟨_, zw_X67.1 o, rfl⟩) (lw_V q4327 q4329 qs208 q294 q4330) dX67_putNode_64 zy_X67_putItems rfl (by omega) (by decide) (Nat.le_of_ble_eq_true rfl) (by decide) (fun l G => k_fX67_putItems l G 6813 (zi (18 * x1)) v6 (by decide)) (fun _ => ?_)
  refine r_aload_n E dX67_putNode_67 rfl 0 rfl ?_
  refine r_gec (y := 0) E zc_69 dX67_putNode_68 q3215 zr_69 (zh_6800 (by decide)) (by decide) ?_
  refine r_iload_n E dX67_putNode_71 rfl 1 rfl ?_
  refine r_iaload E zc_6800 za_6800 zt_6800 zx_6800 rfl rfl dX67_putNode_72 (by decide) (fun v8 => ?_)
  refine r_iconst E dX67_putNode_73 (zkI (by decide) (by decide)) ?_
  refine r_icmp_ne E 154 (by decide) dX67_putNode_74 (fun _ => ?_) (fun _ => ?_)
  · refine r_aload_n E dX67_putNode_154 rfl 0 rfl ?_
    refine r_gec (y := 0) E zc_69 dX67_putNode_155 q3215 zr_69 (zh_6800 (by decide)) (by decide) ?_
    refine r_iload_n E dX67_putNode_158 rfl 1 rfl ?_
    refine r_iaload E zc_6800 za_6800 zt_6800 zx_6800 rfl rfl dX67_putNode_159 (by decide) (fun v9 => ?_)
    refine r_iconst E dX67_putNode_160 (zkI (by decide) (by decide)) ?_
    refine r_icmp_ne E 239 (by decide) dX67_putNode_161 (fun _ => ?_) (fun _ => ?_)
    · refine r_aload_n E dX67_putNode_239 rfl 0 rfl ?_
      refine r_aload_n E dX67_putNode_240 rfl 0 rfl ?_
      refine r_gec (y := 0) E zc_69 dX67_putNode_241 q3232 zr_69 (zh_6817 (by decide)) (by decide) ?_
      refine r_iload_n E dX67_putNode_244 rfl 1 rfl ?_
      refine r_iaload E zc_6817 za_6817 zt_6817 zx_6817 rfl rfl dX67_putNode_245 (by decide) (fun v10 => ?_)
      refine r_callV E [(0, v10)] [] rfl zc_69 zr_69 (fun o _ => ⟨_, zw_X67.1 o, rfl⟩) (lw_V q4314 q4316 qs205 q294 q4317) dX67_putNode_246 zy_X67_putByte rfl (by omega) (by decide) (Nat.le_of_ble_eq_true rfl) (by decide) (fun l G => k_fX67_putByte l G v10) (fun _ => ?_)
      refine r_sipush E dX67_putNode_249 (by decide) (zkI (by decide) (by decide)) ?_
      refine r_iload_n E dX67_putNode_252 rfl 1 rfl ?_
      refine r_imul E dX67_putNode_253 ?_
      refine r_let E (fun v12 ev12 => ?_)
      refine r_istore_n (ls' := [(2, 0, v12), (0, 69, 0), (1, 0, x1)]) E dX67_putNode_254 rfl (by rw [hN]; decide) rfl ?_
      refine r_pick E [1, 2, 0] rfl ?_
      exact r_loop (L := fun s => [(0, 69, 0), (1, 0, x1), (2, 0, s)]) (w_fX67_putNode_B255 E hN hT x1) zBIG v12
    · refine r_aload_n E dX67_putNode_164 rfl 0 rfl ?_
      refine r_aload_n E dX67_putNode_165 rfl 0 rfl ?_
      refine r_gec (y := 0) E zc_69 dX67_putNode_166 q3220 zr_69 (zh_6805 (by decide)) (by decide) ?_
      refine r_iload_n E dX67_putNode_169 rfl 1 rfl ?_
      refine r_iaload E zc_6805 za_6805 zt_6805 zx_6805 rfl rfl dX67_putNode_170 (by decide) (fun v19 => ?_)
      refine r_callV E [(0, v19)] [] rfl zc_69 zr_69 (fun o _ => ⟨_, zw_X67.1 o, rfl⟩) (lw_V q4314 q4316 qs205 q294 q4317) dX67_putNode_171 zy_X67_putByte rfl (by omega) (by decide) (Nat.le_of_ble_eq_true rfl) (by decide) (fun l G => k_fX67_putByte l G v19) (fun _ => ?_)
      refine r_aload_n E dX67_putNode_174 rfl 0 rfl ?_
      refine r_aload_n E dX67_putNode_175 rfl 0 rfl ?_
      refine r_gec (y := 0) E zc_69 dX67_putNode_176 q3221 zr_69 (zh_6806 (by decide)) (by decide) ?_
      refine r_iload_n E dX67_putNode_179 rfl 1 rfl ?_
      refine r_iaload E zc_6806 za_6806 zt_6806 zx_6806 rfl rfl dX67_putNode_180 (by decide) (fun v21 => ?_)
      refine r_sipush E dX67_putNode_181 (by decide) (zkI (by decide) (by decide)) ?_
      refine r_idiv E (by decide) dX67_putNode_184 ?_
      refine r_callV E [(0, (zi (Int.tdiv v21 256)))] [] rfl zc_69 zr_69 (fun o _ => ⟨_, zw_X67.1 o, rfl⟩) (lw_V q4314 q4316 qs205 q294 q4317) dX67_putNode_185 zy_X67_putByte rfl (by omega) (by decide) (Nat.le_of_ble_eq_true rfl) (by decide) (fun l G => k_fX67_putByte l G (zi (Int.tdiv v21 256))) (fun _ => ?_)
      refine r_aload_n E dX67_putNode_188 rfl 0 rfl ?_
      refine r_aload_n E dX67_putNode_189 rfl 0 rfl ?_
      refine r_gec (y := 0) E zc_69 dX67_putNode_190 q3221 zr_69 (zh_6806 (by decide)) (by decide) ?_
      refine r_iload_n E dX67_putNode_193 rfl 1 rfl ?_
      refine r_iaload E zc_6806 za_6806 zt_6806 zx_6806 rfl rfl dX67_putNode_194 (by decide) (fun v23 => ?_)
      refine r_sipush E dX67_putNode_195 (by decide) (zkI (by decide) (by decide)) ?_
      refine r_irem E (by decide) dX67_putNode_198 ?_
      refine r_callV E [(0, (Int.tmod v23 256))] [] rfl zc_69 zr_69 (fun o _ => ⟨_, zw_X67.1 o, rfl⟩) (lw_V q4314 q4316 qs205 q294 q4317) dX67_putNode_199 zy_X67_putByte rfl (by omega) (by decide) (Nat.le_of_ble_eq_true rfl) (by decide) (fun l G => k_fX67_putByte l G (Int.tmod v23 256)) (fun _ => ?_)
      refine r_iconst E dX67_putNode_202 (zkI (by decide) (by decide)) ?_
      refine r_istore_n (ls' := [(2, 0, 0), (0, 69, 0), (1, 0, x1)]) E dX67_putNode_203 rfl (by rw [hN]; decide) rfl ?_
      refine r_pick E [1, 2, 0] rfl ?_
      exact r_loop (L := fun s => [(0, 69, 0), (1, 0, x1), (2, 0, s)]) (w_fX67_putNode_B204 E hN hT x1) zBIG 0
  · refine r_aload_n E dX67_putNode_77 rfl 0 rfl ?_
    refine r_aload_n E dX67_putNode_78 rfl 0 rfl ?_
    refine r_gec (y := 0) E zc_69 dX67_putNode_79 q3218 zr_69 (zh_6803 (by decide)) (by decide) ?_
    refine r_iload_n E dX67_putNode_82 rfl 1 rfl ?_
    refine r_iaload E zc_6803 za_6803 zt_6803 zx_6803 rfl rfl dX67_putNode_83 (by decide) (fun v29 => ?_)
    refine r_callV E [(0, v29)] [] rfl zc_69 zr_69 (fun o _ => ⟨_, zw_X67.1 o, rfl⟩) (lw_V q4314 q4316 qs205 q294 q4317) dX67_putNode_84 zy_X67_putByte rfl (by omega) (by decide) (Nat.le_of_ble_eq_true rfl) (by decide) (fun l G => k_fX67_putByte l G v29) (fun _ => ?_)
    refine r_aload_n E dX67_putNode_87 rfl 0 rfl ?_
    refine r_aload_n E dX67_putNode_88 rfl 0 rfl ?_
    refine r_gec (y := 0) E zc_69 dX67_putNode_89 q3222 zr_69 (zh_6807 (by decide)) (by decide) ?_
    refine r_iload_n E dX67_putNode_92 rfl 1 rfl ?_
    refine r_iaload E zc_6807 za_6807 zt_6807 zx_6807 rfl rfl dX67_putNode_93 (by decide) (fun v31 => ?_)
    refine r_callV E [(0, v31)] [] rfl zc_69 zr_69 (fun o _ => ⟨_, zw_X67.1 o, rfl⟩) (lw_V q4314 q4316 qs205 q294 q4317) dX67_putNode_94 zy_X67_putByte rfl (by omega) (by decide) (Nat.le_of_ble_eq_true rfl) (by decide) (fun l G => k_fX67_putByte l G v31) (fun _ => ?_)
    refine r_aload_n E dX67_putNode_97 rfl 0 rfl ?_
    refine r_aload_n E dX67_putNode_98 rfl 0 rfl ?_
    refine r_gec (y := 0) E zc_69 dX67_putNode_99 q3230 zr_69 (zh_6815 (by decide)) (by decide) ?_
    refine r_bipush E dX67_putNode_102 (by decide) (zkI (by decide) (by decide)) ?_
    refine r_iload_n E dX67_putNode_104 rfl 1 rfl ?_
    refine r_imul E dX67_putNode_105 ?_
    refine r_bipush E dX67_putNode_106 (by decide) (zkI (by decide) (by decide)) ?_
    refine r_iadd E dX67_putNode_108 ?_
    refine r_aload_n E dX67_putNode_109 rfl 0 rfl ?_
    refine r_gec (y := 0) E zc_69 dX67_putNode_110 q3229 zr_69 (zh_6814 (by decide)) (by decide) ?_
    refine r_iconst E dX67_putNode_113 (zkI (by decide) (by decide)) ?_
    refine r_iload_n E dX67_putNode_114 rfl 1 rfl ?_
    refine r_imul E dX67_putNode_115 ?_
    refine r_iconst E dX67_putNode_116 (zkI (by decide) (by decide)) ?_
    refine r_iadd E dX67_putNode_117 ?_
    refine r_iaload E zc_6814 za_6814 zt_6814 zx_6814 rfl rfl dX67_putNode_118 (by decide) (fun v33 => ?_)
    refine r_callV E [(6815, 0), (0, (zi ((zi (18 * x1)) + 9))), (0, v33)] [] rfl zc_69 zr_69 (fun o _ => ⟨_, zw_X67.1 o, rfl⟩) (lw_V q4327 q4329 qs208 q294 q4330) dX67_putNode_119 zy_X67_putItems rfl (by omega) (by decide) (Nat.le_of_ble_eq_true rfl) (by decide) (fun l G => k_fX67_putItems l G 6815 (zi ((zi (18 * x1)) + 9)) v33 (by decide)) (fun _ => ?_)
    refine r_aload_n E dX67_putNode_122 rfl 0 rfl ?_
    refine r_aload_n E dX67_putNode_123 rfl 0 rfl ?_
    refine r_gec (y := 0) E zc_69 dX67_putNode_124 q3230 zr_69 (zh_6815 (by decide)) (by decide) ?_
    refine r_bipush E dX67_putNode_127 (by decide) (zkI (by decide) (by decide)) ?_
    refine r_iload_n E dX67_putNode_129 rfl 1 rfl ?_
    refine r_imul E dX67_putNode_130 ?_
    refine r_aload_n E dX67_putNode_131 rfl 0 rfl ?_
    refine r_gec (y := 0) E zc_69 dX67_putNode_132 q3229 zr_69 (zh_6814 (by decide)) (by decide) ?_
    refine r_iconst E dX67_putNode_135 (zkI (by decide) (by decide)) ?_
    refine r_iload_n E dX67_putNode_136 rfl 1 rfl ?_
    refine r_imul E dX67_putNode_137 ?_
    refine r_iaload E zc_6814 za_6814 zt_6814 zx_6814 rfl rfl dX67_putNode_138 (by decide) (fun v35 => ?_)
    refine r_callV E [(6815, 0), (0, (zi (18 * x1))), (0, v35)] [] rfl zc_69 zr_69 (fun o _ => ⟨_, zw_X67.1 o, rfl⟩) (lw_V q4327 q4329 qs208 q294 q4330) dX67_putNode_139 zy_X67_putItems rfl (by omega) (by decide) (Nat.le_of_ble_eq_true rfl) (by decide) (fun l G => k_fX67_putItems l G 6815 (zi (18 * x1)) v35 (by decide)) (fun _ => ?_)
    refine r_aload_n E dX67_putNode_142 rfl 0 rfl ?_
    refine r_aload_n E dX67_putNode_143 rfl 0 rfl ?_
    refine r_iload_n E dX67_putNode_144 rfl 1 rfl ?_
    refine r_callV E [(0, x1)] [(69, 0)] rfl zc_69 zr_69 (fun o _ => ⟨_, zw_X67.1 o, rfl⟩) (lw_V q3768 q3770 qs113 q294 q3771) dX67_putNode_145 zy_X67_countEntries rfl (by omega) (by decide) (Nat.le_of_ble_eq_true rfl) (by decide) (fun l G => k_fX67_countEntries l G x1) (fun v37 => ?_)
    refine r_callV E [(0, v37)] [] rfl zc_69 zr_69 (fun o _ => ⟨_, zw_X67.1 o, rfl⟩) (lw_V q4314 q4316 qs205 q294 q4317) dX67_putNode_148 zy_X67_putByte rfl (by omega) (by decide) (Nat.le_of_ble_eq_true rfl) (by decide) (fun l G => k_fX67_putByte l G v37) (fun _ => ?_)
    refine r_goto E 297 (by decide) dX67_putNode_151 ?_
    exact r_return E rfl hT dX67_putNode_297
theorem w_fX67_putNode_B24 {K : zK} (E : zE K cX67_putNode "RingHouseModel" none 2) (hN : zNl K = 3) (hT : zTr K = none) (x1 : Int) : ∀ r24 : Int → zX, (∀ s : Int, zR K 24 [(0, 69, 0), (1, 0, x1), (2, 0, s)] [] (r24 s)) → ∀ s : Int, zR K 24 [(0, 69, 0), (1, 0, x1), (2, 0, s)] [] (fX67_putNode_B24 x1 r24 s) := by
  intro r24 hr24 x2
  refine r_iload_n E dX67_putNode_24 rfl 2 rfl ?_
  refine r_iconst E dX67_putNode_25 (zkI (by decide) (by decide)) ?_
  refine r_iload_n E dX67_putNode_26 rfl 1 rfl ?_
  refine r_imul E dX67_putNode_27 ?_
  refine r_iconst E dX67_putNode_28 (zkI (by decide) (by decide)) ?_
  refine r_iadd E dX67_putNode_29 ?_
  refine r_icmp_ge E 49 (by decide) dX67_putNode_30 (fun _ => ?_) (fun _ => ?_)
  · refine r_pick E [0, 1] rfl ?_
    exact w_fX67_putNode_J49 E hN hT x1
  · refine r_aload_n E dX67_putNode_33 rfl 0 rfl ?_
    refine r_aload_n E dX67_putNode_34 rfl 0 rfl ?_
    refine r_gec (y := 0) E zc_69 dX67_putNode_35 q3219 zr_69 (zh_6804 (by decide)) (by decide) ?_
    refine r_iload_n E dX67_putNode_38 rfl 2 rfl ?_
    refine r_iaload E zc_6804 za_6804 zt_6804 zx_6804 rfl rfl dX67_putNode_39 (by decide) (fun v39 => ?_)
    refine r_callV E [(0, v39)] [] rfl zc_69 zr_69 (fun o _ => ⟨_, zw_X67.1 o, rfl⟩) (lw_V q4314 q4316 qs205 q294 q4317) dX67_putNode_40 zy_X67_putByte rfl (by omega) (by decide) (Nat.le_of_ble_eq_true rfl) (by decide) (fun l G => k_fX67_putByte l G v39) (fun _ => ?_)
    refine r_iinc (ls' := fun v41 => [(2, 0, v41), (0, 69, 0), (1, 0, x1)]) E 2 rfl (by rw [hN]; decide) (fun _ => rfl) dX67_putNode_43 (fun v41 _ => ?_)
    refine r_goto E 24 (by decide) dX67_putNode_46 ?_
    refine r_pick E [1, 2, 0] rfl ?_
    exact hr24 v41
theorem w_fX67_putNode {K : zK} (E : zE K cX67_putNode "RingHouseModel" none 2) (hN : zNl K = 3) (hT : zTr K = none) (x1 : Int) : zR K 0 [(0, 69, 0), (1, 0, x1)] [] (fX67_putNode x1) := by
  refine r_aload_n E dX67_putNode_0 rfl 0 rfl ?_
  refine r_aload_n E dX67_putNode_1 rfl 0 rfl ?_
  refine r_gec (y := 0) E zc_69 dX67_putNode_2 q3215 zr_69 (zh_6800 (by decide)) (by decide) ?_
  refine r_iload_n E dX67_putNode_5 rfl 1 rfl ?_
  refine r_iaload E zc_6800 za_6800 zt_6800 zx_6800 rfl rfl dX67_putNode_6 (by decide) (fun v1 => ?_)
  refine r_callV E [(0, v1)] [] rfl zc_69 zr_69 (fun o _ => ⟨_, zw_X67.1 o, rfl⟩) (lw_V q4314 q4316 qs205 q294 q4317) dX67_putNode_7 zy_X67_putByte rfl (by omega) (by decide) (Nat.le_of_ble_eq_true rfl) (by decide) (fun l G => k_fX67_putByte l G v1) (fun _ => ?_)
  refine r_aload_n E dX67_putNode_10 rfl 0 rfl ?_
  refine r_aload_n E dX67_putNode_11 rfl 0 rfl ?_
  refine r_gec (y := 0) E zc_69 dX67_putNode_12 q3216 zr_69 (zh_6801 (by decide)) (by decide) ?_
  refine r_iload_n E dX67_putNode_15 rfl 1 rfl ?_
  refine r_laload E zc_6801 za_6801 zt_6801 zx_6801 rfl rfl dX67_putNode_16 (by decide) (fun v3 => ?_)
  refine r_callV E [(1, v3)] [] rfl zc_69 zr_69 (fun o _ => ⟨_, zw_X67.1 o, rfl⟩) (lw_V q4323 q4325 qs207 q294 q4326) dX67_putNode_17 zy_X67_putWord rfl (by omega) (by decide) (Nat.le_of_ble_eq_true rfl) (by decide) (fun l G => k_fX67_putWord l G v3) (fun _ => ?_)
  refine r_iconst E dX67_putNode_20 (zkI (by decide) (by decide)) ?_
  refine r_iload_n E dX67_putNode_21 rfl 1 rfl ?_
  refine r_imul E dX67_putNode_22 ?_
  refine r_let E (fun v5 ev5 => ?_)
  refine r_istore_n (ls' := [(2, 0, v5), (0, 69, 0), (1, 0, x1)]) E dX67_putNode_23 rfl (by rw [hN]; decide) rfl ?_
  refine r_pick E [1, 2, 0] rfl ?_
  exact r_loop (L := fun s => [(0, 69, 0), (1, 0, x1), (2, 0, s)]) (w_fX67_putNode_B24 E hN hT x1) zBIG v5
theorem k_fX67_putNode (l : Launch) (G : zG) (x1 : Int) : zCt l G yX67_putNode cX67_putNode 3 none 2 [(69, 0), (0, x1)] none (fX67_putNode x1) := zCt.of (by decide) (Nat.le_of_ble_eq_true rfl) (fun K E _ _ hN hT => w_fX67_putNode E hN hT x1)
theorem dX67_behindOnTape_0 : decode cX67_behindOnTape 0 = .ok (.aload_n 0, 1) := by decide +kernel
theorem dX67_behindOnTape_1 : decode cX67_behindOnTape 1 = .ok (.getfield 7, 3) := by decide +kernel
theorem dX67_behindOnTape_4 : decode cX67_behindOnTape 4 = .ok (.iload_n 1, 1) := by decide +kernel
theorem dX67_behindOnTape_5 : decode cX67_behindOnTape 5 = .ok (.iaload, 1) := by decide +kernel
theorem dX67_behindOnTape_6 : decode cX67_behindOnTape 6 = .ok (.iconst 1, 1) := by decide +kernel
theorem dX67_behindOnTape_7 : decode cX67_behindOnTape 7 = .ok (.if_icmp .ne 12, 3) := by decide +kernel
theorem dX67_behindOnTape_10 : decode cX67_behindOnTape 10 = .ok (.aload_n 0, 1) := by decide +kernel
theorem dX67_behindOnTape_11 : decode cX67_behindOnTape 11 = .ok (.iload_n 1, 1) := by decide +kernel
theorem dX67_behindOnTape_12 : decode cX67_behindOnTape 12 = .ok (.iconst 0, 1) := by decide +kernel
theorem dX67_behindOnTape_13 : decode cX67_behindOnTape 13 = .ok (.invokevirtual 383, 3) := by decide +kernel
theorem dX67_behindOnTape_16 : decode cX67_behindOnTape 16 = .ok (.goto 4, 3) := by decide +kernel
theorem dX67_behindOnTape_19 : decode cX67_behindOnTape 19 = .ok (.iconst (-1), 1) := by decide +kernel
theorem dX67_behindOnTape_20 : decode cX67_behindOnTape 20 = .ok (.istore_n 3, 1) := by decide +kernel
theorem dX67_behindOnTape_21 : decode cX67_behindOnTape 21 = .ok (.iload_n 1, 1) := by decide +kernel
theorem dX67_behindOnTape_22 : decode cX67_behindOnTape 22 = .ok (.istore 4, 2) := by decide +kernel
theorem dX67_behindOnTape_24 : decode cX67_behindOnTape 24 = .ok (.iload_n 3, 1) := by decide +kernel
theorem dX67_behindOnTape_25 : decode cX67_behindOnTape 25 = .ok (.ifCond .ge 35, 3) := by decide +kernel
theorem dX67_behindOnTape_28 : decode cX67_behindOnTape 28 = .ok (.iload 4, 2) := by decide +kernel
theorem dX67_behindOnTape_30 : decode cX67_behindOnTape 30 = .ok (.iload_n 2, 1) := by decide +kernel
theorem dX67_behindOnTape_31 : decode cX67_behindOnTape 31 = .ok (.if_icmp .eq 29, 3) := by decide +kernel
theorem dX67_behindOnTape_34 : decode cX67_behindOnTape 34 = .ok (.aload_n 0, 1) := by decide +kernel
theorem dX67_behindOnTape_35 : decode cX67_behindOnTape 35 = .ok (.aload_n 0, 1) := by decide +kernel
theorem dX67_behindOnTape_36 : decode cX67_behindOnTape 36 = .ok (.getfield 17, 3) := by decide +kernel
theorem dX67_behindOnTape_39 : decode cX67_behindOnTape 39 = .ok (.iload 4, 2) := by decide +kernel
theorem dX67_behindOnTape_41 : decode cX67_behindOnTape 41 = .ok (.iaload, 1) := by decide +kernel
theorem dX67_behindOnTape_42 : decode cX67_behindOnTape 42 = .ok (.iload 4, 2) := by decide +kernel
theorem dX67_behindOnTape_44 : decode cX67_behindOnTape 44 = .ok (.invokevirtual 383, 3) := by decide +kernel
theorem dX67_behindOnTape_47 : decode cX67_behindOnTape 47 = .ok (.istore_n 3, 1) := by decide +kernel
theorem dX67_behindOnTape_48 : decode cX67_behindOnTape 48 = .ok (.aload_n 0, 1) := by decide +kernel
theorem dX67_behindOnTape_49 : decode cX67_behindOnTape 49 = .ok (.getfield 17, 3) := by decide +kernel
theorem dX67_behindOnTape_52 : decode cX67_behindOnTape 52 = .ok (.iload 4, 2) := by decide +kernel
theorem dX67_behindOnTape_54 : decode cX67_behindOnTape 54 = .ok (.iaload, 1) := by decide +kernel
theorem dX67_behindOnTape_55 : decode cX67_behindOnTape 55 = .ok (.istore 4, 2) := by decide +kernel
theorem dX67_behindOnTape_57 : decode cX67_behindOnTape 57 = .ok (.goto (-33), 3) := by decide +kernel
theorem dX67_behindOnTape_60 : decode cX67_behindOnTape 60 = .ok (.iload_n 3, 1) := by decide +kernel
theorem dX67_behindOnTape_61 : decode cX67_behindOnTape 61 = .ok (.ireturn, 1) := by decide +kernel
theorem zy_X67_behindOnTape : yX67_behindOnTape.cls ≠ "java/lang/invoke/MethodHandle" ∧ yX67_behindOnTape.cls ≠ "java/lang/invoke/VarHandle" ∧ (parseMethodDescriptor yX67_behindOnTape.desc).map (fun d => d.parameters.length) = some 2 := by decide +kernel
theorem w_fX67_behindOnTape_B24 {K : zK} (E : zE K cX67_behindOnTape "RingHouseModel" (some .int) 1) (hN : zNl K = 5) (hT : zTr K = (some 0)) (x2 : Int) : ∀ r24 : Int × Int → zX, (∀ s : Int × Int, zR K 24 [(0, 69, 0), (2, 0, x2), (3, 0, s.1), (4, 0, s.2)] [] (r24 s)) → ∀ s : Int × Int, zR K 24 [(0, 69, 0), (2, 0, x2), (3, 0, s.1), (4, 0, s.2)] [] (fX67_behindOnTape_B24 x2 r24 s) := by
  intro r24 hr24 s
  obtain ⟨x3, x4⟩ := s
  refine r_iload_n E dX67_behindOnTape_24 rfl 2 rfl ?_
  refine r_if_ge E 60 (by decide) dX67_behindOnTape_25 (fun _ => ?_) (fun _ => ?_)
  · refine r_iload_n E dX67_behindOnTape_60 rfl 2 rfl ?_
    exact r_ireturn E rfl hT dX67_behindOnTape_61
  · refine r_iload E dX67_behindOnTape_28 3 rfl ?_
    refine r_iload_n E dX67_behindOnTape_30 rfl 1 rfl ?_
    refine r_icmp_eq E 60 (by decide) dX67_behindOnTape_31 (fun _ => ?_) (fun _ => ?_)
    · refine r_iload_n E dX67_behindOnTape_60 rfl 2 rfl ?_
      exact r_ireturn E rfl hT dX67_behindOnTape_61
    · refine r_aload_n E dX67_behindOnTape_34 rfl 0 rfl ?_
      refine r_aload_n E dX67_behindOnTape_35 rfl 0 rfl ?_
      refine r_gec (y := 0) E zc_69 dX67_behindOnTape_36 q3217 zr_69 (zh_6802 (by decide)) (by decide) ?_
      refine r_iload E dX67_behindOnTape_39 3 rfl ?_
      refine r_iaload E zc_6802 za_6802 zt_6802 zx_6802 rfl rfl dX67_behindOnTape_41 (by decide) (fun v2 => ?_)
      refine r_iload E dX67_behindOnTape_42 3 rfl ?_
      refine r_callV E [(0, v2), (0, x4)] [] rfl zc_69 zr_69 (fun o _ => ⟨_, zw_X67.1 o, rfl⟩) (lw_V q4005 q4007 qs156 q294 q4008) dX67_behindOnTape_44 zy_X67_entryBehind rfl (by omega) (by decide) (Nat.le_of_ble_eq_true rfl) (by decide) (fun l G => k_fX67_entryBehind l G v2 x4) (fun v3 => ?_)
      refine r_istore_n (ls' := [(3, 0, v3), (0, 69, 0), (2, 0, x2), (4, 0, x4)]) E dX67_behindOnTape_47 rfl (by rw [hN]; decide) rfl ?_
      refine r_aload_n E dX67_behindOnTape_48 rfl 1 rfl ?_
      refine r_gec (y := 0) E zc_69 dX67_behindOnTape_49 q3217 zr_69 (zh_6802 (by decide)) (by decide) ?_
      refine r_iload E dX67_behindOnTape_52 3 rfl ?_
      refine r_iaload E zc_6802 za_6802 zt_6802 zx_6802 rfl rfl dX67_behindOnTape_54 (by decide) (fun v4 => ?_)
      refine r_istore (ls' := [(4, 0, v4), (3, 0, v3), (0, 69, 0), (2, 0, x2)]) E dX67_behindOnTape_55 (by rw [hN]; decide) rfl ?_
      refine r_goto E 24 (by decide) dX67_behindOnTape_57 ?_
      refine r_pick E [2, 3, 1, 0] rfl ?_
      exact hr24 (v3, v4)
theorem w_fX67_behindOnTape_J20 {K : zK} (E : zE K cX67_behindOnTape "RingHouseModel" (some .int) 1) (hN : zNl K = 5) (hT : zTr K = (some 0)) (x1 : Int) (x2 : Int) (s0 : Int) : zR K 20 [(0, 69, 0), (1, 0, x1), (2, 0, x2)] [(0, s0)] (fX67_behindOnTape_J20 x1 x2 s0) := by
  refine r_istore_n (ls' := [(3, 0, s0), (0, 69, 0), (1, 0, x1), (2, 0, x2)]) E dX67_behindOnTape_20 rfl (by rw [hN]; decide) rfl ?_
  refine r_iload_n E dX67_behindOnTape_21 rfl 2 rfl ?_
  refine r_istore (ls' := [(4, 0, x1), (3, 0, s0), (0, 69, 0), (1, 0, x1), (2, 0, x2)]) E dX67_behindOnTape_22 (by rw [hN]; decide) rfl ?_
  refine r_pick E [2, 4, 1, 0] rfl ?_
  exact r_loop (L := fun s => [(0, 69, 0), (2, 0, x2), (3, 0, s.1), (4, 0, s.2)]) (w_fX67_behindOnTape_B24 E hN hT x2) zBIG (s0, x1)
theorem w_fX67_behindOnTape {K : zK} (E : zE K cX67_behindOnTape "RingHouseModel" (some .int) 1) (hN : zNl K = 5) (hT : zTr K = (some 0)) (x1 : Int) (x2 : Int) : zR K 0 [(0, 69, 0), (1, 0, x1), (2, 0, x2)] [] (fX67_behindOnTape x1 x2) := by
  refine r_aload_n E dX67_behindOnTape_0 rfl 0 rfl ?_
  refine r_gec (y := 0) E zc_69 dX67_behindOnTape_1 q3215 zr_69 (zh_6800 (by decide)) (by decide) ?_
  refine r_iload_n E dX67_behindOnTape_4 rfl 1 rfl ?_
  refine r_iaload E zc_6800 za_6800 zt_6800 zx_6800 rfl rfl dX67_behindOnTape_5 (by decide) (fun v1 => ?_)
  refine r_iconst E dX67_behindOnTape_6 (zkI (by decide) (by decide)) ?_
  refine r_icmp_ne E 19 (by decide) dX67_behindOnTape_7 (fun _ => ?_) (fun _ => ?_)
  · refine r_iconst E dX67_behindOnTape_19 (zkI (by decide) (by decide)) ?_
    exact w_fX67_behindOnTape_J20 E hN hT x1 x2 (-1)
  · refine r_aload_n E dX67_behindOnTape_10 rfl 0 rfl ?_
    refine r_iload_n E dX67_behindOnTape_11 rfl 1 rfl ?_
    refine r_iconst E dX67_behindOnTape_12 (zkI (by decide) (by decide)) ?_
    refine r_callV E [(0, x1), (0, 0)] [] rfl zc_69 zr_69 (fun o _ => ⟨_, zw_X67.1 o, rfl⟩) (lw_V q4005 q4007 qs156 q294 q4008) dX67_behindOnTape_13 zy_X67_entryBehind rfl (by omega) (by decide) (Nat.le_of_ble_eq_true rfl) (by decide) (fun l G => k_fX67_entryBehind l G x1 0) (fun v5 => ?_)
    refine r_goto E 20 (by decide) dX67_behindOnTape_16 ?_
    exact w_fX67_behindOnTape_J20 E hN hT x1 x2 v5
theorem k_fX67_behindOnTape (l : Launch) (G : zG) (x1 : Int) (x2 : Int) : zCt l G yX67_behindOnTape cX67_behindOnTape 5 (some .int) 1 [(69, 0), (0, x1), (0, x2)] (some 0) (fX67_behindOnTape x1 x2) := zCt.of (by decide) (Nat.le_of_ble_eq_true rfl) (fun K E _ _ hN hT => w_fX67_behindOnTape E hN hT x1 x2)
theorem dX67_dump_0 : decode cX67_dump 0 = .ok (.aload_n 0, 1) := by decide +kernel
theorem dX67_dump_1 : decode cX67_dump 1 = .ok (.iload_n 1, 1) := by decide +kernel
theorem dX67_dump_2 : decode cX67_dump 2 = .ok (.invokevirtual 379, 3) := by decide +kernel
theorem dX67_dump_5 : decode cX67_dump 5 = .ok (.ifCond .eq 7, 3) := by decide +kernel
theorem dX67_dump_8 : decode cX67_dump 8 = .ok (.iload_n 1, 1) := by decide +kernel
theorem dX67_dump_9 : decode cX67_dump 9 = .ok (.ifCond .ne 6, 3) := by decide +kernel
theorem dX67_dump_12 : decode cX67_dump 12 = .ok (.bipush (-8), 2) := by decide +kernel
theorem dX67_dump_14 : decode cX67_dump 14 = .ok (.ireturn, 1) := by decide +kernel
theorem dX67_dump_15 : decode cX67_dump 15 = .ok (.aload_n 0, 1) := by decide +kernel
theorem dX67_dump_16 : decode cX67_dump 16 = .ok (.iconst 0, 1) := by decide +kernel
theorem dX67_dump_17 : decode cX67_dump 17 = .ok (.putfield 1008, 3) := by decide +kernel
theorem dX67_dump_20 : decode cX67_dump 20 = .ok (.aload_n 0, 1) := by decide +kernel
theorem dX67_dump_21 : decode cX67_dump 21 = .ok (.iconst 0, 1) := by decide +kernel
theorem dX67_dump_22 : decode cX67_dump 22 = .ok (.putfield 1011, 3) := by decide +kernel
theorem dX67_dump_25 : decode cX67_dump 25 = .ok (.aload_n 0, 1) := by decide +kernel
theorem dX67_dump_26 : decode cX67_dump 26 = .ok (.bipush 82, 2) := by decide +kernel
theorem dX67_dump_28 : decode cX67_dump 28 = .ok (.invokevirtual 1015, 3) := by decide +kernel
theorem dX67_dump_31 : decode cX67_dump 31 = .ok (.aload_n 0, 1) := by decide +kernel
theorem dX67_dump_32 : decode cX67_dump 32 = .ok (.bipush 72, 2) := by decide +kernel
theorem dX67_dump_34 : decode cX67_dump 34 = .ok (.invokevirtual 1015, 3) := by decide +kernel
theorem dX67_dump_37 : decode cX67_dump 37 = .ok (.aload_n 0, 1) := by decide +kernel
theorem dX67_dump_38 : decode cX67_dump 38 = .ok (.iconst 1, 1) := by decide +kernel
theorem dX67_dump_39 : decode cX67_dump 39 = .ok (.invokevirtual 1015, 3) := by decide +kernel
theorem dX67_dump_42 : decode cX67_dump 42 = .ok (.iload_n 1, 1) := by decide +kernel
theorem dX67_dump_43 : decode cX67_dump 43 = .ok (.istore_n 2, 1) := by decide +kernel
theorem dX67_dump_44 : decode cX67_dump 44 = .ok (.iload_n 2, 1) := by decide +kernel
theorem dX67_dump_45 : decode cX67_dump 45 = .ok (.ifCond .lt 18, 3) := by decide +kernel
theorem dX67_dump_48 : decode cX67_dump 48 = .ok (.aload_n 0, 1) := by decide +kernel
theorem dX67_dump_49 : decode cX67_dump 49 = .ok (.iload_n 2, 1) := by decide +kernel
theorem dX67_dump_50 : decode cX67_dump 50 = .ok (.invokevirtual 1025, 3) := by decide +kernel
theorem dX67_dump_53 : decode cX67_dump 53 = .ok (.aload_n 0, 1) := by decide +kernel
theorem dX67_dump_54 : decode cX67_dump 54 = .ok (.iload_n 2, 1) := by decide +kernel
theorem dX67_dump_55 : decode cX67_dump 55 = .ok (.iload_n 1, 1) := by decide +kernel
theorem dX67_dump_56 : decode cX67_dump 56 = .ok (.invokevirtual 1028, 3) := by decide +kernel
theorem dX67_dump_59 : decode cX67_dump 59 = .ok (.istore_n 2, 1) := by decide +kernel
theorem dX67_dump_60 : decode cX67_dump 60 = .ok (.goto (-16), 3) := by decide +kernel
theorem dX67_dump_63 : decode cX67_dump 63 = .ok (.aload_n 0, 1) := by decide +kernel
theorem dX67_dump_64 : decode cX67_dump 64 = .ok (.getfield 1011, 3) := by decide +kernel
theorem dX67_dump_67 : decode cX67_dump 67 = .ok (.istore_n 2, 1) := by decide +kernel
theorem dX67_dump_68 : decode cX67_dump 68 = .ok (.aload_n 0, 1) := by decide +kernel
theorem dX67_dump_69 : decode cX67_dump 69 = .ok (.iload_n 2, 1) := by decide +kernel
theorem dX67_dump_70 : decode cX67_dump 70 = .ok (.sipush 256, 3) := by decide +kernel
theorem dX67_dump_73 : decode cX67_dump 73 = .ok (.idiv, 1) := by decide +kernel
theorem dX67_dump_74 : decode cX67_dump 74 = .ok (.invokevirtual 1015, 3) := by decide +kernel
theorem dX67_dump_77 : decode cX67_dump 77 = .ok (.aload_n 0, 1) := by decide +kernel
theorem dX67_dump_78 : decode cX67_dump 78 = .ok (.iload_n 2, 1) := by decide +kernel
theorem dX67_dump_79 : decode cX67_dump 79 = .ok (.sipush 256, 3) := by decide +kernel
theorem dX67_dump_82 : decode cX67_dump 82 = .ok (.irem, 1) := by decide +kernel
theorem dX67_dump_83 : decode cX67_dump 83 = .ok (.invokevirtual 1015, 3) := by decide +kernel
theorem dX67_dump_86 : decode cX67_dump 86 = .ok (.aload_n 0, 1) := by decide +kernel
theorem dX67_dump_87 : decode cX67_dump 87 = .ok (.getfield 1008, 3) := by decide +kernel
theorem dX67_dump_90 : decode cX67_dump 90 = .ok (.ireturn, 1) := by decide +kernel
theorem zy_X67_dump : yX67_dump.cls ≠ "java/lang/invoke/MethodHandle" ∧ yX67_dump.cls ≠ "java/lang/invoke/VarHandle" ∧ (parseMethodDescriptor yX67_dump.desc).map (fun d => d.parameters.length) = some 1 := by decide +kernel
theorem w_fX67_dump_J63 {K : zK} (E : zE K cX67_dump "RingHouseModel" (some .int) 3) (hN : zNl K = 3) (hT : zTr K = (some 0)) : zR K 63 [(0, 69, 0)] [] (fX67_dump_J63) := by
  refine r_aload_n E dX67_dump_63 rfl 0 rfl ?_
  refine r_get E zc_69 zt_6915 dX67_dump_64 q3329 zr_69 (zg_6915 _) (by decide) (fun v5 => ?_)
  refine r_istore_n (ls' := [(2, 0, v5), (0, 69, 0)]) E dX67_dump_67 rfl (by rw [hN]; decide) rfl ?_
  refine r_aload_n E dX67_dump_68 rfl 1 rfl ?_
  refine r_iload_n E dX67_dump_69 rfl 0 rfl ?_
  refine r_sipush E dX67_dump_70 (by decide) (zkI (by decide) (by decide)) ?_
  refine r_idiv E (by decide) dX67_dump_73 ?_
  refine r_callV E [(0, (zi (Int.tdiv v5 256)))] [] rfl zc_69 zr_69 (fun o _ => ⟨_, zw_X67.1 o, rfl⟩) (lw_V q4314 q4316 qs205 q294 q4317) dX67_dump_74 zy_X67_putByte rfl (by omega) (by decide) (Nat.le_of_ble_eq_true rfl) (by decide) (fun l G => k_fX67_putByte l G (zi (Int.tdiv v5 256))) (fun _ => ?_)
  refine r_aload_n E dX67_dump_77 rfl 1 rfl ?_
  refine r_iload_n E dX67_dump_78 rfl 0 rfl ?_
  refine r_sipush E dX67_dump_79 (by decide) (zkI (by decide) (by decide)) ?_
  refine r_irem E (by decide) dX67_dump_82 ?_
  refine r_callV E [(0, (Int.tmod v5 256))] [] rfl zc_69 zr_69 (fun o _ => ⟨_, zw_X67.1 o, rfl⟩) (lw_V q4314 q4316 qs205 q294 q4317) dX67_dump_83 zy_X67_putByte rfl (by omega) (by decide) (Nat.le_of_ble_eq_true rfl) (by decide) (fun l G => k_fX67_putByte l G (Int.tmod v5 256)) (fun _ => ?_)
  refine r_aload_n E dX67_dump_86 rfl 1 rfl ?_
  refine r_get E zc_69 zt_6872 dX67_dump_87 q3287 zr_69 (zg_6872 _) (by decide) (fun v8 => ?_)
  exact r_ireturn E rfl hT dX67_dump_90
theorem w_fX67_dump_B44 {K : zK} (E : zE K cX67_dump "RingHouseModel" (some .int) 3) (hN : zNl K = 3) (hT : zTr K = (some 0)) (x1 : Int) : ∀ r44 : Int → zX, (∀ s : Int, zR K 44 [(0, 69, 0), (1, 0, x1), (2, 0, s)] [] (r44 s)) → ∀ s : Int, zR K 44 [(0, 69, 0), (1, 0, x1), (2, 0, s)] [] (fX67_dump_B44 x1 r44 s) := by
  intro r44 hr44 x2
  refine r_iload_n E dX67_dump_44 rfl 2 rfl ?_
  refine r_if_lt E 63 (by decide) dX67_dump_45 (fun _ => ?_) (fun _ => ?_)
  · refine r_pick E [0] rfl ?_
    exact w_fX67_dump_J63 E hN hT
  · refine r_aload_n E dX67_dump_48 rfl 0 rfl ?_
    refine r_iload_n E dX67_dump_49 rfl 2 rfl ?_
    refine r_callV E [(0, x2)] [] rfl zc_69 zr_69 (fun o _ => ⟨_, zw_X67.1 o, rfl⟩) (lw_V q4319 q4321 qs206 q294 q4322) dX67_dump_50 zy_X67_putNode rfl (by omega) (by decide) (Nat.le_of_ble_eq_true rfl) (by decide) (fun l G => k_fX67_putNode l G x2) (fun _ => ?_)
    refine r_aload_n E dX67_dump_53 rfl 0 rfl ?_
    refine r_iload_n E dX67_dump_54 rfl 2 rfl ?_
    refine r_iload_n E dX67_dump_55 rfl 1 rfl ?_
    refine r_callV E [(0, x2), (0, x1)] [] rfl zc_69 zr_69 (fun o _ => ⟨_, zw_X67.1 o, rfl⟩) (lw_V q4331 q4333 qs209 q294 q4334) dX67_dump_56 zy_X67_behindOnTape rfl (by omega) (by decide) (Nat.le_of_ble_eq_true rfl) (by decide) (fun l G => k_fX67_behindOnTape l G x2 x1) (fun v10 => ?_)
    refine r_istore_n (ls' := [(2, 0, v10), (0, 69, 0), (1, 0, x1)]) E dX67_dump_59 rfl (by rw [hN]; decide) rfl ?_
    refine r_goto E 44 (by decide) dX67_dump_60 ?_
    refine r_pick E [1, 2, 0] rfl ?_
    exact hr44 v10
theorem w_fX67_dump {K : zK} (E : zE K cX67_dump "RingHouseModel" (some .int) 3) (hN : zNl K = 3) (hT : zTr K = (some 0)) (x1 : Int) : zR K 0 [(0, 69, 0), (1, 0, x1)] [] (fX67_dump x1) := by
  refine r_aload_n E dX67_dump_0 rfl 0 rfl ?_
  refine r_iload_n E dX67_dump_1 rfl 1 rfl ?_
  refine r_callV E [(0, x1)] [] rfl zc_69 zr_69 (fun o _ => ⟨_, zw_X67.1 o, rfl⟩) (lw_V q3614 q3616 qs93 q294 q3617) dX67_dump_2 zy_X67_isNode rfl (by omega) (by decide) (Nat.le_of_ble_eq_true rfl) (by decide) (fun l G => k_fX67_isNode l G x1) (fun v1 => ?_)
  refine r_if_eq E 12 (by decide) dX67_dump_5 (fun _ => ?_) (fun _ => ?_)
  · refine r_bipush E dX67_dump_12 (by decide) (zkI (by decide) (by decide)) ?_
    exact r_ireturn E rfl hT dX67_dump_14
  · refine r_iload_n E dX67_dump_8 rfl 1 rfl ?_
    refine r_if_ne E 15 (by decide) dX67_dump_9 (fun _ => ?_) (fun _ => ?_)
    · refine r_aload_n E dX67_dump_15 rfl 0 rfl ?_
      refine r_iconst E dX67_dump_16 (zkI (by decide) (by decide)) ?_
      refine r_put E zc_69 zt_6872 zo_6872 dX67_dump_17 q3287 zr_69 zw_X67 zp_6872 (fun _ => rfl) (fun _ => rfl) (by decide) ?_
      refine r_aload_n E dX67_dump_20 rfl 0 rfl ?_
      refine r_iconst E dX67_dump_21 (zkI (by decide) (by decide)) ?_
      refine r_put E zc_69 zt_6915 zo_6915 dX67_dump_22 q3329 zr_69 zw_X67 zp_6915 (fun _ => rfl) (fun _ => rfl) (by decide) ?_
      refine r_aload_n E dX67_dump_25 rfl 0 rfl ?_
      refine r_bipush E dX67_dump_26 (by decide) (zkI (by decide) (by decide)) ?_
      refine r_callV E [(0, 82)] [] rfl zc_69 zr_69 (fun o _ => ⟨_, zw_X67.1 o, rfl⟩) (lw_V q4314 q4316 qs205 q294 q4317) dX67_dump_28 zy_X67_putByte rfl (by omega) (by decide) (Nat.le_of_ble_eq_true rfl) (by decide) (fun l G => k_fX67_putByte l G 82) (fun _ => ?_)
      refine r_aload_n E dX67_dump_31 rfl 0 rfl ?_
      refine r_bipush E dX67_dump_32 (by decide) (zkI (by decide) (by decide)) ?_
      refine r_callV E [(0, 72)] [] rfl zc_69 zr_69 (fun o _ => ⟨_, zw_X67.1 o, rfl⟩) (lw_V q4314 q4316 qs205 q294 q4317) dX67_dump_34 zy_X67_putByte rfl (by omega) (by decide) (Nat.le_of_ble_eq_true rfl) (by decide) (fun l G => k_fX67_putByte l G 72) (fun _ => ?_)
      refine r_aload_n E dX67_dump_37 rfl 0 rfl ?_
      refine r_iconst E dX67_dump_38 (zkI (by decide) (by decide)) ?_
      refine r_callV E [(0, 1)] [] rfl zc_69 zr_69 (fun o _ => ⟨_, zw_X67.1 o, rfl⟩) (lw_V q4314 q4316 qs205 q294 q4317) dX67_dump_39 zy_X67_putByte rfl (by omega) (by decide) (Nat.le_of_ble_eq_true rfl) (by decide) (fun l G => k_fX67_putByte l G 1) (fun _ => ?_)
      refine r_iload_n E dX67_dump_42 rfl 1 rfl ?_
      refine r_istore_n (ls' := [(2, 0, x1), (0, 69, 0), (1, 0, x1)]) E dX67_dump_43 rfl (by rw [hN]; decide) rfl ?_
      refine r_pick E [1, 2, 0] rfl ?_
      exact r_loop (L := fun s => [(0, 69, 0), (1, 0, x1), (2, 0, s)]) (w_fX67_dump_B44 E hN hT x1) zBIG x1
    · refine r_bipush E dX67_dump_12 (by decide) (zkI (by decide) (by decide)) ?_
      exact r_ireturn E rfl hT dX67_dump_14
theorem k_fX67_dump (l : Launch) (G : zG) (x1 : Int) : zCt l G yX67_dump cX67_dump 3 (some .int) 3 [(69, 0), (0, x1)] (some 0) (fX67_dump x1) := zCt.of (by decide) (Nat.le_of_ble_eq_true rfl) (fun K E _ _ hN hT => w_fX67_dump E hN hT x1)
theorem dX67_tape_0 : decode cX67_tape 0 = .ok (.iload_n 1, 1) := by decide +kernel
theorem dX67_tape_1 : decode cX67_tape 1 = .ok (.i2l, 1) := by decide +kernel
theorem dX67_tape_2 : decode cX67_tape 2 = .ok (.lconst 0, 1) := by decide +kernel
theorem dX67_tape_3 : decode cX67_tape 3 = .ok (.aload_n 0, 1) := by decide +kernel
theorem dX67_tape_4 : decode cX67_tape 4 = .ok (.getfield 1008, 3) := by decide +kernel
theorem dX67_tape_7 : decode cX67_tape 7 = .ok (.iconst 1, 1) := by decide +kernel
theorem dX67_tape_8 : decode cX67_tape 8 = .ok (.isub, 1) := by decide +kernel
theorem dX67_tape_9 : decode cX67_tape 9 = .ok (.i2l, 1) := by decide +kernel
theorem dX67_tape_10 : decode cX67_tape 10 = .ok (.invokestatic 363, 3) := by decide +kernel
theorem dX67_tape_13 : decode cX67_tape 13 = .ok (.ifCond .eq 12, 3) := by decide +kernel
theorem dX67_tape_16 : decode cX67_tape 16 = .ok (.aload_n 0, 1) := by decide +kernel
theorem dX67_tape_17 : decode cX67_tape 17 = .ok (.getfield 217, 3) := by decide +kernel
theorem dX67_tape_20 : decode cX67_tape 20 = .ok (.iload_n 1, 1) := by decide +kernel
theorem dX67_tape_21 : decode cX67_tape 21 = .ok (.iaload, 1) := by decide +kernel
theorem dX67_tape_22 : decode cX67_tape 22 = .ok (.goto 4, 3) := by decide +kernel
theorem dX67_tape_25 : decode cX67_tape 25 = .ok (.iconst (-1), 1) := by decide +kernel
theorem dX67_tape_26 : decode cX67_tape 26 = .ok (.ireturn, 1) := by decide +kernel
theorem zy_X67_tape : yX67_tape.cls ≠ "java/lang/invoke/MethodHandle" ∧ yX67_tape.cls ≠ "java/lang/invoke/VarHandle" ∧ (parseMethodDescriptor yX67_tape.desc).map (fun d => d.parameters.length) = some 1 := by decide +kernel
theorem w_fX67_tape {K : zK} (E : zE K cX67_tape "RingHouseModel" (some .int) 1) (hN : zNl K = 2) (hT : zTr K = (some 0)) (x1 : Int) : zR K 0 [(0, 69, 0), (1, 0, x1)] [] (fX67_tape x1) := by
  refine r_iload_n E dX67_tape_0 rfl 1 rfl ?_
  refine r_i2l E dX67_tape_1 ?_
  refine r_lconst (v := 0) E dX67_tape_2 (by decide) (zkJ (by decide) (by decide)) ?_
  refine r_aload_n E dX67_tape_3 rfl 0 rfl ?_
  refine r_get E zc_69 zt_6872 dX67_tape_4 q3287 zr_69 (zg_6872 _) (by decide) (fun v1 => ?_)
  refine r_iconst E dX67_tape_7 (zkI (by decide) (by decide)) ?_
  refine r_isub E dX67_tape_8 ?_
  refine r_i2l E dX67_tape_9 ?_
  refine r_callS E [(1, x1), (1, 0), (1, (zi (v1 - 1)))] [] rfl q3619 q3620 q294 q3621 dX67_tape_10 zy_X67_in rfl (by omega) (by decide) (Nat.le_of_ble_eq_true rfl) (fun l G => k_fX67_in l G x1 0 (zi (v1 - 1))) (fun v2 => ?_)
  refine r_if_eq E 25 (by decide) dX67_tape_13 (fun _ => ?_) (fun _ => ?_)
  · refine r_iconst E dX67_tape_25 (zkI (by decide) (by decide)) ?_
    exact r_ireturn E rfl hT dX67_tape_26
  · refine r_aload_n E dX67_tape_16 rfl 0 rfl ?_
    refine r_gec (y := 0) E zc_69 dX67_tape_17 q3288 zr_69 (zh_6873 (by decide)) (by decide) ?_
    refine r_iload_n E dX67_tape_20 rfl 1 rfl ?_
    refine r_iaload E zc_6873 za_6873 zt_6873 zx_6873 rfl rfl dX67_tape_21 (by decide) (fun v3 => ?_)
    refine r_goto E 26 (by decide) dX67_tape_22 ?_
    exact r_ireturn E rfl hT dX67_tape_26
theorem k_fX67_tape (l : Launch) (G : zG) (x1 : Int) : zCt l G yX67_tape cX67_tape 2 (some .int) 1 [(69, 0), (0, x1)] (some 0) (fX67_tape x1) := zCt.of (by decide) (Nat.le_of_ble_eq_true rfl) (fun K E _ _ hN hT => w_fX67_tape E hN hT x1)
theorem dX67_alter_0 : decode cX67_alter 0 = .ok (.iload_n 1, 1) := by decide +kernel
theorem dX67_alter_1 : decode cX67_alter 1 = .ok (.i2l, 1) := by decide +kernel
theorem dX67_alter_2 : decode cX67_alter 2 = .ok (.lconst 0, 1) := by decide +kernel
theorem dX67_alter_3 : decode cX67_alter 3 = .ok (.aload_n 0, 1) := by decide +kernel
theorem dX67_alter_4 : decode cX67_alter 4 = .ok (.getfield 1008, 3) := by decide +kernel
theorem dX67_alter_7 : decode cX67_alter 7 = .ok (.i2l, 1) := by decide +kernel
theorem dX67_alter_8 : decode cX67_alter 8 = .ok (.invokestatic 363, 3) := by decide +kernel
theorem dX67_alter_11 : decode cX67_alter 11 = .ok (.ifCond .eq 15, 3) := by decide +kernel
theorem dX67_alter_14 : decode cX67_alter 14 = .ok (.iload_n 2, 1) := by decide +kernel
theorem dX67_alter_15 : decode cX67_alter 15 = .ok (.i2l, 1) := by decide +kernel
theorem dX67_alter_16 : decode cX67_alter 16 = .ok (.lconst 0, 1) := by decide +kernel
theorem dX67_alter_17 : decode cX67_alter 17 = .ok (.ldc2_w 377, 3) := by decide +kernel
theorem dX67_alter_20 : decode cX67_alter 20 = .ok (.invokestatic 363, 3) := by decide +kernel
theorem dX67_alter_23 : decode cX67_alter 23 = .ok (.ifCond .ne 6, 3) := by decide +kernel
theorem dX67_alter_26 : decode cX67_alter 26 = .ok (.bipush (-8), 2) := by decide +kernel
theorem dX67_alter_28 : decode cX67_alter 28 = .ok (.ireturn, 1) := by decide +kernel
theorem dX67_alter_29 : decode cX67_alter 29 = .ok (.iload_n 1, 1) := by decide +kernel
theorem dX67_alter_30 : decode cX67_alter 30 = .ok (.ldc 216, 2) := by decide +kernel
theorem dX67_alter_32 : decode cX67_alter 32 = .ok (.if_icmp .ne 6, 3) := by decide +kernel
theorem dX67_alter_35 : decode cX67_alter 35 = .ok (.bipush (-5), 2) := by decide +kernel
theorem dX67_alter_37 : decode cX67_alter 37 = .ok (.ireturn, 1) := by decide +kernel
theorem dX67_alter_38 : decode cX67_alter 38 = .ok (.aload_n 0, 1) := by decide +kernel
theorem dX67_alter_39 : decode cX67_alter 39 = .ok (.getfield 217, 3) := by decide +kernel
theorem dX67_alter_42 : decode cX67_alter 42 = .ok (.iload_n 1, 1) := by decide +kernel
theorem dX67_alter_43 : decode cX67_alter 43 = .ok (.iload_n 2, 1) := by decide +kernel
theorem dX67_alter_44 : decode cX67_alter 44 = .ok (.iastore, 1) := by decide +kernel
theorem dX67_alter_45 : decode cX67_alter 45 = .ok (.aload_n 0, 1) := by decide +kernel
theorem dX67_alter_46 : decode cX67_alter 46 = .ok (.iload_n 1, 1) := by decide +kernel
theorem dX67_alter_47 : decode cX67_alter 47 = .ok (.aload_n 0, 1) := by decide +kernel
theorem dX67_alter_48 : decode cX67_alter 48 = .ok (.getfield 1008, 3) := by decide +kernel
theorem dX67_alter_51 : decode cX67_alter 51 = .ok (.if_icmp .ne 12, 3) := by decide +kernel
theorem dX67_alter_54 : decode cX67_alter 54 = .ok (.aload_n 0, 1) := by decide +kernel
theorem dX67_alter_55 : decode cX67_alter 55 = .ok (.getfield 1008, 3) := by decide +kernel
theorem dX67_alter_58 : decode cX67_alter 58 = .ok (.iconst 1, 1) := by decide +kernel
theorem dX67_alter_59 : decode cX67_alter 59 = .ok (.iadd, 1) := by decide +kernel
theorem dX67_alter_60 : decode cX67_alter 60 = .ok (.goto 7, 3) := by decide +kernel
theorem dX67_alter_63 : decode cX67_alter 63 = .ok (.aload_n 0, 1) := by decide +kernel
theorem dX67_alter_64 : decode cX67_alter 64 = .ok (.getfield 1008, 3) := by decide +kernel
theorem dX67_alter_67 : decode cX67_alter 67 = .ok (.putfield 1008, 3) := by decide +kernel
theorem dX67_alter_70 : decode cX67_alter 70 = .ok (.aload_n 0, 1) := by decide +kernel
theorem dX67_alter_71 : decode cX67_alter 71 = .ok (.getfield 1008, 3) := by decide +kernel
theorem dX67_alter_74 : decode cX67_alter 74 = .ok (.ireturn, 1) := by decide +kernel
theorem zy_X67_alter : yX67_alter.cls ≠ "java/lang/invoke/MethodHandle" ∧ yX67_alter.cls ≠ "java/lang/invoke/VarHandle" ∧ (parseMethodDescriptor yX67_alter.desc).map (fun d => d.parameters.length) = some 2 := by decide +kernel
theorem w_fX67_alter_J67 {K : zK} (E : zE K cX67_alter "RingHouseModel" (some .int) 1) (hN : zNl K = 3) (hT : zTr K = (some 0)) (s1 : Int) : zR K 67 [(0, 69, 0)] [(0, s1), (69, 0)] (fX67_alter_J67 s1) := by
  refine r_put E zc_69 zt_6872 zo_6872 dX67_alter_67 q3287 zr_69 zw_X67 zp_6872 (fun _ => rfl) (fun _ => rfl) (by decide) ?_
  refine r_aload_n E dX67_alter_70 rfl 0 rfl ?_
  refine r_get E zc_69 zt_6872 dX67_alter_71 q3287 zr_69 (zg_6872 _) (by decide) (fun v6 => ?_)
  exact r_ireturn E rfl hT dX67_alter_74
theorem w_fX67_alter {K : zK} (E : zE K cX67_alter "RingHouseModel" (some .int) 1) (hN : zNl K = 3) (hT : zTr K = (some 0)) (x1 : Int) (x2 : Int) : zR K 0 [(0, 69, 0), (1, 0, x1), (2, 0, x2)] [] (fX67_alter x1 x2) := by
  refine r_iload_n E dX67_alter_0 rfl 1 rfl ?_
  refine r_i2l E dX67_alter_1 ?_
  refine r_lconst (v := 0) E dX67_alter_2 (by decide) (zkJ (by decide) (by decide)) ?_
  refine r_aload_n E dX67_alter_3 rfl 0 rfl ?_
  refine r_get E zc_69 zt_6872 dX67_alter_4 q3287 zr_69 (zg_6872 _) (by decide) (fun v1 => ?_)
  refine r_i2l E dX67_alter_7 ?_
  refine r_callS E [(1, x1), (1, 0), (1, v1)] [] rfl q3619 q3620 q294 q3621 dX67_alter_8 zy_X67_in rfl (by omega) (by decide) (Nat.le_of_ble_eq_true rfl) (fun l G => k_fX67_in l G x1 0 v1) (fun v2 => ?_)
  refine r_if_eq E 26 (by decide) dX67_alter_11 (fun _ => ?_) (fun _ => ?_)
  · refine r_bipush E dX67_alter_26 (by decide) (zkI (by decide) (by decide)) ?_
    exact r_ireturn E rfl hT dX67_alter_28
  · refine r_iload_n E dX67_alter_14 rfl 2 rfl ?_
    refine r_i2l E dX67_alter_15 ?_
    refine r_lconst (v := 0) E dX67_alter_16 (by decide) (zkJ (by decide) (by decide)) ?_
    refine r_ldc2 (v := 255) E dX67_alter_17 q3618 (by decide) (zkJ (by decide) (by decide)) ?_
    refine r_callS E [(1, x2), (1, 0), (1, 255)] [] rfl q3619 q3620 q294 q3621 dX67_alter_20 zy_X67_in rfl (by omega) (by decide) (Nat.le_of_ble_eq_true rfl) (fun l G => k_fX67_in l G x2 0 255) (fun v3 => ?_)
    refine r_if_ne E 29 (by decide) dX67_alter_23 (fun _ => ?_) (fun _ => ?_)
    · refine r_iload_n E dX67_alter_29 rfl 1 rfl ?_
      refine r_ldc (v := 98304) E dX67_alter_30 q3172 (by decide) (zkI (by decide) (by decide)) ?_
      refine r_icmp_ne E 38 (by decide) dX67_alter_32 (fun _ => ?_) (fun _ => ?_)
      · refine r_aload_n E dX67_alter_38 rfl 0 rfl ?_
        refine r_gec (y := 0) E zc_69 dX67_alter_39 q3288 zr_69 (zh_6873 (by decide)) (by decide) ?_
        refine r_iload_n E dX67_alter_42 rfl 1 rfl ?_
        refine r_iload_n E dX67_alter_43 rfl 2 rfl ?_
        refine r_iastore E zc_6873 za_6873 zt_6873 zo_6873 zx_6873 rfl rfl dX67_alter_44 (by decide) ?_
        refine r_aload_n E dX67_alter_45 rfl 0 rfl ?_
        refine r_iload_n E dX67_alter_46 rfl 1 rfl ?_
        refine r_aload_n E dX67_alter_47 rfl 0 rfl ?_
        refine r_get E zc_69 zt_6872 dX67_alter_48 q3287 zr_69 (zg_6872 _) (by decide) (fun v4 => ?_)
        refine r_icmp_ne E 63 (by decide) dX67_alter_51 (fun _ => ?_) (fun _ => ?_)
        · refine r_aload_n E dX67_alter_63 rfl 0 rfl ?_
          refine r_get E zc_69 zt_6872 dX67_alter_64 q3287 zr_69 (zg_6872 _) (by decide) (fun v5 => ?_)
          refine r_pick E [0] rfl ?_
          exact w_fX67_alter_J67 E hN hT v5
        · refine r_aload_n E dX67_alter_54 rfl 0 rfl ?_
          refine r_get E zc_69 zt_6872 dX67_alter_55 q3287 zr_69 (zg_6872 _) (by decide) (fun v7 => ?_)
          refine r_iconst E dX67_alter_58 (zkI (by decide) (by decide)) ?_
          refine r_iadd E dX67_alter_59 ?_
          refine r_goto E 67 (by decide) dX67_alter_60 ?_
          refine r_pick E [0] rfl ?_
          exact w_fX67_alter_J67 E hN hT (zi (v7 + 1))
      · refine r_bipush E dX67_alter_35 (by decide) (zkI (by decide) (by decide)) ?_
        exact r_ireturn E rfl hT dX67_alter_37
    · refine r_bipush E dX67_alter_26 (by decide) (zkI (by decide) (by decide)) ?_
      exact r_ireturn E rfl hT dX67_alter_28
theorem k_fX67_alter (l : Launch) (G : zG) (x1 : Int) (x2 : Int) : zCt l G yX67_alter cX67_alter 3 (some .int) 1 [(69, 0), (0, x1), (0, x2)] (some 0) (fX67_alter x1 x2) := zCt.of (by decide) (Nat.le_of_ble_eq_true rfl) (fun K E _ _ hN hT => w_fX67_alter E hN hT x1 x2)
theorem dX67_cut_0 : decode cX67_cut 0 = .ok (.iload_n 1, 1) := by decide +kernel
theorem dX67_cut_1 : decode cX67_cut 1 = .ok (.i2l, 1) := by decide +kernel
theorem dX67_cut_2 : decode cX67_cut 2 = .ok (.lconst 0, 1) := by decide +kernel
theorem dX67_cut_3 : decode cX67_cut 3 = .ok (.aload_n 0, 1) := by decide +kernel
theorem dX67_cut_4 : decode cX67_cut 4 = .ok (.getfield 1008, 3) := by decide +kernel
theorem dX67_cut_7 : decode cX67_cut 7 = .ok (.i2l, 1) := by decide +kernel
theorem dX67_cut_8 : decode cX67_cut 8 = .ok (.invokestatic 363, 3) := by decide +kernel
theorem dX67_cut_11 : decode cX67_cut 11 = .ok (.ifCond .ne 6, 3) := by decide +kernel
theorem dX67_cut_14 : decode cX67_cut 14 = .ok (.bipush (-8), 2) := by decide +kernel
theorem dX67_cut_16 : decode cX67_cut 16 = .ok (.ireturn, 1) := by decide +kernel
theorem dX67_cut_17 : decode cX67_cut 17 = .ok (.aload_n 0, 1) := by decide +kernel
theorem dX67_cut_18 : decode cX67_cut 18 = .ok (.getfield 1008, 3) := by decide +kernel
theorem dX67_cut_21 : decode cX67_cut 21 = .ok (.iload_n 1, 1) := by decide +kernel
theorem dX67_cut_22 : decode cX67_cut 22 = .ok (.isub, 1) := by decide +kernel
theorem dX67_cut_23 : decode cX67_cut 23 = .ok (.istore_n 2, 1) := by decide +kernel
theorem dX67_cut_24 : decode cX67_cut 24 = .ok (.aload_n 0, 1) := by decide +kernel
theorem dX67_cut_25 : decode cX67_cut 25 = .ok (.iload_n 1, 1) := by decide +kernel
theorem dX67_cut_26 : decode cX67_cut 26 = .ok (.putfield 1008, 3) := by decide +kernel
theorem dX67_cut_29 : decode cX67_cut 29 = .ok (.iload_n 2, 1) := by decide +kernel
theorem dX67_cut_30 : decode cX67_cut 30 = .ok (.ireturn, 1) := by decide +kernel
theorem zy_X67_cut : yX67_cut.cls ≠ "java/lang/invoke/MethodHandle" ∧ yX67_cut.cls ≠ "java/lang/invoke/VarHandle" ∧ (parseMethodDescriptor yX67_cut.desc).map (fun d => d.parameters.length) = some 1 := by decide +kernel
theorem w_fX67_cut {K : zK} (E : zE K cX67_cut "RingHouseModel" (some .int) 1) (hN : zNl K = 3) (hT : zTr K = (some 0)) (x1 : Int) : zR K 0 [(0, 69, 0), (1, 0, x1)] [] (fX67_cut x1) := by
  refine r_iload_n E dX67_cut_0 rfl 1 rfl ?_
  refine r_i2l E dX67_cut_1 ?_
  refine r_lconst (v := 0) E dX67_cut_2 (by decide) (zkJ (by decide) (by decide)) ?_
  refine r_aload_n E dX67_cut_3 rfl 0 rfl ?_
  refine r_get E zc_69 zt_6872 dX67_cut_4 q3287 zr_69 (zg_6872 _) (by decide) (fun v1 => ?_)
  refine r_i2l E dX67_cut_7 ?_
  refine r_callS E [(1, x1), (1, 0), (1, v1)] [] rfl q3619 q3620 q294 q3621 dX67_cut_8 zy_X67_in rfl (by omega) (by decide) (Nat.le_of_ble_eq_true rfl) (fun l G => k_fX67_in l G x1 0 v1) (fun v2 => ?_)
  refine r_if_ne E 17 (by decide) dX67_cut_11 (fun _ => ?_) (fun _ => ?_)
  · refine r_aload_n E dX67_cut_17 rfl 0 rfl ?_
    refine r_get E zc_69 zt_6872 dX67_cut_18 q3287 zr_69 (zg_6872 _) (by decide) (fun v3 => ?_)
    refine r_iload_n E dX67_cut_21 rfl 1 rfl ?_
    refine r_isub E dX67_cut_22 ?_
    refine r_let E (fun v4 ev4 => ?_)
    refine r_istore_n (ls' := [(2, 0, v4), (0, 69, 0), (1, 0, x1)]) E dX67_cut_23 rfl (by rw [hN]; decide) rfl ?_
    refine r_aload_n E dX67_cut_24 rfl 1 rfl ?_
    refine r_iload_n E dX67_cut_25 rfl 2 rfl ?_
    refine r_put E zc_69 zt_6872 zo_6872 dX67_cut_26 q3287 zr_69 zw_X67 zp_6872 (fun _ => rfl) (fun _ => rfl) (by decide) ?_
    refine r_iload_n E dX67_cut_29 rfl 0 rfl ?_
    exact r_ireturn E rfl hT dX67_cut_30
  · refine r_bipush E dX67_cut_14 (by decide) (zkI (by decide) (by decide)) ?_
    exact r_ireturn E rfl hT dX67_cut_16
theorem k_fX67_cut (l : Launch) (G : zG) (x1 : Int) : zCt l G yX67_cut cX67_cut 3 (some .int) 1 [(69, 0), (0, x1)] (some 0) (fX67_cut x1) := zCt.of (by decide) (Nat.le_of_ble_eq_true rfl) (fun K E _ _ hN hT => w_fX67_cut E hN hT x1)
theorem dX67_torn_0 : decode cX67_torn 0 = .ok (.aload_n 0, 1) := by decide +kernel
theorem dX67_torn_1 : decode cX67_torn 1 = .ok (.getfield 1031, 3) := by decide +kernel
theorem dX67_torn_4 : decode cX67_torn 4 = .ok (.ifCond .ne 13, 3) := by decide +kernel
theorem dX67_torn_7 : decode cX67_torn 7 = .ok (.aload_n 0, 1) := by decide +kernel
theorem dX67_torn_8 : decode cX67_torn 8 = .ok (.iload_n 1, 1) := by decide +kernel
theorem dX67_torn_9 : decode cX67_torn 9 = .ok (.putfield 1031, 3) := by decide +kernel
theorem dX67_torn_12 : decode cX67_torn 12 = .ok (.aload_n 0, 1) := by decide +kernel
theorem dX67_torn_13 : decode cX67_torn 13 = .ok (.iload_n 2, 1) := by decide +kernel
theorem dX67_torn_14 : decode cX67_torn 14 = .ok (.putfield 1034, 3) := by decide +kernel
theorem dX67_torn_17 : decode cX67_torn 17 = .ok (.return_, 1) := by decide +kernel
theorem zy_X67_torn : yX67_torn.cls ≠ "java/lang/invoke/MethodHandle" ∧ yX67_torn.cls ≠ "java/lang/invoke/VarHandle" ∧ (parseMethodDescriptor yX67_torn.desc).map (fun d => d.parameters.length) = some 2 := by decide +kernel
theorem w_fX67_torn {K : zK} (E : zE K cX67_torn "RingHouseModel" none 0) (hN : zNl K = 3) (hT : zTr K = none) (x1 : Int) (x2 : Int) : zR K 0 [(0, 69, 0), (1, 0, x1), (2, 0, x2)] [] (fX67_torn x1 x2) := by
  refine r_aload_n E dX67_torn_0 rfl 0 rfl ?_
  refine r_get E zc_69 zt_6913 dX67_torn_1 q3327 zr_69 (zg_6913 _) (by decide) (fun v1 => ?_)
  refine r_if_ne E 17 (by decide) dX67_torn_4 (fun _ => ?_) (fun _ => ?_)
  · exact r_return E rfl hT dX67_torn_17
  · refine r_aload_n E dX67_torn_7 rfl 0 rfl ?_
    refine r_iload_n E dX67_torn_8 rfl 1 rfl ?_
    refine r_put E zc_69 zt_6913 zo_6913 dX67_torn_9 q3327 zr_69 zw_X67 zp_6913 (fun _ => rfl) (fun _ => rfl) (by decide) ?_
    refine r_aload_n E dX67_torn_12 rfl 0 rfl ?_
    refine r_iload_n E dX67_torn_13 rfl 2 rfl ?_
    refine r_put E zc_69 zt_6914 zo_6914 dX67_torn_14 q3328 zr_69 zw_X67 zp_6914 (fun _ => rfl) (fun _ => rfl) (by decide) ?_
    exact r_return E rfl hT dX67_torn_17
theorem k_fX67_torn (l : Launch) (G : zG) (x1 : Int) (x2 : Int) : zCt l G yX67_torn cX67_torn 3 none 0 [(69, 0), (0, x1), (0, x2)] none (fX67_torn x1 x2) := zCt.of (by decide) (Nat.le_of_ble_eq_true rfl) (fun K E _ _ hN hT => w_fX67_torn E hN hT x1 x2)
theorem dX67_take_0 : decode cX67_take 0 = .ok (.aload_n 0, 1) := by decide +kernel
theorem dX67_take_1 : decode cX67_take 1 = .ok (.getfield 1031, 3) := by decide +kernel
theorem dX67_take_4 : decode cX67_take 4 = .ok (.ifCond .le 5, 3) := by decide +kernel
theorem dX67_take_7 : decode cX67_take 7 = .ok (.iconst 0, 1) := by decide +kernel
theorem dX67_take_8 : decode cX67_take 8 = .ok (.ireturn, 1) := by decide +kernel
theorem dX67_take_9 : decode cX67_take 9 = .ok (.aload_n 0, 1) := by decide +kernel
theorem dX67_take_10 : decode cX67_take 10 = .ok (.getfield 1037, 3) := by decide +kernel
theorem dX67_take_13 : decode cX67_take 13 = .ok (.aload_n 0, 1) := by decide +kernel
theorem dX67_take_14 : decode cX67_take 14 = .ok (.getfield 1008, 3) := by decide +kernel
theorem dX67_take_17 : decode cX67_take 17 = .ok (.if_icmp .ne 14, 3) := by decide +kernel
theorem dX67_take_20 : decode cX67_take 20 = .ok (.aload_n 0, 1) := by decide +kernel
theorem dX67_take_21 : decode cX67_take 21 = .ok (.iconst 1, 1) := by decide +kernel
theorem dX67_take_22 : decode cX67_take 22 = .ok (.aload_n 0, 1) := by decide +kernel
theorem dX67_take_23 : decode cX67_take 23 = .ok (.getfield 1008, 3) := by decide +kernel
theorem dX67_take_26 : decode cX67_take 26 = .ok (.invokevirtual 1040, 3) := by decide +kernel
theorem dX67_take_29 : decode cX67_take 29 = .ok (.iconst 0, 1) := by decide +kernel
theorem dX67_take_30 : decode cX67_take 30 = .ok (.ireturn, 1) := by decide +kernel
theorem dX67_take_31 : decode cX67_take 31 = .ok (.aload_n 0, 1) := by decide +kernel
theorem dX67_take_32 : decode cX67_take 32 = .ok (.getfield 217, 3) := by decide +kernel
theorem dX67_take_35 : decode cX67_take 35 = .ok (.aload_n 0, 1) := by decide +kernel
theorem dX67_take_36 : decode cX67_take 36 = .ok (.getfield 1037, 3) := by decide +kernel
theorem dX67_take_39 : decode cX67_take 39 = .ok (.iaload, 1) := by decide +kernel
theorem dX67_take_40 : decode cX67_take 40 = .ok (.istore_n 3, 1) := by decide +kernel
theorem dX67_take_41 : decode cX67_take 41 = .ok (.iload_n 3, 1) := by decide +kernel
theorem dX67_take_42 : decode cX67_take 42 = .ok (.i2l, 1) := by decide +kernel
theorem dX67_take_43 : decode cX67_take 43 = .ok (.iload_n 1, 1) := by decide +kernel
theorem dX67_take_44 : decode cX67_take 44 = .ok (.i2l, 1) := by decide +kernel
theorem dX67_take_45 : decode cX67_take 45 = .ok (.iload_n 2, 1) := by decide +kernel
theorem dX67_take_46 : decode cX67_take 46 = .ok (.i2l, 1) := by decide +kernel
theorem dX67_take_47 : decode cX67_take 47 = .ok (.invokestatic 363, 3) := by decide +kernel
theorem dX67_take_50 : decode cX67_take 50 = .ok (.ifCond .ne 12, 3) := by decide +kernel
theorem dX67_take_53 : decode cX67_take 53 = .ok (.aload_n 0, 1) := by decide +kernel
theorem dX67_take_54 : decode cX67_take 54 = .ok (.iconst 3, 1) := by decide +kernel
theorem dX67_take_55 : decode cX67_take 55 = .ok (.aload_n 0, 1) := by decide +kernel
theorem dX67_take_56 : decode cX67_take 56 = .ok (.getfield 1037, 3) := by decide +kernel
theorem dX67_take_59 : decode cX67_take 59 = .ok (.invokevirtual 1040, 3) := by decide +kernel
theorem dX67_take_62 : decode cX67_take 62 = .ok (.aload_n 0, 1) := by decide +kernel
theorem dX67_take_63 : decode cX67_take 63 = .ok (.bipush 31, 2) := by decide +kernel
theorem dX67_take_65 : decode cX67_take 65 = .ok (.aload_n 0, 1) := by decide +kernel
theorem dX67_take_66 : decode cX67_take 66 = .ok (.getfield 1011, 3) := by decide +kernel
theorem dX67_take_69 : decode cX67_take 69 = .ok (.imul, 1) := by decide +kernel
theorem dX67_take_70 : decode cX67_take 70 = .ok (.iload_n 3, 1) := by decide +kernel
theorem dX67_take_71 : decode cX67_take 71 = .ok (.iadd, 1) := by decide +kernel
theorem dX67_take_72 : decode cX67_take 72 = .ok (.ldc_w 1014, 3) := by decide +kernel
theorem dX67_take_75 : decode cX67_take 75 = .ok (.irem, 1) := by decide +kernel
theorem dX67_take_76 : decode cX67_take 76 = .ok (.putfield 1011, 3) := by decide +kernel
theorem dX67_take_79 : decode cX67_take 79 = .ok (.aload_n 0, 1) := by decide +kernel
theorem dX67_take_80 : decode cX67_take 80 = .ok (.dup, 1) := by decide +kernel
theorem dX67_take_81 : decode cX67_take 81 = .ok (.getfield 1037, 3) := by decide +kernel
theorem dX67_take_84 : decode cX67_take 84 = .ok (.iconst 1, 1) := by decide +kernel
theorem dX67_take_85 : decode cX67_take 85 = .ok (.iadd, 1) := by decide +kernel
theorem dX67_take_86 : decode cX67_take 86 = .ok (.putfield 1037, 3) := by decide +kernel
theorem dX67_take_89 : decode cX67_take 89 = .ok (.aload_n 0, 1) := by decide +kernel
theorem dX67_take_90 : decode cX67_take 90 = .ok (.getfield 1031, 3) := by decide +kernel
theorem dX67_take_93 : decode cX67_take 93 = .ok (.ifCond .le 7, 3) := by decide +kernel
theorem dX67_take_96 : decode cX67_take 96 = .ok (.iconst 0, 1) := by decide +kernel
theorem dX67_take_97 : decode cX67_take 97 = .ok (.goto 4, 3) := by decide +kernel
theorem dX67_take_100 : decode cX67_take 100 = .ok (.iload_n 3, 1) := by decide +kernel
theorem dX67_take_101 : decode cX67_take 101 = .ok (.ireturn, 1) := by decide +kernel
theorem zy_X67_take : yX67_take.cls ≠ "java/lang/invoke/MethodHandle" ∧ yX67_take.cls ≠ "java/lang/invoke/VarHandle" ∧ (parseMethodDescriptor yX67_take.desc).map (fun d => d.parameters.length) = some 2 := by decide +kernel
theorem w_fX67_take_J62 {K : zK} (E : zE K cX67_take "RingHouseModel" (some .int) 1) (hN : zNl K = 4) (hT : zTr K = (some 0)) (x3 : Int) : zR K 62 [(0, 69, 0), (3, 0, x3)] [] (fX67_take_J62 x3) := by
  refine r_aload_n E dX67_take_62 rfl 0 rfl ?_
  refine r_bipush E dX67_take_63 (by decide) (zkI (by decide) (by decide)) ?_
  refine r_aload_n E dX67_take_65 rfl 0 rfl ?_
  refine r_get E zc_69 zt_6915 dX67_take_66 q3329 zr_69 (zg_6915 _) (by decide) (fun v7 => ?_)
  refine r_imul E dX67_take_69 ?_
  refine r_iload_n E dX67_take_70 rfl 1 rfl ?_
  refine r_iadd E dX67_take_71 ?_
  refine r_ldcw (v := 65536) E dX67_take_72 q4318 (by decide) (zkI (by decide) (by decide)) ?_
  refine r_irem E (by decide) dX67_take_75 ?_
  refine r_put E zc_69 zt_6915 zo_6915 dX67_take_76 q3329 zr_69 zw_X67 zp_6915 (fun _ => rfl) (fun _ => rfl) (by decide) ?_
  refine r_aload_n E dX67_take_79 rfl 0 rfl ?_
  refine r_dup E (zn1 rfl) dX67_take_80 ?_
  refine r_get E zc_69 zt_6912 dX67_take_81 q3326 zr_69 (zg_6912 _) (by decide) (fun v8 => ?_)
  refine r_iconst E dX67_take_84 (zkI (by decide) (by decide)) ?_
  refine r_iadd E dX67_take_85 ?_
  refine r_put E zc_69 zt_6912 zo_6912 dX67_take_86 q3326 zr_69 zw_X67 zp_6912 (fun _ => rfl) (fun _ => rfl) (by decide) ?_
  refine r_aload_n E dX67_take_89 rfl 0 rfl ?_
  refine r_get E zc_69 zt_6913 dX67_take_90 q3327 zr_69 (zg_6913 _) (by decide) (fun v9 => ?_)
  refine r_if_le E 100 (by decide) dX67_take_93 (fun _ => ?_) (fun _ => ?_)
  · refine r_iload_n E dX67_take_100 rfl 1 rfl ?_
    exact r_ireturn E rfl hT dX67_take_101
  · refine r_iconst E dX67_take_96 (zkI (by decide) (by decide)) ?_
    refine r_goto E 101 (by decide) dX67_take_97 ?_
    exact r_ireturn E rfl hT dX67_take_101
theorem w_fX67_take {K : zK} (E : zE K cX67_take "RingHouseModel" (some .int) 1) (hN : zNl K = 4) (hT : zTr K = (some 0)) (x1 : Int) (x2 : Int) : zR K 0 [(0, 69, 0), (1, 0, x1), (2, 0, x2)] [] (fX67_take x1 x2) := by
  refine r_aload_n E dX67_take_0 rfl 0 rfl ?_
  refine r_get E zc_69 zt_6913 dX67_take_1 q3327 zr_69 (zg_6913 _) (by decide) (fun v1 => ?_)
  refine r_if_le E 9 (by decide) dX67_take_4 (fun _ => ?_) (fun _ => ?_)
  · refine r_aload_n E dX67_take_9 rfl 0 rfl ?_
    refine r_get E zc_69 zt_6912 dX67_take_10 q3326 zr_69 (zg_6912 _) (by decide) (fun v2 => ?_)
    refine r_aload_n E dX67_take_13 rfl 0 rfl ?_
    refine r_get E zc_69 zt_6872 dX67_take_14 q3287 zr_69 (zg_6872 _) (by decide) (fun v3 => ?_)
    refine r_icmp_ne E 31 (by decide) dX67_take_17 (fun _ => ?_) (fun _ => ?_)
    · refine r_aload_n E dX67_take_31 rfl 0 rfl ?_
      refine r_gec (y := 0) E zc_69 dX67_take_32 q3288 zr_69 (zh_6873 (by decide)) (by decide) ?_
      refine r_aload_n E dX67_take_35 rfl 0 rfl ?_
      refine r_get E zc_69 zt_6912 dX67_take_36 q3326 zr_69 (zg_6912 _) (by decide) (fun v4 => ?_)
      refine r_iaload E zc_6873 za_6873 zt_6873 zx_6873 rfl rfl dX67_take_39 (by decide) (fun v5 => ?_)
      refine r_istore_n (ls' := [(3, 0, v5), (0, 69, 0), (1, 0, x1), (2, 0, x2)]) E dX67_take_40 rfl (by rw [hN]; decide) rfl ?_
      refine r_iload_n E dX67_take_41 rfl 0 rfl ?_
      refine r_i2l E dX67_take_42 ?_
      refine r_iload_n E dX67_take_43 rfl 2 rfl ?_
      refine r_i2l E dX67_take_44 ?_
      refine r_iload_n E dX67_take_45 rfl 3 rfl ?_
      refine r_i2l E dX67_take_46 ?_
      refine r_callS E [(1, v5), (1, x1), (1, x2)] [] rfl q3619 q3620 q294 q3621 dX67_take_47 zy_X67_in rfl (by omega) (by decide) (Nat.le_of_ble_eq_true rfl) (fun l G => k_fX67_in l G v5 x1 x2) (fun v6 => ?_)
      refine r_if_ne E 62 (by decide) dX67_take_50 (fun _ => ?_) (fun _ => ?_)
      · refine r_pick E [1, 0] rfl ?_
        exact w_fX67_take_J62 E hN hT v5
      · refine r_aload_n E dX67_take_53 rfl 1 rfl ?_
        refine r_iconst E dX67_take_54 (zkI (by decide) (by decide)) ?_
        refine r_aload_n E dX67_take_55 rfl 1 rfl ?_
        refine r_get E zc_69 zt_6912 dX67_take_56 q3326 zr_69 (zg_6912 _) (by decide) (fun v10 => ?_)
        refine r_callV E [(0, 3), (0, v10)] [] rfl zc_69 zr_69 (fun o _ => ⟨_, zw_X67.1 o, rfl⟩) (lw_V q4359 q4361 qs212 q294 q4362) dX67_take_59 zy_X67_torn rfl (by omega) (by decide) (Nat.le_of_ble_eq_true rfl) (by decide) (fun l G => k_fX67_torn l G 3 v10) (fun _ => ?_)
        refine r_pick E [1, 0] rfl ?_
        exact w_fX67_take_J62 E hN hT v5
    · refine r_aload_n E dX67_take_20 rfl 0 rfl ?_
      refine r_iconst E dX67_take_21 (zkI (by decide) (by decide)) ?_
      refine r_aload_n E dX67_take_22 rfl 0 rfl ?_
      refine r_get E zc_69 zt_6872 dX67_take_23 q3287 zr_69 (zg_6872 _) (by decide) (fun v12 => ?_)
      refine r_callV E [(0, 1), (0, v12)] [] rfl zc_69 zr_69 (fun o _ => ⟨_, zw_X67.1 o, rfl⟩) (lw_V q4359 q4361 qs212 q294 q4362) dX67_take_26 zy_X67_torn rfl (by omega) (by decide) (Nat.le_of_ble_eq_true rfl) (by decide) (fun l G => k_fX67_torn l G 1 v12) (fun _ => ?_)
      refine r_iconst E dX67_take_29 (zkI (by decide) (by decide)) ?_
      exact r_ireturn E rfl hT dX67_take_30
  · refine r_iconst E dX67_take_7 (zkI (by decide) (by decide)) ?_
    exact r_ireturn E rfl hT dX67_take_8
theorem k_fX67_take (l : Launch) (G : zG) (x1 : Int) (x2 : Int) : zCt l G yX67_take cX67_take 4 (some .int) 1 [(69, 0), (0, x1), (0, x2)] (some 0) (fX67_take x1 x2) := zCt.of (by decide) (Nat.le_of_ble_eq_true rfl) (fun K E _ _ hN hT => w_fX67_take E hN hT x1 x2)
theorem dX67_takeWord_0 : decode cX67_takeWord 0 = .ok (.aload_n 0, 1) := by decide +kernel
theorem dX67_takeWord_1 : decode cX67_takeWord 1 = .ok (.getfield 1037, 3) := by decide +kernel
theorem dX67_takeWord_4 : decode cX67_takeWord 4 = .ok (.istore_n 1, 1) := by decide +kernel
theorem dX67_takeWord_5 : decode cX67_takeWord 5 = .ok (.lconst 0, 1) := by decide +kernel
theorem dX67_takeWord_6 : decode cX67_takeWord 6 = .ok (.lstore_n 2, 1) := by decide +kernel
theorem dX67_takeWord_7 : decode cX67_takeWord 7 = .ok (.iconst 0, 1) := by decide +kernel
theorem dX67_takeWord_8 : decode cX67_takeWord 8 = .ok (.istore 4, 2) := by decide +kernel
theorem dX67_takeWord_10 : decode cX67_takeWord 10 = .ok (.iload 4, 2) := by decide +kernel
theorem dX67_takeWord_12 : decode cX67_takeWord 12 = .ok (.iconst 5, 1) := by decide +kernel
theorem dX67_takeWord_13 : decode cX67_takeWord 13 = .ok (.if_icmp .ge 25, 3) := by decide +kernel
theorem dX67_takeWord_16 : decode cX67_takeWord 16 = .ok (.ldc2_w 767, 3) := by decide +kernel
theorem dX67_takeWord_19 : decode cX67_takeWord 19 = .ok (.lload_n 2, 1) := by decide +kernel
theorem dX67_takeWord_20 : decode cX67_takeWord 20 = .ok (.lmul, 1) := by decide +kernel
theorem dX67_takeWord_21 : decode cX67_takeWord 21 = .ok (.aload_n 0, 1) := by decide +kernel
theorem dX67_takeWord_22 : decode cX67_takeWord 22 = .ok (.iconst 0, 1) := by decide +kernel
theorem dX67_takeWord_23 : decode cX67_takeWord 23 = .ok (.sipush 255, 3) := by decide +kernel
theorem dX67_takeWord_26 : decode cX67_takeWord 26 = .ok (.invokevirtual 1043, 3) := by decide +kernel
theorem dX67_takeWord_29 : decode cX67_takeWord 29 = .ok (.i2l, 1) := by decide +kernel
theorem dX67_takeWord_30 : decode cX67_takeWord 30 = .ok (.ladd, 1) := by decide +kernel
theorem dX67_takeWord_31 : decode cX67_takeWord 31 = .ok (.lstore_n 2, 1) := by decide +kernel
theorem dX67_takeWord_32 : decode cX67_takeWord 32 = .ok (.iinc 4 1, 3) := by decide +kernel
theorem dX67_takeWord_35 : decode cX67_takeWord 35 = .ok (.goto (-25), 3) := by decide +kernel
theorem dX67_takeWord_38 : decode cX67_takeWord 38 = .ok (.lload_n 2, 1) := by decide +kernel
theorem dX67_takeWord_39 : decode cX67_takeWord 39 = .ok (.invokestatic 367, 3) := by decide +kernel
theorem dX67_takeWord_42 : decode cX67_takeWord 42 = .ok (.ifCond .ne 9, 3) := by decide +kernel
theorem dX67_takeWord_45 : decode cX67_takeWord 45 = .ok (.aload_n 0, 1) := by decide +kernel
theorem dX67_takeWord_46 : decode cX67_takeWord 46 = .ok (.iconst 3, 1) := by decide +kernel
theorem dX67_takeWord_47 : decode cX67_takeWord 47 = .ok (.iload_n 1, 1) := by decide +kernel
theorem dX67_takeWord_48 : decode cX67_takeWord 48 = .ok (.invokevirtual 1040, 3) := by decide +kernel
theorem dX67_takeWord_51 : decode cX67_takeWord 51 = .ok (.lload_n 2, 1) := by decide +kernel
theorem dX67_takeWord_52 : decode cX67_takeWord 52 = .ok (.lreturn, 1) := by decide +kernel
theorem zy_X67_takeWord : yX67_takeWord.cls ≠ "java/lang/invoke/MethodHandle" ∧ yX67_takeWord.cls ≠ "java/lang/invoke/VarHandle" ∧ (parseMethodDescriptor yX67_takeWord.desc).map (fun d => d.parameters.length) = some 0 := by decide +kernel
theorem w_fX67_takeWord_J38 {K : zK} (E : zE K cX67_takeWord "RingHouseModel" (some .long) 2) (hN : zNl K = 5) (hT : zTr K = (some 1)) (x1 : Int) (x2 : Int) : zR K 38 [(0, 69, 0), (1, 0, x1), (2, 1, x2)] [] (fX67_takeWord_J38 x1 x2) := by
  refine r_lload_n E dX67_takeWord_38 rfl 2 rfl ?_
  refine r_callS E [(1, x2)] [] rfl q3625 q3626 q294 q3627 dX67_takeWord_39 zy_X67_isWord rfl (by omega) (by decide) (Nat.le_of_ble_eq_true rfl) (fun l G => k_fX67_isWord l G x2) (fun v2 => ?_)
  refine r_if_ne E 51 (by decide) dX67_takeWord_42 (fun _ => ?_) (fun _ => ?_)
  · refine r_lload_n E dX67_takeWord_51 rfl 2 rfl ?_
    exact r_lreturn E rfl hT dX67_takeWord_52
  · refine r_aload_n E dX67_takeWord_45 rfl 0 rfl ?_
    refine r_iconst E dX67_takeWord_46 (zkI (by decide) (by decide)) ?_
    refine r_iload_n E dX67_takeWord_47 rfl 1 rfl ?_
    refine r_callV E [(0, 3), (0, x1)] [] rfl zc_69 zr_69 (fun o _ => ⟨_, zw_X67.1 o, rfl⟩) (lw_V q4359 q4361 qs212 q294 q4362) dX67_takeWord_48 zy_X67_torn rfl (by omega) (by decide) (Nat.le_of_ble_eq_true rfl) (by decide) (fun l G => k_fX67_torn l G 3 x1) (fun _ => ?_)
    refine r_lload_n E dX67_takeWord_51 rfl 2 rfl ?_
    exact r_lreturn E rfl hT dX67_takeWord_52
theorem w_fX67_takeWord_B10 {K : zK} (E : zE K cX67_takeWord "RingHouseModel" (some .long) 2) (hN : zNl K = 5) (hT : zTr K = (some 1)) (x1 : Int) : ∀ r10 : Int × Int → zX, (∀ s : Int × Int, zR K 10 [(0, 69, 0), (1, 0, x1), (2, 1, s.1), (4, 0, s.2)] [] (r10 s)) → ∀ s : Int × Int, zR K 10 [(0, 69, 0), (1, 0, x1), (2, 1, s.1), (4, 0, s.2)] [] (fX67_takeWord_B10 x1 r10 s) := by
  intro r10 hr10 s
  obtain ⟨x2, x4⟩ := s
  refine r_iload E dX67_takeWord_10 3 rfl ?_
  refine r_iconst E dX67_takeWord_12 (zkI (by decide) (by decide)) ?_
  refine r_icmp_ge E 38 (by decide) dX67_takeWord_13 (fun _ => ?_) (fun _ => ?_)
  · refine r_pick E [0, 1, 2] rfl ?_
    exact w_fX67_takeWord_J38 E hN hT x1 x2
  · refine r_ldc2 (v := 256) E dX67_takeWord_16 q4000 (by decide) (zkJ (by decide) (by decide)) ?_
    refine r_lload_n E dX67_takeWord_19 rfl 2 rfl ?_
    refine r_lmul E dX67_takeWord_20 ?_
    refine r_aload_n E dX67_takeWord_21 rfl 0 rfl ?_
    refine r_iconst E dX67_takeWord_22 (zkI (by decide) (by decide)) ?_
    refine r_sipush E dX67_takeWord_23 (by decide) (zkI (by decide) (by decide)) ?_
    refine r_callV E [(0, 0), (0, 255)] [(1, (zl (256 * x2)))] rfl zc_69 zr_69 (fun o _ => ⟨_, zw_X67.1 o, rfl⟩) (lw_V q4355 q4357 qs211 q294 q4358) dX67_takeWord_26 zy_X67_take rfl (by omega) (by decide) (Nat.le_of_ble_eq_true rfl) (by decide) (fun l G => k_fX67_take l G 0 255) (fun v4 => ?_)
    refine r_i2l E dX67_takeWord_29 ?_
    refine r_ladd E dX67_takeWord_30 ?_
    refine r_let E (fun v5 ev5 => ?_)
    refine r_lstore_n (ls' := [(2, 1, v5), (0, 69, 0), (1, 0, x1), (4, 0, x4)]) E dX67_takeWord_31 rfl (by rw [hN]; decide) rfl ?_
    refine r_iinc (ls' := fun v6 => [(4, 0, v6), (2, 1, v5), (0, 69, 0), (1, 0, x1)]) E 3 rfl (by rw [hN]; decide) (fun _ => rfl) dX67_takeWord_32 (fun v6 _ => ?_)
    refine r_goto E 10 (by decide) dX67_takeWord_35 ?_
    refine r_pick E [2, 3, 1, 0] rfl ?_
    exact hr10 (v5, v6)
theorem w_fX67_takeWord {K : zK} (E : zE K cX67_takeWord "RingHouseModel" (some .long) 2) (hN : zNl K = 5) (hT : zTr K = (some 1)) : zR K 0 [(0, 69, 0)] [] (fX67_takeWord) := by
  refine r_aload_n E dX67_takeWord_0 rfl 0 rfl ?_
  refine r_get E zc_69 zt_6912 dX67_takeWord_1 q3326 zr_69 (zg_6912 _) (by decide) (fun v1 => ?_)
  refine r_istore_n (ls' := [(1, 0, v1), (0, 69, 0)]) E dX67_takeWord_4 rfl (by rw [hN]; decide) rfl ?_
  refine r_lconst (v := 0) E dX67_takeWord_5 (by decide) (zkJ (by decide) (by decide)) ?_
  refine r_lstore_n (ls' := [(2, 1, 0), (1, 0, v1), (0, 69, 0)]) E dX67_takeWord_6 rfl (by rw [hN]; decide) rfl ?_
  refine r_iconst E dX67_takeWord_7 (zkI (by decide) (by decide)) ?_
  refine r_istore (ls' := [(4, 0, 0), (2, 1, 0), (1, 0, v1), (0, 69, 0)]) E dX67_takeWord_8 (by rw [hN]; decide) rfl ?_
  refine r_pick E [3, 2, 1, 0] rfl ?_
  exact r_loop (L := fun s => [(0, 69, 0), (1, 0, v1), (2, 1, s.1), (4, 0, s.2)]) (w_fX67_takeWord_B10 E hN hT v1) zBIG (0, 0)
theorem k_fX67_takeWord (l : Launch) (G : zG) : zCt l G yX67_takeWord cX67_takeWord 5 (some .long) 2 [(69, 0)] (some 1) (fX67_takeWord) := zCt.of (by decide) (Nat.le_of_ble_eq_true rfl) (fun K E _ _ hN hT => w_fX67_takeWord E hN hT)
theorem dX67_labelAbove_0 : decode cX67_labelAbove 0 = .ok (.iload_n 1, 1) := by decide +kernel
theorem dX67_labelAbove_1 : decode cX67_labelAbove 1 = .ok (.ifCond .ge 15, 3) := by decide +kernel
theorem dX67_labelAbove_4 : decode cX67_labelAbove 4 = .ok (.aload_n 0, 1) := by decide +kernel
theorem dX67_labelAbove_5 : decode cX67_labelAbove 5 = .ok (.getfield 20, 3) := by decide +kernel
theorem dX67_labelAbove_8 : decode cX67_labelAbove 8 = .ok (.aload_n 0, 1) := by decide +kernel
theorem dX67_labelAbove_9 : decode cX67_labelAbove 9 = .ok (.getfield 1052, 3) := by decide +kernel
theorem dX67_labelAbove_12 : decode cX67_labelAbove 12 = .ok (.iaload, 1) := by decide +kernel
theorem dX67_labelAbove_13 : decode cX67_labelAbove 13 = .ok (.goto 9, 3) := by decide +kernel
theorem dX67_labelAbove_16 : decode cX67_labelAbove 16 = .ok (.aload_n 0, 1) := by decide +kernel
theorem dX67_labelAbove_17 : decode cX67_labelAbove 17 = .ok (.getfield 340, 3) := by decide +kernel
theorem dX67_labelAbove_20 : decode cX67_labelAbove 20 = .ok (.iload_n 1, 1) := by decide +kernel
theorem dX67_labelAbove_21 : decode cX67_labelAbove 21 = .ok (.iaload, 1) := by decide +kernel
theorem dX67_labelAbove_22 : decode cX67_labelAbove 22 = .ok (.ireturn, 1) := by decide +kernel
theorem zy_X67_labelAbove : yX67_labelAbove.cls ≠ "java/lang/invoke/MethodHandle" ∧ yX67_labelAbove.cls ≠ "java/lang/invoke/VarHandle" ∧ (parseMethodDescriptor yX67_labelAbove.desc).map (fun d => d.parameters.length) = some 1 := by decide +kernel
theorem w_fX67_labelAbove {K : zK} (E : zE K cX67_labelAbove "RingHouseModel" (some .int) 0) (hN : zNl K = 2) (hT : zTr K = (some 0)) (x1 : Int) : zR K 0 [(0, 69, 0), (1, 0, x1)] [] (fX67_labelAbove x1) := by
  refine r_iload_n E dX67_labelAbove_0 rfl 1 rfl ?_
  refine r_if_ge E 16 (by decide) dX67_labelAbove_1 (fun _ => ?_) (fun _ => ?_)
  · refine r_aload_n E dX67_labelAbove_16 rfl 0 rfl ?_
    refine r_gec (y := 0) E zc_69 dX67_labelAbove_17 q3334 zr_69 (zh_6920 (by decide)) (by decide) ?_
    refine r_iload_n E dX67_labelAbove_20 rfl 1 rfl ?_
    refine r_iaload E zc_6920 za_6920 zt_6920 zx_6920 rfl rfl dX67_labelAbove_21 (by decide) (fun v1 => ?_)
    exact r_ireturn E rfl hT dX67_labelAbove_22
  · refine r_aload_n E dX67_labelAbove_4 rfl 0 rfl ?_
    refine r_gec (y := 0) E zc_69 dX67_labelAbove_5 q3218 zr_69 (zh_6803 (by decide)) (by decide) ?_
    refine r_aload_n E dX67_labelAbove_8 rfl 0 rfl ?_
    refine r_get E zc_69 zt_6926 dX67_labelAbove_9 q3340 zr_69 (zg_6926 _) (by decide) (fun v2 => ?_)
    refine r_iaload E zc_6803 za_6803 zt_6803 zx_6803 rfl rfl dX67_labelAbove_12 (by decide) (fun v3 => ?_)
    refine r_goto E 22 (by decide) dX67_labelAbove_13 ?_
    exact r_ireturn E rfl hT dX67_labelAbove_22
theorem k_fX67_labelAbove (l : Launch) (G : zG) (x1 : Int) : zCt l G yX67_labelAbove cX67_labelAbove 2 (some .int) 0 [(69, 0), (0, x1)] (some 0) (fX67_labelAbove x1) := zCt.of (by decide) (Nat.le_of_ble_eq_true rfl) (fun K E _ _ hN hT => w_fX67_labelAbove E hN hT x1)
theorem dX67_hasName_0 : decode cX67_hasName 0 = .ok (.iconst 0, 1) := by decide +kernel
theorem dX67_hasName_1 : decode cX67_hasName 1 = .ok (.istore 4, 2) := by decide +kernel
theorem dX67_hasName_3 : decode cX67_hasName 3 = .ok (.iconst 0, 1) := by decide +kernel
theorem dX67_hasName_4 : decode cX67_hasName 4 = .ok (.istore 5, 2) := by decide +kernel
theorem dX67_hasName_6 : decode cX67_hasName 6 = .ok (.iload 5, 2) := by decide +kernel
theorem dX67_hasName_8 : decode cX67_hasName 8 = .ok (.aload_n 0, 1) := by decide +kernel
theorem dX67_hasName_9 : decode cX67_hasName 9 = .ok (.getfield 1049, 3) := by decide +kernel
theorem dX67_hasName_12 : decode cX67_hasName 12 = .ok (.if_icmp .ge 48, 3) := by decide +kernel
theorem dX67_hasName_15 : decode cX67_hasName 15 = .ok (.iload 4, 2) := by decide +kernel
theorem dX67_hasName_17 : decode cX67_hasName 17 = .ok (.ifCond .ne 30, 3) := by decide +kernel
theorem dX67_hasName_20 : decode cX67_hasName 20 = .ok (.aload_n 0, 1) := by decide +kernel
theorem dX67_hasName_21 : decode cX67_hasName 21 = .ok (.getfield 331, 3) := by decide +kernel
theorem dX67_hasName_24 : decode cX67_hasName 24 = .ok (.iload 5, 2) := by decide +kernel
theorem dX67_hasName_26 : decode cX67_hasName 26 = .ok (.iaload, 1) := by decide +kernel
theorem dX67_hasName_27 : decode cX67_hasName 27 = .ok (.iload_n 1, 1) := by decide +kernel
theorem dX67_hasName_28 : decode cX67_hasName 28 = .ok (.if_icmp .ne 23, 3) := by decide +kernel
theorem dX67_hasName_31 : decode cX67_hasName 31 = .ok (.aload_n 0, 1) := by decide +kernel
theorem dX67_hasName_32 : decode cX67_hasName 32 = .ok (.getfield 337, 3) := by decide +kernel
theorem dX67_hasName_35 : decode cX67_hasName 35 = .ok (.iload 5, 2) := by decide +kernel
theorem dX67_hasName_37 : decode cX67_hasName 37 = .ok (.laload, 1) := by decide +kernel
theorem dX67_hasName_38 : decode cX67_hasName 38 = .ok (.lload_n 2, 1) := by decide +kernel
theorem dX67_hasName_39 : decode cX67_hasName 39 = .ok (.lcmp, 1) := by decide +kernel
theorem dX67_hasName_40 : decode cX67_hasName 40 = .ok (.ifCond .ne 11, 3) := by decide +kernel
theorem dX67_hasName_43 : decode cX67_hasName 43 = .ok (.iload_n 1, 1) := by decide +kernel
theorem dX67_hasName_44 : decode cX67_hasName 44 = .ok (.ifCond .lt 7, 3) := by decide +kernel
theorem dX67_hasName_47 : decode cX67_hasName 47 = .ok (.iconst 1, 1) := by decide +kernel
theorem dX67_hasName_48 : decode cX67_hasName 48 = .ok (.goto 4, 3) := by decide +kernel
theorem dX67_hasName_51 : decode cX67_hasName 51 = .ok (.iconst 0, 1) := by decide +kernel
theorem dX67_hasName_52 : decode cX67_hasName 52 = .ok (.istore 4, 2) := by decide +kernel
theorem dX67_hasName_54 : decode cX67_hasName 54 = .ok (.iinc 5 1, 3) := by decide +kernel
theorem dX67_hasName_57 : decode cX67_hasName 57 = .ok (.goto (-51), 3) := by decide +kernel
theorem dX67_hasName_60 : decode cX67_hasName 60 = .ok (.iload 4, 2) := by decide +kernel
theorem dX67_hasName_62 : decode cX67_hasName 62 = .ok (.ireturn, 1) := by decide +kernel
theorem zy_X67_hasName : yX67_hasName.cls ≠ "java/lang/invoke/MethodHandle" ∧ yX67_hasName.cls ≠ "java/lang/invoke/VarHandle" ∧ (parseMethodDescriptor yX67_hasName.desc).map (fun d => d.parameters.length) = some 2 := by decide +kernel
theorem w_fX67_hasName_J52 {K : zK} (E : zE K cX67_hasName "RingHouseModel" (some .boolean) 0) (hN : zNl K = 6) (hT : zTr K = (some 0)) (x1 : Int) (x2 : Int) (x5 : Int) (s0 : Int) {r6 : Int × Int → zX} (hr6 : ∀ s : Int × Int, zR K 6 [(0, 69, 0), (1, 0, x1), (2, 1, x2), (4, 0, s.1), (5, 0, s.2)] [] (r6 s)) : zR K 52 [(0, 69, 0), (1, 0, x1), (2, 1, x2), (5, 0, x5)] [(0, s0)] (fX67_hasName_J52 r6 x1 x2 x5 s0) := by
  refine r_istore (ls' := [(4, 0, s0), (0, 69, 0), (1, 0, x1), (2, 1, x2), (5, 0, x5)]) E dX67_hasName_52 (by rw [hN]; decide) rfl ?_
  refine r_iinc (ls' := fun v2 => [(5, 0, v2), (4, 0, s0), (0, 69, 0), (1, 0, x1), (2, 1, x2)]) E 4 rfl (by rw [hN]; decide) (fun _ => rfl) dX67_hasName_54 (fun v2 _ => ?_)
  refine r_goto E 6 (by decide) dX67_hasName_57 ?_
  refine r_pick E [2, 3, 4, 1, 0] rfl ?_
  exact hr6 (s0, v2)
theorem w_fX67_hasName_J47 {K : zK} (E : zE K cX67_hasName "RingHouseModel" (some .boolean) 0) (hN : zNl K = 6) (hT : zTr K = (some 0)) (x1 : Int) (x2 : Int) (x5 : Int) {r6 : Int × Int → zX} (hr6 : ∀ s : Int × Int, zR K 6 [(0, 69, 0), (1, 0, x1), (2, 1, x2), (4, 0, s.1), (5, 0, s.2)] [] (r6 s)) : zR K 47 [(0, 69, 0), (1, 0, x1), (2, 1, x2), (5, 0, x5)] [] (fX67_hasName_J47 r6 x1 x2 x5) := by
  refine r_iconst E dX67_hasName_47 (zkI (by decide) (by decide)) ?_
  refine r_goto E 52 (by decide) dX67_hasName_48 ?_
  exact w_fX67_hasName_J52 E hN hT x1 x2 x5 1 hr6
theorem w_fX67_hasName_J51 {K : zK} (E : zE K cX67_hasName "RingHouseModel" (some .boolean) 0) (hN : zNl K = 6) (hT : zTr K = (some 0)) (x1 : Int) (x2 : Int) (x5 : Int) {r6 : Int × Int → zX} (hr6 : ∀ s : Int × Int, zR K 6 [(0, 69, 0), (1, 0, x1), (2, 1, x2), (4, 0, s.1), (5, 0, s.2)] [] (r6 s)) : zR K 51 [(0, 69, 0), (1, 0, x1), (2, 1, x2), (5, 0, x5)] [] (fX67_hasName_J51 r6 x1 x2 x5) := by
  refine r_iconst E dX67_hasName_51 (zkI (by decide) (by decide)) ?_
  exact w_fX67_hasName_J52 E hN hT x1 x2 x5 0 hr6
theorem w_fX67_hasName_B6 {K : zK} (E : zE K cX67_hasName "RingHouseModel" (some .boolean) 0) (hN : zNl K = 6) (hT : zTr K = (some 0)) (x1 : Int) (x2 : Int) : ∀ r6 : Int × Int → zX, (∀ s : Int × Int, zR K 6 [(0, 69, 0), (1, 0, x1), (2, 1, x2), (4, 0, s.1), (5, 0, s.2)] [] (r6 s)) → ∀ s : Int × Int, zR K 6 [(0, 69, 0), (1, 0, x1), (2, 1, x2), (4, 0, s.1), (5, 0, s.2)] [] (fX67_hasName_B6 x1 x2 r6 s) := by
  intro r6 hr6 s
  obtain ⟨x4, x5⟩ := s
  unfold fX67_hasName_B6
  refine r_iload E dX67_hasName_6 4 rfl ?_
  refine r_aload_n E dX67_hasName_8 rfl 0 rfl ?_
  refine r_get E zc_69 zt_6916 dX67_hasName_9 q3330 zr_69 (zg_6916 _) (by decide) (fun v1 => ?_)
  refine r_icmp_ge E 60 (by decide) dX67_hasName_12 (fun _ => ?_) (fun _ => ?_)
  · refine r_iload E dX67_hasName_60 3 rfl ?_
    exact r_zreturnb E rfl hT dX67_hasName_62
  · refine r_iload E dX67_hasName_15 3 rfl ?_
    refine r_if_ne E 47 (by decide) dX67_hasName_17 (fun _ => ?_) (fun _ => ?_)
    · refine r_pick E [0, 1, 2, 4] rfl ?_
      exact w_fX67_hasName_J47 E hN hT x1 x2 x5 hr6
    · refine r_aload_n E dX67_hasName_20 rfl 0 rfl ?_
      refine r_gec (y := 0) E zc_69 dX67_hasName_21 q3331 zr_69 (zh_6917 (by decide)) (by decide) ?_
      refine r_iload E dX67_hasName_24 4 rfl ?_
      refine r_iaload E zc_6917 za_6917 zt_6917 zx_6917 rfl rfl dX67_hasName_26 (by decide) (fun v3 => ?_)
      refine r_iload_n E dX67_hasName_27 rfl 1 rfl ?_
      refine r_icmp_ne E 51 (by decide) dX67_hasName_28 (fun _ => ?_) (fun _ => ?_)
      · refine r_pick E [0, 1, 2, 4] rfl ?_
        exact w_fX67_hasName_J51 E hN hT x1 x2 x5 hr6
      · refine r_aload_n E dX67_hasName_31 rfl 0 rfl ?_
        refine r_gec (y := 0) E zc_69 dX67_hasName_32 q3333 zr_69 (zh_6919 (by decide)) (by decide) ?_
        refine r_iload E dX67_hasName_35 4 rfl ?_
        refine r_laload E zc_6919 za_6919 zt_6919 zx_6919 rfl rfl dX67_hasName_37 (by decide) (fun v4 => ?_)
        refine r_lload_n E dX67_hasName_38 rfl 2 rfl ?_
        refine r_lcmp_ne E 51 (by decide) dX67_hasName_39 dX67_hasName_40 (fun _ => ?_) (fun _ => ?_)
        · refine r_pick E [0, 1, 2, 4] rfl ?_
          exact w_fX67_hasName_J51 E hN hT x1 x2 x5 hr6
        · refine r_iload_n E dX67_hasName_43 rfl 1 rfl ?_
          refine r_if_lt E 51 (by decide) dX67_hasName_44 (fun _ => ?_) (fun _ => ?_)
          · refine r_pick E [0, 1, 2, 4] rfl ?_
            exact w_fX67_hasName_J51 E hN hT x1 x2 x5 hr6
          · refine r_pick E [0, 1, 2, 4] rfl ?_
            exact w_fX67_hasName_J47 E hN hT x1 x2 x5 hr6
theorem w_fX67_hasName {K : zK} (E : zE K cX67_hasName "RingHouseModel" (some .boolean) 0) (hN : zNl K = 6) (hT : zTr K = (some 0)) (x1 : Int) (x2 : Int) : zR K 0 [(0, 69, 0), (1, 0, x1), (2, 1, x2)] [] (fX67_hasName x1 x2) := by
  refine r_iconst E dX67_hasName_0 (zkI (by decide) (by decide)) ?_
  refine r_istore (ls' := [(4, 0, 0), (0, 69, 0), (1, 0, x1), (2, 1, x2)]) E dX67_hasName_1 (by rw [hN]; decide) rfl ?_
  refine r_iconst E dX67_hasName_3 (zkI (by decide) (by decide)) ?_
  refine r_istore (ls' := [(5, 0, 0), (4, 0, 0), (0, 69, 0), (1, 0, x1), (2, 1, x2)]) E dX67_hasName_4 (by rw [hN]; decide) rfl ?_
  refine r_pick E [2, 3, 4, 1, 0] rfl ?_
  exact r_loop (L := fun s => [(0, 69, 0), (1, 0, x1), (2, 1, x2), (4, 0, s.1), (5, 0, s.2)]) (w_fX67_hasName_B6 E hN hT x1 x2) zBIG (0, 0)
theorem k_fX67_hasName (l : Launch) (G : zG) (x1 : Int) (x2 : Int) : zCt l G yX67_hasName cX67_hasName 6 (some .boolean) 0 [(69, 0), (0, x1), (1, x2)] (some 0) (fX67_hasName x1 x2) := zCt.of (by decide) (Nat.le_of_ble_eq_true rfl) (fun K E _ _ hN hT => w_fX67_hasName E hN hT x1 x2)
theorem dX67_takeHead_0 : decode cX67_takeHead 0 = .ok (.aload_n 0, 1) := by decide +kernel
theorem dX67_takeHead_1 : decode cX67_takeHead 1 = .ok (.getfield 1049, 3) := by decide +kernel
theorem dX67_takeHead_4 : decode cX67_takeHead 4 = .ok (.istore_n 2, 1) := by decide +kernel
theorem dX67_takeHead_5 : decode cX67_takeHead 5 = .ok (.aload_n 0, 1) := by decide +kernel
theorem dX67_takeHead_6 : decode cX67_takeHead 6 = .ok (.iconst 1, 1) := by decide +kernel
theorem dX67_takeHead_7 : decode cX67_takeHead 7 = .ok (.iconst 3, 1) := by decide +kernel
theorem dX67_takeHead_8 : decode cX67_takeHead 8 = .ok (.invokevirtual 1043, 3) := by decide +kernel
theorem dX67_takeHead_11 : decode cX67_takeHead 11 = .ok (.istore_n 3, 1) := by decide +kernel
theorem dX67_takeHead_12 : decode cX67_takeHead 12 = .ok (.aload_n 0, 1) := by decide +kernel
theorem dX67_takeHead_13 : decode cX67_takeHead 13 = .ok (.getfield 1037, 3) := by decide +kernel
theorem dX67_takeHead_16 : decode cX67_takeHead 16 = .ok (.istore 4, 2) := by decide +kernel
theorem dX67_takeHead_18 : decode cX67_takeHead 18 = .ok (.aload_n 0, 1) := by decide +kernel
theorem dX67_takeHead_19 : decode cX67_takeHead 19 = .ok (.invokevirtual 1055, 3) := by decide +kernel
theorem dX67_takeHead_22 : decode cX67_takeHead 22 = .ok (.lstore 5, 2) := by decide +kernel
theorem dX67_takeHead_24 : decode cX67_takeHead 24 = .ok (.aload_n 0, 1) := by decide +kernel
theorem dX67_takeHead_25 : decode cX67_takeHead 25 = .ok (.getfield 1031, 3) := by decide +kernel
theorem dX67_takeHead_28 : decode cX67_takeHead 28 = .ok (.ifCond .ne 18, 3) := by decide +kernel
theorem dX67_takeHead_31 : decode cX67_takeHead 31 = .ok (.lload 5, 2) := by decide +kernel
theorem dX67_takeHead_33 : decode cX67_takeHead 33 = .ok (.invokestatic 442, 3) := by decide +kernel
theorem dX67_takeHead_36 : decode cX67_takeHead 36 = .ok (.ifCond .ne 10, 3) := by decide +kernel
theorem dX67_takeHead_39 : decode cX67_takeHead 39 = .ok (.aload_n 0, 1) := by decide +kernel
theorem dX67_takeHead_40 : decode cX67_takeHead 40 = .ok (.iconst 3, 1) := by decide +kernel
theorem dX67_takeHead_41 : decode cX67_takeHead 41 = .ok (.iload 4, 2) := by decide +kernel
theorem dX67_takeHead_43 : decode cX67_takeHead 43 = .ok (.invokevirtual 1040, 3) := by decide +kernel
theorem dX67_takeHead_46 : decode cX67_takeHead 46 = .ok (.aload_n 0, 1) := by decide +kernel
theorem dX67_takeHead_47 : decode cX67_takeHead 47 = .ok (.getfield 1031, 3) := by decide +kernel
theorem dX67_takeHead_50 : decode cX67_takeHead 50 = .ok (.ifCond .ne 27, 3) := by decide +kernel
theorem dX67_takeHead_53 : decode cX67_takeHead 53 = .ok (.aload_n 0, 1) := by decide +kernel
theorem dX67_takeHead_54 : decode cX67_takeHead 54 = .ok (.getfield 1046, 3) := by decide +kernel
theorem dX67_takeHead_57 : decode cX67_takeHead 57 = .ok (.ifCond .ne 20, 3) := by decide +kernel
theorem dX67_takeHead_60 : decode cX67_takeHead 60 = .ok (.aload_n 0, 1) := by decide +kernel
theorem dX67_takeHead_61 : decode cX67_takeHead 61 = .ok (.iload_n 1, 1) := by decide +kernel
theorem dX67_takeHead_62 : decode cX67_takeHead 62 = .ok (.lload 5, 2) := by decide +kernel
theorem dX67_takeHead_64 : decode cX67_takeHead 64 = .ok (.invokevirtual 1058, 3) := by decide +kernel
theorem dX67_takeHead_67 : decode cX67_takeHead 67 = .ok (.ifCond .eq 10, 3) := by decide +kernel
theorem dX67_takeHead_70 : decode cX67_takeHead 70 = .ok (.aload_n 0, 1) := by decide +kernel
theorem dX67_takeHead_71 : decode cX67_takeHead 71 = .ok (.iconst 4, 1) := by decide +kernel
theorem dX67_takeHead_72 : decode cX67_takeHead 72 = .ok (.iload 4, 2) := by decide +kernel
theorem dX67_takeHead_74 : decode cX67_takeHead 74 = .ok (.invokevirtual 1040, 3) := by decide +kernel
theorem dX67_takeHead_77 : decode cX67_takeHead 77 = .ok (.aload_n 0, 1) := by decide +kernel
theorem dX67_takeHead_78 : decode cX67_takeHead 78 = .ok (.getfield 331, 3) := by decide +kernel
theorem dX67_takeHead_81 : decode cX67_takeHead 81 = .ok (.iload_n 2, 1) := by decide +kernel
theorem dX67_takeHead_82 : decode cX67_takeHead 82 = .ok (.iload_n 1, 1) := by decide +kernel
theorem dX67_takeHead_83 : decode cX67_takeHead 83 = .ok (.iastore, 1) := by decide +kernel
theorem dX67_takeHead_84 : decode cX67_takeHead 84 = .ok (.aload_n 0, 1) := by decide +kernel
theorem dX67_takeHead_85 : decode cX67_takeHead 85 = .ok (.getfield 334, 3) := by decide +kernel
theorem dX67_takeHead_88 : decode cX67_takeHead 88 = .ok (.iload_n 2, 1) := by decide +kernel
theorem dX67_takeHead_89 : decode cX67_takeHead 89 = .ok (.iload_n 3, 1) := by decide +kernel
theorem dX67_takeHead_90 : decode cX67_takeHead 90 = .ok (.iastore, 1) := by decide +kernel
theorem dX67_takeHead_91 : decode cX67_takeHead 91 = .ok (.aload_n 0, 1) := by decide +kernel
theorem dX67_takeHead_92 : decode cX67_takeHead 92 = .ok (.getfield 337, 3) := by decide +kernel
theorem dX67_takeHead_95 : decode cX67_takeHead 95 = .ok (.iload_n 2, 1) := by decide +kernel
theorem dX67_takeHead_96 : decode cX67_takeHead 96 = .ok (.lload 5, 2) := by decide +kernel
theorem dX67_takeHead_98 : decode cX67_takeHead 98 = .ok (.lastore, 1) := by decide +kernel
theorem dX67_takeHead_99 : decode cX67_takeHead 99 = .ok (.aload_n 0, 1) := by decide +kernel
theorem dX67_takeHead_100 : decode cX67_takeHead 100 = .ok (.getfield 340, 3) := by decide +kernel
theorem dX67_takeHead_103 : decode cX67_takeHead 103 = .ok (.iload_n 2, 1) := by decide +kernel
theorem dX67_takeHead_104 : decode cX67_takeHead 104 = .ok (.aload_n 0, 1) := by decide +kernel
theorem dX67_takeHead_105 : decode cX67_takeHead 105 = .ok (.iload_n 1, 1) := by decide +kernel
theorem dX67_takeHead_106 : decode cX67_takeHead 106 = .ok (.invokevirtual 1062, 3) := by decide +kernel
theorem dX67_takeHead_109 : decode cX67_takeHead 109 = .ok (.iastore, 1) := by decide +kernel
theorem dX67_takeHead_110 : decode cX67_takeHead 110 = .ok (.aload_n 0, 1) := by decide +kernel
theorem dX67_takeHead_111 : decode cX67_takeHead 111 = .ok (.getfield 343, 3) := by decide +kernel
theorem dX67_takeHead_114 : decode cX67_takeHead 114 = .ok (.iload_n 2, 1) := by decide +kernel
theorem dX67_takeHead_115 : decode cX67_takeHead 115 = .ok (.iconst 0, 1) := by decide +kernel
theorem dX67_takeHead_116 : decode cX67_takeHead 116 = .ok (.iastore, 1) := by decide +kernel
theorem dX67_takeHead_117 : decode cX67_takeHead 117 = .ok (.aload_n 0, 1) := by decide +kernel
theorem dX67_takeHead_118 : decode cX67_takeHead 118 = .ok (.getfield 346, 3) := by decide +kernel
theorem dX67_takeHead_121 : decode cX67_takeHead 121 = .ok (.iload_n 2, 1) := by decide +kernel
theorem dX67_takeHead_122 : decode cX67_takeHead 122 = .ok (.lconst 0, 1) := by decide +kernel
theorem dX67_takeHead_123 : decode cX67_takeHead 123 = .ok (.lastore, 1) := by decide +kernel
theorem dX67_takeHead_124 : decode cX67_takeHead 124 = .ok (.aload_n 0, 1) := by decide +kernel
theorem dX67_takeHead_125 : decode cX67_takeHead 125 = .ok (.getfield 349, 3) := by decide +kernel
theorem dX67_takeHead_128 : decode cX67_takeHead 128 = .ok (.iload_n 2, 1) := by decide +kernel
theorem dX67_takeHead_129 : decode cX67_takeHead 129 = .ok (.iconst 0, 1) := by decide +kernel
theorem dX67_takeHead_130 : decode cX67_takeHead 130 = .ok (.iastore, 1) := by decide +kernel
theorem dX67_takeHead_131 : decode cX67_takeHead 131 = .ok (.aload_n 0, 1) := by decide +kernel
theorem dX67_takeHead_132 : decode cX67_takeHead 132 = .ok (.dup, 1) := by decide +kernel
theorem dX67_takeHead_133 : decode cX67_takeHead 133 = .ok (.getfield 1049, 3) := by decide +kernel
theorem dX67_takeHead_136 : decode cX67_takeHead 136 = .ok (.iconst 1, 1) := by decide +kernel
theorem dX67_takeHead_137 : decode cX67_takeHead 137 = .ok (.iadd, 1) := by decide +kernel
theorem dX67_takeHead_138 : decode cX67_takeHead 138 = .ok (.putfield 1049, 3) := by decide +kernel
theorem dX67_takeHead_141 : decode cX67_takeHead 141 = .ok (.iload_n 2, 1) := by decide +kernel
theorem dX67_takeHead_142 : decode cX67_takeHead 142 = .ok (.ireturn, 1) := by decide +kernel
theorem zy_X67_takeHead : yX67_takeHead.cls ≠ "java/lang/invoke/MethodHandle" ∧ yX67_takeHead.cls ≠ "java/lang/invoke/VarHandle" ∧ (parseMethodDescriptor yX67_takeHead.desc).map (fun d => d.parameters.length) = some 1 := by decide +kernel
theorem w_fX67_takeHead_J77 {K : zK} (E : zE K cX67_takeHead "RingHouseModel" (some .int) 3) (hN : zNl K = 7) (hT : zTr K = (some 0)) (x1 : Int) (x2 : Int) (x3 : Int) (x5 : Int) : zR K 77 [(0, 69, 0), (1, 0, x1), (2, 0, x2), (3, 0, x3), (5, 1, x5)] [] (fX67_takeHead_J77 x1 x2 x3 x5) := by
  refine r_aload_n E dX67_takeHead_77 rfl 0 rfl ?_
  refine r_gec (y := 0) E zc_69 dX67_takeHead_78 q3331 zr_69 (zh_6917 (by decide)) (by decide) ?_
  refine r_iload_n E dX67_takeHead_81 rfl 2 rfl ?_
  refine r_iload_n E dX67_takeHead_82 rfl 1 rfl ?_
  refine r_iastore E zc_6917 za_6917 zt_6917 zo_6917 zx_6917 rfl rfl dX67_takeHead_83 (by decide) ?_
  refine r_aload_n E dX67_takeHead_84 rfl 0 rfl ?_
  refine r_gec (y := 0) E zc_69 dX67_takeHead_85 q3332 zr_69 (zh_6918 (by decide)) (by decide) ?_
  refine r_iload_n E dX67_takeHead_88 rfl 2 rfl ?_
  refine r_iload_n E dX67_takeHead_89 rfl 3 rfl ?_
  refine r_iastore E zc_6918 za_6918 zt_6918 zo_6918 zx_6918 rfl rfl dX67_takeHead_90 (by decide) ?_
  refine r_aload_n E dX67_takeHead_91 rfl 0 rfl ?_
  refine r_gec (y := 0) E zc_69 dX67_takeHead_92 q3333 zr_69 (zh_6919 (by decide)) (by decide) ?_
  refine r_iload_n E dX67_takeHead_95 rfl 2 rfl ?_
  refine r_lload E dX67_takeHead_96 4 rfl ?_
  refine r_lastore E zc_6919 za_6919 zt_6919 zo_6919 zx_6919 rfl rfl dX67_takeHead_98 (by decide) ?_
  refine r_aload_n E dX67_takeHead_99 rfl 0 rfl ?_
  refine r_gec (y := 0) E zc_69 dX67_takeHead_100 q3334 zr_69 (zh_6920 (by decide)) (by decide) ?_
  refine r_iload_n E dX67_takeHead_103 rfl 2 rfl ?_
  refine r_aload_n E dX67_takeHead_104 rfl 0 rfl ?_
  refine r_iload_n E dX67_takeHead_105 rfl 1 rfl ?_
  refine r_callV E [(0, x1)] [(0, x2), (6920, 0)] rfl zc_69 zr_69 (fun o _ => ⟨_, zw_X67.1 o, rfl⟩) (lw_V q4379 q4381 qs217 q294 q4382) dX67_takeHead_106 zy_X67_labelAbove rfl (by omega) (by decide) (Nat.le_of_ble_eq_true rfl) (by decide) (fun l G => k_fX67_labelAbove l G x1) (fun v7 => ?_)
  refine r_iastore E zc_6920 za_6920 zt_6920 zo_6920 zx_6920 rfl rfl dX67_takeHead_109 (by decide) ?_
  refine r_aload_n E dX67_takeHead_110 rfl 0 rfl ?_
  refine r_gec (y := 0) E zc_69 dX67_takeHead_111 q3335 zr_69 (zh_6921 (by decide)) (by decide) ?_
  refine r_iload_n E dX67_takeHead_114 rfl 2 rfl ?_
  refine r_iconst E dX67_takeHead_115 (zkI (by decide) (by decide)) ?_
  refine r_iastore E zc_6921 za_6921 zt_6921 zo_6921 zx_6921 rfl rfl dX67_takeHead_116 (by decide) ?_
  refine r_aload_n E dX67_takeHead_117 rfl 0 rfl ?_
  refine r_gec (y := 0) E zc_69 dX67_takeHead_118 q3336 zr_69 (zh_6922 (by decide)) (by decide) ?_
  refine r_iload_n E dX67_takeHead_121 rfl 2 rfl ?_
  refine r_lconst (v := 0) E dX67_takeHead_122 (by decide) (zkJ (by decide) (by decide)) ?_
  refine r_lastore E zc_6922 za_6922 zt_6922 zo_6922 zx_6922 rfl rfl dX67_takeHead_123 (by decide) ?_
  refine r_aload_n E dX67_takeHead_124 rfl 0 rfl ?_
  refine r_gec (y := 0) E zc_69 dX67_takeHead_125 q3337 zr_69 (zh_6923 (by decide)) (by decide) ?_
  refine r_iload_n E dX67_takeHead_128 rfl 2 rfl ?_
  refine r_iconst E dX67_takeHead_129 (zkI (by decide) (by decide)) ?_
  refine r_iastore E zc_6923 za_6923 zt_6923 zo_6923 zx_6923 rfl rfl dX67_takeHead_130 (by decide) ?_
  refine r_aload_n E dX67_takeHead_131 rfl 0 rfl ?_
  refine r_dup E (zn1 rfl) dX67_takeHead_132 ?_
  refine r_get E zc_69 zt_6916 dX67_takeHead_133 q3330 zr_69 (zg_6916 _) (by decide) (fun v8 => ?_)
  refine r_iconst E dX67_takeHead_136 (zkI (by decide) (by decide)) ?_
  refine r_iadd E dX67_takeHead_137 ?_
  refine r_put E zc_69 zt_6916 zo_6916 dX67_takeHead_138 q3330 zr_69 zw_X67 zp_6916 (fun _ => rfl) (fun _ => rfl) (by decide) ?_
  refine r_iload_n E dX67_takeHead_141 rfl 2 rfl ?_
  exact r_ireturn E rfl hT dX67_takeHead_142
theorem w_fX67_takeHead_J46 {K : zK} (E : zE K cX67_takeHead "RingHouseModel" (some .int) 3) (hN : zNl K = 7) (hT : zTr K = (some 0)) (x1 : Int) (x2 : Int) (x3 : Int) (x4 : Int) (x5 : Int) : zR K 46 [(0, 69, 0), (1, 0, x1), (2, 0, x2), (3, 0, x3), (4, 0, x4), (5, 1, x5)] [] (fX67_takeHead_J46 x1 x2 x3 x4 x5) := by
  refine r_aload_n E dX67_takeHead_46 rfl 0 rfl ?_
  refine r_get E zc_69 zt_6913 dX67_takeHead_47 q3327 zr_69 (zg_6913 _) (by decide) (fun v6 => ?_)
  refine r_if_ne E 77 (by decide) dX67_takeHead_50 (fun _ => ?_) (fun _ => ?_)
  · refine r_pick E [0, 1, 2, 3, 5] rfl ?_
    exact w_fX67_takeHead_J77 E hN hT x1 x2 x3 x5
  · refine r_aload_n E dX67_takeHead_53 rfl 0 rfl ?_
    refine r_get E zc_69 zt_6925 dX67_takeHead_54 q3339 zr_69 (zg_6925 _) (by decide) (fun v9 => ?_)
    refine r_if_ne E 77 (by decide) dX67_takeHead_57 (fun _ => ?_) (fun _ => ?_)
    · refine r_pick E [0, 1, 2, 3, 5] rfl ?_
      exact w_fX67_takeHead_J77 E hN hT x1 x2 x3 x5
    · refine r_aload_n E dX67_takeHead_60 rfl 0 rfl ?_
      refine r_iload_n E dX67_takeHead_61 rfl 1 rfl ?_
      refine r_lload E dX67_takeHead_62 5 rfl ?_
      refine r_callV E [(0, x1), (1, x5)] [] rfl zc_69 zr_69 (fun o _ => ⟨_, zw_X67.1 o, rfl⟩) (lw_V q4375 q4377 qs216 q294 q4378) dX67_takeHead_64 zy_X67_hasName rfl (by omega) (by decide) (Nat.le_of_ble_eq_true rfl) (by decide) (fun l G => k_fX67_hasName l G x1 x5) (fun v10 => ?_)
      refine r_if_eq E 77 (by decide) dX67_takeHead_67 (fun _ => ?_) (fun _ => ?_)
      · refine r_pick E [0, 1, 2, 3, 5] rfl ?_
        exact w_fX67_takeHead_J77 E hN hT x1 x2 x3 x5
      · refine r_aload_n E dX67_takeHead_70 rfl 0 rfl ?_
        refine r_iconst E dX67_takeHead_71 (zkI (by decide) (by decide)) ?_
        refine r_iload E dX67_takeHead_72 4 rfl ?_
        refine r_callV E [(0, 4), (0, x4)] [] rfl zc_69 zr_69 (fun o _ => ⟨_, zw_X67.1 o, rfl⟩) (lw_V q4359 q4361 qs212 q294 q4362) dX67_takeHead_74 zy_X67_torn rfl (by omega) (by decide) (Nat.le_of_ble_eq_true rfl) (by decide) (fun l G => k_fX67_torn l G 4 x4) (fun _ => ?_)
        refine r_pick E [0, 1, 2, 3, 5] rfl ?_
        exact w_fX67_takeHead_J77 E hN hT x1 x2 x3 x5
theorem w_fX67_takeHead {K : zK} (E : zE K cX67_takeHead "RingHouseModel" (some .int) 3) (hN : zNl K = 7) (hT : zTr K = (some 0)) (x1 : Int) : zR K 0 [(0, 69, 0), (1, 0, x1)] [] (fX67_takeHead x1) := by
  refine r_aload_n E dX67_takeHead_0 rfl 0 rfl ?_
  refine r_get E zc_69 zt_6916 dX67_takeHead_1 q3330 zr_69 (zg_6916 _) (by decide) (fun v1 => ?_)
  refine r_istore_n (ls' := [(2, 0, v1), (0, 69, 0), (1, 0, x1)]) E dX67_takeHead_4 rfl (by rw [hN]; decide) rfl ?_
  refine r_aload_n E dX67_takeHead_5 rfl 1 rfl ?_
  refine r_iconst E dX67_takeHead_6 (zkI (by decide) (by decide)) ?_
  refine r_iconst E dX67_takeHead_7 (zkI (by decide) (by decide)) ?_
  refine r_callV E [(0, 1), (0, 3)] [] rfl zc_69 zr_69 (fun o _ => ⟨_, zw_X67.1 o, rfl⟩) (lw_V q4355 q4357 qs211 q294 q4358) dX67_takeHead_8 zy_X67_take rfl (by omega) (by decide) (Nat.le_of_ble_eq_true rfl) (by decide) (fun l G => k_fX67_take l G 1 3) (fun v2 => ?_)
  refine r_istore_n (ls' := [(3, 0, v2), (2, 0, v1), (0, 69, 0), (1, 0, x1)]) E dX67_takeHead_11 rfl (by rw [hN]; decide) rfl ?_
  refine r_aload_n E dX67_takeHead_12 rfl 2 rfl ?_
  refine r_get E zc_69 zt_6912 dX67_takeHead_13 q3326 zr_69 (zg_6912 _) (by decide) (fun v3 => ?_)
  refine r_istore (ls' := [(4, 0, v3), (3, 0, v2), (2, 0, v1), (0, 69, 0), (1, 0, x1)]) E dX67_takeHead_16 (by rw [hN]; decide) rfl ?_
  refine r_aload_n E dX67_takeHead_18 rfl 3 rfl ?_
  refine r_callV E [] [] rfl zc_69 zr_69 (fun o _ => ⟨_, zw_X67.1 o, rfl⟩) (lw_V q4371 q4373 qs215 q294 q4374) dX67_takeHead_19 zy_X67_takeWord rfl (by omega) (by decide) (Nat.le_of_ble_eq_true rfl) (by decide) (fun l G => k_fX67_takeWord l G) (fun v4 => ?_)
  refine r_lstore (ls' := [(5, 1, v4), (4, 0, v3), (3, 0, v2), (2, 0, v1), (0, 69, 0), (1, 0, x1)]) E dX67_takeHead_22 (by rw [hN]; decide) rfl ?_
  refine r_aload_n E dX67_takeHead_24 rfl 4 rfl ?_
  refine r_get E zc_69 zt_6913 dX67_takeHead_25 q3327 zr_69 (zg_6913 _) (by decide) (fun v5 => ?_)
  refine r_if_ne E 46 (by decide) dX67_takeHead_28 (fun _ => ?_) (fun _ => ?_)
  · refine r_pick E [4, 5, 3, 2, 1, 0] rfl ?_
    exact w_fX67_takeHead_J46 E hN hT x1 v1 v2 v3 v4
  · refine r_lload E dX67_takeHead_31 0 rfl ?_
    refine r_callS E [(1, v4)] [] rfl q3622 q3623 q294 q3624 dX67_takeHead_33 zy_X67_isName rfl (by omega) (by decide) (Nat.le_of_ble_eq_true rfl) (fun l G => k_fX67_isName l G v4) (fun v12 => ?_)
    refine r_if_ne E 46 (by decide) dX67_takeHead_36 (fun _ => ?_) (fun _ => ?_)
    · refine r_pick E [4, 5, 3, 2, 1, 0] rfl ?_
      exact w_fX67_takeHead_J46 E hN hT x1 v1 v2 v3 v4
    · refine r_aload_n E dX67_takeHead_39 rfl 4 rfl ?_
      refine r_iconst E dX67_takeHead_40 (zkI (by decide) (by decide)) ?_
      refine r_iload E dX67_takeHead_41 1 rfl ?_
      refine r_callV E [(0, 3), (0, v3)] [] rfl zc_69 zr_69 (fun o _ => ⟨_, zw_X67.1 o, rfl⟩) (lw_V q4359 q4361 qs212 q294 q4362) dX67_takeHead_43 zy_X67_torn rfl (by omega) (by decide) (Nat.le_of_ble_eq_true rfl) (by decide) (fun l G => k_fX67_torn l G 3 v3) (fun _ => ?_)
      refine r_pick E [4, 5, 3, 2, 1, 0] rfl ?_
      exact w_fX67_takeHead_J46 E hN hT x1 v1 v2 v3 v4
theorem k_fX67_takeHead (l : Launch) (G : zG) (x1 : Int) : zCt l G yX67_takeHead cX67_takeHead 7 (some .int) 3 [(69, 0), (0, x1)] (some 0) (fX67_takeHead x1) := zCt.of (by decide) (Nat.le_of_ble_eq_true rfl) (fun K E _ _ hN hT => w_fX67_takeHead E hN hT x1)
theorem dX67_takeItems_0 : decode cX67_takeItems 0 = .ok (.aload_n 0, 1) := by decide +kernel
theorem dX67_takeItems_1 : decode cX67_takeItems 1 = .ok (.iconst 0, 1) := by decide +kernel
theorem dX67_takeItems_2 : decode cX67_takeItems 2 = .ok (.iload_n 1, 1) := by decide +kernel
theorem dX67_takeItems_3 : decode cX67_takeItems 3 = .ok (.invokevirtual 1043, 3) := by decide +kernel
theorem dX67_takeItems_6 : decode cX67_takeItems 6 = .ok (.istore 4, 2) := by decide +kernel
theorem dX67_takeItems_8 : decode cX67_takeItems 8 = .ok (.iconst 0, 1) := by decide +kernel
theorem dX67_takeItems_9 : decode cX67_takeItems 9 = .ok (.istore 5, 2) := by decide +kernel
theorem dX67_takeItems_11 : decode cX67_takeItems 11 = .ok (.iload 5, 2) := by decide +kernel
theorem dX67_takeItems_13 : decode cX67_takeItems 13 = .ok (.iload 4, 2) := by decide +kernel
theorem dX67_takeItems_15 : decode cX67_takeItems 15 = .ok (.if_icmp .ge 150, 3) := by decide +kernel
theorem dX67_takeItems_18 : decode cX67_takeItems 18 = .ok (.aload_n 0, 1) := by decide +kernel
theorem dX67_takeItems_19 : decode cX67_takeItems 19 = .ok (.getfield 1031, 3) := by decide +kernel
theorem dX67_takeItems_22 : decode cX67_takeItems 22 = .ok (.ifCond .ne 143, 3) := by decide +kernel
theorem dX67_takeItems_25 : decode cX67_takeItems 25 = .ok (.aload_n 0, 1) := by decide +kernel
theorem dX67_takeItems_26 : decode cX67_takeItems 26 = .ok (.getfield 1037, 3) := by decide +kernel
theorem dX67_takeItems_29 : decode cX67_takeItems 29 = .ok (.istore 6, 2) := by decide +kernel
theorem dX67_takeItems_31 : decode cX67_takeItems 31 = .ok (.aload_n 0, 1) := by decide +kernel
theorem dX67_takeItems_32 : decode cX67_takeItems 32 = .ok (.getfield 358, 3) := by decide +kernel
theorem dX67_takeItems_35 : decode cX67_takeItems 35 = .ok (.iconst 3, 1) := by decide +kernel
theorem dX67_takeItems_36 : decode cX67_takeItems 36 = .ok (.iload 5, 2) := by decide +kernel
theorem dX67_takeItems_38 : decode cX67_takeItems 38 = .ok (.imul, 1) := by decide +kernel
theorem dX67_takeItems_39 : decode cX67_takeItems 39 = .ok (.aload_n 0, 1) := by decide +kernel
theorem dX67_takeItems_40 : decode cX67_takeItems 40 = .ok (.iconst 0, 1) := by decide +kernel
theorem dX67_takeItems_41 : decode cX67_takeItems 41 = .ok (.bipush 16, 2) := by decide +kernel
theorem dX67_takeItems_43 : decode cX67_takeItems 43 = .ok (.invokevirtual 1043, 3) := by decide +kernel
theorem dX67_takeItems_46 : decode cX67_takeItems 46 = .ok (.iastore, 1) := by decide +kernel
theorem dX67_takeItems_47 : decode cX67_takeItems 47 = .ok (.aload_n 0, 1) := by decide +kernel
theorem dX67_takeItems_48 : decode cX67_takeItems 48 = .ok (.getfield 358, 3) := by decide +kernel
theorem dX67_takeItems_51 : decode cX67_takeItems 51 = .ok (.iconst 3, 1) := by decide +kernel
theorem dX67_takeItems_52 : decode cX67_takeItems 52 = .ok (.iload 5, 2) := by decide +kernel
theorem dX67_takeItems_54 : decode cX67_takeItems 54 = .ok (.imul, 1) := by decide +kernel
theorem dX67_takeItems_55 : decode cX67_takeItems 55 = .ok (.iconst 1, 1) := by decide +kernel
theorem dX67_takeItems_56 : decode cX67_takeItems 56 = .ok (.iadd, 1) := by decide +kernel
theorem dX67_takeItems_57 : decode cX67_takeItems 57 = .ok (.aload_n 0, 1) := by decide +kernel
theorem dX67_takeItems_58 : decode cX67_takeItems 58 = .ok (.iconst 0, 1) := by decide +kernel
theorem dX67_takeItems_59 : decode cX67_takeItems 59 = .ok (.bipush 8, 2) := by decide +kernel
theorem dX67_takeItems_61 : decode cX67_takeItems 61 = .ok (.invokevirtual 1043, 3) := by decide +kernel
theorem dX67_takeItems_64 : decode cX67_takeItems 64 = .ok (.iastore, 1) := by decide +kernel
theorem dX67_takeItems_65 : decode cX67_takeItems 65 = .ok (.iconst 0, 1) := by decide +kernel
theorem dX67_takeItems_66 : decode cX67_takeItems 66 = .ok (.istore 7, 2) := by decide +kernel
theorem dX67_takeItems_68 : decode cX67_takeItems 68 = .ok (.iload 7, 2) := by decide +kernel
theorem dX67_takeItems_70 : decode cX67_takeItems 70 = .ok (.iload 5, 2) := by decide +kernel
theorem dX67_takeItems_72 : decode cX67_takeItems 72 = .ok (.if_icmp .ge 69, 3) := by decide +kernel
theorem dX67_takeItems_75 : decode cX67_takeItems 75 = .ok (.aload_n 0, 1) := by decide +kernel
theorem dX67_takeItems_76 : decode cX67_takeItems 76 = .ok (.getfield 1031, 3) := by decide +kernel
theorem dX67_takeItems_79 : decode cX67_takeItems 79 = .ok (.ifCond .ne 56, 3) := by decide +kernel
theorem dX67_takeItems_82 : decode cX67_takeItems 82 = .ok (.aload_n 0, 1) := by decide +kernel
theorem dX67_takeItems_83 : decode cX67_takeItems 83 = .ok (.getfield 358, 3) := by decide +kernel
theorem dX67_takeItems_86 : decode cX67_takeItems 86 = .ok (.iconst 3, 1) := by decide +kernel
theorem dX67_takeItems_87 : decode cX67_takeItems 87 = .ok (.iload 7, 2) := by decide +kernel
theorem dX67_takeItems_89 : decode cX67_takeItems 89 = .ok (.imul, 1) := by decide +kernel
theorem dX67_takeItems_90 : decode cX67_takeItems 90 = .ok (.iaload, 1) := by decide +kernel
theorem dX67_takeItems_91 : decode cX67_takeItems 91 = .ok (.aload_n 0, 1) := by decide +kernel
theorem dX67_takeItems_92 : decode cX67_takeItems 92 = .ok (.getfield 358, 3) := by decide +kernel
theorem dX67_takeItems_95 : decode cX67_takeItems 95 = .ok (.iconst 3, 1) := by decide +kernel
theorem dX67_takeItems_96 : decode cX67_takeItems 96 = .ok (.iload 5, 2) := by decide +kernel
theorem dX67_takeItems_98 : decode cX67_takeItems 98 = .ok (.imul, 1) := by decide +kernel
theorem dX67_takeItems_99 : decode cX67_takeItems 99 = .ok (.iaload, 1) := by decide +kernel
theorem dX67_takeItems_100 : decode cX67_takeItems 100 = .ok (.if_icmp .ne 35, 3) := by decide +kernel
theorem dX67_takeItems_103 : decode cX67_takeItems 103 = .ok (.aload_n 0, 1) := by decide +kernel
theorem dX67_takeItems_104 : decode cX67_takeItems 104 = .ok (.getfield 358, 3) := by decide +kernel
theorem dX67_takeItems_107 : decode cX67_takeItems 107 = .ok (.iconst 3, 1) := by decide +kernel
theorem dX67_takeItems_108 : decode cX67_takeItems 108 = .ok (.iload 7, 2) := by decide +kernel
theorem dX67_takeItems_110 : decode cX67_takeItems 110 = .ok (.imul, 1) := by decide +kernel
theorem dX67_takeItems_111 : decode cX67_takeItems 111 = .ok (.iconst 1, 1) := by decide +kernel
theorem dX67_takeItems_112 : decode cX67_takeItems 112 = .ok (.iadd, 1) := by decide +kernel
theorem dX67_takeItems_113 : decode cX67_takeItems 113 = .ok (.iaload, 1) := by decide +kernel
theorem dX67_takeItems_114 : decode cX67_takeItems 114 = .ok (.aload_n 0, 1) := by decide +kernel
theorem dX67_takeItems_115 : decode cX67_takeItems 115 = .ok (.getfield 358, 3) := by decide +kernel
theorem dX67_takeItems_118 : decode cX67_takeItems 118 = .ok (.iconst 3, 1) := by decide +kernel
theorem dX67_takeItems_119 : decode cX67_takeItems 119 = .ok (.iload 5, 2) := by decide +kernel
theorem dX67_takeItems_121 : decode cX67_takeItems 121 = .ok (.imul, 1) := by decide +kernel
theorem dX67_takeItems_122 : decode cX67_takeItems 122 = .ok (.iconst 1, 1) := by decide +kernel
theorem dX67_takeItems_123 : decode cX67_takeItems 123 = .ok (.iadd, 1) := by decide +kernel
theorem dX67_takeItems_124 : decode cX67_takeItems 124 = .ok (.iaload, 1) := by decide +kernel
theorem dX67_takeItems_125 : decode cX67_takeItems 125 = .ok (.if_icmp .ne 10, 3) := by decide +kernel
theorem dX67_takeItems_128 : decode cX67_takeItems 128 = .ok (.aload_n 0, 1) := by decide +kernel
theorem dX67_takeItems_129 : decode cX67_takeItems 129 = .ok (.iconst 3, 1) := by decide +kernel
theorem dX67_takeItems_130 : decode cX67_takeItems 130 = .ok (.iload 6, 2) := by decide +kernel
theorem dX67_takeItems_132 : decode cX67_takeItems 132 = .ok (.invokevirtual 1040, 3) := by decide +kernel
theorem dX67_takeItems_135 : decode cX67_takeItems 135 = .ok (.iinc 7 1, 3) := by decide +kernel
theorem dX67_takeItems_138 : decode cX67_takeItems 138 = .ok (.goto (-70), 3) := by decide +kernel
theorem dX67_takeItems_141 : decode cX67_takeItems 141 = .ok (.aload_n 0, 1) := by decide +kernel
theorem dX67_takeItems_142 : decode cX67_takeItems 142 = .ok (.getfield 358, 3) := by decide +kernel
theorem dX67_takeItems_145 : decode cX67_takeItems 145 = .ok (.iconst 3, 1) := by decide +kernel
theorem dX67_takeItems_146 : decode cX67_takeItems 146 = .ok (.iload 5, 2) := by decide +kernel
theorem dX67_takeItems_148 : decode cX67_takeItems 148 = .ok (.imul, 1) := by decide +kernel
theorem dX67_takeItems_149 : decode cX67_takeItems 149 = .ok (.iconst 2, 1) := by decide +kernel
theorem dX67_takeItems_150 : decode cX67_takeItems 150 = .ok (.iadd, 1) := by decide +kernel
theorem dX67_takeItems_151 : decode cX67_takeItems 151 = .ok (.aload_n 0, 1) := by decide +kernel
theorem dX67_takeItems_152 : decode cX67_takeItems 152 = .ok (.iconst 0, 1) := by decide +kernel
theorem dX67_takeItems_153 : decode cX67_takeItems 153 = .ok (.bipush 7, 2) := by decide +kernel
theorem dX67_takeItems_155 : decode cX67_takeItems 155 = .ok (.invokevirtual 1043, 3) := by decide +kernel
theorem dX67_takeItems_158 : decode cX67_takeItems 158 = .ok (.iastore, 1) := by decide +kernel
theorem dX67_takeItems_159 : decode cX67_takeItems 159 = .ok (.iinc 5 1, 3) := by decide +kernel
theorem dX67_takeItems_162 : decode cX67_takeItems 162 = .ok (.goto (-151), 3) := by decide +kernel
theorem dX67_takeItems_165 : decode cX67_takeItems 165 = .ok (.aload_n 0, 1) := by decide +kernel
theorem dX67_takeItems_166 : decode cX67_takeItems 166 = .ok (.getfield 1046, 3) := by decide +kernel
theorem dX67_takeItems_169 : decode cX67_takeItems 169 = .ok (.ifCond .eq 20, 3) := by decide +kernel
theorem dX67_takeItems_172 : decode cX67_takeItems 172 = .ok (.iload_n 1, 1) := by decide +kernel
theorem dX67_takeItems_173 : decode cX67_takeItems 173 = .ok (.bipush 6, 2) := by decide +kernel
theorem dX67_takeItems_175 : decode cX67_takeItems 175 = .ok (.if_icmp .ne 14, 3) := by decide +kernel
theorem dX67_takeItems_178 : decode cX67_takeItems 178 = .ok (.aload_n 0, 1) := by decide +kernel
theorem dX67_takeItems_179 : decode cX67_takeItems 179 = .ok (.getfield 44, 3) := by decide +kernel
theorem dX67_takeItems_182 : decode cX67_takeItems 182 = .ok (.iload_n 2, 1) := by decide +kernel
theorem dX67_takeItems_183 : decode cX67_takeItems 183 = .ok (.iload 4, 2) := by decide +kernel
theorem dX67_takeItems_185 : decode cX67_takeItems 185 = .ok (.iastore, 1) := by decide +kernel
theorem dX67_takeItems_186 : decode cX67_takeItems 186 = .ok (.goto 21, 3) := by decide +kernel
theorem dX67_takeItems_189 : decode cX67_takeItems 189 = .ok (.aload_n 0, 1) := by decide +kernel
theorem dX67_takeItems_190 : decode cX67_takeItems 190 = .ok (.getfield 1046, 3) := by decide +kernel
theorem dX67_takeItems_193 : decode cX67_takeItems 193 = .ok (.ifCond .eq 14, 3) := by decide +kernel
theorem dX67_takeItems_196 : decode cX67_takeItems 196 = .ok (.aload_n 0, 1) := by decide +kernel
theorem dX67_takeItems_197 : decode cX67_takeItems 197 = .ok (.getfield 50, 3) := by decide +kernel
theorem dX67_takeItems_200 : decode cX67_takeItems 200 = .ok (.iload_n 3, 1) := by decide +kernel
theorem dX67_takeItems_201 : decode cX67_takeItems 201 = .ok (.bipush 9, 2) := by decide +kernel
theorem dX67_takeItems_203 : decode cX67_takeItems 203 = .ok (.idiv, 1) := by decide +kernel
theorem dX67_takeItems_204 : decode cX67_takeItems 204 = .ok (.iload 4, 2) := by decide +kernel
theorem dX67_takeItems_206 : decode cX67_takeItems 206 = .ok (.iastore, 1) := by decide +kernel
theorem dX67_takeItems_207 : decode cX67_takeItems 207 = .ok (.iconst 0, 1) := by decide +kernel
theorem dX67_takeItems_208 : decode cX67_takeItems 208 = .ok (.istore 5, 2) := by decide +kernel
theorem dX67_takeItems_210 : decode cX67_takeItems 210 = .ok (.aload_n 0, 1) := by decide +kernel
theorem dX67_takeItems_211 : decode cX67_takeItems 211 = .ok (.getfield 1046, 3) := by decide +kernel
theorem dX67_takeItems_214 : decode cX67_takeItems 214 = .ok (.ifCond .eq 59, 3) := by decide +kernel
theorem dX67_takeItems_217 : decode cX67_takeItems 217 = .ok (.iload 5, 2) := by decide +kernel
theorem dX67_takeItems_219 : decode cX67_takeItems 219 = .ok (.iconst 3, 1) := by decide +kernel
theorem dX67_takeItems_220 : decode cX67_takeItems 220 = .ok (.iload 4, 2) := by decide +kernel
theorem dX67_takeItems_222 : decode cX67_takeItems 222 = .ok (.imul, 1) := by decide +kernel
theorem dX67_takeItems_223 : decode cX67_takeItems 223 = .ok (.if_icmp .ge 50, 3) := by decide +kernel
theorem dX67_takeItems_226 : decode cX67_takeItems 226 = .ok (.iload_n 1, 1) := by decide +kernel
theorem dX67_takeItems_227 : decode cX67_takeItems 227 = .ok (.bipush 6, 2) := by decide +kernel
theorem dX67_takeItems_229 : decode cX67_takeItems 229 = .ok (.if_icmp .ne 22, 3) := by decide +kernel
theorem dX67_takeItems_232 : decode cX67_takeItems 232 = .ok (.aload_n 0, 1) := by decide +kernel
theorem dX67_takeItems_233 : decode cX67_takeItems 233 = .ok (.getfield 47, 3) := by decide +kernel
theorem dX67_takeItems_236 : decode cX67_takeItems 236 = .ok (.iload_n 3, 1) := by decide +kernel
theorem dX67_takeItems_237 : decode cX67_takeItems 237 = .ok (.iload 5, 2) := by decide +kernel
theorem dX67_takeItems_239 : decode cX67_takeItems 239 = .ok (.iadd, 1) := by decide +kernel
theorem dX67_takeItems_240 : decode cX67_takeItems 240 = .ok (.aload_n 0, 1) := by decide +kernel
theorem dX67_takeItems_241 : decode cX67_takeItems 241 = .ok (.getfield 358, 3) := by decide +kernel
theorem dX67_takeItems_244 : decode cX67_takeItems 244 = .ok (.iload 5, 2) := by decide +kernel
theorem dX67_takeItems_246 : decode cX67_takeItems 246 = .ok (.iaload, 1) := by decide +kernel
theorem dX67_takeItems_247 : decode cX67_takeItems 247 = .ok (.iastore, 1) := by decide +kernel
theorem dX67_takeItems_248 : decode cX67_takeItems 248 = .ok (.goto 19, 3) := by decide +kernel
theorem dX67_takeItems_251 : decode cX67_takeItems 251 = .ok (.aload_n 0, 1) := by decide +kernel
theorem dX67_takeItems_252 : decode cX67_takeItems 252 = .ok (.getfield 53, 3) := by decide +kernel
theorem dX67_takeItems_255 : decode cX67_takeItems 255 = .ok (.iload_n 3, 1) := by decide +kernel
theorem dX67_takeItems_256 : decode cX67_takeItems 256 = .ok (.iload 5, 2) := by decide +kernel
theorem dX67_takeItems_258 : decode cX67_takeItems 258 = .ok (.iadd, 1) := by decide +kernel
theorem dX67_takeItems_259 : decode cX67_takeItems 259 = .ok (.aload_n 0, 1) := by decide +kernel
theorem dX67_takeItems_260 : decode cX67_takeItems 260 = .ok (.getfield 358, 3) := by decide +kernel
theorem dX67_takeItems_263 : decode cX67_takeItems 263 = .ok (.iload 5, 2) := by decide +kernel
theorem dX67_takeItems_265 : decode cX67_takeItems 265 = .ok (.iaload, 1) := by decide +kernel
theorem dX67_takeItems_266 : decode cX67_takeItems 266 = .ok (.iastore, 1) := by decide +kernel
theorem dX67_takeItems_267 : decode cX67_takeItems 267 = .ok (.iinc 5 1, 3) := by decide +kernel
theorem dX67_takeItems_270 : decode cX67_takeItems 270 = .ok (.goto (-60), 3) := by decide +kernel
theorem dX67_takeItems_273 : decode cX67_takeItems 273 = .ok (.return_, 1) := by decide +kernel
theorem zy_X67_takeItems : yX67_takeItems.cls ≠ "java/lang/invoke/MethodHandle" ∧ yX67_takeItems.cls ≠ "java/lang/invoke/VarHandle" ∧ (parseMethodDescriptor yX67_takeItems.desc).map (fun d => d.parameters.length) = some 3 := by decide +kernel
theorem w_fX67_takeItems_J267 {K : zK} (E : zE K cX67_takeItems "RingHouseModel" none 2) (hN : zNl K = 8) (hT : zTr K = none) (x1 : Int) (x3 : Int) (x4 : Int) (x5 : Int) {r210 : Int → zX} (hr210 : ∀ s : Int, zR K 210 [(0, 69, 0), (1, 0, x1), (3, 0, x3), (4, 0, x4), (5, 0, s)] [] (r210 s)) : zR K 267 [(0, 69, 0), (1, 0, x1), (3, 0, x3), (4, 0, x4), (5, 0, x5)] [] (fX67_takeItems_J267 r210 x1 x3 x4 x5) := by
  refine r_iinc (ls' := fun v6 => [(5, 0, v6), (0, 69, 0), (1, 0, x1), (3, 0, x3), (4, 0, x4)]) E 4 rfl (by rw [hN]; decide) (fun _ => rfl) dX67_takeItems_267 (fun v6 _ => ?_)
  refine r_goto E 210 (by decide) dX67_takeItems_270 ?_
  refine r_pick E [1, 2, 3, 4, 0] rfl ?_
  exact hr210 v6
theorem w_fX67_takeItems_B210 {K : zK} (E : zE K cX67_takeItems "RingHouseModel" none 2) (hN : zNl K = 8) (hT : zTr K = none) (x1 : Int) (x3 : Int) (x4 : Int) : ∀ r210 : Int → zX, (∀ s : Int, zR K 210 [(0, 69, 0), (1, 0, x1), (3, 0, x3), (4, 0, x4), (5, 0, s)] [] (r210 s)) → ∀ s : Int, zR K 210 [(0, 69, 0), (1, 0, x1), (3, 0, x3), (4, 0, x4), (5, 0, s)] [] (fX67_takeItems_B210 x1 x3 x4 r210 s) := by
  intro r210 hr210 x5
  refine r_aload_n E dX67_takeItems_210 rfl 0 rfl ?_
  refine r_get E zc_69 zt_6925 dX67_takeItems_211 q3339 zr_69 (zg_6925 _) (by decide) (fun v4 => ?_)
  refine r_if_eq E 273 (by decide) dX67_takeItems_214 (fun _ => ?_) (fun _ => ?_)
  · exact r_return E rfl hT dX67_takeItems_273
  · refine r_iload E dX67_takeItems_217 4 rfl ?_
    refine r_iconst E dX67_takeItems_219 (zkI (by decide) (by decide)) ?_
    refine r_iload E dX67_takeItems_220 3 rfl ?_
    refine r_imul E dX67_takeItems_222 ?_
    refine r_icmp_ge E 273 (by decide) dX67_takeItems_223 (fun _ => ?_) (fun _ => ?_)
    · exact r_return E rfl hT dX67_takeItems_273
    · refine r_iload_n E dX67_takeItems_226 rfl 1 rfl ?_
      refine r_bipush E dX67_takeItems_227 (by decide) (zkI (by decide) (by decide)) ?_
      refine r_icmp_ne E 251 (by decide) dX67_takeItems_229 (fun _ => ?_) (fun _ => ?_)
      · refine r_aload_n E dX67_takeItems_251 rfl 0 rfl ?_
        refine r_gec (y := 0) E zc_69 dX67_takeItems_252 q3230 zr_69 (zh_6815 (by decide)) (by decide) ?_
        refine r_iload_n E dX67_takeItems_255 rfl 2 rfl ?_
        refine r_iload E dX67_takeItems_256 4 rfl ?_
        refine r_iadd E dX67_takeItems_258 ?_
        refine r_aload_n E dX67_takeItems_259 rfl 0 rfl ?_
        refine r_gec (y := 0) E zc_69 dX67_takeItems_260 q3343 zr_69 (zh_6929 (by decide)) (by decide) ?_
        refine r_iload E dX67_takeItems_263 4 rfl ?_
        refine r_iaload E zc_6929 za_6929 zt_6929 zx_6929 rfl rfl dX67_takeItems_265 (by decide) (fun v5 => ?_)
        refine r_iastore E zc_6815 za_6815 zt_6815 zo_6815 zx_6815 rfl rfl dX67_takeItems_266 (by decide) ?_
        exact w_fX67_takeItems_J267 E hN hT x1 x3 x4 x5 hr210
      · refine r_aload_n E dX67_takeItems_232 rfl 0 rfl ?_
        refine r_gec (y := 0) E zc_69 dX67_takeItems_233 q3228 zr_69 (zh_6813 (by decide)) (by decide) ?_
        refine r_iload_n E dX67_takeItems_236 rfl 2 rfl ?_
        refine r_iload E dX67_takeItems_237 4 rfl ?_
        refine r_iadd E dX67_takeItems_239 ?_
        refine r_aload_n E dX67_takeItems_240 rfl 0 rfl ?_
        refine r_gec (y := 0) E zc_69 dX67_takeItems_241 q3343 zr_69 (zh_6929 (by decide)) (by decide) ?_
        refine r_iload E dX67_takeItems_244 4 rfl ?_
        refine r_iaload E zc_6929 za_6929 zt_6929 zx_6929 rfl rfl dX67_takeItems_246 (by decide) (fun v7 => ?_)
        refine r_iastore E zc_6813 za_6813 zt_6813 zo_6813 zx_6813 rfl rfl dX67_takeItems_247 (by decide) ?_
        refine r_goto E 267 (by decide) dX67_takeItems_248 ?_
        exact w_fX67_takeItems_J267 E hN hT x1 x3 x4 x5 hr210
theorem w_fX67_takeItems_J207 {K : zK} (E : zE K cX67_takeItems "RingHouseModel" none 2) (hN : zNl K = 8) (hT : zTr K = none) (x1 : Int) (x3 : Int) (x4 : Int) : zR K 207 [(0, 69, 0), (1, 0, x1), (3, 0, x3), (4, 0, x4)] [] (fX67_takeItems_J207 x1 x3 x4) := by
  refine r_iconst E dX67_takeItems_207 (zkI (by decide) (by decide)) ?_
  refine r_istore (ls' := [(5, 0, 0), (0, 69, 0), (1, 0, x1), (3, 0, x3), (4, 0, x4)]) E dX67_takeItems_208 (by rw [hN]; decide) rfl ?_
  refine r_pick E [1, 2, 3, 4, 0] rfl ?_
  exact r_loop (L := fun s => [(0, 69, 0), (1, 0, x1), (3, 0, x3), (4, 0, x4), (5, 0, s)]) (w_fX67_takeItems_B210 E hN hT x1 x3 x4) zBIG 0
theorem w_fX67_takeItems_J189 {K : zK} (E : zE K cX67_takeItems "RingHouseModel" none 2) (hN : zNl K = 8) (hT : zTr K = none) (x1 : Int) (x3 : Int) (x4 : Int) : zR K 189 [(0, 69, 0), (1, 0, x1), (3, 0, x3), (4, 0, x4)] [] (fX67_takeItems_J189 x1 x3 x4) := by
  refine r_aload_n E dX67_takeItems_189 rfl 0 rfl ?_
  refine r_get E zc_69 zt_6925 dX67_takeItems_190 q3339 zr_69 (zg_6925 _) (by decide) (fun v3 => ?_)
  refine r_if_eq E 207 (by decide) dX67_takeItems_193 (fun _ => ?_) (fun _ => ?_)
  · exact w_fX67_takeItems_J207 E hN hT x1 x3 x4
  · refine r_aload_n E dX67_takeItems_196 rfl 0 rfl ?_
    refine r_gec (y := 0) E zc_69 dX67_takeItems_197 q3229 zr_69 (zh_6814 (by decide)) (by decide) ?_
    refine r_iload_n E dX67_takeItems_200 rfl 2 rfl ?_
    refine r_bipush E dX67_takeItems_201 (by decide) (zkI (by decide) (by decide)) ?_
    refine r_idiv E (by decide) dX67_takeItems_203 ?_
    refine r_iload E dX67_takeItems_204 3 rfl ?_
    refine r_iastore E zc_6814 za_6814 zt_6814 zo_6814 zx_6814 rfl rfl dX67_takeItems_206 (by decide) ?_
    exact w_fX67_takeItems_J207 E hN hT x1 x3 x4
theorem w_fX67_takeItems_J165 {K : zK} (E : zE K cX67_takeItems "RingHouseModel" none 2) (hN : zNl K = 8) (hT : zTr K = none) (x1 : Int) (x2 : Int) (x3 : Int) (x4 : Int) : zR K 165 [(0, 69, 0), (1, 0, x1), (2, 0, x2), (3, 0, x3), (4, 0, x4)] [] (fX67_takeItems_J165 x1 x2 x3 x4) := by
  refine r_aload_n E dX67_takeItems_165 rfl 0 rfl ?_
  refine r_get E zc_69 zt_6925 dX67_takeItems_166 q3339 zr_69 (zg_6925 _) (by decide) (fun v2 => ?_)
  refine r_if_eq E 189 (by decide) dX67_takeItems_169 (fun _ => ?_) (fun _ => ?_)
  · refine r_pick E [0, 1, 3, 4] rfl ?_
    exact w_fX67_takeItems_J189 E hN hT x1 x3 x4
  · refine r_iload_n E dX67_takeItems_172 rfl 1 rfl ?_
    refine r_bipush E dX67_takeItems_173 (by decide) (zkI (by decide) (by decide)) ?_
    refine r_icmp_ne E 189 (by decide) dX67_takeItems_175 (fun _ => ?_) (fun _ => ?_)
    · refine r_pick E [0, 1, 3, 4] rfl ?_
      exact w_fX67_takeItems_J189 E hN hT x1 x3 x4
    · refine r_aload_n E dX67_takeItems_178 rfl 0 rfl ?_
      refine r_gec (y := 0) E zc_69 dX67_takeItems_179 q3227 zr_69 (zh_6812 (by decide)) (by decide) ?_
      refine r_iload_n E dX67_takeItems_182 rfl 2 rfl ?_
      refine r_iload E dX67_takeItems_183 4 rfl ?_
      refine r_iastore E zc_6812 za_6812 zt_6812 zo_6812 zx_6812 rfl rfl dX67_takeItems_185 (by decide) ?_
      refine r_goto E 207 (by decide) dX67_takeItems_186 ?_
      refine r_pick E [0, 1, 3, 4] rfl ?_
      exact w_fX67_takeItems_J207 E hN hT x1 x3 x4
theorem w_fX67_takeItems_J141 {K : zK} (E : zE K cX67_takeItems "RingHouseModel" none 2) (hN : zNl K = 8) (hT : zTr K = none) (x1 : Int) (x2 : Int) (x3 : Int) (x4 : Int) (x5 : Int) {r11 : Int → zX} (hr11 : ∀ s : Int, zR K 11 [(0, 69, 0), (1, 0, x1), (2, 0, x2), (3, 0, x3), (4, 0, x4), (5, 0, s)] [] (r11 s)) : zR K 141 [(0, 69, 0), (1, 0, x1), (2, 0, x2), (3, 0, x3), (4, 0, x4), (5, 0, x5)] [] (fX67_takeItems_J141 r11 x1 x2 x3 x4 x5) := by
  refine r_aload_n E dX67_takeItems_141 rfl 0 rfl ?_
  refine r_gec (y := 0) E zc_69 dX67_takeItems_142 q3343 zr_69 (zh_6929 (by decide)) (by decide) ?_
  refine r_iconst E dX67_takeItems_145 (zkI (by decide) (by decide)) ?_
  refine r_iload E dX67_takeItems_146 5 rfl ?_
  refine r_imul E dX67_takeItems_148 ?_
  refine r_iconst E dX67_takeItems_149 (zkI (by decide) (by decide)) ?_
  refine r_iadd E dX67_takeItems_150 ?_
  refine r_aload_n E dX67_takeItems_151 rfl 0 rfl ?_
  refine r_iconst E dX67_takeItems_152 (zkI (by decide) (by decide)) ?_
  refine r_bipush E dX67_takeItems_153 (by decide) (zkI (by decide) (by decide)) ?_
  refine r_callV E [(0, 0), (0, 7)] [(0, (zi ((zi (3 * x5)) + 2))), (6929, 0)] rfl zc_69 zr_69 (fun o _ => ⟨_, zw_X67.1 o, rfl⟩) (lw_V q4355 q4357 qs211 q294 q4358) dX67_takeItems_155 zy_X67_take rfl (by omega) (by decide) (Nat.le_of_ble_eq_true rfl) (by decide) (fun l G => k_fX67_take l G 0 7) (fun v12 => ?_)
  refine r_iastore E zc_6929 za_6929 zt_6929 zo_6929 zx_6929 rfl rfl dX67_takeItems_158 (by decide) ?_
  refine r_iinc (ls' := fun v13 => [(5, 0, v13), (0, 69, 0), (1, 0, x1), (2, 0, x2), (3, 0, x3), (4, 0, x4)]) E 5 rfl (by rw [hN]; decide) (fun _ => rfl) dX67_takeItems_159 (fun v13 _ => ?_)
  refine r_goto E 11 (by decide) dX67_takeItems_162 ?_
  refine r_pick E [1, 2, 3, 4, 5, 0] rfl ?_
  exact hr11 v13
theorem w_fX67_takeItems_J135 {K : zK} (E : zE K cX67_takeItems "RingHouseModel" none 2) (hN : zNl K = 8) (hT : zTr K = none) (x1 : Int) (x2 : Int) (x3 : Int) (x4 : Int) (x5 : Int) (x6 : Int) (x7 : Int) {r11 : Int → zX} (hr11 : ∀ s : Int, zR K 11 [(0, 69, 0), (1, 0, x1), (2, 0, x2), (3, 0, x3), (4, 0, x4), (5, 0, s)] [] (r11 s)) {r68 : Int → zX} (hr68 : ∀ s : Int, zR K 68 [(0, 69, 0), (1, 0, x1), (2, 0, x2), (3, 0, x3), (4, 0, x4), (5, 0, x5), (6, 0, x6), (7, 0, s)] [] (r68 s)) : zR K 135 [(0, 69, 0), (1, 0, x1), (2, 0, x2), (3, 0, x3), (4, 0, x4), (5, 0, x5), (6, 0, x6), (7, 0, x7)] [] (fX67_takeItems_J135 r11 r68 x1 x2 x3 x4 x5 x6 x7) := by
  refine r_iinc (ls' := fun v15 => [(7, 0, v15), (0, 69, 0), (1, 0, x1), (2, 0, x2), (3, 0, x3), (4, 0, x4), (5, 0, x5), (6, 0, x6)]) E 7 rfl (by rw [hN]; decide) (fun _ => rfl) dX67_takeItems_135 (fun v15 _ => ?_)
  refine r_goto E 68 (by decide) dX67_takeItems_138 ?_
  refine r_pick E [1, 2, 3, 4, 5, 6, 7, 0] rfl ?_
  exact hr68 v15
theorem w_fX67_takeItems_B68 {K : zK} (E : zE K cX67_takeItems "RingHouseModel" none 2) (hN : zNl K = 8) (hT : zTr K = none) (x1 : Int) (x2 : Int) (x3 : Int) (x4 : Int) (x5 : Int) (x6 : Int) {r11 : Int → zX} (hr11 : ∀ s : Int, zR K 11 [(0, 69, 0), (1, 0, x1), (2, 0, x2), (3, 0, x3), (4, 0, x4), (5, 0, s)] [] (r11 s)) : ∀ r68 : Int → zX, (∀ s : Int, zR K 68 [(0, 69, 0), (1, 0, x1), (2, 0, x2), (3, 0, x3), (4, 0, x4), (5, 0, x5), (6, 0, x6), (7, 0, s)] [] (r68 s)) → ∀ s : Int, zR K 68 [(0, 69, 0), (1, 0, x1), (2, 0, x2), (3, 0, x3), (4, 0, x4), (5, 0, x5), (6, 0, x6), (7, 0, s)] [] (fX67_takeItems_B68 r11 x1 x2 x3 x4 x5 x6 r68 s) := by
  intro r68 hr68 x7
  refine r_iload E dX67_takeItems_68 7 rfl ?_
  refine r_iload E dX67_takeItems_70 5 rfl ?_
  refine r_icmp_ge E 141 (by decide) dX67_takeItems_72 (fun _ => ?_) (fun _ => ?_)
  · refine r_pick E [0, 1, 2, 3, 4, 5] rfl ?_
    exact w_fX67_takeItems_J141 E hN hT x1 x2 x3 x4 x5 hr11
  · refine r_aload_n E dX67_takeItems_75 rfl 0 rfl ?_
    refine r_get E zc_69 zt_6913 dX67_takeItems_76 q3327 zr_69 (zg_6913 _) (by decide) (fun v14 => ?_)
    refine r_if_ne E 135 (by decide) dX67_takeItems_79 (fun _ => ?_) (fun _ => ?_)
    · exact w_fX67_takeItems_J135 E hN hT x1 x2 x3 x4 x5 x6 x7 hr11 hr68
    · refine r_aload_n E dX67_takeItems_82 rfl 0 rfl ?_
      refine r_gec (y := 0) E zc_69 dX67_takeItems_83 q3343 zr_69 (zh_6929 (by decide)) (by decide) ?_
      refine r_iconst E dX67_takeItems_86 (zkI (by decide) (by decide)) ?_
      refine r_iload E dX67_takeItems_87 7 rfl ?_
      refine r_imul E dX67_takeItems_89 ?_
      refine r_iaload E zc_6929 za_6929 zt_6929 zx_6929 rfl rfl dX67_takeItems_90 (by decide) (fun v16 => ?_)
      refine r_aload_n E dX67_takeItems_91 rfl 0 rfl ?_
      refine r_gec (y := 0) E zc_69 dX67_takeItems_92 q3343 zr_69 (zh_6929 (by decide)) (by decide) ?_
      refine r_iconst E dX67_takeItems_95 (zkI (by decide) (by decide)) ?_
      refine r_iload E dX67_takeItems_96 5 rfl ?_
      refine r_imul E dX67_takeItems_98 ?_
      refine r_iaload E zc_6929 za_6929 zt_6929 zx_6929 rfl rfl dX67_takeItems_99 (by decide) (fun v17 => ?_)
      refine r_icmp_ne E 135 (by decide) dX67_takeItems_100 (fun _ => ?_) (fun _ => ?_)
      · exact w_fX67_takeItems_J135 E hN hT x1 x2 x3 x4 x5 x6 x7 hr11 hr68
      · refine r_aload_n E dX67_takeItems_103 rfl 0 rfl ?_
        refine r_gec (y := 0) E zc_69 dX67_takeItems_104 q3343 zr_69 (zh_6929 (by decide)) (by decide) ?_
        refine r_iconst E dX67_takeItems_107 (zkI (by decide) (by decide)) ?_
        refine r_iload E dX67_takeItems_108 7 rfl ?_
        refine r_imul E dX67_takeItems_110 ?_
        refine r_iconst E dX67_takeItems_111 (zkI (by decide) (by decide)) ?_
        refine r_iadd E dX67_takeItems_112 ?_
        refine r_iaload E zc_6929 za_6929 zt_6929 zx_6929 rfl rfl dX67_takeItems_113 (by decide) (fun v18 => ?_)
        refine r_aload_n E dX67_takeItems_114 rfl 0 rfl ?_
        refine r_gec (y := 0) E zc_69 dX67_takeItems_115 q3343 zr_69 (zh_6929 (by decide)) (by decide) ?_
        refine r_iconst E dX67_takeItems_118 (zkI (by decide) (by decide)) ?_
        refine r_iload E dX67_takeItems_119 5 rfl ?_
        refine r_imul E dX67_takeItems_121 ?_
        refine r_iconst E dX67_takeItems_122 (zkI (by decide) (by decide)) ?_
        refine r_iadd E dX67_takeItems_123 ?_
        refine r_iaload E zc_6929 za_6929 zt_6929 zx_6929 rfl rfl dX67_takeItems_124 (by decide) (fun v19 => ?_)
        refine r_icmp_ne E 135 (by decide) dX67_takeItems_125 (fun _ => ?_) (fun _ => ?_)
        · exact w_fX67_takeItems_J135 E hN hT x1 x2 x3 x4 x5 x6 x7 hr11 hr68
        · refine r_aload_n E dX67_takeItems_128 rfl 0 rfl ?_
          refine r_iconst E dX67_takeItems_129 (zkI (by decide) (by decide)) ?_
          refine r_iload E dX67_takeItems_130 6 rfl ?_
          refine r_callV E [(0, 3), (0, x6)] [] rfl zc_69 zr_69 (fun o _ => ⟨_, zw_X67.1 o, rfl⟩) (lw_V q4359 q4361 qs212 q294 q4362) dX67_takeItems_132 zy_X67_torn rfl (by omega) (by decide) (Nat.le_of_ble_eq_true rfl) (by decide) (fun l G => k_fX67_torn l G 3 x6) (fun _ => ?_)
          exact w_fX67_takeItems_J135 E hN hT x1 x2 x3 x4 x5 x6 x7 hr11 hr68
theorem w_fX67_takeItems_B11 {K : zK} (E : zE K cX67_takeItems "RingHouseModel" none 2) (hN : zNl K = 8) (hT : zTr K = none) (x1 : Int) (x2 : Int) (x3 : Int) (x4 : Int) : ∀ r11 : Int → zX, (∀ s : Int, zR K 11 [(0, 69, 0), (1, 0, x1), (2, 0, x2), (3, 0, x3), (4, 0, x4), (5, 0, s)] [] (r11 s)) → ∀ s : Int, zR K 11 [(0, 69, 0), (1, 0, x1), (2, 0, x2), (3, 0, x3), (4, 0, x4), (5, 0, s)] [] (fX67_takeItems_B11 x1 x2 x3 x4 r11 s) := by
  intro r11 hr11 x5
  refine r_iload E dX67_takeItems_11 5 rfl ?_
  refine r_iload E dX67_takeItems_13 4 rfl ?_
  refine r_icmp_ge E 165 (by decide) dX67_takeItems_15 (fun _ => ?_) (fun _ => ?_)
  · refine r_pick E [0, 1, 2, 3, 4] rfl ?_
    exact w_fX67_takeItems_J165 E hN hT x1 x2 x3 x4
  · refine r_aload_n E dX67_takeItems_18 rfl 0 rfl ?_
    refine r_get E zc_69 zt_6913 dX67_takeItems_19 q3327 zr_69 (zg_6913 _) (by decide) (fun v8 => ?_)
    refine r_if_ne E 165 (by decide) dX67_takeItems_22 (fun _ => ?_) (fun _ => ?_)
    · refine r_pick E [0, 1, 2, 3, 4] rfl ?_
      exact w_fX67_takeItems_J165 E hN hT x1 x2 x3 x4
    · refine r_aload_n E dX67_takeItems_25 rfl 0 rfl ?_
      refine r_get E zc_69 zt_6912 dX67_takeItems_26 q3326 zr_69 (zg_6912 _) (by decide) (fun v9 => ?_)
      refine r_istore (ls' := [(6, 0, v9), (0, 69, 0), (1, 0, x1), (2, 0, x2), (3, 0, x3), (4, 0, x4), (5, 0, x5)]) E dX67_takeItems_29 (by rw [hN]; decide) rfl ?_
      refine r_aload_n E dX67_takeItems_31 rfl 1 rfl ?_
      refine r_gec (y := 0) E zc_69 dX67_takeItems_32 q3343 zr_69 (zh_6929 (by decide)) (by decide) ?_
      refine r_iconst E dX67_takeItems_35 (zkI (by decide) (by decide)) ?_
      refine r_iload E dX67_takeItems_36 6 rfl ?_
      refine r_imul E dX67_takeItems_38 ?_
      refine r_aload_n E dX67_takeItems_39 rfl 1 rfl ?_
      refine r_iconst E dX67_takeItems_40 (zkI (by decide) (by decide)) ?_
      refine r_bipush E dX67_takeItems_41 (by decide) (zkI (by decide) (by decide)) ?_
      refine r_callV E [(0, 0), (0, 16)] [(0, (zi (3 * x5))), (6929, 0)] rfl zc_69 zr_69 (fun o _ => ⟨_, zw_X67.1 o, rfl⟩) (lw_V q4355 q4357 qs211 q294 q4358) dX67_takeItems_43 zy_X67_take rfl (by omega) (by decide) (Nat.le_of_ble_eq_true rfl) (by decide) (fun l G => k_fX67_take l G 0 16) (fun v10 => ?_)
      refine r_iastore E zc_6929 za_6929 zt_6929 zo_6929 zx_6929 rfl rfl dX67_takeItems_46 (by decide) ?_
      refine r_aload_n E dX67_takeItems_47 rfl 1 rfl ?_
      refine r_gec (y := 0) E zc_69 dX67_takeItems_48 q3343 zr_69 (zh_6929 (by decide)) (by decide) ?_
      refine r_iconst E dX67_takeItems_51 (zkI (by decide) (by decide)) ?_
      refine r_iload E dX67_takeItems_52 6 rfl ?_
      refine r_imul E dX67_takeItems_54 ?_
      refine r_iconst E dX67_takeItems_55 (zkI (by decide) (by decide)) ?_
      refine r_iadd E dX67_takeItems_56 ?_
      refine r_aload_n E dX67_takeItems_57 rfl 1 rfl ?_
      refine r_iconst E dX67_takeItems_58 (zkI (by decide) (by decide)) ?_
      refine r_bipush E dX67_takeItems_59 (by decide) (zkI (by decide) (by decide)) ?_
      refine r_callV E [(0, 0), (0, 8)] [(0, (zi ((zi (3 * x5)) + 1))), (6929, 0)] rfl zc_69 zr_69 (fun o _ => ⟨_, zw_X67.1 o, rfl⟩) (lw_V q4355 q4357 qs211 q294 q4358) dX67_takeItems_61 zy_X67_take rfl (by omega) (by decide) (Nat.le_of_ble_eq_true rfl) (by decide) (fun l G => k_fX67_take l G 0 8) (fun v11 => ?_)
      refine r_iastore E zc_6929 za_6929 zt_6929 zo_6929 zx_6929 rfl rfl dX67_takeItems_64 (by decide) ?_
      refine r_iconst E dX67_takeItems_65 (zkI (by decide) (by decide)) ?_
      refine r_istore (ls' := [(7, 0, 0), (6, 0, v9), (0, 69, 0), (1, 0, x1), (2, 0, x2), (3, 0, x3), (4, 0, x4), (5, 0, x5)]) E dX67_takeItems_66 (by rw [hN]; decide) rfl ?_
      refine r_pick E [2, 3, 4, 5, 6, 7, 1, 0] rfl ?_
      exact r_loop (L := fun s => [(0, 69, 0), (1, 0, x1), (2, 0, x2), (3, 0, x3), (4, 0, x4), (5, 0, x5), (6, 0, v9), (7, 0, s)]) (w_fX67_takeItems_B68 E hN hT x1 x2 x3 x4 x5 v9 hr11) zBIG 0
theorem w_fX67_takeItems {K : zK} (E : zE K cX67_takeItems "RingHouseModel" none 2) (hN : zNl K = 8) (hT : zTr K = none) (x1 : Int) (x2 : Int) (x3 : Int) : zR K 0 [(0, 69, 0), (1, 0, x1), (2, 0, x2), (3, 0, x3)] [] (fX67_takeItems x1 x2 x3) := by
  refine r_aload_n E dX67_takeItems_0 rfl 0 rfl ?_
  refine r_iconst E dX67_takeItems_1 (zkI (by decide) (by decide)) ?_
  refine r_iload_n E dX67_takeItems_2 rfl 1 rfl ?_
  refine r_callV E [(0, 0), (0, x1)] [] rfl zc_69 zr_69 (fun o _ => ⟨_, zw_X67.1 o, rfl⟩) (lw_V q4355 q4357 qs211 q294 q4358) dX67_takeItems_3 zy_X67_take rfl (by omega) (by decide) (Nat.le_of_ble_eq_true rfl) (by decide) (fun l G => k_fX67_take l G 0 x1) (fun v1 => ?_)
  refine r_istore (ls' := [(4, 0, v1), (0, 69, 0), (1, 0, x1), (2, 0, x2), (3, 0, x3)]) E dX67_takeItems_6 (by rw [hN]; decide) rfl ?_
  refine r_iconst E dX67_takeItems_8 (zkI (by decide) (by decide)) ?_
  refine r_istore (ls' := [(5, 0, 0), (4, 0, v1), (0, 69, 0), (1, 0, x1), (2, 0, x2), (3, 0, x3)]) E dX67_takeItems_9 (by rw [hN]; decide) rfl ?_
  refine r_pick E [2, 3, 4, 5, 1, 0] rfl ?_
  exact r_loop (L := fun s => [(0, 69, 0), (1, 0, x1), (2, 0, x2), (3, 0, x3), (4, 0, v1), (5, 0, s)]) (w_fX67_takeItems_B11 E hN hT x1 x2 x3 v1) zBIG 0
theorem k_fX67_takeItems (l : Launch) (G : zG) (x1 : Int) (x2 : Int) (x3 : Int) : zCt l G yX67_takeItems cX67_takeItems 8 none 2 [(69, 0), (0, x1), (0, x2), (0, x3)] none (fX67_takeItems x1 x2 x3) := zCt.of (by decide) (Nat.le_of_ble_eq_true rfl) (fun K E _ _ hN hT => w_fX67_takeItems E hN hT x1 x2 x3)
theorem dX67_takeLetters_0 : decode cX67_takeLetters 0 = .ok (.iconst 0, 1) := by decide +kernel
theorem dX67_takeLetters_1 : decode cX67_takeLetters 1 = .ok (.istore_n 3, 1) := by decide +kernel
theorem dX67_takeLetters_2 : decode cX67_takeLetters 2 = .ok (.iload_n 3, 1) := by decide +kernel
theorem dX67_takeLetters_3 : decode cX67_takeLetters 3 = .ok (.bipush 32, 2) := by decide +kernel
theorem dX67_takeLetters_5 : decode cX67_takeLetters 5 = .ok (.if_icmp .ge 16, 3) := by decide +kernel
theorem dX67_takeLetters_8 : decode cX67_takeLetters 8 = .ok (.aload_n 0, 1) := by decide +kernel
theorem dX67_takeLetters_9 : decode cX67_takeLetters 9 = .ok (.getfield 355, 3) := by decide +kernel
theorem dX67_takeLetters_12 : decode cX67_takeLetters 12 = .ok (.iload_n 3, 1) := by decide +kernel
theorem dX67_takeLetters_13 : decode cX67_takeLetters 13 = .ok (.iconst 0, 1) := by decide +kernel
theorem dX67_takeLetters_14 : decode cX67_takeLetters 14 = .ok (.iastore, 1) := by decide +kernel
theorem dX67_takeLetters_15 : decode cX67_takeLetters 15 = .ok (.iinc 3 1, 3) := by decide +kernel
theorem dX67_takeLetters_18 : decode cX67_takeLetters 18 = .ok (.goto (-16), 3) := by decide +kernel
theorem dX67_takeLetters_21 : decode cX67_takeLetters 21 = .ok (.aload_n 0, 1) := by decide +kernel
theorem dX67_takeLetters_22 : decode cX67_takeLetters 22 = .ok (.iconst 0, 1) := by decide +kernel
theorem dX67_takeLetters_23 : decode cX67_takeLetters 23 = .ok (.sipush 128, 3) := by decide +kernel
theorem dX67_takeLetters_26 : decode cX67_takeLetters 26 = .ok (.invokevirtual 1043, 3) := by decide +kernel
theorem dX67_takeLetters_29 : decode cX67_takeLetters 29 = .ok (.istore_n 3, 1) := by decide +kernel
theorem dX67_takeLetters_30 : decode cX67_takeLetters 30 = .ok (.iconst 0, 1) := by decide +kernel
theorem dX67_takeLetters_31 : decode cX67_takeLetters 31 = .ok (.istore 4, 2) := by decide +kernel
theorem dX67_takeLetters_33 : decode cX67_takeLetters 33 = .ok (.iload 4, 2) := by decide +kernel
theorem dX67_takeLetters_35 : decode cX67_takeLetters 35 = .ok (.iload_n 3, 1) := by decide +kernel
theorem dX67_takeLetters_36 : decode cX67_takeLetters 36 = .ok (.if_icmp .ge 138, 3) := by decide +kernel
theorem dX67_takeLetters_39 : decode cX67_takeLetters 39 = .ok (.aload_n 0, 1) := by decide +kernel
theorem dX67_takeLetters_40 : decode cX67_takeLetters 40 = .ok (.getfield 1031, 3) := by decide +kernel
theorem dX67_takeLetters_43 : decode cX67_takeLetters 43 = .ok (.ifCond .ne 131, 3) := by decide +kernel
theorem dX67_takeLetters_46 : decode cX67_takeLetters 46 = .ok (.aload_n 0, 1) := by decide +kernel
theorem dX67_takeLetters_47 : decode cX67_takeLetters 47 = .ok (.getfield 1037, 3) := by decide +kernel
theorem dX67_takeLetters_50 : decode cX67_takeLetters 50 = .ok (.istore 5, 2) := by decide +kernel
theorem dX67_takeLetters_52 : decode cX67_takeLetters 52 = .ok (.aload_n 0, 1) := by decide +kernel
theorem dX67_takeLetters_53 : decode cX67_takeLetters 53 = .ok (.iconst 0, 1) := by decide +kernel
theorem dX67_takeLetters_54 : decode cX67_takeLetters 54 = .ok (.bipush 31, 2) := by decide +kernel
theorem dX67_takeLetters_56 : decode cX67_takeLetters 56 = .ok (.invokevirtual 1043, 3) := by decide +kernel
theorem dX67_takeLetters_59 : decode cX67_takeLetters 59 = .ok (.istore 6, 2) := by decide +kernel
theorem dX67_takeLetters_61 : decode cX67_takeLetters 61 = .ok (.aload_n 0, 1) := by decide +kernel
theorem dX67_takeLetters_62 : decode cX67_takeLetters 62 = .ok (.getfield 1031, 3) := by decide +kernel
theorem dX67_takeLetters_65 : decode cX67_takeLetters 65 = .ok (.ifCond .ne 24, 3) := by decide +kernel
theorem dX67_takeLetters_68 : decode cX67_takeLetters 68 = .ok (.iload 6, 2) := by decide +kernel
theorem dX67_takeLetters_70 : decode cX67_takeLetters 70 = .ok (.aload_n 0, 1) := by decide +kernel
theorem dX67_takeLetters_71 : decode cX67_takeLetters 71 = .ok (.getfield 340, 3) := by decide +kernel
theorem dX67_takeLetters_74 : decode cX67_takeLetters 74 = .ok (.iload_n 1, 1) := by decide +kernel
theorem dX67_takeLetters_75 : decode cX67_takeLetters 75 = .ok (.iaload, 1) := by decide +kernel
theorem dX67_takeLetters_76 : decode cX67_takeLetters 76 = .ok (.invokestatic 447, 3) := by decide +kernel
theorem dX67_takeLetters_79 : decode cX67_takeLetters 79 = .ok (.ifCond .ne 10, 3) := by decide +kernel
theorem dX67_takeLetters_82 : decode cX67_takeLetters 82 = .ok (.aload_n 0, 1) := by decide +kernel
theorem dX67_takeLetters_83 : decode cX67_takeLetters 83 = .ok (.iconst 5, 1) := by decide +kernel
theorem dX67_takeLetters_84 : decode cX67_takeLetters 84 = .ok (.iload 5, 2) := by decide +kernel
theorem dX67_takeLetters_86 : decode cX67_takeLetters 86 = .ok (.invokevirtual 1040, 3) := by decide +kernel
theorem dX67_takeLetters_89 : decode cX67_takeLetters 89 = .ok (.aload_n 0, 1) := by decide +kernel
theorem dX67_takeLetters_90 : decode cX67_takeLetters 90 = .ok (.getfield 355, 3) := by decide +kernel
theorem dX67_takeLetters_93 : decode cX67_takeLetters 93 = .ok (.iload 6, 2) := by decide +kernel
theorem dX67_takeLetters_95 : decode cX67_takeLetters 95 = .ok (.dup2, 1) := by decide +kernel
theorem dX67_takeLetters_96 : decode cX67_takeLetters 96 = .ok (.iaload, 1) := by decide +kernel
theorem dX67_takeLetters_97 : decode cX67_takeLetters 97 = .ok (.iconst 1, 1) := by decide +kernel
theorem dX67_takeLetters_98 : decode cX67_takeLetters 98 = .ok (.iadd, 1) := by decide +kernel
theorem dX67_takeLetters_99 : decode cX67_takeLetters 99 = .ok (.iastore, 1) := by decide +kernel
theorem dX67_takeLetters_100 : decode cX67_takeLetters 100 = .ok (.aload_n 0, 1) := by decide +kernel
theorem dX67_takeLetters_101 : decode cX67_takeLetters 101 = .ok (.getfield 1031, 3) := by decide +kernel
theorem dX67_takeLetters_104 : decode cX67_takeLetters 104 = .ok (.ifCond .ne 21, 3) := by decide +kernel
theorem dX67_takeLetters_107 : decode cX67_takeLetters 107 = .ok (.aload_n 0, 1) := by decide +kernel
theorem dX67_takeLetters_108 : decode cX67_takeLetters 108 = .ok (.getfield 355, 3) := by decide +kernel
theorem dX67_takeLetters_111 : decode cX67_takeLetters 111 = .ok (.iload 6, 2) := by decide +kernel
theorem dX67_takeLetters_113 : decode cX67_takeLetters 113 = .ok (.iaload, 1) := by decide +kernel
theorem dX67_takeLetters_114 : decode cX67_takeLetters 114 = .ok (.iconst 5, 1) := by decide +kernel
theorem dX67_takeLetters_115 : decode cX67_takeLetters 115 = .ok (.if_icmp .ne 10, 3) := by decide +kernel
theorem dX67_takeLetters_118 : decode cX67_takeLetters 118 = .ok (.aload_n 0, 1) := by decide +kernel
theorem dX67_takeLetters_119 : decode cX67_takeLetters 119 = .ok (.iconst 3, 1) := by decide +kernel
theorem dX67_takeLetters_120 : decode cX67_takeLetters 120 = .ok (.iload 5, 2) := by decide +kernel
theorem dX67_takeLetters_122 : decode cX67_takeLetters 122 = .ok (.invokevirtual 1040, 3) := by decide +kernel
theorem dX67_takeLetters_125 : decode cX67_takeLetters 125 = .ok (.aload_n 0, 1) := by decide +kernel
theorem dX67_takeLetters_126 : decode cX67_takeLetters 126 = .ok (.invokevirtual 1055, 3) := by decide +kernel
theorem dX67_takeLetters_129 : decode cX67_takeLetters 129 = .ok (.lstore 7, 2) := by decide +kernel
theorem dX67_takeLetters_131 : decode cX67_takeLetters 131 = .ok (.aload_n 0, 1) := by decide +kernel
theorem dX67_takeLetters_132 : decode cX67_takeLetters 132 = .ok (.getfield 1046, 3) := by decide +kernel
theorem dX67_takeLetters_135 : decode cX67_takeLetters 135 = .ok (.ifCond .eq 33, 3) := by decide +kernel
theorem dX67_takeLetters_138 : decode cX67_takeLetters 138 = .ok (.aload_n 0, 1) := by decide +kernel
theorem dX67_takeLetters_139 : decode cX67_takeLetters 139 = .ok (.getfield 67, 3) := by decide +kernel
theorem dX67_takeLetters_142 : decode cX67_takeLetters 142 = .ok (.sipush 128, 3) := by decide +kernel
theorem dX67_takeLetters_145 : decode cX67_takeLetters 145 = .ok (.iload_n 2, 1) := by decide +kernel
theorem dX67_takeLetters_146 : decode cX67_takeLetters 146 = .ok (.imul, 1) := by decide +kernel
theorem dX67_takeLetters_147 : decode cX67_takeLetters 147 = .ok (.iload 4, 2) := by decide +kernel
theorem dX67_takeLetters_149 : decode cX67_takeLetters 149 = .ok (.iadd, 1) := by decide +kernel
theorem dX67_takeLetters_150 : decode cX67_takeLetters 150 = .ok (.iload 6, 2) := by decide +kernel
theorem dX67_takeLetters_152 : decode cX67_takeLetters 152 = .ok (.iastore, 1) := by decide +kernel
theorem dX67_takeLetters_153 : decode cX67_takeLetters 153 = .ok (.aload_n 0, 1) := by decide +kernel
theorem dX67_takeLetters_154 : decode cX67_takeLetters 154 = .ok (.getfield 64, 3) := by decide +kernel
theorem dX67_takeLetters_157 : decode cX67_takeLetters 157 = .ok (.sipush 128, 3) := by decide +kernel
theorem dX67_takeLetters_160 : decode cX67_takeLetters 160 = .ok (.iload_n 2, 1) := by decide +kernel
theorem dX67_takeLetters_161 : decode cX67_takeLetters 161 = .ok (.imul, 1) := by decide +kernel
theorem dX67_takeLetters_162 : decode cX67_takeLetters 162 = .ok (.iload 4, 2) := by decide +kernel
theorem dX67_takeLetters_164 : decode cX67_takeLetters 164 = .ok (.iadd, 1) := by decide +kernel
theorem dX67_takeLetters_165 : decode cX67_takeLetters 165 = .ok (.lload 7, 2) := by decide +kernel
theorem dX67_takeLetters_167 : decode cX67_takeLetters 167 = .ok (.lastore, 1) := by decide +kernel
theorem dX67_takeLetters_168 : decode cX67_takeLetters 168 = .ok (.iinc 4 1, 3) := by decide +kernel
theorem dX67_takeLetters_171 : decode cX67_takeLetters 171 = .ok (.goto (-138), 3) := by decide +kernel
theorem dX67_takeLetters_174 : decode cX67_takeLetters 174 = .ok (.aload_n 0, 1) := by decide +kernel
theorem dX67_takeLetters_175 : decode cX67_takeLetters 175 = .ok (.getfield 1046, 3) := by decide +kernel
theorem dX67_takeLetters_178 : decode cX67_takeLetters 178 = .ok (.ifCond .eq 10, 3) := by decide +kernel
theorem dX67_takeLetters_181 : decode cX67_takeLetters 181 = .ok (.aload_n 0, 1) := by decide +kernel
theorem dX67_takeLetters_182 : decode cX67_takeLetters 182 = .ok (.getfield 60, 3) := by decide +kernel
theorem dX67_takeLetters_185 : decode cX67_takeLetters 185 = .ok (.iload_n 2, 1) := by decide +kernel
theorem dX67_takeLetters_186 : decode cX67_takeLetters 186 = .ok (.iload_n 3, 1) := by decide +kernel
theorem dX67_takeLetters_187 : decode cX67_takeLetters 187 = .ok (.iastore, 1) := by decide +kernel
theorem dX67_takeLetters_188 : decode cX67_takeLetters 188 = .ok (.return_, 1) := by decide +kernel
theorem zy_X67_takeLetters : yX67_takeLetters.cls ≠ "java/lang/invoke/MethodHandle" ∧ yX67_takeLetters.cls ≠ "java/lang/invoke/VarHandle" ∧ (parseMethodDescriptor yX67_takeLetters.desc).map (fun d => d.parameters.length) = some 2 := by decide +kernel
theorem w_fX67_takeLetters_J174 {K : zK} (E : zE K cX67_takeLetters "RingHouseModel" none 3) (hN : zNl K = 9) (hT : zTr K = none) (x2 : Int) (x3 : Int) : zR K 174 [(0, 69, 0), (2, 0, x2), (3, 0, x3)] [] (fX67_takeLetters_J174 x2 x3) := by
  refine r_aload_n E dX67_takeLetters_174 rfl 0 rfl ?_
  refine r_get E zc_69 zt_6925 dX67_takeLetters_175 q3339 zr_69 (zg_6925 _) (by decide) (fun v2 => ?_)
  refine r_if_eq E 188 (by decide) dX67_takeLetters_178 (fun _ => ?_) (fun _ => ?_)
  · exact r_return E rfl hT dX67_takeLetters_188
  · refine r_aload_n E dX67_takeLetters_181 rfl 0 rfl ?_
    refine r_gec (y := 0) E zc_69 dX67_takeLetters_182 q3232 zr_69 (zh_6817 (by decide)) (by decide) ?_
    refine r_iload_n E dX67_takeLetters_185 rfl 1 rfl ?_
    refine r_iload_n E dX67_takeLetters_186 rfl 2 rfl ?_
    refine r_iastore E zc_6817 za_6817 zt_6817 zo_6817 zx_6817 rfl rfl dX67_takeLetters_187 (by decide) ?_
    exact r_return E rfl hT dX67_takeLetters_188
theorem w_fX67_takeLetters_J168 {K : zK} (E : zE K cX67_takeLetters "RingHouseModel" none 3) (hN : zNl K = 9) (hT : zTr K = none) (x1 : Int) (x2 : Int) (x3 : Int) (x4 : Int) {r33 : Int → zX} (hr33 : ∀ s : Int, zR K 33 [(0, 69, 0), (1, 0, x1), (2, 0, x2), (3, 0, x3), (4, 0, s)] [] (r33 s)) : zR K 168 [(0, 69, 0), (1, 0, x1), (2, 0, x2), (3, 0, x3), (4, 0, x4)] [] (fX67_takeLetters_J168 r33 x1 x2 x3 x4) := by
  refine r_iinc (ls' := fun v11 => [(4, 0, v11), (0, 69, 0), (1, 0, x1), (2, 0, x2), (3, 0, x3)]) E 4 rfl (by rw [hN]; decide) (fun _ => rfl) dX67_takeLetters_168 (fun v11 _ => ?_)
  refine r_goto E 33 (by decide) dX67_takeLetters_171 ?_
  refine r_pick E [1, 2, 3, 4, 0] rfl ?_
  exact hr33 v11
theorem w_fX67_takeLetters_J125 {K : zK} (E : zE K cX67_takeLetters "RingHouseModel" none 3) (hN : zNl K = 9) (hT : zTr K = none) (x1 : Int) (x2 : Int) (x3 : Int) (x4 : Int) (x6 : Int) {r33 : Int → zX} (hr33 : ∀ s : Int, zR K 33 [(0, 69, 0), (1, 0, x1), (2, 0, x2), (3, 0, x3), (4, 0, s)] [] (r33 s)) : zR K 125 [(0, 69, 0), (1, 0, x1), (2, 0, x2), (3, 0, x3), (4, 0, x4), (6, 0, x6)] [] (fX67_takeLetters_J125 r33 x1 x2 x3 x4 x6) := by
  refine r_aload_n E dX67_takeLetters_125 rfl 0 rfl ?_
  refine r_callV E [] [] rfl zc_69 zr_69 (fun o _ => ⟨_, zw_X67.1 o, rfl⟩) (lw_V q4371 q4373 qs215 q294 q4374) dX67_takeLetters_126 zy_X67_takeWord rfl (by omega) (by decide) (Nat.le_of_ble_eq_true rfl) (by decide) (fun l G => k_fX67_takeWord l G) (fun v9 => ?_)
  refine r_lstore (ls' := [(7, 1, v9), (0, 69, 0), (1, 0, x1), (2, 0, x2), (3, 0, x3), (4, 0, x4), (6, 0, x6)]) E dX67_takeLetters_129 (by rw [hN]; decide) rfl ?_
  refine r_aload_n E dX67_takeLetters_131 rfl 1 rfl ?_
  refine r_get E zc_69 zt_6925 dX67_takeLetters_132 q3339 zr_69 (zg_6925 _) (by decide) (fun v10 => ?_)
  refine r_if_eq E 168 (by decide) dX67_takeLetters_135 (fun _ => ?_) (fun _ => ?_)
  · refine r_pick E [1, 2, 3, 4, 5] rfl ?_
    exact w_fX67_takeLetters_J168 E hN hT x1 x2 x3 x4 hr33
  · refine r_aload_n E dX67_takeLetters_138 rfl 1 rfl ?_
    refine r_gec (y := 0) E zc_69 dX67_takeLetters_139 q3234 zr_69 (zh_6819 (by decide)) (by decide) ?_
    refine r_sipush E dX67_takeLetters_142 (by decide) (zkI (by decide) (by decide)) ?_
    refine r_iload_n E dX67_takeLetters_145 rfl 3 rfl ?_
    refine r_imul E dX67_takeLetters_146 ?_
    refine r_iload E dX67_takeLetters_147 5 rfl ?_
    refine r_iadd E dX67_takeLetters_149 ?_
    refine r_iload E dX67_takeLetters_150 6 rfl ?_
    refine r_iastore E zc_6819 za_6819 zt_6819 zo_6819 zx_6819 rfl rfl dX67_takeLetters_152 (by decide) ?_
    refine r_aload_n E dX67_takeLetters_153 rfl 1 rfl ?_
    refine r_gec (y := 0) E zc_69 dX67_takeLetters_154 q3233 zr_69 (zh_6818 (by decide)) (by decide) ?_
    refine r_sipush E dX67_takeLetters_157 (by decide) (zkI (by decide) (by decide)) ?_
    refine r_iload_n E dX67_takeLetters_160 rfl 3 rfl ?_
    refine r_imul E dX67_takeLetters_161 ?_
    refine r_iload E dX67_takeLetters_162 5 rfl ?_
    refine r_iadd E dX67_takeLetters_164 ?_
    refine r_lload E dX67_takeLetters_165 0 rfl ?_
    refine r_lastore E zc_6818 za_6818 zt_6818 zo_6818 zx_6818 rfl rfl dX67_takeLetters_167 (by decide) ?_
    refine r_pick E [1, 2, 3, 4, 5] rfl ?_
    exact w_fX67_takeLetters_J168 E hN hT x1 x2 x3 x4 hr33
theorem w_fX67_takeLetters_J89 {K : zK} (E : zE K cX67_takeLetters "RingHouseModel" none 3) (hN : zNl K = 9) (hT : zTr K = none) (x1 : Int) (x2 : Int) (x3 : Int) (x4 : Int) (x5 : Int) (x6 : Int) {r33 : Int → zX} (hr33 : ∀ s : Int, zR K 33 [(0, 69, 0), (1, 0, x1), (2, 0, x2), (3, 0, x3), (4, 0, s)] [] (r33 s)) : zR K 89 [(0, 69, 0), (1, 0, x1), (2, 0, x2), (3, 0, x3), (4, 0, x4), (5, 0, x5), (6, 0, x6)] [] (fX67_takeLetters_J89 r33 x1 x2 x3 x4 x5 x6) := by
  refine r_aload_n E dX67_takeLetters_89 rfl 0 rfl ?_
  refine r_gec (y := 0) E zc_69 dX67_takeLetters_90 q3342 zr_69 (zh_6928 (by decide)) (by decide) ?_
  refine r_iload E dX67_takeLetters_93 6 rfl ?_
  refine r_dup22 E (zn1 rfl) (zn1 rfl) dX67_takeLetters_95 ?_
  refine r_iaload E zc_6928 za_6928 zt_6928 zx_6928 rfl rfl dX67_takeLetters_96 (by decide) (fun v7 => ?_)
  refine r_iconst E dX67_takeLetters_97 (zkI (by decide) (by decide)) ?_
  refine r_iadd E dX67_takeLetters_98 ?_
  refine r_iastore E zc_6928 za_6928 zt_6928 zo_6928 zx_6928 rfl rfl dX67_takeLetters_99 (by decide) ?_
  refine r_aload_n E dX67_takeLetters_100 rfl 0 rfl ?_
  refine r_get E zc_69 zt_6913 dX67_takeLetters_101 q3327 zr_69 (zg_6913 _) (by decide) (fun v8 => ?_)
  refine r_if_ne E 125 (by decide) dX67_takeLetters_104 (fun _ => ?_) (fun _ => ?_)
  · refine r_pick E [0, 1, 2, 3, 4, 6] rfl ?_
    exact w_fX67_takeLetters_J125 E hN hT x1 x2 x3 x4 x6 hr33
  · refine r_aload_n E dX67_takeLetters_107 rfl 0 rfl ?_
    refine r_gec (y := 0) E zc_69 dX67_takeLetters_108 q3342 zr_69 (zh_6928 (by decide)) (by decide) ?_
    refine r_iload E dX67_takeLetters_111 6 rfl ?_
    refine r_iaload E zc_6928 za_6928 zt_6928 zx_6928 rfl rfl dX67_takeLetters_113 (by decide) (fun v12 => ?_)
    refine r_iconst E dX67_takeLetters_114 (zkI (by decide) (by decide)) ?_
    refine r_icmp_ne E 125 (by decide) dX67_takeLetters_115 (fun _ => ?_) (fun _ => ?_)
    · refine r_pick E [0, 1, 2, 3, 4, 6] rfl ?_
      exact w_fX67_takeLetters_J125 E hN hT x1 x2 x3 x4 x6 hr33
    · refine r_aload_n E dX67_takeLetters_118 rfl 0 rfl ?_
      refine r_iconst E dX67_takeLetters_119 (zkI (by decide) (by decide)) ?_
      refine r_iload E dX67_takeLetters_120 5 rfl ?_
      refine r_callV E [(0, 3), (0, x5)] [] rfl zc_69 zr_69 (fun o _ => ⟨_, zw_X67.1 o, rfl⟩) (lw_V q4359 q4361 qs212 q294 q4362) dX67_takeLetters_122 zy_X67_torn rfl (by omega) (by decide) (Nat.le_of_ble_eq_true rfl) (by decide) (fun l G => k_fX67_torn l G 3 x5) (fun _ => ?_)
      refine r_pick E [0, 1, 2, 3, 4, 6] rfl ?_
      exact w_fX67_takeLetters_J125 E hN hT x1 x2 x3 x4 x6 hr33
theorem w_fX67_takeLetters_B33 {K : zK} (E : zE K cX67_takeLetters "RingHouseModel" none 3) (hN : zNl K = 9) (hT : zTr K = none) (x1 : Int) (x2 : Int) (x3 : Int) : ∀ r33 : Int → zX, (∀ s : Int, zR K 33 [(0, 69, 0), (1, 0, x1), (2, 0, x2), (3, 0, x3), (4, 0, s)] [] (r33 s)) → ∀ s : Int, zR K 33 [(0, 69, 0), (1, 0, x1), (2, 0, x2), (3, 0, x3), (4, 0, s)] [] (fX67_takeLetters_B33 x1 x2 x3 r33 s) := by
  intro r33 hr33 x4
  refine r_iload E dX67_takeLetters_33 4 rfl ?_
  refine r_iload_n E dX67_takeLetters_35 rfl 3 rfl ?_
  refine r_icmp_ge E 174 (by decide) dX67_takeLetters_36 (fun _ => ?_) (fun _ => ?_)
  · refine r_pick E [0, 2, 3] rfl ?_
    exact w_fX67_takeLetters_J174 E hN hT x2 x3
  · refine r_aload_n E dX67_takeLetters_39 rfl 0 rfl ?_
    refine r_get E zc_69 zt_6913 dX67_takeLetters_40 q3327 zr_69 (zg_6913 _) (by decide) (fun v3 => ?_)
    refine r_if_ne E 174 (by decide) dX67_takeLetters_43 (fun _ => ?_) (fun _ => ?_)
    · refine r_pick E [0, 2, 3] rfl ?_
      exact w_fX67_takeLetters_J174 E hN hT x2 x3
    · refine r_aload_n E dX67_takeLetters_46 rfl 0 rfl ?_
      refine r_get E zc_69 zt_6912 dX67_takeLetters_47 q3326 zr_69 (zg_6912 _) (by decide) (fun v4 => ?_)
      refine r_istore (ls' := [(5, 0, v4), (0, 69, 0), (1, 0, x1), (2, 0, x2), (3, 0, x3), (4, 0, x4)]) E dX67_takeLetters_50 (by rw [hN]; decide) rfl ?_
      refine r_aload_n E dX67_takeLetters_52 rfl 1 rfl ?_
      refine r_iconst E dX67_takeLetters_53 (zkI (by decide) (by decide)) ?_
      refine r_bipush E dX67_takeLetters_54 (by decide) (zkI (by decide) (by decide)) ?_
      refine r_callV E [(0, 0), (0, 31)] [] rfl zc_69 zr_69 (fun o _ => ⟨_, zw_X67.1 o, rfl⟩) (lw_V q4355 q4357 qs211 q294 q4358) dX67_takeLetters_56 zy_X67_take rfl (by omega) (by decide) (Nat.le_of_ble_eq_true rfl) (by decide) (fun l G => k_fX67_take l G 0 31) (fun v5 => ?_)
      refine r_istore (ls' := [(6, 0, v5), (5, 0, v4), (0, 69, 0), (1, 0, x1), (2, 0, x2), (3, 0, x3), (4, 0, x4)]) E dX67_takeLetters_59 (by rw [hN]; decide) rfl ?_
      refine r_aload_n E dX67_takeLetters_61 rfl 2 rfl ?_
      refine r_get E zc_69 zt_6913 dX67_takeLetters_62 q3327 zr_69 (zg_6913 _) (by decide) (fun v6 => ?_)
      refine r_if_ne E 89 (by decide) dX67_takeLetters_65 (fun _ => ?_) (fun _ => ?_)
      · refine r_pick E [2, 3, 4, 5, 6, 1, 0] rfl ?_
        exact w_fX67_takeLetters_J89 E hN hT x1 x2 x3 x4 v4 v5 hr33
      · refine r_iload E dX67_takeLetters_68 0 rfl ?_
        refine r_aload_n E dX67_takeLetters_70 rfl 2 rfl ?_
        refine r_gec (y := 0) E zc_69 dX67_takeLetters_71 q3334 zr_69 (zh_6920 (by decide)) (by decide) ?_
        refine r_iload_n E dX67_takeLetters_74 rfl 3 rfl ?_
        refine r_iaload E zc_6920 za_6920 zt_6920 zx_6920 rfl rfl dX67_takeLetters_75 (by decide) (fun v14 => ?_)
        refine r_callS E [(0, v5), (0, v14)] [] rfl q3632 q3633 q294 q3634 dX67_takeLetters_76 zy_X67_dominates rfl (by omega) (by decide) (Nat.le_of_ble_eq_true rfl) (fun l G => k_fX67_dominates l G v5 v14) (fun v15 => ?_)
        refine r_if_ne E 89 (by decide) dX67_takeLetters_79 (fun _ => ?_) (fun _ => ?_)
        · refine r_pick E [2, 3, 4, 5, 6, 1, 0] rfl ?_
          exact w_fX67_takeLetters_J89 E hN hT x1 x2 x3 x4 v4 v5 hr33
        · refine r_aload_n E dX67_takeLetters_82 rfl 2 rfl ?_
          refine r_iconst E dX67_takeLetters_83 (zkI (by decide) (by decide)) ?_
          refine r_iload E dX67_takeLetters_84 1 rfl ?_
          refine r_callV E [(0, 5), (0, v4)] [] rfl zc_69 zr_69 (fun o _ => ⟨_, zw_X67.1 o, rfl⟩) (lw_V q4359 q4361 qs212 q294 q4362) dX67_takeLetters_86 zy_X67_torn rfl (by omega) (by decide) (Nat.le_of_ble_eq_true rfl) (by decide) (fun l G => k_fX67_torn l G 5 v4) (fun _ => ?_)
          refine r_pick E [2, 3, 4, 5, 6, 1, 0] rfl ?_
          exact w_fX67_takeLetters_J89 E hN hT x1 x2 x3 x4 v4 v5 hr33
theorem w_fX67_takeLetters_J21 {K : zK} (E : zE K cX67_takeLetters "RingHouseModel" none 3) (hN : zNl K = 9) (hT : zTr K = none) (x1 : Int) (x2 : Int) : zR K 21 [(0, 69, 0), (1, 0, x1), (2, 0, x2)] [] (fX67_takeLetters_J21 x1 x2) := by
  refine r_aload_n E dX67_takeLetters_21 rfl 0 rfl ?_
  refine r_iconst E dX67_takeLetters_22 (zkI (by decide) (by decide)) ?_
  refine r_sipush E dX67_takeLetters_23 (by decide) (zkI (by decide) (by decide)) ?_
  refine r_callV E [(0, 0), (0, 128)] [] rfl zc_69 zr_69 (fun o _ => ⟨_, zw_X67.1 o, rfl⟩) (lw_V q4355 q4357 qs211 q294 q4358) dX67_takeLetters_26 zy_X67_take rfl (by omega) (by decide) (Nat.le_of_ble_eq_true rfl) (by decide) (fun l G => k_fX67_take l G 0 128) (fun v1 => ?_)
  refine r_istore_n (ls' := [(3, 0, v1), (0, 69, 0), (1, 0, x1), (2, 0, x2)]) E dX67_takeLetters_29 rfl (by rw [hN]; decide) rfl ?_
  refine r_iconst E dX67_takeLetters_30 (zkI (by decide) (by decide)) ?_
  refine r_istore (ls' := [(4, 0, 0), (3, 0, v1), (0, 69, 0), (1, 0, x1), (2, 0, x2)]) E dX67_takeLetters_31 (by rw [hN]; decide) rfl ?_
  refine r_pick E [2, 3, 4, 1, 0] rfl ?_
  exact r_loop (L := fun s => [(0, 69, 0), (1, 0, x1), (2, 0, x2), (3, 0, v1), (4, 0, s)]) (w_fX67_takeLetters_B33 E hN hT x1 x2 v1) zBIG 0
theorem w_fX67_takeLetters_B2 {K : zK} (E : zE K cX67_takeLetters "RingHouseModel" none 3) (hN : zNl K = 9) (hT : zTr K = none) (x1 : Int) (x2 : Int) : ∀ r2 : Int → zX, (∀ s : Int, zR K 2 [(0, 69, 0), (1, 0, x1), (2, 0, x2), (3, 0, s)] [] (r2 s)) → ∀ s : Int, zR K 2 [(0, 69, 0), (1, 0, x1), (2, 0, x2), (3, 0, s)] [] (fX67_takeLetters_B2 x1 x2 r2 s) := by
  intro r2 hr2 x3
  refine r_iload_n E dX67_takeLetters_2 rfl 3 rfl ?_
  refine r_bipush E dX67_takeLetters_3 (by decide) (zkI (by decide) (by decide)) ?_
  refine r_icmp_ge E 21 (by decide) dX67_takeLetters_5 (fun _ => ?_) (fun _ => ?_)
  · refine r_pick E [0, 1, 2] rfl ?_
    exact w_fX67_takeLetters_J21 E hN hT x1 x2
  · refine r_aload_n E dX67_takeLetters_8 rfl 0 rfl ?_
    refine r_gec (y := 0) E zc_69 dX67_takeLetters_9 q3342 zr_69 (zh_6928 (by decide)) (by decide) ?_
    refine r_iload_n E dX67_takeLetters_12 rfl 3 rfl ?_
    refine r_iconst E dX67_takeLetters_13 (zkI (by decide) (by decide)) ?_
    refine r_iastore E zc_6928 za_6928 zt_6928 zo_6928 zx_6928 rfl rfl dX67_takeLetters_14 (by decide) ?_
    refine r_iinc (ls' := fun v17 => [(3, 0, v17), (0, 69, 0), (1, 0, x1), (2, 0, x2)]) E 3 rfl (by rw [hN]; decide) (fun _ => rfl) dX67_takeLetters_15 (fun v17 _ => ?_)
    refine r_goto E 2 (by decide) dX67_takeLetters_18 ?_
    refine r_pick E [1, 2, 3, 0] rfl ?_
    exact hr2 v17
theorem w_fX67_takeLetters {K : zK} (E : zE K cX67_takeLetters "RingHouseModel" none 3) (hN : zNl K = 9) (hT : zTr K = none) (x1 : Int) (x2 : Int) : zR K 0 [(0, 69, 0), (1, 0, x1), (2, 0, x2)] [] (fX67_takeLetters x1 x2) := by
  refine r_iconst E dX67_takeLetters_0 (zkI (by decide) (by decide)) ?_
  refine r_istore_n (ls' := [(3, 0, 0), (0, 69, 0), (1, 0, x1), (2, 0, x2)]) E dX67_takeLetters_1 rfl (by rw [hN]; decide) rfl ?_
  refine r_pick E [1, 2, 3, 0] rfl ?_
  exact r_loop (L := fun s => [(0, 69, 0), (1, 0, x1), (2, 0, x2), (3, 0, s)]) (w_fX67_takeLetters_B2 E hN hT x1 x2) zBIG 0
theorem k_fX67_takeLetters (l : Launch) (G : zG) (x1 : Int) (x2 : Int) : zCt l G yX67_takeLetters cX67_takeLetters 9 none 3 [(69, 0), (0, x1), (0, x2)] none (fX67_takeLetters x1 x2) := zCt.of (by decide) (Nat.le_of_ble_eq_true rfl) (fun K E _ _ hN hT => w_fX67_takeLetters E hN hT x1 x2)
theorem dX67_charge_0 : decode cX67_charge 0 = .ok (.iload_n 1, 1) := by decide +kernel
theorem dX67_charge_1 : decode cX67_charge 1 = .ok (.istore_n 3, 1) := by decide +kernel
theorem dX67_charge_2 : decode cX67_charge 2 = .ok (.iload_n 3, 1) := by decide +kernel
theorem dX67_charge_3 : decode cX67_charge 3 = .ok (.ifCond .lt 22, 3) := by decide +kernel
theorem dX67_charge_6 : decode cX67_charge 6 = .ok (.aload_n 0, 1) := by decide +kernel
theorem dX67_charge_7 : decode cX67_charge 7 = .ok (.getfield 343, 3) := by decide +kernel
theorem dX67_charge_10 : decode cX67_charge 10 = .ok (.iload_n 3, 1) := by decide +kernel
theorem dX67_charge_11 : decode cX67_charge 11 = .ok (.iaload, 1) := by decide +kernel
theorem dX67_charge_12 : decode cX67_charge 12 = .ok (.ifCond .ne 13, 3) := by decide +kernel
theorem dX67_charge_15 : decode cX67_charge 15 = .ok (.aload_n 0, 1) := by decide +kernel
theorem dX67_charge_16 : decode cX67_charge 16 = .ok (.getfield 331, 3) := by decide +kernel
theorem dX67_charge_19 : decode cX67_charge 19 = .ok (.iload_n 3, 1) := by decide +kernel
theorem dX67_charge_20 : decode cX67_charge 20 = .ok (.iaload, 1) := by decide +kernel
theorem dX67_charge_21 : decode cX67_charge 21 = .ok (.istore_n 3, 1) := by decide +kernel
theorem dX67_charge_22 : decode cX67_charge 22 = .ok (.goto (-20), 3) := by decide +kernel
theorem dX67_charge_25 : decode cX67_charge 25 = .ok (.iload_n 3, 1) := by decide +kernel
theorem dX67_charge_26 : decode cX67_charge 26 = .ok (.ifCond .lt 17, 3) := by decide +kernel
theorem dX67_charge_29 : decode cX67_charge 29 = .ok (.aload_n 0, 1) := by decide +kernel
theorem dX67_charge_30 : decode cX67_charge 30 = .ok (.getfield 346, 3) := by decide +kernel
theorem dX67_charge_33 : decode cX67_charge 33 = .ok (.iload_n 3, 1) := by decide +kernel
theorem dX67_charge_34 : decode cX67_charge 34 = .ok (.dup2, 1) := by decide +kernel
theorem dX67_charge_35 : decode cX67_charge 35 = .ok (.laload, 1) := by decide +kernel
theorem dX67_charge_36 : decode cX67_charge 36 = .ok (.iload_n 2, 1) := by decide +kernel
theorem dX67_charge_37 : decode cX67_charge 37 = .ok (.i2l, 1) := by decide +kernel
theorem dX67_charge_38 : decode cX67_charge 38 = .ok (.ladd, 1) := by decide +kernel
theorem dX67_charge_39 : decode cX67_charge 39 = .ok (.lastore, 1) := by decide +kernel
theorem dX67_charge_40 : decode cX67_charge 40 = .ok (.goto 14, 3) := by decide +kernel
theorem dX67_charge_43 : decode cX67_charge 43 = .ok (.aload_n 0, 1) := by decide +kernel
theorem dX67_charge_44 : decode cX67_charge 44 = .ok (.dup, 1) := by decide +kernel
theorem dX67_charge_45 : decode cX67_charge 45 = .ok (.getfield 1065, 3) := by decide +kernel
theorem dX67_charge_48 : decode cX67_charge 48 = .ok (.iload_n 2, 1) := by decide +kernel
theorem dX67_charge_49 : decode cX67_charge 49 = .ok (.i2l, 1) := by decide +kernel
theorem dX67_charge_50 : decode cX67_charge 50 = .ok (.ladd, 1) := by decide +kernel
theorem dX67_charge_51 : decode cX67_charge 51 = .ok (.putfield 1065, 3) := by decide +kernel
theorem dX67_charge_54 : decode cX67_charge 54 = .ok (.return_, 1) := by decide +kernel
theorem zy_X67_charge : yX67_charge.cls ≠ "java/lang/invoke/MethodHandle" ∧ yX67_charge.cls ≠ "java/lang/invoke/VarHandle" ∧ (parseMethodDescriptor yX67_charge.desc).map (fun d => d.parameters.length) = some 2 := by decide +kernel
theorem w_fX67_charge_J25 {K : zK} (E : zE K cX67_charge "RingHouseModel" none 0) (hN : zNl K = 4) (hT : zTr K = none) (x2 : Int) (x3 : Int) : zR K 25 [(0, 69, 0), (2, 0, x2), (3, 0, x3)] [] (fX67_charge_J25 x2 x3) := by
  refine r_iload_n E dX67_charge_25 rfl 2 rfl ?_
  refine r_if_lt E 43 (by decide) dX67_charge_26 (fun _ => ?_) (fun _ => ?_)
  · refine r_aload_n E dX67_charge_43 rfl 0 rfl ?_
    refine r_dup E (zn1 rfl) dX67_charge_44 ?_
    refine r_get E zc_69 zt_6927 dX67_charge_45 q3341 zr_69 (zg_6927 _) (by decide) (fun v1 => ?_)
    refine r_iload_n E dX67_charge_48 rfl 1 rfl ?_
    refine r_i2l E dX67_charge_49 ?_
    refine r_ladd E dX67_charge_50 ?_
    refine r_put E zc_69 zt_6927 zo_6927 dX67_charge_51 q3341 zr_69 zw_X67 zp_6927 (fun _ => rfl) (fun _ => rfl) (by decide) ?_
    exact r_return E rfl hT dX67_charge_54
  · refine r_aload_n E dX67_charge_29 rfl 0 rfl ?_
    refine r_gec (y := 0) E zc_69 dX67_charge_30 q3336 zr_69 (zh_6922 (by decide)) (by decide) ?_
    refine r_iload_n E dX67_charge_33 rfl 2 rfl ?_
    refine r_dup22 E (zn1 rfl) (zn1 rfl) dX67_charge_34 ?_
    refine r_laload E zc_6922 za_6922 zt_6922 zx_6922 rfl rfl dX67_charge_35 (by decide) (fun v2 => ?_)
    refine r_iload_n E dX67_charge_36 rfl 1 rfl ?_
    refine r_i2l E dX67_charge_37 ?_
    refine r_ladd E dX67_charge_38 ?_
    refine r_lastore E zc_6922 za_6922 zt_6922 zo_6922 zx_6922 rfl rfl dX67_charge_39 (by decide) ?_
    refine r_goto E 54 (by decide) dX67_charge_40 ?_
    exact r_return E rfl hT dX67_charge_54
theorem w_fX67_charge_B2 {K : zK} (E : zE K cX67_charge "RingHouseModel" none 0) (hN : zNl K = 4) (hT : zTr K = none) (x2 : Int) : ∀ r2 : Int → zX, (∀ s : Int, zR K 2 [(0, 69, 0), (2, 0, x2), (3, 0, s)] [] (r2 s)) → ∀ s : Int, zR K 2 [(0, 69, 0), (2, 0, x2), (3, 0, s)] [] (fX67_charge_B2 x2 r2 s) := by
  intro r2 hr2 x3
  refine r_iload_n E dX67_charge_2 rfl 2 rfl ?_
  refine r_if_lt E 25 (by decide) dX67_charge_3 (fun _ => ?_) (fun _ => ?_)
  · exact w_fX67_charge_J25 E hN hT x2 x3
  · refine r_aload_n E dX67_charge_6 rfl 0 rfl ?_
    refine r_gec (y := 0) E zc_69 dX67_charge_7 q3335 zr_69 (zh_6921 (by decide)) (by decide) ?_
    refine r_iload_n E dX67_charge_10 rfl 2 rfl ?_
    refine r_iaload E zc_6921 za_6921 zt_6921 zx_6921 rfl rfl dX67_charge_11 (by decide) (fun v3 => ?_)
    refine r_if_ne E 25 (by decide) dX67_charge_12 (fun _ => ?_) (fun _ => ?_)
    · exact w_fX67_charge_J25 E hN hT x2 x3
    · refine r_aload_n E dX67_charge_15 rfl 0 rfl ?_
      refine r_gec (y := 0) E zc_69 dX67_charge_16 q3331 zr_69 (zh_6917 (by decide)) (by decide) ?_
      refine r_iload_n E dX67_charge_19 rfl 2 rfl ?_
      refine r_iaload E zc_6917 za_6917 zt_6917 zx_6917 rfl rfl dX67_charge_20 (by decide) (fun v4 => ?_)
      refine r_istore_n (ls' := [(3, 0, v4), (0, 69, 0), (2, 0, x2)]) E dX67_charge_21 rfl (by rw [hN]; decide) rfl ?_
      refine r_goto E 2 (by decide) dX67_charge_22 ?_
      refine r_pick E [1, 2, 0] rfl ?_
      exact hr2 v4
theorem w_fX67_charge {K : zK} (E : zE K cX67_charge "RingHouseModel" none 0) (hN : zNl K = 4) (hT : zTr K = none) (x1 : Int) (x2 : Int) : zR K 0 [(0, 69, 0), (1, 0, x1), (2, 0, x2)] [] (fX67_charge x1 x2) := by
  refine r_iload_n E dX67_charge_0 rfl 1 rfl ?_
  refine r_istore_n (ls' := [(3, 0, x1), (0, 69, 0), (1, 0, x1), (2, 0, x2)]) E dX67_charge_1 rfl (by rw [hN]; decide) rfl ?_
  refine r_pick E [1, 3, 0] rfl ?_
  exact r_loop (L := fun s => [(0, 69, 0), (2, 0, x2), (3, 0, s)]) (w_fX67_charge_B2 E hN hT x2) zBIG x1
theorem k_fX67_charge (l : Launch) (G : zG) (x1 : Int) (x2 : Int) : zCt l G yX67_charge cX67_charge 4 none 0 [(69, 0), (0, x1), (0, x2)] none (fX67_charge x1 x2) := zCt.of (by decide) (Nat.le_of_ble_eq_true rfl) (fun K E _ _ hN hT => w_fX67_charge E hN hT x1 x2)
theorem dX67_takeSegment_0 : decode cX67_takeSegment 0 = .ok (.aload_n 0, 1) := by decide +kernel
theorem dX67_takeSegment_1 : decode cX67_takeSegment 1 = .ok (.iconst 0, 1) := by decide +kernel
theorem dX67_takeSegment_2 : decode cX67_takeSegment 2 = .ok (.bipush 63, 2) := by decide +kernel
theorem dX67_takeSegment_4 : decode cX67_takeSegment 4 = .ok (.invokevirtual 1043, 3) := by decide +kernel
theorem dX67_takeSegment_7 : decode cX67_takeSegment 7 = .ok (.istore_n 2, 1) := by decide +kernel
theorem dX67_takeSegment_8 : decode cX67_takeSegment 8 = .ok (.aload_n 0, 1) := by decide +kernel
theorem dX67_takeSegment_9 : decode cX67_takeSegment 9 = .ok (.getfield 1037, 3) := by decide +kernel
theorem dX67_takeSegment_12 : decode cX67_takeSegment 12 = .ok (.istore_n 3, 1) := by decide +kernel
theorem dX67_takeSegment_13 : decode cX67_takeSegment 13 = .ok (.sipush 256, 3) := by decide +kernel
theorem dX67_takeSegment_16 : decode cX67_takeSegment 16 = .ok (.aload_n 0, 1) := by decide +kernel
theorem dX67_takeSegment_17 : decode cX67_takeSegment 17 = .ok (.iconst 0, 1) := by decide +kernel
theorem dX67_takeSegment_18 : decode cX67_takeSegment 18 = .ok (.sipush 255, 3) := by decide +kernel
theorem dX67_takeSegment_21 : decode cX67_takeSegment 21 = .ok (.invokevirtual 1043, 3) := by decide +kernel
theorem dX67_takeSegment_24 : decode cX67_takeSegment 24 = .ok (.imul, 1) := by decide +kernel
theorem dX67_takeSegment_25 : decode cX67_takeSegment 25 = .ok (.istore 4, 2) := by decide +kernel
theorem dX67_takeSegment_27 : decode cX67_takeSegment 27 = .ok (.iload 4, 2) := by decide +kernel
theorem dX67_takeSegment_29 : decode cX67_takeSegment 29 = .ok (.aload_n 0, 1) := by decide +kernel
theorem dX67_takeSegment_30 : decode cX67_takeSegment 30 = .ok (.iconst 0, 1) := by decide +kernel
theorem dX67_takeSegment_31 : decode cX67_takeSegment 31 = .ok (.sipush 255, 3) := by decide +kernel
theorem dX67_takeSegment_34 : decode cX67_takeSegment 34 = .ok (.invokevirtual 1043, 3) := by decide +kernel
theorem dX67_takeSegment_37 : decode cX67_takeSegment 37 = .ok (.iadd, 1) := by decide +kernel
theorem dX67_takeSegment_38 : decode cX67_takeSegment 38 = .ok (.istore 4, 2) := by decide +kernel
theorem dX67_takeSegment_40 : decode cX67_takeSegment 40 = .ok (.aload_n 0, 1) := by decide +kernel
theorem dX67_takeSegment_41 : decode cX67_takeSegment 41 = .ok (.getfield 1031, 3) := by decide +kernel
theorem dX67_takeSegment_44 : decode cX67_takeSegment 44 = .ok (.ifCond .ne 17, 3) := by decide +kernel
theorem dX67_takeSegment_47 : decode cX67_takeSegment 47 = .ok (.iload 4, 2) := by decide +kernel
theorem dX67_takeSegment_49 : decode cX67_takeSegment 49 = .ok (.sipush 1024, 3) := by decide +kernel
theorem dX67_takeSegment_52 : decode cX67_takeSegment 52 = .ok (.if_icmp .le 9, 3) := by decide +kernel
theorem dX67_takeSegment_55 : decode cX67_takeSegment 55 = .ok (.aload_n 0, 1) := by decide +kernel
theorem dX67_takeSegment_56 : decode cX67_takeSegment 56 = .ok (.iconst 3, 1) := by decide +kernel
theorem dX67_takeSegment_57 : decode cX67_takeSegment 57 = .ok (.iload_n 3, 1) := by decide +kernel
theorem dX67_takeSegment_58 : decode cX67_takeSegment 58 = .ok (.invokevirtual 1040, 3) := by decide +kernel
theorem dX67_takeSegment_61 : decode cX67_takeSegment 61 = .ok (.iconst 0, 1) := by decide +kernel
theorem dX67_takeSegment_62 : decode cX67_takeSegment 62 = .ok (.istore 5, 2) := by decide +kernel
theorem dX67_takeSegment_64 : decode cX67_takeSegment 64 = .ok (.iload 5, 2) := by decide +kernel
theorem dX67_takeSegment_66 : decode cX67_takeSegment 66 = .ok (.iload 4, 2) := by decide +kernel
theorem dX67_takeSegment_68 : decode cX67_takeSegment 68 = .ok (.if_icmp .ge 44, 3) := by decide +kernel
theorem dX67_takeSegment_71 : decode cX67_takeSegment 71 = .ok (.aload_n 0, 1) := by decide +kernel
theorem dX67_takeSegment_72 : decode cX67_takeSegment 72 = .ok (.getfield 1031, 3) := by decide +kernel
theorem dX67_takeSegment_75 : decode cX67_takeSegment 75 = .ok (.ifCond .ne 37, 3) := by decide +kernel
theorem dX67_takeSegment_78 : decode cX67_takeSegment 78 = .ok (.aload_n 0, 1) := by decide +kernel
theorem dX67_takeSegment_79 : decode cX67_takeSegment 79 = .ok (.invokevirtual 1055, 3) := by decide +kernel
theorem dX67_takeSegment_82 : decode cX67_takeSegment 82 = .ok (.lstore 6, 2) := by decide +kernel
theorem dX67_takeSegment_84 : decode cX67_takeSegment 84 = .ok (.aload_n 0, 1) := by decide +kernel
theorem dX67_takeSegment_85 : decode cX67_takeSegment 85 = .ok (.getfield 1046, 3) := by decide +kernel
theorem dX67_takeSegment_88 : decode cX67_takeSegment 88 = .ok (.ifCond .eq 18, 3) := by decide +kernel
theorem dX67_takeSegment_91 : decode cX67_takeSegment 91 = .ok (.aload_n 0, 1) := by decide +kernel
theorem dX67_takeSegment_92 : decode cX67_takeSegment 92 = .ok (.getfield 57, 3) := by decide +kernel
theorem dX67_takeSegment_95 : decode cX67_takeSegment 95 = .ok (.sipush 1024, 3) := by decide +kernel
theorem dX67_takeSegment_98 : decode cX67_takeSegment 98 = .ok (.iload_n 1, 1) := by decide +kernel
theorem dX67_takeSegment_99 : decode cX67_takeSegment 99 = .ok (.imul, 1) := by decide +kernel
theorem dX67_takeSegment_100 : decode cX67_takeSegment 100 = .ok (.iload 5, 2) := by decide +kernel
theorem dX67_takeSegment_102 : decode cX67_takeSegment 102 = .ok (.iadd, 1) := by decide +kernel
theorem dX67_takeSegment_103 : decode cX67_takeSegment 103 = .ok (.lload 6, 2) := by decide +kernel
theorem dX67_takeSegment_105 : decode cX67_takeSegment 105 = .ok (.lastore, 1) := by decide +kernel
theorem dX67_takeSegment_106 : decode cX67_takeSegment 106 = .ok (.iinc 5 1, 3) := by decide +kernel
theorem dX67_takeSegment_109 : decode cX67_takeSegment 109 = .ok (.goto (-45), 3) := by decide +kernel
theorem dX67_takeSegment_112 : decode cX67_takeSegment 112 = .ok (.aload_n 0, 1) := by decide +kernel
theorem dX67_takeSegment_113 : decode cX67_takeSegment 113 = .ok (.getfield 1046, 3) := by decide +kernel
theorem dX67_takeSegment_116 : decode cX67_takeSegment 116 = .ok (.ifCond .eq 10, 3) := by decide +kernel
theorem dX67_takeSegment_119 : decode cX67_takeSegment 119 = .ok (.aload_n 0, 1) := by decide +kernel
theorem dX67_takeSegment_120 : decode cX67_takeSegment 120 = .ok (.getfield 26, 3) := by decide +kernel
theorem dX67_takeSegment_123 : decode cX67_takeSegment 123 = .ok (.iload_n 1, 1) := by decide +kernel
theorem dX67_takeSegment_124 : decode cX67_takeSegment 124 = .ok (.iload_n 2, 1) := by decide +kernel
theorem dX67_takeSegment_125 : decode cX67_takeSegment 125 = .ok (.iastore, 1) := by decide +kernel
theorem dX67_takeSegment_126 : decode cX67_takeSegment 126 = .ok (.iload 4, 2) := by decide +kernel
theorem dX67_takeSegment_128 : decode cX67_takeSegment 128 = .ok (.ireturn, 1) := by decide +kernel
theorem zy_X67_takeSegment : yX67_takeSegment.cls ≠ "java/lang/invoke/MethodHandle" ∧ yX67_takeSegment.cls ≠ "java/lang/invoke/VarHandle" ∧ (parseMethodDescriptor yX67_takeSegment.desc).map (fun d => d.parameters.length) = some 1 := by decide +kernel
theorem w_fX67_takeSegment_J112 {K : zK} (E : zE K cX67_takeSegment "RingHouseModel" (some .int) 3) (hN : zNl K = 8) (hT : zTr K = (some 0)) (x1 : Int) (x2 : Int) (x4 : Int) : zR K 112 [(0, 69, 0), (1, 0, x1), (2, 0, x2), (4, 0, x4)] [] (fX67_takeSegment_J112 x1 x2 x4) := by
  refine r_aload_n E dX67_takeSegment_112 rfl 0 rfl ?_
  refine r_get E zc_69 zt_6925 dX67_takeSegment_113 q3339 zr_69 (zg_6925 _) (by decide) (fun v8 => ?_)
  refine r_if_eq E 126 (by decide) dX67_takeSegment_116 (fun _ => ?_) (fun _ => ?_)
  · refine r_iload E dX67_takeSegment_126 3 rfl ?_
    exact r_ireturn E rfl hT dX67_takeSegment_128
  · refine r_aload_n E dX67_takeSegment_119 rfl 0 rfl ?_
    refine r_gec (y := 0) E zc_69 dX67_takeSegment_120 q3220 zr_69 (zh_6805 (by decide)) (by decide) ?_
    refine r_iload_n E dX67_takeSegment_123 rfl 1 rfl ?_
    refine r_iload_n E dX67_takeSegment_124 rfl 2 rfl ?_
    refine r_iastore E zc_6805 za_6805 zt_6805 zo_6805 zx_6805 rfl rfl dX67_takeSegment_125 (by decide) ?_
    refine r_iload E dX67_takeSegment_126 3 rfl ?_
    exact r_ireturn E rfl hT dX67_takeSegment_128
theorem w_fX67_takeSegment_J106 {K : zK} (E : zE K cX67_takeSegment "RingHouseModel" (some .int) 3) (hN : zNl K = 8) (hT : zTr K = (some 0)) (x1 : Int) (x2 : Int) (x4 : Int) (x5 : Int) {r64 : Int → zX} (hr64 : ∀ s : Int, zR K 64 [(0, 69, 0), (1, 0, x1), (2, 0, x2), (4, 0, x4), (5, 0, s)] [] (r64 s)) : zR K 106 [(0, 69, 0), (1, 0, x1), (2, 0, x2), (4, 0, x4), (5, 0, x5)] [] (fX67_takeSegment_J106 r64 x1 x2 x4 x5) := by
  refine r_iinc (ls' := fun v12 => [(5, 0, v12), (0, 69, 0), (1, 0, x1), (2, 0, x2), (4, 0, x4)]) E 4 rfl (by rw [hN]; decide) (fun _ => rfl) dX67_takeSegment_106 (fun v12 _ => ?_)
  refine r_goto E 64 (by decide) dX67_takeSegment_109 ?_
  refine r_pick E [1, 2, 3, 4, 0] rfl ?_
  exact hr64 v12
theorem w_fX67_takeSegment_B64 {K : zK} (E : zE K cX67_takeSegment "RingHouseModel" (some .int) 3) (hN : zNl K = 8) (hT : zTr K = (some 0)) (x1 : Int) (x2 : Int) (x4 : Int) : ∀ r64 : Int → zX, (∀ s : Int, zR K 64 [(0, 69, 0), (1, 0, x1), (2, 0, x2), (4, 0, x4), (5, 0, s)] [] (r64 s)) → ∀ s : Int, zR K 64 [(0, 69, 0), (1, 0, x1), (2, 0, x2), (4, 0, x4), (5, 0, s)] [] (fX67_takeSegment_B64 x1 x2 x4 r64 s) := by
  intro r64 hr64 x5
  refine r_iload E dX67_takeSegment_64 4 rfl ?_
  refine r_iload E dX67_takeSegment_66 3 rfl ?_
  refine r_icmp_ge E 112 (by decide) dX67_takeSegment_68 (fun _ => ?_) (fun _ => ?_)
  · refine r_pick E [0, 1, 2, 3] rfl ?_
    exact w_fX67_takeSegment_J112 E hN hT x1 x2 x4
  · refine r_aload_n E dX67_takeSegment_71 rfl 0 rfl ?_
    refine r_get E zc_69 zt_6913 dX67_takeSegment_72 q3327 zr_69 (zg_6913 _) (by decide) (fun v9 => ?_)
    refine r_if_ne E 112 (by decide) dX67_takeSegment_75 (fun _ => ?_) (fun _ => ?_)
    · refine r_pick E [0, 1, 2, 3] rfl ?_
      exact w_fX67_takeSegment_J112 E hN hT x1 x2 x4
    · refine r_aload_n E dX67_takeSegment_78 rfl 0 rfl ?_
      refine r_callV E [] [] rfl zc_69 zr_69 (fun o _ => ⟨_, zw_X67.1 o, rfl⟩) (lw_V q4371 q4373 qs215 q294 q4374) dX67_takeSegment_79 zy_X67_takeWord rfl (by omega) (by decide) (Nat.le_of_ble_eq_true rfl) (by decide) (fun l G => k_fX67_takeWord l G) (fun v10 => ?_)
      refine r_lstore (ls' := [(6, 1, v10), (0, 69, 0), (1, 0, x1), (2, 0, x2), (4, 0, x4), (5, 0, x5)]) E dX67_takeSegment_82 (by rw [hN]; decide) rfl ?_
      refine r_aload_n E dX67_takeSegment_84 rfl 1 rfl ?_
      refine r_get E zc_69 zt_6925 dX67_takeSegment_85 q3339 zr_69 (zg_6925 _) (by decide) (fun v11 => ?_)
      refine r_if_eq E 106 (by decide) dX67_takeSegment_88 (fun _ => ?_) (fun _ => ?_)
      · refine r_pick E [1, 2, 3, 4, 5] rfl ?_
        exact w_fX67_takeSegment_J106 E hN hT x1 x2 x4 x5 hr64
      · refine r_aload_n E dX67_takeSegment_91 rfl 1 rfl ?_
        refine r_gec (y := 0) E zc_69 dX67_takeSegment_92 q3231 zr_69 (zh_6816 (by decide)) (by decide) ?_
        refine r_sipush E dX67_takeSegment_95 (by decide) (zkI (by decide) (by decide)) ?_
        refine r_iload_n E dX67_takeSegment_98 rfl 2 rfl ?_
        refine r_imul E dX67_takeSegment_99 ?_
        refine r_iload E dX67_takeSegment_100 5 rfl ?_
        refine r_iadd E dX67_takeSegment_102 ?_
        refine r_lload E dX67_takeSegment_103 0 rfl ?_
        refine r_lastore E zc_6816 za_6816 zt_6816 zo_6816 zx_6816 rfl rfl dX67_takeSegment_105 (by decide) ?_
        refine r_pick E [1, 2, 3, 4, 5] rfl ?_
        exact w_fX67_takeSegment_J106 E hN hT x1 x2 x4 x5 hr64
theorem w_fX67_takeSegment_J61 {K : zK} (E : zE K cX67_takeSegment "RingHouseModel" (some .int) 3) (hN : zNl K = 8) (hT : zTr K = (some 0)) (x1 : Int) (x2 : Int) (x4 : Int) : zR K 61 [(0, 69, 0), (1, 0, x1), (2, 0, x2), (4, 0, x4)] [] (fX67_takeSegment_J61 x1 x2 x4) := by
  refine r_iconst E dX67_takeSegment_61 (zkI (by decide) (by decide)) ?_
  refine r_istore (ls' := [(5, 0, 0), (0, 69, 0), (1, 0, x1), (2, 0, x2), (4, 0, x4)]) E dX67_takeSegment_62 (by rw [hN]; decide) rfl ?_
  refine r_pick E [1, 2, 3, 4, 0] rfl ?_
  exact r_loop (L := fun s => [(0, 69, 0), (1, 0, x1), (2, 0, x2), (4, 0, x4), (5, 0, s)]) (w_fX67_takeSegment_B64 E hN hT x1 x2 x4) zBIG 0
theorem w_fX67_takeSegment {K : zK} (E : zE K cX67_takeSegment "RingHouseModel" (some .int) 3) (hN : zNl K = 8) (hT : zTr K = (some 0)) (x1 : Int) : zR K 0 [(0, 69, 0), (1, 0, x1)] [] (fX67_takeSegment x1) := by
  refine r_aload_n E dX67_takeSegment_0 rfl 0 rfl ?_
  refine r_iconst E dX67_takeSegment_1 (zkI (by decide) (by decide)) ?_
  refine r_bipush E dX67_takeSegment_2 (by decide) (zkI (by decide) (by decide)) ?_
  refine r_callV E [(0, 0), (0, 63)] [] rfl zc_69 zr_69 (fun o _ => ⟨_, zw_X67.1 o, rfl⟩) (lw_V q4355 q4357 qs211 q294 q4358) dX67_takeSegment_4 zy_X67_take rfl (by omega) (by decide) (Nat.le_of_ble_eq_true rfl) (by decide) (fun l G => k_fX67_take l G 0 63) (fun v1 => ?_)
  refine r_istore_n (ls' := [(2, 0, v1), (0, 69, 0), (1, 0, x1)]) E dX67_takeSegment_7 rfl (by rw [hN]; decide) rfl ?_
  refine r_aload_n E dX67_takeSegment_8 rfl 1 rfl ?_
  refine r_get E zc_69 zt_6912 dX67_takeSegment_9 q3326 zr_69 (zg_6912 _) (by decide) (fun v2 => ?_)
  refine r_istore_n (ls' := [(3, 0, v2), (2, 0, v1), (0, 69, 0), (1, 0, x1)]) E dX67_takeSegment_12 rfl (by rw [hN]; decide) rfl ?_
  refine r_sipush E dX67_takeSegment_13 (by decide) (zkI (by decide) (by decide)) ?_
  refine r_aload_n E dX67_takeSegment_16 rfl 2 rfl ?_
  refine r_iconst E dX67_takeSegment_17 (zkI (by decide) (by decide)) ?_
  refine r_sipush E dX67_takeSegment_18 (by decide) (zkI (by decide) (by decide)) ?_
  refine r_callV E [(0, 0), (0, 255)] [(0, 256)] rfl zc_69 zr_69 (fun o _ => ⟨_, zw_X67.1 o, rfl⟩) (lw_V q4355 q4357 qs211 q294 q4358) dX67_takeSegment_21 zy_X67_take rfl (by omega) (by decide) (Nat.le_of_ble_eq_true rfl) (by decide) (fun l G => k_fX67_take l G 0 255) (fun v3 => ?_)
  refine r_imul E dX67_takeSegment_24 ?_
  refine r_let E (fun v4 ev4 => ?_)
  refine r_istore (ls' := [(4, 0, v4), (3, 0, v2), (2, 0, v1), (0, 69, 0), (1, 0, x1)]) E dX67_takeSegment_25 (by rw [hN]; decide) rfl ?_
  refine r_iload E dX67_takeSegment_27 0 rfl ?_
  refine r_aload_n E dX67_takeSegment_29 rfl 3 rfl ?_
  refine r_iconst E dX67_takeSegment_30 (zkI (by decide) (by decide)) ?_
  refine r_sipush E dX67_takeSegment_31 (by decide) (zkI (by decide) (by decide)) ?_
  refine r_callV E [(0, 0), (0, 255)] [(0, v4)] rfl zc_69 zr_69 (fun o _ => ⟨_, zw_X67.1 o, rfl⟩) (lw_V q4355 q4357 qs211 q294 q4358) dX67_takeSegment_34 zy_X67_take rfl (by omega) (by decide) (Nat.le_of_ble_eq_true rfl) (by decide) (fun l G => k_fX67_take l G 0 255) (fun v5 => ?_)
  refine r_iadd E dX67_takeSegment_37 ?_
  refine r_let E (fun v6 ev6 => ?_)
  refine r_istore (ls' := [(4, 0, v6), (3, 0, v2), (2, 0, v1), (0, 69, 0), (1, 0, x1)]) E dX67_takeSegment_38 (by rw [hN]; decide) rfl ?_
  refine r_aload_n E dX67_takeSegment_40 rfl 3 rfl ?_
  refine r_get E zc_69 zt_6913 dX67_takeSegment_41 q3327 zr_69 (zg_6913 _) (by decide) (fun v7 => ?_)
  refine r_if_ne E 61 (by decide) dX67_takeSegment_44 (fun _ => ?_) (fun _ => ?_)
  · refine r_pick E [3, 4, 2, 0] rfl ?_
    exact w_fX67_takeSegment_J61 E hN hT x1 v1 v6
  · refine r_iload E dX67_takeSegment_47 0 rfl ?_
    refine r_sipush E dX67_takeSegment_49 (by decide) (zkI (by decide) (by decide)) ?_
    refine r_icmp_le E 61 (by decide) dX67_takeSegment_52 (fun _ => ?_) (fun _ => ?_)
    · refine r_pick E [3, 4, 2, 0] rfl ?_
      exact w_fX67_takeSegment_J61 E hN hT x1 v1 v6
    · refine r_aload_n E dX67_takeSegment_55 rfl 3 rfl ?_
      refine r_iconst E dX67_takeSegment_56 (zkI (by decide) (by decide)) ?_
      refine r_iload_n E dX67_takeSegment_57 rfl 1 rfl ?_
      refine r_callV E [(0, 3), (0, v2)] [] rfl zc_69 zr_69 (fun o _ => ⟨_, zw_X67.1 o, rfl⟩) (lw_V q4359 q4361 qs212 q294 q4362) dX67_takeSegment_58 zy_X67_torn rfl (by omega) (by decide) (Nat.le_of_ble_eq_true rfl) (by decide) (fun l G => k_fX67_torn l G 3 v2) (fun _ => ?_)
      refine r_pick E [3, 4, 2, 0] rfl ?_
      exact w_fX67_takeSegment_J61 E hN hT x1 v1 v6
theorem k_fX67_takeSegment (l : Launch) (G : zG) (x1 : Int) : zCt l G yX67_takeSegment cX67_takeSegment 8 (some .int) 3 [(69, 0), (0, x1)] (some 0) (fX67_takeSegment x1) := zCt.of (by decide) (Nat.le_of_ble_eq_true rfl) (fun K E _ _ hN hT => w_fX67_takeSegment E hN hT x1)
theorem dX67_takeDirectory_0 : decode cX67_takeDirectory 0 = .ok (.aload_n 0, 1) := by decide +kernel
theorem dX67_takeDirectory_1 : decode cX67_takeDirectory 1 = .ok (.getfield 1037, 3) := by decide +kernel
theorem dX67_takeDirectory_4 : decode cX67_takeDirectory 4 = .ok (.istore_n 2, 1) := by decide +kernel
theorem dX67_takeDirectory_5 : decode cX67_takeDirectory 5 = .ok (.aload_n 0, 1) := by decide +kernel
theorem dX67_takeDirectory_6 : decode cX67_takeDirectory 6 = .ok (.iconst 0, 1) := by decide +kernel
theorem dX67_takeDirectory_7 : decode cX67_takeDirectory 7 = .ok (.bipush 31, 2) := by decide +kernel
theorem dX67_takeDirectory_9 : decode cX67_takeDirectory 9 = .ok (.invokevirtual 1043, 3) := by decide +kernel
theorem dX67_takeDirectory_12 : decode cX67_takeDirectory 12 = .ok (.istore_n 3, 1) := by decide +kernel
theorem dX67_takeDirectory_13 : decode cX67_takeDirectory 13 = .ok (.aload_n 0, 1) := by decide +kernel
theorem dX67_takeDirectory_14 : decode cX67_takeDirectory 14 = .ok (.getfield 340, 3) := by decide +kernel
theorem dX67_takeDirectory_17 : decode cX67_takeDirectory 17 = .ok (.iload_n 1, 1) := by decide +kernel
theorem dX67_takeDirectory_18 : decode cX67_takeDirectory 18 = .ok (.iaload, 1) := by decide +kernel
theorem dX67_takeDirectory_19 : decode cX67_takeDirectory 19 = .ok (.istore 4, 2) := by decide +kernel
theorem dX67_takeDirectory_21 : decode cX67_takeDirectory 21 = .ok (.aload_n 0, 1) := by decide +kernel
theorem dX67_takeDirectory_22 : decode cX67_takeDirectory 22 = .ok (.getfield 1031, 3) := by decide +kernel
theorem dX67_takeDirectory_25 : decode cX67_takeDirectory 25 = .ok (.ifCond .ne 18, 3) := by decide +kernel
theorem dX67_takeDirectory_28 : decode cX67_takeDirectory 28 = .ok (.iload_n 3, 1) := by decide +kernel
theorem dX67_takeDirectory_29 : decode cX67_takeDirectory 29 = .ok (.iload 4, 2) := by decide +kernel
theorem dX67_takeDirectory_31 : decode cX67_takeDirectory 31 = .ok (.invokestatic 447, 3) := by decide +kernel
theorem dX67_takeDirectory_34 : decode cX67_takeDirectory 34 = .ok (.ifCond .ne 9, 3) := by decide +kernel
theorem dX67_takeDirectory_37 : decode cX67_takeDirectory 37 = .ok (.aload_n 0, 1) := by decide +kernel
theorem dX67_takeDirectory_38 : decode cX67_takeDirectory 38 = .ok (.iconst 5, 1) := by decide +kernel
theorem dX67_takeDirectory_39 : decode cX67_takeDirectory 39 = .ok (.iload_n 2, 1) := by decide +kernel
theorem dX67_takeDirectory_40 : decode cX67_takeDirectory 40 = .ok (.invokevirtual 1040, 3) := by decide +kernel
theorem dX67_takeDirectory_43 : decode cX67_takeDirectory 43 = .ok (.aload_n 0, 1) := by decide +kernel
theorem dX67_takeDirectory_44 : decode cX67_takeDirectory 44 = .ok (.getfield 1037, 3) := by decide +kernel
theorem dX67_takeDirectory_47 : decode cX67_takeDirectory 47 = .ok (.istore_n 2, 1) := by decide +kernel
theorem dX67_takeDirectory_48 : decode cX67_takeDirectory 48 = .ok (.aload_n 0, 1) := by decide +kernel
theorem dX67_takeDirectory_49 : decode cX67_takeDirectory 49 = .ok (.iconst 0, 1) := by decide +kernel
theorem dX67_takeDirectory_50 : decode cX67_takeDirectory 50 = .ok (.sipush 255, 3) := by decide +kernel
theorem dX67_takeDirectory_53 : decode cX67_takeDirectory 53 = .ok (.invokevirtual 1043, 3) := by decide +kernel
theorem dX67_takeDirectory_56 : decode cX67_takeDirectory 56 = .ok (.istore 5, 2) := by decide +kernel
theorem dX67_takeDirectory_58 : decode cX67_takeDirectory 58 = .ok (.aload_n 0, 1) := by decide +kernel
theorem dX67_takeDirectory_59 : decode cX67_takeDirectory 59 = .ok (.getfield 1031, 3) := by decide +kernel
theorem dX67_takeDirectory_62 : decode cX67_takeDirectory 62 = .ok (.ifCond .ne 20, 3) := by decide +kernel
theorem dX67_takeDirectory_65 : decode cX67_takeDirectory 65 = .ok (.iload_n 3, 1) := by decide +kernel
theorem dX67_takeDirectory_66 : decode cX67_takeDirectory 66 = .ok (.iload 4, 2) := by decide +kernel
theorem dX67_takeDirectory_68 : decode cX67_takeDirectory 68 = .ok (.if_icmp .eq 14, 3) := by decide +kernel
theorem dX67_takeDirectory_71 : decode cX67_takeDirectory 71 = .ok (.iload 5, 2) := by decide +kernel
theorem dX67_takeDirectory_73 : decode cX67_takeDirectory 73 = .ok (.ifCond .ne 9, 3) := by decide +kernel
theorem dX67_takeDirectory_76 : decode cX67_takeDirectory 76 = .ok (.aload_n 0, 1) := by decide +kernel
theorem dX67_takeDirectory_77 : decode cX67_takeDirectory 77 = .ok (.iconst 5, 1) := by decide +kernel
theorem dX67_takeDirectory_78 : decode cX67_takeDirectory 78 = .ok (.iload_n 2, 1) := by decide +kernel
theorem dX67_takeDirectory_79 : decode cX67_takeDirectory 79 = .ok (.invokevirtual 1040, 3) := by decide +kernel
theorem dX67_takeDirectory_82 : decode cX67_takeDirectory 82 = .ok (.aload_n 0, 1) := by decide +kernel
theorem dX67_takeDirectory_83 : decode cX67_takeDirectory 83 = .ok (.getfield 340, 3) := by decide +kernel
theorem dX67_takeDirectory_86 : decode cX67_takeDirectory 86 = .ok (.iload_n 1, 1) := by decide +kernel
theorem dX67_takeDirectory_87 : decode cX67_takeDirectory 87 = .ok (.iload_n 3, 1) := by decide +kernel
theorem dX67_takeDirectory_88 : decode cX67_takeDirectory 88 = .ok (.iastore, 1) := by decide +kernel
theorem dX67_takeDirectory_89 : decode cX67_takeDirectory 89 = .ok (.aload_n 0, 1) := by decide +kernel
theorem dX67_takeDirectory_90 : decode cX67_takeDirectory 90 = .ok (.getfield 343, 3) := by decide +kernel
theorem dX67_takeDirectory_93 : decode cX67_takeDirectory 93 = .ok (.iload_n 1, 1) := by decide +kernel
theorem dX67_takeDirectory_94 : decode cX67_takeDirectory 94 = .ok (.iload 5, 2) := by decide +kernel
theorem dX67_takeDirectory_96 : decode cX67_takeDirectory 96 = .ok (.iastore, 1) := by decide +kernel
theorem dX67_takeDirectory_97 : decode cX67_takeDirectory 97 = .ok (.return_, 1) := by decide +kernel
theorem zy_X67_takeDirectory : yX67_takeDirectory.cls ≠ "java/lang/invoke/MethodHandle" ∧ yX67_takeDirectory.cls ≠ "java/lang/invoke/VarHandle" ∧ (parseMethodDescriptor yX67_takeDirectory.desc).map (fun d => d.parameters.length) = some 1 := by decide +kernel
theorem w_fX67_takeDirectory_J82 {K : zK} (E : zE K cX67_takeDirectory "RingHouseModel" none 2) (hN : zNl K = 6) (hT : zTr K = none) (x1 : Int) (x3 : Int) (x5 : Int) : zR K 82 [(0, 69, 0), (1, 0, x1), (3, 0, x3), (5, 0, x5)] [] (fX67_takeDirectory_J82 x1 x3 x5) := by
  refine r_aload_n E dX67_takeDirectory_82 rfl 0 rfl ?_
  refine r_gec (y := 0) E zc_69 dX67_takeDirectory_83 q3334 zr_69 (zh_6920 (by decide)) (by decide) ?_
  refine r_iload_n E dX67_takeDirectory_86 rfl 1 rfl ?_
  refine r_iload_n E dX67_takeDirectory_87 rfl 2 rfl ?_
  refine r_iastore E zc_6920 za_6920 zt_6920 zo_6920 zx_6920 rfl rfl dX67_takeDirectory_88 (by decide) ?_
  refine r_aload_n E dX67_takeDirectory_89 rfl 0 rfl ?_
  refine r_gec (y := 0) E zc_69 dX67_takeDirectory_90 q3335 zr_69 (zh_6921 (by decide)) (by decide) ?_
  refine r_iload_n E dX67_takeDirectory_93 rfl 1 rfl ?_
  refine r_iload E dX67_takeDirectory_94 3 rfl ?_
  refine r_iastore E zc_6921 za_6921 zt_6921 zo_6921 zx_6921 rfl rfl dX67_takeDirectory_96 (by decide) ?_
  exact r_return E rfl hT dX67_takeDirectory_97
theorem w_fX67_takeDirectory_J43 {K : zK} (E : zE K cX67_takeDirectory "RingHouseModel" none 2) (hN : zNl K = 6) (hT : zTr K = none) (x1 : Int) (x3 : Int) (x4 : Int) : zR K 43 [(0, 69, 0), (1, 0, x1), (3, 0, x3), (4, 0, x4)] [] (fX67_takeDirectory_J43 x1 x3 x4) := by
  refine r_aload_n E dX67_takeDirectory_43 rfl 0 rfl ?_
  refine r_get E zc_69 zt_6912 dX67_takeDirectory_44 q3326 zr_69 (zg_6912 _) (by decide) (fun v5 => ?_)
  refine r_istore_n (ls' := [(2, 0, v5), (0, 69, 0), (1, 0, x1), (3, 0, x3), (4, 0, x4)]) E dX67_takeDirectory_47 rfl (by rw [hN]; decide) rfl ?_
  refine r_aload_n E dX67_takeDirectory_48 rfl 1 rfl ?_
  refine r_iconst E dX67_takeDirectory_49 (zkI (by decide) (by decide)) ?_
  refine r_sipush E dX67_takeDirectory_50 (by decide) (zkI (by decide) (by decide)) ?_
  refine r_callV E [(0, 0), (0, 255)] [] rfl zc_69 zr_69 (fun o _ => ⟨_, zw_X67.1 o, rfl⟩) (lw_V q4355 q4357 qs211 q294 q4358) dX67_takeDirectory_53 zy_X67_take rfl (by omega) (by decide) (Nat.le_of_ble_eq_true rfl) (by decide) (fun l G => k_fX67_take l G 0 255) (fun v6 => ?_)
  refine r_istore (ls' := [(5, 0, v6), (2, 0, v5), (0, 69, 0), (1, 0, x1), (3, 0, x3), (4, 0, x4)]) E dX67_takeDirectory_56 (by rw [hN]; decide) rfl ?_
  refine r_aload_n E dX67_takeDirectory_58 rfl 2 rfl ?_
  refine r_get E zc_69 zt_6913 dX67_takeDirectory_59 q3327 zr_69 (zg_6913 _) (by decide) (fun v7 => ?_)
  refine r_if_ne E 82 (by decide) dX67_takeDirectory_62 (fun _ => ?_) (fun _ => ?_)
  · refine r_pick E [2, 3, 4, 0] rfl ?_
    exact w_fX67_takeDirectory_J82 E hN hT x1 x3 v6
  · refine r_iload_n E dX67_takeDirectory_65 rfl 4 rfl ?_
    refine r_iload E dX67_takeDirectory_66 5 rfl ?_
    refine r_icmp_eq E 82 (by decide) dX67_takeDirectory_68 (fun _ => ?_) (fun _ => ?_)
    · refine r_pick E [2, 3, 4, 0] rfl ?_
      exact w_fX67_takeDirectory_J82 E hN hT x1 x3 v6
    · refine r_iload E dX67_takeDirectory_71 0 rfl ?_
      refine r_if_ne E 82 (by decide) dX67_takeDirectory_73 (fun _ => ?_) (fun _ => ?_)
      · refine r_pick E [2, 3, 4, 0] rfl ?_
        exact w_fX67_takeDirectory_J82 E hN hT x1 x3 v6
      · refine r_aload_n E dX67_takeDirectory_76 rfl 2 rfl ?_
        refine r_iconst E dX67_takeDirectory_77 (zkI (by decide) (by decide)) ?_
        refine r_iload_n E dX67_takeDirectory_78 rfl 1 rfl ?_
        refine r_callV E [(0, 5), (0, v5)] [] rfl zc_69 zr_69 (fun o _ => ⟨_, zw_X67.1 o, rfl⟩) (lw_V q4359 q4361 qs212 q294 q4362) dX67_takeDirectory_79 zy_X67_torn rfl (by omega) (by decide) (Nat.le_of_ble_eq_true rfl) (by decide) (fun l G => k_fX67_torn l G 5 v5) (fun _ => ?_)
        refine r_pick E [2, 3, 4, 0] rfl ?_
        exact w_fX67_takeDirectory_J82 E hN hT x1 x3 v6
theorem w_fX67_takeDirectory {K : zK} (E : zE K cX67_takeDirectory "RingHouseModel" none 2) (hN : zNl K = 6) (hT : zTr K = none) (x1 : Int) : zR K 0 [(0, 69, 0), (1, 0, x1)] [] (fX67_takeDirectory x1) := by
  refine r_aload_n E dX67_takeDirectory_0 rfl 0 rfl ?_
  refine r_get E zc_69 zt_6912 dX67_takeDirectory_1 q3326 zr_69 (zg_6912 _) (by decide) (fun v1 => ?_)
  refine r_istore_n (ls' := [(2, 0, v1), (0, 69, 0), (1, 0, x1)]) E dX67_takeDirectory_4 rfl (by rw [hN]; decide) rfl ?_
  refine r_aload_n E dX67_takeDirectory_5 rfl 1 rfl ?_
  refine r_iconst E dX67_takeDirectory_6 (zkI (by decide) (by decide)) ?_
  refine r_bipush E dX67_takeDirectory_7 (by decide) (zkI (by decide) (by decide)) ?_
  refine r_callV E [(0, 0), (0, 31)] [] rfl zc_69 zr_69 (fun o _ => ⟨_, zw_X67.1 o, rfl⟩) (lw_V q4355 q4357 qs211 q294 q4358) dX67_takeDirectory_9 zy_X67_take rfl (by omega) (by decide) (Nat.le_of_ble_eq_true rfl) (by decide) (fun l G => k_fX67_take l G 0 31) (fun v2 => ?_)
  refine r_istore_n (ls' := [(3, 0, v2), (2, 0, v1), (0, 69, 0), (1, 0, x1)]) E dX67_takeDirectory_12 rfl (by rw [hN]; decide) rfl ?_
  refine r_aload_n E dX67_takeDirectory_13 rfl 2 rfl ?_
  refine r_gec (y := 0) E zc_69 dX67_takeDirectory_14 q3334 zr_69 (zh_6920 (by decide)) (by decide) ?_
  refine r_iload_n E dX67_takeDirectory_17 rfl 3 rfl ?_
  refine r_iaload E zc_6920 za_6920 zt_6920 zx_6920 rfl rfl dX67_takeDirectory_18 (by decide) (fun v3 => ?_)
  refine r_istore (ls' := [(4, 0, v3), (3, 0, v2), (2, 0, v1), (0, 69, 0), (1, 0, x1)]) E dX67_takeDirectory_19 (by rw [hN]; decide) rfl ?_
  refine r_aload_n E dX67_takeDirectory_21 rfl 3 rfl ?_
  refine r_get E zc_69 zt_6913 dX67_takeDirectory_22 q3327 zr_69 (zg_6913 _) (by decide) (fun v4 => ?_)
  refine r_if_ne E 43 (by decide) dX67_takeDirectory_25 (fun _ => ?_) (fun _ => ?_)
  · refine r_pick E [3, 4, 1, 0] rfl ?_
    exact w_fX67_takeDirectory_J43 E hN hT x1 v2 v3
  · refine r_iload_n E dX67_takeDirectory_28 rfl 1 rfl ?_
    refine r_iload E dX67_takeDirectory_29 0 rfl ?_
    refine r_callS E [(0, v2), (0, v3)] [] rfl q3632 q3633 q294 q3634 dX67_takeDirectory_31 zy_X67_dominates rfl (by omega) (by decide) (Nat.le_of_ble_eq_true rfl) (fun l G => k_fX67_dominates l G v2 v3) (fun v9 => ?_)
    refine r_if_ne E 43 (by decide) dX67_takeDirectory_34 (fun _ => ?_) (fun _ => ?_)
    · refine r_pick E [3, 4, 1, 0] rfl ?_
      exact w_fX67_takeDirectory_J43 E hN hT x1 v2 v3
    · refine r_aload_n E dX67_takeDirectory_37 rfl 3 rfl ?_
      refine r_iconst E dX67_takeDirectory_38 (zkI (by decide) (by decide)) ?_
      refine r_iload_n E dX67_takeDirectory_39 rfl 2 rfl ?_
      refine r_callV E [(0, 5), (0, v1)] [] rfl zc_69 zr_69 (fun o _ => ⟨_, zw_X67.1 o, rfl⟩) (lw_V q4359 q4361 qs212 q294 q4362) dX67_takeDirectory_40 zy_X67_torn rfl (by omega) (by decide) (Nat.le_of_ble_eq_true rfl) (by decide) (fun l G => k_fX67_torn l G 5 v1) (fun _ => ?_)
      refine r_pick E [3, 4, 1, 0] rfl ?_
      exact w_fX67_takeDirectory_J43 E hN hT x1 v2 v3
theorem k_fX67_takeDirectory (l : Launch) (G : zG) (x1 : Int) : zCt l G yX67_takeDirectory cX67_takeDirectory 6 none 2 [(69, 0), (0, x1)] none (fX67_takeDirectory x1) := zCt.of (by decide) (Nat.le_of_ble_eq_true rfl) (fun K E _ _ hN hT => w_fX67_takeDirectory E hN hT x1)
theorem dX67_lengthAhead_0 : decode cX67_lengthAhead 0 = .ok (.sipush 256, 3) := by decide +kernel
theorem dX67_lengthAhead_3 : decode cX67_lengthAhead 3 = .ok (.aload_n 0, 1) := by decide +kernel
theorem dX67_lengthAhead_4 : decode cX67_lengthAhead 4 = .ok (.getfield 217, 3) := by decide +kernel
theorem dX67_lengthAhead_7 : decode cX67_lengthAhead 7 = .ok (.aload_n 0, 1) := by decide +kernel
theorem dX67_lengthAhead_8 : decode cX67_lengthAhead 8 = .ok (.getfield 1037, 3) := by decide +kernel
theorem dX67_lengthAhead_11 : decode cX67_lengthAhead 11 = .ok (.iconst 1, 1) := by decide +kernel
theorem dX67_lengthAhead_12 : decode cX67_lengthAhead 12 = .ok (.iadd, 1) := by decide +kernel
theorem dX67_lengthAhead_13 : decode cX67_lengthAhead 13 = .ok (.iaload, 1) := by decide +kernel
theorem dX67_lengthAhead_14 : decode cX67_lengthAhead 14 = .ok (.imul, 1) := by decide +kernel
theorem dX67_lengthAhead_15 : decode cX67_lengthAhead 15 = .ok (.aload_n 0, 1) := by decide +kernel
theorem dX67_lengthAhead_16 : decode cX67_lengthAhead 16 = .ok (.getfield 217, 3) := by decide +kernel
theorem dX67_lengthAhead_19 : decode cX67_lengthAhead 19 = .ok (.aload_n 0, 1) := by decide +kernel
theorem dX67_lengthAhead_20 : decode cX67_lengthAhead 20 = .ok (.getfield 1037, 3) := by decide +kernel
theorem dX67_lengthAhead_23 : decode cX67_lengthAhead 23 = .ok (.iconst 2, 1) := by decide +kernel
theorem dX67_lengthAhead_24 : decode cX67_lengthAhead 24 = .ok (.iadd, 1) := by decide +kernel
theorem dX67_lengthAhead_25 : decode cX67_lengthAhead 25 = .ok (.iaload, 1) := by decide +kernel
theorem dX67_lengthAhead_26 : decode cX67_lengthAhead 26 = .ok (.iadd, 1) := by decide +kernel
theorem dX67_lengthAhead_27 : decode cX67_lengthAhead 27 = .ok (.ireturn, 1) := by decide +kernel
theorem zy_X67_lengthAhead : yX67_lengthAhead.cls ≠ "java/lang/invoke/MethodHandle" ∧ yX67_lengthAhead.cls ≠ "java/lang/invoke/VarHandle" ∧ (parseMethodDescriptor yX67_lengthAhead.desc).map (fun d => d.parameters.length) = some 0 := by decide +kernel
theorem w_fX67_lengthAhead {K : zK} (E : zE K cX67_lengthAhead "RingHouseModel" (some .int) 0) (hN : zNl K = 1) (hT : zTr K = (some 0)) : zR K 0 [(0, 69, 0)] [] (fX67_lengthAhead) := by
  refine r_sipush E dX67_lengthAhead_0 (by decide) (zkI (by decide) (by decide)) ?_
  refine r_aload_n E dX67_lengthAhead_3 rfl 0 rfl ?_
  refine r_gec (y := 0) E zc_69 dX67_lengthAhead_4 q3288 zr_69 (zh_6873 (by decide)) (by decide) ?_
  refine r_aload_n E dX67_lengthAhead_7 rfl 0 rfl ?_
  refine r_get E zc_69 zt_6912 dX67_lengthAhead_8 q3326 zr_69 (zg_6912 _) (by decide) (fun v1 => ?_)
  refine r_iconst E dX67_lengthAhead_11 (zkI (by decide) (by decide)) ?_
  refine r_iadd E dX67_lengthAhead_12 ?_
  refine r_iaload E zc_6873 za_6873 zt_6873 zx_6873 rfl rfl dX67_lengthAhead_13 (by decide) (fun v2 => ?_)
  refine r_imul E dX67_lengthAhead_14 ?_
  refine r_aload_n E dX67_lengthAhead_15 rfl 0 rfl ?_
  refine r_gec (y := 0) E zc_69 dX67_lengthAhead_16 q3288 zr_69 (zh_6873 (by decide)) (by decide) ?_
  refine r_aload_n E dX67_lengthAhead_19 rfl 0 rfl ?_
  refine r_get E zc_69 zt_6912 dX67_lengthAhead_20 q3326 zr_69 (zg_6912 _) (by decide) (fun v3 => ?_)
  refine r_iconst E dX67_lengthAhead_23 (zkI (by decide) (by decide)) ?_
  refine r_iadd E dX67_lengthAhead_24 ?_
  refine r_iaload E zc_6873 za_6873 zt_6873 zx_6873 rfl rfl dX67_lengthAhead_25 (by decide) (fun v4 => ?_)
  refine r_iadd E dX67_lengthAhead_26 ?_
  exact r_ireturn E rfl hT dX67_lengthAhead_27
theorem k_fX67_lengthAhead (l : Launch) (G : zG) : zCt l G yX67_lengthAhead cX67_lengthAhead 1 (some .int) 0 [(69, 0)] (some 0) (fX67_lengthAhead) := zCt.of (by decide) (Nat.le_of_ble_eq_true rfl) (fun K E _ _ hN hT => w_fX67_lengthAhead E hN hT)
theorem dX67_makeRead_0 : decode cX67_makeRead 0 = .ok (.aload_n 0, 1) := by decide +kernel
theorem dX67_makeRead_1 : decode cX67_makeRead 1 = .ok (.getfield 331, 3) := by decide +kernel
theorem dX67_makeRead_4 : decode cX67_makeRead 4 = .ok (.iload_n 1, 1) := by decide +kernel
theorem dX67_makeRead_5 : decode cX67_makeRead 5 = .ok (.iaload, 1) := by decide +kernel
theorem dX67_makeRead_6 : decode cX67_makeRead 6 = .ok (.istore_n 3, 1) := by decide +kernel
theorem dX67_makeRead_7 : decode cX67_makeRead 7 = .ok (.iload_n 3, 1) := by decide +kernel
theorem dX67_makeRead_8 : decode cX67_makeRead 8 = .ok (.ifCond .ge 10, 3) := by decide +kernel
theorem dX67_makeRead_11 : decode cX67_makeRead 11 = .ok (.aload_n 0, 1) := by decide +kernel
theorem dX67_makeRead_12 : decode cX67_makeRead 12 = .ok (.getfield 1052, 3) := by decide +kernel
theorem dX67_makeRead_15 : decode cX67_makeRead 15 = .ok (.goto 9, 3) := by decide +kernel
theorem dX67_makeRead_18 : decode cX67_makeRead 18 = .ok (.aload_n 0, 1) := by decide +kernel
theorem dX67_makeRead_19 : decode cX67_makeRead 19 = .ok (.getfield 352, 3) := by decide +kernel
theorem dX67_makeRead_22 : decode cX67_makeRead 22 = .ok (.iload_n 3, 1) := by decide +kernel
theorem dX67_makeRead_23 : decode cX67_makeRead 23 = .ok (.iaload, 1) := by decide +kernel
theorem dX67_makeRead_24 : decode cX67_makeRead 24 = .ok (.istore 4, 2) := by decide +kernel
theorem dX67_makeRead_26 : decode cX67_makeRead 26 = .ok (.aload_n 0, 1) := by decide +kernel
theorem dX67_makeRead_27 : decode cX67_makeRead 27 = .ok (.iload_n 2, 1) := by decide +kernel
theorem dX67_makeRead_28 : decode cX67_makeRead 28 = .ok (.iconst 1, 1) := by decide +kernel
theorem dX67_makeRead_29 : decode cX67_makeRead 29 = .ok (.iadd, 1) := by decide +kernel
theorem dX67_makeRead_30 : decode cX67_makeRead 30 = .ok (.iconst 3, 1) := by decide +kernel
theorem dX67_makeRead_31 : decode cX67_makeRead 31 = .ok (.aload_n 0, 1) := by decide +kernel
theorem dX67_makeRead_32 : decode cX67_makeRead 32 = .ok (.getfield 217, 3) := by decide +kernel
theorem dX67_makeRead_35 : decode cX67_makeRead 35 = .ok (.iload_n 2, 1) := by decide +kernel
theorem dX67_makeRead_36 : decode cX67_makeRead 36 = .ok (.iaload, 1) := by decide +kernel
theorem dX67_makeRead_37 : decode cX67_makeRead 37 = .ok (.imul, 1) := by decide +kernel
theorem dX67_makeRead_38 : decode cX67_makeRead 38 = .ok (.iadd, 1) := by decide +kernel
theorem dX67_makeRead_39 : decode cX67_makeRead 39 = .ok (.putfield 1037, 3) := by decide +kernel
theorem dX67_makeRead_42 : decode cX67_makeRead 42 = .ok (.aload_n 0, 1) := by decide +kernel
theorem dX67_makeRead_43 : decode cX67_makeRead 43 = .ok (.getfield 334, 3) := by decide +kernel
theorem dX67_makeRead_46 : decode cX67_makeRead 46 = .ok (.iload_n 1, 1) := by decide +kernel
theorem dX67_makeRead_47 : decode cX67_makeRead 47 = .ok (.iaload, 1) := by decide +kernel
theorem dX67_makeRead_48 : decode cX67_makeRead 48 = .ok (.iconst 1, 1) := by decide +kernel
theorem dX67_makeRead_49 : decode cX67_makeRead 49 = .ok (.if_icmp .ne 15, 3) := by decide +kernel
theorem dX67_makeRead_52 : decode cX67_makeRead 52 = .ok (.aload_n 0, 1) := by decide +kernel
theorem dX67_makeRead_53 : decode cX67_makeRead 53 = .ok (.getfield 217, 3) := by decide +kernel
theorem dX67_makeRead_56 : decode cX67_makeRead 56 = .ok (.aload_n 0, 1) := by decide +kernel
theorem dX67_makeRead_57 : decode cX67_makeRead 57 = .ok (.getfield 1037, 3) := by decide +kernel
theorem dX67_makeRead_60 : decode cX67_makeRead 60 = .ok (.iaload, 1) := by decide +kernel
theorem dX67_makeRead_61 : decode cX67_makeRead 61 = .ok (.goto 10, 3) := by decide +kernel
theorem dX67_makeRead_64 : decode cX67_makeRead 64 = .ok (.aload_n 0, 1) := by decide +kernel
theorem dX67_makeRead_65 : decode cX67_makeRead 65 = .ok (.getfield 20, 3) := by decide +kernel
theorem dX67_makeRead_68 : decode cX67_makeRead 68 = .ok (.iload 4, 2) := by decide +kernel
theorem dX67_makeRead_70 : decode cX67_makeRead 70 = .ok (.iaload, 1) := by decide +kernel
theorem dX67_makeRead_71 : decode cX67_makeRead 71 = .ok (.istore 5, 2) := by decide +kernel
theorem dX67_makeRead_73 : decode cX67_makeRead 73 = .ok (.aload_n 0, 1) := by decide +kernel
theorem dX67_makeRead_74 : decode cX67_makeRead 74 = .ok (.getfield 334, 3) := by decide +kernel
theorem dX67_makeRead_77 : decode cX67_makeRead 77 = .ok (.iload_n 1, 1) := by decide +kernel
theorem dX67_makeRead_78 : decode cX67_makeRead 78 = .ok (.iaload, 1) := by decide +kernel
theorem dX67_makeRead_79 : decode cX67_makeRead 79 = .ok (.iconst 1, 1) := by decide +kernel
theorem dX67_makeRead_80 : decode cX67_makeRead 80 = .ok (.if_icmp .ne 17, 3) := by decide +kernel
theorem dX67_makeRead_83 : decode cX67_makeRead 83 = .ok (.aload_n 0, 1) := by decide +kernel
theorem dX67_makeRead_84 : decode cX67_makeRead 84 = .ok (.getfield 217, 3) := by decide +kernel
theorem dX67_makeRead_87 : decode cX67_makeRead 87 = .ok (.aload_n 0, 1) := by decide +kernel
theorem dX67_makeRead_88 : decode cX67_makeRead 88 = .ok (.getfield 1037, 3) := by decide +kernel
theorem dX67_makeRead_91 : decode cX67_makeRead 91 = .ok (.iconst 1, 1) := by decide +kernel
theorem dX67_makeRead_92 : decode cX67_makeRead 92 = .ok (.iadd, 1) := by decide +kernel
theorem dX67_makeRead_93 : decode cX67_makeRead 93 = .ok (.iaload, 1) := by decide +kernel
theorem dX67_makeRead_94 : decode cX67_makeRead 94 = .ok (.goto 21, 3) := by decide +kernel
theorem dX67_makeRead_97 : decode cX67_makeRead 97 = .ok (.aload_n 0, 1) := by decide +kernel
theorem dX67_makeRead_98 : decode cX67_makeRead 98 = .ok (.getfield 334, 3) := by decide +kernel
theorem dX67_makeRead_101 : decode cX67_makeRead 101 = .ok (.iload_n 1, 1) := by decide +kernel
theorem dX67_makeRead_102 : decode cX67_makeRead 102 = .ok (.iaload, 1) := by decide +kernel
theorem dX67_makeRead_103 : decode cX67_makeRead 103 = .ok (.iconst 2, 1) := by decide +kernel
theorem dX67_makeRead_104 : decode cX67_makeRead 104 = .ok (.if_icmp .ne 10, 3) := by decide +kernel
theorem dX67_makeRead_107 : decode cX67_makeRead 107 = .ok (.aload_n 0, 1) := by decide +kernel
theorem dX67_makeRead_108 : decode cX67_makeRead 108 = .ok (.invokevirtual 1089, 3) := by decide +kernel
theorem dX67_makeRead_111 : decode cX67_makeRead 111 = .ok (.goto 4, 3) := by decide +kernel
theorem dX67_makeRead_114 : decode cX67_makeRead 114 = .ok (.iconst 0, 1) := by decide +kernel
theorem dX67_makeRead_115 : decode cX67_makeRead 115 = .ok (.istore 6, 2) := by decide +kernel
theorem dX67_makeRead_117 : decode cX67_makeRead 117 = .ok (.aload_n 0, 1) := by decide +kernel
theorem dX67_makeRead_118 : decode cX67_makeRead 118 = .ok (.getfield 352, 3) := by decide +kernel
theorem dX67_makeRead_121 : decode cX67_makeRead 121 = .ok (.iload_n 1, 1) := by decide +kernel
theorem dX67_makeRead_122 : decode cX67_makeRead 122 = .ok (.aload_n 0, 1) := by decide +kernel
theorem dX67_makeRead_123 : decode cX67_makeRead 123 = .ok (.aload_n 0, 1) := by decide +kernel
theorem dX67_makeRead_124 : decode cX67_makeRead 124 = .ok (.getfield 334, 3) := by decide +kernel
theorem dX67_makeRead_127 : decode cX67_makeRead 127 = .ok (.iload_n 1, 1) := by decide +kernel
theorem dX67_makeRead_128 : decode cX67_makeRead 128 = .ok (.iaload, 1) := by decide +kernel
theorem dX67_makeRead_129 : decode cX67_makeRead 129 = .ok (.iload 4, 2) := by decide +kernel
theorem dX67_makeRead_131 : decode cX67_makeRead 131 = .ok (.aload_n 0, 1) := by decide +kernel
theorem dX67_makeRead_132 : decode cX67_makeRead 132 = .ok (.getfield 337, 3) := by decide +kernel
theorem dX67_makeRead_135 : decode cX67_makeRead 135 = .ok (.iload_n 1, 1) := by decide +kernel
theorem dX67_makeRead_136 : decode cX67_makeRead 136 = .ok (.laload, 1) := by decide +kernel
theorem dX67_makeRead_137 : decode cX67_makeRead 137 = .ok (.iload 5, 2) := by decide +kernel
theorem dX67_makeRead_139 : decode cX67_makeRead 139 = .ok (.iload 6, 2) := by decide +kernel
theorem dX67_makeRead_141 : decode cX67_makeRead 141 = .ok (.invokevirtual 457, 3) := by decide +kernel
theorem dX67_makeRead_144 : decode cX67_makeRead 144 = .ok (.iastore, 1) := by decide +kernel
theorem dX67_makeRead_145 : decode cX67_makeRead 145 = .ok (.aload_n 0, 1) := by decide +kernel
theorem dX67_makeRead_146 : decode cX67_makeRead 146 = .ok (.getfield 352, 3) := by decide +kernel
theorem dX67_makeRead_149 : decode cX67_makeRead 149 = .ok (.iload_n 1, 1) := by decide +kernel
theorem dX67_makeRead_150 : decode cX67_makeRead 150 = .ok (.iaload, 1) := by decide +kernel
theorem dX67_makeRead_151 : decode cX67_makeRead 151 = .ok (.ireturn, 1) := by decide +kernel
theorem zy_X67_makeRead : yX67_makeRead.cls ≠ "java/lang/invoke/MethodHandle" ∧ yX67_makeRead.cls ≠ "java/lang/invoke/VarHandle" ∧ (parseMethodDescriptor yX67_makeRead.desc).map (fun d => d.parameters.length) = some 2 := by decide +kernel
theorem w_fX67_makeRead_J115 {K : zK} (E : zE K cX67_makeRead "RingHouseModel" (some .int) 2) (hN : zNl K = 7) (hT : zTr K = (some 0)) (x1 : Int) (x4 : Int) (x5 : Int) (s0 : Int) : zR K 115 [(0, 69, 0), (1, 0, x1), (4, 0, x4), (5, 0, x5)] [(0, s0)] (fX67_makeRead_J115 x1 x4 x5 s0) := by
  refine r_istore (ls' := [(6, 0, s0), (0, 69, 0), (1, 0, x1), (4, 0, x4), (5, 0, x5)]) E dX67_makeRead_115 (by rw [hN]; decide) rfl ?_
  refine r_aload_n E dX67_makeRead_117 rfl 1 rfl ?_
  refine r_gec (y := 0) E zc_69 dX67_makeRead_118 q3338 zr_69 (zh_6924 (by decide)) (by decide) ?_
  refine r_iload_n E dX67_makeRead_121 rfl 2 rfl ?_
  refine r_aload_n E dX67_makeRead_122 rfl 1 rfl ?_
  refine r_aload_n E dX67_makeRead_123 rfl 1 rfl ?_
  refine r_gec (y := 0) E zc_69 dX67_makeRead_124 q3332 zr_69 (zh_6918 (by decide)) (by decide) ?_
  refine r_iload_n E dX67_makeRead_127 rfl 2 rfl ?_
  refine r_iaload E zc_6918 za_6918 zt_6918 zx_6918 rfl rfl dX67_makeRead_128 (by decide) (fun v8 => ?_)
  refine r_iload E dX67_makeRead_129 3 rfl ?_
  refine r_aload_n E dX67_makeRead_131 rfl 1 rfl ?_
  refine r_gec (y := 0) E zc_69 dX67_makeRead_132 q3333 zr_69 (zh_6919 (by decide)) (by decide) ?_
  refine r_iload_n E dX67_makeRead_135 rfl 2 rfl ?_
  refine r_laload E zc_6919 za_6919 zt_6919 zx_6919 rfl rfl dX67_makeRead_136 (by decide) (fun v9 => ?_)
  refine r_iload E dX67_makeRead_137 4 rfl ?_
  refine r_iload E dX67_makeRead_139 0 rfl ?_
  refine r_callV E [(0, v8), (0, x4), (1, v9), (0, x5), (0, s0)] [(0, x1), (6924, 0)] rfl zc_69 zr_69 (fun o _ => ⟨_, zw_X67.1 o, rfl⟩) (lw_V q3650 q3652 qs97 q294 q3653) dX67_makeRead_141 zy_X67_make rfl (by omega) (by decide) (Nat.le_of_ble_eq_true rfl) (by decide) (fun l G => k_fX67_make l G v8 x4 v9 x5 s0) (fun v10 => ?_)
  refine r_iastore E zc_6924 za_6924 zt_6924 zo_6924 zx_6924 rfl rfl dX67_makeRead_144 (by decide) ?_
  refine r_aload_n E dX67_makeRead_145 rfl 1 rfl ?_
  refine r_gec (y := 0) E zc_69 dX67_makeRead_146 q3338 zr_69 (zh_6924 (by decide)) (by decide) ?_
  refine r_iload_n E dX67_makeRead_149 rfl 2 rfl ?_
  refine r_iaload E zc_6924 za_6924 zt_6924 zx_6924 rfl rfl dX67_makeRead_150 (by decide) (fun v11 => ?_)
  exact r_ireturn E rfl hT dX67_makeRead_151
theorem w_fX67_makeRead_J71 {K : zK} (E : zE K cX67_makeRead "RingHouseModel" (some .int) 2) (hN : zNl K = 7) (hT : zTr K = (some 0)) (x1 : Int) (x4 : Int) (s0 : Int) : zR K 71 [(0, 69, 0), (1, 0, x1), (4, 0, x4)] [(0, s0)] (fX67_makeRead_J71 x1 x4 s0) := by
  refine r_istore (ls' := [(5, 0, s0), (0, 69, 0), (1, 0, x1), (4, 0, x4)]) E dX67_makeRead_71 (by rw [hN]; decide) rfl ?_
  refine r_aload_n E dX67_makeRead_73 rfl 1 rfl ?_
  refine r_gec (y := 0) E zc_69 dX67_makeRead_74 q3332 zr_69 (zh_6918 (by decide)) (by decide) ?_
  refine r_iload_n E dX67_makeRead_77 rfl 2 rfl ?_
  refine r_iaload E zc_6918 za_6918 zt_6918 zx_6918 rfl rfl dX67_makeRead_78 (by decide) (fun v6 => ?_)
  refine r_iconst E dX67_makeRead_79 (zkI (by decide) (by decide)) ?_
  refine r_icmp_ne E 97 (by decide) dX67_makeRead_80 (fun _ => ?_) (fun _ => ?_)
  · refine r_aload_n E dX67_makeRead_97 rfl 1 rfl ?_
    refine r_gec (y := 0) E zc_69 dX67_makeRead_98 q3332 zr_69 (zh_6918 (by decide)) (by decide) ?_
    refine r_iload_n E dX67_makeRead_101 rfl 2 rfl ?_
    refine r_iaload E zc_6918 za_6918 zt_6918 zx_6918 rfl rfl dX67_makeRead_102 (by decide) (fun v7 => ?_)
    refine r_iconst E dX67_makeRead_103 (zkI (by decide) (by decide)) ?_
    refine r_icmp_ne E 114 (by decide) dX67_makeRead_104 (fun _ => ?_) (fun _ => ?_)
    · refine r_iconst E dX67_makeRead_114 (zkI (by decide) (by decide)) ?_
      refine r_pick E [1, 2, 3, 0] rfl ?_
      exact w_fX67_makeRead_J115 E hN hT x1 x4 s0 0
    · refine r_aload_n E dX67_makeRead_107 rfl 1 rfl ?_
      refine r_callV E [] [] rfl zc_69 zr_69 (fun o _ => ⟨_, zw_X67.1 o, rfl⟩) (lw_V q4387 q4389 qs219 q294 q4390) dX67_makeRead_108 zy_X67_lengthAhead rfl (by omega) (by decide) (Nat.le_of_ble_eq_true rfl) (by decide) (fun l G => k_fX67_lengthAhead l G) (fun v12 => ?_)
      refine r_goto E 115 (by decide) dX67_makeRead_111 ?_
      refine r_pick E [1, 2, 3, 0] rfl ?_
      exact w_fX67_makeRead_J115 E hN hT x1 x4 s0 v12
  · refine r_aload_n E dX67_makeRead_83 rfl 1 rfl ?_
    refine r_gec (y := 0) E zc_69 dX67_makeRead_84 q3288 zr_69 (zh_6873 (by decide)) (by decide) ?_
    refine r_aload_n E dX67_makeRead_87 rfl 1 rfl ?_
    refine r_get E zc_69 zt_6912 dX67_makeRead_88 q3326 zr_69 (zg_6912 _) (by decide) (fun v13 => ?_)
    refine r_iconst E dX67_makeRead_91 (zkI (by decide) (by decide)) ?_
    refine r_iadd E dX67_makeRead_92 ?_
    refine r_iaload E zc_6873 za_6873 zt_6873 zx_6873 rfl rfl dX67_makeRead_93 (by decide) (fun v14 => ?_)
    refine r_goto E 115 (by decide) dX67_makeRead_94 ?_
    refine r_pick E [1, 2, 3, 0] rfl ?_
    exact w_fX67_makeRead_J115 E hN hT x1 x4 s0 v14
theorem w_fX67_makeRead_J24 {K : zK} (E : zE K cX67_makeRead "RingHouseModel" (some .int) 2) (hN : zNl K = 7) (hT : zTr K = (some 0)) (x1 : Int) (x2 : Int) (s0 : Int) : zR K 24 [(0, 69, 0), (1, 0, x1), (2, 0, x2)] [(0, s0)] (fX67_makeRead_J24 x1 x2 s0) := by
  refine r_istore (ls' := [(4, 0, s0), (0, 69, 0), (1, 0, x1), (2, 0, x2)]) E dX67_makeRead_24 (by rw [hN]; decide) rfl ?_
  refine r_aload_n E dX67_makeRead_26 rfl 1 rfl ?_
  refine r_iload_n E dX67_makeRead_27 rfl 3 rfl ?_
  refine r_iconst E dX67_makeRead_28 (zkI (by decide) (by decide)) ?_
  refine r_iadd E dX67_makeRead_29 ?_
  refine r_iconst E dX67_makeRead_30 (zkI (by decide) (by decide)) ?_
  refine r_aload_n E dX67_makeRead_31 rfl 1 rfl ?_
  refine r_gec (y := 0) E zc_69 dX67_makeRead_32 q3288 zr_69 (zh_6873 (by decide)) (by decide) ?_
  refine r_iload_n E dX67_makeRead_35 rfl 3 rfl ?_
  refine r_iaload E zc_6873 za_6873 zt_6873 zx_6873 rfl rfl dX67_makeRead_36 (by decide) (fun v3 => ?_)
  refine r_imul E dX67_makeRead_37 ?_
  refine r_iadd E dX67_makeRead_38 ?_
  refine r_put E zc_69 zt_6912 zo_6912 dX67_makeRead_39 q3326 zr_69 zw_X67 zp_6912 (fun _ => rfl) (fun _ => rfl) (by decide) ?_
  refine r_aload_n E dX67_makeRead_42 rfl 1 rfl ?_
  refine r_gec (y := 0) E zc_69 dX67_makeRead_43 q3332 zr_69 (zh_6918 (by decide)) (by decide) ?_
  refine r_iload_n E dX67_makeRead_46 rfl 2 rfl ?_
  refine r_iaload E zc_6918 za_6918 zt_6918 zx_6918 rfl rfl dX67_makeRead_47 (by decide) (fun v4 => ?_)
  refine r_iconst E dX67_makeRead_48 (zkI (by decide) (by decide)) ?_
  refine r_icmp_ne E 64 (by decide) dX67_makeRead_49 (fun _ => ?_) (fun _ => ?_)
  · refine r_aload_n E dX67_makeRead_64 rfl 1 rfl ?_
    refine r_gec (y := 0) E zc_69 dX67_makeRead_65 q3218 zr_69 (zh_6803 (by decide)) (by decide) ?_
    refine r_iload E dX67_makeRead_68 0 rfl ?_
    refine r_iaload E zc_6803 za_6803 zt_6803 zx_6803 rfl rfl dX67_makeRead_70 (by decide) (fun v5 => ?_)
    refine r_pick E [1, 2, 0] rfl ?_
    exact w_fX67_makeRead_J71 E hN hT x1 s0 v5
  · refine r_aload_n E dX67_makeRead_52 rfl 1 rfl ?_
    refine r_gec (y := 0) E zc_69 dX67_makeRead_53 q3288 zr_69 (zh_6873 (by decide)) (by decide) ?_
    refine r_aload_n E dX67_makeRead_56 rfl 1 rfl ?_
    refine r_get E zc_69 zt_6912 dX67_makeRead_57 q3326 zr_69 (zg_6912 _) (by decide) (fun v15 => ?_)
    refine r_iaload E zc_6873 za_6873 zt_6873 zx_6873 rfl rfl dX67_makeRead_60 (by decide) (fun v16 => ?_)
    refine r_goto E 71 (by decide) dX67_makeRead_61 ?_
    refine r_pick E [1, 2, 0] rfl ?_
    exact w_fX67_makeRead_J71 E hN hT x1 s0 v16
theorem w_fX67_makeRead {K : zK} (E : zE K cX67_makeRead "RingHouseModel" (some .int) 2) (hN : zNl K = 7) (hT : zTr K = (some 0)) (x1 : Int) (x2 : Int) : zR K 0 [(0, 69, 0), (1, 0, x1), (2, 0, x2)] [] (fX67_makeRead x1 x2) := by
  refine r_aload_n E dX67_makeRead_0 rfl 0 rfl ?_
  refine r_gec (y := 0) E zc_69 dX67_makeRead_1 q3331 zr_69 (zh_6917 (by decide)) (by decide) ?_
  refine r_iload_n E dX67_makeRead_4 rfl 1 rfl ?_
  refine r_iaload E zc_6917 za_6917 zt_6917 zx_6917 rfl rfl dX67_makeRead_5 (by decide) (fun v1 => ?_)
  refine r_istore_n (ls' := [(3, 0, v1), (0, 69, 0), (1, 0, x1), (2, 0, x2)]) E dX67_makeRead_6 rfl (by rw [hN]; decide) rfl ?_
  refine r_iload_n E dX67_makeRead_7 rfl 0 rfl ?_
  refine r_if_ge E 18 (by decide) dX67_makeRead_8 (fun _ => ?_) (fun _ => ?_)
  · refine r_aload_n E dX67_makeRead_18 rfl 1 rfl ?_
    refine r_gec (y := 0) E zc_69 dX67_makeRead_19 q3338 zr_69 (zh_6924 (by decide)) (by decide) ?_
    refine r_iload_n E dX67_makeRead_22 rfl 0 rfl ?_
    refine r_iaload E zc_6924 za_6924 zt_6924 zx_6924 rfl rfl dX67_makeRead_23 (by decide) (fun v2 => ?_)
    refine r_pick E [1, 2, 3] rfl ?_
    exact w_fX67_makeRead_J24 E hN hT x1 x2 v2
  · refine r_aload_n E dX67_makeRead_11 rfl 1 rfl ?_
    refine r_get E zc_69 zt_6926 dX67_makeRead_12 q3340 zr_69 (zg_6926 _) (by decide) (fun v17 => ?_)
    refine r_goto E 24 (by decide) dX67_makeRead_15 ?_
    refine r_pick E [1, 2, 3] rfl ?_
    exact w_fX67_makeRead_J24 E hN hT x1 x2 v17
theorem k_fX67_makeRead (l : Launch) (G : zG) (x1 : Int) (x2 : Int) : zCt l G yX67_makeRead cX67_makeRead 7 (some .int) 2 [(69, 0), (0, x1), (0, x2)] (some 0) (fX67_makeRead x1 x2) := zCt.of (by decide) (Nat.le_of_ble_eq_true rfl) (fun K E _ _ hN hT => w_fX67_makeRead E hN hT x1 x2)
theorem dX67_takeNode_0 : decode cX67_takeNode 0 = .ok (.aload_n 0, 1) := by decide +kernel
theorem dX67_takeNode_1 : decode cX67_takeNode 1 = .ok (.iload_n 1, 1) := by decide +kernel
theorem dX67_takeNode_2 : decode cX67_takeNode 2 = .ok (.invokevirtual 1068, 3) := by decide +kernel
theorem dX67_takeNode_5 : decode cX67_takeNode 5 = .ok (.istore_n 2, 1) := by decide +kernel
theorem dX67_takeNode_6 : decode cX67_takeNode 6 = .ok (.aload_n 0, 1) := by decide +kernel
theorem dX67_takeNode_7 : decode cX67_takeNode 7 = .ok (.iconst 0, 1) := by decide +kernel
theorem dX67_takeNode_8 : decode cX67_takeNode 8 = .ok (.bipush 7, 2) := by decide +kernel
theorem dX67_takeNode_10 : decode cX67_takeNode 10 = .ok (.invokevirtual 1043, 3) := by decide +kernel
theorem dX67_takeNode_13 : decode cX67_takeNode 13 = .ok (.istore_n 3, 1) := by decide +kernel
theorem dX67_takeNode_14 : decode cX67_takeNode 14 = .ok (.aload_n 0, 1) := by decide +kernel
theorem dX67_takeNode_15 : decode cX67_takeNode 15 = .ok (.iload_n 3, 1) := by decide +kernel
theorem dX67_takeNode_16 : decode cX67_takeNode 16 = .ok (.bipush 7, 2) := by decide +kernel
theorem dX67_takeNode_18 : decode cX67_takeNode 18 = .ok (.invokevirtual 1043, 3) := by decide +kernel
theorem dX67_takeNode_21 : decode cX67_takeNode 21 = .ok (.istore 4, 2) := by decide +kernel
theorem dX67_takeNode_23 : decode cX67_takeNode 23 = .ok (.aload_n 0, 1) := by decide +kernel
theorem dX67_takeNode_24 : decode cX67_takeNode 24 = .ok (.iload 4, 2) := by decide +kernel
theorem dX67_takeNode_26 : decode cX67_takeNode 26 = .ok (.bipush 7, 2) := by decide +kernel
theorem dX67_takeNode_28 : decode cX67_takeNode 28 = .ok (.invokevirtual 1043, 3) := by decide +kernel
theorem dX67_takeNode_31 : decode cX67_takeNode 31 = .ok (.istore 5, 2) := by decide +kernel
theorem dX67_takeNode_33 : decode cX67_takeNode 33 = .ok (.aload_n 0, 1) := by decide +kernel
theorem dX67_takeNode_34 : decode cX67_takeNode 34 = .ok (.getfield 1037, 3) := by decide +kernel
theorem dX67_takeNode_37 : decode cX67_takeNode 37 = .ok (.istore 6, 2) := by decide +kernel
theorem dX67_takeNode_39 : decode cX67_takeNode 39 = .ok (.iconst (-1), 1) := by decide +kernel
theorem dX67_takeNode_40 : decode cX67_takeNode 40 = .ok (.istore 7, 2) := by decide +kernel
theorem dX67_takeNode_42 : decode cX67_takeNode 42 = .ok (.aload_n 0, 1) := by decide +kernel
theorem dX67_takeNode_43 : decode cX67_takeNode 43 = .ok (.getfield 1046, 3) := by decide +kernel
theorem dX67_takeNode_46 : decode cX67_takeNode 46 = .ok (.ifCond .eq 29, 3) := by decide +kernel
theorem dX67_takeNode_49 : decode cX67_takeNode 49 = .ok (.aload_n 0, 1) := by decide +kernel
theorem dX67_takeNode_50 : decode cX67_takeNode 50 = .ok (.iload_n 2, 1) := by decide +kernel
theorem dX67_takeNode_51 : decode cX67_takeNode 51 = .ok (.iload 6, 2) := by decide +kernel
theorem dX67_takeNode_53 : decode cX67_takeNode 53 = .ok (.invokevirtual 1071, 3) := by decide +kernel
theorem dX67_takeNode_56 : decode cX67_takeNode 56 = .ok (.istore 7, 2) := by decide +kernel
theorem dX67_takeNode_58 : decode cX67_takeNode 58 = .ok (.aload_n 0, 1) := by decide +kernel
theorem dX67_takeNode_59 : decode cX67_takeNode 59 = .ok (.iload 7, 2) := by decide +kernel
theorem dX67_takeNode_61 : decode cX67_takeNode 61 = .ok (.iload_n 3, 1) := by decide +kernel
theorem dX67_takeNode_62 : decode cX67_takeNode 62 = .ok (.iload 4, 2) := by decide +kernel
theorem dX67_takeNode_64 : decode cX67_takeNode 64 = .ok (.iload 5, 2) := by decide +kernel
theorem dX67_takeNode_66 : decode cX67_takeNode 66 = .ok (.invokevirtual 402, 3) := by decide +kernel
theorem dX67_takeNode_69 : decode cX67_takeNode 69 = .ok (.aload_n 0, 1) := by decide +kernel
theorem dX67_takeNode_70 : decode cX67_takeNode 70 = .ok (.iload 6, 2) := by decide +kernel
theorem dX67_takeNode_72 : decode cX67_takeNode 72 = .ok (.putfield 1037, 3) := by decide +kernel
theorem dX67_takeNode_75 : decode cX67_takeNode 75 = .ok (.aload_n 0, 1) := by decide +kernel
theorem dX67_takeNode_76 : decode cX67_takeNode 76 = .ok (.bipush 6, 2) := by decide +kernel
theorem dX67_takeNode_78 : decode cX67_takeNode 78 = .ok (.iload 7, 2) := by decide +kernel
theorem dX67_takeNode_80 : decode cX67_takeNode 80 = .ok (.bipush 18, 2) := by decide +kernel
theorem dX67_takeNode_82 : decode cX67_takeNode 82 = .ok (.iload 7, 2) := by decide +kernel
theorem dX67_takeNode_84 : decode cX67_takeNode 84 = .ok (.imul, 1) := by decide +kernel
theorem dX67_takeNode_85 : decode cX67_takeNode 85 = .ok (.invokevirtual 1074, 3) := by decide +kernel
theorem dX67_takeNode_88 : decode cX67_takeNode 88 = .ok (.iconst 0, 1) := by decide +kernel
theorem dX67_takeNode_89 : decode cX67_takeNode 89 = .ok (.istore 8, 2) := by decide +kernel
theorem dX67_takeNode_91 : decode cX67_takeNode 91 = .ok (.aload_n 0, 1) := by decide +kernel
theorem dX67_takeNode_92 : decode cX67_takeNode 92 = .ok (.getfield 334, 3) := by decide +kernel
theorem dX67_takeNode_95 : decode cX67_takeNode 95 = .ok (.iload_n 2, 1) := by decide +kernel
theorem dX67_takeNode_96 : decode cX67_takeNode 96 = .ok (.iaload, 1) := by decide +kernel
theorem dX67_takeNode_97 : decode cX67_takeNode 97 = .ok (.iconst 1, 1) := by decide +kernel
theorem dX67_takeNode_98 : decode cX67_takeNode 98 = .ok (.if_icmp .ne 60, 3) := by decide +kernel
theorem dX67_takeNode_101 : decode cX67_takeNode 101 = .ok (.aload_n 0, 1) := by decide +kernel
theorem dX67_takeNode_102 : decode cX67_takeNode 102 = .ok (.iload_n 2, 1) := by decide +kernel
theorem dX67_takeNode_103 : decode cX67_takeNode 103 = .ok (.invokevirtual 1077, 3) := by decide +kernel
theorem dX67_takeNode_106 : decode cX67_takeNode 106 = .ok (.aload_n 0, 1) := by decide +kernel
theorem dX67_takeNode_107 : decode cX67_takeNode 107 = .ok (.iconst 3, 1) := by decide +kernel
theorem dX67_takeNode_108 : decode cX67_takeNode 108 = .ok (.iload 7, 2) := by decide +kernel
theorem dX67_takeNode_110 : decode cX67_takeNode 110 = .ok (.bipush 18, 2) := by decide +kernel
theorem dX67_takeNode_112 : decode cX67_takeNode 112 = .ok (.iload 7, 2) := by decide +kernel
theorem dX67_takeNode_114 : decode cX67_takeNode 114 = .ok (.imul, 1) := by decide +kernel
theorem dX67_takeNode_115 : decode cX67_takeNode 115 = .ok (.bipush 9, 2) := by decide +kernel
theorem dX67_takeNode_117 : decode cX67_takeNode 117 = .ok (.iadd, 1) := by decide +kernel
theorem dX67_takeNode_118 : decode cX67_takeNode 118 = .ok (.invokevirtual 1074, 3) := by decide +kernel
theorem dX67_takeNode_121 : decode cX67_takeNode 121 = .ok (.aload_n 0, 1) := by decide +kernel
theorem dX67_takeNode_122 : decode cX67_takeNode 122 = .ok (.iconst 3, 1) := by decide +kernel
theorem dX67_takeNode_123 : decode cX67_takeNode 123 = .ok (.iload 7, 2) := by decide +kernel
theorem dX67_takeNode_125 : decode cX67_takeNode 125 = .ok (.bipush 18, 2) := by decide +kernel
theorem dX67_takeNode_127 : decode cX67_takeNode 127 = .ok (.iload 7, 2) := by decide +kernel
theorem dX67_takeNode_129 : decode cX67_takeNode 129 = .ok (.imul, 1) := by decide +kernel
theorem dX67_takeNode_130 : decode cX67_takeNode 130 = .ok (.invokevirtual 1074, 3) := by decide +kernel
theorem dX67_takeNode_133 : decode cX67_takeNode 133 = .ok (.aload_n 0, 1) := by decide +kernel
theorem dX67_takeNode_134 : decode cX67_takeNode 134 = .ok (.getfield 349, 3) := by decide +kernel
theorem dX67_takeNode_137 : decode cX67_takeNode 137 = .ok (.iload_n 2, 1) := by decide +kernel
theorem dX67_takeNode_138 : decode cX67_takeNode 138 = .ok (.aload_n 0, 1) := by decide +kernel
theorem dX67_takeNode_139 : decode cX67_takeNode 139 = .ok (.iconst 0, 1) := by decide +kernel
theorem dX67_takeNode_140 : decode cX67_takeNode 140 = .ok (.sipush 255, 3) := by decide +kernel
theorem dX67_takeNode_143 : decode cX67_takeNode 143 = .ok (.invokevirtual 1043, 3) := by decide +kernel
theorem dX67_takeNode_146 : decode cX67_takeNode 146 = .ok (.iastore, 1) := by decide +kernel
theorem dX67_takeNode_147 : decode cX67_takeNode 147 = .ok (.aload_n 0, 1) := by decide +kernel
theorem dX67_takeNode_148 : decode cX67_takeNode 148 = .ok (.getfield 343, 3) := by decide +kernel
theorem dX67_takeNode_151 : decode cX67_takeNode 151 = .ok (.iload_n 2, 1) := by decide +kernel
theorem dX67_takeNode_152 : decode cX67_takeNode 152 = .ok (.iaload, 1) := by decide +kernel
theorem dX67_takeNode_153 : decode cX67_takeNode 153 = .ok (.istore 8, 2) := by decide +kernel
theorem dX67_takeNode_155 : decode cX67_takeNode 155 = .ok (.goto 31, 3) := by decide +kernel
theorem dX67_takeNode_158 : decode cX67_takeNode 158 = .ok (.aload_n 0, 1) := by decide +kernel
theorem dX67_takeNode_159 : decode cX67_takeNode 159 = .ok (.getfield 334, 3) := by decide +kernel
theorem dX67_takeNode_162 : decode cX67_takeNode 162 = .ok (.iload_n 2, 1) := by decide +kernel
theorem dX67_takeNode_163 : decode cX67_takeNode 163 = .ok (.iaload, 1) := by decide +kernel
theorem dX67_takeNode_164 : decode cX67_takeNode 164 = .ok (.iconst 2, 1) := by decide +kernel
theorem dX67_takeNode_165 : decode cX67_takeNode 165 = .ok (.if_icmp .ne 14, 3) := by decide +kernel
theorem dX67_takeNode_168 : decode cX67_takeNode 168 = .ok (.aload_n 0, 1) := by decide +kernel
theorem dX67_takeNode_169 : decode cX67_takeNode 169 = .ok (.iload 7, 2) := by decide +kernel
theorem dX67_takeNode_171 : decode cX67_takeNode 171 = .ok (.invokevirtual 1080, 3) := by decide +kernel
theorem dX67_takeNode_174 : decode cX67_takeNode 174 = .ok (.istore 8, 2) := by decide +kernel
theorem dX67_takeNode_176 : decode cX67_takeNode 176 = .ok (.goto 10, 3) := by decide +kernel
theorem dX67_takeNode_179 : decode cX67_takeNode 179 = .ok (.aload_n 0, 1) := by decide +kernel
theorem dX67_takeNode_180 : decode cX67_takeNode 180 = .ok (.iload_n 2, 1) := by decide +kernel
theorem dX67_takeNode_181 : decode cX67_takeNode 181 = .ok (.iload 7, 2) := by decide +kernel
theorem dX67_takeNode_183 : decode cX67_takeNode 183 = .ok (.invokevirtual 1083, 3) := by decide +kernel
theorem dX67_takeNode_186 : decode cX67_takeNode 186 = .ok (.aload_n 0, 1) := by decide +kernel
theorem dX67_takeNode_187 : decode cX67_takeNode 187 = .ok (.getfield 1031, 3) := by decide +kernel
theorem dX67_takeNode_190 : decode cX67_takeNode 190 = .ok (.ifCond .ne 19, 3) := by decide +kernel
theorem dX67_takeNode_193 : decode cX67_takeNode 193 = .ok (.aload_n 0, 1) := by decide +kernel
theorem dX67_takeNode_194 : decode cX67_takeNode 194 = .ok (.iload_n 1, 1) := by decide +kernel
theorem dX67_takeNode_195 : decode cX67_takeNode 195 = .ok (.aload_n 0, 1) := by decide +kernel
theorem dX67_takeNode_196 : decode cX67_takeNode 196 = .ok (.getfield 334, 3) := by decide +kernel
theorem dX67_takeNode_199 : decode cX67_takeNode 199 = .ok (.iload_n 2, 1) := by decide +kernel
theorem dX67_takeNode_200 : decode cX67_takeNode 200 = .ok (.iaload, 1) := by decide +kernel
theorem dX67_takeNode_201 : decode cX67_takeNode 201 = .ok (.iload 8, 2) := by decide +kernel
theorem dX67_takeNode_203 : decode cX67_takeNode 203 = .ok (.invokestatic 387, 3) := by decide +kernel
theorem dX67_takeNode_206 : decode cX67_takeNode 206 = .ok (.invokevirtual 1086, 3) := by decide +kernel
theorem dX67_takeNode_209 : decode cX67_takeNode 209 = .ok (.return_, 1) := by decide +kernel
theorem zy_X67_takeNode : yX67_takeNode.cls ≠ "java/lang/invoke/MethodHandle" ∧ yX67_takeNode.cls ≠ "java/lang/invoke/VarHandle" ∧ (parseMethodDescriptor yX67_takeNode.desc).map (fun d => d.parameters.length) = some 1 := by decide +kernel
theorem w_fX67_takeNode_J186 {K : zK} (E : zE K cX67_takeNode "RingHouseModel" none 4) (hN : zNl K = 9) (hT : zTr K = none) (x1 : Int) (x2 : Int) (x8 : Int) : zR K 186 [(0, 69, 0), (1, 0, x1), (2, 0, x2), (8, 0, x8)] [] (fX67_takeNode_J186 x1 x2 x8) := by
  refine r_aload_n E dX67_takeNode_186 rfl 0 rfl ?_
  refine r_get E zc_69 zt_6913 dX67_takeNode_187 q3327 zr_69 (zg_6913 _) (by decide) (fun v11 => ?_)
  refine r_if_ne E 209 (by decide) dX67_takeNode_190 (fun _ => ?_) (fun _ => ?_)
  · exact r_return E rfl hT dX67_takeNode_209
  · refine r_aload_n E dX67_takeNode_193 rfl 0 rfl ?_
    refine r_iload_n E dX67_takeNode_194 rfl 1 rfl ?_
    refine r_aload_n E dX67_takeNode_195 rfl 0 rfl ?_
    refine r_gec (y := 0) E zc_69 dX67_takeNode_196 q3332 zr_69 (zh_6918 (by decide)) (by decide) ?_
    refine r_iload_n E dX67_takeNode_199 rfl 2 rfl ?_
    refine r_iaload E zc_6918 za_6918 zt_6918 zx_6918 rfl rfl dX67_takeNode_200 (by decide) (fun v12 => ?_)
    refine r_iload E dX67_takeNode_201 3 rfl ?_
    refine r_callS E [(0, v12), (0, x8)] [(0, x1), (69, 0)] rfl q3639 q3640 q294 q3641 dX67_takeNode_203 zy_X67_costOf rfl (by omega) (by decide) (Nat.le_of_ble_eq_true rfl) (fun l G => k_fX67_costOf l G v12 x8) (fun v13 => ?_)
    refine r_callV E [(0, x1), (0, v13)] [] rfl zc_69 zr_69 (fun o _ => ⟨_, zw_X67.1 o, rfl⟩) (lw_V q4407 q4409 qs224 q294 q4410) dX67_takeNode_206 zy_X67_charge rfl (by omega) (by decide) (Nat.le_of_ble_eq_true rfl) (by decide) (fun l G => k_fX67_charge l G x1 v13) (fun _ => ?_)
    exact r_return E rfl hT dX67_takeNode_209
theorem w_fX67_takeNode_J75 {K : zK} (E : zE K cX67_takeNode "RingHouseModel" none 4) (hN : zNl K = 9) (hT : zTr K = none) (x1 : Int) (x2 : Int) (x7 : Int) : zR K 75 [(0, 69, 0), (1, 0, x1), (2, 0, x2), (7, 0, x7)] [] (fX67_takeNode_J75 x1 x2 x7) := by
  refine r_aload_n E dX67_takeNode_75 rfl 0 rfl ?_
  refine r_bipush E dX67_takeNode_76 (by decide) (zkI (by decide) (by decide)) ?_
  refine r_iload E dX67_takeNode_78 3 rfl ?_
  refine r_bipush E dX67_takeNode_80 (by decide) (zkI (by decide) (by decide)) ?_
  refine r_iload E dX67_takeNode_82 3 rfl ?_
  refine r_imul E dX67_takeNode_84 ?_
  refine r_callV E [(0, 6), (0, x7), (0, (zi (18 * x7)))] [] rfl zc_69 zr_69 (fun o _ => ⟨_, zw_X67.1 o, rfl⟩) (lw_V q4391 q4393 qs220 q294 q4394) dX67_takeNode_85 zy_X67_takeItems rfl (by omega) (by decide) (Nat.le_of_ble_eq_true rfl) (by decide) (fun l G => k_fX67_takeItems l G 6 x7 (zi (18 * x7))) (fun _ => ?_)
  refine r_iconst E dX67_takeNode_88 (zkI (by decide) (by decide)) ?_
  refine r_istore (ls' := [(8, 0, 0), (0, 69, 0), (1, 0, x1), (2, 0, x2), (7, 0, x7)]) E dX67_takeNode_89 (by rw [hN]; decide) rfl ?_
  refine r_aload_n E dX67_takeNode_91 rfl 1 rfl ?_
  refine r_gec (y := 0) E zc_69 dX67_takeNode_92 q3332 zr_69 (zh_6918 (by decide)) (by decide) ?_
  refine r_iload_n E dX67_takeNode_95 rfl 3 rfl ?_
  refine r_iaload E zc_6918 za_6918 zt_6918 zx_6918 rfl rfl dX67_takeNode_96 (by decide) (fun v8 => ?_)
  refine r_iconst E dX67_takeNode_97 (zkI (by decide) (by decide)) ?_
  refine r_icmp_ne E 158 (by decide) dX67_takeNode_98 (fun _ => ?_) (fun _ => ?_)
  · refine r_aload_n E dX67_takeNode_158 rfl 1 rfl ?_
    refine r_gec (y := 0) E zc_69 dX67_takeNode_159 q3332 zr_69 (zh_6918 (by decide)) (by decide) ?_
    refine r_iload_n E dX67_takeNode_162 rfl 3 rfl ?_
    refine r_iaload E zc_6918 za_6918 zt_6918 zx_6918 rfl rfl dX67_takeNode_163 (by decide) (fun v9 => ?_)
    refine r_iconst E dX67_takeNode_164 (zkI (by decide) (by decide)) ?_
    refine r_icmp_ne E 179 (by decide) dX67_takeNode_165 (fun _ => ?_) (fun _ => ?_)
    · refine r_aload_n E dX67_takeNode_179 rfl 1 rfl ?_
      refine r_iload_n E dX67_takeNode_180 rfl 3 rfl ?_
      refine r_iload E dX67_takeNode_181 4 rfl ?_
      refine r_callV E [(0, x2), (0, x7)] [] rfl zc_69 zr_69 (fun o _ => ⟨_, zw_X67.1 o, rfl⟩) (lw_V q4403 q4405 qs223 q294 q4406) dX67_takeNode_183 zy_X67_takeLetters rfl (by omega) (by decide) (Nat.le_of_ble_eq_true rfl) (by decide) (fun l G => k_fX67_takeLetters l G x2 x7) (fun _ => ?_)
      refine r_pick E [1, 2, 3, 0] rfl ?_
      exact w_fX67_takeNode_J186 E hN hT x1 x2 0
    · refine r_aload_n E dX67_takeNode_168 rfl 1 rfl ?_
      refine r_iload E dX67_takeNode_169 4 rfl ?_
      refine r_callV E [(0, x7)] [] rfl zc_69 zr_69 (fun o _ => ⟨_, zw_X67.1 o, rfl⟩) (lw_V q4399 q4401 qs222 q294 q4402) dX67_takeNode_171 zy_X67_takeSegment rfl (by omega) (by decide) (Nat.le_of_ble_eq_true rfl) (by decide) (fun l G => k_fX67_takeSegment l G x7) (fun v15 => ?_)
      refine r_istore (ls' := [(8, 0, v15), (0, 69, 0), (1, 0, x1), (2, 0, x2), (7, 0, x7)]) E dX67_takeNode_174 (by rw [hN]; decide) rfl ?_
      refine r_goto E 186 (by decide) dX67_takeNode_176 ?_
      refine r_pick E [1, 2, 3, 0] rfl ?_
      exact w_fX67_takeNode_J186 E hN hT x1 x2 v15
  · refine r_aload_n E dX67_takeNode_101 rfl 1 rfl ?_
    refine r_iload_n E dX67_takeNode_102 rfl 3 rfl ?_
    refine r_callV E [(0, x2)] [] rfl zc_69 zr_69 (fun o _ => ⟨_, zw_X67.1 o, rfl⟩) (lw_V q4395 q4397 qs221 q294 q4398) dX67_takeNode_103 zy_X67_takeDirectory rfl (by omega) (by decide) (Nat.le_of_ble_eq_true rfl) (by decide) (fun l G => k_fX67_takeDirectory l G x2) (fun _ => ?_)
    refine r_aload_n E dX67_takeNode_106 rfl 1 rfl ?_
    refine r_iconst E dX67_takeNode_107 (zkI (by decide) (by decide)) ?_
    refine r_iload E dX67_takeNode_108 4 rfl ?_
    refine r_bipush E dX67_takeNode_110 (by decide) (zkI (by decide) (by decide)) ?_
    refine r_iload E dX67_takeNode_112 4 rfl ?_
    refine r_imul E dX67_takeNode_114 ?_
    refine r_bipush E dX67_takeNode_115 (by decide) (zkI (by decide) (by decide)) ?_
    refine r_iadd E dX67_takeNode_117 ?_
    refine r_callV E [(0, 3), (0, x7), (0, (zi ((zi (18 * x7)) + 9)))] [] rfl zc_69 zr_69 (fun o _ => ⟨_, zw_X67.1 o, rfl⟩) (lw_V q4391 q4393 qs220 q294 q4394) dX67_takeNode_118 zy_X67_takeItems rfl (by omega) (by decide) (Nat.le_of_ble_eq_true rfl) (by decide) (fun l G => k_fX67_takeItems l G 3 x7 (zi ((zi (18 * x7)) + 9))) (fun _ => ?_)
    refine r_aload_n E dX67_takeNode_121 rfl 1 rfl ?_
    refine r_iconst E dX67_takeNode_122 (zkI (by decide) (by decide)) ?_
    refine r_iload E dX67_takeNode_123 4 rfl ?_
    refine r_bipush E dX67_takeNode_125 (by decide) (zkI (by decide) (by decide)) ?_
    refine r_iload E dX67_takeNode_127 4 rfl ?_
    refine r_imul E dX67_takeNode_129 ?_
    refine r_callV E [(0, 3), (0, x7), (0, (zi (18 * x7)))] [] rfl zc_69 zr_69 (fun o _ => ⟨_, zw_X67.1 o, rfl⟩) (lw_V q4391 q4393 qs220 q294 q4394) dX67_takeNode_130 zy_X67_takeItems rfl (by omega) (by decide) (Nat.le_of_ble_eq_true rfl) (by decide) (fun l G => k_fX67_takeItems l G 3 x7 (zi (18 * x7))) (fun _ => ?_)
    refine r_aload_n E dX67_takeNode_133 rfl 1 rfl ?_
    refine r_gec (y := 0) E zc_69 dX67_takeNode_134 q3337 zr_69 (zh_6923 (by decide)) (by decide) ?_
    refine r_iload_n E dX67_takeNode_137 rfl 3 rfl ?_
    refine r_aload_n E dX67_takeNode_138 rfl 1 rfl ?_
    refine r_iconst E dX67_takeNode_139 (zkI (by decide) (by decide)) ?_
    refine r_sipush E dX67_takeNode_140 (by decide) (zkI (by decide) (by decide)) ?_
    refine r_callV E [(0, 0), (0, 255)] [(0, x2), (6923, 0)] rfl zc_69 zr_69 (fun o _ => ⟨_, zw_X67.1 o, rfl⟩) (lw_V q4355 q4357 qs211 q294 q4358) dX67_takeNode_143 zy_X67_take rfl (by omega) (by decide) (Nat.le_of_ble_eq_true rfl) (by decide) (fun l G => k_fX67_take l G 0 255) (fun v19 => ?_)
    refine r_iastore E zc_6923 za_6923 zt_6923 zo_6923 zx_6923 rfl rfl dX67_takeNode_146 (by decide) ?_
    refine r_aload_n E dX67_takeNode_147 rfl 1 rfl ?_
    refine r_gec (y := 0) E zc_69 dX67_takeNode_148 q3335 zr_69 (zh_6921 (by decide)) (by decide) ?_
    refine r_iload_n E dX67_takeNode_151 rfl 3 rfl ?_
    refine r_iaload E zc_6921 za_6921 zt_6921 zx_6921 rfl rfl dX67_takeNode_152 (by decide) (fun v20 => ?_)
    refine r_istore (ls' := [(8, 0, v20), (0, 69, 0), (1, 0, x1), (2, 0, x2), (7, 0, x7)]) E dX67_takeNode_153 (by rw [hN]; decide) rfl ?_
    refine r_goto E 186 (by decide) dX67_takeNode_155 ?_
    refine r_pick E [1, 2, 3, 0] rfl ?_
    exact w_fX67_takeNode_J186 E hN hT x1 x2 v20
theorem w_fX67_takeNode {K : zK} (E : zE K cX67_takeNode "RingHouseModel" none 4) (hN : zNl K = 9) (hT : zTr K = none) (x1 : Int) : zR K 0 [(0, 69, 0), (1, 0, x1)] [] (fX67_takeNode x1) := by
  refine r_aload_n E dX67_takeNode_0 rfl 0 rfl ?_
  refine r_iload_n E dX67_takeNode_1 rfl 1 rfl ?_
  refine r_callV E [(0, x1)] [] rfl zc_69 zr_69 (fun o _ => ⟨_, zw_X67.1 o, rfl⟩) (lw_V q4367 q4369 qs214 q294 q4370) dX67_takeNode_2 zy_X67_takeHead rfl (by omega) (by decide) (Nat.le_of_ble_eq_true rfl) (by decide) (fun l G => k_fX67_takeHead l G x1) (fun v1 => ?_)
  refine r_istore_n (ls' := [(2, 0, v1), (0, 69, 0), (1, 0, x1)]) E dX67_takeNode_5 rfl (by rw [hN]; decide) rfl ?_
  refine r_aload_n E dX67_takeNode_6 rfl 1 rfl ?_
  refine r_iconst E dX67_takeNode_7 (zkI (by decide) (by decide)) ?_
  refine r_bipush E dX67_takeNode_8 (by decide) (zkI (by decide) (by decide)) ?_
  refine r_callV E [(0, 0), (0, 7)] [] rfl zc_69 zr_69 (fun o _ => ⟨_, zw_X67.1 o, rfl⟩) (lw_V q4355 q4357 qs211 q294 q4358) dX67_takeNode_10 zy_X67_take rfl (by omega) (by decide) (Nat.le_of_ble_eq_true rfl) (by decide) (fun l G => k_fX67_take l G 0 7) (fun v2 => ?_)
  refine r_istore_n (ls' := [(3, 0, v2), (2, 0, v1), (0, 69, 0), (1, 0, x1)]) E dX67_takeNode_13 rfl (by rw [hN]; decide) rfl ?_
  refine r_aload_n E dX67_takeNode_14 rfl 2 rfl ?_
  refine r_iload_n E dX67_takeNode_15 rfl 0 rfl ?_
  refine r_bipush E dX67_takeNode_16 (by decide) (zkI (by decide) (by decide)) ?_
  refine r_callV E [(0, v2), (0, 7)] [] rfl zc_69 zr_69 (fun o _ => ⟨_, zw_X67.1 o, rfl⟩) (lw_V q4355 q4357 qs211 q294 q4358) dX67_takeNode_18 zy_X67_take rfl (by omega) (by decide) (Nat.le_of_ble_eq_true rfl) (by decide) (fun l G => k_fX67_take l G v2 7) (fun v3 => ?_)
  refine r_istore (ls' := [(4, 0, v3), (3, 0, v2), (2, 0, v1), (0, 69, 0), (1, 0, x1)]) E dX67_takeNode_21 (by rw [hN]; decide) rfl ?_
  refine r_aload_n E dX67_takeNode_23 rfl 3 rfl ?_
  refine r_iload E dX67_takeNode_24 0 rfl ?_
  refine r_bipush E dX67_takeNode_26 (by decide) (zkI (by decide) (by decide)) ?_
  refine r_callV E [(0, v3), (0, 7)] [] rfl zc_69 zr_69 (fun o _ => ⟨_, zw_X67.1 o, rfl⟩) (lw_V q4355 q4357 qs211 q294 q4358) dX67_takeNode_28 zy_X67_take rfl (by omega) (by decide) (Nat.le_of_ble_eq_true rfl) (by decide) (fun l G => k_fX67_take l G v3 7) (fun v4 => ?_)
  refine r_istore (ls' := [(5, 0, v4), (4, 0, v3), (3, 0, v2), (2, 0, v1), (0, 69, 0), (1, 0, x1)]) E dX67_takeNode_31 (by rw [hN]; decide) rfl ?_
  refine r_aload_n E dX67_takeNode_33 rfl 4 rfl ?_
  refine r_get E zc_69 zt_6912 dX67_takeNode_34 q3326 zr_69 (zg_6912 _) (by decide) (fun v5 => ?_)
  refine r_istore (ls' := [(6, 0, v5), (5, 0, v4), (4, 0, v3), (3, 0, v2), (2, 0, v1), (0, 69, 0), (1, 0, x1)]) E dX67_takeNode_37 (by rw [hN]; decide) rfl ?_
  refine r_iconst E dX67_takeNode_39 (zkI (by decide) (by decide)) ?_
  refine r_istore (ls' := [(7, 0, (-1)), (6, 0, v5), (5, 0, v4), (4, 0, v3), (3, 0, v2), (2, 0, v1), (0, 69, 0), (1, 0, x1)]) E dX67_takeNode_40 (by rw [hN]; decide) rfl ?_
  refine r_aload_n E dX67_takeNode_42 rfl 6 rfl ?_
  refine r_get E zc_69 zt_6925 dX67_takeNode_43 q3339 zr_69 (zg_6925 _) (by decide) (fun v6 => ?_)
  refine r_if_eq E 75 (by decide) dX67_takeNode_46 (fun _ => ?_) (fun _ => ?_)
  · refine r_pick E [6, 7, 5, 0] rfl ?_
    exact w_fX67_takeNode_J75 E hN hT x1 v1 (-1)
  · refine r_aload_n E dX67_takeNode_49 rfl 6 rfl ?_
    refine r_iload_n E dX67_takeNode_50 rfl 5 rfl ?_
    refine r_iload E dX67_takeNode_51 1 rfl ?_
    refine r_callV E [(0, v1), (0, v5)] [] rfl zc_69 zr_69 (fun o _ => ⟨_, zw_X67.1 o, rfl⟩) (lw_V q4383 q4385 qs218 q294 q4386) dX67_takeNode_53 zy_X67_makeRead rfl (by omega) (by decide) (Nat.le_of_ble_eq_true rfl) (by decide) (fun l G => k_fX67_makeRead l G v1 v5) (fun v21 => ?_)
    refine r_istore (ls' := [(7, 0, v21), (6, 0, v5), (5, 0, v4), (4, 0, v3), (3, 0, v2), (2, 0, v1), (0, 69, 0), (1, 0, x1)]) E dX67_takeNode_56 (by rw [hN]; decide) rfl ?_
    refine r_aload_n E dX67_takeNode_58 rfl 6 rfl ?_
    refine r_iload E dX67_takeNode_59 0 rfl ?_
    refine r_iload_n E dX67_takeNode_61 rfl 4 rfl ?_
    refine r_iload E dX67_takeNode_62 3 rfl ?_
    refine r_iload E dX67_takeNode_64 2 rfl ?_
    refine r_callV E [(0, v21), (0, v2), (0, v3), (0, v4)] [] rfl zc_69 zr_69 (fun o _ => ⟨_, zw_X67.1 o, rfl⟩) (lw_V q3658 q3660 qs99 q294 q3661) dX67_takeNode_66 zy_X67_setBrackets rfl (by omega) (by decide) (Nat.le_of_ble_eq_true rfl) (by decide) (fun l G => k_fX67_setBrackets l G v21 v2 v3 v4) (fun _ => ?_)
    refine r_aload_n E dX67_takeNode_69 rfl 6 rfl ?_
    refine r_iload E dX67_takeNode_70 1 rfl ?_
    refine r_put E zc_69 zt_6912 zo_6912 dX67_takeNode_72 q3326 zr_69 zw_X67 zp_6912 (fun _ => rfl) (fun _ => rfl) (by decide) ?_
    refine r_pick E [6, 7, 5, 0] rfl ?_
    exact w_fX67_takeNode_J75 E hN hT x1 v1 v21
theorem k_fX67_takeNode (l : Launch) (G : zG) (x1 : Int) : zCt l G yX67_takeNode cX67_takeNode 9 none 4 [(69, 0), (0, x1)] none (fX67_takeNode x1) := zCt.of (by decide) (Nat.le_of_ble_eq_true rfl) (fun K E _ _ hN hT => w_fX67_takeNode E hN hT x1)
theorem dX67_takeAll_0 : decode cX67_takeAll 0 = .ok (.aload_n 0, 1) := by decide +kernel
theorem dX67_takeAll_1 : decode cX67_takeAll 1 = .ok (.iload_n 1, 1) := by decide +kernel
theorem dX67_takeAll_2 : decode cX67_takeAll 2 = .ok (.putfield 1046, 3) := by decide +kernel
theorem dX67_takeAll_5 : decode cX67_takeAll 5 = .ok (.aload_n 0, 1) := by decide +kernel
theorem dX67_takeAll_6 : decode cX67_takeAll 6 = .ok (.iconst 0, 1) := by decide +kernel
theorem dX67_takeAll_7 : decode cX67_takeAll 7 = .ok (.putfield 1049, 3) := by decide +kernel
theorem dX67_takeAll_10 : decode cX67_takeAll 10 = .ok (.aload_n 0, 1) := by decide +kernel
theorem dX67_takeAll_11 : decode cX67_takeAll 11 = .ok (.iconst 0, 1) := by decide +kernel
theorem dX67_takeAll_12 : decode cX67_takeAll 12 = .ok (.putfield 1037, 3) := by decide +kernel
theorem dX67_takeAll_15 : decode cX67_takeAll 15 = .ok (.aload_n 0, 1) := by decide +kernel
theorem dX67_takeAll_16 : decode cX67_takeAll 16 = .ok (.iconst 0, 1) := by decide +kernel
theorem dX67_takeAll_17 : decode cX67_takeAll 17 = .ok (.putfield 1011, 3) := by decide +kernel
theorem dX67_takeAll_20 : decode cX67_takeAll 20 = .ok (.aload_n 0, 1) := by decide +kernel
theorem dX67_takeAll_21 : decode cX67_takeAll 21 = .ok (.lconst 0, 1) := by decide +kernel
theorem dX67_takeAll_22 : decode cX67_takeAll 22 = .ok (.putfield 1065, 3) := by decide +kernel
theorem dX67_takeAll_25 : decode cX67_takeAll 25 = .ok (.iconst 0, 1) := by decide +kernel
theorem dX67_takeAll_26 : decode cX67_takeAll 26 = .ok (.istore_n 2, 1) := by decide +kernel
theorem dX67_takeAll_27 : decode cX67_takeAll 27 = .ok (.iload_n 2, 1) := by decide +kernel
theorem dX67_takeAll_28 : decode cX67_takeAll 28 = .ok (.iconst 3, 1) := by decide +kernel
theorem dX67_takeAll_29 : decode cX67_takeAll 29 = .ok (.if_icmp .ge 66, 3) := by decide +kernel
theorem dX67_takeAll_32 : decode cX67_takeAll 32 = .ok (.aload_n 0, 1) := by decide +kernel
theorem dX67_takeAll_33 : decode cX67_takeAll 33 = .ok (.getfield 1031, 3) := by decide +kernel
theorem dX67_takeAll_36 : decode cX67_takeAll 36 = .ok (.ifCond .ne 59, 3) := by decide +kernel
theorem dX67_takeAll_39 : decode cX67_takeAll 39 = .ok (.iload_n 2, 1) := by decide +kernel
theorem dX67_takeAll_40 : decode cX67_takeAll 40 = .ok (.ifCond .ne 8, 3) := by decide +kernel
theorem dX67_takeAll_43 : decode cX67_takeAll 43 = .ok (.bipush 82, 2) := by decide +kernel
theorem dX67_takeAll_45 : decode cX67_takeAll 45 = .ok (.goto 14, 3) := by decide +kernel
theorem dX67_takeAll_48 : decode cX67_takeAll 48 = .ok (.iload_n 2, 1) := by decide +kernel
theorem dX67_takeAll_49 : decode cX67_takeAll 49 = .ok (.iconst 1, 1) := by decide +kernel
theorem dX67_takeAll_50 : decode cX67_takeAll 50 = .ok (.if_icmp .ne 8, 3) := by decide +kernel
theorem dX67_takeAll_53 : decode cX67_takeAll 53 = .ok (.bipush 72, 2) := by decide +kernel
theorem dX67_takeAll_55 : decode cX67_takeAll 55 = .ok (.goto 4, 3) := by decide +kernel
theorem dX67_takeAll_58 : decode cX67_takeAll 58 = .ok (.iconst 1, 1) := by decide +kernel
theorem dX67_takeAll_59 : decode cX67_takeAll 59 = .ok (.istore_n 3, 1) := by decide +kernel
theorem dX67_takeAll_60 : decode cX67_takeAll 60 = .ok (.aload_n 0, 1) := by decide +kernel
theorem dX67_takeAll_61 : decode cX67_takeAll 61 = .ok (.iconst 0, 1) := by decide +kernel
theorem dX67_takeAll_62 : decode cX67_takeAll 62 = .ok (.sipush 255, 3) := by decide +kernel
theorem dX67_takeAll_65 : decode cX67_takeAll 65 = .ok (.invokevirtual 1043, 3) := by decide +kernel
theorem dX67_takeAll_68 : decode cX67_takeAll 68 = .ok (.istore 4, 2) := by decide +kernel
theorem dX67_takeAll_70 : decode cX67_takeAll 70 = .ok (.aload_n 0, 1) := by decide +kernel
theorem dX67_takeAll_71 : decode cX67_takeAll 71 = .ok (.getfield 1031, 3) := by decide +kernel
theorem dX67_takeAll_74 : decode cX67_takeAll 74 = .ok (.ifCond .ne 15, 3) := by decide +kernel
theorem dX67_takeAll_77 : decode cX67_takeAll 77 = .ok (.iload 4, 2) := by decide +kernel
theorem dX67_takeAll_79 : decode cX67_takeAll 79 = .ok (.iload_n 3, 1) := by decide +kernel
theorem dX67_takeAll_80 : decode cX67_takeAll 80 = .ok (.if_icmp .eq 9, 3) := by decide +kernel
theorem dX67_takeAll_83 : decode cX67_takeAll 83 = .ok (.aload_n 0, 1) := by decide +kernel
theorem dX67_takeAll_84 : decode cX67_takeAll 84 = .ok (.iconst 2, 1) := by decide +kernel
theorem dX67_takeAll_85 : decode cX67_takeAll 85 = .ok (.iload_n 2, 1) := by decide +kernel
theorem dX67_takeAll_86 : decode cX67_takeAll 86 = .ok (.invokevirtual 1040, 3) := by decide +kernel
theorem dX67_takeAll_89 : decode cX67_takeAll 89 = .ok (.iinc 2 1, 3) := by decide +kernel
theorem dX67_takeAll_92 : decode cX67_takeAll 92 = .ok (.goto (-65), 3) := by decide +kernel
theorem dX67_takeAll_95 : decode cX67_takeAll 95 = .ok (.iconst (-1), 1) := by decide +kernel
theorem dX67_takeAll_96 : decode cX67_takeAll 96 = .ok (.istore_n 2, 1) := by decide +kernel
theorem dX67_takeAll_97 : decode cX67_takeAll 97 = .ok (.aload_n 0, 1) := by decide +kernel
theorem dX67_takeAll_98 : decode cX67_takeAll 98 = .ok (.getfield 1031, 3) := by decide +kernel
theorem dX67_takeAll_101 : decode cX67_takeAll 101 = .ok (.ifCond .ne 7, 3) := by decide +kernel
theorem dX67_takeAll_104 : decode cX67_takeAll 104 = .ok (.iconst 1, 1) := by decide +kernel
theorem dX67_takeAll_105 : decode cX67_takeAll 105 = .ok (.goto 4, 3) := by decide +kernel
theorem dX67_takeAll_108 : decode cX67_takeAll 108 = .ok (.iconst 0, 1) := by decide +kernel
theorem dX67_takeAll_109 : decode cX67_takeAll 109 = .ok (.istore_n 3, 1) := by decide +kernel
theorem dX67_takeAll_110 : decode cX67_takeAll 110 = .ok (.iload_n 3, 1) := by decide +kernel
theorem dX67_takeAll_111 : decode cX67_takeAll 111 = .ok (.ifCond .eq 72, 3) := by decide +kernel
theorem dX67_takeAll_114 : decode cX67_takeAll 114 = .ok (.aload_n 0, 1) := by decide +kernel
theorem dX67_takeAll_115 : decode cX67_takeAll 115 = .ok (.iload_n 2, 1) := by decide +kernel
theorem dX67_takeAll_116 : decode cX67_takeAll 116 = .ok (.invokevirtual 1092, 3) := by decide +kernel
theorem dX67_takeAll_119 : decode cX67_takeAll 119 = .ok (.aload_n 0, 1) := by decide +kernel
theorem dX67_takeAll_120 : decode cX67_takeAll 120 = .ok (.getfield 1049, 3) := by decide +kernel
theorem dX67_takeAll_123 : decode cX67_takeAll 123 = .ok (.iconst 1, 1) := by decide +kernel
theorem dX67_takeAll_124 : decode cX67_takeAll 124 = .ok (.isub, 1) := by decide +kernel
theorem dX67_takeAll_125 : decode cX67_takeAll 125 = .ok (.istore_n 2, 1) := by decide +kernel
theorem dX67_takeAll_126 : decode cX67_takeAll 126 = .ok (.iload_n 2, 1) := by decide +kernel
theorem dX67_takeAll_127 : decode cX67_takeAll 127 = .ok (.ifCond .lt 22, 3) := by decide +kernel
theorem dX67_takeAll_130 : decode cX67_takeAll 130 = .ok (.aload_n 0, 1) := by decide +kernel
theorem dX67_takeAll_131 : decode cX67_takeAll 131 = .ok (.getfield 349, 3) := by decide +kernel
theorem dX67_takeAll_134 : decode cX67_takeAll 134 = .ok (.iload_n 2, 1) := by decide +kernel
theorem dX67_takeAll_135 : decode cX67_takeAll 135 = .ok (.iaload, 1) := by decide +kernel
theorem dX67_takeAll_136 : decode cX67_takeAll 136 = .ok (.ifCond .ne 13, 3) := by decide +kernel
theorem dX67_takeAll_139 : decode cX67_takeAll 139 = .ok (.aload_n 0, 1) := by decide +kernel
theorem dX67_takeAll_140 : decode cX67_takeAll 140 = .ok (.getfield 331, 3) := by decide +kernel
theorem dX67_takeAll_143 : decode cX67_takeAll 143 = .ok (.iload_n 2, 1) := by decide +kernel
theorem dX67_takeAll_144 : decode cX67_takeAll 144 = .ok (.iaload, 1) := by decide +kernel
theorem dX67_takeAll_145 : decode cX67_takeAll 145 = .ok (.istore_n 2, 1) := by decide +kernel
theorem dX67_takeAll_146 : decode cX67_takeAll 146 = .ok (.goto (-20), 3) := by decide +kernel
theorem dX67_takeAll_149 : decode cX67_takeAll 149 = .ok (.aload_n 0, 1) := by decide +kernel
theorem dX67_takeAll_150 : decode cX67_takeAll 150 = .ok (.getfield 1031, 3) := by decide +kernel
theorem dX67_takeAll_153 : decode cX67_takeAll 153 = .ok (.ifCond .ne 11, 3) := by decide +kernel
theorem dX67_takeAll_156 : decode cX67_takeAll 156 = .ok (.iload_n 2, 1) := by decide +kernel
theorem dX67_takeAll_157 : decode cX67_takeAll 157 = .ok (.ifCond .lt 7, 3) := by decide +kernel
theorem dX67_takeAll_160 : decode cX67_takeAll 160 = .ok (.iconst 1, 1) := by decide +kernel
theorem dX67_takeAll_161 : decode cX67_takeAll 161 = .ok (.goto 4, 3) := by decide +kernel
theorem dX67_takeAll_164 : decode cX67_takeAll 164 = .ok (.iconst 0, 1) := by decide +kernel
theorem dX67_takeAll_165 : decode cX67_takeAll 165 = .ok (.istore_n 3, 1) := by decide +kernel
theorem dX67_takeAll_166 : decode cX67_takeAll 166 = .ok (.iload_n 3, 1) := by decide +kernel
theorem dX67_takeAll_167 : decode cX67_takeAll 167 = .ok (.ifCond .eq (-57), 3) := by decide +kernel
theorem dX67_takeAll_170 : decode cX67_takeAll 170 = .ok (.aload_n 0, 1) := by decide +kernel
theorem dX67_takeAll_171 : decode cX67_takeAll 171 = .ok (.getfield 349, 3) := by decide +kernel
theorem dX67_takeAll_174 : decode cX67_takeAll 174 = .ok (.iload_n 2, 1) := by decide +kernel
theorem dX67_takeAll_175 : decode cX67_takeAll 175 = .ok (.dup2, 1) := by decide +kernel
theorem dX67_takeAll_176 : decode cX67_takeAll 176 = .ok (.iaload, 1) := by decide +kernel
theorem dX67_takeAll_177 : decode cX67_takeAll 177 = .ok (.iconst 1, 1) := by decide +kernel
theorem dX67_takeAll_178 : decode cX67_takeAll 178 = .ok (.isub, 1) := by decide +kernel
theorem dX67_takeAll_179 : decode cX67_takeAll 179 = .ok (.iastore, 1) := by decide +kernel
theorem dX67_takeAll_180 : decode cX67_takeAll 180 = .ok (.goto (-70), 3) := by decide +kernel
theorem dX67_takeAll_183 : decode cX67_takeAll 183 = .ok (.aload_n 0, 1) := by decide +kernel
theorem dX67_takeAll_184 : decode cX67_takeAll 184 = .ok (.getfield 1011, 3) := by decide +kernel
theorem dX67_takeAll_187 : decode cX67_takeAll 187 = .ok (.istore 4, 2) := by decide +kernel
theorem dX67_takeAll_189 : decode cX67_takeAll 189 = .ok (.aload_n 0, 1) := by decide +kernel
theorem dX67_takeAll_190 : decode cX67_takeAll 190 = .ok (.getfield 1037, 3) := by decide +kernel
theorem dX67_takeAll_193 : decode cX67_takeAll 193 = .ok (.istore 5, 2) := by decide +kernel
theorem dX67_takeAll_195 : decode cX67_takeAll 195 = .ok (.sipush 256, 3) := by decide +kernel
theorem dX67_takeAll_198 : decode cX67_takeAll 198 = .ok (.aload_n 0, 1) := by decide +kernel
theorem dX67_takeAll_199 : decode cX67_takeAll 199 = .ok (.iconst 0, 1) := by decide +kernel
theorem dX67_takeAll_200 : decode cX67_takeAll 200 = .ok (.sipush 255, 3) := by decide +kernel
theorem dX67_takeAll_203 : decode cX67_takeAll 203 = .ok (.invokevirtual 1043, 3) := by decide +kernel
theorem dX67_takeAll_206 : decode cX67_takeAll 206 = .ok (.imul, 1) := by decide +kernel
theorem dX67_takeAll_207 : decode cX67_takeAll 207 = .ok (.istore 6, 2) := by decide +kernel
theorem dX67_takeAll_209 : decode cX67_takeAll 209 = .ok (.iload 6, 2) := by decide +kernel
theorem dX67_takeAll_211 : decode cX67_takeAll 211 = .ok (.aload_n 0, 1) := by decide +kernel
theorem dX67_takeAll_212 : decode cX67_takeAll 212 = .ok (.iconst 0, 1) := by decide +kernel
theorem dX67_takeAll_213 : decode cX67_takeAll 213 = .ok (.sipush 255, 3) := by decide +kernel
theorem dX67_takeAll_216 : decode cX67_takeAll 216 = .ok (.invokevirtual 1043, 3) := by decide +kernel
theorem dX67_takeAll_219 : decode cX67_takeAll 219 = .ok (.iadd, 1) := by decide +kernel
theorem dX67_takeAll_220 : decode cX67_takeAll 220 = .ok (.istore 6, 2) := by decide +kernel
theorem dX67_takeAll_222 : decode cX67_takeAll 222 = .ok (.aload_n 0, 1) := by decide +kernel
theorem dX67_takeAll_223 : decode cX67_takeAll 223 = .ok (.getfield 1031, 3) := by decide +kernel
theorem dX67_takeAll_226 : decode cX67_takeAll 226 = .ok (.ifCond .ne 18, 3) := by decide +kernel
theorem dX67_takeAll_229 : decode cX67_takeAll 229 = .ok (.iload 6, 2) := by decide +kernel
theorem dX67_takeAll_231 : decode cX67_takeAll 231 = .ok (.iload 4, 2) := by decide +kernel
theorem dX67_takeAll_233 : decode cX67_takeAll 233 = .ok (.if_icmp .eq 11, 3) := by decide +kernel
theorem dX67_takeAll_236 : decode cX67_takeAll 236 = .ok (.aload_n 0, 1) := by decide +kernel
theorem dX67_takeAll_237 : decode cX67_takeAll 237 = .ok (.bipush 7, 2) := by decide +kernel
theorem dX67_takeAll_239 : decode cX67_takeAll 239 = .ok (.iload 5, 2) := by decide +kernel
theorem dX67_takeAll_241 : decode cX67_takeAll 241 = .ok (.invokevirtual 1040, 3) := by decide +kernel
theorem dX67_takeAll_244 : decode cX67_takeAll 244 = .ok (.aload_n 0, 1) := by decide +kernel
theorem dX67_takeAll_245 : decode cX67_takeAll 245 = .ok (.getfield 1031, 3) := by decide +kernel
theorem dX67_takeAll_248 : decode cX67_takeAll 248 = .ok (.ifCond .ne 24, 3) := by decide +kernel
theorem dX67_takeAll_251 : decode cX67_takeAll 251 = .ok (.aload_n 0, 1) := by decide +kernel
theorem dX67_takeAll_252 : decode cX67_takeAll 252 = .ok (.getfield 1037, 3) := by decide +kernel
theorem dX67_takeAll_255 : decode cX67_takeAll 255 = .ok (.aload_n 0, 1) := by decide +kernel
theorem dX67_takeAll_256 : decode cX67_takeAll 256 = .ok (.getfield 1008, 3) := by decide +kernel
theorem dX67_takeAll_259 : decode cX67_takeAll 259 = .ok (.if_icmp .ge 13, 3) := by decide +kernel
theorem dX67_takeAll_262 : decode cX67_takeAll 262 = .ok (.aload_n 0, 1) := by decide +kernel
theorem dX67_takeAll_263 : decode cX67_takeAll 263 = .ok (.bipush 8, 2) := by decide +kernel
theorem dX67_takeAll_265 : decode cX67_takeAll 265 = .ok (.aload_n 0, 1) := by decide +kernel
theorem dX67_takeAll_266 : decode cX67_takeAll 266 = .ok (.getfield 1037, 3) := by decide +kernel
theorem dX67_takeAll_269 : decode cX67_takeAll 269 = .ok (.invokevirtual 1040, 3) := by decide +kernel
theorem dX67_takeAll_272 : decode cX67_takeAll 272 = .ok (.return_, 1) := by decide +kernel
theorem zy_X67_takeAll : yX67_takeAll.cls ≠ "java/lang/invoke/MethodHandle" ∧ yX67_takeAll.cls ≠ "java/lang/invoke/VarHandle" ∧ (parseMethodDescriptor yX67_takeAll.desc).map (fun d => d.parameters.length) = some 1 := by decide +kernel
theorem w_fX67_takeAll_J244 {K : zK} (E : zE K cX67_takeAll "RingHouseModel" none 5) (hN : zNl K = 7) (hT : zTr K = none) : zR K 244 [(0, 69, 0)] [] (fX67_takeAll_J244) := by
  refine r_aload_n E dX67_takeAll_244 rfl 0 rfl ?_
  refine r_get E zc_69 zt_6913 dX67_takeAll_245 q3327 zr_69 (zg_6913 _) (by decide) (fun v10 => ?_)
  refine r_if_ne E 272 (by decide) dX67_takeAll_248 (fun _ => ?_) (fun _ => ?_)
  · exact r_return E rfl hT dX67_takeAll_272
  · refine r_aload_n E dX67_takeAll_251 rfl 0 rfl ?_
    refine r_get E zc_69 zt_6912 dX67_takeAll_252 q3326 zr_69 (zg_6912 _) (by decide) (fun v11 => ?_)
    refine r_aload_n E dX67_takeAll_255 rfl 0 rfl ?_
    refine r_get E zc_69 zt_6872 dX67_takeAll_256 q3287 zr_69 (zg_6872 _) (by decide) (fun v12 => ?_)
    refine r_icmp_ge E 272 (by decide) dX67_takeAll_259 (fun _ => ?_) (fun _ => ?_)
    · exact r_return E rfl hT dX67_takeAll_272
    · refine r_aload_n E dX67_takeAll_262 rfl 0 rfl ?_
      refine r_bipush E dX67_takeAll_263 (by decide) (zkI (by decide) (by decide)) ?_
      refine r_aload_n E dX67_takeAll_265 rfl 0 rfl ?_
      refine r_get E zc_69 zt_6912 dX67_takeAll_266 q3326 zr_69 (zg_6912 _) (by decide) (fun v13 => ?_)
      refine r_callV E [(0, 8), (0, v13)] [] rfl zc_69 zr_69 (fun o _ => ⟨_, zw_X67.1 o, rfl⟩) (lw_V q4359 q4361 qs212 q294 q4362) dX67_takeAll_269 zy_X67_torn rfl (by omega) (by decide) (Nat.le_of_ble_eq_true rfl) (by decide) (fun l G => k_fX67_torn l G 8 v13) (fun _ => ?_)
      exact r_return E rfl hT dX67_takeAll_272
theorem w_fX67_takeAll_J183 {K : zK} (E : zE K cX67_takeAll "RingHouseModel" none 5) (hN : zNl K = 7) (hT : zTr K = none) : zR K 183 [(0, 69, 0)] [] (fX67_takeAll_J183) := by
  refine r_aload_n E dX67_takeAll_183 rfl 0 rfl ?_
  refine r_get E zc_69 zt_6915 dX67_takeAll_184 q3329 zr_69 (zg_6915 _) (by decide) (fun v3 => ?_)
  refine r_istore (ls' := [(4, 0, v3), (0, 69, 0)]) E dX67_takeAll_187 (by rw [hN]; decide) rfl ?_
  refine r_aload_n E dX67_takeAll_189 rfl 1 rfl ?_
  refine r_get E zc_69 zt_6912 dX67_takeAll_190 q3326 zr_69 (zg_6912 _) (by decide) (fun v4 => ?_)
  refine r_istore (ls' := [(5, 0, v4), (4, 0, v3), (0, 69, 0)]) E dX67_takeAll_193 (by rw [hN]; decide) rfl ?_
  refine r_sipush E dX67_takeAll_195 (by decide) (zkI (by decide) (by decide)) ?_
  refine r_aload_n E dX67_takeAll_198 rfl 2 rfl ?_
  refine r_iconst E dX67_takeAll_199 (zkI (by decide) (by decide)) ?_
  refine r_sipush E dX67_takeAll_200 (by decide) (zkI (by decide) (by decide)) ?_
  refine r_callV E [(0, 0), (0, 255)] [(0, 256)] rfl zc_69 zr_69 (fun o _ => ⟨_, zw_X67.1 o, rfl⟩) (lw_V q4355 q4357 qs211 q294 q4358) dX67_takeAll_203 zy_X67_take rfl (by omega) (by decide) (Nat.le_of_ble_eq_true rfl) (by decide) (fun l G => k_fX67_take l G 0 255) (fun v5 => ?_)
  refine r_imul E dX67_takeAll_206 ?_
  refine r_let E (fun v6 ev6 => ?_)
  refine r_istore (ls' := [(6, 0, v6), (5, 0, v4), (4, 0, v3), (0, 69, 0)]) E dX67_takeAll_207 (by rw [hN]; decide) rfl ?_
  refine r_iload E dX67_takeAll_209 0 rfl ?_
  refine r_aload_n E dX67_takeAll_211 rfl 3 rfl ?_
  refine r_iconst E dX67_takeAll_212 (zkI (by decide) (by decide)) ?_
  refine r_sipush E dX67_takeAll_213 (by decide) (zkI (by decide) (by decide)) ?_
  refine r_callV E [(0, 0), (0, 255)] [(0, v6)] rfl zc_69 zr_69 (fun o _ => ⟨_, zw_X67.1 o, rfl⟩) (lw_V q4355 q4357 qs211 q294 q4358) dX67_takeAll_216 zy_X67_take rfl (by omega) (by decide) (Nat.le_of_ble_eq_true rfl) (by decide) (fun l G => k_fX67_take l G 0 255) (fun v7 => ?_)
  refine r_iadd E dX67_takeAll_219 ?_
  refine r_let E (fun v8 ev8 => ?_)
  refine r_istore (ls' := [(6, 0, v8), (5, 0, v4), (4, 0, v3), (0, 69, 0)]) E dX67_takeAll_220 (by rw [hN]; decide) rfl ?_
  refine r_aload_n E dX67_takeAll_222 rfl 3 rfl ?_
  refine r_get E zc_69 zt_6913 dX67_takeAll_223 q3327 zr_69 (zg_6913 _) (by decide) (fun v9 => ?_)
  refine r_if_ne E 244 (by decide) dX67_takeAll_226 (fun _ => ?_) (fun _ => ?_)
  · refine r_pick E [3] rfl ?_
    exact w_fX67_takeAll_J244 E hN hT
  · refine r_iload E dX67_takeAll_229 0 rfl ?_
    refine r_iload E dX67_takeAll_231 2 rfl ?_
    refine r_icmp_eq E 244 (by decide) dX67_takeAll_233 (fun _ => ?_) (fun _ => ?_)
    · refine r_pick E [3] rfl ?_
      exact w_fX67_takeAll_J244 E hN hT
    · refine r_aload_n E dX67_takeAll_236 rfl 3 rfl ?_
      refine r_bipush E dX67_takeAll_237 (by decide) (zkI (by decide) (by decide)) ?_
      refine r_iload E dX67_takeAll_239 1 rfl ?_
      refine r_callV E [(0, 7), (0, v4)] [] rfl zc_69 zr_69 (fun o _ => ⟨_, zw_X67.1 o, rfl⟩) (lw_V q4359 q4361 qs212 q294 q4362) dX67_takeAll_241 zy_X67_torn rfl (by omega) (by decide) (Nat.le_of_ble_eq_true rfl) (by decide) (fun l G => k_fX67_torn l G 7 v4) (fun _ => ?_)
      refine r_pick E [3] rfl ?_
      exact w_fX67_takeAll_J244 E hN hT
theorem w_fX67_takeAll_J165 {K : zK} (E : zE K cX67_takeAll "RingHouseModel" none 5) (hN : zNl K = 7) (hT : zTr K = none) (x2 : Int) (s0 : Int) {r110 : Int × Int → zX} (hr110 : ∀ s : Int × Int, zR K 110 [(0, 69, 0), (2, 0, s.1), (3, 0, s.2)] [] (r110 s)) : zR K 165 [(0, 69, 0), (2, 0, x2)] [(0, s0)] (fX67_takeAll_J165 r110 x2 s0) := by
  refine r_istore_n (ls' := [(3, 0, s0), (0, 69, 0), (2, 0, x2)]) E dX67_takeAll_165 rfl (by rw [hN]; decide) rfl ?_
  refine r_iload_n E dX67_takeAll_166 rfl 0 rfl ?_
  refine r_if_eq E 110 (by decide) dX67_takeAll_167 (fun _ => ?_) (fun _ => ?_)
  · refine r_pick E [1, 2, 0] rfl ?_
    exact hr110 (x2, s0)
  · refine r_aload_n E dX67_takeAll_170 rfl 1 rfl ?_
    refine r_gec (y := 0) E zc_69 dX67_takeAll_171 q3337 zr_69 (zh_6923 (by decide)) (by decide) ?_
    refine r_iload_n E dX67_takeAll_174 rfl 2 rfl ?_
    refine r_dup22 E (zn1 rfl) (zn1 rfl) dX67_takeAll_175 ?_
    refine r_iaload E zc_6923 za_6923 zt_6923 zx_6923 rfl rfl dX67_takeAll_176 (by decide) (fun v20 => ?_)
    refine r_iconst E dX67_takeAll_177 (zkI (by decide) (by decide)) ?_
    refine r_isub E dX67_takeAll_178 ?_
    refine r_iastore E zc_6923 za_6923 zt_6923 zo_6923 zx_6923 rfl rfl dX67_takeAll_179 (by decide) ?_
    refine r_goto E 110 (by decide) dX67_takeAll_180 ?_
    refine r_pick E [1, 2, 0] rfl ?_
    exact hr110 (x2, s0)
theorem w_fX67_takeAll_J164 {K : zK} (E : zE K cX67_takeAll "RingHouseModel" none 5) (hN : zNl K = 7) (hT : zTr K = none) (x2 : Int) {r110 : Int × Int → zX} (hr110 : ∀ s : Int × Int, zR K 110 [(0, 69, 0), (2, 0, s.1), (3, 0, s.2)] [] (r110 s)) : zR K 164 [(0, 69, 0), (2, 0, x2)] [] (fX67_takeAll_J164 r110 x2) := by
  refine r_iconst E dX67_takeAll_164 (zkI (by decide) (by decide)) ?_
  exact w_fX67_takeAll_J165 E hN hT x2 0 hr110
theorem w_fX67_takeAll_J149 {K : zK} (E : zE K cX67_takeAll "RingHouseModel" none 5) (hN : zNl K = 7) (hT : zTr K = none) (x2 : Int) {r110 : Int × Int → zX} (hr110 : ∀ s : Int × Int, zR K 110 [(0, 69, 0), (2, 0, s.1), (3, 0, s.2)] [] (r110 s)) : zR K 149 [(0, 69, 0), (2, 0, x2)] [] (fX67_takeAll_J149 r110 x2) := by
  refine r_aload_n E dX67_takeAll_149 rfl 0 rfl ?_
  refine r_get E zc_69 zt_6913 dX67_takeAll_150 q3327 zr_69 (zg_6913 _) (by decide) (fun v19 => ?_)
  refine r_if_ne E 164 (by decide) dX67_takeAll_153 (fun _ => ?_) (fun _ => ?_)
  · exact w_fX67_takeAll_J164 E hN hT x2 hr110
  · refine r_iload_n E dX67_takeAll_156 rfl 1 rfl ?_
    refine r_if_lt E 164 (by decide) dX67_takeAll_157 (fun _ => ?_) (fun _ => ?_)
    · exact w_fX67_takeAll_J164 E hN hT x2 hr110
    · refine r_iconst E dX67_takeAll_160 (zkI (by decide) (by decide)) ?_
      refine r_goto E 165 (by decide) dX67_takeAll_161 ?_
      exact w_fX67_takeAll_J165 E hN hT x2 1 hr110
theorem w_fX67_takeAll_B126 {K : zK} (E : zE K cX67_takeAll "RingHouseModel" none 5) (hN : zNl K = 7) (hT : zTr K = none) {r110 : Int × Int → zX} (hr110 : ∀ s : Int × Int, zR K 110 [(0, 69, 0), (2, 0, s.1), (3, 0, s.2)] [] (r110 s)) : ∀ r126 : Int → zX, (∀ s : Int, zR K 126 [(0, 69, 0), (2, 0, s)] [] (r126 s)) → ∀ s : Int, zR K 126 [(0, 69, 0), (2, 0, s)] [] (fX67_takeAll_B126 r110 r126 s) := by
  intro r126 hr126 x2
  refine r_iload_n E dX67_takeAll_126 rfl 1 rfl ?_
  refine r_if_lt E 149 (by decide) dX67_takeAll_127 (fun _ => ?_) (fun _ => ?_)
  · exact w_fX67_takeAll_J149 E hN hT x2 hr110
  · refine r_aload_n E dX67_takeAll_130 rfl 0 rfl ?_
    refine r_gec (y := 0) E zc_69 dX67_takeAll_131 q3337 zr_69 (zh_6923 (by decide)) (by decide) ?_
    refine r_iload_n E dX67_takeAll_134 rfl 1 rfl ?_
    refine r_iaload E zc_6923 za_6923 zt_6923 zx_6923 rfl rfl dX67_takeAll_135 (by decide) (fun v21 => ?_)
    refine r_if_ne E 149 (by decide) dX67_takeAll_136 (fun _ => ?_) (fun _ => ?_)
    · exact w_fX67_takeAll_J149 E hN hT x2 hr110
    · refine r_aload_n E dX67_takeAll_139 rfl 0 rfl ?_
      refine r_gec (y := 0) E zc_69 dX67_takeAll_140 q3331 zr_69 (zh_6917 (by decide)) (by decide) ?_
      refine r_iload_n E dX67_takeAll_143 rfl 1 rfl ?_
      refine r_iaload E zc_6917 za_6917 zt_6917 zx_6917 rfl rfl dX67_takeAll_144 (by decide) (fun v22 => ?_)
      refine r_istore_n (ls' := [(2, 0, v22), (0, 69, 0)]) E dX67_takeAll_145 rfl (by rw [hN]; decide) rfl ?_
      refine r_goto E 126 (by decide) dX67_takeAll_146 ?_
      refine r_pick E [1, 0] rfl ?_
      exact hr126 v22
theorem w_fX67_takeAll_B110 {K : zK} (E : zE K cX67_takeAll "RingHouseModel" none 5) (hN : zNl K = 7) (hT : zTr K = none) : ∀ r110 : Int × Int → zX, (∀ s : Int × Int, zR K 110 [(0, 69, 0), (2, 0, s.1), (3, 0, s.2)] [] (r110 s)) → ∀ s : Int × Int, zR K 110 [(0, 69, 0), (2, 0, s.1), (3, 0, s.2)] [] (fX67_takeAll_B110 r110 s) := by
  intro r110 hr110 s
  obtain ⟨x2, x3⟩ := s
  refine r_iload_n E dX67_takeAll_110 rfl 2 rfl ?_
  refine r_if_eq E 183 (by decide) dX67_takeAll_111 (fun _ => ?_) (fun _ => ?_)
  · refine r_pick E [0] rfl ?_
    exact w_fX67_takeAll_J183 E hN hT
  · refine r_aload_n E dX67_takeAll_114 rfl 0 rfl ?_
    refine r_iload_n E dX67_takeAll_115 rfl 1 rfl ?_
    refine r_callV E [(0, x2)] [] rfl zc_69 zr_69 (fun o _ => ⟨_, zw_X67.1 o, rfl⟩) (lw_V q4363 q4365 qs213 q294 q4366) dX67_takeAll_116 zy_X67_takeNode rfl (by omega) (by decide) (Nat.le_of_ble_eq_true rfl) (by decide) (fun l G => k_fX67_takeNode l G x2) (fun _ => ?_)
    refine r_aload_n E dX67_takeAll_119 rfl 0 rfl ?_
    refine r_get E zc_69 zt_6916 dX67_takeAll_120 q3330 zr_69 (zg_6916 _) (by decide) (fun v17 => ?_)
    refine r_iconst E dX67_takeAll_123 (zkI (by decide) (by decide)) ?_
    refine r_isub E dX67_takeAll_124 ?_
    refine r_let E (fun v18 ev18 => ?_)
    refine r_istore_n (ls' := [(2, 0, v18), (0, 69, 0), (3, 0, x3)]) E dX67_takeAll_125 rfl (by rw [hN]; decide) rfl ?_
    refine r_pick E [1, 0] rfl ?_
    exact r_loop (L := fun s => [(0, 69, 0), (2, 0, s)]) (w_fX67_takeAll_B126 E hN hT hr110) zBIG v18
theorem w_fX67_takeAll_J109 {K : zK} (E : zE K cX67_takeAll "RingHouseModel" none 5) (hN : zNl K = 7) (hT : zTr K = none) (x2 : Int) (s0 : Int) : zR K 109 [(0, 69, 0), (2, 0, x2)] [(0, s0)] (fX67_takeAll_J109 x2 s0) := by
  refine r_istore_n (ls' := [(3, 0, s0), (0, 69, 0), (2, 0, x2)]) E dX67_takeAll_109 rfl (by rw [hN]; decide) rfl ?_
  refine r_pick E [1, 2, 0] rfl ?_
  exact r_loop (L := fun s => [(0, 69, 0), (2, 0, s.1), (3, 0, s.2)]) (w_fX67_takeAll_B110 E hN hT) zBIG (x2, s0)
theorem w_fX67_takeAll_J95 {K : zK} (E : zE K cX67_takeAll "RingHouseModel" none 5) (hN : zNl K = 7) (hT : zTr K = none) : zR K 95 [(0, 69, 0)] [] (fX67_takeAll_J95) := by
  refine r_iconst E dX67_takeAll_95 (zkI (by decide) (by decide)) ?_
  refine r_istore_n (ls' := [(2, 0, (-1)), (0, 69, 0)]) E dX67_takeAll_96 rfl (by rw [hN]; decide) rfl ?_
  refine r_aload_n E dX67_takeAll_97 rfl 1 rfl ?_
  refine r_get E zc_69 zt_6913 dX67_takeAll_98 q3327 zr_69 (zg_6913 _) (by decide) (fun v2 => ?_)
  refine r_if_ne E 108 (by decide) dX67_takeAll_101 (fun _ => ?_) (fun _ => ?_)
  · refine r_iconst E dX67_takeAll_108 (zkI (by decide) (by decide)) ?_
    refine r_pick E [1, 0] rfl ?_
    exact w_fX67_takeAll_J109 E hN hT (-1) 0
  · refine r_iconst E dX67_takeAll_104 (zkI (by decide) (by decide)) ?_
    refine r_goto E 109 (by decide) dX67_takeAll_105 ?_
    refine r_pick E [1, 0] rfl ?_
    exact w_fX67_takeAll_J109 E hN hT (-1) 1
theorem w_fX67_takeAll_J89 {K : zK} (E : zE K cX67_takeAll "RingHouseModel" none 5) (hN : zNl K = 7) (hT : zTr K = none) (x2 : Int) {r27 : Int → zX} (hr27 : ∀ s : Int, zR K 27 [(0, 69, 0), (2, 0, s)] [] (r27 s)) : zR K 89 [(0, 69, 0), (2, 0, x2)] [] (fX67_takeAll_J89 r27 x2) := by
  refine r_iinc (ls' := fun v26 => [(2, 0, v26), (0, 69, 0)]) E 1 rfl (by rw [hN]; decide) (fun _ => rfl) dX67_takeAll_89 (fun v26 _ => ?_)
  refine r_goto E 27 (by decide) dX67_takeAll_92 ?_
  refine r_pick E [1, 0] rfl ?_
  exact hr27 v26
theorem w_fX67_takeAll_J59 {K : zK} (E : zE K cX67_takeAll "RingHouseModel" none 5) (hN : zNl K = 7) (hT : zTr K = none) (x2 : Int) (s0 : Int) {r27 : Int → zX} (hr27 : ∀ s : Int, zR K 27 [(0, 69, 0), (2, 0, s)] [] (r27 s)) : zR K 59 [(0, 69, 0), (2, 0, x2)] [(0, s0)] (fX67_takeAll_J59 r27 x2 s0) := by
  refine r_istore_n (ls' := [(3, 0, s0), (0, 69, 0), (2, 0, x2)]) E dX67_takeAll_59 rfl (by rw [hN]; decide) rfl ?_
  refine r_aload_n E dX67_takeAll_60 rfl 1 rfl ?_
  refine r_iconst E dX67_takeAll_61 (zkI (by decide) (by decide)) ?_
  refine r_sipush E dX67_takeAll_62 (by decide) (zkI (by decide) (by decide)) ?_
  refine r_callV E [(0, 0), (0, 255)] [] rfl zc_69 zr_69 (fun o _ => ⟨_, zw_X67.1 o, rfl⟩) (lw_V q4355 q4357 qs211 q294 q4358) dX67_takeAll_65 zy_X67_take rfl (by omega) (by decide) (Nat.le_of_ble_eq_true rfl) (by decide) (fun l G => k_fX67_take l G 0 255) (fun v24 => ?_)
  refine r_istore (ls' := [(4, 0, v24), (3, 0, s0), (0, 69, 0), (2, 0, x2)]) E dX67_takeAll_68 (by rw [hN]; decide) rfl ?_
  refine r_aload_n E dX67_takeAll_70 rfl 2 rfl ?_
  refine r_get E zc_69 zt_6913 dX67_takeAll_71 q3327 zr_69 (zg_6913 _) (by decide) (fun v25 => ?_)
  refine r_if_ne E 89 (by decide) dX67_takeAll_74 (fun _ => ?_) (fun _ => ?_)
  · refine r_pick E [2, 3] rfl ?_
    exact w_fX67_takeAll_J89 E hN hT x2 hr27
  · refine r_iload E dX67_takeAll_77 0 rfl ?_
    refine r_iload_n E dX67_takeAll_79 rfl 1 rfl ?_
    refine r_icmp_eq E 89 (by decide) dX67_takeAll_80 (fun _ => ?_) (fun _ => ?_)
    · refine r_pick E [2, 3] rfl ?_
      exact w_fX67_takeAll_J89 E hN hT x2 hr27
    · refine r_aload_n E dX67_takeAll_83 rfl 2 rfl ?_
      refine r_iconst E dX67_takeAll_84 (zkI (by decide) (by decide)) ?_
      refine r_iload_n E dX67_takeAll_85 rfl 3 rfl ?_
      refine r_callV E [(0, 2), (0, x2)] [] rfl zc_69 zr_69 (fun o _ => ⟨_, zw_X67.1 o, rfl⟩) (lw_V q4359 q4361 qs212 q294 q4362) dX67_takeAll_86 zy_X67_torn rfl (by omega) (by decide) (Nat.le_of_ble_eq_true rfl) (by decide) (fun l G => k_fX67_torn l G 2 x2) (fun _ => ?_)
      refine r_pick E [2, 3] rfl ?_
      exact w_fX67_takeAll_J89 E hN hT x2 hr27
theorem w_fX67_takeAll_B27 {K : zK} (E : zE K cX67_takeAll "RingHouseModel" none 5) (hN : zNl K = 7) (hT : zTr K = none) : ∀ r27 : Int → zX, (∀ s : Int, zR K 27 [(0, 69, 0), (2, 0, s)] [] (r27 s)) → ∀ s : Int, zR K 27 [(0, 69, 0), (2, 0, s)] [] (fX67_takeAll_B27 r27 s) := by
  intro r27 hr27 x2
  refine r_iload_n E dX67_takeAll_27 rfl 1 rfl ?_
  refine r_iconst E dX67_takeAll_28 (zkI (by decide) (by decide)) ?_
  refine r_icmp_ge E 95 (by decide) dX67_takeAll_29 (fun _ => ?_) (fun _ => ?_)
  · refine r_pick E [0] rfl ?_
    exact w_fX67_takeAll_J95 E hN hT
  · refine r_aload_n E dX67_takeAll_32 rfl 0 rfl ?_
    refine r_get E zc_69 zt_6913 dX67_takeAll_33 q3327 zr_69 (zg_6913 _) (by decide) (fun v23 => ?_)
    refine r_if_ne E 95 (by decide) dX67_takeAll_36 (fun _ => ?_) (fun _ => ?_)
    · refine r_pick E [0] rfl ?_
      exact w_fX67_takeAll_J95 E hN hT
    · refine r_iload_n E dX67_takeAll_39 rfl 1 rfl ?_
      refine r_if_ne E 48 (by decide) dX67_takeAll_40 (fun _ => ?_) (fun _ => ?_)
      · refine r_iload_n E dX67_takeAll_48 rfl 1 rfl ?_
        refine r_iconst E dX67_takeAll_49 (zkI (by decide) (by decide)) ?_
        refine r_icmp_ne E 58 (by decide) dX67_takeAll_50 (fun _ => ?_) (fun _ => ?_)
        · refine r_iconst E dX67_takeAll_58 (zkI (by decide) (by decide)) ?_
          exact w_fX67_takeAll_J59 E hN hT x2 1 hr27
        · refine r_bipush E dX67_takeAll_53 (by decide) (zkI (by decide) (by decide)) ?_
          refine r_goto E 59 (by decide) dX67_takeAll_55 ?_
          exact w_fX67_takeAll_J59 E hN hT x2 72 hr27
      · refine r_bipush E dX67_takeAll_43 (by decide) (zkI (by decide) (by decide)) ?_
        refine r_goto E 59 (by decide) dX67_takeAll_45 ?_
        exact w_fX67_takeAll_J59 E hN hT x2 82 hr27
theorem w_fX67_takeAll {K : zK} (E : zE K cX67_takeAll "RingHouseModel" none 5) (hN : zNl K = 7) (hT : zTr K = none) (x1 : Int) : zR K 0 [(0, 69, 0), (1, 0, x1)] [] (fX67_takeAll x1) := by
  refine r_aload_n E dX67_takeAll_0 rfl 0 rfl ?_
  refine r_iload_n E dX67_takeAll_1 rfl 1 rfl ?_
  refine r_pb (fun hb1 => ?_)
  refine r_put E zc_69 zt_6925 zo_6925 dX67_takeAll_2 q3339 zr_69 zw_X67 zp_6925 (znb hb1) (zfb hb1) (by decide) ?_
  refine r_aload_n E dX67_takeAll_5 rfl 0 rfl ?_
  refine r_iconst E dX67_takeAll_6 (zkI (by decide) (by decide)) ?_
  refine r_put E zc_69 zt_6916 zo_6916 dX67_takeAll_7 q3330 zr_69 zw_X67 zp_6916 (fun _ => rfl) (fun _ => rfl) (by decide) ?_
  refine r_aload_n E dX67_takeAll_10 rfl 0 rfl ?_
  refine r_iconst E dX67_takeAll_11 (zkI (by decide) (by decide)) ?_
  refine r_put E zc_69 zt_6912 zo_6912 dX67_takeAll_12 q3326 zr_69 zw_X67 zp_6912 (fun _ => rfl) (fun _ => rfl) (by decide) ?_
  refine r_aload_n E dX67_takeAll_15 rfl 0 rfl ?_
  refine r_iconst E dX67_takeAll_16 (zkI (by decide) (by decide)) ?_
  refine r_put E zc_69 zt_6915 zo_6915 dX67_takeAll_17 q3329 zr_69 zw_X67 zp_6915 (fun _ => rfl) (fun _ => rfl) (by decide) ?_
  refine r_aload_n E dX67_takeAll_20 rfl 0 rfl ?_
  refine r_lconst (v := 0) E dX67_takeAll_21 (by decide) (zkJ (by decide) (by decide)) ?_
  refine r_put E zc_69 zt_6927 zo_6927 dX67_takeAll_22 q3341 zr_69 zw_X67 zp_6927 (fun _ => rfl) (fun _ => rfl) (by decide) ?_
  refine r_iconst E dX67_takeAll_25 (zkI (by decide) (by decide)) ?_
  refine r_istore_n (ls' := [(2, 0, 0), (0, 69, 0), (1, 0, x1)]) E dX67_takeAll_26 rfl (by rw [hN]; decide) rfl ?_
  refine r_pick E [1, 0] rfl ?_
  exact r_loop (L := fun s => [(0, 69, 0), (2, 0, s)]) (w_fX67_takeAll_B27 E hN hT) zBIG 0
theorem k_fX67_takeAll (l : Launch) (G : zG) (x1 : Int) : zCt l G yX67_takeAll cX67_takeAll 7 none 5 [(69, 0), (0, x1)] none (fX67_takeAll x1) := zCt.of (by decide) (Nat.le_of_ble_eq_true rfl) (fun K E _ _ hN hT => w_fX67_takeAll E hN hT x1)
theorem dX67_hasRoomFor_0 : decode cX67_hasRoomFor 0 = .ok (.aload_n 0, 1) := by decide +kernel
theorem dX67_hasRoomFor_1 : decode cX67_hasRoomFor 1 = .ok (.iload_n 1, 1) := by decide +kernel
theorem dX67_hasRoomFor_2 : decode cX67_hasRoomFor 2 = .ok (.invokevirtual 390, 3) := by decide +kernel
theorem dX67_hasRoomFor_5 : decode cX67_hasRoomFor 5 = .ok (.istore_n 2, 1) := by decide +kernel
theorem dX67_hasRoomFor_6 : decode cX67_hasRoomFor 6 = .ok (.aload_n 0, 1) := by decide +kernel
theorem dX67_hasRoomFor_7 : decode cX67_hasRoomFor 7 = .ok (.getfield 35, 3) := by decide +kernel
theorem dX67_hasRoomFor_10 : decode cX67_hasRoomFor 10 = .ok (.iload_n 2, 1) := by decide +kernel
theorem dX67_hasRoomFor_11 : decode cX67_hasRoomFor 11 = .ok (.iaload, 1) := by decide +kernel
theorem dX67_hasRoomFor_12 : decode cX67_hasRoomFor 12 = .ok (.i2l, 1) := by decide +kernel
theorem dX67_hasRoomFor_13 : decode cX67_hasRoomFor 13 = .ok (.aload_n 0, 1) := by decide +kernel
theorem dX67_hasRoomFor_14 : decode cX67_hasRoomFor 14 = .ok (.getfield 1065, 3) := by decide +kernel
theorem dX67_hasRoomFor_17 : decode cX67_hasRoomFor 17 = .ok (.ladd, 1) := by decide +kernel
theorem dX67_hasRoomFor_18 : decode cX67_hasRoomFor 18 = .ok (.aload_n 0, 1) := by decide +kernel
theorem dX67_hasRoomFor_19 : decode cX67_hasRoomFor 19 = .ok (.getfield 32, 3) := by decide +kernel
theorem dX67_hasRoomFor_22 : decode cX67_hasRoomFor 22 = .ok (.iload_n 2, 1) := by decide +kernel
theorem dX67_hasRoomFor_23 : decode cX67_hasRoomFor 23 = .ok (.iaload, 1) := by decide +kernel
theorem dX67_hasRoomFor_24 : decode cX67_hasRoomFor 24 = .ok (.i2l, 1) := by decide +kernel
theorem dX67_hasRoomFor_25 : decode cX67_hasRoomFor 25 = .ok (.lcmp, 1) := by decide +kernel
theorem dX67_hasRoomFor_26 : decode cX67_hasRoomFor 26 = .ok (.ifCond .gt 7, 3) := by decide +kernel
theorem dX67_hasRoomFor_29 : decode cX67_hasRoomFor 29 = .ok (.iconst 1, 1) := by decide +kernel
theorem dX67_hasRoomFor_30 : decode cX67_hasRoomFor 30 = .ok (.goto 4, 3) := by decide +kernel
theorem dX67_hasRoomFor_33 : decode cX67_hasRoomFor 33 = .ok (.iconst 0, 1) := by decide +kernel
theorem dX67_hasRoomFor_34 : decode cX67_hasRoomFor 34 = .ok (.istore_n 3, 1) := by decide +kernel
theorem dX67_hasRoomFor_35 : decode cX67_hasRoomFor 35 = .ok (.iconst 0, 1) := by decide +kernel
theorem dX67_hasRoomFor_36 : decode cX67_hasRoomFor 36 = .ok (.istore 4, 2) := by decide +kernel
theorem dX67_hasRoomFor_38 : decode cX67_hasRoomFor 38 = .ok (.iload 4, 2) := by decide +kernel
theorem dX67_hasRoomFor_40 : decode cX67_hasRoomFor 40 = .ok (.aload_n 0, 1) := by decide +kernel
theorem dX67_hasRoomFor_41 : decode cX67_hasRoomFor 41 = .ok (.getfield 1049, 3) := by decide +kernel
theorem dX67_hasRoomFor_44 : decode cX67_hasRoomFor 44 = .ok (.if_icmp .ge 48, 3) := by decide +kernel
theorem dX67_hasRoomFor_47 : decode cX67_hasRoomFor 47 = .ok (.iload_n 3, 1) := by decide +kernel
theorem dX67_hasRoomFor_48 : decode cX67_hasRoomFor 48 = .ok (.ifCond .eq 36, 3) := by decide +kernel
theorem dX67_hasRoomFor_51 : decode cX67_hasRoomFor 51 = .ok (.aload_n 0, 1) := by decide +kernel
theorem dX67_hasRoomFor_52 : decode cX67_hasRoomFor 52 = .ok (.getfield 343, 3) := by decide +kernel
theorem dX67_hasRoomFor_55 : decode cX67_hasRoomFor 55 = .ok (.iload 4, 2) := by decide +kernel
theorem dX67_hasRoomFor_57 : decode cX67_hasRoomFor 57 = .ok (.iaload, 1) := by decide +kernel
theorem dX67_hasRoomFor_58 : decode cX67_hasRoomFor 58 = .ok (.ifCond .eq 22, 3) := by decide +kernel
theorem dX67_hasRoomFor_61 : decode cX67_hasRoomFor 61 = .ok (.aload_n 0, 1) := by decide +kernel
theorem dX67_hasRoomFor_62 : decode cX67_hasRoomFor 62 = .ok (.getfield 346, 3) := by decide +kernel
theorem dX67_hasRoomFor_65 : decode cX67_hasRoomFor 65 = .ok (.iload 4, 2) := by decide +kernel
theorem dX67_hasRoomFor_67 : decode cX67_hasRoomFor 67 = .ok (.laload, 1) := by decide +kernel
theorem dX67_hasRoomFor_68 : decode cX67_hasRoomFor 68 = .ok (.aload_n 0, 1) := by decide +kernel
theorem dX67_hasRoomFor_69 : decode cX67_hasRoomFor 69 = .ok (.getfield 343, 3) := by decide +kernel
theorem dX67_hasRoomFor_72 : decode cX67_hasRoomFor 72 = .ok (.iload 4, 2) := by decide +kernel
theorem dX67_hasRoomFor_74 : decode cX67_hasRoomFor 74 = .ok (.iaload, 1) := by decide +kernel
theorem dX67_hasRoomFor_75 : decode cX67_hasRoomFor 75 = .ok (.i2l, 1) := by decide +kernel
theorem dX67_hasRoomFor_76 : decode cX67_hasRoomFor 76 = .ok (.lcmp, 1) := by decide +kernel
theorem dX67_hasRoomFor_77 : decode cX67_hasRoomFor 77 = .ok (.ifCond .gt 7, 3) := by decide +kernel
theorem dX67_hasRoomFor_80 : decode cX67_hasRoomFor 80 = .ok (.iconst 1, 1) := by decide +kernel
theorem dX67_hasRoomFor_81 : decode cX67_hasRoomFor 81 = .ok (.goto 4, 3) := by decide +kernel
theorem dX67_hasRoomFor_84 : decode cX67_hasRoomFor 84 = .ok (.iconst 0, 1) := by decide +kernel
theorem dX67_hasRoomFor_85 : decode cX67_hasRoomFor 85 = .ok (.istore_n 3, 1) := by decide +kernel
theorem dX67_hasRoomFor_86 : decode cX67_hasRoomFor 86 = .ok (.iinc 4 1, 3) := by decide +kernel
theorem dX67_hasRoomFor_89 : decode cX67_hasRoomFor 89 = .ok (.goto (-51), 3) := by decide +kernel
theorem dX67_hasRoomFor_92 : decode cX67_hasRoomFor 92 = .ok (.iload_n 3, 1) := by decide +kernel
theorem dX67_hasRoomFor_93 : decode cX67_hasRoomFor 93 = .ok (.ireturn, 1) := by decide +kernel
theorem zy_X67_hasRoomFor : yX67_hasRoomFor.cls ≠ "java/lang/invoke/MethodHandle" ∧ yX67_hasRoomFor.cls ≠ "java/lang/invoke/VarHandle" ∧ (parseMethodDescriptor yX67_hasRoomFor.desc).map (fun d => d.parameters.length) = some 1 := by decide +kernel
theorem w_fX67_hasRoomFor_J85 {K : zK} (E : zE K cX67_hasRoomFor "RingHouseModel" (some .boolean) 1) (hN : zNl K = 5) (hT : zTr K = (some 0)) (x4 : Int) (s0 : Int) {r38 : Int × Int → zX} (hr38 : ∀ s : Int × Int, zR K 38 [(0, 69, 0), (3, 0, s.1), (4, 0, s.2)] [] (r38 s)) : zR K 85 [(0, 69, 0), (4, 0, x4)] [(0, s0)] (fX67_hasRoomFor_J85 r38 x4 s0) := by
  refine r_istore_n (ls' := [(3, 0, s0), (0, 69, 0), (4, 0, x4)]) E dX67_hasRoomFor_85 rfl (by rw [hN]; decide) rfl ?_
  refine r_iinc (ls' := fun v6 => [(4, 0, v6), (3, 0, s0), (0, 69, 0)]) E 2 rfl (by rw [hN]; decide) (fun _ => rfl) dX67_hasRoomFor_86 (fun v6 _ => ?_)
  refine r_goto E 38 (by decide) dX67_hasRoomFor_89 ?_
  refine r_pick E [2, 1, 0] rfl ?_
  exact hr38 (s0, v6)
theorem w_fX67_hasRoomFor_J84 {K : zK} (E : zE K cX67_hasRoomFor "RingHouseModel" (some .boolean) 1) (hN : zNl K = 5) (hT : zTr K = (some 0)) (x4 : Int) {r38 : Int × Int → zX} (hr38 : ∀ s : Int × Int, zR K 38 [(0, 69, 0), (3, 0, s.1), (4, 0, s.2)] [] (r38 s)) : zR K 84 [(0, 69, 0), (4, 0, x4)] [] (fX67_hasRoomFor_J84 r38 x4) := by
  refine r_iconst E dX67_hasRoomFor_84 (zkI (by decide) (by decide)) ?_
  exact w_fX67_hasRoomFor_J85 E hN hT x4 0 hr38
theorem w_fX67_hasRoomFor_J80 {K : zK} (E : zE K cX67_hasRoomFor "RingHouseModel" (some .boolean) 1) (hN : zNl K = 5) (hT : zTr K = (some 0)) (x4 : Int) {r38 : Int × Int → zX} (hr38 : ∀ s : Int × Int, zR K 38 [(0, 69, 0), (3, 0, s.1), (4, 0, s.2)] [] (r38 s)) : zR K 80 [(0, 69, 0), (4, 0, x4)] [] (fX67_hasRoomFor_J80 r38 x4) := by
  refine r_iconst E dX67_hasRoomFor_80 (zkI (by decide) (by decide)) ?_
  refine r_goto E 85 (by decide) dX67_hasRoomFor_81 ?_
  exact w_fX67_hasRoomFor_J85 E hN hT x4 1 hr38
theorem w_fX67_hasRoomFor_B38 {K : zK} (E : zE K cX67_hasRoomFor "RingHouseModel" (some .boolean) 1) (hN : zNl K = 5) (hT : zTr K = (some 0)) : ∀ r38 : Int × Int → zX, (∀ s : Int × Int, zR K 38 [(0, 69, 0), (3, 0, s.1), (4, 0, s.2)] [] (r38 s)) → ∀ s : Int × Int, zR K 38 [(0, 69, 0), (3, 0, s.1), (4, 0, s.2)] [] (fX67_hasRoomFor_B38 r38 s) := by
  intro r38 hr38 s
  obtain ⟨x3, x4⟩ := s
  unfold fX67_hasRoomFor_B38
  refine r_iload E dX67_hasRoomFor_38 2 rfl ?_
  refine r_aload_n E dX67_hasRoomFor_40 rfl 0 rfl ?_
  refine r_get E zc_69 zt_6916 dX67_hasRoomFor_41 q3330 zr_69 (zg_6916 _) (by decide) (fun v5 => ?_)
  refine r_icmp_ge E 92 (by decide) dX67_hasRoomFor_44 (fun _ => ?_) (fun _ => ?_)
  · refine r_iload_n E dX67_hasRoomFor_92 rfl 1 rfl ?_
    exact r_zreturnb E rfl hT dX67_hasRoomFor_93
  · refine r_iload_n E dX67_hasRoomFor_47 rfl 1 rfl ?_
    refine r_if_eq E 84 (by decide) dX67_hasRoomFor_48 (fun _ => ?_) (fun _ => ?_)
    · refine r_pick E [0, 2] rfl ?_
      exact w_fX67_hasRoomFor_J84 E hN hT x4 hr38
    · refine r_aload_n E dX67_hasRoomFor_51 rfl 0 rfl ?_
      refine r_gec (y := 0) E zc_69 dX67_hasRoomFor_52 q3335 zr_69 (zh_6921 (by decide)) (by decide) ?_
      refine r_iload E dX67_hasRoomFor_55 2 rfl ?_
      refine r_iaload E zc_6921 za_6921 zt_6921 zx_6921 rfl rfl dX67_hasRoomFor_57 (by decide) (fun v7 => ?_)
      refine r_if_eq E 80 (by decide) dX67_hasRoomFor_58 (fun _ => ?_) (fun _ => ?_)
      · refine r_pick E [0, 2] rfl ?_
        exact w_fX67_hasRoomFor_J80 E hN hT x4 hr38
      · refine r_aload_n E dX67_hasRoomFor_61 rfl 0 rfl ?_
        refine r_gec (y := 0) E zc_69 dX67_hasRoomFor_62 q3336 zr_69 (zh_6922 (by decide)) (by decide) ?_
        refine r_iload E dX67_hasRoomFor_65 2 rfl ?_
        refine r_laload E zc_6922 za_6922 zt_6922 zx_6922 rfl rfl dX67_hasRoomFor_67 (by decide) (fun v8 => ?_)
        refine r_aload_n E dX67_hasRoomFor_68 rfl 0 rfl ?_
        refine r_gec (y := 0) E zc_69 dX67_hasRoomFor_69 q3335 zr_69 (zh_6921 (by decide)) (by decide) ?_
        refine r_iload E dX67_hasRoomFor_72 2 rfl ?_
        refine r_iaload E zc_6921 za_6921 zt_6921 zx_6921 rfl rfl dX67_hasRoomFor_74 (by decide) (fun v9 => ?_)
        refine r_i2l E dX67_hasRoomFor_75 ?_
        refine r_lcmp_gt E 84 (by decide) dX67_hasRoomFor_76 dX67_hasRoomFor_77 (fun _ => ?_) (fun _ => ?_)
        · refine r_pick E [0, 2] rfl ?_
          exact w_fX67_hasRoomFor_J84 E hN hT x4 hr38
        · refine r_pick E [0, 2] rfl ?_
          exact w_fX67_hasRoomFor_J80 E hN hT x4 hr38
theorem w_fX67_hasRoomFor_J34 {K : zK} (E : zE K cX67_hasRoomFor "RingHouseModel" (some .boolean) 1) (hN : zNl K = 5) (hT : zTr K = (some 0)) (s0 : Int) : zR K 34 [(0, 69, 0)] [(0, s0)] (fX67_hasRoomFor_J34 s0) := by
  refine r_istore_n (ls' := [(3, 0, s0), (0, 69, 0)]) E dX67_hasRoomFor_34 rfl (by rw [hN]; decide) rfl ?_
  refine r_iconst E dX67_hasRoomFor_35 (zkI (by decide) (by decide)) ?_
  refine r_istore (ls' := [(4, 0, 0), (3, 0, s0), (0, 69, 0)]) E dX67_hasRoomFor_36 (by rw [hN]; decide) rfl ?_
  refine r_pick E [2, 1, 0] rfl ?_
  exact r_loop (L := fun s => [(0, 69, 0), (3, 0, s.1), (4, 0, s.2)]) (w_fX67_hasRoomFor_B38 E hN hT) zBIG (s0, 0)
theorem w_fX67_hasRoomFor {K : zK} (E : zE K cX67_hasRoomFor "RingHouseModel" (some .boolean) 1) (hN : zNl K = 5) (hT : zTr K = (some 0)) (x1 : Int) : zR K 0 [(0, 69, 0), (1, 0, x1)] [] (fX67_hasRoomFor x1) := by
  refine r_aload_n E dX67_hasRoomFor_0 rfl 0 rfl ?_
  refine r_iload_n E dX67_hasRoomFor_1 rfl 1 rfl ?_
  refine r_callV E [(0, x1)] [] rfl zc_69 zr_69 (fun o _ => ⟨_, zw_X67.1 o, rfl⟩) (lw_V q3646 q3648 qs96 q294 q3649) dX67_hasRoomFor_2 zy_X67_account rfl (by omega) (by decide) (Nat.le_of_ble_eq_true rfl) (by decide) (fun l G => k_fX67_account l G x1) (fun v1 => ?_)
  refine r_istore_n (ls' := [(2, 0, v1), (0, 69, 0), (1, 0, x1)]) E dX67_hasRoomFor_5 rfl (by rw [hN]; decide) rfl ?_
  refine r_aload_n E dX67_hasRoomFor_6 rfl 1 rfl ?_
  refine r_gec (y := 0) E zc_69 dX67_hasRoomFor_7 q3223 zr_69 (zh_6808 (by decide)) (by decide) ?_
  refine r_iload_n E dX67_hasRoomFor_10 rfl 0 rfl ?_
  refine r_iaload E zc_6808 za_6808 zt_6808 zx_6808 rfl rfl dX67_hasRoomFor_11 (by decide) (fun v2 => ?_)
  refine r_i2l E dX67_hasRoomFor_12 ?_
  refine r_aload_n E dX67_hasRoomFor_13 rfl 1 rfl ?_
  refine r_get E zc_69 zt_6927 dX67_hasRoomFor_14 q3341 zr_69 (zg_6927 _) (by decide) (fun v3 => ?_)
  refine r_ladd E dX67_hasRoomFor_17 ?_
  refine r_aload_n E dX67_hasRoomFor_18 rfl 1 rfl ?_
  refine r_gec (y := 0) E zc_69 dX67_hasRoomFor_19 q3222 zr_69 (zh_6807 (by decide)) (by decide) ?_
  refine r_iload_n E dX67_hasRoomFor_22 rfl 0 rfl ?_
  refine r_iaload E zc_6807 za_6807 zt_6807 zx_6807 rfl rfl dX67_hasRoomFor_23 (by decide) (fun v4 => ?_)
  refine r_i2l E dX67_hasRoomFor_24 ?_
  refine r_lcmp_gt E 33 (by decide) dX67_hasRoomFor_25 dX67_hasRoomFor_26 (fun _ => ?_) (fun _ => ?_)
  · refine r_iconst E dX67_hasRoomFor_33 (zkI (by decide) (by decide)) ?_
    refine r_pick E [1] rfl ?_
    exact w_fX67_hasRoomFor_J34 E hN hT 0
  · refine r_iconst E dX67_hasRoomFor_29 (zkI (by decide) (by decide)) ?_
    refine r_goto E 34 (by decide) dX67_hasRoomFor_30 ?_
    refine r_pick E [1] rfl ?_
    exact w_fX67_hasRoomFor_J34 E hN hT 1
theorem k_fX67_hasRoomFor (l : Launch) (G : zG) (x1 : Int) : zCt l G yX67_hasRoomFor cX67_hasRoomFor 5 (some .boolean) 1 [(69, 0), (0, x1)] (some 0) (fX67_hasRoomFor x1) := zCt.of (by decide) (Nat.le_of_ble_eq_true rfl) (fun K E _ _ hN hT => w_fX67_hasRoomFor E hN hT x1)
theorem dX67_reload_0 : decode cX67_reload 0 = .ok (.aload_n 0, 1) := by decide +kernel
theorem dX67_reload_1 : decode cX67_reload 1 = .ok (.iload_n 1, 1) := by decide +kernel
theorem dX67_reload_2 : decode cX67_reload 2 = .ok (.iconst 1, 1) := by decide +kernel
theorem dX67_reload_3 : decode cX67_reload 3 = .ok (.invokevirtual 439, 3) := by decide +kernel
theorem dX67_reload_6 : decode cX67_reload 6 = .ok (.ifCond .eq 10, 3) := by decide +kernel
theorem dX67_reload_9 : decode cX67_reload 9 = .ok (.lload_n 2, 1) := by decide +kernel
theorem dX67_reload_10 : decode cX67_reload 10 = .ok (.invokestatic 442, 3) := by decide +kernel
theorem dX67_reload_13 : decode cX67_reload 13 = .ok (.ifCond .ne 6, 3) := by decide +kernel
theorem dX67_reload_16 : decode cX67_reload 16 = .ok (.bipush (-8), 2) := by decide +kernel
theorem dX67_reload_18 : decode cX67_reload 18 = .ok (.ireturn, 1) := by decide +kernel
theorem dX67_reload_19 : decode cX67_reload 19 = .ok (.aload_n 0, 1) := by decide +kernel
theorem dX67_reload_20 : decode cX67_reload 20 = .ok (.iload_n 1, 1) := by decide +kernel
theorem dX67_reload_21 : decode cX67_reload 21 = .ok (.lload_n 2, 1) := by decide +kernel
theorem dX67_reload_22 : decode cX67_reload 22 = .ok (.invokevirtual 450, 3) := by decide +kernel
theorem dX67_reload_25 : decode cX67_reload 25 = .ok (.ifCond .lt 6, 3) := by decide +kernel
theorem dX67_reload_28 : decode cX67_reload 28 = .ok (.bipush (-6), 2) := by decide +kernel
theorem dX67_reload_30 : decode cX67_reload 30 = .ok (.ireturn, 1) := by decide +kernel
theorem dX67_reload_31 : decode cX67_reload 31 = .ok (.aload_n 0, 1) := by decide +kernel
theorem dX67_reload_32 : decode cX67_reload 32 = .ok (.iconst 0, 1) := by decide +kernel
theorem dX67_reload_33 : decode cX67_reload 33 = .ok (.putfield 1031, 3) := by decide +kernel
theorem dX67_reload_36 : decode cX67_reload 36 = .ok (.aload_n 0, 1) := by decide +kernel
theorem dX67_reload_37 : decode cX67_reload 37 = .ok (.iload_n 1, 1) := by decide +kernel
theorem dX67_reload_38 : decode cX67_reload 38 = .ok (.putfield 1052, 3) := by decide +kernel
theorem dX67_reload_41 : decode cX67_reload 41 = .ok (.aload_n 0, 1) := by decide +kernel
theorem dX67_reload_42 : decode cX67_reload 42 = .ok (.iconst 0, 1) := by decide +kernel
theorem dX67_reload_43 : decode cX67_reload 43 = .ok (.invokevirtual 1095, 3) := by decide +kernel
theorem dX67_reload_46 : decode cX67_reload 46 = .ok (.aload_n 0, 1) := by decide +kernel
theorem dX67_reload_47 : decode cX67_reload 47 = .ok (.getfield 1031, 3) := by decide +kernel
theorem dX67_reload_50 : decode cX67_reload 50 = .ok (.ifCond .gt 11, 3) := by decide +kernel
theorem dX67_reload_53 : decode cX67_reload 53 = .ok (.aload_n 0, 1) := by decide +kernel
theorem dX67_reload_54 : decode cX67_reload 54 = .ok (.iload_n 1, 1) := by decide +kernel
theorem dX67_reload_55 : decode cX67_reload 55 = .ok (.invokevirtual 1098, 3) := by decide +kernel
theorem dX67_reload_58 : decode cX67_reload 58 = .ok (.ifCond .eq 7, 3) := by decide +kernel
theorem dX67_reload_61 : decode cX67_reload 61 = .ok (.iconst 1, 1) := by decide +kernel
theorem dX67_reload_62 : decode cX67_reload 62 = .ok (.goto 4, 3) := by decide +kernel
theorem dX67_reload_65 : decode cX67_reload 65 = .ok (.iconst 0, 1) := by decide +kernel
theorem dX67_reload_66 : decode cX67_reload 66 = .ok (.istore 4, 2) := by decide +kernel
theorem dX67_reload_68 : decode cX67_reload 68 = .ok (.iload 4, 2) := by decide +kernel
theorem dX67_reload_70 : decode cX67_reload 70 = .ok (.ifCond .ne 13, 3) := by decide +kernel
theorem dX67_reload_73 : decode cX67_reload 73 = .ok (.aload_n 0, 1) := by decide +kernel
theorem dX67_reload_74 : decode cX67_reload 74 = .ok (.bipush 6, 2) := by decide +kernel
theorem dX67_reload_76 : decode cX67_reload 76 = .ok (.aload_n 0, 1) := by decide +kernel
theorem dX67_reload_77 : decode cX67_reload 77 = .ok (.getfield 1008, 3) := by decide +kernel
theorem dX67_reload_80 : decode cX67_reload 80 = .ok (.invokevirtual 1040, 3) := by decide +kernel
theorem dX67_reload_83 : decode cX67_reload 83 = .ok (.aload_n 0, 1) := by decide +kernel
theorem dX67_reload_84 : decode cX67_reload 84 = .ok (.aload_n 0, 1) := by decide +kernel
theorem dX67_reload_85 : decode cX67_reload 85 = .ok (.getfield 1031, 3) := by decide +kernel
theorem dX67_reload_88 : decode cX67_reload 88 = .ok (.ifCond .le 10, 3) := by decide +kernel
theorem dX67_reload_91 : decode cX67_reload 91 = .ok (.aload_n 0, 1) := by decide +kernel
theorem dX67_reload_92 : decode cX67_reload 92 = .ok (.getfield 1034, 3) := by decide +kernel
theorem dX67_reload_95 : decode cX67_reload 95 = .ok (.goto 4, 3) := by decide +kernel
theorem dX67_reload_98 : decode cX67_reload 98 = .ok (.iconst (-1), 1) := by decide +kernel
theorem dX67_reload_99 : decode cX67_reload 99 = .ok (.putfield 209, 3) := by decide +kernel
theorem dX67_reload_102 : decode cX67_reload 102 = .ok (.aload_n 0, 1) := by decide +kernel
theorem dX67_reload_103 : decode cX67_reload 103 = .ok (.getfield 1031, 3) := by decide +kernel
theorem dX67_reload_106 : decode cX67_reload 106 = .ok (.ifCond .le 11, 3) := by decide +kernel
theorem dX67_reload_109 : decode cX67_reload 109 = .ok (.bipush (-10), 2) := by decide +kernel
theorem dX67_reload_111 : decode cX67_reload 111 = .ok (.aload_n 0, 1) := by decide +kernel
theorem dX67_reload_112 : decode cX67_reload 112 = .ok (.getfield 1031, 3) := by decide +kernel
theorem dX67_reload_115 : decode cX67_reload 115 = .ok (.isub, 1) := by decide +kernel
theorem dX67_reload_116 : decode cX67_reload 116 = .ok (.ireturn, 1) := by decide +kernel
theorem dX67_reload_117 : decode cX67_reload 117 = .ok (.aload_n 0, 1) := by decide +kernel
theorem dX67_reload_118 : decode cX67_reload 118 = .ok (.iconst 1, 1) := by decide +kernel
theorem dX67_reload_119 : decode cX67_reload 119 = .ok (.invokevirtual 1095, 3) := by decide +kernel
theorem dX67_reload_122 : decode cX67_reload 122 = .ok (.aload_n 0, 1) := by decide +kernel
theorem dX67_reload_123 : decode cX67_reload 123 = .ok (.getfield 13, 3) := by decide +kernel
theorem dX67_reload_126 : decode cX67_reload 126 = .ok (.aload_n 0, 1) := by decide +kernel
theorem dX67_reload_127 : decode cX67_reload 127 = .ok (.getfield 352, 3) := by decide +kernel
theorem dX67_reload_130 : decode cX67_reload 130 = .ok (.iconst 0, 1) := by decide +kernel
theorem dX67_reload_131 : decode cX67_reload 131 = .ok (.iaload, 1) := by decide +kernel
theorem dX67_reload_132 : decode cX67_reload 132 = .ok (.lload_n 2, 1) := by decide +kernel
theorem dX67_reload_133 : decode cX67_reload 133 = .ok (.lastore, 1) := by decide +kernel
theorem dX67_reload_134 : decode cX67_reload 134 = .ok (.aload_n 0, 1) := by decide +kernel
theorem dX67_reload_135 : decode cX67_reload 135 = .ok (.getfield 352, 3) := by decide +kernel
theorem dX67_reload_138 : decode cX67_reload 138 = .ok (.iconst 0, 1) := by decide +kernel
theorem dX67_reload_139 : decode cX67_reload 139 = .ok (.iaload, 1) := by decide +kernel
theorem dX67_reload_140 : decode cX67_reload 140 = .ok (.ireturn, 1) := by decide +kernel
theorem zy_X67_reload : yX67_reload.cls ≠ "java/lang/invoke/MethodHandle" ∧ yX67_reload.cls ≠ "java/lang/invoke/VarHandle" ∧ (parseMethodDescriptor yX67_reload.desc).map (fun d => d.parameters.length) = some 2 := by decide +kernel
theorem w_fX67_reload_J99 {K : zK} (E : zE K cX67_reload "RingHouseModel" (some .int) 6) (hN : zNl K = 5) (hT : zTr K = (some 0)) (x2 : Int) (s1 : Int) : zR K 99 [(0, 69, 0), (2, 1, x2)] [(0, s1), (69, 0)] (fX67_reload_J99 x2 s1) := by
  refine r_put E zc_69 zt_6869 zo_6869 dX67_reload_99 q3284 zr_69 zw_X67 zp_6869 (fun _ => rfl) (fun _ => rfl) (by decide) ?_
  refine r_aload_n E dX67_reload_102 rfl 0 rfl ?_
  refine r_get E zc_69 zt_6913 dX67_reload_103 q3327 zr_69 (zg_6913 _) (by decide) (fun v7 => ?_)
  refine r_if_le E 117 (by decide) dX67_reload_106 (fun _ => ?_) (fun _ => ?_)
  · refine r_aload_n E dX67_reload_117 rfl 0 rfl ?_
    refine r_iconst E dX67_reload_118 (zkI (by decide) (by decide)) ?_
    refine r_callV E [(0, 1)] [] rfl zc_69 zr_69 (fun o _ => ⟨_, zw_X67.1 o, rfl⟩) (lw_V q4351 q4353 qs210 q294 q4354) dX67_reload_119 zy_X67_takeAll rfl (by omega) (by decide) (Nat.le_of_ble_eq_true rfl) (by decide) (fun l G => k_fX67_takeAll l G 1) (fun _ => ?_)
    refine r_aload_n E dX67_reload_122 rfl 0 rfl ?_
    refine r_gec (y := 0) E zc_69 dX67_reload_123 q3216 zr_69 (zh_6801 (by decide)) (by decide) ?_
    refine r_aload_n E dX67_reload_126 rfl 0 rfl ?_
    refine r_gec (y := 0) E zc_69 dX67_reload_127 q3338 zr_69 (zh_6924 (by decide)) (by decide) ?_
    refine r_iconst E dX67_reload_130 (zkI (by decide) (by decide)) ?_
    refine r_iaload E zc_6924 za_6924 zt_6924 zx_6924 rfl rfl dX67_reload_131 (by decide) (fun v9 => ?_)
    refine r_lload_n E dX67_reload_132 rfl 1 rfl ?_
    refine r_lastore E zc_6801 za_6801 zt_6801 zo_6801 zx_6801 rfl rfl dX67_reload_133 (by decide) ?_
    refine r_aload_n E dX67_reload_134 rfl 0 rfl ?_
    refine r_gec (y := 0) E zc_69 dX67_reload_135 q3338 zr_69 (zh_6924 (by decide)) (by decide) ?_
    refine r_iconst E dX67_reload_138 (zkI (by decide) (by decide)) ?_
    refine r_iaload E zc_6924 za_6924 zt_6924 zx_6924 rfl rfl dX67_reload_139 (by decide) (fun v10 => ?_)
    exact r_ireturn E rfl hT dX67_reload_140
  · refine r_bipush E dX67_reload_109 (by decide) (zkI (by decide) (by decide)) ?_
    refine r_aload_n E dX67_reload_111 rfl 0 rfl ?_
    refine r_get E zc_69 zt_6913 dX67_reload_112 q3327 zr_69 (zg_6913 _) (by decide) (fun v11 => ?_)
    refine r_isub E dX67_reload_115 ?_
    exact r_ireturn E rfl hT dX67_reload_116
theorem w_fX67_reload_J83 {K : zK} (E : zE K cX67_reload "RingHouseModel" (some .int) 6) (hN : zNl K = 5) (hT : zTr K = (some 0)) (x2 : Int) : zR K 83 [(0, 69, 0), (2, 1, x2)] [] (fX67_reload_J83 x2) := by
  refine r_aload_n E dX67_reload_83 rfl 0 rfl ?_
  refine r_aload_n E dX67_reload_84 rfl 0 rfl ?_
  refine r_get E zc_69 zt_6913 dX67_reload_85 q3327 zr_69 (zg_6913 _) (by decide) (fun v6 => ?_)
  refine r_if_le E 98 (by decide) dX67_reload_88 (fun _ => ?_) (fun _ => ?_)
  · refine r_iconst E dX67_reload_98 (zkI (by decide) (by decide)) ?_
    exact w_fX67_reload_J99 E hN hT x2 (-1)
  · refine r_aload_n E dX67_reload_91 rfl 0 rfl ?_
    refine r_get E zc_69 zt_6914 dX67_reload_92 q3328 zr_69 (zg_6914 _) (by decide) (fun v12 => ?_)
    refine r_goto E 99 (by decide) dX67_reload_95 ?_
    exact w_fX67_reload_J99 E hN hT x2 v12
theorem w_fX67_reload_J66 {K : zK} (E : zE K cX67_reload "RingHouseModel" (some .int) 6) (hN : zNl K = 5) (hT : zTr K = (some 0)) (x2 : Int) (s0 : Int) : zR K 66 [(0, 69, 0), (2, 1, x2)] [(0, s0)] (fX67_reload_J66 x2 s0) := by
  refine r_istore (ls' := [(4, 0, s0), (0, 69, 0), (2, 1, x2)]) E dX67_reload_66 (by rw [hN]; decide) rfl ?_
  refine r_iload E dX67_reload_68 0 rfl ?_
  refine r_if_ne E 83 (by decide) dX67_reload_70 (fun _ => ?_) (fun _ => ?_)
  · refine r_pick E [1, 2] rfl ?_
    exact w_fX67_reload_J83 E hN hT x2
  · refine r_aload_n E dX67_reload_73 rfl 1 rfl ?_
    refine r_bipush E dX67_reload_74 (by decide) (zkI (by decide) (by decide)) ?_
    refine r_aload_n E dX67_reload_76 rfl 1 rfl ?_
    refine r_get E zc_69 zt_6872 dX67_reload_77 q3287 zr_69 (zg_6872 _) (by decide) (fun v13 => ?_)
    refine r_callV E [(0, 6), (0, v13)] [] rfl zc_69 zr_69 (fun o _ => ⟨_, zw_X67.1 o, rfl⟩) (lw_V q4359 q4361 qs212 q294 q4362) dX67_reload_80 zy_X67_torn rfl (by omega) (by decide) (Nat.le_of_ble_eq_true rfl) (by decide) (fun l G => k_fX67_torn l G 6 v13) (fun _ => ?_)
    refine r_pick E [1, 2] rfl ?_
    exact w_fX67_reload_J83 E hN hT x2
theorem w_fX67_reload_J61 {K : zK} (E : zE K cX67_reload "RingHouseModel" (some .int) 6) (hN : zNl K = 5) (hT : zTr K = (some 0)) (x2 : Int) : zR K 61 [(0, 69, 0), (2, 1, x2)] [] (fX67_reload_J61 x2) := by
  refine r_iconst E dX67_reload_61 (zkI (by decide) (by decide)) ?_
  refine r_goto E 66 (by decide) dX67_reload_62 ?_
  exact w_fX67_reload_J66 E hN hT x2 1
theorem w_fX67_reload {K : zK} (E : zE K cX67_reload "RingHouseModel" (some .int) 6) (hN : zNl K = 5) (hT : zTr K = (some 0)) (x1 : Int) (x2 : Int) : zR K 0 [(0, 69, 0), (1, 0, x1), (2, 1, x2)] [] (fX67_reload x1 x2) := by
  refine r_aload_n E dX67_reload_0 rfl 0 rfl ?_
  refine r_iload_n E dX67_reload_1 rfl 1 rfl ?_
  refine r_iconst E dX67_reload_2 (zkI (by decide) (by decide)) ?_
  refine r_callV E [(0, x1), (0, 1)] [] rfl zc_69 zr_69 (fun o _ => ⟨_, zw_X67.1 o, rfl⟩) (lw_V q3610 q3612 qs92 q294 q3613) dX67_reload_3 zy_X67_isOf rfl (by omega) (by decide) (Nat.le_of_ble_eq_true rfl) (by decide) (fun l G => k_fX67_isOf l G x1 1) (fun v1 => ?_)
  refine r_if_eq E 16 (by decide) dX67_reload_6 (fun _ => ?_) (fun _ => ?_)
  · refine r_bipush E dX67_reload_16 (by decide) (zkI (by decide) (by decide)) ?_
    exact r_ireturn E rfl hT dX67_reload_18
  · refine r_lload_n E dX67_reload_9 rfl 2 rfl ?_
    refine r_callS E [(1, x2)] [] rfl q3622 q3623 q294 q3624 dX67_reload_10 zy_X67_isName rfl (by omega) (by decide) (Nat.le_of_ble_eq_true rfl) (fun l G => k_fX67_isName l G x2) (fun v2 => ?_)
    refine r_if_ne E 19 (by decide) dX67_reload_13 (fun _ => ?_) (fun _ => ?_)
    · refine r_aload_n E dX67_reload_19 rfl 0 rfl ?_
      refine r_iload_n E dX67_reload_20 rfl 1 rfl ?_
      refine r_lload_n E dX67_reload_21 rfl 2 rfl ?_
      refine r_callV E [(0, x1), (1, x2)] [] rfl zc_69 zr_69 (fun o _ => ⟨_, zw_X67.1 o, rfl⟩) (lw_V q3635 q3637 qs94 q294 q3638) dX67_reload_22 zy_X67_entryNamed rfl (by omega) (by decide) (Nat.le_of_ble_eq_true rfl) (by decide) (fun l G => k_fX67_entryNamed l G x1 x2) (fun v3 => ?_)
      refine r_if_lt E 31 (by decide) dX67_reload_25 (fun _ => ?_) (fun _ => ?_)
      · refine r_aload_n E dX67_reload_31 rfl 0 rfl ?_
        refine r_iconst E dX67_reload_32 (zkI (by decide) (by decide)) ?_
        refine r_put E zc_69 zt_6913 zo_6913 dX67_reload_33 q3327 zr_69 zw_X67 zp_6913 (fun _ => rfl) (fun _ => rfl) (by decide) ?_
        refine r_aload_n E dX67_reload_36 rfl 0 rfl ?_
        refine r_iload_n E dX67_reload_37 rfl 1 rfl ?_
        refine r_put E zc_69 zt_6926 zo_6926 dX67_reload_38 q3340 zr_69 zw_X67 zp_6926 (fun _ => rfl) (fun _ => rfl) (by decide) ?_
        refine r_aload_n E dX67_reload_41 rfl 0 rfl ?_
        refine r_iconst E dX67_reload_42 (zkI (by decide) (by decide)) ?_
        refine r_callV E [(0, 0)] [] rfl zc_69 zr_69 (fun o _ => ⟨_, zw_X67.1 o, rfl⟩) (lw_V q4351 q4353 qs210 q294 q4354) dX67_reload_43 zy_X67_takeAll rfl (by omega) (by decide) (Nat.le_of_ble_eq_true rfl) (by decide) (fun l G => k_fX67_takeAll l G 0) (fun _ => ?_)
        refine r_aload_n E dX67_reload_46 rfl 0 rfl ?_
        refine r_get E zc_69 zt_6913 dX67_reload_47 q3327 zr_69 (zg_6913 _) (by decide) (fun v5 => ?_)
        refine r_if_gt E 61 (by decide) dX67_reload_50 (fun _ => ?_) (fun _ => ?_)
        · refine r_pick E [0, 2] rfl ?_
          exact w_fX67_reload_J61 E hN hT x2
        · refine r_aload_n E dX67_reload_53 rfl 0 rfl ?_
          refine r_iload_n E dX67_reload_54 rfl 1 rfl ?_
          refine r_callV E [(0, x1)] [] rfl zc_69 zr_69 (fun o _ => ⟨_, zw_X67.1 o, rfl⟩) (lw_V q4411 q4413 qs225 q294 q4414) dX67_reload_55 zy_X67_hasRoomFor rfl (by omega) (by decide) (Nat.le_of_ble_eq_true rfl) (by decide) (fun l G => k_fX67_hasRoomFor l G x1) (fun v15 => ?_)
          refine r_if_eq E 65 (by decide) dX67_reload_58 (fun _ => ?_) (fun _ => ?_)
          · refine r_iconst E dX67_reload_65 (zkI (by decide) (by decide)) ?_
            refine r_pick E [0, 2] rfl ?_
            exact w_fX67_reload_J66 E hN hT x2 0
          · refine r_pick E [0, 2] rfl ?_
            exact w_fX67_reload_J61 E hN hT x2
      · refine r_bipush E dX67_reload_28 (by decide) (zkI (by decide) (by decide)) ?_
        exact r_ireturn E rfl hT dX67_reload_30
    · refine r_bipush E dX67_reload_16 (by decide) (zkI (by decide) (by decide)) ?_
      exact r_ireturn E rfl hT dX67_reload_18
theorem k_fX67_reload (l : Launch) (G : zG) (x1 : Int) (x2 : Int) : zCt l G yX67_reload cX67_reload 5 (some .int) 6 [(69, 0), (0, x1), (1, x2)] (some 0) (fX67_reload x1 x2) := zCt.of (by decide) (Nat.le_of_ble_eq_true rfl) (fun K E _ _ hN hT => w_fX67_reload E hN hT x1 x2)
