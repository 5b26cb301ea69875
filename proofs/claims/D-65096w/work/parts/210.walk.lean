set_option maxRecDepth 100000
theorem dX67_count_0 : decode cX67_count 0 = .ok (.iconst 0, 1) := by decide +kernel
theorem dX67_count_1 : decode cX67_count 1 = .ok (.istore_n 2, 1) := by decide +kernel
theorem dX67_count_2 : decode cX67_count 2 = .ok (.iload_n 1, 1) := by decide +kernel
theorem dX67_count_3 : decode cX67_count 3 = .ok (.tableswitch 124 0 5 #[37, 71, 104, 109, 114, 119], 37) := by decide +kernel
theorem dX67_count_40 : decode cX67_count 40 = .ok (.iconst 0, 1) := by decide +kernel
theorem dX67_count_41 : decode cX67_count 41 = .ok (.istore_n 3, 1) := by decide +kernel
theorem dX67_count_42 : decode cX67_count 42 = .ok (.iload_n 3, 1) := by decide +kernel
theorem dX67_count_43 : decode cX67_count 43 = .ok (.sipush 256, 3) := by decide +kernel
theorem dX67_count_46 : decode cX67_count 46 = .ok (.if_icmp .ge 26, 3) := by decide +kernel
theorem dX67_count_49 : decode cX67_count 49 = .ok (.aload_n 0, 1) := by decide +kernel
theorem dX67_count_50 : decode cX67_count 50 = .ok (.getfield 7, 3) := by decide +kernel
theorem dX67_count_53 : decode cX67_count 53 = .ok (.iload_n 3, 1) := by decide +kernel
theorem dX67_count_54 : decode cX67_count 54 = .ok (.iaload, 1) := by decide +kernel
theorem dX67_count_55 : decode cX67_count 55 = .ok (.ifCond .le 9, 3) := by decide +kernel
theorem dX67_count_58 : decode cX67_count 58 = .ok (.iload_n 2, 1) := by decide +kernel
theorem dX67_count_59 : decode cX67_count 59 = .ok (.iconst 1, 1) := by decide +kernel
theorem dX67_count_60 : decode cX67_count 60 = .ok (.iadd, 1) := by decide +kernel
theorem dX67_count_61 : decode cX67_count 61 = .ok (.goto 4, 3) := by decide +kernel
theorem dX67_count_64 : decode cX67_count 64 = .ok (.iload_n 2, 1) := by decide +kernel
theorem dX67_count_65 : decode cX67_count 65 = .ok (.istore_n 2, 1) := by decide +kernel
theorem dX67_count_66 : decode cX67_count 66 = .ok (.iinc 3 1, 3) := by decide +kernel
theorem dX67_count_69 : decode cX67_count 69 = .ok (.goto (-27), 3) := by decide +kernel
theorem dX67_count_72 : decode cX67_count 72 = .ok (.iload_n 2, 1) := by decide +kernel
theorem dX67_count_73 : decode cX67_count 73 = .ok (.ireturn, 1) := by decide +kernel
theorem dX67_count_74 : decode cX67_count 74 = .ok (.iconst 0, 1) := by decide +kernel
theorem dX67_count_75 : decode cX67_count 75 = .ok (.istore_n 3, 1) := by decide +kernel
theorem dX67_count_76 : decode cX67_count 76 = .ok (.iload_n 3, 1) := by decide +kernel
theorem dX67_count_77 : decode cX67_count 77 = .ok (.bipush 8, 2) := by decide +kernel
theorem dX67_count_79 : decode cX67_count 79 = .ok (.if_icmp .ge 26, 3) := by decide +kernel
theorem dX67_count_82 : decode cX67_count 82 = .ok (.aload_n 0, 1) := by decide +kernel
theorem dX67_count_83 : decode cX67_count 83 = .ok (.getfield 70, 3) := by decide +kernel
theorem dX67_count_86 : decode cX67_count 86 = .ok (.iload_n 3, 1) := by decide +kernel
theorem dX67_count_87 : decode cX67_count 87 = .ok (.baload, 1) := by decide +kernel
theorem dX67_count_88 : decode cX67_count 88 = .ok (.ifCond .eq 9, 3) := by decide +kernel
theorem dX67_count_91 : decode cX67_count 91 = .ok (.iload_n 2, 1) := by decide +kernel
theorem dX67_count_92 : decode cX67_count 92 = .ok (.iconst 1, 1) := by decide +kernel
theorem dX67_count_93 : decode cX67_count 93 = .ok (.iadd, 1) := by decide +kernel
theorem dX67_count_94 : decode cX67_count 94 = .ok (.goto 4, 3) := by decide +kernel
theorem dX67_count_97 : decode cX67_count 97 = .ok (.iload_n 2, 1) := by decide +kernel
theorem dX67_count_98 : decode cX67_count 98 = .ok (.istore_n 2, 1) := by decide +kernel
theorem dX67_count_99 : decode cX67_count 99 = .ok (.iinc 3 1, 3) := by decide +kernel
theorem dX67_count_102 : decode cX67_count 102 = .ok (.goto (-26), 3) := by decide +kernel
theorem dX67_count_105 : decode cX67_count 105 = .ok (.iload_n 2, 1) := by decide +kernel
theorem dX67_count_106 : decode cX67_count 106 = .ok (.ireturn, 1) := by decide +kernel
theorem dX67_count_107 : decode cX67_count 107 = .ok (.aload_n 0, 1) := by decide +kernel
theorem dX67_count_108 : decode cX67_count 108 = .ok (.getfield 825, 3) := by decide +kernel
theorem dX67_count_111 : decode cX67_count 111 = .ok (.ireturn, 1) := by decide +kernel
theorem dX67_count_112 : decode cX67_count 112 = .ok (.aload_n 0, 1) := by decide +kernel
theorem dX67_count_113 : decode cX67_count 113 = .ok (.getfield 1008, 3) := by decide +kernel
theorem dX67_count_116 : decode cX67_count 116 = .ok (.ireturn, 1) := by decide +kernel
theorem dX67_count_117 : decode cX67_count 117 = .ok (.aload_n 0, 1) := by decide +kernel
theorem dX67_count_118 : decode cX67_count 118 = .ok (.getfield 792, 3) := by decide +kernel
theorem dX67_count_121 : decode cX67_count 121 = .ok (.ireturn, 1) := by decide +kernel
theorem dX67_count_122 : decode cX67_count 122 = .ok (.aload_n 0, 1) := by decide +kernel
theorem dX67_count_123 : decode cX67_count 123 = .ok (.getfield 505, 3) := by decide +kernel
theorem dX67_count_126 : decode cX67_count 126 = .ok (.ireturn, 1) := by decide +kernel
theorem dX67_count_127 : decode cX67_count 127 = .ok (.bipush (-8), 2) := by decide +kernel
theorem dX67_count_129 : decode cX67_count 129 = .ok (.ireturn, 1) := by decide +kernel
theorem zy_X67_count : yX67_count.cls ≠ "java/lang/invoke/MethodHandle" ∧ yX67_count.cls ≠ "java/lang/invoke/VarHandle" ∧ (parseMethodDescriptor yX67_count.desc).map (fun d => d.parameters.length) = some 1 := by decide +kernel
theorem w_fX67_count_J65 {K : zK} (E : zE K cX67_count "RingHouseModel" (some .int) 0) (hN : zNl K = 4) (hT : zTr K = (some 0)) (x3 : Int) (s0 : Int) {r42 : Int × Int → zX} (hr42 : ∀ s : Int × Int, zR K 42 [(0, 69, 0), (2, 0, s.1), (3, 0, s.2)] [] (r42 s)) : zR K 65 [(0, 69, 0), (3, 0, x3)] [(0, s0)] (fX67_count_J65 r42 x3 s0) := by
  refine r_istore_n (ls' := [(2, 0, s0), (0, 69, 0), (3, 0, x3)]) E dX67_count_65 rfl (by rw [hN]; decide) rfl ?_
  refine r_iinc (ls' := fun v3 => [(3, 0, v3), (2, 0, s0), (0, 69, 0)]) E 2 rfl (by rw [hN]; decide) (fun _ => rfl) dX67_count_66 (fun v3 _ => ?_)
  refine r_goto E 42 (by decide) dX67_count_69 ?_
  refine r_pick E [2, 1, 0] rfl ?_
  exact hr42 (s0, v3)
theorem w_fX67_count_B42 {K : zK} (E : zE K cX67_count "RingHouseModel" (some .int) 0) (hN : zNl K = 4) (hT : zTr K = (some 0)) : ∀ r42 : Int × Int → zX, (∀ s : Int × Int, zR K 42 [(0, 69, 0), (2, 0, s.1), (3, 0, s.2)] [] (r42 s)) → ∀ s : Int × Int, zR K 42 [(0, 69, 0), (2, 0, s.1), (3, 0, s.2)] [] (fX67_count_B42 r42 s) := by
  intro r42 hr42 s
  obtain ⟨x2, x3⟩ := s
  refine r_iload_n E dX67_count_42 rfl 2 rfl ?_
  refine r_sipush E dX67_count_43 (by decide) (zkI (by decide) (by decide)) ?_
  refine r_icmp_ge E 72 (by decide) dX67_count_46 (fun _ => ?_) (fun _ => ?_)
  · refine r_iload_n E dX67_count_72 rfl 1 rfl ?_
    exact r_ireturn E rfl hT dX67_count_73
  · refine r_aload_n E dX67_count_49 rfl 0 rfl ?_
    refine r_gec (y := 0) E zc_69 dX67_count_50 q3215 zr_69 (zh_6800 (by decide)) (by decide) ?_
    refine r_iload_n E dX67_count_53 rfl 2 rfl ?_
    refine r_iaload E zc_6800 za_6800 zt_6800 zx_6800 rfl rfl dX67_count_54 (by decide) (fun v2 => ?_)
    refine r_if_le E 64 (by decide) dX67_count_55 (fun _ => ?_) (fun _ => ?_)
    · refine r_iload_n E dX67_count_64 rfl 1 rfl ?_
      refine r_pick E [0, 2] rfl ?_
      exact w_fX67_count_J65 E hN hT x3 x2 hr42
    · refine r_iload_n E dX67_count_58 rfl 1 rfl ?_
      refine r_iconst E dX67_count_59 (zkI (by decide) (by decide)) ?_
      refine r_iadd E dX67_count_60 ?_
      refine r_goto E 65 (by decide) dX67_count_61 ?_
      refine r_pick E [0, 2] rfl ?_
      exact w_fX67_count_J65 E hN hT x3 (zi (x2 + 1)) hr42
theorem w_fX67_count_J98 {K : zK} (E : zE K cX67_count "RingHouseModel" (some .int) 0) (hN : zNl K = 4) (hT : zTr K = (some 0)) (x3 : Int) (s0 : Int) {r76 : Int × Int → zX} (hr76 : ∀ s : Int × Int, zR K 76 [(0, 69, 0), (2, 0, s.1), (3, 0, s.2)] [] (r76 s)) : zR K 98 [(0, 69, 0), (3, 0, x3)] [(0, s0)] (fX67_count_J98 r76 x3 s0) := by
  refine r_istore_n (ls' := [(2, 0, s0), (0, 69, 0), (3, 0, x3)]) E dX67_count_98 rfl (by rw [hN]; decide) rfl ?_
  refine r_iinc (ls' := fun v6 => [(3, 0, v6), (2, 0, s0), (0, 69, 0)]) E 2 rfl (by rw [hN]; decide) (fun _ => rfl) dX67_count_99 (fun v6 _ => ?_)
  refine r_goto E 76 (by decide) dX67_count_102 ?_
  refine r_pick E [2, 1, 0] rfl ?_
  exact hr76 (s0, v6)
theorem w_fX67_count_B76 {K : zK} (E : zE K cX67_count "RingHouseModel" (some .int) 0) (hN : zNl K = 4) (hT : zTr K = (some 0)) : ∀ r76 : Int × Int → zX, (∀ s : Int × Int, zR K 76 [(0, 69, 0), (2, 0, s.1), (3, 0, s.2)] [] (r76 s)) → ∀ s : Int × Int, zR K 76 [(0, 69, 0), (2, 0, s.1), (3, 0, s.2)] [] (fX67_count_B76 r76 s) := by
  intro r76 hr76 s
  obtain ⟨x2, x3⟩ := s
  refine r_iload_n E dX67_count_76 rfl 2 rfl ?_
  refine r_bipush E dX67_count_77 (by decide) (zkI (by decide) (by decide)) ?_
  refine r_icmp_ge E 105 (by decide) dX67_count_79 (fun _ => ?_) (fun _ => ?_)
  · refine r_iload_n E dX67_count_105 rfl 1 rfl ?_
    exact r_ireturn E rfl hT dX67_count_106
  · refine r_aload_n E dX67_count_82 rfl 0 rfl ?_
    refine r_gec (y := 0) E zc_69 dX67_count_83 q3235 zr_69 (zh_6820 (by decide)) (by decide) ?_
    refine r_iload_n E dX67_count_86 rfl 2 rfl ?_
    refine r_baloadz E zc_6820 za_6820 zt_6820 zx_6820 rfl rfl dX67_count_87 (by decide) (fun v5 => ?_)
    refine r_if_eq E 97 (by decide) dX67_count_88 (fun _ => ?_) (fun _ => ?_)
    · refine r_iload_n E dX67_count_97 rfl 1 rfl ?_
      refine r_pick E [0, 2] rfl ?_
      exact w_fX67_count_J98 E hN hT x3 x2 hr76
    · refine r_iload_n E dX67_count_91 rfl 1 rfl ?_
      refine r_iconst E dX67_count_92 (zkI (by decide) (by decide)) ?_
      refine r_iadd E dX67_count_93 ?_
      refine r_goto E 98 (by decide) dX67_count_94 ?_
      refine r_pick E [0, 2] rfl ?_
      exact w_fX67_count_J98 E hN hT x3 (zi (x2 + 1)) hr76
theorem w_fX67_count {K : zK} (E : zE K cX67_count "RingHouseModel" (some .int) 0) (hN : zNl K = 4) (hT : zTr K = (some 0)) (x1 : Int) : zR K 0 [(0, 69, 0), (1, 0, x1)] [] (fX67_count x1) := by
  refine r_iconst E dX67_count_0 (zkI (by decide) (by decide)) ?_
  refine r_istore_n (ls' := [(2, 0, 0), (0, 69, 0), (1, 0, x1)]) E dX67_count_1 rfl (by rw [hN]; decide) rfl ?_
  refine r_iload_n E dX67_count_2 rfl 2 rfl ?_
  refine r_tabc E dX67_count_3 0 40 (by decide) (by decide) rfl (by decide) (fun _ => ?_) (fun ht1 => ?_)
  · refine r_iconst E dX67_count_40 (zkI (by decide) (by decide)) ?_
    refine r_istore_n (ls' := [(3, 0, 0), (2, 0, 0), (0, 69, 0), (1, 0, x1)]) E dX67_count_41 rfl (by rw [hN]; decide) rfl ?_
    refine r_pick E [2, 1, 0] rfl ?_
    exact r_loop (L := fun s => [(0, 69, 0), (2, 0, s.1), (3, 0, s.2)]) (w_fX67_count_B42 E hN hT) zBIG (0, 0)
  · refine r_tabc E dX67_count_3 1 74 (by decide) (by decide) rfl (by decide) (fun _ => ?_) (fun ht4 => ?_)
    · refine r_iconst E dX67_count_74 (zkI (by decide) (by decide)) ?_
      refine r_istore_n (ls' := [(3, 0, 0), (2, 0, 0), (0, 69, 0), (1, 0, x1)]) E dX67_count_75 rfl (by rw [hN]; decide) rfl ?_
      refine r_pick E [2, 1, 0] rfl ?_
      exact r_loop (L := fun s => [(0, 69, 0), (2, 0, s.1), (3, 0, s.2)]) (w_fX67_count_B76 E hN hT) zBIG (0, 0)
    · refine r_tabc E dX67_count_3 2 107 (by decide) (by decide) rfl (by decide) (fun _ => ?_) (fun ht7 => ?_)
      · refine r_aload_n E dX67_count_107 rfl 1 rfl ?_
        refine r_get E zc_69 zt_6867 dX67_count_108 q3282 zr_69 (zg_6867 _) (by decide) (fun v8 => ?_)
        exact r_ireturn E rfl hT dX67_count_111
      · refine r_tabc E dX67_count_3 3 112 (by decide) (by decide) rfl (by decide) (fun _ => ?_) (fun ht9 => ?_)
        · refine r_aload_n E dX67_count_112 rfl 1 rfl ?_
          refine r_get E zc_69 zt_6872 dX67_count_113 q3287 zr_69 (zg_6872 _) (by decide) (fun v10 => ?_)
          exact r_ireturn E rfl hT dX67_count_116
        · refine r_tabc E dX67_count_3 4 117 (by decide) (by decide) rfl (by decide) (fun _ => ?_) (fun ht11 => ?_)
          · refine r_aload_n E dX67_count_117 rfl 1 rfl ?_
            refine r_get E zc_69 zt_6864 dX67_count_118 q3279 zr_69 (zg_6864 _) (by decide) (fun v12 => ?_)
            exact r_ireturn E rfl hT dX67_count_121
          · refine r_tabc E dX67_count_3 5 122 (by decide) (by decide) rfl (by decide) (fun _ => ?_) (fun ht13 => ?_)
            · refine r_aload_n E dX67_count_122 rfl 1 rfl ?_
              refine r_get E zc_69 zt_6865 dX67_count_123 q3280 zr_69 (zg_6865 _) (by decide) (fun v14 => ?_)
              exact r_ireturn E rfl hT dX67_count_126
            · refine r_tabd E dX67_count_3 127 [0, 1, 2, 3, 4, 5] (by decide) (by decide) (by decide) ⟨ht1, ht4, ht7, ht9, ht11, ht13, trivial⟩ ?_
              refine r_bipush E dX67_count_127 (by decide) (zkI (by decide) (by decide)) ?_
              exact r_ireturn E rfl hT dX67_count_129
theorem k_fX67_count (l : Launch) (G : zG) (x1 : Int) : zCt l G yX67_count cX67_count 4 (some .int) 0 [(69, 0), (0, x1)] (some 0) (fX67_count x1) := zCt.of (by decide) (Nat.le_of_ble_eq_true rfl) (fun K E _ _ hN hT => w_fX67_count E hN hT x1)
