set_option maxRecDepth 100000
theorem zc_2 : zcn 2 = zcnt 2 := rfl
theorem zc_3 : zcn 3 = zcnt 3 := rfl
theorem zc_4 : zcn 4 = zcnt 4 := rfl
theorem zc_5 : zcn 5 = zcnt 5 := rfl
theorem zc_6 : zcn 6 = zcnt 6 := rfl
theorem zc_7 : zcn 7 = zcnt 7 := rfl
theorem zc_8 : zcn 8 = zcnt 8 := rfl
theorem zc_9 : zcn 9 = zcnt 9 := rfl
theorem zc_10 : zcn 10 = zcnt 10 := rfl
theorem zc_11 : zcn 11 = zcnt 11 := rfl
theorem zc_12 : zcn 12 = zcnt 12 := rfl
theorem zc_13 : zcn 13 = zcnt 13 := rfl
theorem zc_14 : zcn 14 = zcnt 14 := rfl
theorem zc_15 : zcn 15 = zcnt 15 := rfl
theorem zc_16 : zcn 16 = zcnt 16 := rfl
theorem zc_38 : zcn 38 = zcnt 38 := rfl
theorem zc_66 : zcn 66 = zcnt 66 := rfl
theorem zc_67 : zcn 67 = zcnt 67 := rfl
theorem zc_68 : zcn 68 = zcnt 68 := rfl
theorem zc_69 : zcn 69 = zcnt 69 := rfl
theorem zc_101 : zcn 101 = zcnt 101 := rfl
theorem zc_107 : zcn 107 = zcnt 107 := rfl
theorem zc_200 : zcn 200 = zcnt 200 := rfl
theorem zc_203 : zcn 203 = zcnt 203 := rfl
theorem zc_300 : zcn 300 = zcnt 300 := rfl
theorem zc_400 : zcn 400 = zcnt 400 := rfl
theorem zc_401 : zcn 401 = zcnt 401 := rfl
theorem zc_523 : zcn 523 = zcnt 523 := rfl
theorem zc_600 : zcn 600 = zcnt 600 := rfl
theorem zc_601 : zcn 601 = zcnt 601 := rfl
theorem zc_700 : zcn 700 = zcnt 700 := rfl
theorem zc_701 : zcn 701 = zcnt 701 := rfl
theorem zc_909 : zcn 909 = zcnt 909 := rfl
theorem zc_915 : zcn 915 = zcnt 915 := rfl
theorem zc_916 : zcn 916 = zcnt 916 := rfl
theorem zc_917 : zcn 917 = zcnt 917 := rfl
theorem zc_918 : zcn 918 = zcnt 918 := rfl
theorem zc_919 : zcn 919 = zcnt 919 := rfl
theorem zc_921 : zcn 921 = zcnt 921 := rfl
theorem zc_922 : zcn 922 = zcnt 922 := rfl
theorem zc_1002 : zcn 1002 = zcnt 1002 := rfl
theorem zc_1003 : zcn 1003 = zcnt 1003 := rfl
theorem zc_1004 : zcn 1004 = zcnt 1004 := rfl
theorem zc_1005 : zcn 1005 = zcnt 1005 := rfl
theorem zc_1100 : zcn 1100 = zcnt 1100 := rfl
theorem zc_1302 : zcn 1302 = zcnt 1302 := rfl
theorem zc_1303 : zcn 1303 = zcnt 1303 := rfl
theorem zc_1304 : zcn 1304 = zcnt 1304 := rfl
theorem zc_1400 : zcn 1400 = zcnt 1400 := rfl
theorem zc_6502 : zcn 6502 = zcnt 6502 := rfl
theorem zc_6510 : zcn 6510 = zcnt 6510 := rfl
theorem zc_6511 : zcn 6511 = zcnt 6511 := rfl
theorem zc_6513 : zcn 6513 = zcnt 6513 := rfl
theorem zc_6514 : zcn 6514 = zcnt 6514 := rfl
theorem zc_6516 : zcn 6516 = zcnt 6516 := rfl
theorem zc_6517 : zcn 6517 = zcnt 6517 := rfl
theorem zc_6521 : zcn 6521 = zcnt 6521 := rfl
theorem zc_6601 : zcn 6601 = zcnt 6601 := rfl
theorem zc_6606 : zcn 6606 = zcnt 6606 := rfl
theorem zc_6607 : zcn 6607 = zcnt 6607 := rfl
theorem zc_6608 : zcn 6608 = zcnt 6608 := rfl
theorem zc_6609 : zcn 6609 = zcnt 6609 := rfl
theorem zc_6610 : zcn 6610 = zcnt 6610 := rfl
theorem zc_6611 : zcn 6611 = zcnt 6611 := rfl
theorem zc_6615 : zcn 6615 = zcnt 6615 := rfl
theorem zc_6616 : zcn 6616 = zcnt 6616 := rfl
theorem zc_6701 : zcn 6701 = zcnt 6701 := rfl
theorem zc_6800 : zcn 6800 = zcnt 6800 := rfl
theorem zc_6801 : zcn 6801 = zcnt 6801 := rfl
theorem zc_6802 : zcn 6802 = zcnt 6802 := rfl
theorem zc_6803 : zcn 6803 = zcnt 6803 := rfl
theorem zc_6804 : zcn 6804 = zcnt 6804 := rfl
theorem zc_6805 : zcn 6805 = zcnt 6805 := rfl
theorem zc_6806 : zcn 6806 = zcnt 6806 := rfl
theorem zc_6807 : zcn 6807 = zcnt 6807 := rfl
theorem zc_6808 : zcn 6808 = zcnt 6808 := rfl
theorem zc_6809 : zcn 6809 = zcnt 6809 := rfl
theorem zc_6810 : zcn 6810 = zcnt 6810 := rfl
theorem zc_6812 : zcn 6812 = zcnt 6812 := rfl
theorem zc_6813 : zcn 6813 = zcnt 6813 := rfl
theorem zc_6814 : zcn 6814 = zcnt 6814 := rfl
theorem zc_6815 : zcn 6815 = zcnt 6815 := rfl
theorem zc_6816 : zcn 6816 = zcnt 6816 := rfl
theorem zc_6817 : zcn 6817 = zcnt 6817 := rfl
theorem zc_6818 : zcn 6818 = zcnt 6818 := rfl
theorem zc_6819 : zcn 6819 = zcnt 6819 := rfl
theorem zc_6820 : zcn 6820 = zcnt 6820 := rfl
theorem zc_6821 : zcn 6821 = zcnt 6821 := rfl
theorem zc_6822 : zcn 6822 = zcnt 6822 := rfl
theorem zc_6823 : zcn 6823 = zcnt 6823 := rfl
theorem zc_6824 : zcn 6824 = zcnt 6824 := rfl
theorem zc_6825 : zcn 6825 = zcnt 6825 := rfl
theorem zc_6826 : zcn 6826 = zcnt 6826 := rfl
theorem zc_6827 : zcn 6827 = zcnt 6827 := rfl
theorem zc_6828 : zcn 6828 = zcnt 6828 := rfl
theorem zc_6829 : zcn 6829 = zcnt 6829 := rfl
theorem zc_6830 : zcn 6830 = zcnt 6830 := rfl
theorem zc_6831 : zcn 6831 = zcnt 6831 := rfl
theorem zc_6832 : zcn 6832 = zcnt 6832 := rfl
theorem zc_6833 : zcn 6833 = zcnt 6833 := rfl
theorem zc_6834 : zcn 6834 = zcnt 6834 := rfl
theorem zc_6835 : zcn 6835 = zcnt 6835 := rfl
theorem zc_6836 : zcn 6836 = zcnt 6836 := rfl
theorem zc_6837 : zcn 6837 = zcnt 6837 := rfl
theorem zc_6838 : zcn 6838 = zcnt 6838 := rfl
theorem zc_6839 : zcn 6839 = zcnt 6839 := rfl
theorem zc_6840 : zcn 6840 = zcnt 6840 := rfl
theorem zc_6841 : zcn 6841 = zcnt 6841 := rfl
theorem zc_6842 : zcn 6842 = zcnt 6842 := rfl
theorem zc_6843 : zcn 6843 = zcnt 6843 := rfl
theorem zc_6844 : zcn 6844 = zcnt 6844 := rfl
theorem zc_6845 : zcn 6845 = zcnt 6845 := rfl
theorem zc_6846 : zcn 6846 = zcnt 6846 := rfl
theorem zc_6847 : zcn 6847 = zcnt 6847 := rfl
theorem zc_6848 : zcn 6848 = zcnt 6848 := rfl
theorem zc_6849 : zcn 6849 = zcnt 6849 := rfl
theorem zc_6850 : zcn 6850 = zcnt 6850 := rfl
theorem zc_6851 : zcn 6851 = zcnt 6851 := rfl
theorem zc_6852 : zcn 6852 = zcnt 6852 := rfl
theorem zc_6853 : zcn 6853 = zcnt 6853 := rfl
theorem zc_6854 : zcn 6854 = zcnt 6854 := rfl
theorem zc_6855 : zcn 6855 = zcnt 6855 := rfl
theorem zc_6856 : zcn 6856 = zcnt 6856 := rfl
theorem zc_6857 : zcn 6857 = zcnt 6857 := rfl
theorem zc_6858 : zcn 6858 = zcnt 6858 := rfl
theorem zc_6859 : zcn 6859 = zcnt 6859 := rfl
theorem zc_6860 : zcn 6860 = zcnt 6860 := rfl
theorem zc_6861 : zcn 6861 = zcnt 6861 := rfl
theorem zc_6862 : zcn 6862 = zcnt 6862 := rfl
theorem zc_6863 : zcn 6863 = zcnt 6863 := rfl
theorem zc_6866 : zcn 6866 = zcnt 6866 := rfl
theorem zc_6868 : zcn 6868 = zcnt 6868 := rfl
theorem zc_6871 : zcn 6871 = zcnt 6871 := rfl
theorem zc_6873 : zcn 6873 = zcnt 6873 := rfl
theorem zc_6894 : zcn 6894 = zcnt 6894 := rfl
theorem zc_6895 : zcn 6895 = zcnt 6895 := rfl
theorem zc_6897 : zcn 6897 = zcnt 6897 := rfl
theorem zc_6898 : zcn 6898 = zcnt 6898 := rfl
theorem zc_6900 : zcn 6900 = zcnt 6900 := rfl
theorem zc_6901 : zcn 6901 = zcnt 6901 := rfl
theorem zc_6907 : zcn 6907 = zcnt 6907 := rfl
theorem zc_6908 : zcn 6908 = zcnt 6908 := rfl
theorem zc_6909 : zcn 6909 = zcnt 6909 := rfl
theorem zc_6917 : zcn 6917 = zcnt 6917 := rfl
theorem zc_6918 : zcn 6918 = zcnt 6918 := rfl
theorem zc_6919 : zcn 6919 = zcnt 6919 := rfl
theorem zc_6920 : zcn 6920 = zcnt 6920 := rfl
theorem zc_6921 : zcn 6921 = zcnt 6921 := rfl
theorem zc_6922 : zcn 6922 = zcnt 6922 := rfl
theorem zc_6923 : zcn 6923 = zcnt 6923 := rfl
theorem zc_6924 : zcn 6924 = zcnt 6924 := rfl
theorem zc_6928 : zcn 6928 = zcnt 6928 := rfl
theorem zc_6929 : zcn 6929 = zcnt 6929 := rfl
theorem zr_2 : zar 2 = none := rfl
theorem zr_3 : zar 3 = none := rfl
theorem zr_4 : zar 4 = none := rfl
theorem zr_5 : zar 5 = none := rfl
theorem zr_6 : zar 6 = none := rfl
theorem zr_7 : zar 7 = none := rfl
theorem zr_8 : zar 8 = none := rfl
theorem zr_9 : zar 9 = none := rfl
theorem zr_10 : zar 10 = none := rfl
theorem zr_11 : zar 11 = none := rfl
theorem zr_12 : zar 12 = none := rfl
theorem zr_13 : zar 13 = none := rfl
theorem zr_14 : zar 14 = none := rfl
theorem zr_15 : zar 15 = none := rfl
theorem zr_16 : zar 16 = none := rfl
theorem zr_38 : zar 38 = none := rfl
theorem zr_66 : zar 66 = none := rfl
theorem zr_67 : zar 67 = none := rfl
theorem zr_68 : zar 68 = none := rfl
theorem zr_69 : zar 69 = none := rfl
theorem zw_X0 : zFw 2 (RX0, TX0, 10) := ⟨fun _ => rfl, in_X0, ⟨tyX0, tyX0_ok⟩, nmX0⟩
theorem zh_100 {x y : Int} (hy : 0 * x + 0 = y) : ∀ o : Nat, (o : Int) = x → o < zcnt 2 → zFo 2 o 0 ("RingHouse", "tree", "LRingHouse$Tree;", true) ∧ ∃ a b : Int, (zfl 2 o)[0]? = some (1, 3, a, b) ∧ a * x + b = y := fun o _ _ => ⟨zFw.o zw_X0 (Nat.le_of_ble_eq_true rfl) rfl o, _, _, rfl, hy⟩
theorem zh_101 {x y : Int} (hy : 1 * x + 0 = y) : ∀ o : Nat, (o : Int) = x → o < zcnt 2 → zFo 2 o 1 ("RingHouse", "processes", "[LRingHouse$Process;", true) ∧ ∃ a b : Int, (zfl 2 o)[1]? = some (1, 101, a, b) ∧ a * x + b = y := fun o _ _ => ⟨zFw.o zw_X0 (Nat.le_of_ble_eq_true rfl) rfl o, _, _, rfl, hy⟩
theorem zh_102 {x y : Int} (hy : 0 * x + 0 = y) : ∀ o : Nat, (o : Int) = x → o < zcnt 2 → zFo 2 o 2 ("RingHouse", "machine", "LRingHouse$Machine;", true) ∧ ∃ a b : Int, (zfl 2 o)[2]? = some (1, 14, a, b) ∧ a * x + b = y := fun o _ _ => ⟨zFw.o zw_X0 (Nat.le_of_ble_eq_true rfl) rfl o, _, _, rfl, hy⟩
theorem zh_103 {x y : Int} (hy : 0 * x + 0 = y) : ∀ o : Nat, (o : Int) = x → o < zcnt 2 → zFo 2 o 3 ("RingHouse", "assembler", "LRingHouse$Assembler;", true) ∧ ∃ a b : Int, (zfl 2 o)[3]? = some (1, 66, a, b) ∧ a * x + b = y := fun o _ _ => ⟨zFw.o zw_X0 (Nat.le_of_ble_eq_true rfl) rfl o, _, _, rfl, hy⟩
theorem zh_104 {x y : Int} (hy : 0 * x + 0 = y) : ∀ o : Nat, (o : Int) = x → o < zcnt 2 → zFo 2 o 4 ("RingHouse", "tape", "LRingHouse$Tape;", true) ∧ ∃ a b : Int, (zfl 2 o)[4]? = some (1, 67, a, b) ∧ a * x + b = y := fun o _ _ => ⟨zFw.o zw_X0 (Nat.le_of_ble_eq_true rfl) rfl o, _, _, rfl, hy⟩
theorem zh_105 {x y : Int} (hy : 0 * x + 0 = y) : ∀ o : Nat, (o : Int) = x → o < zcnt 2 → zFo 2 o 5 ("RingHouse", "lister", "LRingHouse$Lister;", true) ∧ ∃ a b : Int, (zfl 2 o)[5]? = some (1, 68, a, b) ∧ a * x + b = y := fun o _ _ => ⟨zFw.o zw_X0 (Nat.le_of_ble_eq_true rfl) rfl o, _, _, rfl, hy⟩
theorem zh_106 {x y : Int} (hy : 0 * x + 512 = y) : ∀ o : Nat, (o : Int) = x → o < zcnt 2 → zFo 2 o 6 ("RingHouse", "listed", "LRingHouse$Decoded;", true) ∧ ∃ a b : Int, (zfl 2 o)[6]? = some (1, 9, a, b) ∧ a * x + b = y := fun o _ _ => ⟨zFw.o zw_X0 (Nat.le_of_ble_eq_true rfl) rfl o, _, _, rfl, hy⟩
theorem zh_107 {x y : Int} (hy : 1 * x + 0 = y) : ∀ o : Nat, (o : Int) = x → o < zcnt 2 → zFo 2 o 7 ("RingHouse", "slots", "[I", true) ∧ ∃ a b : Int, (zfl 2 o)[7]? = some (1, 107, a, b) ∧ a * x + b = y := fun o _ _ => ⟨zFw.o zw_X0 (Nat.le_of_ble_eq_true rfl) rfl o, _, _, rfl, hy⟩
theorem zg_108 (x : Int) : ∀ o : Nat, (o : Int) = x → zFo 2 o 8 ("RingHouse", "turn", "I", false) ∧ (zfl 2 o)[8]? = some (0, 108, 0, 0) := fun o _ => ⟨zFw.o zw_X0 (Nat.le_of_ble_eq_true rfl) rfl o, rfl⟩
theorem zp_108 : 8 < (RX0, TX0, 10).2.2 ∧ (RX0, TX0, 10).2.1 8 = ("RingHouse", "turn", "I", false) ∧ (∀ o : Nat, (zfl 2 o)[8]? = some (0, 108, 0, 0)) ∧ parseFieldDescriptor "I" = some .int := ⟨Nat.le_of_ble_eq_true rfl, rfl, fun _ => rfl, by decide +kernel⟩
theorem zt_108 : zty 108 = 0 := rfl
theorem zo_108 : zown 108 = 2 := rfl
theorem zg_109 (x : Int) : ∀ o : Nat, (o : Int) = x → zFo 2 o 9 ("RingHouse", "toldPlace", "I", false) ∧ (zfl 2 o)[9]? = some (0, 109, 0, 0) := fun o _ => ⟨zFw.o zw_X0 (Nat.le_of_ble_eq_true rfl) rfl o, rfl⟩
theorem zp_109 : 9 < (RX0, TX0, 10).2.2 ∧ (RX0, TX0, 10).2.1 9 = ("RingHouse", "toldPlace", "I", false) ∧ (∀ o : Nat, (zfl 2 o)[9]? = some (0, 109, 0, 0)) ∧ parseFieldDescriptor "I" = some .int := ⟨Nat.le_of_ble_eq_true rfl, rfl, fun _ => rfl, by decide +kernel⟩
theorem zt_109 : zty 109 = 0 := rfl
theorem zo_109 : zown 109 = 2 := rfl
theorem zw_X1 : zFw 3 (RX1, TX1, 9) := ⟨fun _ => rfl, in_X1, ⟨tyX1, tyX1_ok⟩, nmX1⟩
theorem zh_200 {x y : Int} (hy : 1 * x + 0 = y) : ∀ o : Nat, (o : Int) = x → o < zcnt 3 → zFo 3 o 0 ("RingHouse$Tree", "nodes", "[LRingHouse$Node;", true) ∧ ∃ a b : Int, (zfl 3 o)[0]? = some (1, 200, a, b) ∧ a * x + b = y := fun o _ _ => ⟨zFw.o zw_X1 (Nat.le_of_ble_eq_true rfl) rfl o, _, _, rfl, hy⟩
theorem zh_201 {x y : Int} (hy : 0 * x + 0 = y) : ∀ o : Nat, (o : Int) = x → o < zcnt 3 → zFo 3 o 1 ("RingHouse$Tree", "index", "LRingHouse$Index;", true) ∧ ∃ a b : Int, (zfl 3 o)[1]? = some (1, 4, a, b) ∧ a * x + b = y := fun o _ _ => ⟨zFw.o zw_X1 (Nat.le_of_ble_eq_true rfl) rfl o, _, _, rfl, hy⟩
theorem zh_202 {x y : Int} (hy : 0 * x + 0 = y) : ∀ o : Nat, (o : Int) = x → o < zcnt 3 → zFo 3 o 2 ("RingHouse$Tree", "store", "LRingHouse$Store;", true) ∧ ∃ a b : Int, (zfl 3 o)[2]? = some (1, 5, a, b) ∧ a * x + b = y := fun o _ _ => ⟨zFw.o zw_X1 (Nat.le_of_ble_eq_true rfl) rfl o, _, _, rfl, hy⟩
theorem zh_203 {x y : Int} (hy : 1 * x + 0 = y) : ∀ o : Nat, (o : Int) = x → o < zcnt 3 → zFo 3 o 3 ("RingHouse$Tree", "boxes", "[LRingHouse$Box;", true) ∧ ∃ a b : Int, (zfl 3 o)[3]? = some (1, 203, a, b) ∧ a * x + b = y := fun o _ _ => ⟨zFw.o zw_X1 (Nat.le_of_ble_eq_true rfl) rfl o, _, _, rfl, hy⟩
theorem zg_204 (x : Int) : ∀ o : Nat, (o : Int) = x → zFo 3 o 4 ("RingHouse$Tree", "freeBoxes", "I", false) ∧ (zfl 3 o)[4]? = some (0, 204, 0, 0) := fun o _ => ⟨zFw.o zw_X1 (Nat.le_of_ble_eq_true rfl) rfl o, rfl⟩
theorem zp_204 : 4 < (RX1, TX1, 9).2.2 ∧ (RX1, TX1, 9).2.1 4 = ("RingHouse$Tree", "freeBoxes", "I", false) ∧ (∀ o : Nat, (zfl 3 o)[4]? = some (0, 204, 0, 0)) ∧ parseFieldDescriptor "I" = some .int := ⟨Nat.le_of_ble_eq_true rfl, rfl, fun _ => rfl, by decide +kernel⟩
theorem zt_204 : zty 204 = 0 := rfl
theorem zo_204 : zown 204 = 3 := rfl
theorem zh_205 {x y : Int} (hy : 0 * x + 0 = y) : ∀ o : Nat, (o : Int) = x → o < zcnt 3 → zFo 3 o 5 ("RingHouse$Tree", "root", "LRingHouse$Node;", true) ∧ ∃ a b : Int, (zfl 3 o)[5]? = some (1, 6, a, b) ∧ a * x + b = y := fun o _ _ => ⟨zFw.o zw_X1 (Nat.le_of_ble_eq_true rfl) rfl o, _, _, rfl, hy⟩
theorem zg_206 (x : Int) : ∀ o : Nat, (o : Int) = x → zFo 3 o 6 ("RingHouse$Tree", "many", "I", false) ∧ (zfl 3 o)[6]? = some (0, 206, 0, 0) := fun o _ => ⟨zFw.o zw_X1 (Nat.le_of_ble_eq_true rfl) rfl o, rfl⟩
theorem zp_206 : 6 < (RX1, TX1, 9).2.2 ∧ (RX1, TX1, 9).2.1 6 = ("RingHouse$Tree", "many", "I", false) ∧ (∀ o : Nat, (zfl 3 o)[6]? = some (0, 206, 0, 0)) ∧ parseFieldDescriptor "I" = some .int := ⟨Nat.le_of_ble_eq_true rfl, rfl, fun _ => rfl, by decide +kernel⟩
theorem zt_206 : zty 206 = 0 := rfl
theorem zo_206 : zown 206 = 3 := rfl
theorem zg_207 (x : Int) : ∀ o : Nat, (o : Int) = x → zFo 3 o 7 ("RingHouse$Tree", "version", "I", false) ∧ (zfl 3 o)[7]? = some (0, 207, 0, 0) := fun o _ => ⟨zFw.o zw_X1 (Nat.le_of_ble_eq_true rfl) rfl o, rfl⟩
theorem zp_207 : 7 < (RX1, TX1, 9).2.2 ∧ (RX1, TX1, 9).2.1 7 = ("RingHouse$Tree", "version", "I", false) ∧ (∀ o : Nat, (zfl 3 o)[7]? = some (0, 207, 0, 0)) ∧ parseFieldDescriptor "I" = some .int := ⟨Nat.le_of_ble_eq_true rfl, rfl, fun _ => rfl, by decide +kernel⟩
theorem zt_207 : zty 207 = 0 := rfl
theorem zo_207 : zown 207 = 3 := rfl
theorem zh_208 {x y : Int} (hy : 0 * x + 0 = y) : ∀ o : Nat, (o : Int) = x → o < zcnt 3 → zFo 3 o 8 ("RingHouse$Tree", "processes", "[LRingHouse$Process;", false) ∧ ∃ a b : Int, (zfl 3 o)[8]? = some (1, 101, a, b) ∧ a * x + b = y := fun o _ _ => ⟨zFw.o zw_X1 (Nat.le_of_ble_eq_true rfl) rfl o, _, _, rfl, hy⟩
theorem zw_X2 : zFw 4 (RX2, TX2, 1) := ⟨fun _ => rfl, in_X2, ⟨tyX2, tyX2_ok⟩, nmX2⟩
theorem zh_300 {x y : Int} (hy : 1 * x + 0 = y) : ∀ o : Nat, (o : Int) = x → o < zcnt 4 → zFo 4 o 0 ("RingHouse$Index", "buckets", "[LRingHouse$Node;", true) ∧ ∃ a b : Int, (zfl 4 o)[0]? = some (1, 300, a, b) ∧ a * x + b = y := fun o _ _ => ⟨zFw.o zw_X2 (Nat.le_of_ble_eq_true rfl) rfl o, _, _, rfl, hy⟩
theorem zw_X3 : zFw 5 (RX3, TX3, 3) := ⟨fun _ => rfl, in_X3, ⟨tyX3, tyX3_ok⟩, nmX3⟩
theorem zh_400 {x y : Int} (hy : 1 * x + 0 = y) : ∀ o : Nat, (o : Int) = x → o < zcnt 5 → zFo 5 o 0 ("RingHouse$Store", "words", "[J", true) ∧ ∃ a b : Int, (zfl 5 o)[0]? = some (1, 400, a, b) ∧ a * x + b = y := fun o _ _ => ⟨zFw.o zw_X3 (Nat.le_of_ble_eq_true rfl) rfl o, _, _, rfl, hy⟩
theorem zh_401 {x y : Int} (hy : 1 * x + 0 = y) : ∀ o : Nat, (o : Int) = x → o < zcnt 5 → zFo 5 o 1 ("RingHouse$Store", "free", "[I", true) ∧ ∃ a b : Int, (zfl 5 o)[1]? = some (1, 401, a, b) ∧ a * x + b = y := fun o _ _ => ⟨zFw.o zw_X3 (Nat.le_of_ble_eq_true rfl) rfl o, _, _, rfl, hy⟩
theorem zg_402 (x : Int) : ∀ o : Nat, (o : Int) = x → zFo 5 o 2 ("RingHouse$Store", "left", "I", false) ∧ (zfl 5 o)[2]? = some (0, 402, 0, 0) := fun o _ => ⟨zFw.o zw_X3 (Nat.le_of_ble_eq_true rfl) rfl o, rfl⟩
theorem zp_402 : 2 < (RX3, TX3, 3).2.2 ∧ (RX3, TX3, 3).2.1 2 = ("RingHouse$Store", "left", "I", false) ∧ (∀ o : Nat, (zfl 5 o)[2]? = some (0, 402, 0, 0)) ∧ parseFieldDescriptor "I" = some .int := ⟨Nat.le_of_ble_eq_true rfl, rfl, fun _ => rfl, by decide +kernel⟩
theorem zt_402 : zty 402 = 0 := rfl
theorem zo_402 : zown 402 = 5 := rfl
theorem zw_X4 : zFw 6 (RX4, TX4, 24) := ⟨fun _ => rfl, in_X4, ⟨tyX4, tyX4_ok⟩, nmX4⟩
theorem zh_500 {x y : Int} (hy : 1 * x + 0 = y) : ∀ o : Nat, (o : Int) = x → o < zcnt 6 → zFo 6 o 0 ("RingHouse$Node", "number", "I", true) ∧ ∃ a b : Int, (zfl 6 o)[0]? = some (1, 0, a, b) ∧ a * x + b = y := fun o _ _ => ⟨zFw.o zw_X4 (Nat.le_of_ble_eq_true rfl) rfl o, _, _, rfl, hy⟩
theorem zg_501 (x : Int) : ∀ o : Nat, (o : Int) = x → zFo 6 o 1 ("RingHouse$Node", "kind", "I", false) ∧ (zfl 6 o)[1]? = some (0, 501, 0, 0) := fun o _ => ⟨zFw.o zw_X4 (Nat.le_of_ble_eq_true rfl) rfl o, rfl⟩
theorem zp_501 : 1 < (RX4, TX4, 24).2.2 ∧ (RX4, TX4, 24).2.1 1 = ("RingHouse$Node", "kind", "I", false) ∧ (∀ o : Nat, (zfl 6 o)[1]? = some (0, 501, 0, 0)) ∧ parseFieldDescriptor "I" = some .int := ⟨Nat.le_of_ble_eq_true rfl, rfl, fun _ => rfl, by decide +kernel⟩
theorem zt_501 : zty 501 = 0 := rfl
theorem zo_501 : zown 501 = 6 := rfl
theorem zg_502 (x : Int) : ∀ o : Nat, (o : Int) = x → zFo 6 o 2 ("RingHouse$Node", "name", "J", false) ∧ (zfl 6 o)[2]? = some (0, 502, 0, 0) := fun o _ => ⟨zFw.o zw_X4 (Nat.le_of_ble_eq_true rfl) rfl o, rfl⟩
theorem zp_502 : 2 < (RX4, TX4, 24).2.2 ∧ (RX4, TX4, 24).2.1 2 = ("RingHouse$Node", "name", "J", false) ∧ (∀ o : Nat, (zfl 6 o)[2]? = some (0, 502, 0, 0)) ∧ parseFieldDescriptor "J" = some .long := ⟨Nat.le_of_ble_eq_true rfl, rfl, fun _ => rfl, by decide +kernel⟩
theorem zt_502 : zty 502 = 1 := rfl
theorem zo_502 : zown 502 = 6 := rfl
theorem zg_503 (x : Int) : ∀ o : Nat, (o : Int) = x → zFo 6 o 3 ("RingHouse$Node", "label", "I", false) ∧ (zfl 6 o)[3]? = some (0, 503, 0, 0) := fun o _ => ⟨zFw.o zw_X4 (Nat.le_of_ble_eq_true rfl) rfl o, rfl⟩
theorem zp_503 : 3 < (RX4, TX4, 24).2.2 ∧ (RX4, TX4, 24).2.1 3 = ("RingHouse$Node", "label", "I", false) ∧ (∀ o : Nat, (zfl 6 o)[3]? = some (0, 503, 0, 0)) ∧ parseFieldDescriptor "I" = some .int := ⟨Nat.le_of_ble_eq_true rfl, rfl, fun _ => rfl, by decide +kernel⟩
theorem zt_503 : zty 503 = 0 := rfl
theorem zo_503 : zown 503 = 6 := rfl
theorem zg_504 (x : Int) : ∀ o : Nat, (o : Int) = x → zFo 6 o 4 ("RingHouse$Node", "parent", "LRingHouse$Node;", false) ∧ (zfl 6 o)[4]? = some (0, 504, 0, 0) := fun o _ => ⟨zFw.o zw_X4 (Nat.le_of_ble_eq_true rfl) rfl o, rfl⟩
theorem zp_504 : 4 < (RX4, TX4, 24).2.2 ∧ (RX4, TX4, 24).2.1 4 = ("RingHouse$Node", "parent", "LRingHouse$Node;", false) ∧ (∀ o : Nat, (zfl 6 o)[4]? = some (0, 504, 0, 0)) ∧ parseFieldDescriptor "LRingHouse$Node;" = some (.object "RingHouse$Node") := ⟨Nat.le_of_ble_eq_true rfl, rfl, fun _ => rfl, by decide +kernel⟩
theorem zt_504 : zty 504 = 6 := rfl
theorem zo_504 : zown 504 = 6 := rfl
theorem zg_505 (x : Int) : ∀ o : Nat, (o : Int) = x → zFo 6 o 5 ("RingHouse$Node", "before", "LRingHouse$Node;", false) ∧ (zfl 6 o)[5]? = some (0, 505, 0, 0) := fun o _ => ⟨zFw.o zw_X4 (Nat.le_of_ble_eq_true rfl) rfl o, rfl⟩
theorem zp_505 : 5 < (RX4, TX4, 24).2.2 ∧ (RX4, TX4, 24).2.1 5 = ("RingHouse$Node", "before", "LRingHouse$Node;", false) ∧ (∀ o : Nat, (zfl 6 o)[5]? = some (0, 505, 0, 0)) ∧ parseFieldDescriptor "LRingHouse$Node;" = some (.object "RingHouse$Node") := ⟨Nat.le_of_ble_eq_true rfl, rfl, fun _ => rfl, by decide +kernel⟩
theorem zt_505 : zty 505 = 6 := rfl
theorem zo_505 : zown 505 = 6 := rfl
theorem zg_506 (x : Int) : ∀ o : Nat, (o : Int) = x → zFo 6 o 6 ("RingHouse$Node", "behind", "LRingHouse$Node;", false) ∧ (zfl 6 o)[6]? = some (0, 506, 0, 0) := fun o _ => ⟨zFw.o zw_X4 (Nat.le_of_ble_eq_true rfl) rfl o, rfl⟩
theorem zp_506 : 6 < (RX4, TX4, 24).2.2 ∧ (RX4, TX4, 24).2.1 6 = ("RingHouse$Node", "behind", "LRingHouse$Node;", false) ∧ (∀ o : Nat, (zfl 6 o)[6]? = some (0, 506, 0, 0)) ∧ parseFieldDescriptor "LRingHouse$Node;" = some (.object "RingHouse$Node") := ⟨Nat.le_of_ble_eq_true rfl, rfl, fun _ => rfl, by decide +kernel⟩
theorem zt_506 : zty 506 = 6 := rfl
theorem zo_506 : zown 506 = 6 := rfl
theorem zg_507 (x : Int) : ∀ o : Nat, (o : Int) = x → zFo 6 o 7 ("RingHouse$Node", "alike", "LRingHouse$Node;", false) ∧ (zfl 6 o)[7]? = some (0, 507, 0, 0) := fun o _ => ⟨zFw.o zw_X4 (Nat.le_of_ble_eq_true rfl) rfl o, rfl⟩
theorem zp_507 : 7 < (RX4, TX4, 24).2.2 ∧ (RX4, TX4, 24).2.1 7 = ("RingHouse$Node", "alike", "LRingHouse$Node;", false) ∧ (∀ o : Nat, (zfl 6 o)[7]? = some (0, 507, 0, 0)) ∧ parseFieldDescriptor "LRingHouse$Node;" = some (.object "RingHouse$Node") := ⟨Nat.le_of_ble_eq_true rfl, rfl, fun _ => rfl, by decide +kernel⟩
theorem zt_507 : zty 507 = 6 := rfl
theorem zo_507 : zown 507 = 6 := rfl
theorem zh_508 {x y : Int} (hy : 3 * x + 0 = y) : ∀ o : Nat, (o : Int) = x → o < zcnt 6 → zFo 6 o 8 ("RingHouse$Node", "acl", "LRingHouse$Acl;", true) ∧ ∃ a b : Int, (zfl 6 o)[8]? = some (1, 7, a, b) ∧ a * x + b = y := fun o _ _ => ⟨zFw.o zw_X4 (Nat.le_of_ble_eq_true rfl) rfl o, _, _, rfl, hy⟩
theorem zg_509 (x : Int) : ∀ o : Nat, (o : Int) = x → zFo 6 o 9 ("RingHouse$Node", "r1", "I", false) ∧ (zfl 6 o)[9]? = some (0, 509, 0, 0) := fun o _ => ⟨zFw.o zw_X4 (Nat.le_of_ble_eq_true rfl) rfl o, rfl⟩
theorem zp_509 : 9 < (RX4, TX4, 24).2.2 ∧ (RX4, TX4, 24).2.1 9 = ("RingHouse$Node", "r1", "I", false) ∧ (∀ o : Nat, (zfl 6 o)[9]? = some (0, 509, 0, 0)) ∧ parseFieldDescriptor "I" = some .int := ⟨Nat.le_of_ble_eq_true rfl, rfl, fun _ => rfl, by decide +kernel⟩
theorem zt_509 : zty 509 = 0 := rfl
theorem zo_509 : zown 509 = 6 := rfl
theorem zg_510 (x : Int) : ∀ o : Nat, (o : Int) = x → zFo 6 o 10 ("RingHouse$Node", "r2", "I", false) ∧ (zfl 6 o)[10]? = some (0, 510, 0, 0) := fun o _ => ⟨zFw.o zw_X4 (Nat.le_of_ble_eq_true rfl) rfl o, rfl⟩
theorem zp_510 : 10 < (RX4, TX4, 24).2.2 ∧ (RX4, TX4, 24).2.1 10 = ("RingHouse$Node", "r2", "I", false) ∧ (∀ o : Nat, (zfl 6 o)[10]? = some (0, 510, 0, 0)) ∧ parseFieldDescriptor "I" = some .int := ⟨Nat.le_of_ble_eq_true rfl, rfl, fun _ => rfl, by decide +kernel⟩
theorem zt_510 : zty 510 = 0 := rfl
theorem zo_510 : zown 510 = 6 := rfl
theorem zg_511 (x : Int) : ∀ o : Nat, (o : Int) = x → zFo 6 o 11 ("RingHouse$Node", "r3", "I", false) ∧ (zfl 6 o)[11]? = some (0, 511, 0, 0) := fun o _ => ⟨zFw.o zw_X4 (Nat.le_of_ble_eq_true rfl) rfl o, rfl⟩
theorem zp_511 : 11 < (RX4, TX4, 24).2.2 ∧ (RX4, TX4, 24).2.1 11 = ("RingHouse$Node", "r3", "I", false) ∧ (∀ o : Nat, (zfl 6 o)[11]? = some (0, 511, 0, 0)) ∧ parseFieldDescriptor "I" = some .int := ⟨Nat.le_of_ble_eq_true rfl, rfl, fun _ => rfl, by decide +kernel⟩
theorem zt_511 : zty 511 = 0 := rfl
theorem zo_511 : zown 511 = 6 := rfl
theorem zg_512 (x : Int) : ∀ o : Nat, (o : Int) = x → zFo 6 o 12 ("RingHouse$Node", "denials", "I", false) ∧ (zfl 6 o)[12]? = some (0, 512, 0, 0) := fun o _ => ⟨zFw.o zw_X4 (Nat.le_of_ble_eq_true rfl) rfl o, rfl⟩
theorem zp_512 : 12 < (RX4, TX4, 24).2.2 ∧ (RX4, TX4, 24).2.1 12 = ("RingHouse$Node", "denials", "I", false) ∧ (∀ o : Nat, (zfl 6 o)[12]? = some (0, 512, 0, 0)) ∧ parseFieldDescriptor "I" = some .int := ⟨Nat.le_of_ble_eq_true rfl, rfl, fun _ => rfl, by decide +kernel⟩
theorem zt_512 : zty 512 = 0 := rfl
theorem zo_512 : zown 512 = 6 := rfl
theorem zg_513 (x : Int) : ∀ o : Nat, (o : Int) = x → zFo 6 o 13 ("RingHouse$Node", "first", "LRingHouse$Node;", false) ∧ (zfl 6 o)[13]? = some (0, 513, 0, 0) := fun o _ => ⟨zFw.o zw_X4 (Nat.le_of_ble_eq_true rfl) rfl o, rfl⟩
theorem zp_513 : 13 < (RX4, TX4, 24).2.2 ∧ (RX4, TX4, 24).2.1 13 = ("RingHouse$Node", "first", "LRingHouse$Node;", false) ∧ (∀ o : Nat, (zfl 6 o)[13]? = some (0, 513, 0, 0)) ∧ parseFieldDescriptor "LRingHouse$Node;" = some (.object "RingHouse$Node") := ⟨Nat.le_of_ble_eq_true rfl, rfl, fun _ => rfl, by decide +kernel⟩
theorem zt_513 : zty 513 = 6 := rfl
theorem zo_513 : zown 513 = 6 := rfl
theorem zg_514 (x : Int) : ∀ o : Nat, (o : Int) = x → zFo 6 o 14 ("RingHouse$Node", "last", "LRingHouse$Node;", false) ∧ (zfl 6 o)[14]? = some (0, 514, 0, 0) := fun o _ => ⟨zFw.o zw_X4 (Nat.le_of_ble_eq_true rfl) rfl o, rfl⟩
theorem zp_514 : 14 < (RX4, TX4, 24).2.2 ∧ (RX4, TX4, 24).2.1 14 = ("RingHouse$Node", "last", "LRingHouse$Node;", false) ∧ (∀ o : Nat, (zfl 6 o)[14]? = some (0, 514, 0, 0)) ∧ parseFieldDescriptor "LRingHouse$Node;" = some (.object "RingHouse$Node") := ⟨Nat.le_of_ble_eq_true rfl, rfl, fun _ => rfl, by decide +kernel⟩
theorem zt_514 : zty 514 = 6 := rfl
theorem zo_514 : zown 514 = 6 := rfl
theorem zg_515 (x : Int) : ∀ o : Nat, (o : Int) = x → zFo 6 o 15 ("RingHouse$Node", "entries", "I", false) ∧ (zfl 6 o)[15]? = some (0, 515, 0, 0) := fun o _ => ⟨zFw.o zw_X4 (Nat.le_of_ble_eq_true rfl) rfl o, rfl⟩
theorem zp_515 : 15 < (RX4, TX4, 24).2.2 ∧ (RX4, TX4, 24).2.1 15 = ("RingHouse$Node", "entries", "I", false) ∧ (∀ o : Nat, (zfl 6 o)[15]? = some (0, 515, 0, 0)) ∧ parseFieldDescriptor "I" = some .int := ⟨Nat.le_of_ble_eq_true rfl, rfl, fun _ => rfl, by decide +kernel⟩
theorem zt_515 : zty 515 = 0 := rfl
theorem zo_515 : zown 515 = 6 := rfl
theorem zg_516 (x : Int) : ∀ o : Nat, (o : Int) = x → zFo 6 o 16 ("RingHouse$Node", "limit", "I", false) ∧ (zfl 6 o)[16]? = some (0, 516, 0, 0) := fun o _ => ⟨zFw.o zw_X4 (Nat.le_of_ble_eq_true rfl) rfl o, rfl⟩
theorem zp_516 : 16 < (RX4, TX4, 24).2.2 ∧ (RX4, TX4, 24).2.1 16 = ("RingHouse$Node", "limit", "I", false) ∧ (∀ o : Nat, (zfl 6 o)[16]? = some (0, 516, 0, 0)) ∧ parseFieldDescriptor "I" = some .int := ⟨Nat.le_of_ble_eq_true rfl, rfl, fun _ => rfl, by decide +kernel⟩
theorem zt_516 : zty 516 = 0 := rfl
theorem zo_516 : zown 516 = 6 := rfl
theorem zg_517 (x : Int) : ∀ o : Nat, (o : Int) = x → zFo 6 o 17 ("RingHouse$Node", "used", "I", false) ∧ (zfl 6 o)[17]? = some (0, 517, 0, 0) := fun o _ => ⟨zFw.o zw_X4 (Nat.le_of_ble_eq_true rfl) rfl o, rfl⟩
theorem zp_517 : 17 < (RX4, TX4, 24).2.2 ∧ (RX4, TX4, 24).2.1 17 = ("RingHouse$Node", "used", "I", false) ∧ (∀ o : Nat, (zfl 6 o)[17]? = some (0, 517, 0, 0)) ∧ parseFieldDescriptor "I" = some .int := ⟨Nat.le_of_ble_eq_true rfl, rfl, fun _ => rfl, by decide +kernel⟩
theorem zt_517 : zty 517 = 0 := rfl
theorem zo_517 : zown 517 = 6 := rfl
theorem zh_518 {x y : Int} (hy : 3 * x + 1 = y) : ∀ o : Nat, (o : Int) = x → o < zcnt 6 → zFo 6 o 18 ("RingHouse$Node", "forSegments", "LRingHouse$Acl;", true) ∧ ∃ a b : Int, (zfl 6 o)[18]? = some (1, 7, a, b) ∧ a * x + b = y := fun o _ _ => ⟨zFw.o zw_X4 (Nat.le_of_ble_eq_true rfl) rfl o, _, _, rfl, hy⟩
theorem zh_519 {x y : Int} (hy : 3 * x + 2 = y) : ∀ o : Nat, (o : Int) = x → o < zcnt 6 → zFo 6 o 19 ("RingHouse$Node", "forDirectories", "LRingHouse$Acl;", true) ∧ ∃ a b : Int, (zfl 6 o)[19]? = some (1, 7, a, b) ∧ a * x + b = y := fun o _ _ => ⟨zFw.o zw_X4 (Nat.le_of_ble_eq_true rfl) rfl o, _, _, rfl, hy⟩
theorem zg_520 (x : Int) : ∀ o : Nat, (o : Int) = x → zFo 6 o 20 ("RingHouse$Node", "box", "LRingHouse$Box;", false) ∧ (zfl 6 o)[20]? = some (0, 520, 0, 0) := fun o _ => ⟨zFw.o zw_X4 (Nat.le_of_ble_eq_true rfl) rfl o, rfl⟩
theorem zp_520 : 20 < (RX4, TX4, 24).2.2 ∧ (RX4, TX4, 24).2.1 20 = ("RingHouse$Node", "box", "LRingHouse$Box;", false) ∧ (∀ o : Nat, (zfl 6 o)[20]? = some (0, 520, 0, 0)) ∧ parseFieldDescriptor "LRingHouse$Box;" = some (.object "RingHouse$Box") := ⟨Nat.le_of_ble_eq_true rfl, rfl, fun _ => rfl, by decide +kernel⟩
theorem zt_520 : zty 520 = 8 := rfl
theorem zo_520 : zown 520 = 6 := rfl
theorem zg_521 (x : Int) : ∀ o : Nat, (o : Int) = x → zFo 6 o 21 ("RingHouse$Node", "gates", "I", false) ∧ (zfl 6 o)[21]? = some (0, 521, 0, 0) := fun o _ => ⟨zFw.o zw_X4 (Nat.le_of_ble_eq_true rfl) rfl o, rfl⟩
theorem zp_521 : 21 < (RX4, TX4, 24).2.2 ∧ (RX4, TX4, 24).2.1 21 = ("RingHouse$Node", "gates", "I", false) ∧ (∀ o : Nat, (zfl 6 o)[21]? = some (0, 521, 0, 0)) ∧ parseFieldDescriptor "I" = some .int := ⟨Nat.le_of_ble_eq_true rfl, rfl, fun _ => rfl, by decide +kernel⟩
theorem zt_521 : zty 521 = 0 := rfl
theorem zo_521 : zown 521 = 6 := rfl
theorem zg_522 (x : Int) : ∀ o : Nat, (o : Int) = x → zFo 6 o 22 ("RingHouse$Node", "length", "I", false) ∧ (zfl 6 o)[22]? = some (0, 522, 0, 0) := fun o _ => ⟨zFw.o zw_X4 (Nat.le_of_ble_eq_true rfl) rfl o, rfl⟩
theorem zp_522 : 22 < (RX4, TX4, 24).2.2 ∧ (RX4, TX4, 24).2.1 22 = ("RingHouse$Node", "length", "I", false) ∧ (∀ o : Nat, (zfl 6 o)[22]? = some (0, 522, 0, 0)) ∧ parseFieldDescriptor "I" = some .int := ⟨Nat.le_of_ble_eq_true rfl, rfl, fun _ => rfl, by decide +kernel⟩
theorem zt_522 : zty 522 = 0 := rfl
theorem zo_522 : zown 522 = 6 := rfl
theorem zh_523 {x y : Int} (hy : 1 * x + 0 = y) : ∀ o : Nat, (o : Int) = x → o < zcnt 6 → zFo 6 o 23 ("RingHouse$Node", "map", "[I", true) ∧ ∃ a b : Int, (zfl 6 o)[23]? = some (1, 523, a, b) ∧ a * x + b = y := fun o _ _ => ⟨zFw.o zw_X4 (Nat.le_of_ble_eq_true rfl) rfl o, _, _, rfl, hy⟩
theorem zw_X5 : zFw 7 (RX5, TX5, 3) := ⟨fun _ => rfl, in_X5, ⟨tyX5, tyX5_ok⟩, nmX5⟩
theorem zh_600 {x y : Int} (hy : 1 * x + 0 = y) : ∀ o : Nat, (o : Int) = x → o < zcnt 7 → zFo 7 o 0 ("RingHouse$Acl", "who", "[I", true) ∧ ∃ a b : Int, (zfl 7 o)[0]? = some (1, 600, a, b) ∧ a * x + b = y := fun o _ _ => ⟨zFw.o zw_X5 (Nat.le_of_ble_eq_true rfl) rfl o, _, _, rfl, hy⟩
theorem zh_601 {x y : Int} (hy : 1 * x + 0 = y) : ∀ o : Nat, (o : Int) = x → o < zcnt 7 → zFo 7 o 1 ("RingHouse$Acl", "modes", "[I", true) ∧ ∃ a b : Int, (zfl 7 o)[1]? = some (1, 601, a, b) ∧ a * x + b = y := fun o _ _ => ⟨zFw.o zw_X5 (Nat.le_of_ble_eq_true rfl) rfl o, _, _, rfl, hy⟩
theorem zg_602 (x : Int) : ∀ o : Nat, (o : Int) = x → zFo 7 o 2 ("RingHouse$Acl", "items", "I", false) ∧ (zfl 7 o)[2]? = some (0, 602, 0, 0) := fun o _ => ⟨zFw.o zw_X5 (Nat.le_of_ble_eq_true rfl) rfl o, rfl⟩
theorem zp_602 : 2 < (RX5, TX5, 3).2.2 ∧ (RX5, TX5, 3).2.1 2 = ("RingHouse$Acl", "items", "I", false) ∧ (∀ o : Nat, (zfl 7 o)[2]? = some (0, 602, 0, 0)) ∧ parseFieldDescriptor "I" = some .int := ⟨Nat.le_of_ble_eq_true rfl, rfl, fun _ => rfl, by decide +kernel⟩
theorem zt_602 : zty 602 = 0 := rfl
theorem zo_602 : zown 602 = 7 := rfl
theorem zw_X6 : zFw 8 (RX6, TX6, 3) := ⟨fun _ => rfl, in_X6, ⟨tyX6, tyX6_ok⟩, nmX6⟩
theorem zh_700 {x y : Int} (hy : 1 * x + 0 = y) : ∀ o : Nat, (o : Int) = x → o < zcnt 8 → zFo 8 o 0 ("RingHouse$Box", "words", "[J", true) ∧ ∃ a b : Int, (zfl 8 o)[0]? = some (1, 700, a, b) ∧ a * x + b = y := fun o _ _ => ⟨zFw.o zw_X6 (Nat.le_of_ble_eq_true rfl) rfl o, _, _, rfl, hy⟩
theorem zh_701 {x y : Int} (hy : 1 * x + 0 = y) : ∀ o : Nat, (o : Int) = x → o < zcnt 8 → zFo 8 o 1 ("RingHouse$Box", "labels", "[I", true) ∧ ∃ a b : Int, (zfl 8 o)[1]? = some (1, 701, a, b) ∧ a * x + b = y := fun o _ _ => ⟨zFw.o zw_X6 (Nat.le_of_ble_eq_true rfl) rfl o, _, _, rfl, hy⟩
theorem zg_702 (x : Int) : ∀ o : Nat, (o : Int) = x → zFo 8 o 2 ("RingHouse$Box", "letters", "I", false) ∧ (zfl 8 o)[2]? = some (0, 702, 0, 0) := fun o _ => ⟨zFw.o zw_X6 (Nat.le_of_ble_eq_true rfl) rfl o, rfl⟩
theorem zp_702 : 2 < (RX6, TX6, 3).2.2 ∧ (RX6, TX6, 3).2.1 2 = ("RingHouse$Box", "letters", "I", false) ∧ (∀ o : Nat, (zfl 8 o)[2]? = some (0, 702, 0, 0)) ∧ parseFieldDescriptor "I" = some .int := ⟨Nat.le_of_ble_eq_true rfl, rfl, fun _ => rfl, by decide +kernel⟩
theorem zt_702 : zty 702 = 0 := rfl
theorem zo_702 : zown 702 = 8 := rfl
theorem zw_X7 : zFw 9 (RX7, TX7, 7) := ⟨fun _ => rfl, in_X7, ⟨tyX7, tyX7_ok⟩, nmX7⟩
theorem zg_800 (x : Int) : ∀ o : Nat, (o : Int) = x → zFo 9 o 0 ("RingHouse$Decoded", "word", "J", false) ∧ (zfl 9 o)[0]? = some (0, 800, 0, 0) := fun o _ => ⟨zFw.o zw_X7 (Nat.le_of_ble_eq_true rfl) rfl o, rfl⟩
theorem zp_800 : 0 < (RX7, TX7, 7).2.2 ∧ (RX7, TX7, 7).2.1 0 = ("RingHouse$Decoded", "word", "J", false) ∧ (∀ o : Nat, (zfl 9 o)[0]? = some (0, 800, 0, 0)) ∧ parseFieldDescriptor "J" = some .long := ⟨Nat.le_of_ble_eq_true rfl, rfl, fun _ => rfl, by decide +kernel⟩
theorem zt_800 : zty 800 = 1 := rfl
theorem zo_800 : zown 800 = 9 := rfl
theorem zg_801 (x : Int) : ∀ o : Nat, (o : Int) = x → zFo 9 o 1 ("RingHouse$Decoded", "operation", "LRingHouse$Operation;", false) ∧ (zfl 9 o)[1]? = some (0, 801, 0, 0) := fun o _ => ⟨zFw.o zw_X7 (Nat.le_of_ble_eq_true rfl) rfl o, rfl⟩
theorem zp_801 : 1 < (RX7, TX7, 7).2.2 ∧ (RX7, TX7, 7).2.1 1 = ("RingHouse$Decoded", "operation", "LRingHouse$Operation;", false) ∧ (∀ o : Nat, (zfl 9 o)[1]? = some (0, 801, 0, 0)) ∧ parseFieldDescriptor "LRingHouse$Operation;" = some (.object "RingHouse$Operation") := ⟨Nat.le_of_ble_eq_true rfl, rfl, fun _ => rfl, by decide +kernel⟩
theorem zt_801 : zty 801 = 16 := rfl
theorem zo_801 : zown 801 = 9 := rfl
theorem zg_802 (x : Int) : ∀ o : Nat, (o : Int) = x → zFo 9 o 2 ("RingHouse$Decoded", "mode", "I", false) ∧ (zfl 9 o)[2]? = some (0, 802, 0, 0) := fun o _ => ⟨zFw.o zw_X7 (Nat.le_of_ble_eq_true rfl) rfl o, rfl⟩
theorem zp_802 : 2 < (RX7, TX7, 7).2.2 ∧ (RX7, TX7, 7).2.1 2 = ("RingHouse$Decoded", "mode", "I", false) ∧ (∀ o : Nat, (zfl 9 o)[2]? = some (0, 802, 0, 0)) ∧ parseFieldDescriptor "I" = some .int := ⟨Nat.le_of_ble_eq_true rfl, rfl, fun _ => rfl, by decide +kernel⟩
theorem zt_802 : zty 802 = 0 := rfl
theorem zo_802 : zown 802 = 9 := rfl
theorem zg_803 (x : Int) : ∀ o : Nat, (o : Int) = x → zFo 9 o 3 ("RingHouse$Decoded", "p", "I", false) ∧ (zfl 9 o)[3]? = some (0, 803, 0, 0) := fun o _ => ⟨zFw.o zw_X7 (Nat.le_of_ble_eq_true rfl) rfl o, rfl⟩
theorem zp_803 : 3 < (RX7, TX7, 7).2.2 ∧ (RX7, TX7, 7).2.1 3 = ("RingHouse$Decoded", "p", "I", false) ∧ (∀ o : Nat, (zfl 9 o)[3]? = some (0, 803, 0, 0)) ∧ parseFieldDescriptor "I" = some .int := ⟨Nat.le_of_ble_eq_true rfl, rfl, fun _ => rfl, by decide +kernel⟩
theorem zt_803 : zty 803 = 0 := rfl
theorem zo_803 : zown 803 = 9 := rfl
theorem zg_804 (x : Int) : ∀ o : Nat, (o : Int) = x → zFo 9 o 4 ("RingHouse$Decoded", "n", "I", false) ∧ (zfl 9 o)[4]? = some (0, 804, 0, 0) := fun o _ => ⟨zFw.o zw_X7 (Nat.le_of_ble_eq_true rfl) rfl o, rfl⟩
theorem zp_804 : 4 < (RX7, TX7, 7).2.2 ∧ (RX7, TX7, 7).2.1 4 = ("RingHouse$Decoded", "n", "I", false) ∧ (∀ o : Nat, (zfl 9 o)[4]? = some (0, 804, 0, 0)) ∧ parseFieldDescriptor "I" = some .int := ⟨Nat.le_of_ble_eq_true rfl, rfl, fun _ => rfl, by decide +kernel⟩
theorem zt_804 : zty 804 = 0 := rfl
theorem zo_804 : zown 804 = 9 := rfl
theorem zg_805 (x : Int) : ∀ o : Nat, (o : Int) = x → zFo 9 o 5 ("RingHouse$Decoded", "index", "I", false) ∧ (zfl 9 o)[5]? = some (0, 805, 0, 0) := fun o _ => ⟨zFw.o zw_X7 (Nat.le_of_ble_eq_true rfl) rfl o, rfl⟩
theorem zp_805 : 5 < (RX7, TX7, 7).2.2 ∧ (RX7, TX7, 7).2.1 5 = ("RingHouse$Decoded", "index", "I", false) ∧ (∀ o : Nat, (zfl 9 o)[5]? = some (0, 805, 0, 0)) ∧ parseFieldDescriptor "I" = some .int := ⟨Nat.le_of_ble_eq_true rfl, rfl, fun _ => rfl, by decide +kernel⟩
theorem zt_805 : zty 805 = 0 := rfl
theorem zo_805 : zown 805 = 9 := rfl
theorem zg_806 (x : Int) : ∀ o : Nat, (o : Int) = x → zFo 9 o 6 ("RingHouse$Decoded", "offset", "I", false) ∧ (zfl 9 o)[6]? = some (0, 806, 0, 0) := fun o _ => ⟨zFw.o zw_X7 (Nat.le_of_ble_eq_true rfl) rfl o, rfl⟩
theorem zp_806 : 6 < (RX7, TX7, 7).2.2 ∧ (RX7, TX7, 7).2.1 6 = ("RingHouse$Decoded", "offset", "I", false) ∧ (∀ o : Nat, (zfl 9 o)[6]? = some (0, 806, 0, 0)) ∧ parseFieldDescriptor "I" = some .int := ⟨Nat.le_of_ble_eq_true rfl, rfl, fun _ => rfl, by decide +kernel⟩
theorem zt_806 : zty 806 = 0 := rfl
theorem zo_806 : zown 806 = 9 := rfl
theorem zw_X8 : zFw 10 (RX8, TX8, 26) := ⟨fun _ => rfl, in_X8, ⟨tyX8, tyX8_ok⟩, nmX8⟩
theorem zh_900 {x y : Int} (hy : 0 * x + 0 = y) : ∀ o : Nat, (o : Int) = x → o < zcnt 10 → zFo 10 o 0 ("RingHouse$Process", "tree", "LRingHouse$Tree;", true) ∧ ∃ a b : Int, (zfl 10 o)[0]? = some (1, 3, a, b) ∧ a * x + b = y := fun o _ _ => ⟨zFw.o zw_X8 (Nat.le_of_ble_eq_true rfl) rfl o, _, _, rfl, hy⟩
theorem zh_901 {x y : Int} (hy : 1 * x + 0 = y) : ∀ o : Nat, (o : Int) = x → o < zcnt 10 → zFo 10 o 1 ("RingHouse$Process", "itself", "I", true) ∧ ∃ a b : Int, (zfl 10 o)[1]? = some (1, 0, a, b) ∧ a * x + b = y := fun o _ _ => ⟨zFw.o zw_X8 (Nat.le_of_ble_eq_true rfl) rfl o, _, _, rfl, hy⟩
theorem zg_902 (x : Int) : ∀ o : Nat, (o : Int) = x → zFo 10 o 2 ("RingHouse$Process", "lives", "Z", false) ∧ (zfl 10 o)[2]? = some (0, 902, 0, 0) := fun o _ => ⟨zFw.o zw_X8 (Nat.le_of_ble_eq_true rfl) rfl o, rfl⟩
theorem zp_902 : 2 < (RX8, TX8, 26).2.2 ∧ (RX8, TX8, 26).2.1 2 = ("RingHouse$Process", "lives", "Z", false) ∧ (∀ o : Nat, (zfl 10 o)[2]? = some (0, 902, 0, 0)) ∧ parseFieldDescriptor "Z" = some .boolean := ⟨Nat.le_of_ble_eq_true rfl, rfl, fun _ => rfl, by decide +kernel⟩
theorem zt_902 : zty 902 = 0 := rfl
theorem zo_902 : zown 902 = 10 := rfl
theorem zg_903 (x : Int) : ∀ o : Nat, (o : Int) = x → zFo 10 o 3 ("RingHouse$Process", "state", "I", false) ∧ (zfl 10 o)[3]? = some (0, 903, 0, 0) := fun o _ => ⟨zFw.o zw_X8 (Nat.le_of_ble_eq_true rfl) rfl o, rfl⟩
theorem zp_903 : 3 < (RX8, TX8, 26).2.2 ∧ (RX8, TX8, 26).2.1 3 = ("RingHouse$Process", "state", "I", false) ∧ (∀ o : Nat, (zfl 10 o)[3]? = some (0, 903, 0, 0)) ∧ parseFieldDescriptor "I" = some .int := ⟨Nat.le_of_ble_eq_true rfl, rfl, fun _ => rfl, by decide +kernel⟩
theorem zt_903 : zty 903 = 0 := rfl
theorem zo_903 : zown 903 = 10 := rfl
theorem zg_904 (x : Int) : ∀ o : Nat, (o : Int) = x → zFo 10 o 4 ("RingHouse$Process", "person", "I", false) ∧ (zfl 10 o)[4]? = some (0, 904, 0, 0) := fun o _ => ⟨zFw.o zw_X8 (Nat.le_of_ble_eq_true rfl) rfl o, rfl⟩
theorem zp_904 : 4 < (RX8, TX8, 26).2.2 ∧ (RX8, TX8, 26).2.1 4 = ("RingHouse$Process", "person", "I", false) ∧ (∀ o : Nat, (zfl 10 o)[4]? = some (0, 904, 0, 0)) ∧ parseFieldDescriptor "I" = some .int := ⟨Nat.le_of_ble_eq_true rfl, rfl, fun _ => rfl, by decide +kernel⟩
theorem zt_904 : zty 904 = 0 := rfl
theorem zo_904 : zown 904 = 10 := rfl
theorem zg_905 (x : Int) : ∀ o : Nat, (o : Int) = x → zFo 10 o 5 ("RingHouse$Process", "project", "I", false) ∧ (zfl 10 o)[5]? = some (0, 905, 0, 0) := fun o _ => ⟨zFw.o zw_X8 (Nat.le_of_ble_eq_true rfl) rfl o, rfl⟩
theorem zp_905 : 5 < (RX8, TX8, 26).2.2 ∧ (RX8, TX8, 26).2.1 5 = ("RingHouse$Process", "project", "I", false) ∧ (∀ o : Nat, (zfl 10 o)[5]? = some (0, 905, 0, 0)) ∧ parseFieldDescriptor "I" = some .int := ⟨Nat.le_of_ble_eq_true rfl, rfl, fun _ => rfl, by decide +kernel⟩
theorem zt_905 : zty 905 = 0 := rfl
theorem zo_905 : zown 905 = 10 := rfl
theorem zg_906 (x : Int) : ∀ o : Nat, (o : Int) = x → zFo 10 o 6 ("RingHouse$Process", "label", "I", false) ∧ (zfl 10 o)[6]? = some (0, 906, 0, 0) := fun o _ => ⟨zFw.o zw_X8 (Nat.le_of_ble_eq_true rfl) rfl o, rfl⟩
theorem zp_906 : 6 < (RX8, TX8, 26).2.2 ∧ (RX8, TX8, 26).2.1 6 = ("RingHouse$Process", "label", "I", false) ∧ (∀ o : Nat, (zfl 10 o)[6]? = some (0, 906, 0, 0)) ∧ parseFieldDescriptor "I" = some .int := ⟨Nat.le_of_ble_eq_true rfl, rfl, fun _ => rfl, by decide +kernel⟩
theorem zt_906 : zty 906 = 0 := rfl
theorem zo_906 : zown 906 = 10 := rfl
theorem zg_907 (x : Int) : ∀ o : Nat, (o : Int) = x → zFo 10 o 7 ("RingHouse$Process", "ticks", "I", false) ∧ (zfl 10 o)[7]? = some (0, 907, 0, 0) := fun o _ => ⟨zFw.o zw_X8 (Nat.le_of_ble_eq_true rfl) rfl o, rfl⟩
theorem zp_907 : 7 < (RX8, TX8, 26).2.2 ∧ (RX8, TX8, 26).2.1 7 = ("RingHouse$Process", "ticks", "I", false) ∧ (∀ o : Nat, (zfl 10 o)[7]? = some (0, 907, 0, 0)) ∧ parseFieldDescriptor "I" = some .int := ⟨Nat.le_of_ble_eq_true rfl, rfl, fun _ => rfl, by decide +kernel⟩
theorem zt_907 : zty 907 = 0 := rfl
theorem zo_907 : zown 907 = 10 := rfl
theorem zh_908 {x y : Int} (hy : 1 * x + 0 = y) : ∀ o : Nat, (o : Int) = x → o < zcnt 10 → zFo 10 o 8 ("RingHouse$Process", "now", "LRingHouse$Registers;", true) ∧ ∃ a b : Int, (zfl 10 o)[8]? = some (1, 11, a, b) ∧ a * x + b = y := fun o _ _ => ⟨zFw.o zw_X8 (Nat.le_of_ble_eq_true rfl) rfl o, _, _, rfl, hy⟩
theorem zh_909 {x y : Int} (hy : 1 * x + 0 = y) : ∀ o : Nat, (o : Int) = x → o < zcnt 10 → zFo 10 o 9 ("RingHouse$Process", "frames", "[LRingHouse$Registers;", true) ∧ ∃ a b : Int, (zfl 10 o)[9]? = some (1, 909, a, b) ∧ a * x + b = y := fun o _ _ => ⟨zFw.o zw_X8 (Nat.le_of_ble_eq_true rfl) rfl o, _, _, rfl, hy⟩
theorem zg_910 (x : Int) : ∀ o : Nat, (o : Int) = x → zFo 10 o 10 ("RingHouse$Process", "framed", "I", false) ∧ (zfl 10 o)[10]? = some (0, 910, 0, 0) := fun o _ => ⟨zFw.o zw_X8 (Nat.le_of_ble_eq_true rfl) rfl o, rfl⟩
theorem zp_910 : 10 < (RX8, TX8, 26).2.2 ∧ (RX8, TX8, 26).2.1 10 = ("RingHouse$Process", "framed", "I", false) ∧ (∀ o : Nat, (zfl 10 o)[10]? = some (0, 910, 0, 0)) ∧ parseFieldDescriptor "I" = some .int := ⟨Nat.le_of_ble_eq_true rfl, rfl, fun _ => rfl, by decide +kernel⟩
theorem zt_910 : zty 910 = 0 := rfl
theorem zo_910 : zown 910 = 10 := rfl
theorem zg_911 (x : Int) : ∀ o : Nat, (o : Int) = x → zFo 10 o 11 ("RingHouse$Process", "hasHandler", "Z", false) ∧ (zfl 10 o)[11]? = some (0, 911, 0, 0) := fun o _ => ⟨zFw.o zw_X8 (Nat.le_of_ble_eq_true rfl) rfl o, rfl⟩
theorem zp_911 : 11 < (RX8, TX8, 26).2.2 ∧ (RX8, TX8, 26).2.1 11 = ("RingHouse$Process", "hasHandler", "Z", false) ∧ (∀ o : Nat, (zfl 10 o)[11]? = some (0, 911, 0, 0)) ∧ parseFieldDescriptor "Z" = some .boolean := ⟨Nat.le_of_ble_eq_true rfl, rfl, fun _ => rfl, by decide +kernel⟩
theorem zt_911 : zty 911 = 0 := rfl
theorem zo_911 : zown 911 = 10 := rfl
theorem zg_912 (x : Int) : ∀ o : Nat, (o : Int) = x → zFo 10 o 12 ("RingHouse$Process", "handlerNumber", "I", false) ∧ (zfl 10 o)[12]? = some (0, 912, 0, 0) := fun o _ => ⟨zFw.o zw_X8 (Nat.le_of_ble_eq_true rfl) rfl o, rfl⟩
theorem zp_912 : 12 < (RX8, TX8, 26).2.2 ∧ (RX8, TX8, 26).2.1 12 = ("RingHouse$Process", "handlerNumber", "I", false) ∧ (∀ o : Nat, (zfl 10 o)[12]? = some (0, 912, 0, 0)) ∧ parseFieldDescriptor "I" = some .int := ⟨Nat.le_of_ble_eq_true rfl, rfl, fun _ => rfl, by decide +kernel⟩
theorem zt_912 : zty 912 = 0 := rfl
theorem zo_912 : zown 912 = 10 := rfl
theorem zg_913 (x : Int) : ∀ o : Nat, (o : Int) = x → zFo 10 o 13 ("RingHouse$Process", "handlerPlace", "I", false) ∧ (zfl 10 o)[13]? = some (0, 913, 0, 0) := fun o _ => ⟨zFw.o zw_X8 (Nat.le_of_ble_eq_true rfl) rfl o, rfl⟩
theorem zp_913 : 13 < (RX8, TX8, 26).2.2 ∧ (RX8, TX8, 26).2.1 13 = ("RingHouse$Process", "handlerPlace", "I", false) ∧ (∀ o : Nat, (zfl 10 o)[13]? = some (0, 913, 0, 0)) ∧ parseFieldDescriptor "I" = some .int := ⟨Nat.le_of_ble_eq_true rfl, rfl, fun _ => rfl, by decide +kernel⟩
theorem zt_913 : zty 913 = 0 := rfl
theorem zo_913 : zown 913 = 10 := rfl
theorem zg_914 (x : Int) : ∀ o : Nat, (o : Int) = x → zFo 10 o 14 ("RingHouse$Process", "handlerRing", "I", false) ∧ (zfl 10 o)[14]? = some (0, 914, 0, 0) := fun o _ => ⟨zFw.o zw_X8 (Nat.le_of_ble_eq_true rfl) rfl o, rfl⟩
theorem zp_914 : 14 < (RX8, TX8, 26).2.2 ∧ (RX8, TX8, 26).2.1 14 = ("RingHouse$Process", "handlerRing", "I", false) ∧ (∀ o : Nat, (zfl 10 o)[14]? = some (0, 914, 0, 0)) ∧ parseFieldDescriptor "I" = some .int := ⟨Nat.le_of_ble_eq_true rfl, rfl, fun _ => rfl, by decide +kernel⟩
theorem zt_914 : zty 914 = 0 := rfl
theorem zo_914 : zown 914 = 10 := rfl
theorem zh_915 {x y : Int} (hy : 1 * x + 0 = y) : ∀ o : Nat, (o : Int) = x → o < zcnt 10 → zFo 10 o 15 ("RingHouse$Process", "stacks", "[J", true) ∧ ∃ a b : Int, (zfl 10 o)[15]? = some (1, 915, a, b) ∧ a * x + b = y := fun o _ _ => ⟨zFw.o zw_X8 (Nat.le_of_ble_eq_true rfl) rfl o, _, _, rfl, hy⟩
theorem zh_916 {x y : Int} (hy : 1 * x + 0 = y) : ∀ o : Nat, (o : Int) = x → o < zcnt 10 → zFo 10 o 16 ("RingHouse$Process", "known", "[LRingHouse$Node;", true) ∧ ∃ a b : Int, (zfl 10 o)[16]? = some (1, 916, a, b) ∧ a * x + b = y := fun o _ _ => ⟨zFw.o zw_X8 (Nat.le_of_ble_eq_true rfl) rfl o, _, _, rfl, hy⟩
theorem zh_917 {x y : Int} (hy : 1 * x + 0 = y) : ∀ o : Nat, (o : Int) = x → o < zcnt 10 → zFo 10 o 17 ("RingHouse$Process", "rights", "[LRingHouse$Rights;", true) ∧ ∃ a b : Int, (zfl 10 o)[17]? = some (1, 917, a, b) ∧ a * x + b = y := fun o _ _ => ⟨zFw.o zw_X8 (Nat.le_of_ble_eq_true rfl) rfl o, _, _, rfl, hy⟩
theorem zh_918 {x y : Int} (hy : 1 * x + 0 = y) : ∀ o : Nat, (o : Int) = x → o < zcnt 10 → zFo 10 o 18 ("RingHouse$Process", "linked", "[I", true) ∧ ∃ a b : Int, (zfl 10 o)[18]? = some (1, 918, a, b) ∧ a * x + b = y := fun o _ _ => ⟨zFw.o zw_X8 (Nat.le_of_ble_eq_true rfl) rfl o, _, _, rfl, hy⟩
theorem zh_919 {x y : Int} (hy : 1 * x + 0 = y) : ∀ o : Nat, (o : Int) = x → o < zcnt 10 → zFo 10 o 19 ("RingHouse$Process", "linkPlace", "[I", true) ∧ ∃ a b : Int, (zfl 10 o)[19]? = some (1, 919, a, b) ∧ a * x + b = y := fun o _ _ => ⟨zFw.o zw_X8 (Nat.le_of_ble_eq_true rfl) rfl o, _, _, rfl, hy⟩
theorem zg_920 (x : Int) : ∀ o : Nat, (o : Int) = x → zFo 10 o 20 ("RingHouse$Process", "work", "LRingHouse$Node;", false) ∧ (zfl 10 o)[20]? = some (0, 920, 0, 0) := fun o _ => ⟨zFw.o zw_X8 (Nat.le_of_ble_eq_true rfl) rfl o, rfl⟩
theorem zp_920 : 20 < (RX8, TX8, 26).2.2 ∧ (RX8, TX8, 26).2.1 20 = ("RingHouse$Process", "work", "LRingHouse$Node;", false) ∧ (∀ o : Nat, (zfl 10 o)[20]? = some (0, 920, 0, 0)) ∧ parseFieldDescriptor "LRingHouse$Node;" = some (.object "RingHouse$Node") := ⟨Nat.le_of_ble_eq_true rfl, rfl, fun _ => rfl, by decide +kernel⟩
theorem zt_920 : zty 920 = 6 := rfl
theorem zo_920 : zown 920 = 10 := rfl
theorem zh_921 {x y : Int} (hy : 1 * x + 0 = y) : ∀ o : Nat, (o : Int) = x → o < zcnt 10 → zFo 10 o 21 ("RingHouse$Process", "search", "[LRingHouse$Node;", true) ∧ ∃ a b : Int, (zfl 10 o)[21]? = some (1, 921, a, b) ∧ a * x + b = y := fun o _ _ => ⟨zFw.o zw_X8 (Nat.le_of_ble_eq_true rfl) rfl o, _, _, rfl, hy⟩
theorem zh_922 {x y : Int} (hy : 1 * x + 0 = y) : ∀ o : Nat, (o : Int) = x → o < zcnt 10 → zFo 10 o 22 ("RingHouse$Process", "messages", "[J", true) ∧ ∃ a b : Int, (zfl 10 o)[22]? = some (1, 922, a, b) ∧ a * x + b = y := fun o _ _ => ⟨zFw.o zw_X8 (Nat.le_of_ble_eq_true rfl) rfl o, _, _, rfl, hy⟩
theorem zg_923 (x : Int) : ∀ o : Nat, (o : Int) = x → zFo 10 o 23 ("RingHouse$Process", "head", "I", false) ∧ (zfl 10 o)[23]? = some (0, 923, 0, 0) := fun o _ => ⟨zFw.o zw_X8 (Nat.le_of_ble_eq_true rfl) rfl o, rfl⟩
theorem zp_923 : 23 < (RX8, TX8, 26).2.2 ∧ (RX8, TX8, 26).2.1 23 = ("RingHouse$Process", "head", "I", false) ∧ (∀ o : Nat, (zfl 10 o)[23]? = some (0, 923, 0, 0)) ∧ parseFieldDescriptor "I" = some .int := ⟨Nat.le_of_ble_eq_true rfl, rfl, fun _ => rfl, by decide +kernel⟩
theorem zt_923 : zty 923 = 0 := rfl
theorem zo_923 : zown 923 = 10 := rfl
theorem zg_924 (x : Int) : ∀ o : Nat, (o : Int) = x → zFo 10 o 24 ("RingHouse$Process", "waiting", "I", false) ∧ (zfl 10 o)[24]? = some (0, 924, 0, 0) := fun o _ => ⟨zFw.o zw_X8 (Nat.le_of_ble_eq_true rfl) rfl o, rfl⟩
theorem zp_924 : 24 < (RX8, TX8, 26).2.2 ∧ (RX8, TX8, 26).2.1 24 = ("RingHouse$Process", "waiting", "I", false) ∧ (∀ o : Nat, (zfl 10 o)[24]? = some (0, 924, 0, 0)) ∧ parseFieldDescriptor "I" = some .int := ⟨Nat.le_of_ble_eq_true rfl, rfl, fun _ => rfl, by decide +kernel⟩
theorem zt_924 : zty 924 = 0 := rfl
theorem zo_924 : zown 924 = 10 := rfl
theorem zh_925 {x y : Int} (hy : 1 * x + 0 = y) : ∀ o : Nat, (o : Int) = x → o < zcnt 10 → zFo 10 o 25 ("RingHouse$Process", "trace", "LRingHouse$Trace;", true) ∧ ∃ a b : Int, (zfl 10 o)[25]? = some (1, 12, a, b) ∧ a * x + b = y := fun o _ _ => ⟨zFw.o zw_X8 (Nat.le_of_ble_eq_true rfl) rfl o, _, _, rfl, hy⟩
theorem zw_X9 : zFw 11 (RX9, TX9, 11) := ⟨fun _ => rfl, in_X9, ⟨tyX9, tyX9_ok⟩, nmX9⟩
theorem zg_1000 (x : Int) : ∀ o : Nat, (o : Int) = x → zFo 11 o 0 ("RingHouse$Registers", "a", "J", false) ∧ (zfl 11 o)[0]? = some (0, 1000, 0, 0) := fun o _ => ⟨zFw.o zw_X9 (Nat.le_of_ble_eq_true rfl) rfl o, rfl⟩
theorem zp_1000 : 0 < (RX9, TX9, 11).2.2 ∧ (RX9, TX9, 11).2.1 0 = ("RingHouse$Registers", "a", "J", false) ∧ (∀ o : Nat, (zfl 11 o)[0]? = some (0, 1000, 0, 0)) ∧ parseFieldDescriptor "J" = some .long := ⟨Nat.le_of_ble_eq_true rfl, rfl, fun _ => rfl, by decide +kernel⟩
theorem zt_1000 : zty 1000 = 1 := rfl
theorem zo_1000 : zown 1000 = 11 := rfl
theorem zg_1001 (x : Int) : ∀ o : Nat, (o : Int) = x → zFo 11 o 1 ("RingHouse$Registers", "q", "J", false) ∧ (zfl 11 o)[1]? = some (0, 1001, 0, 0) := fun o _ => ⟨zFw.o zw_X9 (Nat.le_of_ble_eq_true rfl) rfl o, rfl⟩
theorem zp_1001 : 1 < (RX9, TX9, 11).2.2 ∧ (RX9, TX9, 11).2.1 1 = ("RingHouse$Registers", "q", "J", false) ∧ (∀ o : Nat, (zfl 11 o)[1]? = some (0, 1001, 0, 0)) ∧ parseFieldDescriptor "J" = some .long := ⟨Nat.le_of_ble_eq_true rfl, rfl, fun _ => rfl, by decide +kernel⟩
theorem zt_1001 : zty 1001 = 1 := rfl
theorem zo_1001 : zown 1001 = 11 := rfl
theorem zh_1002 {x y : Int} (hy : 1 * x + 0 = y) : ∀ o : Nat, (o : Int) = x → o < zcnt 11 → zFo 11 o 2 ("RingHouse$Registers", "x", "[I", true) ∧ ∃ a b : Int, (zfl 11 o)[2]? = some (1, 1002, a, b) ∧ a * x + b = y := fun o _ _ => ⟨zFw.o zw_X9 (Nat.le_of_ble_eq_true rfl) rfl o, _, _, rfl, hy⟩
theorem zh_1003 {x y : Int} (hy : 1 * x + 0 = y) : ∀ o : Nat, (o : Int) = x → o < zcnt 11 → zFo 11 o 3 ("RingHouse$Registers", "pNumber", "[I", true) ∧ ∃ a b : Int, (zfl 11 o)[3]? = some (1, 1003, a, b) ∧ a * x + b = y := fun o _ _ => ⟨zFw.o zw_X9 (Nat.le_of_ble_eq_true rfl) rfl o, _, _, rfl, hy⟩
theorem zh_1004 {x y : Int} (hy : 1 * x + 0 = y) : ∀ o : Nat, (o : Int) = x → o < zcnt 11 → zFo 11 o 4 ("RingHouse$Registers", "pPlace", "[I", true) ∧ ∃ a b : Int, (zfl 11 o)[4]? = some (1, 1004, a, b) ∧ a * x + b = y := fun o _ _ => ⟨zFw.o zw_X9 (Nat.le_of_ble_eq_true rfl) rfl o, _, _, rfl, hy⟩
theorem zh_1005 {x y : Int} (hy : 1 * x + 0 = y) : ∀ o : Nat, (o : Int) = x → o < zcnt 11 → zFo 11 o 5 ("RingHouse$Registers", "pRing", "[I", true) ∧ ∃ a b : Int, (zfl 11 o)[5]? = some (1, 1005, a, b) ∧ a * x + b = y := fun o _ _ => ⟨zFw.o zw_X9 (Nat.le_of_ble_eq_true rfl) rfl o, _, _, rfl, hy⟩
theorem zg_1006 (x : Int) : ∀ o : Nat, (o : Int) = x → zFo 11 o 6 ("RingHouse$Registers", "number", "I", false) ∧ (zfl 11 o)[6]? = some (0, 1006, 0, 0) := fun o _ => ⟨zFw.o zw_X9 (Nat.le_of_ble_eq_true rfl) rfl o, rfl⟩
theorem zp_1006 : 6 < (RX9, TX9, 11).2.2 ∧ (RX9, TX9, 11).2.1 6 = ("RingHouse$Registers", "number", "I", false) ∧ (∀ o : Nat, (zfl 11 o)[6]? = some (0, 1006, 0, 0)) ∧ parseFieldDescriptor "I" = some .int := ⟨Nat.le_of_ble_eq_true rfl, rfl, fun _ => rfl, by decide +kernel⟩
theorem zt_1006 : zty 1006 = 0 := rfl
theorem zo_1006 : zown 1006 = 11 := rfl
theorem zg_1007 (x : Int) : ∀ o : Nat, (o : Int) = x → zFo 11 o 7 ("RingHouse$Registers", "place", "I", false) ∧ (zfl 11 o)[7]? = some (0, 1007, 0, 0) := fun o _ => ⟨zFw.o zw_X9 (Nat.le_of_ble_eq_true rfl) rfl o, rfl⟩
theorem zp_1007 : 7 < (RX9, TX9, 11).2.2 ∧ (RX9, TX9, 11).2.1 7 = ("RingHouse$Registers", "place", "I", false) ∧ (∀ o : Nat, (zfl 11 o)[7]? = some (0, 1007, 0, 0)) ∧ parseFieldDescriptor "I" = some .int := ⟨Nat.le_of_ble_eq_true rfl, rfl, fun _ => rfl, by decide +kernel⟩
theorem zt_1007 : zty 1007 = 0 := rfl
theorem zo_1007 : zown 1007 = 11 := rfl
theorem zg_1008 (x : Int) : ∀ o : Nat, (o : Int) = x → zFo 11 o 8 ("RingHouse$Registers", "ring", "I", false) ∧ (zfl 11 o)[8]? = some (0, 1008, 0, 0) := fun o _ => ⟨zFw.o zw_X9 (Nat.le_of_ble_eq_true rfl) rfl o, rfl⟩
theorem zp_1008 : 8 < (RX9, TX9, 11).2.2 ∧ (RX9, TX9, 11).2.1 8 = ("RingHouse$Registers", "ring", "I", false) ∧ (∀ o : Nat, (zfl 11 o)[8]? = some (0, 1008, 0, 0)) ∧ parseFieldDescriptor "I" = some .int := ⟨Nat.le_of_ble_eq_true rfl, rfl, fun _ => rfl, by decide +kernel⟩
theorem zt_1008 : zty 1008 = 0 := rfl
theorem zo_1008 : zown 1008 = 11 := rfl
theorem zg_1009 (x : Int) : ∀ o : Nat, (o : Int) = x → zFo 11 o 9 ("RingHouse$Registers", "zero", "Z", false) ∧ (zfl 11 o)[9]? = some (0, 1009, 0, 0) := fun o _ => ⟨zFw.o zw_X9 (Nat.le_of_ble_eq_true rfl) rfl o, rfl⟩
theorem zp_1009 : 9 < (RX9, TX9, 11).2.2 ∧ (RX9, TX9, 11).2.1 9 = ("RingHouse$Registers", "zero", "Z", false) ∧ (∀ o : Nat, (zfl 11 o)[9]? = some (0, 1009, 0, 0)) ∧ parseFieldDescriptor "Z" = some .boolean := ⟨Nat.le_of_ble_eq_true rfl, rfl, fun _ => rfl, by decide +kernel⟩
theorem zt_1009 : zty 1009 = 0 := rfl
theorem zo_1009 : zown 1009 = 11 := rfl
theorem zg_1010 (x : Int) : ∀ o : Nat, (o : Int) = x → zFo 11 o 10 ("RingHouse$Registers", "minus", "Z", false) ∧ (zfl 11 o)[10]? = some (0, 1010, 0, 0) := fun o _ => ⟨zFw.o zw_X9 (Nat.le_of_ble_eq_true rfl) rfl o, rfl⟩
theorem zp_1010 : 10 < (RX9, TX9, 11).2.2 ∧ (RX9, TX9, 11).2.1 10 = ("RingHouse$Registers", "minus", "Z", false) ∧ (∀ o : Nat, (zfl 11 o)[10]? = some (0, 1010, 0, 0)) ∧ parseFieldDescriptor "Z" = some .boolean := ⟨Nat.le_of_ble_eq_true rfl, rfl, fun _ => rfl, by decide +kernel⟩
theorem zt_1010 : zty 1010 = 0 := rfl
theorem zo_1010 : zown 1010 = 11 := rfl
theorem zw_X10 : zFw 12 (RX10, TX10, 3) := ⟨fun _ => rfl, in_X10, ⟨tyX10, tyX10_ok⟩, nmX10⟩
theorem zh_1100 {x y : Int} (hy : 1 * x + 0 = y) : ∀ o : Nat, (o : Int) = x → o < zcnt 12 → zFo 12 o 0 ("RingHouse$Trace", "rows", "[J", true) ∧ ∃ a b : Int, (zfl 12 o)[0]? = some (1, 1100, a, b) ∧ a * x + b = y := fun o _ _ => ⟨zFw.o zw_X10 (Nat.le_of_ble_eq_true rfl) rfl o, _, _, rfl, hy⟩
theorem zg_1101 (x : Int) : ∀ o : Nat, (o : Int) = x → zFo 12 o 1 ("RingHouse$Trace", "many", "I", false) ∧ (zfl 12 o)[1]? = some (0, 1101, 0, 0) := fun o _ => ⟨zFw.o zw_X10 (Nat.le_of_ble_eq_true rfl) rfl o, rfl⟩
theorem zp_1101 : 1 < (RX10, TX10, 3).2.2 ∧ (RX10, TX10, 3).2.1 1 = ("RingHouse$Trace", "many", "I", false) ∧ (∀ o : Nat, (zfl 12 o)[1]? = some (0, 1101, 0, 0)) ∧ parseFieldDescriptor "I" = some .int := ⟨Nat.le_of_ble_eq_true rfl, rfl, fun _ => rfl, by decide +kernel⟩
theorem zt_1101 : zty 1101 = 0 := rfl
theorem zo_1101 : zown 1101 = 12 := rfl
theorem zg_1102 (x : Int) : ∀ o : Nat, (o : Int) = x → zFo 12 o 2 ("RingHouse$Trace", "sum", "J", false) ∧ (zfl 12 o)[2]? = some (0, 1102, 0, 0) := fun o _ => ⟨zFw.o zw_X10 (Nat.le_of_ble_eq_true rfl) rfl o, rfl⟩
theorem zp_1102 : 2 < (RX10, TX10, 3).2.2 ∧ (RX10, TX10, 3).2.1 2 = ("RingHouse$Trace", "sum", "J", false) ∧ (∀ o : Nat, (zfl 12 o)[2]? = some (0, 1102, 0, 0)) ∧ parseFieldDescriptor "J" = some .long := ⟨Nat.le_of_ble_eq_true rfl, rfl, fun _ => rfl, by decide +kernel⟩
theorem zt_1102 : zty 1102 = 1 := rfl
theorem zo_1102 : zown 1102 = 12 := rfl
theorem zw_X11 : zFw 13 (RX11, TX11, 4) := ⟨fun _ => rfl, in_X11, ⟨tyX11, tyX11_ok⟩, nmX11⟩
theorem zg_1200 (x : Int) : ∀ o : Nat, (o : Int) = x → zFo 13 o 0 ("RingHouse$Rights", "version", "I", false) ∧ (zfl 13 o)[0]? = some (0, 1200, 0, 0) := fun o _ => ⟨zFw.o zw_X11 (Nat.le_of_ble_eq_true rfl) rfl o, rfl⟩
theorem zp_1200 : 0 < (RX11, TX11, 4).2.2 ∧ (RX11, TX11, 4).2.1 0 = ("RingHouse$Rights", "version", "I", false) ∧ (∀ o : Nat, (zfl 13 o)[0]? = some (0, 1200, 0, 0)) ∧ parseFieldDescriptor "I" = some .int := ⟨Nat.le_of_ble_eq_true rfl, rfl, fun _ => rfl, by decide +kernel⟩
theorem zt_1200 : zty 1200 = 0 := rfl
theorem zo_1200 : zown 1200 = 13 := rfl
theorem zg_1201 (x : Int) : ∀ o : Nat, (o : Int) = x → zFo 13 o 1 ("RingHouse$Rights", "modes", "I", false) ∧ (zfl 13 o)[1]? = some (0, 1201, 0, 0) := fun o _ => ⟨zFw.o zw_X11 (Nat.le_of_ble_eq_true rfl) rfl o, rfl⟩
theorem zp_1201 : 1 < (RX11, TX11, 4).2.2 ∧ (RX11, TX11, 4).2.1 1 = ("RingHouse$Rights", "modes", "I", false) ∧ (∀ o : Nat, (zfl 13 o)[1]? = some (0, 1201, 0, 0)) ∧ parseFieldDescriptor "I" = some .int := ⟨Nat.le_of_ble_eq_true rfl, rfl, fun _ => rfl, by decide +kernel⟩
theorem zt_1201 : zty 1201 = 0 := rfl
theorem zo_1201 : zown 1201 = 13 := rfl
theorem zg_1202 (x : Int) : ∀ o : Nat, (o : Int) = x → zFo 13 o 2 ("RingHouse$Rights", "isAbove", "Z", false) ∧ (zfl 13 o)[2]? = some (0, 1202, 0, 0) := fun o _ => ⟨zFw.o zw_X11 (Nat.le_of_ble_eq_true rfl) rfl o, rfl⟩
theorem zp_1202 : 2 < (RX11, TX11, 4).2.2 ∧ (RX11, TX11, 4).2.1 2 = ("RingHouse$Rights", "isAbove", "Z", false) ∧ (∀ o : Nat, (zfl 13 o)[2]? = some (0, 1202, 0, 0)) ∧ parseFieldDescriptor "Z" = some .boolean := ⟨Nat.le_of_ble_eq_true rfl, rfl, fun _ => rfl, by decide +kernel⟩
theorem zt_1202 : zty 1202 = 0 := rfl
theorem zo_1202 : zown 1202 = 13 := rfl
theorem zg_1203 (x : Int) : ∀ o : Nat, (o : Int) = x → zFo 13 o 3 ("RingHouse$Rights", "isSame", "Z", false) ∧ (zfl 13 o)[3]? = some (0, 1203, 0, 0) := fun o _ => ⟨zFw.o zw_X11 (Nat.le_of_ble_eq_true rfl) rfl o, rfl⟩
theorem zp_1203 : 3 < (RX11, TX11, 4).2.2 ∧ (RX11, TX11, 4).2.1 3 = ("RingHouse$Rights", "isSame", "Z", false) ∧ (∀ o : Nat, (zfl 13 o)[3]? = some (0, 1203, 0, 0)) ∧ parseFieldDescriptor "Z" = some .boolean := ⟨Nat.le_of_ble_eq_true rfl, rfl, fun _ => rfl, by decide +kernel⟩
theorem zt_1203 : zty 1203 = 0 := rfl
theorem zo_1203 : zown 1203 = 13 := rfl
theorem zw_X12 : zFw 14 (RX12, TX12, 15) := ⟨fun _ => rfl, in_X12, ⟨tyX12, tyX12_ok⟩, nmX12⟩
theorem zh_1300 {x y : Int} (hy : 0 * x + 0 = y) : ∀ o : Nat, (o : Int) = x → o < zcnt 14 → zFo 14 o 0 ("RingHouse$Machine", "tree", "LRingHouse$Tree;", true) ∧ ∃ a b : Int, (zfl 14 o)[0]? = some (1, 3, a, b) ∧ a * x + b = y := fun o _ _ => ⟨zFw.o zw_X12 (Nat.le_of_ble_eq_true rfl) rfl o, _, _, rfl, hy⟩
theorem zh_1301 {x y : Int} (hy : 0 * x + 0 = y) : ∀ o : Nat, (o : Int) = x → o < zcnt 14 → zFo 14 o 1 ("RingHouse$Machine", "processes", "[LRingHouse$Process;", true) ∧ ∃ a b : Int, (zfl 14 o)[1]? = some (1, 101, a, b) ∧ a * x + b = y := fun o _ _ => ⟨zFw.o zw_X12 (Nat.le_of_ble_eq_true rfl) rfl o, _, _, rfl, hy⟩
theorem zh_1302 {x y : Int} (hy : 1 * x + 0 = y) : ∀ o : Nat, (o : Int) = x → o < zcnt 14 → zFo 14 o 2 ("RingHouse$Machine", "operations", "[LRingHouse$Operation;", true) ∧ ∃ a b : Int, (zfl 14 o)[2]? = some (1, 1302, a, b) ∧ a * x + b = y := fun o _ _ => ⟨zFw.o zw_X12 (Nat.le_of_ble_eq_true rfl) rfl o, _, _, rfl, hy⟩
theorem zh_1303 {x y : Int} (hy : 1 * x + 0 = y) : ∀ o : Nat, (o : Int) = x → o < zcnt 14 → zFo 14 o 3 ("RingHouse$Machine", "services", "[LRingHouse$Service;", true) ∧ ∃ a b : Int, (zfl 14 o)[3]? = some (1, 1303, a, b) ∧ a * x + b = y := fun o _ _ => ⟨zFw.o zw_X12 (Nat.le_of_ble_eq_true rfl) rfl o, _, _, rfl, hy⟩
theorem zh_1304 {x y : Int} (hy : 1 * x + 0 = y) : ∀ o : Nat, (o : Int) = x → o < zcnt 14 → zFo 14 o 4 ("RingHouse$Machine", "decoded", "[LRingHouse$Decoded;", true) ∧ ∃ a b : Int, (zfl 14 o)[4]? = some (1, 1304, a, b) ∧ a * x + b = y := fun o _ _ => ⟨zFw.o zw_X12 (Nat.le_of_ble_eq_true rfl) rfl o, _, _, rfl, hy⟩
theorem zh_1305 {x y : Int} (hy : 0 * x + 0 = y) : ∀ o : Nat, (o : Int) = x → o < zcnt 14 → zFo 14 o 5 ("RingHouse$Machine", "audit", "LRingHouse$Audit;", true) ∧ ∃ a b : Int, (zfl 14 o)[5]? = some (1, 15, a, b) ∧ a * x + b = y := fun o _ _ => ⟨zFw.o zw_X12 (Nat.le_of_ble_eq_true rfl) rfl o, _, _, rfl, hy⟩
theorem zg_1306 (x : Int) : ∀ o : Nat, (o : Int) = x → zFo 14 o 6 ("RingHouse$Machine", "asked", "LRingHouse$Node;", false) ∧ (zfl 14 o)[6]? = some (0, 1306, 0, 0) := fun o _ => ⟨zFw.o zw_X12 (Nat.le_of_ble_eq_true rfl) rfl o, rfl⟩
theorem zp_1306 : 6 < (RX12, TX12, 15).2.2 ∧ (RX12, TX12, 15).2.1 6 = ("RingHouse$Machine", "asked", "LRingHouse$Node;", false) ∧ (∀ o : Nat, (zfl 14 o)[6]? = some (0, 1306, 0, 0)) ∧ parseFieldDescriptor "LRingHouse$Node;" = some (.object "RingHouse$Node") := ⟨Nat.le_of_ble_eq_true rfl, rfl, fun _ => rfl, by decide +kernel⟩
theorem zt_1306 : zty 1306 = 6 := rfl
theorem zo_1306 : zown 1306 = 14 := rfl
theorem zg_1307 (x : Int) : ∀ o : Nat, (o : Int) = x → zFo 14 o 7 ("RingHouse$Machine", "runs", "LRingHouse$Process;", false) ∧ (zfl 14 o)[7]? = some (0, 1307, 0, 0) := fun o _ => ⟨zFw.o zw_X12 (Nat.le_of_ble_eq_true rfl) rfl o, rfl⟩
theorem zp_1307 : 7 < (RX12, TX12, 15).2.2 ∧ (RX12, TX12, 15).2.1 7 = ("RingHouse$Machine", "runs", "LRingHouse$Process;", false) ∧ (∀ o : Nat, (zfl 14 o)[7]? = some (0, 1307, 0, 0)) ∧ parseFieldDescriptor "LRingHouse$Process;" = some (.object "RingHouse$Process") := ⟨Nat.le_of_ble_eq_true rfl, rfl, fun _ => rfl, by decide +kernel⟩
theorem zt_1307 : zty 1307 = 10 := rfl
theorem zo_1307 : zown 1307 = 14 := rfl
theorem zg_1308 (x : Int) : ∀ o : Nat, (o : Int) = x → zFo 14 o 8 ("RingHouse$Machine", "atNumber", "I", false) ∧ (zfl 14 o)[8]? = some (0, 1308, 0, 0) := fun o _ => ⟨zFw.o zw_X12 (Nat.le_of_ble_eq_true rfl) rfl o, rfl⟩
theorem zp_1308 : 8 < (RX12, TX12, 15).2.2 ∧ (RX12, TX12, 15).2.1 8 = ("RingHouse$Machine", "atNumber", "I", false) ∧ (∀ o : Nat, (zfl 14 o)[8]? = some (0, 1308, 0, 0)) ∧ parseFieldDescriptor "I" = some .int := ⟨Nat.le_of_ble_eq_true rfl, rfl, fun _ => rfl, by decide +kernel⟩
theorem zt_1308 : zty 1308 = 0 := rfl
theorem zo_1308 : zown 1308 = 14 := rfl
theorem zg_1309 (x : Int) : ∀ o : Nat, (o : Int) = x → zFo 14 o 9 ("RingHouse$Machine", "atPlace", "I", false) ∧ (zfl 14 o)[9]? = some (0, 1309, 0, 0) := fun o _ => ⟨zFw.o zw_X12 (Nat.le_of_ble_eq_true rfl) rfl o, rfl⟩
theorem zp_1309 : 9 < (RX12, TX12, 15).2.2 ∧ (RX12, TX12, 15).2.1 9 = ("RingHouse$Machine", "atPlace", "I", false) ∧ (∀ o : Nat, (zfl 14 o)[9]? = some (0, 1309, 0, 0)) ∧ parseFieldDescriptor "I" = some .int := ⟨Nat.le_of_ble_eq_true rfl, rfl, fun _ => rfl, by decide +kernel⟩
theorem zt_1309 : zty 1309 = 0 := rfl
theorem zo_1309 : zown 1309 = 14 := rfl
theorem zg_1310 (x : Int) : ∀ o : Nat, (o : Int) = x → zFo 14 o 10 ("RingHouse$Machine", "atRing", "I", false) ∧ (zfl 14 o)[10]? = some (0, 1310, 0, 0) := fun o _ => ⟨zFw.o zw_X12 (Nat.le_of_ble_eq_true rfl) rfl o, rfl⟩
theorem zp_1310 : 10 < (RX12, TX12, 15).2.2 ∧ (RX12, TX12, 15).2.1 10 = ("RingHouse$Machine", "atRing", "I", false) ∧ (∀ o : Nat, (zfl 14 o)[10]? = some (0, 1310, 0, 0)) ∧ parseFieldDescriptor "I" = some .int := ⟨Nat.le_of_ble_eq_true rfl, rfl, fun _ => rfl, by decide +kernel⟩
theorem zt_1310 : zty 1310 = 0 := rfl
theorem zo_1310 : zown 1310 = 14 := rfl
theorem zg_1311 (x : Int) : ∀ o : Nat, (o : Int) = x → zFo 14 o 11 ("RingHouse$Machine", "value", "J", false) ∧ (zfl 14 o)[11]? = some (0, 1311, 0, 0) := fun o _ => ⟨zFw.o zw_X12 (Nat.le_of_ble_eq_true rfl) rfl o, rfl⟩
theorem zp_1311 : 11 < (RX12, TX12, 15).2.2 ∧ (RX12, TX12, 15).2.1 11 = ("RingHouse$Machine", "value", "J", false) ∧ (∀ o : Nat, (zfl 14 o)[11]? = some (0, 1311, 0, 0)) ∧ parseFieldDescriptor "J" = some .long := ⟨Nat.le_of_ble_eq_true rfl, rfl, fun _ => rfl, by decide +kernel⟩
theorem zt_1311 : zty 1311 = 1 := rfl
theorem zo_1311 : zown 1311 = 14 := rfl
theorem zg_1312 (x : Int) : ∀ o : Nat, (o : Int) = x → zFo 14 o 12 ("RingHouse$Machine", "toNumber", "I", false) ∧ (zfl 14 o)[12]? = some (0, 1312, 0, 0) := fun o _ => ⟨zFw.o zw_X12 (Nat.le_of_ble_eq_true rfl) rfl o, rfl⟩
theorem zp_1312 : 12 < (RX12, TX12, 15).2.2 ∧ (RX12, TX12, 15).2.1 12 = ("RingHouse$Machine", "toNumber", "I", false) ∧ (∀ o : Nat, (zfl 14 o)[12]? = some (0, 1312, 0, 0)) ∧ parseFieldDescriptor "I" = some .int := ⟨Nat.le_of_ble_eq_true rfl, rfl, fun _ => rfl, by decide +kernel⟩
theorem zt_1312 : zty 1312 = 0 := rfl
theorem zo_1312 : zown 1312 = 14 := rfl
theorem zg_1313 (x : Int) : ∀ o : Nat, (o : Int) = x → zFo 14 o 13 ("RingHouse$Machine", "toPlace", "I", false) ∧ (zfl 14 o)[13]? = some (0, 1313, 0, 0) := fun o _ => ⟨zFw.o zw_X12 (Nat.le_of_ble_eq_true rfl) rfl o, rfl⟩
theorem zp_1313 : 13 < (RX12, TX12, 15).2.2 ∧ (RX12, TX12, 15).2.1 13 = ("RingHouse$Machine", "toPlace", "I", false) ∧ (∀ o : Nat, (zfl 14 o)[13]? = some (0, 1313, 0, 0)) ∧ parseFieldDescriptor "I" = some .int := ⟨Nat.le_of_ble_eq_true rfl, rfl, fun _ => rfl, by decide +kernel⟩
theorem zt_1313 : zty 1313 = 0 := rfl
theorem zo_1313 : zown 1313 = 14 := rfl
theorem zg_1314 (x : Int) : ∀ o : Nat, (o : Int) = x → zFo 14 o 14 ("RingHouse$Machine", "isAside", "Z", false) ∧ (zfl 14 o)[14]? = some (0, 1314, 0, 0) := fun o _ => ⟨zFw.o zw_X12 (Nat.le_of_ble_eq_true rfl) rfl o, rfl⟩
theorem zp_1314 : 14 < (RX12, TX12, 15).2.2 ∧ (RX12, TX12, 15).2.1 14 = ("RingHouse$Machine", "isAside", "Z", false) ∧ (∀ o : Nat, (zfl 14 o)[14]? = some (0, 1314, 0, 0)) ∧ parseFieldDescriptor "Z" = some .boolean := ⟨Nat.le_of_ble_eq_true rfl, rfl, fun _ => rfl, by decide +kernel⟩
theorem zt_1314 : zty 1314 = 0 := rfl
theorem zo_1314 : zown 1314 = 14 := rfl
theorem zw_X13 : zFw 15 (RX13, TX13, 2) := ⟨fun _ => rfl, in_X13, ⟨tyX13, tyX13_ok⟩, nmX13⟩
theorem zh_1400 {x y : Int} (hy : 1 * x + 0 = y) : ∀ o : Nat, (o : Int) = x → o < zcnt 15 → zFo 15 o 0 ("RingHouse$Audit", "rows", "[I", true) ∧ ∃ a b : Int, (zfl 15 o)[0]? = some (1, 1400, a, b) ∧ a * x + b = y := fun o _ _ => ⟨zFw.o zw_X13 (Nat.le_of_ble_eq_true rfl) rfl o, _, _, rfl, hy⟩
theorem zg_1401 (x : Int) : ∀ o : Nat, (o : Int) = x → zFo 15 o 1 ("RingHouse$Audit", "many", "I", false) ∧ (zfl 15 o)[1]? = some (0, 1401, 0, 0) := fun o _ => ⟨zFw.o zw_X13 (Nat.le_of_ble_eq_true rfl) rfl o, rfl⟩
theorem zp_1401 : 1 < (RX13, TX13, 2).2.2 ∧ (RX13, TX13, 2).2.1 1 = ("RingHouse$Audit", "many", "I", false) ∧ (∀ o : Nat, (zfl 15 o)[1]? = some (0, 1401, 0, 0)) ∧ parseFieldDescriptor "I" = some .int := ⟨Nat.le_of_ble_eq_true rfl, rfl, fun _ => rfl, by decide +kernel⟩
theorem zt_1401 : zty 1401 = 0 := rfl
theorem zo_1401 : zown 1401 = 15 := rfl
theorem zw_X64 : zFw 66 (RX64, TX64, 25) := ⟨fun _ => rfl, in_X64, ⟨tyX64, tyX64_ok⟩, nmX64⟩
theorem zh_6500 {x y : Int} (hy : 0 * x + 0 = y) : ∀ o : Nat, (o : Int) = x → o < zcnt 66 → zFo 66 o 0 ("RingHouse$Assembler", "tree", "LRingHouse$Tree;", true) ∧ ∃ a b : Int, (zfl 66 o)[0]? = some (1, 3, a, b) ∧ a * x + b = y := fun o _ _ => ⟨zFw.o zw_X64 (Nat.le_of_ble_eq_true rfl) rfl o, _, _, rfl, hy⟩
theorem zh_6501 {x y : Int} (hy : 0 * x + 0 = y) : ∀ o : Nat, (o : Int) = x → o < zcnt 66 → zFo 66 o 1 ("RingHouse$Assembler", "operations", "[LRingHouse$Operation;", true) ∧ ∃ a b : Int, (zfl 66 o)[1]? = some (1, 1302, a, b) ∧ a * x + b = y := fun o _ _ => ⟨zFw.o zw_X64 (Nat.le_of_ble_eq_true rfl) rfl o, _, _, rfl, hy⟩
theorem zh_6502 {x y : Int} (hy : 1 * x + 0 = y) : ∀ o : Nat, (o : Int) = x → o < zcnt 66 → zFo 66 o 2 ("RingHouse$Assembler", "text", "[I", true) ∧ ∃ a b : Int, (zfl 66 o)[2]? = some (1, 6502, a, b) ∧ a * x + b = y := fun o _ _ => ⟨zFw.o zw_X64 (Nat.le_of_ble_eq_true rfl) rfl o, _, _, rfl, hy⟩
theorem zg_6503 (x : Int) : ∀ o : Nat, (o : Int) = x → zFo 66 o 3 ("RingHouse$Assembler", "size", "I", false) ∧ (zfl 66 o)[3]? = some (0, 6503, 0, 0) := fun o _ => ⟨zFw.o zw_X64 (Nat.le_of_ble_eq_true rfl) rfl o, rfl⟩
theorem zp_6503 : 3 < (RX64, TX64, 25).2.2 ∧ (RX64, TX64, 25).2.1 3 = ("RingHouse$Assembler", "size", "I", false) ∧ (∀ o : Nat, (zfl 66 o)[3]? = some (0, 6503, 0, 0)) ∧ parseFieldDescriptor "I" = some .int := ⟨Nat.le_of_ble_eq_true rfl, rfl, fun _ => rfl, by decide +kernel⟩
theorem zt_6503 : zty 6503 = 0 := rfl
theorem zo_6503 : zown 6503 = 66 := rfl
theorem zg_6504 (x : Int) : ∀ o : Nat, (o : Int) = x → zFo 66 o 4 ("RingHouse$Assembler", "kind", "I", false) ∧ (zfl 66 o)[4]? = some (0, 6504, 0, 0) := fun o _ => ⟨zFw.o zw_X64 (Nat.le_of_ble_eq_true rfl) rfl o, rfl⟩
theorem zp_6504 : 4 < (RX64, TX64, 25).2.2 ∧ (RX64, TX64, 25).2.1 4 = ("RingHouse$Assembler", "kind", "I", false) ∧ (∀ o : Nat, (zfl 66 o)[4]? = some (0, 6504, 0, 0)) ∧ parseFieldDescriptor "I" = some .int := ⟨Nat.le_of_ble_eq_true rfl, rfl, fun _ => rfl, by decide +kernel⟩
theorem zt_6504 : zty 6504 = 0 := rfl
theorem zo_6504 : zown 6504 = 66 := rfl
theorem zg_6505 (x : Int) : ∀ o : Nat, (o : Int) = x → zFo 66 o 5 ("RingHouse$Assembler", "from", "I", false) ∧ (zfl 66 o)[5]? = some (0, 6505, 0, 0) := fun o _ => ⟨zFw.o zw_X64 (Nat.le_of_ble_eq_true rfl) rfl o, rfl⟩
theorem zp_6505 : 5 < (RX64, TX64, 25).2.2 ∧ (RX64, TX64, 25).2.1 5 = ("RingHouse$Assembler", "from", "I", false) ∧ (∀ o : Nat, (zfl 66 o)[5]? = some (0, 6505, 0, 0)) ∧ parseFieldDescriptor "I" = some .int := ⟨Nat.le_of_ble_eq_true rfl, rfl, fun _ => rfl, by decide +kernel⟩
theorem zt_6505 : zty 6505 = 0 := rfl
theorem zo_6505 : zown 6505 = 66 := rfl
theorem zg_6506 (x : Int) : ∀ o : Nat, (o : Int) = x → zFo 66 o 6 ("RingHouse$Assembler", "to", "I", false) ∧ (zfl 66 o)[6]? = some (0, 6506, 0, 0) := fun o _ => ⟨zFw.o zw_X64 (Nat.le_of_ble_eq_true rfl) rfl o, rfl⟩
theorem zp_6506 : 6 < (RX64, TX64, 25).2.2 ∧ (RX64, TX64, 25).2.1 6 = ("RingHouse$Assembler", "to", "I", false) ∧ (∀ o : Nat, (zfl 66 o)[6]? = some (0, 6506, 0, 0)) ∧ parseFieldDescriptor "I" = some .int := ⟨Nat.le_of_ble_eq_true rfl, rfl, fun _ => rfl, by decide +kernel⟩
theorem zt_6506 : zty 6506 = 0 := rfl
theorem zo_6506 : zown 6506 = 66 := rfl
theorem zg_6507 (x : Int) : ∀ o : Nat, (o : Int) = x → zFo 66 o 7 ("RingHouse$Assembler", "lineEnd", "I", false) ∧ (zfl 66 o)[7]? = some (0, 6507, 0, 0) := fun o _ => ⟨zFw.o zw_X64 (Nat.le_of_ble_eq_true rfl) rfl o, rfl⟩
theorem zp_6507 : 7 < (RX64, TX64, 25).2.2 ∧ (RX64, TX64, 25).2.1 7 = ("RingHouse$Assembler", "lineEnd", "I", false) ∧ (∀ o : Nat, (zfl 66 o)[7]? = some (0, 6507, 0, 0)) ∧ parseFieldDescriptor "I" = some .int := ⟨Nat.le_of_ble_eq_true rfl, rfl, fun _ => rfl, by decide +kernel⟩
theorem zt_6507 : zty 6507 = 0 := rfl
theorem zo_6507 : zown 6507 = 66 := rfl
theorem zg_6508 (x : Int) : ∀ o : Nat, (o : Int) = x → zFo 66 o 8 ("RingHouse$Assembler", "fault", "I", false) ∧ (zfl 66 o)[8]? = some (0, 6508, 0, 0) := fun o _ => ⟨zFw.o zw_X64 (Nat.le_of_ble_eq_true rfl) rfl o, rfl⟩
theorem zp_6508 : 8 < (RX64, TX64, 25).2.2 ∧ (RX64, TX64, 25).2.1 8 = ("RingHouse$Assembler", "fault", "I", false) ∧ (∀ o : Nat, (zfl 66 o)[8]? = some (0, 6508, 0, 0)) ∧ parseFieldDescriptor "I" = some .int := ⟨Nat.le_of_ble_eq_true rfl, rfl, fun _ => rfl, by decide +kernel⟩
theorem zt_6508 : zty 6508 = 0 := rfl
theorem zo_6508 : zown 6508 = 66 := rfl
theorem zg_6509 (x : Int) : ∀ o : Nat, (o : Int) = x → zFo 66 o 9 ("RingHouse$Assembler", "faultPlace", "I", false) ∧ (zfl 66 o)[9]? = some (0, 6509, 0, 0) := fun o _ => ⟨zFw.o zw_X64 (Nat.le_of_ble_eq_true rfl) rfl o, rfl⟩
theorem zp_6509 : 9 < (RX64, TX64, 25).2.2 ∧ (RX64, TX64, 25).2.1 9 = ("RingHouse$Assembler", "faultPlace", "I", false) ∧ (∀ o : Nat, (zfl 66 o)[9]? = some (0, 6509, 0, 0)) ∧ parseFieldDescriptor "I" = some .int := ⟨Nat.le_of_ble_eq_true rfl, rfl, fun _ => rfl, by decide +kernel⟩
theorem zt_6509 : zty 6509 = 0 := rfl
theorem zo_6509 : zown 6509 = 66 := rfl
theorem zh_6510 {x y : Int} (hy : 1 * x + 0 = y) : ∀ o : Nat, (o : Int) = x → o < zcnt 66 → zFo 66 o 10 ("RingHouse$Assembler", "labels", "[J", true) ∧ ∃ a b : Int, (zfl 66 o)[10]? = some (1, 6510, a, b) ∧ a * x + b = y := fun o _ _ => ⟨zFw.o zw_X64 (Nat.le_of_ble_eq_true rfl) rfl o, _, _, rfl, hy⟩
theorem zh_6511 {x y : Int} (hy : 1 * x + 0 = y) : ∀ o : Nat, (o : Int) = x → o < zcnt 66 → zFo 66 o 11 ("RingHouse$Assembler", "labelPlaces", "[I", true) ∧ ∃ a b : Int, (zfl 66 o)[11]? = some (1, 6511, a, b) ∧ a * x + b = y := fun o _ _ => ⟨zFw.o zw_X64 (Nat.le_of_ble_eq_true rfl) rfl o, _, _, rfl, hy⟩
theorem zg_6512 (x : Int) : ∀ o : Nat, (o : Int) = x → zFo 66 o 12 ("RingHouse$Assembler", "labelled", "I", false) ∧ (zfl 66 o)[12]? = some (0, 6512, 0, 0) := fun o _ => ⟨zFw.o zw_X64 (Nat.le_of_ble_eq_true rfl) rfl o, rfl⟩
theorem zp_6512 : 12 < (RX64, TX64, 25).2.2 ∧ (RX64, TX64, 25).2.1 12 = ("RingHouse$Assembler", "labelled", "I", false) ∧ (∀ o : Nat, (zfl 66 o)[12]? = some (0, 6512, 0, 0)) ∧ parseFieldDescriptor "I" = some .int := ⟨Nat.le_of_ble_eq_true rfl, rfl, fun _ => rfl, by decide +kernel⟩
theorem zt_6512 : zty 6512 = 0 := rfl
theorem zo_6512 : zown 6512 = 66 := rfl
theorem zh_6513 {x y : Int} (hy : 1 * x + 0 = y) : ∀ o : Nat, (o : Int) = x → o < zcnt 66 → zFo 66 o 13 ("RingHouse$Assembler", "linkSegments", "[J", true) ∧ ∃ a b : Int, (zfl 66 o)[13]? = some (1, 6513, a, b) ∧ a * x + b = y := fun o _ _ => ⟨zFw.o zw_X64 (Nat.le_of_ble_eq_true rfl) rfl o, _, _, rfl, hy⟩
theorem zh_6514 {x y : Int} (hy : 1 * x + 0 = y) : ∀ o : Nat, (o : Int) = x → o < zcnt 66 → zFo 66 o 14 ("RingHouse$Assembler", "linkNames", "[J", true) ∧ ∃ a b : Int, (zfl 66 o)[14]? = some (1, 6514, a, b) ∧ a * x + b = y := fun o _ _ => ⟨zFw.o zw_X64 (Nat.le_of_ble_eq_true rfl) rfl o, _, _, rfl, hy⟩
theorem zg_6515 (x : Int) : ∀ o : Nat, (o : Int) = x → zFo 66 o 15 ("RingHouse$Assembler", "links", "I", false) ∧ (zfl 66 o)[15]? = some (0, 6515, 0, 0) := fun o _ => ⟨zFw.o zw_X64 (Nat.le_of_ble_eq_true rfl) rfl o, rfl⟩
theorem zp_6515 : 15 < (RX64, TX64, 25).2.2 ∧ (RX64, TX64, 25).2.1 15 = ("RingHouse$Assembler", "links", "I", false) ∧ (∀ o : Nat, (zfl 66 o)[15]? = some (0, 6515, 0, 0)) ∧ parseFieldDescriptor "I" = some .int := ⟨Nat.le_of_ble_eq_true rfl, rfl, fun _ => rfl, by decide +kernel⟩
theorem zt_6515 : zty 6515 = 0 := rfl
theorem zo_6515 : zown 6515 = 66 := rfl
theorem zh_6516 {x y : Int} (hy : 1 * x + 0 = y) : ∀ o : Nat, (o : Int) = x → o < zcnt 66 → zFo 66 o 16 ("RingHouse$Assembler", "definitionAt", "[I", true) ∧ ∃ a b : Int, (zfl 66 o)[16]? = some (1, 6516, a, b) ∧ a * x + b = y := fun o _ _ => ⟨zFw.o zw_X64 (Nat.le_of_ble_eq_true rfl) rfl o, _, _, rfl, hy⟩
theorem zh_6517 {x y : Int} (hy : 1 * x + 0 = y) : ∀ o : Nat, (o : Int) = x → o < zcnt 66 → zFo 66 o 17 ("RingHouse$Assembler", "definitions", "[J", true) ∧ ∃ a b : Int, (zfl 66 o)[17]? = some (1, 6517, a, b) ∧ a * x + b = y := fun o _ _ => ⟨zFw.o zw_X64 (Nat.le_of_ble_eq_true rfl) rfl o, _, _, rfl, hy⟩
theorem zg_6518 (x : Int) : ∀ o : Nat, (o : Int) = x → zFo 66 o 18 ("RingHouse$Assembler", "defined", "I", false) ∧ (zfl 66 o)[18]? = some (0, 6518, 0, 0) := fun o _ => ⟨zFw.o zw_X64 (Nat.le_of_ble_eq_true rfl) rfl o, rfl⟩
theorem zp_6518 : 18 < (RX64, TX64, 25).2.2 ∧ (RX64, TX64, 25).2.1 18 = ("RingHouse$Assembler", "defined", "I", false) ∧ (∀ o : Nat, (zfl 66 o)[18]? = some (0, 6518, 0, 0)) ∧ parseFieldDescriptor "I" = some .int := ⟨Nat.le_of_ble_eq_true rfl, rfl, fun _ => rfl, by decide +kernel⟩
theorem zt_6518 : zty 6518 = 0 := rfl
theorem zo_6518 : zown 6518 = 66 := rfl
theorem zg_6519 (x : Int) : ∀ o : Nat, (o : Int) = x → zFo 66 o 19 ("RingHouse$Assembler", "isSecond", "Z", false) ∧ (zfl 66 o)[19]? = some (0, 6519, 0, 0) := fun o _ => ⟨zFw.o zw_X64 (Nat.le_of_ble_eq_true rfl) rfl o, rfl⟩
theorem zp_6519 : 19 < (RX64, TX64, 25).2.2 ∧ (RX64, TX64, 25).2.1 19 = ("RingHouse$Assembler", "isSecond", "Z", false) ∧ (∀ o : Nat, (zfl 66 o)[19]? = some (0, 6519, 0, 0)) ∧ parseFieldDescriptor "Z" = some .boolean := ⟨Nat.le_of_ble_eq_true rfl, rfl, fun _ => rfl, by decide +kernel⟩
theorem zt_6519 : zty 6519 = 0 := rfl
theorem zo_6519 : zown 6519 = 66 := rfl
theorem zg_6520 (x : Int) : ∀ o : Nat, (o : Int) = x → zFo 66 o 20 ("RingHouse$Assembler", "place", "I", false) ∧ (zfl 66 o)[20]? = some (0, 6520, 0, 0) := fun o _ => ⟨zFw.o zw_X64 (Nat.le_of_ble_eq_true rfl) rfl o, rfl⟩
theorem zp_6520 : 20 < (RX64, TX64, 25).2.2 ∧ (RX64, TX64, 25).2.1 20 = ("RingHouse$Assembler", "place", "I", false) ∧ (∀ o : Nat, (zfl 66 o)[20]? = some (0, 6520, 0, 0)) ∧ parseFieldDescriptor "I" = some .int := ⟨Nat.le_of_ble_eq_true rfl, rfl, fun _ => rfl, by decide +kernel⟩
theorem zt_6520 : zty 6520 = 0 := rfl
theorem zo_6520 : zown 6520 = 66 := rfl
theorem zh_6521 {x y : Int} (hy : 1 * x + 0 = y) : ∀ o : Nat, (o : Int) = x → o < zcnt 66 → zFo 66 o 21 ("RingHouse$Assembler", "words", "[J", true) ∧ ∃ a b : Int, (zfl 66 o)[21]? = some (1, 6521, a, b) ∧ a * x + b = y := fun o _ _ => ⟨zFw.o zw_X64 (Nat.le_of_ble_eq_true rfl) rfl o, _, _, rfl, hy⟩
theorem zg_6522 (x : Int) : ∀ o : Nat, (o : Int) = x → zFo 66 o 22 ("RingHouse$Assembler", "expressed", "J", false) ∧ (zfl 66 o)[22]? = some (0, 6522, 0, 0) := fun o _ => ⟨zFw.o zw_X64 (Nat.le_of_ble_eq_true rfl) rfl o, rfl⟩
theorem zp_6522 : 22 < (RX64, TX64, 25).2.2 ∧ (RX64, TX64, 25).2.1 22 = ("RingHouse$Assembler", "expressed", "J", false) ∧ (∀ o : Nat, (zfl 66 o)[22]? = some (0, 6522, 0, 0)) ∧ parseFieldDescriptor "J" = some .long := ⟨Nat.le_of_ble_eq_true rfl, rfl, fun _ => rfl, by decide +kernel⟩
theorem zt_6522 : zty 6522 = 1 := rfl
theorem zo_6522 : zown 6522 = 66 := rfl
theorem zg_6523 (x : Int) : ∀ o : Nat, (o : Int) = x → zFo 66 o 23 ("RingHouse$Assembler", "mode", "I", false) ∧ (zfl 66 o)[23]? = some (0, 6523, 0, 0) := fun o _ => ⟨zFw.o zw_X64 (Nat.le_of_ble_eq_true rfl) rfl o, rfl⟩
theorem zp_6523 : 23 < (RX64, TX64, 25).2.2 ∧ (RX64, TX64, 25).2.1 23 = ("RingHouse$Assembler", "mode", "I", false) ∧ (∀ o : Nat, (zfl 66 o)[23]? = some (0, 6523, 0, 0)) ∧ parseFieldDescriptor "I" = some .int := ⟨Nat.le_of_ble_eq_true rfl, rfl, fun _ => rfl, by decide +kernel⟩
theorem zt_6523 : zty 6523 = 0 := rfl
theorem zo_6523 : zown 6523 = 66 := rfl
theorem zg_6524 (x : Int) : ∀ o : Nat, (o : Int) = x → zFo 66 o 24 ("RingHouse$Assembler", "base", "I", false) ∧ (zfl 66 o)[24]? = some (0, 6524, 0, 0) := fun o _ => ⟨zFw.o zw_X64 (Nat.le_of_ble_eq_true rfl) rfl o, rfl⟩
theorem zp_6524 : 24 < (RX64, TX64, 25).2.2 ∧ (RX64, TX64, 25).2.1 24 = ("RingHouse$Assembler", "base", "I", false) ∧ (∀ o : Nat, (zfl 66 o)[24]? = some (0, 6524, 0, 0)) ∧ parseFieldDescriptor "I" = some .int := ⟨Nat.le_of_ble_eq_true rfl, rfl, fun _ => rfl, by decide +kernel⟩
theorem zt_6524 : zty 6524 = 0 := rfl
theorem zo_6524 : zown 6524 = 66 := rfl
theorem zw_X65 : zFw 67 (RX65, TX65, 18) := ⟨fun _ => rfl, in_X65, ⟨tyX65, tyX65_ok⟩, nmX65⟩
theorem zh_6600 {x y : Int} (hy : 0 * x + 0 = y) : ∀ o : Nat, (o : Int) = x → o < zcnt 67 → zFo 67 o 0 ("RingHouse$Tape", "tree", "LRingHouse$Tree;", true) ∧ ∃ a b : Int, (zfl 67 o)[0]? = some (1, 3, a, b) ∧ a * x + b = y := fun o _ _ => ⟨zFw.o zw_X65 (Nat.le_of_ble_eq_true rfl) rfl o, _, _, rfl, hy⟩
theorem zh_6601 {x y : Int} (hy : 1 * x + 0 = y) : ∀ o : Nat, (o : Int) = x → o < zcnt 67 → zFo 67 o 1 ("RingHouse$Tape", "bytes", "[B", true) ∧ ∃ a b : Int, (zfl 67 o)[1]? = some (1, 6601, a, b) ∧ a * x + b = y := fun o _ _ => ⟨zFw.o zw_X65 (Nat.le_of_ble_eq_true rfl) rfl o, _, _, rfl, hy⟩
theorem zg_6602 (x : Int) : ∀ o : Nat, (o : Int) = x → zFo 67 o 2 ("RingHouse$Tape", "size", "I", false) ∧ (zfl 67 o)[2]? = some (0, 6602, 0, 0) := fun o _ => ⟨zFw.o zw_X65 (Nat.le_of_ble_eq_true rfl) rfl o, rfl⟩
theorem zp_6602 : 2 < (RX65, TX65, 18).2.2 ∧ (RX65, TX65, 18).2.1 2 = ("RingHouse$Tape", "size", "I", false) ∧ (∀ o : Nat, (zfl 67 o)[2]? = some (0, 6602, 0, 0)) ∧ parseFieldDescriptor "I" = some .int := ⟨Nat.le_of_ble_eq_true rfl, rfl, fun _ => rfl, by decide +kernel⟩
theorem zt_6602 : zty 6602 = 0 := rfl
theorem zo_6602 : zown 6602 = 67 := rfl
theorem zg_6603 (x : Int) : ∀ o : Nat, (o : Int) = x → zFo 67 o 3 ("RingHouse$Tape", "at", "I", false) ∧ (zfl 67 o)[3]? = some (0, 6603, 0, 0) := fun o _ => ⟨zFw.o zw_X65 (Nat.le_of_ble_eq_true rfl) rfl o, rfl⟩
theorem zp_6603 : 3 < (RX65, TX65, 18).2.2 ∧ (RX65, TX65, 18).2.1 3 = ("RingHouse$Tape", "at", "I", false) ∧ (∀ o : Nat, (zfl 67 o)[3]? = some (0, 6603, 0, 0)) ∧ parseFieldDescriptor "I" = some .int := ⟨Nat.le_of_ble_eq_true rfl, rfl, fun _ => rfl, by decide +kernel⟩
theorem zt_6603 : zty 6603 = 0 := rfl
theorem zo_6603 : zown 6603 = 67 := rfl
theorem zg_6604 (x : Int) : ∀ o : Nat, (o : Int) = x → zFo 67 o 4 ("RingHouse$Tape", "fault", "I", false) ∧ (zfl 67 o)[4]? = some (0, 6604, 0, 0) := fun o _ => ⟨zFw.o zw_X65 (Nat.le_of_ble_eq_true rfl) rfl o, rfl⟩
theorem zp_6604 : 4 < (RX65, TX65, 18).2.2 ∧ (RX65, TX65, 18).2.1 4 = ("RingHouse$Tape", "fault", "I", false) ∧ (∀ o : Nat, (zfl 67 o)[4]? = some (0, 6604, 0, 0)) ∧ parseFieldDescriptor "I" = some .int := ⟨Nat.le_of_ble_eq_true rfl, rfl, fun _ => rfl, by decide +kernel⟩
theorem zt_6604 : zty 6604 = 0 := rfl
theorem zo_6604 : zown 6604 = 67 := rfl
theorem zg_6605 (x : Int) : ∀ o : Nat, (o : Int) = x → zFo 67 o 5 ("RingHouse$Tape", "faultPlace", "I", false) ∧ (zfl 67 o)[5]? = some (0, 6605, 0, 0) := fun o _ => ⟨zFw.o zw_X65 (Nat.le_of_ble_eq_true rfl) rfl o, rfl⟩
theorem zp_6605 : 5 < (RX65, TX65, 18).2.2 ∧ (RX65, TX65, 18).2.1 5 = ("RingHouse$Tape", "faultPlace", "I", false) ∧ (∀ o : Nat, (zfl 67 o)[5]? = some (0, 6605, 0, 0)) ∧ parseFieldDescriptor "I" = some .int := ⟨Nat.le_of_ble_eq_true rfl, rfl, fun _ => rfl, by decide +kernel⟩
theorem zt_6605 : zty 6605 = 0 := rfl
theorem zo_6605 : zown 6605 = 67 := rfl
theorem zh_6606 {x y : Int} (hy : 1 * x + 0 = y) : ∀ o : Nat, (o : Int) = x → o < zcnt 67 → zFo 67 o 6 ("RingHouse$Tape", "left", "[I", true) ∧ ∃ a b : Int, (zfl 67 o)[6]? = some (1, 6606, a, b) ∧ a * x + b = y := fun o _ _ => ⟨zFw.o zw_X65 (Nat.le_of_ble_eq_true rfl) rfl o, _, _, rfl, hy⟩
theorem zh_6607 {x y : Int} (hy : 1 * x + 0 = y) : ∀ o : Nat, (o : Int) = x → o < zcnt 67 → zFo 67 o 7 ("RingHouse$Tape", "labels", "[I", true) ∧ ∃ a b : Int, (zfl 67 o)[7]? = some (1, 6607, a, b) ∧ a * x + b = y := fun o _ _ => ⟨zFw.o zw_X65 (Nat.le_of_ble_eq_true rfl) rfl o, _, _, rfl, hy⟩
theorem zh_6608 {x y : Int} (hy : 1 * x + 0 = y) : ∀ o : Nat, (o : Int) = x → o < zcnt 67 → zFo 67 o 8 ("RingHouse$Tape", "limits", "[I", true) ∧ ∃ a b : Int, (zfl 67 o)[8]? = some (1, 6608, a, b) ∧ a * x + b = y := fun o _ _ => ⟨zFw.o zw_X65 (Nat.le_of_ble_eq_true rfl) rfl o, _, _, rfl, hy⟩
theorem zh_6609 {x y : Int} (hy : 1 * x + 0 = y) : ∀ o : Nat, (o : Int) = x → o < zcnt 67 → zFo 67 o 9 ("RingHouse$Tape", "costs", "[I", true) ∧ ∃ a b : Int, (zfl 67 o)[9]? = some (1, 6609, a, b) ∧ a * x + b = y := fun o _ _ => ⟨zFw.o zw_X65 (Nat.le_of_ble_eq_true rfl) rfl o, _, _, rfl, hy⟩
theorem zh_6610 {x y : Int} (hy : 1 * x + 0 = y) : ∀ o : Nat, (o : Int) = x → o < zcnt 67 → zFo 67 o 10 ("RingHouse$Tape", "namesAt", "[I", true) ∧ ∃ a b : Int, (zfl 67 o)[10]? = some (1, 6610, a, b) ∧ a * x + b = y := fun o _ _ => ⟨zFw.o zw_X65 (Nat.le_of_ble_eq_true rfl) rfl o, _, _, rfl, hy⟩
theorem zh_6611 {x y : Int} (hy : 1 * x + 0 = y) : ∀ o : Nat, (o : Int) = x → o < zcnt 67 → zFo 67 o 11 ("RingHouse$Tape", "names", "[J", true) ∧ ∃ a b : Int, (zfl 67 o)[11]? = some (1, 6611, a, b) ∧ a * x + b = y := fun o _ _ => ⟨zFw.o zw_X65 (Nat.le_of_ble_eq_true rfl) rfl o, _, _, rfl, hy⟩
theorem zg_6612 (x : Int) : ∀ o : Nat, (o : Int) = x → zFo 67 o 12 ("RingHouse$Tape", "open", "I", false) ∧ (zfl 67 o)[12]? = some (0, 6612, 0, 0) := fun o _ => ⟨zFw.o zw_X65 (Nat.le_of_ble_eq_true rfl) rfl o, rfl⟩
theorem zp_6612 : 12 < (RX65, TX65, 18).2.2 ∧ (RX65, TX65, 18).2.1 12 = ("RingHouse$Tape", "open", "I", false) ∧ (∀ o : Nat, (zfl 67 o)[12]? = some (0, 6612, 0, 0)) ∧ parseFieldDescriptor "I" = some .int := ⟨Nat.le_of_ble_eq_true rfl, rfl, fun _ => rfl, by decide +kernel⟩
theorem zt_6612 : zty 6612 = 0 := rfl
theorem zo_6612 : zown 6612 = 67 := rfl
theorem zg_6613 (x : Int) : ∀ o : Nat, (o : Int) = x → zFo 67 o 13 ("RingHouse$Tape", "named", "I", false) ∧ (zfl 67 o)[13]? = some (0, 6613, 0, 0) := fun o _ => ⟨zFw.o zw_X65 (Nat.le_of_ble_eq_true rfl) rfl o, rfl⟩
theorem zp_6613 : 13 < (RX65, TX65, 18).2.2 ∧ (RX65, TX65, 18).2.1 13 = ("RingHouse$Tape", "named", "I", false) ∧ (∀ o : Nat, (zfl 67 o)[13]? = some (0, 6613, 0, 0)) ∧ parseFieldDescriptor "I" = some .int := ⟨Nat.le_of_ble_eq_true rfl, rfl, fun _ => rfl, by decide +kernel⟩
theorem zt_6613 : zty 6613 = 0 := rfl
theorem zo_6613 : zown 6613 = 67 := rfl
theorem zg_6614 (x : Int) : ∀ o : Nat, (o : Int) = x → zFo 67 o 14 ("RingHouse$Tape", "isShort", "Z", false) ∧ (zfl 67 o)[14]? = some (0, 6614, 0, 0) := fun o _ => ⟨zFw.o zw_X65 (Nat.le_of_ble_eq_true rfl) rfl o, rfl⟩
theorem zp_6614 : 14 < (RX65, TX65, 18).2.2 ∧ (RX65, TX65, 18).2.1 14 = ("RingHouse$Tape", "isShort", "Z", false) ∧ (∀ o : Nat, (zfl 67 o)[14]? = some (0, 6614, 0, 0)) ∧ parseFieldDescriptor "Z" = some .boolean := ⟨Nat.le_of_ble_eq_true rfl, rfl, fun _ => rfl, by decide +kernel⟩
theorem zt_6614 : zty 6614 = 0 := rfl
theorem zo_6614 : zown 6614 = 67 := rfl
theorem zh_6615 {x y : Int} (hy : 1 * x + 0 = y) : ∀ o : Nat, (o : Int) = x → o < zcnt 67 → zFo 67 o 15 ("RingHouse$Tape", "items", "[I", true) ∧ ∃ a b : Int, (zfl 67 o)[15]? = some (1, 6615, a, b) ∧ a * x + b = y := fun o _ _ => ⟨zFw.o zw_X65 (Nat.le_of_ble_eq_true rfl) rfl o, _, _, rfl, hy⟩
theorem zh_6616 {x y : Int} (hy : 1 * x + 0 = y) : ∀ o : Nat, (o : Int) = x → o < zcnt 67 → zFo 67 o 16 ("RingHouse$Tape", "alike", "[I", true) ∧ ∃ a b : Int, (zfl 67 o)[16]? = some (1, 6616, a, b) ∧ a * x + b = y := fun o _ _ => ⟨zFw.o zw_X65 (Nat.le_of_ble_eq_true rfl) rfl o, _, _, rfl, hy⟩
theorem zg_6617 (x : Int) : ∀ o : Nat, (o : Int) = x → zFo 67 o 17 ("RingHouse$Tape", "topCost", "I", false) ∧ (zfl 67 o)[17]? = some (0, 6617, 0, 0) := fun o _ => ⟨zFw.o zw_X65 (Nat.le_of_ble_eq_true rfl) rfl o, rfl⟩
theorem zp_6617 : 17 < (RX65, TX65, 18).2.2 ∧ (RX65, TX65, 18).2.1 17 = ("RingHouse$Tape", "topCost", "I", false) ∧ (∀ o : Nat, (zfl 67 o)[17]? = some (0, 6617, 0, 0)) ∧ parseFieldDescriptor "I" = some .int := ⟨Nat.le_of_ble_eq_true rfl, rfl, fun _ => rfl, by decide +kernel⟩
theorem zt_6617 : zty 6617 = 0 := rfl
theorem zo_6617 : zown 6617 = 67 := rfl
theorem zw_X66 : zFw 68 (RX66, TX66, 3) := ⟨fun _ => rfl, in_X66, ⟨tyX66, tyX66_ok⟩, nmX66⟩
theorem zh_6700 {x y : Int} (hy : 0 * x + 0 = y) : ∀ o : Nat, (o : Int) = x → o < zcnt 68 → zFo 68 o 0 ("RingHouse$Lister", "operations", "[LRingHouse$Operation;", true) ∧ ∃ a b : Int, (zfl 68 o)[0]? = some (1, 1302, a, b) ∧ a * x + b = y := fun o _ _ => ⟨zFw.o zw_X66 (Nat.le_of_ble_eq_true rfl) rfl o, _, _, rfl, hy⟩
theorem zh_6701 {x y : Int} (hy : 1 * x + 0 = y) : ∀ o : Nat, (o : Int) = x → o < zcnt 68 → zFo 68 o 1 ("RingHouse$Lister", "line", "[C", true) ∧ ∃ a b : Int, (zfl 68 o)[1]? = some (1, 6701, a, b) ∧ a * x + b = y := fun o _ _ => ⟨zFw.o zw_X66 (Nat.le_of_ble_eq_true rfl) rfl o, _, _, rfl, hy⟩
theorem zg_6702 (x : Int) : ∀ o : Nat, (o : Int) = x → zFo 68 o 2 ("RingHouse$Lister", "size", "I", false) ∧ (zfl 68 o)[2]? = some (0, 6702, 0, 0) := fun o _ => ⟨zFw.o zw_X66 (Nat.le_of_ble_eq_true rfl) rfl o, rfl⟩
theorem zp_6702 : 2 < (RX66, TX66, 3).2.2 ∧ (RX66, TX66, 3).2.1 2 = ("RingHouse$Lister", "size", "I", false) ∧ (∀ o : Nat, (zfl 68 o)[2]? = some (0, 6702, 0, 0)) ∧ parseFieldDescriptor "I" = some .int := ⟨Nat.le_of_ble_eq_true rfl, rfl, fun _ => rfl, by decide +kernel⟩
theorem zt_6702 : zty 6702 = 0 := rfl
theorem zo_6702 : zown 6702 = 68 := rfl
theorem zw_X67 : zFw 69 (RX67, TX67, 130) := ⟨fun _ => rfl, in_X67, ⟨tyX67, tyX67_ok⟩, nmX67⟩
theorem zh_6800 {x y : Int} (hy : 1 * x + 0 = y) : ∀ o : Nat, (o : Int) = x → o < zcnt 69 → zFo 69 o 0 ("RingHouseModel", "kind", "[I", true) ∧ ∃ a b : Int, (zfl 69 o)[0]? = some (1, 6800, a, b) ∧ a * x + b = y := fun o _ _ => ⟨zFw.o zw_X67 (Nat.le_of_ble_eq_true rfl) rfl o, _, _, rfl, hy⟩
theorem zh_6801 {x y : Int} (hy : 1 * x + 0 = y) : ∀ o : Nat, (o : Int) = x → o < zcnt 69 → zFo 69 o 1 ("RingHouseModel", "name", "[J", true) ∧ ∃ a b : Int, (zfl 69 o)[1]? = some (1, 6801, a, b) ∧ a * x + b = y := fun o _ _ => ⟨zFw.o zw_X67 (Nat.le_of_ble_eq_true rfl) rfl o, _, _, rfl, hy⟩
theorem zh_6802 {x y : Int} (hy : 1 * x + 0 = y) : ∀ o : Nat, (o : Int) = x → o < zcnt 69 → zFo 69 o 2 ("RingHouseModel", "parent", "[I", true) ∧ ∃ a b : Int, (zfl 69 o)[2]? = some (1, 6802, a, b) ∧ a * x + b = y := fun o _ _ => ⟨zFw.o zw_X67 (Nat.le_of_ble_eq_true rfl) rfl o, _, _, rfl, hy⟩
theorem zh_6803 {x y : Int} (hy : 1 * x + 0 = y) : ∀ o : Nat, (o : Int) = x → o < zcnt 69 → zFo 69 o 3 ("RingHouseModel", "label", "[I", true) ∧ ∃ a b : Int, (zfl 69 o)[3]? = some (1, 6803, a, b) ∧ a * x + b = y := fun o _ _ => ⟨zFw.o zw_X67 (Nat.le_of_ble_eq_true rfl) rfl o, _, _, rfl, hy⟩
theorem zh_6804 {x y : Int} (hy : 1 * x + 0 = y) : ∀ o : Nat, (o : Int) = x → o < zcnt 69 → zFo 69 o 4 ("RingHouseModel", "bracket", "[I", true) ∧ ∃ a b : Int, (zfl 69 o)[4]? = some (1, 6804, a, b) ∧ a * x + b = y := fun o _ _ => ⟨zFw.o zw_X67 (Nat.le_of_ble_eq_true rfl) rfl o, _, _, rfl, hy⟩
theorem zh_6805 {x y : Int} (hy : 1 * x + 0 = y) : ∀ o : Nat, (o : Int) = x → o < zcnt 69 → zFo 69 o 5 ("RingHouseModel", "gates", "[I", true) ∧ ∃ a b : Int, (zfl 69 o)[5]? = some (1, 6805, a, b) ∧ a * x + b = y := fun o _ _ => ⟨zFw.o zw_X67 (Nat.le_of_ble_eq_true rfl) rfl o, _, _, rfl, hy⟩
theorem zh_6806 {x y : Int} (hy : 1 * x + 0 = y) : ∀ o : Nat, (o : Int) = x → o < zcnt 69 → zFo 69 o 6 ("RingHouseModel", "length", "[I", true) ∧ ∃ a b : Int, (zfl 69 o)[6]? = some (1, 6806, a, b) ∧ a * x + b = y := fun o _ _ => ⟨zFw.o zw_X67 (Nat.le_of_ble_eq_true rfl) rfl o, _, _, rfl, hy⟩
theorem zh_6807 {x y : Int} (hy : 1 * x + 0 = y) : ∀ o : Nat, (o : Int) = x → o < zcnt 69 → zFo 69 o 7 ("RingHouseModel", "limit", "[I", true) ∧ ∃ a b : Int, (zfl 69 o)[7]? = some (1, 6807, a, b) ∧ a * x + b = y := fun o _ _ => ⟨zFw.o zw_X67 (Nat.le_of_ble_eq_true rfl) rfl o, _, _, rfl, hy⟩
theorem zh_6808 {x y : Int} (hy : 1 * x + 0 = y) : ∀ o : Nat, (o : Int) = x → o < zcnt 69 → zFo 69 o 8 ("RingHouseModel", "used", "[I", true) ∧ ∃ a b : Int, (zfl 69 o)[8]? = some (1, 6808, a, b) ∧ a * x + b = y := fun o _ _ => ⟨zFw.o zw_X67 (Nat.le_of_ble_eq_true rfl) rfl o, _, _, rfl, hy⟩
theorem zh_6809 {x y : Int} (hy : 1 * x + 0 = y) : ∀ o : Nat, (o : Int) = x → o < zcnt 69 → zFo 69 o 9 ("RingHouseModel", "refusals", "[I", true) ∧ ∃ a b : Int, (zfl 69 o)[9]? = some (1, 6809, a, b) ∧ a * x + b = y := fun o _ _ => ⟨zFw.o zw_X67 (Nat.le_of_ble_eq_true rfl) rfl o, _, _, rfl, hy⟩
theorem zh_6810 {x y : Int} (hy : 1 * x + 0 = y) : ∀ o : Nat, (o : Int) = x → o < zcnt 69 → zFo 69 o 10 ("RingHouseModel", "came", "[J", true) ∧ ∃ a b : Int, (zfl 69 o)[10]? = some (1, 6810, a, b) ∧ a * x + b = y := fun o _ _ => ⟨zFw.o zw_X67 (Nat.le_of_ble_eq_true rfl) rfl o, _, _, rfl, hy⟩
theorem zg_6811 (x : Int) : ∀ o : Nat, (o : Int) = x → zFo 69 o 11 ("RingHouseModel", "comings", "J", false) ∧ (zfl 69 o)[11]? = some (0, 6811, 0, 0) := fun o _ => ⟨zFw.o zw_X67 (Nat.le_of_ble_eq_true rfl) rfl o, rfl⟩
theorem zp_6811 : 11 < (RX67, TX67, 130).2.2 ∧ (RX67, TX67, 130).2.1 11 = ("RingHouseModel", "comings", "J", false) ∧ (∀ o : Nat, (zfl 69 o)[11]? = some (0, 6811, 0, 0)) ∧ parseFieldDescriptor "J" = some .long := ⟨Nat.le_of_ble_eq_true rfl, rfl, fun _ => rfl, by decide +kernel⟩
theorem zt_6811 : zty 6811 = 1 := rfl
theorem zo_6811 : zown 6811 = 69 := rfl
theorem zh_6812 {x y : Int} (hy : 1 * x + 0 = y) : ∀ o : Nat, (o : Int) = x → o < zcnt 69 → zFo 69 o 12 ("RingHouseModel", "items", "[I", true) ∧ ∃ a b : Int, (zfl 69 o)[12]? = some (1, 6812, a, b) ∧ a * x + b = y := fun o _ _ => ⟨zFw.o zw_X67 (Nat.le_of_ble_eq_true rfl) rfl o, _, _, rfl, hy⟩
theorem zh_6813 {x y : Int} (hy : 1 * x + 0 = y) : ∀ o : Nat, (o : Int) = x → o < zcnt 69 → zFo 69 o 13 ("RingHouseModel", "item", "[I", true) ∧ ∃ a b : Int, (zfl 69 o)[13]? = some (1, 6813, a, b) ∧ a * x + b = y := fun o _ _ => ⟨zFw.o zw_X67 (Nat.le_of_ble_eq_true rfl) rfl o, _, _, rfl, hy⟩
theorem zh_6814 {x y : Int} (hy : 1 * x + 0 = y) : ∀ o : Nat, (o : Int) = x → o < zcnt 69 → zFo 69 o 14 ("RingHouseModel", "firsts", "[I", true) ∧ ∃ a b : Int, (zfl 69 o)[14]? = some (1, 6814, a, b) ∧ a * x + b = y := fun o _ _ => ⟨zFw.o zw_X67 (Nat.le_of_ble_eq_true rfl) rfl o, _, _, rfl, hy⟩
theorem zh_6815 {x y : Int} (hy : 1 * x + 0 = y) : ∀ o : Nat, (o : Int) = x → o < zcnt 69 → zFo 69 o 15 ("RingHouseModel", "first", "[I", true) ∧ ∃ a b : Int, (zfl 69 o)[15]? = some (1, 6815, a, b) ∧ a * x + b = y := fun o _ _ => ⟨zFw.o zw_X67 (Nat.le_of_ble_eq_true rfl) rfl o, _, _, rfl, hy⟩
theorem zh_6816 {x y : Int} (hy : 1 * x + 0 = y) : ∀ o : Nat, (o : Int) = x → o < zcnt 69 → zFo 69 o 16 ("RingHouseModel", "words", "[J", true) ∧ ∃ a b : Int, (zfl 69 o)[16]? = some (1, 6816, a, b) ∧ a * x + b = y := fun o _ _ => ⟨zFw.o zw_X67 (Nat.le_of_ble_eq_true rfl) rfl o, _, _, rfl, hy⟩
theorem zh_6817 {x y : Int} (hy : 1 * x + 0 = y) : ∀ o : Nat, (o : Int) = x → o < zcnt 69 → zFo 69 o 17 ("RingHouseModel", "letters", "[I", true) ∧ ∃ a b : Int, (zfl 69 o)[17]? = some (1, 6817, a, b) ∧ a * x + b = y := fun o _ _ => ⟨zFw.o zw_X67 (Nat.le_of_ble_eq_true rfl) rfl o, _, _, rfl, hy⟩
theorem zh_6818 {x y : Int} (hy : 1 * x + 0 = y) : ∀ o : Nat, (o : Int) = x → o < zcnt 69 → zFo 69 o 18 ("RingHouseModel", "letter", "[J", true) ∧ ∃ a b : Int, (zfl 69 o)[18]? = some (1, 6818, a, b) ∧ a * x + b = y := fun o _ _ => ⟨zFw.o zw_X67 (Nat.le_of_ble_eq_true rfl) rfl o, _, _, rfl, hy⟩
theorem zh_6819 {x y : Int} (hy : 1 * x + 0 = y) : ∀ o : Nat, (o : Int) = x → o < zcnt 69 → zFo 69 o 19 ("RingHouseModel", "letterLabel", "[I", true) ∧ ∃ a b : Int, (zfl 69 o)[19]? = some (1, 6819, a, b) ∧ a * x + b = y := fun o _ _ => ⟨zFw.o zw_X67 (Nat.le_of_ble_eq_true rfl) rfl o, _, _, rfl, hy⟩
theorem zh_6820 {x y : Int} (hy : 1 * x + 0 = y) : ∀ o : Nat, (o : Int) = x → o < zcnt 69 → zFo 69 o 20 ("RingHouseModel", "isProcess", "[Z", true) ∧ ∃ a b : Int, (zfl 69 o)[20]? = some (1, 6820, a, b) ∧ a * x + b = y := fun o _ _ => ⟨zFw.o zw_X67 (Nat.le_of_ble_eq_true rfl) rfl o, _, _, rfl, hy⟩
theorem zh_6821 {x y : Int} (hy : 1 * x + 0 = y) : ∀ o : Nat, (o : Int) = x → o < zcnt 69 → zFo 69 o 21 ("RingHouseModel", "state", "[I", true) ∧ ∃ a b : Int, (zfl 69 o)[21]? = some (1, 6821, a, b) ∧ a * x + b = y := fun o _ _ => ⟨zFw.o zw_X67 (Nat.le_of_ble_eq_true rfl) rfl o, _, _, rfl, hy⟩
theorem zh_6822 {x y : Int} (hy : 1 * x + 0 = y) : ∀ o : Nat, (o : Int) = x → o < zcnt 69 → zFo 69 o 22 ("RingHouseModel", "person", "[I", true) ∧ ∃ a b : Int, (zfl 69 o)[22]? = some (1, 6822, a, b) ∧ a * x + b = y := fun o _ _ => ⟨zFw.o zw_X67 (Nat.le_of_ble_eq_true rfl) rfl o, _, _, rfl, hy⟩
theorem zh_6823 {x y : Int} (hy : 1 * x + 0 = y) : ∀ o : Nat, (o : Int) = x → o < zcnt 69 → zFo 69 o 23 ("RingHouseModel", "project", "[I", true) ∧ ∃ a b : Int, (zfl 69 o)[23]? = some (1, 6823, a, b) ∧ a * x + b = y := fun o _ _ => ⟨zFw.o zw_X67 (Nat.le_of_ble_eq_true rfl) rfl o, _, _, rfl, hy⟩
theorem zh_6824 {x y : Int} (hy : 1 * x + 0 = y) : ∀ o : Nat, (o : Int) = x → o < zcnt 69 → zFo 69 o 24 ("RingHouseModel", "clearance", "[I", true) ∧ ∃ a b : Int, (zfl 69 o)[24]? = some (1, 6824, a, b) ∧ a * x + b = y := fun o _ _ => ⟨zFw.o zw_X67 (Nat.le_of_ble_eq_true rfl) rfl o, _, _, rfl, hy⟩
theorem zh_6825 {x y : Int} (hy : 1 * x + 0 = y) : ∀ o : Nat, (o : Int) = x → o < zcnt 69 → zFo 69 o 25 ("RingHouseModel", "a", "[J", true) ∧ ∃ a b : Int, (zfl 69 o)[25]? = some (1, 6825, a, b) ∧ a * x + b = y := fun o _ _ => ⟨zFw.o zw_X67 (Nat.le_of_ble_eq_true rfl) rfl o, _, _, rfl, hy⟩
theorem zh_6826 {x y : Int} (hy : 1 * x + 0 = y) : ∀ o : Nat, (o : Int) = x → o < zcnt 69 → zFo 69 o 26 ("RingHouseModel", "q", "[J", true) ∧ ∃ a b : Int, (zfl 69 o)[26]? = some (1, 6826, a, b) ∧ a * x + b = y := fun o _ _ => ⟨zFw.o zw_X67 (Nat.le_of_ble_eq_true rfl) rfl o, _, _, rfl, hy⟩
theorem zh_6827 {x y : Int} (hy : 1 * x + 0 = y) : ∀ o : Nat, (o : Int) = x → o < zcnt 69 → zFo 69 o 27 ("RingHouseModel", "x", "[I", true) ∧ ∃ a b : Int, (zfl 69 o)[27]? = some (1, 6827, a, b) ∧ a * x + b = y := fun o _ _ => ⟨zFw.o zw_X67 (Nat.le_of_ble_eq_true rfl) rfl o, _, _, rfl, hy⟩
theorem zh_6828 {x y : Int} (hy : 1 * x + 0 = y) : ∀ o : Nat, (o : Int) = x → o < zcnt 69 → zFo 69 o 28 ("RingHouseModel", "pNumber", "[I", true) ∧ ∃ a b : Int, (zfl 69 o)[28]? = some (1, 6828, a, b) ∧ a * x + b = y := fun o _ _ => ⟨zFw.o zw_X67 (Nat.le_of_ble_eq_true rfl) rfl o, _, _, rfl, hy⟩
theorem zh_6829 {x y : Int} (hy : 1 * x + 0 = y) : ∀ o : Nat, (o : Int) = x → o < zcnt 69 → zFo 69 o 29 ("RingHouseModel", "pPlace", "[I", true) ∧ ∃ a b : Int, (zfl 69 o)[29]? = some (1, 6829, a, b) ∧ a * x + b = y := fun o _ _ => ⟨zFw.o zw_X67 (Nat.le_of_ble_eq_true rfl) rfl o, _, _, rfl, hy⟩
theorem zh_6830 {x y : Int} (hy : 1 * x + 0 = y) : ∀ o : Nat, (o : Int) = x → o < zcnt 69 → zFo 69 o 30 ("RingHouseModel", "pRing", "[I", true) ∧ ∃ a b : Int, (zfl 69 o)[30]? = some (1, 6830, a, b) ∧ a * x + b = y := fun o _ _ => ⟨zFw.o zw_X67 (Nat.le_of_ble_eq_true rfl) rfl o, _, _, rfl, hy⟩
theorem zh_6831 {x y : Int} (hy : 1 * x + 0 = y) : ∀ o : Nat, (o : Int) = x → o < zcnt 69 → zFo 69 o 31 ("RingHouseModel", "number", "[I", true) ∧ ∃ a b : Int, (zfl 69 o)[31]? = some (1, 6831, a, b) ∧ a * x + b = y := fun o _ _ => ⟨zFw.o zw_X67 (Nat.le_of_ble_eq_true rfl) rfl o, _, _, rfl, hy⟩
theorem zh_6832 {x y : Int} (hy : 1 * x + 0 = y) : ∀ o : Nat, (o : Int) = x → o < zcnt 69 → zFo 69 o 32 ("RingHouseModel", "place", "[I", true) ∧ ∃ a b : Int, (zfl 69 o)[32]? = some (1, 6832, a, b) ∧ a * x + b = y := fun o _ _ => ⟨zFw.o zw_X67 (Nat.le_of_ble_eq_true rfl) rfl o, _, _, rfl, hy⟩
theorem zh_6833 {x y : Int} (hy : 1 * x + 0 = y) : ∀ o : Nat, (o : Int) = x → o < zcnt 69 → zFo 69 o 33 ("RingHouseModel", "ring", "[I", true) ∧ ∃ a b : Int, (zfl 69 o)[33]? = some (1, 6833, a, b) ∧ a * x + b = y := fun o _ _ => ⟨zFw.o zw_X67 (Nat.le_of_ble_eq_true rfl) rfl o, _, _, rfl, hy⟩
theorem zh_6834 {x y : Int} (hy : 1 * x + 0 = y) : ∀ o : Nat, (o : Int) = x → o < zcnt 69 → zFo 69 o 34 ("RingHouseModel", "zero", "[Z", true) ∧ ∃ a b : Int, (zfl 69 o)[34]? = some (1, 6834, a, b) ∧ a * x + b = y := fun o _ _ => ⟨zFw.o zw_X67 (Nat.le_of_ble_eq_true rfl) rfl o, _, _, rfl, hy⟩
theorem zh_6835 {x y : Int} (hy : 1 * x + 0 = y) : ∀ o : Nat, (o : Int) = x → o < zcnt 69 → zFo 69 o 35 ("RingHouseModel", "minus", "[Z", true) ∧ ∃ a b : Int, (zfl 69 o)[35]? = some (1, 6835, a, b) ∧ a * x + b = y := fun o _ _ => ⟨zFw.o zw_X67 (Nat.le_of_ble_eq_true rfl) rfl o, _, _, rfl, hy⟩
theorem zh_6836 {x y : Int} (hy : 1 * x + 0 = y) : ∀ o : Nat, (o : Int) = x → o < zcnt 69 → zFo 69 o 36 ("RingHouseModel", "ticks", "[I", true) ∧ ∃ a b : Int, (zfl 69 o)[36]? = some (1, 6836, a, b) ∧ a * x + b = y := fun o _ _ => ⟨zFw.o zw_X67 (Nat.le_of_ble_eq_true rfl) rfl o, _, _, rfl, hy⟩
theorem zh_6837 {x y : Int} (hy : 1 * x + 0 = y) : ∀ o : Nat, (o : Int) = x → o < zcnt 69 → zFo 69 o 37 ("RingHouseModel", "stacks", "[J", true) ∧ ∃ a b : Int, (zfl 69 o)[37]? = some (1, 6837, a, b) ∧ a * x + b = y := fun o _ _ => ⟨zFw.o zw_X67 (Nat.le_of_ble_eq_true rfl) rfl o, _, _, rfl, hy⟩
theorem zh_6838 {x y : Int} (hy : 1 * x + 0 = y) : ∀ o : Nat, (o : Int) = x → o < zcnt 69 → zFo 69 o 38 ("RingHouseModel", "known", "[I", true) ∧ ∃ a b : Int, (zfl 69 o)[38]? = some (1, 6838, a, b) ∧ a * x + b = y := fun o _ _ => ⟨zFw.o zw_X67 (Nat.le_of_ble_eq_true rfl) rfl o, _, _, rfl, hy⟩
theorem zh_6839 {x y : Int} (hy : 1 * x + 0 = y) : ∀ o : Nat, (o : Int) = x → o < zcnt 69 → zFo 69 o 39 ("RingHouseModel", "link", "[J", true) ∧ ∃ a b : Int, (zfl 69 o)[39]? = some (1, 6839, a, b) ∧ a * x + b = y := fun o _ _ => ⟨zFw.o zw_X67 (Nat.le_of_ble_eq_true rfl) rfl o, _, _, rfl, hy⟩
theorem zh_6840 {x y : Int} (hy : 1 * x + 0 = y) : ∀ o : Nat, (o : Int) = x → o < zcnt 69 → zFo 69 o 40 ("RingHouseModel", "working", "[I", true) ∧ ∃ a b : Int, (zfl 69 o)[40]? = some (1, 6840, a, b) ∧ a * x + b = y := fun o _ _ => ⟨zFw.o zw_X67 (Nat.le_of_ble_eq_true rfl) rfl o, _, _, rfl, hy⟩
theorem zh_6841 {x y : Int} (hy : 1 * x + 0 = y) : ∀ o : Nat, (o : Int) = x → o < zcnt 69 → zFo 69 o 41 ("RingHouseModel", "search", "[I", true) ∧ ∃ a b : Int, (zfl 69 o)[41]? = some (1, 6841, a, b) ∧ a * x + b = y := fun o _ _ => ⟨zFw.o zw_X67 (Nat.le_of_ble_eq_true rfl) rfl o, _, _, rfl, hy⟩
theorem zh_6842 {x y : Int} (hy : 1 * x + 0 = y) : ∀ o : Nat, (o : Int) = x → o < zcnt 69 → zFo 69 o 42 ("RingHouseModel", "hasHandler", "[Z", true) ∧ ∃ a b : Int, (zfl 69 o)[42]? = some (1, 6842, a, b) ∧ a * x + b = y := fun o _ _ => ⟨zFw.o zw_X67 (Nat.le_of_ble_eq_true rfl) rfl o, _, _, rfl, hy⟩
theorem zh_6843 {x y : Int} (hy : 1 * x + 0 = y) : ∀ o : Nat, (o : Int) = x → o < zcnt 69 → zFo 69 o 43 ("RingHouseModel", "handlerNumber", "[I", true) ∧ ∃ a b : Int, (zfl 69 o)[43]? = some (1, 6843, a, b) ∧ a * x + b = y := fun o _ _ => ⟨zFw.o zw_X67 (Nat.le_of_ble_eq_true rfl) rfl o, _, _, rfl, hy⟩
theorem zh_6844 {x y : Int} (hy : 1 * x + 0 = y) : ∀ o : Nat, (o : Int) = x → o < zcnt 69 → zFo 69 o 44 ("RingHouseModel", "handlerPlace", "[I", true) ∧ ∃ a b : Int, (zfl 69 o)[44]? = some (1, 6844, a, b) ∧ a * x + b = y := fun o _ _ => ⟨zFw.o zw_X67 (Nat.le_of_ble_eq_true rfl) rfl o, _, _, rfl, hy⟩
theorem zh_6845 {x y : Int} (hy : 1 * x + 0 = y) : ∀ o : Nat, (o : Int) = x → o < zcnt 69 → zFo 69 o 45 ("RingHouseModel", "handlerRing", "[I", true) ∧ ∃ a b : Int, (zfl 69 o)[45]? = some (1, 6845, a, b) ∧ a * x + b = y := fun o _ _ => ⟨zFw.o zw_X67 (Nat.le_of_ble_eq_true rfl) rfl o, _, _, rfl, hy⟩
theorem zh_6846 {x y : Int} (hy : 1 * x + 0 = y) : ∀ o : Nat, (o : Int) = x → o < zcnt 69 → zFo 69 o 46 ("RingHouseModel", "messages", "[I", true) ∧ ∃ a b : Int, (zfl 69 o)[46]? = some (1, 6846, a, b) ∧ a * x + b = y := fun o _ _ => ⟨zFw.o zw_X67 (Nat.le_of_ble_eq_true rfl) rfl o, _, _, rfl, hy⟩
theorem zh_6847 {x y : Int} (hy : 1 * x + 0 = y) : ∀ o : Nat, (o : Int) = x → o < zcnt 69 → zFo 69 o 47 ("RingHouseModel", "message", "[J", true) ∧ ∃ a b : Int, (zfl 69 o)[47]? = some (1, 6847, a, b) ∧ a * x + b = y := fun o _ _ => ⟨zFw.o zw_X67 (Nat.le_of_ble_eq_true rfl) rfl o, _, _, rfl, hy⟩
theorem zh_6848 {x y : Int} (hy : 1 * x + 0 = y) : ∀ o : Nat, (o : Int) = x → o < zcnt 69 → zFo 69 o 48 ("RingHouseModel", "frames", "[I", true) ∧ ∃ a b : Int, (zfl 69 o)[48]? = some (1, 6848, a, b) ∧ a * x + b = y := fun o _ _ => ⟨zFw.o zw_X67 (Nat.le_of_ble_eq_true rfl) rfl o, _, _, rfl, hy⟩
theorem zh_6849 {x y : Int} (hy : 1 * x + 0 = y) : ∀ o : Nat, (o : Int) = x → o < zcnt 69 → zFo 69 o 49 ("RingHouseModel", "frameA", "[J", true) ∧ ∃ a b : Int, (zfl 69 o)[49]? = some (1, 6849, a, b) ∧ a * x + b = y := fun o _ _ => ⟨zFw.o zw_X67 (Nat.le_of_ble_eq_true rfl) rfl o, _, _, rfl, hy⟩
theorem zh_6850 {x y : Int} (hy : 1 * x + 0 = y) : ∀ o : Nat, (o : Int) = x → o < zcnt 69 → zFo 69 o 50 ("RingHouseModel", "frameQ", "[J", true) ∧ ∃ a b : Int, (zfl 69 o)[50]? = some (1, 6850, a, b) ∧ a * x + b = y := fun o _ _ => ⟨zFw.o zw_X67 (Nat.le_of_ble_eq_true rfl) rfl o, _, _, rfl, hy⟩
theorem zh_6851 {x y : Int} (hy : 1 * x + 0 = y) : ∀ o : Nat, (o : Int) = x → o < zcnt 69 → zFo 69 o 51 ("RingHouseModel", "frameX", "[I", true) ∧ ∃ a b : Int, (zfl 69 o)[51]? = some (1, 6851, a, b) ∧ a * x + b = y := fun o _ _ => ⟨zFw.o zw_X67 (Nat.le_of_ble_eq_true rfl) rfl o, _, _, rfl, hy⟩
theorem zh_6852 {x y : Int} (hy : 1 * x + 0 = y) : ∀ o : Nat, (o : Int) = x → o < zcnt 69 → zFo 69 o 52 ("RingHouseModel", "framePNumber", "[I", true) ∧ ∃ a b : Int, (zfl 69 o)[52]? = some (1, 6852, a, b) ∧ a * x + b = y := fun o _ _ => ⟨zFw.o zw_X67 (Nat.le_of_ble_eq_true rfl) rfl o, _, _, rfl, hy⟩
theorem zh_6853 {x y : Int} (hy : 1 * x + 0 = y) : ∀ o : Nat, (o : Int) = x → o < zcnt 69 → zFo 69 o 53 ("RingHouseModel", "framePPlace", "[I", true) ∧ ∃ a b : Int, (zfl 69 o)[53]? = some (1, 6853, a, b) ∧ a * x + b = y := fun o _ _ => ⟨zFw.o zw_X67 (Nat.le_of_ble_eq_true rfl) rfl o, _, _, rfl, hy⟩
theorem zh_6854 {x y : Int} (hy : 1 * x + 0 = y) : ∀ o : Nat, (o : Int) = x → o < zcnt 69 → zFo 69 o 54 ("RingHouseModel", "framePRing", "[I", true) ∧ ∃ a b : Int, (zfl 69 o)[54]? = some (1, 6854, a, b) ∧ a * x + b = y := fun o _ _ => ⟨zFw.o zw_X67 (Nat.le_of_ble_eq_true rfl) rfl o, _, _, rfl, hy⟩
theorem zh_6855 {x y : Int} (hy : 1 * x + 0 = y) : ∀ o : Nat, (o : Int) = x → o < zcnt 69 → zFo 69 o 55 ("RingHouseModel", "frameNumber", "[I", true) ∧ ∃ a b : Int, (zfl 69 o)[55]? = some (1, 6855, a, b) ∧ a * x + b = y := fun o _ _ => ⟨zFw.o zw_X67 (Nat.le_of_ble_eq_true rfl) rfl o, _, _, rfl, hy⟩
theorem zh_6856 {x y : Int} (hy : 1 * x + 0 = y) : ∀ o : Nat, (o : Int) = x → o < zcnt 69 → zFo 69 o 56 ("RingHouseModel", "framePlace", "[I", true) ∧ ∃ a b : Int, (zfl 69 o)[56]? = some (1, 6856, a, b) ∧ a * x + b = y := fun o _ _ => ⟨zFw.o zw_X67 (Nat.le_of_ble_eq_true rfl) rfl o, _, _, rfl, hy⟩
theorem zh_6857 {x y : Int} (hy : 1 * x + 0 = y) : ∀ o : Nat, (o : Int) = x → o < zcnt 69 → zFo 69 o 57 ("RingHouseModel", "frameRing", "[I", true) ∧ ∃ a b : Int, (zfl 69 o)[57]? = some (1, 6857, a, b) ∧ a * x + b = y := fun o _ _ => ⟨zFw.o zw_X67 (Nat.le_of_ble_eq_true rfl) rfl o, _, _, rfl, hy⟩
theorem zh_6858 {x y : Int} (hy : 1 * x + 0 = y) : ∀ o : Nat, (o : Int) = x → o < zcnt 69 → zFo 69 o 58 ("RingHouseModel", "frameZero", "[Z", true) ∧ ∃ a b : Int, (zfl 69 o)[58]? = some (1, 6858, a, b) ∧ a * x + b = y := fun o _ _ => ⟨zFw.o zw_X67 (Nat.le_of_ble_eq_true rfl) rfl o, _, _, rfl, hy⟩
theorem zh_6859 {x y : Int} (hy : 1 * x + 0 = y) : ∀ o : Nat, (o : Int) = x → o < zcnt 69 → zFo 69 o 59 ("RingHouseModel", "frameMinus", "[Z", true) ∧ ∃ a b : Int, (zfl 69 o)[59]? = some (1, 6859, a, b) ∧ a * x + b = y := fun o _ _ => ⟨zFw.o zw_X67 (Nat.le_of_ble_eq_true rfl) rfl o, _, _, rfl, hy⟩
theorem zh_6860 {x y : Int} (hy : 1 * x + 0 = y) : ∀ o : Nat, (o : Int) = x → o < zcnt 69 → zFo 69 o 60 ("RingHouseModel", "events", "[I", true) ∧ ∃ a b : Int, (zfl 69 o)[60]? = some (1, 6860, a, b) ∧ a * x + b = y := fun o _ _ => ⟨zFw.o zw_X67 (Nat.le_of_ble_eq_true rfl) rfl o, _, _, rfl, hy⟩
theorem zh_6861 {x y : Int} (hy : 1 * x + 0 = y) : ∀ o : Nat, (o : Int) = x → o < zcnt 69 → zFo 69 o 61 ("RingHouseModel", "event", "[J", true) ∧ ∃ a b : Int, (zfl 69 o)[61]? = some (1, 6861, a, b) ∧ a * x + b = y := fun o _ _ => ⟨zFw.o zw_X67 (Nat.le_of_ble_eq_true rfl) rfl o, _, _, rfl, hy⟩
theorem zh_6862 {x y : Int} (hy : 1 * x + 0 = y) : ∀ o : Nat, (o : Int) = x → o < zcnt 69 → zFo 69 o 62 ("RingHouseModel", "sum", "[J", true) ∧ ∃ a b : Int, (zfl 69 o)[62]? = some (1, 6862, a, b) ∧ a * x + b = y := fun o _ _ => ⟨zFw.o zw_X67 (Nat.le_of_ble_eq_true rfl) rfl o, _, _, rfl, hy⟩
theorem zh_6863 {x y : Int} (hy : 1 * x + 0 = y) : ∀ o : Nat, (o : Int) = x → o < zcnt 69 → zFo 69 o 63 ("RingHouseModel", "schedule", "[I", true) ∧ ∃ a b : Int, (zfl 69 o)[63]? = some (1, 6863, a, b) ∧ a * x + b = y := fun o _ _ => ⟨zFw.o zw_X67 (Nat.le_of_ble_eq_true rfl) rfl o, _, _, rfl, hy⟩
theorem zg_6864 (x : Int) : ∀ o : Nat, (o : Int) = x → zFo 69 o 64 ("RingHouseModel", "turn", "I", false) ∧ (zfl 69 o)[64]? = some (0, 6864, 0, 0) := fun o _ => ⟨zFw.o zw_X67 (Nat.le_of_ble_eq_true rfl) rfl o, rfl⟩
theorem zp_6864 : 64 < (RX67, TX67, 130).2.2 ∧ (RX67, TX67, 130).2.1 64 = ("RingHouseModel", "turn", "I", false) ∧ (∀ o : Nat, (zfl 69 o)[64]? = some (0, 6864, 0, 0)) ∧ parseFieldDescriptor "I" = some .int := ⟨Nat.le_of_ble_eq_true rfl, rfl, fun _ => rfl, by decide +kernel⟩
theorem zt_6864 : zty 6864 = 0 := rfl
theorem zo_6864 : zown 6864 = 69 := rfl
theorem zg_6865 (x : Int) : ∀ o : Nat, (o : Int) = x → zFo 69 o 65 ("RingHouseModel", "audits", "I", false) ∧ (zfl 69 o)[65]? = some (0, 6865, 0, 0) := fun o _ => ⟨zFw.o zw_X67 (Nat.le_of_ble_eq_true rfl) rfl o, rfl⟩
theorem zp_6865 : 65 < (RX67, TX67, 130).2.2 ∧ (RX67, TX67, 130).2.1 65 = ("RingHouseModel", "audits", "I", false) ∧ (∀ o : Nat, (zfl 69 o)[65]? = some (0, 6865, 0, 0)) ∧ parseFieldDescriptor "I" = some .int := ⟨Nat.le_of_ble_eq_true rfl, rfl, fun _ => rfl, by decide +kernel⟩
theorem zt_6865 : zty 6865 = 0 := rfl
theorem zo_6865 : zown 6865 = 69 := rfl
theorem zh_6866 {x y : Int} (hy : 1 * x + 0 = y) : ∀ o : Nat, (o : Int) = x → o < zcnt 69 → zFo 69 o 66 ("RingHouseModel", "audit", "[I", true) ∧ ∃ a b : Int, (zfl 69 o)[66]? = some (1, 6866, a, b) ∧ a * x + b = y := fun o _ _ => ⟨zFw.o zw_X67 (Nat.le_of_ble_eq_true rfl) rfl o, _, _, rfl, hy⟩
theorem zg_6867 (x : Int) : ∀ o : Nat, (o : Int) = x → zFo 69 o 67 ("RingHouseModel", "textSize", "I", false) ∧ (zfl 69 o)[67]? = some (0, 6867, 0, 0) := fun o _ => ⟨zFw.o zw_X67 (Nat.le_of_ble_eq_true rfl) rfl o, rfl⟩
theorem zp_6867 : 67 < (RX67, TX67, 130).2.2 ∧ (RX67, TX67, 130).2.1 67 = ("RingHouseModel", "textSize", "I", false) ∧ (∀ o : Nat, (zfl 69 o)[67]? = some (0, 6867, 0, 0)) ∧ parseFieldDescriptor "I" = some .int := ⟨Nat.le_of_ble_eq_true rfl, rfl, fun _ => rfl, by decide +kernel⟩
theorem zt_6867 : zty 6867 = 0 := rfl
theorem zo_6867 : zown 6867 = 69 := rfl
theorem zh_6868 {x y : Int} (hy : 1 * x + 0 = y) : ∀ o : Nat, (o : Int) = x → o < zcnt 69 → zFo 69 o 68 ("RingHouseModel", "text", "[I", true) ∧ ∃ a b : Int, (zfl 69 o)[68]? = some (1, 6868, a, b) ∧ a * x + b = y := fun o _ _ => ⟨zFw.o zw_X67 (Nat.le_of_ble_eq_true rfl) rfl o, _, _, rfl, hy⟩
theorem zg_6869 (x : Int) : ∀ o : Nat, (o : Int) = x → zFo 69 o 69 ("RingHouseModel", "faultPlace", "I", false) ∧ (zfl 69 o)[69]? = some (0, 6869, 0, 0) := fun o _ => ⟨zFw.o zw_X67 (Nat.le_of_ble_eq_true rfl) rfl o, rfl⟩
theorem zp_6869 : 69 < (RX67, TX67, 130).2.2 ∧ (RX67, TX67, 130).2.1 69 = ("RingHouseModel", "faultPlace", "I", false) ∧ (∀ o : Nat, (zfl 69 o)[69]? = some (0, 6869, 0, 0)) ∧ parseFieldDescriptor "I" = some .int := ⟨Nat.le_of_ble_eq_true rfl, rfl, fun _ => rfl, by decide +kernel⟩
theorem zt_6869 : zty 6869 = 0 := rfl
theorem zo_6869 : zown 6869 = 69 := rfl
theorem zg_6870 (x : Int) : ∀ o : Nat, (o : Int) = x → zFo 69 o 70 ("RingHouseModel", "listedSize", "I", false) ∧ (zfl 69 o)[70]? = some (0, 6870, 0, 0) := fun o _ => ⟨zFw.o zw_X67 (Nat.le_of_ble_eq_true rfl) rfl o, rfl⟩
theorem zp_6870 : 70 < (RX67, TX67, 130).2.2 ∧ (RX67, TX67, 130).2.1 70 = ("RingHouseModel", "listedSize", "I", false) ∧ (∀ o : Nat, (zfl 69 o)[70]? = some (0, 6870, 0, 0)) ∧ parseFieldDescriptor "I" = some .int := ⟨Nat.le_of_ble_eq_true rfl, rfl, fun _ => rfl, by decide +kernel⟩
theorem zt_6870 : zty 6870 = 0 := rfl
theorem zo_6870 : zown 6870 = 69 := rfl
theorem zh_6871 {x y : Int} (hy : 1 * x + 0 = y) : ∀ o : Nat, (o : Int) = x → o < zcnt 69 → zFo 69 o 71 ("RingHouseModel", "listed", "[I", true) ∧ ∃ a b : Int, (zfl 69 o)[71]? = some (1, 6871, a, b) ∧ a * x + b = y := fun o _ _ => ⟨zFw.o zw_X67 (Nat.le_of_ble_eq_true rfl) rfl o, _, _, rfl, hy⟩
theorem zg_6872 (x : Int) : ∀ o : Nat, (o : Int) = x → zFo 69 o 72 ("RingHouseModel", "tapeSize", "I", false) ∧ (zfl 69 o)[72]? = some (0, 6872, 0, 0) := fun o _ => ⟨zFw.o zw_X67 (Nat.le_of_ble_eq_true rfl) rfl o, rfl⟩
theorem zp_6872 : 72 < (RX67, TX67, 130).2.2 ∧ (RX67, TX67, 130).2.1 72 = ("RingHouseModel", "tapeSize", "I", false) ∧ (∀ o : Nat, (zfl 69 o)[72]? = some (0, 6872, 0, 0)) ∧ parseFieldDescriptor "I" = some .int := ⟨Nat.le_of_ble_eq_true rfl, rfl, fun _ => rfl, by decide +kernel⟩
theorem zt_6872 : zty 6872 = 0 := rfl
theorem zo_6872 : zown 6872 = 69 := rfl
theorem zh_6873 {x y : Int} (hy : 1 * x + 0 = y) : ∀ o : Nat, (o : Int) = x → o < zcnt 69 → zFo 69 o 73 ("RingHouseModel", "tape", "[I", true) ∧ ∃ a b : Int, (zfl 69 o)[73]? = some (1, 6873, a, b) ∧ a * x + b = y := fun o _ _ => ⟨zFw.o zw_X67 (Nat.le_of_ble_eq_true rfl) rfl o, _, _, rfl, hy⟩
theorem zg_6874 (x : Int) : ∀ o : Nat, (o : Int) = x → zFo 69 o 74 ("RingHouseModel", "fault", "I", false) ∧ (zfl 69 o)[74]? = some (0, 6874, 0, 0) := fun o _ => ⟨zFw.o zw_X67 (Nat.le_of_ble_eq_true rfl) rfl o, rfl⟩
theorem zp_6874 : 74 < (RX67, TX67, 130).2.2 ∧ (RX67, TX67, 130).2.1 74 = ("RingHouseModel", "fault", "I", false) ∧ (∀ o : Nat, (zfl 69 o)[74]? = some (0, 6874, 0, 0)) ∧ parseFieldDescriptor "I" = some .int := ⟨Nat.le_of_ble_eq_true rfl, rfl, fun _ => rfl, by decide +kernel⟩
theorem zt_6874 : zty 6874 = 0 := rfl
theorem zo_6874 : zown 6874 = 69 := rfl
theorem zg_6875 (x : Int) : ∀ o : Nat, (o : Int) = x → zFo 69 o 75 ("RingHouseModel", "atNumber", "I", false) ∧ (zfl 69 o)[75]? = some (0, 6875, 0, 0) := fun o _ => ⟨zFw.o zw_X67 (Nat.le_of_ble_eq_true rfl) rfl o, rfl⟩
theorem zp_6875 : 75 < (RX67, TX67, 130).2.2 ∧ (RX67, TX67, 130).2.1 75 = ("RingHouseModel", "atNumber", "I", false) ∧ (∀ o : Nat, (zfl 69 o)[75]? = some (0, 6875, 0, 0)) ∧ parseFieldDescriptor "I" = some .int := ⟨Nat.le_of_ble_eq_true rfl, rfl, fun _ => rfl, by decide +kernel⟩
theorem zt_6875 : zty 6875 = 0 := rfl
theorem zo_6875 : zown 6875 = 69 := rfl
theorem zg_6876 (x : Int) : ∀ o : Nat, (o : Int) = x → zFo 69 o 76 ("RingHouseModel", "atPlace", "I", false) ∧ (zfl 69 o)[76]? = some (0, 6876, 0, 0) := fun o _ => ⟨zFw.o zw_X67 (Nat.le_of_ble_eq_true rfl) rfl o, rfl⟩
theorem zp_6876 : 76 < (RX67, TX67, 130).2.2 ∧ (RX67, TX67, 130).2.1 76 = ("RingHouseModel", "atPlace", "I", false) ∧ (∀ o : Nat, (zfl 69 o)[76]? = some (0, 6876, 0, 0)) ∧ parseFieldDescriptor "I" = some .int := ⟨Nat.le_of_ble_eq_true rfl, rfl, fun _ => rfl, by decide +kernel⟩
theorem zt_6876 : zty 6876 = 0 := rfl
theorem zo_6876 : zown 6876 = 69 := rfl
theorem zg_6877 (x : Int) : ∀ o : Nat, (o : Int) = x → zFo 69 o 77 ("RingHouseModel", "atRing", "I", false) ∧ (zfl 69 o)[77]? = some (0, 6877, 0, 0) := fun o _ => ⟨zFw.o zw_X67 (Nat.le_of_ble_eq_true rfl) rfl o, rfl⟩
theorem zp_6877 : 77 < (RX67, TX67, 130).2.2 ∧ (RX67, TX67, 130).2.1 77 = ("RingHouseModel", "atRing", "I", false) ∧ (∀ o : Nat, (zfl 69 o)[77]? = some (0, 6877, 0, 0)) ∧ parseFieldDescriptor "I" = some .int := ⟨Nat.le_of_ble_eq_true rfl, rfl, fun _ => rfl, by decide +kernel⟩
theorem zt_6877 : zty 6877 = 0 := rfl
theorem zo_6877 : zown 6877 = 69 := rfl
theorem zg_6878 (x : Int) : ∀ o : Nat, (o : Int) = x → zFo 69 o 78 ("RingHouseModel", "tNumber", "I", false) ∧ (zfl 69 o)[78]? = some (0, 6878, 0, 0) := fun o _ => ⟨zFw.o zw_X67 (Nat.le_of_ble_eq_true rfl) rfl o, rfl⟩
theorem zp_6878 : 78 < (RX67, TX67, 130).2.2 ∧ (RX67, TX67, 130).2.1 78 = ("RingHouseModel", "tNumber", "I", false) ∧ (∀ o : Nat, (zfl 69 o)[78]? = some (0, 6878, 0, 0)) ∧ parseFieldDescriptor "I" = some .int := ⟨Nat.le_of_ble_eq_true rfl, rfl, fun _ => rfl, by decide +kernel⟩
theorem zt_6878 : zty 6878 = 0 := rfl
theorem zo_6878 : zown 6878 = 69 := rfl
theorem zg_6879 (x : Int) : ∀ o : Nat, (o : Int) = x → zFo 69 o 79 ("RingHouseModel", "tPlace", "I", false) ∧ (zfl 69 o)[79]? = some (0, 6879, 0, 0) := fun o _ => ⟨zFw.o zw_X67 (Nat.le_of_ble_eq_true rfl) rfl o, rfl⟩
theorem zp_6879 : 79 < (RX67, TX67, 130).2.2 ∧ (RX67, TX67, 130).2.1 79 = ("RingHouseModel", "tPlace", "I", false) ∧ (∀ o : Nat, (zfl 69 o)[79]? = some (0, 6879, 0, 0)) ∧ parseFieldDescriptor "I" = some .int := ⟨Nat.le_of_ble_eq_true rfl, rfl, fun _ => rfl, by decide +kernel⟩
theorem zt_6879 : zty 6879 = 0 := rfl
theorem zo_6879 : zown 6879 = 69 := rfl
theorem zg_6880 (x : Int) : ∀ o : Nat, (o : Int) = x → zFo 69 o 80 ("RingHouseModel", "tRing", "I", false) ∧ (zfl 69 o)[80]? = some (0, 6880, 0, 0) := fun o _ => ⟨zFw.o zw_X67 (Nat.le_of_ble_eq_true rfl) rfl o, rfl⟩
theorem zp_6880 : 80 < (RX67, TX67, 130).2.2 ∧ (RX67, TX67, 130).2.1 80 = ("RingHouseModel", "tRing", "I", false) ∧ (∀ o : Nat, (zfl 69 o)[80]? = some (0, 6880, 0, 0)) ∧ parseFieldDescriptor "I" = some .int := ⟨Nat.le_of_ble_eq_true rfl, rfl, fun _ => rfl, by decide +kernel⟩
theorem zt_6880 : zty 6880 = 0 := rfl
theorem zo_6880 : zown 6880 = 69 := rfl
theorem zg_6881 (x : Int) : ∀ o : Nat, (o : Int) = x → zFo 69 o 81 ("RingHouseModel", "which", "I", false) ∧ (zfl 69 o)[81]? = some (0, 6881, 0, 0) := fun o _ => ⟨zFw.o zw_X67 (Nat.le_of_ble_eq_true rfl) rfl o, rfl⟩
theorem zp_6881 : 81 < (RX67, TX67, 130).2.2 ∧ (RX67, TX67, 130).2.1 81 = ("RingHouseModel", "which", "I", false) ∧ (∀ o : Nat, (zfl 69 o)[81]? = some (0, 6881, 0, 0)) ∧ parseFieldDescriptor "I" = some .int := ⟨Nat.le_of_ble_eq_true rfl, rfl, fun _ => rfl, by decide +kernel⟩
theorem zt_6881 : zty 6881 = 0 := rfl
theorem zo_6881 : zown 6881 = 69 := rfl
theorem zg_6882 (x : Int) : ∀ o : Nat, (o : Int) = x → zFo 69 o 82 ("RingHouseModel", "mode", "I", false) ∧ (zfl 69 o)[82]? = some (0, 6882, 0, 0) := fun o _ => ⟨zFw.o zw_X67 (Nat.le_of_ble_eq_true rfl) rfl o, rfl⟩
theorem zp_6882 : 82 < (RX67, TX67, 130).2.2 ∧ (RX67, TX67, 130).2.1 82 = ("RingHouseModel", "mode", "I", false) ∧ (∀ o : Nat, (zfl 69 o)[82]? = some (0, 6882, 0, 0)) ∧ parseFieldDescriptor "I" = some .int := ⟨Nat.le_of_ble_eq_true rfl, rfl, fun _ => rfl, by decide +kernel⟩
theorem zt_6882 : zty 6882 = 0 := rfl
theorem zo_6882 : zown 6882 = 69 := rfl
theorem zg_6883 (x : Int) : ∀ o : Nat, (o : Int) = x → zFo 69 o 83 ("RingHouseModel", "pointer", "I", false) ∧ (zfl 69 o)[83]? = some (0, 6883, 0, 0) := fun o _ => ⟨zFw.o zw_X67 (Nat.le_of_ble_eq_true rfl) rfl o, rfl⟩
theorem zp_6883 : 83 < (RX67, TX67, 130).2.2 ∧ (RX67, TX67, 130).2.1 83 = ("RingHouseModel", "pointer", "I", false) ∧ (∀ o : Nat, (zfl 69 o)[83]? = some (0, 6883, 0, 0)) ∧ parseFieldDescriptor "I" = some .int := ⟨Nat.le_of_ble_eq_true rfl, rfl, fun _ => rfl, by decide +kernel⟩
theorem zt_6883 : zty 6883 = 0 := rfl
theorem zo_6883 : zown 6883 = 69 := rfl
theorem zg_6884 (x : Int) : ∀ o : Nat, (o : Int) = x → zFo 69 o 84 ("RingHouseModel", "index", "I", false) ∧ (zfl 69 o)[84]? = some (0, 6884, 0, 0) := fun o _ => ⟨zFw.o zw_X67 (Nat.le_of_ble_eq_true rfl) rfl o, rfl⟩
theorem zp_6884 : 84 < (RX67, TX67, 130).2.2 ∧ (RX67, TX67, 130).2.1 84 = ("RingHouseModel", "index", "I", false) ∧ (∀ o : Nat, (zfl 69 o)[84]? = some (0, 6884, 0, 0)) ∧ parseFieldDescriptor "I" = some .int := ⟨Nat.le_of_ble_eq_true rfl, rfl, fun _ => rfl, by decide +kernel⟩
theorem zt_6884 : zty 6884 = 0 := rfl
theorem zo_6884 : zown 6884 = 69 := rfl
theorem zg_6885 (x : Int) : ∀ o : Nat, (o : Int) = x → zFo 69 o 85 ("RingHouseModel", "offset", "I", false) ∧ (zfl 69 o)[85]? = some (0, 6885, 0, 0) := fun o _ => ⟨zFw.o zw_X67 (Nat.le_of_ble_eq_true rfl) rfl o, rfl⟩
theorem zp_6885 : 85 < (RX67, TX67, 130).2.2 ∧ (RX67, TX67, 130).2.1 85 = ("RingHouseModel", "offset", "I", false) ∧ (∀ o : Nat, (zfl 69 o)[85]? = some (0, 6885, 0, 0)) ∧ parseFieldDescriptor "I" = some .int := ⟨Nat.le_of_ble_eq_true rfl, rfl, fun _ => rfl, by decide +kernel⟩
theorem zt_6885 : zty 6885 = 0 := rfl
theorem zo_6885 : zown 6885 = 69 := rfl
theorem zg_6886 (x : Int) : ∀ o : Nat, (o : Int) = x → zFo 69 o 86 ("RingHouseModel", "asked", "I", false) ∧ (zfl 69 o)[86]? = some (0, 6886, 0, 0) := fun o _ => ⟨zFw.o zw_X67 (Nat.le_of_ble_eq_true rfl) rfl o, rfl⟩
theorem zp_6886 : 86 < (RX67, TX67, 130).2.2 ∧ (RX67, TX67, 130).2.1 86 = ("RingHouseModel", "asked", "I", false) ∧ (∀ o : Nat, (zfl 69 o)[86]? = some (0, 6886, 0, 0)) ∧ parseFieldDescriptor "I" = some .int := ⟨Nat.le_of_ble_eq_true rfl, rfl, fun _ => rfl, by decide +kernel⟩
theorem zt_6886 : zty 6886 = 0 := rfl
theorem zo_6886 : zown 6886 = 69 := rfl
theorem zg_6887 (x : Int) : ∀ o : Nat, (o : Int) = x → zFo 69 o 87 ("RingHouseModel", "token", "I", false) ∧ (zfl 69 o)[87]? = some (0, 6887, 0, 0) := fun o _ => ⟨zFw.o zw_X67 (Nat.le_of_ble_eq_true rfl) rfl o, rfl⟩
theorem zp_6887 : 87 < (RX67, TX67, 130).2.2 ∧ (RX67, TX67, 130).2.1 87 = ("RingHouseModel", "token", "I", false) ∧ (∀ o : Nat, (zfl 69 o)[87]? = some (0, 6887, 0, 0)) ∧ parseFieldDescriptor "I" = some .int := ⟨Nat.le_of_ble_eq_true rfl, rfl, fun _ => rfl, by decide +kernel⟩
theorem zt_6887 : zty 6887 = 0 := rfl
theorem zo_6887 : zown 6887 = 69 := rfl
theorem zg_6888 (x : Int) : ∀ o : Nat, (o : Int) = x → zFo 69 o 88 ("RingHouseModel", "from", "I", false) ∧ (zfl 69 o)[88]? = some (0, 6888, 0, 0) := fun o _ => ⟨zFw.o zw_X67 (Nat.le_of_ble_eq_true rfl) rfl o, rfl⟩
theorem zp_6888 : 88 < (RX67, TX67, 130).2.2 ∧ (RX67, TX67, 130).2.1 88 = ("RingHouseModel", "from", "I", false) ∧ (∀ o : Nat, (zfl 69 o)[88]? = some (0, 6888, 0, 0)) ∧ parseFieldDescriptor "I" = some .int := ⟨Nat.le_of_ble_eq_true rfl, rfl, fun _ => rfl, by decide +kernel⟩
theorem zt_6888 : zty 6888 = 0 := rfl
theorem zo_6888 : zown 6888 = 69 := rfl
theorem zg_6889 (x : Int) : ∀ o : Nat, (o : Int) = x → zFo 69 o 89 ("RingHouseModel", "to", "I", false) ∧ (zfl 69 o)[89]? = some (0, 6889, 0, 0) := fun o _ => ⟨zFw.o zw_X67 (Nat.le_of_ble_eq_true rfl) rfl o, rfl⟩
theorem zp_6889 : 89 < (RX67, TX67, 130).2.2 ∧ (RX67, TX67, 130).2.1 89 = ("RingHouseModel", "to", "I", false) ∧ (∀ o : Nat, (zfl 69 o)[89]? = some (0, 6889, 0, 0)) ∧ parseFieldDescriptor "I" = some .int := ⟨Nat.le_of_ble_eq_true rfl, rfl, fun _ => rfl, by decide +kernel⟩
theorem zt_6889 : zty 6889 = 0 := rfl
theorem zo_6889 : zown 6889 = 69 := rfl
theorem zg_6890 (x : Int) : ∀ o : Nat, (o : Int) = x → zFo 69 o 90 ("RingHouseModel", "end", "I", false) ∧ (zfl 69 o)[90]? = some (0, 6890, 0, 0) := fun o _ => ⟨zFw.o zw_X67 (Nat.le_of_ble_eq_true rfl) rfl o, rfl⟩
theorem zp_6890 : 90 < (RX67, TX67, 130).2.2 ∧ (RX67, TX67, 130).2.1 90 = ("RingHouseModel", "end", "I", false) ∧ (∀ o : Nat, (zfl 69 o)[90]? = some (0, 6890, 0, 0)) ∧ parseFieldDescriptor "I" = some .int := ⟨Nat.le_of_ble_eq_true rfl, rfl, fun _ => rfl, by decide +kernel⟩
theorem zt_6890 : zty 6890 = 0 := rfl
theorem zo_6890 : zown 6890 = 69 := rfl
theorem zg_6891 (x : Int) : ∀ o : Nat, (o : Int) = x → zFo 69 o 91 ("RingHouseModel", "textFault", "I", false) ∧ (zfl 69 o)[91]? = some (0, 6891, 0, 0) := fun o _ => ⟨zFw.o zw_X67 (Nat.le_of_ble_eq_true rfl) rfl o, rfl⟩
theorem zp_6891 : 91 < (RX67, TX67, 130).2.2 ∧ (RX67, TX67, 130).2.1 91 = ("RingHouseModel", "textFault", "I", false) ∧ (∀ o : Nat, (zfl 69 o)[91]? = some (0, 6891, 0, 0)) ∧ parseFieldDescriptor "I" = some .int := ⟨Nat.le_of_ble_eq_true rfl, rfl, fun _ => rfl, by decide +kernel⟩
theorem zt_6891 : zty 6891 = 0 := rfl
theorem zo_6891 : zown 6891 = 69 := rfl
theorem zg_6892 (x : Int) : ∀ o : Nat, (o : Int) = x → zFo 69 o 92 ("RingHouseModel", "textPlace", "I", false) ∧ (zfl 69 o)[92]? = some (0, 6892, 0, 0) := fun o _ => ⟨zFw.o zw_X67 (Nat.le_of_ble_eq_true rfl) rfl o, rfl⟩
theorem zp_6892 : 92 < (RX67, TX67, 130).2.2 ∧ (RX67, TX67, 130).2.1 92 = ("RingHouseModel", "textPlace", "I", false) ∧ (∀ o : Nat, (zfl 69 o)[92]? = some (0, 6892, 0, 0)) ∧ parseFieldDescriptor "I" = some .int := ⟨Nat.le_of_ble_eq_true rfl, rfl, fun _ => rfl, by decide +kernel⟩
theorem zt_6892 : zty 6892 = 0 := rfl
theorem zo_6892 : zown 6892 = 69 := rfl
theorem zg_6893 (x : Int) : ∀ o : Nat, (o : Int) = x → zFo 69 o 93 ("RingHouseModel", "labels", "I", false) ∧ (zfl 69 o)[93]? = some (0, 6893, 0, 0) := fun o _ => ⟨zFw.o zw_X67 (Nat.le_of_ble_eq_true rfl) rfl o, rfl⟩
theorem zp_6893 : 93 < (RX67, TX67, 130).2.2 ∧ (RX67, TX67, 130).2.1 93 = ("RingHouseModel", "labels", "I", false) ∧ (∀ o : Nat, (zfl 69 o)[93]? = some (0, 6893, 0, 0)) ∧ parseFieldDescriptor "I" = some .int := ⟨Nat.le_of_ble_eq_true rfl, rfl, fun _ => rfl, by decide +kernel⟩
theorem zt_6893 : zty 6893 = 0 := rfl
theorem zo_6893 : zown 6893 = 69 := rfl
theorem zh_6894 {x y : Int} (hy : 1 * x + 0 = y) : ∀ o : Nat, (o : Int) = x → o < zcnt 69 → zFo 69 o 94 ("RingHouseModel", "labelName", "[J", true) ∧ ∃ a b : Int, (zfl 69 o)[94]? = some (1, 6894, a, b) ∧ a * x + b = y := fun o _ _ => ⟨zFw.o zw_X67 (Nat.le_of_ble_eq_true rfl) rfl o, _, _, rfl, hy⟩
theorem zh_6895 {x y : Int} (hy : 1 * x + 0 = y) : ∀ o : Nat, (o : Int) = x → o < zcnt 69 → zFo 69 o 95 ("RingHouseModel", "labelPlace", "[I", true) ∧ ∃ a b : Int, (zfl 69 o)[95]? = some (1, 6895, a, b) ∧ a * x + b = y := fun o _ _ => ⟨zFw.o zw_X67 (Nat.le_of_ble_eq_true rfl) rfl o, _, _, rfl, hy⟩
theorem zg_6896 (x : Int) : ∀ o : Nat, (o : Int) = x → zFo 69 o 96 ("RingHouseModel", "links", "I", false) ∧ (zfl 69 o)[96]? = some (0, 6896, 0, 0) := fun o _ => ⟨zFw.o zw_X67 (Nat.le_of_ble_eq_true rfl) rfl o, rfl⟩
theorem zp_6896 : 96 < (RX67, TX67, 130).2.2 ∧ (RX67, TX67, 130).2.1 96 = ("RingHouseModel", "links", "I", false) ∧ (∀ o : Nat, (zfl 69 o)[96]? = some (0, 6896, 0, 0)) ∧ parseFieldDescriptor "I" = some .int := ⟨Nat.le_of_ble_eq_true rfl, rfl, fun _ => rfl, by decide +kernel⟩
theorem zt_6896 : zty 6896 = 0 := rfl
theorem zo_6896 : zown 6896 = 69 := rfl
theorem zh_6897 {x y : Int} (hy : 1 * x + 0 = y) : ∀ o : Nat, (o : Int) = x → o < zcnt 69 → zFo 69 o 97 ("RingHouseModel", "linkSegment", "[J", true) ∧ ∃ a b : Int, (zfl 69 o)[97]? = some (1, 6897, a, b) ∧ a * x + b = y := fun o _ _ => ⟨zFw.o zw_X67 (Nat.le_of_ble_eq_true rfl) rfl o, _, _, rfl, hy⟩
theorem zh_6898 {x y : Int} (hy : 1 * x + 0 = y) : ∀ o : Nat, (o : Int) = x → o < zcnt 69 → zFo 69 o 98 ("RingHouseModel", "linkName", "[J", true) ∧ ∃ a b : Int, (zfl 69 o)[98]? = some (1, 6898, a, b) ∧ a * x + b = y := fun o _ _ => ⟨zFw.o zw_X67 (Nat.le_of_ble_eq_true rfl) rfl o, _, _, rfl, hy⟩
theorem zg_6899 (x : Int) : ∀ o : Nat, (o : Int) = x → zFo 69 o 99 ("RingHouseModel", "definitions", "I", false) ∧ (zfl 69 o)[99]? = some (0, 6899, 0, 0) := fun o _ => ⟨zFw.o zw_X67 (Nat.le_of_ble_eq_true rfl) rfl o, rfl⟩
theorem zp_6899 : 99 < (RX67, TX67, 130).2.2 ∧ (RX67, TX67, 130).2.1 99 = ("RingHouseModel", "definitions", "I", false) ∧ (∀ o : Nat, (zfl 69 o)[99]? = some (0, 6899, 0, 0)) ∧ parseFieldDescriptor "I" = some .int := ⟨Nat.le_of_ble_eq_true rfl, rfl, fun _ => rfl, by decide +kernel⟩
theorem zt_6899 : zty 6899 = 0 := rfl
theorem zo_6899 : zown 6899 = 69 := rfl
theorem zh_6900 {x y : Int} (hy : 1 * x + 0 = y) : ∀ o : Nat, (o : Int) = x → o < zcnt 69 → zFo 69 o 100 ("RingHouseModel", "definitionName", "[J", true) ∧ ∃ a b : Int, (zfl 69 o)[100]? = some (1, 6900, a, b) ∧ a * x + b = y := fun o _ _ => ⟨zFw.o zw_X67 (Nat.le_of_ble_eq_true rfl) rfl o, _, _, rfl, hy⟩
theorem zh_6901 {x y : Int} (hy : 1 * x + 0 = y) : ∀ o : Nat, (o : Int) = x → o < zcnt 69 → zFo 69 o 101 ("RingHouseModel", "definitionPlace0", "[I", true) ∧ ∃ a b : Int, (zfl 69 o)[101]? = some (1, 6901, a, b) ∧ a * x + b = y := fun o _ _ => ⟨zFw.o zw_X67 (Nat.le_of_ble_eq_true rfl) rfl o, _, _, rfl, hy⟩
theorem zg_6902 (x : Int) : ∀ o : Nat, (o : Int) = x → zFo 69 o 102 ("RingHouseModel", "assembled", "I", false) ∧ (zfl 69 o)[102]? = some (0, 6902, 0, 0) := fun o _ => ⟨zFw.o zw_X67 (Nat.le_of_ble_eq_true rfl) rfl o, rfl⟩
theorem zp_6902 : 102 < (RX67, TX67, 130).2.2 ∧ (RX67, TX67, 130).2.1 102 = ("RingHouseModel", "assembled", "I", false) ∧ (∀ o : Nat, (zfl 69 o)[102]? = some (0, 6902, 0, 0)) ∧ parseFieldDescriptor "I" = some .int := ⟨Nat.le_of_ble_eq_true rfl, rfl, fun _ => rfl, by decide +kernel⟩
theorem zt_6902 : zty 6902 = 0 := rfl
theorem zo_6902 : zown 6902 = 69 := rfl
theorem zg_6903 (x : Int) : ∀ o : Nat, (o : Int) = x → zFo 69 o 103 ("RingHouseModel", "again", "Z", false) ∧ (zfl 69 o)[103]? = some (0, 6903, 0, 0) := fun o _ => ⟨zFw.o zw_X67 (Nat.le_of_ble_eq_true rfl) rfl o, rfl⟩
theorem zp_6903 : 103 < (RX67, TX67, 130).2.2 ∧ (RX67, TX67, 130).2.1 103 = ("RingHouseModel", "again", "Z", false) ∧ (∀ o : Nat, (zfl 69 o)[103]? = some (0, 6903, 0, 0)) ∧ parseFieldDescriptor "Z" = some .boolean := ⟨Nat.le_of_ble_eq_true rfl, rfl, fun _ => rfl, by decide +kernel⟩
theorem zt_6903 : zty 6903 = 0 := rfl
theorem zo_6903 : zown 6903 = 69 := rfl
theorem zg_6904 (x : Int) : ∀ o : Nat, (o : Int) = x → zFo 69 o 104 ("RingHouseModel", "result", "J", false) ∧ (zfl 69 o)[104]? = some (0, 6904, 0, 0) := fun o _ => ⟨zFw.o zw_X67 (Nat.le_of_ble_eq_true rfl) rfl o, rfl⟩
theorem zp_6904 : 104 < (RX67, TX67, 130).2.2 ∧ (RX67, TX67, 130).2.1 104 = ("RingHouseModel", "result", "J", false) ∧ (∀ o : Nat, (zfl 69 o)[104]? = some (0, 6904, 0, 0)) ∧ parseFieldDescriptor "J" = some .long := ⟨Nat.le_of_ble_eq_true rfl, rfl, fun _ => rfl, by decide +kernel⟩
theorem zt_6904 : zty 6904 = 1 := rfl
theorem zo_6904 : zown 6904 = 69 := rfl
theorem zg_6905 (x : Int) : ∀ o : Nat, (o : Int) = x → zFo 69 o 105 ("RingHouseModel", "lateFault", "I", false) ∧ (zfl 69 o)[105]? = some (0, 6905, 0, 0) := fun o _ => ⟨zFw.o zw_X67 (Nat.le_of_ble_eq_true rfl) rfl o, rfl⟩
theorem zp_6905 : 105 < (RX67, TX67, 130).2.2 ∧ (RX67, TX67, 130).2.1 105 = ("RingHouseModel", "lateFault", "I", false) ∧ (∀ o : Nat, (zfl 69 o)[105]? = some (0, 6905, 0, 0)) ∧ parseFieldDescriptor "I" = some .int := ⟨Nat.le_of_ble_eq_true rfl, rfl, fun _ => rfl, by decide +kernel⟩
theorem zt_6905 : zty 6905 = 0 := rfl
theorem zo_6905 : zown 6905 = 69 := rfl
theorem zg_6906 (x : Int) : ∀ o : Nat, (o : Int) = x → zFo 69 o 106 ("RingHouseModel", "latePlace", "I", false) ∧ (zfl 69 o)[106]? = some (0, 6906, 0, 0) := fun o _ => ⟨zFw.o zw_X67 (Nat.le_of_ble_eq_true rfl) rfl o, rfl⟩
theorem zp_6906 : 106 < (RX67, TX67, 130).2.2 ∧ (RX67, TX67, 130).2.1 106 = ("RingHouseModel", "latePlace", "I", false) ∧ (∀ o : Nat, (zfl 69 o)[106]? = some (0, 6906, 0, 0)) ∧ parseFieldDescriptor "I" = some .int := ⟨Nat.le_of_ble_eq_true rfl, rfl, fun _ => rfl, by decide +kernel⟩
theorem zt_6906 : zty 6906 = 0 := rfl
theorem zo_6906 : zown 6906 = 69 := rfl
theorem zh_6907 {x y : Int} (hy : 1 * x + 0 = y) : ∀ o : Nat, (o : Int) = x → o < zcnt 69 → zFo 69 o 107 ("RingHouseModel", "program", "[J", true) ∧ ∃ a b : Int, (zfl 69 o)[107]? = some (1, 6907, a, b) ∧ a * x + b = y := fun o _ _ => ⟨zFw.o zw_X67 (Nat.le_of_ble_eq_true rfl) rfl o, _, _, rfl, hy⟩
theorem zh_6908 {x y : Int} (hy : 1 * x + 0 = y) : ∀ o : Nat, (o : Int) = x → o < zcnt 69 → zFo 69 o 108 ("RingHouseModel", "operations", "[J", true) ∧ ∃ a b : Int, (zfl 69 o)[108]? = some (1, 6908, a, b) ∧ a * x + b = y := fun o _ _ => ⟨zFw.o zw_X67 (Nat.le_of_ble_eq_true rfl) rfl o, _, _, rfl, hy⟩
theorem zh_6909 {x y : Int} (hy : 1 * x + 0 = y) : ∀ o : Nat, (o : Int) = x → o < zcnt 69 → zFo 69 o 109 ("RingHouseModel", "points", "[J", true) ∧ ∃ a b : Int, (zfl 69 o)[109]? = some (1, 6909, a, b) ∧ a * x + b = y := fun o _ _ => ⟨zFw.o zw_X67 (Nat.le_of_ble_eq_true rfl) rfl o, _, _, rfl, hy⟩
theorem zg_6910 (x : Int) : ∀ o : Nat, (o : Int) = x → zFo 69 o 110 ("RingHouseModel", "told", "I", false) ∧ (zfl 69 o)[110]? = some (0, 6910, 0, 0) := fun o _ => ⟨zFw.o zw_X67 (Nat.le_of_ble_eq_true rfl) rfl o, rfl⟩
theorem zp_6910 : 110 < (RX67, TX67, 130).2.2 ∧ (RX67, TX67, 130).2.1 110 = ("RingHouseModel", "told", "I", false) ∧ (∀ o : Nat, (zfl 69 o)[110]? = some (0, 6910, 0, 0)) ∧ parseFieldDescriptor "I" = some .int := ⟨Nat.le_of_ble_eq_true rfl, rfl, fun _ => rfl, by decide +kernel⟩
theorem zt_6910 : zty 6910 = 0 := rfl
theorem zo_6910 : zown 6910 = 69 := rfl
theorem zg_6911 (x : Int) : ∀ o : Nat, (o : Int) = x → zFo 69 o 111 ("RingHouseModel", "toldN", "I", false) ∧ (zfl 69 o)[111]? = some (0, 6911, 0, 0) := fun o _ => ⟨zFw.o zw_X67 (Nat.le_of_ble_eq_true rfl) rfl o, rfl⟩
theorem zp_6911 : 111 < (RX67, TX67, 130).2.2 ∧ (RX67, TX67, 130).2.1 111 = ("RingHouseModel", "toldN", "I", false) ∧ (∀ o : Nat, (zfl 69 o)[111]? = some (0, 6911, 0, 0)) ∧ parseFieldDescriptor "I" = some .int := ⟨Nat.le_of_ble_eq_true rfl, rfl, fun _ => rfl, by decide +kernel⟩
theorem zt_6911 : zty 6911 = 0 := rfl
theorem zo_6911 : zown 6911 = 69 := rfl
theorem zg_6912 (x : Int) : ∀ o : Nat, (o : Int) = x → zFo 69 o 112 ("RingHouseModel", "at", "I", false) ∧ (zfl 69 o)[112]? = some (0, 6912, 0, 0) := fun o _ => ⟨zFw.o zw_X67 (Nat.le_of_ble_eq_true rfl) rfl o, rfl⟩
theorem zp_6912 : 112 < (RX67, TX67, 130).2.2 ∧ (RX67, TX67, 130).2.1 112 = ("RingHouseModel", "at", "I", false) ∧ (∀ o : Nat, (zfl 69 o)[112]? = some (0, 6912, 0, 0)) ∧ parseFieldDescriptor "I" = some .int := ⟨Nat.le_of_ble_eq_true rfl, rfl, fun _ => rfl, by decide +kernel⟩
theorem zt_6912 : zty 6912 = 0 := rfl
theorem zo_6912 : zown 6912 = 69 := rfl
theorem zg_6913 (x : Int) : ∀ o : Nat, (o : Int) = x → zFo 69 o 113 ("RingHouseModel", "tapeFault", "I", false) ∧ (zfl 69 o)[113]? = some (0, 6913, 0, 0) := fun o _ => ⟨zFw.o zw_X67 (Nat.le_of_ble_eq_true rfl) rfl o, rfl⟩
theorem zp_6913 : 113 < (RX67, TX67, 130).2.2 ∧ (RX67, TX67, 130).2.1 113 = ("RingHouseModel", "tapeFault", "I", false) ∧ (∀ o : Nat, (zfl 69 o)[113]? = some (0, 6913, 0, 0)) ∧ parseFieldDescriptor "I" = some .int := ⟨Nat.le_of_ble_eq_true rfl, rfl, fun _ => rfl, by decide +kernel⟩
theorem zt_6913 : zty 6913 = 0 := rfl
theorem zo_6913 : zown 6913 = 69 := rfl
theorem zg_6914 (x : Int) : ∀ o : Nat, (o : Int) = x → zFo 69 o 114 ("RingHouseModel", "tapePlace", "I", false) ∧ (zfl 69 o)[114]? = some (0, 6914, 0, 0) := fun o _ => ⟨zFw.o zw_X67 (Nat.le_of_ble_eq_true rfl) rfl o, rfl⟩
theorem zp_6914 : 114 < (RX67, TX67, 130).2.2 ∧ (RX67, TX67, 130).2.1 114 = ("RingHouseModel", "tapePlace", "I", false) ∧ (∀ o : Nat, (zfl 69 o)[114]? = some (0, 6914, 0, 0)) ∧ parseFieldDescriptor "I" = some .int := ⟨Nat.le_of_ble_eq_true rfl, rfl, fun _ => rfl, by decide +kernel⟩
theorem zt_6914 : zty 6914 = 0 := rfl
theorem zo_6914 : zown 6914 = 69 := rfl
theorem zg_6915 (x : Int) : ∀ o : Nat, (o : Int) = x → zFo 69 o 115 ("RingHouseModel", "check", "I", false) ∧ (zfl 69 o)[115]? = some (0, 6915, 0, 0) := fun o _ => ⟨zFw.o zw_X67 (Nat.le_of_ble_eq_true rfl) rfl o, rfl⟩
theorem zp_6915 : 115 < (RX67, TX67, 130).2.2 ∧ (RX67, TX67, 130).2.1 115 = ("RingHouseModel", "check", "I", false) ∧ (∀ o : Nat, (zfl 69 o)[115]? = some (0, 6915, 0, 0)) ∧ parseFieldDescriptor "I" = some .int := ⟨Nat.le_of_ble_eq_true rfl, rfl, fun _ => rfl, by decide +kernel⟩
theorem zt_6915 : zty 6915 = 0 := rfl
theorem zo_6915 : zown 6915 = 69 := rfl
theorem zg_6916 (x : Int) : ∀ o : Nat, (o : Int) = x → zFo 69 o 116 ("RingHouseModel", "reads", "I", false) ∧ (zfl 69 o)[116]? = some (0, 6916, 0, 0) := fun o _ => ⟨zFw.o zw_X67 (Nat.le_of_ble_eq_true rfl) rfl o, rfl⟩
theorem zp_6916 : 116 < (RX67, TX67, 130).2.2 ∧ (RX67, TX67, 130).2.1 116 = ("RingHouseModel", "reads", "I", false) ∧ (∀ o : Nat, (zfl 69 o)[116]? = some (0, 6916, 0, 0)) ∧ parseFieldDescriptor "I" = some .int := ⟨Nat.le_of_ble_eq_true rfl, rfl, fun _ => rfl, by decide +kernel⟩
theorem zt_6916 : zty 6916 = 0 := rfl
theorem zo_6916 : zown 6916 = 69 := rfl
theorem zh_6917 {x y : Int} (hy : 1 * x + 0 = y) : ∀ o : Nat, (o : Int) = x → o < zcnt 69 → zFo 69 o 117 ("RingHouseModel", "readUp", "[I", true) ∧ ∃ a b : Int, (zfl 69 o)[117]? = some (1, 6917, a, b) ∧ a * x + b = y := fun o _ _ => ⟨zFw.o zw_X67 (Nat.le_of_ble_eq_true rfl) rfl o, _, _, rfl, hy⟩
theorem zh_6918 {x y : Int} (hy : 1 * x + 0 = y) : ∀ o : Nat, (o : Int) = x → o < zcnt 69 → zFo 69 o 118 ("RingHouseModel", "readKind", "[I", true) ∧ ∃ a b : Int, (zfl 69 o)[118]? = some (1, 6918, a, b) ∧ a * x + b = y := fun o _ _ => ⟨zFw.o zw_X67 (Nat.le_of_ble_eq_true rfl) rfl o, _, _, rfl, hy⟩
theorem zh_6919 {x y : Int} (hy : 1 * x + 0 = y) : ∀ o : Nat, (o : Int) = x → o < zcnt 69 → zFo 69 o 119 ("RingHouseModel", "readName", "[J", true) ∧ ∃ a b : Int, (zfl 69 o)[119]? = some (1, 6919, a, b) ∧ a * x + b = y := fun o _ _ => ⟨zFw.o zw_X67 (Nat.le_of_ble_eq_true rfl) rfl o, _, _, rfl, hy⟩
theorem zh_6920 {x y : Int} (hy : 1 * x + 0 = y) : ∀ o : Nat, (o : Int) = x → o < zcnt 69 → zFo 69 o 120 ("RingHouseModel", "readLabel", "[I", true) ∧ ∃ a b : Int, (zfl 69 o)[120]? = some (1, 6920, a, b) ∧ a * x + b = y := fun o _ _ => ⟨zFw.o zw_X67 (Nat.le_of_ble_eq_true rfl) rfl o, _, _, rfl, hy⟩
theorem zh_6921 {x y : Int} (hy : 1 * x + 0 = y) : ∀ o : Nat, (o : Int) = x → o < zcnt 69 → zFo 69 o 121 ("RingHouseModel", "readLimit", "[I", true) ∧ ∃ a b : Int, (zfl 69 o)[121]? = some (1, 6921, a, b) ∧ a * x + b = y := fun o _ _ => ⟨zFw.o zw_X67 (Nat.le_of_ble_eq_true rfl) rfl o, _, _, rfl, hy⟩
theorem zh_6922 {x y : Int} (hy : 1 * x + 0 = y) : ∀ o : Nat, (o : Int) = x → o < zcnt 69 → zFo 69 o 122 ("RingHouseModel", "readUsed", "[J", true) ∧ ∃ a b : Int, (zfl 69 o)[122]? = some (1, 6922, a, b) ∧ a * x + b = y := fun o _ _ => ⟨zFw.o zw_X67 (Nat.le_of_ble_eq_true rfl) rfl o, _, _, rfl, hy⟩
theorem zh_6923 {x y : Int} (hy : 1 * x + 0 = y) : ∀ o : Nat, (o : Int) = x → o < zcnt 69 → zFo 69 o 123 ("RingHouseModel", "readLeft", "[I", true) ∧ ∃ a b : Int, (zfl 69 o)[123]? = some (1, 6923, a, b) ∧ a * x + b = y := fun o _ _ => ⟨zFw.o zw_X67 (Nat.le_of_ble_eq_true rfl) rfl o, _, _, rfl, hy⟩
theorem zh_6924 {x y : Int} (hy : 1 * x + 0 = y) : ∀ o : Nat, (o : Int) = x → o < zcnt 69 → zFo 69 o 124 ("RingHouseModel", "readNode", "[I", true) ∧ ∃ a b : Int, (zfl 69 o)[124]? = some (1, 6924, a, b) ∧ a * x + b = y := fun o _ _ => ⟨zFw.o zw_X67 (Nat.le_of_ble_eq_true rfl) rfl o, _, _, rfl, hy⟩
theorem zg_6925 (x : Int) : ∀ o : Nat, (o : Int) = x → zFo 69 o 125 ("RingHouseModel", "makes", "Z", false) ∧ (zfl 69 o)[125]? = some (0, 6925, 0, 0) := fun o _ => ⟨zFw.o zw_X67 (Nat.le_of_ble_eq_true rfl) rfl o, rfl⟩
theorem zp_6925 : 125 < (RX67, TX67, 130).2.2 ∧ (RX67, TX67, 130).2.1 125 = ("RingHouseModel", "makes", "Z", false) ∧ (∀ o : Nat, (zfl 69 o)[125]? = some (0, 6925, 0, 0)) ∧ parseFieldDescriptor "Z" = some .boolean := ⟨Nat.le_of_ble_eq_true rfl, rfl, fun _ => rfl, by decide +kernel⟩
theorem zt_6925 : zty 6925 = 0 := rfl
theorem zo_6925 : zown 6925 = 69 := rfl
theorem zg_6926 (x : Int) : ∀ o : Nat, (o : Int) = x → zFo 69 o 126 ("RingHouseModel", "into", "I", false) ∧ (zfl 69 o)[126]? = some (0, 6926, 0, 0) := fun o _ => ⟨zFw.o zw_X67 (Nat.le_of_ble_eq_true rfl) rfl o, rfl⟩
theorem zp_6926 : 126 < (RX67, TX67, 130).2.2 ∧ (RX67, TX67, 130).2.1 126 = ("RingHouseModel", "into", "I", false) ∧ (∀ o : Nat, (zfl 69 o)[126]? = some (0, 6926, 0, 0)) ∧ parseFieldDescriptor "I" = some .int := ⟨Nat.le_of_ble_eq_true rfl, rfl, fun _ => rfl, by decide +kernel⟩
theorem zt_6926 : zty 6926 = 0 := rfl
theorem zo_6926 : zown 6926 = 69 := rfl
theorem zg_6927 (x : Int) : ∀ o : Nat, (o : Int) = x → zFo 69 o 127 ("RingHouseModel", "intoUsed", "J", false) ∧ (zfl 69 o)[127]? = some (0, 6927, 0, 0) := fun o _ => ⟨zFw.o zw_X67 (Nat.le_of_ble_eq_true rfl) rfl o, rfl⟩
theorem zp_6927 : 127 < (RX67, TX67, 130).2.2 ∧ (RX67, TX67, 130).2.1 127 = ("RingHouseModel", "intoUsed", "J", false) ∧ (∀ o : Nat, (zfl 69 o)[127]? = some (0, 6927, 0, 0)) ∧ parseFieldDescriptor "J" = some .long := ⟨Nat.le_of_ble_eq_true rfl, rfl, fun _ => rfl, by decide +kernel⟩
theorem zt_6927 : zty 6927 = 1 := rfl
theorem zo_6927 : zown 6927 = 69 := rfl
theorem zh_6928 {x y : Int} (hy : 1 * x + 0 = y) : ∀ o : Nat, (o : Int) = x → o < zcnt 69 → zFo 69 o 128 ("RingHouseModel", "byLabel", "[I", true) ∧ ∃ a b : Int, (zfl 69 o)[128]? = some (1, 6928, a, b) ∧ a * x + b = y := fun o _ _ => ⟨zFw.o zw_X67 (Nat.le_of_ble_eq_true rfl) rfl o, _, _, rfl, hy⟩
theorem zh_6929 {x y : Int} (hy : 1 * x + 0 = y) : ∀ o : Nat, (o : Int) = x → o < zcnt 69 → zFo 69 o 129 ("RingHouseModel", "seen", "[I", true) ∧ ∃ a b : Int, (zfl 69 o)[129]? = some (1, 6929, a, b) ∧ a * x + b = y := fun o _ _ => ⟨zFw.o zw_X67 (Nat.le_of_ble_eq_true rfl) rfl o, _, _, rfl, hy⟩
theorem za_101 : zar 101 = some (1, 0, 0, 8) := rfl
theorem zx_101 : zARt[0]? = some (101, .object "RingHouse$Process") := rfl
theorem zt_101 : zty 101 = 10 := rfl
theorem zo_101 : zown 101 = 101 := rfl
theorem za_107 : zar 107 = some (0, 0, 0, 16) := rfl
theorem zx_107 : zARt[1]? = some (107, .int) := rfl
theorem zt_107 : zty 107 = 0 := rfl
theorem zo_107 : zown 107 = 107 := rfl
theorem za_200 : zar 200 = some (1, 0, 0, 256) := rfl
theorem zx_200 : zARt[2]? = some (200, .object "RingHouse$Node") := rfl
theorem zt_200 : zty 200 = 6 := rfl
theorem zo_200 : zown 200 = 200 := rfl
theorem za_203 : zar 203 = some (0, 0, 0, 15) := rfl
theorem zx_203 : zARt[3]? = some (203, .object "RingHouse$Box") := rfl
theorem zt_203 : zty 203 = 8 := rfl
theorem zo_203 : zown 203 = 203 := rfl
theorem za_300 : zar 300 = some (0, 0, 0, 256) := rfl
theorem zx_300 : zARt[4]? = some (300, .object "RingHouse$Node") := rfl
theorem zt_300 : zty 300 = 6 := rfl
theorem zo_300 : zown 300 = 300 := rfl
theorem za_400 : zar 400 = some (0, 0, 0, 16320) := rfl
theorem zx_400 : zARt[5]? = some (400, .long) := rfl
theorem zt_400 : zty 400 = 1 := rfl
theorem zo_400 : zown 400 = 400 := rfl
theorem za_401 : zar 401 = some (0, 0, 0, 255) := rfl
theorem zx_401 : zARt[6]? = some (401, .int) := rfl
theorem zt_401 : zty 401 = 0 := rfl
theorem zo_401 : zown 401 = 401 := rfl
theorem za_523 : zar 523 = some (0, 0, 0, 16) := rfl
theorem zx_523 : zARt[7]? = some (523, .int) := rfl
theorem zt_523 : zty 523 = 0 := rfl
theorem zo_523 : zown 523 = 523 := rfl
theorem za_600 : zar 600 = some (0, 0, 0, 0) := rfl
theorem zx_600 : zARt[8]? = some (600, .int) := rfl
theorem zt_600 : zty 600 = 0 := rfl
theorem zo_600 : zown 600 = 600 := rfl
theorem za_601 : zar 601 = some (0, 0, 0, 0) := rfl
theorem zx_601 : zARt[9]? = some (601, .int) := rfl
theorem zt_601 : zty 601 = 0 := rfl
theorem zo_601 : zown 601 = 601 := rfl
theorem za_700 : zar 700 = some (0, 0, 0, 128) := rfl
theorem zx_700 : zARt[10]? = some (700, .long) := rfl
theorem zt_700 : zty 700 = 1 := rfl
theorem zo_700 : zown 700 = 700 := rfl
theorem za_701 : zar 701 = some (0, 0, 0, 128) := rfl
theorem zx_701 : zARt[11]? = some (701, .int) := rfl
theorem zt_701 : zty 701 = 0 := rfl
theorem zo_701 : zown 701 = 701 := rfl
theorem za_909 : zar 909 = some (1, 4, 8, 4) := rfl
theorem zx_909 : zARt[12]? = some (909, .object "RingHouse$Registers") := rfl
theorem zt_909 : zty 909 = 11 := rfl
theorem zo_909 : zown 909 = 909 := rfl
theorem za_915 : zar 915 = some (0, 0, 0, 512) := rfl
theorem zx_915 : zARt[13]? = some (915, .long) := rfl
theorem zt_915 : zty 915 = 1 := rfl
theorem zo_915 : zown 915 = 915 := rfl
theorem za_916 : zar 916 = some (0, 0, 0, 32) := rfl
theorem zx_916 : zARt[14]? = some (916, .object "RingHouse$Node") := rfl
theorem zt_916 : zty 916 = 6 := rfl
theorem zo_916 : zown 916 = 916 := rfl
theorem za_917 : zar 917 = some (1, 32, 0, 32) := rfl
theorem zx_917 : zARt[15]? = some (917, .object "RingHouse$Rights") := rfl
theorem zt_917 : zty 917 = 13 := rfl
theorem zo_917 : zown 917 = 917 := rfl
theorem za_918 : zar 918 = some (0, 0, 0, 512) := rfl
theorem zx_918 : zARt[16]? = some (918, .int) := rfl
theorem zt_918 : zty 918 = 0 := rfl
theorem zo_918 : zown 918 = 918 := rfl
theorem za_919 : zar 919 = some (0, 0, 0, 512) := rfl
theorem zx_919 : zARt[17]? = some (919, .int) := rfl
theorem zt_919 : zty 919 = 0 := rfl
theorem zo_919 : zown 919 = 919 := rfl
theorem za_921 : zar 921 = some (0, 0, 0, 4) := rfl
theorem zx_921 : zARt[18]? = some (921, .object "RingHouse$Node") := rfl
theorem zt_921 : zty 921 = 6 := rfl
theorem zo_921 : zown 921 = 921 := rfl
theorem za_922 : zar 922 = some (0, 0, 0, 8) := rfl
theorem zx_922 : zARt[19]? = some (922, .long) := rfl
theorem zt_922 : zty 922 = 1 := rfl
theorem zo_922 : zown 922 = 922 := rfl
theorem za_1002 : zar 1002 = some (0, 0, 0, 4) := rfl
theorem zx_1002 : zARt[20]? = some (1002, .int) := rfl
theorem zt_1002 : zty 1002 = 0 := rfl
theorem zo_1002 : zown 1002 = 1002 := rfl
theorem za_1003 : zar 1003 = some (0, 0, 0, 8) := rfl
theorem zx_1003 : zARt[21]? = some (1003, .int) := rfl
theorem zt_1003 : zty 1003 = 0 := rfl
theorem zo_1003 : zown 1003 = 1003 := rfl
theorem za_1004 : zar 1004 = some (0, 0, 0, 8) := rfl
theorem zx_1004 : zARt[22]? = some (1004, .int) := rfl
theorem zt_1004 : zty 1004 = 0 := rfl
theorem zo_1004 : zown 1004 = 1004 := rfl
theorem za_1005 : zar 1005 = some (0, 0, 0, 8) := rfl
theorem zx_1005 : zARt[23]? = some (1005, .int) := rfl
theorem zt_1005 : zty 1005 = 0 := rfl
theorem zo_1005 : zown 1005 = 1005 := rfl
theorem za_1100 : zar 1100 = some (0, 0, 0, 256) := rfl
theorem zx_1100 : zARt[24]? = some (1100, .long) := rfl
theorem zt_1100 : zty 1100 = 1 := rfl
theorem zo_1100 : zown 1100 = 1100 := rfl
theorem za_1302 : zar 1302 = some (1, 0, 0, 38) := rfl
theorem zx_1302 : zARt[25]? = some (1302, .object "RingHouse$Operation") := rfl
theorem zt_1302 : zty 1302 = 16 := rfl
theorem zo_1302 : zown 1302 = 1302 := rfl
theorem za_1303 : zar 1303 = some (1, 0, 0, 29) := rfl
theorem zx_1303 : zARt[26]? = some (1303, .object "RingHouse$Service") := rfl
theorem zt_1303 : zty 1303 = 38 := rfl
theorem zo_1303 : zown 1303 = 1303 := rfl
theorem za_1304 : zar 1304 = some (1, 0, 0, 512) := rfl
theorem zx_1304 : zARt[27]? = some (1304, .object "RingHouse$Decoded") := rfl
theorem zt_1304 : zty 1304 = 9 := rfl
theorem zo_1304 : zown 1304 = 1304 := rfl
theorem za_1400 : zar 1400 = some (0, 0, 0, 256) := rfl
theorem zx_1400 : zARt[28]? = some (1400, .int) := rfl
theorem zt_1400 : zty 1400 = 0 := rfl
theorem zo_1400 : zown 1400 = 1400 := rfl
theorem za_6502 : zar 6502 = some (0, 0, 0, 4096) := rfl
theorem zx_6502 : zARt[29]? = some (6502, .int) := rfl
theorem zt_6502 : zty 6502 = 0 := rfl
theorem zo_6502 : zown 6502 = 6502 := rfl
theorem za_6510 : zar 6510 = some (0, 0, 0, 64) := rfl
theorem zx_6510 : zARt[30]? = some (6510, .long) := rfl
theorem zt_6510 : zty 6510 = 1 := rfl
theorem zo_6510 : zown 6510 = 6510 := rfl
theorem za_6511 : zar 6511 = some (0, 0, 0, 64) := rfl
theorem zx_6511 : zARt[31]? = some (6511, .int) := rfl
theorem zt_6511 : zty 6511 = 0 := rfl
theorem zo_6511 : zown 6511 = 6511 := rfl
theorem za_6513 : zar 6513 = some (0, 0, 0, 16) := rfl
theorem zx_6513 : zARt[32]? = some (6513, .long) := rfl
theorem zt_6513 : zty 6513 = 1 := rfl
theorem zo_6513 : zown 6513 = 6513 := rfl
theorem za_6514 : zar 6514 = some (0, 0, 0, 16) := rfl
theorem zx_6514 : zARt[33]? = some (6514, .long) := rfl
theorem zt_6514 : zty 6514 = 1 := rfl
theorem zo_6514 : zown 6514 = 6514 := rfl
theorem za_6516 : zar 6516 = some (0, 0, 0, 32) := rfl
theorem zx_6516 : zARt[34]? = some (6516, .int) := rfl
theorem zt_6516 : zty 6516 = 0 := rfl
theorem zo_6516 : zown 6516 = 6516 := rfl
theorem za_6517 : zar 6517 = some (0, 0, 0, 32) := rfl
theorem zx_6517 : zARt[35]? = some (6517, .long) := rfl
theorem zt_6517 : zty 6517 = 1 := rfl
theorem zo_6517 : zown 6517 = 6517 := rfl
theorem za_6521 : zar 6521 = some (0, 0, 0, 1024) := rfl
theorem zx_6521 : zARt[36]? = some (6521, .long) := rfl
theorem zt_6521 : zty 6521 = 1 := rfl
theorem zo_6521 : zown 6521 = 6521 := rfl
theorem za_6601 : zar 6601 = some (0, 0, 0, 98304) := rfl
theorem zx_6601 : zARt[37]? = some (6601, .byte) := rfl
theorem zt_6601 : zty 6601 = 0 := rfl
theorem zo_6601 : zown 6601 = 6601 := rfl
theorem za_6606 : zar 6606 = some (0, 0, 0, 7600) := rfl
theorem zx_6606 : zARt[38]? = some (6606, .int) := rfl
theorem zt_6606 : zty 6606 = 0 := rfl
theorem zo_6606 : zown 6606 = 6606 := rfl
theorem za_6607 : zar 6607 = some (0, 0, 0, 7600) := rfl
theorem zx_6607 : zARt[39]? = some (6607, .int) := rfl
theorem zt_6607 : zty 6607 = 0 := rfl
theorem zo_6607 : zown 6607 = 6607 := rfl
theorem za_6608 : zar 6608 = some (0, 0, 0, 7600) := rfl
theorem zx_6608 : zARt[40]? = some (6608, .int) := rfl
theorem zt_6608 : zty 6608 = 0 := rfl
theorem zo_6608 : zown 6608 = 6608 := rfl
theorem za_6609 : zar 6609 = some (0, 0, 0, 7600) := rfl
theorem zx_6609 : zARt[41]? = some (6609, .int) := rfl
theorem zt_6609 : zty 6609 = 0 := rfl
theorem zo_6609 : zown 6609 = 6609 := rfl
theorem za_6610 : zar 6610 = some (0, 0, 0, 7600) := rfl
theorem zx_6610 : zARt[42]? = some (6610, .int) := rfl
theorem zt_6610 : zty 6610 = 0 := rfl
theorem zo_6610 : zown 6610 = 6610 := rfl
theorem za_6611 : zar 6611 = some (0, 0, 0, 7600) := rfl
theorem zx_6611 : zARt[43]? = some (6611, .long) := rfl
theorem zt_6611 : zty 6611 = 1 := rfl
theorem zo_6611 : zown 6611 = 6611 := rfl
theorem za_6615 : zar 6615 = some (0, 0, 0, 6) := rfl
theorem zx_6615 : zARt[44]? = some (6615, .int) := rfl
theorem zt_6615 : zty 6615 = 0 := rfl
theorem zo_6615 : zown 6615 = 6615 := rfl
theorem za_6616 : zar 6616 = some (0, 0, 0, 32) := rfl
theorem zx_6616 : zARt[45]? = some (6616, .int) := rfl
theorem zt_6616 : zty 6616 = 0 := rfl
theorem zo_6616 : zown 6616 = 6616 := rfl
theorem za_6701 : zar 6701 = some (0, 0, 0, 40) := rfl
theorem zx_6701 : zARt[46]? = some (6701, .char) := rfl
theorem zt_6701 : zty 6701 = 0 := rfl
theorem zo_6701 : zown 6701 = 6701 := rfl
theorem za_6800 : zar 6800 = some (0, 0, 0, 256) := rfl
theorem zx_6800 : zARt[47]? = some (6800, .int) := rfl
theorem zt_6800 : zty 6800 = 0 := rfl
theorem zo_6800 : zown 6800 = 6800 := rfl
theorem za_6801 : zar 6801 = some (0, 0, 0, 256) := rfl
theorem zx_6801 : zARt[48]? = some (6801, .long) := rfl
theorem zt_6801 : zty 6801 = 1 := rfl
theorem zo_6801 : zown 6801 = 6801 := rfl
theorem za_6802 : zar 6802 = some (0, 0, 0, 256) := rfl
theorem zx_6802 : zARt[49]? = some (6802, .int) := rfl
theorem zt_6802 : zty 6802 = 0 := rfl
theorem zo_6802 : zown 6802 = 6802 := rfl
theorem za_6803 : zar 6803 = some (0, 0, 0, 256) := rfl
theorem zx_6803 : zARt[50]? = some (6803, .int) := rfl
theorem zt_6803 : zty 6803 = 0 := rfl
theorem zo_6803 : zown 6803 = 6803 := rfl
theorem za_6804 : zar 6804 = some (0, 0, 0, 768) := rfl
theorem zx_6804 : zARt[51]? = some (6804, .int) := rfl
theorem zt_6804 : zty 6804 = 0 := rfl
theorem zo_6804 : zown 6804 = 6804 := rfl
theorem za_6805 : zar 6805 = some (0, 0, 0, 256) := rfl
theorem zx_6805 : zARt[52]? = some (6805, .int) := rfl
theorem zt_6805 : zty 6805 = 0 := rfl
theorem zo_6805 : zown 6805 = 6805 := rfl
theorem za_6806 : zar 6806 = some (0, 0, 0, 256) := rfl
theorem zx_6806 : zARt[53]? = some (6806, .int) := rfl
theorem zt_6806 : zty 6806 = 0 := rfl
theorem zo_6806 : zown 6806 = 6806 := rfl
theorem za_6807 : zar 6807 = some (0, 0, 0, 256) := rfl
theorem zx_6807 : zARt[54]? = some (6807, .int) := rfl
theorem zt_6807 : zty 6807 = 0 := rfl
theorem zo_6807 : zown 6807 = 6807 := rfl
theorem za_6808 : zar 6808 = some (0, 0, 0, 256) := rfl
theorem zx_6808 : zARt[55]? = some (6808, .int) := rfl
theorem zt_6808 : zty 6808 = 0 := rfl
theorem zo_6808 : zown 6808 = 6808 := rfl
theorem za_6809 : zar 6809 = some (0, 0, 0, 256) := rfl
theorem zx_6809 : zARt[56]? = some (6809, .int) := rfl
theorem zt_6809 : zty 6809 = 0 := rfl
theorem zo_6809 : zown 6809 = 6809 := rfl
theorem za_6810 : zar 6810 = some (0, 0, 0, 256) := rfl
theorem zx_6810 : zARt[57]? = some (6810, .long) := rfl
theorem zt_6810 : zty 6810 = 1 := rfl
theorem zo_6810 : zown 6810 = 6810 := rfl
theorem za_6812 : zar 6812 = some (0, 0, 0, 256) := rfl
theorem zx_6812 : zARt[58]? = some (6812, .int) := rfl
theorem zt_6812 : zty 6812 = 0 := rfl
theorem zo_6812 : zown 6812 = 6812 := rfl
theorem za_6813 : zar 6813 = some (0, 0, 0, 4608) := rfl
theorem zx_6813 : zARt[59]? = some (6813, .int) := rfl
theorem zt_6813 : zty 6813 = 0 := rfl
theorem zo_6813 : zown 6813 = 6813 := rfl
theorem za_6814 : zar 6814 = some (0, 0, 0, 512) := rfl
theorem zx_6814 : zARt[60]? = some (6814, .int) := rfl
theorem zt_6814 : zty 6814 = 0 := rfl
theorem zo_6814 : zown 6814 = 6814 := rfl
theorem za_6815 : zar 6815 = some (0, 0, 0, 4608) := rfl
theorem zx_6815 : zARt[61]? = some (6815, .int) := rfl
theorem zt_6815 : zty 6815 = 0 := rfl
theorem zo_6815 : zown 6815 = 6815 := rfl
theorem za_6816 : zar 6816 = some (0, 0, 0, 262144) := rfl
theorem zx_6816 : zARt[62]? = some (6816, .long) := rfl
theorem zt_6816 : zty 6816 = 1 := rfl
theorem zo_6816 : zown 6816 = 6816 := rfl
theorem za_6817 : zar 6817 = some (0, 0, 0, 256) := rfl
theorem zx_6817 : zARt[63]? = some (6817, .int) := rfl
theorem zt_6817 : zty 6817 = 0 := rfl
theorem zo_6817 : zown 6817 = 6817 := rfl
theorem za_6818 : zar 6818 = some (0, 0, 0, 32768) := rfl
theorem zx_6818 : zARt[64]? = some (6818, .long) := rfl
theorem zt_6818 : zty 6818 = 1 := rfl
theorem zo_6818 : zown 6818 = 6818 := rfl
theorem za_6819 : zar 6819 = some (0, 0, 0, 32768) := rfl
theorem zx_6819 : zARt[65]? = some (6819, .int) := rfl
theorem zt_6819 : zty 6819 = 0 := rfl
theorem zo_6819 : zown 6819 = 6819 := rfl
theorem za_6820 : zar 6820 = some (0, 0, 0, 8) := rfl
theorem zx_6820 : zARt[66]? = some (6820, .boolean) := rfl
theorem zt_6820 : zty 6820 = 0 := rfl
theorem zo_6820 : zown 6820 = 6820 := rfl
theorem za_6821 : zar 6821 = some (0, 0, 0, 8) := rfl
theorem zx_6821 : zARt[67]? = some (6821, .int) := rfl
theorem zt_6821 : zty 6821 = 0 := rfl
theorem zo_6821 : zown 6821 = 6821 := rfl
theorem za_6822 : zar 6822 = some (0, 0, 0, 8) := rfl
theorem zx_6822 : zARt[68]? = some (6822, .int) := rfl
theorem zt_6822 : zty 6822 = 0 := rfl
theorem zo_6822 : zown 6822 = 6822 := rfl
theorem za_6823 : zar 6823 = some (0, 0, 0, 8) := rfl
theorem zx_6823 : zARt[69]? = some (6823, .int) := rfl
theorem zt_6823 : zty 6823 = 0 := rfl
theorem zo_6823 : zown 6823 = 6823 := rfl
theorem za_6824 : zar 6824 = some (0, 0, 0, 8) := rfl
theorem zx_6824 : zARt[70]? = some (6824, .int) := rfl
theorem zt_6824 : zty 6824 = 0 := rfl
theorem zo_6824 : zown 6824 = 6824 := rfl
theorem za_6825 : zar 6825 = some (0, 0, 0, 8) := rfl
theorem zx_6825 : zARt[71]? = some (6825, .long) := rfl
theorem zt_6825 : zty 6825 = 1 := rfl
theorem zo_6825 : zown 6825 = 6825 := rfl
theorem za_6826 : zar 6826 = some (0, 0, 0, 8) := rfl
theorem zx_6826 : zARt[72]? = some (6826, .long) := rfl
theorem zt_6826 : zty 6826 = 1 := rfl
theorem zo_6826 : zown 6826 = 6826 := rfl
theorem za_6827 : zar 6827 = some (0, 0, 0, 32) := rfl
theorem zx_6827 : zARt[73]? = some (6827, .int) := rfl
theorem zt_6827 : zty 6827 = 0 := rfl
theorem zo_6827 : zown 6827 = 6827 := rfl
theorem za_6828 : zar 6828 = some (0, 0, 0, 64) := rfl
theorem zx_6828 : zARt[74]? = some (6828, .int) := rfl
theorem zt_6828 : zty 6828 = 0 := rfl
theorem zo_6828 : zown 6828 = 6828 := rfl
theorem za_6829 : zar 6829 = some (0, 0, 0, 64) := rfl
theorem zx_6829 : zARt[75]? = some (6829, .int) := rfl
theorem zt_6829 : zty 6829 = 0 := rfl
theorem zo_6829 : zown 6829 = 6829 := rfl
theorem za_6830 : zar 6830 = some (0, 0, 0, 64) := rfl
theorem zx_6830 : zARt[76]? = some (6830, .int) := rfl
theorem zt_6830 : zty 6830 = 0 := rfl
theorem zo_6830 : zown 6830 = 6830 := rfl
theorem za_6831 : zar 6831 = some (0, 0, 0, 8) := rfl
theorem zx_6831 : zARt[77]? = some (6831, .int) := rfl
theorem zt_6831 : zty 6831 = 0 := rfl
theorem zo_6831 : zown 6831 = 6831 := rfl
theorem za_6832 : zar 6832 = some (0, 0, 0, 8) := rfl
theorem zx_6832 : zARt[78]? = some (6832, .int) := rfl
theorem zt_6832 : zty 6832 = 0 := rfl
theorem zo_6832 : zown 6832 = 6832 := rfl
theorem za_6833 : zar 6833 = some (0, 0, 0, 8) := rfl
theorem zx_6833 : zARt[79]? = some (6833, .int) := rfl
theorem zt_6833 : zty 6833 = 0 := rfl
theorem zo_6833 : zown 6833 = 6833 := rfl
theorem za_6834 : zar 6834 = some (0, 0, 0, 8) := rfl
theorem zx_6834 : zARt[80]? = some (6834, .boolean) := rfl
theorem zt_6834 : zty 6834 = 0 := rfl
theorem zo_6834 : zown 6834 = 6834 := rfl
theorem za_6835 : zar 6835 = some (0, 0, 0, 8) := rfl
theorem zx_6835 : zARt[81]? = some (6835, .boolean) := rfl
theorem zt_6835 : zty 6835 = 0 := rfl
theorem zo_6835 : zown 6835 = 6835 := rfl
theorem za_6836 : zar 6836 = some (0, 0, 0, 8) := rfl
theorem zx_6836 : zARt[82]? = some (6836, .int) := rfl
theorem zt_6836 : zty 6836 = 0 := rfl
theorem zo_6836 : zown 6836 = 6836 := rfl
theorem za_6837 : zar 6837 = some (0, 0, 0, 4096) := rfl
theorem zx_6837 : zARt[83]? = some (6837, .long) := rfl
theorem zt_6837 : zty 6837 = 1 := rfl
theorem zo_6837 : zown 6837 = 6837 := rfl
theorem za_6838 : zar 6838 = some (0, 0, 0, 256) := rfl
theorem zx_6838 : zARt[84]? = some (6838, .int) := rfl
theorem zt_6838 : zty 6838 = 0 := rfl
theorem zo_6838 : zown 6838 = 6838 := rfl
theorem za_6839 : zar 6839 = some (0, 0, 0, 4096) := rfl
theorem zx_6839 : zARt[85]? = some (6839, .long) := rfl
theorem zt_6839 : zty 6839 = 1 := rfl
theorem zo_6839 : zown 6839 = 6839 := rfl
theorem za_6840 : zar 6840 = some (0, 0, 0, 8) := rfl
theorem zx_6840 : zARt[86]? = some (6840, .int) := rfl
theorem zt_6840 : zty 6840 = 0 := rfl
theorem zo_6840 : zown 6840 = 6840 := rfl
theorem za_6841 : zar 6841 = some (0, 0, 0, 32) := rfl
theorem zx_6841 : zARt[87]? = some (6841, .int) := rfl
theorem zt_6841 : zty 6841 = 0 := rfl
theorem zo_6841 : zown 6841 = 6841 := rfl
theorem za_6842 : zar 6842 = some (0, 0, 0, 8) := rfl
theorem zx_6842 : zARt[88]? = some (6842, .boolean) := rfl
theorem zt_6842 : zty 6842 = 0 := rfl
theorem zo_6842 : zown 6842 = 6842 := rfl
theorem za_6843 : zar 6843 = some (0, 0, 0, 8) := rfl
theorem zx_6843 : zARt[89]? = some (6843, .int) := rfl
theorem zt_6843 : zty 6843 = 0 := rfl
theorem zo_6843 : zown 6843 = 6843 := rfl
theorem za_6844 : zar 6844 = some (0, 0, 0, 8) := rfl
theorem zx_6844 : zARt[90]? = some (6844, .int) := rfl
theorem zt_6844 : zty 6844 = 0 := rfl
theorem zo_6844 : zown 6844 = 6844 := rfl
theorem za_6845 : zar 6845 = some (0, 0, 0, 8) := rfl
theorem zx_6845 : zARt[91]? = some (6845, .int) := rfl
theorem zt_6845 : zty 6845 = 0 := rfl
theorem zo_6845 : zown 6845 = 6845 := rfl
theorem za_6846 : zar 6846 = some (0, 0, 0, 8) := rfl
theorem zx_6846 : zARt[92]? = some (6846, .int) := rfl
theorem zt_6846 : zty 6846 = 0 := rfl
theorem zo_6846 : zown 6846 = 6846 := rfl
theorem za_6847 : zar 6847 = some (0, 0, 0, 64) := rfl
theorem zx_6847 : zARt[93]? = some (6847, .long) := rfl
theorem zt_6847 : zty 6847 = 1 := rfl
theorem zo_6847 : zown 6847 = 6847 := rfl
theorem za_6848 : zar 6848 = some (0, 0, 0, 8) := rfl
theorem zx_6848 : zARt[94]? = some (6848, .int) := rfl
theorem zt_6848 : zty 6848 = 0 := rfl
theorem zo_6848 : zown 6848 = 6848 := rfl
theorem za_6849 : zar 6849 = some (0, 0, 0, 32) := rfl
theorem zx_6849 : zARt[95]? = some (6849, .long) := rfl
theorem zt_6849 : zty 6849 = 1 := rfl
theorem zo_6849 : zown 6849 = 6849 := rfl
theorem za_6850 : zar 6850 = some (0, 0, 0, 32) := rfl
theorem zx_6850 : zARt[96]? = some (6850, .long) := rfl
theorem zt_6850 : zty 6850 = 1 := rfl
theorem zo_6850 : zown 6850 = 6850 := rfl
theorem za_6851 : zar 6851 = some (0, 0, 0, 128) := rfl
theorem zx_6851 : zARt[97]? = some (6851, .int) := rfl
theorem zt_6851 : zty 6851 = 0 := rfl
theorem zo_6851 : zown 6851 = 6851 := rfl
theorem za_6852 : zar 6852 = some (0, 0, 0, 256) := rfl
theorem zx_6852 : zARt[98]? = some (6852, .int) := rfl
theorem zt_6852 : zty 6852 = 0 := rfl
theorem zo_6852 : zown 6852 = 6852 := rfl
theorem za_6853 : zar 6853 = some (0, 0, 0, 256) := rfl
theorem zx_6853 : zARt[99]? = some (6853, .int) := rfl
theorem zt_6853 : zty 6853 = 0 := rfl
theorem zo_6853 : zown 6853 = 6853 := rfl
theorem za_6854 : zar 6854 = some (0, 0, 0, 256) := rfl
theorem zx_6854 : zARt[100]? = some (6854, .int) := rfl
theorem zt_6854 : zty 6854 = 0 := rfl
theorem zo_6854 : zown 6854 = 6854 := rfl
theorem za_6855 : zar 6855 = some (0, 0, 0, 32) := rfl
theorem zx_6855 : zARt[101]? = some (6855, .int) := rfl
theorem zt_6855 : zty 6855 = 0 := rfl
theorem zo_6855 : zown 6855 = 6855 := rfl
theorem za_6856 : zar 6856 = some (0, 0, 0, 32) := rfl
theorem zx_6856 : zARt[102]? = some (6856, .int) := rfl
theorem zt_6856 : zty 6856 = 0 := rfl
theorem zo_6856 : zown 6856 = 6856 := rfl
theorem za_6857 : zar 6857 = some (0, 0, 0, 32) := rfl
theorem zx_6857 : zARt[103]? = some (6857, .int) := rfl
theorem zt_6857 : zty 6857 = 0 := rfl
theorem zo_6857 : zown 6857 = 6857 := rfl
theorem za_6858 : zar 6858 = some (0, 0, 0, 32) := rfl
theorem zx_6858 : zARt[104]? = some (6858, .boolean) := rfl
theorem zt_6858 : zty 6858 = 0 := rfl
theorem zo_6858 : zown 6858 = 6858 := rfl
theorem za_6859 : zar 6859 = some (0, 0, 0, 32) := rfl
theorem zx_6859 : zARt[105]? = some (6859, .boolean) := rfl
theorem zt_6859 : zty 6859 = 0 := rfl
theorem zo_6859 : zown 6859 = 6859 := rfl
theorem za_6860 : zar 6860 = some (0, 0, 0, 8) := rfl
theorem zx_6860 : zARt[106]? = some (6860, .int) := rfl
theorem zt_6860 : zty 6860 = 0 := rfl
theorem zo_6860 : zown 6860 = 6860 := rfl
theorem za_6861 : zar 6861 = some (0, 0, 0, 2048) := rfl
theorem zx_6861 : zARt[107]? = some (6861, .long) := rfl
theorem zt_6861 : zty 6861 = 1 := rfl
theorem zo_6861 : zown 6861 = 6861 := rfl
theorem za_6862 : zar 6862 = some (0, 0, 0, 8) := rfl
theorem zx_6862 : zARt[108]? = some (6862, .long) := rfl
theorem zt_6862 : zty 6862 = 1 := rfl
theorem zo_6862 : zown 6862 = 6862 := rfl
theorem za_6863 : zar 6863 = some (0, 0, 0, 16) := rfl
theorem zx_6863 : zARt[109]? = some (6863, .int) := rfl
theorem zt_6863 : zty 6863 = 0 := rfl
theorem zo_6863 : zown 6863 = 6863 := rfl
theorem za_6866 : zar 6866 = some (0, 0, 0, 256) := rfl
theorem zx_6866 : zARt[110]? = some (6866, .int) := rfl
theorem zt_6866 : zty 6866 = 0 := rfl
theorem zo_6866 : zown 6866 = 6866 := rfl
theorem za_6868 : zar 6868 = some (0, 0, 0, 4096) := rfl
theorem zx_6868 : zARt[111]? = some (6868, .int) := rfl
theorem zt_6868 : zty 6868 = 0 := rfl
theorem zo_6868 : zown 6868 = 6868 := rfl
theorem za_6871 : zar 6871 = some (0, 0, 0, 64) := rfl
theorem zx_6871 : zARt[112]? = some (6871, .int) := rfl
theorem zt_6871 : zty 6871 = 0 := rfl
theorem zo_6871 : zown 6871 = 6871 := rfl
theorem za_6873 : zar 6873 = some (0, 0, 0, 98304) := rfl
theorem zx_6873 : zARt[113]? = some (6873, .int) := rfl
theorem zt_6873 : zty 6873 = 0 := rfl
theorem zo_6873 : zown 6873 = 6873 := rfl
theorem za_6894 : zar 6894 = some (0, 0, 0, 64) := rfl
theorem zx_6894 : zARt[114]? = some (6894, .long) := rfl
theorem zt_6894 : zty 6894 = 1 := rfl
theorem zo_6894 : zown 6894 = 6894 := rfl
theorem za_6895 : zar 6895 = some (0, 0, 0, 64) := rfl
theorem zx_6895 : zARt[115]? = some (6895, .int) := rfl
theorem zt_6895 : zty 6895 = 0 := rfl
theorem zo_6895 : zown 6895 = 6895 := rfl
theorem za_6897 : zar 6897 = some (0, 0, 0, 16) := rfl
theorem zx_6897 : zARt[116]? = some (6897, .long) := rfl
theorem zt_6897 : zty 6897 = 1 := rfl
theorem zo_6897 : zown 6897 = 6897 := rfl
theorem za_6898 : zar 6898 = some (0, 0, 0, 16) := rfl
theorem zx_6898 : zARt[117]? = some (6898, .long) := rfl
theorem zt_6898 : zty 6898 = 1 := rfl
theorem zo_6898 : zown 6898 = 6898 := rfl
theorem za_6900 : zar 6900 = some (0, 0, 0, 32) := rfl
theorem zx_6900 : zARt[118]? = some (6900, .long) := rfl
theorem zt_6900 : zty 6900 = 1 := rfl
theorem zo_6900 : zown 6900 = 6900 := rfl
theorem za_6901 : zar 6901 = some (0, 0, 0, 32) := rfl
theorem zx_6901 : zARt[119]? = some (6901, .int) := rfl
theorem zt_6901 : zty 6901 = 0 := rfl
theorem zo_6901 : zown 6901 = 6901 := rfl
theorem za_6907 : zar 6907 = some (0, 0, 0, 1024) := rfl
theorem zx_6907 : zARt[120]? = some (6907, .long) := rfl
theorem zt_6907 : zty 6907 = 1 := rfl
theorem zo_6907 : zown 6907 = 6907 := rfl
theorem za_6908 : zar 6908 = some (2, 0, 0, 38) := rfl
theorem zx_6908 : zARt[121]? = some (6908, .long) := rfl
theorem zt_6908 : zty 6908 = 1 := rfl
theorem zo_6908 : zown 6908 = 6908 := rfl
theorem za_6909 : zar 6909 = some (2, 0, 0, 4) := rfl
theorem zx_6909 : zARt[122]? = some (6909, .long) := rfl
theorem zt_6909 : zty 6909 = 1 := rfl
theorem zo_6909 : zown 6909 = 6909 := rfl
theorem za_6917 : zar 6917 = some (0, 0, 0, 9000) := rfl
theorem zx_6917 : zARt[123]? = some (6917, .int) := rfl
theorem zt_6917 : zty 6917 = 0 := rfl
theorem zo_6917 : zown 6917 = 6917 := rfl
theorem za_6918 : zar 6918 = some (0, 0, 0, 9000) := rfl
theorem zx_6918 : zARt[124]? = some (6918, .int) := rfl
theorem zt_6918 : zty 6918 = 0 := rfl
theorem zo_6918 : zown 6918 = 6918 := rfl
theorem za_6919 : zar 6919 = some (0, 0, 0, 9000) := rfl
theorem zx_6919 : zARt[125]? = some (6919, .long) := rfl
theorem zt_6919 : zty 6919 = 1 := rfl
theorem zo_6919 : zown 6919 = 6919 := rfl
theorem za_6920 : zar 6920 = some (0, 0, 0, 9000) := rfl
theorem zx_6920 : zARt[126]? = some (6920, .int) := rfl
theorem zt_6920 : zty 6920 = 0 := rfl
theorem zo_6920 : zown 6920 = 6920 := rfl
theorem za_6921 : zar 6921 = some (0, 0, 0, 9000) := rfl
theorem zx_6921 : zARt[127]? = some (6921, .int) := rfl
theorem zt_6921 : zty 6921 = 0 := rfl
theorem zo_6921 : zown 6921 = 6921 := rfl
theorem za_6922 : zar 6922 = some (0, 0, 0, 9000) := rfl
theorem zx_6922 : zARt[128]? = some (6922, .long) := rfl
theorem zt_6922 : zty 6922 = 1 := rfl
theorem zo_6922 : zown 6922 = 6922 := rfl
theorem za_6923 : zar 6923 = some (0, 0, 0, 9000) := rfl
theorem zx_6923 : zARt[129]? = some (6923, .int) := rfl
theorem zt_6923 : zty 6923 = 0 := rfl
theorem zo_6923 : zown 6923 = 6923 := rfl
theorem za_6924 : zar 6924 = some (0, 0, 0, 9000) := rfl
theorem zx_6924 : zARt[130]? = some (6924, .int) := rfl
theorem zt_6924 : zty 6924 = 0 := rfl
theorem zo_6924 : zown 6924 = 6924 := rfl
theorem za_6928 : zar 6928 = some (0, 0, 0, 32) := rfl
theorem zx_6928 : zARt[131]? = some (6928, .int) := rfl
theorem zt_6928 : zty 6928 = 0 := rfl
theorem zo_6928 : zown 6928 = 6928 := rfl
theorem za_6929 : zar 6929 = some (0, 0, 0, 18) := rfl
theorem zx_6929 : zARt[132]? = some (6929, .int) := rfl
theorem zt_6929 : zty 6929 = 0 := rfl
theorem zo_6929 : zown 6929 = 6929 := rfl
theorem zh_16_0_1 : ∀ o : Nat, (o : Int) = 0 → o < zcnt 16 → zFo 16 o 1 ("RingHouse$Operation", "sort", "I", true) ∧ ∃ a b : Int, (zfl 16 o)[1]? = some (1, 0, a, b) ∧ a * 0 + b = 0 := fun o h _ => by
  obtain rfl : o = 0 := by omega
  exact ⟨⟨(RX15, TX15, 4), rfl, Nat.le_of_ble_eq_true rfl, rfl, in_X15⟩, _, _, rfl, by decide⟩
theorem zh_16_0_2 : ∀ o : Nat, (o : Int) = 0 → o < zcnt 16 → zFo 16 o 2 ("RingHouse$Operation", "registers", "I", true) ∧ ∃ a b : Int, (zfl 16 o)[2]? = some (1, 0, a, b) ∧ a * 0 + b = 0 := fun o h _ => by
  obtain rfl : o = 0 := by omega
  exact ⟨⟨(RX15, TX15, 4), rfl, Nat.le_of_ble_eq_true rfl, rfl, in_X15⟩, _, _, rfl, by decide⟩
theorem zh_16_0_3 : ∀ o : Nat, (o : Int) = 0 → o < zcnt 16 → zFo 16 o 3 ("RingHouse$Nothing", "ends", "Z", true) ∧ ∃ a b : Int, (zfl 16 o)[3]? = some (1, 0, a, b) ∧ a * 0 + b = 1 := fun o h _ => by
  obtain rfl : o = 0 := by omega
  exact ⟨⟨(RX15, TX15, 4), rfl, Nat.le_of_ble_eq_true rfl, rfl, in_X15⟩, _, _, rfl, by decide⟩
theorem zh_16_1_1 : ∀ o : Nat, (o : Int) = 1 → o < zcnt 16 → zFo 16 o 1 ("RingHouse$Operation", "sort", "I", true) ∧ ∃ a b : Int, (zfl 16 o)[1]? = some (1, 0, a, b) ∧ a * 1 + b = 0 := fun o h _ => by
  obtain rfl : o = 1 := by omega
  exact ⟨⟨(RX15, TX15, 4), rfl, Nat.le_of_ble_eq_true rfl, rfl, in_X15⟩, _, _, rfl, by decide⟩
theorem zh_16_1_2 : ∀ o : Nat, (o : Int) = 1 → o < zcnt 16 → zFo 16 o 2 ("RingHouse$Operation", "registers", "I", true) ∧ ∃ a b : Int, (zfl 16 o)[2]? = some (1, 0, a, b) ∧ a * 1 + b = 0 := fun o h _ => by
  obtain rfl : o = 1 := by omega
  exact ⟨⟨(RX15, TX15, 4), rfl, Nat.le_of_ble_eq_true rfl, rfl, in_X15⟩, _, _, rfl, by decide⟩
theorem zh_16_1_3 : ∀ o : Nat, (o : Int) = 1 → o < zcnt 16 → zFo 16 o 3 ("RingHouse$Nothing", "ends", "Z", true) ∧ ∃ a b : Int, (zfl 16 o)[3]? = some (1, 0, a, b) ∧ a * 1 + b = 0 := fun o h _ => by
  obtain rfl : o = 1 := by omega
  exact ⟨⟨(RX15, TX15, 4), rfl, Nat.le_of_ble_eq_true rfl, rfl, in_X15⟩, _, _, rfl, by decide⟩
theorem zh_16_2_1 : ∀ o : Nat, (o : Int) = 2 → o < zcnt 16 → zFo 16 o 1 ("RingHouse$Operation", "sort", "I", true) ∧ ∃ a b : Int, (zfl 16 o)[1]? = some (1, 0, a, b) ∧ a * 2 + b = 1 := fun o h _ => by
  obtain rfl : o = 2 := by omega
  exact ⟨⟨(RX16, TX16, 4), rfl, Nat.le_of_ble_eq_true rfl, rfl, in_X16⟩, _, _, rfl, by decide⟩
theorem zh_16_2_2 : ∀ o : Nat, (o : Int) = 2 → o < zcnt 16 → zFo 16 o 2 ("RingHouse$Operation", "registers", "I", true) ∧ ∃ a b : Int, (zfl 16 o)[2]? = some (1, 0, a, b) ∧ a * 2 + b = 0 := fun o h _ => by
  obtain rfl : o = 2 := by omega
  exact ⟨⟨(RX16, TX16, 4), rfl, Nat.le_of_ble_eq_true rfl, rfl, in_X16⟩, _, _, rfl, by decide⟩
theorem zh_16_2_3 : ∀ o : Nat, (o : Int) = 2 → o < zcnt 16 → zFo 16 o 3 ("RingHouse$Load", "isQ", "Z", true) ∧ ∃ a b : Int, (zfl 16 o)[3]? = some (1, 0, a, b) ∧ a * 2 + b = 0 := fun o h _ => by
  obtain rfl : o = 2 := by omega
  exact ⟨⟨(RX16, TX16, 4), rfl, Nat.le_of_ble_eq_true rfl, rfl, in_X16⟩, _, _, rfl, by decide⟩
theorem zh_16_3_1 : ∀ o : Nat, (o : Int) = 3 → o < zcnt 16 → zFo 16 o 1 ("RingHouse$Operation", "sort", "I", true) ∧ ∃ a b : Int, (zfl 16 o)[1]? = some (1, 0, a, b) ∧ a * 3 + b = 1 := fun o h _ => by
  obtain rfl : o = 3 := by omega
  exact ⟨⟨(RX16, TX16, 4), rfl, Nat.le_of_ble_eq_true rfl, rfl, in_X16⟩, _, _, rfl, by decide⟩
theorem zh_16_3_2 : ∀ o : Nat, (o : Int) = 3 → o < zcnt 16 → zFo 16 o 2 ("RingHouse$Operation", "registers", "I", true) ∧ ∃ a b : Int, (zfl 16 o)[2]? = some (1, 0, a, b) ∧ a * 3 + b = 0 := fun o h _ => by
  obtain rfl : o = 3 := by omega
  exact ⟨⟨(RX16, TX16, 4), rfl, Nat.le_of_ble_eq_true rfl, rfl, in_X16⟩, _, _, rfl, by decide⟩
theorem zh_16_3_3 : ∀ o : Nat, (o : Int) = 3 → o < zcnt 16 → zFo 16 o 3 ("RingHouse$Load", "isQ", "Z", true) ∧ ∃ a b : Int, (zfl 16 o)[3]? = some (1, 0, a, b) ∧ a * 3 + b = 1 := fun o h _ => by
  obtain rfl : o = 3 := by omega
  exact ⟨⟨(RX16, TX16, 4), rfl, Nat.le_of_ble_eq_true rfl, rfl, in_X16⟩, _, _, rfl, by decide⟩
theorem zh_16_4_1 : ∀ o : Nat, (o : Int) = 4 → o < zcnt 16 → zFo 16 o 1 ("RingHouse$Operation", "sort", "I", true) ∧ ∃ a b : Int, (zfl 16 o)[1]? = some (1, 0, a, b) ∧ a * 4 + b = 1 := fun o h _ => by
  obtain rfl : o = 4 := by omega
  exact ⟨⟨(RX18, TX18, 4), rfl, Nat.le_of_ble_eq_true rfl, rfl, in_X18⟩, _, _, rfl, by decide⟩
theorem zh_16_4_2 : ∀ o : Nat, (o : Int) = 4 → o < zcnt 16 → zFo 16 o 2 ("RingHouse$Operation", "registers", "I", true) ∧ ∃ a b : Int, (zfl 16 o)[2]? = some (1, 0, a, b) ∧ a * 4 + b = 0 := fun o h _ => by
  obtain rfl : o = 4 := by omega
  exact ⟨⟨(RX18, TX18, 4), rfl, Nat.le_of_ble_eq_true rfl, rfl, in_X18⟩, _, _, rfl, by decide⟩
theorem zh_16_4_3 : ∀ o : Nat, (o : Int) = 4 → o < zcnt 16 → zFo 16 o 3 ("RingHouse$Sum", "factor", "I", true) ∧ ∃ a b : Int, (zfl 16 o)[3]? = some (1, 0, a, b) ∧ a * 4 + b = 1 := fun o h _ => by
  obtain rfl : o = 4 := by omega
  exact ⟨⟨(RX18, TX18, 4), rfl, Nat.le_of_ble_eq_true rfl, rfl, in_X18⟩, _, _, rfl, by decide⟩
theorem zh_16_5_1 : ∀ o : Nat, (o : Int) = 5 → o < zcnt 16 → zFo 16 o 1 ("RingHouse$Operation", "sort", "I", true) ∧ ∃ a b : Int, (zfl 16 o)[1]? = some (1, 0, a, b) ∧ a * 5 + b = 1 := fun o h _ => by
  obtain rfl : o = 5 := by omega
  exact ⟨⟨(RX18, TX18, 4), rfl, Nat.le_of_ble_eq_true rfl, rfl, in_X18⟩, _, _, rfl, by decide⟩
theorem zh_16_5_2 : ∀ o : Nat, (o : Int) = 5 → o < zcnt 16 → zFo 16 o 2 ("RingHouse$Operation", "registers", "I", true) ∧ ∃ a b : Int, (zfl 16 o)[2]? = some (1, 0, a, b) ∧ a * 5 + b = 0 := fun o h _ => by
  obtain rfl : o = 5 := by omega
  exact ⟨⟨(RX18, TX18, 4), rfl, Nat.le_of_ble_eq_true rfl, rfl, in_X18⟩, _, _, rfl, by decide⟩
theorem zh_16_5_3 : ∀ o : Nat, (o : Int) = 5 → o < zcnt 16 → zFo 16 o 3 ("RingHouse$Sum", "factor", "I", true) ∧ ∃ a b : Int, (zfl 16 o)[3]? = some (1, 0, a, b) ∧ a * 5 + b = (-1) := fun o h _ => by
  obtain rfl : o = 5 := by omega
  exact ⟨⟨(RX18, TX18, 4), rfl, Nat.le_of_ble_eq_true rfl, rfl, in_X18⟩, _, _, rfl, by decide⟩
theorem zh_16_6_1 : ∀ o : Nat, (o : Int) = 6 → o < zcnt 16 → zFo 16 o 1 ("RingHouse$Operation", "sort", "I", true) ∧ ∃ a b : Int, (zfl 16 o)[1]? = some (1, 0, a, b) ∧ a * 6 + b = 1 := fun o h _ => by
  obtain rfl : o = 6 := by omega
  exact ⟨⟨(RX19, TX19, 3), rfl, Nat.le_of_ble_eq_true rfl, rfl, in_X19⟩, _, _, rfl, by decide⟩
theorem zh_16_6_2 : ∀ o : Nat, (o : Int) = 6 → o < zcnt 16 → zFo 16 o 2 ("RingHouse$Operation", "registers", "I", true) ∧ ∃ a b : Int, (zfl 16 o)[2]? = some (1, 0, a, b) ∧ a * 6 + b = 0 := fun o h _ => by
  obtain rfl : o = 6 := by omega
  exact ⟨⟨(RX19, TX19, 3), rfl, Nat.le_of_ble_eq_true rfl, rfl, in_X19⟩, _, _, rfl, by decide⟩
theorem zh_16_7_1 : ∀ o : Nat, (o : Int) = 7 → o < zcnt 16 → zFo 16 o 1 ("RingHouse$Operation", "sort", "I", true) ∧ ∃ a b : Int, (zfl 16 o)[1]? = some (1, 0, a, b) ∧ a * 7 + b = 1 := fun o h _ => by
  obtain rfl : o = 7 := by omega
  exact ⟨⟨(RX20, TX20, 3), rfl, Nat.le_of_ble_eq_true rfl, rfl, in_X20⟩, _, _, rfl, by decide⟩
theorem zh_16_7_2 : ∀ o : Nat, (o : Int) = 7 → o < zcnt 16 → zFo 16 o 2 ("RingHouse$Operation", "registers", "I", true) ∧ ∃ a b : Int, (zfl 16 o)[2]? = some (1, 0, a, b) ∧ a * 7 + b = 0 := fun o h _ => by
  obtain rfl : o = 7 := by omega
  exact ⟨⟨(RX20, TX20, 3), rfl, Nat.le_of_ble_eq_true rfl, rfl, in_X20⟩, _, _, rfl, by decide⟩
theorem zh_16_8_1 : ∀ o : Nat, (o : Int) = 8 → o < zcnt 16 → zFo 16 o 1 ("RingHouse$Operation", "sort", "I", true) ∧ ∃ a b : Int, (zfl 16 o)[1]? = some (1, 0, a, b) ∧ a * 8 + b = 1 := fun o h _ => by
  obtain rfl : o = 8 := by omega
  exact ⟨⟨(RX21, TX21, 4), rfl, Nat.le_of_ble_eq_true rfl, rfl, in_X21⟩, _, _, rfl, by decide⟩
theorem zh_16_8_2 : ∀ o : Nat, (o : Int) = 8 → o < zcnt 16 → zFo 16 o 2 ("RingHouse$Operation", "registers", "I", true) ∧ ∃ a b : Int, (zfl 16 o)[2]? = some (1, 0, a, b) ∧ a * 8 + b = 0 := fun o h _ => by
  obtain rfl : o = 8 := by omega
  exact ⟨⟨(RX21, TX21, 4), rfl, Nat.le_of_ble_eq_true rfl, rfl, in_X21⟩, _, _, rfl, by decide⟩
theorem zh_16_8_3 : ∀ o : Nat, (o : Int) = 8 → o < zcnt 16 → zFo 16 o 3 ("RingHouse$Bits", "how", "I", true) ∧ ∃ a b : Int, (zfl 16 o)[3]? = some (1, 0, a, b) ∧ a * 8 + b = 0 := fun o h _ => by
  obtain rfl : o = 8 := by omega
  exact ⟨⟨(RX21, TX21, 4), rfl, Nat.le_of_ble_eq_true rfl, rfl, in_X21⟩, _, _, rfl, by decide⟩
theorem zh_16_9_1 : ∀ o : Nat, (o : Int) = 9 → o < zcnt 16 → zFo 16 o 1 ("RingHouse$Operation", "sort", "I", true) ∧ ∃ a b : Int, (zfl 16 o)[1]? = some (1, 0, a, b) ∧ a * 9 + b = 1 := fun o h _ => by
  obtain rfl : o = 9 := by omega
  exact ⟨⟨(RX21, TX21, 4), rfl, Nat.le_of_ble_eq_true rfl, rfl, in_X21⟩, _, _, rfl, by decide⟩
theorem zh_16_9_2 : ∀ o : Nat, (o : Int) = 9 → o < zcnt 16 → zFo 16 o 2 ("RingHouse$Operation", "registers", "I", true) ∧ ∃ a b : Int, (zfl 16 o)[2]? = some (1, 0, a, b) ∧ a * 9 + b = 0 := fun o h _ => by
  obtain rfl : o = 9 := by omega
  exact ⟨⟨(RX21, TX21, 4), rfl, Nat.le_of_ble_eq_true rfl, rfl, in_X21⟩, _, _, rfl, by decide⟩
theorem zh_16_9_3 : ∀ o : Nat, (o : Int) = 9 → o < zcnt 16 → zFo 16 o 3 ("RingHouse$Bits", "how", "I", true) ∧ ∃ a b : Int, (zfl 16 o)[3]? = some (1, 0, a, b) ∧ a * 9 + b = 1 := fun o h _ => by
  obtain rfl : o = 9 := by omega
  exact ⟨⟨(RX21, TX21, 4), rfl, Nat.le_of_ble_eq_true rfl, rfl, in_X21⟩, _, _, rfl, by decide⟩
theorem zh_16_10_1 : ∀ o : Nat, (o : Int) = 10 → o < zcnt 16 → zFo 16 o 1 ("RingHouse$Operation", "sort", "I", true) ∧ ∃ a b : Int, (zfl 16 o)[1]? = some (1, 0, a, b) ∧ a * 10 + b = 1 := fun o h _ => by
  obtain rfl : o = 10 := by omega
  exact ⟨⟨(RX21, TX21, 4), rfl, Nat.le_of_ble_eq_true rfl, rfl, in_X21⟩, _, _, rfl, by decide⟩
theorem zh_16_10_2 : ∀ o : Nat, (o : Int) = 10 → o < zcnt 16 → zFo 16 o 2 ("RingHouse$Operation", "registers", "I", true) ∧ ∃ a b : Int, (zfl 16 o)[2]? = some (1, 0, a, b) ∧ a * 10 + b = 0 := fun o h _ => by
  obtain rfl : o = 10 := by omega
  exact ⟨⟨(RX21, TX21, 4), rfl, Nat.le_of_ble_eq_true rfl, rfl, in_X21⟩, _, _, rfl, by decide⟩
theorem zh_16_10_3 : ∀ o : Nat, (o : Int) = 10 → o < zcnt 16 → zFo 16 o 3 ("RingHouse$Bits", "how", "I", true) ∧ ∃ a b : Int, (zfl 16 o)[3]? = some (1, 0, a, b) ∧ a * 10 + b = 2 := fun o h _ => by
  obtain rfl : o = 10 := by omega
  exact ⟨⟨(RX21, TX21, 4), rfl, Nat.le_of_ble_eq_true rfl, rfl, in_X21⟩, _, _, rfl, by decide⟩
theorem zh_16_11_1 : ∀ o : Nat, (o : Int) = 11 → o < zcnt 16 → zFo 16 o 1 ("RingHouse$Operation", "sort", "I", true) ∧ ∃ a b : Int, (zfl 16 o)[1]? = some (1, 0, a, b) ∧ a * 11 + b = 1 := fun o h _ => by
  obtain rfl : o = 11 := by omega
  exact ⟨⟨(RX22, TX22, 3), rfl, Nat.le_of_ble_eq_true rfl, rfl, in_X22⟩, _, _, rfl, by decide⟩
theorem zh_16_11_2 : ∀ o : Nat, (o : Int) = 11 → o < zcnt 16 → zFo 16 o 2 ("RingHouse$Operation", "registers", "I", true) ∧ ∃ a b : Int, (zfl 16 o)[2]? = some (1, 0, a, b) ∧ a * 11 + b = 0 := fun o h _ => by
  obtain rfl : o = 11 := by omega
  exact ⟨⟨(RX22, TX22, 3), rfl, Nat.le_of_ble_eq_true rfl, rfl, in_X22⟩, _, _, rfl, by decide⟩
theorem zh_16_12_1 : ∀ o : Nat, (o : Int) = 12 → o < zcnt 16 → zFo 16 o 1 ("RingHouse$Operation", "sort", "I", true) ∧ ∃ a b : Int, (zfl 16 o)[1]? = some (1, 0, a, b) ∧ a * 12 + b = 1 := fun o h _ => by
  obtain rfl : o = 12 := by omega
  exact ⟨⟨(RX23, TX23, 4), rfl, Nat.le_of_ble_eq_true rfl, rfl, in_X23⟩, _, _, rfl, by decide⟩
theorem zh_16_12_2 : ∀ o : Nat, (o : Int) = 12 → o < zcnt 16 → zFo 16 o 2 ("RingHouse$Operation", "registers", "I", true) ∧ ∃ a b : Int, (zfl 16 o)[2]? = some (1, 0, a, b) ∧ a * 12 + b = 4 := fun o h _ => by
  obtain rfl : o = 12 := by omega
  exact ⟨⟨(RX23, TX23, 4), rfl, Nat.le_of_ble_eq_true rfl, rfl, in_X23⟩, _, _, rfl, by decide⟩
theorem zh_16_12_3 : ∀ o : Nat, (o : Int) = 12 → o < zcnt 16 → zFo 16 o 3 ("RingHouse$LoadHalf", "adds", "Z", true) ∧ ∃ a b : Int, (zfl 16 o)[3]? = some (1, 0, a, b) ∧ a * 12 + b = 0 := fun o h _ => by
  obtain rfl : o = 12 := by omega
  exact ⟨⟨(RX23, TX23, 4), rfl, Nat.le_of_ble_eq_true rfl, rfl, in_X23⟩, _, _, rfl, by decide⟩
theorem zh_16_13_1 : ∀ o : Nat, (o : Int) = 13 → o < zcnt 16 → zFo 16 o 1 ("RingHouse$Operation", "sort", "I", true) ∧ ∃ a b : Int, (zfl 16 o)[1]? = some (1, 0, a, b) ∧ a * 13 + b = 1 := fun o h _ => by
  obtain rfl : o = 13 := by omega
  exact ⟨⟨(RX23, TX23, 4), rfl, Nat.le_of_ble_eq_true rfl, rfl, in_X23⟩, _, _, rfl, by decide⟩
theorem zh_16_13_2 : ∀ o : Nat, (o : Int) = 13 → o < zcnt 16 → zFo 16 o 2 ("RingHouse$Operation", "registers", "I", true) ∧ ∃ a b : Int, (zfl 16 o)[2]? = some (1, 0, a, b) ∧ a * 13 + b = 4 := fun o h _ => by
  obtain rfl : o = 13 := by omega
  exact ⟨⟨(RX23, TX23, 4), rfl, Nat.le_of_ble_eq_true rfl, rfl, in_X23⟩, _, _, rfl, by decide⟩
theorem zh_16_13_3 : ∀ o : Nat, (o : Int) = 13 → o < zcnt 16 → zFo 16 o 3 ("RingHouse$LoadHalf", "adds", "Z", true) ∧ ∃ a b : Int, (zfl 16 o)[3]? = some (1, 0, a, b) ∧ a * 13 + b = 1 := fun o h _ => by
  obtain rfl : o = 13 := by omega
  exact ⟨⟨(RX23, TX23, 4), rfl, Nat.le_of_ble_eq_true rfl, rfl, in_X23⟩, _, _, rfl, by decide⟩
theorem zh_16_14_1 : ∀ o : Nat, (o : Int) = 14 → o < zcnt 16 → zFo 16 o 1 ("RingHouse$Operation", "sort", "I", true) ∧ ∃ a b : Int, (zfl 16 o)[1]? = some (1, 0, a, b) ∧ a * 14 + b = 2 := fun o h _ => by
  obtain rfl : o = 14 := by omega
  exact ⟨⟨(RX24, TX24, 4), rfl, Nat.le_of_ble_eq_true rfl, rfl, in_X24⟩, _, _, rfl, by decide⟩
theorem zh_16_14_2 : ∀ o : Nat, (o : Int) = 14 → o < zcnt 16 → zFo 16 o 2 ("RingHouse$Operation", "registers", "I", true) ∧ ∃ a b : Int, (zfl 16 o)[2]? = some (1, 0, a, b) ∧ a * 14 + b = 0 := fun o h _ => by
  obtain rfl : o = 14 := by omega
  exact ⟨⟨(RX24, TX24, 4), rfl, Nat.le_of_ble_eq_true rfl, rfl, in_X24⟩, _, _, rfl, by decide⟩
theorem zh_16_14_3 : ∀ o : Nat, (o : Int) = 14 → o < zcnt 16 → zFo 16 o 3 ("RingHouse$Keep", "what", "I", true) ∧ ∃ a b : Int, (zfl 16 o)[3]? = some (1, 0, a, b) ∧ a * 14 + b = 0 := fun o h _ => by
  obtain rfl : o = 14 := by omega
  exact ⟨⟨(RX24, TX24, 4), rfl, Nat.le_of_ble_eq_true rfl, rfl, in_X24⟩, _, _, rfl, by decide⟩
theorem zh_16_15_1 : ∀ o : Nat, (o : Int) = 15 → o < zcnt 16 → zFo 16 o 1 ("RingHouse$Operation", "sort", "I", true) ∧ ∃ a b : Int, (zfl 16 o)[1]? = some (1, 0, a, b) ∧ a * 15 + b = 2 := fun o h _ => by
  obtain rfl : o = 15 := by omega
  exact ⟨⟨(RX24, TX24, 4), rfl, Nat.le_of_ble_eq_true rfl, rfl, in_X24⟩, _, _, rfl, by decide⟩
theorem zh_16_15_2 : ∀ o : Nat, (o : Int) = 15 → o < zcnt 16 → zFo 16 o 2 ("RingHouse$Operation", "registers", "I", true) ∧ ∃ a b : Int, (zfl 16 o)[2]? = some (1, 0, a, b) ∧ a * 15 + b = 0 := fun o h _ => by
  obtain rfl : o = 15 := by omega
  exact ⟨⟨(RX24, TX24, 4), rfl, Nat.le_of_ble_eq_true rfl, rfl, in_X24⟩, _, _, rfl, by decide⟩
theorem zh_16_15_3 : ∀ o : Nat, (o : Int) = 15 → o < zcnt 16 → zFo 16 o 3 ("RingHouse$Keep", "what", "I", true) ∧ ∃ a b : Int, (zfl 16 o)[3]? = some (1, 0, a, b) ∧ a * 15 + b = 1 := fun o h _ => by
  obtain rfl : o = 15 := by omega
  exact ⟨⟨(RX24, TX24, 4), rfl, Nat.le_of_ble_eq_true rfl, rfl, in_X24⟩, _, _, rfl, by decide⟩
theorem zh_16_16_1 : ∀ o : Nat, (o : Int) = 16 → o < zcnt 16 → zFo 16 o 1 ("RingHouse$Operation", "sort", "I", true) ∧ ∃ a b : Int, (zfl 16 o)[1]? = some (1, 0, a, b) ∧ a * 16 + b = 2 := fun o h _ => by
  obtain rfl : o = 16 := by omega
  exact ⟨⟨(RX24, TX24, 4), rfl, Nat.le_of_ble_eq_true rfl, rfl, in_X24⟩, _, _, rfl, by decide⟩
theorem zh_16_16_2 : ∀ o : Nat, (o : Int) = 16 → o < zcnt 16 → zFo 16 o 2 ("RingHouse$Operation", "registers", "I", true) ∧ ∃ a b : Int, (zfl 16 o)[2]? = some (1, 0, a, b) ∧ a * 16 + b = 4 := fun o h _ => by
  obtain rfl : o = 16 := by omega
  exact ⟨⟨(RX24, TX24, 4), rfl, Nat.le_of_ble_eq_true rfl, rfl, in_X24⟩, _, _, rfl, by decide⟩
theorem zh_16_16_3 : ∀ o : Nat, (o : Int) = 16 → o < zcnt 16 → zFo 16 o 3 ("RingHouse$Keep", "what", "I", true) ∧ ∃ a b : Int, (zfl 16 o)[3]? = some (1, 0, a, b) ∧ a * 16 + b = 2 := fun o h _ => by
  obtain rfl : o = 16 := by omega
  exact ⟨⟨(RX24, TX24, 4), rfl, Nat.le_of_ble_eq_true rfl, rfl, in_X24⟩, _, _, rfl, by decide⟩
theorem zh_16_17_1 : ∀ o : Nat, (o : Int) = 17 → o < zcnt 16 → zFo 16 o 1 ("RingHouse$Operation", "sort", "I", true) ∧ ∃ a b : Int, (zfl 16 o)[1]? = some (1, 0, a, b) ∧ a * 17 + b = 2 := fun o h _ => by
  obtain rfl : o = 17 := by omega
  exact ⟨⟨(RX24, TX24, 4), rfl, Nat.le_of_ble_eq_true rfl, rfl, in_X24⟩, _, _, rfl, by decide⟩
theorem zh_16_17_2 : ∀ o : Nat, (o : Int) = 17 → o < zcnt 16 → zFo 16 o 2 ("RingHouse$Operation", "registers", "I", true) ∧ ∃ a b : Int, (zfl 16 o)[2]? = some (1, 0, a, b) ∧ a * 17 + b = 8 := fun o h _ => by
  obtain rfl : o = 17 := by omega
  exact ⟨⟨(RX24, TX24, 4), rfl, Nat.le_of_ble_eq_true rfl, rfl, in_X24⟩, _, _, rfl, by decide⟩
theorem zh_16_17_3 : ∀ o : Nat, (o : Int) = 17 → o < zcnt 16 → zFo 16 o 3 ("RingHouse$Keep", "what", "I", true) ∧ ∃ a b : Int, (zfl 16 o)[3]? = some (1, 0, a, b) ∧ a * 17 + b = 3 := fun o h _ => by
  obtain rfl : o = 17 := by omega
  exact ⟨⟨(RX24, TX24, 4), rfl, Nat.le_of_ble_eq_true rfl, rfl, in_X24⟩, _, _, rfl, by decide⟩
theorem zh_16_18_1 : ∀ o : Nat, (o : Int) = 18 → o < zcnt 16 → zFo 16 o 1 ("RingHouse$Operation", "sort", "I", true) ∧ ∃ a b : Int, (zfl 16 o)[1]? = some (1, 0, a, b) ∧ a * 18 + b = 2 := fun o h _ => by
  obtain rfl : o = 18 := by omega
  exact ⟨⟨(RX25, TX25, 3), rfl, Nat.le_of_ble_eq_true rfl, rfl, in_X25⟩, _, _, rfl, by decide⟩
theorem zh_16_18_2 : ∀ o : Nat, (o : Int) = 18 → o < zcnt 16 → zFo 16 o 2 ("RingHouse$Operation", "registers", "I", true) ∧ ∃ a b : Int, (zfl 16 o)[2]? = some (1, 0, a, b) ∧ a * 18 + b = 0 := fun o h _ => by
  obtain rfl : o = 18 := by omega
  exact ⟨⟨(RX25, TX25, 3), rfl, Nat.le_of_ble_eq_true rfl, rfl, in_X25⟩, _, _, rfl, by decide⟩
theorem zh_16_19_1 : ∀ o : Nat, (o : Int) = 19 → o < zcnt 16 → zFo 16 o 1 ("RingHouse$Operation", "sort", "I", true) ∧ ∃ a b : Int, (zfl 16 o)[1]? = some (1, 0, a, b) ∧ a * 19 + b = 2 := fun o h _ => by
  obtain rfl : o = 19 := by omega
  exact ⟨⟨(RX26, TX26, 3), rfl, Nat.le_of_ble_eq_true rfl, rfl, in_X26⟩, _, _, rfl, by decide⟩
theorem zh_16_19_2 : ∀ o : Nat, (o : Int) = 19 → o < zcnt 16 → zFo 16 o 2 ("RingHouse$Operation", "registers", "I", true) ∧ ∃ a b : Int, (zfl 16 o)[2]? = some (1, 0, a, b) ∧ a * 19 + b = 0 := fun o h _ => by
  obtain rfl : o = 19 := by omega
  exact ⟨⟨(RX26, TX26, 3), rfl, Nat.le_of_ble_eq_true rfl, rfl, in_X26⟩, _, _, rfl, by decide⟩
theorem zh_16_20_1 : ∀ o : Nat, (o : Int) = 20 → o < zcnt 16 → zFo 16 o 1 ("RingHouse$Operation", "sort", "I", true) ∧ ∃ a b : Int, (zfl 16 o)[1]? = some (1, 0, a, b) ∧ a * 20 + b = 3 := fun o h _ => by
  obtain rfl : o = 20 := by omega
  exact ⟨⟨(RX27, TX27, 4), rfl, Nat.le_of_ble_eq_true rfl, rfl, in_X27⟩, _, _, rfl, by decide⟩
theorem zh_16_20_2 : ∀ o : Nat, (o : Int) = 20 → o < zcnt 16 → zFo 16 o 2 ("RingHouse$Operation", "registers", "I", true) ∧ ∃ a b : Int, (zfl 16 o)[2]? = some (1, 0, a, b) ∧ a * 20 + b = 4 := fun o h _ => by
  obtain rfl : o = 20 := by omega
  exact ⟨⟨(RX27, TX27, 4), rfl, Nat.le_of_ble_eq_true rfl, rfl, in_X27⟩, _, _, rfl, by decide⟩
theorem zh_16_20_3 : ∀ o : Nat, (o : Int) = 20 → o < zcnt 16 → zFo 16 o 3 ("RingHouse$TakePlace", "isHalf", "Z", true) ∧ ∃ a b : Int, (zfl 16 o)[3]? = some (1, 0, a, b) ∧ a * 20 + b = 1 := fun o h _ => by
  obtain rfl : o = 20 := by omega
  exact ⟨⟨(RX27, TX27, 4), rfl, Nat.le_of_ble_eq_true rfl, rfl, in_X27⟩, _, _, rfl, by decide⟩
theorem zh_16_21_1 : ∀ o : Nat, (o : Int) = 21 → o < zcnt 16 → zFo 16 o 1 ("RingHouse$Operation", "sort", "I", true) ∧ ∃ a b : Int, (zfl 16 o)[1]? = some (1, 0, a, b) ∧ a * 21 + b = 3 := fun o h _ => by
  obtain rfl : o = 21 := by omega
  exact ⟨⟨(RX27, TX27, 4), rfl, Nat.le_of_ble_eq_true rfl, rfl, in_X27⟩, _, _, rfl, by decide⟩
theorem zh_16_21_2 : ∀ o : Nat, (o : Int) = 21 → o < zcnt 16 → zFo 16 o 2 ("RingHouse$Operation", "registers", "I", true) ∧ ∃ a b : Int, (zfl 16 o)[2]? = some (1, 0, a, b) ∧ a * 21 + b = 0 := fun o h _ => by
  obtain rfl : o = 21 := by omega
  exact ⟨⟨(RX27, TX27, 4), rfl, Nat.le_of_ble_eq_true rfl, rfl, in_X27⟩, _, _, rfl, by decide⟩
theorem zh_16_21_3 : ∀ o : Nat, (o : Int) = 21 → o < zcnt 16 → zFo 16 o 3 ("RingHouse$TakePlace", "isHalf", "Z", true) ∧ ∃ a b : Int, (zfl 16 o)[3]? = some (1, 0, a, b) ∧ a * 21 + b = 0 := fun o h _ => by
  obtain rfl : o = 21 := by omega
  exact ⟨⟨(RX27, TX27, 4), rfl, Nat.le_of_ble_eq_true rfl, rfl, in_X27⟩, _, _, rfl, by decide⟩
theorem zh_16_22_1 : ∀ o : Nat, (o : Int) = 22 → o < zcnt 16 → zFo 16 o 1 ("RingHouse$Operation", "sort", "I", true) ∧ ∃ a b : Int, (zfl 16 o)[1]? = some (1, 0, a, b) ∧ a * 22 + b = 3 := fun o h _ => by
  obtain rfl : o = 22 := by omega
  exact ⟨⟨(RX28, TX28, 4), rfl, Nat.le_of_ble_eq_true rfl, rfl, in_X28⟩, _, _, rfl, by decide⟩
theorem zh_16_22_2 : ∀ o : Nat, (o : Int) = 22 → o < zcnt 16 → zFo 16 o 2 ("RingHouse$Operation", "registers", "I", true) ∧ ∃ a b : Int, (zfl 16 o)[2]? = some (1, 0, a, b) ∧ a * 22 + b = 0 := fun o h _ => by
  obtain rfl : o = 22 := by omega
  exact ⟨⟨(RX28, TX28, 4), rfl, Nat.le_of_ble_eq_true rfl, rfl, in_X28⟩, _, _, rfl, by decide⟩
theorem zh_16_22_3 : ∀ o : Nat, (o : Int) = 22 → o < zcnt 16 → zFo 16 o 3 ("RingHouse$Shift", "how", "I", true) ∧ ∃ a b : Int, (zfl 16 o)[3]? = some (1, 0, a, b) ∧ a * 22 + b = 0 := fun o h _ => by
  obtain rfl : o = 22 := by omega
  exact ⟨⟨(RX28, TX28, 4), rfl, Nat.le_of_ble_eq_true rfl, rfl, in_X28⟩, _, _, rfl, by decide⟩
theorem zh_16_23_1 : ∀ o : Nat, (o : Int) = 23 → o < zcnt 16 → zFo 16 o 1 ("RingHouse$Operation", "sort", "I", true) ∧ ∃ a b : Int, (zfl 16 o)[1]? = some (1, 0, a, b) ∧ a * 23 + b = 3 := fun o h _ => by
  obtain rfl : o = 23 := by omega
  exact ⟨⟨(RX28, TX28, 4), rfl, Nat.le_of_ble_eq_true rfl, rfl, in_X28⟩, _, _, rfl, by decide⟩
theorem zh_16_23_2 : ∀ o : Nat, (o : Int) = 23 → o < zcnt 16 → zFo 16 o 2 ("RingHouse$Operation", "registers", "I", true) ∧ ∃ a b : Int, (zfl 16 o)[2]? = some (1, 0, a, b) ∧ a * 23 + b = 0 := fun o h _ => by
  obtain rfl : o = 23 := by omega
  exact ⟨⟨(RX28, TX28, 4), rfl, Nat.le_of_ble_eq_true rfl, rfl, in_X28⟩, _, _, rfl, by decide⟩
theorem zh_16_23_3 : ∀ o : Nat, (o : Int) = 23 → o < zcnt 16 → zFo 16 o 3 ("RingHouse$Shift", "how", "I", true) ∧ ∃ a b : Int, (zfl 16 o)[3]? = some (1, 0, a, b) ∧ a * 23 + b = 1 := fun o h _ => by
  obtain rfl : o = 23 := by omega
  exact ⟨⟨(RX28, TX28, 4), rfl, Nat.le_of_ble_eq_true rfl, rfl, in_X28⟩, _, _, rfl, by decide⟩
theorem zh_16_24_1 : ∀ o : Nat, (o : Int) = 24 → o < zcnt 16 → zFo 16 o 1 ("RingHouse$Operation", "sort", "I", true) ∧ ∃ a b : Int, (zfl 16 o)[1]? = some (1, 0, a, b) ∧ a * 24 + b = 3 := fun o h _ => by
  obtain rfl : o = 24 := by omega
  exact ⟨⟨(RX28, TX28, 4), rfl, Nat.le_of_ble_eq_true rfl, rfl, in_X28⟩, _, _, rfl, by decide⟩
theorem zh_16_24_2 : ∀ o : Nat, (o : Int) = 24 → o < zcnt 16 → zFo 16 o 2 ("RingHouse$Operation", "registers", "I", true) ∧ ∃ a b : Int, (zfl 16 o)[2]? = some (1, 0, a, b) ∧ a * 24 + b = 0 := fun o h _ => by
  obtain rfl : o = 24 := by omega
  exact ⟨⟨(RX28, TX28, 4), rfl, Nat.le_of_ble_eq_true rfl, rfl, in_X28⟩, _, _, rfl, by decide⟩
theorem zh_16_24_3 : ∀ o : Nat, (o : Int) = 24 → o < zcnt 16 → zFo 16 o 3 ("RingHouse$Shift", "how", "I", true) ∧ ∃ a b : Int, (zfl 16 o)[3]? = some (1, 0, a, b) ∧ a * 24 + b = 2 := fun o h _ => by
  obtain rfl : o = 24 := by omega
  exact ⟨⟨(RX28, TX28, 4), rfl, Nat.le_of_ble_eq_true rfl, rfl, in_X28⟩, _, _, rfl, by decide⟩
theorem zh_16_25_1 : ∀ o : Nat, (o : Int) = 25 → o < zcnt 16 → zFo 16 o 1 ("RingHouse$Operation", "sort", "I", true) ∧ ∃ a b : Int, (zfl 16 o)[1]? = some (1, 0, a, b) ∧ a * 25 + b = 4 := fun o h _ => by
  obtain rfl : o = 25 := by omega
  exact ⟨⟨(RX29, TX29, 4), rfl, Nat.le_of_ble_eq_true rfl, rfl, in_X29⟩, _, _, rfl, by decide⟩
theorem zh_16_25_2 : ∀ o : Nat, (o : Int) = 25 → o < zcnt 16 → zFo 16 o 2 ("RingHouse$Operation", "registers", "I", true) ∧ ∃ a b : Int, (zfl 16 o)[2]? = some (1, 0, a, b) ∧ a * 25 + b = 8 := fun o h _ => by
  obtain rfl : o = 25 := by omega
  exact ⟨⟨(RX29, TX29, 4), rfl, Nat.le_of_ble_eq_true rfl, rfl, in_X29⟩, _, _, rfl, by decide⟩
theorem zh_16_25_3 : ∀ o : Nat, (o : Int) = 25 → o < zcnt 16 → zFo 16 o 3 ("RingHouse$Point", "isWord", "Z", true) ∧ ∃ a b : Int, (zfl 16 o)[3]? = some (1, 0, a, b) ∧ a * 25 + b = 0 := fun o h _ => by
  obtain rfl : o = 25 := by omega
  exact ⟨⟨(RX29, TX29, 4), rfl, Nat.le_of_ble_eq_true rfl, rfl, in_X29⟩, _, _, rfl, by decide⟩
theorem zh_16_26_1 : ∀ o : Nat, (o : Int) = 26 → o < zcnt 16 → zFo 16 o 1 ("RingHouse$Operation", "sort", "I", true) ∧ ∃ a b : Int, (zfl 16 o)[1]? = some (1, 0, a, b) ∧ a * 26 + b = 4 := fun o h _ => by
  obtain rfl : o = 26 := by omega
  exact ⟨⟨(RX29, TX29, 4), rfl, Nat.le_of_ble_eq_true rfl, rfl, in_X29⟩, _, _, rfl, by decide⟩
theorem zh_16_26_2 : ∀ o : Nat, (o : Int) = 26 → o < zcnt 16 → zFo 16 o 2 ("RingHouse$Operation", "registers", "I", true) ∧ ∃ a b : Int, (zfl 16 o)[2]? = some (1, 0, a, b) ∧ a * 26 + b = 0 := fun o h _ => by
  obtain rfl : o = 26 := by omega
  exact ⟨⟨(RX29, TX29, 4), rfl, Nat.le_of_ble_eq_true rfl, rfl, in_X29⟩, _, _, rfl, by decide⟩
theorem zh_16_26_3 : ∀ o : Nat, (o : Int) = 26 → o < zcnt 16 → zFo 16 o 3 ("RingHouse$Point", "isWord", "Z", true) ∧ ∃ a b : Int, (zfl 16 o)[3]? = some (1, 0, a, b) ∧ a * 26 + b = 1 := fun o h _ => by
  obtain rfl : o = 26 := by omega
  exact ⟨⟨(RX29, TX29, 4), rfl, Nat.le_of_ble_eq_true rfl, rfl, in_X29⟩, _, _, rfl, by decide⟩
theorem zh_16_27_1 : ∀ o : Nat, (o : Int) = 27 → o < zcnt 16 → zFo 16 o 1 ("RingHouse$Operation", "sort", "I", true) ∧ ∃ a b : Int, (zfl 16 o)[1]? = some (1, 0, a, b) ∧ a * 27 + b = 5 := fun o h _ => by
  obtain rfl : o = 27 := by omega
  exact ⟨⟨(RX30, TX30, 4), rfl, Nat.le_of_ble_eq_true rfl, rfl, in_X30⟩, _, _, rfl, by decide⟩
theorem zh_16_27_2 : ∀ o : Nat, (o : Int) = 27 → o < zcnt 16 → zFo 16 o 2 ("RingHouse$Operation", "registers", "I", true) ∧ ∃ a b : Int, (zfl 16 o)[2]? = some (1, 0, a, b) ∧ a * 27 + b = 0 := fun o h _ => by
  obtain rfl : o = 27 := by omega
  exact ⟨⟨(RX30, TX30, 4), rfl, Nat.le_of_ble_eq_true rfl, rfl, in_X30⟩, _, _, rfl, by decide⟩
theorem zh_16_27_3 : ∀ o : Nat, (o : Int) = 27 → o < zcnt 16 → zFo 16 o 3 ("RingHouse$Go", "when", "I", true) ∧ ∃ a b : Int, (zfl 16 o)[3]? = some (1, 0, a, b) ∧ a * 27 + b = 0 := fun o h _ => by
  obtain rfl : o = 27 := by omega
  exact ⟨⟨(RX30, TX30, 4), rfl, Nat.le_of_ble_eq_true rfl, rfl, in_X30⟩, _, _, rfl, by decide⟩
theorem zh_16_28_1 : ∀ o : Nat, (o : Int) = 28 → o < zcnt 16 → zFo 16 o 1 ("RingHouse$Operation", "sort", "I", true) ∧ ∃ a b : Int, (zfl 16 o)[1]? = some (1, 0, a, b) ∧ a * 28 + b = 5 := fun o h _ => by
  obtain rfl : o = 28 := by omega
  exact ⟨⟨(RX30, TX30, 4), rfl, Nat.le_of_ble_eq_true rfl, rfl, in_X30⟩, _, _, rfl, by decide⟩
theorem zh_16_28_2 : ∀ o : Nat, (o : Int) = 28 → o < zcnt 16 → zFo 16 o 2 ("RingHouse$Operation", "registers", "I", true) ∧ ∃ a b : Int, (zfl 16 o)[2]? = some (1, 0, a, b) ∧ a * 28 + b = 0 := fun o h _ => by
  obtain rfl : o = 28 := by omega
  exact ⟨⟨(RX30, TX30, 4), rfl, Nat.le_of_ble_eq_true rfl, rfl, in_X30⟩, _, _, rfl, by decide⟩
theorem zh_16_28_3 : ∀ o : Nat, (o : Int) = 28 → o < zcnt 16 → zFo 16 o 3 ("RingHouse$Go", "when", "I", true) ∧ ∃ a b : Int, (zfl 16 o)[3]? = some (1, 0, a, b) ∧ a * 28 + b = 1 := fun o h _ => by
  obtain rfl : o = 28 := by omega
  exact ⟨⟨(RX30, TX30, 4), rfl, Nat.le_of_ble_eq_true rfl, rfl, in_X30⟩, _, _, rfl, by decide⟩
theorem zh_16_29_1 : ∀ o : Nat, (o : Int) = 29 → o < zcnt 16 → zFo 16 o 1 ("RingHouse$Operation", "sort", "I", true) ∧ ∃ a b : Int, (zfl 16 o)[1]? = some (1, 0, a, b) ∧ a * 29 + b = 5 := fun o h _ => by
  obtain rfl : o = 29 := by omega
  exact ⟨⟨(RX30, TX30, 4), rfl, Nat.le_of_ble_eq_true rfl, rfl, in_X30⟩, _, _, rfl, by decide⟩
theorem zh_16_29_2 : ∀ o : Nat, (o : Int) = 29 → o < zcnt 16 → zFo 16 o 2 ("RingHouse$Operation", "registers", "I", true) ∧ ∃ a b : Int, (zfl 16 o)[2]? = some (1, 0, a, b) ∧ a * 29 + b = 0 := fun o h _ => by
  obtain rfl : o = 29 := by omega
  exact ⟨⟨(RX30, TX30, 4), rfl, Nat.le_of_ble_eq_true rfl, rfl, in_X30⟩, _, _, rfl, by decide⟩
theorem zh_16_29_3 : ∀ o : Nat, (o : Int) = 29 → o < zcnt 16 → zFo 16 o 3 ("RingHouse$Go", "when", "I", true) ∧ ∃ a b : Int, (zfl 16 o)[3]? = some (1, 0, a, b) ∧ a * 29 + b = 2 := fun o h _ => by
  obtain rfl : o = 29 := by omega
  exact ⟨⟨(RX30, TX30, 4), rfl, Nat.le_of_ble_eq_true rfl, rfl, in_X30⟩, _, _, rfl, by decide⟩
theorem zh_16_30_1 : ∀ o : Nat, (o : Int) = 30 → o < zcnt 16 → zFo 16 o 1 ("RingHouse$Operation", "sort", "I", true) ∧ ∃ a b : Int, (zfl 16 o)[1]? = some (1, 0, a, b) ∧ a * 30 + b = 5 := fun o h _ => by
  obtain rfl : o = 30 := by omega
  exact ⟨⟨(RX30, TX30, 4), rfl, Nat.le_of_ble_eq_true rfl, rfl, in_X30⟩, _, _, rfl, by decide⟩
theorem zh_16_30_2 : ∀ o : Nat, (o : Int) = 30 → o < zcnt 16 → zFo 16 o 2 ("RingHouse$Operation", "registers", "I", true) ∧ ∃ a b : Int, (zfl 16 o)[2]? = some (1, 0, a, b) ∧ a * 30 + b = 0 := fun o h _ => by
  obtain rfl : o = 30 := by omega
  exact ⟨⟨(RX30, TX30, 4), rfl, Nat.le_of_ble_eq_true rfl, rfl, in_X30⟩, _, _, rfl, by decide⟩
theorem zh_16_30_3 : ∀ o : Nat, (o : Int) = 30 → o < zcnt 16 → zFo 16 o 3 ("RingHouse$Go", "when", "I", true) ∧ ∃ a b : Int, (zfl 16 o)[3]? = some (1, 0, a, b) ∧ a * 30 + b = 3 := fun o h _ => by
  obtain rfl : o = 30 := by omega
  exact ⟨⟨(RX30, TX30, 4), rfl, Nat.le_of_ble_eq_true rfl, rfl, in_X30⟩, _, _, rfl, by decide⟩
theorem zh_16_31_1 : ∀ o : Nat, (o : Int) = 31 → o < zcnt 16 → zFo 16 o 1 ("RingHouse$Operation", "sort", "I", true) ∧ ∃ a b : Int, (zfl 16 o)[1]? = some (1, 0, a, b) ∧ a * 31 + b = 5 := fun o h _ => by
  obtain rfl : o = 31 := by omega
  exact ⟨⟨(RX30, TX30, 4), rfl, Nat.le_of_ble_eq_true rfl, rfl, in_X30⟩, _, _, rfl, by decide⟩
theorem zh_16_31_2 : ∀ o : Nat, (o : Int) = 31 → o < zcnt 16 → zFo 16 o 2 ("RingHouse$Operation", "registers", "I", true) ∧ ∃ a b : Int, (zfl 16 o)[2]? = some (1, 0, a, b) ∧ a * 31 + b = 0 := fun o h _ => by
  obtain rfl : o = 31 := by omega
  exact ⟨⟨(RX30, TX30, 4), rfl, Nat.le_of_ble_eq_true rfl, rfl, in_X30⟩, _, _, rfl, by decide⟩
theorem zh_16_31_3 : ∀ o : Nat, (o : Int) = 31 → o < zcnt 16 → zFo 16 o 3 ("RingHouse$Go", "when", "I", true) ∧ ∃ a b : Int, (zfl 16 o)[3]? = some (1, 0, a, b) ∧ a * 31 + b = 4 := fun o h _ => by
  obtain rfl : o = 31 := by omega
  exact ⟨⟨(RX30, TX30, 4), rfl, Nat.le_of_ble_eq_true rfl, rfl, in_X30⟩, _, _, rfl, by decide⟩
theorem zh_16_32_1 : ∀ o : Nat, (o : Int) = 32 → o < zcnt 16 → zFo 16 o 1 ("RingHouse$Operation", "sort", "I", true) ∧ ∃ a b : Int, (zfl 16 o)[1]? = some (1, 0, a, b) ∧ a * 32 + b = 5 := fun o h _ => by
  obtain rfl : o = 32 := by omega
  exact ⟨⟨(RX30, TX30, 4), rfl, Nat.le_of_ble_eq_true rfl, rfl, in_X30⟩, _, _, rfl, by decide⟩
theorem zh_16_32_2 : ∀ o : Nat, (o : Int) = 32 → o < zcnt 16 → zFo 16 o 2 ("RingHouse$Operation", "registers", "I", true) ∧ ∃ a b : Int, (zfl 16 o)[2]? = some (1, 0, a, b) ∧ a * 32 + b = 4 := fun o h _ => by
  obtain rfl : o = 32 := by omega
  exact ⟨⟨(RX30, TX30, 4), rfl, Nat.le_of_ble_eq_true rfl, rfl, in_X30⟩, _, _, rfl, by decide⟩
theorem zh_16_32_3 : ∀ o : Nat, (o : Int) = 32 → o < zcnt 16 → zFo 16 o 3 ("RingHouse$Go", "when", "I", true) ∧ ∃ a b : Int, (zfl 16 o)[3]? = some (1, 0, a, b) ∧ a * 32 + b = 5 := fun o h _ => by
  obtain rfl : o = 32 := by omega
  exact ⟨⟨(RX30, TX30, 4), rfl, Nat.le_of_ble_eq_true rfl, rfl, in_X30⟩, _, _, rfl, by decide⟩
theorem zh_16_33_1 : ∀ o : Nat, (o : Int) = 33 → o < zcnt 16 → zFo 16 o 1 ("RingHouse$Operation", "sort", "I", true) ∧ ∃ a b : Int, (zfl 16 o)[1]? = some (1, 0, a, b) ∧ a * 33 + b = 5 := fun o h _ => by
  obtain rfl : o = 33 := by omega
  exact ⟨⟨(RX31, TX31, 3), rfl, Nat.le_of_ble_eq_true rfl, rfl, in_X31⟩, _, _, rfl, by decide⟩
theorem zh_16_33_2 : ∀ o : Nat, (o : Int) = 33 → o < zcnt 16 → zFo 16 o 2 ("RingHouse$Operation", "registers", "I", true) ∧ ∃ a b : Int, (zfl 16 o)[2]? = some (1, 0, a, b) ∧ a * 33 + b = 0 := fun o h _ => by
  obtain rfl : o = 33 := by omega
  exact ⟨⟨(RX31, TX31, 3), rfl, Nat.le_of_ble_eq_true rfl, rfl, in_X31⟩, _, _, rfl, by decide⟩
theorem zh_16_34_1 : ∀ o : Nat, (o : Int) = 34 → o < zcnt 16 → zFo 16 o 1 ("RingHouse$Operation", "sort", "I", true) ∧ ∃ a b : Int, (zfl 16 o)[1]? = some (1, 0, a, b) ∧ a * 34 + b = 5 := fun o h _ => by
  obtain rfl : o = 34 := by omega
  exact ⟨⟨(RX32, TX32, 3), rfl, Nat.le_of_ble_eq_true rfl, rfl, in_X32⟩, _, _, rfl, by decide⟩
theorem zh_16_34_2 : ∀ o : Nat, (o : Int) = 34 → o < zcnt 16 → zFo 16 o 2 ("RingHouse$Operation", "registers", "I", true) ∧ ∃ a b : Int, (zfl 16 o)[2]? = some (1, 0, a, b) ∧ a * 34 + b = 0 := fun o h _ => by
  obtain rfl : o = 34 := by omega
  exact ⟨⟨(RX32, TX32, 3), rfl, Nat.le_of_ble_eq_true rfl, rfl, in_X32⟩, _, _, rfl, by decide⟩
theorem zh_16_35_1 : ∀ o : Nat, (o : Int) = 35 → o < zcnt 16 → zFo 16 o 1 ("RingHouse$Operation", "sort", "I", true) ∧ ∃ a b : Int, (zfl 16 o)[1]? = some (1, 0, a, b) ∧ a * 35 + b = 6 := fun o h _ => by
  obtain rfl : o = 35 := by omega
  exact ⟨⟨(RX33, TX33, 3), rfl, Nat.le_of_ble_eq_true rfl, rfl, in_X33⟩, _, _, rfl, by decide⟩
theorem zh_16_35_2 : ∀ o : Nat, (o : Int) = 35 → o < zcnt 16 → zFo 16 o 2 ("RingHouse$Operation", "registers", "I", true) ∧ ∃ a b : Int, (zfl 16 o)[2]? = some (1, 0, a, b) ∧ a * 35 + b = 0 := fun o h _ => by
  obtain rfl : o = 35 := by omega
  exact ⟨⟨(RX33, TX33, 3), rfl, Nat.le_of_ble_eq_true rfl, rfl, in_X33⟩, _, _, rfl, by decide⟩
theorem zh_16_36_1 : ∀ o : Nat, (o : Int) = 36 → o < zcnt 16 → zFo 16 o 1 ("RingHouse$Operation", "sort", "I", true) ∧ ∃ a b : Int, (zfl 16 o)[1]? = some (1, 0, a, b) ∧ a * 36 + b = 0 := fun o h _ => by
  obtain rfl : o = 36 := by omega
  exact ⟨⟨(RX34, TX34, 3), rfl, Nat.le_of_ble_eq_true rfl, rfl, in_X34⟩, _, _, rfl, by decide⟩
theorem zh_16_36_2 : ∀ o : Nat, (o : Int) = 36 → o < zcnt 16 → zFo 16 o 2 ("RingHouse$Operation", "registers", "I", true) ∧ ∃ a b : Int, (zfl 16 o)[2]? = some (1, 0, a, b) ∧ a * 36 + b = 0 := fun o h _ => by
  obtain rfl : o = 36 := by omega
  exact ⟨⟨(RX34, TX34, 3), rfl, Nat.le_of_ble_eq_true rfl, rfl, in_X34⟩, _, _, rfl, by decide⟩
theorem zh_16_37_1 : ∀ o : Nat, (o : Int) = 37 → o < zcnt 16 → zFo 16 o 1 ("RingHouse$Operation", "sort", "I", true) ∧ ∃ a b : Int, (zfl 16 o)[1]? = some (1, 0, a, b) ∧ a * 37 + b = 0 := fun o h _ => by
  obtain rfl : o = 37 := by omega
  exact ⟨⟨(RX35, TX35, 3), rfl, Nat.le_of_ble_eq_true rfl, rfl, in_X35⟩, _, _, rfl, by decide⟩
theorem zh_16_37_2 : ∀ o : Nat, (o : Int) = 37 → o < zcnt 16 → zFo 16 o 2 ("RingHouse$Operation", "registers", "I", true) ∧ ∃ a b : Int, (zfl 16 o)[2]? = some (1, 0, a, b) ∧ a * 37 + b = 0 := fun o h _ => by
  obtain rfl : o = 37 := by omega
  exact ⟨⟨(RX35, TX35, 3), rfl, Nat.le_of_ble_eq_true rfl, rfl, in_X35⟩, _, _, rfl, by decide⟩
theorem zh_38_1_0 : ∀ o : Nat, (o : Int) = 1 → o < zcnt 38 → zFo 38 o 0 ("RingHouse$Entered", "how", "I", true) ∧ ∃ a b : Int, (zfl 38 o)[0]? = some (1, 0, a, b) ∧ a * 1 + b = 1 := fun o h _ => by
  obtain rfl : o = 1 := by omega
  exact ⟨⟨(RX39, TX39, 1), rfl, Nat.le_of_ble_eq_true rfl, rfl, in_X39⟩, _, _, rfl, by decide⟩
theorem zh_38_2_0 : ∀ o : Nat, (o : Int) = 2 → o < zcnt 38 → zFo 38 o 0 ("RingHouse$Leave", "toRoot", "Z", true) ∧ ∃ a b : Int, (zfl 38 o)[0]? = some (1, 0, a, b) ∧ a * 2 + b = 0 := fun o h _ => by
  obtain rfl : o = 2 := by omega
  exact ⟨⟨(RX40, TX40, 1), rfl, Nat.le_of_ble_eq_true rfl, rfl, in_X40⟩, _, _, rfl, by decide⟩
theorem zh_38_3_0 : ∀ o : Nat, (o : Int) = 3 → o < zcnt 38 → zFo 38 o 0 ("RingHouse$Leave", "toRoot", "Z", true) ∧ ∃ a b : Int, (zfl 38 o)[0]? = some (1, 0, a, b) ∧ a * 3 + b = 1 := fun o h _ => by
  obtain rfl : o = 3 := by omega
  exact ⟨⟨(RX40, TX40, 1), rfl, Nat.le_of_ble_eq_true rfl, rfl, in_X40⟩, _, _, rfl, by decide⟩
theorem zh_38_4_0 : ∀ o : Nat, (o : Int) = 4 → o < zcnt 38 → zFo 38 o 0 ("RingHouse$Entered", "how", "I", true) ∧ ∃ a b : Int, (zfl 38 o)[0]? = some (1, 0, a, b) ∧ a * 4 + b = 1 := fun o h _ => by
  obtain rfl : o = 4 := by omega
  exact ⟨⟨(RX41, TX41, 1), rfl, Nat.le_of_ble_eq_true rfl, rfl, in_X41⟩, _, _, rfl, by decide⟩
theorem zh_38_7_0 : ∀ o : Nat, (o : Int) = 7 → o < zcnt 38 → zFo 38 o 0 ("RingHouse$Entered", "how", "I", true) ∧ ∃ a b : Int, (zfl 38 o)[0]? = some (1, 0, a, b) ∧ a * 7 + b = 1 := fun o h _ => by
  obtain rfl : o = 7 := by omega
  exact ⟨⟨(RX44, TX44, 1), rfl, Nat.le_of_ble_eq_true rfl, rfl, in_X44⟩, _, _, rfl, by decide⟩
theorem zh_38_8_0 : ∀ o : Nat, (o : Int) = 8 → o < zcnt 38 → zFo 38 o 0 ("RingHouse$Create", "kind", "I", true) ∧ ∃ a b : Int, (zfl 38 o)[0]? = some (1, 0, a, b) ∧ a * 8 + b = 2 := fun o h _ => by
  obtain rfl : o = 8 := by omega
  exact ⟨⟨(RX45, TX45, 1), rfl, Nat.le_of_ble_eq_true rfl, rfl, in_X45⟩, _, _, rfl, by decide⟩
theorem zh_38_9_0 : ∀ o : Nat, (o : Int) = 9 → o < zcnt 38 → zFo 38 o 0 ("RingHouse$Create", "kind", "I", true) ∧ ∃ a b : Int, (zfl 38 o)[0]? = some (1, 0, a, b) ∧ a * 9 + b = 1 := fun o h _ => by
  obtain rfl : o = 9 := by omega
  exact ⟨⟨(RX45, TX45, 1), rfl, Nat.le_of_ble_eq_true rfl, rfl, in_X45⟩, _, _, rfl, by decide⟩
theorem zh_38_10_0 : ∀ o : Nat, (o : Int) = 10 → o < zcnt 38 → zFo 38 o 0 ("RingHouse$Entered", "how", "I", true) ∧ ∃ a b : Int, (zfl 38 o)[0]? = some (1, 0, a, b) ∧ a * 10 + b = 2 := fun o h _ => by
  obtain rfl : o = 10 := by omega
  exact ⟨⟨(RX46, TX46, 1), rfl, Nat.le_of_ble_eq_true rfl, rfl, in_X46⟩, _, _, rfl, by decide⟩
theorem zh_38_11_0 : ∀ o : Nat, (o : Int) = 11 → o < zcnt 38 → zFo 38 o 0 ("RingHouse$Entered", "how", "I", true) ∧ ∃ a b : Int, (zfl 38 o)[0]? = some (1, 0, a, b) ∧ a * 11 + b = 2 := fun o h _ => by
  obtain rfl : o = 11 := by omega
  exact ⟨⟨(RX47, TX47, 1), rfl, Nat.le_of_ble_eq_true rfl, rfl, in_X47⟩, _, _, rfl, by decide⟩
theorem zh_38_12_0 : ∀ o : Nat, (o : Int) = 12 → o < zcnt 38 → zFo 38 o 0 ("RingHouse$Entered", "how", "I", true) ∧ ∃ a b : Int, (zfl 38 o)[0]? = some (1, 0, a, b) ∧ a * 12 + b = 2 := fun o h _ => by
  obtain rfl : o = 12 := by omega
  exact ⟨⟨(RX48, TX48, 1), rfl, Nat.le_of_ble_eq_true rfl, rfl, in_X48⟩, _, _, rfl, by decide⟩
theorem zh_38_13_0 : ∀ o : Nat, (o : Int) = 13 → o < zcnt 38 → zFo 38 o 0 ("RingHouse$Entered", "how", "I", true) ∧ ∃ a b : Int, (zfl 38 o)[0]? = some (1, 0, a, b) ∧ a * 13 + b = 2 := fun o h _ => by
  obtain rfl : o = 13 := by omega
  exact ⟨⟨(RX49, TX49, 1), rfl, Nat.le_of_ble_eq_true rfl, rfl, in_X49⟩, _, _, rfl, by decide⟩
theorem zh_38_15_0 : ∀ o : Nat, (o : Int) = 15 → o < zcnt 38 → zFo 38 o 0 ("RingHouse$Entered", "how", "I", true) ∧ ∃ a b : Int, (zfl 38 o)[0]? = some (1, 0, a, b) ∧ a * 15 + b = 2 := fun o h _ => by
  obtain rfl : o = 15 := by omega
  exact ⟨⟨(RX51, TX51, 1), rfl, Nat.le_of_ble_eq_true rfl, rfl, in_X51⟩, _, _, rfl, by decide⟩
theorem zh_38_21_0 : ∀ o : Nat, (o : Int) = 21 → o < zcnt 38 → zFo 38 o 0 ("RingHouse$Self", "isTime", "Z", true) ∧ ∃ a b : Int, (zfl 38 o)[0]? = some (1, 0, a, b) ∧ a * 21 + b = 1 := fun o h _ => by
  obtain rfl : o = 21 := by omega
  exact ⟨⟨(RX57, TX57, 1), rfl, Nat.le_of_ble_eq_true rfl, rfl, in_X57⟩, _, _, rfl, by decide⟩
theorem zh_38_22_0 : ∀ o : Nat, (o : Int) = 22 → o < zcnt 38 → zFo 38 o 0 ("RingHouse$Self", "isTime", "Z", true) ∧ ∃ a b : Int, (zfl 38 o)[0]? = some (1, 0, a, b) ∧ a * 22 + b = 0 := fun o h _ => by
  obtain rfl : o = 22 := by omega
  exact ⟨⟨(RX57, TX57, 1), rfl, Nat.le_of_ble_eq_true rfl, rfl, in_X57⟩, _, _, rfl, by decide⟩
theorem zh_38_25_0 : ∀ o : Nat, (o : Int) = 25 → o < zcnt 38 → zFo 38 o 0 ("RingHouse$Mailed", "mode", "I", true) ∧ ∃ a b : Int, (zfl 38 o)[0]? = some (1, 0, a, b) ∧ a * 25 + b = 1 := fun o h _ => by
  obtain rfl : o = 25 := by omega
  exact ⟨⟨(RX61, TX61, 2), rfl, Nat.le_of_ble_eq_true rfl, rfl, in_X61⟩, _, _, rfl, by decide⟩
theorem zh_38_25_1 : ∀ o : Nat, (o : Int) = 25 → o < zcnt 38 → zFo 38 o 1 ("RingHouse$Entered", "how", "I", true) ∧ ∃ a b : Int, (zfl 38 o)[1]? = some (1, 0, a, b) ∧ a * 25 + b = 1 := fun o h _ => by
  obtain rfl : o = 25 := by omega
  exact ⟨⟨(RX61, TX61, 2), rfl, Nat.le_of_ble_eq_true rfl, rfl, in_X61⟩, _, _, rfl, by decide⟩
theorem zh_38_26_0 : ∀ o : Nat, (o : Int) = 26 → o < zcnt 38 → zFo 38 o 0 ("RingHouse$Mailed", "mode", "I", true) ∧ ∃ a b : Int, (zfl 38 o)[0]? = some (1, 0, a, b) ∧ a * 26 + b = 2 := fun o h _ => by
  obtain rfl : o = 26 := by omega
  exact ⟨⟨(RX62, TX62, 2), rfl, Nat.le_of_ble_eq_true rfl, rfl, in_X62⟩, _, _, rfl, by decide⟩
theorem zh_38_26_1 : ∀ o : Nat, (o : Int) = 26 → o < zcnt 38 → zFo 38 o 1 ("RingHouse$Entered", "how", "I", true) ∧ ∃ a b : Int, (zfl 38 o)[1]? = some (1, 0, a, b) ∧ a * 26 + b = 1 := fun o h _ => by
  obtain rfl : o = 26 := by omega
  exact ⟨⟨(RX62, TX62, 2), rfl, Nat.le_of_ble_eq_true rfl, rfl, in_X62⟩, _, _, rfl, by decide⟩
theorem zh_38_27_0 : ∀ o : Nat, (o : Int) = 27 → o < zcnt 38 → zFo 38 o 0 ("RingHouse$Mailed", "mode", "I", true) ∧ ∃ a b : Int, (zfl 38 o)[0]? = some (1, 0, a, b) ∧ a * 27 + b = 4 := fun o h _ => by
  obtain rfl : o = 27 := by omega
  exact ⟨⟨(RX63, TX63, 2), rfl, Nat.le_of_ble_eq_true rfl, rfl, in_X63⟩, _, _, rfl, by decide⟩
theorem zh_38_27_1 : ∀ o : Nat, (o : Int) = 27 → o < zcnt 38 → zFo 38 o 1 ("RingHouse$Entered", "how", "I", true) ∧ ∃ a b : Int, (zfl 38 o)[1]? = some (1, 0, a, b) ∧ a * 27 + b = 1 := fun o h _ => by
  obtain rfl : o = 27 := by omega
  exact ⟨⟨(RX63, TX63, 2), rfl, Nat.le_of_ble_eq_true rfl, rfl, in_X63⟩, _, _, rfl, by decide⟩
theorem zh_38_28_0 : ∀ o : Nat, (o : Int) = 28 → o < zcnt 38 → zFo 38 o 0 ("RingHouse$Create", "kind", "I", true) ∧ ∃ a b : Int, (zfl 38 o)[0]? = some (1, 0, a, b) ∧ a * 28 + b = 3 := fun o h _ => by
  obtain rfl : o = 28 := by omega
  exact ⟨⟨(RX45, TX45, 1), rfl, Nat.le_of_ble_eq_true rfl, rfl, in_X45⟩, _, _, rfl, by decide⟩
theorem zhv_name (x : Int) : ∀ o : Nat, (o : Int) = x → o < zcnt 16 → zFo 16 o 0 ("RingHouse$Operation", "name", "Ljava/lang/String;", true) ∧ ∃ a b : Int, (zfl 16 o)[0]? = some (1, 70, a, b) ∧ a * x + b = x := by
  intro o h hlt
  subst h
  have hlt : o < 38 := hlt
  match o, hlt with
  | 0, _ => exact ⟨⟨(RX15, TX15, 4), rfl, Nat.le_of_ble_eq_true rfl, rfl, in_X15⟩, 0, _, rfl, by decide⟩
  | 1, _ => exact ⟨⟨(RX15, TX15, 4), rfl, Nat.le_of_ble_eq_true rfl, rfl, in_X15⟩, 0, _, rfl, by decide⟩
  | 2, _ => exact ⟨⟨(RX16, TX16, 4), rfl, Nat.le_of_ble_eq_true rfl, rfl, in_X16⟩, 0, _, rfl, by decide⟩
  | 3, _ => exact ⟨⟨(RX16, TX16, 4), rfl, Nat.le_of_ble_eq_true rfl, rfl, in_X16⟩, 0, _, rfl, by decide⟩
  | 4, _ => exact ⟨⟨(RX18, TX18, 4), rfl, Nat.le_of_ble_eq_true rfl, rfl, in_X18⟩, 0, _, rfl, by decide⟩
  | 5, _ => exact ⟨⟨(RX18, TX18, 4), rfl, Nat.le_of_ble_eq_true rfl, rfl, in_X18⟩, 0, _, rfl, by decide⟩
  | 6, _ => exact ⟨⟨(RX19, TX19, 3), rfl, Nat.le_of_ble_eq_true rfl, rfl, in_X19⟩, 0, _, rfl, by decide⟩
  | 7, _ => exact ⟨⟨(RX20, TX20, 3), rfl, Nat.le_of_ble_eq_true rfl, rfl, in_X20⟩, 0, _, rfl, by decide⟩
  | 8, _ => exact ⟨⟨(RX21, TX21, 4), rfl, Nat.le_of_ble_eq_true rfl, rfl, in_X21⟩, 0, _, rfl, by decide⟩
  | 9, _ => exact ⟨⟨(RX21, TX21, 4), rfl, Nat.le_of_ble_eq_true rfl, rfl, in_X21⟩, 0, _, rfl, by decide⟩
  | 10, _ => exact ⟨⟨(RX21, TX21, 4), rfl, Nat.le_of_ble_eq_true rfl, rfl, in_X21⟩, 0, _, rfl, by decide⟩
  | 11, _ => exact ⟨⟨(RX22, TX22, 3), rfl, Nat.le_of_ble_eq_true rfl, rfl, in_X22⟩, 0, _, rfl, by decide⟩
  | 12, _ => exact ⟨⟨(RX23, TX23, 4), rfl, Nat.le_of_ble_eq_true rfl, rfl, in_X23⟩, 0, _, rfl, by decide⟩
  | 13, _ => exact ⟨⟨(RX23, TX23, 4), rfl, Nat.le_of_ble_eq_true rfl, rfl, in_X23⟩, 0, _, rfl, by decide⟩
  | 14, _ => exact ⟨⟨(RX24, TX24, 4), rfl, Nat.le_of_ble_eq_true rfl, rfl, in_X24⟩, 0, _, rfl, by decide⟩
  | 15, _ => exact ⟨⟨(RX24, TX24, 4), rfl, Nat.le_of_ble_eq_true rfl, rfl, in_X24⟩, 0, _, rfl, by decide⟩
  | 16, _ => exact ⟨⟨(RX24, TX24, 4), rfl, Nat.le_of_ble_eq_true rfl, rfl, in_X24⟩, 0, _, rfl, by decide⟩
  | 17, _ => exact ⟨⟨(RX24, TX24, 4), rfl, Nat.le_of_ble_eq_true rfl, rfl, in_X24⟩, 0, _, rfl, by decide⟩
  | 18, _ => exact ⟨⟨(RX25, TX25, 3), rfl, Nat.le_of_ble_eq_true rfl, rfl, in_X25⟩, 0, _, rfl, by decide⟩
  | 19, _ => exact ⟨⟨(RX26, TX26, 3), rfl, Nat.le_of_ble_eq_true rfl, rfl, in_X26⟩, 0, _, rfl, by decide⟩
  | 20, _ => exact ⟨⟨(RX27, TX27, 4), rfl, Nat.le_of_ble_eq_true rfl, rfl, in_X27⟩, 0, _, rfl, by decide⟩
  | 21, _ => exact ⟨⟨(RX27, TX27, 4), rfl, Nat.le_of_ble_eq_true rfl, rfl, in_X27⟩, 0, _, rfl, by decide⟩
  | 22, _ => exact ⟨⟨(RX28, TX28, 4), rfl, Nat.le_of_ble_eq_true rfl, rfl, in_X28⟩, 0, _, rfl, by decide⟩
  | 23, _ => exact ⟨⟨(RX28, TX28, 4), rfl, Nat.le_of_ble_eq_true rfl, rfl, in_X28⟩, 0, _, rfl, by decide⟩
  | 24, _ => exact ⟨⟨(RX28, TX28, 4), rfl, Nat.le_of_ble_eq_true rfl, rfl, in_X28⟩, 0, _, rfl, by decide⟩
  | 25, _ => exact ⟨⟨(RX29, TX29, 4), rfl, Nat.le_of_ble_eq_true rfl, rfl, in_X29⟩, 0, _, rfl, by decide⟩
  | 26, _ => exact ⟨⟨(RX29, TX29, 4), rfl, Nat.le_of_ble_eq_true rfl, rfl, in_X29⟩, 0, _, rfl, by decide⟩
  | 27, _ => exact ⟨⟨(RX30, TX30, 4), rfl, Nat.le_of_ble_eq_true rfl, rfl, in_X30⟩, 0, _, rfl, by decide⟩
  | 28, _ => exact ⟨⟨(RX30, TX30, 4), rfl, Nat.le_of_ble_eq_true rfl, rfl, in_X30⟩, 0, _, rfl, by decide⟩
  | 29, _ => exact ⟨⟨(RX30, TX30, 4), rfl, Nat.le_of_ble_eq_true rfl, rfl, in_X30⟩, 0, _, rfl, by decide⟩
  | 30, _ => exact ⟨⟨(RX30, TX30, 4), rfl, Nat.le_of_ble_eq_true rfl, rfl, in_X30⟩, 0, _, rfl, by decide⟩
  | 31, _ => exact ⟨⟨(RX30, TX30, 4), rfl, Nat.le_of_ble_eq_true rfl, rfl, in_X30⟩, 0, _, rfl, by decide⟩
  | 32, _ => exact ⟨⟨(RX30, TX30, 4), rfl, Nat.le_of_ble_eq_true rfl, rfl, in_X30⟩, 0, _, rfl, by decide⟩
  | 33, _ => exact ⟨⟨(RX31, TX31, 3), rfl, Nat.le_of_ble_eq_true rfl, rfl, in_X31⟩, 0, _, rfl, by decide⟩
  | 34, _ => exact ⟨⟨(RX32, TX32, 3), rfl, Nat.le_of_ble_eq_true rfl, rfl, in_X32⟩, 0, _, rfl, by decide⟩
  | 35, _ => exact ⟨⟨(RX33, TX33, 3), rfl, Nat.le_of_ble_eq_true rfl, rfl, in_X33⟩, 0, _, rfl, by decide⟩
  | 36, _ => exact ⟨⟨(RX34, TX34, 3), rfl, Nat.le_of_ble_eq_true rfl, rfl, in_X34⟩, 0, _, rfl, by decide⟩
  | 37, _ => exact ⟨⟨(RX35, TX35, 3), rfl, Nat.le_of_ble_eq_true rfl, rfl, in_X35⟩, 0, _, rfl, by decide⟩
  | n + 38, hlt => exact absurd hlt (by omega)
theorem zhv_sort (x : Int) : ∀ o : Nat, (o : Int) = x → o < zcnt 16 → zFo 16 o 1 ("RingHouse$Operation", "sort", "I", true) ∧ ∃ a b : Int, (zfl 16 o)[1]? = some (1, 0, a, b) ∧ a * x + b = zsort x := by
  intro o h hlt
  subst h
  have hlt : o < 38 := hlt
  match o, hlt with
  | 0, _ => exact ⟨⟨(RX15, TX15, 4), rfl, Nat.le_of_ble_eq_true rfl, rfl, in_X15⟩, 0, _, rfl, by decide⟩
  | 1, _ => exact ⟨⟨(RX15, TX15, 4), rfl, Nat.le_of_ble_eq_true rfl, rfl, in_X15⟩, 0, _, rfl, by decide⟩
  | 2, _ => exact ⟨⟨(RX16, TX16, 4), rfl, Nat.le_of_ble_eq_true rfl, rfl, in_X16⟩, 0, _, rfl, by decide⟩
  | 3, _ => exact ⟨⟨(RX16, TX16, 4), rfl, Nat.le_of_ble_eq_true rfl, rfl, in_X16⟩, 0, _, rfl, by decide⟩
  | 4, _ => exact ⟨⟨(RX18, TX18, 4), rfl, Nat.le_of_ble_eq_true rfl, rfl, in_X18⟩, 0, _, rfl, by decide⟩
  | 5, _ => exact ⟨⟨(RX18, TX18, 4), rfl, Nat.le_of_ble_eq_true rfl, rfl, in_X18⟩, 0, _, rfl, by decide⟩
  | 6, _ => exact ⟨⟨(RX19, TX19, 3), rfl, Nat.le_of_ble_eq_true rfl, rfl, in_X19⟩, 0, _, rfl, by decide⟩
  | 7, _ => exact ⟨⟨(RX20, TX20, 3), rfl, Nat.le_of_ble_eq_true rfl, rfl, in_X20⟩, 0, _, rfl, by decide⟩
  | 8, _ => exact ⟨⟨(RX21, TX21, 4), rfl, Nat.le_of_ble_eq_true rfl, rfl, in_X21⟩, 0, _, rfl, by decide⟩
  | 9, _ => exact ⟨⟨(RX21, TX21, 4), rfl, Nat.le_of_ble_eq_true rfl, rfl, in_X21⟩, 0, _, rfl, by decide⟩
  | 10, _ => exact ⟨⟨(RX21, TX21, 4), rfl, Nat.le_of_ble_eq_true rfl, rfl, in_X21⟩, 0, _, rfl, by decide⟩
  | 11, _ => exact ⟨⟨(RX22, TX22, 3), rfl, Nat.le_of_ble_eq_true rfl, rfl, in_X22⟩, 0, _, rfl, by decide⟩
  | 12, _ => exact ⟨⟨(RX23, TX23, 4), rfl, Nat.le_of_ble_eq_true rfl, rfl, in_X23⟩, 0, _, rfl, by decide⟩
  | 13, _ => exact ⟨⟨(RX23, TX23, 4), rfl, Nat.le_of_ble_eq_true rfl, rfl, in_X23⟩, 0, _, rfl, by decide⟩
  | 14, _ => exact ⟨⟨(RX24, TX24, 4), rfl, Nat.le_of_ble_eq_true rfl, rfl, in_X24⟩, 0, _, rfl, by decide⟩
  | 15, _ => exact ⟨⟨(RX24, TX24, 4), rfl, Nat.le_of_ble_eq_true rfl, rfl, in_X24⟩, 0, _, rfl, by decide⟩
  | 16, _ => exact ⟨⟨(RX24, TX24, 4), rfl, Nat.le_of_ble_eq_true rfl, rfl, in_X24⟩, 0, _, rfl, by decide⟩
  | 17, _ => exact ⟨⟨(RX24, TX24, 4), rfl, Nat.le_of_ble_eq_true rfl, rfl, in_X24⟩, 0, _, rfl, by decide⟩
  | 18, _ => exact ⟨⟨(RX25, TX25, 3), rfl, Nat.le_of_ble_eq_true rfl, rfl, in_X25⟩, 0, _, rfl, by decide⟩
  | 19, _ => exact ⟨⟨(RX26, TX26, 3), rfl, Nat.le_of_ble_eq_true rfl, rfl, in_X26⟩, 0, _, rfl, by decide⟩
  | 20, _ => exact ⟨⟨(RX27, TX27, 4), rfl, Nat.le_of_ble_eq_true rfl, rfl, in_X27⟩, 0, _, rfl, by decide⟩
  | 21, _ => exact ⟨⟨(RX27, TX27, 4), rfl, Nat.le_of_ble_eq_true rfl, rfl, in_X27⟩, 0, _, rfl, by decide⟩
  | 22, _ => exact ⟨⟨(RX28, TX28, 4), rfl, Nat.le_of_ble_eq_true rfl, rfl, in_X28⟩, 0, _, rfl, by decide⟩
  | 23, _ => exact ⟨⟨(RX28, TX28, 4), rfl, Nat.le_of_ble_eq_true rfl, rfl, in_X28⟩, 0, _, rfl, by decide⟩
  | 24, _ => exact ⟨⟨(RX28, TX28, 4), rfl, Nat.le_of_ble_eq_true rfl, rfl, in_X28⟩, 0, _, rfl, by decide⟩
  | 25, _ => exact ⟨⟨(RX29, TX29, 4), rfl, Nat.le_of_ble_eq_true rfl, rfl, in_X29⟩, 0, _, rfl, by decide⟩
  | 26, _ => exact ⟨⟨(RX29, TX29, 4), rfl, Nat.le_of_ble_eq_true rfl, rfl, in_X29⟩, 0, _, rfl, by decide⟩
  | 27, _ => exact ⟨⟨(RX30, TX30, 4), rfl, Nat.le_of_ble_eq_true rfl, rfl, in_X30⟩, 0, _, rfl, by decide⟩
  | 28, _ => exact ⟨⟨(RX30, TX30, 4), rfl, Nat.le_of_ble_eq_true rfl, rfl, in_X30⟩, 0, _, rfl, by decide⟩
  | 29, _ => exact ⟨⟨(RX30, TX30, 4), rfl, Nat.le_of_ble_eq_true rfl, rfl, in_X30⟩, 0, _, rfl, by decide⟩
  | 30, _ => exact ⟨⟨(RX30, TX30, 4), rfl, Nat.le_of_ble_eq_true rfl, rfl, in_X30⟩, 0, _, rfl, by decide⟩
  | 31, _ => exact ⟨⟨(RX30, TX30, 4), rfl, Nat.le_of_ble_eq_true rfl, rfl, in_X30⟩, 0, _, rfl, by decide⟩
  | 32, _ => exact ⟨⟨(RX30, TX30, 4), rfl, Nat.le_of_ble_eq_true rfl, rfl, in_X30⟩, 0, _, rfl, by decide⟩
  | 33, _ => exact ⟨⟨(RX31, TX31, 3), rfl, Nat.le_of_ble_eq_true rfl, rfl, in_X31⟩, 0, _, rfl, by decide⟩
  | 34, _ => exact ⟨⟨(RX32, TX32, 3), rfl, Nat.le_of_ble_eq_true rfl, rfl, in_X32⟩, 0, _, rfl, by decide⟩
  | 35, _ => exact ⟨⟨(RX33, TX33, 3), rfl, Nat.le_of_ble_eq_true rfl, rfl, in_X33⟩, 0, _, rfl, by decide⟩
  | 36, _ => exact ⟨⟨(RX34, TX34, 3), rfl, Nat.le_of_ble_eq_true rfl, rfl, in_X34⟩, 0, _, rfl, by decide⟩
  | 37, _ => exact ⟨⟨(RX35, TX35, 3), rfl, Nat.le_of_ble_eq_true rfl, rfl, in_X35⟩, 0, _, rfl, by decide⟩
  | n + 38, hlt => exact absurd hlt (by omega)
theorem zhv_registers (x : Int) : ∀ o : Nat, (o : Int) = x → o < zcnt 16 → zFo 16 o 2 ("RingHouse$Operation", "registers", "I", true) ∧ ∃ a b : Int, (zfl 16 o)[2]? = some (1, 0, a, b) ∧ a * x + b = zregs x := by
  intro o h hlt
  subst h
  have hlt : o < 38 := hlt
  match o, hlt with
  | 0, _ => exact ⟨⟨(RX15, TX15, 4), rfl, Nat.le_of_ble_eq_true rfl, rfl, in_X15⟩, 0, _, rfl, by decide⟩
  | 1, _ => exact ⟨⟨(RX15, TX15, 4), rfl, Nat.le_of_ble_eq_true rfl, rfl, in_X15⟩, 0, _, rfl, by decide⟩
  | 2, _ => exact ⟨⟨(RX16, TX16, 4), rfl, Nat.le_of_ble_eq_true rfl, rfl, in_X16⟩, 0, _, rfl, by decide⟩
  | 3, _ => exact ⟨⟨(RX16, TX16, 4), rfl, Nat.le_of_ble_eq_true rfl, rfl, in_X16⟩, 0, _, rfl, by decide⟩
  | 4, _ => exact ⟨⟨(RX18, TX18, 4), rfl, Nat.le_of_ble_eq_true rfl, rfl, in_X18⟩, 0, _, rfl, by decide⟩
  | 5, _ => exact ⟨⟨(RX18, TX18, 4), rfl, Nat.le_of_ble_eq_true rfl, rfl, in_X18⟩, 0, _, rfl, by decide⟩
  | 6, _ => exact ⟨⟨(RX19, TX19, 3), rfl, Nat.le_of_ble_eq_true rfl, rfl, in_X19⟩, 0, _, rfl, by decide⟩
  | 7, _ => exact ⟨⟨(RX20, TX20, 3), rfl, Nat.le_of_ble_eq_true rfl, rfl, in_X20⟩, 0, _, rfl, by decide⟩
  | 8, _ => exact ⟨⟨(RX21, TX21, 4), rfl, Nat.le_of_ble_eq_true rfl, rfl, in_X21⟩, 0, _, rfl, by decide⟩
  | 9, _ => exact ⟨⟨(RX21, TX21, 4), rfl, Nat.le_of_ble_eq_true rfl, rfl, in_X21⟩, 0, _, rfl, by decide⟩
  | 10, _ => exact ⟨⟨(RX21, TX21, 4), rfl, Nat.le_of_ble_eq_true rfl, rfl, in_X21⟩, 0, _, rfl, by decide⟩
  | 11, _ => exact ⟨⟨(RX22, TX22, 3), rfl, Nat.le_of_ble_eq_true rfl, rfl, in_X22⟩, 0, _, rfl, by decide⟩
  | 12, _ => exact ⟨⟨(RX23, TX23, 4), rfl, Nat.le_of_ble_eq_true rfl, rfl, in_X23⟩, 0, _, rfl, by decide⟩
  | 13, _ => exact ⟨⟨(RX23, TX23, 4), rfl, Nat.le_of_ble_eq_true rfl, rfl, in_X23⟩, 0, _, rfl, by decide⟩
  | 14, _ => exact ⟨⟨(RX24, TX24, 4), rfl, Nat.le_of_ble_eq_true rfl, rfl, in_X24⟩, 0, _, rfl, by decide⟩
  | 15, _ => exact ⟨⟨(RX24, TX24, 4), rfl, Nat.le_of_ble_eq_true rfl, rfl, in_X24⟩, 0, _, rfl, by decide⟩
  | 16, _ => exact ⟨⟨(RX24, TX24, 4), rfl, Nat.le_of_ble_eq_true rfl, rfl, in_X24⟩, 0, _, rfl, by decide⟩
  | 17, _ => exact ⟨⟨(RX24, TX24, 4), rfl, Nat.le_of_ble_eq_true rfl, rfl, in_X24⟩, 0, _, rfl, by decide⟩
  | 18, _ => exact ⟨⟨(RX25, TX25, 3), rfl, Nat.le_of_ble_eq_true rfl, rfl, in_X25⟩, 0, _, rfl, by decide⟩
  | 19, _ => exact ⟨⟨(RX26, TX26, 3), rfl, Nat.le_of_ble_eq_true rfl, rfl, in_X26⟩, 0, _, rfl, by decide⟩
  | 20, _ => exact ⟨⟨(RX27, TX27, 4), rfl, Nat.le_of_ble_eq_true rfl, rfl, in_X27⟩, 0, _, rfl, by decide⟩
  | 21, _ => exact ⟨⟨(RX27, TX27, 4), rfl, Nat.le_of_ble_eq_true rfl, rfl, in_X27⟩, 0, _, rfl, by decide⟩
  | 22, _ => exact ⟨⟨(RX28, TX28, 4), rfl, Nat.le_of_ble_eq_true rfl, rfl, in_X28⟩, 0, _, rfl, by decide⟩
  | 23, _ => exact ⟨⟨(RX28, TX28, 4), rfl, Nat.le_of_ble_eq_true rfl, rfl, in_X28⟩, 0, _, rfl, by decide⟩
  | 24, _ => exact ⟨⟨(RX28, TX28, 4), rfl, Nat.le_of_ble_eq_true rfl, rfl, in_X28⟩, 0, _, rfl, by decide⟩
  | 25, _ => exact ⟨⟨(RX29, TX29, 4), rfl, Nat.le_of_ble_eq_true rfl, rfl, in_X29⟩, 0, _, rfl, by decide⟩
  | 26, _ => exact ⟨⟨(RX29, TX29, 4), rfl, Nat.le_of_ble_eq_true rfl, rfl, in_X29⟩, 0, _, rfl, by decide⟩
  | 27, _ => exact ⟨⟨(RX30, TX30, 4), rfl, Nat.le_of_ble_eq_true rfl, rfl, in_X30⟩, 0, _, rfl, by decide⟩
  | 28, _ => exact ⟨⟨(RX30, TX30, 4), rfl, Nat.le_of_ble_eq_true rfl, rfl, in_X30⟩, 0, _, rfl, by decide⟩
  | 29, _ => exact ⟨⟨(RX30, TX30, 4), rfl, Nat.le_of_ble_eq_true rfl, rfl, in_X30⟩, 0, _, rfl, by decide⟩
  | 30, _ => exact ⟨⟨(RX30, TX30, 4), rfl, Nat.le_of_ble_eq_true rfl, rfl, in_X30⟩, 0, _, rfl, by decide⟩
  | 31, _ => exact ⟨⟨(RX30, TX30, 4), rfl, Nat.le_of_ble_eq_true rfl, rfl, in_X30⟩, 0, _, rfl, by decide⟩
  | 32, _ => exact ⟨⟨(RX30, TX30, 4), rfl, Nat.le_of_ble_eq_true rfl, rfl, in_X30⟩, 0, _, rfl, by decide⟩
  | 33, _ => exact ⟨⟨(RX31, TX31, 3), rfl, Nat.le_of_ble_eq_true rfl, rfl, in_X31⟩, 0, _, rfl, by decide⟩
  | 34, _ => exact ⟨⟨(RX32, TX32, 3), rfl, Nat.le_of_ble_eq_true rfl, rfl, in_X32⟩, 0, _, rfl, by decide⟩
  | 35, _ => exact ⟨⟨(RX33, TX33, 3), rfl, Nat.le_of_ble_eq_true rfl, rfl, in_X33⟩, 0, _, rfl, by decide⟩
  | 36, _ => exact ⟨⟨(RX34, TX34, 3), rfl, Nat.le_of_ble_eq_true rfl, rfl, in_X34⟩, 0, _, rfl, by decide⟩
  | 37, _ => exact ⟨⟨(RX35, TX35, 3), rfl, Nat.le_of_ble_eq_true rfl, rfl, in_X35⟩, 0, _, rfl, by decide⟩
  | n + 38, hlt => exact absurd hlt (by omega)
