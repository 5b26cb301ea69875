def fX67_in (x0 : Int) (x2 : Int) (x4 : Int) : zX :=
  if x0 < x2 then
  (zret 0) else
  (if x4 < x0 then
  (zret 0) else
  (zret 1))
def fX67_isNode (x1 : Int) : zX :=
  zcl (fX67_in x1 0 255) fun v1 => if v1 = 0 then
  (zret 0) else
  (zal 6800 0 x1 256 fun v2 => if v2 ≤ 0 then
  (zret 0) else
  (zret 1))
def fX67_isOf (x1 : Int) (x2 : Int) : zX :=
  zcl (fX67_isNode x1) fun v1 => if v1 = 0 then
  (zret 0) else
  (zal 6800 0 x1 256 fun v2 => if ¬ v2 = x2 then
  (zret 0) else
  (zret 1))
def fX67_isWord (x0 : Int) : zX :=
  zcl (fX67_in x0 0 68719476735) fun v1 => zrb v1
def fX67_isName_J91 (x0 : Int) (x3 : Int) : zX :=
  if x3 = 0 then
  (zret 0) else
  (if (x0 / 1073741824) ≤ 0 then
  (zret 0) else
  (zret 1))
def fX67_isName_J84 (r23 : Int × Int × Int → zX) (x0 : Int) (x3 : Int) (x4 : Int) (s0 : Int) : zX :=
  zlt (zi (x4 + (-6))) fun v3 => r23 (s0, x3, v3)
def fX67_isName_J79 (r23 : Int × Int × Int → zX) (x0 : Int) (x3 : Int) (x4 : Int) : zX :=
  fX67_isName_J84 r23 x0 x3 x4 1
def fX67_isName_J67 (r23 : Int × Int × Int → zX) (x0 : Int) (x2 : Int) (x4 : Int) (x5 : Int) (s0 : Int) : zX :=
  if ¬ x2 = 0 then
  (fX67_isName_J79 r23 x0 s0 x4) else
  (if ¬ x5 = 0 then
  (fX67_isName_J84 r23 x0 s0 x4 0) else
  (fX67_isName_J79 r23 x0 s0 x4))
def fX67_isName_J66 (r23 : Int × Int × Int → zX) (x0 : Int) (x2 : Int) (x4 : Int) (x5 : Int) : zX :=
  fX67_isName_J67 r23 x0 x2 x4 x5 0
def fX67_isName_J62 (r23 : Int × Int × Int → zX) (x0 : Int) (x2 : Int) (x4 : Int) (x5 : Int) : zX :=
  fX67_isName_J67 r23 x0 x2 x4 x5 1
def fX67_isName_B23 (x0 : Int) (r23 : Int × Int × Int → zX) : Int × Int × Int → zX := fun (x2, x3, x4) =>
  if x4 < 0 then
  (fX67_isName_J91 x0 x3) else
  (zlt ((x0 / 2 ^ (x4 % 64).toNat) % 64) fun v2 => if x3 = 0 then
  (fX67_isName_J66 r23 x0 x2 x4 v2) else
  (if 38 < v2 then
  (fX67_isName_J66 r23 x0 x2 x4 v2) else
  (if x2 = 0 then
  (fX67_isName_J62 r23 x0 x2 x4 v2) else
  (if 0 < v2 then
  (fX67_isName_J66 r23 x0 x2 x4 v2) else
  (fX67_isName_J62 r23 x0 x2 x4 v2)))))
def fX67_isName (x0 : Int) : zX :=
  zcl (fX67_isWord x0) fun v1 => if v1 = 0 then
  (zret 0) else
  (if ¬ x0 = 0 then
  (zlp (fX67_isName_B23 x0) zBIG (0, 1, 30)) else
  (zret 0))
def fX67_dominates (x0 : Int) (x1 : Int) : zX :=
  if (zi (Int.tdiv x0 8)) < (zi (Int.tdiv x1 8)) then
  (zret 0) else
  (if ¬ ((zan x0 x1) % 8) = (x1 % 8) then
  (zret 0) else
  (zret 1))
def fX67_entryNamed_J54 (r6 : Int × Int → zX) (x1 : Int) (x2 : Int) (x5 : Int) (s0 : Int) : zX :=
  zlt (zi (x5 + 1)) fun v2 => r6 (s0, v2)
def fX67_entryNamed_J52 (r6 : Int × Int → zX) (x1 : Int) (x2 : Int) (x4 : Int) (x5 : Int) : zX :=
  fX67_entryNamed_J54 r6 x1 x2 x5 x4
def fX67_entryNamed_B6 (x1 : Int) (x2 : Int) (r6 : Int × Int → zX) : Int × Int → zX := fun (x4, x5) =>
  if 256 ≤ x5 then
  (zret x4) else
  (zal 6800 0 x5 256 fun v1 => if v1 ≤ 0 then
  (fX67_entryNamed_J52 r6 x1 x2 x4 x5) else
  (zal 6802 0 x5 256 fun v3 => if ¬ v3 = x1 then
  (fX67_entryNamed_J52 r6 x1 x2 x4 x5) else
  (zal 6801 0 x5 256 fun v4 => if ¬ v4 = x2 then
  (fX67_entryNamed_J52 r6 x1 x2 x4 x5) else
  (fX67_entryNamed_J54 r6 x1 x2 x5 x5))))
def fX67_entryNamed (x1 : Int) (x2 : Int) : zX :=
  zlp (fX67_entryNamed_B6 x1 x2) zBIG ((-1), 1)
def fX67_costOf (x0 : Int) (x1 : Int) : zX :=
  if ¬ x0 = 2 then
  (if ¬ x0 = 3 then
  (zret (zi (1 + x1))) else
  (zret 17)) else
  (zret (zi (1 + (zi (Int.tdiv (zi (x1 + 63)) 64)))))
def fX67_account_B2 (r2 : Int → zX) : Int → zX := fun x2 =>
  zal 6807 0 x2 256 fun v1 => if ¬ v1 = 0 then
  (zret x2) else
  (zal 6802 0 x2 256 fun v2 => r2 v2)
def fX67_account (x1 : Int) : zX :=
  zlp (fX67_account_B2) zBIG x1
def fX67_hasRoom (x1 : Int) (x2 : Int) : zX :=
  zcl (fX67_account x1) fun v1 => zal 6808 0 v1 256 fun v2 => zal 6807 0 v1 256 fun v3 => if v3 < (zi (v2 + x2)) then
  (zret 0) else
  (zret 1)
def fX67_free_B2 (r2 : Int → zX) : Int → zX := fun x1 =>
  if 256 ≤ x1 then
  (zret x1) else
  (zal 6800 0 x1 256 fun v1 => if v1 ≤ 0 then
  (zret x1) else
  (zlt (zi (x1 + 1)) fun v2 => r2 v2))
def fX67_free : zX :=
  zlp (fX67_free_B2) zBIG 0
def fX67_setBrackets (x1 : Int) (x2 : Int) (x3 : Int) (x4 : Int) : zX :=
  zas 6804 0 (zi (3 * x1)) 768 x2 <| zas 6804 0 (zi ((zi (3 * x1)) + 1)) 768 x3 <| zas 6804 0 (zi ((zi (3 * x1)) + 2)) 768 x4 <| zret 0
def fX67_make_J190 (x1 : Int) (x2 : Int) (x6 : Int) (x7 : Int) : zX :=
  zcl (fX67_setBrackets x7 4 4 4) fun _ => zcl (fX67_account x2) fun v5 => zal 6808 0 v5 256 fun v6 => zcl (fX67_costOf x1 x6) fun v7 => zas 6808 0 v5 256 (zi (v6 + v7)) <| zret x7
def fX67_make_B161 (x1 : Int) (x2 : Int) (x6 : Int) (x7 : Int) (r161 : Int → zX) : Int → zX := fun x8 =>
  if 1024 ≤ x8 then
  (fX67_make_J190 x1 x2 x6 x7) else
  (zas 6816 0 (zi ((zi (1024 * x7)) + x8)) 262144 0 <| zlt (zi (x8 + 1)) fun v8 => r161 v8)
def fX67_make_J82 (x1 : Int) (x2 : Int) (x6 : Int) (x7 : Int) (s1 : Int) (s2 : Int) : zX :=
  zas 6807 0 s1 256 s2 <| zas 6808 0 x7 256 0 <| zas 6809 0 x7 256 0 <| zas 6812 0 x7 256 0 <| zas 6814 0 (zi (2 * x7)) 512 0 <| zas 6814 0 (zi ((zi (2 * x7)) + 1)) 512 0 <| zas 6817 0 x7 256 0 <| zgf 6811 0 fun v2 => zpf 6811 0 (zl (v2 + 1)) <| zgf 6811 0 fun v3 => zas 6810 0 x7 256 v3 <| zlp (fX67_make_B161 x1 x2 x6 x7) zBIG 0
def fX67_make_J64 (x1 : Int) (x2 : Int) (x6 : Int) (x7 : Int) (s1 : Int) (s2 : Int) : zX :=
  zas 6806 0 s1 256 s2 <| if ¬ x1 = 1 then
  (fX67_make_J82 x1 x2 x6 x7 x7 0) else
  (fX67_make_J82 x1 x2 x6 x7 x7 x6)
def fX67_make (x1 : Int) (x2 : Int) (x3 : Int) (x5 : Int) (x6 : Int) : zX :=
  zcl fX67_free fun v1 => zas 6800 0 v1 256 x1 <| zas 6801 0 v1 256 x3 <| zas 6802 0 v1 256 x2 <| zas 6803 0 v1 256 x5 <| zas 6805 0 v1 256 0 <| if ¬ x1 = 2 then
  (fX67_make_J64 x1 x2 x6 v1 v1 0) else
  (fX67_make_J64 x1 x2 x6 v1 v1 x6)
def fX67_addItem (x1 : Int) (x2 : Int) (x3 : Int) (x4 : Int) : zX :=
  zal 6812 0 x1 256 fun v1 => zlt (zi ((zi (18 * x1)) + (zi (3 * v1)))) fun v2 => zas 6813 0 v2 4608 x2 <| zas 6813 0 (zi (v2 + 1)) 4608 x3 <| zas 6813 0 (zi (v2 + 2)) 4608 x4 <| zal 6812 0 x1 256 fun v3 => zas 6812 0 x1 256 (zi (v3 + 1)) <| zret 0
def fX67_giveFirsts_J107 (r29 : Int → zX) (x1 : Int) (x2 : Int) (x3 : Int) (x4 : Int) (x5 : Int) : zX :=
  zlt (zi (x5 + 1)) fun v11 => r29 v11
def fX67_giveFirsts_J77 (r29 : Int → zX) (x1 : Int) (x2 : Int) (x3 : Int) (x4 : Int) (x5 : Int) (x6 : Int) : zX :=
  zal 6815 0 x6 4608 fun v7 => zal 6815 0 (zi (x6 + 1)) 4608 fun v8 => zal 6815 0 (zi (x6 + 2)) 4608 fun v9 => zcl (fX67_addItem x1 v7 v8 v9) fun _ => fX67_giveFirsts_J107 r29 x1 x2 x3 x4 x5
def fX67_giveFirsts_B29 (x1 : Int) (x2 : Int) (x3 : Int) (x4 : Int) (r29 : Int → zX) : Int → zX := fun x5 =>
  zal 6814 0 x4 512 fun v4 => if v4 ≤ x5 then
  (zret 0) else
  (zlt (zi ((zi (9 * x4)) + (zi (3 * x5)))) fun v5 => zal 6815 0 v5 4608 fun v6 => if ¬ v6 = x2 then
  (fX67_giveFirsts_J77 r29 x1 x2 x3 x4 x5 v5) else
  (zal 6815 0 (zi (v5 + 1)) 4608 fun v12 => if v12 = x3 then
  (fX67_giveFirsts_J107 r29 x1 x2 x3 x4 x5) else
  (fX67_giveFirsts_J77 r29 x1 x2 x3 x4 x5 v5)))
def fX67_giveFirsts_J23 (x1 : Int) (x2 : Int) (x3 : Int) (s0 : Int) (s1 : Int) : zX :=
  zlt (zi (s0 + s1)) fun v3 => zlp (fX67_giveFirsts_B29 x1 x2 x3 v3) zBIG 0
def fX67_giveFirsts (x1 : Int) (x2 : Int) (x3 : Int) : zX :=
  zal 6802 0 x1 256 fun v1 => zal 6800 0 x1 256 fun v2 => if ¬ v2 = 1 then
  (fX67_giveFirsts_J23 x1 x2 x3 (zi (2 * v1)) 1) else
  (fX67_giveFirsts_J23 x1 x2 x3 (zi (2 * v1)) 0)
def fX67_made (x1 : Int) : zX :=
  zcl (fX67_giveFirsts x1 (-1) (-1)) fun _ => zret x1
def fX67_directory_J75 (x1 : Int) (x2 : Int) (x4 : Int) (x5 : Int) : zX :=
  zcl (fX67_entryNamed x1 x2) fun v8 => if v8 < 0 then
  (zcl (fX67_costOf 1 x5) fun v9 => zcl (fX67_hasRoom x1 v9) fun v10 => if ¬ v10 = 0 then
  (zcl (fX67_make 1 x1 x2 x4 x5) fun v11 => zcl (fX67_made v11) fun v12 => zret v12) else
  (zret (-5))) else
  (zret (-6))
def fX67_directory (x1 : Int) (x2 : Int) (x4 : Int) (x5 : Int) : zX :=
  zcl (fX67_isOf x1 1) fun v1 => if v1 = 0 then
  (zret (-8)) else
  (zcl (fX67_isName x2) fun v2 => if v2 = 0 then
  (zret (-8)) else
  (zcl (fX67_in x4 0 31) fun v3 => if v3 = 0 then
  (zret (-8)) else
  (zal 6803 0 x1 256 fun v4 => zcl (fX67_dominates x4 v4) fun v5 => if v5 = 0 then
  (zret (-8)) else
  (zcl (fX67_in x5 0 255) fun v6 => if v6 = 0 then
  (zret (-8)) else
  (zal 6803 0 x1 256 fun v7 => if x4 = v7 then
  (fX67_directory_J75 x1 x2 x4 x5) else
  (if ¬ x5 = 0 then
  (fX67_directory_J75 x1 x2 x4 x5) else
  (zret (-8))))))))
def fX67_segment (x1 : Int) (x2 : Int) (x4 : Int) : zX :=
  zcl (fX67_isOf x1 1) fun v1 => if v1 = 0 then
  (zret (-8)) else
  (zcl (fX67_isName x2) fun v2 => if v2 = 0 then
  (zret (-8)) else
  (zcl (fX67_in x4 0 1024) fun v3 => if ¬ v3 = 0 then
  (zcl (fX67_entryNamed x1 x2) fun v4 => if v4 < 0 then
  (zcl (fX67_costOf 2 x4) fun v5 => zcl (fX67_hasRoom x1 v5) fun v6 => if ¬ v6 = 0 then
  (zal 6803 0 x1 256 fun v7 => zcl (fX67_make 2 x1 x2 v7 x4) fun v8 => zcl (fX67_made v8) fun v9 => zret v9) else
  (zret (-5))) else
  (zret (-6))) else
  (zret (-8))))
def fX67_mailbox (x1 : Int) (x2 : Int) : zX :=
  zcl (fX67_isOf x1 1) fun v1 => if v1 = 0 then
  (zret (-8)) else
  (zcl (fX67_isName x2) fun v2 => if ¬ v2 = 0 then
  (zcl (fX67_entryNamed x1 x2) fun v3 => if v3 < 0 then
  (zcl (fX67_costOf 3 0) fun v4 => zcl (fX67_hasRoom x1 v4) fun v5 => if ¬ v5 = 0 then
  (zal 6803 0 x1 256 fun v6 => zcl (fX67_make 3 x1 x2 v6 0) fun v7 => zcl (fX67_made v7) fun v8 => zret v8) else
  (zret (-5))) else
  (zret (-6))) else
  (zret (-8)))
def fX67_isItem (x0 : Int) (x1 : Int) (x2 : Int) : zX :=
  zcl (fX67_in x0 0 16) fun v1 => if v1 = 0 then
  (zret 0) else
  (zcl (fX67_in x1 0 8) fun v2 => if v2 = 0 then
  (zret 0) else
  (zcl (fX67_in x2 0 8) fun v3 => if v3 = 0 then
  (zret 0) else
  (zret 1)))
def fX67_setItem_J94 (c1 : Nat) (x3 : Int) : zX :=
  zret (zi (x3 - 1))
def fX67_setItem_B66 (c1 : Nat) (x2 : Int) (x3 : Int) (r66 : Int → zX) : Int → zX := fun x9 =>
  if (zi (x2 + (zi (3 * x3)))) ≤ (zi (x9 + 3)) then
  (fX67_setItem_J94 c1 x3) else
  (zal c1 0 (zi (x9 + 3)) (zlen c1) fun v2 => zas c1 0 x9 (zlen c1) v2 <| zlt (zi (x9 + 1)) fun v3 => r66 v3)
def fX67_setItem_J43 (c1 : Nat) (x2 : Int) (x3 : Int) (x4 : Int) (x5 : Int) (x6 : Int) (x7 : Int) (x8 : Int) : zX :=
  if ¬ x7 = 8 then
  (if ¬ x8 = x4 then
  (zas c1 0 (zi (x2 + (zi (3 * x8)))) (zlen c1) x5 <| zas c1 0 (zi ((zi (x2 + (zi (3 * x8)))) + 1)) (zlen c1) x6 <| zas c1 0 (zi ((zi (x2 + (zi (3 * x8)))) + 2)) (zlen c1) x7 <| if ¬ x8 = x3 then
  (zret x3) else
  (zret (zi (x3 + 1)))) else
  (zret (-5))) else
  (if ¬ x8 = x3 then
  (zlt (zi (x2 + (zi (3 * x8)))) fun v1 => zlp (fX67_setItem_B66 c1 x2 x3) zBIG v1) else
  (zret (-1)))
def fX67_setItem_J37 (c1 : Nat) (r3 : Int → zX) (x2 : Int) (x3 : Int) (x4 : Int) (x5 : Int) (x6 : Int) (x7 : Int) (x8 : Int) : zX :=
  zlt (zi (x8 + 1)) fun v5 => r3 v5
def fX67_setItem_B3 (c1 : Nat) (x2 : Int) (x3 : Int) (x4 : Int) (x5 : Int) (x6 : Int) (x7 : Int) (r3 : Int → zX) : Int → zX := fun x8 =>
  if x3 ≤ x8 then
  (fX67_setItem_J43 c1 x2 x3 x4 x5 x6 x7 x8) else
  (zal c1 0 (zi (x2 + (zi (3 * x8)))) (zlen c1) fun v4 => if ¬ v4 = x5 then
  (fX67_setItem_J37 c1 r3 x2 x3 x4 x5 x6 x7 x8) else
  (zal c1 0 (zi ((zi (x2 + (zi (3 * x8)))) + 1)) (zlen c1) fun v6 => if v6 = x6 then
  (fX67_setItem_J43 c1 x2 x3 x4 x5 x6 x7 x8) else
  (fX67_setItem_J37 c1 r3 x2 x3 x4 x5 x6 x7 x8)))
def fX67_setItem (c1 : Nat) (x2 : Int) (x3 : Int) (x4 : Int) (x5 : Int) (x6 : Int) (x7 : Int) : zX :=
  zlp (fX67_setItem_B3 c1 x2 x3 x4 x5 x6 x7) zBIG 0
def fX67_initial_J95 (x7 : Int) (s1 : Int) (s2 : Int) : zX :=
  zas 6814 0 s1 512 s2 <| zret x7
def fX67_initial (x1 : Int) (x2 : Int) (x3 : Int) (x4 : Int) (x5 : Int) : zX :=
  zcl (fX67_isOf x1 1) fun v1 => if v1 = 0 then
  (zret (-8)) else
  (zcl (fX67_in x2 1 2) fun v2 => if v2 = 0 then
  (zret (-8)) else
  (zcl (fX67_isItem x3 x4 x5) fun v3 => if ¬ v3 = 0 then
  (zlt (zi ((zi ((zi (2 * x1)) + x2)) - 1)) fun v4 => zal 6814 0 v4 512 fun v5 => zcl (fX67_setItem 6815 (zi (9 * v4)) v5 3 x3 x4 x5) fun v6 => if v6 < 0 then
  (zal 6814 0 v4 512 fun v7 => fX67_initial_J95 v6 v4 v7) else
  (fX67_initial_J95 v6 v4 v6)) else
  (zret (-8))))
def fX67_item_J68 (x5 : Int) (s1 : Int) (s2 : Int) : zX :=
  zas 6812 0 s1 256 s2 <| zret x5
def fX67_item (x1 : Int) (x2 : Int) (x3 : Int) (x4 : Int) : zX :=
  zcl (fX67_isNode x1) fun v1 => if v1 = 0 then
  (zret (-8)) else
  (zcl (fX67_isItem x2 x3 x4) fun v2 => if ¬ v2 = 0 then
  (zal 6812 0 x1 256 fun v3 => zcl (fX67_setItem 6813 (zi (18 * x1)) v3 6 x2 x3 x4) fun v4 => if v4 < 0 then
  (zal 6812 0 x1 256 fun v5 => fX67_item_J68 v4 x1 v5) else
  (fX67_item_J68 v4 x1 v4)) else
  (zret (-8)))
def fX67_areBrackets_J57 (s0 : Int) (s1 : Int) (s2 : Int) : zX :=
  zcl (fX67_in s0 s1 s2) fun v5 => if v5 = 0 then
  (zret 0) else
  (zret 1)
def fX67_areBrackets (x1 : Int) (x2 : Int) (x3 : Int) (x4 : Int) (x5 : Int) : zX :=
  zcl (fX67_in x2 0 x3) fun v1 => if v1 = 0 then
  (zret 0) else
  (zcl (fX67_in x3 0 x4) fun v2 => if v2 = 0 then
  (zret 0) else
  (zcl (fX67_in x4 0 7) fun v3 => if v3 = 0 then
  (zret 0) else
  (zal 6800 0 x1 256 fun v4 => if ¬ v4 = 2 then
  (fX67_areBrackets_J57 x5 0 0) else
  (fX67_areBrackets_J57 x5 0 63))))
def fX67_brackets (x1 : Int) (x2 : Int) (x3 : Int) (x4 : Int) (x5 : Int) : zX :=
  zcl (fX67_isNode x1) fun v1 => if v1 = 0 then
  (zret (-8)) else
  (zcl (fX67_areBrackets x1 x2 x3 x4 x5) fun v2 => if ¬ v2 = 0 then
  (zcl (fX67_setBrackets x1 x2 x3 x4) fun _ => zas 6805 0 x1 256 x5 <| zret 0) else
  (zret (-8)))
def fX67_cost_J31 (s0 : Int) (s1 : Int) : zX :=
  zcl (fX67_costOf s0 s1) fun v4 => zret v4
def fX67_cost (x1 : Int) : zX :=
  zal 6800 0 x1 256 fun v1 => zal 6800 0 x1 256 fun v2 => if ¬ v2 = 2 then
  (zal 6807 0 x1 256 fun v3 => fX67_cost_J31 v1 v3) else
  (zal 6806 0 x1 256 fun v5 => fX67_cost_J31 v1 v5)
def fX67_setLength_J81 (x1 : Int) (x2 : Int) : zX :=
  zas 6806 0 x1 256 x2 <| zret 1
def fX67_setLength_B55 (x1 : Int) (x2 : Int) (r55 : Int → zX) : Int → zX := fun x4 =>
  if x2 ≤ x4 then
  (fX67_setLength_J81 x1 x2) else
  (zas 6816 0 (zi ((zi (1024 * x1)) + x4)) 262144 0 <| zlt (zi (x4 + 1)) fun v10 => r55 v10)
def fX67_setLength (x1 : Int) (x2 : Int) : zX :=
  zcl (fX67_costOf 2 x2) fun v1 => zcl (fX67_cost x1) fun v2 => zlt (zi (v1 - v2)) fun v3 => zal 6802 0 x1 256 fun v4 => zcl (fX67_hasRoom v4 v3) fun v5 => if ¬ v5 = 0 then
  (zal 6802 0 x1 256 fun v6 => zcl (fX67_account v6) fun v7 => zal 6808 0 v7 256 fun v8 => zas 6808 0 v7 256 (zi (v8 + v3)) <| zal 6806 0 x1 256 fun v9 => zlp (fX67_setLength_B55 x1 x2) zBIG v9) else
  (zret 0)
def fX67_length (x1 : Int) (x2 : Int) : zX :=
  zcl (fX67_isOf x1 2) fun v1 => if v1 = 0 then
  (zret (-8)) else
  (zcl (fX67_in x2 0 1024) fun v2 => if ¬ v2 = 0 then
  (zal 6806 0 x1 256 fun v3 => zcl (fX67_setLength x1 x2) fun v4 => if v4 = 0 then
  (zret (-5)) else
  (zret v3)) else
  (zret (-8)))
def fX67_setLimit (x1 : Int) (x2 : Int) : zX :=
  zal 6808 0 x1 256 fun v1 => if x2 < v1 then
  (zret 0) else
  (zal 6802 0 x1 256 fun v2 => zal 6807 0 x1 256 fun v3 => zcl (fX67_hasRoom v2 (zi (x2 - v3))) fun v4 => if ¬ v4 = 0 then
  (zal 6802 0 x1 256 fun v5 => zcl (fX67_account v5) fun v6 => zal 6808 0 v6 256 fun v7 => zal 6807 0 x1 256 fun v8 => zas 6808 0 v6 256 (zi (v7 + (zi (x2 - v8)))) <| zas 6807 0 x1 256 x2 <| zret 1) else
  (zret 0))
def fX67_limit (x1 : Int) (x2 : Int) : zX :=
  zcl (fX67_isOf x1 1) fun v1 => if v1 = 0 then
  (zret (-8)) else
  (if x1 = 0 then
  (zret (-8)) else
  (zal 6807 0 x1 256 fun v2 => if v2 = 0 then
  (zret (-8)) else
  (zcl (fX67_in x2 1 255) fun v3 => if ¬ v3 = 0 then
  (zal 6807 0 x1 256 fun v4 => zcl (fX67_setLimit x1 x2) fun v5 => if v5 = 0 then
  (zret (-5)) else
  (zret v4)) else
  (zret (-8)))))
def fX67_rename_J49 (x1 : Int) (x2 : Int) : zX :=
  zas 6801 0 x1 256 x2 <| zret 0
def fX67_rename (x1 : Int) (x2 : Int) : zX :=
  zcl (fX67_isNode x1) fun v1 => if v1 = 0 then
  (zret (-8)) else
  (if x1 = 0 then
  (zret (-8)) else
  (zcl (fX67_isName x2) fun v2 => if ¬ v2 = 0 then
  (zal 6802 0 x1 256 fun v3 => zcl (fX67_entryNamed v3 x2) fun v4 => if v4 < 0 then
  (fX67_rename_J49 x1 x2) else
  (if v4 = x1 then
  (fX67_rename_J49 x1 x2) else
  (zret (-6)))) else
  (zret (-8))))
def fX67_forget_J101 (r18 : Int → zX) (x1 : Int) (x2 : Int) (x3 : Int) (s1 : Int) (s2 : Int) : zX :=
  zas 6839 0 s1 4096 s2 <| zlt (zi (x3 + 1)) fun v2 => r18 v2
def fX67_forget_J89 (r18 : Int → zX) (x1 : Int) (x2 : Int) (x3 : Int) (s1 : Int) : zX :=
  fX67_forget_J101 r18 x1 x2 x3 s1 (-1)
def fX67_forget_J95 (r18 : Int → zX) (x1 : Int) (x2 : Int) (x3 : Int) (s1 : Int) : zX :=
  zal 6839 0 x3 4096 fun v4 => fX67_forget_J101 r18 x1 x2 x3 s1 v4
def fX67_forget_J50 (r18 : Int → zX) (x1 : Int) (x2 : Int) (x3 : Int) (s0 : Int) : zX :=
  if ¬ s0 = 0 then
  (fX67_forget_J89 r18 x1 x2 x3 x3) else
  (zal 6839 0 x3 4096 fun v3 => if v3 < 0 then
  (fX67_forget_J95 r18 x1 x2 x3 x3) else
  (zal 6839 0 x3 4096 fun v5 => if ¬ (zl (Int.tdiv v5 262144)) = x2 then
  (fX67_forget_J95 r18 x1 x2 x3 x3) else
  (fX67_forget_J89 r18 x1 x2 x3 x3)))
def fX67_forget_B18 (x1 : Int) (x2 : Int) (r18 : Int → zX) : Int → zX := fun x3 =>
  if (zi ((zi (512 * x1)) + 512)) ≤ x3 then
  (zret 0) else
  (if ¬ (zi (Int.tdiv (zi (x3 - (zi (512 * x1)))) 16)) = x2 then
  (fX67_forget_J50 r18 x1 x2 x3 0) else
  (fX67_forget_J50 r18 x1 x2 x3 1))
def fX67_forget (x1 : Int) (x2 : Int) : zX :=
  zas 6838 0 (zi ((zi (32 * x1)) + x2)) 256 (-1) <| zlt (zi (512 * x1)) fun v1 => zlp (fX67_forget_B18 x1 x2) zBIG v1
def fX67_drop_J154 (r32 : Int → zX) (x1 : Int) (x2 : Int) : zX :=
  zlt (zi (x2 + 1)) fun v8 => r32 v8
def fX67_drop_J147 (r32 : Int → zX) (r113 : Int → zX) (x1 : Int) (x2 : Int) (x3 : Int) (s1 : Int) (s2 : Int) : zX :=
  zas 6841 0 s1 32 s2 <| zlt (zi (x3 + 1)) fun v11 => r113 v11
def fX67_drop_B113 (r32 : Int → zX) (x1 : Int) (x2 : Int) (r113 : Int → zX) : Int → zX := fun x3 =>
  if (zi ((zi (4 * x2)) + 4)) ≤ x3 then
  (fX67_drop_J154 r32 x1 x2) else
  (zal 6841 0 x3 32 fun v9 => if ¬ v9 = x1 then
  (zal 6841 0 x3 32 fun v10 => fX67_drop_J147 r32 r113 x1 x2 x3 x3 v10) else
  (fX67_drop_J147 r32 r113 x1 x2 x3 x3 (-1)))
def fX67_drop_J108 (r32 : Int → zX) (x1 : Int) (x2 : Int) (s1 : Int) (s2 : Int) : zX :=
  zas 6840 0 s1 8 s2 <| zlt (zi (4 * x2)) fun v7 => zlp (fX67_drop_B113 r32 x1 x2) zBIG v7
def fX67_drop_J83 (r32 : Int → zX) (x1 : Int) (x2 : Int) : zX :=
  zal 6840 0 x2 8 fun v5 => if ¬ v5 = x1 then
  (zal 6840 0 x2 8 fun v6 => fX67_drop_J108 r32 x1 x2 x2 v6) else
  (fX67_drop_J108 r32 x1 x2 x2 0)
def fX67_drop_J77 (r32 : Int → zX) (r41 : Int → zX) (x1 : Int) (x2 : Int) (x3 : Int) : zX :=
  zlt (zi (x3 + 1)) fun v13 => r41 v13
def fX67_drop_B41 (r32 : Int → zX) (x1 : Int) (x2 : Int) (r41 : Int → zX) : Int → zX := fun x3 =>
  if 32 ≤ x3 then
  (fX67_drop_J83 r32 x1 x2) else
  (zal 6820 0 x2 8 fun v12 => if v12 = 0 then
  (fX67_drop_J77 r32 r41 x1 x2 x3) else
  (zal 6838 0 (zi ((zi (32 * x2)) + x3)) 256 fun v14 => if ¬ v14 = x1 then
  (fX67_drop_J77 r32 r41 x1 x2 x3) else
  (zcl (fX67_forget x2 x3) fun _ => fX67_drop_J77 r32 r41 x1 x2 x3)))
def fX67_drop_B32 (x1 : Int) (r32 : Int → zX) : Int → zX := fun x2 =>
  if 8 ≤ x2 then
  (zret 0) else
  (zlp (fX67_drop_B41 r32 x1 x2) zBIG 8)
def fX67_drop (x1 : Int) : zX :=
  zal 6802 0 x1 256 fun v1 => zcl (fX67_account v1) fun v2 => zal 6808 0 v2 256 fun v3 => zcl (fX67_cost x1) fun v4 => zas 6808 0 v2 256 (zi (v3 - v4)) <| zas 6800 0 x1 256 0 <| zlp (fX67_drop_B32 x1) zBIG 0
def fX67_depth_B4 (r4 : Int × Int → zX) : Int × Int → zX := fun (x2, x3) =>
  if x3 ≤ 0 then
  (zret x2) else
  (zlt (zi (x2 + 1)) fun v1 => zal 6802 0 x3 256 fun v2 => r4 (v1, v2))
def fX67_depth (x1 : Int) : zX :=
  zlp (fX67_depth_B4) zBIG (0, x1)
def fX67_isWithin_J21 (x2 : Int) (x3 : Int) : zX :=
  if ¬ x3 = x2 then
  (zret 0) else
  (zret 1)
def fX67_isWithin_B2 (x2 : Int) (r2 : Int → zX) : Int → zX := fun x3 =>
  if x3 ≤ 0 then
  (fX67_isWithin_J21 x2 x3) else
  (if x3 = x2 then
  (fX67_isWithin_J21 x2 x3) else
  (zal 6802 0 x3 256 fun v1 => r2 v1))
def fX67_isWithin (x1 : Int) (x2 : Int) : zX :=
  zlp (fX67_isWithin_B2 x2) zBIG x1
def fX67_dropAll_J100 (r4 : Int × Int → zX) (x1 : Int) (x2 : Int) (x4 : Int) (s0 : Int) : zX :=
  zcl (fX67_drop x4) fun _ => zlt (zi (x2 + 1)) fun v2 => r4 (v2, s0)
def fX67_dropAll_J89 (r4 : Int × Int → zX) (x1 : Int) (x2 : Int) (x4 : Int) : zX :=
  if x4 = x1 then
  (fX67_dropAll_J100 r4 x1 x2 x4 0) else
  (fX67_dropAll_J100 r4 x1 x2 x4 1)
def fX67_dropAll_J81 (r4 : Int × Int → zX) (r14 : Int × Int → zX) (x1 : Int) (x2 : Int) (x5 : Int) (s0 : Int) : zX :=
  zlt (zi (x5 + 1)) fun v4 => r14 (s0, v4)
def fX67_dropAll_J79 (r4 : Int × Int → zX) (r14 : Int × Int → zX) (x1 : Int) (x2 : Int) (x4 : Int) (x5 : Int) : zX :=
  fX67_dropAll_J81 r4 r14 x1 x2 x5 x4
def fX67_dropAll_J74 (r4 : Int × Int → zX) (r14 : Int × Int → zX) (x1 : Int) (x2 : Int) (x5 : Int) : zX :=
  fX67_dropAll_J81 r4 r14 x1 x2 x5 x5
def fX67_dropAll_J47 (r4 : Int × Int → zX) (r14 : Int × Int → zX) (x1 : Int) (x2 : Int) (x4 : Int) (x5 : Int) (s0 : Int) : zX :=
  if s0 = 0 then
  (fX67_dropAll_J79 r4 r14 x1 x2 x4 x5) else
  (if x4 < 0 then
  (fX67_dropAll_J74 r4 r14 x1 x2 x5) else
  (zcl (fX67_depth x5) fun v5 => zcl (fX67_depth x4) fun v6 => if v5 ≤ v6 then
  (fX67_dropAll_J79 r4 r14 x1 x2 x4 x5) else
  (fX67_dropAll_J74 r4 r14 x1 x2 x5)))
def fX67_dropAll_J46 (r4 : Int × Int → zX) (r14 : Int × Int → zX) (x1 : Int) (x2 : Int) (x4 : Int) (x5 : Int) : zX :=
  fX67_dropAll_J47 r4 r14 x1 x2 x4 x5 0
def fX67_dropAll_B14 (r4 : Int × Int → zX) (x1 : Int) (x2 : Int) (r14 : Int × Int → zX) : Int × Int → zX := fun (x4, x5) =>
  if 256 ≤ x5 then
  (fX67_dropAll_J89 r4 x1 x2 x4) else
  (zal 6800 0 x5 256 fun v3 => if v3 ≤ 0 then
  (fX67_dropAll_J46 r4 r14 x1 x2 x4 x5) else
  (zcl (fX67_isWithin x5 x1) fun v7 => if v7 = 0 then
  (fX67_dropAll_J46 r4 r14 x1 x2 x4 x5) else
  (fX67_dropAll_J47 r4 r14 x1 x2 x4 x5 1)))
def fX67_dropAll_B4 (x1 : Int) (r4 : Int × Int → zX) : Int × Int → zX := fun (x2, x3) =>
  if x3 = 0 then
  (zret x2) else
  (zlp (fX67_dropAll_B14 r4 x1 x2) zBIG ((-1), 1))
def fX67_dropAll (x1 : Int) : zX :=
  zlp (fX67_dropAll_B4 x1) zBIG (0, 1)
def fX67_remove (x1 : Int) : zX :=
  zcl (fX67_isNode x1) fun v1 => if v1 = 0 then
  (zret (-8)) else
  (if ¬ x1 = 0 then
  (zcl (fX67_dropAll x1) fun v2 => zret v2) else
  (zret (-8)))
def fX67_find (x1 : Int) (x2 : Int) : zX :=
  zcl (fX67_isOf x1 1) fun v1 => if ¬ v1 = 0 then
  (zcl (fX67_entryNamed x1 x2) fun v2 => zret v2) else
  (zret (-8))
def fX67_countEntries_J37 (r4 : Int × Int → zX) (x1 : Int) (x3 : Int) (s0 : Int) : zX :=
  zlt (zi (x3 + 1)) fun v2 => r4 (s0, v2)
def fX67_countEntries_J36 (r4 : Int × Int → zX) (x1 : Int) (x2 : Int) (x3 : Int) : zX :=
  fX67_countEntries_J37 r4 x1 x3 x2
def fX67_countEntries_B4 (x1 : Int) (r4 : Int × Int → zX) : Int × Int → zX := fun (x2, x3) =>
  if 256 ≤ x3 then
  (zret x2) else
  (zal 6800 0 x3 256 fun v1 => if v1 ≤ 0 then
  (fX67_countEntries_J36 r4 x1 x2 x3) else
  (zal 6802 0 x3 256 fun v3 => if ¬ v3 = x1 then
  (fX67_countEntries_J36 r4 x1 x2 x3) else
  (fX67_countEntries_J37 r4 x1 x3 (zi (x2 + 1)))))
def fX67_countEntries (x1 : Int) : zX :=
  zlp (fX67_countEntries_B4 x1) zBIG (0, 1)
def fX67_about (x1 : Int) (x2 : Int) : zX :=
  zcl (fX67_isNode x1) fun v1 => if ¬ v1 = 0 then
  (if x2 = 0 then
  (zal 6800 0 x1 256 fun v3 => zret v3) else
  if x2 = 1 then
  (zal 6802 0 x1 256 fun v5 => zret v5) else
  if x2 = 2 then
  (zal 6803 0 x1 256 fun v7 => zret v7) else
  if x2 = 3 then
  (zal 6804 0 (zi ((zi ((zi (3 * x1)) + x2)) - 3)) 768 fun v9 => zret v9) else
  if x2 = 4 then
  (zal 6804 0 (zi ((zi ((zi (3 * x1)) + x2)) - 3)) 768 fun v11 => zret v11) else
  if x2 = 5 then
  (zal 6804 0 (zi ((zi ((zi (3 * x1)) + x2)) - 3)) 768 fun v13 => zret v13) else
  if x2 = 6 then
  (zal 6805 0 x1 256 fun v15 => zret v15) else
  if x2 = 7 then
  (zal 6806 0 x1 256 fun v17 => zret v17) else
  if x2 = 8 then
  (zal 6807 0 x1 256 fun v19 => zret v19) else
  if x2 = 9 then
  (zal 6808 0 x1 256 fun v21 => zret v21) else
  if x2 = 10 then
  (zcl (fX67_countEntries x1) fun v23 => zret v23) else
  if x2 = 11 then
  (zal 6812 0 x1 256 fun v25 => zret v25) else
  if x2 = 12 then
  (zal 6809 0 x1 256 fun v27 => zret v27) else
  if x2 = 13 then
  (zal 6801 0 x1 256 fun v29 => zret v29) else
  if x2 = 14 then
  (zal 6817 0 x1 256 fun v31 => zret v31) else
  if x2 = 15 then
  (zal 6814 0 (zi ((zi ((zi (2 * x1)) + x2)) - 15)) 512 fun v33 => zret v33) else
  if x2 = 16 then
  (zal 6814 0 (zi ((zi ((zi (2 * x1)) + x2)) - 15)) 512 fun v35 => zret v35) else
  (zret (-8))) else
  (zret (-1))
def fX67_modesFor_J154 (r9 : Int × Int × Int → zX) (x1 : Int) (x2 : Int) (x3 : Int) (x4 : Int) (x5 : Int) (x6 : Int) : zX :=
  zlt (zi (x6 + 1)) fun v8 => r9 (x4, x5, v8)
def fX67_modesFor_J124 (r9 : Int × Int × Int → zX) (x1 : Int) (x2 : Int) (x3 : Int) (x4 : Int) (x5 : Int) (x6 : Int) (x7 : Int) (x8 : Int) (s0 : Int) (s1 : Int) : zX :=
  zlt (zi (s0 + s1)) fun v7 => if x8 = 0 then
  (fX67_modesFor_J154 r9 x1 x2 x3 x4 x5 x6) else
  (if v7 ≤ x4 then
  (fX67_modesFor_J154 r9 x1 x2 x3 x4 x5 x6) else
  (zal 6813 0 (zi (x7 + 2)) 4608 fun v9 => fX67_modesFor_J154 r9 x1 x2 x3 v7 v9 x6))
def fX67_modesFor_J105 (r9 : Int × Int × Int → zX) (x1 : Int) (x2 : Int) (x3 : Int) (x4 : Int) (x5 : Int) (x6 : Int) (x7 : Int) (x8 : Int) (s0 : Int) : zX :=
  zal 6813 0 (zi (x7 + 1)) 4608 fun v6 => if ¬ v6 = 8 then
  (fX67_modesFor_J124 r9 x1 x2 x3 x4 x5 x6 x7 x8 s0 1) else
  (fX67_modesFor_J124 r9 x1 x2 x3 x4 x5 x6 x7 x8 s0 0)
def fX67_modesFor_J86 (r9 : Int × Int × Int → zX) (x1 : Int) (x2 : Int) (x3 : Int) (x4 : Int) (x5 : Int) (x6 : Int) (x7 : Int) (s0 : Int) : zX :=
  zal 6813 0 x7 4608 fun v5 => if ¬ v5 = 16 then
  (fX67_modesFor_J105 r9 x1 x2 x3 x4 x5 x6 x7 s0 2) else
  (fX67_modesFor_J105 r9 x1 x2 x3 x4 x5 x6 x7 s0 0)
def fX67_modesFor_J81 (r9 : Int × Int × Int → zX) (x1 : Int) (x2 : Int) (x3 : Int) (x4 : Int) (x5 : Int) (x6 : Int) (x7 : Int) : zX :=
  fX67_modesFor_J86 r9 x1 x2 x3 x4 x5 x6 x7 1
def fX67_modesFor_J85 (r9 : Int × Int × Int → zX) (x1 : Int) (x2 : Int) (x3 : Int) (x4 : Int) (x5 : Int) (x6 : Int) (x7 : Int) : zX :=
  fX67_modesFor_J86 r9 x1 x2 x3 x4 x5 x6 x7 0
def fX67_modesFor_J54 (r9 : Int × Int × Int → zX) (x1 : Int) (x2 : Int) (x3 : Int) (x4 : Int) (x5 : Int) (x6 : Int) (x7 : Int) : zX :=
  zal 6813 0 (zi (x7 + 1)) 4608 fun v4 => if v4 = x3 then
  (fX67_modesFor_J81 r9 x1 x2 x3 x4 x5 x6 x7) else
  (zal 6813 0 (zi (x7 + 1)) 4608 fun v10 => if ¬ v10 = 8 then
  (fX67_modesFor_J85 r9 x1 x2 x3 x4 x5 x6 x7) else
  (fX67_modesFor_J81 r9 x1 x2 x3 x4 x5 x6 x7))
def fX67_modesFor_B9 (x1 : Int) (x2 : Int) (x3 : Int) (r9 : Int × Int × Int → zX) : Int × Int × Int → zX := fun (x4, x5, x6) =>
  zal 6812 0 x1 256 fun v1 => if v1 ≤ x6 then
  (zret x5) else
  (zlt (zi ((zi (18 * x1)) + (zi (3 * x6)))) fun v2 => zal 6813 0 v2 4608 fun v3 => if v3 = x2 then
  (fX67_modesFor_J54 r9 x1 x2 x3 x4 x5 x6 v2) else
  (zal 6813 0 v2 4608 fun v11 => if ¬ v11 = 16 then
  (fX67_modesFor_J85 r9 x1 x2 x3 x4 x5 x6 v2) else
  (fX67_modesFor_J54 r9 x1 x2 x3 x4 x5 x6 v2)))
def fX67_modesFor (x1 : Int) (x2 : Int) (x3 : Int) : zX :=
  zlp (fX67_modesFor_B9 x1 x2 x3) zBIG ((-1), 0, 0)
def fX67_modes (x1 : Int) (x2 : Int) (x3 : Int) : zX :=
  zcl (fX67_isNode x1) fun v1 => if v1 = 0 then
  (zret (-8)) else
  (zcl (fX67_in x2 0 15) fun v2 => if v2 = 0 then
  (zret (-8)) else
  (zcl (fX67_in x3 0 7) fun v3 => if ¬ v3 = 0 then
  (zcl (fX67_modesFor x1 x2 x3) fun v4 => zret v4) else
  (zret (-8))))
def fX67_isPlace (x1 : Int) (x2 : Int) : zX :=
  zcl (fX67_isOf x1 2) fun v1 => if v1 = 0 then
  (zret 0) else
  (zal 6806 0 x1 256 fun v2 => zcl (fX67_in x2 0 (zi (v2 - 1))) fun v3 => if v3 = 0 then
  (zret 0) else
  (zret 1))
def fX67_word (x1 : Int) (x2 : Int) : zX :=
  zcl (fX67_isPlace x1 x2) fun v1 => if v1 = 0 then
  (zret (-1)) else
  (zal 6816 0 (zi ((zi (1024 * x1)) + x2)) 262144 fun v2 => zret v2)
def fX67_put (x1 : Int) (x2 : Int) (x3 : Int) : zX :=
  zcl (fX67_isPlace x1 x2) fun v1 => if ¬ v1 = 0 then
  (zcl (fX67_isWord x3) fun v2 => if ¬ v2 = 0 then
  (zal 6816 0 (zi ((zi (1024 * x1)) + x2)) 262144 fun v3 => zas 6816 0 (zi ((zi (1024 * x1)) + x2)) 262144 x3 <| zret v3) else
  (zret (-8))) else
  (zret (-1))
def fX67_letter (x1 : Int) (x2 : Int) (x3 : Int) : zX :=
  zcl (fX67_isOf x1 3) fun v1 => if v1 = 0 then
  (zret (-1)) else
  (zal 6817 0 x1 256 fun v2 => zcl (fX67_in x2 0 (zi (v2 - 1))) fun v3 => if ¬ v3 = 0 then
  (if ¬ x3 = 0 then
  (if ¬ x3 = 1 then
  (zret (-8)) else
  (zal 6819 0 (zi ((zi (128 * x1)) + x2)) 32768 fun v4 => zret v4)) else
  (zal 6818 0 (zi ((zi (128 * x1)) + x2)) 32768 fun v5 => zret v5)) else
  (zret (-1)))
def fX67_audit (x1 : Int) (x2 : Int) : zX :=
  if x1 < 0 then
  (zret (-1)) else
  (zgf 6865 0 fun v1 => if v1 ≤ x1 then
  (zret (-1)) else
  (zgf 6865 0 fun v2 => if (zi (v2 - 64)) ≤ x1 then
  (zcl (fX67_in x2 0 3) fun v3 => if v3 = 0 then
  (zret (-8)) else
  (zal 6866 0 (zi ((zi (4 * (Int.tmod x1 64))) + x2)) 256 fun v4 => zret v4)) else
  (zret (-1))))
def fX67_login_J339 (x4 : Int) (x5 : Int) (x6 : Int) (x7 : Int) : zX :=
  zas 6838 0 (zi ((zi (32 * x7)) + 8)) 256 x4 <| zas 6831 0 x7 8 8 <| zas 6832 0 x7 8 x5 <| zas 6833 0 x7 8 x6 <| zas 6834 0 x7 8 (0 % 2) <| zas 6835 0 x7 8 (0 % 2) <| zas 6836 0 x7 8 0 <| zas 6840 0 x7 8 0 <| zas 6842 0 x7 8 (0 % 2) <| zas 6846 0 x7 8 0 <| zas 6848 0 x7 8 0 <| zas 6860 0 x7 8 0 <| zas 6862 0 x7 8 (-3750763034362895579) <| zret x7
def fX67_login_B312 (x4 : Int) (x5 : Int) (x6 : Int) (x7 : Int) (r312 : Int → zX) : Int → zX := fun x8 =>
  if (zi ((zi (32 * x7)) + 32)) ≤ x8 then
  (fX67_login_J339 x4 x5 x6 x7) else
  (zas 6838 0 x8 256 (-1) <| zlt (zi (x8 + 1)) fun v10 => r312 v10)
def fX67_login_J305 (x4 : Int) (x5 : Int) (x6 : Int) (x7 : Int) : zX :=
  zlt (zi (32 * x7)) fun v9 => zlp (fX67_login_B312 x4 x5 x6 x7) zBIG v9
def fX67_login_B266 (x4 : Int) (x5 : Int) (x6 : Int) (x7 : Int) (r266 : Int → zX) : Int → zX := fun x8 =>
  if (zi ((zi (512 * x7)) + 512)) ≤ x8 then
  (fX67_login_J305 x4 x5 x6 x7) else
  (zas 6837 0 x8 4096 0 <| zas 6839 0 x8 4096 (-1) <| zlt (zi (x8 + 1)) fun v11 => r266 v11)
def fX67_login_J258 (x4 : Int) (x5 : Int) (x6 : Int) (x7 : Int) : zX :=
  zlt (zi (512 * x7)) fun v8 => zlp (fX67_login_B266 x4 x5 x6 x7) zBIG v8
def fX67_login_B215 (x4 : Int) (x5 : Int) (x6 : Int) (x7 : Int) (r215 : Int → zX) : Int → zX := fun x8 =>
  if (zi ((zi (8 * x7)) + 8)) ≤ x8 then
  (fX67_login_J258 x4 x5 x6 x7) else
  (zas 6828 0 x8 64 0 <| zas 6829 0 x8 64 0 <| zas 6830 0 x8 64 0 <| zlt (zi (x8 + 1)) fun v12 => r215 v12)
def fX67_login_J208 (x4 : Int) (x5 : Int) (x6 : Int) (x7 : Int) : zX :=
  zlt (zi (8 * x7)) fun v7 => zlp (fX67_login_B215 x4 x5 x6 x7) zBIG v7
def fX67_login_B170 (x4 : Int) (x5 : Int) (x6 : Int) (x7 : Int) (r170 : Int → zX) : Int → zX := fun x8 =>
  if 4 ≤ x8 then
  (fX67_login_J208 x4 x5 x6 x7) else
  (zas 6827 0 (zi ((zi (4 * x7)) + x8)) 32 0 <| zas 6841 0 (zi ((zi (4 * x7)) + x8)) 32 (-1) <| zlt (zi (x8 + 1)) fun v13 => r170 v13)
def fX67_login_J101 (x1 : Int) (x2 : Int) (x3 : Int) (x4 : Int) (x5 : Int) (x6 : Int) (x7 : Int) : zX :=
  if ¬ x7 = 8 then
  (zas 6820 0 x7 8 (1 % 2) <| zas 6821 0 x7 8 0 <| zas 6822 0 x7 8 x1 <| zas 6823 0 x7 8 x2 <| zas 6824 0 x7 8 x3 <| zas 6825 0 x7 8 0 <| zas 6826 0 x7 8 0 <| zlp (fX67_login_B170 x4 x5 x6 x7) zBIG 0) else
  (zret (-5))
def fX67_login_B78 (x1 : Int) (x2 : Int) (x3 : Int) (x4 : Int) (x5 : Int) (x6 : Int) (r78 : Int → zX) : Int → zX := fun x7 =>
  if 8 ≤ x7 then
  (fX67_login_J101 x1 x2 x3 x4 x5 x6 x7) else
  (zal 6820 0 x7 8 fun v14 => if v14 = 0 then
  (fX67_login_J101 x1 x2 x3 x4 x5 x6 x7) else
  (zlt (zi (x7 + 1)) fun v15 => r78 v15))
def fX67_login (x1 : Int) (x2 : Int) (x3 : Int) (x4 : Int) (x5 : Int) (x6 : Int) : zX :=
  zcl (fX67_in x1 0 15) fun v1 => if v1 = 0 then
  (zret (-8)) else
  (zcl (fX67_in x2 0 7) fun v2 => if v2 = 0 then
  (zret (-8)) else
  (zcl (fX67_in x3 0 31) fun v3 => if v3 = 0 then
  (zret (-8)) else
  (zcl (fX67_isOf x4 2) fun v4 => if v4 = 0 then
  (zret (-8)) else
  (zcl (fX67_in x5 0 262143) fun v5 => if v5 = 0 then
  (zret (-8)) else
  (zcl (fX67_in x6 0 7) fun v6 => if ¬ v6 = 0 then
  (zlp (fX67_login_B78 x1 x2 x3 x4 x5 x6) zBIG 0) else
  (zret (-8)))))))
def fX67_isThere (x1 : Int) : zX :=
  zcl (fX67_in x1 0 7) fun v1 => if v1 = 0 then
  (zret 0) else
  (zal 6820 0 x1 8 fun v2 => if v2 = 0 then
  (zret 0) else
  (zret 1))
def fX67_logout (x1 : Int) : zX :=
  zcl (fX67_isThere x1) fun v1 => if ¬ v1 = 0 then
  (zas 6820 0 x1 8 (0 % 2) <| zret 0) else
  (zret (-8))
def fX67_send (x1 : Int) (x2 : Int) : zX :=
  zcl (fX67_isThere x1) fun v1 => if v1 = 0 then
  (zret (-8)) else
  (zcl (fX67_isWord x2) fun v2 => if ¬ v2 = 0 then
  (zal 6846 0 x1 8 fun v3 => if ¬ v3 = 8 then
  (zal 6846 0 x1 8 fun v4 => zas 6847 0 (zi ((zi (8 * x1)) + v4)) 64 x2 <| zal 6846 0 x1 8 fun v5 => zas 6846 0 x1 8 (zi (v5 + 1)) <| zal 6846 0 x1 8 fun v6 => zret v6) else
  (zret (-5))) else
  (zret (-8)))
def fX67_missing_J50 (s0 : Int) (s1 : Int) : zX :=
  if s1 ≤ s0 then
  (zret 2) else
  (zret 0)
def fX67_missing_J22 (x1 : Int) (x2 : Int) (x3 : Int) : zX :=
  if x2 ≤ 7 then
  (fX67_missing_J50 x3 64) else
  (zal 6838 0 (zi ((zi (32 * x1)) + x2)) 256 fun v1 => zal 6806 0 v1 256 fun v2 => fX67_missing_J50 x3 v2)
def fX67_missing (x1 : Int) (x2 : Int) (x3 : Int) : zX :=
  if x2 ≤ 7 then
  (fX67_missing_J22 x1 x2 x3) else
  (zal 6838 0 (zi ((zi (32 * x1)) + x2)) 256 fun v3 => if 0 ≤ v3 then
  (fX67_missing_J22 x1 x2 x3) else
  (zret 1))
def fX67_fail (x1 : Int) (x2 : Int) (x3 : Int) (x4 : Int) : zX :=
  zgf 6874 0 fun v1 => if ¬ v1 = 0 then
  (zret 0) else
  (zpf 6874 0 x1 <| zpf 6875 0 x2 <| zpf 6876 0 x3 <| zpf 6877 0 x4 <| zret 0)
def fX67_barred_J157 (s0 : Int) : zX :=
  if s0 = 0 then
  (zret 5) else
  (zret 0)
def fX67_barred_J156 : zX :=
  fX67_barred_J157 0
def fX67_barred_J91 (x3 : Int) (x4 : Int) (x5 : Int) (x6 : Int) (s0 : Int) : zX :=
  if ¬ s0 = 0 then
  (if ¬ x4 = 1 then
  (if ¬ x4 = 4 then
  (if x3 < x5 then
  (fX67_barred_J156) else
  (if x6 < x3 then
  (fX67_barred_J156) else
  (fX67_barred_J157 1))) else
  (if x5 < x3 then
  (fX67_barred_J157 0) else
  (fX67_barred_J157 1))) else
  (if x6 < x3 then
  (fX67_barred_J157 0) else
  (fX67_barred_J157 1))) else
  (zret 4)
def fX67_barred (x1 : Int) (x2 : Int) (x3 : Int) (x4 : Int) : zX :=
  zal 6804 0 (zi (3 * x2)) 768 fun v1 => zal 6804 0 (zi ((zi (3 * x2)) + 1)) 768 fun v2 => zal 6822 0 x1 8 fun v3 => zal 6823 0 x1 8 fun v4 => zcl (fX67_modesFor x2 v3 v4) fun v5 => if ¬ (zan v5 x4) = 0 then
  (if ¬ x4 = 4 then
  (zal 6824 0 x1 8 fun v6 => zal 6803 0 x2 256 fun v7 => zcl (fX67_dominates v6 v7) fun v8 => fX67_barred_J91 x3 x4 v1 v2 v8) else
  (zal 6824 0 x1 8 fun v9 => zal 6803 0 x2 256 fun v10 => if ¬ v9 = v10 then
  (fX67_barred_J91 x3 x4 v1 v2 0) else
  (fX67_barred_J91 x3 x4 v1 v2 1))) else
  (zret 3)
def fX67_access_J88 (x6 : Int) : zX :=
  if ¬ x6 = 0 then
  (zret 0) else
  (zret 1)
def fX67_access_J73 (x2 : Int) (x3 : Int) (x4 : Int) (x6 : Int) : zX :=
  if x6 ≤ 0 then
  (fX67_access_J88 x6) else
  (zcl (fX67_fail x6 x2 x3 x4) fun _ => fX67_access_J88 x6)
def fX67_access_J46 (x1 : Int) (x2 : Int) (x3 : Int) (x4 : Int) (x5 : Int) (x6 : Int) : zX :=
  if ¬ x6 = 0 then
  (fX67_access_J73 x2 x3 x4 x6) else
  (zal 6838 0 (zi ((zi (32 * x1)) + x2)) 256 fun v3 => zcl (fX67_barred x1 v3 x4 x5) fun v4 => fX67_access_J73 x2 x3 x4 v4)
def fX67_access_J41 (x2 : Int) (x3 : Int) (x4 : Int) (s0 : Int) : zX :=
  fX67_access_J73 x2 x3 x4 s0
def fX67_access (x1 : Int) (x2 : Int) (x3 : Int) (x4 : Int) (x5 : Int) : zX :=
  zcl (fX67_missing x1 x2 x3) fun v1 => if ¬ v1 = 0 then
  (fX67_access_J46 x1 x2 x3 x4 x5 v1) else
  (if 8 ≤ x2 then
  (fX67_access_J46 x1 x2 x3 x4 x5 v1) else
  (if ¬ x5 = 2 then
  (if x4 ≤ x2 then
  (fX67_access_J41 x2 x3 x4 0) else
  (fX67_access_J41 x2 x3 x4 5)) else
  (fX67_access_J41 x2 x3 x4 3)))
def fX67_wordAt (x1 : Int) (x2 : Int) (x3 : Int) : zX :=
  if 8 ≤ x2 then
  (zal 6838 0 (zi ((zi (32 * x1)) + x2)) 256 fun v1 => zal 6816 0 (zi ((zi (1024 * v1)) + x3)) 262144 fun v2 => zret v2) else
  (zal 6837 0 (zi ((zi ((zi (512 * x1)) + (zi (64 * x2)))) + x3)) 4096 fun v3 => zret v3)
def fX67_isLegal_J168 (x1 : Int) (x3 : Int) : zX :=
  zgf 6884 0 fun v10 => if 5 ≤ v10 then
  (zret 0) else
  (if x3 = 0 then
  (zret 1) else
  (if 4 ≤ x1 then
  (zret 0) else
  (zret 1)))
def fX67_isLegal_J151 (x1 : Int) (x3 : Int) : zX :=
  zgf 6881 0 fun v9 => if ¬ v9 = 35 then
  (fX67_isLegal_J168 x1 x3) else
  (zgf 6882 0 fun v11 => if ¬ v11 = 2 then
  (zret 0) else
  (fX67_isLegal_J168 x1 x3))
def fX67_isLegal_J129 (x1 : Int) (x2 : Int) (s0 : Int) : zX :=
  zgf 6882 0 fun v7 => if v7 = 7 then
  (zret 0) else
  (zgf 6882 0 fun v8 => if ¬ v8 = 2 then
  (fX67_isLegal_J151 x1 s0) else
  (if x2 = 0 then
  (zret 0) else
  (fX67_isLegal_J151 x1 s0)))
def fX67_isLegal_J124 (x1 : Int) (x2 : Int) : zX :=
  fX67_isLegal_J129 x1 x2 1
def fX67_isLegal_J78 (x1 : Int) (s0 : Int) : zX :=
  zgf 6881 0 fun v6 => if v6 = 12 then
  (fX67_isLegal_J124 x1 s0) else
  (zgf 6881 0 fun v12 => if v12 = 13 then
  (fX67_isLegal_J124 x1 s0) else
  (zgf 6881 0 fun v13 => if v13 = 16 then
  (fX67_isLegal_J124 x1 s0) else
  (zgf 6881 0 fun v14 => if v14 = 20 then
  (fX67_isLegal_J124 x1 s0) else
  (zgf 6881 0 fun v15 => if ¬ v15 = 32 then
  (fX67_isLegal_J129 x1 s0 0) else
  (fX67_isLegal_J124 x1 s0)))))
def fX67_isLegal_J73 (x1 : Int) : zX :=
  fX67_isLegal_J78 x1 1
def fX67_isLegal (x1 : Int) : zX :=
  zgf 6881 0 fun v1 => if v1 ≤ 37 then
  (zgf 6881 0 fun v2 => if v2 < 2 then
  (zret 1) else
  (zgf 6881 0 fun v3 => if v3 ≤ 35 then
  (zgf 6881 0 fun v4 => zcl (fX67_in v4 2 13) fun v5 => if ¬ v5 = 0 then
  (fX67_isLegal_J73 x1) else
  (zgf 6881 0 fun v16 => zcl (fX67_in v16 20 24) fun v17 => if ¬ v17 = 0 then
  (fX67_isLegal_J73 x1) else
  (zgf 6881 0 fun v18 => if ¬ v18 = 35 then
  (fX67_isLegal_J78 x1 0) else
  (fX67_isLegal_J73 x1)))) else
  (zret 1))) else
  (zret 0)
def fX67_may (x1 : Int) (x2 : Int) : zX :=
  zgf 6878 0 fun v1 => zgf 6879 0 fun v2 => zgf 6880 0 fun v3 => zcl (fX67_access x1 v1 v2 v3 x2) fun v4 => zrb v4
def fX67_setWord (x1 : Int) (x2 : Int) (x3 : Int) (x4 : Int) : zX :=
  if 8 ≤ x2 then
  (zal 6838 0 (zi ((zi (32 * x1)) + x2)) 256 fun v1 => zas 6816 0 (zi ((zi (1024 * v1)) + x3)) 262144 x4 <| zret 0) else
  (zas 6837 0 (zi ((zi ((zi (512 * x1)) + (zi (64 * x2)))) + x3)) 4096 x4 <| zret 0)
def fX67_pointerWord (x0 : Int) (x1 : Int) (x2 : Int) : zX :=
  zret (zoR (zoR (zoR 42949672960 (zl (x2 * 1073741824))) (zl (x0 * 16777216))) x1)
def fX67_flag_J35 (s1 : Int) (s2 : Int) : zX :=
  zas 6835 0 s1 8 (s2 % 2) <| zret 0
def fX67_flag_J16 (x1 : Int) (x2 : Int) (s1 : Int) (s2 : Int) : zX :=
  zas 6834 0 s1 8 (s2 % 2) <| if x2 < 34359738368 then
  (fX67_flag_J35 x1 0) else
  (fX67_flag_J35 x1 1)
def fX67_flag (x1 : Int) (x2 : Int) : zX :=
  if ¬ x2 = 0 then
  (fX67_flag_J16 x1 x2 x1 0) else
  (fX67_flag_J16 x1 x2 x1 1)
def fX67_write_J18 (x1 : Int) (x2 : Int) : zX :=
  zcl (fX67_may x1 4) fun v2 => if ¬ v2 = 0 then
  (zgf 6878 0 fun v3 => zgf 6879 0 fun v4 => zcl (fX67_wordAt x1 v3 v4) fun v5 => zlt (zi ((zi (8 * x1)) + x2)) fun v6 => zgf 6881 0 fun v7 => if v7 = 14 then
  (zgf 6878 0 fun v9 => zgf 6879 0 fun v10 => zal 6825 0 x1 8 fun v11 => zcl (fX67_setWord x1 v9 v10 v11) fun _ => zret 0) else
  if v7 = 15 then
  (zgf 6878 0 fun v14 => zgf 6879 0 fun v15 => zal 6826 0 x1 8 fun v16 => zcl (fX67_setWord x1 v14 v15 v16) fun _ => zret 0) else
  if v7 = 16 then
  (zgf 6878 0 fun v19 => zgf 6879 0 fun v20 => zal 6827 0 (zi ((zi (4 * x1)) + x2)) 32 fun v21 => zcl (fX67_setWord x1 v19 v20 v21) fun _ => zret 0) else
  if v7 = 17 then
  (zgf 6878 0 fun v24 => zgf 6879 0 fun v25 => zal 6828 0 v6 64 fun v26 => zal 6829 0 v6 64 fun v27 => zal 6830 0 v6 64 fun v28 => zcl (fX67_pointerWord v26 v27 v28) fun v29 => zcl (fX67_setWord x1 v24 v25 v29) fun _ => zret 0) else
  if v7 = 18 then
  (zgf 6878 0 fun v32 => zgf 6879 0 fun v33 => zcl (fX67_setWord x1 v32 v33 ((zl (v5 + 1)) % 68719476736)) fun _ => zcl (fX67_flag x1 ((zl (v5 + 1)) % 68719476736)) fun _ => zret 0) else
  (zgf 6878 0 fun v36 => zgf 6879 0 fun v37 => zal 6825 0 x1 8 fun v38 => zcl (fX67_setWord x1 v36 v37 v38) fun _ => zas 6825 0 x1 8 v5 <| zcl (fX67_flag x1 v5) fun _ => zret 0)) else
  (zret 0)
def fX67_write (x1 : Int) (x2 : Int) : zX :=
  zgf 6881 0 fun v1 => if v1 ≤ 17 then
  (fX67_write_J18 x1 x2) else
  (zcl (fX67_may x1 1) fun v41 => if v41 = 0 then
  (zret 0) else
  (fX67_write_J18 x1 x2))
def fX67_value_J32 (s0 : Int) : zX :=
  zret (s0 % 68719476736)
def fX67_value (x1 : Int) : zX :=
  zgf 6882 0 fun v1 => if ¬ v1 = 2 then
  (zcl (fX67_may x1 1) fun v2 => if v2 = 0 then
  (zret 0) else
  (zgf 6878 0 fun v3 => zgf 6879 0 fun v4 => zcl (fX67_wordAt x1 v3 v4) fun v5 => zret v5)) else
  (zgf 6879 0 fun v6 => if 131072 ≤ v6 then
  (zgf 6879 0 fun v7 => fX67_value_J32 (zi (v7 - 262144))) else
  (zgf 6879 0 fun v8 => fX67_value_J32 v8))
def fX67_signed (x0 : Int) : zX :=
  if x0 < 34359738368 then
  (zret x0) else
  (zret (zl ((zl (x0 - 68719476735)) - 1)))
def fX67_flagHalf_J32 (s1 : Int) (s2 : Int) : zX :=
  zas 6835 0 s1 8 (s2 % 2) <| zret 0
def fX67_flagHalf_J14 (x1 : Int) (x2 : Int) (s1 : Int) (s2 : Int) : zX :=
  zas 6834 0 s1 8 (s2 % 2) <| if x2 < 131072 then
  (fX67_flagHalf_J32 x1 0) else
  (fX67_flagHalf_J32 x1 1)
def fX67_flagHalf (x1 : Int) (x2 : Int) : zX :=
  if ¬ x2 = 0 then
  (fX67_flagHalf_J14 x1 x2 x1 0) else
  (fX67_flagHalf_J14 x1 x2 x1 1)
def fX67_reckon_J383 (x1 : Int) : zX :=
  zal 6825 0 x1 8 fun v7 => zcl (fX67_flag x1 v7) fun _ => zret 0
def fX67_reckon_J326 (s1 : Int) (s2 : Int) : zX :=
  zas 6835 0 s1 8 (s2 % 2) <| zret 0
def fX67_reckon_J302 (x1 : Int) (x3 : Int) (x5 : Int) (s1 : Int) (s2 : Int) : zX :=
  zas 6834 0 s1 8 (s2 % 2) <| zcl (fX67_signed x5) fun v25 => zcl (fX67_signed x3) fun v26 => if v26 ≤ v25 then
  (fX67_reckon_J326 x1 0) else
  (fX67_reckon_J326 x1 1)
def fX67_reckon_J364 (x1 : Int) (x7 : Int) (s1 : Int) (s2 : Int) : zX :=
  zas 6827 0 s1 32 (zi (s2 % 262144)) <| zal 6827 0 x7 32 fun v30 => zcl (fX67_flagHalf x1 v30) fun _ => zret 0
def fX67_reckon_J52 (x1 : Int) (x2 : Int) (x3 : Int) : zX :=
  zgf 6874 0 fun v3 => if v3 ≤ 0 then
  (zal 6825 0 x1 8 fun v4 => zgf 6881 0 fun v5 => if v5 = 2 then
  (zas 6825 0 x1 8 x3 <| fX67_reckon_J383 x1) else
  if v5 = 3 then
  (zas 6826 0 x1 8 x3 <| zcl (fX67_flag x1 x3) fun _ => zret 0) else
  if v5 = 4 then
  (zas 6825 0 x1 8 ((zl (v4 + x3)) % 68719476736) <| fX67_reckon_J383 x1) else
  if v5 = 5 then
  (zas 6825 0 x1 8 ((zl (v4 - x3)) % 68719476736) <| fX67_reckon_J383 x1) else
  if v5 = 6 then
  (zas 6825 0 x1 8 ((zl (v4 * x3)) % 68719476736) <| fX67_reckon_J383 x1) else
  if v5 = 7 then
  (zcl (fX67_signed v4) fun v15 => zcl (fX67_signed x3) fun v16 => zne v16 <| zas 6825 0 x1 8 ((zl (Int.tdiv v15 v16)) % 68719476736) <| zcl (fX67_signed v4) fun v18 => zcl (fX67_signed x3) fun v19 => zne v19 <| zas 6826 0 x1 8 ((Int.tmod v18 v19) % 68719476736) <| fX67_reckon_J383 x1) else
  if v5 = 8 then
  (zas 6825 0 x1 8 (zaN v4 x3) <| fX67_reckon_J383 x1) else
  if v5 = 9 then
  (zas 6825 0 x1 8 (zoR v4 x3) <| fX67_reckon_J383 x1) else
  if v5 = 10 then
  (zas 6825 0 x1 8 (zxR v4 x3) <| fX67_reckon_J383 x1) else
  if v5 = 11 then
  (if ¬ v4 = x3 then
  (fX67_reckon_J302 x1 x3 v4 x1 0) else
  (fX67_reckon_J302 x1 x3 v4 x1 1)) else
  (zlt (zi ((zi (4 * x1)) + x2)) fun v27 => zgf 6881 0 fun v28 => if ¬ v28 = 12 then
  (zal 6827 0 v27 32 fun v29 => fX67_reckon_J364 x1 v27 v27 (zl (v29 + x3))) else
  (fX67_reckon_J364 x1 v27 v27 x3))) else
  (zret 0)
def fX67_reckon (x1 : Int) (x2 : Int) : zX :=
  zcl (fX67_value x1) fun v1 => zgf 6881 0 fun v2 => if ¬ v2 = 7 then
  (fX67_reckon_J52 x1 x2 v1) else
  (if ¬ v1 = 0 then
  (fX67_reckon_J52 x1 x2 v1) else
  (zgf 6874 0 fun v32 => if ¬ v32 = 0 then
  (fX67_reckon_J52 x1 x2 v1) else
  (zal 6831 0 x1 8 fun v33 => zal 6832 0 x1 8 fun v34 => zal 6833 0 x1 8 fun v35 => zcl (fX67_fail 12 v33 v34 v35) fun _ => fX67_reckon_J52 x1 x2 v1)))
def fX67_shifted_J60 (s0 : Int) (s1 : Int) : zX :=
  zret ((s0 / 2 ^ (s1 % 64).toNat) % 68719476736)
def fX67_shifted (x0 : Int) (x2 : Int) (x3 : Int) : zX :=
  if ¬ x2 = 22 then
  (if ¬ x2 = 24 then
  (zcl (fX67_signed x0) fun v1 => if x3 ≤ 40 then
  (fX67_shifted_J60 v1 x3) else
  (fX67_shifted_J60 v1 40)) else
  (if x3 ≤ 35 then
  (zret (x0 / 2 ^ (x3 % 64).toNat)) else
  (zret 0))) else
  (if x3 ≤ 35 then
  (zret ((zl (x0 * 2 ^ (x3 % 64).toNat)) % 68719476736)) else
  (zret 0))
def fX67_place (x1 : Int) (x2 : Int) : zX :=
  zgf 6881 0 fun v1 => if v1 = 20 then
  (zgf 6879 0 fun v3 => zas 6827 0 (zi ((zi (4 * x1)) + x2)) 32 v3 <| zgf 6879 0 fun v4 => zcl (fX67_flagHalf x1 v4) fun _ => zret 0) else
  if v1 = 21 then
  (zgf 6879 0 fun v7 => zas 6825 0 x1 8 v7 <| zal 6825 0 x1 8 fun v8 => zcl (fX67_flag x1 v8) fun _ => zret 0) else
  if v1 = 25 then
  (zgf 6878 0 fun v11 => zas 6828 0 (zi ((zi (8 * x1)) + x2)) 64 v11 <| zgf 6879 0 fun v12 => zas 6829 0 (zi ((zi (8 * x1)) + x2)) 64 v12 <| zgf 6880 0 fun v13 => zas 6830 0 (zi ((zi (8 * x1)) + x2)) 64 v13 <| zret 0) else
  if v1 = 26 then
  (zgf 6878 0 fun v15 => zgf 6879 0 fun v16 => zgf 6880 0 fun v17 => zcl (fX67_pointerWord v15 v16 v17) fun v18 => zas 6825 0 x1 8 v18 <| zret 0) else
  (zal 6825 0 x1 8 fun v19 => zgf 6881 0 fun v20 => zgf 6879 0 fun v21 => zcl (fX67_shifted v19 v20 v21) fun v22 => zas 6825 0 x1 8 v22 <| zal 6825 0 x1 8 fun v23 => zcl (fX67_flag x1 v23) fun _ => zret 0)
def fX67_go (x1 : Int) : zX :=
  zgf 6878 0 fun v1 => zas 6831 0 x1 8 v1 <| zgf 6879 0 fun v2 => zas 6832 0 x1 8 v2 <| zret 0
def fX67_jump_J147 (x1 : Int) (s0 : Int) : zX :=
  if s0 = 0 then
  (zret 0) else
  (zcl (fX67_go x1) fun _ => zret 0)
def fX67_jump_J142 (x1 : Int) : zX :=
  fX67_jump_J147 x1 1
def fX67_jump_J146 (x1 : Int) : zX :=
  fX67_jump_J147 x1 0
def fX67_jump_J124 (x1 : Int) : zX :=
  zgf 6881 0 fun v7 => if ¬ v7 = 31 then
  (fX67_jump_J146 x1) else
  (zal 6835 0 x1 8 fun v8 => if ¬ v8 = 0 then
  (fX67_jump_J146 x1) else
  (fX67_jump_J142 x1))
def fX67_jump_J106 (x1 : Int) : zX :=
  zgf 6881 0 fun v6 => if ¬ v6 = 30 then
  (fX67_jump_J124 x1) else
  (zal 6835 0 x1 8 fun v9 => if ¬ v9 = 0 then
  (fX67_jump_J142 x1) else
  (fX67_jump_J124 x1))
def fX67_jump_J88 (x1 : Int) : zX :=
  zgf 6881 0 fun v5 => if ¬ v5 = 29 then
  (fX67_jump_J106 x1) else
  (zal 6834 0 x1 8 fun v10 => if v10 = 0 then
  (fX67_jump_J142 x1) else
  (fX67_jump_J106 x1))
def fX67_jump (x1 : Int) (x2 : Int) : zX :=
  zgf 6881 0 fun v1 => if ¬ v1 = 32 then
  (zgf 6881 0 fun v2 => if v2 = 27 then
  (fX67_jump_J142 x1) else
  (zgf 6881 0 fun v4 => if ¬ v4 = 28 then
  (fX67_jump_J88 x1) else
  (zal 6834 0 x1 8 fun v11 => if ¬ v11 = 0 then
  (fX67_jump_J142 x1) else
  (fX67_jump_J88 x1)))) else
  (zlt (zi ((zi (4 * x1)) + x2)) fun v12 => zal 6827 0 v12 32 fun v13 => zas 6827 0 v12 32 (Int.tmod (zi ((zi (v13 + 262144)) - 1)) 262144) <| zal 6827 0 v12 32 fun v14 => zcl (fX67_flagHalf x1 v14) fun _ => zal 6827 0 v12 32 fun v16 => if v16 = 0 then
  (zret 0) else
  (zcl (fX67_go x1) fun _ => zret 0))
def fX67_tell_J103 (x1 : Int) : zX :=
  zal 6860 0 x1 8 fun v3 => zas 6860 0 x1 8 (zi (v3 + 1)) <| zret 0
def fX67_tell_B64 (x1 : Int) (x9 : Int) (r64 : Int → zX) : Int → zX := fun x10 =>
  if (zi (x9 + 4)) ≤ x10 then
  (fX67_tell_J103 x1) else
  (zal 6862 0 x1 8 fun v4 => zal 6861 0 x10 2048 fun v5 => zas 6862 0 x1 8 (zl ((zxR v4 v5) * 1099511628211)) <| zlt (zi (x10 + 1)) fun v6 => r64 v6)
def fX67_tell (x1 : Int) (x2 : Int) (x3 : Int) (x5 : Int) (x7 : Int) : zX :=
  zal 6860 0 x1 8 fun v1 => zlt (zi ((zi (256 * x1)) + (zi (4 * (Int.tmod v1 64))))) fun v2 => zas 6861 0 v2 2048 x2 <| zas 6861 0 (zi (v2 + 1)) 2048 x3 <| zas 6861 0 (zi (v2 + 2)) 2048 x5 <| zas 6861 0 (zi (v2 + 3)) 2048 x7 <| zlp (fX67_tell_B64 x1 v2) zBIG v2
def fX67_act_J215 (s1 : Int) (s2 : Int) : zX :=
  zas 6832 0 s1 8 s2 <| zret 0
def fX67_act_J193 (x1 : Int) (x3 : Int) : zX :=
  zgf 6874 0 fun v9 => if v9 ≤ 0 then
  (fX67_act_J215 x1 (Int.tmod (zi (x3 + 1)) 262144)) else
  (fX67_act_J215 x1 x3)
def fX67_act (x1 : Int) (x2 : Int) (x3 : Int) : zX :=
  zgf 6881 0 fun v1 => if ¬ v1 = 0 then
  (zgf 6881 0 fun v2 => if ¬ v2 = 36 then
  (zgf 6881 0 fun v3 => if ¬ v3 = 37 then
  (zgf 6881 0 fun v4 => if v4 ≤ 26 then
  (zgf 6881 0 fun v5 => if v5 ≤ 19 then
  (zgf 6881 0 fun v6 => if v6 ≤ 1 then
  (zret 0) else
  (zas 6832 0 x1 8 x3 <| zgf 6881 0 fun v7 => if 14 ≤ v7 then
  (zcl (fX67_write x1 x2) fun _ => fX67_act_J193 x1 x3) else
  (zcl (fX67_reckon x1 x2) fun _ => fX67_act_J193 x1 x3))) else
  (zcl (fX67_place x1 x2) fun _ => zret 0)) else
  (zcl (fX67_jump x1 x2) fun _ => zret 0)) else
  (zal 6825 0 x1 8 fun v13 => zas 6825 0 x1 8 ((zl (- v13)) % 68719476736) <| zal 6825 0 x1 8 fun v14 => zcl (fX67_flag x1 v14) fun _ => zret 0)) else
  (zal 6825 0 x1 8 fun v16 => zal 6826 0 x1 8 fun v17 => zas 6825 0 x1 8 v17 <| zas 6826 0 x1 8 v16 <| zal 6825 0 x1 8 fun v18 => zcl (fX67_flag x1 v18) fun _ => zret 0)) else
  (zas 6821 0 x1 8 2 <| zcl (fX67_tell x1 6 0 0 0) fun _ => zret 0)
def fX67_isOfEntry (x0 : Int) : zX :=
  if x0 = 1 then
  (zret 1) else
  (if x0 = 4 then
  (zret 1) else
  (if x0 = 7 then
  (zret 1) else
  (zcl (fX67_in x0 10 13) fun v1 => if ¬ v1 = 0 then
  (zret 1) else
  (if x0 = 15 then
  (zret 1) else
  (zcl (fX67_in x0 25 27) fun v2 => if v2 = 0 then
  (zret 0) else
  (zret 1))))))
def fX67_askDirectory_J92 (s0 : Int) (s2 : Int) (s3 : Int) : zX :=
  zal 6804 0 (zi (s2 + s3)) 768 fun v7 => if s0 ≤ v7 then
  (zret 0) else
  (zret (-4))
def fX67_askDirectory_J69 (x1 : Int) (x2 : Int) (x3 : Int) : zX :=
  zal 6833 0 x1 8 fun v6 => if ¬ x3 = 1 then
  (fX67_askDirectory_J92 v6 (zi (3 * x2)) 0) else
  (fX67_askDirectory_J92 v6 (zi (3 * x2)) 1)
def fX67_askDirectory (x1 : Int) (x2 : Int) (x3 : Int) : zX :=
  zal 6822 0 x1 8 fun v1 => zal 6823 0 x1 8 fun v2 => zcl (fX67_modesFor x2 v1 v2) fun v3 => if ¬ (zan v3 x3) = 0 then
  (if ¬ x3 = 1 then
  (zal 6824 0 x1 8 fun v4 => zal 6803 0 x2 256 fun v5 => if v4 = v5 then
  (fX67_askDirectory_J69 x1 x2 x3) else
  (zret (-3))) else
  (zal 6824 0 x1 8 fun v8 => zal 6803 0 x2 256 fun v9 => zcl (fX67_dominates v8 v9) fun v10 => if ¬ v10 = 0 then
  (fX67_askDirectory_J69 x1 x2 x3) else
  (zret (-3)))) else
  (zret (-2))
def fX67_add_J292 (x1 : Int) (x8 : Int) (s1 : Int) (s2 : Int) (s3 : Int) (s4 : Int) : zX :=
  zcl (fX67_make s1 s2 s3 s4 x8) fun v12 => zal 6833 0 x1 8 fun v13 => zal 6833 0 x1 8 fun v14 => zal 6833 0 x1 8 fun v15 => zcl (fX67_setBrackets v12 v13 v14 v15) fun _ => zal 6822 0 x1 8 fun v17 => zal 6823 0 x1 8 fun v18 => zcl (fX67_addItem v12 v17 v18 7) fun _ => zal 6822 0 x1 8 fun v20 => zal 6823 0 x1 8 fun v21 => zcl (fX67_giveFirsts v12 v20 v21) fun _ => zret 0
def fX67_add_J223 (x1 : Int) (x2 : Int) (x3 : Int) (x5 : Int) (s0 : Int) : zX :=
  zal 6825 0 x1 8 fun v6 => zcl (fX67_entryNamed x3 v6) fun v7 => if v7 < 0 then
  (zcl (fX67_costOf x5 s0) fun v8 => zcl (fX67_hasRoom x3 v8) fun v9 => if ¬ v9 = 0 then
  (zal 6825 0 x1 8 fun v10 => if ¬ x2 = 9 then
  (zal 6803 0 x3 256 fun v11 => fX67_add_J292 x1 s0 x5 x3 v10 v11) else
  (zal 6826 0 x1 8 fun v23 => fX67_add_J292 x1 s0 x5 x3 v10 (zi v23))) else
  (zret (-5))) else
  (zret (-6))
def fX67_add_J187 (x1 : Int) (x2 : Int) (x3 : Int) (x5 : Int) (x6 : Int) (x7 : Int) : zX :=
  if ¬ x7 = 0 then
  (if ¬ x2 = 8 then
  (if ¬ x2 = 9 then
  (fX67_add_J223 x1 x2 x3 x5 0) else
  (fX67_add_J223 x1 x2 x3 x5 x6)) else
  (zal 6826 0 x1 8 fun v24 => fX67_add_J223 x1 x2 x3 x5 (zi v24))) else
  (zret (-8))
def fX67_add_J185 (x1 : Int) (x2 : Int) (x3 : Int) (x5 : Int) (x6 : Int) (s0 : Int) : zX :=
  fX67_add_J187 x1 x2 x3 x5 x6 s0
def fX67_add_J184 (x1 : Int) (x2 : Int) (x3 : Int) (x5 : Int) (x6 : Int) : zX :=
  fX67_add_J185 x1 x2 x3 x5 x6 0
def fX67_add_J180 (x1 : Int) (x2 : Int) (x3 : Int) (x5 : Int) (x6 : Int) : zX :=
  fX67_add_J185 x1 x2 x3 x5 x6 1
def fX67_add_J102 (x1 : Int) (x2 : Int) (x3 : Int) (x5 : Int) (x6 : Int) (s0 : Int) : zX :=
  fX67_add_J187 x1 x2 x3 x5 x6 s0
def fX67_add_J101 (x1 : Int) (x2 : Int) (x3 : Int) (x5 : Int) (x6 : Int) : zX :=
  fX67_add_J102 x1 x2 x3 x5 x6 0
def fX67_add_J50 (x1 : Int) (x2 : Int) (x3 : Int) (s0 : Int) : zX :=
  zal 6827 0 (zi (4 * x1)) 32 fun v3 => zal 6825 0 x1 8 fun v4 => zcl (fX67_isName v4) fun v5 => if ¬ x2 = 8 then
  (if ¬ x2 = 9 then
  (fX67_add_J187 x1 x2 x3 s0 v3 v5) else
  (if v5 = 0 then
  (fX67_add_J184 x1 x2 x3 s0 v3) else
  (zal 6826 0 x1 8 fun v25 => if 32 ≤ v25 then
  (fX67_add_J184 x1 x2 x3 s0 v3) else
  (zal 6826 0 x1 8 fun v26 => zal 6803 0 x3 256 fun v27 => zcl (fX67_dominates (zi v26) v27) fun v28 => if v28 = 0 then
  (fX67_add_J184 x1 x2 x3 s0 v3) else
  (if 256 ≤ v3 then
  (fX67_add_J184 x1 x2 x3 s0 v3) else
  (zal 6826 0 x1 8 fun v29 => zal 6803 0 x3 256 fun v30 => if v29 = v30 then
  (fX67_add_J180 x1 x2 x3 s0 v3) else
  (if v3 ≤ 0 then
  (fX67_add_J184 x1 x2 x3 s0 v3) else
  (fX67_add_J180 x1 x2 x3 s0 v3)))))))) else
  (if v5 = 0 then
  (fX67_add_J101 x1 x2 x3 s0 v3) else
  (zal 6826 0 x1 8 fun v31 => if 1024 < v31 then
  (fX67_add_J101 x1 x2 x3 s0 v3) else
  (fX67_add_J102 x1 x2 x3 s0 v3 1)))
def fX67_add (x1 : Int) (x2 : Int) : zX :=
  zal 6840 0 x1 8 fun v1 => zpf 6886 0 v1 <| zcl (fX67_askDirectory x1 v1 4) fun v2 => if 0 ≤ v2 then
  (if ¬ x2 = 8 then
  (if ¬ x2 = 9 then
  (fX67_add_J50 x1 x2 v1 3) else
  (fX67_add_J50 x1 x2 v1 1)) else
  (fX67_add_J50 x1 x2 v1 2)) else
  (zret v2)
def fX67_note (x1 : Int) (x2 : Int) (x3 : Int) (x4 : Int) : zX :=
  zgf 6865 0 fun v1 => zlt (zi (4 * (Int.tmod v1 64))) fun v2 => zas 6866 0 v2 256 x1 <| zas 6866 0 (zi (v2 + 1)) 256 x2 <| zas 6866 0 (zi (v2 + 2)) 256 x3 <| zas 6866 0 (zi (v2 + 3)) 256 x4 <| zgf 6865 0 fun v3 => zpf 6865 0 (zi (v3 + 1)) <| zret 0
def fX67_entryBehind_J94 (r5 : Int × Int → zX) (x1 : Int) (x2 : Int) (x4 : Int) (s0 : Int) : zX :=
  zlt (zi (x4 + 1)) fun v2 => r5 (s0, v2)
def fX67_entryBehind_J93 (r5 : Int × Int → zX) (x1 : Int) (x2 : Int) (x3 : Int) (x4 : Int) : zX :=
  fX67_entryBehind_J94 r5 x1 x2 x4 x3
def fX67_entryBehind_J88 (r5 : Int × Int → zX) (x1 : Int) (x2 : Int) (x4 : Int) : zX :=
  fX67_entryBehind_J94 r5 x1 x2 x4 x4
def fX67_entryBehind_J60 (r5 : Int × Int → zX) (x1 : Int) (x2 : Int) (x3 : Int) (x4 : Int) (s0 : Int) : zX :=
  if s0 = 0 then
  (fX67_entryBehind_J93 r5 x1 x2 x3 x4) else
  (if x3 < 0 then
  (fX67_entryBehind_J88 r5 x1 x2 x4) else
  (zal 6810 0 x4 256 fun v3 => zal 6810 0 x3 256 fun v4 => if v4 ≤ v3 then
  (fX67_entryBehind_J93 r5 x1 x2 x3 x4) else
  (fX67_entryBehind_J88 r5 x1 x2 x4)))
def fX67_entryBehind_J59 (r5 : Int × Int → zX) (x1 : Int) (x2 : Int) (x3 : Int) (x4 : Int) : zX :=
  fX67_entryBehind_J60 r5 x1 x2 x3 x4 0
def fX67_entryBehind_J55 (r5 : Int × Int → zX) (x1 : Int) (x2 : Int) (x3 : Int) (x4 : Int) : zX :=
  fX67_entryBehind_J60 r5 x1 x2 x3 x4 1
def fX67_entryBehind_B5 (x1 : Int) (x2 : Int) (r5 : Int × Int → zX) : Int × Int → zX := fun (x3, x4) =>
  if 256 ≤ x4 then
  (zret x3) else
  (zal 6800 0 x4 256 fun v1 => if v1 ≤ 0 then
  (fX67_entryBehind_J59 r5 x1 x2 x3 x4) else
  (zal 6802 0 x4 256 fun v5 => if ¬ v5 = x1 then
  (fX67_entryBehind_J59 r5 x1 x2 x3 x4) else
  (if x2 = 0 then
  (fX67_entryBehind_J55 r5 x1 x2 x3 x4) else
  (zal 6810 0 x4 256 fun v6 => zal 6810 0 x2 256 fun v7 => if v6 ≤ v7 then
  (fX67_entryBehind_J59 r5 x1 x2 x3 x4) else
  (fX67_entryBehind_J55 r5 x1 x2 x3 x4)))))
def fX67_entryBehind (x1 : Int) (x2 : Int) : zX :=
  zlp (fX67_entryBehind_B5 x1 x2) zBIG ((-1), 1)
def fX67_entryAt_B19 (x1 : Int) (x2 : Int) (r19 : Int × Int → zX) : Int × Int → zX := fun (x4, x5) =>
  if x2 ≤ x5 then
  (zret x4) else
  (if x4 < 0 then
  (zret x4) else
  (zcl (fX67_entryBehind x1 x4) fun v2 => zlt (zl (x5 + 1)) fun v3 => r19 (v2, v3)))
def fX67_entryAt (x1 : Int) (x2 : Int) : zX :=
  if 0 ≤ x2 then
  (zcl (fX67_entryBehind x1 0) fun v1 => zlp (fX67_entryAt_B19 x1 x2) zBIG (v1, 0)) else
  (zret (-1))
def fX67_nameOf_J62 (x1 : Int) (s0 : Int) : zX :=
  if 0 ≤ s0 then
  (zal 6801 0 s0 256 fun v8 => zas 6826 0 x1 8 v8 <| zret 0) else
  (zret (-1))
def fX67_nameOf (x1 : Int) : zX :=
  zal 6840 0 x1 8 fun v1 => zpf 6886 0 v1 <| zal 6840 0 x1 8 fun v2 => zcl (fX67_askDirectory x1 v2 1) fun v3 => if 0 ≤ v3 then
  (zal 6825 0 x1 8 fun v4 => if v4 ≤ 256 then
  (zal 6840 0 x1 8 fun v5 => zal 6825 0 x1 8 fun v6 => zcl (fX67_entryAt v5 v6) fun v7 => fX67_nameOf_J62 x1 v7) else
  (fX67_nameOf_J62 x1 (-1))) else
  (zret v3)
def fX67_newLength_J39 (x1 : Int) (s0 : Int) : zX :=
  if 0 ≤ s0 then
  (zpf 6886 0 s0 <| zal 6833 0 x1 8 fun v3 => zcl (fX67_barred x1 s0 v3 4) fun v4 => if v4 ≤ 0 then
  (zal 6826 0 x1 8 fun v5 => if v5 ≤ 1024 then
  (zal 6826 0 x1 8 fun v6 => zcl (fX67_setLength s0 (zi v6)) fun v7 => if v7 = 0 then
  (zret (-5)) else
  (zret 0)) else
  (zret (-8))) else
  (zret (zi (1 - v4)))) else
  (zret (-1))
def fX67_newLength (x1 : Int) : zX :=
  zal 6825 0 x1 8 fun v1 => zcl (fX67_in v1 8 31) fun v2 => if v2 = 0 then
  (fX67_newLength_J39 x1 (-1)) else
  (zal 6825 0 x1 8 fun v8 => zal 6838 0 (zi ((zi (32 * x1)) + (zi v8))) 256 fun v9 => fX67_newLength_J39 x1 v9)
def fX67_newFirst (x1 : Int) : zX :=
  zal 6840 0 x1 8 fun v1 => zpf 6886 0 v1 <| zal 6840 0 x1 8 fun v2 => zcl (fX67_askDirectory x1 v2 2) fun v3 => if 0 ≤ v3 then
  (zlt (zi (4 * x1)) fun v4 => zal 6825 0 x1 8 fun v5 => zcl (fX67_in v5 1 2) fun v6 => if v6 = 0 then
  (zret (-8)) else
  (zal 6827 0 v4 32 fun v7 => zal 6827 0 (zi (v4 + 1)) 32 fun v8 => zal 6827 0 (zi (v4 + 2)) 32 fun v9 => zcl (fX67_isItem v7 v8 v9) fun v10 => if ¬ v10 = 0 then
  (zal 6840 0 x1 8 fun v11 => zal 6825 0 x1 8 fun v12 => zal 6827 0 v4 32 fun v13 => zal 6827 0 (zi (v4 + 1)) 32 fun v14 => zal 6827 0 (zi (v4 + 2)) 32 fun v15 => zcl (fX67_initial v11 (zi v12) v13 v14 v15) fun v16 => if 0 ≤ v16 then
  (zret 0) else
  (zret v16)) else
  (zret (-8)))) else
  (zret v3)
def fX67_doable_J141 (s1 : Int) (s2 : Int) (s3 : Int) : zX :=
  zas 6826 0 s1 8 (zi (s2 + s3)) <| zret 0
def fX67_doable_J119 (x1 : Int) (x3 : Int) (s1 : Int) (s2 : Int) (s3 : Int) : zX :=
  zal 6833 0 x1 8 fun v9 => zcl (fX67_barred x1 x3 v9 4) fun v10 => if ¬ v10 = 0 then
  (fX67_doable_J141 s1 (zi (s2 + s3)) 0) else
  (fX67_doable_J141 s1 (zi (s2 + s3)) 4)
def fX67_doable_J98 (x1 : Int) (x3 : Int) (s1 : Int) (s2 : Int) : zX :=
  zal 6833 0 x1 8 fun v7 => zcl (fX67_barred x1 x3 v7 2) fun v8 => if ¬ v8 = 0 then
  (fX67_doable_J119 x1 x3 s1 s2 0) else
  (fX67_doable_J119 x1 x3 s1 s2 2)
def fX67_doable_J51 (s1 : Int) (s2 : Int) : zX :=
  zas 6826 0 s1 8 s2 <| zret 0
def fX67_doable (x1 : Int) : zX :=
  zal 6825 0 x1 8 fun v1 => if v1 ≤ 31 then
  (zal 6825 0 x1 8 fun v2 => zlt (zi v2) fun v3 => if 8 ≤ v3 then
  (zal 6838 0 (zi ((zi (32 * x1)) + v3)) 256 fun v4 => if 0 ≤ v4 then
  (zal 6833 0 x1 8 fun v5 => zcl (fX67_barred x1 v4 v5 1) fun v6 => if ¬ v6 = 0 then
  (fX67_doable_J98 x1 v4 x1 0) else
  (fX67_doable_J98 x1 v4 x1 1)) else
  (zret (-1))) else
  (zal 6833 0 x1 8 fun v11 => if v3 < v11 then
  (fX67_doable_J51 x1 0) else
  (fX67_doable_J51 x1 5))) else
  (zret (-1))
def fX67_among_B130 (x1 : Int) (r130 : Int → zX) : Int → zX := fun x3 =>
  zal 6846 0 x1 8 fun v10 => if (zi ((zi (8 * x1)) + v10)) ≤ x3 then
  (zret 0) else
  (zal 6847 0 (zi (x3 + 1)) 64 fun v11 => zas 6847 0 x3 64 v11 <| zlt (zi (x3 + 1)) fun v12 => r130 v12)
def fX67_among (x1 : Int) (x2 : Int) : zX :=
  if ¬ x2 = 19 then
  (if ¬ x2 = 20 then
  (if ¬ x2 = 21 then
  (if ¬ x2 = 22 then
  (zcl (fX67_doable x1) fun v1 => zret v1) else
  (zal 6822 0 x1 8 fun v2 => zal 6823 0 x1 8 fun v3 => zal 6824 0 x1 8 fun v4 => zal 6833 0 x1 8 fun v5 => zas 6826 0 x1 8 (zl ((zl ((zl (v2 + (zl (16 * v3)))) + (zl (128 * v4)))) + (zl (4096 * v5)))) <| zret 0)) else
  (zal 6836 0 x1 8 fun v6 => zas 6826 0 x1 8 v6 <| zret 0)) else
  (zal 6847 0 (zi (8 * x1)) 64 fun v7 => zas 6826 0 x1 8 v7 <| zal 6846 0 x1 8 fun v8 => zas 6846 0 x1 8 (zi (v8 - 1)) <| zlt (zi (8 * x1)) fun v9 => zlp (fX67_among_B130 x1) zBIG v9)) else
  (zal 6827 0 (zi (4 * x1)) 32 fun v13 => if 8 ≤ v13 then
  (zret 0) else
  (zal 6820 0 v13 8 fun v14 => if v14 = 0 then
  (zret 0) else
  (zal 6824 0 v13 8 fun v15 => zal 6824 0 x1 8 fun v16 => zcl (fX67_dominates v15 v16) fun v17 => if v17 = 0 then
  (zret 0) else
  (zal 6846 0 v13 8 fun v18 => if 8 ≤ v18 then
  (zret 0) else
  (zal 6846 0 v13 8 fun v19 => zal 6826 0 x1 8 fun v20 => zas 6847 0 (zi ((zi (8 * v13)) + v19)) 64 v20 <| zal 6846 0 v13 8 fun v21 => zas 6846 0 v13 8 (zi (v21 + 1)) <| zret 0)))))
def fX67_plain_J289 (s1 : Int) (s2 : Int) : zX :=
  zas 6841 0 s1 32 s2 <| zret 0
def fX67_plain_J313 (x1 : Int) (s1 : Int) (s2 : Int) : zX :=
  zas 6842 0 s1 8 (s2 % 2) <| zal 6828 0 (zi (8 * x1)) 64 fun v27 => zas 6843 0 x1 8 v27 <| zal 6829 0 (zi (8 * x1)) 64 fun v28 => zas 6844 0 x1 8 v28 <| zal 6833 0 x1 8 fun v29 => zas 6845 0 x1 8 v29 <| zret 0
def fX67_plain (x1 : Int) (x2 : Int) : zX :=
  if x2 = 0 then
  (zal 6825 0 x1 8 fun v2 => zcl (fX67_tell x1 1 v2 0 0) fun _ => zret 0) else
  if x2 = 2 then
  (zal 6840 0 x1 8 fun v5 => if ¬ v5 = 0 then
  (zal 6840 0 x1 8 fun v6 => zal 6802 0 v6 256 fun v7 => zas 6840 0 x1 8 v7 <| zret 0) else
  (zret (-1))) else
  if x2 = 3 then
  (zas 6840 0 x1 8 0 <| zret 0) else
  if x2 = 5 then
  (zal 6825 0 x1 8 fun v10 => zcl (fX67_in v10 8 31) fun v11 => if v11 = 0 then
  (zret (-1)) else
  (zal 6825 0 x1 8 fun v12 => zal 6838 0 (zi ((zi (32 * x1)) + (zi v12))) 256 fun v13 => if 0 ≤ v13 then
  (zal 6825 0 x1 8 fun v14 => zcl (fX67_forget x1 (zi v14)) fun _ => zret 0) else
  (zret (-1)))) else
  if x2 = 6 then
  (zcl (fX67_nameOf x1) fun v17 => zret v17) else
  if x2 = 14 then
  (zcl (fX67_newLength x1) fun v19 => zret v19) else
  if x2 = 16 then
  (zal 6827 0 (zi (4 * x1)) 32 fun v21 => if v21 ≤ 3 then
  (zal 6827 0 (zi (4 * x1)) 32 fun v22 => zal 6825 0 x1 8 fun v23 => if ¬ v23 = 0 then
  (zal 6840 0 x1 8 fun v24 => fX67_plain_J289 (zi ((zi (4 * x1)) + v22)) v24) else
  (fX67_plain_J289 (zi ((zi (4 * x1)) + v22)) (-1))) else
  (zret (-8))) else
  if x2 = 17 then
  (zal 6825 0 x1 8 fun v26 => if v26 = 0 then
  (fX67_plain_J313 x1 x1 0) else
  (fX67_plain_J313 x1 x1 1)) else
  if x2 = 24 then
  (zcl (fX67_newFirst x1) fun v31 => zret v31) else
  (zcl (fX67_among x1 x2) fun v32 => zret v32)
def fX67_numberFor_B35 (x1 : Int) (r35 : Int → zX) : Int → zX := fun x3 =>
  if 32 ≤ x3 then
  (zret (-1)) else
  (zal 6838 0 (zi ((zi (32 * x1)) + x3)) 256 fun v1 => if 0 ≤ v1 then
  (zlt (zi (x3 + 1)) fun v2 => r35 v2) else
  (zret x3))
def fX67_numberFor_J32 (x1 : Int) : zX :=
  zlp (fX67_numberFor_B35 x1) zBIG 8
def fX67_numberFor_B3 (x1 : Int) (x2 : Int) (r3 : Int → zX) : Int → zX := fun x3 =>
  if 32 ≤ x3 then
  (fX67_numberFor_J32 x1) else
  (zal 6838 0 (zi ((zi (32 * x1)) + x3)) 256 fun v3 => if ¬ v3 = x2 then
  (zlt (zi (x3 + 1)) fun v4 => r3 v4) else
  (zret x3))
def fX67_numberFor (x1 : Int) (x2 : Int) : zX :=
  zlp (fX67_numberFor_B3 x1 x2) zBIG 8
def fX67_look_J107 (x1 : Int) (x2 : Int) (x3 : Int) (s0 : Int) (s1 : Int) : zX :=
  if s0 = s1 then
  (if ¬ x2 = 1 then
  (zal 6822 0 x1 8 fun v2 => zal 6823 0 x1 8 fun v3 => zcl (fX67_modesFor x3 v2 v3) fun v4 => if ¬ v4 = 0 then
  (zcl (fX67_numberFor x1 x3) fun v5 => if 0 ≤ v5 then
  (zas 6838 0 (zi ((zi (32 * x1)) + v5)) 256 x3 <| zas 6826 0 x1 8 v5 <| zret 0) else
  (zret (-5))) else
  (zret (-2))) else
  (zal 6824 0 x1 8 fun v6 => zal 6803 0 x3 256 fun v7 => zcl (fX67_dominates v6 v7) fun v8 => if ¬ v8 = 0 then
  (zas 6840 0 x1 8 x3 <| zret 0) else
  (zret (-3)))) else
  (zret (-7))
def fX67_look (x1 : Int) (x2 : Int) (x3 : Int) : zX :=
  if ¬ x2 = 7 then
  (zal 6800 0 x3 256 fun v1 => if ¬ x2 = 1 then
  (fX67_look_J107 x1 x2 x3 v1 2) else
  (fX67_look_J107 x1 x2 x3 v1 1)) else
  (zal 6800 0 x3 256 fun v9 => zal 6803 0 x3 256 fun v10 => zal 6804 0 (zi (3 * x3)) 768 fun v11 => zal 6804 0 (zi ((zi (3 * x3)) + 1)) 768 fun v12 => zal 6804 0 (zi ((zi (3 * x3)) + 2)) 768 fun v13 => zal 6806 0 x3 256 fun v14 => zas 6826 0 x1 8 (zl ((zl ((zl ((zl ((zl (v9 + (zl (4 * v10)))) + (zl (128 * v11)))) + (zl (1024 * v12)))) + (zl (8192 * v13)))) + (zl (65536 * v14)))) <| zret 0)
def fX67_isUpgraded (x1 : Int) : zX :=
  if x1 ≤ 0 then
  (zret 0) else
  (zal 6800 0 x1 256 fun v1 => if ¬ v1 = 1 then
  (zret 0) else
  (zal 6803 0 x1 256 fun v2 => zal 6802 0 x1 256 fun v3 => zal 6803 0 v3 256 fun v4 => if v2 = v4 then
  (zret 0) else
  (zret 1)))
def fX67_isOutOfRing (x1 : Int) (x2 : Int) : zX :=
  zal 6833 0 x1 8 fun v1 => zal 6804 0 (zi (3 * x2)) 768 fun v2 => if v1 ≤ v2 then
  (zret 0) else
  (zret 1)
def fX67_newBrackets (x1 : Int) (x2 : Int) : zX :=
  zal 6826 0 x1 8 fun v1 => if v1 ≤ 32767 then
  (zal 6826 0 x1 8 fun v2 => zlt (zi v2) fun v3 => zlt (Int.tmod v3 8) fun v4 => zcl (fX67_areBrackets x2 v4 (Int.tmod (zi (Int.tdiv v3 8)) 8) (Int.tmod (zi (Int.tdiv v3 64)) 8) (zi (Int.tdiv v3 512))) fun v5 => if ¬ v5 = 0 then
  (zcl (fX67_isOutOfRing x1 x2) fun v6 => if ¬ v6 = 0 then
  (zret (-4)) else
  (zal 6833 0 x1 8 fun v7 => if v7 ≤ v4 then
  (zcl (fX67_brackets x2 v4 (Int.tmod (zi (Int.tdiv v3 8)) 8) (Int.tmod (zi (Int.tdiv v3 64)) 8) (zi (Int.tdiv v3 512))) fun v8 => zret v8) else
  (zret (-4)))) else
  (zret (-8))) else
  (zret (-8))
def fX67_newLimit (x1 : Int) (x2 : Int) : zX :=
  zal 6800 0 x2 256 fun v1 => if ¬ v1 = 1 then
  (zret (-7)) else
  (zal 6807 0 x2 256 fun v2 => if ¬ v2 = 0 then
  (zcl (fX67_isUpgraded x2) fun v3 => if v3 = 0 then
  (zcl (fX67_isOutOfRing x1 x2) fun v4 => if v4 = 0 then
  (zal 6826 0 x1 8 fun v5 => zcl (fX67_in v5 1 255) fun v6 => if ¬ v6 = 0 then
  (zal 6826 0 x1 8 fun v7 => zcl (fX67_setLimit x2 (zi v7)) fun v8 => if v8 = 0 then
  (zret (-5)) else
  (zret 0)) else
  (zret (-8))) else
  (zret (-4))) else
  (zret (-3))) else
  (zret (-7)))
def fX67_modify (x1 : Int) (x2 : Int) (x3 : Int) : zX :=
  zlt (zi (4 * x1)) fun v1 => if x2 = 10 then
  (zcl (fX67_isUpgraded x3) fun v3 => if v3 = 0 then
  (zcl (fX67_isOutOfRing x1 x3) fun v4 => if v4 = 0 then
  (zcl (fX67_countEntries x3) fun v5 => if v5 ≤ 0 then
  (zcl (fX67_drop x3) fun _ => zret 0) else
  (zret (-7))) else
  (zret (-4))) else
  (zret (-3))) else
  if x2 = 11 then
  (zal 6826 0 x1 8 fun v8 => zcl (fX67_isName v8) fun v9 => if ¬ v9 = 0 then
  (zcl (fX67_isOutOfRing x1 x3) fun v10 => if v10 = 0 then
  (zal 6826 0 x1 8 fun v11 => zcl (fX67_rename x3 v11) fun v12 => zret v12) else
  (zret (-4))) else
  (zret (-8))) else
  if x2 = 12 then
  (zal 6827 0 v1 32 fun v14 => zal 6827 0 (zi (v1 + 1)) 32 fun v15 => zal 6827 0 (zi (v1 + 2)) 32 fun v16 => zcl (fX67_isItem v14 v15 v16) fun v17 => if ¬ v17 = 0 then
  (zcl (fX67_isOutOfRing x1 x3) fun v18 => if v18 = 0 then
  (zal 6827 0 v1 32 fun v19 => zal 6827 0 (zi (v1 + 1)) 32 fun v20 => zal 6827 0 (zi (v1 + 2)) 32 fun v21 => zcl (fX67_item x3 v19 v20 v21) fun v22 => if 0 ≤ v22 then
  (zret 0) else
  (zret v22)) else
  (zret (-4))) else
  (zret (-8))) else
  if x2 = 13 then
  (zcl (fX67_newBrackets x1 x3) fun v24 => zret v24) else
  (zcl (fX67_newLimit x1 x3) fun v25 => zret v25)
def fX67_askMailbox (x1 : Int) (x2 : Int) (x3 : Int) : zX :=
  zal 6822 0 x1 8 fun v1 => zal 6823 0 x1 8 fun v2 => zcl (fX67_modesFor x2 v1 v2) fun v3 => if ¬ (zan v3 x3) = 0 then
  (zal 6824 0 x1 8 fun v4 => zal 6803 0 x2 256 fun v5 => zcl (fX67_dominates v4 v5) fun v6 => if ¬ v6 = 0 then
  (zal 6833 0 x1 8 fun v7 => zal 6804 0 (zi ((zi (3 * x2)) + 1)) 768 fun v8 => if v7 ≤ v8 then
  (zret 0) else
  (zret (-4))) else
  (zret (-3))) else
  (zret (-2))
def fX67_onMailbox_B346 (x3 : Int) (x5 : Int) (r346 : Int → zX) : Int → zX := fun x9 =>
  zal 6817 0 x3 256 fun v7 => if v7 ≤ x9 then
  (zret 0) else
  (zal 6818 0 (zi ((zi (x5 + x9)) + 1)) 32768 fun v8 => zas 6818 0 (zi (x5 + x9)) 32768 v8 <| zal 6819 0 (zi ((zi (x5 + x9)) + 1)) 32768 fun v9 => zas 6819 0 (zi (x5 + x9)) 32768 v9 <| zlt (zi (x9 + 1)) fun v10 => r346 v10)
def fX67_onMailbox_J214 (x1 : Int) (x2 : Int) (x3 : Int) (x5 : Int) (x6 : Int) (x7 : Int) : zX :=
  if ¬ x2 = 25 then
  (if 0 ≤ x7 then
  (zal 6818 0 (zi (x5 + x7)) 32768 fun v5 => zas 6826 0 x1 8 v5 <| if ¬ x2 = 27 then
  (zal 6817 0 x3 256 fun v6 => zas 6817 0 x3 256 (zi (v6 - 1)) <| zlp (fX67_onMailbox_B346 x3 x5) zBIG x7) else
  (zal 6819 0 (zi (x5 + x7)) 32768 fun v11 => zas 6827 0 (zi ((zi (4 * x1)) + 1)) 32 v11 <| zret 0)) else
  (zret (-1))) else
  (if ¬ x6 = 4 then
  (zal 6817 0 x3 256 fun v12 => zal 6826 0 x1 8 fun v13 => zas 6818 0 (zi (x5 + v12)) 32768 v13 <| zal 6817 0 x3 256 fun v14 => zal 6824 0 x1 8 fun v15 => zas 6819 0 (zi (x5 + v14)) 32768 v15 <| zal 6817 0 x3 256 fun v16 => zas 6817 0 x3 256 (zi (v16 + 1)) <| zret 0) else
  (zret (-5)))
def fX67_onMailbox_J206 (r69 : Int × Int × Int × Int → zX) (x1 : Int) (x2 : Int) (x3 : Int) (x5 : Int) (x6 : Int) (x7 : Int) (x9 : Int) (s0 : Int) : zX :=
  zlt (zi (x9 + 1)) fun v22 => r69 (x6, x7, s0, v22)
def fX67_onMailbox_J190 (r69 : Int × Int × Int × Int → zX) (x1 : Int) (x2 : Int) (x3 : Int) (x5 : Int) (x6 : Int) (x8 : Int) (x9 : Int) (x11 : Int) (s0 : Int) : zX :=
  if x11 = 0 then
  (fX67_onMailbox_J206 r69 x1 x2 x3 x5 x6 s0 x9 x8) else
  (fX67_onMailbox_J206 r69 x1 x2 x3 x5 x6 s0 x9 (zi (x8 + 1)))
def fX67_onMailbox_J188 (r69 : Int × Int × Int × Int → zX) (x1 : Int) (x2 : Int) (x3 : Int) (x5 : Int) (x6 : Int) (x7 : Int) (x8 : Int) (x9 : Int) (x11 : Int) : zX :=
  fX67_onMailbox_J190 r69 x1 x2 x3 x5 x6 x8 x9 x11 x7
def fX67_onMailbox_J183 (r69 : Int × Int × Int × Int → zX) (x1 : Int) (x2 : Int) (x3 : Int) (x5 : Int) (x6 : Int) (x8 : Int) (x9 : Int) (x11 : Int) : zX :=
  fX67_onMailbox_J190 r69 x1 x2 x3 x5 x6 x8 x9 x11 x9
def fX67_onMailbox_J152 (r69 : Int × Int × Int × Int → zX) (x1 : Int) (x2 : Int) (x3 : Int) (x5 : Int) (x6 : Int) (x7 : Int) (x8 : Int) (x9 : Int) (s0 : Int) : zX :=
  if s0 = 0 then
  (fX67_onMailbox_J188 r69 x1 x2 x3 x5 x6 x7 x8 x9 s0) else
  (if 0 ≤ x7 then
  (fX67_onMailbox_J188 r69 x1 x2 x3 x5 x6 x7 x8 x9 s0) else
  (if x2 = 26 then
  (fX67_onMailbox_J183 r69 x1 x2 x3 x5 x6 x8 x9 s0) else
  (zal 6827 0 (zi (4 * x1)) 32 fun v23 => if ¬ x8 = v23 then
  (fX67_onMailbox_J188 r69 x1 x2 x3 x5 x6 x7 x8 x9 s0) else
  (fX67_onMailbox_J183 r69 x1 x2 x3 x5 x6 x8 x9 s0))))
def fX67_onMailbox_J120 (r69 : Int × Int × Int × Int → zX) (x1 : Int) (x2 : Int) (x3 : Int) (x5 : Int) (x7 : Int) (x8 : Int) (x9 : Int) (x10 : Int) (s0 : Int) : zX :=
  if ¬ x2 = 26 then
  (zal 6824 0 x1 8 fun v19 => zal 6819 0 (zi (x5 + x9)) 32768 fun v20 => zcl (fX67_dominates v19 v20) fun v21 => fX67_onMailbox_J152 r69 x1 x2 x3 x5 s0 x7 x8 x9 v21) else
  (fX67_onMailbox_J152 r69 x1 x2 x3 x5 s0 x7 x8 x9 x10)
def fX67_onMailbox_J104 (r69 : Int × Int × Int × Int → zX) (x1 : Int) (x2 : Int) (x3 : Int) (x5 : Int) (x6 : Int) (x7 : Int) (x8 : Int) (x9 : Int) (s0 : Int) : zX :=
  if s0 = 0 then
  (fX67_onMailbox_J120 r69 x1 x2 x3 x5 x7 x8 x9 s0 x6) else
  (fX67_onMailbox_J120 r69 x1 x2 x3 x5 x7 x8 x9 s0 (zi (x6 + 1)))
def fX67_onMailbox_B69 (x1 : Int) (x2 : Int) (x3 : Int) (x5 : Int) (r69 : Int × Int × Int × Int → zX) : Int × Int × Int × Int → zX := fun (x6, x7, x8, x9) =>
  zal 6817 0 x3 256 fun v4 => if v4 ≤ x9 then
  (fX67_onMailbox_J214 x1 x2 x3 x5 x6 x7) else
  (zal 6819 0 (zi (x5 + x9)) 32768 fun v17 => zal 6824 0 x1 8 fun v18 => if ¬ v17 = v18 then
  (fX67_onMailbox_J104 r69 x1 x2 x3 x5 x6 x7 x8 x9 0) else
  (fX67_onMailbox_J104 r69 x1 x2 x3 x5 x6 x7 x8 x9 1))
def fX67_onMailbox_J37 (x1 : Int) (x2 : Int) (x3 : Int) (s1 : Int) (s2 : Int) (s3 : Int) : zX :=
  zcl (fX67_askMailbox s1 s2 s3) fun v2 => if 0 ≤ v2 then
  (zlt (zi (128 * x3)) fun v3 => zlp (fX67_onMailbox_B69 x1 x2 x3 v3) zBIG (0, (-1), 0, 0)) else
  (zret v2)
def fX67_onMailbox (x1 : Int) (x2 : Int) (x3 : Int) : zX :=
  zal 6800 0 x3 256 fun v1 => if v1 = 3 then
  (if ¬ x2 = 25 then
  (if ¬ x2 = 26 then
  (fX67_onMailbox_J37 x1 x2 x3 x1 x3 4) else
  (fX67_onMailbox_J37 x1 x2 x3 x1 x3 2)) else
  (fX67_onMailbox_J37 x1 x2 x3 x1 x3 1)) else
  (zret (-7))
def fX67_onEntry_J39 (x1 : Int) (x2 : Int) (x3 : Int) (s1 : Int) (s2 : Int) (s3 : Int) : zX :=
  zcl (fX67_askDirectory s1 s2 s3) fun v4 => if 0 ≤ v4 then
  (zal 6825 0 x1 8 fun v5 => zcl (fX67_isName v5) fun v6 => if ¬ v6 = 0 then
  (zal 6840 0 x1 8 fun v7 => zal 6825 0 x1 8 fun v8 => zcl (fX67_entryNamed v7 v8) fun v9 => if 0 ≤ v9 then
  (zpf 6886 0 v9 <| if x2 ≤ 24 then
  (if x3 = 0 then
  (zcl (fX67_look x1 x2 v9) fun v10 => zret v10) else
  (zcl (fX67_modify x1 x2 v9) fun v11 => zret v11)) else
  (zcl (fX67_onMailbox x1 x2 v9) fun v12 => zret v12)) else
  (zret (-1))) else
  (zret (-8))) else
  (zret v4)
def fX67_onEntry (x1 : Int) (x2 : Int) : zX :=
  zcl (fX67_in x2 10 15) fun v1 => zal 6840 0 x1 8 fun v2 => zpf 6886 0 v2 <| zal 6840 0 x1 8 fun v3 => if v1 = 0 then
  (fX67_onEntry_J39 x1 x2 v1 x1 v3 1) else
  (fX67_onEntry_J39 x1 x2 v1 x1 v3 2)
def fX67_comeBack_J257 (x1 : Int) (x3 : Int) (x5 : Int) : zX :=
  zal 6855 0 x3 32 fun v9 => zas 6831 0 x1 8 v9 <| zal 6856 0 x3 32 fun v10 => zas 6832 0 x1 8 (Int.tmod (zi (v10 + x5)) 262144) <| zal 6857 0 x3 32 fun v11 => zas 6833 0 x1 8 v11 <| zal 6858 0 x3 32 fun v12 => zas 6834 0 x1 8 (v12 % 2) <| zal 6859 0 x3 32 fun v13 => zas 6835 0 x1 8 (v13 % 2) <| zal 6848 0 x1 8 fun v14 => zas 6848 0 x1 8 (zi (v14 - 1)) <| zret 0
def fX67_comeBack_B172 (x1 : Int) (x3 : Int) (x5 : Int) (r172 : Int → zX) : Int → zX := fun x6 =>
  if 8 ≤ x6 then
  (fX67_comeBack_J257 x1 x3 x5) else
  (zal 6852 0 (zi ((zi (8 * x3)) + x6)) 256 fun v15 => zas 6828 0 (zi ((zi (8 * x1)) + x6)) 64 v15 <| zal 6853 0 (zi ((zi (8 * x3)) + x6)) 256 fun v16 => zas 6829 0 (zi ((zi (8 * x1)) + x6)) 64 v16 <| zal 6854 0 (zi ((zi (8 * x3)) + x6)) 256 fun v17 => zas 6830 0 (zi ((zi (8 * x1)) + x6)) 64 v17 <| zlt (zi (x6 + 1)) fun v18 => r172 v18)
def fX67_comeBack_J169 (x1 : Int) (x3 : Int) (x5 : Int) : zX :=
  zlp (fX67_comeBack_B172 x1 x3 x5) zBIG 0
def fX67_comeBack_B135 (x1 : Int) (x3 : Int) (x5 : Int) (r135 : Int → zX) : Int → zX := fun x6 =>
  if 4 ≤ x6 then
  (fX67_comeBack_J169 x1 x3 x5) else
  (zal 6851 0 (zi ((zi (4 * x3)) + x6)) 128 fun v19 => zas 6827 0 (zi ((zi (4 * x1)) + x6)) 32 v19 <| zlt (zi (x6 + 1)) fun v20 => r135 v20)
def fX67_comeBack_J106 (x1 : Int) (x3 : Int) (s0 : Int) : zX :=
  zal 6849 0 x3 32 fun v7 => zas 6825 0 x1 8 v7 <| zal 6850 0 x3 32 fun v8 => zas 6826 0 x1 8 v8 <| zlp (fX67_comeBack_B135 x1 x3 s0) zBIG 0
def fX67_comeBack_J69 (x1 : Int) (x2 : Int) (x4 : Int) : zX :=
  zas 6825 0 x1 8 (x4 % 68719476736) <| zas 6832 0 x1 8 x2 <| zret 0
def fX67_comeBack_J47 (x1 : Int) (x2 : Int) (x3 : Int) (s0 : Int) : zX :=
  if 0 ≤ s0 then
  (zal 6827 0 (zi (4 * x1)) 32 fun v6 => if ¬ v6 = 0 then
  (fX67_comeBack_J106 x1 x3 1) else
  (fX67_comeBack_J106 x1 x3 0)) else
  (if ¬ s0 = (-4) then
  (fX67_comeBack_J69 x1 x2 s0) else
  (zcl (fX67_note x1 2 (-1) 5) fun _ => fX67_comeBack_J69 x1 x2 s0))
def fX67_comeBack (x1 : Int) (x2 : Int) : zX :=
  zal 6848 0 x1 8 fun v1 => zlt (zi ((zi ((zi (4 * x1)) + v1)) - 1)) fun v2 => zal 6848 0 x1 8 fun v3 => if ¬ v3 = 0 then
  (zal 6833 0 x1 8 fun v4 => zal 6857 0 v2 32 fun v5 => if v4 ≤ v5 then
  (fX67_comeBack_J47 x1 x2 v2 0) else
  (fX67_comeBack_J47 x1 x2 v2 (-4))) else
  (fX67_comeBack_J47 x1 x2 v2 (-1))
def fX67_service_J16 (x1 : Int) : zX :=
  zal 6831 0 x1 8 fun v2 => zal 6832 0 x1 8 fun v3 => zal 6833 0 x1 8 fun v4 => zcl (fX67_fail 13 v2 v3 v4) fun _ => zret 0
def fX67_service_J183 (x1 : Int) (x3 : Int) (x4 : Int) : zX :=
  zas 6825 0 x1 8 (x4 % 68719476736) <| zas 6832 0 x1 8 x3 <| zret 0
def fX67_service_J153 (x1 : Int) (x3 : Int) (s0 : Int) : zX :=
  if (-2) < s0 then
  (fX67_service_J183 x1 x3 s0) else
  (if s0 < (-4) then
  (fX67_service_J183 x1 x3 s0) else
  (zgf 6886 0 fun v10 => zcl (fX67_note x1 2 v10 (zi (1 - s0))) fun _ => fX67_service_J183 x1 x3 s0))
def fX67_service_J138 (x1 : Int) (x2 : Int) (x3 : Int) : zX :=
  zcl (fX67_add x1 x2) fun v9 => fX67_service_J153 x1 x3 v9
def fX67_service_J99 (x1 : Int) (x2 : Int) (x3 : Int) : zX :=
  zpf 6886 0 (-1) <| zcl (fX67_isOfEntry x2) fun v8 => if v8 = 0 then
  (if x2 = 8 then
  (fX67_service_J138 x1 x2 x3) else
  (if x2 = 9 then
  (fX67_service_J138 x1 x2 x3) else
  (if ¬ x2 = 28 then
  (zcl (fX67_plain x1 x2) fun v12 => fX67_service_J153 x1 x3 v12) else
  (fX67_service_J138 x1 x2 x3)))) else
  (zcl (fX67_onEntry x1 x2) fun v13 => fX67_service_J153 x1 x3 v13)
def fX67_service (x1 : Int) (x2 : Int) : zX :=
  zal 6833 0 x1 8 fun v1 => if 5 < v1 then
  (fX67_service_J16 x1) else
  (if x2 ≤ 28 then
  (zal 6832 0 x1 8 fun v6 => zlt (Int.tmod (zi (v6 + 1)) 262144) fun v7 => if ¬ x2 = 18 then
  (if ¬ x2 = 20 then
  (fX67_service_J99 x1 x2 v7) else
  (zal 6846 0 x1 8 fun v14 => if ¬ v14 = 0 then
  (fX67_service_J99 x1 x2 v7) else
  (zas 6821 0 x1 8 1 <| zcl (fX67_tell x1 7 0 0 0) fun _ => zret 0))) else
  (zcl (fX67_comeBack x1 v7) fun _ => zret 0)) else
  (fX67_service_J16 x1))
def fX67_turnTo_J42 (x1 : Int) (x2 : Int) : zX :=
  zas 6833 0 x1 8 x2 <| zret 0
def fX67_turnTo_J27 (x1 : Int) (x2 : Int) (s1 : Int) (s2 : Int) : zX :=
  zgf 6878 0 fun v3 => zgf 6879 0 fun v4 => zcl (fX67_tell s1 s2 x2 v3 v4) fun _ => fX67_turnTo_J42 x1 x2
def fX67_turnTo (x1 : Int) (x2 : Int) : zX :=
  zal 6833 0 x1 8 fun v1 => if x2 = v1 then
  (fX67_turnTo_J42 x1 x2) else
  (zal 6833 0 x1 8 fun v2 => if v2 ≤ x2 then
  (fX67_turnTo_J27 x1 x2 x1 4) else
  (fX67_turnTo_J27 x1 x2 x1 3))
def fX67_call_J41 (s1 : Int) : zX :=
  zgf 6878 0 fun v4 => zgf 6879 0 fun v5 => zgf 6880 0 fun v6 => zcl (fX67_fail s1 v4 v5 v6) fun _ => zret 0
def fX67_call_J29 (x4 : Int) : zX :=
  if x4 ≤ 0 then
  (fX67_call_J41 3) else
  (fX67_call_J41 x4)
def fX67_call_J223 (x1 : Int) (x2 : Int) (x3 : Int) (x4 : Int) (x7 : Int) : zX :=
  if x4 ≤ 0 then
  (zas 6828 0 (zi ((zi (8 * x1)) + 7)) 64 x2 <| zas 6829 0 (zi ((zi (8 * x1)) + 7)) 64 (Int.tmod (zi (x3 + 1)) 262144) <| zal 6833 0 x1 8 fun v20 => zas 6830 0 (zi ((zi (8 * x1)) + 7)) 64 v20 <| zas 6828 0 (zi ((zi (8 * x1)) + 6)) 64 x7 <| zas 6829 0 (zi ((zi (8 * x1)) + 6)) 64 0 <| zas 6830 0 (zi ((zi (8 * x1)) + 6)) 64 x7 <| zcl (fX67_turnTo x1 x7) fun _ => zcl (fX67_go x1) fun _ => zret 0) else
  (zgf 6878 0 fun v23 => zgf 6879 0 fun v24 => zgf 6880 0 fun v25 => zcl (fX67_fail x4 v23 v24 v25) fun _ => zret 0)
def fX67_call_J221 (x1 : Int) (x2 : Int) (x3 : Int) (x4 : Int) (s0 : Int) : zX :=
  fX67_call_J223 x1 x2 x3 x4 s0
def fX67_call_J187 (x1 : Int) (x2 : Int) (x3 : Int) (x5 : Int) (x7 : Int) (s0 : Int) : zX :=
  zal 6804 0 (zi ((zi (3 * x5)) + 1)) 768 fun v19 => if x7 ≤ v19 then
  (fX67_call_J221 x1 x2 x3 s0 x7) else
  (zal 6804 0 (zi ((zi (3 * x5)) + 1)) 768 fun v27 => fX67_call_J221 x1 x2 x3 s0 v27)
def fX67_call_J115 (x1 : Int) (x2 : Int) (x3 : Int) (x5 : Int) (x6 : Int) (x7 : Int) : zX :=
  if x6 ≤ x7 then
  (zal 6804 0 (zi ((zi (3 * x5)) + 1)) 768 fun v15 => if v15 < x7 then
  (zal 6804 0 (zi ((zi (3 * x5)) + 2)) 768 fun v16 => if x7 ≤ v16 then
  (zgf 6879 0 fun v17 => zal 6805 0 x5 256 fun v18 => if v17 < v18 then
  (fX67_call_J187 x1 x2 x3 x5 x7 0) else
  (fX67_call_J187 x1 x2 x3 x5 x7 6)) else
  (fX67_call_J187 x1 x2 x3 x5 x7 5)) else
  (fX67_call_J187 x1 x2 x3 x5 x7 0)) else
  (fX67_call_J187 x1 x2 x3 x5 x7 7)
def fX67_call (x1 : Int) (x2 : Int) (x3 : Int) : zX :=
  zgf 6878 0 fun v1 => zgf 6879 0 fun v2 => zcl (fX67_missing x1 v1 v2) fun v3 => if 0 < v3 then
  (fX67_call_J29 v3) else
  (zgf 6878 0 fun v8 => if 8 ≤ v8 then
  (zgf 6878 0 fun v9 => zal 6838 0 (zi ((zi (32 * x1)) + v9)) 256 fun v10 => zgf 6880 0 fun v11 => zcl (fX67_barred x1 v10 v11 2) fun v12 => zal 6804 0 (zi (3 * v10)) 768 fun v13 => zgf 6880 0 fun v14 => if v12 = 5 then
  (fX67_call_J115 x1 x2 x3 v10 v13 v14) else
  (if ¬ v12 = 0 then
  (fX67_call_J223 x1 x2 x3 v12 v14) else
  (fX67_call_J115 x1 x2 x3 v10 v13 v14))) else
  (fX67_call_J29 v3))
def fX67_isObject (x1 : Int) : zX :=
  zal 6806 0 x1 256 fun v1 => if v1 ≤ 1 then
  (zret 0) else
  (zal 6816 0 (zi (1024 * x1)) 262144 fun v2 => if ¬ (v2 / 134217728) = 365 then
  (zret 0) else
  (zret 1))
def fX67_searched_J91 (r5 : Int → zX) (x1 : Int) (x2 : Int) (x4 : Int) : zX :=
  zlt (zi (x4 + 1)) fun v3 => r5 v3
def fX67_searched_B5 (x1 : Int) (x2 : Int) (r5 : Int → zX) : Int → zX := fun x4 =>
  if (zi ((zi (4 * x1)) + 4)) ≤ x4 then
  (zret (-1)) else
  (zal 6841 0 x4 32 fun v2 => if v2 < 0 then
  (fX67_searched_J91 r5 x1 x2 x4) else
  (zcl (fX67_askDirectory x1 v2 1) fun v4 => if ¬ v4 = 0 then
  (fX67_searched_J91 r5 x1 x2 x4) else
  (zcl (fX67_entryNamed v2 x2) fun v5 => if v5 < 0 then
  (fX67_searched_J91 r5 x1 x2 x4) else
  (zal 6800 0 v5 256 fun v6 => if ¬ v6 = 2 then
  (fX67_searched_J91 r5 x1 x2 x4) else
  (zal 6822 0 x1 8 fun v7 => zal 6823 0 x1 8 fun v8 => zcl (fX67_modesFor v5 v7 v8) fun v9 => if (v9 % 4) = 0 then
  (fX67_searched_J91 r5 x1 x2 x4) else
  (zret v5))))))
def fX67_searched (x1 : Int) (x2 : Int) : zX :=
  zlt (zi (4 * x1)) fun v1 => zlp (fX67_searched_B5 x1 x2) zBIG v1
def fX67_definitionPlace (x1 : Int) (x2 : Int) : zX :=
  zal 6816 0 (zi ((zi (1024 * x1)) + 1)) 262144 fun v1 => zlt (zl ((v1 % 262144) + (zl (2 * x2)))) fun v2 => if (v1 / 262144) ≤ x2 then
  (zret (-1)) else
  (zal 6806 0 x1 256 fun v3 => if v3 ≤ (zl (v2 + 1)) then
  (zret (-1)) else
  (zret (zi v2)))
def fX67_defined_J64 (r3 : Int → zX) (x1 : Int) (x2 : Int) (x4 : Int) : zX :=
  zlt (zi (x4 + 1)) fun v2 => r3 v2
def fX67_defined_J43 (x1 : Int) (x5 : Int) : zX :=
  zal 6816 0 (zi ((zi ((zi (1024 * x1)) + x5)) + 1)) 262144 fun v4 => zret (zi (v4 % 262144))
def fX67_defined_B3 (x1 : Int) (x2 : Int) (r3 : Int → zX) : Int → zX := fun x4 =>
  if 1024 ≤ x4 then
  (zret (-1)) else
  (zcl (fX67_definitionPlace x1 x4) fun v1 => if v1 < 0 then
  (fX67_defined_J64 r3 x1 x2 x4) else
  (zal 6816 0 (zi ((zi (1024 * x1)) + v1)) 262144 fun v3 => if ¬ v3 = x2 then
  (fX67_defined_J64 r3 x1 x2 x4) else
  (fX67_defined_J43 x1 v1)))
def fX67_defined (x1 : Int) (x2 : Int) : zX :=
  zlp (fX67_defined_B3 x1 x2) zBIG 0
def fX67_linkPlace (x1 : Int) (x2 : Int) : zX :=
  zal 6816 0 (zi (1024 * x1)) 262144 fun v1 => zlt (zl ((v1 % 262144) + (zl (2 * x2)))) fun v2 => if ((v1 / 262144) % 512) ≤ x2 then
  (zret (-1)) else
  (zal 6806 0 x1 256 fun v3 => if v3 ≤ (zl (v2 + 1)) then
  (zret (-1)) else
  (zret (zi v2)))
def fX67_bindNow_J144 (x1 : Int) (x2 : Int) (x3 : Int) (x7 : Int) (s0 : Int) : zX :=
  if 0 ≤ s0 then
  (zas 6839 0 x3 4096 (zl ((zl (x7 * 262144)) + s0)) <| zcl (fX67_tell x1 5 x2 x7 s0) fun _ => zret 1) else
  (zret 0)
def fX67_bindNow_J86 (x1 : Int) (x2 : Int) (x3 : Int) (x4 : Int) (x5 : Int) (x6 : Int) (s0 : Int) : zX :=
  if 0 ≤ s0 then
  (zas 6838 0 (zi ((zi (32 * x1)) + s0)) 256 x6 <| zcl (fX67_isObject x6) fun v7 => if v7 = 0 then
  (fX67_bindNow_J144 x1 x2 x3 s0 (-1)) else
  (zal 6816 0 (zi ((zi ((zi (1024 * x4)) + x5)) + 1)) 262144 fun v9 => zcl (fX67_defined x6 v9) fun v10 => fX67_bindNow_J144 x1 x2 x3 s0 v10)) else
  (zret 0)
def fX67_bindNow_J68 (x1 : Int) (x2 : Int) (x3 : Int) (x4 : Int) (x5 : Int) (s0 : Int) : zX :=
  if 0 ≤ s0 then
  (zcl (fX67_numberFor x1 s0) fun v6 => fX67_bindNow_J86 x1 x2 x3 x4 x5 s0 v6) else
  (fX67_bindNow_J86 x1 x2 x3 x4 x5 s0 (-1))
def fX67_bindNow_J38 (x1 : Int) (x2 : Int) (x3 : Int) (x4 : Int) (s0 : Int) : zX :=
  if 0 ≤ s0 then
  (zal 6816 0 (zi ((zi (1024 * x4)) + s0)) 262144 fun v4 => zcl (fX67_searched x1 v4) fun v5 => fX67_bindNow_J68 x1 x2 x3 x4 s0 v5) else
  (fX67_bindNow_J68 x1 x2 x3 x4 s0 (-1))
def fX67_bindNow (x1 : Int) (x2 : Int) (x3 : Int) : zX :=
  zal 6831 0 x1 8 fun v1 => zal 6838 0 (zi ((zi (32 * x1)) + v1)) 256 fun v2 => zcl (fX67_isObject v2) fun v3 => if v3 = 0 then
  (fX67_bindNow_J38 x1 x2 x3 v2 (-1)) else
  (zcl (fX67_linkPlace v2 x2) fun v11 => fX67_bindNow_J38 x1 x2 x3 v2 v11)
def fX67_bind_J45 (x1 : Int) : zX :=
  zal 6831 0 x1 8 fun v3 => zal 6832 0 x1 8 fun v4 => zal 6833 0 x1 8 fun v5 => zcl (fX67_fail 11 v3 v4 v5) fun _ => zret 0
def fX67_bind_J71 (x3 : Int) : zX :=
  zal 6839 0 x3 4096 fun v8 => zpf 6878 0 (zi (zl (Int.tdiv v8 262144))) <| zal 6839 0 x3 4096 fun v9 => zpf 6879 0 (zi (Int.tmod v9 262144)) <| zret 1
def fX67_bind (x1 : Int) (x2 : Int) : zX :=
  zal 6831 0 x1 8 fun v1 => zlt (zi ((zi ((zi (512 * x1)) + (zi (16 * v1)))) + x2)) fun v2 => if 15 < x2 then
  (fX67_bind_J45 x1) else
  (zal 6839 0 v2 4096 fun v7 => if 0 ≤ v7 then
  (fX67_bind_J71 v2) else
  (zcl (fX67_bindNow x1 x2 v2) fun v10 => if ¬ v10 = 0 then
  (fX67_bind_J71 v2) else
  (fX67_bind_J45 x1)))
def fX67_follow_J97 : zX :=
  zgf 6878 0 fun v8 => zgf 6879 0 fun v9 => zgf 6880 0 fun v10 => zcl (fX67_fail 9 v8 v9 v10) fun _ => zret 0
def fX67_follow_J254 (r4 : Int × Int → zX) (x1 : Int) (x3 : Int) (s0 : Int) : zX :=
  zlt (zi (x3 + 1)) fun v21 => r4 (s0, v21)
def fX67_follow_J209 (r4 : Int × Int → zX) (x1 : Int) (x3 : Int) (x4 : Int) (s1 : Int) : zX :=
  zpf 6880 0 s1 <| zpf 6878 0 (zi ((x4 / 16777216) % 32)) <| zpf 6879 0 (zi (x4 % 262144)) <| if ¬ ((x4 / 536870912) % 2) = 1 then
  (fX67_follow_J254 r4 x1 x3 0) else
  (fX67_follow_J254 r4 x1 x3 1)
def fX67_follow_J187 (r4 : Int × Int → zX) (x1 : Int) (x3 : Int) (x4 : Int) (x6 : Int) (s1 : Int) : zX :=
  zpf 6880 0 s1 <| zgf 6880 0 fun v19 => if x6 ≤ v19 then
  (zgf 6880 0 fun v20 => fX67_follow_J209 r4 x1 x3 x4 v20) else
  (fX67_follow_J209 r4 x1 x3 x4 x6)
def fX67_follow_J154 (r4 : Int × Int → zX) (x1 : Int) (x3 : Int) (x4 : Int) (s0 : Int) : zX :=
  zlt (zi ((x4 / 1073741824) % 8)) fun v16 => zgf 6880 0 fun v17 => if v16 ≤ v17 then
  (zgf 6880 0 fun v18 => fX67_follow_J187 r4 x1 x3 x4 s0 v18) else
  (fX67_follow_J187 r4 x1 x3 x4 s0 v16)
def fX67_follow_J13 : zX :=
  zgf 6878 0 fun v23 => zgf 6879 0 fun v24 => zgf 6880 0 fun v25 => zcl (fX67_fail 10 v23 v24 v25) fun _ => zret 0
def fX67_follow_B4 (x1 : Int) (r4 : Int × Int → zX) : Int × Int → zX := fun (x2, x3) =>
  if x2 = 0 then
  (zret 1) else
  (if ¬ x3 = 5 then
  (zgf 6878 0 fun v1 => zgf 6879 0 fun v2 => zgf 6880 0 fun v3 => zcl (fX67_access x1 v1 v2 v3 1) fun v4 => if ¬ v4 = 0 then
  (zgf 6878 0 fun v5 => zgf 6879 0 fun v6 => zcl (fX67_wordAt x1 v5 v6) fun v7 => if ¬ (v7 / 8589934592) = 5 then
  (fX67_follow_J97) else
  (if ((v7 / 262144) % 64) = 0 then
  (zgf 6878 0 fun v12 => if 8 ≤ v12 then
  (zgf 6878 0 fun v13 => zal 6838 0 (zi ((zi (32 * x1)) + v13)) 256 fun v14 => zal 6804 0 (zi (3 * v14)) 768 fun v15 => fX67_follow_J154 r4 x1 x3 v7 v15) else
  (zgf 6878 0 fun v22 => fX67_follow_J154 r4 x1 x3 v7 v22)) else
  (fX67_follow_J97))) else
  (zret 0)) else
  (fX67_follow_J13))
def fX67_follow (x1 : Int) : zX :=
  zlp (fX67_follow_B4 x1) zBIG (1, 0)
def fX67_find_2_J201 (x1 : Int) : zX :=
  zgf 6882 0 fun v9 => if v9 < 4 then
  (zret 1) else
  (zcl (fX67_follow x1) fun v10 => if v10 = 0 then
  (zret 0) else
  (zret 1))
def fX67_find_2_J190 (x1 : Int) (x2 : Int) : zX :=
  zcl (fX67_bind x1 x2) fun v8 => if ¬ v8 = 0 then
  (fX67_find_2_J201 x1) else
  (zret 0)
def fX67_find_2_J171 (x1 : Int) (s1 : Int) : zX :=
  zpf 6880 0 s1 <| fX67_find_2_J201 x1
def fX67_find_2_J59 (x1 : Int) (x2 : Int) (s0 : Int) : zX :=
  zal 6831 0 x1 8 fun v5 => zpf 6878 0 v5 <| zpf 6879 0 x2 <| zal 6833 0 x1 8 fun v6 => zpf 6880 0 v6 <| zgf 6882 0 fun v7 => if ¬ v7 = 2 then
  (if ¬ s0 = 1 then
  (if s0 = 2 then
  (fX67_find_2_J190 x1 x2) else
  (zgf 6882 0 fun v11 => if ¬ v11 = 3 then
  (fX67_find_2_J201 x1) else
  (fX67_find_2_J190 x1 x2))) else
  (zgf 6883 0 fun v12 => zlt (zi ((zi (8 * x1)) + v12)) fun v13 => zal 6828 0 v13 64 fun v14 => zpf 6878 0 v14 <| zal 6829 0 v13 64 fun v15 => zpf 6879 0 (Int.tmod (zi (v15 + x2)) 262144) <| zal 6830 0 v13 64 fun v16 => zal 6833 0 x1 8 fun v17 => if v16 ≤ v17 then
  (zal 6833 0 x1 8 fun v18 => fX67_find_2_J171 x1 v18) else
  (zal 6830 0 v13 64 fun v19 => fX67_find_2_J171 x1 v19))) else
  (zret 1)
def fX67_find_2_J37 (x1 : Int) (s0 : Int) : zX :=
  zgf 6882 0 fun v3 => if v3 ≤ 3 then
  (zgf 6882 0 fun v4 => fX67_find_2_J59 x1 s0 v4) else
  (zgf 6882 0 fun v20 => fX67_find_2_J59 x1 s0 (zi (v20 - 4)))
def fX67_find_2 (x1 : Int) : zX :=
  zgf 6884 0 fun v1 => if v1 ≤ 0 then
  (zgf 6885 0 fun v2 => fX67_find_2_J37 x1 v2) else
  (zgf 6885 0 fun v21 => zgf 6884 0 fun v22 => zal 6827 0 (zi ((zi ((zi (4 * x1)) + v22)) - 1)) 32 fun v23 => fX67_find_2_J37 x1 (Int.tmod (zi (v21 + v23)) 262144))
def fX67_perform_J178 (x1 : Int) (x2 : Int) (x3 : Int) (x6 : Int) : zX :=
  zlt (Int.tmod (zi (x3 + 1)) 262144) fun v9 => zgf 6881 0 fun v10 => if ¬ v10 = 33 then
  (zgf 6881 0 fun v11 => if ¬ v11 = 34 then
  (zgf 6881 0 fun v12 => if ¬ v12 = 35 then
  (zas 6832 0 x1 8 v9 <| zcl (fX67_act x1 x6 x3) fun _ => zret 0) else
  (zgf 6879 0 fun v14 => zcl (fX67_service x1 v14) fun _ => zret 0)) else
  (zgf 6880 0 fun v16 => zcl (fX67_turnTo x1 v16) fun _ => zcl (fX67_go x1) fun _ => zret 0)) else
  (zcl (fX67_call x1 x2 x3) fun _ => zret 0)
def fX67_perform_J162 (x1 : Int) (x2 : Int) (x3 : Int) (x6 : Int) (s0 : Int) : zX :=
  if ¬ s0 = 0 then
  (fX67_perform_J178 x1 x2 x3 x6) else
  (zcl (fX67_find_2 x1) fun v20 => if ¬ v20 = 0 then
  (fX67_perform_J178 x1 x2 x3 x6) else
  (zret 0))
def fX67_perform_J157 (x1 : Int) (x2 : Int) (x3 : Int) (x6 : Int) : zX :=
  fX67_perform_J162 x1 x2 x3 x6 1
def fX67_perform (x1 : Int) : zX :=
  zal 6831 0 x1 8 fun v1 => zal 6832 0 x1 8 fun v2 => zal 6833 0 x1 8 fun v3 => zcl (fX67_access x1 v1 v2 v3 2) fun v4 => if ¬ v4 = 0 then
  (zcl (fX67_wordAt x1 v1 v2) fun v5 => zpf 6881 0 (zi (v5 / 1073741824)) <| zpf 6882 0 (zi ((v5 / 134217728) % 8)) <| zpf 6883 0 (zi ((v5 / 16777216) % 8)) <| zlt (zi ((v5 / 2097152) % 8)) fun v6 => zpf 6884 0 (zi ((v5 / 262144) % 8)) <| zpf 6885 0 (zi (v5 % 262144)) <| zcl (fX67_isLegal v6) fun v7 => if ¬ v7 = 0 then
  (zgf 6881 0 fun v8 => if v8 < 2 then
  (fX67_perform_J157 x1 v1 v2 v6) else
  (zgf 6881 0 fun v21 => if v21 ≤ 35 then
  (fX67_perform_J162 x1 v1 v2 v6 0) else
  (fX67_perform_J157 x1 v1 v2 v6))) else
  (zal 6833 0 x1 8 fun v22 => zcl (fX67_fail 8 v1 v2 v22) fun _ => zret 0)) else
  (zret 0)
def fX67_suffer_J129 (x1 : Int) : zX :=
  zas 6821 0 x1 8 3 <| zcl (fX67_tell x1 9 0 0 0) fun _ => zret 0
def fX67_suffer_J305 (x1 : Int) (x2 : Int) : zX :=
  zal 6831 0 x1 8 fun v17 => zas 6855 0 x2 32 v17 <| zal 6832 0 x1 8 fun v18 => zas 6856 0 x2 32 v18 <| zal 6833 0 x1 8 fun v19 => zas 6857 0 x2 32 v19 <| zal 6834 0 x1 8 fun v20 => zas 6858 0 x2 32 (v20 % 2) <| zal 6835 0 x1 8 fun v21 => zas 6859 0 x2 32 (v21 % 2) <| zgf 6874 0 fun v22 => zas 6825 0 x1 8 v22 <| zgf 6875 0 fun v23 => zgf 6876 0 fun v24 => zgf 6877 0 fun v25 => zcl (fX67_pointerWord v23 v24 v25) fun v26 => zas 6826 0 x1 8 v26 <| zal 6843 0 x1 8 fun v27 => zas 6831 0 x1 8 v27 <| zal 6844 0 x1 8 fun v28 => zas 6832 0 x1 8 v28 <| zal 6845 0 x1 8 fun v29 => zas 6833 0 x1 8 v29 <| zret 0
def fX67_suffer_B227 (x1 : Int) (x2 : Int) (r227 : Int → zX) : Int → zX := fun x3 =>
  if 8 ≤ x3 then
  (fX67_suffer_J305 x1 x2) else
  (zal 6828 0 (zi ((zi (8 * x1)) + x3)) 64 fun v30 => zas 6852 0 (zi ((zi (8 * x2)) + x3)) 256 v30 <| zal 6829 0 (zi ((zi (8 * x1)) + x3)) 64 fun v31 => zas 6853 0 (zi ((zi (8 * x2)) + x3)) 256 v31 <| zal 6830 0 (zi ((zi (8 * x1)) + x3)) 64 fun v32 => zas 6854 0 (zi ((zi (8 * x2)) + x3)) 256 v32 <| zlt (zi (x3 + 1)) fun v33 => r227 v33)
def fX67_suffer_J225 (x1 : Int) (x2 : Int) : zX :=
  zlp (fX67_suffer_B227 x1 x2) zBIG 0
def fX67_suffer_B194 (x1 : Int) (x2 : Int) (r194 : Int → zX) : Int → zX := fun x3 =>
  if 4 ≤ x3 then
  (fX67_suffer_J225 x1 x2) else
  (zal 6827 0 (zi ((zi (4 * x1)) + x3)) 32 fun v34 => zas 6851 0 (zi ((zi (4 * x2)) + x3)) 128 v34 <| zlt (zi (x3 + 1)) fun v35 => r194 v35)
def fX67_suffer_J74 (x1 : Int) : zX :=
  zgf 6874 0 fun v3 => zgf 6875 0 fun v4 => zgf 6876 0 fun v5 => zcl (fX67_tell x1 2 v3 v4 v5) fun _ => zal 6842 0 x1 8 fun v7 => if v7 = 0 then
  (fX67_suffer_J129 x1) else
  (zal 6845 0 x1 8 fun v9 => zal 6833 0 x1 8 fun v10 => if v10 < v9 then
  (fX67_suffer_J129 x1) else
  (zal 6848 0 x1 8 fun v11 => if ¬ v11 = 4 then
  (zal 6848 0 x1 8 fun v12 => zlt (zi ((zi (4 * x1)) + v12)) fun v13 => zal 6848 0 x1 8 fun v14 => zas 6848 0 x1 8 (zi (v14 + 1)) <| zal 6825 0 x1 8 fun v15 => zas 6849 0 v13 32 v15 <| zal 6826 0 x1 8 fun v16 => zas 6850 0 v13 32 v16 <| zlp (fX67_suffer_B194 x1 v13) zBIG 0) else
  (fX67_suffer_J129 x1)))
def fX67_suffer_J72 (x1 : Int) (s1 : Int) (s2 : Int) (s3 : Int) : zX :=
  zas 6809 0 s1 256 (zi (s2 + s3)) <| fX67_suffer_J74 x1
def fX67_suffer (x1 : Int) : zX :=
  zgf 6874 0 fun v1 => zcl (fX67_in v1 3 7) fun v2 => if v2 = 0 then
  (fX67_suffer_J74 x1) else
  (zgf 6875 0 fun v36 => if v36 ≤ 7 then
  (fX67_suffer_J74 x1) else
  (zgf 6875 0 fun v37 => zal 6838 0 (zi ((zi (32 * x1)) + v37)) 256 fun v38 => zgf 6874 0 fun v39 => zcl (fX67_note x1 1 v38 v39) fun _ => zal 6809 0 v38 256 fun v41 => zgf 6874 0 fun v42 => if 5 < v42 then
  (fX67_suffer_J72 x1 v38 v41 0) else
  (fX67_suffer_J72 x1 v38 v41 1)))
def fX67_isTicked_J79 (x1 : Int) : zX :=
  zal 6836 0 x1 8 fun v5 => zas 6836 0 x1 8 (zi (v5 + 1)) <| zpf 6874 0 0 <| zcl (fX67_perform x1) fun _ => zgf 6874 0 fun v7 => if v7 ≤ 0 then
  (zret 1) else
  (zcl (fX67_suffer x1) fun _ => zret 1)
def fX67_isTicked_J44 (x1 : Int) : zX :=
  zal 6821 0 x1 8 fun v4 => if ¬ v4 = 1 then
  (fX67_isTicked_J79 x1) else
  (zas 6821 0 x1 8 0 <| zal 6847 0 (zi (8 * x1)) 64 fun v9 => zcl (fX67_tell x1 8 v9 0 0) fun _ => fX67_isTicked_J79 x1)
def fX67_isTicked (x1 : Int) : zX :=
  if x1 < 0 then
  (zret 0) else
  (zal 6820 0 x1 8 fun v1 => if v1 = 0 then
  (zret 0) else
  (zal 6821 0 x1 8 fun v2 => if 1 < v2 then
  (zret 0) else
  (zal 6821 0 x1 8 fun v3 => if ¬ v3 = 1 then
  (fX67_isTicked_J44 x1) else
  (zal 6846 0 x1 8 fun v11 => if ¬ v11 = 0 then
  (fX67_isTicked_J44 x1) else
  (zret 0)))))
def fX67_tick_J49 (r28 : Int × Int → zX) (x1 : Int) (x2 : Int) (x4 : Int) (s0 : Int) : zX :=
  zlt (zi (x4 + 1)) fun v4 => r28 (s0, v4)
def fX67_tick_B28 (x1 : Int) (x2 : Int) (r28 : Int × Int → zX) : Int × Int → zX := fun (x3, x4) =>
  if x2 ≤ x4 then
  (zret x3) else
  (zcl (fX67_isTicked x1) fun v3 => if v3 = 0 then
  (fX67_tick_J49 r28 x1 x2 x4 x3) else
  (fX67_tick_J49 r28 x1 x2 x4 (zi (x3 + 1))))
def fX67_tick (x1 : Int) (x2 : Int) : zX :=
  zcl (fX67_isThere x1) fun v1 => if v1 = 0 then
  (zret (-8)) else
  (zcl (fX67_in x2 1 1000) fun v2 => if ¬ v2 = 0 then
  (zlp (fX67_tick_B28 x1 x2) zBIG (0, 0)) else
  (zret (-8)))
def fX67_schedule (x1 : Int) (x2 : Int) : zX :=
  zcl (fX67_in x1 0 15) fun v1 => if v1 = 0 then
  (zret (-8)) else
  (zcl (fX67_in x2 (-1) 7) fun v2 => if ¬ v2 = 0 then
  (zal 6863 0 x1 16 fun v3 => zas 6863 0 x1 16 x2 <| zret v3) else
  (zret (-8)))
def fX67_run_J64 (r19 : Int × Int → zX) (x1 : Int) (x3 : Int) (s0 : Int) : zX :=
  zlt (zi (x3 + 1)) fun v6 => r19 (s0, v6)
def fX67_run_B19 (x1 : Int) (r19 : Int × Int → zX) : Int × Int → zX := fun (x2, x3) =>
  if x1 ≤ x3 then
  (zret x2) else
  (zgf 6864 0 fun v2 => zal 6863 0 v2 16 fun v3 => zgf 6864 0 fun v4 => zpf 6864 0 (Int.tmod (zi (v4 + 1)) 16) <| zcl (fX67_isTicked v3) fun v5 => if v5 = 0 then
  (fX67_run_J64 r19 x1 x3 x2) else
  (fX67_run_J64 r19 x1 x3 (zi (x2 + 1))))
def fX67_run (x1 : Int) : zX :=
  zcl (fX67_in x1 1 2000) fun v1 => if ¬ v1 = 0 then
  (zlp (fX67_run_B19 x1) zBIG (0, 0)) else
  (zret (-8))
def fX67_register (x1 : Int) (x2 : Int) : zX :=
  zcl (fX67_isThere x1) fun v1 => if ¬ v1 = 0 then
  (zcl (fX67_in x2 16 23) fun v2 => if v2 = 0 then
  (zcl (fX67_in x2 2 5) fun v3 => if v3 = 0 then
  (if x2 = 0 then
  (zal 6825 0 x1 8 fun v5 => zret v5) else
  if x2 = 1 then
  (zal 6826 0 x1 8 fun v7 => zret v7) else
  if x2 = 6 then
  (zal 6831 0 x1 8 fun v9 => zret v9) else
  if x2 = 7 then
  (zal 6832 0 x1 8 fun v11 => zret v11) else
  if x2 = 8 then
  (zal 6833 0 x1 8 fun v13 => zret v13) else
  if x2 = 9 then
  (zal 6834 0 x1 8 fun v15 => if v15 = 0 then
  (zret 0) else
  (zret 1)) else
  if x2 = 10 then
  (zal 6835 0 x1 8 fun v17 => if v17 = 0 then
  (zret 0) else
  (zret 1)) else
  (zret (-8))) else
  (zal 6827 0 (zi ((zi ((zi (4 * x1)) + x2)) - 2)) 32 fun v18 => zret v18)) else
  (zlt (zi ((zi ((zi (8 * x1)) + x2)) - 16)) fun v19 => zal 6828 0 v19 64 fun v20 => zal 6829 0 v19 64 fun v21 => zal 6830 0 v19 64 fun v22 => zcl (fX67_pointerWord v20 v21 v22) fun v23 => zret v23)) else
  (zret (-1))
def fX67_process (x1 : Int) (x2 : Int) : zX :=
  zcl (fX67_isThere x1) fun v1 => if ¬ v1 = 0 then
  (zcl (fX67_in x2 8 11) fun v2 => if v2 = 0 then
  (if x2 = 0 then
  (zal 6821 0 x1 8 fun v4 => zret v4) else
  if x2 = 1 then
  (zal 6822 0 x1 8 fun v6 => zret v6) else
  if x2 = 2 then
  (zal 6823 0 x1 8 fun v8 => zret v8) else
  if x2 = 3 then
  (zal 6824 0 x1 8 fun v10 => zret v10) else
  if x2 = 4 then
  (zal 6836 0 x1 8 fun v12 => zret v12) else
  if x2 = 5 then
  (zal 6846 0 x1 8 fun v14 => zret v14) else
  if x2 = 6 then
  (zal 6848 0 x1 8 fun v16 => zret v16) else
  if x2 = 7 then
  (zal 6840 0 x1 8 fun v18 => zret v18) else
  if x2 = 12 then
  (zal 6842 0 x1 8 fun v20 => if v20 = 0 then
  (zret 0) else
  (zret 1)) else
  if x2 = 13 then
  (zal 6860 0 x1 8 fun v22 => zret v22) else
  (zret (-8))) else
  (zal 6841 0 (zi ((zi ((zi (4 * x1)) + x2)) - 8)) 32 fun v23 => zret v23)) else
  (zret (-1))
def fX67_stack (x1 : Int) (x2 : Int) (x3 : Int) : zX :=
  zcl (fX67_isThere x1) fun v1 => if v1 = 0 then
  (zret (-1)) else
  (zcl (fX67_in x2 0 7) fun v2 => if v2 = 0 then
  (zret (-1)) else
  (zcl (fX67_in x3 0 63) fun v3 => if v3 = 0 then
  (zret (-1)) else
  (zal 6837 0 (zi ((zi ((zi (512 * x1)) + (zi (64 * x2)))) + x3)) 4096 fun v4 => zret v4)))
def fX67_known (x1 : Int) (x2 : Int) : zX :=
  zcl (fX67_isThere x1) fun v1 => if v1 = 0 then
  (zret (-1)) else
  (zcl (fX67_in x2 8 31) fun v2 => if v2 = 0 then
  (zret (-1)) else
  (zal 6838 0 (zi ((zi (32 * x1)) + x2)) 256 fun v3 => zret v3))
def fX67_link (x1 : Int) (x2 : Int) (x3 : Int) : zX :=
  zcl (fX67_isThere x1) fun v1 => if v1 = 0 then
  (zret (-1)) else
  (zcl (fX67_in x2 8 31) fun v2 => if v2 = 0 then
  (zret (-1)) else
  (zcl (fX67_in x3 0 15) fun v3 => if v3 = 0 then
  (zret (-1)) else
  (zal 6839 0 (zi ((zi ((zi (512 * x1)) + (zi (16 * x2)))) + x3)) 4096 fun v4 => zret v4)))
def fX67_event (x1 : Int) (x2 : Int) (x3 : Int) : zX :=
  zcl (fX67_isThere x1) fun v1 => if v1 = 0 then
  (zret (-1)) else
  (if x2 < 0 then
  (zret (-1)) else
  (zal 6860 0 x1 8 fun v2 => if v2 ≤ x2 then
  (zret (-1)) else
  (zal 6860 0 x1 8 fun v3 => if (zi (v3 - 64)) ≤ x2 then
  (zcl (fX67_in x3 0 3) fun v4 => if v4 = 0 then
  (zret (-8)) else
  (zal 6861 0 (zi ((zi ((zi (256 * x1)) + (zi (4 * (Int.tmod x2 64))))) + x3)) 2048 fun v5 => zret v5)) else
  (zret (-1)))))
def fX67_sum (x1 : Int) : zX :=
  zcl (fX67_isThere x1) fun v1 => if v1 = 0 then
  (zret 0) else
  (zal 6862 0 x1 8 fun v2 => zret v2)
def fX67_lineEnd_B2 (r2 : Int → zX) : Int → zX := fun x2 =>
  zgf 6867 0 fun v1 => if v1 ≤ x2 then
  (zret x2) else
  (zal 6868 0 x2 4096 fun v2 => if v2 = 10 then
  (zret x2) else
  (zal 6868 0 x2 4096 fun v3 => if v3 = 59 then
  (zret x2) else
  (zlt (zi (x2 + 1)) fun v4 => r2 v4)))
def fX67_lineEnd (x1 : Int) : zX :=
  zlp (fX67_lineEnd_B2) zBIG x1
def fX67_isLetter (x0 : Int) : zX :=
  zcl (fX67_in x0 97 122) fun v1 => zrb v1
def fX67_isDigit (x0 : Int) : zX :=
  zcl (fX67_in x0 48 57) fun v1 => zrb v1
def fX67_isOfWord (x0 : Int) : zX :=
  zcl (fX67_isLetter x0) fun v1 => if ¬ v1 = 0 then
  (zret 1) else
  (zcl (fX67_isDigit x0) fun v2 => if ¬ v2 = 0 then
  (zret 1) else
  (if x0 = 95 then
  (zret 1) else
  (if ¬ x0 = 46 then
  (zret 0) else
  (zret 1))))
def fX67_next_J219 (s1 : Int) : zX :=
  zpf 6887 0 s1 <| zgf 6889 0 fun v10 => zpf 6889 0 (zi (v10 + 1)) <| zret 0
def fX67_next_J208 (s0 : Int) : zX :=
  if s0 = 0 then
  (fX67_next_J219 3) else
  (fX67_next_J219 2)
def fX67_next_J203 : zX :=
  fX67_next_J208 1
def fX67_next_B109 (r109 : Int → zX) : Int → zX := fun _ =>
  zgf 6889 0 fun v11 => zgf 6890 0 fun v12 => if v12 ≤ v11 then
  (zret 0) else
  (zgf 6889 0 fun v13 => zal 6868 0 v13 4096 fun v14 => zcl (fX67_isOfWord v14) fun v15 => if v15 = 0 then
  (zret 0) else
  (zgf 6889 0 fun v16 => zpf 6889 0 (zi (v16 + 1)) <| r109 0))
def fX67_next_J46 : zX :=
  zgf 6888 0 fun v4 => zpf 6889 0 v4 <| zgf 6888 0 fun v5 => zgf 6890 0 fun v6 => if v5 < v6 then
  (zgf 6888 0 fun v7 => zal 6868 0 v7 4096 fun v8 => zcl (fX67_isOfWord v8) fun v9 => if v9 = 0 then
  (if v8 = 58 then
  (fX67_next_J203) else
  (if v8 = 35 then
  (fX67_next_J203) else
  (if v8 = 124 then
  (fX67_next_J203) else
  (if v8 = 36 then
  (fX67_next_J203) else
  (if v8 = 42 then
  (fX67_next_J203) else
  (if v8 = 44 then
  (fX67_next_J203) else
  (if v8 = 43 then
  (fX67_next_J203) else
  (if v8 = 45 then
  (fX67_next_J203) else
  (if ¬ v8 = 39 then
  (fX67_next_J208 0) else
  (fX67_next_J203)))))))))) else
  (zpf 6887 0 1 <| zlp (fX67_next_B109) zBIG 0)) else
  (zpf 6887 0 0 <| zgf 6890 0 fun v17 => zpf 6888 0 v17 <| zgf 6890 0 fun v18 => zpf 6889 0 v18 <| zret 0)
def fX67_next_B8 (r8 : Int → zX) : Int → zX := fun _ =>
  zgf 6888 0 fun v2 => zgf 6890 0 fun v3 => if v3 ≤ v2 then
  (fX67_next_J46) else
  (zgf 6888 0 fun v19 => zal 6868 0 v19 4096 fun v20 => if ¬ v20 = 32 then
  (fX67_next_J46) else
  (zgf 6888 0 fun v21 => zpf 6888 0 (zi (v21 + 1)) <| r8 0))
def fX67_next : zX :=
  zgf 6889 0 fun v1 => zpf 6888 0 v1 <| zlp (fX67_next_B8) zBIG 0
def fX67_wrong (x1 : Int) (x2 : Int) : zX :=
  zgf 6891 0 fun v1 => if ¬ v1 = 0 then
  (zret 0) else
  (zpf 6891 0 x1 <| zpf 6892 0 x2 <| zret 0)
def fX67_isShort : zX :=
  zgf 6889 0 fun v1 => zgf 6888 0 fun v2 => if 7 ≤ (zi (v1 - v2)) then
  (zret 0) else
  (zret 1)
def fX67_takesN (x0 : Int) : zX :=
  if x0 = 12 then
  (zret 1) else
  (if x0 = 13 then
  (zret 1) else
  (if x0 = 16 then
  (zret 1) else
  (if x0 = 17 then
  (zret 1) else
  (if x0 = 20 then
  (zret 1) else
  (if x0 = 25 then
  (zret 1) else
  (if ¬ x0 = 32 then
  (zret 0) else
  (zret 1)))))))
def fX67_mostN (x0 : Int) : zX :=
  if x0 = 17 then
  (zret 7) else
  (if ¬ x0 = 25 then
  (zret 3) else
  (zret 7))
def fX67_signOf (x0 : Int) : zX :=
  zcl (fX67_isLetter x0) fun v1 => if v1 = 0 then
  (zcl (fX67_isDigit x0) fun v2 => if v2 = 0 then
  (if ¬ x0 = 95 then
  (zret 38) else
  (zret 37)) else
  (zret (zi (x0 - 21)))) else
  (zret (zi (x0 - 96)))
def fX67_nameOfToken_J46 (r4 : Int × Int → zX) (x3 : Int) (s0 : Int) (s1 : Int) : zX :=
  zlt (zl (s0 + s1)) fun v3 => zlt (zi (x3 + 1)) fun v4 => r4 (v3, v4)
def fX67_nameOfToken_B4 (r4 : Int × Int → zX) : Int × Int → zX := fun (x1, x3) =>
  if 6 ≤ x3 then
  (zret x1) else
  (zgf 6888 0 fun v1 => zgf 6889 0 fun v2 => if v2 ≤ (zi (v1 + x3)) then
  (fX67_nameOfToken_J46 r4 x3 (zl (x1 * 64)) 0) else
  (zgf 6888 0 fun v5 => zal 6868 0 (zi (v5 + x3)) 4096 fun v6 => zcl (fX67_signOf v6) fun v7 => fX67_nameOfToken_J46 r4 x3 (zl (x1 * 64)) v7))
def fX67_nameOfToken : zX :=
  zlp (fX67_nameOfToken_B4) zBIG (0, 0)
def fX67_isOperation_J135 (s1 : Int) : zX :=
  zpf 6911 0 s1 <| zret 1
def fX67_isOperation_J114 (x5 : Int) (x6 : Int) : zX :=
  zpf 6910 0 x6 <| zcl (fX67_takesN x6) fun v7 => if v7 = 0 then
  (fX67_isOperation_J135 0) else
  (fX67_isOperation_J135 x5)
def fX67_isOperation_J107 (r39 : Int → zX) (x1 : Int) (x3 : Int) (x5 : Int) (x6 : Int) (s0 : Int) : zX :=
  if s0 = 0 then
  (zlt (zi (x6 + 1)) fun v6 => r39 v6) else
  (fX67_isOperation_J114 x5 x6)
def fX67_isOperation_J86 (r39 : Int → zX) (x1 : Int) (x3 : Int) (x5 : Int) (x6 : Int) : zX :=
  fX67_isOperation_J107 r39 x1 x3 x5 x6 0
def fX67_isOperation_B39 (x1 : Int) (x3 : Int) (x5 : Int) (r39 : Int → zX) : Int → zX := fun x6 =>
  if 38 ≤ x6 then
  (zret 0) else
  (zcl (fX67_takesN x6) fun v4 => if v4 = 0 then
  (zct 6908 x6 38 fun v5 => if ¬ x1 = v5 then
  (fX67_isOperation_J107 r39 x1 x3 x5 x6 0) else
  (fX67_isOperation_J107 r39 x1 x3 x5 x6 1)) else
  (zct 6908 x6 38 fun v8 => if ¬ x3 = v8 then
  (fX67_isOperation_J86 r39 x1 x3 x5 x6) else
  (zcl (fX67_mostN x6) fun v9 => zcl (fX67_in x5 0 v9) fun v10 => if v10 = 0 then
  (fX67_isOperation_J86 r39 x1 x3 x5 x6) else
  (fX67_isOperation_J107 r39 x1 x3 x5 x6 1))))
def fX67_isOperation_J15 (s0 : Int) : zX :=
  zlt (zaN s0 (-258049)) fun v2 => zlt (zi ((zi ((s0 / 4096) % 64)) - 27)) fun v3 => zlp (fX67_isOperation_B39 s0 v2 v3) zBIG 0
def fX67_isOperation : zX :=
  zcl fX67_isShort fun v1 => if v1 = 0 then
  (fX67_isOperation_J15 0) else
  (zcl fX67_nameOfToken fun v11 => fX67_isOperation_J15 v11)
def fX67_labelWord_J51 : zX :=
  zgf 6891 0 fun v7 => if v7 ≤ 0 then
  (zcl fX67_nameOfToken fun v8 => zcl fX67_next fun _ => zret v8) else
  (zret 0)
def fX67_labelWord_J42 : zX :=
  zgf 6888 0 fun v5 => zcl (fX67_wrong 2 v5) fun _ => fX67_labelWord_J51
def fX67_labelWord : zX :=
  zgf 6887 0 fun v1 => if v1 = 1 then
  (zgf 6888 0 fun v2 => zal 6868 0 v2 4096 fun v3 => zcl (fX67_isLetter v3) fun v4 => if v4 = 0 then
  (fX67_labelWord_J42) else
  (zcl fX67_isShort fun v10 => if ¬ v10 = 0 then
  (fX67_labelWord_J51) else
  (fX67_labelWord_J42))) else
  (zgf 6888 0 fun v11 => zcl (fX67_wrong 1 v11) fun _ => fX67_labelWord_J51)
def fX67_late (x1 : Int) (x2 : Int) : zX :=
  zgf 6905 0 fun v1 => if ¬ v1 = 0 then
  (zret 0) else
  (zpf 6905 0 x1 <| zpf 6906 0 x2 <| zret 0)
def fX67_labelNamed_J27 (x3 : Int) : zX :=
  zgf 6893 0 fun v2 => if v2 ≤ x3 then
  (zret (-1)) else
  (zret x3)
def fX67_labelNamed_B2 (x1 : Int) (r2 : Int → zX) : Int → zX := fun x3 =>
  zgf 6893 0 fun v1 => if v1 ≤ x3 then
  (fX67_labelNamed_J27 x3) else
  (zal 6894 0 x3 64 fun v3 => if v3 = x1 then
  (fX67_labelNamed_J27 x3) else
  (zlt (zi (x3 + 1)) fun v4 => r2 v4))
def fX67_labelNamed (x1 : Int) : zX :=
  zlp (fX67_labelNamed_B2 x1) zBIG 0
def fX67_labelAt_J36 (x4 : Int) : zX :=
  if 0 ≤ x4 then
  (zal 6895 0 x4 64 fun v3 => zret v3) else
  (zret 0)
def fX67_labelAt_J16 (x3 : Int) (s0 : Int) : zX :=
  zgf 6903 0 fun v2 => if v2 = 0 then
  (fX67_labelAt_J36 s0) else
  (if 0 ≤ s0 then
  (fX67_labelAt_J36 s0) else
  (zcl (fX67_late 5 x3) fun _ => fX67_labelAt_J36 s0))
def fX67_labelAt (x1 : Int) (x3 : Int) : zX :=
  zgf 6903 0 fun v1 => if v1 = 0 then
  (fX67_labelAt_J16 x3 (-1)) else
  (zcl (fX67_labelNamed x1) fun v5 => fX67_labelAt_J16 x3 v5)
def fX67_definitionOfText : zX :=
  zgf 6888 0 fun v1 => zcl fX67_labelWord fun v2 => zgf 6891 0 fun v3 => if v3 ≤ 0 then
  (zgf 6899 0 fun v4 => if ¬ v4 = 32 then
  (zgf 6899 0 fun v5 => zas 6900 0 v5 32 v2 <| zgf 6899 0 fun v6 => zcl (fX67_labelAt v2 v1) fun v7 => zas 6901 0 v6 32 v7 <| zgf 6899 0 fun v8 => zpf 6899 0 (zi (v8 + 1)) <| zret 0) else
  (zcl (fX67_wrong 6 v1) fun _ => zret 0)) else
  (zret 0)
def fX67_isNumber_J48 (r19 : Int × Int → zX) (x2 : Int) (s0 : Int) : zX :=
  zlt (zi (x2 + 1)) fun v4 => r19 (s0, v4)
def fX67_isNumber_J47 (r19 : Int × Int → zX) (x2 : Int) : zX :=
  fX67_isNumber_J48 r19 x2 0
def fX67_isNumber_B19 (r19 : Int × Int → zX) : Int × Int → zX := fun (x1, x2) =>
  zgf 6889 0 fun v3 => if v3 ≤ x2 then
  (zrb x1) else
  (if x1 = 0 then
  (fX67_isNumber_J47 r19 x2) else
  (zal 6868 0 x2 4096 fun v5 => zcl (fX67_isDigit v5) fun v6 => if v6 = 0 then
  (fX67_isNumber_J47 r19 x2) else
  (fX67_isNumber_J48 r19 x2 1)))
def fX67_isNumber_J13 (s0 : Int) : zX :=
  zgf 6888 0 fun v2 => zlp (fX67_isNumber_B19) zBIG (s0, v2)
def fX67_isNumber : zX :=
  zgf 6887 0 fun v1 => if ¬ v1 = 1 then
  (fX67_isNumber_J13 0) else
  (fX67_isNumber_J13 1)
def fX67_numeral_J64 (x1 : Int) : zX :=
  zcl fX67_next fun _ => zret x1
def fX67_numeral_B32 (r32 : Int × Int → zX) : Int × Int → zX := fun (x1, x3) =>
  zgf 6889 0 fun v4 => if v4 ≤ x3 then
  (fX67_numeral_J64 x1) else
  (zal 6868 0 x3 4096 fun v6 => zlt (zl ((zl ((zl (10 * x1)) + v6)) - 48)) fun v7 => zlt (zi (x3 + 1)) fun v8 => r32 (v7, v8))
def fX67_numeral : zX :=
  zgf 6889 0 fun v1 => zgf 6888 0 fun v2 => if (zi (v1 - v2)) ≤ 11 then
  (zgf 6888 0 fun v3 => zlp (fX67_numeral_B32) zBIG (0, v3)) else
  (zgf 6888 0 fun v9 => zcl (fX67_wrong 3 v9) fun _ => zret 0)
def fX67_bounded_J20 : zX :=
  zgf 6888 0 fun v3 => zcl (fX67_wrong 1 v3) fun _ => zret 0
def fX67_bounded (x1 : Int) : zX :=
  zgf 6888 0 fun v1 => zgf 6887 0 fun v2 => if ¬ v2 = 1 then
  (fX67_bounded_J20) else
  (zcl fX67_isNumber fun v5 => if ¬ v5 = 0 then
  (zcl fX67_numeral fun v6 => zgf 6891 0 fun v7 => if ¬ v7 = 0 then
  (zret v6) else
  (if v6 ≤ x1 then
  (zret v6) else
  (zcl (fX67_wrong 3 v1) fun _ => zret v6))) else
  (fX67_bounded_J20))
def fX67_emit_J27 : zX :=
  zgf 6902 0 fun v2 => zpf 6902 0 (zi (v2 + 1)) <| zret 0
def fX67_emit (x1 : Int) : zX :=
  zgf 6903 0 fun v1 => if v1 = 0 then
  (fX67_emit_J27) else
  (zgf 6902 0 fun v3 => if 1024 ≤ v3 then
  (fX67_emit_J27) else
  (zgf 6902 0 fun v4 => zas 6907 0 v4 1024 x1 <| fX67_emit_J27))
def fX67_isSign (x1 : Int) : zX :=
  zgf 6887 0 fun v1 => if ¬ v1 = 2 then
  (zret 0) else
  (zgf 6888 0 fun v2 => zal 6868 0 v2 4096 fun v3 => if ¬ v3 = x1 then
  (zret 0) else
  (zret 1))
def fX67_passes (x1 : Int) : zX :=
  zcl (fX67_isSign x1) fun v1 => if v1 = 0 then
  (zrb v1) else
  (zcl fX67_next fun _ => zrb v1)
def fX67_comma : zX :=
  zgf 6891 0 fun v1 => if ¬ v1 = 0 then
  (zret 0) else
  (zcl (fX67_passes 44) fun v2 => if ¬ v2 = 0 then
  (zret 0) else
  (zgf 6888 0 fun v3 => zcl (fX67_wrong 1 v3) fun _ => zret 0))
def fX67_term_J20 : zX :=
  zgf 6888 0 fun v2 => zcl fX67_labelWord fun v3 => zgf 6891 0 fun v4 => if v4 ≤ 0 then
  (zcl (fX67_labelAt v3 v2) fun v5 => zret v5) else
  (zret 0)
def fX67_term : zX :=
  zgf 6887 0 fun v1 => if ¬ v1 = 1 then
  (fX67_term_J20) else
  (zcl fX67_isNumber fun v6 => if v6 = 0 then
  (fX67_term_J20) else
  (zcl fX67_numeral fun v7 => zret v7))
def fX67_expression_J107 (x1 : Int) (x3 : Int) (x5 : Int) (x6 : Int) (x8 : Int) : zX :=
  zgf 6903 0 fun v6 => if v6 = 0 then
  (zret x8) else
  (zgf 6905 0 fun v7 => if ¬ v7 = x6 then
  (zret x8) else
  (zcl (fX67_in x8 x1 x3) fun v8 => if ¬ v8 = 0 then
  (zret x8) else
  (zcl (fX67_late 3 x5) fun _ => zret x8)))
def fX67_expression_J102 (r41 : Int → zX) (x1 : Int) (x3 : Int) (x5 : Int) (x6 : Int) (s0 : Int) : zX :=
  r41 s0
def fX67_expression_J66 (r41 : Int → zX) (x1 : Int) (x3 : Int) (x5 : Int) (x6 : Int) (x8 : Int) : zX :=
  zcl (fX67_isSign 45) fun v11 => zcl fX67_next fun _ => zcl fX67_term fun v13 => if v11 = 0 then
  (fX67_expression_J102 r41 x1 x3 x5 x6 (zl (x8 + v13))) else
  (fX67_expression_J102 r41 x1 x3 x5 x6 (zl (x8 - v13)))
def fX67_expression_B41 (x1 : Int) (x3 : Int) (x5 : Int) (x6 : Int) (r41 : Int → zX) : Int → zX := fun x8 =>
  zgf 6891 0 fun v5 => if ¬ v5 = 0 then
  (fX67_expression_J107 x1 x3 x5 x6 x8) else
  (zcl (fX67_isSign 43) fun v10 => if ¬ v10 = 0 then
  (fX67_expression_J66 r41 x1 x3 x5 x6 x8) else
  (zcl (fX67_isSign 45) fun v14 => if v14 = 0 then
  (fX67_expression_J107 x1 x3 x5 x6 x8) else
  (fX67_expression_J66 r41 x1 x3 x5 x6 x8)))
def fX67_expression_J39 (x1 : Int) (x3 : Int) (x5 : Int) (x6 : Int) (s0 : Int) : zX :=
  zlp (fX67_expression_B41 x1 x3 x5 x6) zBIG s0
def fX67_expression (x1 : Int) (x3 : Int) : zX :=
  zgf 6888 0 fun v1 => zgf 6905 0 fun v2 => zcl (fX67_passes 45) fun v3 => zcl fX67_term fun v4 => if v3 = 0 then
  (fX67_expression_J39 x1 x3 v1 v2 v4) else
  (fX67_expression_J39 x1 x3 v1 v2 (zl (- v4)))
def fX67_half : zX :=
  zcl (fX67_expression (-131072) 262143) fun v1 => zret (v1 % 262144)
def fX67_pointerOfText_J96 (x1 : Int) (x5 : Int) (s1 : Int) (s2 : Int) : zX :=
  zcl (fX67_emit (zoR (zoR (zoR s1 s2) (zl (x1 * 16777216))) x5)) fun _ => zret 0
def fX67_pointerOfText_J73 (x1 : Int) (x3 : Int) (x5 : Int) (s0 : Int) : zX :=
  if s0 = 0 then
  (fX67_pointerOfText_J96 x1 x5 (zoR 42949672960 (zl (x3 * 1073741824))) 0) else
  (fX67_pointerOfText_J96 x1 x5 (zoR 42949672960 (zl (x3 * 1073741824))) 536870912)
def fX67_pointerOfText_J72 (x1 : Int) (x3 : Int) (x5 : Int) : zX :=
  fX67_pointerOfText_J73 x1 x3 x5 0
def fX67_pointerOfText_J50 (x1 : Int) (x3 : Int) (s0 : Int) : zX :=
  zgf 6891 0 fun v6 => if ¬ v6 = 0 then
  (fX67_pointerOfText_J72 x1 x3 s0) else
  (zcl (fX67_passes 42) fun v8 => if v8 = 0 then
  (fX67_pointerOfText_J72 x1 x3 s0) else
  (fX67_pointerOfText_J73 x1 x3 s0 1))
def fX67_pointerOfText_J30 (x1 : Int) (s0 : Int) : zX :=
  zcl fX67_comma fun _ => zgf 6891 0 fun v5 => if ¬ v5 = 0 then
  (fX67_pointerOfText_J50 x1 s0 0) else
  (zcl fX67_half fun v9 => fX67_pointerOfText_J50 x1 s0 v9)
def fX67_pointerOfText : zX :=
  zcl (fX67_bounded 31) fun v1 => zcl fX67_comma fun _ => zgf 6891 0 fun v3 => if ¬ v3 = 0 then
  (fX67_pointerOfText_J30 v1 0) else
  (zcl (fX67_bounded 7) fun v10 => fX67_pointerOfText_J30 v1 v10)
def fX67_wordsOfText_J115 (r2 : Int → zX) (s0 : Int) : zX :=
  r2 s0
def fX67_wordsOfText_J114 (r2 : Int → zX) : zX :=
  fX67_wordsOfText_J115 r2 0
def fX67_wordsOfText_J94 (r2 : Int → zX) : zX :=
  zgf 6891 0 fun v5 => if ¬ v5 = 0 then
  (fX67_wordsOfText_J114 r2) else
  (zcl (fX67_passes 44) fun v6 => if v6 = 0 then
  (fX67_wordsOfText_J114 r2) else
  (fX67_wordsOfText_J115 r2 1))
def fX67_wordsOfText_B2 (r2 : Int → zX) : Int → zX := fun x1 =>
  if x1 = 0 then
  (zret 0) else
  (zgf 6891 0 fun v1 => if ¬ v1 = 0 then
  (zret 0) else
  (zcl (fX67_passes 39) fun v2 => if v2 = 0 then
  (zcl (fX67_expression (-34359738368) 68719476735) fun v3 => zcl (fX67_emit (v3 % 68719476736)) fun _ => fX67_wordsOfText_J94 r2) else
  (zgf 6887 0 fun v7 => if v7 = 1 then
  (zcl fX67_isShort fun v8 => if ¬ v8 = 0 then
  (zcl fX67_nameOfToken fun v9 => zcl (fX67_emit v9) fun _ => zcl fX67_next fun _ => fX67_wordsOfText_J94 r2) else
  (zgf 6888 0 fun v12 => zcl (fX67_wrong 2 v12) fun _ => fX67_wordsOfText_J94 r2)) else
  (zgf 6888 0 fun v14 => zcl (fX67_wrong 1 v14) fun _ => fX67_wordsOfText_J94 r2))))
def fX67_wordsOfText : zX :=
  zlp (fX67_wordsOfText_B2) zBIG 1
def fX67_isP : zX :=
  zgf 6887 0 fun v1 => if ¬ v1 = 1 then
  (zret 0) else
  (zgf 6889 0 fun v2 => zgf 6888 0 fun v3 => if ¬ (zi (v2 - v3)) = 2 then
  (zret 0) else
  (zgf 6888 0 fun v4 => zal 6868 0 v4 4096 fun v5 => if ¬ v5 = 112 then
  (zret 0) else
  (zgf 6888 0 fun v6 => zal 6868 0 (zi (v6 + 1)) 4096 fun v7 => zcl (fX67_in v7 48 55) fun v8 => if v8 = 0 then
  (zret 0) else
  (zret 1))))
def fX67_linkOf_J42 (x1 : Int) (x3 : Int) (x5 : Int) (x6 : Int) : zX :=
  if ¬ x6 = 16 then
  (zgf 6896 0 fun v2 => if ¬ x6 = v2 then
  (zret x6) else
  (zas 6897 0 x6 16 x1 <| zas 6898 0 x6 16 x3 <| zgf 6896 0 fun v3 => zpf 6896 0 (zi (v3 + 1)) <| zret x6)) else
  (zcl (fX67_wrong 6 x5) fun _ => zret 0)
def fX67_linkOf_J36 (r3 : Int → zX) (x1 : Int) (x3 : Int) (x5 : Int) (x6 : Int) : zX :=
  zlt (zi (x6 + 1)) fun v6 => r3 v6
def fX67_linkOf_B3 (x1 : Int) (x3 : Int) (x5 : Int) (r3 : Int → zX) : Int → zX := fun x6 =>
  zgf 6896 0 fun v1 => if v1 ≤ x6 then
  (fX67_linkOf_J42 x1 x3 x5 x6) else
  (zal 6897 0 x6 16 fun v5 => if ¬ v5 = x1 then
  (fX67_linkOf_J36 r3 x1 x3 x5 x6) else
  (zal 6898 0 x6 16 fun v7 => if v7 = x3 then
  (fX67_linkOf_J42 x1 x3 x5 x6) else
  (fX67_linkOf_J36 r3 x1 x3 x5 x6)))
def fX67_linkOf (x1 : Int) (x3 : Int) (x5 : Int) : zX :=
  zlp (fX67_linkOf_B3 x1 x3 x5) zBIG 0
def fX67_behindWord_J30 (x1 : Int) : zX :=
  zgf 6890 0 fun v3 => if v3 ≤ x1 then
  (zret 0) else
  (zal 6868 0 x1 4096 fun v4 => zcl (fX67_isOfWord v4) fun v5 => if ¬ v5 = 0 then
  (zret 0) else
  (zal 6868 0 x1 4096 fun v6 => zret v6))
def fX67_behindWord_B5 (r5 : Int → zX) : Int → zX := fun x1 =>
  zgf 6890 0 fun v2 => if v2 ≤ x1 then
  (fX67_behindWord_J30 x1) else
  (zal 6868 0 x1 4096 fun v7 => if ¬ v7 = 32 then
  (fX67_behindWord_J30 x1) else
  (zlt (zi (x1 + 1)) fun v8 => r5 v8))
def fX67_behindWord : zX :=
  zgf 6889 0 fun v1 => zlp (fX67_behindWord_B5) zBIG v1
def fX67_operand_J347 (x1 : Int) (x3 : Int) (x5 : Int) (x8 : Int) : zX :=
  zgf 6910 0 fun v7 => zgf 6911 0 fun v8 => zcl (fX67_emit (zoR (zoR (zoR (zoR (zoR (zl (v7 * 1073741824)) (zl (x1 * 134217728))) (zl (x3 * 16777216))) (zl (v8 * 2097152))) (zl (x8 * 262144))) x5)) fun _ => zret 0
def fX67_operand_J307 (x1 : Int) (x3 : Int) (x5 : Int) (s0 : Int) : zX :=
  if ¬ s0 = 0 then
  (zgf 6888 0 fun v12 => zal 6868 0 (zi (v12 + 1)) 4096 fun v13 => zlt (zi ((zi (v13 - 48)) + 1)) fun v14 => zcl fX67_next fun _ => fX67_operand_J347 x1 x3 x5 v14) else
  (zgf 6888 0 fun v16 => zcl (fX67_wrong 1 v16) fun _ => zret 0)
def fX67_operand_J306 (x1 : Int) (x3 : Int) (x5 : Int) : zX :=
  fX67_operand_J307 x1 x3 x5 0
def fX67_operand_J224 (x1 : Int) (x3 : Int) (x5 : Int) : zX :=
  zgf 6891 0 fun v6 => if ¬ v6 = 0 then
  (fX67_operand_J347 x1 x3 x5 0) else
  (zcl (fX67_passes 44) fun v10 => if v10 = 0 then
  (fX67_operand_J347 x1 x3 x5 0) else
  (zgf 6887 0 fun v11 => if ¬ v11 = 1 then
  (fX67_operand_J306 x1 x3 x5) else
  (zgf 6889 0 fun v18 => zgf 6888 0 fun v19 => if ¬ (zi (v18 - v19)) = 2 then
  (fX67_operand_J306 x1 x3 x5) else
  (zgf 6888 0 fun v20 => zal 6868 0 v20 4096 fun v21 => if ¬ v21 = 120 then
  (fX67_operand_J306 x1 x3 x5) else
  (zgf 6888 0 fun v22 => zal 6868 0 (zi (v22 + 1)) 4096 fun v23 => zcl (fX67_in v23 48 51) fun v24 => if v24 = 0 then
  (fX67_operand_J306 x1 x3 x5) else
  (fX67_operand_J307 x1 x3 x5 1))))))
def fX67_operand_J223 (x3 : Int) (x5 : Int) (s0 : Int) : zX :=
  fX67_operand_J224 s0 x3 x5
def fX67_operand_J180 (x1 : Int) (x3 : Int) (x5 : Int) : zX :=
  zgf 6891 0 fun v5 => if ¬ v5 = 0 then
  (fX67_operand_J224 x1 x3 x5) else
  (if x1 = 2 then
  (fX67_operand_J224 x1 x3 x5) else
  (zcl (fX67_passes 42) fun v25 => if v25 = 0 then
  (fX67_operand_J224 x1 x3 x5) else
  (if ¬ x1 = 3 then
  (fX67_operand_J223 x3 x5 (zl (x1 + 4))) else
  (fX67_operand_J223 x3 x5 6))))
def fX67_operand_J169 (x1 : Int) (x3 : Int) (s0 : Int) : zX :=
  fX67_operand_J180 x1 x3 s0
def fX67_operand_J145 (x1 : Int) (x3 : Int) (x8 : Int) (x9 : Int) (s0 : Int) : zX :=
  zgf 6891 0 fun v30 => if ¬ v30 = 0 then
  (fX67_operand_J169 x1 x3 0) else
  (zcl (fX67_linkOf x9 s0 x8) fun v31 => fX67_operand_J169 x1 x3 v31)
def fX67_operand_J130 (x1 : Int) (x3 : Int) (x8 : Int) (x9 : Int) : zX :=
  zgf 6891 0 fun v29 => if ¬ v29 = 0 then
  (fX67_operand_J145 x1 x3 x8 x9 0) else
  (zcl fX67_labelWord fun v32 => fX67_operand_J145 x1 x3 x8 x9 v32)
def fX67_operand_J96 (x1 : Int) (x3 : Int) (x7 : Int) : zX :=
  if ¬ x7 = 36 then
  (zcl fX67_half fun v4 => fX67_operand_J180 x1 x3 v4) else
  (zgf 6888 0 fun v26 => zcl fX67_labelWord fun v27 => zgf 6891 0 fun v28 => if ¬ v28 = 0 then
  (fX67_operand_J130 3 x3 v26 v27) else
  (zcl fX67_next fun _ => fX67_operand_J130 3 x3 v26 v27))
def fX67_operand_J23 (x1 : Int) (x3 : Int) (s0 : Int) : zX :=
  zcl (fX67_passes 35) fun v2 => if v2 = 0 then
  (zcl fX67_isP fun v3 => if v3 = 0 then
  (fX67_operand_J96 x1 x3 s0) else
  (if ¬ s0 = 124 then
  (fX67_operand_J96 x1 x3 s0) else
  (zgf 6888 0 fun v34 => zal 6868 0 (zi (v34 + 1)) 4096 fun v35 => zlt (zi (v35 - 48)) fun v36 => zcl fX67_next fun _ => zcl fX67_next fun _ => zcl fX67_half fun v39 => fX67_operand_J180 1 v36 v39))) else
  (zcl fX67_half fun v40 => fX67_operand_J180 2 x3 v40)
def fX67_operand : zX :=
  zgf 6887 0 fun v1 => if ¬ v1 = 1 then
  (fX67_operand_J23 0 0 0) else
  (zcl fX67_behindWord fun v41 => fX67_operand_J23 0 0 v41)
def fX67_statement_B154 (x3 : Int) (r154 : Int → zX) : Int → zX := fun x5 =>
  if x3 ≤ x5 then
  (zret 0) else
  (zgf 6891 0 fun v14 => if ¬ v14 = 0 then
  (zret 0) else
  (zcl (fX67_emit 0) fun _ => zlt (zl (x5 + 1)) fun v16 => r154 v16))
def fX67_statement_J62 : zX :=
  zgf 6910 0 fun v23 => zcl (fX67_emit (zl (v23 * 1073741824))) fun _ => zret 0
def fX67_statement_J33 (s0 : Int) : zX :=
  zcl fX67_isOperation fun v3 => if v3 = 0 then
  (zct 6909 0 4 fun v4 => if ¬ s0 = v4 then
  (zct 6909 1 4 fun v5 => if ¬ s0 = v5 then
  (zct 6909 2 4 fun v6 => if ¬ s0 = v6 then
  (zct 6909 3 4 fun v7 => if ¬ s0 = v7 then
  (zgf 6888 0 fun v8 => zcl (fX67_wrong 2 v8) fun _ => zret 0) else
  (zcl fX67_next fun _ => zcl fX67_definitionOfText fun _ => zret 0)) else
  (zcl fX67_next fun _ => zcl (fX67_bounded 1023) fun v13 => zlp (fX67_statement_B154 v13) zBIG 0)) else
  (zcl fX67_next fun _ => zcl fX67_pointerOfText fun _ => zret 0)) else
  (zcl fX67_next fun _ => zcl fX67_wordsOfText fun _ => zret 0)) else
  (zcl fX67_next fun _ => zgf 6910 0 fun v22 => if v22 < 2 then
  (fX67_statement_J62) else
  (zgf 6910 0 fun v25 => if v25 ≤ 35 then
  (zcl fX67_operand fun _ => zret 0) else
  (fX67_statement_J62)))
def fX67_statement : zX :=
  zgf 6887 0 fun v1 => if v1 = 1 then
  (zcl fX67_isShort fun v2 => if v2 = 0 then
  (fX67_statement_J33 0) else
  (zcl fX67_nameOfToken fun v27 => fX67_statement_J33 v27)) else
  (zgf 6888 0 fun v28 => zcl (fX67_wrong 1 v28) fun _ => zret 0)
def fX67_lineOfText_J140 : zX :=
  zgf 6891 0 fun v4 => if ¬ v4 = 0 then
  (zret 0) else
  (zgf 6887 0 fun v5 => if v5 = 0 then
  (zret 0) else
  (zgf 6888 0 fun v6 => zcl (fX67_wrong 1 v6) fun _ => zret 0))
def fX67_lineOfText_J129 : zX :=
  zgf 6887 0 fun v3 => if v3 = 0 then
  (fX67_lineOfText_J140) else
  (zcl fX67_statement fun _ => fX67_lineOfText_J140)
def fX67_lineOfText_J89 (x2 : Int) : zX :=
  zgf 6903 0 fun v16 => if ¬ v16 = 0 then
  (fX67_lineOfText_J129) else
  (zgf 6893 0 fun v17 => zas 6894 0 v17 64 x2 <| zgf 6893 0 fun v18 => zgf 6902 0 fun v19 => zas 6895 0 v18 64 v19 <| zgf 6893 0 fun v20 => zpf 6893 0 (zi (v20 + 1)) <| fX67_lineOfText_J129)
def fX67_lineOfText_J65 (x1 : Int) (x2 : Int) : zX :=
  zgf 6903 0 fun v15 => if ¬ v15 = 0 then
  (fX67_lineOfText_J89 x2) else
  (zgf 6893 0 fun v21 => if ¬ v21 = 64 then
  (fX67_lineOfText_J89 x2) else
  (zcl (fX67_wrong 6 x1) fun _ => zret 0))
def fX67_lineOfText : zX :=
  zcl fX67_next fun _ => zgf 6887 0 fun v2 => if ¬ v2 = 1 then
  (fX67_lineOfText_J129) else
  (zcl fX67_behindWord fun v9 => if ¬ v9 = 58 then
  (fX67_lineOfText_J129) else
  (zgf 6888 0 fun v10 => zcl fX67_labelWord fun v11 => zgf 6891 0 fun v12 => if v12 ≤ 0 then
  (zcl fX67_next fun _ => zgf 6903 0 fun v14 => if ¬ v14 = 0 then
  (fX67_lineOfText_J65 v10 v11) else
  (zcl (fX67_labelNamed v11) fun v23 => if v23 < 0 then
  (fX67_lineOfText_J65 v10 v11) else
  (zcl (fX67_wrong 4 v10) fun _ => zret 0))) else
  (zret 0)))
def fX67_readText_J80 (r17 : Int → zX) (x2 : Int) : zX :=
  zlt (zi (x2 + 1)) fun v8 => r17 v8
def fX67_readText_B55 (r17 : Int → zX) (r55 : Int → zX) : Int → zX := fun x2 =>
  zgf 6867 0 fun v7 => if v7 ≤ x2 then
  (fX67_readText_J80 r17 x2) else
  (zal 6868 0 x2 4096 fun v9 => if v9 = 10 then
  (fX67_readText_J80 r17 x2) else
  (zlt (zi (x2 + 1)) fun v10 => r55 v10))
def fX67_readText_B17 (r17 : Int → zX) : Int → zX := fun x2 =>
  zgf 6867 0 fun v2 => if v2 < x2 then
  (zret 0) else
  (zgf 6891 0 fun v3 => if ¬ v3 = 0 then
  (zret 0) else
  (zcl (fX67_lineEnd x2) fun v4 => zpf 6890 0 v4 <| zpf 6889 0 x2 <| zcl fX67_lineOfText fun _ => zgf 6890 0 fun v6 => zlp (fX67_readText_B55 r17) zBIG v6))
def fX67_readText (x1 : Int) : zX :=
  zpb 6903 0 x1 <| zpf 6902 0 2 <| zpf 6899 0 0 <| zlp (fX67_readText_B17) zBIG 0
def fX67_assemble_J357 (r316 : Int → zX) (x1 : Int) (x4 : Int) (x5 : Int) (s1 : Int) (s2 : Int) : zX :=
  zas 6816 0 s1 262144 s2 <| zlt (zi (x5 + 1)) fun v18 => r316 v18
def fX67_assemble_B316 (x1 : Int) (x4 : Int) (r316 : Int → zX) : Int → zX := fun x5 =>
  zal 6806 0 x1 256 fun v17 => if v17 ≤ x5 then
  (zret x4) else
  (if x4 ≤ x5 then
  (fX67_assemble_J357 r316 x1 x4 x5 (zi ((zi (1024 * x1)) + x5)) 0) else
  (zal 6907 0 x5 1024 fun v19 => fX67_assemble_J357 r316 x1 x4 x5 (zi ((zi (1024 * x1)) + x5)) v19))
def fX67_assemble_J313 (x1 : Int) (x4 : Int) : zX :=
  zlp (fX67_assemble_B316 x1 x4) zBIG 0
def fX67_assemble_B259 (x1 : Int) (x3 : Int) (x4 : Int) (r259 : Int → zX) : Int → zX := fun x5 =>
  zgf 6899 0 fun v16 => if v16 ≤ x5 then
  (fX67_assemble_J313 x1 x4) else
  (zal 6900 0 x5 32 fun v20 => zas 6907 0 (zi (x3 + (zi (2 * x5)))) 1024 v20 <| zal 6901 0 x5 32 fun v21 => zas 6907 0 (zi ((zi (x3 + (zi (2 * x5)))) + 1)) 1024 v21 <| zlt (zi (x5 + 1)) fun v22 => r259 v22)
def fX67_assemble_J256 (x1 : Int) (x3 : Int) (x4 : Int) : zX :=
  zlp (fX67_assemble_B259 x1 x3 x4) zBIG 0
def fX67_assemble_B203 (x1 : Int) (x2 : Int) (x3 : Int) (x4 : Int) (r203 : Int → zX) : Int → zX := fun x5 =>
  zgf 6896 0 fun v15 => if v15 ≤ x5 then
  (fX67_assemble_J256 x1 x3 x4) else
  (zal 6897 0 x5 16 fun v23 => zas 6907 0 (zi (x2 + (zi (2 * x5)))) 1024 v23 <| zal 6898 0 x5 16 fun v24 => zas 6907 0 (zi ((zi (x2 + (zi (2 * x5)))) + 1)) 1024 v24 <| zlt (zi (x5 + 1)) fun v25 => r203 v25)
def fX67_assemble_J144 (x1 : Int) (x2 : Int) (x3 : Int) (x4 : Int) (s1 : Int) : zX :=
  zpf 6869 0 s1 <| zgf 6891 0 fun v12 => if v12 ≤ 0 then
  (zgf 6896 0 fun v13 => zas 6907 0 0 1024 (zoR (zoR 48989470720 (zl (v13 * 262144))) x2) <| zgf 6899 0 fun v14 => zas 6907 0 1 1024 (zoR (zl (v14 * 262144)) x3) <| zlp (fX67_assemble_B203 x1 x2 x3 x4) zBIG 0) else
  (zgf 6891 0 fun v26 => zret (zi ((-10) - v26)))
def fX67_assemble_J123 (x1 : Int) (x2 : Int) (x3 : Int) (x4 : Int) : zX :=
  zpf 6867 0 0 <| zgf 6891 0 fun v11 => if v11 ≤ 0 then
  (fX67_assemble_J144 x1 x2 x3 x4 (-1)) else
  (zgf 6892 0 fun v27 => fX67_assemble_J144 x1 x2 x3 x4 v27)
def fX67_assemble_J68 (x1 : Int) : zX :=
  zgf 6902 0 fun v4 => zgf 6902 0 fun v5 => zgf 6896 0 fun v6 => zlt (zi (v5 + (zi (2 * v6)))) fun v7 => zgf 6899 0 fun v8 => zlt (zi (v7 + (zi (2 * v8)))) fun v9 => zgf 6891 0 fun v10 => if ¬ v10 = 0 then
  (fX67_assemble_J123 x1 v4 v7 v9) else
  (zal 6806 0 x1 256 fun v28 => if v9 ≤ v28 then
  (fX67_assemble_J123 x1 v4 v7 v9) else
  (zgf 6867 0 fun v29 => zcl (fX67_wrong 6 v29) fun _ => fX67_assemble_J123 x1 v4 v7 v9))
def fX67_assemble (x1 : Int) : zX :=
  zcl (fX67_isOf x1 2) fun v1 => if ¬ v1 = 0 then
  (zpf 6891 0 0 <| zpf 6905 0 0 <| zpf 6893 0 0 <| zpf 6896 0 0 <| zcl (fX67_readText 0) fun _ => zgf 6891 0 fun v3 => if ¬ v3 = 0 then
  (fX67_assemble_J68 x1) else
  (zcl (fX67_readText 1) fun _ => zgf 6905 0 fun v32 => if v32 ≤ 0 then
  (fX67_assemble_J68 x1) else
  (zgf 6905 0 fun v33 => zgf 6906 0 fun v34 => zcl (fX67_wrong v33 v34) fun _ => fX67_assemble_J68 x1))) else
  (zret (-8))
def fX67_type_J76 : zX :=
  zgf 6867 0 fun v3 => zret v3
def fX67_type_B33 (x1 : Int) (x3 : Int) (r33 : Int → zX) : Int → zX := fun x4 =>
  if x3 ≤ x4 then
  (fX67_type_J76) else
  (zgf 6867 0 fun v4 => zas 6868 0 v4 4096 (zi ((x1 / 2 ^ ((zi (8 * x4)) % 64).toNat) % 256)) <| zgf 6867 0 fun v5 => zpf 6867 0 (zi (v5 + 1)) <| zlt (zi (x4 + 1)) fun v6 => r33 v6)
def fX67_type (x1 : Int) (x3 : Int) : zX :=
  zcl (fX67_in x3 1 8) fun v1 => if ¬ v1 = 0 then
  (zgf 6867 0 fun v2 => if (zi (v2 + x3)) ≤ 4096 then
  (zlp (fX67_type_B33 x1 x3) zBIG 0) else
  (zret (-5))) else
  (zret (-8))
def fX67_place_2 : zX :=
  zgf 6869 0 fun v1 => zret v1
def fX67_isListable_J121 (x0 : Int) (x5 : Int) : zX :=
  if x5 = 0 then
  (zret 0) else
  (if 5 ≤ ((x0 / 262144) % 8) then
  (zret 0) else
  (zret 1))
def fX67_isListable_J87 (x0 : Int) (x3 : Int) (x4 : Int) (s0 : Int) (s1 : Int) (s2 : Int) : zX :=
  zcl (fX67_in s0 s1 s2) fun v4 => if x3 = 3 then
  (zret 0) else
  (if 6 ≤ x3 then
  (zret 0) else
  (if ¬ x4 = 0 then
  (fX67_isListable_J121 x0 v4) else
  (if ¬ ((x0 / 16777216) % 8) = 0 then
  (zret 0) else
  (fX67_isListable_J121 x0 v4))))
def fX67_isListable_J60 (x0 : Int) (x2 : Int) (x3 : Int) (s0 : Int) : zX :=
  zcl (fX67_takesN x2) fun v3 => if v3 = 0 then
  (fX67_isListable_J87 x0 x3 s0 ((x0 / 2097152) % 8) 0 0) else
  (zcl (fX67_mostN x2) fun v5 => fX67_isListable_J87 x0 x3 s0 ((x0 / 2097152) % 8) 0 v5)
def fX67_isListable_J55 (x0 : Int) (x2 : Int) (x3 : Int) : zX :=
  fX67_isListable_J60 x0 x2 x3 1
def fX67_isListable_J45 (x0 : Int) (x2 : Int) (x3 : Int) : zX :=
  if x3 = 1 then
  (fX67_isListable_J55 x0 x2 x3) else
  (if ¬ x3 = 5 then
  (fX67_isListable_J60 x0 x2 x3 0) else
  (fX67_isListable_J55 x0 x2 x3))
def fX67_isListable_J33 (x0 : Int) (x2 : Int) (x3 : Int) : zX :=
  if (x0 % 1073741824) = 0 then
  (fX67_isListable_J45 x0 x2 x3) else
  (zret 0)
def fX67_isListable (x0 : Int) : zX :=
  zlt (zi (x0 / 1073741824)) fun v1 => zlt (zi ((x0 / 134217728) % 8)) fun v2 => if 37 < v1 then
  (zret 0) else
  (if v1 < 2 then
  (fX67_isListable_J33 x0 v1 v2) else
  (if v1 ≤ 35 then
  (fX67_isListable_J45 x0 v1 v2) else
  (fX67_isListable_J33 x0 v1 v2)))
def fX67_write_2 (x1 : Int) : zX :=
  zgf 6870 0 fun v1 => zas 6871 0 v1 64 x1 <| zgf 6870 0 fun v2 => zpf 6870 0 (zi (v2 + 1)) <| zret 0
def fX67_writeName_J70 (r3 : Int → zX) (x1 : Int) (x3 : Int) : zX :=
  zlt (zi (x3 + (-6))) fun v2 => r3 v2
def fX67_writeName_J67 (r3 : Int → zX) (x1 : Int) (x3 : Int) (s1 : Int) : zX :=
  zcl (fX67_write_2 s1) fun _ => fX67_writeName_J70 r3 x1 x3
def fX67_writeName_B3 (x1 : Int) (r3 : Int → zX) : Int → zX := fun x3 =>
  if x3 < 0 then
  (zret 0) else
  (zlt (zi ((x1 / 2 ^ (x3 % 64).toNat) % 64)) fun v1 => if v1 ≤ 0 then
  (fX67_writeName_J70 r3 x1 x3) else
  (if 27 ≤ v1 then
  (if 37 ≤ v1 then
  (if ¬ v1 = 37 then
  (fX67_writeName_J67 r3 x1 x3 46) else
  (fX67_writeName_J67 r3 x1 x3 95)) else
  (fX67_writeName_J67 r3 x1 x3 (zi (v1 + 21)))) else
  (fX67_writeName_J67 r3 x1 x3 (zi (v1 + 96)))))
def fX67_writeName (x1 : Int) : zX :=
  zlp (fX67_writeName_B3 x1) zBIG 30
def fX67_writeNumber_B21 (x1 : Int) (r21 : Int → zX) : Int → zX := fun x3 =>
  if x3 ≤ 0 then
  (zret 0) else
  (zne x3 <| zcl (fX67_write_2 (zi (zl (48 + (Int.tmod (zl (Int.tdiv x1 x3)) 10))))) fun _ => zlt (zl (Int.tdiv x3 10)) fun v3 => r21 v3)
def fX67_writeNumber_B2 (x1 : Int) (r2 : Int → zX) : Int → zX := fun x3 =>
  if x1 < (zl (x3 * 10)) then
  (zlp (fX67_writeNumber_B21 x1) zBIG x3) else
  (zlt (zl (x3 * 10)) fun v4 => r2 v4)
def fX67_writeNumber (x1 : Int) : zX :=
  zlp (fX67_writeNumber_B2 x1) zBIG 1
def fX67_list_J105 : zX :=
  zgf 6870 0 fun v8 => zret v8
def fX67_list_J227 : zX :=
  zgf 6870 0 fun v14 => zret v14
def fX67_list_J188 (x1 : Int) : zX :=
  if ((x1 / 262144) % 8) ≤ 0 then
  (fX67_list_J227) else
  (zcl (fX67_write_2 44) fun _ => zcl (fX67_write_2 120) fun _ => zcl (fX67_writeNumber (zl (((x1 / 262144) % 8) - 1))) fun _ => fX67_list_J227)
def fX67_list_J167 (x1 : Int) (x4 : Int) : zX :=
  zcl (fX67_writeNumber (x1 % 262144)) fun _ => if x4 ≤ 3 then
  (fX67_list_J188 x1) else
  (zcl (fX67_write_2 42) fun _ => fX67_list_J188 x1)
def fX67_list_J143 (x1 : Int) (x4 : Int) : zX :=
  zcl (fX67_write_2 112) fun _ => zcl (fX67_writeNumber ((x1 / 16777216) % 8)) fun _ => zcl (fX67_write_2 124) fun _ => fX67_list_J167 x1 x4
def fX67_list_J94 (x1 : Int) (x3 : Int) (x4 : Int) : zX :=
  if x3 < 2 then
  (fX67_list_J105) else
  (if x3 ≤ 35 then
  (zcl (fX67_write_2 32) fun _ => if ¬ x4 = 2 then
  (if x4 = 1 then
  (fX67_list_J143 x1 x4) else
  (if ¬ x4 = 5 then
  (fX67_list_J167 x1 x4) else
  (fX67_list_J143 x1 x4))) else
  (zcl (fX67_write_2 35) fun _ => fX67_list_J167 x1 x4)) else
  (fX67_list_J105))
def fX67_list (x1 : Int) : zX :=
  zcl (fX67_isWord x1) fun v1 => if ¬ v1 = 0 then
  (zpf 6870 0 0 <| zcl (fX67_isListable x1) fun v2 => if ¬ v2 = 0 then
  (zlt (zi (x1 / 1073741824)) fun v3 => zlt (zi ((x1 / 134217728) % 8)) fun v4 => zct 6908 v3 38 fun v5 => zcl (fX67_writeName v5) fun _ => zcl (fX67_takesN v3) fun v7 => if v7 = 0 then
  (fX67_list_J94 x1 v3 v4) else
  (zcl (fX67_writeNumber ((x1 / 2097152) % 8)) fun _ => fX67_list_J94 x1 v3 v4)) else
  (zct 6909 0 4 fun v21 => zcl (fX67_writeName v21) fun _ => zcl (fX67_write_2 32) fun _ => zcl (fX67_writeNumber x1) fun _ => zgf 6870 0 fun v25 => zret v25)) else
  (zret (-8))
def fX67_listed (x1 : Int) : zX :=
  zgf 6870 0 fun v1 => zcl (fX67_in x1 0 (zi (v1 - 1))) fun v2 => if v2 = 0 then
  (zret (-1)) else
  (zal 6871 0 x1 64 fun v3 => zret v3)
def fX67_putByte (x1 : Int) : zX :=
  zgf 6872 0 fun v1 => zas 6873 0 v1 98304 x1 <| zgf 6872 0 fun v2 => zpf 6872 0 (zi (v2 + 1)) <| zgf 6915 0 fun v3 => zpf 6915 0 (Int.tmod (zi ((zi (31 * v3)) + x1)) 65536) <| zret 0
def fX67_putWord_B3 (x1 : Int) (r3 : Int → zX) : Int → zX := fun x3 =>
  if x3 < 0 then
  (zret 0) else
  (zcl (fX67_putByte (zi ((x1 / 2 ^ (x3 % 64).toNat) % 256))) fun _ => zlt (zi (x3 + (-8))) fun v2 => r3 v2)
def fX67_putWord (x1 : Int) : zX :=
  zlp (fX67_putWord_B3 x1) zBIG 32
def fX67_putItems_B8 (c1 : Nat) (x2 : Int) (x3 : Int) (r8 : Int → zX) : Int → zX := fun x4 =>
  if (zi (x2 + (zi (3 * x3)))) ≤ x4 then
  (zret 0) else
  (zal c1 0 x4 (zlen c1) fun v2 => zcl (fX67_putByte v2) fun _ => zlt (zi (x4 + 1)) fun v4 => r8 v4)
def fX67_putItems (c1 : Nat) (x2 : Int) (x3 : Int) : zX :=
  zcl (fX67_putByte x3) fun _ => zlp (fX67_putItems_B8 c1 x2 x3) zBIG x2
def fX67_putNode_B255 (x1 : Int) (r255 : Int → zX) : Int → zX := fun x2 =>
  zal 6817 0 x1 256 fun v13 => if (zi ((zi (128 * x1)) + v13)) ≤ x2 then
  (zret 0) else
  (zal 6819 0 x2 32768 fun v14 => zcl (fX67_putByte v14) fun _ => zal 6818 0 x2 32768 fun v16 => zcl (fX67_putWord v16) fun _ => zlt (zi (x2 + 1)) fun v18 => r255 v18)
def fX67_putNode_B204 (x1 : Int) (r204 : Int → zX) : Int → zX := fun x2 =>
  zal 6806 0 x1 256 fun v25 => if v25 ≤ x2 then
  (zret 0) else
  (zal 6816 0 (zi ((zi (1024 * x1)) + x2)) 262144 fun v26 => zcl (fX67_putWord v26) fun _ => zlt (zi (x2 + 1)) fun v28 => r204 v28)
def fX67_putNode_J49 (x1 : Int) : zX :=
  zal 6812 0 x1 256 fun v6 => zcl (fX67_putItems 6813 (zi (18 * x1)) v6) fun _ => zal 6800 0 x1 256 fun v8 => if ¬ v8 = 1 then
  (zal 6800 0 x1 256 fun v9 => if ¬ v9 = 2 then
  (zal 6817 0 x1 256 fun v10 => zcl (fX67_putByte v10) fun _ => zlt (zi (128 * x1)) fun v12 => zlp (fX67_putNode_B255 x1) zBIG v12) else
  (zal 6805 0 x1 256 fun v19 => zcl (fX67_putByte v19) fun _ => zal 6806 0 x1 256 fun v21 => zcl (fX67_putByte (zi (Int.tdiv v21 256))) fun _ => zal 6806 0 x1 256 fun v23 => zcl (fX67_putByte (Int.tmod v23 256)) fun _ => zlp (fX67_putNode_B204 x1) zBIG 0)) else
  (zal 6803 0 x1 256 fun v29 => zcl (fX67_putByte v29) fun _ => zal 6807 0 x1 256 fun v31 => zcl (fX67_putByte v31) fun _ => zal 6814 0 (zi ((zi (2 * x1)) + 1)) 512 fun v33 => zcl (fX67_putItems 6815 (zi ((zi (18 * x1)) + 9)) v33) fun _ => zal 6814 0 (zi (2 * x1)) 512 fun v35 => zcl (fX67_putItems 6815 (zi (18 * x1)) v35) fun _ => zcl (fX67_countEntries x1) fun v37 => zcl (fX67_putByte v37) fun _ => zret 0)
def fX67_putNode_B24 (x1 : Int) (r24 : Int → zX) : Int → zX := fun x2 =>
  if (zi ((zi (3 * x1)) + 3)) ≤ x2 then
  (fX67_putNode_J49 x1) else
  (zal 6804 0 x2 768 fun v39 => zcl (fX67_putByte v39) fun _ => zlt (zi (x2 + 1)) fun v41 => r24 v41)
def fX67_putNode (x1 : Int) : zX :=
  zal 6800 0 x1 256 fun v1 => zcl (fX67_putByte v1) fun _ => zal 6801 0 x1 256 fun v3 => zcl (fX67_putWord v3) fun _ => zlt (zi (3 * x1)) fun v5 => zlp (fX67_putNode_B24 x1) zBIG v5
def fX67_behindOnTape_B24 (x2 : Int) (r24 : Int × Int → zX) : Int × Int → zX := fun (x3, x4) =>
  if 0 ≤ x3 then
  (zret x3) else
  (if x4 = x2 then
  (zret x3) else
  (zal 6802 0 x4 256 fun v2 => zcl (fX67_entryBehind v2 x4) fun v3 => zal 6802 0 x4 256 fun v4 => r24 (v3, v4)))
def fX67_behindOnTape_J20 (x1 : Int) (x2 : Int) (s0 : Int) : zX :=
  zlp (fX67_behindOnTape_B24 x2) zBIG (s0, x1)
def fX67_behindOnTape (x1 : Int) (x2 : Int) : zX :=
  zal 6800 0 x1 256 fun v1 => if ¬ v1 = 1 then
  (fX67_behindOnTape_J20 x1 x2 (-1)) else
  (zcl (fX67_entryBehind x1 0) fun v5 => fX67_behindOnTape_J20 x1 x2 v5)
def fX67_dump_J63 : zX :=
  zgf 6915 0 fun v5 => zcl (fX67_putByte (zi (Int.tdiv v5 256))) fun _ => zcl (fX67_putByte (Int.tmod v5 256)) fun _ => zgf 6872 0 fun v8 => zret v8
def fX67_dump_B44 (x1 : Int) (r44 : Int → zX) : Int → zX := fun x2 =>
  if x2 < 0 then
  (fX67_dump_J63) else
  (zcl (fX67_putNode x2) fun _ => zcl (fX67_behindOnTape x2 x1) fun v10 => r44 v10)
def fX67_dump (x1 : Int) : zX :=
  zcl (fX67_isNode x1) fun v1 => if v1 = 0 then
  (zret (-8)) else
  (if ¬ x1 = 0 then
  (zpf 6872 0 0 <| zpf 6915 0 0 <| zcl (fX67_putByte 82) fun _ => zcl (fX67_putByte 72) fun _ => zcl (fX67_putByte 1) fun _ => zlp (fX67_dump_B44 x1) zBIG x1) else
  (zret (-8)))
def fX67_tape (x1 : Int) : zX :=
  zgf 6872 0 fun v1 => zcl (fX67_in x1 0 (zi (v1 - 1))) fun v2 => if v2 = 0 then
  (zret (-1)) else
  (zal 6873 0 x1 98304 fun v3 => zret v3)
def fX67_alter_J67 (s1 : Int) : zX :=
  zpf 6872 0 s1 <| zgf 6872 0 fun v6 => zret v6
def fX67_alter (x1 : Int) (x2 : Int) : zX :=
  zgf 6872 0 fun v1 => zcl (fX67_in x1 0 v1) fun v2 => if v2 = 0 then
  (zret (-8)) else
  (zcl (fX67_in x2 0 255) fun v3 => if ¬ v3 = 0 then
  (if ¬ x1 = 98304 then
  (zas 6873 0 x1 98304 x2 <| zgf 6872 0 fun v4 => if ¬ x1 = v4 then
  (zgf 6872 0 fun v5 => fX67_alter_J67 v5) else
  (zgf 6872 0 fun v7 => fX67_alter_J67 (zi (v7 + 1)))) else
  (zret (-5))) else
  (zret (-8)))
def fX67_cut (x1 : Int) : zX :=
  zgf 6872 0 fun v1 => zcl (fX67_in x1 0 v1) fun v2 => if ¬ v2 = 0 then
  (zgf 6872 0 fun v3 => zlt (zi (v3 - x1)) fun v4 => zpf 6872 0 x1 <| zret v4) else
  (zret (-8))
def fX67_torn (x1 : Int) (x2 : Int) : zX :=
  zgf 6913 0 fun v1 => if ¬ v1 = 0 then
  (zret 0) else
  (zpf 6913 0 x1 <| zpf 6914 0 x2 <| zret 0)
def fX67_take_J62 (x3 : Int) : zX :=
  zgf 6915 0 fun v7 => zpf 6915 0 (Int.tmod (zi ((zi (31 * v7)) + x3)) 65536) <| zgf 6912 0 fun v8 => zpf 6912 0 (zi (v8 + 1)) <| zgf 6913 0 fun v9 => if v9 ≤ 0 then
  (zret x3) else
  (zret 0)
def fX67_take (x1 : Int) (x2 : Int) : zX :=
  zgf 6913 0 fun v1 => if v1 ≤ 0 then
  (zgf 6912 0 fun v2 => zgf 6872 0 fun v3 => if ¬ v2 = v3 then
  (zgf 6912 0 fun v4 => zal 6873 0 v4 98304 fun v5 => zcl (fX67_in v5 x1 x2) fun v6 => if ¬ v6 = 0 then
  (fX67_take_J62 v5) else
  (zgf 6912 0 fun v10 => zcl (fX67_torn 3 v10) fun _ => fX67_take_J62 v5)) else
  (zgf 6872 0 fun v12 => zcl (fX67_torn 1 v12) fun _ => zret 0)) else
  (zret 0)
def fX67_takeWord_J38 (x1 : Int) (x2 : Int) : zX :=
  zcl (fX67_isWord x2) fun v2 => if ¬ v2 = 0 then
  (zret x2) else
  (zcl (fX67_torn 3 x1) fun _ => zret x2)
def fX67_takeWord_B10 (x1 : Int) (r10 : Int × Int → zX) : Int × Int → zX := fun (x2, x4) =>
  if 5 ≤ x4 then
  (fX67_takeWord_J38 x1 x2) else
  (zcl (fX67_take 0 255) fun v4 => zlt (zl ((zl (256 * x2)) + v4)) fun v5 => zlt (zi (x4 + 1)) fun v6 => r10 (v5, v6))
def fX67_takeWord : zX :=
  zgf 6912 0 fun v1 => zlp (fX67_takeWord_B10 v1) zBIG (0, 0)
def fX67_labelAbove (x1 : Int) : zX :=
  if 0 ≤ x1 then
  (zal 6920 0 x1 9000 fun v1 => zret v1) else
  (zgf 6926 0 fun v2 => zal 6803 0 v2 256 fun v3 => zret v3)
def fX67_hasName_J52 (r6 : Int × Int → zX) (x1 : Int) (x2 : Int) (x5 : Int) (s0 : Int) : zX :=
  zlt (zi (x5 + 1)) fun v2 => r6 (s0, v2)
def fX67_hasName_J47 (r6 : Int × Int → zX) (x1 : Int) (x2 : Int) (x5 : Int) : zX :=
  fX67_hasName_J52 r6 x1 x2 x5 1
def fX67_hasName_J51 (r6 : Int × Int → zX) (x1 : Int) (x2 : Int) (x5 : Int) : zX :=
  fX67_hasName_J52 r6 x1 x2 x5 0
def fX67_hasName_B6 (x1 : Int) (x2 : Int) (r6 : Int × Int → zX) : Int × Int → zX := fun (x4, x5) =>
  zgf 6916 0 fun v1 => if v1 ≤ x5 then
  (zrb x4) else
  (if ¬ x4 = 0 then
  (fX67_hasName_J47 r6 x1 x2 x5) else
  (zal 6917 0 x5 9000 fun v3 => if ¬ v3 = x1 then
  (fX67_hasName_J51 r6 x1 x2 x5) else
  (zal 6919 0 x5 9000 fun v4 => if ¬ v4 = x2 then
  (fX67_hasName_J51 r6 x1 x2 x5) else
  (if x1 < 0 then
  (fX67_hasName_J51 r6 x1 x2 x5) else
  (fX67_hasName_J47 r6 x1 x2 x5)))))
def fX67_hasName (x1 : Int) (x2 : Int) : zX :=
  zlp (fX67_hasName_B6 x1 x2) zBIG (0, 0)
def fX67_takeHead_J77 (x1 : Int) (x2 : Int) (x3 : Int) (x5 : Int) : zX :=
  zas 6917 0 x2 9000 x1 <| zas 6918 0 x2 9000 x3 <| zas 6919 0 x2 9000 x5 <| zcl (fX67_labelAbove x1) fun v7 => zas 6920 0 x2 9000 v7 <| zas 6921 0 x2 9000 0 <| zas 6922 0 x2 9000 0 <| zas 6923 0 x2 9000 0 <| zgf 6916 0 fun v8 => zpf 6916 0 (zi (v8 + 1)) <| zret x2
def fX67_takeHead_J46 (x1 : Int) (x2 : Int) (x3 : Int) (x4 : Int) (x5 : Int) : zX :=
  zgf 6913 0 fun v6 => if ¬ v6 = 0 then
  (fX67_takeHead_J77 x1 x2 x3 x5) else
  (zgf 6925 0 fun v9 => if ¬ v9 = 0 then
  (fX67_takeHead_J77 x1 x2 x3 x5) else
  (zcl (fX67_hasName x1 x5) fun v10 => if v10 = 0 then
  (fX67_takeHead_J77 x1 x2 x3 x5) else
  (zcl (fX67_torn 4 x4) fun _ => fX67_takeHead_J77 x1 x2 x3 x5)))
def fX67_takeHead (x1 : Int) : zX :=
  zgf 6916 0 fun v1 => zcl (fX67_take 1 3) fun v2 => zgf 6912 0 fun v3 => zcl fX67_takeWord fun v4 => zgf 6913 0 fun v5 => if ¬ v5 = 0 then
  (fX67_takeHead_J46 x1 v1 v2 v3 v4) else
  (zcl (fX67_isName v4) fun v12 => if ¬ v12 = 0 then
  (fX67_takeHead_J46 x1 v1 v2 v3 v4) else
  (zcl (fX67_torn 3 v3) fun _ => fX67_takeHead_J46 x1 v1 v2 v3 v4))
def fX67_takeItems_J267 (r210 : Int → zX) (x1 : Int) (x3 : Int) (x4 : Int) (x5 : Int) : zX :=
  zlt (zi (x5 + 1)) fun v6 => r210 v6
def fX67_takeItems_B210 (x1 : Int) (x3 : Int) (x4 : Int) (r210 : Int → zX) : Int → zX := fun x5 =>
  zgf 6925 0 fun v4 => if v4 = 0 then
  (zret 0) else
  (if (zi (3 * x4)) ≤ x5 then
  (zret 0) else
  (if ¬ x1 = 6 then
  (zal 6929 0 x5 18 fun v5 => zas 6815 0 (zi (x3 + x5)) 4608 v5 <| fX67_takeItems_J267 r210 x1 x3 x4 x5) else
  (zal 6929 0 x5 18 fun v7 => zas 6813 0 (zi (x3 + x5)) 4608 v7 <| fX67_takeItems_J267 r210 x1 x3 x4 x5)))
def fX67_takeItems_J207 (x1 : Int) (x3 : Int) (x4 : Int) : zX :=
  zlp (fX67_takeItems_B210 x1 x3 x4) zBIG 0
def fX67_takeItems_J189 (x1 : Int) (x3 : Int) (x4 : Int) : zX :=
  zgf 6925 0 fun v3 => if v3 = 0 then
  (fX67_takeItems_J207 x1 x3 x4) else
  (zas 6814 0 (zi (Int.tdiv x3 9)) 512 x4 <| fX67_takeItems_J207 x1 x3 x4)
def fX67_takeItems_J165 (x1 : Int) (x2 : Int) (x3 : Int) (x4 : Int) : zX :=
  zgf 6925 0 fun v2 => if v2 = 0 then
  (fX67_takeItems_J189 x1 x3 x4) else
  (if ¬ x1 = 6 then
  (fX67_takeItems_J189 x1 x3 x4) else
  (zas 6812 0 x2 256 x4 <| fX67_takeItems_J207 x1 x3 x4))
def fX67_takeItems_J141 (r11 : Int → zX) (x1 : Int) (x2 : Int) (x3 : Int) (x4 : Int) (x5 : Int) : zX :=
  zcl (fX67_take 0 7) fun v12 => zas 6929 0 (zi ((zi (3 * x5)) + 2)) 18 v12 <| zlt (zi (x5 + 1)) fun v13 => r11 v13
def fX67_takeItems_J135 (r11 : Int → zX) (r68 : Int → zX) (x1 : Int) (x2 : Int) (x3 : Int) (x4 : Int) (x5 : Int) (x6 : Int) (x7 : Int) : zX :=
  zlt (zi (x7 + 1)) fun v15 => r68 v15
def fX67_takeItems_B68 (r11 : Int → zX) (x1 : Int) (x2 : Int) (x3 : Int) (x4 : Int) (x5 : Int) (x6 : Int) (r68 : Int → zX) : Int → zX := fun x7 =>
  if x5 ≤ x7 then
  (fX67_takeItems_J141 r11 x1 x2 x3 x4 x5) else
  (zgf 6913 0 fun v14 => if ¬ v14 = 0 then
  (fX67_takeItems_J135 r11 r68 x1 x2 x3 x4 x5 x6 x7) else
  (zal 6929 0 (zi (3 * x7)) 18 fun v16 => zal 6929 0 (zi (3 * x5)) 18 fun v17 => if ¬ v16 = v17 then
  (fX67_takeItems_J135 r11 r68 x1 x2 x3 x4 x5 x6 x7) else
  (zal 6929 0 (zi ((zi (3 * x7)) + 1)) 18 fun v18 => zal 6929 0 (zi ((zi (3 * x5)) + 1)) 18 fun v19 => if ¬ v18 = v19 then
  (fX67_takeItems_J135 r11 r68 x1 x2 x3 x4 x5 x6 x7) else
  (zcl (fX67_torn 3 x6) fun _ => fX67_takeItems_J135 r11 r68 x1 x2 x3 x4 x5 x6 x7))))
def fX67_takeItems_B11 (x1 : Int) (x2 : Int) (x3 : Int) (x4 : Int) (r11 : Int → zX) : Int → zX := fun x5 =>
  if x4 ≤ x5 then
  (fX67_takeItems_J165 x1 x2 x3 x4) else
  (zgf 6913 0 fun v8 => if ¬ v8 = 0 then
  (fX67_takeItems_J165 x1 x2 x3 x4) else
  (zgf 6912 0 fun v9 => zcl (fX67_take 0 16) fun v10 => zas 6929 0 (zi (3 * x5)) 18 v10 <| zcl (fX67_take 0 8) fun v11 => zas 6929 0 (zi ((zi (3 * x5)) + 1)) 18 v11 <| zlp (fX67_takeItems_B68 r11 x1 x2 x3 x4 x5 v9) zBIG 0))
def fX67_takeItems (x1 : Int) (x2 : Int) (x3 : Int) : zX :=
  zcl (fX67_take 0 x1) fun v1 => zlp (fX67_takeItems_B11 x1 x2 x3 v1) zBIG 0
def fX67_takeLetters_J174 (x2 : Int) (x3 : Int) : zX :=
  zgf 6925 0 fun v2 => if v2 = 0 then
  (zret 0) else
  (zas 6817 0 x2 256 x3 <| zret 0)
def fX67_takeLetters_J168 (r33 : Int → zX) (x1 : Int) (x2 : Int) (x3 : Int) (x4 : Int) : zX :=
  zlt (zi (x4 + 1)) fun v11 => r33 v11
def fX67_takeLetters_J125 (r33 : Int → zX) (x1 : Int) (x2 : Int) (x3 : Int) (x4 : Int) (x6 : Int) : zX :=
  zcl fX67_takeWord fun v9 => zgf 6925 0 fun v10 => if v10 = 0 then
  (fX67_takeLetters_J168 r33 x1 x2 x3 x4) else
  (zas 6819 0 (zi ((zi (128 * x2)) + x4)) 32768 x6 <| zas 6818 0 (zi ((zi (128 * x2)) + x4)) 32768 v9 <| fX67_takeLetters_J168 r33 x1 x2 x3 x4)
def fX67_takeLetters_J89 (r33 : Int → zX) (x1 : Int) (x2 : Int) (x3 : Int) (x4 : Int) (x5 : Int) (x6 : Int) : zX :=
  zal 6928 0 x6 32 fun v7 => zas 6928 0 x6 32 (zi (v7 + 1)) <| zgf 6913 0 fun v8 => if ¬ v8 = 0 then
  (fX67_takeLetters_J125 r33 x1 x2 x3 x4 x6) else
  (zal 6928 0 x6 32 fun v12 => if ¬ v12 = 5 then
  (fX67_takeLetters_J125 r33 x1 x2 x3 x4 x6) else
  (zcl (fX67_torn 3 x5) fun _ => fX67_takeLetters_J125 r33 x1 x2 x3 x4 x6))
def fX67_takeLetters_B33 (x1 : Int) (x2 : Int) (x3 : Int) (r33 : Int → zX) : Int → zX := fun x4 =>
  if x3 ≤ x4 then
  (fX67_takeLetters_J174 x2 x3) else
  (zgf 6913 0 fun v3 => if ¬ v3 = 0 then
  (fX67_takeLetters_J174 x2 x3) else
  (zgf 6912 0 fun v4 => zcl (fX67_take 0 31) fun v5 => zgf 6913 0 fun v6 => if ¬ v6 = 0 then
  (fX67_takeLetters_J89 r33 x1 x2 x3 x4 v4 v5) else
  (zal 6920 0 x1 9000 fun v14 => zcl (fX67_dominates v5 v14) fun v15 => if ¬ v15 = 0 then
  (fX67_takeLetters_J89 r33 x1 x2 x3 x4 v4 v5) else
  (zcl (fX67_torn 5 v4) fun _ => fX67_takeLetters_J89 r33 x1 x2 x3 x4 v4 v5))))
def fX67_takeLetters_J21 (x1 : Int) (x2 : Int) : zX :=
  zcl (fX67_take 0 128) fun v1 => zlp (fX67_takeLetters_B33 x1 x2 v1) zBIG 0
def fX67_takeLetters_B2 (x1 : Int) (x2 : Int) (r2 : Int → zX) : Int → zX := fun x3 =>
  if 32 ≤ x3 then
  (fX67_takeLetters_J21 x1 x2) else
  (zas 6928 0 x3 32 0 <| zlt (zi (x3 + 1)) fun v17 => r2 v17)
def fX67_takeLetters (x1 : Int) (x2 : Int) : zX :=
  zlp (fX67_takeLetters_B2 x1 x2) zBIG 0
def fX67_charge_J25 (x2 : Int) (x3 : Int) : zX :=
  if x3 < 0 then
  (zgf 6927 0 fun v1 => zpf 6927 0 (zl (v1 + x2)) <| zret 0) else
  (zal 6922 0 x3 9000 fun v2 => zas 6922 0 x3 9000 (zl (v2 + x2)) <| zret 0)
def fX67_charge_B2 (x2 : Int) (r2 : Int → zX) : Int → zX := fun x3 =>
  if x3 < 0 then
  (fX67_charge_J25 x2 x3) else
  (zal 6921 0 x3 9000 fun v3 => if ¬ v3 = 0 then
  (fX67_charge_J25 x2 x3) else
  (zal 6917 0 x3 9000 fun v4 => r2 v4))
def fX67_charge (x1 : Int) (x2 : Int) : zX :=
  zlp (fX67_charge_B2 x2) zBIG x1
def fX67_takeSegment_J112 (x1 : Int) (x2 : Int) (x4 : Int) : zX :=
  zgf 6925 0 fun v8 => if v8 = 0 then
  (zret x4) else
  (zas 6805 0 x1 256 x2 <| zret x4)
def fX67_takeSegment_J106 (r64 : Int → zX) (x1 : Int) (x2 : Int) (x4 : Int) (x5 : Int) : zX :=
  zlt (zi (x5 + 1)) fun v12 => r64 v12
def fX67_takeSegment_B64 (x1 : Int) (x2 : Int) (x4 : Int) (r64 : Int → zX) : Int → zX := fun x5 =>
  if x4 ≤ x5 then
  (fX67_takeSegment_J112 x1 x2 x4) else
  (zgf 6913 0 fun v9 => if ¬ v9 = 0 then
  (fX67_takeSegment_J112 x1 x2 x4) else
  (zcl fX67_takeWord fun v10 => zgf 6925 0 fun v11 => if v11 = 0 then
  (fX67_takeSegment_J106 r64 x1 x2 x4 x5) else
  (zas 6816 0 (zi ((zi (1024 * x1)) + x5)) 262144 v10 <| fX67_takeSegment_J106 r64 x1 x2 x4 x5)))
def fX67_takeSegment_J61 (x1 : Int) (x2 : Int) (x4 : Int) : zX :=
  zlp (fX67_takeSegment_B64 x1 x2 x4) zBIG 0
def fX67_takeSegment (x1 : Int) : zX :=
  zcl (fX67_take 0 63) fun v1 => zgf 6912 0 fun v2 => zcl (fX67_take 0 255) fun v3 => zlt (zi (256 * v3)) fun v4 => zcl (fX67_take 0 255) fun v5 => zlt (zi (v4 + v5)) fun v6 => zgf 6913 0 fun v7 => if ¬ v7 = 0 then
  (fX67_takeSegment_J61 x1 v1 v6) else
  (if v6 ≤ 1024 then
  (fX67_takeSegment_J61 x1 v1 v6) else
  (zcl (fX67_torn 3 v2) fun _ => fX67_takeSegment_J61 x1 v1 v6))
def fX67_takeDirectory_J82 (x1 : Int) (x3 : Int) (x5 : Int) : zX :=
  zas 6920 0 x1 9000 x3 <| zas 6921 0 x1 9000 x5 <| zret 0
def fX67_takeDirectory_J43 (x1 : Int) (x3 : Int) (x4 : Int) : zX :=
  zgf 6912 0 fun v5 => zcl (fX67_take 0 255) fun v6 => zgf 6913 0 fun v7 => if ¬ v7 = 0 then
  (fX67_takeDirectory_J82 x1 x3 v6) else
  (if x3 = x4 then
  (fX67_takeDirectory_J82 x1 x3 v6) else
  (if ¬ v6 = 0 then
  (fX67_takeDirectory_J82 x1 x3 v6) else
  (zcl (fX67_torn 5 v5) fun _ => fX67_takeDirectory_J82 x1 x3 v6)))
def fX67_takeDirectory (x1 : Int) : zX :=
  zgf 6912 0 fun v1 => zcl (fX67_take 0 31) fun v2 => zal 6920 0 x1 9000 fun v3 => zgf 6913 0 fun v4 => if ¬ v4 = 0 then
  (fX67_takeDirectory_J43 x1 v2 v3) else
  (zcl (fX67_dominates v2 v3) fun v9 => if ¬ v9 = 0 then
  (fX67_takeDirectory_J43 x1 v2 v3) else
  (zcl (fX67_torn 5 v1) fun _ => fX67_takeDirectory_J43 x1 v2 v3))
def fX67_lengthAhead : zX :=
  zgf 6912 0 fun v1 => zal 6873 0 (zi (v1 + 1)) 98304 fun v2 => zgf 6912 0 fun v3 => zal 6873 0 (zi (v3 + 2)) 98304 fun v4 => zret (zi ((zi (256 * v2)) + v4))
def fX67_makeRead_J115 (x1 : Int) (x4 : Int) (x5 : Int) (s0 : Int) : zX :=
  zal 6918 0 x1 9000 fun v8 => zal 6919 0 x1 9000 fun v9 => zcl (fX67_make v8 x4 v9 x5 s0) fun v10 => zas 6924 0 x1 9000 v10 <| zal 6924 0 x1 9000 fun v11 => zret v11
def fX67_makeRead_J71 (x1 : Int) (x4 : Int) (s0 : Int) : zX :=
  zal 6918 0 x1 9000 fun v6 => if ¬ v6 = 1 then
  (zal 6918 0 x1 9000 fun v7 => if ¬ v7 = 2 then
  (fX67_makeRead_J115 x1 x4 s0 0) else
  (zcl fX67_lengthAhead fun v12 => fX67_makeRead_J115 x1 x4 s0 v12)) else
  (zgf 6912 0 fun v13 => zal 6873 0 (zi (v13 + 1)) 98304 fun v14 => fX67_makeRead_J115 x1 x4 s0 v14)
def fX67_makeRead_J24 (x1 : Int) (x2 : Int) (s0 : Int) : zX :=
  zal 6873 0 x2 98304 fun v3 => zpf 6912 0 (zi ((zi (x2 + 1)) + (zi (3 * v3)))) <| zal 6918 0 x1 9000 fun v4 => if ¬ v4 = 1 then
  (zal 6803 0 s0 256 fun v5 => fX67_makeRead_J71 x1 s0 v5) else
  (zgf 6912 0 fun v15 => zal 6873 0 v15 98304 fun v16 => fX67_makeRead_J71 x1 s0 v16)
def fX67_makeRead (x1 : Int) (x2 : Int) : zX :=
  zal 6917 0 x1 9000 fun v1 => if 0 ≤ v1 then
  (zal 6924 0 v1 9000 fun v2 => fX67_makeRead_J24 x1 x2 v2) else
  (zgf 6926 0 fun v17 => fX67_makeRead_J24 x1 x2 v17)
def fX67_takeNode_J186 (x1 : Int) (x2 : Int) (x8 : Int) : zX :=
  zgf 6913 0 fun v11 => if ¬ v11 = 0 then
  (zret 0) else
  (zal 6918 0 x2 9000 fun v12 => zcl (fX67_costOf v12 x8) fun v13 => zcl (fX67_charge x1 v13) fun _ => zret 0)
def fX67_takeNode_J75 (x1 : Int) (x2 : Int) (x7 : Int) : zX :=
  zcl (fX67_takeItems 6 x7 (zi (18 * x7))) fun _ => zal 6918 0 x2 9000 fun v8 => if ¬ v8 = 1 then
  (zal 6918 0 x2 9000 fun v9 => if ¬ v9 = 2 then
  (zcl (fX67_takeLetters x2 x7) fun _ => fX67_takeNode_J186 x1 x2 0) else
  (zcl (fX67_takeSegment x7) fun v15 => fX67_takeNode_J186 x1 x2 v15)) else
  (zcl (fX67_takeDirectory x2) fun _ => zcl (fX67_takeItems 3 x7 (zi ((zi (18 * x7)) + 9))) fun _ => zcl (fX67_takeItems 3 x7 (zi (18 * x7))) fun _ => zcl (fX67_take 0 255) fun v19 => zas 6923 0 x2 9000 v19 <| zal 6921 0 x2 9000 fun v20 => fX67_takeNode_J186 x1 x2 v20)
def fX67_takeNode (x1 : Int) : zX :=
  zcl (fX67_takeHead x1) fun v1 => zcl (fX67_take 0 7) fun v2 => zcl (fX67_take v2 7) fun v3 => zcl (fX67_take v3 7) fun v4 => zgf 6912 0 fun v5 => zgf 6925 0 fun v6 => if v6 = 0 then
  (fX67_takeNode_J75 x1 v1 (-1)) else
  (zcl (fX67_makeRead v1 v5) fun v21 => zcl (fX67_setBrackets v21 v2 v3 v4) fun _ => zpf 6912 0 v5 <| fX67_takeNode_J75 x1 v1 v21)
def fX67_takeAll_J244 : zX :=
  zgf 6913 0 fun v10 => if ¬ v10 = 0 then
  (zret 0) else
  (zgf 6912 0 fun v11 => zgf 6872 0 fun v12 => if v12 ≤ v11 then
  (zret 0) else
  (zgf 6912 0 fun v13 => zcl (fX67_torn 8 v13) fun _ => zret 0))
def fX67_takeAll_J183 : zX :=
  zgf 6915 0 fun v3 => zgf 6912 0 fun v4 => zcl (fX67_take 0 255) fun v5 => zlt (zi (256 * v5)) fun v6 => zcl (fX67_take 0 255) fun v7 => zlt (zi (v6 + v7)) fun v8 => zgf 6913 0 fun v9 => if ¬ v9 = 0 then
  (fX67_takeAll_J244) else
  (if v8 = v3 then
  (fX67_takeAll_J244) else
  (zcl (fX67_torn 7 v4) fun _ => fX67_takeAll_J244))
def fX67_takeAll_J165 (r110 : Int × Int → zX) (x2 : Int) (s0 : Int) : zX :=
  if s0 = 0 then
  (r110 (x2, s0)) else
  (zal 6923 0 x2 9000 fun v20 => zas 6923 0 x2 9000 (zi (v20 - 1)) <| r110 (x2, s0))
def fX67_takeAll_J164 (r110 : Int × Int → zX) (x2 : Int) : zX :=
  fX67_takeAll_J165 r110 x2 0
def fX67_takeAll_J149 (r110 : Int × Int → zX) (x2 : Int) : zX :=
  zgf 6913 0 fun v19 => if ¬ v19 = 0 then
  (fX67_takeAll_J164 r110 x2) else
  (if x2 < 0 then
  (fX67_takeAll_J164 r110 x2) else
  (fX67_takeAll_J165 r110 x2 1))
def fX67_takeAll_B126 (r110 : Int × Int → zX) (r126 : Int → zX) : Int → zX := fun x2 =>
  if x2 < 0 then
  (fX67_takeAll_J149 r110 x2) else
  (zal 6923 0 x2 9000 fun v21 => if ¬ v21 = 0 then
  (fX67_takeAll_J149 r110 x2) else
  (zal 6917 0 x2 9000 fun v22 => r126 v22))
def fX67_takeAll_B110 (r110 : Int × Int → zX) : Int × Int → zX := fun (x2, x3) =>
  if x3 = 0 then
  (fX67_takeAll_J183) else
  (zcl (fX67_takeNode x2) fun _ => zgf 6916 0 fun v17 => zlt (zi (v17 - 1)) fun v18 => zlp (fX67_takeAll_B126 r110) zBIG v18)
def fX67_takeAll_J109 (x2 : Int) (s0 : Int) : zX :=
  zlp (fX67_takeAll_B110) zBIG (x2, s0)
def fX67_takeAll_J95 : zX :=
  zgf 6913 0 fun v2 => if ¬ v2 = 0 then
  (fX67_takeAll_J109 (-1) 0) else
  (fX67_takeAll_J109 (-1) 1)
def fX67_takeAll_J89 (r27 : Int → zX) (x2 : Int) : zX :=
  zlt (zi (x2 + 1)) fun v26 => r27 v26
def fX67_takeAll_J59 (r27 : Int → zX) (x2 : Int) (s0 : Int) : zX :=
  zcl (fX67_take 0 255) fun v24 => zgf 6913 0 fun v25 => if ¬ v25 = 0 then
  (fX67_takeAll_J89 r27 x2) else
  (if v24 = s0 then
  (fX67_takeAll_J89 r27 x2) else
  (zcl (fX67_torn 2 x2) fun _ => fX67_takeAll_J89 r27 x2))
def fX67_takeAll_B27 (r27 : Int → zX) : Int → zX := fun x2 =>
  if 3 ≤ x2 then
  (fX67_takeAll_J95) else
  (zgf 6913 0 fun v23 => if ¬ v23 = 0 then
  (fX67_takeAll_J95) else
  (if ¬ x2 = 0 then
  (if ¬ x2 = 1 then
  (fX67_takeAll_J59 r27 x2 1) else
  (fX67_takeAll_J59 r27 x2 72)) else
  (fX67_takeAll_J59 r27 x2 82)))
def fX67_takeAll (x1 : Int) : zX :=
  zpb 6925 0 x1 <| zpf 6916 0 0 <| zpf 6912 0 0 <| zpf 6915 0 0 <| zpf 6927 0 0 <| zlp (fX67_takeAll_B27) zBIG 0
def fX67_hasRoomFor_J85 (r38 : Int × Int → zX) (x4 : Int) (s0 : Int) : zX :=
  zlt (zi (x4 + 1)) fun v6 => r38 (s0, v6)
def fX67_hasRoomFor_J84 (r38 : Int × Int → zX) (x4 : Int) : zX :=
  fX67_hasRoomFor_J85 r38 x4 0
def fX67_hasRoomFor_J80 (r38 : Int × Int → zX) (x4 : Int) : zX :=
  fX67_hasRoomFor_J85 r38 x4 1
def fX67_hasRoomFor_B38 (r38 : Int × Int → zX) : Int × Int → zX := fun (x3, x4) =>
  zgf 6916 0 fun v5 => if v5 ≤ x4 then
  (zrb x3) else
  (if x3 = 0 then
  (fX67_hasRoomFor_J84 r38 x4) else
  (zal 6921 0 x4 9000 fun v7 => if v7 = 0 then
  (fX67_hasRoomFor_J80 r38 x4) else
  (zal 6922 0 x4 9000 fun v8 => zal 6921 0 x4 9000 fun v9 => if v9 < v8 then
  (fX67_hasRoomFor_J84 r38 x4) else
  (fX67_hasRoomFor_J80 r38 x4))))
def fX67_hasRoomFor_J34 (s0 : Int) : zX :=
  zlp (fX67_hasRoomFor_B38) zBIG (s0, 0)
def fX67_hasRoomFor (x1 : Int) : zX :=
  zcl (fX67_account x1) fun v1 => zal 6808 0 v1 256 fun v2 => zgf 6927 0 fun v3 => zal 6807 0 v1 256 fun v4 => if v4 < (zl (v2 + v3)) then
  (fX67_hasRoomFor_J34 0) else
  (fX67_hasRoomFor_J34 1)
def fX67_reload_J99 (x2 : Int) (s1 : Int) : zX :=
  zpf 6869 0 s1 <| zgf 6913 0 fun v7 => if v7 ≤ 0 then
  (zcl (fX67_takeAll 1) fun _ => zal 6924 0 0 9000 fun v9 => zas 6801 0 v9 256 x2 <| zal 6924 0 0 9000 fun v10 => zret v10) else
  (zgf 6913 0 fun v11 => zret (zi ((-10) - v11)))
def fX67_reload_J83 (x2 : Int) : zX :=
  zgf 6913 0 fun v6 => if v6 ≤ 0 then
  (fX67_reload_J99 x2 (-1)) else
  (zgf 6914 0 fun v12 => fX67_reload_J99 x2 v12)
def fX67_reload_J66 (x2 : Int) (s0 : Int) : zX :=
  if ¬ s0 = 0 then
  (fX67_reload_J83 x2) else
  (zgf 6872 0 fun v13 => zcl (fX67_torn 6 v13) fun _ => fX67_reload_J83 x2)
def fX67_reload_J61 (x2 : Int) : zX :=
  fX67_reload_J66 x2 1
def fX67_reload (x1 : Int) (x2 : Int) : zX :=
  zcl (fX67_isOf x1 1) fun v1 => if v1 = 0 then
  (zret (-8)) else
  (zcl (fX67_isName x2) fun v2 => if ¬ v2 = 0 then
  (zcl (fX67_entryNamed x1 x2) fun v3 => if v3 < 0 then
  (zpf 6913 0 0 <| zpf 6926 0 x1 <| zcl (fX67_takeAll 0) fun _ => zgf 6913 0 fun v5 => if 0 < v5 then
  (fX67_reload_J61 x2) else
  (zcl (fX67_hasRoomFor x1) fun v15 => if v15 = 0 then
  (fX67_reload_J66 x2 0) else
  (fX67_reload_J61 x2))) else
  (zret (-6))) else
  (zret (-8)))
def fX67_count_J65 (r42 : Int × Int → zX) (x3 : Int) (s0 : Int) : zX :=
  zlt (zi (x3 + 1)) fun v3 => r42 (s0, v3)
def fX67_count_B42 (r42 : Int × Int → zX) : Int × Int → zX := fun (x2, x3) =>
  if 256 ≤ x3 then
  (zret x2) else
  (zal 6800 0 x3 256 fun v2 => if v2 ≤ 0 then
  (fX67_count_J65 r42 x3 x2) else
  (fX67_count_J65 r42 x3 (zi (x2 + 1))))
def fX67_count_J98 (r76 : Int × Int → zX) (x3 : Int) (s0 : Int) : zX :=
  zlt (zi (x3 + 1)) fun v6 => r76 (s0, v6)
def fX67_count_B76 (r76 : Int × Int → zX) : Int × Int → zX := fun (x2, x3) =>
  if 8 ≤ x3 then
  (zret x2) else
  (zal 6820 0 x3 8 fun v5 => if v5 = 0 then
  (fX67_count_J98 r76 x3 x2) else
  (fX67_count_J98 r76 x3 (zi (x2 + 1))))
def fX67_count (x1 : Int) : zX :=
  if x1 = 0 then
  (zlp (fX67_count_B42) zBIG (0, 0)) else
  if x1 = 1 then
  (zlp (fX67_count_B76) zBIG (0, 0)) else
  if x1 = 2 then
  (zgf 6867 0 fun v8 => zret v8) else
  if x1 = 3 then
  (zgf 6872 0 fun v10 => zret v10) else
  if x1 = 4 then
  (zgf 6864 0 fun v12 => zret v12) else
  if x1 = 5 then
  (zgf 6865 0 fun v14 => zret v14) else
  (zret (-8))
