def fX0_isIn (x0 : Int) (x2 : Int) (x4 : Int) : zX :=
  if x0 < x2 then
  (zret 0) else
  (if x4 < x0 then
  (zret 0) else
  (zret 1))
def fX1_node (x1 : Int) : zX :=
  zcl (fX0_isIn x1 0 255) fun v1 => if v1 = 0 then
  (zret (-1)) else
  (zib x1 256 <| zgf 501 x1 fun v4 => if v4 ≤ 0 then
  (zret (-1)) else
  (zib x1 256 <| zret x1))
def fX4_isDirectory (x0 : Int) : zX :=
  zgf 501 x0 fun v1 => if ¬ v1 = 1 then
  (zret 0) else
  (zret 1)
def fX1_directory (x1 : Int) : zX :=
  zcl (fX1_node x1) fun v1 => if v1 < 0 then
  (zret (-1)) else
  (zcl (fX4_isDirectory v1) fun v3 => if v3 = 0 then
  (zret (-1)) else
  (zret v1))
def fX0_isWord (x0 : Int) : zX :=
  if x0 < 0 then
  (zret 0) else
  (if 68719476735 < x0 then
  (zret 0) else
  (zret 1))
def fX0_isName_J65 (r23 : Int × Int → zX) (x0 : Int) (x3 : Int) (s0 : Int) : zX :=
  zlt (zi (x3 + (-6))) fun v3 => r23 (s0, v3)
def fX0_isName_J55 (r23 : Int × Int → zX) (x0 : Int) (x3 : Int) (x4 : Int) : zX :=
  if ¬ x4 = 0 then
  (fX0_isName_J65 r23 x0 x3 0) else
  (fX0_isName_J65 r23 x0 x3 1)
def fX0_isName_B23 (x0 : Int) (r23 : Int × Int → zX) : Int × Int → zX := fun (x2, x3) =>
  if x3 < 0 then
  (zret 1) else
  (zlt (zi ((x0 / 2 ^ (x3 % 64).toNat) % 64)) fun v2 => if 38 < v2 then
  (zret 0) else
  (if x2 = 0 then
  (fX0_isName_J55 r23 x0 x3 v2) else
  (if v2 ≤ 0 then
  (fX0_isName_J55 r23 x0 x3 v2) else
  (zret 0))))
def fX0_isName (x0 : Int) : zX :=
  zcl (fX0_isWord x0) fun v1 => if v1 = 0 then
  (zret 0) else
  (if ¬ (x0 / 1073741824) = 0 then
  (zlp (fX0_isName_B23 x0) zBIG (0, 30)) else
  (zret 0))
def fX0_isLabel (x0 : Int) : zX :=
  zcl (fX0_isIn x0 0 31) fun v1 => zrb v1
def fX0_dominates (x0 : Int) (x1 : Int) : zX :=
  if (x0 / 8) < (x1 / 8) then
  (zret 0) else
  (if ¬ (zan (x1 % 8) (-1 - x0)) = 0 then
  (zret 0) else
  (zret 1))
def fX0_isRightLimit_J20 (s0 : Int) (s1 : Int) : zX :=
  zcl (fX0_isIn s0 s1 255) fun v2 => if v2 = 0 then
  (zret 0) else
  (zret 1)
def fX0_isRightLimit (x0 : Int) (x1 : Int) (x2 : Int) : zX :=
  zcl (fX0_dominates x0 x1) fun v1 => if v1 = 0 then
  (zret 0) else
  (if ¬ x0 = x1 then
  (fX0_isRightLimit_J20 x2 1) else
  (fX0_isRightLimit_J20 x2 0))
def fX2_bucket (x0 : Int) (x1 : Int) : zX :=
  znn x0 <| zlt (zl ((zl ((zxR x1 (x1 % 18446744073709551616 / 131072)) * 31)) + (zl (x0 * 7919)))) fun v2 => zret (zi ((zxR v2 (v2 % 18446744073709551616 / 8388608)) % 256))
def fX2_find_J36 (r12 : Int → zX) (x1 : Int) (x2 : Int) (x4 : Int) : zX :=
  znn x4 <| zgf 507 x4 fun v6 => r12 v6
def fX2_find_B12 (x1 : Int) (x2 : Int) (r12 : Int → zX) : Int → zX := fun x4 =>
  if x4 < 0 then
  (zret x4) else
  (zgf 504 x4 fun v4 => if ¬ v4 = x1 then
  (fX2_find_J36 r12 x1 x2 x4) else
  (zgf 502 x4 fun v7 => if v7 = x2 then
  (zret x4) else
  (fX2_find_J36 r12 x1 x2 x4)))
def fX2_find (x1 : Int) (x2 : Int) : zX :=
  zcl (fX2_bucket x1 x2) fun v1 => zal 300 0 v1 256 fun v2 => zlp (fX2_find_B12 x1 x2) zBIG v2
def fX1_account_B2 (r2 : Int → zX) : Int → zX := fun x2 =>
  znn x2 <| zgf 516 x2 fun v2 => if ¬ v2 = 0 then
  (zret x2) else
  (zgf 504 x2 fun v3 => r2 v3)
def fX1_account (x1 : Int) : zX :=
  zlp (fX1_account_B2) zBIG x1
def fX1_bears (x1 : Int) (x2 : Int) : zX :=
  zcl (fX1_account x1) fun v1 => znn v1 <| zgf 517 v1 fun v3 => zgf 516 v1 fun v4 => if v4 < (zi (v3 + x2)) then
  (zret 0) else
  (zret 1)
def fX1_free_J20 (x1 : Int) : zX :=
  zib x1 256 <| zret x1
def fX1_free_B2 (r2 : Int → zX) : Int → zX := fun x1 =>
  zib x1 256 <| zgf 501 x1 fun v3 => if v3 ≤ 0 then
  (fX1_free_J20 x1) else
  (zlt (zi (x1 + 1)) fun v6 => r2 v6)
def fX1_free : zX :=
  zlp (fX1_free_B2) zBIG 0
def fX5_clear (x0 : Int) : zX :=
  zpf 602 x0 0 <| zret 0
def fX4_setBrackets (x0 : Int) (x1 : Int) (x2 : Int) (x3 : Int) : zX :=
  zpf 509 x0 x1 <| zpf 510 x0 x2 <| zpf 511 x0 x3 <| zret 0
def fX4_begin (x0 : Int) (x1 : Int) (x2 : Int) (x4 : Int) : zX :=
  zpf 501 x0 x1 <| zpf 502 x0 x2 <| zpf 503 x0 x4 <| zcl (fX5_clear (3 * x0)) fun _ => zcl (fX5_clear (3 * x0 + 1)) fun _ => zcl (fX5_clear (3 * x0 + 2)) fun _ => zpf 520 x0 (-1) <| zcl (fX4_setBrackets x0 4 4 4) fun _ => zpf 512 x0 0 <| zpf 513 x0 (-1) <| zpf 514 x0 (-1) <| zpf 515 x0 0 <| zpf 516 x0 0 <| zpf 517 x0 0 <| zpf 521 x0 0 <| zpf 522 x0 0 <| zret 0
def fX4_initial (x0 : Int) (x1 : Int) : zX :=
  if ¬ x1 = 1 then
  (zret (3 * x0 + 1)) else
  (zret (3 * x0 + 2))
def fX5_person (x0 : Int) (x1 : Int) : zX :=
  zal 600 x0 x1 (zacl x0) fun v1 => zret (zi (Int.tdiv v1 16))
def fX5_project (x0 : Int) (x1 : Int) : zX :=
  zal 600 x0 x1 (zacl x0) fun v1 => zret (Int.tmod v1 16)
def fX5_key (x0 : Int) (x1 : Int) : zX :=
  zret (zi ((zi (16 * x0)) + x1))
def fX5_find_B9 (x0 : Int) (x3 : Int) (r9 : Int → zX) : Int → zX := fun x4 =>
  zgf 602 x0 fun v2 => if v2 ≤ x4 then
  (zret (-1)) else
  (zal 600 x0 x4 (zacl x0) fun v3 => if ¬ v3 = x3 then
  (zlt (zi (x4 + 1)) fun v4 => r9 v4) else
  (zret x4))
def fX5_find (x0 : Int) (x1 : Int) (x2 : Int) : zX :=
  zcl (fX5_key x1 x2) fun v1 => zlp (fX5_find_B9 x0 v1) zBIG 0
def fX5_remove_B12 (x0 : Int) (r12 : Int → zX) : Int → zX := fun x2 =>
  zgf 602 x0 fun v2 => if v2 ≤ x2 then
  (zret 0) else
  (zal 600 x0 (zi (x2 + 1)) (zacl x0) fun v3 => zas 600 x0 x2 (zacl x0) v3 <| zal 601 x0 (zi (x2 + 1)) (zacl x0) fun v4 => zas 601 x0 x2 (zacl x0) v4 <| zlt (zi (x2 + 1)) fun v5 => r12 v5)
def fX5_remove (x0 : Int) (x1 : Int) : zX :=
  zgf 602 x0 fun v1 => zpf 602 x0 (zi (v1 - 1)) <| zlp (fX5_remove_B12 x0) zBIG x1
def fX5_set_J66 (x0 : Int) (x1 : Int) (x2 : Int) (x3 : Int) (x4 : Int) : zX :=
  zcl (fX5_key x1 x2) fun v2 => zas 600 x0 x4 (zacl x0) v2 <| zas 601 x0 x4 (zacl x0) x3 <| zret 0
def fX5_set (x0 : Int) (x1 : Int) (x2 : Int) (x3 : Int) : zX :=
  zcl (fX5_find x0 x1 x2) fun v1 => if ¬ x3 = 8 then
  (if 0 ≤ v1 then
  (fX5_set_J66 x0 x1 x2 x3 v1) else
  (zgf 602 x0 fun v3 => if ¬ v3 = (zacl x0) then
  (zgf 602 x0 fun v4 => zgf 602 x0 fun v5 => zpf 602 x0 (zi (v5 + 1)) <| fX5_set_J66 x0 x1 x2 x3 v4) else
  (zret (-5)))) else
  (if 0 ≤ v1 then
  (zcl (fX5_remove x0 v1) fun v6 => zret v6) else
  (zret (-1)))
def fX5_take_J48 (r2 : Int → zX) (x0 : Int) (x1 : Int) (x2 : Int) : zX :=
  zlt (zi (x2 + 1)) fun v6 => r2 v6
def fX5_take_B2 (x0 : Int) (x1 : Int) (r2 : Int → zX) : Int → zX := fun x2 =>
  znn x1 <| zgf 602 x1 fun v2 => if v2 ≤ x2 then
  (zret 0) else
  (zcl (fX5_person x1 x2) fun v3 => zcl (fX5_project x1 x2) fun v4 => zcl (fX5_find x0 v3 v4) fun v5 => if 0 ≤ v5 then
  (fX5_take_J48 r2 x0 x1 x2) else
  (zcl (fX5_person x1 x2) fun v7 => zcl (fX5_project x1 x2) fun v8 => zal 601 x1 x2 (zacl x1) fun v9 => zcl (fX5_set x0 v7 v8 v9) fun v10 => fX5_take_J48 r2 x0 x1 x2))
def fX5_take (x0 : Int) (x1 : Int) : zX :=
  zlp (fX5_take_B2 x0 x1) zBIG 0
def fX4_append_J41 (x0 : Int) (x1 : Int) : zX :=
  zpf 514 x0 x1 <| zgf 515 x0 fun v5 => zpf 515 x0 (zi (v5 + 1)) <| zret 0
def fX4_append (x0 : Int) (x1 : Int) : zX :=
  znn x1 <| zpf 504 x1 x0 <| zgf 514 x0 fun v2 => zpf 505 x1 v2 <| zpf 506 x1 (-1) <| zgf 514 x0 fun v3 => if v3 < 0 then
  (zpf 513 x0 x1 <| fX4_append_J41 x0 x1) else
  (zgf 514 x0 fun v6 => znn v6 <| zpf 506 v6 x1 <| fX4_append_J41 x0 x1)
def fX2_add (x1 : Int) : zX :=
  znn x1 <| zgf 504 x1 fun v2 => zgf 502 x1 fun v3 => zcl (fX2_bucket v2 v3) fun v4 => zal 300 0 v4 256 fun v5 => zpf 507 x1 v5 <| zas 300 0 v4 256 x1 <| zret 0
def fX4_isMailbox (x0 : Int) : zX :=
  zgf 501 x0 fun v1 => if ¬ v1 = 3 then
  (zret 0) else
  (zret 1)
def fX4_isSegment (x0 : Int) : zX :=
  zgf 501 x0 fun v1 => if ¬ v1 = 2 then
  (zret 0) else
  (zret 1)
def fX0_records (x0 : Int) : zX :=
  zret (zi (Int.tdiv (zi ((zi (x0 + 64)) - 1)) 64))
def fX4_cost_J34 (s0 : Int) (s1 : Int) : zX :=
  zret (zi (s0 + s1))
def fX4_cost (x0 : Int) : zX :=
  zcl (fX4_isMailbox x0) fun v1 => if v1 = 0 then
  (zcl (fX4_isSegment x0) fun v2 => if v2 = 0 then
  (zgf 516 x0 fun v3 => fX4_cost_J34 1 v3) else
  (zgf 522 x0 fun v4 => zcl (fX0_records v4) fun v5 => fX4_cost_J34 1 v5)) else
  (zret 17)
def fX1_charge (x1 : Int) (x2 : Int) : zX :=
  zcl (fX1_account x1) fun v1 => znn v1 <| zgf 517 v1 fun v3 => zpf 517 v1 (zi (v3 + x2)) <| zret 0
def fX1_make_J73 (x1 : Int) (x7 : Int) : zX :=
  znn x1 <| zcl (fX4_append x1 x7) fun _ => zcl (fX2_add x7) fun _ => znn x7 <| zcl (fX4_cost x7) fun v11 => zcl (fX1_charge x1 v11) fun _ => zgf 206 0 fun v13 => zpf 206 0 (zi (v13 + 1)) <| zgf 207 0 fun v14 => zpf 207 0 (zi (v14 + 1)) <| zret x7
def fX1_make (x1 : Int) (x2 : Int) (x3 : Int) (x5 : Int) (x6 : Int) : zX :=
  zcl fX1_free fun v1 => znn v1 <| zcl (fX4_begin v1 x2 x3 x5) fun _ => zpf 516 v1 x6 <| znn x1 <| zcl (fX4_initial x1 x2) fun v5 => zcl (fX5_take (3 * v1) v5) fun _ => if ¬ x2 = 3 then
  (fX1_make_J73 x1 v1) else
  (zgf 204 0 fun v15 => zpf 204 0 (zi (v15 - 1)) <| zgf 204 0 fun v16 => zal 203 0 v16 15 fun v17 => zpf 520 v1 v17 <| zgf 520 v1 fun v18 => znn v18 <| zpf 702 v18 0 <| fX1_make_J73 x1 v1)
def fX12_newDirectory (x1 : Int) (x2 : Int) (x4 : Int) (x5 : Int) : zX :=
  zcl (fX2_find x1 x2) fun v1 => if v1 < 0 then
  (zcl (fX1_bears x1 (zi (1 + x5))) fun v3 => if v3 = 0 then
  (zret (-5)) else
  (zcl (fX1_make x1 1 x2 x4 x5) fun v4 => znn v4 <| zret v4)) else
  (zret (-6))
def fX0_directory (x1 : Int) (x2 : Int) (x4 : Int) (x5 : Int) : zX :=
  zcl (fX1_directory x1) fun v1 => if v1 < 0 then
  (zret (-8)) else
  (zcl (fX0_isName x2) fun v3 => if v3 = 0 then
  (zret (-8)) else
  (zcl (fX0_isLabel x4) fun v4 => if v4 = 0 then
  (zret (-8)) else
  (zgf 503 v1 fun v5 => zcl (fX0_isRightLimit x4 v5 x5) fun v6 => if ¬ v6 = 0 then
  (zcl (fX12_newDirectory v1 x2 x4 x5) fun v7 => zret v7) else
  (zret (-8)))))
def fX3_clear_B2 (x1 : Int) (r2 : Int → zX) : Int → zX := fun x3 =>
  if 64 ≤ x3 then
  (zret 0) else
  (zas 400 0 (zi ((zi (64 * x1)) + x3)) 16320 0 <| zlt (zi (x3 + 1)) fun v1 => r2 v1)
def fX3_clear (x1 : Int) (x2 : Int) : zX :=
  zlp (fX3_clear_B2 x1) zBIG x2
def fX3_take : zX :=
  zgf 402 0 fun v1 => zpf 402 0 (zi (v1 - 1)) <| zgf 402 0 fun v2 => zal 401 0 v2 255 fun v3 => zcl (fX3_clear v3 0) fun _ => zret v3
def fX3_give (x1 : Int) : zX :=
  zgf 402 0 fun v1 => zas 401 0 v1 255 x1 <| zgf 402 0 fun v2 => zpf 402 0 (zi (v2 + 1)) <| zret 0
def fX1_resize_J109 (x1 : Int) (x2 : Int) (x3 : Int) (x4 : Int) : zX :=
  znn x1 <| zpf 522 x1 x2 <| zgf 504 x1 fun v8 => zcl (fX1_charge v8 (zi (x4 - x3))) fun _ => zret 0
def fX1_resize_B82 (x1 : Int) (x2 : Int) (x3 : Int) (x4 : Int) (r82 : Int → zX) : Int → zX := fun x5 =>
  if x4 ≤ x5 then
  (fX1_resize_J109 x1 x2 x3 x4) else
  (znn x1 <| zcl fX3_take fun v11 => zas 523 x1 x5 16 v11 <| zlt (zi (x5 + 1)) fun v12 => r82 v12)
def fX1_resize_J79 (x1 : Int) (x2 : Int) (x3 : Int) (x4 : Int) : zX :=
  zlp (fX1_resize_B82 x1 x2 x3 x4) zBIG x3
def fX1_resize_J44 (x1 : Int) (x2 : Int) (x3 : Int) (x4 : Int) : zX :=
  znn x1 <| zgf 522 x1 fun v6 => if v6 ≤ x2 then
  (fX1_resize_J79 x1 x2 x3 x4) else
  (if (Int.tmod x2 64) ≤ 0 then
  (fX1_resize_J79 x1 x2 x3 x4) else
  (zal 523 x1 (zi (x4 - 1)) 16 fun v13 => zcl (fX3_clear v13 (Int.tmod x2 64)) fun _ => fX1_resize_J79 x1 x2 x3 x4))
def fX1_resize_B18 (x1 : Int) (x2 : Int) (x3 : Int) (x4 : Int) (r18 : Int → zX) : Int → zX := fun x5 =>
  if x3 ≤ x5 then
  (fX1_resize_J44 x1 x2 x3 x4) else
  (znn x1 <| zal 523 x1 x5 16 fun v16 => zcl (fX3_give v16) fun _ => zlt (zi (x5 + 1)) fun v18 => r18 v18)
def fX1_resize (x1 : Int) (x2 : Int) : zX :=
  znn x1 <| zgf 522 x1 fun v2 => zcl (fX0_records v2) fun v3 => zcl (fX0_records x2) fun v4 => zlp (fX1_resize_B18 x1 x2 v3 v4) zBIG v4
def fX12_newSegment (x1 : Int) (x2 : Int) (x4 : Int) : zX :=
  zcl (fX2_find x1 x2) fun v1 => if v1 < 0 then
  (zcl (fX0_records x4) fun v3 => zcl (fX1_bears x1 (zi (1 + v3))) fun v4 => if ¬ v4 = 0 then
  (znn x1 <| zgf 503 x1 fun v6 => zcl (fX1_make x1 2 x2 v6 0) fun v7 => zcl (fX1_resize v7 x4) fun _ => znn v7 <| zret v7) else
  (zret (-5))) else
  (zret (-6))
def fX0_segment (x1 : Int) (x2 : Int) (x4 : Int) : zX :=
  zcl (fX1_directory x1) fun v1 => if v1 < 0 then
  (zret (-8)) else
  (zcl (fX0_isName x2) fun v3 => if v3 = 0 then
  (zret (-8)) else
  (zcl (fX0_isIn x4 0 1024) fun v4 => if ¬ v4 = 0 then
  (zcl (fX12_newSegment v1 x2 x4) fun v5 => zret v5) else
  (zret (-8))))
def fX12_newMailbox (x1 : Int) (x2 : Int) : zX :=
  zcl (fX2_find x1 x2) fun v1 => if v1 < 0 then
  (zcl (fX1_bears x1 17) fun v3 => if v3 = 0 then
  (zret (-5)) else
  (znn x1 <| zgf 503 x1 fun v5 => zcl (fX1_make x1 3 x2 v5 0) fun v6 => znn v6 <| zret v6)) else
  (zret (-6))
def fX0_mailbox (x1 : Int) (x2 : Int) : zX :=
  zcl (fX1_directory x1) fun v1 => if v1 < 0 then
  (zret (-8)) else
  (zcl (fX0_isName x2) fun v3 => if ¬ v3 = 0 then
  (zcl (fX12_newMailbox v1 x2) fun v4 => zret v4) else
  (zret (-8)))
def fX0_initial (x1 : Int) (x2 : Int) (x3 : Int) (x4 : Int) (x5 : Int) : zX :=
  zcl (fX1_directory x1) fun v1 => if v1 < 0 then
  (zret (-8)) else
  (zcl (fX0_isIn x2 1 2) fun v3 => if v3 = 0 then
  (zret (-8)) else
  (zcl (fX0_isIn x3 0 16) fun v4 => if v4 = 0 then
  (zret (-8)) else
  (zcl (fX0_isIn x4 0 8) fun v5 => if v5 = 0 then
  (zret (-8)) else
  (zcl (fX0_isIn x5 0 8) fun v6 => if ¬ v6 = 0 then
  (zcl (fX4_initial v1 x2) fun v7 => znn v7 <| zcl (fX5_set v7 x3 x4 x5) fun v9 => if 0 ≤ v9 then
  (zcl (fX4_initial v1 x2) fun v10 => znn v10 <| zgf 602 v10 fun v12 => zret v12) else
  (zret v9)) else
  (zret (-8))))))
def fX0_item (x1 : Int) (x2 : Int) (x3 : Int) (x4 : Int) : zX :=
  zcl (fX1_node x1) fun v1 => if v1 < 0 then
  (zret (-8)) else
  (zcl (fX0_isIn x2 0 16) fun v3 => if v3 = 0 then
  (zret (-8)) else
  (zcl (fX0_isIn x3 0 8) fun v4 => if v4 = 0 then
  (zret (-8)) else
  (zcl (fX0_isIn x4 0 8) fun v5 => if ¬ v5 = 0 then
  (zcl (fX5_set (3 * v1) x2 x3 x4) fun v6 => zgf 207 0 fun v7 => zpf 207 0 (zi (v7 + 1)) <| if 0 ≤ v6 then
  (zgf 602 (3 * v1) fun v8 => zret v8) else
  (zret v6)) else
  (zret (-8)))))
def fX0_areBrackets (x0 : Int) (x1 : Int) (x2 : Int) : zX :=
  if x0 < 0 then
  (zret 0) else
  (if x1 < x0 then
  (zret 0) else
  (if x2 < x1 then
  (zret 0) else
  (if 7 < x2 then
  (zret 0) else
  (zret 1))))
def fX0_brackets_J44 (x2 : Int) (x3 : Int) (x4 : Int) (x5 : Int) (x6 : Int) (s0 : Int) (s1 : Int) (s2 : Int) : zX :=
  zcl (fX0_isIn s0 s1 s2) fun v5 => if ¬ v5 = 0 then
  (znn x6 <| zcl (fX4_setBrackets x6 x2 x3 x4) fun _ => zpf 521 x6 x5 <| zret 0) else
  (zret (-8))
def fX0_brackets (x1 : Int) (x2 : Int) (x3 : Int) (x4 : Int) (x5 : Int) : zX :=
  zcl (fX1_node x1) fun v1 => if v1 < 0 then
  (zret (-8)) else
  (zcl (fX0_areBrackets x2 x3 x4) fun v3 => if v3 = 0 then
  (zret (-8)) else
  (zcl (fX4_isSegment v1) fun v4 => if v4 = 0 then
  (fX0_brackets_J44 x2 x3 x4 x5 v1 x5 0 0) else
  (fX0_brackets_J44 x2 x3 x4 x5 v1 x5 0 63)))
def fX1_segment (x1 : Int) : zX :=
  zcl (fX1_node x1) fun v1 => if v1 < 0 then
  (zret (-1)) else
  (zcl (fX4_isSegment v1) fun v3 => if v3 = 0 then
  (zret (-1)) else
  (zret v1))
def fX12_newLength (x1 : Int) (x2 : Int) : zX :=
  znn x1 <| zgf 504 x1 fun v2 => zcl (fX0_records x2) fun v3 => zgf 522 x1 fun v4 => zcl (fX0_records v4) fun v5 => zcl (fX1_bears v2 (zi (v3 - v5))) fun v6 => if ¬ v6 = 0 then
  (zcl (fX1_resize x1 x2) fun _ => zret 1) else
  (zret 0)
def fX0_length (x1 : Int) (x2 : Int) : zX :=
  zcl (fX1_segment x1) fun v1 => if v1 < 0 then
  (zret (-8)) else
  (zcl (fX0_isIn x2 0 1024) fun v3 => if ¬ v3 = 0 then
  (zgf 522 v1 fun v4 => zcl (fX12_newLength v1 x2) fun v5 => if v5 = 0 then
  (zret (-5)) else
  (zret v4)) else
  (zret (-8)))
def fX1_limit (x1 : Int) (x2 : Int) : zX :=
  znn x1 <| zgf 517 x1 fun v2 => if x2 < v2 then
  (zret 0) else
  (zgf 504 x1 fun v3 => zgf 516 x1 fun v4 => zcl (fX1_bears v3 (zi (x2 - v4))) fun v5 => if ¬ v5 = 0 then
  (zgf 504 x1 fun v6 => zgf 516 x1 fun v7 => zcl (fX1_charge v6 (zi (x2 - v7))) fun _ => zpf 516 x1 x2 <| zret 1) else
  (zret 0))
def fX0_limit (x1 : Int) (x2 : Int) : zX :=
  zcl (fX1_directory x1) fun v1 => if v1 < 0 then
  (zret (-8)) else
  (if v1 = 0 then
  (zret (-8)) else
  (zgf 516 v1 fun v3 => if v3 = 0 then
  (zret (-8)) else
  (zcl (fX0_isIn x2 1 255) fun v4 => if ¬ v4 = 0 then
  (zgf 516 v1 fun v5 => zcl (fX1_limit v1 x2) fun v6 => if v6 = 0 then
  (zret (-5)) else
  (zret v5)) else
  (zret (-8)))))
def fX2_remove_J56 (x1 : Int) (x3 : Int) : zX :=
  znn x1 <| zgf 507 x1 fun v10 => znn x3 <| zpf 507 x3 v10 <| zret 0
def fX2_remove_B40 (x1 : Int) (r40 : Int → zX) : Int → zX := fun x3 =>
  znn x3 <| zgf 507 x3 fun v8 => if v8 = x1 then
  (fX2_remove_J56 x1 x3) else
  (zgf 507 x3 fun v12 => r40 v12)
def fX2_remove (x1 : Int) : zX :=
  znn x1 <| zgf 504 x1 fun v2 => zgf 502 x1 fun v3 => zcl (fX2_bucket v2 v3) fun v4 => zal 300 0 v4 256 fun v5 => if ¬ v5 = x1 then
  (zal 300 0 v4 256 fun v6 => zlp (fX2_remove_B40 x1) zBIG v6) else
  (zgf 507 x1 fun v13 => zas 300 0 v4 256 v13 <| zret 0)
def fX1_rename (x1 : Int) (x2 : Int) : zX :=
  zcl (fX2_remove x1) fun _ => znn x1 <| zpf 502 x1 x2 <| zcl (fX2_add x1) fun _ => zret 0
def fX0_rename_J70 (x2 : Int) (x4 : Int) : zX :=
  zcl (fX1_rename x4 x2) fun _ => zret 0
def fX0_rename (x1 : Int) (x2 : Int) : zX :=
  zcl (fX1_node x1) fun v1 => if v1 < 0 then
  (zret (-8)) else
  (if v1 = 0 then
  (zret (-8)) else
  (zcl (fX0_isName x2) fun v3 => if ¬ v3 = 0 then
  (zgf 504 v1 fun v4 => zcl (fX2_find v4 x2) fun v5 => if v5 < 0 then
  (fX0_rename_J70 x2 v1) else
  (if v5 = v1 then
  (fX0_rename_J70 x2 v1) else
  (zret (-6)))) else
  (zret (-8))))
def fX4_detach_J58 (x0 : Int) : zX :=
  zgf 515 x0 fun v9 => zpf 515 x0 (zi (v9 - 1)) <| zret 0
def fX4_detach_J29 (x0 : Int) (x1 : Int) : zX :=
  znn x1 <| zgf 506 x1 fun v6 => if v6 < 0 then
  (zgf 505 x1 fun v8 => zpf 514 x0 v8 <| fX4_detach_J58 x0) else
  (zgf 506 x1 fun v10 => zgf 505 x1 fun v11 => znn v10 <| zpf 505 v10 v11 <| fX4_detach_J58 x0)
def fX4_detach (x0 : Int) (x1 : Int) : zX :=
  znn x1 <| zgf 505 x1 fun v2 => if v2 < 0 then
  (zgf 506 x1 fun v4 => zpf 513 x0 v4 <| fX4_detach_J29 x0 x1) else
  (zgf 505 x1 fun v13 => zgf 506 x1 fun v14 => znn v13 <| zpf 506 v13 v14 <| fX4_detach_J29 x0 x1)
def fX8_unbind_B2 (x0 : Int) (x1 : Int) (r2 : Int → zX) : Int → zX := fun x2 =>
  if 16 ≤ x2 then
  (zret 0) else
  (zas 918 x0 (zi ((zi (16 * x1)) + x2)) 512 (-1) <| zlt (zi (x2 + 1)) fun v1 => r2 v1)
def fX8_unbind (x0 : Int) (x1 : Int) : zX :=
  zlp (fX8_unbind_B2 x0 x1) zBIG 0
def fX8_forget_J48 (r14 : Int → zX) (x0 : Int) (x1 : Int) (x2 : Int) (s0 : Int) (s1 : Int) (s2 : Int) : zX :=
  zas 918 s0 s1 512 s2 <| zlt (zi (x2 + 1)) fun v4 => r14 v4
def fX8_forget_B14 (x0 : Int) (x1 : Int) (r14 : Int → zX) : Int → zX := fun x2 =>
  if 512 ≤ x2 then
  (zret 0) else
  (zal 918 x0 x2 512 fun v2 => if ¬ v2 = x1 then
  (zal 918 x0 x2 512 fun v3 => fX8_forget_J48 r14 x0 x1 x2 x0 x2 v3) else
  (fX8_forget_J48 r14 x0 x1 x2 x0 x2 (-1)))
def fX8_forget (x0 : Int) (x1 : Int) : zX :=
  zas 916 x0 x1 32 (-1) <| zcl (fX8_unbind x0 x1) fun _ => zlp (fX8_forget_B14 x0 x1) zBIG 0
def fX8_loose_J96 (r66 : Int → zX) (x0 : Int) (x1 : Int) (x2 : Int) (s0 : Int) (s1 : Int) (s2 : Int) : zX :=
  zas 921 s0 s1 4 s2 <| zlt (zi (x2 + 1)) fun v7 => r66 v7
def fX8_loose_B66 (x0 : Int) (x1 : Int) (r66 : Int → zX) : Int → zX := fun x2 =>
  if 4 ≤ x2 then
  (zret 0) else
  (zal 921 x0 x2 4 fun v5 => if ¬ v5 = x1 then
  (zal 921 x0 x2 4 fun v6 => fX8_loose_J96 r66 x0 x1 x2 x0 x2 v6) else
  (fX8_loose_J96 r66 x0 x1 x2 x0 x2 (-1)))
def fX8_loose_J61 (x0 : Int) (x1 : Int) (s0 : Int) (s1 : Int) : zX :=
  znn s0 <| zpf 920 s0 s1 <| zlp (fX8_loose_B66 x0 x1) zBIG 0
def fX8_loose_J38 (x0 : Int) (x1 : Int) : zX :=
  zgf 920 x0 fun v2 => if ¬ v2 = x1 then
  (zgf 920 x0 fun v3 => fX8_loose_J61 x0 x1 x0 v3) else
  (fX8_loose_J61 x0 x1 x0 0)
def fX8_loose_J32 (r11 : Int → zX) (x0 : Int) (x1 : Int) (x2 : Int) : zX :=
  zlt (zi (x2 + 1)) fun v9 => r11 v9
def fX8_loose_B11 (x0 : Int) (x1 : Int) (r11 : Int → zX) : Int → zX := fun x2 =>
  if 32 ≤ x2 then
  (fX8_loose_J38 x0 x1) else
  (zal 916 x0 x2 32 fun v8 => if ¬ v8 = x1 then
  (fX8_loose_J32 r11 x0 x1 x2) else
  (zcl (fX8_forget x0 x2) fun _ => fX8_loose_J32 r11 x0 x1 x2))
def fX8_loose (x0 : Int) (x1 : Int) : zX :=
  zgf 902 x0 fun v1 => if ¬ v1 = 0 then
  (zlp (fX8_loose_B11 x0 x1) zBIG 8) else
  (zret 0)
def fX1_remove_B139 (sf : Int → zX) (x1 : Int) (x2 : Int) (x4 : Int) (r139 : Int → zX) : Int → zX := fun x5 =>
  if x4 ≤ x5 then
  (zret x2) else
  (zib x5 8 <| zcl (fX8_loose x5 x1) fun _ => zlt (zi (x5 + 1)) fun v20 => r139 v20)
def fX1_remove_J73 (sf : Int → zX) (x1 : Int) (x2 : Int) : zX :=
  znn x1 <| zgf 504 x1 fun v8 => zcl (fX4_cost x1) fun v9 => zcl (fX1_charge v8 (zi (- v9))) fun _ => zcl (fX2_remove x1) fun _ => zgf 504 x1 fun v12 => znn v12 <| zcl (fX4_detach v12 x1) fun _ => zpf 501 x1 0 <| zgf 206 0 fun v15 => zpf 206 0 (zi (v15 - 1)) <| zgf 207 0 fun v16 => zpf 207 0 (zi (v16 + 1)) <| zlp (fX1_remove_B139 sf x1 x2 8) zBIG 0
def fX1_remove_J43 (sf : Int → zX) (x1 : Int) (x2 : Int) : zX :=
  znn x1 <| zcl (fX4_isMailbox x1) fun v6 => if v6 = 0 then
  (fX1_remove_J73 sf x1 x2) else
  (zgf 204 0 fun v21 => zgf 520 x1 fun v22 => zas 203 0 v21 15 v22 <| zgf 204 0 fun v23 => zpf 204 0 (zi (v23 + 1)) <| fX1_remove_J73 sf x1 x2)
def fX1_remove_J30 (sf : Int → zX) (x1 : Int) (x2 : Int) : zX :=
  znn x1 <| zcl (fX4_isSegment x1) fun v4 => if v4 = 0 then
  (fX1_remove_J43 sf x1 x2) else
  (zcl (fX1_resize x1 0) fun _ => fX1_remove_J43 sf x1 x2)
def fX1_remove_B2 (sf : Int → zX) (x1 : Int) (r2 : Int → zX) : Int → zX := fun x2 =>
  znn x1 <| zcl (fX4_isDirectory x1) fun v2 => if v2 = 0 then
  (fX1_remove_J30 sf x1 x2) else
  (zgf 514 x1 fun v25 => if v25 < 0 then
  (fX1_remove_J30 sf x1 x2) else
  (zgf 514 x1 fun v27 => zcl (sf v27) fun v28 => zlt (zi (x2 + v28)) fun v29 => r2 v29))
def fX1_remove_E (sf : Int → zX) (x1 : Int) : zX :=
  zlp (fX1_remove_B2 sf x1) zBIG 1
def fX1_remove : Nat → Int → zX
  | 0 => fun _ => zno
  | n + 1 => fX1_remove_E (fX1_remove n)
def fX0_remove (x1 : Int) : zX :=
  zcl (fX1_node x1) fun v1 => if v1 < 0 then
  (zret (-8)) else
  (if ¬ v1 = 0 then
  (zcl (fX1_remove 300 v1) fun v3 => zret v3) else
  (zret (-8)))
def fX0_find (x1 : Int) (x2 : Int) : zX :=
  zcl (fX1_directory x1) fun v1 => if v1 < 0 then
  (zret (-8)) else
  (zcl (fX2_find v1 x2) fun v3 => if v3 < 0 then
  (zret (-1)) else
  (zret v3))
def fX0_about (x1 : Int) (x2 : Int) : zX :=
  zcl (fX1_node x1) fun v1 => if v1 < 0 then
  (zret (-1)) else
  (if x2 = 0 then
  (zgf 501 v1 fun v4 => zret v4) else
  if x2 = 1 then
  (zgf 504 v1 fun v6 => if v6 < 0 then
  (zret (-1)) else
  (zgf 504 v1 fun v8 => znn v8 <| zret v8)) else
  if x2 = 2 then
  (zgf 503 v1 fun v11 => zret v11) else
  if x2 = 3 then
  (zgf 509 v1 fun v13 => zret v13) else
  if x2 = 4 then
  (zgf 510 v1 fun v15 => zret v15) else
  if x2 = 5 then
  (zgf 511 v1 fun v17 => zret v17) else
  if x2 = 6 then
  (zgf 521 v1 fun v19 => zret v19) else
  if x2 = 7 then
  (zgf 522 v1 fun v21 => zret v21) else
  if x2 = 8 then
  (zgf 516 v1 fun v23 => zret v23) else
  if x2 = 9 then
  (zgf 517 v1 fun v25 => zret v25) else
  if x2 = 10 then
  (zgf 515 v1 fun v27 => zret v27) else
  if x2 = 11 then
  (zgf 602 (3 * v1) fun v29 => zret v29) else
  if x2 = 12 then
  (zgf 512 v1 fun v31 => zret v31) else
  if x2 = 13 then
  (zgf 502 v1 fun v33 => zret v33) else
  if x2 = 14 then
  (zcl (fX4_isMailbox v1) fun v35 => if v35 = 0 then
  (zret 0) else
  (zgf 520 v1 fun v36 => znn v36 <| zgf 702 v36 fun v38 => zret v38)) else
  if x2 = 15 then
  (zgf 602 (3 * v1 + 2) fun v40 => zret v40) else
  if x2 = 16 then
  (zgf 602 (3 * v1 + 1) fun v42 => zret v42) else
  (zret (-8)))
def fX5_of_J55 (x0 : Int) (s0 : Int) : zX :=
  if 0 ≤ s0 then
  (zal 601 x0 s0 (zacl x0) fun v2 => zret v2) else
  (zret 0)
def fX5_of_J38 (x0 : Int) (s0 : Int) : zX :=
  if 0 ≤ s0 then
  (fX5_of_J55 x0 s0) else
  (zcl (fX5_find x0 16 8) fun v3 => fX5_of_J55 x0 v3)
def fX5_of_J22 (x0 : Int) (x2 : Int) (s0 : Int) : zX :=
  if 0 ≤ s0 then
  (fX5_of_J38 x0 s0) else
  (zcl (fX5_find x0 16 x2) fun v4 => fX5_of_J38 x0 v4)
def fX5_of (x0 : Int) (x1 : Int) (x2 : Int) : zX :=
  zcl (fX5_find x0 x1 x2) fun v1 => if 0 ≤ v1 then
  (fX5_of_J22 x0 x2 v1) else
  (zcl (fX5_find x0 x1 8) fun v5 => fX5_of_J22 x0 x2 v5)
def fX0_modes (x1 : Int) (x2 : Int) (x3 : Int) : zX :=
  zcl (fX1_node x1) fun v1 => if v1 < 0 then
  (zret (-8)) else
  (zcl (fX0_isIn x2 0 15) fun v3 => if v3 = 0 then
  (zret (-8)) else
  (zcl (fX0_isIn x3 0 7) fun v4 => if ¬ v4 = 0 then
  (zcl (fX5_of (3 * v1) x2 x3) fun v5 => zret v5) else
  (zret (-8))))
def fX0_hasPlace (x1 : Int) (x2 : Int) : zX :=
  if x1 < 0 then
  (zret 0) else
  (zgf 522 x1 fun v2 => zcl (fX0_isIn x2 0 (zl (v2 - 1))) fun v3 => if v3 = 0 then
  (zret 0) else
  (zret 1))
def fX3_get (x1 : Int) (x2 : Int) : zX :=
  zal 400 0 (zi ((zi (64 * x1)) + x2)) 16320 fun v1 => zret v1
def fX1_get (x1 : Int) (x2 : Int) : zX :=
  znn x1 <| zal 523 x1 (zi (Int.tdiv x2 64)) 16 fun v2 => zcl (fX3_get v2 (Int.tmod x2 64)) fun v3 => zret v3
def fX0_word (x1 : Int) (x2 : Int) : zX :=
  zcl (fX1_segment x1) fun v1 => zcl (fX0_hasPlace v1 x2) fun v2 => if v2 = 0 then
  (zret (-1)) else
  (zcl (fX1_get v1 x2) fun v3 => zret v3)
def fX3_put (x1 : Int) (x2 : Int) (x3 : Int) : zX :=
  zas 400 0 (zi ((zi (64 * x1)) + x2)) 16320 x3 <| zret 0
def fX1_put (x1 : Int) (x2 : Int) (x3 : Int) : zX :=
  znn x1 <| zal 523 x1 (zi (Int.tdiv x2 64)) 16 fun v2 => zcl (fX3_put v2 (Int.tmod x2 64) x3) fun _ => zret 0
def fX0_put (x1 : Int) (x2 : Int) (x3 : Int) : zX :=
  zcl (fX1_segment x1) fun v1 => zcl (fX0_hasPlace v1 x2) fun v2 => if ¬ v2 = 0 then
  (zcl (fX0_isWord x3) fun v3 => if ¬ v3 = 0 then
  (zcl (fX1_get v1 x2) fun v4 => zcl (fX1_put v1 x2 x3) fun _ => zret v4) else
  (zret (-8))) else
  (zret (-1))
def fX1_mailbox (x1 : Int) : zX :=
  zcl (fX1_node x1) fun v1 => if v1 < 0 then
  (zret (-1)) else
  (zcl (fX4_isMailbox v1) fun v3 => if v3 = 0 then
  (zret (-1)) else
  (zret v1))
def fX0_letter (x1 : Int) (x2 : Int) (x3 : Int) : zX :=
  zcl (fX1_mailbox x1) fun v1 => if v1 < 0 then
  (zret (-1)) else
  (zgf 520 v1 fun v3 => znn v3 <| zgf 702 v3 fun v5 => zcl (fX0_isIn x2 0 (zl (v5 - 1))) fun v6 => if ¬ v6 = 0 then
  (if ¬ x3 = 0 then
  (if ¬ x3 = 1 then
  (zret (-8)) else
  (zgf 520 v1 fun v7 => znn v7 <| zal 701 v7 x2 128 fun v9 => zret v9)) else
  (zgf 520 v1 fun v10 => znn v10 <| zal 700 v10 x2 128 fun v12 => zret v12)) else
  (zret (-1)))
def fX13_has (x1 : Int) : zX :=
  if x1 < 0 then
  (zret 0) else
  (zgf 1401 0 fun v1 => if v1 ≤ x1 then
  (zret 0) else
  (zgf 1401 0 fun v2 => if x1 < (zi (v2 - 64)) then
  (zret 0) else
  (zret 1)))
def fX0_audit (x1 : Int) (x2 : Int) : zX :=
  zcl (fX13_has x1) fun v1 => if ¬ v1 = 0 then
  (zcl (fX0_isIn x2 0 3) fun v2 => if v2 = 0 then
  (zret (-8)) else
  (zal 1400 0 (zi ((zi (4 * (Int.tmod x1 64))) + x2)) 256 fun v3 => zret v3)) else
  (zret (-1))
def fX0_isHalf (x0 : Int) : zX :=
  if x0 < 0 then
  (zret 0) else
  (if 262143 < x0 then
  (zret 0) else
  (zret 1))
def fX9_go (x0 : Int) (x1 : Int) (x2 : Int) (x3 : Int) : zX :=
  zpf 1006 x0 x1 <| zpf 1007 x0 x2 <| zpf 1008 x0 x3 <| zret 0
def fX9_point (x0 : Int) (x1 : Int) (x2 : Int) (x3 : Int) (x4 : Int) : zX :=
  zas 1003 x0 x1 8 x2 <| zas 1004 x0 x1 8 x3 <| zas 1005 x0 x1 8 x4 <| zret 0
def fX9_clear_J52 (x0 : Int) : zX :=
  zcl (fX9_go x0 0 0 0) fun _ => zpf 1009 x0 0 <| zpf 1010 x0 0 <| zret 0
def fX9_clear_B32 (x0 : Int) (r32 : Int → zX) : Int → zX := fun x1 =>
  if 8 ≤ x1 then
  (fX9_clear_J52 x0) else
  (zcl (fX9_point x0 x1 0 0 0) fun _ => zlt (zi (x1 + 1)) fun v3 => r32 v3)
def fX9_clear_J30 (x0 : Int) : zX :=
  zlp (fX9_clear_B32 x0) zBIG 0
def fX9_clear_B12 (x0 : Int) (r12 : Int → zX) : Int → zX := fun x1 =>
  if 4 ≤ x1 then
  (fX9_clear_J30 x0) else
  (zas 1002 x0 x1 4 0 <| zlt (zi (x1 + 1)) fun v4 => r12 v4)
def fX9_clear (x0 : Int) : zX :=
  zpf 1000 x0 0 <| zpf 1001 x0 0 <| zlp (fX9_clear_B12 x0) zBIG 0
def fX8_know (x0 : Int) (x1 : Int) (x2 : Int) : zX :=
  zas 916 x0 x1 32 x2 <| zib x1 32 <| zpf 1200 (32 * x0 + x1) 0 <| zret 0
def fX10_clear (x0 : Int) : zX :=
  zpf 1101 x0 0 <| zpf 1102 x0 (-3750763034362895579) <| zret 0
def fX8_begin_J159 (x0 : Int) : zX :=
  zpf 923 x0 0 <| zpf 924 x0 0 <| zcl (fX10_clear x0) fun _ => zret 0
def fX8_begin_B139 (x0 : Int) (r139 : Int → zX) : Int → zX := fun x7 =>
  if 4 ≤ x7 then
  (fX8_begin_J159 x0) else
  (zas 921 x0 x7 4 (-1) <| zlt (zi (x7 + 1)) fun v5 => r139 v5)
def fX8_begin_J117 (x0 : Int) (x4 : Int) : zX :=
  zcl (fX8_know x0 8 x4) fun _ => zpf 920 x0 0 <| zlp (fX8_begin_B139 x0) zBIG 0
def fX8_begin_B90 (x0 : Int) (x4 : Int) (r90 : Int → zX) : Int → zX := fun x7 =>
  if 32 ≤ x7 then
  (fX8_begin_J117 x0 x4) else
  (zas 916 x0 x7 32 (-1) <| zcl (fX8_unbind x0 x7) fun _ => zlt (zi (x7 + 1)) fun v7 => r90 v7)
def fX8_begin_J87 (x0 : Int) (x4 : Int) : zX :=
  zlp (fX8_begin_B90 x0 x4) zBIG 0
def fX8_begin_B63 (x0 : Int) (x4 : Int) (r63 : Int → zX) : Int → zX := fun x7 =>
  if 512 ≤ x7 then
  (fX8_begin_J87 x0 x4) else
  (zas 915 x0 x7 512 0 <| zlt (zi (x7 + 1)) fun v8 => r63 v8)
def fX8_begin (x0 : Int) (x1 : Int) (x2 : Int) (x3 : Int) (x4 : Int) (x5 : Int) (x6 : Int) : zX :=
  zpf 902 x0 1 <| zpf 903 x0 0 <| zpf 904 x0 x1 <| zpf 905 x0 x2 <| zpf 906 x0 x3 <| zpf 907 x0 0 <| zcl (fX9_clear x0) fun _ => zcl (fX9_go x0 8 x5 x6) fun _ => zpf 910 x0 0 <| zpf 911 x0 0 <| zlp (fX8_begin_B63 x0 x4) zBIG 0
def fX0_login_J96 (x1 : Int) (x2 : Int) (x3 : Int) (x5 : Int) (x6 : Int) (x7 : Int) (x8 : Int) : zX :=
  zib x8 8 <| zcl (fX8_begin x8 x1 x2 x3 x7 x5 x6) fun _ => zret x8
def fX0_login_B76 (x1 : Int) (x2 : Int) (x3 : Int) (x5 : Int) (x6 : Int) (x7 : Int) (r76 : Int → zX) : Int → zX := fun x8 =>
  if 8 ≤ x8 then
  (zret (-5)) else
  (zib x8 8 <| zgf 902 x8 fun v10 => if ¬ v10 = 0 then
  (zlt (zi (x8 + 1)) fun v11 => r76 v11) else
  (fX0_login_J96 x1 x2 x3 x5 x6 x7 x8))
def fX0_login (x1 : Int) (x2 : Int) (x3 : Int) (x4 : Int) (x5 : Int) (x6 : Int) : zX :=
  zcl (fX1_segment x4) fun v1 => zcl (fX0_isIn x1 0 15) fun v2 => if v2 = 0 then
  (zret (-8)) else
  (zcl (fX0_isIn x2 0 7) fun v3 => if v3 = 0 then
  (zret (-8)) else
  (zcl (fX0_isLabel x3) fun v4 => if v4 = 0 then
  (zret (-8)) else
  (if v1 < 0 then
  (zret (-8)) else
  (zcl (fX0_isHalf x5) fun v6 => if v6 = 0 then
  (zret (-8)) else
  (zcl (fX0_isIn x6 0 7) fun v7 => if ¬ v7 = 0 then
  (zlp (fX0_login_B76 x1 x2 x3 x5 x6 v1) zBIG 0) else
  (zret (-8)))))))
def fX0_processAt (x1 : Int) : zX :=
  zcl (fX0_isIn x1 0 7) fun v1 => if v1 = 0 then
  (zret (-1)) else
  (zib x1 8 <| zgf 902 x1 fun v4 => if v4 = 0 then
  (zret (-1)) else
  (zib x1 8 <| zret x1))
def fX0_logout (x1 : Int) : zX :=
  zcl (fX0_processAt x1) fun v1 => if v1 < 0 then
  (zret (-8)) else
  (zpf 902 v1 0 <| zret 0)
def fX8_isFull (x0 : Int) : zX :=
  zgf 924 x0 fun v1 => if ¬ v1 = 8 then
  (zret 0) else
  (zret 1)
def fX8_receive (x0 : Int) (x1 : Int) : zX :=
  zgf 923 x0 fun v1 => zgf 924 x0 fun v2 => zas 922 x0 (Int.tmod (zi (v1 + v2)) 8) 8 x1 <| zgf 924 x0 fun v3 => zpf 924 x0 (zi (v3 + 1)) <| zret 0
def fX0_send (x1 : Int) (x2 : Int) : zX :=
  zcl (fX0_processAt x1) fun v1 => if v1 < 0 then
  (zret (-8)) else
  (zcl (fX0_isWord x2) fun v3 => if ¬ v3 = 0 then
  (zcl (fX8_isFull v1) fun v4 => if v4 = 0 then
  (zcl (fX8_receive v1 x2) fun _ => zgf 924 v1 fun v6 => zret v6) else
  (zret (-5))) else
  (zret (-8)))
def fX10_add_B65 (x0 : Int) (x8 : Int) (r65 : Int → zX) : Int → zX := fun x9 =>
  if 4 ≤ x9 then
  (zret 0) else
  (zgf 1102 x0 fun v4 => zal 1100 x0 (zi (x8 + x9)) 256 fun v5 => zpf 1102 x0 (zl ((zxR v4 v5) * 1099511628211)) <| zlt (zi (x9 + 1)) fun v6 => r65 v6)
def fX10_add (x0 : Int) (x1 : Int) (x2 : Int) (x4 : Int) (x6 : Int) : zX :=
  zgf 1101 x0 fun v1 => zlt (zi (4 * (Int.tmod v1 64))) fun v2 => zas 1100 x0 v2 256 x1 <| zas 1100 x0 (zi (v2 + 1)) 256 x2 <| zas 1100 x0 (zi (v2 + 2)) 256 x4 <| zas 1100 x0 (zi (v2 + 3)) 256 x6 <| zgf 1101 x0 fun v3 => zpf 1101 x0 (zi (v3 + 1)) <| zlp (fX10_add_B65 x0 v2) zBIG 0
def fX8_event (x0 : Int) (x1 : Int) (x2 : Int) (x4 : Int) (x6 : Int) : zX :=
  zcl (fX10_add x0 x1 x2 x4 x6) fun _ => zret 0
def fX9_copy_J78 (x0 : Int) (x1 : Int) : zX :=
  znn x1 <| zgf 1006 x1 fun v5 => zgf 1007 x1 fun v6 => zgf 1008 x1 fun v7 => zcl (fX9_go x0 v5 v6 v7) fun _ => zgf 1009 x1 fun v9 => zpb 1009 x0 v9 <| zgf 1010 x1 fun v11 => zpb 1010 x0 v11 <| zret 0
def fX9_copy_B43 (x0 : Int) (x1 : Int) (r43 : Int → zX) : Int → zX := fun x2 =>
  if 8 ≤ x2 then
  (fX9_copy_J78 x0 x1) else
  (znn x1 <| zal 1003 x1 x2 8 fun v14 => zal 1004 x1 x2 8 fun v15 => zal 1005 x1 x2 8 fun v16 => zcl (fX9_point x0 x2 v14 v15 v16) fun _ => zlt (zi (x2 + 1)) fun v18 => r43 v18)
def fX9_copy_J41 (x0 : Int) (x1 : Int) : zX :=
  zlp (fX9_copy_B43 x0 x1) zBIG 0
def fX9_copy_B18 (x0 : Int) (x1 : Int) (r18 : Int → zX) : Int → zX := fun x2 =>
  if 4 ≤ x2 then
  (fX9_copy_J41 x0 x1) else
  (znn x1 <| zal 1002 x1 x2 4 fun v20 => zas 1002 x0 x2 4 v20 <| zlt (zi (x2 + 1)) fun v21 => r18 v21)
def fX9_copy (x0 : Int) (x1 : Int) : zX :=
  znn x1 <| zgf 1000 x1 fun v2 => zpf 1000 x0 v2 <| zgf 1001 x1 fun v3 => zpf 1001 x0 v3 <| zlp (fX9_copy_B18 x0 x1) zBIG 0
def fX0_pointerWord (x0 : Int) (x1 : Int) (x2 : Int) : zX :=
  zret (zoR (zoR (zoR 42949672960 (zl (x2 * 1073741824))) (zl (x0 * 16777216))) x1)
def fX8_fault_J40 (x0 : Int) : zX :=
  zpf 903 x0 3 <| zcl (fX8_event x0 9 0 0 0) fun _ => zret 0
def fX8_fault (x0 : Int) (x1 : Int) (x2 : Int) (x3 : Int) (x4 : Int) : zX :=
  zcl (fX8_event x0 2 x1 x2 x3) fun _ => zgf 911 x0 fun v2 => if v2 = 0 then
  (fX8_fault_J40 x0) else
  (zgf 914 x0 fun v4 => zgf 1008 x0 fun v5 => if v5 < v4 then
  (fX8_fault_J40 x0) else
  (zgf 910 x0 fun v6 => if ¬ v6 = 4 then
  (zgf 910 x0 fun v7 => zib v7 4 <| zcl (fX9_copy (4 * x0 + 8 + v7) x0) fun _ => zgf 910 x0 fun v11 => zpf 910 x0 (zi (v11 + 1)) <| zpf 1000 x0 x1 <| zcl (fX0_pointerWord x2 x3 x4) fun v12 => zpf 1001 x0 v12 <| zgf 912 x0 fun v13 => zgf 913 x0 fun v14 => zgf 914 x0 fun v15 => zcl (fX9_go x0 v13 v14 v15) fun _ => zret 0) else
  (fX8_fault_J40 x0)))
def fX12_refuse (x1 : Int) (x2 : Int) (x3 : Int) (x4 : Int) : zX :=
  zgf 1307 0 fun v1 => znn v1 <| zcl (fX8_fault v1 x1 x2 x3 x4) fun _ => zret 0
def fX12_isThere (x1 : Int) (x2 : Int) (x3 : Int) : zX :=
  if 8 ≤ x1 then
  (zgf 1307 0 fun v1 => znn v1 <| zal 916 v1 x1 32 fun v3 => if v3 < 0 then
  (zcl (fX12_refuse 1 x1 x2 x3) fun v5 => zrb v5) else
  (zgf 522 v3 fun v6 => if x2 < v6 then
  (zret 1) else
  (zcl (fX12_refuse 2 x1 x2 x3) fun v7 => if v7 = 0 then
  (zret 0) else
  (zret 1)))) else
  (if x2 < 64 then
  (zret 1) else
  (zcl (fX12_refuse 2 x1 x2 x3) fun v8 => if v8 = 0 then
  (zret 0) else
  (zret 1)))
def fX8_rightsOf_J90 (x2 : Int) (s0 : Int) (s1 : Int) : zX :=
  znn s0 <| zpb 1203 s0 s1 <| zret x2
def fX8_rightsOf (x0 : Int) (x1 : Int) : zX :=
  zib x1 32 <| zlt (32 * x0 + x1) fun v3 => zgf 1200 v3 fun v4 => zgf 207 0 fun v5 => if v4 = v5 then
  (zret v3) else
  (zal 916 x0 x1 32 fun v6 => zgf 207 0 fun v7 => zpf 1200 v3 v7 <| znn v6 <| zgf 904 x0 fun v9 => zgf 905 x0 fun v10 => zcl (fX5_of (3 * v6) v9 v10) fun v11 => zpf 1201 v3 v11 <| zgf 906 x0 fun v12 => zgf 503 v6 fun v13 => zcl (fX0_dominates v12 v13) fun v14 => zpb 1202 v3 v14 <| zgf 906 x0 fun v16 => zgf 503 v6 fun v17 => if ¬ v16 = v17 then
  (fX8_rightsOf_J90 v3 v3 0) else
  (fX8_rightsOf_J90 v3 v3 1))
def fX8_refusal_J120 (s0 : Int) : zX :=
  if s0 = 0 then
  (zret 5) else
  (zret 0)
def fX8_refusal_J119 : zX :=
  fX8_refusal_J120 0
def fX8_refusal_J53 (x2 : Int) (x3 : Int) (x4 : Int) : zX :=
  if ¬ x3 = 1 then
  (if ¬ x3 = 4 then
  (znn x4 <| zgf 509 x4 fun v7 => if x2 < v7 then
  (fX8_refusal_J119) else
  (zgf 510 x4 fun v8 => if v8 < x2 then
  (fX8_refusal_J119) else
  (fX8_refusal_J120 1))) else
  (znn x4 <| zgf 509 x4 fun v10 => if v10 < x2 then
  (fX8_refusal_J120 0) else
  (fX8_refusal_J120 1))) else
  (znn x4 <| zgf 510 x4 fun v12 => if v12 < x2 then
  (fX8_refusal_J120 0) else
  (fX8_refusal_J120 1))
def fX8_refusal (x0 : Int) (x1 : Int) (x2 : Int) (x3 : Int) : zX :=
  zal 916 x0 x1 32 fun v1 => zcl (fX8_rightsOf x0 x1) fun v2 => znn v2 <| zgf 1201 v2 fun v4 => if ¬ (zan v4 x3) = 0 then
  (if ¬ x3 = 4 then
  (zgf 1202 v2 fun v5 => if ¬ v5 = 0 then
  (fX8_refusal_J53 x2 x3 v1) else
  (zret 4)) else
  (zgf 1203 v2 fun v13 => if ¬ v13 = 0 then
  (fX8_refusal_J53 x2 x3 v1) else
  (zret 4))) else
  (zret 3)
def fX13_add (x1 : Int) (x2 : Int) (x3 : Int) (x4 : Int) : zX :=
  zgf 1401 0 fun v1 => zlt (zi (4 * (Int.tmod v1 64))) fun v2 => zas 1400 0 v2 256 x1 <| zas 1400 0 (zi (v2 + 1)) 256 x2 <| zas 1400 0 (zi (v2 + 2)) 256 x3 <| zas 1400 0 (zi (v2 + 3)) 256 x4 <| zgf 1401 0 fun v3 => zpf 1401 0 (zi (v3 + 1)) <| zret 0
def fX12_deny (x1 : Int) (x2 : Int) : zX :=
  znn x1 <| zgf 512 x1 fun v2 => zpf 512 x1 (zi (v2 + 1)) <| zgf 1307 0 fun v3 => znn v3 <| zcl (fX13_add v3 1 x1 x2) fun _ => zret 0
def fX12_may (x1 : Int) (x2 : Int) (x3 : Int) (x4 : Int) : zX :=
  zcl (fX12_isThere x1 x2 x3) fun v1 => if ¬ v1 = 0 then
  (if 8 ≤ x1 then
  (zgf 1307 0 fun v2 => znn v2 <| zcl (fX8_refusal v2 x1 x3 x4) fun v4 => if ¬ v4 = 0 then
  (zgf 1307 0 fun v5 => znn v5 <| zal 916 v5 x1 32 fun v7 => zcl (fX12_deny v7 v4) fun _ => zcl (fX12_refuse v4 x1 x2 x3) fun v9 => zrb v9) else
  (zret 1)) else
  (if ¬ x4 = 2 then
  (if x3 ≤ x1 then
  (zret 1) else
  (zcl (fX12_refuse 5 x1 x2 x3) fun v10 => if v10 = 0 then
  (zret 0) else
  (zret 1))) else
  (zcl (fX12_refuse 3 x1 x2 x3) fun v11 => zrb v11))) else
  (zret 0)
def fX12_load (x1 : Int) (x2 : Int) : zX :=
  if 8 ≤ x1 then
  (zgf 1307 0 fun v1 => znn v1 <| zal 916 v1 x1 32 fun v3 => zcl (fX1_get v3 x2) fun v4 => zret v4) else
  (zgf 1307 0 fun v5 => znn v5 <| zal 915 v5 (zi ((zi (64 * x1)) + x2)) 512 fun v7 => zret v7)
def fX14_takesMode (x0 : Int) (x1 : Int) : zX :=
  if ¬ (zsort x0) = 0 then
  (if ¬ x1 = 2 then
  (if 7 ≤ x1 then
  (zret 0) else
  (if (zsort x0) = 6 then
  (zret 0) else
  (zret 1))) else
  (if (zsort x0) = 1 then
  (zret 1) else
  (if (zsort x0) = 3 then
  (zret 1) else
  (if ¬ (zsort x0) = 6 then
  (zret 0) else
  (zret 1))))) else
  (zret 1)
def fX7_take_J148 (s0 : Int) (s1 : Int) : zX :=
  znn s0 <| zpf 801 s0 s1 <| zret 0
def fX7_take_J147 (s0 : Int) : zX :=
  fX7_take_J148 s0 (-1)
def fX7_take_J142 (x5 : Int) (s0 : Int) : zX :=
  fX7_take_J148 s0 x5
def fX7_take_J114 (x0 : Int) (x5 : Int) (s0 : Int) (s1 : Int) : zX :=
  if s1 = 0 then
  (fX7_take_J147 s0) else
  (zgf 805 x0 fun v6 => if 4 < v6 then
  (fX7_take_J147 s0) else
  (znn x5 <| if ¬ (zregs x5) = 4 then
  (fX7_take_J142 x5 s0) else
  (zgf 804 x0 fun v8 => if 4 ≤ v8 then
  (fX7_take_J147 s0) else
  (fX7_take_J142 x5 s0))))
def fX7_take_J89 (x0 : Int) (s0 : Int) : zX :=
  if s0 < 0 then
  (fX7_take_J147 x0) else
  (if (zsort s0) = 0 then
  (fX7_take_J142 s0 x0) else
  (zgf 802 x0 fun v4 => zcl (fX14_takesMode s0 v4) fun v5 => fX7_take_J114 x0 s0 x0 v5))
def fX7_take (x0 : Int) (x1 : Int) : zX :=
  zpf 800 x0 x1 <| zlt (zi (x1 / 1073741824)) fun v1 => zpf 802 x0 (zi ((x1 / 134217728) % 8)) <| zpf 803 x0 (zi ((x1 / 16777216) % 8)) <| zpf 804 x0 (zi ((x1 / 2097152) % 8)) <| zpf 805 x0 (zi ((x1 / 262144) % 8)) <| zpf 806 x0 (zi (x1 % 262144)) <| if 38 ≤ v1 then
  (fX7_take_J89 x0 (-1)) else
  (zib v1 38 <| fX7_take_J89 x0 v1)
def fX12_decode (x1 : Int) : zX :=
  zib (zi ((zxR (zxR x1 (x1 % 18446744073709551616 / 8192)) (x1 % 18446744073709551616 / 134217728)) % 512)) 512 <| zlt (zi ((zxR (zxR x1 (x1 % 18446744073709551616 / 8192)) (x1 % 18446744073709551616 / 134217728)) % 512)) fun v3 => zgf 800 v3 fun v4 => if v4 = x1 then
  (zret v3) else
  (zcl (fX7_take v3 x1) fun _ => zret v3)
def fX12_refuseHere (x1 : Int) : zX :=
  zgf 1307 0 fun v1 => znn v1 <| zgf 1006 v1 fun v3 => zgf 1007 v1 fun v4 => zgf 1008 v1 fun v5 => zcl (fX12_refuse x1 v3 v4 v5) fun v6 => zrb v6
def fX8_end (x0 : Int) : zX :=
  zpf 903 x0 2 <| zcl (fX8_event x0 6 0 0 0) fun _ => zret 0
def fX15_run_0 (x2 : Int) (x3 : Int) : zX :=
  zgf 1307 0 fun v1 => znn v1 <| zcl (fX8_end v1) fun _ => zret 1
def fX15_run_1 (x2 : Int) (x3 : Int) : zX :=
  zret 1
def fX12_value_J39 (s1 : Int) : zX :=
  zpf 1311 0 s1 <| zret 1
def fX12_value : zX :=
  zgf 1308 0 fun v1 => if 0 ≤ v1 then
  (zgf 1308 0 fun v2 => zgf 1309 0 fun v3 => zgf 1310 0 fun v4 => zcl (fX12_may v2 v3 v4 1) fun v5 => if ¬ v5 = 0 then
  (zgf 1308 0 fun v6 => zgf 1309 0 fun v7 => zcl (fX12_load v6 v7) fun v8 => zpf 1311 0 v8 <| zret 1) else
  (zret 0)) else
  (zgf 1309 0 fun v9 => if ¬ (v9 / 131072) = 0 then
  (zgf 1309 0 fun v10 => fX12_value_J39 ((zl (v10 - 262144)) % 68719476736)) else
  (zgf 1309 0 fun v11 => fX12_value_J39 v11))
def fX9_tell_J30 (s0 : Int) (s1 : Int) : zX :=
  znn s0 <| zpb 1010 s0 s1 <| zret 0
def fX9_tell_J12 (x0 : Int) (x1 : Int) (s0 : Int) (s1 : Int) : zX :=
  znn s0 <| zpb 1009 s0 s1 <| if ¬ (x1 / 34359738368) = 1 then
  (fX9_tell_J30 x0 0) else
  (fX9_tell_J30 x0 1)
def fX9_tell (x0 : Int) (x1 : Int) : zX :=
  if ¬ x1 = 0 then
  (fX9_tell_J12 x0 x1 x0 0) else
  (fX9_tell_J12 x0 x1 x0 1)
def fX16_run_2_J35 (x3 : Int) : zX :=
  zgf 1311 0 fun v4 => znn x3 <| zcl (fX9_tell x3 v4) fun _ => zret 1
def fX16_run_2 (x2 : Int) (x3 : Int) : zX :=
  zcl fX12_value fun v1 => if ¬ v1 = 0 then
  (zgf 1311 0 fun v2 => znn x3 <| zpf 1000 x3 v2 <| fX16_run_2_J35 x3) else
  (zret 0)
def fX16_run_3_J35 (x3 : Int) : zX :=
  zgf 1311 0 fun v4 => znn x3 <| zcl (fX9_tell x3 v4) fun _ => zret 1
def fX16_run_3 (x2 : Int) (x3 : Int) : zX :=
  zcl fX12_value fun v1 => if ¬ v1 = 0 then
  (zgf 1311 0 fun v2 => znn x3 <| zpf 1001 x3 v2 <| fX16_run_3_J35 x3) else
  (zret 0)
def fX18_reckon_4 (x1 : Int) (x3 : Int) : zX :=
  zret (zl (x1 + (zl (1 * x3))))
def fX17_run_4 (x2 : Int) (x3 : Int) : zX :=
  zcl fX12_value fun v1 => if ¬ v1 = 0 then
  (znn x3 <| zgf 1000 x3 fun v3 => zgf 1311 0 fun v4 => zcl (fX18_reckon_4 v3 v4) fun v5 => zpf 1000 x3 (v5 % 68719476736) <| zgf 1000 x3 fun v6 => zcl (fX9_tell x3 v6) fun _ => zret 1) else
  (zret 0)
def fX18_reckon_5 (x1 : Int) (x3 : Int) : zX :=
  zret (zl (x1 + (zl ((-1) * x3))))
def fX17_run_5 (x2 : Int) (x3 : Int) : zX :=
  zcl fX12_value fun v1 => if ¬ v1 = 0 then
  (znn x3 <| zgf 1000 x3 fun v3 => zgf 1311 0 fun v4 => zcl (fX18_reckon_5 v3 v4) fun v5 => zpf 1000 x3 (v5 % 68719476736) <| zgf 1000 x3 fun v6 => zcl (fX9_tell x3 v6) fun _ => zret 1) else
  (zret 0)
def fX19_reckon_6 (x1 : Int) (x3 : Int) : zX :=
  zret (zl (x1 * x3))
def fX17_run_6 (x2 : Int) (x3 : Int) : zX :=
  zcl fX12_value fun v1 => if ¬ v1 = 0 then
  (znn x3 <| zgf 1000 x3 fun v3 => zgf 1311 0 fun v4 => zcl (fX19_reckon_6 v3 v4) fun v5 => zpf 1000 x3 (v5 % 68719476736) <| zgf 1000 x3 fun v6 => zcl (fX9_tell x3 v6) fun _ => zret 1) else
  (zret 0)
def fX0_signed (x0 : Int) : zX :=
  if ¬ (x0 / 34359738368) = 0 then
  (zret (zl (x0 - 68719476736))) else
  (zret x0)
def fX20_run_7 (x2 : Int) (x3 : Int) : zX :=
  zcl fX12_value fun v1 => if ¬ v1 = 0 then
  (zgf 1311 0 fun v2 => if ¬ v2 = 0 then
  (znn x3 <| zgf 1000 x3 fun v4 => zcl (fX0_signed v4) fun v5 => zgf 1311 0 fun v6 => zcl (fX0_signed v6) fun v7 => zne v7 <| zpf 1000 x3 ((zl (Int.tdiv v5 v7)) % 68719476736) <| zne v7 <| zpf 1001 x3 ((Int.tmod v5 v7) % 68719476736) <| zgf 1000 x3 fun v10 => zcl (fX9_tell x3 v10) fun _ => zret 1) else
  (zcl (fX12_refuseHere 12) fun v12 => zrb v12)) else
  (zret 0)
def fX21_reckon_8 (x1 : Int) (x3 : Int) : zX :=
  zret (zaN x1 x3)
def fX17_run_8 (x2 : Int) (x3 : Int) : zX :=
  zcl fX12_value fun v1 => if ¬ v1 = 0 then
  (znn x3 <| zgf 1000 x3 fun v3 => zgf 1311 0 fun v4 => zcl (fX21_reckon_8 v3 v4) fun v5 => zpf 1000 x3 (v5 % 68719476736) <| zgf 1000 x3 fun v6 => zcl (fX9_tell x3 v6) fun _ => zret 1) else
  (zret 0)
def fX21_reckon_9 (x1 : Int) (x3 : Int) : zX :=
  zret (zoR x1 x3)
def fX17_run_9 (x2 : Int) (x3 : Int) : zX :=
  zcl fX12_value fun v1 => if ¬ v1 = 0 then
  (znn x3 <| zgf 1000 x3 fun v3 => zgf 1311 0 fun v4 => zcl (fX21_reckon_9 v3 v4) fun v5 => zpf 1000 x3 (v5 % 68719476736) <| zgf 1000 x3 fun v6 => zcl (fX9_tell x3 v6) fun _ => zret 1) else
  (zret 0)
def fX21_reckon_10 (x1 : Int) (x3 : Int) : zX :=
  zret (zxR x1 x3)
def fX17_run_10 (x2 : Int) (x3 : Int) : zX :=
  zcl fX12_value fun v1 => if ¬ v1 = 0 then
  (znn x3 <| zgf 1000 x3 fun v3 => zgf 1311 0 fun v4 => zcl (fX21_reckon_10 v3 v4) fun v5 => zpf 1000 x3 (v5 % 68719476736) <| zgf 1000 x3 fun v6 => zcl (fX9_tell x3 v6) fun _ => zret 1) else
  (zret 0)
def fX22_run_11_J58 (s0 : Int) (s1 : Int) : zX :=
  znn s0 <| zpb 1010 s0 s1 <| zret 1
def fX22_run_11_J41 (x3 : Int) (x4 : Int) (x6 : Int) (s0 : Int) (s1 : Int) : zX :=
  znn s0 <| zpb 1009 s0 s1 <| if x6 ≤ x4 then
  (fX22_run_11_J58 x3 0) else
  (fX22_run_11_J58 x3 1)
def fX22_run_11 (x2 : Int) (x3 : Int) : zX :=
  zcl fX12_value fun v1 => if ¬ v1 = 0 then
  (znn x3 <| zgf 1000 x3 fun v3 => zcl (fX0_signed v3) fun v4 => zgf 1311 0 fun v5 => zcl (fX0_signed v5) fun v6 => if ¬ v4 = v6 then
  (fX22_run_11_J41 x3 v4 v6 x3 0) else
  (fX22_run_11_J41 x3 v4 v6 x3 1)) else
  (zret 0)
def fX9_tellHalf_J27 (s0 : Int) (s1 : Int) : zX :=
  znn s0 <| zpb 1010 s0 s1 <| zret 0
def fX9_tellHalf_J10 (x0 : Int) (x1 : Int) (s0 : Int) (s1 : Int) : zX :=
  znn s0 <| zpb 1009 s0 s1 <| if ¬ (x1 / 131072) = 1 then
  (fX9_tellHalf_J27 x0 0) else
  (fX9_tellHalf_J27 x0 1)
def fX9_tellHalf (x0 : Int) (x1 : Int) : zX :=
  if ¬ x1 = 0 then
  (fX9_tellHalf_J10 x0 x1 x0 0) else
  (fX9_tellHalf_J10 x0 x1 x0 1)
def fX23_run_12_J55 (x2 : Int) (x3 : Int) (s0 : Int) (s1 : Int) (s2 : Int) : zX :=
  zas 1002 s0 s1 4 s2 <| znn x3 <| znn x2 <| zgf 804 x2 fun v9 => zal 1002 x3 v9 4 fun v10 => zcl (fX9_tellHalf x3 v10) fun _ => zret 1
def fX23_run_12 (x2 : Int) (x3 : Int) : zX :=
  zcl fX12_value fun v1 => if ¬ v1 = 0 then
  (zgf 1311 0 fun v2 => zlt (zi (v2 % 262144)) fun v3 => znn x3 <| znn x2 <| zgf 804 x2 fun v6 => fX23_run_12_J55 x2 x3 x3 v6 v3) else
  (zret 0)
def fX23_run_13_J55 (x2 : Int) (x3 : Int) (s0 : Int) (s1 : Int) (s2 : Int) : zX :=
  zas 1002 s0 s1 4 s2 <| znn x3 <| znn x2 <| zgf 804 x2 fun v11 => zal 1002 x3 v11 4 fun v12 => zcl (fX9_tellHalf x3 v12) fun _ => zret 1
def fX23_run_13 (x2 : Int) (x3 : Int) : zX :=
  zcl fX12_value fun v1 => if ¬ v1 = 0 then
  (zgf 1311 0 fun v2 => zlt (zi (v2 % 262144)) fun v3 => znn x3 <| znn x2 <| zgf 804 x2 fun v6 => zgf 804 x2 fun v7 => zal 1002 x3 v7 4 fun v8 => fX23_run_13_J55 x2 x3 x3 v6 ((zi (v8 + v3)) % 262144)) else
  (zret 0)
def fX12_store (x1 : Int) (x2 : Int) (x3 : Int) : zX :=
  if 8 ≤ x1 then
  (zgf 1307 0 fun v1 => znn v1 <| zal 916 v1 x1 32 fun v3 => zcl (fX1_put v3 x2 x3) fun _ => zret 0) else
  (zgf 1307 0 fun v5 => znn v5 <| zas 915 v5 (zi ((zi (64 * x1)) + x2)) 512 x3 <| zret 0)
def fX24_run_14_J89 (s1 : Int) (s2 : Int) (s3 : Int) : zX :=
  zcl (fX12_store s1 s2 s3) fun _ => zret 1
def fX24_run_14 (x2 : Int) (x3 : Int) : zX :=
  zgf 1308 0 fun v1 => zgf 1309 0 fun v2 => zgf 1310 0 fun v3 => zcl (fX12_may v1 v2 v3 4) fun v4 => if ¬ v4 = 0 then
  (zgf 1308 0 fun v5 => zgf 1309 0 fun v6 => znn x3 <| zgf 1000 x3 fun v8 => fX24_run_14_J89 v5 v6 v8) else
  (zret 0)
def fX24_run_15_J89 (s1 : Int) (s2 : Int) (s3 : Int) : zX :=
  zcl (fX12_store s1 s2 s3) fun _ => zret 1
def fX24_run_15 (x2 : Int) (x3 : Int) : zX :=
  zgf 1308 0 fun v1 => zgf 1309 0 fun v2 => zgf 1310 0 fun v3 => zcl (fX12_may v1 v2 v3 4) fun v4 => if ¬ v4 = 0 then
  (zgf 1308 0 fun v5 => zgf 1309 0 fun v6 => znn x3 <| zgf 1001 x3 fun v8 => fX24_run_15_J89 v5 v6 v8) else
  (zret 0)
def fX24_run_16_J89 (s1 : Int) (s2 : Int) (s3 : Int) : zX :=
  zcl (fX12_store s1 s2 s3) fun _ => zret 1
def fX24_run_16 (x2 : Int) (x3 : Int) : zX :=
  zgf 1308 0 fun v1 => zgf 1309 0 fun v2 => zgf 1310 0 fun v3 => zcl (fX12_may v1 v2 v3 4) fun v4 => if ¬ v4 = 0 then
  (zgf 1308 0 fun v5 => zgf 1309 0 fun v6 => znn x3 <| znn x2 <| zgf 804 x2 fun v9 => zal 1002 x3 v9 4 fun v10 => fX24_run_16_J89 v5 v6 v10) else
  (zret 0)
def fX9_pointer (x0 : Int) (x1 : Int) : zX :=
  zal 1003 x0 x1 8 fun v1 => zal 1004 x0 x1 8 fun v2 => zal 1005 x0 x1 8 fun v3 => zcl (fX0_pointerWord v1 v2 v3) fun v4 => zret v4
def fX24_run_17_J89 (s1 : Int) (s2 : Int) (s3 : Int) : zX :=
  zcl (fX12_store s1 s2 s3) fun _ => zret 1
def fX24_run_17 (x2 : Int) (x3 : Int) : zX :=
  zgf 1308 0 fun v1 => zgf 1309 0 fun v2 => zgf 1310 0 fun v3 => zcl (fX12_may v1 v2 v3 4) fun v4 => if ¬ v4 = 0 then
  (zgf 1308 0 fun v5 => zgf 1309 0 fun v6 => znn x2 <| zgf 804 x2 fun v8 => znn x3 <| zcl (fX9_pointer x3 v8) fun v10 => fX24_run_17_J89 v5 v6 v10) else
  (zret 0)
def fX25_run_18 (x2 : Int) (x3 : Int) : zX :=
  zgf 1308 0 fun v1 => zgf 1309 0 fun v2 => zgf 1310 0 fun v3 => zcl (fX12_may v1 v2 v3 1) fun v4 => if v4 = 0 then
  (zret 0) else
  (zgf 1308 0 fun v5 => zgf 1309 0 fun v6 => zgf 1310 0 fun v7 => zcl (fX12_may v5 v6 v7 4) fun v8 => if ¬ v8 = 0 then
  (zgf 1308 0 fun v9 => zgf 1309 0 fun v10 => zcl (fX12_load v9 v10) fun v11 => zlt ((zl (v11 + 1)) % 68719476736) fun v12 => zgf 1308 0 fun v13 => zgf 1309 0 fun v14 => zcl (fX12_store v13 v14 v12) fun _ => znn x3 <| zcl (fX9_tell x3 v12) fun _ => zret 1) else
  (zret 0))
def fX26_run_19 (x2 : Int) (x3 : Int) : zX :=
  zgf 1308 0 fun v1 => zgf 1309 0 fun v2 => zgf 1310 0 fun v3 => zcl (fX12_may v1 v2 v3 1) fun v4 => if v4 = 0 then
  (zret 0) else
  (zgf 1308 0 fun v5 => zgf 1309 0 fun v6 => zgf 1310 0 fun v7 => zcl (fX12_may v5 v6 v7 4) fun v8 => if ¬ v8 = 0 then
  (zgf 1308 0 fun v9 => zgf 1309 0 fun v10 => zcl (fX12_load v9 v10) fun v11 => zgf 1308 0 fun v12 => zgf 1309 0 fun v13 => znn x3 <| zgf 1000 x3 fun v15 => zcl (fX12_store v12 v13 v15) fun _ => zpf 1000 x3 v11 <| zcl (fX9_tell x3 v11) fun _ => zret 1) else
  (zret 0))
def fX27_run_20 (x2 : Int) (x3 : Int) : zX :=
  znn x3 <| znn x2 <| zgf 804 x2 fun v3 => zgf 1309 0 fun v4 => zas 1002 x3 v3 4 v4 <| zgf 1309 0 fun v5 => zcl (fX9_tellHalf x3 v5) fun _ => zret 1
def fX27_run_21 (x2 : Int) (x3 : Int) : zX :=
  zgf 1309 0 fun v1 => znn x3 <| zpf 1000 x3 v1 <| zgf 1000 x3 fun v3 => zcl (fX9_tell x3 v3) fun _ => zret 1
def fX28_run_22_J66 (x3 : Int) (s0 : Int) (s1 : Int) : zX :=
  znn s0 <| zpf 1000 s0 (s1 % 68719476736) <| znn x3 <| zgf 1000 x3 fun v7 => zcl (fX9_tell x3 v7) fun _ => zret 1
def fX28_run_22_J18 (x3 : Int) (s0 : Int) : zX :=
  znn x3 <| zgf 1000 x3 fun v4 => fX28_run_22_J66 x3 x3 (zl (v4 * 2 ^ (s0 % 64).toNat))
def fX28_run_22 (x2 : Int) (x3 : Int) : zX :=
  zgf 1309 0 fun v1 => if v1 ≤ 36 then
  (zgf 1309 0 fun v2 => fX28_run_22_J18 x3 v2) else
  (fX28_run_22_J18 x3 36)
def fX28_run_23_J66 (x3 : Int) (s0 : Int) (s1 : Int) : zX :=
  znn s0 <| zpf 1000 s0 (s1 % 68719476736) <| znn x3 <| zgf 1000 x3 fun v8 => zcl (fX9_tell x3 v8) fun _ => zret 1
def fX28_run_23_J18 (x3 : Int) (s0 : Int) : zX :=
  znn x3 <| zgf 1000 x3 fun v4 => zcl (fX0_signed v4) fun v5 => fX28_run_23_J66 x3 x3 (v5 / 2 ^ (s0 % 64).toNat)
def fX28_run_23 (x2 : Int) (x3 : Int) : zX :=
  zgf 1309 0 fun v1 => if v1 ≤ 36 then
  (zgf 1309 0 fun v2 => fX28_run_23_J18 x3 v2) else
  (fX28_run_23_J18 x3 36)
def fX28_run_24_J66 (x3 : Int) (s0 : Int) (s1 : Int) : zX :=
  znn s0 <| zpf 1000 s0 (s1 % 68719476736) <| znn x3 <| zgf 1000 x3 fun v7 => zcl (fX9_tell x3 v7) fun _ => zret 1
def fX28_run_24_J18 (x3 : Int) (s0 : Int) : zX :=
  znn x3 <| zgf 1000 x3 fun v4 => fX28_run_24_J66 x3 x3 (v4 / 2 ^ (s0 % 64).toNat)
def fX28_run_24 (x2 : Int) (x3 : Int) : zX :=
  zgf 1309 0 fun v1 => if v1 ≤ 36 then
  (zgf 1309 0 fun v2 => fX28_run_24_J18 x3 v2) else
  (fX28_run_24_J18 x3 36)
def fX29_run_25 (x2 : Int) (x3 : Int) : zX :=
  znn x2 <| zgf 804 x2 fun v2 => zgf 1308 0 fun v3 => zgf 1309 0 fun v4 => zgf 1310 0 fun v5 => znn x3 <| zcl (fX9_point x3 v2 v3 v4 v5) fun _ => zret 1
def fX29_run_26 (x2 : Int) (x3 : Int) : zX :=
  zgf 1308 0 fun v1 => zgf 1309 0 fun v2 => zgf 1310 0 fun v3 => zcl (fX0_pointerWord v1 v2 v3) fun v4 => znn x3 <| zpf 1000 x3 v4 <| zret 1
def fX30_goesBy (x0 : Int) (x1 : Int) (x2 : Int) : zX :=
  if x0 = 0 then
  (zret 1) else
  if x0 = 1 then
  (znn x2 <| zgf 1009 x2 fun v4 => zrb v4) else
  if x0 = 2 then
  (znn x2 <| zgf 1009 x2 fun v7 => if ¬ v7 = 0 then
  (zret 0) else
  (zret 1)) else
  if x0 = 3 then
  (znn x2 <| zgf 1010 x2 fun v10 => zrb v10) else
  if x0 = 4 then
  (znn x2 <| zgf 1010 x2 fun v13 => if ¬ v13 = 0 then
  (zret 0) else
  (zret 1)) else
  (znn x2 <| znn x1 <| zgf 804 x1 fun v16 => zgf 804 x1 fun v17 => zal 1002 x2 v17 4 fun v18 => zas 1002 x2 v16 4 ((zi (v18 - 1)) % 262144) <| zgf 804 x1 fun v19 => zal 1002 x2 v19 4 fun v20 => zcl (fX9_tellHalf x2 v20) fun _ => zgf 804 x1 fun v22 => zal 1002 x2 v22 4 fun v23 => if v23 = 0 then
  (zret 0) else
  (zret 1))
def fX30_run_27 (x2 : Int) (x3 : Int) : zX :=
  zcl (fX30_goesBy 0 x2 x3) fun v1 => if v1 = 0 then
  (zret 1) else
  (zgf 1308 0 fun v2 => zpf 1312 0 v2 <| zgf 1309 0 fun v3 => zpf 1313 0 v3 <| zret 1)
def fX30_run_28 (x2 : Int) (x3 : Int) : zX :=
  zcl (fX30_goesBy 1 x2 x3) fun v1 => if v1 = 0 then
  (zret 1) else
  (zgf 1308 0 fun v2 => zpf 1312 0 v2 <| zgf 1309 0 fun v3 => zpf 1313 0 v3 <| zret 1)
def fX30_run_29 (x2 : Int) (x3 : Int) : zX :=
  zcl (fX30_goesBy 2 x2 x3) fun v1 => if v1 = 0 then
  (zret 1) else
  (zgf 1308 0 fun v2 => zpf 1312 0 v2 <| zgf 1309 0 fun v3 => zpf 1313 0 v3 <| zret 1)
def fX30_run_30 (x2 : Int) (x3 : Int) : zX :=
  zcl (fX30_goesBy 3 x2 x3) fun v1 => if v1 = 0 then
  (zret 1) else
  (zgf 1308 0 fun v2 => zpf 1312 0 v2 <| zgf 1309 0 fun v3 => zpf 1313 0 v3 <| zret 1)
def fX30_run_31 (x2 : Int) (x3 : Int) : zX :=
  zcl (fX30_goesBy 4 x2 x3) fun v1 => if v1 = 0 then
  (zret 1) else
  (zgf 1308 0 fun v2 => zpf 1312 0 v2 <| zgf 1309 0 fun v3 => zpf 1313 0 v3 <| zret 1)
def fX30_run_32 (x2 : Int) (x3 : Int) : zX :=
  zcl (fX30_goesBy 5 x2 x3) fun v1 => if v1 = 0 then
  (zret 1) else
  (zgf 1308 0 fun v2 => zpf 1312 0 v2 <| zgf 1309 0 fun v3 => zpf 1313 0 v3 <| zret 1)
def fX31_deny_33 (x2 : Int) (x3 : Int) : zX :=
  zcl (fX12_deny x2 x3) fun _ => zgf 1308 0 fun v2 => zgf 1309 0 fun v3 => zgf 1310 0 fun v4 => zcl (fX12_refuse x3 v2 v3 v4) fun v5 => zret 0
def fX31_newRing_33_J90 (x2 : Int) (x3 : Int) : zX :=
  zcl (fX31_deny_33 x2 x3) fun _ => zret (-1)
def fX31_newRing_33 : zX :=
  zgf 1308 0 fun v1 => zgf 1309 0 fun v2 => zgf 1310 0 fun v3 => zcl (fX12_isThere v1 v2 v3) fun v4 => if ¬ v4 = 0 then
  (zgf 1308 0 fun v5 => if 8 ≤ v5 then
  (zgf 1307 0 fun v6 => znn v6 <| zgf 1308 0 fun v8 => zal 916 v6 v8 32 fun v9 => zgf 1307 0 fun v10 => zgf 1308 0 fun v11 => zgf 1310 0 fun v12 => znn v10 <| zcl (fX8_refusal v10 v11 v12 2) fun v14 => if v14 = 3 then
  (fX31_newRing_33_J90 v9 v14) else
  (if ¬ v14 = 4 then
  (zgf 1310 0 fun v16 => znn v9 <| zgf 509 v9 fun v18 => if v18 ≤ v16 then
  (zgf 1310 0 fun v19 => zgf 510 v9 fun v20 => if v20 < v19 then
  (zgf 1310 0 fun v21 => zgf 511 v9 fun v22 => if v21 ≤ v22 then
  (zgf 1309 0 fun v23 => zgf 521 v9 fun v24 => if v23 < v24 then
  (zgf 510 v9 fun v25 => zret v25) else
  (zgf 1307 0 fun v26 => znn v26 <| zcl (fX13_add v26 1 v9 6) fun _ => zgf 1308 0 fun v29 => zgf 1309 0 fun v30 => zgf 1310 0 fun v31 => zcl (fX12_refuse 6 v29 v30 v31) fun v32 => zret (-1))) else
  (zcl (fX31_deny_33 v9 5) fun _ => zret (-1))) else
  (zgf 1310 0 fun v34 => zret v34)) else
  (zgf 1307 0 fun v35 => znn v35 <| zcl (fX13_add v35 1 v9 7) fun _ => zgf 1308 0 fun v38 => zgf 1309 0 fun v39 => zgf 1310 0 fun v40 => zcl (fX12_refuse 7 v38 v39 v40) fun v41 => zret (-1))) else
  (fX31_newRing_33_J90 v9 v14))) else
  (zgf 1308 0 fun v42 => zgf 1309 0 fun v43 => zgf 1310 0 fun v44 => zcl (fX12_refuse 3 v42 v43 v44) fun v45 => zret (-1))) else
  (zret (-1))
def fX12_cross_J64 (x1 : Int) (x2 : Int) : zX :=
  znn x2 <| zpf 1008 x2 x1 <| zret 0
def fX12_cross_J49 (x1 : Int) (x2 : Int) (s0 : Int) (s1 : Int) : zX :=
  zgf 1308 0 fun v9 => zgf 1309 0 fun v10 => znn s0 <| zcl (fX8_event s0 s1 x1 v9 v10) fun _ => fX12_cross_J64 x1 x2
def fX12_cross (x1 : Int) : zX :=
  zgf 1307 0 fun v1 => znn v1 <| zgf 1308 0 fun v3 => zpf 1312 0 v3 <| zgf 1309 0 fun v4 => zpf 1313 0 v4 <| zgf 1008 v1 fun v5 => if x1 = v5 then
  (fX12_cross_J64 x1 v1) else
  (zgf 1307 0 fun v7 => zgf 1008 v1 fun v8 => if v8 ≤ x1 then
  (fX12_cross_J49 x1 v1 v7 4) else
  (fX12_cross_J49 x1 v1 v7 3))
def fX31_run_33 (x2 : Int) (x3 : Int) : zX :=
  zcl fX31_newRing_33 fun v1 => if 0 ≤ v1 then
  (znn x3 <| zgf 1006 x3 fun v3 => zgf 1007 x3 fun v4 => zgf 1008 x3 fun v5 => zcl (fX9_point x3 7 v3 ((zi (v4 + 1)) % 262144) v5) fun _ => zcl (fX9_point x3 6 v1 0 v1) fun _ => zcl (fX12_cross v1) fun _ => zret 1) else
  (zret 0)
def fX32_run_34 (x2 : Int) (x3 : Int) : zX :=
  zgf 1310 0 fun v1 => zcl (fX12_cross v1) fun _ => zret 1
def fX37_run_0 (x2 : Int) (x3 : Int) : zX :=
  znn x3 <| zgf 1000 x3 fun v2 => znn x2 <| zcl (fX8_event x2 1 v2 0 0) fun _ => zret 0
def fX8_refusal_2_J82 (s0 : Int) (s1 : Int) : zX :=
  if s1 < s0 then
  (zret (-4)) else
  (zret 0)
def fX8_refusal_2_J59 (x0 : Int) (x1 : Int) (x2 : Int) : zX :=
  zgf 1008 x0 fun v7 => if ¬ x2 = 1 then
  (znn x1 <| zgf 509 x1 fun v9 => fX8_refusal_2_J82 v7 v9) else
  (znn x1 <| zgf 510 x1 fun v11 => fX8_refusal_2_J82 v7 v11)
def fX8_refusal_2 (x0 : Int) (x1 : Int) (x2 : Int) : zX :=
  znn x1 <| zgf 904 x0 fun v2 => zgf 905 x0 fun v3 => zcl (fX5_of (3 * x1) v2 v3) fun v4 => if ¬ (zan v4 x2) = 0 then
  (if ¬ x2 = 1 then
  (zgf 906 x0 fun v5 => zgf 503 x1 fun v6 => if v5 = v6 then
  (fX8_refusal_2_J59 x0 x1 x2) else
  (zret (-3))) else
  (zgf 906 x0 fun v12 => zgf 503 x1 fun v13 => zcl (fX0_dominates v12 v13) fun v14 => if ¬ v14 = 0 then
  (fX8_refusal_2_J59 x0 x1 x2) else
  (zret (-3)))) else
  (zret (-2))
def fX39_on_1 (x2 : Int) (x3 : Int) (x4 : Int) : zX :=
  znn x2 <| zcl (fX4_isDirectory x2) fun v2 => if ¬ v2 = 0 then
  (znn x3 <| zgf 906 x3 fun v4 => zgf 503 x2 fun v5 => zcl (fX0_dominates v4 v5) fun v6 => if ¬ v6 = 0 then
  (zpf 920 x3 x2 <| zret 0) else
  (zret (-3))) else
  (zret (-7))
def fX38_run_1 (x2 : Int) (x3 : Int) : zX :=
  znn x2 <| zgf 920 x2 fun v2 => zpf 1306 0 v2 <| zgf 920 x2 fun v3 => zcl (fX8_refusal_2 x2 v3 1) fun v4 => if v4 = 0 then
  (znn x3 <| zgf 1000 x3 fun v6 => zcl (fX0_isName v6) fun v7 => if ¬ v7 = 0 then
  (zgf 920 x2 fun v8 => zgf 1000 x3 fun v9 => zcl (fX2_find v8 v9) fun v10 => zpf 1306 0 v10 <| if v10 < 0 then
  (zret (-1)) else
  (zcl (fX39_on_1 v10 x2 x3) fun v12 => zret v12)) else
  (zret (-8))) else
  (zret v4)
def fX40_run_2_J48 (s0 : Int) (s1 : Int) : zX :=
  znn s0 <| zpf 920 s0 s1 <| zret 0
def fX40_run_2_J23 (x2 : Int) : zX :=
  znn x2 <| zgf 920 x2 fun v4 => znn v4 <| zgf 504 v4 fun v6 => fX40_run_2_J48 x2 v6
def fX40_run_2 (x2 : Int) (x3 : Int) : zX :=
  znn x2 <| zgf 920 x2 fun v2 => if ¬ v2 = 0 then
  (fX40_run_2_J23 x2) else
  (zret (-1))
def fX40_run_3_J48 (s0 : Int) (s1 : Int) : zX :=
  znn s0 <| zpf 920 s0 s1 <| zret 0
def fX40_run_3_J23 (x2 : Int) : zX :=
  fX40_run_3_J48 x2 0
def fX40_run_3 (x2 : Int) (x3 : Int) : zX :=
  fX40_run_3_J23 x2
def fX8_numberFor_J44 (x0 : Int) (x1 : Int) (x2 : Int) : zX :=
  if x2 < 0 then
  (zret x2) else
  (zcl (fX8_know x0 x2 x1) fun _ => zret x2)
def fX8_numberFor_J37 (r5 : Int × Int → zX) (x0 : Int) (x1 : Int) (x3 : Int) (s0 : Int) : zX :=
  zlt (zi (x3 + (-1))) fun v5 => r5 (s0, v5)
def fX8_numberFor_B5 (x0 : Int) (x1 : Int) (r5 : Int × Int → zX) : Int × Int → zX := fun (x2, x3) =>
  if x3 < 8 then
  (fX8_numberFor_J44 x0 x1 x2) else
  (zal 916 x0 x3 32 fun v2 => if ¬ v2 = x1 then
  (zal 916 x0 x3 32 fun v3 => if v3 < 0 then
  (fX8_numberFor_J37 r5 x0 x1 x3 x3) else
  (fX8_numberFor_J37 r5 x0 x1 x3 x2)) else
  (zret x3))
def fX8_numberFor (x0 : Int) (x1 : Int) : zX :=
  zlp (fX8_numberFor_B5 x0 x1) zBIG ((-1), 31)
def fX41_on_4 (x2 : Int) (x3 : Int) (x4 : Int) : zX :=
  znn x2 <| zcl (fX4_isSegment x2) fun v2 => if ¬ v2 = 0 then
  (znn x3 <| zgf 904 x3 fun v4 => zgf 905 x3 fun v5 => zcl (fX5_of (3 * x2) v4 v5) fun v6 => if ¬ v6 = 0 then
  (zcl (fX8_numberFor x3 x2) fun v7 => if 0 ≤ v7 then
  (znn x4 <| zpf 1001 x4 v7 <| zret 0) else
  (zret (-5))) else
  (zret (-2))) else
  (zret (-7))
def fX38_run_4 (x2 : Int) (x3 : Int) : zX :=
  znn x2 <| zgf 920 x2 fun v2 => zpf 1306 0 v2 <| zgf 920 x2 fun v3 => zcl (fX8_refusal_2 x2 v3 1) fun v4 => if v4 = 0 then
  (znn x3 <| zgf 1000 x3 fun v6 => zcl (fX0_isName v6) fun v7 => if ¬ v7 = 0 then
  (zgf 920 x2 fun v8 => zgf 1000 x3 fun v9 => zcl (fX2_find v8 v9) fun v10 => zpf 1306 0 v10 <| if v10 < 0 then
  (zret (-1)) else
  (zcl (fX41_on_4 v10 x2 x3) fun v12 => zret v12)) else
  (zret (-8))) else
  (zret v4)
def fX12_isKnown (x0 : Int) (x1 : Int) : zX :=
  zcl (fX0_isIn x1 8 31) fun v1 => if v1 = 0 then
  (zret 0) else
  (znn x0 <| zal 916 x0 (zi x1) 32 fun v3 => if v3 < 0 then
  (zret 0) else
  (zret 1))
def fX42_run_5 (x2 : Int) (x3 : Int) : zX :=
  znn x3 <| zgf 1000 x3 fun v2 => zcl (fX12_isKnown x2 v2) fun v3 => if ¬ v3 = 0 then
  (zgf 1000 x3 fun v4 => znn x2 <| zcl (fX8_forget x2 (zi v4)) fun _ => zret 0) else
  (zret (-1))
def fX43_run_6_J70 (x3 : Int) (x5 : Int) : zX :=
  if x5 < 0 then
  (zret (-1)) else
  (zgf 502 x5 fun v11 => znn x3 <| zpf 1001 x3 v11 <| zret 0)
def fX43_run_6_B42 (x3 : Int) (r42 : Int × Int → zX) : Int × Int → zX := fun (x5, x6) =>
  if x6 ≤ 0 then
  (fX43_run_6_J70 x3 x5) else
  (if x5 < 0 then
  (fX43_run_6_J70 x3 x5) else
  (zgf 506 x5 fun v14 => zlt (zl (x6 - 1)) fun v15 => r42 (v14, v15)))
def fX43_run_6 (x2 : Int) (x3 : Int) : zX :=
  znn x2 <| zgf 920 x2 fun v2 => zpf 1306 0 v2 <| zgf 920 x2 fun v3 => zcl (fX8_refusal_2 x2 v3 1) fun v4 => if v4 = 0 then
  (zgf 920 x2 fun v5 => znn v5 <| zgf 513 v5 fun v7 => znn x3 <| zgf 1000 x3 fun v9 => zlp (fX43_run_6_B42 x3) zBIG (v7, v9)) else
  (zret v4)
def fX44_on_7 (x2 : Int) (x3 : Int) (x4 : Int) : zX :=
  znn x2 <| zgf 501 x2 fun v2 => zgf 503 x2 fun v3 => zgf 509 x2 fun v4 => zgf 510 x2 fun v5 => zgf 511 x2 fun v6 => zgf 522 x2 fun v7 => znn x4 <| zpf 1001 x4 (zl ((zl ((zl ((zl ((zl (v2 + (zl (4 * v3)))) + (zl (128 * v4)))) + (zl (1024 * v5)))) + (zl (8192 * v6)))) + (zl (65536 * v7)))) <| zret 0
def fX38_run_7 (x2 : Int) (x3 : Int) : zX :=
  znn x2 <| zgf 920 x2 fun v2 => zpf 1306 0 v2 <| zgf 920 x2 fun v3 => zcl (fX8_refusal_2 x2 v3 1) fun v4 => if v4 = 0 then
  (znn x3 <| zgf 1000 x3 fun v6 => zcl (fX0_isName v6) fun v7 => if ¬ v7 = 0 then
  (zgf 920 x2 fun v8 => zgf 1000 x3 fun v9 => zcl (fX2_find v8 v9) fun v10 => zpf 1306 0 v10 <| if v10 < 0 then
  (zret (-1)) else
  (zcl (fX44_on_7 v10 x2 x3) fun v12 => zret v12)) else
  (zret (-8))) else
  (zret v4)
def fX45_isRight_8 (x1 : Int) (x2 : Int) : zX :=
  znn x2 <| zgf 1000 x2 fun v2 => zcl (fX0_isName v2) fun v3 => if ¬ v3 = 0 then
  (zgf 1001 x2 fun v4 => if 1024 < v4 then
  (zret 0) else
  (zret 1)) else
  (zret 0)
def fX45_run_8_J113 (x2 : Int) (x3 : Int) (s0 : Int) : zX :=
  if 0 ≤ s0 then
  (zib s0 256 <| znn x3 <| zgf 1008 x3 fun v14 => zgf 1008 x3 fun v15 => zgf 1008 x3 fun v16 => zcl (fX4_setBrackets s0 v14 v15 v16) fun _ => zcl (fX5_clear (3 * s0)) fun _ => znn x2 <| zgf 904 x2 fun v20 => zgf 905 x2 fun v21 => zcl (fX5_set (3 * s0) v20 v21 7) fun v22 => zgf 920 x2 fun v23 => znn v23 <| zcl (fX4_initial v23 2) fun v25 => zcl (fX5_take (3 * s0) v25) fun _ => zgf 207 0 fun v27 => zpf 207 0 (zi (v27 + 1)) <| zret 0) else
  (zret s0)
def fX45_run_8 (x2 : Int) (x3 : Int) : zX :=
  znn x2 <| zgf 920 x2 fun v2 => zpf 1306 0 v2 <| zgf 920 x2 fun v3 => zcl (fX8_refusal_2 x2 v3 4) fun v4 => if v4 = 0 then
  (zcl (fX45_isRight_8 x2 x3) fun v5 => if ¬ v5 = 0 then
  (zgf 920 x2 fun v6 => znn x3 <| zgf 1000 x3 fun v8 => zgf 1001 x3 fun v9 => zcl (fX12_newSegment v6 v8 (zi v9)) fun v10 => fX45_run_8_J113 x2 x3 v10) else
  (zret (-8))) else
  (zret v4)
def fX45_isRight_9 (x1 : Int) (x2 : Int) : zX :=
  znn x2 <| zgf 1000 x2 fun v2 => zcl (fX0_isName v2) fun v3 => if ¬ v3 = 0 then
  (zgf 1001 x2 fun v4 => zcl (fX0_isLabel v4) fun v5 => if v5 = 0 then
  (zret 0) else
  (zgf 1001 x2 fun v6 => znn x1 <| zgf 920 x1 fun v8 => znn v8 <| zgf 503 v8 fun v10 => zal 1002 x2 0 4 fun v11 => zcl (fX0_isRightLimit (zi v6) v10 v11) fun v12 => if v12 = 0 then
  (zret 0) else
  (zret 1))) else
  (zret 0)
def fX45_run_9_J113 (x2 : Int) (x3 : Int) (s0 : Int) : zX :=
  if 0 ≤ s0 then
  (zib s0 256 <| znn x3 <| zgf 1008 x3 fun v15 => zgf 1008 x3 fun v16 => zgf 1008 x3 fun v17 => zcl (fX4_setBrackets s0 v15 v16 v17) fun _ => zcl (fX5_clear (3 * s0)) fun _ => znn x2 <| zgf 904 x2 fun v21 => zgf 905 x2 fun v22 => zcl (fX5_set (3 * s0) v21 v22 7) fun v23 => zgf 920 x2 fun v24 => znn v24 <| zcl (fX4_initial v24 1) fun v26 => zcl (fX5_take (3 * s0) v26) fun _ => zgf 207 0 fun v28 => zpf 207 0 (zi (v28 + 1)) <| zret 0) else
  (zret s0)
def fX45_run_9 (x2 : Int) (x3 : Int) : zX :=
  znn x2 <| zgf 920 x2 fun v2 => zpf 1306 0 v2 <| zgf 920 x2 fun v3 => zcl (fX8_refusal_2 x2 v3 4) fun v4 => if v4 = 0 then
  (zcl (fX45_isRight_9 x2 x3) fun v5 => if ¬ v5 = 0 then
  (zgf 920 x2 fun v6 => znn x3 <| zgf 1000 x3 fun v8 => zgf 1001 x3 fun v9 => zal 1002 x3 0 4 fun v10 => zcl (fX12_newDirectory v6 v8 (zi v9) v10) fun v11 => fX45_run_9_J113 x2 x3 v11) else
  (zret (-8))) else
  (zret v4)
def fX4_isUpgraded (x0 : Int) : zX :=
  zgf 504 x0 fun v1 => if v1 < 0 then
  (zret 0) else
  (zgf 503 x0 fun v3 => zgf 504 x0 fun v4 => znn v4 <| zgf 503 v4 fun v6 => if v3 = v6 then
  (zret 0) else
  (zret 1))
def fX46_on_10 (x2 : Int) (x3 : Int) (x4 : Int) : zX :=
  znn x2 <| zcl (fX4_isUpgraded x2) fun v2 => if v2 = 0 then
  (znn x4 <| zgf 1008 x4 fun v4 => zgf 509 x2 fun v5 => if v4 ≤ v5 then
  (zgf 515 x2 fun v6 => if v6 ≤ 0 then
  (zcl (fX1_remove 300 x2) fun v7 => zret 0) else
  (zret (-7))) else
  (zret (-4))) else
  (zret (-3))
def fX38_run_10 (x2 : Int) (x3 : Int) : zX :=
  znn x2 <| zgf 920 x2 fun v2 => zpf 1306 0 v2 <| zgf 920 x2 fun v3 => zcl (fX8_refusal_2 x2 v3 2) fun v4 => if v4 = 0 then
  (znn x3 <| zgf 1000 x3 fun v6 => zcl (fX0_isName v6) fun v7 => if ¬ v7 = 0 then
  (zgf 920 x2 fun v8 => zgf 1000 x3 fun v9 => zcl (fX2_find v8 v9) fun v10 => zpf 1306 0 v10 <| if v10 < 0 then
  (zret (-1)) else
  (zcl (fX46_on_10 v10 x2 x3) fun v12 => zret v12)) else
  (zret (-8))) else
  (zret v4)
def fX47_on_11_J64 (x2 : Int) (x4 : Int) : zX :=
  znn x4 <| zgf 1001 x4 fun v13 => zcl (fX1_rename x2 v13) fun _ => zret 0
def fX47_on_11 (x2 : Int) (x3 : Int) (x4 : Int) : zX :=
  znn x4 <| zgf 1001 x4 fun v2 => zcl (fX0_isName v2) fun v3 => if ¬ v3 = 0 then
  (zgf 1008 x4 fun v4 => znn x2 <| zgf 509 x2 fun v6 => if v4 ≤ v6 then
  (znn x3 <| zgf 920 x3 fun v8 => zgf 1001 x4 fun v9 => zcl (fX2_find v8 v9) fun v10 => if v10 < 0 then
  (fX47_on_11_J64 x2 x4) else
  (if v10 = x2 then
  (fX47_on_11_J64 x2 x4) else
  (zret (-6)))) else
  (zret (-4))) else
  (zret (-8))
def fX38_run_11 (x2 : Int) (x3 : Int) : zX :=
  znn x2 <| zgf 920 x2 fun v2 => zpf 1306 0 v2 <| zgf 920 x2 fun v3 => zcl (fX8_refusal_2 x2 v3 2) fun v4 => if v4 = 0 then
  (znn x3 <| zgf 1000 x3 fun v6 => zcl (fX0_isName v6) fun v7 => if ¬ v7 = 0 then
  (zgf 920 x2 fun v8 => zgf 1000 x3 fun v9 => zcl (fX2_find v8 v9) fun v10 => zpf 1306 0 v10 <| if v10 < 0 then
  (zret (-1)) else
  (zcl (fX47_on_11 v10 x2 x3) fun v12 => zret v12)) else
  (zret (-8))) else
  (zret v4)
def fX48_on_12 (x2 : Int) (x3 : Int) (x4 : Int) : zX :=
  znn x4 <| zal 1002 x4 0 4 fun v2 => if 16 < v2 then
  (zret (-8)) else
  (zal 1002 x4 1 4 fun v3 => if 8 < v3 then
  (zret (-8)) else
  (zal 1002 x4 2 4 fun v4 => if v4 ≤ 8 then
  (zgf 1008 x4 fun v5 => znn x2 <| zgf 509 x2 fun v7 => if v5 ≤ v7 then
  (zgf 207 0 fun v8 => zpf 207 0 (zi (v8 + 1)) <| zal 1002 x4 0 4 fun v9 => zal 1002 x4 1 4 fun v10 => zal 1002 x4 2 4 fun v11 => zcl (fX5_set (3 * x2) v9 v10 v11) fun v12 => zret v12) else
  (zret (-4))) else
  (zret (-8))))
def fX38_run_12 (x2 : Int) (x3 : Int) : zX :=
  znn x2 <| zgf 920 x2 fun v2 => zpf 1306 0 v2 <| zgf 920 x2 fun v3 => zcl (fX8_refusal_2 x2 v3 2) fun v4 => if v4 = 0 then
  (znn x3 <| zgf 1000 x3 fun v6 => zcl (fX0_isName v6) fun v7 => if ¬ v7 = 0 then
  (zgf 920 x2 fun v8 => zgf 1000 x3 fun v9 => zcl (fX2_find v8 v9) fun v10 => zpf 1306 0 v10 <| if v10 < 0 then
  (zret (-1)) else
  (zcl (fX48_on_12 v10 x2 x3) fun v12 => zret v12)) else
  (zret (-8))) else
  (zret v4)
def fX49_on_13_J79 (x2 : Int) (x4 : Int) (x5 : Int) (x6 : Int) (x7 : Int) (x8 : Int) (s0 : Int) (s1 : Int) : zX :=
  if s0 ≤ s1 then
  (znn x4 <| zgf 1008 x4 fun v14 => znn x2 <| zgf 509 x2 fun v16 => if v16 < v14 then
  (zret (-4)) else
  (zgf 1008 x4 fun v17 => if v17 ≤ x5 then
  (zcl (fX4_setBrackets x2 x5 x6 x7) fun _ => zpf 521 x2 (zi x8) <| zret 0) else
  (zret (-4)))) else
  (zret (-8))
def fX49_on_13 (x2 : Int) (x3 : Int) (x4 : Int) : zX :=
  znn x4 <| zgf 1001 x4 fun v2 => zlt (zi (v2 % 8)) fun v3 => zgf 1001 x4 fun v4 => zlt (zi ((v4 / 8) % 8)) fun v5 => zgf 1001 x4 fun v6 => zlt (zi ((v6 / 64) % 8)) fun v7 => zgf 1001 x4 fun v8 => zlt (v8 / 512) fun v9 => zcl (fX0_areBrackets v3 v5 v7) fun v10 => if v10 = 0 then
  (zret (-8)) else
  (znn x2 <| zcl (fX4_isSegment x2) fun v12 => if v12 = 0 then
  (fX49_on_13_J79 x2 x4 v3 v5 v7 v9 v9 0) else
  (fX49_on_13_J79 x2 x4 v3 v5 v7 v9 v9 63))
def fX38_run_13 (x2 : Int) (x3 : Int) : zX :=
  znn x2 <| zgf 920 x2 fun v2 => zpf 1306 0 v2 <| zgf 920 x2 fun v3 => zcl (fX8_refusal_2 x2 v3 2) fun v4 => if v4 = 0 then
  (znn x3 <| zgf 1000 x3 fun v6 => zcl (fX0_isName v6) fun v7 => if ¬ v7 = 0 then
  (zgf 920 x2 fun v8 => zgf 1000 x3 fun v9 => zcl (fX2_find v8 v9) fun v10 => zpf 1306 0 v10 <| if v10 < 0 then
  (zret (-1)) else
  (zcl (fX49_on_13 v10 x2 x3) fun v12 => zret v12)) else
  (zret (-8))) else
  (zret v4)
def fX50_run_14 (x2 : Int) (x3 : Int) : zX :=
  znn x3 <| zgf 1000 x3 fun v2 => zcl (fX12_isKnown x2 v2) fun v3 => if ¬ v3 = 0 then
  (zgf 1000 x3 fun v4 => zlt (zi v4) fun v5 => znn x2 <| zal 916 x2 v5 32 fun v7 => zpf 1306 0 v7 <| zgf 1008 x3 fun v8 => zcl (fX8_refusal x2 v5 v8 4) fun v9 => if v9 = 0 then
  (zgf 1001 x3 fun v10 => if v10 ≤ 1024 then
  (zal 916 x2 v5 32 fun v11 => zgf 1001 x3 fun v12 => zcl (fX12_newLength v11 (zi v12)) fun v13 => if v13 = 0 then
  (zret (-5)) else
  (zret 0)) else
  (zret (-8))) else
  (if ¬ v9 = 3 then
  (if ¬ v9 = 4 then
  (zret (-4)) else
  (zret (-3))) else
  (zret (-2)))) else
  (zret (-1))
def fX51_on_15 (x2 : Int) (x3 : Int) (x4 : Int) : zX :=
  znn x2 <| zgf 516 x2 fun v2 => if ¬ v2 = 0 then
  (zcl (fX4_isUpgraded x2) fun v3 => if v3 = 0 then
  (znn x4 <| zgf 1008 x4 fun v5 => zgf 509 x2 fun v6 => if v5 ≤ v6 then
  (zgf 1001 x4 fun v7 => zcl (fX0_isIn v7 1 255) fun v8 => if ¬ v8 = 0 then
  (zgf 1001 x4 fun v9 => zcl (fX1_limit x2 (zi v9)) fun v10 => if v10 = 0 then
  (zret (-5)) else
  (zret 0)) else
  (zret (-8))) else
  (zret (-4))) else
  (zret (-3))) else
  (zret (-7))
def fX38_run_15 (x2 : Int) (x3 : Int) : zX :=
  znn x2 <| zgf 920 x2 fun v2 => zpf 1306 0 v2 <| zgf 920 x2 fun v3 => zcl (fX8_refusal_2 x2 v3 2) fun v4 => if v4 = 0 then
  (znn x3 <| zgf 1000 x3 fun v6 => zcl (fX0_isName v6) fun v7 => if ¬ v7 = 0 then
  (zgf 920 x2 fun v8 => zgf 1000 x3 fun v9 => zcl (fX2_find v8 v9) fun v10 => zpf 1306 0 v10 <| if v10 < 0 then
  (zret (-1)) else
  (zcl (fX51_on_15 v10 x2 x3) fun v12 => zret v12)) else
  (zret (-8))) else
  (zret v4)
def fX52_run_16_J40 (s0 : Int) (s1 : Int) (s2 : Int) : zX :=
  zas 921 s0 s1 4 s2 <| zret 0
def fX52_run_16 (x2 : Int) (x3 : Int) : zX :=
  znn x3 <| zal 1002 x3 0 4 fun v2 => if v2 < 4 then
  (znn x2 <| zal 1002 x3 0 4 fun v4 => zgf 1000 x3 fun v5 => if ¬ v5 = 0 then
  (zgf 920 x2 fun v6 => fX52_run_16_J40 x2 v4 v6) else
  (fX52_run_16_J40 x2 v4 (-1))) else
  (zret (-8))
def fX53_run_17_J15 (x2 : Int) (x3 : Int) (s0 : Int) (s1 : Int) : zX :=
  znn s0 <| zpb 911 s0 s1 <| znn x3 <| zal 1003 x3 0 8 fun v6 => znn x2 <| zpf 912 x2 v6 <| zal 1004 x3 0 8 fun v8 => zpf 913 x2 v8 <| zgf 1008 x3 fun v9 => zpf 914 x2 v9 <| zret 0
def fX53_run_17 (x2 : Int) (x3 : Int) : zX :=
  znn x3 <| zgf 1000 x3 fun v2 => if v2 = 0 then
  (fX53_run_17_J15 x2 x3 x2 0) else
  (fX53_run_17_J15 x2 x3 x2 1)
def fX54_run_18_J81 (x2 : Int) (s0 : Int) (s1 : Int) : zX :=
  znn s0 <| zpf 1007 s0 s1 <| znn x2 <| zgf 910 x2 fun v16 => zpf 910 x2 (zi (v16 - 1)) <| zpf 1314 0 1 <| zret 1
def fX54_run_18_J51 (x2 : Int) (x3 : Int) (x4 : Int) (s0 : Int) : zX :=
  znn x3 <| zcl (fX9_copy x3 x4) fun _ => if s0 = 0 then
  (zgf 1007 x3 fun v13 => fX54_run_18_J81 x2 x3 ((zi (v13 + 1)) % 262144)) else
  (zgf 1007 x3 fun v17 => fX54_run_18_J81 x2 x3 v17)
def fX54_run_18 (x2 : Int) (x3 : Int) : zX :=
  znn x2 <| zgf 910 x2 fun v2 => if ¬ v2 = 0 then
  (zgf 910 x2 fun v3 => zib (zi (v3 - 1)) 4 <| zlt (4 * x2 + 8 + (zi (v3 - 1))) fun v6 => znn x3 <| zgf 1008 x3 fun v8 => zgf 1008 v6 fun v9 => if v8 ≤ v9 then
  (zal 1002 x3 0 4 fun v10 => if ¬ v10 = 0 then
  (fX54_run_18_J51 x2 x3 v6 0) else
  (fX54_run_18_J51 x2 x3 v6 1)) else
  (zret (-4))) else
  (zret (-1))
def fX55_run_19 (x2 : Int) (x3 : Int) : zX :=
  znn x3 <| zal 1002 x3 0 4 fun v2 => if 8 ≤ v2 then
  (zret 0) else
  (zal 1002 x3 0 4 fun v3 => zib v3 8 <| zgf 902 v3 fun v6 => if v6 = 0 then
  (zret 0) else
  (zgf 906 v3 fun v7 => znn x2 <| zgf 906 x2 fun v9 => zcl (fX0_dominates v7 v9) fun v10 => if v10 = 0 then
  (zret 0) else
  (zcl (fX8_isFull v3) fun v11 => if ¬ v11 = 0 then
  (zret 0) else
  (zgf 1001 x3 fun v12 => zcl (fX8_receive v3 v12) fun _ => zret 0))))
def fX8_take (x0 : Int) : zX :=
  zgf 923 x0 fun v1 => zal 922 x0 v1 8 fun v2 => zgf 923 x0 fun v3 => zpf 923 x0 (Int.tmod (zi (v3 + 1)) 8) <| zgf 924 x0 fun v4 => zpf 924 x0 (zi (v4 - 1)) <| zret v2
def fX56_run_20 (x2 : Int) (x3 : Int) : zX :=
  znn x2 <| zgf 924 x2 fun v2 => if ¬ v2 = 0 then
  (zcl (fX8_take x2) fun v3 => znn x3 <| zpf 1001 x3 v3 <| zret 0) else
  (zpf 903 x2 1 <| zcl (fX8_event x2 7 0 0 0) fun _ => zpf 1314 0 1 <| zret 1)
def fX57_run_21_J51 (s0 : Int) (s1 : Int) : zX :=
  znn s0 <| zpf 1001 s0 s1 <| zret 0
def fX57_run_21 (x2 : Int) (x3 : Int) : zX :=
  znn x2 <| zgf 907 x2 fun v2 => fX57_run_21_J51 x3 v2
def fX57_run_22_J51 (s0 : Int) (s1 : Int) : zX :=
  znn s0 <| zpf 1001 s0 s1 <| zret 0
def fX57_run_22 (x2 : Int) (x3 : Int) : zX :=
  znn x2 <| zgf 904 x2 fun v2 => zgf 905 x2 fun v3 => zgf 906 x2 fun v4 => znn x3 <| zgf 1008 x3 fun v6 => fX57_run_22_J51 x3 (zl ((zl ((zl (v2 + (zl (16 * v3)))) + (zl (128 * v4)))) + (zl (4096 * v6))))
def fX58_run_23_J130 (x3 : Int) (s0 : Int) : zX :=
  znn x3 <| zpf 1001 x3 s0 <| zret 0
def fX58_run_23_J103 (x2 : Int) (x3 : Int) (x4 : Int) (s0 : Int) : zX :=
  znn x3 <| zgf 1008 x3 fun v15 => znn x2 <| zcl (fX8_refusal x2 x4 v15 4) fun v17 => if ¬ v17 = 0 then
  (fX58_run_23_J130 x3 s0) else
  (fX58_run_23_J130 x3 (zoR s0 4))
def fX58_run_23_J76 (x2 : Int) (x3 : Int) (x4 : Int) (s0 : Int) : zX :=
  znn x3 <| zgf 1008 x3 fun v11 => znn x2 <| zcl (fX8_refusal x2 x4 v11 2) fun v13 => if ¬ v13 = 0 then
  (fX58_run_23_J103 x2 x3 x4 s0) else
  (fX58_run_23_J103 x2 x3 x4 (zoR s0 2))
def fX58_run_23_J32 (s0 : Int) (s1 : Int) : zX :=
  znn s0 <| zpf 1001 s0 s1 <| zret 0
def fX58_run_23 (x2 : Int) (x3 : Int) : zX :=
  znn x3 <| zgf 1000 x3 fun v2 => if 8 ≤ v2 then
  (zgf 1000 x3 fun v3 => zcl (fX12_isKnown x2 v3) fun v4 => if ¬ v4 = 0 then
  (zgf 1000 x3 fun v5 => zlt (zi v5) fun v6 => zgf 1008 x3 fun v7 => znn x2 <| zcl (fX8_refusal x2 v6 v7 1) fun v9 => if ¬ v9 = 0 then
  (fX58_run_23_J76 x2 x3 v6 0) else
  (fX58_run_23_J76 x2 x3 v6 1)) else
  (zret (-1))) else
  (zgf 1008 x3 fun v19 => zgf 1000 x3 fun v20 => if v20 < v19 then
  (fX58_run_23_J32 x3 0) else
  (fX58_run_23_J32 x3 5))
def fX59_run_24 (x2 : Int) (x3 : Int) : zX :=
  znn x2 <| zgf 920 x2 fun v2 => zpf 1306 0 v2 <| zgf 920 x2 fun v3 => zcl (fX8_refusal_2 x2 v3 2) fun v4 => if v4 = 0 then
  (znn x3 <| zgf 1000 x3 fun v6 => zcl (fX0_isIn v6 1 2) fun v7 => if v7 = 0 then
  (zret (-8)) else
  (zal 1002 x3 0 4 fun v8 => if 16 < v8 then
  (zret (-8)) else
  (zal 1002 x3 1 4 fun v9 => if 8 < v9 then
  (zret (-8)) else
  (zal 1002 x3 2 4 fun v10 => if v10 ≤ 8 then
  (zgf 920 x2 fun v11 => zgf 1000 x3 fun v12 => znn v11 <| zcl (fX4_initial v11 (zi v12)) fun v14 => zal 1002 x3 0 4 fun v15 => zal 1002 x3 1 4 fun v16 => zal 1002 x3 2 4 fun v17 => znn v14 <| zcl (fX5_set v14 v15 v16 v17) fun v19 => zret v19) else
  (zret (-8)))))) else
  (zret v4)
def fX8_refusalOfBox (x0 : Int) (x1 : Int) (x2 : Int) : zX :=
  znn x1 <| zgf 904 x0 fun v2 => zgf 905 x0 fun v3 => zcl (fX5_of (3 * x1) v2 v3) fun v4 => if ¬ (zan v4 x2) = 0 then
  (zgf 906 x0 fun v5 => zgf 503 x1 fun v6 => zcl (fX0_dominates v5 v6) fun v7 => if ¬ v7 = 0 then
  (zgf 1008 x0 fun v8 => zgf 510 x1 fun v9 => if v9 < v8 then
  (zret (-4)) else
  (zret 0)) else
  (zret (-3))) else
  (zret (-2))
def fX6_many_J28 (r4 : Int × Int → zX) (x0 : Int) (x1 : Int) (x3 : Int) (s0 : Int) (s1 : Int) : zX :=
  zlt (zi (s0 + s1)) fun v3 => zlt (zi (x3 + 1)) fun v4 => r4 (v3, v4)
def fX6_many_B4 (x0 : Int) (x1 : Int) (r4 : Int × Int → zX) : Int × Int → zX := fun (x2, x3) =>
  zgf 702 x0 fun v1 => if v1 ≤ x3 then
  (zret x2) else
  (zal 701 x0 x3 128 fun v2 => if ¬ v2 = x1 then
  (fX6_many_J28 r4 x0 x1 x3 x2 0) else
  (fX6_many_J28 r4 x0 x1 x3 x2 1))
def fX6_many (x0 : Int) (x1 : Int) : zX :=
  zlp (fX6_many_B4 x0 x1) zBIG (0, 0)
def fX6_post (x0 : Int) (x1 : Int) (x3 : Int) : zX :=
  zcl (fX6_many x0 x3) fun v1 => if ¬ v1 = 4 then
  (zgf 702 x0 fun v2 => zas 700 x0 v2 128 x1 <| zgf 702 x0 fun v3 => zas 701 x0 v3 128 x3 <| zgf 702 x0 fun v4 => zpf 702 x0 (zi (v4 + 1)) <| zret 1) else
  (zret 0)
def fX61_with_25 (x1 : Int) (x2 : Int) (x3 : Int) : zX :=
  znn x3 <| zgf 1001 x3 fun v2 => znn x2 <| zgf 906 x2 fun v4 => znn x1 <| zcl (fX6_post x1 v2 v4) fun v6 => if v6 = 0 then
  (zret (-5)) else
  (zret 0)
def fX60_on_25 (x2 : Int) (x3 : Int) (x4 : Int) : zX :=
  znn x2 <| zcl (fX4_isMailbox x2) fun v2 => if ¬ v2 = 0 then
  (znn x3 <| zcl (fX8_refusalOfBox x3 x2 1) fun v4 => if v4 = 0 then
  (zgf 520 x2 fun v5 => zcl (fX61_with_25 v5 x3 x4) fun v6 => zret v6) else
  (zret v4)) else
  (zret (-7))
def fX38_run_25 (x2 : Int) (x3 : Int) : zX :=
  znn x2 <| zgf 920 x2 fun v2 => zpf 1306 0 v2 <| zgf 920 x2 fun v3 => zcl (fX8_refusal_2 x2 v3 1) fun v4 => if v4 = 0 then
  (znn x3 <| zgf 1000 x3 fun v6 => zcl (fX0_isName v6) fun v7 => if ¬ v7 = 0 then
  (zgf 920 x2 fun v8 => zgf 1000 x3 fun v9 => zcl (fX2_find v8 v9) fun v10 => zpf 1306 0 v10 <| if v10 < 0 then
  (zret (-1)) else
  (zcl (fX60_on_25 v10 x2 x3) fun v12 => zret v12)) else
  (zret (-8))) else
  (zret v4)
def fX6_oldest_B2 (x0 : Int) (x1 : Int) (r2 : Int → zX) : Int → zX := fun x2 =>
  zgf 702 x0 fun v1 => if v1 ≤ x2 then
  (zret (-1)) else
  (zal 701 x0 x2 128 fun v2 => if ¬ v2 = x1 then
  (zlt (zi (x2 + 1)) fun v3 => r2 v3) else
  (zret x2))
def fX6_oldest (x0 : Int) (x1 : Int) : zX :=
  zlp (fX6_oldest_B2 x0 x1) zBIG 0
def fX6_take_B20 (x0 : Int) (x2 : Int) (r20 : Int → zX) : Int → zX := fun x4 =>
  zgf 702 x0 fun v3 => if v3 ≤ x4 then
  (zret x2) else
  (zal 700 x0 (zi (x4 + 1)) 128 fun v4 => zas 700 x0 x4 128 v4 <| zal 701 x0 (zi (x4 + 1)) 128 fun v5 => zas 701 x0 x4 128 v5 <| zlt (zi (x4 + 1)) fun v6 => r20 v6)
def fX6_take (x0 : Int) (x1 : Int) : zX :=
  zal 700 x0 x1 128 fun v1 => zgf 702 x0 fun v2 => zpf 702 x0 (zi (v2 - 1)) <| zlp (fX6_take_B20 x0 v1) zBIG x1
def fX62_with_26 (x1 : Int) (x2 : Int) (x3 : Int) : zX :=
  znn x2 <| zgf 906 x2 fun v2 => znn x1 <| zcl (fX6_oldest x1 v2) fun v4 => if 0 ≤ v4 then
  (zcl (fX6_take x1 v4) fun v5 => znn x3 <| zpf 1001 x3 v5 <| zret 0) else
  (zret (-1))
def fX60_on_26 (x2 : Int) (x3 : Int) (x4 : Int) : zX :=
  znn x2 <| zcl (fX4_isMailbox x2) fun v2 => if ¬ v2 = 0 then
  (znn x3 <| zcl (fX8_refusalOfBox x3 x2 2) fun v4 => if v4 = 0 then
  (zgf 520 x2 fun v5 => zcl (fX62_with_26 v5 x3 x4) fun v6 => zret v6) else
  (zret v4)) else
  (zret (-7))
def fX38_run_26 (x2 : Int) (x3 : Int) : zX :=
  znn x2 <| zgf 920 x2 fun v2 => zpf 1306 0 v2 <| zgf 920 x2 fun v3 => zcl (fX8_refusal_2 x2 v3 1) fun v4 => if v4 = 0 then
  (znn x3 <| zgf 1000 x3 fun v6 => zcl (fX0_isName v6) fun v7 => if ¬ v7 = 0 then
  (zgf 920 x2 fun v8 => zgf 1000 x3 fun v9 => zcl (fX2_find v8 v9) fun v10 => zpf 1306 0 v10 <| if v10 < 0 then
  (zret (-1)) else
  (zcl (fX60_on_26 v10 x2 x3) fun v12 => zret v12)) else
  (zret (-8))) else
  (zret v4)
def fX6_seen_J38 (r5 : Int × Int → zX) (x0 : Int) (x1 : Int) (x3 : Int) (x4 : Int) : zX :=
  zlt (zi (x4 + 1)) fun v4 => r5 (x3, v4)
def fX6_seen_B5 (x0 : Int) (x1 : Int) (r5 : Int × Int → zX) : Int × Int → zX := fun (x3, x4) =>
  zgf 702 x0 fun v1 => if v1 ≤ x4 then
  (zret (-1)) else
  (zal 701 x0 x4 128 fun v2 => zcl (fX0_dominates x1 v2) fun v3 => if v3 = 0 then
  (fX6_seen_J38 r5 x0 x1 x3 x4) else
  (if ¬ x3 = 0 then
  (zlt (zi (x3 + (-1))) fun v5 => fX6_seen_J38 r5 x0 x1 v5 x4) else
  (zret x4)))
def fX6_seen (x0 : Int) (x1 : Int) (x2 : Int) : zX :=
  zlp (fX6_seen_B5 x0 x1) zBIG (x2, 0)
def fX63_with_27 (x1 : Int) (x2 : Int) (x3 : Int) : zX :=
  znn x2 <| zgf 906 x2 fun v2 => znn x3 <| zal 1002 x3 0 4 fun v4 => znn x1 <| zcl (fX6_seen x1 v2 v4) fun v6 => if 0 ≤ v6 then
  (zal 700 x1 v6 128 fun v7 => zpf 1001 x3 v7 <| zal 701 x1 v6 128 fun v8 => zas 1002 x3 1 4 v8 <| zret 0) else
  (zret (-1))
def fX60_on_27 (x2 : Int) (x3 : Int) (x4 : Int) : zX :=
  znn x2 <| zcl (fX4_isMailbox x2) fun v2 => if ¬ v2 = 0 then
  (znn x3 <| zcl (fX8_refusalOfBox x3 x2 4) fun v4 => if v4 = 0 then
  (zgf 520 x2 fun v5 => zcl (fX63_with_27 v5 x3 x4) fun v6 => zret v6) else
  (zret v4)) else
  (zret (-7))
def fX38_run_27 (x2 : Int) (x3 : Int) : zX :=
  znn x2 <| zgf 920 x2 fun v2 => zpf 1306 0 v2 <| zgf 920 x2 fun v3 => zcl (fX8_refusal_2 x2 v3 1) fun v4 => if v4 = 0 then
  (znn x3 <| zgf 1000 x3 fun v6 => zcl (fX0_isName v6) fun v7 => if ¬ v7 = 0 then
  (zgf 920 x2 fun v8 => zgf 1000 x3 fun v9 => zcl (fX2_find v8 v9) fun v10 => zpf 1306 0 v10 <| if v10 < 0 then
  (zret (-1)) else
  (zcl (fX60_on_27 v10 x2 x3) fun v12 => zret v12)) else
  (zret (-8))) else
  (zret v4)
def fX45_isRight_28 (x1 : Int) (x2 : Int) : zX :=
  znn x2 <| zgf 1000 x2 fun v2 => zcl (fX0_isName v2) fun v3 => if ¬ v3 = 0 then
  (zret 1) else
  (zret 0)
def fX45_run_28_J113 (x2 : Int) (x3 : Int) (s0 : Int) : zX :=
  if 0 ≤ s0 then
  (zib s0 256 <| znn x3 <| zgf 1008 x3 fun v13 => zgf 1008 x3 fun v14 => zgf 1008 x3 fun v15 => zcl (fX4_setBrackets s0 v13 v14 v15) fun _ => zcl (fX5_clear (3 * s0)) fun _ => znn x2 <| zgf 904 x2 fun v19 => zgf 905 x2 fun v20 => zcl (fX5_set (3 * s0) v19 v20 7) fun v21 => zgf 920 x2 fun v22 => znn v22 <| zcl (fX4_initial v22 3) fun v24 => zcl (fX5_take (3 * s0) v24) fun _ => zgf 207 0 fun v26 => zpf 207 0 (zi (v26 + 1)) <| zret 0) else
  (zret s0)
def fX45_run_28 (x2 : Int) (x3 : Int) : zX :=
  znn x2 <| zgf 920 x2 fun v2 => zpf 1306 0 v2 <| zgf 920 x2 fun v3 => zcl (fX8_refusal_2 x2 v3 4) fun v4 => if v4 = 0 then
  (zcl (fX45_isRight_28 x2 x3) fun v5 => if ¬ v5 = 0 then
  (zgf 920 x2 fun v6 => znn x3 <| zgf 1000 x3 fun v8 => zcl (fX12_newMailbox v6 v8) fun v9 => fX45_run_28_J113 x2 x3 v9) else
  (zret (-8))) else
  (zret v4)
def fDisp_36_run (x0 : Int) (x2 : Int) (x3 : Int) : zX :=
  if x0 = 0 then fX37_run_0 x2 x3 else
  if x0 = 1 then fX38_run_1 x2 x3 else
  if x0 = 2 then fX40_run_2 x2 x3 else
  if x0 = 3 then fX40_run_3 x2 x3 else
  if x0 = 4 then fX38_run_4 x2 x3 else
  if x0 = 5 then fX42_run_5 x2 x3 else
  if x0 = 6 then fX43_run_6 x2 x3 else
  if x0 = 7 then fX38_run_7 x2 x3 else
  if x0 = 8 then fX45_run_8 x2 x3 else
  if x0 = 9 then fX45_run_9 x2 x3 else
  if x0 = 10 then fX38_run_10 x2 x3 else
  if x0 = 11 then fX38_run_11 x2 x3 else
  if x0 = 12 then fX38_run_12 x2 x3 else
  if x0 = 13 then fX38_run_13 x2 x3 else
  if x0 = 14 then fX50_run_14 x2 x3 else
  if x0 = 15 then fX38_run_15 x2 x3 else
  if x0 = 16 then fX52_run_16 x2 x3 else
  if x0 = 17 then fX53_run_17 x2 x3 else
  if x0 = 18 then fX54_run_18 x2 x3 else
  if x0 = 19 then fX55_run_19 x2 x3 else
  if x0 = 20 then fX56_run_20 x2 x3 else
  if x0 = 21 then fX57_run_21 x2 x3 else
  if x0 = 22 then fX57_run_22 x2 x3 else
  if x0 = 23 then fX58_run_23 x2 x3 else
  if x0 = 24 then fX59_run_24 x2 x3 else
  if x0 = 25 then fX38_run_25 x2 x3 else
  if x0 = 26 then fX38_run_26 x2 x3 else
  if x0 = 27 then fX38_run_27 x2 x3 else
  if x0 = 28 then fX45_run_28 x2 x3 else zno
def fX12_serve_J72 (x2 : Int) (x3 : Int) : zX :=
  if x3 = 1 then
  (zret 1) else
  (znn x2 <| zpf 1000 x2 (x3 % 68719476736) <| zret 1)
def fX12_serve_J66 (x2 : Int) (x3 : Int) (s1 : Int) (s2 : Int) (s3 : Int) : zX :=
  zcl (fX13_add s1 s2 s3 (zi (1 - x3))) fun _ => fX12_serve_J72 x2 x3
def fX12_serve_J23 (x2 : Int) (s0 : Int) : zX :=
  if (-2) < s0 then
  (fX12_serve_J72 x2 s0) else
  (if s0 < (-4) then
  (fX12_serve_J72 x2 s0) else
  (zgf 1307 0 fun v7 => znn v7 <| zgf 1306 0 fun v9 => if v9 < 0 then
  (fX12_serve_J66 x2 s0 v7 2 (-1)) else
  (zgf 1306 0 fun v12 => znn v12 <| fX12_serve_J66 x2 s0 v7 2 v12)))
def fX12_serve (x1 : Int) : zX :=
  zgf 1307 0 fun v1 => znn v1 <| zpf 1306 0 (-1) <| zgf 1307 0 fun v3 => znn x1 <| zcl (fDisp_36_run x1 v3 v1) fun v5 => fX12_serve_J23 v1 v5
def fX33_run_35_J20 : zX :=
  zcl (fX12_refuseHere 13) fun v3 => zrb v3
def fX33_run_35 (x2 : Int) (x3 : Int) : zX :=
  znn x3 <| zgf 1008 x3 fun v2 => if 5 < v2 then
  (fX33_run_35_J20) else
  (zgf 1309 0 fun v4 => if v4 < 29 then
  (zgf 1309 0 fun v5 => zib v5 29 <| zcl (fX12_serve v5) fun v8 => zrb v8) else
  (fX33_run_35_J20))
def fX34_run_36 (x2 : Int) (x3 : Int) : zX :=
  znn x3 <| zgf 1000 x3 fun v2 => zgf 1001 x3 fun v3 => zpf 1000 x3 v3 <| zpf 1001 x3 v2 <| zgf 1000 x3 fun v4 => zcl (fX9_tell x3 v4) fun _ => zret 1
def fX35_run_37 (x2 : Int) (x3 : Int) : zX :=
  znn x3 <| zgf 1000 x3 fun v2 => zpf 1000 x3 ((zl (- v2)) % 68719476736) <| zgf 1000 x3 fun v3 => zcl (fX9_tell x3 v3) fun _ => zret 1
def fDisp_14_run (x0 : Int) (x2 : Int) (x3 : Int) : zX :=
  if x0 = 0 then fX15_run_0 x2 x3 else
  if x0 = 1 then fX15_run_1 x2 x3 else
  if x0 = 2 then fX16_run_2 x2 x3 else
  if x0 = 3 then fX16_run_3 x2 x3 else
  if x0 = 4 then fX17_run_4 x2 x3 else
  if x0 = 5 then fX17_run_5 x2 x3 else
  if x0 = 6 then fX17_run_6 x2 x3 else
  if x0 = 7 then fX20_run_7 x2 x3 else
  if x0 = 8 then fX17_run_8 x2 x3 else
  if x0 = 9 then fX17_run_9 x2 x3 else
  if x0 = 10 then fX17_run_10 x2 x3 else
  if x0 = 11 then fX22_run_11 x2 x3 else
  if x0 = 12 then fX23_run_12 x2 x3 else
  if x0 = 13 then fX23_run_13 x2 x3 else
  if x0 = 14 then fX24_run_14 x2 x3 else
  if x0 = 15 then fX24_run_15 x2 x3 else
  if x0 = 16 then fX24_run_16 x2 x3 else
  if x0 = 17 then fX24_run_17 x2 x3 else
  if x0 = 18 then fX25_run_18 x2 x3 else
  if x0 = 19 then fX26_run_19 x2 x3 else
  if x0 = 20 then fX27_run_20 x2 x3 else
  if x0 = 21 then fX27_run_21 x2 x3 else
  if x0 = 22 then fX28_run_22 x2 x3 else
  if x0 = 23 then fX28_run_23 x2 x3 else
  if x0 = 24 then fX28_run_24 x2 x3 else
  if x0 = 25 then fX29_run_25 x2 x3 else
  if x0 = 26 then fX29_run_26 x2 x3 else
  if x0 = 27 then fX30_run_27 x2 x3 else
  if x0 = 28 then fX30_run_28 x2 x3 else
  if x0 = 29 then fX30_run_29 x2 x3 else
  if x0 = 30 then fX30_run_30 x2 x3 else
  if x0 = 31 then fX30_run_31 x2 x3 else
  if x0 = 32 then fX30_run_32 x2 x3 else
  if x0 = 33 then fX31_run_33 x2 x3 else
  if x0 = 34 then fX32_run_34 x2 x3 else
  if x0 = 35 then fX33_run_35 x2 x3 else
  if x0 = 36 then fX34_run_36 x2 x3 else
  if x0 = 37 then fX35_run_37 x2 x3 else zno
def fX12_at (x1 : Int) (x2 : Int) (x3 : Int) : zX :=
  zpf 1308 0 x1 <| zpf 1309 0 x2 <| zpf 1310 0 x3 <| zret 0
def fX0_isPointer (x0 : Int) : zX :=
  if ¬ (x0 / 8589934592) = 5 then
  (zret 0) else
  (if ¬ ((x0 / 262144) % 64) = 0 then
  (zret 0) else
  (zret 1))
def fX0_numberOf (x0 : Int) : zX :=
  zret (zi ((x0 / 16777216) % 32))
def fX0_placeOf (x0 : Int) : zX :=
  zret (zi (x0 % 262144))
def fX0_ringOf (x0 : Int) : zX :=
  zret (zi ((x0 / 1073741824) % 8))
def fX0_isChained (x0 : Int) : zX :=
  if ¬ ((x0 / 536870912) % 2) = 1 then
  (zret 0) else
  (zret 1)
def fX12_indirect_J144 : zX :=
  zgf 1308 0 fun v1 => zgf 1309 0 fun v2 => zgf 1310 0 fun v3 => zcl (fX12_refuse 10 v1 v2 v3) fun v4 => zrb v4
def fX12_indirect_J99 (r2 : Int → zX) (x1 : Int) (x2 : Int) (s0 : Int) : zX :=
  zcl (fX0_numberOf x2) fun v20 => zcl (fX0_placeOf x2) fun v21 => zgf 1310 0 fun v22 => zcl (fX0_ringOf x2) fun v23 => zcl (fX12_at v20 v21 (max v22 (max v23 s0))) fun _ => zcl (fX0_isChained x2) fun v25 => if ¬ v25 = 0 then
  (zlt (zi (x1 + 1)) fun v26 => r2 v26) else
  (zret 1)
def fX12_indirect_J49 : zX :=
  zgf 1308 0 fun v28 => zgf 1309 0 fun v29 => zgf 1310 0 fun v30 => zcl (fX12_refuse 9 v28 v29 v30) fun v31 => zrb v31
def fX12_indirect_B2 (r2 : Int → zX) : Int → zX := fun x1 =>
  if 5 ≤ x1 then
  (fX12_indirect_J144) else
  (zgf 1308 0 fun v5 => zgf 1309 0 fun v6 => zgf 1310 0 fun v7 => zcl (fX12_may v5 v6 v7 1) fun v8 => if ¬ v8 = 0 then
  (zgf 1308 0 fun v9 => zgf 1309 0 fun v10 => zcl (fX12_load v9 v10) fun v11 => zcl (fX0_isPointer v11) fun v12 => if ¬ v12 = 0 then
  (zgf 1308 0 fun v13 => if 8 ≤ v13 then
  (zgf 1307 0 fun v14 => znn v14 <| zgf 1308 0 fun v16 => zal 916 v14 v16 32 fun v17 => znn v17 <| zgf 509 v17 fun v19 => fX12_indirect_J99 r2 x1 v11 v19) else
  (zgf 1308 0 fun v27 => fX12_indirect_J99 r2 x1 v11 v27)) else
  (fX12_indirect_J49)) else
  (zret 0))
def fX12_indirect : zX :=
  zlp (fX12_indirect_B2) zBIG 0
def fX12_isObject (x1 : Int) : zX :=
  znn x1 <| zgf 522 x1 fun v2 => if v2 ≤ 1 then
  (zret 0) else
  (zcl (fX1_get x1 0) fun v3 => if ¬ (v3 / 134217728) = 365 then
  (zret 0) else
  (zret 1))
def fX12_searched_J94 (r2 : Int → zX) (x1 : Int) (x3 : Int) : zX :=
  zlt (zi (x3 + 1)) fun v5 => r2 v5
def fX12_searched_B2 (x1 : Int) (r2 : Int → zX) : Int → zX := fun x3 =>
  if 4 ≤ x3 then
  (zret (-1)) else
  (zgf 1307 0 fun v1 => znn v1 <| zal 921 v1 x3 4 fun v3 => if v3 < 0 then
  (fX12_searched_J94 r2 x1 x3) else
  (zgf 1307 0 fun v6 => znn v6 <| zcl (fX8_refusal_2 v6 v3 1) fun v8 => if ¬ v8 = 0 then
  (fX12_searched_J94 r2 x1 x3) else
  (zcl (fX2_find v3 x1) fun v9 => if v9 < 0 then
  (fX12_searched_J94 r2 x1 x3) else
  (zcl (fX4_isSegment v9) fun v11 => if v11 = 0 then
  (fX12_searched_J94 r2 x1 x3) else
  (zgf 1307 0 fun v12 => znn v12 <| zgf 904 v12 fun v14 => zgf 1307 0 fun v15 => znn v15 <| zgf 905 v15 fun v17 => zcl (fX5_of (3 * v9) v14 v17) fun v18 => if (v18 % 4) = 0 then
  (fX12_searched_J94 r2 x1 x3) else
  (zret v9))))))
def fX12_searched (x1 : Int) : zX :=
  zlp (fX12_searched_B2 x1) zBIG 0
def fX12_definition_J88 (x1 : Int) (x6 : Int) (x7 : Int) : zX :=
  zcl (fX1_get x1 (zi ((zi (x6 + (zi (2 * x7)))) + 1))) fun v10 => zret (zi (v10 % 262144))
def fX12_definition_B43 (x1 : Int) (x2 : Int) (x4 : Int) (x6 : Int) (r43 : Int → zX) : Int → zX := fun x7 =>
  if x4 ≤ x7 then
  (zret (-1)) else
  (znn x1 <| zgf 522 x1 fun v7 => if v7 ≤ (zi ((zi (x6 + (zi (2 * x7)))) + 1)) then
  (zret (-1)) else
  (zcl (fX1_get x1 (zi (x6 + (zi (2 * x7))))) fun v8 => if ¬ v8 = x2 then
  (zlt (zi (x7 + 1)) fun v9 => r43 v9) else
  (fX12_definition_J88 x1 x6 x7)))
def fX12_definition (x1 : Int) (x2 : Int) : zX :=
  zcl (fX12_isObject x1) fun v1 => if ¬ v1 = 0 then
  (zcl (fX1_get x1 1) fun v2 => zlt (v2 / 262144) fun v3 => zcl (fX1_get x1 1) fun v4 => zlt (zi (v4 % 262144)) fun v5 => zlp (fX12_definition_B43 x1 x2 v3 v5) zBIG 0) else
  (zret (-1))
def fX12_bind_J138 (x1 : Int) (x2 : Int) (x6 : Int) (s0 : Int) : zX :=
  if 0 ≤ s0 then
  (zgf 1307 0 fun v15 => znn v15 <| zas 918 v15 (zi ((zi (16 * x1)) + x2)) 512 x6 <| zgf 1307 0 fun v17 => znn v17 <| zas 919 v17 (zi ((zi (16 * x1)) + x2)) 512 s0 <| zgf 1307 0 fun v19 => znn v19 <| zcl (fX8_event v19 5 x2 x6 s0) fun _ => zret 1) else
  (zret 0)
def fX12_bind_J109 (x1 : Int) (x2 : Int) (x3 : Int) (x4 : Int) (x5 : Int) (s0 : Int) : zX :=
  if 0 ≤ s0 then
  (zcl (fX1_get x3 (zi (x4 + 1))) fun v13 => zcl (fX12_definition x5 v13) fun v14 => fX12_bind_J138 x1 x2 s0 v14) else
  (fX12_bind_J138 x1 x2 s0 (-1))
def fX12_bind (x1 : Int) (x2 : Int) : zX :=
  zgf 1307 0 fun v1 => znn v1 <| zal 916 v1 x1 32 fun v3 => zcl (fX12_isObject v3) fun v4 => if v4 = 0 then
  (zret 0) else
  (zcl (fX1_get v3 0) fun v5 => if x2 < ((v5 / 262144) % 512) then
  (zcl (fX1_get v3 0) fun v6 => zlt (zi ((zi (v6 % 262144)) + (zi (2 * x2)))) fun v7 => znn v3 <| zgf 522 v3 fun v9 => if (zi (v7 + 1)) < v9 then
  (zcl (fX1_get v3 v7) fun v10 => zcl (fX12_searched v10) fun v11 => if v11 < 0 then
  (fX12_bind_J109 x1 x2 v3 v7 v11 (-1)) else
  (zgf 1307 0 fun v22 => znn v22 <| zcl (fX8_numberFor v22 v11) fun v24 => fX12_bind_J109 x1 x2 v3 v7 v11 v24)) else
  (zret 0)) else
  (zret 0))
def fX12_link_J48 : zX :=
  zcl (fX12_refuseHere 11) fun v5 => zrb v5
def fX12_link_J55 (x2 : Int) (x3 : Int) : zX :=
  zgf 1307 0 fun v9 => znn v9 <| zal 918 v9 x3 512 fun v11 => zgf 1307 0 fun v12 => znn v12 <| zal 919 v12 x3 512 fun v14 => znn x2 <| zgf 1008 x2 fun v16 => zcl (fX12_at v11 v14 v16) fun _ => zret 1
def fX12_link (x1 : Int) : zX :=
  zgf 1307 0 fun v1 => znn v1 <| zgf 1006 v1 fun v3 => zlt (zi ((zi (16 * v3)) + x1)) fun v4 => if 16 ≤ x1 then
  (fX12_link_J48) else
  (zgf 1307 0 fun v6 => znn v6 <| zal 918 v6 v4 512 fun v8 => if 0 ≤ v8 then
  (fX12_link_J55 v1 v4) else
  (zgf 1006 v1 fun v18 => zcl (fX12_bind v18 x1) fun v19 => if ¬ v19 = 0 then
  (fX12_link_J55 v1 v4) else
  (fX12_link_J48)))
def fX12_address_J169 (x1 : Int) : zX :=
  znn x1 <| zgf 802 x1 fun v16 => if v16 < 4 then
  (zret 1) else
  (zcl fX12_indirect fun v17 => if v17 = 0 then
  (zret 0) else
  (zret 1))
def fX12_address_J42 (x1 : Int) (x2 : Int) (s0 : Int) : zX :=
  znn x1 <| zgf 802 x1 fun v9 => if v9 = 0 then
  (znn x2 <| zgf 1006 x2 fun v12 => zgf 1008 x2 fun v13 => zcl (fX12_at v12 s0 v13) fun _ => fX12_address_J169 x1) else
  if v9 = 1 then
  (znn x2 <| zgf 803 x1 fun v20 => zal 1003 x2 v20 8 fun v21 => zgf 803 x1 fun v22 => zal 1004 x2 v22 8 fun v23 => zgf 1008 x2 fun v24 => zgf 803 x1 fun v25 => zal 1005 x2 v25 8 fun v26 => zcl (fX12_at v21 ((zi (v23 + s0)) % 262144) (max v24 v26)) fun _ => fX12_address_J169 x1) else
  if v9 = 2 then
  (znn x2 <| zgf 1008 x2 fun v30 => zcl (fX12_at (-1) s0 v30) fun _ => zret 1) else
  if v9 = 4 then
  (znn x2 <| zgf 1006 x2 fun v34 => zgf 1008 x2 fun v35 => zcl (fX12_at v34 s0 v35) fun _ => fX12_address_J169 x1) else
  if v9 = 5 then
  (znn x2 <| zgf 803 x1 fun v39 => zal 1003 x2 v39 8 fun v40 => zgf 803 x1 fun v41 => zal 1004 x2 v41 8 fun v42 => zgf 1008 x2 fun v43 => zgf 803 x1 fun v44 => zal 1005 x2 v44 8 fun v45 => zcl (fX12_at v40 ((zi (v42 + s0)) % 262144) (max v43 v45)) fun _ => fX12_address_J169 x1) else
  (zcl (fX12_link s0) fun v47 => if ¬ v47 = 0 then
  (fX12_address_J169 x1) else
  (zret 0))
def fX12_address (x1 : Int) : zX :=
  zgf 1307 0 fun v1 => znn v1 <| znn x1 <| zgf 805 x1 fun v4 => if ¬ v4 = 0 then
  (zgf 806 x1 fun v5 => zgf 805 x1 fun v6 => zal 1002 v1 (zi (v6 - 1)) 4 fun v7 => fX12_address_J42 x1 v1 ((zi (v5 + v7)) % 262144)) else
  (zgf 806 x1 fun v48 => fX12_address_J42 x1 v1 v48)
def fX12_step_J129 (x2 : Int) (s0 : Int) : zX :=
  if s0 = 0 then
  (zret 0) else
  (zgf 1314 0 fun v20 => if ¬ v20 = 0 then
  (zret 0) else
  (zgf 1312 0 fun v21 => znn x2 <| zpf 1006 x2 v21 <| zgf 1313 0 fun v23 => zpf 1007 x2 v23 <| zret 0))
def fX12_step_J94 (x2 : Int) (x3 : Int) (x4 : Int) : zX :=
  znn x2 <| zgf 1006 x2 fun v16 => zpf 1312 0 v16 <| zgf 1007 x2 fun v17 => zpf 1313 0 ((zi (v17 + 1)) % 262144) <| zpf 1314 0 0 <| znn x4 <| zcl (fDisp_14_run x4 x3 x2) fun v19 => fX12_step_J129 x2 v19
def fX12_step (x1 : Int) : zX :=
  zpf 1307 0 x1 <| znn x1 <| zgf 907 x1 fun v2 => zpf 907 x1 (zi (v2 + 1)) <| zgf 1006 x1 fun v3 => zgf 1007 x1 fun v4 => zgf 1008 x1 fun v5 => zcl (fX12_may v3 v4 v5 2) fun v6 => if ¬ v6 = 0 then
  (zgf 1006 x1 fun v7 => zgf 1007 x1 fun v8 => zcl (fX12_load v7 v8) fun v9 => zcl (fX12_decode v9) fun v10 => znn v10 <| zgf 801 v10 fun v12 => if v12 < 0 then
  (zcl (fX12_refuseHere 8) fun v14 => zret 0) else
  (if (zsort v12) = 0 then
  (fX12_step_J94 x1 v10 v12) else
  (zcl (fX12_address v10) fun v24 => if ¬ v24 = 0 then
  (fX12_step_J94 x1 v10 v12) else
  (zret 0)))) else
  (zret 0)
def fX8_oldest (x0 : Int) : zX :=
  zgf 923 x0 fun v1 => zal 922 x0 v1 8 fun v2 => zret v2
def fX12_tickOf_J41 (x1 : Int) : zX :=
  znn x1 <| zgf 903 x1 fun v5 => if v5 = 0 then
  (zcl (fX12_step x1) fun _ => zret 1) else
  (zret 0)
def fX12_tickOf (x1 : Int) : zX :=
  znn x1 <| zgf 902 x1 fun v2 => if ¬ v2 = 0 then
  (zgf 903 x1 fun v3 => if ¬ v3 = 1 then
  (fX12_tickOf_J41 x1) else
  (zgf 924 x1 fun v7 => if v7 ≤ 0 then
  (fX12_tickOf_J41 x1) else
  (zpf 903 x1 0 <| zcl (fX8_oldest x1) fun v8 => zcl (fX8_event x1 8 v8 0 0) fun _ => fX12_tickOf_J41 x1))) else
  (zret 0)
def fX0_tick_J55 (r31 : Int × Int → zX) (x2 : Int) (x3 : Int) (x5 : Int) (s0 : Int) (s1 : Int) : zX :=
  zlt (zi (s0 + s1)) fun v5 => zlt (zi (x5 + 1)) fun v6 => r31 (v5, v6)
def fX0_tick_B31 (x2 : Int) (x3 : Int) (r31 : Int × Int → zX) : Int × Int → zX := fun (x4, x5) =>
  if x2 ≤ x5 then
  (zret x4) else
  (zcl (fX12_tickOf x3) fun v4 => if v4 = 0 then
  (fX0_tick_J55 r31 x2 x3 x5 x4 0) else
  (fX0_tick_J55 r31 x2 x3 x5 x4 1))
def fX0_tick (x1 : Int) (x2 : Int) : zX :=
  zcl (fX0_processAt x1) fun v1 => if v1 < 0 then
  (zret (-8)) else
  (zcl (fX0_isIn x2 1 1000) fun v3 => if ¬ v3 = 0 then
  (zlp (fX0_tick_B31 x2 v1) zBIG (0, 0)) else
  (zret (-8)))
def fX0_schedule (x1 : Int) (x2 : Int) : zX :=
  zcl (fX0_isIn x1 0 15) fun v1 => if v1 = 0 then
  (zret (-8)) else
  (zcl (fX0_isIn x2 (-1) 7) fun v2 => if ¬ v2 = 0 then
  (zal 107 0 x1 16 fun v3 => zas 107 0 x1 16 x2 <| zret v3) else
  (zret (-8)))
def fX0_run_J76 (r19 : Int × Int → zX) (x1 : Int) (x3 : Int) (s0 : Int) (s1 : Int) : zX :=
  zlt (zi (s0 + s1)) fun v5 => zlt (zi (x3 + 1)) fun v6 => r19 (v5, v6)
def fX0_run_J75 (r19 : Int × Int → zX) (x1 : Int) (x3 : Int) (s0 : Int) : zX :=
  fX0_run_J76 r19 x1 x3 s0 0
def fX0_run_B19 (x1 : Int) (r19 : Int × Int → zX) : Int × Int → zX := fun (x2, x3) =>
  if x1 ≤ x3 then
  (zret x2) else
  (zgf 108 0 fun v2 => zal 107 0 v2 16 fun v3 => zgf 108 0 fun v4 => zpf 108 0 (Int.tmod (zi (v4 + 1)) 16) <| if v3 < 0 then
  (fX0_run_J75 r19 x1 x3 x2) else
  (zib v3 8 <| zcl (fX12_tickOf v3) fun v9 => if v9 = 0 then
  (fX0_run_J75 r19 x1 x3 x2) else
  (fX0_run_J76 r19 x1 x3 x2 1)))
def fX0_run (x1 : Int) : zX :=
  zcl (fX0_isIn x1 1 2000) fun v1 => if ¬ v1 = 0 then
  (zlp (fX0_run_B19 x1) zBIG (0, 0)) else
  (zret (-8))
def fX0_register (x1 : Int) (x2 : Int) : zX :=
  zcl (fX0_processAt x1) fun v1 => if v1 < 0 then
  (zret (-1)) else
  (zcl (fX0_isIn x2 2 5) fun v3 => if v3 = 0 then
  (zcl (fX0_isIn x2 16 23) fun v4 => if v4 = 0 then
  (if x2 = 0 then
  (zgf 1000 v1 fun v6 => zret v6) else
  if x2 = 1 then
  (zgf 1001 v1 fun v8 => zret v8) else
  if x2 = 6 then
  (zgf 1006 v1 fun v10 => zret v10) else
  if x2 = 7 then
  (zgf 1007 v1 fun v12 => zret v12) else
  if x2 = 8 then
  (zgf 1008 v1 fun v14 => zret v14) else
  if x2 = 9 then
  (zgf 1009 v1 fun v16 => if v16 = 0 then
  (zret 0) else
  (zret 1)) else
  if x2 = 10 then
  (zgf 1010 v1 fun v18 => if v18 = 0 then
  (zret 0) else
  (zret 1)) else
  (zret (-8))) else
  (zcl (fX9_pointer v1 (zi (x2 - 16))) fun v19 => zret v19)) else
  (zal 1002 v1 (zi (x2 - 2)) 4 fun v20 => zret v20))
def fX0_process (x1 : Int) (x2 : Int) : zX :=
  zcl (fX0_processAt x1) fun v1 => if v1 < 0 then
  (zret (-1)) else
  (zcl (fX0_isIn x2 8 11) fun v3 => if v3 = 0 then
  (if x2 = 0 then
  (zgf 903 v1 fun v5 => zret v5) else
  if x2 = 1 then
  (zgf 904 v1 fun v7 => zret v7) else
  if x2 = 2 then
  (zgf 905 v1 fun v9 => zret v9) else
  if x2 = 3 then
  (zgf 906 v1 fun v11 => zret v11) else
  if x2 = 4 then
  (zgf 907 v1 fun v13 => zret v13) else
  if x2 = 5 then
  (zgf 924 v1 fun v15 => zret v15) else
  if x2 = 6 then
  (zgf 910 v1 fun v17 => zret v17) else
  if x2 = 7 then
  (zgf 920 v1 fun v19 => znn v19 <| zret v19) else
  if x2 = 12 then
  (zgf 911 v1 fun v22 => if v22 = 0 then
  (zret 0) else
  (zret 1)) else
  if x2 = 13 then
  (zgf 1101 v1 fun v24 => zret v24) else
  (zret (-8))) else
  (zal 921 v1 (zi (x2 - 8)) 4 fun v25 => if v25 < 0 then
  (zret (-1)) else
  (zret v25)))
def fX0_stack (x1 : Int) (x2 : Int) (x3 : Int) : zX :=
  zcl (fX0_processAt x1) fun v1 => if v1 < 0 then
  (zret (-1)) else
  (zcl (fX0_isIn x2 0 7) fun v3 => if v3 = 0 then
  (zret (-1)) else
  (zcl (fX0_isIn x3 0 63) fun v4 => if ¬ v4 = 0 then
  (zal 915 v1 (zi ((zi (64 * x2)) + x3)) 512 fun v5 => zret v5) else
  (zret (-1))))
def fX0_known (x1 : Int) (x2 : Int) : zX :=
  zcl (fX0_processAt x1) fun v1 => if v1 < 0 then
  (zret (-1)) else
  (zcl (fX12_isKnown v1 x2) fun v3 => if ¬ v3 = 0 then
  (zal 916 v1 x2 32 fun v4 => znn v4 <| zret v4) else
  (zret (-1)))
def fX0_link (x1 : Int) (x2 : Int) (x3 : Int) : zX :=
  zcl (fX0_processAt x1) fun v1 => if v1 < 0 then
  (zret (-1)) else
  (zcl (fX0_isIn x2 8 31) fun v3 => if v3 = 0 then
  (zret (-1)) else
  (zcl (fX0_isIn x3 0 15) fun v4 => if v4 = 0 then
  (zret (-1)) else
  (zal 918 v1 (zi ((zi (16 * x2)) + x3)) 512 fun v5 => if 0 ≤ v5 then
  (zal 918 v1 (zi ((zi (16 * x2)) + x3)) 512 fun v6 => zal 919 v1 (zi ((zi (16 * x2)) + x3)) 512 fun v7 => zret (zl ((zl (262144 * v6)) + v7))) else
  (zret (-1)))))
def fX10_has (x0 : Int) (x1 : Int) : zX :=
  if x1 < 0 then
  (zret 0) else
  (zgf 1101 x0 fun v1 => if v1 ≤ x1 then
  (zret 0) else
  (zgf 1101 x0 fun v2 => if x1 < (zi (v2 - 64)) then
  (zret 0) else
  (zret 1)))
def fX0_event (x1 : Int) (x2 : Int) (x3 : Int) : zX :=
  zcl (fX0_processAt x1) fun v1 => if v1 < 0 then
  (zret (-1)) else
  (zcl (fX10_has v1 x2) fun v3 => if ¬ v3 = 0 then
  (zcl (fX0_isIn x3 0 3) fun v4 => if v4 = 0 then
  (zret (-8)) else
  (zal 1100 v1 (zi ((zi (4 * (Int.tmod x2 64))) + x3)) 256 fun v5 => zret v5)) else
  (zret (-1)))
def fX0_sum (x1 : Int) : zX :=
  zcl (fX0_processAt x1) fun v1 => if v1 < 0 then
  (zret 0) else
  (zgf 1102 v1 fun v3 => zret v3)
def fX0_type_J88 : zX :=
  zgf 6503 0 fun v3 => zret v3
def fX0_type_B36 (x1 : Int) (x3 : Int) (r36 : Int → zX) : Int → zX := fun x4 =>
  if x3 ≤ x4 then
  (fX0_type_J88) else
  (zgf 6503 0 fun v4 => zas 6502 0 v4 4096 (zi ((x1 / 2 ^ ((zi (8 * x4)) % 64).toNat) % 256)) <| zgf 6503 0 fun v5 => zpf 6503 0 (zi (v5 + 1)) <| zlt (zi (x4 + 1)) fun v6 => r36 v6)
def fX0_type (x1 : Int) (x3 : Int) : zX :=
  zcl (fX0_isIn x3 1 8) fun v1 => if ¬ v1 = 0 then
  (zgf 6503 0 fun v2 => if (zi (v2 + x3)) ≤ 4096 then
  (zlp (fX0_type_B36 x1 x3) zBIG 0) else
  (zret (-5))) else
  (zret (-8))
def fX0_sign_J43 (x0 : Int) : zX :=
  if ¬ x0 = 95 then
  (if ¬ x0 = 46 then
  (zret 0) else
  (zret 38)) else
  (zret 37)
def fX0_sign_J21 (x0 : Int) : zX :=
  if x0 < 48 then
  (fX0_sign_J43 x0) else
  (if 57 < x0 then
  (fX0_sign_J43 x0) else
  (zret (zi ((zi (x0 - 48)) + 27))))
def fX0_sign (x0 : Int) : zX :=
  if x0 < 97 then
  (fX0_sign_J21 x0) else
  (if 122 < x0 then
  (fX0_sign_J21 x0) else
  (zret (zi ((zi (x0 - 97)) + 1))))
def fX64_next_J155 (s1 : Int) : zX :=
  zpf 6506 0 s1 <| zret 0
def fX64_next_J127 (s1 : Int) : zX :=
  zpf 6504 0 s1 <| zgf 6506 0 fun v11 => zgf 6505 0 fun v12 => if v11 ≤ v12 then
  (zgf 6505 0 fun v13 => fX64_next_J155 (zi (v13 + 1))) else
  (zgf 6506 0 fun v14 => fX64_next_J155 v14)
def fX64_next_J110 : zX :=
  zgf 6506 0 fun v9 => zgf 6505 0 fun v10 => if v9 ≤ v10 then
  (fX64_next_J127 2) else
  (fX64_next_J127 1)
def fX64_next_B71 (r71 : Int → zX) : Int → zX := fun _ =>
  zgf 6506 0 fun v7 => zgf 6507 0 fun v8 => if v8 ≤ v7 then
  (fX64_next_J110) else
  (zgf 6506 0 fun v15 => zal 6502 0 v15 4096 fun v16 => zcl (fX0_sign v16) fun v17 => if v17 ≤ 0 then
  (fX64_next_J110) else
  (zgf 6506 0 fun v18 => zpf 6506 0 (zi (v18 + 1)) <| r71 0))
def fX64_next_J46 : zX :=
  zgf 6505 0 fun v4 => zpf 6506 0 v4 <| zgf 6505 0 fun v5 => zgf 6507 0 fun v6 => if ¬ v5 = v6 then
  (zlp (fX64_next_B71) zBIG 0) else
  (zpf 6504 0 0 <| zret 0)
def fX64_next_B8 (r8 : Int → zX) : Int → zX := fun _ =>
  zgf 6505 0 fun v2 => zgf 6507 0 fun v3 => if v3 ≤ v2 then
  (fX64_next_J46) else
  (zgf 6505 0 fun v19 => zal 6502 0 v19 4096 fun v20 => if ¬ v20 = 32 then
  (fX64_next_J46) else
  (zgf 6505 0 fun v21 => zpf 6505 0 (zi (v21 + 1)) <| r8 0))
def fX64_next : zX :=
  zgf 6506 0 fun v1 => zpf 6505 0 v1 <| zlp (fX64_next_B8) zBIG 0
def fX64_is (x1 : Int) : zX :=
  zgf 6504 0 fun v1 => if ¬ v1 = 2 then
  (zret 0) else
  (zgf 6505 0 fun v2 => zal 6502 0 v2 4096 fun v3 => if ¬ v3 = x1 then
  (zret 0) else
  (zret 1))
def fX64_isDirective_J57 (r20 : Int × Int → zX) (x1 : Int) (x3 : Int) (x5 : Int) (s0 : Int) : zX :=
  zlt (zi (x5 + 1)) fun v7 => r20 (s0, v7)
def fX64_isDirective_B20 (x1 : Int) (x3 : Int) (r20 : Int × Int → zX) : Int × Int → zX := fun (x4, x5) =>
  znn x3 <| if (zsn x3) ≤ x5 then
  (zrb x4) else
  (if x4 = 0 then
  (zrb x4) else
  (zal 6502 0 (zi (x1 + x5)) 4096 fun v5 => zsc x3 x5 fun v6 => if ¬ v5 = v6 then
  (fX64_isDirective_J57 r20 x1 x3 x5 0) else
  (fX64_isDirective_J57 r20 x1 x3 x5 1)))
def fX64_isDirective_J15 (x1 : Int) (x3 : Int) (s0 : Int) : zX :=
  zlp (fX64_isDirective_B20 x1 x3) zBIG (s0, 0)
def fX64_isDirective (x1 : Int) (x2 : Int) (x3 : Int) : zX :=
  znn x3 <| if ¬ (zi (x2 - x1)) = (zsn x3) then
  (fX64_isDirective_J15 x1 x3 0) else
  (fX64_isDirective_J15 x1 x3 1)
def fX64_wrong (x1 : Int) (x2 : Int) : zX :=
  zgf 6508 0 fun v1 => if ¬ v1 = 0 then
  (zret 0) else
  (zpf 6508 0 x1 <| zpf 6509 0 x2 <| zret 0)
def fX64_isLabelWord : zX :=
  zgf 6505 0 fun v1 => zal 6502 0 v1 4096 fun v2 => if v2 < 97 then
  (zret 0) else
  (zgf 6505 0 fun v3 => zal 6502 0 v3 4096 fun v4 => if 122 < v4 then
  (zret 0) else
  (zgf 6506 0 fun v5 => zgf 6505 0 fun v6 => if 6 < (zi (v5 - v6)) then
  (zret 0) else
  (zret 1)))
def fX64_packed_J40 (r5 : Int × Int → zX) (x1 : Int) (x2 : Int) (x5 : Int) (s0 : Int) (s1 : Int) : zX :=
  zlt (zoR s0 s1) fun v1 => zlt (zi (x5 + 1)) fun v2 => r5 (v1, v2)
def fX64_packed_B5 (x1 : Int) (x2 : Int) (r5 : Int × Int → zX) : Int × Int → zX := fun (x3, x5) =>
  if 6 ≤ x5 then
  (zret x3) else
  (if x2 ≤ (zi (x1 + x5)) then
  (fX64_packed_J40 r5 x1 x2 x5 (zl (x3 * 64)) 0) else
  (zal 6502 0 (zi (x1 + x5)) 4096 fun v3 => zcl (fX0_sign v3) fun v4 => fX64_packed_J40 r5 x1 x2 x5 (zl (x3 * 64)) v4))
def fX64_packed (x1 : Int) (x2 : Int) : zX :=
  zlp (fX64_packed_B5 x1 x2) zBIG (0, 0)
def fX64_name : zX :=
  zgf 6504 0 fun v1 => if v1 = 1 then
  (zcl fX64_isLabelWord fun v2 => if ¬ v2 = 0 then
  (zgf 6505 0 fun v3 => zgf 6506 0 fun v4 => zcl (fX64_packed v3 v4) fun v5 => zcl fX64_next fun _ => zret v5) else
  (zgf 6505 0 fun v7 => zcl (fX64_wrong 2 v7) fun v8 => zret 0)) else
  (zgf 6505 0 fun v9 => zcl (fX64_wrong 1 v9) fun v10 => zret 0)
def fX64_isEnd : zX :=
  zgf 6504 0 fun v1 => if v1 = 0 then
  (zret 1) else
  (zgf 6505 0 fun v2 => zcl (fX64_wrong 1 v2) fun v3 => if v3 = 0 then
  (zret 0) else
  (zret 1))
def fX64_findLabel_B2 (x1 : Int) (r2 : Int → zX) : Int → zX := fun x3 =>
  zgf 6512 0 fun v1 => if v1 ≤ x3 then
  (zret (-1)) else
  (zal 6510 0 x3 64 fun v2 => if ¬ v2 = x1 then
  (zlt (zi (x3 + 1)) fun v3 => r2 v3) else
  (zret x3))
def fX64_findLabel (x1 : Int) : zX :=
  zlp (fX64_findLabel_B2 x1) zBIG 0
def fX64_define : zX :=
  zgf 6505 0 fun v1 => zcl fX64_name fun v2 => zgf 6508 0 fun v3 => if v3 ≤ 0 then
  (zgf 6519 0 fun v4 => if v4 = 0 then
  (zgf 6518 0 fun v5 => if ¬ v5 = 32 then
  (zgf 6518 0 fun v6 => zas 6517 0 v6 32 v2 <| zgf 6518 0 fun v7 => zpf 6518 0 (zi (v7 + 1)) <| zcl fX64_isEnd fun v8 => zrb v8) else
  (zcl (fX64_wrong 6 v1) fun v9 => zrb v9)) else
  (zcl (fX64_findLabel v2) fun v10 => if 0 ≤ v10 then
  (zret 1) else
  (zcl (fX64_wrong 5 v1) fun v11 => if v11 = 0 then
  (zret 0) else
  (zret 1)))) else
  (zret 0)
def fX64_isDigits_J53 (r14 : Int × Int → zX) (x2 : Int) (x4 : Int) (s0 : Int) : zX :=
  zlt (zi (x4 + 1)) fun v1 => r14 (s0, v1)
def fX64_isDigits_J52 (r14 : Int × Int → zX) (x2 : Int) (x4 : Int) : zX :=
  fX64_isDigits_J53 r14 x2 x4 0
def fX64_isDigits_B14 (x2 : Int) (r14 : Int × Int → zX) : Int × Int → zX := fun (x3, x4) =>
  if x2 ≤ x4 then
  (zrb x3) else
  (if x3 = 0 then
  (fX64_isDigits_J52 r14 x2 x4) else
  (zal 6502 0 x4 4096 fun v2 => if v2 < 48 then
  (fX64_isDigits_J52 r14 x2 x4) else
  (zal 6502 0 x4 4096 fun v3 => if 57 < v3 then
  (fX64_isDigits_J52 r14 x2 x4) else
  (fX64_isDigits_J53 r14 x2 x4 1))))
def fX64_isDigits_J10 (x1 : Int) (x2 : Int) (s0 : Int) : zX :=
  zlp (fX64_isDigits_B14 x2) zBIG (s0, x1)
def fX64_isDigits (x1 : Int) (x2 : Int) : zX :=
  if x2 ≤ x1 then
  (fX64_isDigits_J10 x1 x2 0) else
  (fX64_isDigits_J10 x1 x2 1)
def fX64_isNumber : zX :=
  zgf 6504 0 fun v1 => if ¬ v1 = 1 then
  (zret 0) else
  (zgf 6505 0 fun v2 => zgf 6506 0 fun v3 => zcl (fX64_isDigits v2 v3) fun v4 => if v4 = 0 then
  (zret 0) else
  (zret 1))
def fX64_digits_B25 (r25 : Int × Int → zX) : Int × Int → zX := fun (x1, x3) =>
  zgf 6506 0 fun v4 => if v4 ≤ x3 then
  (zret x1) else
  (zal 6502 0 x3 4096 fun v5 => zlt (zl ((zl ((zl (10 * x1)) + v5)) - 48)) fun v6 => zlt (zi (x3 + 1)) fun v7 => r25 (v6, v7))
def fX64_digits : zX :=
  zgf 6506 0 fun v1 => zgf 6505 0 fun v2 => if (zi (v1 - v2)) ≤ 11 then
  (zgf 6505 0 fun v3 => zlp (fX64_digits_B25) zBIG (0, v3)) else
  (zret (-1))
def fX64_number_J37 : zX :=
  zgf 6505 0 fun v3 => zcl (fX64_wrong 3 v3) fun v4 => zret (-1)
def fX64_number (x1 : Int) : zX :=
  zcl fX64_isNumber fun v1 => if ¬ v1 = 0 then
  (zcl fX64_digits fun v2 => if v2 < 0 then
  (fX64_number_J37) else
  (if v2 ≤ x1 then
  (zcl fX64_next fun _ => zret (zi v2)) else
  (fX64_number_J37))) else
  (zgf 6505 0 fun v6 => zcl (fX64_wrong 1 v6) fun v7 => zret (-1))
def fX64_put_J31 : zX :=
  zgf 6520 0 fun v2 => zpf 6520 0 (zi (v2 + 1)) <| zret 0
def fX64_put (x1 : Int) : zX :=
  zgf 6519 0 fun v1 => if v1 = 0 then
  (fX64_put_J31) else
  (zgf 6520 0 fun v3 => if 1024 ≤ v3 then
  (fX64_put_J31) else
  (zgf 6520 0 fun v4 => zas 6521 0 v4 1024 (x1 % 68719476736) <| fX64_put_J31))
def fX64_space_J35 : zX :=
  zcl fX64_isEnd fun v3 => zrb v3
def fX64_space_B19 (x1 : Int) (r19 : Int → zX) : Int → zX := fun x2 =>
  if x1 ≤ x2 then
  (fX64_space_J35) else
  (zcl (fX64_put 0) fun _ => zlt (zi (x2 + 1)) fun v5 => r19 v5)
def fX64_space : zX :=
  zcl (fX64_number 1023) fun v1 => zgf 6508 0 fun v2 => if v2 ≤ 0 then
  (zlp (fX64_space_B19 v1) zBIG 0) else
  (zret 0)
def fX64_takes (x1 : Int) : zX :=
  zcl (fX64_is x1) fun v1 => if ¬ v1 = 0 then
  (zcl fX64_next fun _ => zret 1) else
  (zgf 6505 0 fun v3 => zcl (fX64_wrong 1 v3) fun v4 => zrb v4)
def fX64_term_J115 (s1 : Int) (s2 : Int) (s3 : Int) : zX :=
  zpf 6522 0 (zl (s1 + (zl (s2 * s3)))) <| zret 1
def fX64_term_J93 (x1 : Int) (x6 : Int) : zX :=
  zgf 6522 0 fun v7 => if 0 ≤ x6 then
  (zal 6511 0 x6 64 fun v8 => fX64_term_J115 v7 x1 v8) else
  (fX64_term_J115 v7 x1 0)
def fX64_term (x1 : Int) : zX :=
  zgf 6505 0 fun v1 => zcl fX64_isNumber fun v2 => if v2 = 0 then
  (zcl fX64_name fun v3 => zgf 6508 0 fun v4 => if v4 ≤ 0 then
  (zcl (fX64_findLabel v3) fun v5 => zgf 6519 0 fun v6 => if v6 = 0 then
  (fX64_term_J93 x1 v5) else
  (if 0 ≤ v5 then
  (fX64_term_J93 x1 v5) else
  (zcl (fX64_wrong 5 v1) fun v9 => zrb v9))) else
  (zret 0)) else
  (zcl fX64_digits fun v10 => if 0 ≤ v10 then
  (zgf 6522 0 fun v11 => zpf 6522 0 (zl (v11 + (zl (x1 * v10)))) <| zcl fX64_next fun _ => zret 1) else
  (zcl (fX64_wrong 3 v1) fun v13 => zrb v13))
def fX64_expression_J131 (x5 : Int) : zX :=
  zcl (fX64_wrong 3 x5) fun v5 => if v5 = 0 then
  (zret 0) else
  (zret 1)
def fX64_expression_J106 (x1 : Int) (x3 : Int) (x5 : Int) : zX :=
  zgf 6519 0 fun v3 => if v3 = 0 then
  (zret 1) else
  (zgf 6522 0 fun v4 => if v4 < x1 then
  (fX64_expression_J131 x5) else
  (zgf 6522 0 fun v6 => if v6 ≤ x3 then
  (zret 1) else
  (fX64_expression_J131 x5)))
def fX64_expression_J97 (r35 : Int × Int → zX) (x1 : Int) (x3 : Int) (x5 : Int) (x8 : Int) (s0 : Int) : zX :=
  zcl fX64_next fun _ => r35 (s0, x8)
def fX64_expression_J74 (r35 : Int × Int → zX) (x1 : Int) (x3 : Int) (x5 : Int) (x6 : Int) (s0 : Int) : zX :=
  if s0 = 0 then
  (r35 (x6, s0)) else
  (zcl (fX64_is 43) fun v9 => if v9 = 0 then
  (fX64_expression_J97 r35 x1 x3 x5 s0 (-1)) else
  (fX64_expression_J97 r35 x1 x3 x5 s0 1))
def fX64_expression_J69 (r35 : Int × Int → zX) (x1 : Int) (x3 : Int) (x5 : Int) (x6 : Int) : zX :=
  fX64_expression_J74 r35 x1 x3 x5 x6 1
def fX64_expression_B35 (x1 : Int) (x3 : Int) (x5 : Int) (r35 : Int × Int → zX) : Int × Int → zX := fun (x6, x8) =>
  if x8 = 0 then
  (fX64_expression_J106 x1 x3 x5) else
  (zcl (fX64_term x6) fun v7 => if ¬ v7 = 0 then
  (zcl (fX64_is 43) fun v8 => if ¬ v8 = 0 then
  (fX64_expression_J69 r35 x1 x3 x5 x6) else
  (zcl (fX64_is 45) fun v11 => if v11 = 0 then
  (fX64_expression_J74 r35 x1 x3 x5 x6 0) else
  (fX64_expression_J69 r35 x1 x3 x5 x6))) else
  (zret 0))
def fX64_expression_J32 (x1 : Int) (x3 : Int) (x5 : Int) (x6 : Int) : zX :=
  zlp (fX64_expression_B35 x1 x3 x5) zBIG (x6, 1)
def fX64_expression (x1 : Int) (x3 : Int) : zX :=
  zgf 6505 0 fun v1 => zpf 6522 0 0 <| zcl (fX64_is 45) fun v2 => if v2 = 0 then
  (fX64_expression_J32 x1 x3 v1 1) else
  (zcl fX64_next fun _ => fX64_expression_J32 x1 x3 v1 (-1))
def fX64_offset : zX :=
  zcl (fX64_expression (-131072) 262143) fun v1 => zrb v1
def fX64_pointer_J91 (x3 : Int) : zX :=
  zcl (fX64_put x3) fun _ => zcl fX64_isEnd fun v12 => zrb v12
def fX64_pointer : zX :=
  zcl (fX64_number 31) fun v1 => zgf 6508 0 fun v2 => if 0 < v2 then
  (zret 0) else
  (zcl (fX64_takes 44) fun v3 => if ¬ v3 = 0 then
  (zcl (fX64_number 7) fun v4 => zgf 6508 0 fun v5 => if 0 < v5 then
  (zret 0) else
  (zcl (fX64_takes 44) fun v6 => if v6 = 0 then
  (zret 0) else
  (zcl fX64_offset fun v7 => if ¬ v7 = 0 then
  (zgf 6522 0 fun v8 => zcl (fX0_pointerWord v1 (zi (v8 % 262144)) v4) fun v9 => zcl (fX64_is 42) fun v10 => if v10 = 0 then
  (fX64_pointer_J91 v9) else
  (zlt (zoR v9 536870912) fun v13 => zcl fX64_next fun _ => fX64_pointer_J91 v13)) else
  (zret 0)))) else
  (zret 0))
def fX64_wordList_J125 : zX :=
  zcl fX64_isEnd fun v1 => zrb v1
def fX64_wordList_J107 (r2 : Int → zX) : zX :=
  zcl (fX64_is 44) fun v6 => if v6 = 0 then
  (r2 v6) else
  (zcl fX64_next fun _ => r2 v6)
def fX64_wordList_J51 : zX :=
  zgf 6505 0 fun v17 => zcl (fX64_wrong 2 v17) fun v18 => zrb v18
def fX64_wordList_J27 : zX :=
  zgf 6505 0 fun v19 => zcl (fX64_wrong 1 v19) fun v20 => zrb v20
def fX64_wordList_B2 (r2 : Int → zX) : Int → zX := fun x1 =>
  if x1 = 0 then
  (fX64_wordList_J125) else
  (zcl (fX64_is 39) fun v2 => if v2 = 0 then
  (zcl (fX64_expression (-34359738368) 68719476735) fun v3 => if ¬ v3 = 0 then
  (zgf 6522 0 fun v4 => zcl (fX64_put v4) fun _ => fX64_wordList_J107 r2) else
  (zret 0)) else
  (zcl fX64_next fun _ => zgf 6504 0 fun v9 => if v9 = 1 then
  (zgf 6506 0 fun v10 => zgf 6505 0 fun v11 => if (zi (v10 - v11)) ≤ 6 then
  (zgf 6505 0 fun v12 => zgf 6506 0 fun v13 => zcl (fX64_packed v12 v13) fun v14 => zcl (fX64_put v14) fun _ => zcl fX64_next fun _ => fX64_wordList_J107 r2) else
  (fX64_wordList_J51)) else
  (fX64_wordList_J27)))
def fX64_wordList : zX :=
  zlp (fX64_wordList_B2) zBIG 1
def fX64_operation_J157 (r2 : Int → zX) (x1 : Int) (x2 : Int) (x3 : Int) : zX :=
  zlt (zi (x3 + 1)) fun v5 => r2 v5
def fX64_operation_J109 (r2 : Int → zX) (x1 : Int) (x2 : Int) (x3 : Int) (x4 : Int) (x6 : Int) : zX :=
  if x6 = 0 then
  (fX64_operation_J157 r2 x1 x2 x3) else
  (znn x4 <| if (zregs x4) = 0 then
  (zret x4) else
  (zal 6502 0 (zi (x2 - 1)) 4096 fun v7 => if v7 < 48 then
  (fX64_operation_J157 r2 x1 x2 x3) else
  (zal 6502 0 (zi (x2 - 1)) 4096 fun v8 => if (zi (48 + (zregs x4))) ≤ v8 then
  (fX64_operation_J157 r2 x1 x2 x3) else
  (zret x4))))
def fX64_operation_J101 (r2 : Int → zX) (r62 : Int × Int → zX) (x1 : Int) (x2 : Int) (x3 : Int) (x4 : Int) (x5 : Int) (x7 : Int) (s0 : Int) : zX :=
  zlt (zi (x7 + 1)) fun v12 => r62 (s0, v12)
def fX64_operation_B62 (r2 : Int → zX) (x1 : Int) (x2 : Int) (x3 : Int) (x4 : Int) (x5 : Int) (r62 : Int × Int → zX) : Int × Int → zX := fun (x6, x7) =>
  if x5 ≤ x7 then
  (fX64_operation_J109 r2 x1 x2 x3 x4 x6) else
  (if x6 = 0 then
  (fX64_operation_J109 r2 x1 x2 x3 x4 x6) else
  (zal 6502 0 (zi (x1 + x7)) 4096 fun v9 => znn x4 <| zsc x4 x7 fun v11 => if ¬ v9 = v11 then
  (fX64_operation_J101 r2 r62 x1 x2 x3 x4 x5 x7 0) else
  (fX64_operation_J101 r2 r62 x1 x2 x3 x4 x5 x7 1)))
def fX64_operation_J57 (r2 : Int → zX) (x1 : Int) (x2 : Int) (x3 : Int) (x4 : Int) (x5 : Int) (s0 : Int) : zX :=
  zlp (fX64_operation_B62 r2 x1 x2 x3 x4 x5) zBIG (s0, 0)
def fX64_operation_J49 (r2 : Int → zX) (x1 : Int) (x2 : Int) (x3 : Int) (x4 : Int) (x5 : Int) (s0 : Int) (s1 : Int) : zX :=
  if ¬ s0 = s1 then
  (fX64_operation_J57 r2 x1 x2 x3 x4 x5 0) else
  (fX64_operation_J57 r2 x1 x2 x3 x4 x5 1)
def fX64_operation_B2 (x1 : Int) (x2 : Int) (r2 : Int → zX) : Int → zX := fun x3 =>
  if 38 ≤ x3 then
  (zret (-1)) else
  (zib x3 38 <| zlt (zsn x3) fun v4 => if (zregs x3) ≤ 0 then
  (fX64_operation_J49 r2 x1 x2 x3 x3 v4 (zi (x2 - x1)) v4) else
  (fX64_operation_J49 r2 x1 x2 x3 x3 v4 (zi (x2 - x1)) (zi (v4 + 1))))
def fX64_operation (x1 : Int) (x2 : Int) : zX :=
  zlp (fX64_operation_B2 x1 x2) zBIG 0
def fX64_which_B2 (x1 : Int) (r2 : Int → zX) : Int → zX := fun x2 =>
  zib x2 38 <| if x2 = x1 then
  (zret x2) else
  (zlt (zi (x2 + 1)) fun v3 => r2 v3)
def fX64_which (x1 : Int) : zX :=
  zlp (fX64_which_B2 x1) zBIG 0
def fX64_ahead_J30 (x1 : Int) : zX :=
  zgf 6507 0 fun v3 => if v3 ≤ x1 then
  (zret 0) else
  (zal 6502 0 x1 4096 fun v4 => zret v4)
def fX64_ahead_B5 (r5 : Int → zX) : Int → zX := fun x1 =>
  zgf 6507 0 fun v2 => if v2 ≤ x1 then
  (fX64_ahead_J30 x1) else
  (zal 6502 0 x1 4096 fun v5 => if ¬ v5 = 32 then
  (fX64_ahead_J30 x1) else
  (zlt (zi (x1 + 1)) fun v6 => r5 v6))
def fX64_ahead : zX :=
  zgf 6506 0 fun v1 => zlp (fX64_ahead_B5) zBIG v1
def fX64_linkFor_J45 (x1 : Int) (x3 : Int) (x5 : Int) : zX :=
  zgf 6515 0 fun v2 => if ¬ v2 = 16 then
  (zgf 6515 0 fun v3 => zas 6513 0 v3 16 x1 <| zgf 6515 0 fun v4 => zas 6514 0 v4 16 x3 <| zgf 6515 0 fun v5 => zpf 6515 0 (zi (v5 + 1)) <| zgf 6515 0 fun v6 => zret (zi (v6 - 1))) else
  (zcl (fX64_wrong 6 x5) fun v7 => zret 0)
def fX64_linkFor_J39 (r3 : Int → zX) (x1 : Int) (x3 : Int) (x5 : Int) (x6 : Int) : zX :=
  zlt (zi (x6 + 1)) fun v9 => r3 v9
def fX64_linkFor_B3 (x1 : Int) (x3 : Int) (x5 : Int) (r3 : Int → zX) : Int → zX := fun x6 =>
  zgf 6515 0 fun v1 => if v1 ≤ x6 then
  (fX64_linkFor_J45 x1 x3 x5) else
  (zal 6513 0 x6 16 fun v8 => if ¬ v8 = x1 then
  (fX64_linkFor_J39 r3 x1 x3 x5 x6) else
  (zal 6514 0 x6 16 fun v10 => if ¬ v10 = x3 then
  (fX64_linkFor_J39 r3 x1 x3 x5 x6) else
  (zret x6)))
def fX64_linkFor (x1 : Int) (x3 : Int) (x5 : Int) : zX :=
  zlp (fX64_linkFor_B3 x1 x3 x5) zBIG 0
def fX64_addressed_J233 : zX :=
  zcl fX64_offset fun v4 => zrb v4
def fX64_addressed_J217 (s1 : Int) : zX :=
  zpf 6522 0 s1 <| zgf 6508 0 fun v13 => if ¬ v13 = 0 then
  (zret 0) else
  (zret 1)
def fX64_addressed_J145 : zX :=
  zgf 6504 0 fun v3 => if ¬ v3 = 1 then
  (fX64_addressed_J233) else
  (zcl fX64_ahead fun v5 => if ¬ v5 = 36 then
  (fX64_addressed_J233) else
  (zgf 6505 0 fun v6 => zcl fX64_name fun v7 => zgf 6508 0 fun v8 => if v8 ≤ 0 then
  (zcl fX64_next fun _ => zcl fX64_name fun v10 => zpf 6523 0 3 <| zgf 6508 0 fun v11 => if v11 ≤ 0 then
  (zcl (fX64_linkFor v7 v10 v6) fun v12 => fX64_addressed_J217 v12) else
  (fX64_addressed_J217 0)) else
  (zret 0)))
def fX64_addressed : zX :=
  zpf 6523 0 0 <| zpf 6524 0 0 <| zcl (fX64_is 35) fun v1 => if v1 = 0 then
  (zgf 6504 0 fun v2 => if ¬ v2 = 1 then
  (fX64_addressed_J145) else
  (zcl fX64_ahead fun v14 => if ¬ v14 = 124 then
  (fX64_addressed_J145) else
  (zgf 6506 0 fun v15 => zgf 6505 0 fun v16 => if ¬ (zi (v15 - v16)) = 2 then
  (fX64_addressed_J145) else
  (zgf 6505 0 fun v17 => zal 6502 0 v17 4096 fun v18 => if ¬ v18 = 112 then
  (fX64_addressed_J145) else
  (zgf 6505 0 fun v19 => zal 6502 0 (zi (v19 + 1)) 4096 fun v20 => if v20 < 48 then
  (fX64_addressed_J145) else
  (zgf 6505 0 fun v21 => zal 6502 0 (zi (v21 + 1)) 4096 fun v22 => if 55 < v22 then
  (fX64_addressed_J145) else
  (zpf 6523 0 1 <| zgf 6505 0 fun v23 => zal 6502 0 (zi (v23 + 1)) 4096 fun v24 => zpf 6524 0 (zi (v24 - 48)) <| zcl fX64_next fun _ => zcl fX64_next fun _ => zcl fX64_offset fun v27 => zrb v27))))))) else
  (zcl fX64_next fun _ => zpf 6523 0 2 <| zcl fX64_offset fun v29 => zrb v29)
def fX64_operand_J211 (x3 : Int) (x5 : Int) (x7 : Int) : zX :=
  zgf 6523 0 fun v9 => zgf 6524 0 fun v10 => zcl (fX64_put (zoR (zoR (zoR (zoR x3 (zl (v9 * 134217728))) (zl (v10 * 16777216))) (zl (x7 * 262144))) x5)) fun _ => zcl fX64_isEnd fun v12 => zrb v12
def fX64_operand_J179 : zX :=
  zgf 6505 0 fun v15 => zcl (fX64_wrong 1 v15) fun v16 => zrb v16
def fX64_operand_J96 (x3 : Int) (x5 : Int) : zX :=
  zcl (fX64_is 44) fun v8 => if v8 = 0 then
  (fX64_operand_J211 x3 x5 0) else
  (zcl fX64_next fun _ => zgf 6504 0 fun v14 => if ¬ v14 = 1 then
  (fX64_operand_J179) else
  (zgf 6506 0 fun v17 => zgf 6505 0 fun v18 => if ¬ (zi (v17 - v18)) = 2 then
  (fX64_operand_J179) else
  (zgf 6505 0 fun v19 => zal 6502 0 v19 4096 fun v20 => if ¬ v20 = 120 then
  (fX64_operand_J179) else
  (zgf 6505 0 fun v21 => zal 6502 0 (zi (v21 + 1)) 4096 fun v22 => if v22 < 48 then
  (fX64_operand_J179) else
  (zgf 6505 0 fun v23 => zal 6502 0 (zi (v23 + 1)) 4096 fun v24 => if v24 ≤ 51 then
  (zgf 6505 0 fun v25 => zal 6502 0 (zi (v25 + 1)) 4096 fun v26 => zlt (zi ((zi (v26 - 48)) + 1)) fun v27 => zcl fX64_next fun _ => fX64_operand_J211 x3 x5 v27) else
  (fX64_operand_J179))))))
def fX64_operand_J89 (x3 : Int) (x5 : Int) (s1 : Int) : zX :=
  zpf 6523 0 s1 <| zcl fX64_next fun _ => fX64_operand_J96 x3 x5
def fX64_operand (x1 : Int) (x2 : Int) : zX :=
  zcl (fX64_which x1) fun v1 => zlt (zoR (zl (v1 * 1073741824)) (zl (x2 * 2097152))) fun v2 => znn x1 <| if ¬ (zsort x1) = 0 then
  (zcl fX64_addressed fun v4 => if ¬ v4 = 0 then
  (zgf 6522 0 fun v5 => zlt (v5 % 262144) fun v6 => zgf 6523 0 fun v7 => if v7 = 2 then
  (fX64_operand_J96 v2 v6) else
  (zcl (fX64_is 42) fun v29 => if v29 = 0 then
  (fX64_operand_J96 v2 v6) else
  (zgf 6523 0 fun v30 => if ¬ v30 = 3 then
  (zgf 6523 0 fun v31 => fX64_operand_J89 v2 v6 (zi (v31 + 4))) else
  (fX64_operand_J89 v2 v6 6)))) else
  (zret 0)) else
  (zcl (fX64_put v2) fun _ => zcl fX64_isEnd fun v34 => zrb v34)
def fX64_statement_J55 (s1 : Int) (s2 : Int) : zX :=
  zcl (fX64_operand s1 s2) fun v14 => zrb v14
def fX64_statement (x1 : Int) (x2 : Int) : zX :=
  zal 6502 0 x1 4096 fun v1 => if v1 = 46 then
  (zcl (fX64_isDirective x1 x2 38) fun v2 => if v2 = 0 then
  (zcl (fX64_isDirective x1 x2 39) fun v3 => if v3 = 0 then
  (zcl (fX64_isDirective x1 x2 40) fun v4 => if v4 = 0 then
  (zcl (fX64_isDirective x1 x2 41) fun v5 => if v5 = 0 then
  (zcl (fX64_wrong 2 x1) fun v6 => zrb v6) else
  (zcl fX64_define fun v7 => zrb v7)) else
  (zcl fX64_space fun v8 => zrb v8)) else
  (zcl fX64_pointer fun v9 => zrb v9)) else
  (zcl fX64_wordList fun v10 => zrb v10)) else
  (zcl (fX64_operation x1 x2) fun v11 => if v11 < 0 then
  (zcl (fX64_wrong 2 x1) fun v13 => zrb v13) else
  (if (zregs v11) ≤ 0 then
  (fX64_statement_J55 v11 0) else
  (zal 6502 0 (zi (x2 - 1)) 4096 fun v15 => fX64_statement_J55 v11 (zi (v15 - 48)))))
def fX64_labelHere_J30 (x1 : Int) : zX :=
  zcl (fX64_wrong 2 x1) fun v2 => zrb v2
def fX64_labelHere (x1 : Int) (x2 : Int) : zX :=
  zal 6502 0 x1 4096 fun v1 => if v1 < 97 then
  (fX64_labelHere_J30 x1) else
  (zal 6502 0 x1 4096 fun v3 => if 122 < v3 then
  (fX64_labelHere_J30 x1) else
  (if (zi (x2 - x1)) ≤ 6 then
  (zgf 6519 0 fun v4 => if v4 = 0 then
  (zcl (fX64_packed x1 x2) fun v5 => zcl (fX64_findLabel v5) fun v6 => if v6 < 0 then
  (zgf 6512 0 fun v7 => if ¬ v7 = 64 then
  (zgf 6512 0 fun v8 => zas 6510 0 v8 64 v5 <| zgf 6512 0 fun v9 => zgf 6520 0 fun v10 => zas 6511 0 v9 64 v10 <| zgf 6512 0 fun v11 => zpf 6512 0 (zi (v11 + 1)) <| zret 1) else
  (zcl (fX64_wrong 6 x1) fun v12 => zrb v12)) else
  (zcl (fX64_wrong 4 x1) fun v13 => zrb v13)) else
  (zret 1)) else
  (fX64_labelHere_J30 x1)))
def fX64_line_J109 (x1 : Int) (x2 : Int) : zX :=
  zcl (fX64_statement x1 x2) fun v8 => zret 0
def fX64_line : zX :=
  zcl fX64_next fun _ => zgf 6504 0 fun v2 => if ¬ v2 = 0 then
  (zgf 6504 0 fun v3 => if v3 = 1 then
  (zgf 6505 0 fun v4 => zgf 6506 0 fun v5 => zcl fX64_next fun _ => zcl (fX64_is 58) fun v7 => if v7 = 0 then
  (fX64_line_J109 v4 v5) else
  (zcl (fX64_labelHere v4 v5) fun v9 => if ¬ v9 = 0 then
  (zcl fX64_next fun _ => zgf 6504 0 fun v11 => if ¬ v11 = 0 then
  (zgf 6504 0 fun v12 => if v12 = 1 then
  (zgf 6505 0 fun v13 => zgf 6506 0 fun v14 => zcl fX64_next fun _ => fX64_line_J109 v13 v14) else
  (zgf 6505 0 fun v16 => zcl (fX64_wrong 1 v16) fun v17 => zret 0)) else
  (zret 0)) else
  (zret 0))) else
  (zgf 6505 0 fun v18 => zcl (fX64_wrong 1 v18) fun v19 => zret 0)) else
  (zret 0)
def fX64_goOver_J89 (r7 : Int → zX) (x1 : Int) (x2 : Int) : zX :=
  zpf 6506 0 x1 <| zcl fX64_line fun _ => zlt (zi (x2 + 1)) fun v6 => r7 v6
def fX64_goOver_B54 (r7 : Int → zX) (x1 : Int) (x2 : Int) (r54 : Int → zX) : Int → zX := fun _ =>
  zgf 6507 0 fun v4 => if x2 ≤ v4 then
  (fX64_goOver_J89 r7 x1 x2) else
  (zgf 6507 0 fun v7 => zal 6502 0 v7 4096 fun v8 => if v8 = 59 then
  (fX64_goOver_J89 r7 x1 x2) else
  (zgf 6507 0 fun v9 => zpf 6507 0 (zi (v9 + 1)) <| r54 0))
def fX64_goOver_J49 (r7 : Int → zX) (x1 : Int) (x2 : Int) : zX :=
  zpf 6507 0 x1 <| zlp (fX64_goOver_B54 r7 x1 x2) zBIG 0
def fX64_goOver_B24 (r7 : Int → zX) (x1 : Int) (r24 : Int → zX) : Int → zX := fun x2 =>
  zgf 6503 0 fun v3 => if v3 ≤ x2 then
  (fX64_goOver_J49 r7 x1 x2) else
  (zal 6502 0 x2 4096 fun v10 => if v10 = 10 then
  (fX64_goOver_J49 r7 x1 x2) else
  (zlt (zi (x2 + 1)) fun v11 => r24 v11))
def fX64_goOver_B7 (r7 : Int → zX) : Int → zX := fun x1 =>
  zgf 6503 0 fun v1 => if v1 ≤ x1 then
  (zret 0) else
  (zgf 6508 0 fun v2 => if ¬ v2 = 0 then
  (zret 0) else
  (zlp (fX64_goOver_B24 r7 x1) zBIG x1))
def fX64_goOver : zX :=
  zpf 6520 0 2 <| zlp (fX64_goOver_B7) zBIG 0
def fX64_putTables_J92 (x1 : Int) (x2 : Int) : zX :=
  zgf 6515 0 fun v5 => zas 6521 0 0 1024 (zoR (zoR 48989470720 (zl (v5 * 262144))) (x1 % 262144)) <| zgf 6518 0 fun v6 => zas 6521 0 1 1024 (zoR (zl (v6 * 262144)) (x2 % 262144)) <| zret 0
def fX64_putTables_B48 (x1 : Int) (x2 : Int) (r48 : Int → zX) : Int → zX := fun x3 =>
  zgf 6518 0 fun v4 => if v4 ≤ x3 then
  (fX64_putTables_J92 x1 x2) else
  (zal 6517 0 x3 32 fun v7 => zcl (fX64_put v7) fun _ => zal 6517 0 x3 32 fun v9 => zcl (fX64_findLabel v9) fun v10 => zal 6511 0 v10 64 fun v11 => zcl (fX64_put v11) fun _ => zlt (zi (x3 + 1)) fun v13 => r48 v13)
def fX64_putTables_J41 (x1 : Int) : zX :=
  zgf 6520 0 fun v3 => zlp (fX64_putTables_B48 x1 v3) zBIG 0
def fX64_putTables_B7 (x1 : Int) (r7 : Int → zX) : Int → zX := fun x2 =>
  zgf 6515 0 fun v2 => if v2 ≤ x2 then
  (fX64_putTables_J41 x1) else
  (zal 6513 0 x2 16 fun v14 => zcl (fX64_put v14) fun _ => zal 6514 0 x2 16 fun v16 => zcl (fX64_put v16) fun _ => zlt (zi (x2 + 1)) fun v18 => r7 v18)
def fX64_putTables : zX :=
  zgf 6520 0 fun v1 => zlp (fX64_putTables_B7 v1) zBIG 0
def fX64_into_J146 : zX :=
  zgf 6520 0 fun v7 => zret v7
def fX64_into_J137 (r105 : Int → zX) (x1 : Int) (x2 : Int) (s1 : Int) (s2 : Int) (s3 : Int) : zX :=
  zcl (fX1_put s1 s2 s3) fun _ => zlt (zi (x2 + 1)) fun v10 => r105 v10
def fX64_into_B105 (x1 : Int) (r105 : Int → zX) : Int → zX := fun x2 =>
  znn x1 <| zgf 522 x1 fun v6 => if v6 ≤ x2 then
  (fX64_into_J146) else
  (zgf 6520 0 fun v8 => if v8 ≤ x2 then
  (fX64_into_J137 r105 x1 x2 x1 x2 0) else
  (zal 6521 0 x2 1024 fun v11 => fX64_into_J137 r105 x1 x2 x1 x2 v11))
def fX64_into_J83 (x1 : Int) : zX :=
  zpf 6503 0 0 <| zgf 6508 0 fun v4 => if v4 ≤ 0 then
  (zlp (fX64_into_B105 x1) zBIG 0) else
  (zgf 6508 0 fun v12 => zret (zi ((-10) - v12)))
def fX64_into_J50 (x1 : Int) : zX :=
  zgf 6508 0 fun v3 => if ¬ v3 = 0 then
  (fX64_into_J83 x1) else
  (zcl fX64_putTables fun _ => zgf 6520 0 fun v14 => znn x1 <| zgf 522 x1 fun v16 => if v14 ≤ v16 then
  (fX64_into_J83 x1) else
  (zgf 6503 0 fun v17 => zcl (fX64_wrong 6 v17) fun v18 => fX64_into_J83 x1))
def fX64_into (x1 : Int) : zX :=
  zpf 6508 0 0 <| zpf 6509 0 (-1) <| zpf 6512 0 0 <| zpf 6515 0 0 <| zpf 6518 0 0 <| zpf 6519 0 0 <| zcl fX64_goOver fun _ => zpf 6519 0 1 <| zgf 6508 0 fun v2 => if ¬ v2 = 0 then
  (fX64_into_J50 x1) else
  (zcl fX64_goOver fun _ => fX64_into_J50 x1)
def fX0_assemble (x1 : Int) : zX :=
  zcl (fX1_segment x1) fun v1 => if v1 < 0 then
  (zret (-8)) else
  (zcl (fX64_into v1) fun v3 => zgf 6509 0 fun v4 => zpf 109 0 v4 <| zret v3)
def fX0_place : zX :=
  zgf 109 0 fun v1 => zret v1
def fX66_put_2 (x1 : Int) : zX :=
  zgf 6702 0 fun v1 => zas 6701 0 v1 40 (x1 % 65536) <| zgf 6702 0 fun v2 => zpf 6702 0 (zi (v2 + 1)) <| zret 0
def fX66_put_B2 (x1 : Int) (r2 : Int → zX) : Int → zX := fun x2 =>
  znn x1 <| if (zsn x1) ≤ x2 then
  (zret 0) else
  (zsc x1 x2 fun v3 => zcl (fX66_put_2 v3) fun _ => zlt (zi (x2 + 1)) fun v5 => r2 v5)
def fX66_put (x1 : Int) : zX :=
  zlp (fX66_put_B2 x1) zBIG 0
def fX66_put_3_B21 (x1 : Int) (r21 : Int → zX) : Int → zX := fun x3 =>
  if x3 ≤ 0 then
  (zret 0) else
  (zne x3 <| zcl (fX66_put_2 ((zi (zl (48 + (Int.tmod (zl (Int.tdiv x1 x3)) 10)))) % 65536)) fun _ => zlt (zl (Int.tdiv x3 10)) fun v4 => r21 v4)
def fX66_put_3_B2 (x1 : Int) (r2 : Int → zX) : Int → zX := fun x3 =>
  zne x3 <| if (zl (Int.tdiv x1 x3)) ≤ 9 then
  (zlp (fX66_put_3_B21 x1) zBIG x3) else
  (zlt (zl (x3 * 10)) fun v5 => r2 v5)
def fX66_put_3 (x1 : Int) : zX :=
  zlp (fX66_put_3_B2 x1) zBIG 1
def fX66_isPlain_J84 (x0 : Int) (x4 : Int) (s0 : Int) : zX :=
  znn x0 <| zgf 802 x0 fun v8 => if v8 = 3 then
  (zret 0) else
  (zgf 802 x0 fun v9 => if 6 ≤ v9 then
  (zret 0) else
  (zgf 805 x0 fun v10 => if 4 < v10 then
  (zret 0) else
  (if s0 = 0 then
  (zret 0) else
  (if ¬ x4 = 0 then
  (zret 1) else
  (zgf 803 x0 fun v11 => if ¬ v11 = 0 then
  (zret 0) else
  (zret 1))))))
def fX66_isPlain_J44 (x0 : Int) (x1 : Int) (s0 : Int) : zX :=
  znn x1 <| if ¬ (zregs x1) = 0 then
  (znn x0 <| zgf 804 x0 fun v6 => if (zregs x1) ≤ v6 then
  (fX66_isPlain_J84 x0 s0 0) else
  (fX66_isPlain_J84 x0 s0 1)) else
  (znn x0 <| zgf 804 x0 fun v13 => if ¬ v13 = 0 then
  (fX66_isPlain_J84 x0 s0 0) else
  (fX66_isPlain_J84 x0 s0 1))
def fX66_isPlain_J39 (x0 : Int) (x1 : Int) : zX :=
  fX66_isPlain_J44 x0 x1 1
def fX66_isPlain (x0 : Int) (x1 : Int) (x2 : Int) : zX :=
  znn x1 <| if ¬ (zsort x1) = 0 then
  (znn x0 <| zgf 802 x0 fun v3 => if v3 = 1 then
  (fX66_isPlain_J39 x0 x1) else
  (zgf 802 x0 fun v14 => if ¬ v14 = 5 then
  (fX66_isPlain_J44 x0 x1 0) else
  (fX66_isPlain_J39 x0 x1))) else
  (if ¬ (x2 % 1073741824) = 0 then
  (zret 0) else
  (zret 1))
def fX66_list_J59 (x1 : Int) : zX :=
  zcl (fX66_put 42) fun _ => zcl (fX66_put_3 x1) fun _ => zgf 6702 0 fun v7 => zret v7
def fX66_list_J221 : zX :=
  zgf 6702 0 fun v26 => zret v26
def fX66_list_J197 (x3 : Int) : zX :=
  znn x3 <| zgf 805 x3 fun v25 => if v25 ≤ 0 then
  (fX66_list_J221) else
  (zcl (fX66_put 43) fun _ => zgf 805 x3 fun v28 => zcl (fX66_put_3 (zl (v28 - 1))) fun _ => fX66_list_J221)
def fX66_list_J174 (x3 : Int) : zX :=
  znn x3 <| zgf 806 x3 fun v21 => zcl (fX66_put_3 v21) fun _ => zgf 802 x3 fun v23 => if v23 ≤ 3 then
  (fX66_list_J197 x3) else
  (zcl (fX66_put_2 42) fun _ => fX66_list_J197 x3)
def fX66_list_J153 (x3 : Int) : zX :=
  zcl (fX66_put_2 112) fun _ => znn x3 <| zgf 803 x3 fun v17 => zcl (fX66_put_3 v17) fun _ => zcl (fX66_put_2 124) fun _ => fX66_list_J174 x3
def fX66_list_J101 (x3 : Int) (x5 : Int) : zX :=
  znn x5 <| if ¬ (zsort x5) = 0 then
  (zcl (fX66_put_2 32) fun _ => znn x3 <| zgf 802 x3 fun v13 => if ¬ v13 = 2 then
  (zgf 802 x3 fun v14 => if v14 = 1 then
  (fX66_list_J153 x3) else
  (zgf 802 x3 fun v31 => if ¬ v31 = 5 then
  (fX66_list_J174 x3) else
  (fX66_list_J153 x3))) else
  (zcl (fX66_put_2 35) fun _ => fX66_list_J174 x3)) else
  (zgf 6702 0 fun v33 => zret v33)
def fX66_list_J42 (x1 : Int) (x3 : Int) (s0 : Int) : zX :=
  if s0 < 0 then
  (fX66_list_J59 x1) else
  (zcl (fX66_isPlain x3 s0 x1) fun v8 => if ¬ v8 = 0 then
  (zcl (fX66_put s0) fun _ => if (zregs s0) ≤ 0 then
  (fX66_list_J101 x3 s0) else
  (znn x3 <| zgf 804 x3 fun v35 => zcl (fX66_put_3 v35) fun _ => fX66_list_J101 x3 s0)) else
  (fX66_list_J59 x1))
def fX66_list (x1 : Int) (x3 : Int) : zX :=
  zpf 6702 0 0 <| zlt (zi (x1 / 1073741824)) fun v1 => znn x3 <| zcl (fX7_take x3 x1) fun _ => if 38 ≤ v1 then
  (fX66_list_J42 x1 x3 (-1)) else
  (zib v1 38 <| fX66_list_J42 x1 x3 v1)
def fX0_list (x1 : Int) : zX :=
  zcl (fX0_isWord x1) fun v1 => if v1 = 0 then
  (zret (-8)) else
  (zcl (fX66_list x1 512) fun v2 => zret v2)
def fX0_listed (x1 : Int) : zX :=
  zgf 6702 0 fun v1 => zcl (fX0_isIn x1 0 (zl (v1 - 1))) fun v2 => if v2 = 0 then
  (zret (-1)) else
  (zal 6701 0 x1 40 fun v3 => zret v3)
def fX65_put (x1 : Int) : zX :=
  zgf 6602 0 fun v1 => zas 6601 0 v1 98304 (zb (zb x1)) <| zgf 6602 0 fun v2 => zpf 6602 0 (zi (v2 + 1)) <| zret 0
def fX65_putWord_B3 (x1 : Int) (r3 : Int → zX) : Int → zX := fun x3 =>
  if x3 < 0 then
  (zret 0) else
  (zcl (fX65_put (zi (x1 / 2 ^ (x3 % 64).toNat))) fun _ => zlt (zi (x3 + (-8))) fun v2 => r3 v2)
def fX65_putWord (x1 : Int) : zX :=
  zlp (fX65_putWord_B3 x1) zBIG 32
def fX65_putItems_B10 (x1 : Int) (r10 : Int → zX) : Int → zX := fun x2 =>
  znn x1 <| zgf 602 x1 fun v5 => if v5 ≤ x2 then
  (zret 0) else
  (zcl (fX5_person x1 x2) fun v6 => zcl (fX65_put v6) fun _ => zcl (fX5_project x1 x2) fun v8 => zcl (fX65_put v8) fun _ => zal 601 x1 x2 (zacl x1) fun v10 => zcl (fX65_put v10) fun _ => zlt (zi (x2 + 1)) fun v12 => r10 v12)
def fX65_putItems (x1 : Int) : zX :=
  znn x1 <| zgf 602 x1 fun v2 => zcl (fX65_put v2) fun _ => zlp (fX65_putItems_B10 x1) zBIG 0
def fX65_putNode_B211 (sf : Int → zX) (x1 : Int) (r211 : Int → zX) : Int → zX := fun x2 =>
  znn x1 <| zgf 522 x1 fun v22 => if v22 ≤ x2 then
  (zret 0) else
  (zcl (fX1_get x1 x2) fun v23 => zcl (fX65_putWord v23) fun _ => zlt (zi (x2 + 1)) fun v25 => r211 v25)
def fX65_putNode_B164 (sf : Int → zX) (r164 : Int → zX) : Int → zX := fun x2 =>
  if x2 < 0 then
  (zret 0) else
  (zcl (sf x2) fun _ => zgf 506 x2 fun v37 => r164 v37)
def fX65_putNode_B68 (sf : Int → zX) (x1 : Int) (r68 : Int → zX) : Int → zX := fun x2 =>
  znn x1 <| zgf 520 x1 fun v43 => znn v43 <| zgf 702 v43 fun v45 => if v45 ≤ x2 then
  (zret 0) else
  (zgf 520 x1 fun v46 => znn v46 <| zal 701 v46 x2 128 fun v48 => zcl (fX65_put v48) fun _ => zgf 520 x1 fun v50 => znn v50 <| zal 700 v50 x2 128 fun v52 => zcl (fX65_putWord v52) fun _ => zlt (zi (x2 + 1)) fun v54 => r68 v54)
def fX65_putNode_E (sf : Int → zX) (x1 : Int) : zX :=
  znn x1 <| zgf 501 x1 fun v2 => zcl (fX65_put v2) fun _ => zgf 502 x1 fun v4 => zcl (fX65_putWord v4) fun _ => zgf 509 x1 fun v6 => zcl (fX65_put v6) fun _ => zgf 510 x1 fun v8 => zcl (fX65_put v8) fun _ => zgf 511 x1 fun v10 => zcl (fX65_put v10) fun _ => zcl (fX65_putItems (3 * x1)) fun _ => zcl (fX4_isMailbox x1) fun v13 => if v13 = 0 then
  (zcl (fX4_isDirectory x1) fun v14 => if v14 = 0 then
  (zgf 521 x1 fun v15 => zcl (fX65_put v15) fun _ => zgf 522 x1 fun v17 => zcl (fX65_put (v17 / 256)) fun _ => zgf 522 x1 fun v19 => zcl (fX65_put v19) fun _ => zlp (fX65_putNode_B211 sf x1) zBIG 0) else
  (zgf 503 x1 fun v26 => zcl (fX65_put v26) fun _ => zgf 516 x1 fun v28 => zcl (fX65_put v28) fun _ => zcl (fX65_putItems (3 * x1 + 1)) fun _ => zcl (fX65_putItems (3 * x1 + 2)) fun _ => zgf 515 x1 fun v32 => zcl (fX65_put v32) fun _ => zgf 513 x1 fun v34 => zlp (fX65_putNode_B164 sf) zBIG v34)) else
  (zgf 520 x1 fun v38 => znn v38 <| zgf 702 v38 fun v40 => zcl (fX65_put v40) fun _ => zlp (fX65_putNode_B68 sf x1) zBIG 0)
def fX65_putNode : Nat → Int → zX
  | 0 => fun _ => zno
  | n + 1 => fX65_putNode_E (fX65_putNode n)
def fX65_checkTo_B4 (x1 : Int) (r4 : Int × Int → zX) : Int × Int → zX := fun (x2, x3) =>
  if x1 ≤ x3 then
  (zret x2) else
  (zal 6601 0 x3 98304 fun v1 => zlt ((zi ((zi (31 * x2)) + (v1 % 256))) % 65536) fun v2 => zlt (zi (x3 + 1)) fun v3 => r4 (v2, v3))
def fX65_checkTo (x1 : Int) : zX :=
  zlp (fX65_checkTo_B4 x1) zBIG (0, 0)
def fX65_dump (x1 : Int) : zX :=
  zpf 6602 0 0 <| zcl (fX65_put 82) fun _ => zcl (fX65_put 72) fun _ => zcl (fX65_put 1) fun _ => zcl (fX65_putNode 300 x1) fun _ => zgf 6602 0 fun v5 => zcl (fX65_checkTo v5) fun v6 => zcl (fX65_put (v6 / 256)) fun _ => zcl (fX65_put v6) fun _ => zgf 6602 0 fun v9 => zret v9
def fX0_dump (x1 : Int) : zX :=
  zcl (fX1_node x1) fun v1 => if v1 < 0 then
  (zret (-8)) else
  (if ¬ v1 = 0 then
  (zcl (fX65_dump v1) fun v3 => zret v3) else
  (zret (-8)))
def fX0_tape (x1 : Int) : zX :=
  zgf 6602 0 fun v1 => zcl (fX0_isIn x1 0 (zl (v1 - 1))) fun v2 => if v2 = 0 then
  (zret (-1)) else
  (zal 6601 0 x1 98304 fun v3 => zret (v3 % 256))
def fX0_alter_J81 (s1 : Int) : zX :=
  zpf 6602 0 s1 <| zgf 6602 0 fun v6 => zret v6
def fX0_alter (x1 : Int) (x2 : Int) : zX :=
  zgf 6602 0 fun v1 => zcl (fX0_isIn x1 0 v1) fun v2 => if v2 = 0 then
  (zret (-8)) else
  (zcl (fX0_isIn x2 0 255) fun v3 => if ¬ v3 = 0 then
  (if ¬ x1 = 98304 then
  (zas 6601 0 x1 98304 (zb (zb x2)) <| zgf 6602 0 fun v4 => if ¬ x1 = v4 then
  (zgf 6602 0 fun v5 => fX0_alter_J81 v5) else
  (fX0_alter_J81 (zi (x1 + 1)))) else
  (zret (-5))) else
  (zret (-8)))
def fX0_cut (x1 : Int) : zX :=
  zgf 6602 0 fun v1 => zcl (fX0_isIn x1 0 v1) fun v2 => if ¬ v2 = 0 then
  (zgf 6602 0 fun v3 => zlt (zi (v3 - x1)) fun v4 => zpf 6602 0 x1 <| zret v4) else
  (zret (-8))
def fX65_wrong (x1 : Int) (x2 : Int) : zX :=
  zgf 6604 0 fun v1 => if ¬ v1 = 0 then
  (zret 0) else
  (zpf 6604 0 x1 <| zpf 6605 0 x2 <| zret 0)
def fX65_take : zX :=
  zgf 6603 0 fun v1 => zgf 6602 0 fun v2 => if v1 < v2 then
  (zgf 6603 0 fun v3 => zpf 6603 0 (zi (v3 + 1)) <| zgf 6603 0 fun v4 => zal 6601 0 (zi (v4 - 1)) 98304 fun v5 => zret (v5 % 256)) else
  (zgf 6602 0 fun v6 => zcl (fX65_wrong 1 v6) fun v7 => zret 0)
def fX65_take_2_J30 (x3 : Int) (x4 : Int) : zX :=
  zcl (fX65_wrong 3 x3) fun v4 => zret x4
def fX65_take_2 (x1 : Int) (x2 : Int) : zX :=
  zgf 6603 0 fun v1 => zcl fX65_take fun v2 => zgf 6604 0 fun v3 => if ¬ v3 = 0 then
  (zret v2) else
  (if v2 < x1 then
  (fX65_take_2_J30 v1 v2) else
  (if v2 ≤ x2 then
  (zret v2) else
  (fX65_take_2_J30 v1 v2)))
def fX65_takeWord_B4 (r4 : Int × Int → zX) : Int × Int → zX := fun (x1, x3) =>
  if 5 ≤ x3 then
  (zret x1) else
  (zcl fX65_take fun v1 => zlt (zoR (zl (x1 * 256)) v1) fun v2 => zlt (zi (x3 + 1)) fun v3 => r4 (v2, v3))
def fX65_takeWord : zX :=
  zlp (fX65_takeWord_B4) zBIG (0, 0)
def fX65_lookName_J95 (x2 : Int) : zX :=
  zgf 6613 0 fun v9 => zas 6611 0 v9 7600 x2 <| zgf 6613 0 fun v10 => zpf 6613 0 (zi (v10 + 1)) <| zret 0
def fX65_lookName_J81 (x1 : Int) : zX :=
  zcl (fX65_wrong 4 x1) fun v13 => zret 0
def fX65_lookName_B60 (x1 : Int) (x2 : Int) (r60 : Int → zX) : Int → zX := fun x4 =>
  zgf 6613 0 fun v8 => if v8 ≤ x4 then
  (fX65_lookName_J95 x2) else
  (zal 6611 0 x4 7600 fun v11 => if ¬ v11 = x2 then
  (zlt (zi (x4 + 1)) fun v12 => r60 v12) else
  (fX65_lookName_J81 x1))
def fX65_lookName_J58 (x1 : Int) (x2 : Int) (s0 : Int) : zX :=
  zlp (fX65_lookName_B60 x1 x2) zBIG s0
def fX65_lookName : zX :=
  zgf 6603 0 fun v1 => zcl fX65_takeWord fun v2 => zgf 6604 0 fun v3 => if v3 ≤ 0 then
  (zcl (fX0_isName v2) fun v4 => if ¬ v4 = 0 then
  (zgf 6612 0 fun v5 => if ¬ v5 = 0 then
  (zgf 6612 0 fun v6 => zal 6610 0 (zi (v6 - 1)) 7600 fun v7 => fX65_lookName_J58 v1 v2 v7) else
  (zgf 6613 0 fun v14 => fX65_lookName_J58 v1 v2 v14)) else
  (zcl (fX65_wrong 3 v1) fun v15 => zret 0)) else
  (zret 0)
def fX65_charge (x1 : Int) : zX :=
  zgf 6612 0 fun v1 => if v1 ≤ 0 then
  (zret 0) else
  (zgf 6612 0 fun v2 => zal 6609 0 (zi (v2 - 1)) 7600 fun v3 => zas 6609 0 (zi (v2 - 1)) 7600 (zi (v3 + x1)) <| zret 0)
def fX65_lookMailbox_J191 (s1 : Int) : zX :=
  zpf 6617 0 s1 <| zret 0
def fX65_lookMailbox_J168 : zX :=
  zcl (fX65_charge 17) fun _ => zgf 6612 0 fun v3 => if ¬ v3 = 0 then
  (zgf 6617 0 fun v4 => fX65_lookMailbox_J191 v4) else
  (fX65_lookMailbox_J191 17)
def fX65_lookMailbox_J162 (r32 : Int → zX) (x1 : Int) (x2 : Int) (x3 : Int) : zX :=
  zlt (zi (x3 + 1)) fun v14 => r32 v14
def fX65_lookMailbox_J127 (r32 : Int → zX) (x1 : Int) (x2 : Int) (x3 : Int) : zX :=
  zgf 6603 0 fun v11 => zcl fX65_takeWord fun v12 => zgf 6604 0 fun v13 => if ¬ v13 = 0 then
  (fX65_lookMailbox_J162 r32 x1 x2 x3) else
  (zcl (fX0_isWord v12) fun v15 => if ¬ v15 = 0 then
  (fX65_lookMailbox_J162 r32 x1 x2 x3) else
  (zcl (fX65_wrong 3 v11) fun v16 => fX65_lookMailbox_J162 r32 x1 x2 x3))
def fX65_lookMailbox_J101 (r32 : Int → zX) (x1 : Int) (x2 : Int) (x3 : Int) (x4 : Int) (x5 : Int) : zX :=
  zgf 6604 0 fun v10 => if ¬ v10 = 0 then
  (fX65_lookMailbox_J127 r32 x1 x2 x3) else
  (zal 6616 0 x5 32 fun v17 => if v17 ≤ 4 then
  (fX65_lookMailbox_J127 r32 x1 x2 x3) else
  (zcl (fX65_wrong 3 x4) fun v18 => fX65_lookMailbox_J127 r32 x1 x2 x3))
def fX65_lookMailbox_J83 (r32 : Int → zX) (x1 : Int) (x2 : Int) (x3 : Int) (x4 : Int) (x5 : Int) : zX :=
  zgf 6604 0 fun v9 => if ¬ v9 = 0 then
  (fX65_lookMailbox_J101 r32 x1 x2 x3 x4 x5) else
  (zal 6616 0 x5 32 fun v19 => zas 6616 0 x5 32 (zi (v19 + 1)) <| fX65_lookMailbox_J101 r32 x1 x2 x3 x4 x5)
def fX65_lookMailbox_B32 (x1 : Int) (x2 : Int) (r32 : Int → zX) : Int → zX := fun x3 =>
  if x2 ≤ x3 then
  (fX65_lookMailbox_J168) else
  (zgf 6604 0 fun v5 => if ¬ v5 = 0 then
  (fX65_lookMailbox_J168) else
  (zgf 6603 0 fun v6 => zcl (fX65_take_2 0 31) fun v7 => zgf 6604 0 fun v8 => if ¬ v8 = 0 then
  (fX65_lookMailbox_J83 r32 x1 x2 x3 v6 v7) else
  (zcl (fX0_dominates v7 x1) fun v20 => if ¬ v20 = 0 then
  (fX65_lookMailbox_J83 r32 x1 x2 x3 v6 v7) else
  (zcl (fX65_wrong 5 v6) fun v21 => fX65_lookMailbox_J83 r32 x1 x2 x3 v6 v7))))
def fX65_lookMailbox_J30 (x1 : Int) (x2 : Int) : zX :=
  zlp (fX65_lookMailbox_B32 x1 x2) zBIG 0
def fX65_lookMailbox_B11 (x1 : Int) (x2 : Int) (r11 : Int → zX) : Int → zX := fun x3 =>
  if 32 ≤ x3 then
  (fX65_lookMailbox_J30 x1 x2) else
  (zas 6616 0 x3 32 0 <| zlt (zi (x3 + 1)) fun v22 => r11 v22)
def fX65_lookMailbox (x1 : Int) : zX :=
  zcl (fX65_take_2 0 128) fun v1 => zlp (fX65_lookMailbox_B11 x1 v1) zBIG 0
def fX65_shut_J150 (r0 : Int → zX) (s1 : Int) : zX :=
  zpf 6617 0 s1 <| r0 0
def fX65_shut_J114 (r0 : Int → zX) (s0 : Int) (s1 : Int) : zX :=
  zlt (zi (s0 + s1)) fun v11 => zgf 6612 0 fun v12 => zal 6610 0 v12 7600 fun v13 => zpf 6613 0 v13 <| zcl (fX65_charge v11) fun _ => zgf 6612 0 fun v15 => if ¬ v15 = 0 then
  (zgf 6617 0 fun v16 => fX65_shut_J150 r0 v16) else
  (fX65_shut_J150 r0 v11)
def fX65_shut_J77 (r0 : Int → zX) (s1 : Int) : zX :=
  zpb 6614 0 s1 <| zgf 6612 0 fun v7 => zal 6608 0 v7 7600 fun v8 => if v8 ≤ 0 then
  (zgf 6612 0 fun v9 => zal 6609 0 v9 7600 fun v10 => fX65_shut_J114 r0 1 v10) else
  (zgf 6612 0 fun v17 => zal 6608 0 v17 7600 fun v18 => fX65_shut_J114 r0 1 v18)
def fX65_shut_J72 (r0 : Int → zX) : zX :=
  fX65_shut_J77 r0 1
def fX65_shut_J76 (r0 : Int → zX) : zX :=
  fX65_shut_J77 r0 0
def fX65_shut_B0 (r0 : Int → zX) : Int → zX := fun _ =>
  zgf 6612 0 fun v1 => if v1 ≤ 0 then
  (zret 0) else
  (zgf 6612 0 fun v2 => zal 6606 0 (zi (v2 - 1)) 7600 fun v3 => if ¬ v3 = 0 then
  (zret 0) else
  (zgf 6612 0 fun v4 => zpf 6612 0 (zi (v4 - 1)) <| zgf 6614 0 fun v5 => if ¬ v5 = 0 then
  (fX65_shut_J72 r0) else
  (zgf 6612 0 fun v19 => zal 6608 0 v19 7600 fun v20 => if v20 ≤ 0 then
  (fX65_shut_J76 r0) else
  (zgf 6612 0 fun v21 => zal 6609 0 v21 7600 fun v22 => zgf 6612 0 fun v23 => zal 6608 0 v23 7600 fun v24 => if v22 ≤ v24 then
  (fX65_shut_J76 r0) else
  (fX65_shut_J72 r0)))))
def fX65_shut : zX :=
  zlp (fX65_shut_B0) zBIG 0
def fX65_lookSegment_J133 (s1 : Int) : zX :=
  zpf 6617 0 s1 <| zret 0
def fX65_lookSegment_J102 (x2 : Int) : zX :=
  zcl (fX0_records x2) fun v8 => zcl (fX65_charge (zi (1 + v8))) fun _ => zgf 6612 0 fun v10 => if ¬ v10 = 0 then
  (zgf 6617 0 fun v11 => fX65_lookSegment_J133 v11) else
  (zcl (fX0_records x2) fun v12 => fX65_lookSegment_J133 (zi (1 + v12)))
def fX65_lookSegment_J96 (r51 : Int → zX) (x2 : Int) (x3 : Int) : zX :=
  zlt (zi (x3 + 1)) fun v17 => r51 v17
def fX65_lookSegment_B51 (x2 : Int) (r51 : Int → zX) : Int → zX := fun x3 =>
  if x2 ≤ x3 then
  (fX65_lookSegment_J102 x2) else
  (zgf 6604 0 fun v13 => if ¬ v13 = 0 then
  (fX65_lookSegment_J102 x2) else
  (zgf 6603 0 fun v14 => zcl fX65_takeWord fun v15 => zgf 6604 0 fun v16 => if ¬ v16 = 0 then
  (fX65_lookSegment_J96 r51 x2 x3) else
  (zcl (fX0_isWord v15) fun v18 => if ¬ v18 = 0 then
  (fX65_lookSegment_J96 r51 x2 x3) else
  (zcl (fX65_wrong 3 v14) fun v19 => fX65_lookSegment_J96 r51 x2 x3))))
def fX65_lookSegment_J49 (x2 : Int) : zX :=
  zlp (fX65_lookSegment_B51 x2) zBIG 0
def fX65_lookSegment : zX :=
  zcl (fX65_take_2 0 63) fun v1 => zgf 6603 0 fun v2 => zcl fX65_take fun v3 => zlt (zi (v3 * 256)) fun v4 => zcl fX65_take fun v5 => zlt (zi (v4 + v5)) fun v6 => zgf 6604 0 fun v7 => if ¬ v7 = 0 then
  (fX65_lookSegment_J49 v6) else
  (if v6 ≤ 1024 then
  (fX65_lookSegment_J49 v6) else
  (zcl (fX65_wrong 3 v2) fun v20 => fX65_lookSegment_J49 v6))
def fX65_lookItems_J105 (r9 : Int → zX) (x2 : Int) (x3 : Int) : zX :=
  zcl (fX65_take_2 0 7) fun v7 => zlt (zi (x3 + 1)) fun v8 => r9 v8
def fX65_lookItems_J99 (r9 : Int → zX) (r62 : Int → zX) (x2 : Int) (x3 : Int) (x4 : Int) (x5 : Int) : zX :=
  zlt (zi (x5 + 1)) fun v12 => r62 v12
def fX65_lookItems_B62 (r9 : Int → zX) (x2 : Int) (x3 : Int) (x4 : Int) (r62 : Int → zX) : Int → zX := fun x5 =>
  if x3 ≤ x5 then
  (fX65_lookItems_J105 r9 x2 x3) else
  (zgf 6604 0 fun v9 => if ¬ v9 = 0 then
  (fX65_lookItems_J105 r9 x2 x3) else
  (zal 6615 0 x5 6 fun v10 => zal 6615 0 x3 6 fun v11 => if ¬ v10 = v11 then
  (fX65_lookItems_J99 r9 r62 x2 x3 x4 x5) else
  (zcl (fX65_wrong 3 x4) fun v13 => fX65_lookItems_J99 r9 r62 x2 x3 x4 x5)))
def fX65_lookItems_B9 (x2 : Int) (r9 : Int → zX) : Int → zX := fun x3 =>
  if x2 ≤ x3 then
  (zret 0) else
  (zgf 6604 0 fun v2 => if ¬ v2 = 0 then
  (zret 0) else
  (zgf 6603 0 fun v3 => zcl (fX65_take_2 0 16) fun v4 => zas 6615 0 x3 6 (zi (16 * v4)) <| zal 6615 0 x3 6 fun v5 => zcl (fX65_take_2 0 8) fun v6 => zas 6615 0 x3 6 (zi (v5 + v6)) <| zlp (fX65_lookItems_B62 r9 x2 x3 v3) zBIG 0))
def fX65_lookItems (x1 : Int) : zX :=
  zcl (fX65_take_2 0 x1) fun v1 => zlp (fX65_lookItems_B9 v1) zBIG 0
def fX65_lookDirectory_J94 (x3 : Int) (x4 : Int) : zX :=
  zcl fX65_take fun v9 => zgf 6604 0 fun v10 => if v10 ≤ 0 then
  (zgf 6612 0 fun v11 => zas 6606 0 v11 7600 v9 <| zgf 6612 0 fun v12 => zas 6607 0 v12 7600 x3 <| zgf 6612 0 fun v13 => zas 6608 0 v13 7600 x4 <| zgf 6612 0 fun v14 => zas 6609 0 v14 7600 0 <| zgf 6612 0 fun v15 => zgf 6613 0 fun v16 => zas 6610 0 v15 7600 v16 <| zgf 6612 0 fun v17 => zpf 6612 0 (zi (v17 + 1)) <| zret 0) else
  (zret 0)
def fX65_lookDirectory_J82 (x3 : Int) (x4 : Int) : zX :=
  zgf 6604 0 fun v8 => if ¬ v8 = 0 then
  (fX65_lookDirectory_J94 x3 x4) else
  (zcl (fX65_lookItems 3) fun _ => fX65_lookDirectory_J94 x3 x4)
def fX65_lookDirectory_J70 (x3 : Int) (x4 : Int) : zX :=
  zgf 6604 0 fun v7 => if ¬ v7 = 0 then
  (fX65_lookDirectory_J82 x3 x4) else
  (zcl (fX65_lookItems 3) fun _ => fX65_lookDirectory_J82 x3 x4)
def fX65_lookDirectory_J35 (x1 : Int) (x3 : Int) : zX :=
  zgf 6603 0 fun v4 => zcl fX65_take fun v5 => zgf 6604 0 fun v6 => if ¬ v6 = 0 then
  (fX65_lookDirectory_J70 x3 v5) else
  (if ¬ v5 = 0 then
  (fX65_lookDirectory_J70 x3 v5) else
  (if x3 = x1 then
  (fX65_lookDirectory_J70 x3 v5) else
  (zcl (fX65_wrong 5 v4) fun v20 => fX65_lookDirectory_J70 x3 v5)))
def fX65_lookDirectory (x1 : Int) : zX :=
  zgf 6603 0 fun v1 => zcl (fX65_take_2 0 31) fun v2 => zgf 6604 0 fun v3 => if ¬ v3 = 0 then
  (fX65_lookDirectory_J35 x1 v2) else
  (zcl (fX0_dominates v2 x1) fun v21 => if ¬ v21 = 0 then
  (fX65_lookDirectory_J35 x1 v2) else
  (zcl (fX65_wrong 5 v1) fun v22 => fX65_lookDirectory_J35 x1 v2))
def fX65_lookNode_J114 : zX :=
  zcl fX65_shut fun _ => zret 0
def fX65_lookNode_J76 (x1 : Int) (x2 : Int) : zX :=
  zgf 6604 0 fun v9 => if v9 ≤ 0 then
  (if ¬ x2 = 1 then
  (if ¬ x2 = 2 then
  (zcl (fX65_lookMailbox x1) fun _ => fX65_lookNode_J114) else
  (zcl fX65_lookSegment fun _ => fX65_lookNode_J114)) else
  (zcl (fX65_lookDirectory x1) fun _ => fX65_lookNode_J114)) else
  (zret 0)
def fX65_lookNode_J63 (x1 : Int) (x2 : Int) : zX :=
  zgf 6604 0 fun v8 => if ¬ v8 = 0 then
  (fX65_lookNode_J76 x1 x2) else
  (zcl (fX65_lookItems 6) fun _ => fX65_lookNode_J76 x1 x2)
def fX65_lookNode_J45 (x1 : Int) (x2 : Int) (s0 : Int) : zX :=
  zgf 6604 0 fun v7 => if ¬ v7 = 0 then
  (fX65_lookNode_J63 x1 x2) else
  (zcl (fX65_take_2 s0 7) fun v15 => fX65_lookNode_J63 x1 x2)
def fX65_lookNode (x1 : Int) : zX :=
  zcl (fX65_take_2 1 3) fun v1 => zgf 6604 0 fun v2 => if v2 ≤ 0 then
  (zcl fX65_lookName fun _ => zcl (fX65_take_2 0 7) fun v4 => zgf 6604 0 fun v5 => if v5 ≤ 0 then
  (zcl (fX65_take_2 v4 7) fun v6 => fX65_lookNode_J45 x1 v1 v6) else
  (fX65_lookNode_J45 x1 v1 0)) else
  (zret 0)
def fX65_isSound_J298 : zX :=
  zgf 6604 0 fun v5 => if ¬ v5 = 0 then
  (zret 0) else
  (zret 1)
def fX65_isSound_J287 : zX :=
  zgf 6602 0 fun v7 => zcl (fX65_wrong 6 v7) fun v8 => fX65_isSound_J298
def fX65_isSound_J258 (x1 : Int) : zX :=
  zgf 6604 0 fun v4 => if ¬ v4 = 0 then
  (fX65_isSound_J298) else
  (zgf 6614 0 fun v6 => if ¬ v6 = 0 then
  (fX65_isSound_J287) else
  (zgf 6617 0 fun v9 => zcl (fX1_bears x1 v9) fun v10 => if ¬ v10 = 0 then
  (fX65_isSound_J298) else
  (fX65_isSound_J287)))
def fX65_isSound_J229 (x1 : Int) : zX :=
  zgf 6604 0 fun v3 => if ¬ v3 = 0 then
  (fX65_isSound_J258 x1) else
  (zgf 6603 0 fun v11 => zgf 6602 0 fun v12 => if v12 ≤ v11 then
  (fX65_isSound_J258 x1) else
  (zgf 6603 0 fun v13 => zcl (fX65_wrong 8 v13) fun v14 => fX65_isSound_J258 x1))
def fX65_isSound_J174 (x1 : Int) : zX :=
  zgf 6604 0 fun v2 => if ¬ v2 = 0 then
  (fX65_isSound_J229 x1) else
  (zgf 6603 0 fun v15 => zcl fX65_take fun v16 => zlt (zi (v16 * 256)) fun v17 => zcl fX65_take fun v18 => zlt (zi (v17 + v18)) fun v19 => zgf 6604 0 fun v20 => if ¬ v20 = 0 then
  (fX65_isSound_J229 x1) else
  (zcl (fX65_checkTo v15) fun v21 => if v19 = v21 then
  (fX65_isSound_J229 x1) else
  (zcl (fX65_wrong 7 v15) fun v22 => fX65_isSound_J229 x1)))
def fX65_isSound_J170 (r94 : Int → zX) (x1 : Int) (s0 : Int) : zX :=
  r94 s0
def fX65_isSound_J169 (r94 : Int → zX) (x1 : Int) : zX :=
  fX65_isSound_J170 r94 x1 0
def fX65_isSound_J146 (r94 : Int → zX) (x1 : Int) (x3 : Int) : zX :=
  zcl (fX65_lookNode x3) fun _ => zgf 6604 0 fun v28 => if ¬ v28 = 0 then
  (fX65_isSound_J169 r94 x1) else
  (zgf 6612 0 fun v29 => if v29 ≤ 0 then
  (fX65_isSound_J169 r94 x1) else
  (fX65_isSound_J170 r94 x1 1))
def fX65_isSound_J123 (r94 : Int → zX) (x1 : Int) (s0 : Int) : zX :=
  zgf 6612 0 fun v26 => if v26 ≤ 0 then
  (fX65_isSound_J146 r94 x1 s0) else
  (zgf 6612 0 fun v30 => zal 6606 0 (zi (v30 - 1)) 7600 fun v31 => zas 6606 0 (zi (v30 - 1)) 7600 (zi (v31 - 1)) <| fX65_isSound_J146 r94 x1 s0)
def fX65_isSound_B94 (x1 : Int) (r94 : Int → zX) : Int → zX := fun x2 =>
  if x2 = 0 then
  (fX65_isSound_J174 x1) else
  (zgf 6612 0 fun v23 => if ¬ v23 = 0 then
  (zgf 6612 0 fun v24 => zal 6607 0 (zi (v24 - 1)) 7600 fun v25 => fX65_isSound_J123 r94 x1 v25) else
  (znn x1 <| zgf 503 x1 fun v33 => fX65_isSound_J123 r94 x1 v33))
def fX65_isSound_J93 (x1 : Int) (s0 : Int) : zX :=
  zlp (fX65_isSound_B94 x1) zBIG s0
def fX65_isSound_J81 (x1 : Int) : zX :=
  zgf 6604 0 fun v1 => if ¬ v1 = 0 then
  (fX65_isSound_J93 x1 0) else
  (fX65_isSound_J93 x1 1)
def fX65_isSound_J75 (r32 : Int → zX) (x1 : Int) (x2 : Int) : zX :=
  zlt (zi (x2 + 1)) fun v37 => r32 v37
def fX65_isSound_B32 (x1 : Int) (r32 : Int → zX) : Int → zX := fun x2 =>
  if 3 ≤ x2 then
  (fX65_isSound_J81 x1) else
  (zgf 6604 0 fun v34 => if ¬ v34 = 0 then
  (fX65_isSound_J81 x1) else
  (zcl fX65_take fun v35 => zgf 6604 0 fun v36 => if ¬ v36 = 0 then
  (fX65_isSound_J75 r32 x1 x2) else
  (zhd x2 fun v38 => if v35 = v38 then
  (fX65_isSound_J75 r32 x1 x2) else
  (zcl (fX65_wrong 2 x2) fun v39 => fX65_isSound_J75 r32 x1 x2))))
def fX65_isSound (x1 : Int) : zX :=
  zpf 6604 0 0 <| zpf 6605 0 (-1) <| zpf 6603 0 0 <| zpf 6612 0 0 <| zpf 6613 0 0 <| zpf 6614 0 0 <| zlp (fX65_isSound_B32 x1) zBIG 0
def fX65_skipItems : zX :=
  zcl fX65_take fun v1 => zgf 6603 0 fun v2 => zpf 6603 0 (zi (v2 + (zi (3 * v1)))) <| zret 0
def fX65_setItems_B6 (x1 : Int) (x2 : Int) (r6 : Int → zX) : Int → zX := fun x3 =>
  zal 6601 0 x2 98304 fun v3 => if v3 ≤ x3 then
  (zret 0) else
  (zal 6601 0 (zi ((zi (x2 + 1)) + (zi (3 * x3)))) 98304 fun v4 => zal 6601 0 (zi ((zi (x2 + 2)) + (zi (3 * x3)))) 98304 fun v5 => zal 6601 0 (zi ((zi (x2 + 3)) + (zi (3 * x3)))) 98304 fun v6 => znn x1 <| zcl (fX5_set x1 v4 v5 v6) fun v8 => zlt (zi (x3 + 1)) fun v9 => r6 v9)
def fX65_setItems (x1 : Int) (x2 : Int) : zX :=
  znn x1 <| zcl (fX5_clear x1) fun _ => zlp (fX65_setItems_B6 x1 x2) zBIG 0
def fX65_makeNode_J325 (sf : Int → Int → zX) (x7 : Int) (x8 : Int) (x9 : Int) (x10 : Int) (x11 : Int) : zX :=
  znn x11 <| zcl (fX4_setBrackets x11 x7 x8 x9) fun _ => zcl (fX65_setItems (3 * x11) x10) fun _ => zret x11
def fX65_makeNode_B297 (sf : Int → Int → zX) (x7 : Int) (x8 : Int) (x9 : Int) (x10 : Int) (x11 : Int) (x13 : Int) (r297 : Int → zX) : Int → zX := fun x14 =>
  if x13 ≤ x14 then
  (fX65_makeNode_J325 sf x7 x8 x9 x10 x11) else
  (zcl fX65_takeWord fun v21 => zcl (fX1_put x11 x14 v21) fun _ => zlt (zi (x14 + 1)) fun v23 => r297 v23)
def fX65_makeNode_B197 (sf : Int → Int → zX) (x7 : Int) (x8 : Int) (x9 : Int) (x10 : Int) (x11 : Int) (x12 : Int) (r197 : Int → zX) : Int → zX := fun x13 =>
  if x12 ≤ x13 then
  (fX65_makeNode_J325 sf x7 x8 x9 x10 x11) else
  (zcl fX65_take fun v28 => znn x11 <| zgf 520 x11 fun v30 => zcl fX65_takeWord fun v31 => znn v30 <| zcl (fX6_post v30 v31 v28) fun v33 => zlt (zi (x13 + 1)) fun v34 => r197 v34)
def fX65_makeNode_J139 (sf : Int → Int → zX) (x7 : Int) (x8 : Int) (x9 : Int) (x10 : Int) (x11 : Int) (x14 : Int) (x15 : Int) : zX :=
  znn x11 <| zcl (fX65_setItems (3 * x11 + 1) x14) fun _ => zcl (fX65_setItems (3 * x11 + 2) x15) fun _ => fX65_makeNode_J325 sf x7 x8 x9 x10 x11
def fX65_makeNode_B118 (sf : Int → Int → zX) (x7 : Int) (x8 : Int) (x9 : Int) (x10 : Int) (x11 : Int) (x14 : Int) (x15 : Int) (x16 : Int) (r118 : Int → zX) : Int → zX := fun x17 =>
  if x16 ≤ x17 then
  (fX65_makeNode_J139 sf x7 x8 x9 x10 x11 x14 x15) else
  (zcl (sf x11 0) fun v46 => zlt (zi (x17 + 1)) fun v47 => r118 v47)
def fX65_makeNode_J24 (sf : Int → Int → zX) (x1 : Int) (x4 : Int) (s0 : Int) : zX :=
  zcl fX65_take fun v3 => zcl fX65_take fun v4 => zcl fX65_take fun v5 => zgf 6603 0 fun v6 => zcl fX65_skipItems fun _ => if ¬ x4 = 1 then
  (if ¬ x4 = 3 then
  (zcl fX65_take fun v8 => zcl fX65_take fun v9 => zlt (zi (v9 * 256)) fun v10 => zcl fX65_take fun v11 => zlt (zi (v10 + v11)) fun v12 => znn x1 <| zgf 503 x1 fun v14 => zcl (fX1_make x1 2 s0 v14 0) fun v15 => znn v15 <| zpf 521 v15 v8 <| zcl (fX1_resize v15 v12) fun _ => zlp (fX65_makeNode_B297 sf v3 v4 v5 v6 v15 v12) zBIG 0) else
  (zcl fX65_take fun v24 => znn x1 <| zgf 503 x1 fun v26 => zcl (fX1_make x1 3 s0 v26 0) fun v27 => zlp (fX65_makeNode_B197 sf v3 v4 v5 v6 v27 v24) zBIG 0)) else
  (zcl fX65_take fun v35 => zcl fX65_take fun v36 => zgf 6603 0 fun v37 => zcl fX65_skipItems fun _ => zgf 6603 0 fun v39 => zcl fX65_skipItems fun _ => zcl fX65_take fun v41 => zcl (fX1_make x1 1 s0 v35 v36) fun v42 => zlp (fX65_makeNode_B118 sf v3 v4 v5 v6 v42 v37 v39 v41) zBIG 0)
def fX65_makeNode_E (sf : Int → Int → zX) (x1 : Int) (x2 : Int) : zX :=
  zcl fX65_take fun v1 => zcl fX65_takeWord fun v2 => if x2 ≤ 0 then
  (fX65_makeNode_J24 sf x1 v1 v2) else
  (fX65_makeNode_J24 sf x1 v1 x2)
def fX65_makeNode : Nat → Int → Int → zX
  | 0 => fun _ _ => zno
  | n + 1 => fX65_makeNode_E (fX65_makeNode n)
def fX65_reload (x1 : Int) (x2 : Int) : zX :=
  zcl (fX65_isSound x1) fun v1 => if ¬ v1 = 0 then
  (zpf 6603 0 3 <| zcl (fX65_makeNode 300 x1 x2) fun v2 => zgf 207 0 fun v3 => zpf 207 0 (zi (v3 + 1)) <| znn v2 <| zret v2) else
  (zgf 6604 0 fun v5 => zret (zi ((-10) - v5)))
def fX0_reload_J73 (x5 : Int) (s1 : Int) : zX :=
  zpf 109 0 s1 <| zret x5
def fX0_reload (x1 : Int) (x2 : Int) : zX :=
  zcl (fX1_directory x1) fun v1 => if v1 < 0 then
  (zret (-8)) else
  (zcl (fX0_isName x2) fun v3 => if ¬ v3 = 0 then
  (zcl (fX2_find v1 x2) fun v4 => if v4 < 0 then
  (zcl (fX65_reload v1 x2) fun v6 => if 0 ≤ v6 then
  (fX0_reload_J73 v6 (-1)) else
  (zgf 6605 0 fun v7 => fX0_reload_J73 v6 v7)) else
  (zret (-6))) else
  (zret (-8)))
def fX0_count_J76 (r52 : Int × Int → zX) (x3 : Int) (s0 : Int) (s1 : Int) : zX :=
  zlt (zi (s0 + s1)) fun v7 => zlt (zi (x3 + 1)) fun v8 => r52 (v7, v8)
def fX0_count_B52 (r52 : Int × Int → zX) : Int × Int → zX := fun (x2, x3) =>
  if 8 ≤ x3 then
  (zret x2) else
  (zib x3 8 <| zgf 902 x3 fun v6 => if v6 = 0 then
  (fX0_count_J76 r52 x3 x2 0) else
  (fX0_count_J76 r52 x3 x2 1))
def fX0_count (x1 : Int) : zX :=
  if x1 = 0 then
  (zgf 206 0 fun v2 => zret v2) else
  if x1 = 1 then
  (zlp (fX0_count_B52) zBIG (0, 0)) else
  if x1 = 2 then
  (zgf 6503 0 fun v10 => zret v10) else
  if x1 = 3 then
  (zgf 6602 0 fun v12 => zret v12) else
  if x1 = 4 then
  (zgf 108 0 fun v14 => zret v14) else
  if x1 = 5 then
  (zgf 1401 0 fun v16 => zret v16) else
  (zret (-8))
