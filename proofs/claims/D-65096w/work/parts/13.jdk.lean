set_option maxRecDepth 100000
/-! strings, the constant array, Math.max: as far as they are reached -/
section
variable {K : zK} {cd : ByteArray} {own : String} {ret : Option FieldType} {d : Nat}
theorem zstr_on {x : Int} (h : zOv (70, x)) (h0 : 0 ≤ x) : x.toNat < 44 := by
  have h2 := h.2
  simp only at h2
  have h3 : zcn 70 = 44 := rfl
  rw [h3] at h2
  omega
theorem zslen_ok : ∀ i ∈ List.range 44, ((zslen.getD i 0 : Nat) : Int) = zsn (i : Int) ∧ zslen.getD i 0 ≤ 10 := by decide +kernel
theorem zsbyt_ok : ∀ i ∈ List.range 44, ∀ j ∈ List.range (zslen.getD i 0), (zsbyt.getD i []).getD j 0 = Int32.ofInt (zsv (i : Int) (j : Int)) ∧ 0 ≤ zsv (i : Int) (j : Int) ∧ zsv (i : Int) (j : Int) < 128 := by decide +kernel
theorem r_max (E : zE K cd own ret d) {pc idx : Nat} {ls : List (Nat × Nat × Int)} {st : List (Nat × Int)} {X : zX} {x y : Int} (hw1 : Cond.methodLink own idx Lib.Math.max.name ∈ lw_all) (hd : decode cd pc = .ok (.invokestatic idx, 3)) (h8 : zcat st ≤ 8) (kk : zR K (pc + 3) ls ((0, max x y) :: st) X) : zR K pc ls ((0, y) :: (0, x) :: st) X := by
  obtain ⟨p, l, e, R, s, m, args, below, meth, cde, G, nL, tr⟩ := K
  obtain ⟨hx, hb, hr, hlk, hml, hown, hts, hK, hN, hZ, hI, hR⟩ := E
  intro M r M' hX hM hl hst H locs hP hS lsA hLs
  have hxx := hst.tl.hd
  have hyy := hst.hd
  have hok : zOv (0, max x y) := by simp only [zOv] at hxx hyy ⊢; omega
  have kk := kk M r M' hX hM hl (hst.tl.tl.cons hok) H locs hP hS lsA hLs
  refine va_mmax hx hb (hml.trans hLs.1.symm) hown (hts _ hw1) (hts _ q2297) (hts _ q295) (hts _ q2298) (by rw [hR]; show 1 ≤ d + 1; omega) (by rw [hR, zcat_sum]; show zcat st + 13 ≤ 100 * (d + 1); omega) (Nat.zero_le _) (Nat.zero_le _) hd ?_
  have e1 : (if Int32.ofInt x < Int32.ofInt y then Int32.ofInt y else Int32.ofInt x) = Int32.ofInt (max x y) := by
    by_cases h : x < y
    · rw [if_pos ((zlt32 hxx hyy).mpr h)]; congr 1; omega
    · rw [if_neg (fun q => h ((zlt32 hxx hyy).mp q))]; congr 1; omega
  rw [e1]
  exact kk
theorem r_sval (E : zE K cd own ret d) {pc idx : Nat} {ls : List (Nat × Nat × Int)} {st : List (Nat × Int)} {X : zX} {x : Int} (hw : Cond.fieldLink own idx "java/lang/String" "value" "[B" ∈ lw_all) (hd : decode cd pc = .ok (.getfield idx, 3)) (h0 : 0 ≤ x) (kk : zR K (pc + 3) ls ((73, x) :: st) X) : zR K pc ls ((70, x) :: st) X := by
  obtain ⟨p, l, e, R, s, m, args, below, meth, cde, G, nL, tr⟩ := K
  obtain ⟨hx, hb, hr, hlk, hml, hown, hts, hK, hN, hZ, hI, hR⟩ := E
  intro M r M' hX hM hl hst H locs hP hS lsA hLs
  have hi := zstr_on hst.hd h0
  have hok : zOv (73, x) := hst.hd
  have kk := kk M r M' hX hM hl (hst.tl.cons hok) H locs hP hS lsA hLs
  rw [List.map_cons, zv_ref (t := 71) (x := x) (by omega)] at kk
  rw [List.map_cons, zv_ref (t := 68) (x := x) (by omega)]
  exact vk_getf hx hb (hZ.1.1 _ hi).2.2.1 hS hown (hts _ hw) (fun _ h => h) hd kk
theorem r_scod (E : zE K cd own ret d) {pc idx : Nat} {ls : List (Nat × Nat × Int)} {st : List (Nat × Int)} {X : zX} {x : Int} (hw : Cond.fieldLink own idx "java/lang/String" "coder" "B" ∈ lw_all) (hd : decode cd pc = .ok (.getfield idx, 3)) (h0 : 0 ≤ x) (kk : zR K (pc + 3) ls ((0, 0) :: st) X) : zR K pc ls ((70, x) :: st) X := by
  obtain ⟨p, l, e, R, s, m, args, below, meth, cde, G, nL, tr⟩ := K
  obtain ⟨hx, hb, hr, hlk, hml, hown, hts, hK, hN, hZ, hI, hR⟩ := E
  intro M r M' hX hM hl hst H locs hP hS lsA hLs
  have hi := zstr_on hst.hd h0
  have kk := kk M r M' hX hM hl (hst.tl.cons (zkI (by decide) (by decide))) H locs hP hS lsA hLs
  rw [List.map_cons, zv_ref (t := 68) (x := x) (by omega)]
  exact vk_getf hx hb (hZ.1.1 _ hi).2.1 hS hown (hts _ hw) (fun _ h => h) hd kk
theorem zsn_ok {x : Int} (h : zOv (70, x)) (h0 : 0 ≤ x) : ((zslen.getD x.toNat 0 : Nat) : Int) = zsn x ∧ zOv (0, zsn x) := by
  have h1 := zslen_ok x.toNat (List.mem_range.mpr (zstr_on h h0))
  rw [Int.toNat_of_nonneg h0] at h1
  refine ⟨h1.1, ?_⟩
  rw [← h1.1]
  simp only [zOv]
  omega
theorem r_salen (E : zE K cd own ret d) {pc : Nat} {ls : List (Nat × Nat × Int)} {st : List (Nat × Int)} {X : zX} {x : Int} (hd : decode cd pc = .ok (.arraylength, 1)) (h0 : 0 ≤ x) (kk : zR K (pc + 1) ls ((0, zsn x) :: st) X) : zR K pc ls ((73, x) :: st) X := by
  obtain ⟨p, l, e, R, s, m, args, below, meth, cde, G, nL, tr⟩ := K
  obtain ⟨hx, hb, hr, hlk, hml, hown, hts, hK, hN, hZ, hI, hR⟩ := E
  intro M r M' hX hM hl hst H locs hP hS lsA hLs
  have hov : zOv (70, x) := hst.hd
  have hi := zstr_on hov h0
  obtain ⟨e1, e2⟩ := zsn_ok hov h0
  have kk := kk M r M' hX hM hl (hst.tl.cons e2) H locs hP hS lsA hLs
  rw [List.map_cons, zv_ref (t := 71) (x := x) (by omega)]
  exact va_tlen (v := Int32.ofInt (zsn x)) hx hb (hZ.1.1 _ hi).2.2.2 hS (by rw [← e1]; rfl) hd kk
theorem r_sbald (E : zE K cd own ret d) {pc : Nat} {ls : List (Nat × Nat × Int)} {st : List (Nat × Int)} {X : zX} {x i : Int} (hd : decode cd pc = .ok (.baload, 1)) (h0 : 0 ≤ x) (hi0 : 0 ≤ i ∧ i < zsn x) (kk : 0 ≤ zsv x i ∧ zsv x i < 128 → zR K (pc + 1) ls ((0, zsv x i) :: st) X) : zR K pc ls ((0, i) :: (73, x) :: st) X := by
  obtain ⟨p, l, e, R, s, m, args, below, meth, cde, G, nL, tr⟩ := K
  obtain ⟨hx, hb, hr, hlk, hml, hown, hts, hK, hN, hZ, hI, hR⟩ := E
  intro M r M' hX hM hl hst H locs hP hS lsA hLs
  have hov : zOv (70, x) := hst.tl.hd
  have hi := zstr_on hov h0
  obtain ⟨e1, e2⟩ := zsn_ok hov h0
  have hb2 := zsbyt_ok x.toNat (List.mem_range.mpr hi) i.toNat (List.mem_range.mpr (by omega))
  rw [Int.toNat_of_nonneg h0, Int.toNat_of_nonneg hi0.1] at hb2
  have kk := kk hb2.2 M r M' hX hM hl (hst.tl.tl.cons (by have := hb2.2; simp only [zOv]; omega)) H locs hP hS lsA hLs
  obtain ⟨hin, hcl⟩ := zin (n := zslen.getD x.toNat 0) hst.hd hi0.1 (by omega)
  rw [List.map_cons, List.map_cons, zv_ref (t := 71) (x := x) (by omega)]
  exact va_tb (v := .int (Int32.ofInt (zsv x i))) hx hb (hZ.1.1 _ hi).2.2.2 hS hin (by rw [hcl]; exact congrArg Value.int hb2.1) hd kk
theorem r_gcs (E : zE K cd own ret d) {pc idx : Nat} {ls : List (Nat × Nat × Int)} {st : List (Nat × Int)} {X : zX} (hw : Cond.fieldLink own idx "java/lang/String" "COMPACT_STRINGS" "Z" ∈ lw_all) (hd : decode cd pc = .ok (.getstatic idx, 3)) (kk : zR K (pc + 3) ls ((0, 1) :: st) X) : zR K pc ls st X := by
  obtain ⟨p, l, e, R, s, m, args, below, meth, cde, G, nL, tr⟩ := K
  obtain ⟨hx, hb, hr, hlk, hml, hown, hts, hK, hN, hZ, hI, hR⟩ := E
  intro M r M' hX hM hl hst H locs hP hS lsA hLs
  exact va_gets hx hb hZ.2.2.2.2.1 hS hown (hts _ hw) (fun _ h => h) hd (kk M r M' hX hM hl (hst.cons (zkI (by decide) (by decide))) H locs hP hS lsA hLs)
theorem r_gfm (E : zE K cd own ret d) {pc idx : Nat} {ls : List (Nat × Nat × Int)} {st : List (Nat × Int)} {X : zX} (hw : Cond.fieldLink own idx "jdk/internal/util/Preconditions" "SIOOBE_FORMATTER" "Ljava/util/function/BiFunction;" ∈ lw_all) (hd : decode cd pc = .ok (.getstatic idx, 3)) (kk : ∀ x : Int, zR K (pc + 3) ls ((74, x) :: st) X) : zR K pc ls st X := by
  obtain ⟨p, l, e, R, s, m, args, below, meth, cde, G, nL, tr⟩ := K
  obtain ⟨hx, hb, hr, hlk, hml, hown, hts, hK, hN, hZ, hI, hR⟩ := E
  intro M r M' hX hM hl hst H locs hP hS lsA hLs
  obtain ⟨x, hx0, hz⟩ := hZ.2.2.2.2.2
  exact va_gets hx hb hz hS hown (hts _ hw) (fun _ h => h) hd (kk x M r M' hX hM hl (hst.cons hx0) H locs hP hS lsA hLs)
theorem r_headN (E : zE K cd own ret d) {pc idx : Nat} {ls : List (Nat × Nat × Int)} {st : List (Nat × Int)} {X : zX} {host : String} (hd : decode cd pc = .ok (.getstatic idx, 3)) (hw : Cond.fieldLinkNest own idx "RingHouse" "HEAD" "[I" host ∈ lw_tbl) (kk : zR K (pc + 3) ls ((71, 0) :: st) X) : zR K pc ls st X := by
  obtain ⟨p, l, e, R, s, m, args, below, meth, cde, G, nL, tr⟩ := K
  obtain ⟨hx, hb, hr, hlk, hml, hown, hts, hK, hN, hZ, hI, hR⟩ := E
  intro M r M' hX hM hl hst H locs hP hS lsA hLs
  exact va_getsN hx hb hZ.2.2.1 hS hown (va_Nw.use rfl (hN _ hw rfl)) (fun _ h => h) hd (kk M r M' hX hM hl (hst.cons (by refine ⟨by decide, ?_⟩; show (0 : Int) < ((zcn 71 : Nat) : Int); decide)) H locs hP hS lsA hLs)
theorem r_headlen (E : zE K cd own ret d) {pc : Nat} {ls : List (Nat × Nat × Int)} {st : List (Nat × Int)} {X : zX} (hd : decode cd pc = .ok (.arraylength, 1)) (kk : zR K (pc + 1) ls ((0, 3) :: st) X) : zR K pc ls ((71, 0) :: st) X := by
  obtain ⟨p, l, e, R, s, m, args, below, meth, cde, G, nL, tr⟩ := K
  obtain ⟨hx, hb, hr, hlk, hml, hown, hts, hK, hN, hZ, hI, hR⟩ := E
  intro M r M' hX hM hl hst H locs hP hS lsA hLs
  exact va_tlen (v := Int32.ofInt 3) hx hb hZ.2.2.2.1 hS rfl hd (kk M r M' hX hM hl (hst.tl.cons (zkI (by decide) (by decide))) H locs hP hS lsA hLs)
theorem zhd_if {i : Int} {f : Int → zX} {M : zM} {r : Int × zM} (h : zhd i f M = some r) : (0 ≤ i ∧ i < 3) ∧ f (zhv i) M = some r := by
  unfold zhd at h
  by_cases hv : 0 ≤ i ∧ i < 3
  · rw [if_pos hv] at h; exact ⟨hv, h⟩
  · rw [if_neg hv] at h; cases h
theorem r_headld (E : zE K cd own ret d) {pc : Nat} {ls : List (Nat × Nat × Int)} {st : List (Nat × Int)} {f : Int → zX} {i : Int} (hd : decode cd pc = .ok (.iaload, 1)) (kk : ∀ v : Int, zR K (pc + 1) ls ((0, v) :: st) (f v)) : zR K pc ls ((0, i) :: (71, 0) :: st) (zhd i f) := by
  obtain ⟨p, l, e, R, s, m, args, below, meth, cde, G, nL, tr⟩ := K
  obtain ⟨hx, hb, hr, hlk, hml, hown, hts, hK, hN, hZ, hI, hR⟩ := E
  intro M r M' hX hM hl hst H locs hP hS lsA hLs
  have hX2 := zhd_if hX
  clear hX
  obtain ⟨hi, hX⟩ := hX2
  obtain ⟨hin, hcl⟩ := zin (n := 3) hst.hd hi.1 hi.2
  have hok : zOv (0, zhv i) := by
    have h3 : ∀ k ∈ List.range 3, zOvB (0, zhv (k : Int)) = true := by decide
    have := h3 i.toNat (List.mem_range.mpr (by omega))
    rw [Int.toNat_of_nonneg hi.1] at this
    exact zOvB_ok this
  refine va_ti (v := .int (Int32.ofInt (zhv i))) hx hb hZ.2.2.2.1 hS hin (by rw [hcl, Int.toNat_of_nonneg hi.1]) hd (kk _ M r M' hX hM hl (hst.tl.tl.cons hok) H locs hP hS lsA hLs)
theorem r_ldcS (E : zE K cd own ret d) {pc idx : Nat} {ls : List (Nat × Nat × Int)} {st : List (Nat × Int)} {X : zX} {i : Nat} {tx : String} (hd : decode cd pc = .ok (.ldc idx, 2)) (j : Nat) (hj : zSR[j]? = some (own, idx, tx, i)) (hi : i < 44) (kk : zR K (pc + 2) ls ((70, (i : Int)) :: st) X) : zR K pc ls st X := by
  obtain ⟨p, l, e, R, s, m, args, below, meth, cde, G, nL, tr⟩ := K
  obtain ⟨hx, hb, hr, hlk, hml, hown, hts, hK, hN, hZ, hI, hR⟩ := E
  intro M r M' hX hM hl hst H locs hP hS lsA hLs
  have hok : zOv (70, (i : Int)) := by
    refine ⟨by show (-1 : Int) ≤ (i : Int); omega, ?_⟩
    show (i : Int) < ((zcn 70 : Nat) : Int)
    have h3 : zcn 70 = 44 := rfl
    rw [h3]
    omega
  have kk := kk M r M' hX hM hl (hst.cons hok) H locs hP hS lsA hLs
  rw [List.map_cons, zv_ref (t := 68) (x := (i : Int)) (by omega), Int.toNat_natCast] at kk
  exact va_ldcS hx hb hown (hZ.2.1 _ (List.mem_of_getElem? hj)) hd kk
/-- a method of String is called on a constant -/
theorem r_callT (E : zE K cd own ret d) {pc idx n d' L : Nat} {ls : List (Nat × Nat × Int)} {stk : List (Nat × Int)} {y : MethodName} {b : ByteArray} {r' : Option FieldType} {tr' : Option Nat} {x : Int} {X0 : zX} {k : Int → zX} (As st : List (Nat × Int)) (hstk : stk = As.reverse ++ (70, x) :: st)
    (hcls : y.cls = "java/lang/String") (hw : GoodIn lw_all (wsV own idx y.cls y (ws_ y b L r'))) (hd : decode cd pc = .ok (.invokevirtual idx, 3))
    (hy : y.cls ≠ "java/lang/invoke/MethodHandle" ∧ y.cls ≠ "java/lang/invoke/VarHandle" ∧ (parseMethodDescriptor y.desc).map (fun d => d.parameters.length) = some n) (hn : As.length = n) (hdd : d' + 1 ≤ d) (hL : L ≤ 81) (hst8 : zcat st ≤ 8) (h0 : 0 ≤ x)
    (hc : ∀ (l : Launch) (G : zG), zCt l G y b L r' d' ((70, x) :: As) tr' X0) (kk : ∀ v : Int, zR K (pc + 3) ls (zpush tr' v st) (k v)) : zR K pc ls stk (zcl X0 k) := by
  subst hstk
  obtain ⟨p, l, e, R, s, m, args, below, meth, cde, G, nL, tr⟩ := K
  obtain ⟨hx, hb, hr, hlk, hml, hown, hts, hK, hN, hZ, hI, hR⟩ := E
  intro M r M' hX hM hl hst H locs hP hS lsA hLs
  obtain ⟨r1, M1, hX0, hX1⟩ := zcl_if hX
  obtain ⟨hA, hst⟩ := hst.app
  have hAs : zOs ((70, x) :: As) := zOs.cons hst.hd hA.rev
  have hi := zstr_on hst.hd h0
  have hrecv := vk_recv hZ.1 hi hS
  rw [← hcls] at hrecv
  have hM0 := hc l G M r1 M1 hX0 hM hAs
  have hmap : (List.map (zv G) (As.reverse ++ (70, x) :: st)) = (As.map (zv G)).reverse ++ .ref (G.2.1 70 x.toNat) :: st.map (zv G) := by
    rw [List.map_append, List.map_cons, zv_ref (t := 68) (by omega), List.map_reverse]
  have hmap2 : ((70, x) :: As).map (zv G) = .ref (G.2.1 70 x.toNat) :: As.map (zv G) := by rw [List.map_cons, zv_ref (t := 68) (by omega)]
  rw [hmap2] at hM0
  rw [hmap]
  refine zcont (va_runV (n := n) (As := As.map (zv G)) (rest := st.map (zv G)) ⟨hx, hb, hml, hown, hts⟩ hM0 (cwV n hts hw rfl rfl rfl ⟨rfl, hy⟩ (zroom hR hdd hL)) ⟨zpre_blind, hrecv, fun U hU hW => ⟨rfl, zpre_of hP hS hK hN hZ hI hU hW⟩⟩ rfl (by rw [List.length_map]; exact hn) hLs.1 rfl (by rw [zcat_sum]; show 0 + _ ≤ 8; omega) hd ⟨Nat.zero_le _, Nat.zero_le _⟩) hS (fun H1 locs1 hP1 hS1 hM1 hr1 => ?_)
  rw [zpush_map]
  exact kk r1 M1 r M' hX1 hM1 hl (zpush_ok hst.tl hr1) H1 locs1 hP1 hS1 lsA hLs
theorem r_breturn (E : zE K cd own ret d) {pc : Nat} {ls : List (Nat × Nat × Int)} {v : Int} {ft : FieldType} (hrt : ret = some ft) (hna : narrow ft (.int (Int32.ofInt v)) = .int (Int32.ofInt v)) (htr : zTr K = some 0) (hd : decode cd pc = .ok (.ireturn, 1)) : zR K pc ls [(0, v)] (zret v) := by
  obtain ⟨p, l, e, R, s, m, args, below, meth, cde, G, nL, tr⟩ := K
  obtain ⟨hx, hb, hr, hlk, hml, hown, hts, hK, hN, hZ, hI, hR⟩ := E
  intro M r M' hX hM hl hst H locs hP hS lsA hL
  cases hX
  subst hrt
  cases htr
  exact W.zret hx hb hr hna (fun t ht hW => ⟨rfl, by rw [ht]; exact hP, hS.F ht, hM, fun t ht => by cases ht; exact hst.hd⟩) hS.2.2 hd hlk
end
theorem dJ1_length_0 : decode cJ1_length 0 = .ok (.aload_n 0, 1) := by decide +kernel
theorem dJ1_length_1 : decode cJ1_length 1 = .ok (.getfield 9, 3) := by decide +kernel
theorem dJ1_length_4 : decode cJ1_length 4 = .ok (.arraylength, 1) := by decide +kernel
theorem dJ1_length_5 : decode cJ1_length 5 = .ok (.aload_n 0, 1) := by decide +kernel
theorem dJ1_length_6 : decode cJ1_length 6 = .ok (.invokevirtual 335, 3) := by decide +kernel
theorem dJ1_length_9 : decode cJ1_length 9 = .ok (.ishr, 1) := by decide +kernel
theorem dJ1_length_10 : decode cJ1_length 10 = .ok (.ireturn, 1) := by decide +kernel
theorem dJ1_coder_0 : decode cJ1_coder 0 = .ok (.getstatic 38, 3) := by decide +kernel
theorem dJ1_coder_3 : decode cJ1_coder 3 = .ok (.ifCond .eq 10, 3) := by decide +kernel
theorem dJ1_coder_6 : decode cJ1_coder 6 = .ok (.aload_n 0, 1) := by decide +kernel
theorem dJ1_coder_7 : decode cJ1_coder 7 = .ok (.getfield 15, 3) := by decide +kernel
theorem dJ1_coder_10 : decode cJ1_coder 10 = .ok (.goto 4, 3) := by decide +kernel
theorem dJ1_coder_13 : decode cJ1_coder 13 = .ok (.iconst 1, 1) := by decide +kernel
theorem dJ1_coder_14 : decode cJ1_coder 14 = .ok (.ireturn, 1) := by decide +kernel
theorem dJ1_charAt_0 : decode cJ1_charAt 0 = .ok (.aload_n 0, 1) := by decide +kernel
theorem dJ1_charAt_1 : decode cJ1_charAt 1 = .ok (.invokevirtual 492, 3) := by decide +kernel
theorem dJ1_charAt_4 : decode cJ1_charAt 4 = .ok (.ifCond .eq 12, 3) := by decide +kernel
theorem dJ1_charAt_7 : decode cJ1_charAt 7 = .ok (.aload_n 0, 1) := by decide +kernel
theorem dJ1_charAt_8 : decode cJ1_charAt 8 = .ok (.getfield 9, 3) := by decide +kernel
theorem dJ1_charAt_11 : decode cJ1_charAt 11 = .ok (.iload_n 1, 1) := by decide +kernel
theorem dJ1_charAt_12 : decode cJ1_charAt 12 = .ok (.invokestatic 495, 3) := by decide +kernel
theorem dJ1_charAt_15 : decode cJ1_charAt 15 = .ok (.ireturn, 1) := by decide +kernel
theorem dJ1_charAt_16 : decode cJ1_charAt 16 = .ok (.aload_n 0, 1) := by decide +kernel
theorem dJ1_charAt_17 : decode cJ1_charAt 17 = .ok (.getfield 9, 3) := by decide +kernel
theorem dJ1_charAt_20 : decode cJ1_charAt 20 = .ok (.iload_n 1, 1) := by decide +kernel
theorem dJ1_charAt_21 : decode cJ1_charAt 21 = .ok (.invokestatic 498, 3) := by decide +kernel
theorem dJ1_charAt_24 : decode cJ1_charAt 24 = .ok (.ireturn, 1) := by decide +kernel
theorem dJ1_isLatin1_0 : decode cJ1_isLatin1 0 = .ok (.getstatic 38, 3) := by decide +kernel
theorem dJ1_isLatin1_3 : decode cJ1_isLatin1 3 = .ok (.ifCond .eq 14, 3) := by decide +kernel
theorem dJ1_isLatin1_6 : decode cJ1_isLatin1 6 = .ok (.aload_n 0, 1) := by decide +kernel
theorem dJ1_isLatin1_7 : decode cJ1_isLatin1 7 = .ok (.getfield 15, 3) := by decide +kernel
theorem dJ1_isLatin1_10 : decode cJ1_isLatin1 10 = .ok (.ifCond .ne 7, 3) := by decide +kernel
theorem dJ1_isLatin1_13 : decode cJ1_isLatin1 13 = .ok (.iconst 1, 1) := by decide +kernel
theorem dJ1_isLatin1_14 : decode cJ1_isLatin1 14 = .ok (.goto 4, 3) := by decide +kernel
theorem dJ1_isLatin1_17 : decode cJ1_isLatin1 17 = .ok (.iconst 0, 1) := by decide +kernel
theorem dJ1_isLatin1_18 : decode cJ1_isLatin1 18 = .ok (.ireturn, 1) := by decide +kernel
theorem dJ1_checkIndex_0 : decode cJ1_checkIndex 0 = .ok (.iload_n 0, 1) := by decide +kernel
theorem dJ1_checkIndex_1 : decode cJ1_checkIndex 1 = .ok (.iload_n 1, 1) := by decide +kernel
theorem dJ1_checkIndex_2 : decode cJ1_checkIndex 2 = .ok (.getstatic 1053, 3) := by decide +kernel
theorem dJ1_checkIndex_5 : decode cJ1_checkIndex 5 = .ok (.invokestatic 1059, 3) := by decide +kernel
theorem dJ1_checkIndex_8 : decode cJ1_checkIndex 8 = .ok (.pop, 1) := by decide +kernel
theorem dJ1_checkIndex_9 : decode cJ1_checkIndex 9 = .ok (.return_, 1) := by decide +kernel
theorem dJ2_charAt_0 : decode cJ2_charAt 0 = .ok (.iload_n 1, 1) := by decide +kernel
theorem dJ2_charAt_1 : decode cJ2_charAt 1 = .ok (.aload_n 0, 1) := by decide +kernel
theorem dJ2_charAt_2 : decode cJ2_charAt 2 = .ok (.arraylength, 1) := by decide +kernel
theorem dJ2_charAt_3 : decode cJ2_charAt 3 = .ok (.invokestatic 9, 3) := by decide +kernel
theorem dJ2_charAt_6 : decode cJ2_charAt 6 = .ok (.aload_n 0, 1) := by decide +kernel
theorem dJ2_charAt_7 : decode cJ2_charAt 7 = .ok (.iload_n 1, 1) := by decide +kernel
theorem dJ2_charAt_8 : decode cJ2_charAt 8 = .ok (.baload, 1) := by decide +kernel
theorem dJ2_charAt_9 : decode cJ2_charAt 9 = .ok (.sipush 255, 3) := by decide +kernel
theorem dJ2_charAt_12 : decode cJ2_charAt 12 = .ok (.iand, 1) := by decide +kernel
theorem dJ2_charAt_13 : decode cJ2_charAt 13 = .ok (.i2c, 1) := by decide +kernel
theorem dJ2_charAt_14 : decode cJ2_charAt 14 = .ok (.ireturn, 1) := by decide +kernel
theorem dJ3_checkIndex_0 : decode cJ3_checkIndex 0 = .ok (.iload_n 0, 1) := by decide +kernel
theorem dJ3_checkIndex_1 : decode cJ3_checkIndex 1 = .ok (.ifCond .lt 8, 3) := by decide +kernel
theorem dJ3_checkIndex_4 : decode cJ3_checkIndex 4 = .ok (.iload_n 0, 1) := by decide +kernel
theorem dJ3_checkIndex_5 : decode cJ3_checkIndex 5 = .ok (.iload_n 1, 1) := by decide +kernel
theorem dJ3_checkIndex_6 : decode cJ3_checkIndex 6 = .ok (.if_icmp .lt 10, 3) := by decide +kernel
theorem dJ3_checkIndex_9 : decode cJ3_checkIndex 9 = .ok (.aload_n 2, 1) := by decide +kernel
theorem dJ3_checkIndex_10 : decode cJ3_checkIndex 10 = .ok (.iload_n 0, 1) := by decide +kernel
theorem dJ3_checkIndex_11 : decode cJ3_checkIndex 11 = .ok (.iload_n 1, 1) := by decide +kernel
theorem dJ3_checkIndex_12 : decode cJ3_checkIndex 12 = .ok (.invokestatic 95, 3) := by decide +kernel
theorem dJ3_checkIndex_15 : decode cJ3_checkIndex 15 = .ok (.athrow, 1) := by decide +kernel
theorem dJ3_checkIndex_16 : decode cJ3_checkIndex 16 = .ok (.iload_n 0, 1) := by decide +kernel
theorem dJ3_checkIndex_17 : decode cJ3_checkIndex 17 = .ok (.ireturn, 1) := by decide +kernel
theorem r_eqX {K : zK} {pc : Nat} {ls : List (Nat × Nat × Int)} {st : List (Nat × Int)} {X : zX} (X' : zX) (h : X = X') (k : zR K pc ls st X') : zR K pc ls st X := h ▸ k
theorem r_ib {K : zK} {pc : Nat} {ls : List (Nat × Nat × Int)} {st : List (Nat × Int)} {X : zX} {i n : Int} (k : 0 ≤ i ∧ i < n → zR K pc ls st X) : zR K pc ls st (zib i n X) := by
  obtain ⟨p, l, e, R, s, m, args, below, meth, cde, G, nL, tr⟩ := K
  intro M r M' hX
  obtain ⟨h1, h2⟩ := zib_if hX
  exact k h1 M r M' h2
theorem zsc_if {x i : Int} {f : Int → zX} {M : zM} {r : Int × zM} (h : zsc x i f M = some r) : (0 ≤ i ∧ i < zsn x) ∧ f (zsv x i) M = some r := by
  unfold zsc at h
  by_cases hv : 0 ≤ i ∧ i < zsn x
  · rw [if_pos hv] at h; exact ⟨hv, h⟩
  · rw [if_neg hv] at h; cases h
theorem r_scx {K : zK} {pc : Nat} {ls : List (Nat × Nat × Int)} {st : List (Nat × Int)} {f : Int → zX} {x i : Int} (k : 0 ≤ i ∧ i < zsn x → zR K pc ls st (f (zsv x i))) : zR K pc ls st (zsc x i f) := by
  obtain ⟨p, l, e, R, s, m, args, below, meth, cde, G, nL, tr⟩ := K
  intro M r M' hX
  obtain ⟨h1, h2⟩ := zsc_if hX
  exact k h1 M r M' h2
theorem zyJ1_length : yJ1_length.cls ≠ "java/lang/invoke/MethodHandle" ∧ yJ1_length.cls ≠ "java/lang/invoke/VarHandle" ∧ (parseMethodDescriptor yJ1_length.desc).map (fun d => d.parameters.length) = some 0 := by decide +kernel
theorem zyJ1_coder : yJ1_coder.cls ≠ "java/lang/invoke/MethodHandle" ∧ yJ1_coder.cls ≠ "java/lang/invoke/VarHandle" ∧ (parseMethodDescriptor yJ1_coder.desc).map (fun d => d.parameters.length) = some 0 := by decide +kernel
theorem zyJ1_charAt : yJ1_charAt.cls ≠ "java/lang/invoke/MethodHandle" ∧ yJ1_charAt.cls ≠ "java/lang/invoke/VarHandle" ∧ (parseMethodDescriptor yJ1_charAt.desc).map (fun d => d.parameters.length) = some 1 := by decide +kernel
theorem zyJ1_isLatin1 : yJ1_isLatin1.cls ≠ "java/lang/invoke/MethodHandle" ∧ yJ1_isLatin1.cls ≠ "java/lang/invoke/VarHandle" ∧ (parseMethodDescriptor yJ1_isLatin1.desc).map (fun d => d.parameters.length) = some 0 := by decide +kernel
theorem zyJ1_checkIndex : yJ1_checkIndex.cls ≠ "java/lang/invoke/MethodHandle" ∧ yJ1_checkIndex.cls ≠ "java/lang/invoke/VarHandle" ∧ (parseMethodDescriptor yJ1_checkIndex.desc).map (fun d => d.parameters.length) = some 2 := by decide +kernel
theorem zyJ2_charAt : yJ2_charAt.cls ≠ "java/lang/invoke/MethodHandle" ∧ yJ2_charAt.cls ≠ "java/lang/invoke/VarHandle" ∧ (parseMethodDescriptor yJ2_charAt.desc).map (fun d => d.parameters.length) = some 2 := by decide +kernel
theorem zyJ3_checkIndex : yJ3_checkIndex.cls ≠ "java/lang/invoke/MethodHandle" ∧ yJ3_checkIndex.cls ≠ "java/lang/invoke/VarHandle" ∧ (parseMethodDescriptor yJ3_checkIndex.desc).map (fun d => d.parameters.length) = some 3 := by decide +kernel
theorem kJ_coder (l : Launch) (G : zG) (x : Int) (h0 : 0 ≤ x) : zCt l G yJ1_coder cJ1_coder 1 (some .byte) 0 [(70, x)] (some 0) (zret 0) := zCt.of (by decide) (Nat.le_of_ble_eq_true rfl) (fun K E _ _ hN hT => by
  refine r_gcs E q2839 dJ1_coder_0 ?_
  refine r_eqX (if (1 : Int) = 0 then zno else zret 0) (by rw [if_neg (by decide)]) ?_
  refine r_if_eq E 13 (by decide) dJ1_coder_3 (fun h => absurd h (by decide)) (fun _ => ?_)
  refine r_aload_n E dJ1_coder_6 rfl 0 rfl ?_
  refine r_scod E q4466 dJ1_coder_7 h0 ?_
  refine r_goto E 14 (by decide) dJ1_coder_10 ?_
  exact r_breturn E rfl rfl hT dJ1_coder_14)
theorem kJ_length (l : Launch) (G : zG) (x : Int) (h0 : 0 ≤ x) : zCt l G yJ1_length cJ1_length 1 (some .int) 1 [(70, x)] (some 0) (zret (zsn x)) := zCt.of (by decide) (Nat.le_of_ble_eq_true rfl) (fun K E _ _ hN hT => by
  refine r_aload_n E dJ1_length_0 rfl 0 rfl ?_
  refine r_sval E q4465 dJ1_length_1 h0 ?_
  refine r_salen E dJ1_length_4 h0 ?_
  refine r_aload_n E dJ1_length_5 rfl 0 rfl ?_
  refine r_eqX (zcl (zret 0) (fun v => zret (zsn x / 2 ^ (v % 32).toNat))) (by funext M; simp [zcl, zret]) ?_
  refine r_callT E [] [(0, zsn x)] rfl rfl (lw_V q2835 q2836 q2837 q296 q2838) dJ1_length_6 zyJ1_coder rfl (by omega) (by decide) (Nat.le_of_ble_eq_true rfl) h0 (fun l G => kJ_coder l G x h0) (fun v => ?_)
  refine r_ishr E rfl dJ1_length_9 ?_
  exact r_ireturn E rfl hT dJ1_length_10)
theorem kJ_isLatin1 (l : Launch) (G : zG) (x : Int) (h0 : 0 ≤ x) : zCt l G yJ1_isLatin1 cJ1_isLatin1 1 (some .boolean) 0 [(70, x)] (some 0) (zret 1) := zCt.of (by decide) (Nat.le_of_ble_eq_true rfl) (fun K E _ _ hN hT => by
  refine r_gcs E q2839 dJ1_isLatin1_0 ?_
  refine r_eqX (if (1 : Int) = 0 then zno else zret 1) (by rw [if_neg (by decide)]) ?_
  refine r_if_eq E 17 (by decide) dJ1_isLatin1_3 (fun h => absurd h (by decide)) (fun _ => ?_)
  refine r_aload_n E dJ1_isLatin1_6 rfl 0 rfl ?_
  refine r_scod E q4466 dJ1_isLatin1_7 h0 ?_
  refine r_eqX (if ¬ (0 : Int) = 0 then zno else zret 1) (by rw [if_neg (by decide)]) ?_
  refine r_if_ne E 17 (by decide) dJ1_isLatin1_10 (fun h => absurd rfl h) (fun _ => ?_)
  refine r_iconst E dJ1_isLatin1_13 (zkI (by decide) (by decide)) ?_
  refine r_goto E 18 (by decide) dJ1_isLatin1_14 ?_
  exact r_zreturn E rfl hT (by decide) dJ1_isLatin1_18)
theorem kJ_check (l : Launch) (G : zG) (i n x : Int) : zCt l G yJ3_checkIndex cJ3_checkIndex 3 (some .int) 0 [(0, i), (0, n), (74, x)] (some 0) (zib i n (zret i)) := zCt.of (by decide) (Nat.le_of_ble_eq_true rfl) (fun K E _ _ hN hT => by
  refine r_ib (fun hi => ?_)
  refine r_iload_n E dJ3_checkIndex_0 rfl 0 rfl ?_
  refine r_eqX (if i < 0 then zno else zret i) (by rw [if_neg (by omega)]) ?_
  refine r_if_lt E 9 (by decide) dJ3_checkIndex_1 (fun h => absurd h (by omega)) (fun _ => ?_)
  refine r_iload_n E dJ3_checkIndex_4 rfl 0 rfl ?_
  refine r_iload_n E dJ3_checkIndex_5 rfl 1 rfl ?_
  refine r_eqX (if i < n then zret i else zno) (by rw [if_pos (by omega)]) ?_
  refine r_icmp_lt E 16 (by decide) dJ3_checkIndex_6 (fun _ => ?_) (fun h => absurd hi.2 h)
  refine r_iload_n E dJ3_checkIndex_16 rfl 0 rfl ?_
  exact r_ireturn E rfl hT dJ3_checkIndex_17)
theorem kJ_sche (l : Launch) (G : zG) (i n : Int) : zCt l G yJ1_checkIndex cJ1_checkIndex 2 none 1 [(0, i), (0, n)] none (zib i n (zret 0)) := zCt.of (by decide) (Nat.le_of_ble_eq_true rfl) (fun K E _ _ hN hT => by
  refine r_iload_n E dJ1_checkIndex_0 rfl 0 rfl ?_
  refine r_iload_n E dJ1_checkIndex_1 rfl 1 rfl ?_
  refine r_gfm E q2855 dJ1_checkIndex_2 (fun x => ?_)
  refine r_eqX (zcl (zib i n (zret i)) (fun _ => zret 0)) (by funext M; simp only [zcl, zib, zret]; split <;> simp_all) ?_
  refine r_callS E [(0, i), (0, n), (74, x)] [] rfl q2857 q2858 q298 q2859 dJ1_checkIndex_5 zyJ3_checkIndex rfl (by omega) (by decide) (Nat.le_of_ble_eq_true rfl) (fun l G => kJ_check l G i n x) (fun v => ?_)
  refine r_pop E (zn1 rfl) dJ1_checkIndex_8 ?_
  exact r_return E rfl hT dJ1_checkIndex_9)
theorem kJ_l1ch (l : Launch) (G : zG) (x i : Int) (h0 : 0 ≤ x) : zCt l G yJ2_charAt cJ2_charAt 2 (some .char) 2 [(73, x), (0, i)] (some 0) (zsc x i zret) := zCt.of (by decide) (Nat.le_of_ble_eq_true rfl) (fun K E _ _ hN hT => by
  refine r_scx (fun hi => ?_)
  refine r_iload_n E dJ2_charAt_0 rfl 1 rfl ?_
  refine r_aload_n E dJ2_charAt_1 rfl 0 rfl ?_
  refine r_salen E dJ2_charAt_2 h0 ?_
  refine r_eqX (zcl (zib i (zsn x) (zret 0)) (fun _ => zret (zsv x i))) (by funext M; simp only [zcl, zib, zret, if_pos hi]) ?_
  refine r_callS E [(0, i), (0, zsn x)] [] rfl q2852 q2853 q296 q2854 dJ2_charAt_3 zyJ1_checkIndex rfl (by omega) (by decide) (Nat.le_of_ble_eq_true rfl) (fun l G => kJ_sche l G i (zsn x)) (fun v => ?_)
  refine r_aload_n E dJ2_charAt_6 rfl 0 rfl ?_
  refine r_iload_n E dJ2_charAt_7 rfl 1 rfl ?_
  refine r_sbald E dJ2_charAt_8 h0 hi (fun hv => ?_)
  refine r_sipush E dJ2_charAt_9 (by decide) (zkI (by decide) (by decide)) ?_
  refine r_imask (P := 256) E 8 (by decide) (by decide) (by decide) dJ2_charAt_12 ?_
  refine r_i2c E dJ2_charAt_13 ?_
  refine r_eq (y := zsv x i) E (by omega) ?_
  exact r_breturn E rfl (by show Value.int (vp_nar .char (Int32.ofInt (zsv x i))) = _; rw [zi2c16]; congr 2; omega) hT dJ2_charAt_14)
theorem zsv_rng {x i : Int} (h : 0 ≤ i ∧ i < zsn x) : 0 ≤ zsv x i ∧ zsv x i < 128 := by
  rcases Nat.lt_or_ge x.toNat 44 with h1 | h1
  · have a := zslen_ok x.toNat (List.mem_range.mpr h1)
    have e : zsn ((x.toNat : Nat) : Int) = zsn x := by unfold zsn; rw [Int.toNat_natCast]
    have e2 : ∀ j, zsv ((x.toNat : Nat) : Int) j = zsv x j := fun j => by unfold zsv; rw [Int.toNat_natCast]
    have b := zsbyt_ok x.toNat (List.mem_range.mpr h1) i.toNat (List.mem_range.mpr (by omega))
    rw [Int.toNat_of_nonneg h.1, e2] at b
    exact b.2
  · have : zsn x = 0 := by
      unfold zsn
      rw [List.getD_eq_getElem?_getD, List.getElem?_eq_none (by show 44 ≤ x.toNat; exact h1)]
      rfl
    omega
theorem kJ_charAt (l : Launch) (G : zG) (x i : Int) (h0 : 0 ≤ x) : zCt l G yJ1_charAt cJ1_charAt 2 (some .char) 3 [(70, x), (0, i)] (some 0) (zsc x i zret) := zCt.of (by decide) (Nat.le_of_ble_eq_true rfl) (fun K E _ _ hN hT => by
  refine r_aload_n E dJ1_charAt_0 rfl 0 rfl ?_
  refine r_eqX (zcl (zret 1) (fun v => if v = 0 then zno else zcl (zsc x i zret) (fun w => zib w 65536 (zret w)))) (by
    funext M
    simp only [zcl, zret, zsc, zib]
    by_cases h : 0 ≤ i ∧ i < zsn x
    · have := zsv_rng h
      simp [zcl, zsc, zret, zib, h, show (0 ≤ zsv x i ∧ zsv x i < 65536) by omega]
    · simp [zcl, zsc, zret, zib, h]) ?_
  refine r_callT E [] [] rfl rfl (lw_V q2845 q2846 q2847 q296 q2848) dJ1_charAt_1 zyJ1_isLatin1 rfl (by omega) (by decide) (Nat.le_of_ble_eq_true rfl) h0 (fun l G => kJ_isLatin1 l G x h0) (fun v => ?_)
  refine r_if_eq E 16 (by decide) dJ1_charAt_4 (fun _ => r_no E) (fun _ => ?_)
  refine r_aload_n E dJ1_charAt_7 rfl 0 rfl ?_
  refine r_sval E q4465 dJ1_charAt_8 h0 ?_
  refine r_iload_n E dJ1_charAt_11 rfl 1 rfl ?_
  refine r_callS E [(73, x), (0, i)] [] rfl q2849 q2850 q297 q2851 dJ1_charAt_12 zyJ2_charAt rfl (by omega) (by decide) (Nat.le_of_ble_eq_true rfl) (fun l G => kJ_l1ch l G x i h0) (fun w => ?_)
  refine r_ib (fun hw => ?_)
  exact r_breturn E rfl (by show Value.int (vp_nar .char (Int32.ofInt w)) = _; rw [zi2c16]; congr 2; omega) hT dJ1_charAt_15)
section
variable {K : zK} {cd : ByteArray} {own : String} {ret : Option FieldType} {d : Nat}
theorem r_slen (E : zE K cd own ret d) {pc idx : Nat} {ls : List (Nat × Nat × Int)} {st : List (Nat × Int)} {X : zX} {x : Int} (hw : Cond.methodLink own idx yJ1_length ∈ lw_all) (hd : decode cd pc = .ok (.invokevirtual idx, 3)) (h0 : 0 ≤ x) (h8 : zcat st ≤ 8) (hdd : 5 ≤ d) (kk : zR K (pc + 3) ls ((0, zsn x) :: st) X) : zR K pc ls ((70, x) :: st) X := by
  refine r_eqX (zcl (zret (zsn x)) (fun v => if v = zsn x then X else zno)) (by funext M; simp [zcl, zret]) ?_
  refine r_callT E [] st rfl rfl (lw_V hw q2832 q2833 q296 q2834) hd zyJ1_length rfl (by omega) (by decide) h8 h0 (fun l G => kJ_length l G x h0) (fun v => ?_)
  by_cases h : v = zsn x
  · subst h
    rw [if_pos rfl]
    exact kk
  · rw [if_neg h]
    exact r_no E
theorem r_scha (E : zE K cd own ret d) {pc idx : Nat} {ls : List (Nat × Nat × Int)} {st : List (Nat × Int)} {f : Int → zX} {x i : Int} (hw : Cond.methodLink own idx yJ1_charAt ∈ lw_all) (hd : decode cd pc = .ok (.invokevirtual idx, 3)) (h0 : 0 ≤ x) (h8 : zcat st ≤ 8) (hdd : 5 ≤ d) (kk : ∀ v : Int, zR K (pc + 3) ls ((0, v) :: st) (f v)) : zR K pc ls ((0, i) :: (70, x) :: st) (zsc x i f) := by
  refine r_eqX (zcl (zsc x i zret) f) (by
    funext M
    simp only [zcl, zret, zsc]
    by_cases h : 0 ≤ i ∧ i < zsn x
    · simp [h]
    · simp [h]) ?_
  exact r_callT E [(0, i)] st rfl rfl (lw_V hw q2842 q2843 q296 q2844) hd zyJ1_charAt rfl (by omega) (by decide) h8 h0 (fun l G => kJ_charAt l G x i h0) kk
end
