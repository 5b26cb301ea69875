set_option maxRecDepth 100000
theorem zacl_ok (x : Int) : zOv (0, zacl x) := by
  unfold zacl
  by_cases h : x % 3 = 0
  · rw [if_pos h]; exact zkI (by decide) (by decide)
  · rw [if_neg h]; exact zkI (by decide) (by decide)
section
variable {K : zK} {cd : ByteArray} {own : String} {ret : Option FieldType} {d : Nat}
theorem r_dcase {pc : Nat} {ls : List (Nat × Nat × Int)} {st : List (Nat × Int)} {P : Prop} {hdec : Decidable P} {A B : zX} {k : Int → zX} (h1 : P → zR K pc ls st (zcl A k)) (h2 : ¬ P → zR K pc ls st (zcl B k)) : zR K pc ls st (zcl (@ite _ P hdec A B) k) := by
  by_cases h : P
  · rw [if_pos h]; exact h1 h
  · rw [if_neg h]; exact h2 h
theorem r_litT {pc : Nat} {ls : List (Nat × Nat × Int)} {st : List (Nat × Int)} {X : zX} {P : Prop} {hdec : Decidable P} (h : P) (k : zR K pc ls st (@ite _ P hdec X zno)) : zR K pc ls st X := by rw [if_pos h] at k; exact k
theorem r_litF {pc : Nat} {ls : List (Nat × Nat × Int)} {st : List (Nat × Int)} {X : zX} {P : Prop} {hdec : Decidable P} (h : ¬ P) (k : zR K pc ls st (@ite _ P hdec zno X)) : zR K pc ls st X := by rw [if_neg h] at k; exact k
theorem r_clno {pc : Nat} {ls : List (Nat × Nat × Int)} {st : List (Nat × Int)} {k : Int → zX} : zR K pc ls st (zcl zno k) := by
  obtain ⟨p, l, e, R, s, m, args, below, meth, cde, G, nL, tr⟩ := K
  intro M r M' hX
  cases hX
theorem r_has {pc : Nat} {ls : List (Nat × Nat × Int)} {st : List (Nat × Int)} {X : zX} {q : Nat × Int} (j : Nat) (hj : st[j]? = some q) (k : zOv q → zR K pc ls st X) : zR K pc ls st X := by
  obtain ⟨p, l, e, R, s, m, args, below, meth, cde, G, nL, tr⟩ := K
  intro M r M' hX hM hl hst
  exact k (hst q (List.mem_of_getElem? hj)) M r M' hX hM hl hst
theorem r_callU (E : zE K cd own ret d) {pc idx n d' L : Nat} {ls : List (Nat × Nat × Int)} {stk : List (Nat × Int)} {x y : MethodName} {C owner : String} {b : ByteArray} {r' : Option FieldType} {tr' : Option Nat} {t : Nat} {xr : Int} {X0 : zX} {k : Int → zX} (As st : List (Nat × Int)) (hstk : stk = As.reverse ++ (t + 2, xr) :: st)
    (hz : zcn (t + 2) = zcnt (t + 2)) (hr0 : zar (t + 2) = none) (hC : ∀ o : Nat, (o : Int) = xr → ∃ q : vw_C, zcs[zci (t + 2) o]? = some q ∧ q.1 = C) (hw1 : Cond.methodLink own idx x ∈ lw_all) (hw2 : Cond.sameMethod x.cls owner x.name x.desc ∈ lw_all) (hw3 : Cond.selects C x y ∈ lw_all) (hw4 : Cond.instanceMethod y ∈ lw_all) (hw5 : Cond.initialized y.cls ∈ lw_all) (hw6 : Cond.code y b L r' ∈ lw_all)
    (hdc : y = ⟨owner, x.name, x.desc⟩ ∨ Cond.declares ⟨owner, x.name, x.desc⟩ ∈ lw_tbl) (hd : decode cd pc = .ok (.invokevirtual idx, 3))
    (hy : owner ≠ "java/lang/invoke/MethodHandle" ∧ owner ≠ "java/lang/invoke/VarHandle" ∧ (parseMethodDescriptor x.desc).map (fun d => d.parameters.length) = some n) (hn : As.length = n) (hdd : d' + 1 ≤ d) (hL : L ≤ 81) (hst8 : zcat st ≤ 8) (h0 : 0 ≤ xr)
    (hc : ∀ (l : Launch) (G : zG), zCt l G y b L r' d' ((t + 2, xr) :: As) tr' X0) (kk : ∀ v : Int, zR K (pc + 3) ls (zpush tr' v st) (k v)) : zR K pc ls stk (zcl X0 k) := by
  subst hstk
  obtain ⟨p, l, e, R, s, m, args, below, meth, cde, G, nL, tr⟩ := K
  obtain ⟨hx, hb, hr, hlk, hml, hown, hts, hK, hN, hZ, hI, hR⟩ := E
  intro M r M' hX hM hl hst H locs hP hS lsA hLs
  obtain ⟨r1, M1, hX0, hX1⟩ := zcl_if hX
  obtain ⟨hA, hst⟩ := hst.app
  have hAs : zOs ((t + 2, xr) :: As) := zOs.cons hst.hd hA.rev
  obtain ⟨ho, hxo⟩ := zon hz hst.hd h0
  obtain ⟨q0, -, he⟩ := zat (G := G) (M := M) (zmem ho)
  rw [zce_o hr0] at he
  obtain ⟨q, hq1, hq2⟩ := hC xr.toNat hxo
  have hrecv := va_recv hK hP hq1 he
  rw [hq2] at hrecv
  have hM0 := hc l G M r1 M1 hX0 hM hAs
  have hmap : (List.map (zv G) (As.reverse ++ (t + 2, xr) :: st)) = (As.map (zv G)).reverse ++ .ref (G.2.1 (t + 2) xr.toNat) :: st.map (zv G) := by
    rw [List.map_append, List.map_cons, zv_ref (by omega), List.map_reverse]
  have hmap2 : ((t + 2, xr) :: As).map (zv G) = .ref (G.2.1 (t + 2) xr.toNat) :: As.map (zv G) := by rw [List.map_cons, zv_ref (by omega)]
  rw [hmap2] at hM0
  rw [hmap]
  have hgood : GoodIn lw_all (va_wsU own idx C owner x y (ws_ y b L r')) := by
    unfold va_wsU
    refine lw_app (fun w hw => ?_) (lw_meth hw6)
    simp only [List.mem_cons, List.not_mem_nil, or_false] at hw
    rcases hw with rfl | rfl | rfl | rfl | rfl
    · exact hw1
    · exact hw2
    · exact hw3
    · exact hw4
    · exact hw5
  have hcu : va_CU R s args own C owner idx x y b L r' (ws_ y b L r') (zrm d') 0 0 n := by
    rcases hdc with hyx | hdcl
    · exact va_cwU n hts hgood rfl rfl rfl hyx hy (zroom hR hdd hL)
    · exact va_cwA n hts hgood rfl rfl rfl (hN _ hdcl rfl) hy (zroom hR hdd hL)
  refine zcont (va_runU (n := n) (As := As.map (zv G)) (rest := st.map (zv G)) ⟨hx, hb, hml, hown, hts⟩ hM0 hcu ⟨zpre_blind, hrecv, fun U hU hW => ⟨rfl, zpre_of hP hS hK hN hZ hI hU hW⟩⟩ rfl (by rw [List.length_map]; exact hn) hLs.1 rfl (by rw [zcat_sum]; show 0 + _ ≤ 8; omega) hd ⟨Nat.zero_le _, Nat.zero_le _⟩) hS (fun H1 locs1 hP1 hS1 hM1 hr1 => ?_)
  rw [zpush_map]
  exact kk r1 M1 r M' hX1 hM1 hl (zpush_ok hst.tl hr1) H1 locs1 hP1 hS1 lsA hLs
end
theorem zop38 {x : Int} (h : zOv (16, x)) (h0 : 0 ≤ x) : x = 0 ∨ x = 1 ∨ x = 2 ∨ x = 3 ∨ x = 4 ∨ x = 5 ∨ x = 6 ∨ x = 7 ∨ x = 8 ∨ x = 9 ∨ x = 10 ∨ x = 11 ∨ x = 12 ∨ x = 13 ∨ x = 14 ∨ x = 15 ∨ x = 16 ∨ x = 17 ∨ x = 18 ∨ x = 19 ∨ x = 20 ∨ x = 21 ∨ x = 22 ∨ x = 23 ∨ x = 24 ∨ x = 25 ∨ x = 26 ∨ x = 27 ∨ x = 28 ∨ x = 29 ∨ x = 30 ∨ x = 31 ∨ x = 32 ∨ x = 33 ∨ x = 34 ∨ x = 35 ∨ x = 36 ∨ x = 37 := by
  have h2 := h.2
  simp only at h2
  have h3 : zcn 16 = 38 := rfl
  rw [h3] at h2
  omega
theorem zk_16_0 : ∀ o : Nat, (o : Int) = 0 → ∃ q : vw_C, zcs[zci 16 o]? = some q ∧ q.1 = "RingHouse$Nothing" := fun o h => by
  obtain rfl : o = 0 := by omega
  exact ⟨(RX15, TX15, 4), rfl, rfl⟩
theorem zk_16_1 : ∀ o : Nat, (o : Int) = 1 → ∃ q : vw_C, zcs[zci 16 o]? = some q ∧ q.1 = "RingHouse$Nothing" := fun o h => by
  obtain rfl : o = 1 := by omega
  exact ⟨(RX15, TX15, 4), rfl, rfl⟩
theorem zk_16_2 : ∀ o : Nat, (o : Int) = 2 → ∃ q : vw_C, zcs[zci 16 o]? = some q ∧ q.1 = "RingHouse$Load" := fun o h => by
  obtain rfl : o = 2 := by omega
  exact ⟨(RX16, TX16, 4), rfl, rfl⟩
theorem zk_16_3 : ∀ o : Nat, (o : Int) = 3 → ∃ q : vw_C, zcs[zci 16 o]? = some q ∧ q.1 = "RingHouse$Load" := fun o h => by
  obtain rfl : o = 3 := by omega
  exact ⟨(RX16, TX16, 4), rfl, rfl⟩
theorem zk_16_4 : ∀ o : Nat, (o : Int) = 4 → ∃ q : vw_C, zcs[zci 16 o]? = some q ∧ q.1 = "RingHouse$Sum" := fun o h => by
  obtain rfl : o = 4 := by omega
  exact ⟨(RX18, TX18, 4), rfl, rfl⟩
theorem zk_16_5 : ∀ o : Nat, (o : Int) = 5 → ∃ q : vw_C, zcs[zci 16 o]? = some q ∧ q.1 = "RingHouse$Sum" := fun o h => by
  obtain rfl : o = 5 := by omega
  exact ⟨(RX18, TX18, 4), rfl, rfl⟩
theorem zk_16_6 : ∀ o : Nat, (o : Int) = 6 → ∃ q : vw_C, zcs[zci 16 o]? = some q ∧ q.1 = "RingHouse$Product" := fun o h => by
  obtain rfl : o = 6 := by omega
  exact ⟨(RX19, TX19, 3), rfl, rfl⟩
theorem zk_16_7 : ∀ o : Nat, (o : Int) = 7 → ∃ q : vw_C, zcs[zci 16 o]? = some q ∧ q.1 = "RingHouse$Division" := fun o h => by
  obtain rfl : o = 7 := by omega
  exact ⟨(RX20, TX20, 3), rfl, rfl⟩
theorem zk_16_8 : ∀ o : Nat, (o : Int) = 8 → ∃ q : vw_C, zcs[zci 16 o]? = some q ∧ q.1 = "RingHouse$Bits" := fun o h => by
  obtain rfl : o = 8 := by omega
  exact ⟨(RX21, TX21, 4), rfl, rfl⟩
theorem zk_16_9 : ∀ o : Nat, (o : Int) = 9 → ∃ q : vw_C, zcs[zci 16 o]? = some q ∧ q.1 = "RingHouse$Bits" := fun o h => by
  obtain rfl : o = 9 := by omega
  exact ⟨(RX21, TX21, 4), rfl, rfl⟩
theorem zk_16_10 : ∀ o : Nat, (o : Int) = 10 → ∃ q : vw_C, zcs[zci 16 o]? = some q ∧ q.1 = "RingHouse$Bits" := fun o h => by
  obtain rfl : o = 10 := by omega
  exact ⟨(RX21, TX21, 4), rfl, rfl⟩
theorem zk_16_11 : ∀ o : Nat, (o : Int) = 11 → ∃ q : vw_C, zcs[zci 16 o]? = some q ∧ q.1 = "RingHouse$Compare" := fun o h => by
  obtain rfl : o = 11 := by omega
  exact ⟨(RX22, TX22, 3), rfl, rfl⟩
theorem zk_16_12 : ∀ o : Nat, (o : Int) = 12 → ∃ q : vw_C, zcs[zci 16 o]? = some q ∧ q.1 = "RingHouse$LoadHalf" := fun o h => by
  obtain rfl : o = 12 := by omega
  exact ⟨(RX23, TX23, 4), rfl, rfl⟩
theorem zk_16_13 : ∀ o : Nat, (o : Int) = 13 → ∃ q : vw_C, zcs[zci 16 o]? = some q ∧ q.1 = "RingHouse$LoadHalf" := fun o h => by
  obtain rfl : o = 13 := by omega
  exact ⟨(RX23, TX23, 4), rfl, rfl⟩
theorem zk_16_14 : ∀ o : Nat, (o : Int) = 14 → ∃ q : vw_C, zcs[zci 16 o]? = some q ∧ q.1 = "RingHouse$Keep" := fun o h => by
  obtain rfl : o = 14 := by omega
  exact ⟨(RX24, TX24, 4), rfl, rfl⟩
theorem zk_16_15 : ∀ o : Nat, (o : Int) = 15 → ∃ q : vw_C, zcs[zci 16 o]? = some q ∧ q.1 = "RingHouse$Keep" := fun o h => by
  obtain rfl : o = 15 := by omega
  exact ⟨(RX24, TX24, 4), rfl, rfl⟩
theorem zk_16_16 : ∀ o : Nat, (o : Int) = 16 → ∃ q : vw_C, zcs[zci 16 o]? = some q ∧ q.1 = "RingHouse$Keep" := fun o h => by
  obtain rfl : o = 16 := by omega
  exact ⟨(RX24, TX24, 4), rfl, rfl⟩
theorem zk_16_17 : ∀ o : Nat, (o : Int) = 17 → ∃ q : vw_C, zcs[zci 16 o]? = some q ∧ q.1 = "RingHouse$Keep" := fun o h => by
  obtain rfl : o = 17 := by omega
  exact ⟨(RX24, TX24, 4), rfl, rfl⟩
theorem zk_16_18 : ∀ o : Nat, (o : Int) = 18 → ∃ q : vw_C, zcs[zci 16 o]? = some q ∧ q.1 = "RingHouse$AddOne" := fun o h => by
  obtain rfl : o = 18 := by omega
  exact ⟨(RX25, TX25, 3), rfl, rfl⟩
theorem zk_16_19 : ∀ o : Nat, (o : Int) = 19 → ∃ q : vw_C, zcs[zci 16 o]? = some q ∧ q.1 = "RingHouse$Swap" := fun o h => by
  obtain rfl : o = 19 := by omega
  exact ⟨(RX26, TX26, 3), rfl, rfl⟩
theorem zk_16_20 : ∀ o : Nat, (o : Int) = 20 → ∃ q : vw_C, zcs[zci 16 o]? = some q ∧ q.1 = "RingHouse$TakePlace" := fun o h => by
  obtain rfl : o = 20 := by omega
  exact ⟨(RX27, TX27, 4), rfl, rfl⟩
theorem zk_16_21 : ∀ o : Nat, (o : Int) = 21 → ∃ q : vw_C, zcs[zci 16 o]? = some q ∧ q.1 = "RingHouse$TakePlace" := fun o h => by
  obtain rfl : o = 21 := by omega
  exact ⟨(RX27, TX27, 4), rfl, rfl⟩
theorem zk_16_22 : ∀ o : Nat, (o : Int) = 22 → ∃ q : vw_C, zcs[zci 16 o]? = some q ∧ q.1 = "RingHouse$Shift" := fun o h => by
  obtain rfl : o = 22 := by omega
  exact ⟨(RX28, TX28, 4), rfl, rfl⟩
theorem zk_16_23 : ∀ o : Nat, (o : Int) = 23 → ∃ q : vw_C, zcs[zci 16 o]? = some q ∧ q.1 = "RingHouse$Shift" := fun o h => by
  obtain rfl : o = 23 := by omega
  exact ⟨(RX28, TX28, 4), rfl, rfl⟩
theorem zk_16_24 : ∀ o : Nat, (o : Int) = 24 → ∃ q : vw_C, zcs[zci 16 o]? = some q ∧ q.1 = "RingHouse$Shift" := fun o h => by
  obtain rfl : o = 24 := by omega
  exact ⟨(RX28, TX28, 4), rfl, rfl⟩
theorem zk_16_25 : ∀ o : Nat, (o : Int) = 25 → ∃ q : vw_C, zcs[zci 16 o]? = some q ∧ q.1 = "RingHouse$Point" := fun o h => by
  obtain rfl : o = 25 := by omega
  exact ⟨(RX29, TX29, 4), rfl, rfl⟩
theorem zk_16_26 : ∀ o : Nat, (o : Int) = 26 → ∃ q : vw_C, zcs[zci 16 o]? = some q ∧ q.1 = "RingHouse$Point" := fun o h => by
  obtain rfl : o = 26 := by omega
  exact ⟨(RX29, TX29, 4), rfl, rfl⟩
theorem zk_16_27 : ∀ o : Nat, (o : Int) = 27 → ∃ q : vw_C, zcs[zci 16 o]? = some q ∧ q.1 = "RingHouse$Go" := fun o h => by
  obtain rfl : o = 27 := by omega
  exact ⟨(RX30, TX30, 4), rfl, rfl⟩
theorem zk_16_28 : ∀ o : Nat, (o : Int) = 28 → ∃ q : vw_C, zcs[zci 16 o]? = some q ∧ q.1 = "RingHouse$Go" := fun o h => by
  obtain rfl : o = 28 := by omega
  exact ⟨(RX30, TX30, 4), rfl, rfl⟩
theorem zk_16_29 : ∀ o : Nat, (o : Int) = 29 → ∃ q : vw_C, zcs[zci 16 o]? = some q ∧ q.1 = "RingHouse$Go" := fun o h => by
  obtain rfl : o = 29 := by omega
  exact ⟨(RX30, TX30, 4), rfl, rfl⟩
theorem zk_16_30 : ∀ o : Nat, (o : Int) = 30 → ∃ q : vw_C, zcs[zci 16 o]? = some q ∧ q.1 = "RingHouse$Go" := fun o h => by
  obtain rfl : o = 30 := by omega
  exact ⟨(RX30, TX30, 4), rfl, rfl⟩
theorem zk_16_31 : ∀ o : Nat, (o : Int) = 31 → ∃ q : vw_C, zcs[zci 16 o]? = some q ∧ q.1 = "RingHouse$Go" := fun o h => by
  obtain rfl : o = 31 := by omega
  exact ⟨(RX30, TX30, 4), rfl, rfl⟩
theorem zk_16_32 : ∀ o : Nat, (o : Int) = 32 → ∃ q : vw_C, zcs[zci 16 o]? = some q ∧ q.1 = "RingHouse$Go" := fun o h => by
  obtain rfl : o = 32 := by omega
  exact ⟨(RX30, TX30, 4), rfl, rfl⟩
theorem zk_16_33 : ∀ o : Nat, (o : Int) = 33 → ∃ q : vw_C, zcs[zci 16 o]? = some q ∧ q.1 = "RingHouse$Call" := fun o h => by
  obtain rfl : o = 33 := by omega
  exact ⟨(RX31, TX31, 3), rfl, rfl⟩
theorem zk_16_34 : ∀ o : Nat, (o : Int) = 34 → ∃ q : vw_C, zcs[zci 16 o]? = some q ∧ q.1 = "RingHouse$Return" := fun o h => by
  obtain rfl : o = 34 := by omega
  exact ⟨(RX32, TX32, 3), rfl, rfl⟩
theorem zk_16_35 : ∀ o : Nat, (o : Int) = 35 → ∃ q : vw_C, zcs[zci 16 o]? = some q ∧ q.1 = "RingHouse$Supervise" := fun o h => by
  obtain rfl : o = 35 := by omega
  exact ⟨(RX33, TX33, 3), rfl, rfl⟩
theorem zk_16_36 : ∀ o : Nat, (o : Int) = 36 → ∃ q : vw_C, zcs[zci 16 o]? = some q ∧ q.1 = "RingHouse$Exchange" := fun o h => by
  obtain rfl : o = 36 := by omega
  exact ⟨(RX34, TX34, 3), rfl, rfl⟩
theorem zk_16_37 : ∀ o : Nat, (o : Int) = 37 → ∃ q : vw_C, zcs[zci 16 o]? = some q ∧ q.1 = "RingHouse$Negate" := fun o h => by
  obtain rfl : o = 37 := by omega
  exact ⟨(RX35, TX35, 3), rfl, rfl⟩
theorem zk_38_0 : ∀ o : Nat, (o : Int) = 0 → ∃ q : vw_C, zcs[zci 38 o]? = some q ∧ q.1 = "RingHouse$Print" := fun o h => by
  obtain rfl : o = 0 := by omega
  exact ⟨(RX37, _, 0), rfl, rfl⟩
theorem zk_38_1 : ∀ o : Nat, (o : Int) = 1 → ∃ q : vw_C, zcs[zci 38 o]? = some q ∧ q.1 = "RingHouse$Enter" := fun o h => by
  obtain rfl : o = 1 := by omega
  exact ⟨(RX39, TX39, 1), rfl, rfl⟩
theorem zk_38_2 : ∀ o : Nat, (o : Int) = 2 → ∃ q : vw_C, zcs[zci 38 o]? = some q ∧ q.1 = "RingHouse$Leave" := fun o h => by
  obtain rfl : o = 2 := by omega
  exact ⟨(RX40, TX40, 1), rfl, rfl⟩
theorem zk_38_3 : ∀ o : Nat, (o : Int) = 3 → ∃ q : vw_C, zcs[zci 38 o]? = some q ∧ q.1 = "RingHouse$Leave" := fun o h => by
  obtain rfl : o = 3 := by omega
  exact ⟨(RX40, TX40, 1), rfl, rfl⟩
theorem zk_38_4 : ∀ o : Nat, (o : Int) = 4 → ∃ q : vw_C, zcs[zci 38 o]? = some q ∧ q.1 = "RingHouse$Know" := fun o h => by
  obtain rfl : o = 4 := by omega
  exact ⟨(RX41, TX41, 1), rfl, rfl⟩
theorem zk_38_5 : ∀ o : Nat, (o : Int) = 5 → ∃ q : vw_C, zcs[zci 38 o]? = some q ∧ q.1 = "RingHouse$Forget" := fun o h => by
  obtain rfl : o = 5 := by omega
  exact ⟨(RX42, _, 0), rfl, rfl⟩
theorem zk_38_6 : ∀ o : Nat, (o : Int) = 6 → ∃ q : vw_C, zcs[zci 38 o]? = some q ∧ q.1 = "RingHouse$NameOf" := fun o h => by
  obtain rfl : o = 6 := by omega
  exact ⟨(RX43, _, 0), rfl, rfl⟩
theorem zk_38_7 : ∀ o : Nat, (o : Int) = 7 → ∃ q : vw_C, zcs[zci 38 o]? = some q ∧ q.1 = "RingHouse$Tell" := fun o h => by
  obtain rfl : o = 7 := by omega
  exact ⟨(RX44, TX44, 1), rfl, rfl⟩
theorem zk_38_8 : ∀ o : Nat, (o : Int) = 8 → ∃ q : vw_C, zcs[zci 38 o]? = some q ∧ q.1 = "RingHouse$Create" := fun o h => by
  obtain rfl : o = 8 := by omega
  exact ⟨(RX45, TX45, 1), rfl, rfl⟩
theorem zk_38_9 : ∀ o : Nat, (o : Int) = 9 → ∃ q : vw_C, zcs[zci 38 o]? = some q ∧ q.1 = "RingHouse$Create" := fun o h => by
  obtain rfl : o = 9 := by omega
  exact ⟨(RX45, TX45, 1), rfl, rfl⟩
theorem zk_38_10 : ∀ o : Nat, (o : Int) = 10 → ∃ q : vw_C, zcs[zci 38 o]? = some q ∧ q.1 = "RingHouse$Delete" := fun o h => by
  obtain rfl : o = 10 := by omega
  exact ⟨(RX46, TX46, 1), rfl, rfl⟩
theorem zk_38_11 : ∀ o : Nat, (o : Int) = 11 → ∃ q : vw_C, zcs[zci 38 o]? = some q ∧ q.1 = "RingHouse$Rename" := fun o h => by
  obtain rfl : o = 11 := by omega
  exact ⟨(RX47, TX47, 1), rfl, rfl⟩
theorem zk_38_12 : ∀ o : Nat, (o : Int) = 12 → ∃ q : vw_C, zcs[zci 38 o]? = some q ∧ q.1 = "RingHouse$SetItem" := fun o h => by
  obtain rfl : o = 12 := by omega
  exact ⟨(RX48, TX48, 1), rfl, rfl⟩
theorem zk_38_13 : ∀ o : Nat, (o : Int) = 13 → ∃ q : vw_C, zcs[zci 38 o]? = some q ∧ q.1 = "RingHouse$SetBrackets" := fun o h => by
  obtain rfl : o = 13 := by omega
  exact ⟨(RX49, TX49, 1), rfl, rfl⟩
theorem zk_38_14 : ∀ o : Nat, (o : Int) = 14 → ∃ q : vw_C, zcs[zci 38 o]? = some q ∧ q.1 = "RingHouse$SetLength" := fun o h => by
  obtain rfl : o = 14 := by omega
  exact ⟨(RX50, _, 0), rfl, rfl⟩
theorem zk_38_15 : ∀ o : Nat, (o : Int) = 15 → ∃ q : vw_C, zcs[zci 38 o]? = some q ∧ q.1 = "RingHouse$SetLimit" := fun o h => by
  obtain rfl : o = 15 := by omega
  exact ⟨(RX51, TX51, 1), rfl, rfl⟩
theorem zk_38_16 : ∀ o : Nat, (o : Int) = 16 → ∃ q : vw_C, zcs[zci 38 o]? = some q ∧ q.1 = "RingHouse$Search" := fun o h => by
  obtain rfl : o = 16 := by omega
  exact ⟨(RX52, _, 0), rfl, rfl⟩
theorem zk_38_17 : ∀ o : Nat, (o : Int) = 17 → ∃ q : vw_C, zcs[zci 38 o]? = some q ∧ q.1 = "RingHouse$Handle" := fun o h => by
  obtain rfl : o = 17 := by omega
  exact ⟨(RX53, _, 0), rfl, rfl⟩
theorem zk_38_18 : ∀ o : Nat, (o : Int) = 18 → ∃ q : vw_C, zcs[zci 38 o]? = some q ∧ q.1 = "RingHouse$Resume" := fun o h => by
  obtain rfl : o = 18 := by omega
  exact ⟨(RX54, _, 0), rfl, rfl⟩
theorem zk_38_19 : ∀ o : Nat, (o : Int) = 19 → ∃ q : vw_C, zcs[zci 38 o]? = some q ∧ q.1 = "RingHouse$SendTo" := fun o h => by
  obtain rfl : o = 19 := by omega
  exact ⟨(RX55, _, 0), rfl, rfl⟩
theorem zk_38_20 : ∀ o : Nat, (o : Int) = 20 → ∃ q : vw_C, zcs[zci 38 o]? = some q ∧ q.1 = "RingHouse$Receive" := fun o h => by
  obtain rfl : o = 20 := by omega
  exact ⟨(RX56, _, 0), rfl, rfl⟩
theorem zk_38_21 : ∀ o : Nat, (o : Int) = 21 → ∃ q : vw_C, zcs[zci 38 o]? = some q ∧ q.1 = "RingHouse$Self" := fun o h => by
  obtain rfl : o = 21 := by omega
  exact ⟨(RX57, TX57, 1), rfl, rfl⟩
theorem zk_38_22 : ∀ o : Nat, (o : Int) = 22 → ∃ q : vw_C, zcs[zci 38 o]? = some q ∧ q.1 = "RingHouse$Self" := fun o h => by
  obtain rfl : o = 22 := by omega
  exact ⟨(RX57, TX57, 1), rfl, rfl⟩
theorem zk_38_23 : ∀ o : Nat, (o : Int) = 23 → ∃ q : vw_C, zcs[zci 38 o]? = some q ∧ q.1 = "RingHouse$Modes" := fun o h => by
  obtain rfl : o = 23 := by omega
  exact ⟨(RX58, _, 0), rfl, rfl⟩
theorem zk_38_24 : ∀ o : Nat, (o : Int) = 24 → ∃ q : vw_C, zcs[zci 38 o]? = some q ∧ q.1 = "RingHouse$SetInitial" := fun o h => by
  obtain rfl : o = 24 := by omega
  exact ⟨(RX59, _, 0), rfl, rfl⟩
theorem zk_38_25 : ∀ o : Nat, (o : Int) = 25 → ∃ q : vw_C, zcs[zci 38 o]? = some q ∧ q.1 = "RingHouse$Post" := fun o h => by
  obtain rfl : o = 25 := by omega
  exact ⟨(RX61, TX61, 2), rfl, rfl⟩
theorem zk_38_26 : ∀ o : Nat, (o : Int) = 26 → ∃ q : vw_C, zcs[zci 38 o]? = some q ∧ q.1 = "RingHouse$Take" := fun o h => by
  obtain rfl : o = 26 := by omega
  exact ⟨(RX62, TX62, 2), rfl, rfl⟩
theorem zk_38_27 : ∀ o : Nat, (o : Int) = 27 → ∃ q : vw_C, zcs[zci 38 o]? = some q ∧ q.1 = "RingHouse$See" := fun o h => by
  obtain rfl : o = 27 := by omega
  exact ⟨(RX63, TX63, 2), rfl, rfl⟩
theorem zk_38_28 : ∀ o : Nat, (o : Int) = 28 → ∃ q : vw_C, zcs[zci 38 o]? = some q ∧ q.1 = "RingHouse$Create" := fun o h => by
  obtain rfl : o = 28 := by omega
  exact ⟨(RX45, TX45, 1), rfl, rfl⟩
