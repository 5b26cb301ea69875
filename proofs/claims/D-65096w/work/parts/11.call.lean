/-! calls -/
abbrev zpush (tr : Option Nat) (v : Int) (st : List (Nat × Int)) : List (Nat × Int) := match tr with
  | none => st
  | some t => (t, v) :: st
theorem zcl_if {c : zX} {k : Int → zX} {M : zM} {q : Int × zM} (h : zcl c k M = some q) : ∃ r1 M1, c M = some (r1, M1) ∧ k r1 M1 = some q := by
  unfold zcl at h
  cases hc : c M with
  | none => rw [hc] at h; cases h
  | some a => rw [hc] at h; exact ⟨a.1, a.2, rfl, h⟩
theorem zpush_map {G : zG} {tr : Option Nat} {v : Int} {st : List (Nat × Int)} : (zrv G tr v).toList ++ st.map (zv G) = (zpush tr v st).map (zv G) := by
  cases tr <;> rfl
theorem zpush_ok {tr : Option Nat} {v : Int} {st : List (Nat × Int)} (h : zOs st) (h1 : ∀ t ∈ tr, zOv (t, v)) : zOs (zpush tr v st) := by
  cases tr with
  | none => exact h
  | some t => exact zOs.cons (h1 t rfl) h
theorem zOs.app {a b : List (Nat × Int)} (h : zOs (a ++ b)) : zOs a ∧ zOs b := ⟨fun q hq => h q (List.mem_append_left _ hq), fun q hq => h q (List.mem_append_right _ hq)⟩
theorem zOs.rev {a : List (Nat × Int)} (h : zOs a.reverse) : zOs a := fun q hq => h q (List.mem_reverse.mpr hq)
theorem zroom {d d' L : Nat} {R : Room} (hR : R = zrm d) (hd : d' + 1 ≤ d) (hL : L ≤ 81) : (zrm d').frames + 1 ≤ R.frames ∧ 8 + (L + 11) + (zrm d').locals ≤ R.locals := by
  subst hR
  simp only [zrm]
  omega
section
variable {K : zK} {cd : ByteArray} {own : String} {ret : Option FieldType} {d : Nat}
theorem r_callV (E : zE K cd own ret d) {pc idx n d' L : Nat} {ls : List (Nat × Nat × Int)} {stk : List (Nat × Int)} {y : MethodName} {b : ByteArray} {r' : Option FieldType} {tr' : Option Nat} {t : Nat} {x : Int} {X0 : zX} {k : Int → zX} (As st : List (Nat × Int)) (hstk : stk = As.reverse ++ (t + 2, x) :: st)
    (hz : zcn (t + 2) = zcnt (t + 2)) (hr0 : zar (t + 2) = none) (hC : ∀ o : Nat, (o : Int) = x → ∃ q : vw_C, zcs[zci (t + 2) o]? = some q ∧ q.1 = y.cls) (hw : GoodIn lw_all (wsV own idx y.cls y (ws_ y b L r'))) (hd : decode cd pc = .ok (.invokevirtual idx, 3))
    (hy : y.cls ≠ "java/lang/invoke/MethodHandle" ∧ y.cls ≠ "java/lang/invoke/VarHandle" ∧ (parseMethodDescriptor y.desc).map (fun d => d.parameters.length) = some n) (hn : As.length = n) (hdd : d' + 1 ≤ d) (hL : L ≤ 81) (hst8 : zcat st ≤ 8) (h0 : 0 ≤ x)
    (hc : ∀ (l : Launch) (G : zG), zCt l G y b L r' d' ((t + 2, x) :: As) tr' X0) (kk : ∀ v : Int, zR K (pc + 3) ls (zpush tr' v st) (k v)) : zR K pc ls stk (zcl X0 k) := by
  subst hstk
  obtain ⟨p, l, e, R, s, m, args, below, meth, cde, G, nL, tr⟩ := K
  obtain ⟨hx, hb, hr, hlk, hml, hown, hts, hK, hN, hZ, hI, hR⟩ := E
  intro M r M' hX hM hl hst H locs hP hS lsA hLs
  obtain ⟨r1, M1, hX0, hX1⟩ := zcl_if hX
  obtain ⟨hA, hst⟩ := hst.app
  have hAs : zOs ((t + 2, x) :: As) := zOs.cons hst.hd hA.rev
  obtain ⟨ho, hxo⟩ := zon hz hst.hd h0
  obtain ⟨q0, -, he⟩ := zat (G := G) (M := M) (zmem ho)
  rw [zce_o hr0] at he
  obtain ⟨q, hq1, hq2⟩ := hC x.toNat hxo
  have hrecv := va_recv hK hP hq1 he
  rw [hq2] at hrecv
  have hM0 := hc l G M r1 M1 hX0 hM hAs
  have hmap : (List.map (zv G) (As.reverse ++ (t + 2, x) :: st)) = (As.map (zv G)).reverse ++ .ref (G.2.1 (t + 2) x.toNat) :: st.map (zv G) := by
    rw [List.map_append, List.map_cons, zv_ref (by omega), List.map_reverse]
  have hmap2 : ((t + 2, x) :: As).map (zv G) = .ref (G.2.1 (t + 2) x.toNat) :: As.map (zv G) := by rw [List.map_cons, zv_ref (by omega)]
  rw [hmap2] at hM0
  rw [hmap]
  refine zcont (va_runV (n := n) (As := As.map (zv G)) (rest := st.map (zv G)) ⟨hx, hb, hml, hown, hts⟩ hM0 (cwV n hts hw rfl rfl rfl ⟨rfl, hy⟩ (zroom hR hdd hL)) ⟨zpre_blind, hrecv, fun U hU hW => ⟨rfl, zpre_of hP hS hK hN hZ hI hU hW⟩⟩ rfl (by rw [List.length_map]; exact hn) hLs.1 rfl (by rw [zcat_sum]; show 0 + _ ≤ 8; omega) hd ⟨Nat.zero_le _, Nat.zero_le _⟩) hS (fun H1 locs1 hP1 hS1 hM1 hr1 => ?_)
  rw [zpush_map]
  exact kk r1 M1 r M' hX1 hM1 hl (zpush_ok hst.tl hr1) H1 locs1 hP1 hS1 lsA hLs
theorem r_callVN (E : zE K cd own ret d) {pc idx n d' L : Nat} {ls : List (Nat × Nat × Int)} {stk : List (Nat × Int)} {y : MethodName} {b : ByteArray} {r' : Option FieldType} {tr' : Option Nat} {t : Nat} {x : Int} {X0 : zX} {k : Int → zX} {host : String} (As st : List (Nat × Int)) (hstk : stk = As.reverse ++ (t + 2, x) :: st)
    (hz : zcn (t + 2) = zcnt (t + 2)) (hr0 : zar (t + 2) = none) (hC : ∀ o : Nat, (o : Int) = x → ∃ q : vw_C, zcs[zci (t + 2) o]? = some q ∧ q.1 = y.cls) (hw1 : Cond.methodLinkNest own idx y host ∈ lw_tbl) (hw2 : Cond.instanceMethod y ∈ lw_all) (hw3 : Cond.selects y.cls y y ∈ lw_all) (hw4 : Cond.initialized y.cls ∈ lw_all) (hw5 : Cond.code y b L r' ∈ lw_all) (hd : decode cd pc = .ok (.invokevirtual idx, 3))
    (hy : y.cls ≠ "java/lang/invoke/MethodHandle" ∧ y.cls ≠ "java/lang/invoke/VarHandle" ∧ (parseMethodDescriptor y.desc).map (fun d => d.parameters.length) = some n) (hn : As.length = n) (hdd : d' + 1 ≤ d) (hL : L ≤ 81) (hst8 : zcat st ≤ 8) (h0 : 0 ≤ x)
    (hc : ∀ (l : Launch) (G : zG), zCt l G y b L r' d' ((t + 2, x) :: As) tr' X0) (kk : ∀ v : Int, zR K (pc + 3) ls (zpush tr' v st) (k v)) : zR K pc ls stk (zcl X0 k) := by
  subst hstk
  obtain ⟨p, l, e, R, s, m, args, below, meth, cde, G, nL, tr⟩ := K
  obtain ⟨hx, hb, hr, hlk, hml, hown, hts, hK, hN, hZ, hI, hR⟩ := E
  intro M r M' hX hM hl hst H locs hP hS lsA hLs
  obtain ⟨r1, M1, hX0, hX1⟩ := zcl_if hX
  obtain ⟨hA, hst⟩ := hst.app
  have hAs : zOs ((t + 2, x) :: As) := zOs.cons hst.hd hA.rev
  obtain ⟨ho, hxo⟩ := zon hz hst.hd h0
  obtain ⟨q0, -, he⟩ := zat (G := G) (M := M) (zmem ho)
  rw [zce_o hr0] at he
  obtain ⟨q, hq1, hq2⟩ := hC x.toNat hxo
  have hrecv := va_recv hK hP hq1 he
  rw [hq2] at hrecv
  have hM0 := hc l G M r1 M1 hX0 hM hAs
  have hmap : (List.map (zv G) (As.reverse ++ (t + 2, x) :: st)) = (As.map (zv G)).reverse ++ .ref (G.2.1 (t + 2) x.toNat) :: st.map (zv G) := by
    rw [List.map_append, List.map_cons, zv_ref (by omega), List.map_reverse]
  have hmap2 : ((t + 2, x) :: As).map (zv G) = .ref (G.2.1 (t + 2) x.toNat) :: As.map (zv G) := by rw [List.map_cons, zv_ref (by omega)]
  rw [hmap2] at hM0
  rw [hmap]
  refine zcont (va_runVN (n := n) (As := As.map (zv G)) (rest := st.map (zv G)) ⟨hx, hb, hml, hown, hts⟩ hM0 ⟨va_cnB n hts (lw_meth hw5) rfl rfl rfl (hN _ hw1 rfl) (hts _ hw4) hy (zroom hR hdd hL), hts _ hw2, hts _ hw3⟩ ⟨zpre_blind, hrecv, fun U hU hW => ⟨rfl, zpre_of hP hS hK hN hZ hI hU hW⟩⟩ rfl (by rw [List.length_map]; exact hn) hLs.1 rfl (by rw [zcat_sum]; show 0 + _ ≤ 8; omega) hd ⟨Nat.zero_le _, Nat.zero_le _⟩) hS (fun H1 locs1 hP1 hS1 hM1 hr1 => ?_)
  rw [zpush_map]
  exact kk r1 M1 r M' hX1 hM1 hl (zpush_ok hst.tl hr1) H1 locs1 hP1 hS1 lsA hLs
theorem r_callS (E : zE K cd own ret d) {pc idx n d' L : Nat} {ls : List (Nat × Nat × Int)} {stk : List (Nat × Int)} {y : MethodName} {b : ByteArray} {r' : Option FieldType} {tr' : Option Nat} {X0 : zX} {k : Int → zX} (As st : List (Nat × Int)) (hstk : stk = As.reverse ++ st)
    (hw1 : Cond.methodLink own idx y ∈ lw_all) (hw2 : Cond.static y ∈ lw_all) (hw4 : Cond.initialized y.cls ∈ lw_all) (hw5 : Cond.code y b L r' ∈ lw_all) (hd : decode cd pc = .ok (.invokestatic idx, 3))
    (hy : y.cls ≠ "java/lang/invoke/MethodHandle" ∧ y.cls ≠ "java/lang/invoke/VarHandle" ∧ (parseMethodDescriptor y.desc).map (fun d => d.parameters.length) = some n) (hn : As.length = n) (hdd : d' + 1 ≤ d) (hL : L ≤ 81) (hst8 : zcat st ≤ 8)
    (hc : ∀ (l : Launch) (G : zG), zCt l G y b L r' d' As tr' X0) (kk : ∀ v : Int, zR K (pc + 3) ls (zpush tr' v st) (k v)) : zR K pc ls stk (zcl X0 k) := by
  subst hstk
  obtain ⟨p, l, e, R, s, m, args, below, meth, cde, G, nL, tr⟩ := K
  obtain ⟨hx, hb, hr, hlk, hml, hown, hts, hK, hN, hZ, hI, hR⟩ := E
  intro M r M' hX hM hl hst H locs hP hS lsA hLs
  obtain ⟨r1, M1, hX0, hX1⟩ := zcl_if hX
  obtain ⟨hA, hst⟩ := hst.app
  have hM0 := hc l G M r1 M1 hX0 hM hA.rev
  have hmap : (List.map (zv G) (As.reverse ++ st)) = (As.map (zv G)).reverse ++ st.map (zv G) := by
    rw [List.map_append, List.map_reverse]
  rw [hmap]
  refine zcont (va_runS (n := n) (As := As.map (zv G)) (rest := st.map (zv G)) ⟨hx, hb, hml, hown, hts⟩ hM0 (va_cwS n hts (lw_S hw1 hw2 hw4 hw5) rfl rfl rfl hy (zroom hR hdd hL)) ⟨zpre_blind, fun U hU hW => ⟨rfl, zpre_of hP hS hK hN hZ hI hU hW⟩⟩ rfl (by rw [List.length_map]; exact hn) hLs.1 rfl (by rw [zcat_sum]; show 0 + _ ≤ 8; omega) hd ⟨Nat.zero_le _, Nat.zero_le _⟩) hS (fun H1 locs1 hP1 hS1 hM1 hr1 => ?_)
  rw [zpush_map]
  exact kk r1 M1 r M' hX1 hM1 hl (zpush_ok hst hr1) H1 locs1 hP1 hS1 lsA hLs
theorem r_callSN (E : zE K cd own ret d) {pc idx n d' L : Nat} {ls : List (Nat × Nat × Int)} {stk : List (Nat × Int)} {y : MethodName} {b : ByteArray} {r' : Option FieldType} {tr' : Option Nat} {X0 : zX} {k : Int → zX} {host : String} (As st : List (Nat × Int)) (hstk : stk = As.reverse ++ st)
    (hw1 : Cond.methodLinkNest own idx y host ∈ lw_tbl) (hw2 : Cond.static y ∈ lw_all) (hw4 : Cond.initialized y.cls ∈ lw_all) (hw5 : Cond.code y b L r' ∈ lw_all) (hd : decode cd pc = .ok (.invokestatic idx, 3))
    (hy : y.cls ≠ "java/lang/invoke/MethodHandle" ∧ y.cls ≠ "java/lang/invoke/VarHandle" ∧ (parseMethodDescriptor y.desc).map (fun d => d.parameters.length) = some n) (hn : As.length = n) (hdd : d' + 1 ≤ d) (hL : L ≤ 81) (hst8 : zcat st ≤ 8)
    (hc : ∀ (l : Launch) (G : zG), zCt l G y b L r' d' As tr' X0) (kk : ∀ v : Int, zR K (pc + 3) ls (zpush tr' v st) (k v)) : zR K pc ls stk (zcl X0 k) := by
  subst hstk
  obtain ⟨p, l, e, R, s, m, args, below, meth, cde, G, nL, tr⟩ := K
  obtain ⟨hx, hb, hr, hlk, hml, hown, hts, hK, hN, hZ, hI, hR⟩ := E
  intro M r M' hX hM hl hst H locs hP hS lsA hLs
  obtain ⟨r1, M1, hX0, hX1⟩ := zcl_if hX
  obtain ⟨hA, hst⟩ := hst.app
  have hM0 := hc l G M r1 M1 hX0 hM hA.rev
  have hmap : (List.map (zv G) (As.reverse ++ st)) = (As.map (zv G)).reverse ++ st.map (zv G) := by
    rw [List.map_append, List.map_reverse]
  rw [hmap]
  refine zcont (va_runSN (n := n) (As := As.map (zv G)) (rest := st.map (zv G)) ⟨hx, hb, hml, hown, hts⟩ hM0 ⟨va_cnB n hts (lw_meth hw5) rfl rfl rfl (hN _ hw1 rfl) (hts _ hw4) hy (zroom hR hdd hL), hts _ hw2, trivial⟩ ⟨zpre_blind, fun U hU hW => ⟨rfl, zpre_of hP hS hK hN hZ hI hU hW⟩⟩ rfl (by rw [List.length_map]; exact hn) hLs.1 rfl (by rw [zcat_sum]; show 0 + _ ≤ 8; omega) hd ⟨Nat.zero_le _, Nat.zero_le _⟩) hS (fun H1 locs1 hP1 hS1 hM1 hr1 => ?_)
  rw [zpush_map]
  exact kk r1 M1 r M' hX1 hM1 hl (zpush_ok hst hr1) H1 locs1 hP1 hS1 lsA hLs
/-- a table of places: a case; all else -/
theorem r_tabc (E : zE K cd own ret d) {pc len : Nat} {ls : List (Nat × Nat × Int)} {st : List (Nat × Int)} {dflt lo hi x v off : Int} {offs : Array Int} {X1 X2 : zX} {hdec : Decidable (x = v)} (hd : decode cd pc = .ok (.tableswitch dflt lo hi offs, len)) (i tgt : Nat) (hi0 : v = lo + (i : Int)) (hhi : v ≤ hi) (ho : offs[i]? = some off) (ht : (pc : Int) + off = (tgt : Int))
    (k1 : x = v → zR K tgt ls st X1) (k2 : ¬ x = v → zR K pc ls ((0, x) :: st) X2) : zR K pc ls ((0, x) :: st) (@ite _ (x = v) hdec X1 X2) := by
  by_cases h : x = v
  · rw [if_pos h]
    have k1 := k1 h
    obtain ⟨p, l, e, R, s, m, args, below, meth, cde, G, nL, tr⟩ := K
    obtain ⟨hx, hb, hr, hlk, hml, hown, hts, hK, hN, hZ, hI, hR⟩ := E
    intro M r M' hX hM hl hst H locs hP hS lsA hLs
    have hxx := zt32 hst.hd
    refine lv_tableIn (off := off) (tgt := tgt) hx hb hd (by rw [hxx]; omega) (by rw [hxx]; omega) ?_ ht (k1 M r M' hX hM hl hst.tl H locs hP hS lsA hLs)
    rw [hxx, show (x - lo).toNat = i by omega]
    exact ho
  · rw [if_neg h]
    exact k2 h
def zNe (x : Int) : List Int → Prop
  | [] => True
  | v :: vs => ¬ x = v ∧ zNe x vs
theorem zNe.mem {x : Int} {vs : List Int} (h : zNe x vs) : ¬ x ∈ vs := by
  induction vs with
  | nil => intro q; cases q
  | cons v vs ih =>
    intro q
    rcases List.mem_cons.mp q with e | e
    · exact h.1 e
    · exact ih h.2 e
theorem r_tabd (E : zE K cd own ret d) {pc len : Nat} {ls : List (Nat × Nat × Int)} {st : List (Nat × Int)} {dflt lo hi x : Int} {offs : Array Int} {X : zX} (hd : decode cd pc = .ok (.tableswitch dflt lo hi offs, len)) (tgt : Nat) (vs : List Int) (hsz : (offs.size : Int) = hi - lo + 1) (ht : (pc : Int) + dflt = (tgt : Int)) (hall : ∀ i ∈ List.range offs.size, offs.getD i 0 = dflt ∨ (lo + (i : Int)) ∈ vs) (hne : zNe x vs)
    (k : zR K tgt ls st X) : zR K pc ls ((0, x) :: st) X := by
  obtain ⟨p, l, e, R, s, m, args, below, meth, cde, G, nL, tr⟩ := K
  obtain ⟨hx, hb, hr, hlk, hml, hown, hts, hK, hN, hZ, hI, hR⟩ := E
  intro M r M' hX hM hl hst H locs hP hS lsA hLs
  have hxx := zt32 hst.hd
  have k := k M r M' hX hM hl hst.tl H locs hP hS lsA hLs
  by_cases h : x < lo ∨ hi < x
  · exact lv_tableOut hx hb hd (by rw [hxx]; exact h) ht k
  · have hi : (x - lo).toNat < offs.size := by omega
    have h2 := hall _ (List.mem_range.mpr hi)
    have h3 : offs.getD (x - lo).toNat 0 = dflt := by
      rcases h2 with h2 | h2
      · exact h2
      · exact absurd (by rw [show lo + ((x - lo).toNat : Int) = x by omega] at h2; exact h2) hne.mem
    refine lv_tableIn (off := dflt) (tgt := tgt) hx hb hd (by rw [hxx]; omega) (by rw [hxx]; omega) ?_ ht k
    rw [hxx, Array.getElem?_eq_getElem hi]
    rw [Array.getD_eq_getD_getElem?, Array.getElem?_eq_getElem hi] at h3
    exact congrArg some h3
end
theorem r_pick {K : zK} {cd : ByteArray} {own : String} {ret : Option FieldType} {d : Nat} (E : zE K cd own ret d) {pc : Nat} {ls ls' : List (Nat × Nat × Int)} {st : List (Nat × Int)} {X : zX} (ks : List Nat) (h : ks.filterMap (fun k => ls[k]?) = ls') (kk : zR K pc ls' st X) : zR K pc ls st X :=
  r_sub E (fun q hq => by
    rw [← h] at hq
    obtain ⟨k, -, hk⟩ := List.mem_filterMap.mp hq
    exact List.mem_of_getElem? hk) kk
theorem zkI {n : Int} (h1 : -2147483648 ≤ n) (h2 : n ≤ 2147483647) : zOv (0, n) := ⟨h1, h2⟩
theorem zkJ {n : Int} (h1 : -9223372036854775808 ≤ n) (h2 : n ≤ 9223372036854775807) : zOv (1, n) := ⟨h1, h2⟩
theorem zn1 {a : Nat} (h : Nat.beq a 1 = false) : ¬ a = 1 := Nat.ne_of_beq_eq_false h
theorem zacl_eq {c : Nat} {x : Int} (h : 0 ≤ x) : zacl x = ((zalen c x.toNat 0 : Nat) : Int) := by
  unfold zacl zalen
  rw [if_pos rfl]
  by_cases e : x % 3 = 0
  · rw [if_pos e, if_pos (by omega)]; rfl
  · rw [if_neg e, if_neg (by omega)]; rfl
