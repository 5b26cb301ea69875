/-! locals, memory, returns -/
def zf1 (i : Nat) (q : Nat × Nat × Int) : Bool := !(q.1 == i) && !(q.1 + 1 == i && q.2.1 == 1)
def zf2 (i : Nat) (q : Nat × Nat × Int) : Bool := !(q.1 == i) && (!(q.1 == i + 1) && !(q.1 + 1 == i && q.2.1 == 1))
theorem zcatb (G : zG) (q : Nat × Int) : ((zv G q).category == 2) = (q.1 == 1) := by
  rw [zv_cat]
  by_cases h : q.1 = 1 <;> simp [h]
theorem zfil1 (G : zG) (i : Nat) (ls : List (Nat × Nat × Int)) : (ls.map (fun q => (q.1, zv G q.2))).filter (fun q => !(q.1 == i) && !(q.1 + 1 == i && q.2.category == 2)) = (ls.filter (zf1 i)).map (fun q => (q.1, zv G q.2)) := by
  rw [List.filter_map]
  congr 1
  apply List.filter_congr
  intro q _
  simp only [Function.comp, zf1, zcatb]
theorem zfil2 (G : zG) (i : Nat) (ls : List (Nat × Nat × Int)) : (ls.map (fun q => (q.1, zv G q.2))).filter (fun q => !(q.1 == i) && (!(q.1 == i + 1) && !(q.1 + 1 == i && q.2.category == 2))) = (ls.filter (zf2 i)).map (fun q => (q.1, zv G q.2)) := by
  rw [List.filter_map]
  congr 1
  apply List.filter_congr
  intro q _
  simp only [Function.comp, zf2, zcatb]
theorem zOs.fil {f : Nat × Nat × Int → Bool} {ls : List (Nat × Nat × Int)} {i : Nat} {q : Nat × Int} (h : zOs (ls.map Prod.snd)) (h0 : zOv q) : zOs (((i, q) :: ls.filter f).map Prod.snd) := by
  rw [List.map_cons]
  refine zOs.cons h0 (fun a ha => h a ?_)
  obtain ⟨b, hb, rfl⟩ := List.mem_map.mp ha
  exact List.mem_map.mpr ⟨b, (List.mem_filter.mp hb).1, rfl⟩
theorem r_iload_n {K : zK} {cd : ByteArray} {own : String} {ret : Option FieldType} {d : Nat} (E : zE K cd own ret d) {pc : Nat} {ls : List (Nat × Nat × Int)} {st : List (Nat × Int)} {X : zX} {k : Fin 4} {i : Nat} {x : Int} (hd : decode cd pc = .ok (.iload_n k, 1)) (hi : (k : Nat) = i) (j : Nat) (hj : ls[j]? = some (i, 0, x)) (kk : zR K (pc + 1) ls ((0, x) :: st) X) : zR K pc ls st X := by
  obtain ⟨p, l, e, R, s, m, args, below, meth, cde, G, nL, tr⟩ := K
  obtain ⟨hx, hb, hr, hlk, hml, hown, hts, hK, hN, hZ, hI, hR⟩ := E
  intro M r M' hX hM hl hst H locs hP hS lsA hL
  have hm := List.mem_of_getElem? hj
  have h0 : zOv (0, x) := hl _ (List.mem_map.mpr ⟨_, hm, rfl⟩)
  have ha := hL.2.2 (i, zv G (0, x)) (List.mem_map.mpr ⟨_, hm, rfl⟩)
  have kk := kk M r M' hX hM hl (hst.cons h0) H locs hP hS lsA hL
  exact lv_iload_n hx hb hd hi ha kk
theorem r_istore_n {K : zK} {cd : ByteArray} {own : String} {ret : Option FieldType} {d : Nat} (E : zE K cd own ret d) {pc : Nat} {ls : List (Nat × Nat × Int)} {st : List (Nat × Int)} {X : zX} {k : Fin 4} {i : Nat} {x : Int} {ls' : List (Nat × Nat × Int)} (hd : decode cd pc = .ok (.istore_n k, 1)) (hi : (k : Nat) = i) (hn : i < zNl K) (hl' : (i, 0, x) :: ls.filter (zf1 i) = ls') (kk : zR K (pc + 1) ls' st X) : zR K pc ls ((0, x) :: st) X := by
  obtain ⟨p, l, e, R, s, m, args, below, meth, cde, G, nL, tr⟩ := K
  obtain ⟨hx, hb, hr, hlk, hml, hown, hts, hK, hN, hZ, hI, hR⟩ := E
  intro M r M' hX hM hl hst H locs hP hS lsA hL
  have h0 := hst.hd
  subst hl'
  exact lv_istore_n hx hb hd hi hL hn (by rw [zfil1]) (fun lsA' hL' => kk M r M' hX hM (hl.fil h0) hst.tl H locs hP hS lsA' (by rw [List.map_cons]; exact hL'))
theorem r_iload {K : zK} {cd : ByteArray} {own : String} {ret : Option FieldType} {d : Nat} (E : zE K cd own ret d) {pc : Nat} {ls : List (Nat × Nat × Int)} {st : List (Nat × Int)} {X : zX} {i : Nat} {x : Int} (hd : decode cd pc = .ok (.iload i, 2)) (j : Nat) (hj : ls[j]? = some (i, 0, x)) (kk : zR K (pc + 2) ls ((0, x) :: st) X) : zR K pc ls st X := by
  obtain ⟨p, l, e, R, s, m, args, below, meth, cde, G, nL, tr⟩ := K
  obtain ⟨hx, hb, hr, hlk, hml, hown, hts, hK, hN, hZ, hI, hR⟩ := E
  intro M r M' hX hM hl hst H locs hP hS lsA hL
  have hm := List.mem_of_getElem? hj
  have h0 : zOv (0, x) := hl _ (List.mem_map.mpr ⟨_, hm, rfl⟩)
  have ha := hL.2.2 (i, zv G (0, x)) (List.mem_map.mpr ⟨_, hm, rfl⟩)
  have kk := kk M r M' hX hM hl (hst.cons h0) H locs hP hS lsA hL
  exact lv_iload hx hb hd ha kk
theorem r_istore {K : zK} {cd : ByteArray} {own : String} {ret : Option FieldType} {d : Nat} (E : zE K cd own ret d) {pc : Nat} {ls : List (Nat × Nat × Int)} {st : List (Nat × Int)} {X : zX} {i : Nat} {x : Int} {ls' : List (Nat × Nat × Int)} (hd : decode cd pc = .ok (.istore i, 2)) (hn : i < zNl K) (hl' : (i, 0, x) :: ls.filter (zf1 i) = ls') (kk : zR K (pc + 2) ls' st X) : zR K pc ls ((0, x) :: st) X := by
  obtain ⟨p, l, e, R, s, m, args, below, meth, cde, G, nL, tr⟩ := K
  obtain ⟨hx, hb, hr, hlk, hml, hown, hts, hK, hN, hZ, hI, hR⟩ := E
  intro M r M' hX hM hl hst H locs hP hS lsA hL
  have h0 := hst.hd
  subst hl'
  exact lv_istore hx hb hd hL hn (by rw [zfil1]) (fun lsA' hL' => kk M r M' hX hM (hl.fil h0) hst.tl H locs hP hS lsA' (by rw [List.map_cons]; exact hL'))
theorem r_lload_n {K : zK} {cd : ByteArray} {own : String} {ret : Option FieldType} {d : Nat} (E : zE K cd own ret d) {pc : Nat} {ls : List (Nat × Nat × Int)} {st : List (Nat × Int)} {X : zX} {k : Fin 4} {i : Nat} {x : Int} (hd : decode cd pc = .ok (.lload_n k, 1)) (hi : (k : Nat) = i) (j : Nat) (hj : ls[j]? = some (i, 1, x)) (kk : zR K (pc + 1) ls ((1, x) :: st) X) : zR K pc ls st X := by
  obtain ⟨p, l, e, R, s, m, args, below, meth, cde, G, nL, tr⟩ := K
  obtain ⟨hx, hb, hr, hlk, hml, hown, hts, hK, hN, hZ, hI, hR⟩ := E
  intro M r M' hX hM hl hst H locs hP hS lsA hL
  have hm := List.mem_of_getElem? hj
  have h0 : zOv (1, x) := hl _ (List.mem_map.mpr ⟨_, hm, rfl⟩)
  have ha := hL.2.2 (i, zv G (1, x)) (List.mem_map.mpr ⟨_, hm, rfl⟩)
  have kk := kk M r M' hX hM hl (hst.cons h0) H locs hP hS lsA hL
  exact lv_lload_n hx hb hd hi ha kk
theorem r_lstore_n {K : zK} {cd : ByteArray} {own : String} {ret : Option FieldType} {d : Nat} (E : zE K cd own ret d) {pc : Nat} {ls : List (Nat × Nat × Int)} {st : List (Nat × Int)} {X : zX} {k : Fin 4} {i : Nat} {x : Int} {ls' : List (Nat × Nat × Int)} (hd : decode cd pc = .ok (.lstore_n k, 1)) (hi : (k : Nat) = i) (hn : i + 1 < zNl K) (hl' : (i, 1, x) :: ls.filter (zf2 i) = ls') (kk : zR K (pc + 1) ls' st X) : zR K pc ls ((1, x) :: st) X := by
  obtain ⟨p, l, e, R, s, m, args, below, meth, cde, G, nL, tr⟩ := K
  obtain ⟨hx, hb, hr, hlk, hml, hown, hts, hK, hN, hZ, hI, hR⟩ := E
  intro M r M' hX hM hl hst H locs hP hS lsA hL
  have h0 := hst.hd
  subst hl'
  exact lv_lstore_n hx hb hd hi hL hn (by rw [zfil2]) (fun lsA' hL' => kk M r M' hX hM (hl.fil h0) hst.tl H locs hP hS lsA' (by rw [List.map_cons]; exact hL'))
theorem r_lload {K : zK} {cd : ByteArray} {own : String} {ret : Option FieldType} {d : Nat} (E : zE K cd own ret d) {pc : Nat} {ls : List (Nat × Nat × Int)} {st : List (Nat × Int)} {X : zX} {i : Nat} {x : Int} (hd : decode cd pc = .ok (.lload i, 2)) (j : Nat) (hj : ls[j]? = some (i, 1, x)) (kk : zR K (pc + 2) ls ((1, x) :: st) X) : zR K pc ls st X := by
  obtain ⟨p, l, e, R, s, m, args, below, meth, cde, G, nL, tr⟩ := K
  obtain ⟨hx, hb, hr, hlk, hml, hown, hts, hK, hN, hZ, hI, hR⟩ := E
  intro M r M' hX hM hl hst H locs hP hS lsA hL
  have hm := List.mem_of_getElem? hj
  have h0 : zOv (1, x) := hl _ (List.mem_map.mpr ⟨_, hm, rfl⟩)
  have ha := hL.2.2 (i, zv G (1, x)) (List.mem_map.mpr ⟨_, hm, rfl⟩)
  have kk := kk M r M' hX hM hl (hst.cons h0) H locs hP hS lsA hL
  exact lv_lload hx hb hd ha kk
theorem r_lstore {K : zK} {cd : ByteArray} {own : String} {ret : Option FieldType} {d : Nat} (E : zE K cd own ret d) {pc : Nat} {ls : List (Nat × Nat × Int)} {st : List (Nat × Int)} {X : zX} {i : Nat} {x : Int} {ls' : List (Nat × Nat × Int)} (hd : decode cd pc = .ok (.lstore i, 2)) (hn : i + 1 < zNl K) (hl' : (i, 1, x) :: ls.filter (zf2 i) = ls') (kk : zR K (pc + 2) ls' st X) : zR K pc ls ((1, x) :: st) X := by
  obtain ⟨p, l, e, R, s, m, args, below, meth, cde, G, nL, tr⟩ := K
  obtain ⟨hx, hb, hr, hlk, hml, hown, hts, hK, hN, hZ, hI, hR⟩ := E
  intro M r M' hX hM hl hst H locs hP hS lsA hL
  have h0 := hst.hd
  subst hl'
  exact lv_lstore hx hb hd hL hn (by rw [zfil2]) (fun lsA' hL' => kk M r M' hX hM (hl.fil h0) hst.tl H locs hP hS lsA' (by rw [List.map_cons]; exact hL'))
theorem r_aload_n {K : zK} {cd : ByteArray} {own : String} {ret : Option FieldType} {d : Nat} (E : zE K cd own ret d) {pc : Nat} {ls : List (Nat × Nat × Int)} {st : List (Nat × Int)} {X : zX} {t : Nat} {k : Fin 4} {i : Nat} {x : Int} (hd : decode cd pc = .ok (.aload_n k, 1)) (hi : (k : Nat) = i) (j : Nat) (hj : ls[j]? = some (i, t + 2, x)) (kk : zR K (pc + 1) ls ((t + 2, x) :: st) X) : zR K pc ls st X := by
  obtain ⟨p, l, e, R, s, m, args, below, meth, cde, G, nL, tr⟩ := K
  obtain ⟨hx, hb, hr, hlk, hml, hown, hts, hK, hN, hZ, hI, hR⟩ := E
  intro M r M' hX hM hl hst H locs hP hS lsA hL
  have hm := List.mem_of_getElem? hj
  have h0 : zOv (t + 2, x) := hl _ (List.mem_map.mpr ⟨_, hm, rfl⟩)
  have ha := hL.2.2 (i, zv G (t + 2, x)) (List.mem_map.mpr ⟨_, hm, rfl⟩)
  have kk := kk M r M' hX hM hl (hst.cons h0) H locs hP hS lsA hL
  by_cases h : x < 0
  · rw [List.map_cons, zv_null h] at kk
    simp only [zv_null h] at ha
    exact lv_aload_nN hx hb hd hi ha kk
  · rw [List.map_cons, zv_ref h] at kk
    simp only [zv_ref h] at ha
    exact lv_aload_n hx hb hd hi ha kk
theorem r_astore_n {K : zK} {cd : ByteArray} {own : String} {ret : Option FieldType} {d : Nat} (E : zE K cd own ret d) {pc : Nat} {ls : List (Nat × Nat × Int)} {st : List (Nat × Int)} {X : zX} {t : Nat} {k : Fin 4} {i : Nat} {x : Int} {ls' : List (Nat × Nat × Int)} (hd : decode cd pc = .ok (.astore_n k, 1)) (hi : (k : Nat) = i) (hn : i < zNl K) (hl' : (i, t + 2, x) :: ls.filter (zf1 i) = ls') (kk : zR K (pc + 1) ls' st X) : zR K pc ls ((t + 2, x) :: st) X := by
  obtain ⟨p, l, e, R, s, m, args, below, meth, cde, G, nL, tr⟩ := K
  obtain ⟨hx, hb, hr, hlk, hml, hown, hts, hK, hN, hZ, hI, hR⟩ := E
  intro M r M' hX hM hl hst H locs hP hS lsA hL
  have h0 := hst.hd
  subst hl'
  rw [List.map_cons]
  by_cases h : x < 0
  · rw [zv_null h]
    exact lv_astore_nN hx hb hd hi hL hn (by rw [zfil1]) (fun lsA' hL' => kk M r M' hX hM (hl.fil h0) hst.tl H locs hP hS lsA' (by rw [List.map_cons, zv_null h]; exact hL'))
  · rw [zv_ref h]
    exact lv_astore_n hx hb hd hi hL hn (by rw [zfil1]) (fun lsA' hL' => kk M r M' hX hM (hl.fil h0) hst.tl H locs hP hS lsA' (by rw [List.map_cons, zv_ref h]; exact hL'))
theorem r_aload {K : zK} {cd : ByteArray} {own : String} {ret : Option FieldType} {d : Nat} (E : zE K cd own ret d) {pc : Nat} {ls : List (Nat × Nat × Int)} {st : List (Nat × Int)} {X : zX} {t : Nat} {i : Nat} {x : Int} (hd : decode cd pc = .ok (.aload i, 2)) (j : Nat) (hj : ls[j]? = some (i, t + 2, x)) (kk : zR K (pc + 2) ls ((t + 2, x) :: st) X) : zR K pc ls st X := by
  obtain ⟨p, l, e, R, s, m, args, below, meth, cde, G, nL, tr⟩ := K
  obtain ⟨hx, hb, hr, hlk, hml, hown, hts, hK, hN, hZ, hI, hR⟩ := E
  intro M r M' hX hM hl hst H locs hP hS lsA hL
  have hm := List.mem_of_getElem? hj
  have h0 : zOv (t + 2, x) := hl _ (List.mem_map.mpr ⟨_, hm, rfl⟩)
  have ha := hL.2.2 (i, zv G (t + 2, x)) (List.mem_map.mpr ⟨_, hm, rfl⟩)
  have kk := kk M r M' hX hM hl (hst.cons h0) H locs hP hS lsA hL
  by_cases h : x < 0
  · rw [List.map_cons, zv_null h] at kk
    simp only [zv_null h] at ha
    exact lv_aloadN hx hb hd ha kk
  · rw [List.map_cons, zv_ref h] at kk
    simp only [zv_ref h] at ha
    exact lv_aload hx hb hd ha kk
theorem r_astore {K : zK} {cd : ByteArray} {own : String} {ret : Option FieldType} {d : Nat} (E : zE K cd own ret d) {pc : Nat} {ls : List (Nat × Nat × Int)} {st : List (Nat × Int)} {X : zX} {t : Nat} {i : Nat} {x : Int} {ls' : List (Nat × Nat × Int)} (hd : decode cd pc = .ok (.astore i, 2)) (hn : i < zNl K) (hl' : (i, t + 2, x) :: ls.filter (zf1 i) = ls') (kk : zR K (pc + 2) ls' st X) : zR K pc ls ((t + 2, x) :: st) X := by
  obtain ⟨p, l, e, R, s, m, args, below, meth, cde, G, nL, tr⟩ := K
  obtain ⟨hx, hb, hr, hlk, hml, hown, hts, hK, hN, hZ, hI, hR⟩ := E
  intro M r M' hX hM hl hst H locs hP hS lsA hL
  have h0 := hst.hd
  subst hl'
  rw [List.map_cons]
  by_cases h : x < 0
  · rw [zv_null h]
    exact lv_astoreN hx hb hd hL hn (by rw [zfil1]) (fun lsA' hL' => kk M r M' hX hM (hl.fil h0) hst.tl H locs hP hS lsA' (by rw [List.map_cons, zv_null h]; exact hL'))
  · rw [zv_ref h]
    exact lv_astore hx hb hd hL hn (by rw [zfil1]) (fun lsA' hL' => kk M r M' hX hM (hl.fil h0) hst.tl H locs hP hS lsA' (by rw [List.map_cons, zv_ref h]; exact hL'))
theorem r_iinc {K : zK} {cd : ByteArray} {own : String} {ret : Option FieldType} {d : Nat} (E : zE K cd own ret d) {pc : Nat} {ls : List (Nat × Nat × Int)} {st : List (Nat × Int)} {i : Nat} {n x : Int} {f : Int → zX} {ls' : Int → List (Nat × Nat × Int)} (j : Nat) (hj : ls[j]? = some (i, 0, x)) (hn : i < zNl K) (hl' : ∀ v, (i, 0, v) :: ls.filter (zf1 i) = ls' v) (hd : decode cd pc = .ok (.iinc i n, 3)) (kk : ∀ v : Int, v = zi (x + n) → zR K (pc + 3) (ls' v) st (f v)) : zR K pc ls st (zlt (zi (x + n)) f) := by
  obtain ⟨p, l, e, R, s, m, args, below, meth, cde, G, nL, tr⟩ := K
  obtain ⟨hx, hb, hr, hlk, hml, hown, hts, hK, hN, hZ, hI, hR⟩ := E
  intro M r M' hX hM hl hst H locs hP hS lsA hL
  have kk := kk _ rfl M r M' hX hM (by rw [← hl']; exact hl.fil (zi_ok _)) hst H locs hP hS
  rw [← hl'] at kk
  refine lv_iinc (v := Int32.ofInt (zi (x + n))) (k := j) hx hb hd hL (by rw [List.getElem?_map, hj]; rfl) (by rw [zo32, Int32.ofInt_add]) hn (by rw [zfil1]) (fun lsA' hL' => kk lsA' (by rw [List.map_cons]; exact hL'))
theorem r_nn {K : zK} {cd : ByteArray} {own : String} {ret : Option FieldType} {d : Nat} (E : zE K cd own ret d) {pc : Nat} {ls : List (Nat × Nat × Int)} {st : List (Nat × Int)} {X : zX} {x : Int} (kk : 0 ≤ x → zR K pc ls st X) : zR K pc ls st (znn x X) := by
  obtain ⟨p, l, e, R, s, m, args, below, meth, cde, G, nL, tr⟩ := K
  obtain ⟨hx, hb, hr, hlk, hml, hown, hts, hK, hN, hZ, hI, hR⟩ := E
  intro M r M' hX hM hl hst H locs hP hS lsA hL
  unfold znn at hX
  by_cases h : 0 ≤ x
  · rw [if_pos h] at hX
    exact kk h M r M' hX hM hl hst H locs hP hS lsA hL
  · rw [if_neg h] at hX; cases hX
theorem r_ne {K : zK} {cd : ByteArray} {own : String} {ret : Option FieldType} {d : Nat} (E : zE K cd own ret d) {pc : Nat} {ls : List (Nat × Nat × Int)} {st : List (Nat × Int)} {X : zX} {x : Int} (kk : ¬ x = 0 → zR K pc ls st X) : zR K pc ls st (zne x X) := by
  obtain ⟨p, l, e, R, s, m, args, below, meth, cde, G, nL, tr⟩ := K
  obtain ⟨hx, hb, hr, hlk, hml, hown, hts, hK, hN, hZ, hI, hR⟩ := E
  intro M r M' hX hM hl hst H locs hP hS lsA hL
  unfold zne at hX
  by_cases h : x = 0
  · rw [if_pos h] at hX; cases hX
  · rw [if_neg h] at hX
    exact kk h M r M' hX hM hl hst H locs hP hS lsA hL
theorem r_no {K : zK} {cd : ByteArray} {own : String} {ret : Option FieldType} {d : Nat} (E : zE K cd own ret d) {pc : Nat} {ls : List (Nat × Nat × Int)} {st : List (Nat × Int)} : zR K pc ls st zno := by
  obtain ⟨p, l, e, R, s, m, args, below, meth, cde, G, nL, tr⟩ := K
  obtain ⟨hx, hb, hr, hlk, hml, hown, hts, hK, hN, hZ, hI, hR⟩ := E
  intro M r M' hX hM hl hst H locs hP hS lsA hL
  cases hX
theorem r_sub {K : zK} {cd : ByteArray} {own : String} {ret : Option FieldType} {d : Nat} (E : zE K cd own ret d) {pc : Nat} {ls : List (Nat × Nat × Int)} {st : List (Nat × Int)} {X : zX} {ls' : List (Nat × Nat × Int)} (h : ∀ q ∈ ls', q ∈ ls) (kk : zR K pc ls' st X) : zR K pc ls st X := by
  obtain ⟨p, l, e, R, s, m, args, below, meth, cde, G, nL, tr⟩ := K
  obtain ⟨hx, hb, hr, hlk, hml, hown, hts, hK, hN, hZ, hI, hR⟩ := E
  intro M r M' hX hM hl hst H locs hP hS lsA hL
  refine kk M r M' hX hM (fun q hq => ?_) hst H locs hP hS lsA ⟨hL.1, hL.2.1, fun q hq => ?_⟩
  · obtain ⟨a, ha, rfl⟩ := List.mem_map.mp hq
    exact hl _ (List.mem_map.mpr ⟨a, h a ha, rfl⟩)
  · obtain ⟨a, ha, rfl⟩ := List.mem_map.mp hq
    exact hL.2.2 _ (List.mem_map.mpr ⟨a, h a ha, rfl⟩)
/-- a loop: whoever shows one round over any going on shows all -/
theorem r_loop {K : zK} {pc : Nat} {st : List (Nat × Int)} {σ : Type} {B : (σ → zX) → σ → zX} {L : σ → List (Nat × Nat × Int)} (hB : ∀ f : σ → zX, (∀ s, zR K pc (L s) st (f s)) → ∀ s, zR K pc (L s) st (B f s)) : ∀ (n : Nat) (s : σ), zR K pc (L s) st (zlp B n s) := by
  intro n
  induction n with
  | zero =>
    intro s
    obtain ⟨p, l, e, R, s', m, args, below, meth, cde, G, nL, tr⟩ := K
    intro M r M' hX
    cases hX
  | succ n ih => exact fun s => hB _ ih s
def zFw (t : Nat) (q : vw_C) : Prop := (∀ o : Nat, zcs[zci t o]? = some q) ∧ (∀ w ∈ u_ws q.1 q.2.1 q.2.2, w ∈ lw_all) ∧ (∃ ty : Nat → FieldType, ∀ k, k < q.2.2 → parseFieldDescriptor (q.2.1 k).2.2.1 = some (ty k)) ∧ ∀ a, a < q.2.2 → ∀ b, b < q.2.2 → a ≠ b → (q.2.1 a).2.1 ≠ (q.2.1 b).2.1
def zFo (t o k : Nat) (f : String × String × String × Bool) : Prop := ∃ q : vw_C, zcs[zci t o]? = some q ∧ k < q.2.2 ∧ q.2.1 k = f ∧ (∀ w ∈ u_ws q.1 q.2.1 q.2.2, w ∈ lw_all)
theorem zFw.o {t : Nat} {q : vw_C} (h : zFw t q) {k : Nat} {f : String × String × String × Bool} (hk : k < q.2.2) (hf : q.2.1 k = f) (o : Nat) : zFo t o k f := ⟨q, h.1 o, hk, hf, h.2.1⟩
theorem zce_o {G : zG} {t o : Nat} {M : zM} (h : zar t = none) : zce G t o M = .inr (zci t o, (zfl t o).map (zfv G o M)) := by unfold zce; rw [h]
theorem zce_a {G : zG} {t o : Nat} {M : zM} {a : Nat × Int × Int × Nat} (h : zar t = some a) : zce G t o M = .inl (G.2.2 t, zac G t o M a) := by unfold zce; rw [h]
theorem zon {t : Nat} {x : Int} (hz : zcn (t + 2) = zcnt (t + 2)) (h : zOv (t + 2, x)) (h0 : 0 ≤ x) : x.toNat < zcnt (t + 2) ∧ ((x.toNat : Nat) : Int) = x := by
  have h2 := h.2
  simp only at h2
  rw [hz] at h2
  omega
theorem r_get {K : zK} {cd : ByteArray} {own : String} {ret : Option FieldType} {d : Nat} (E : zE K cd own ret d) {pc : Nat} {ls : List (Nat × Nat × Int)} {st : List (Nat × Int)} {t c tc k idx : Nat} {x a b : Int} {C nm ds : String} {fin : Bool} {f : Int → zX} (hz : zcn (t + 2) = zcnt (t + 2)) (hty : zty c = tc) (hd : decode cd pc = .ok (.getfield idx, 3)) (hw : Cond.fieldLink own idx C nm ds ∈ lw_all) (hr0 : zar (t + 2) = none) (hF : ∀ o : Nat, (o : Int) = x → zFo (t + 2) o k (C, nm, ds, fin) ∧ (zfl (t + 2) o)[k]? = some (0, c, a, b)) (h0 : 0 ≤ x) (kk : ∀ v : Int, zR K (pc + 3) ls ((tc, v) :: st) (f v)) : zR K pc ls ((t + 2, x) :: st) (zgf c x f) := by
  obtain ⟨p, l, e, R, s, m, args, below, meth, cde, G, nL, tr⟩ := K
  obtain ⟨hx, hb, hr, hlk, hml, hown, hts, hK, hN, hZ, hI, hR⟩ := E
  intro M r M' hX hM hl hst H locs hP hS lsA hL
  obtain ⟨ho, hxo⟩ := zon hz hst.hd h0
  obtain ⟨⟨q, hq1, hq2, hq3, hq4⟩, hf⟩ := hF x.toNat hxo
  obtain ⟨q0, -, he⟩ := zat (G := G) (M := M) (zmem ho)
  rw [zce_o hr0] at he
  rw [List.map_cons, zv_ref (by omega)]
  subst hty
  have hv := hM c x 0
  refine va_get hx hb hts hq4 hown hK hP q0 he (C := q.1) (T := q.2.1) (N := q.2.2) hq1 k hq2 (by rw [hq3]; exact (hts _ hw)) (by rw [hq3]; exact fun _ h => h) (v := zv G (zty c, M c x 0)) ?_ hd (kk (M c x 0) M r M' hX hM hl (hst.tl.cons hv) H locs hP hS lsA hL)
  rw [List.getElem?_map, hf]
  show some (zfv G x.toNat M (0, c, a, b)) = _
  unfold zfv
  rw [if_pos rfl, hxo]
theorem r_gec {K : zK} {cd : ByteArray} {own : String} {ret : Option FieldType} {d : Nat} (E : zE K cd own ret d) {pc : Nat} {ls : List (Nat × Nat × Int)} {st : List (Nat × Int)} {X : zX} {t c k idx : Nat} {x y : Int} {C nm ds : String} {fin : Bool} (hz : zcn (t + 2) = zcnt (t + 2)) (hd : decode cd pc = .ok (.getfield idx, 3)) (hw : Cond.fieldLink own idx C nm ds ∈ lw_all) (hr0 : zar (t + 2) = none) (hF : ∀ o : Nat, (o : Int) = x → o < zcnt (t + 2) → zFo (t + 2) o k (C, nm, ds, fin) ∧ ∃ a b : Int, (zfl (t + 2) o)[k]? = some (1, c, a, b) ∧ a * x + b = y) (h0 : 0 ≤ x) (kk : zR K (pc + 3) ls ((c, y) :: st) X) : zR K pc ls ((t + 2, x) :: st) X := by
  obtain ⟨p, l, e, R, s, m, args, below, meth, cde, G, nL, tr⟩ := K
  obtain ⟨hx, hb, hr, hlk, hml, hown, hts, hK, hN, hZ, hI, hR⟩ := E
  intro M r M' hX hM hl hst H locs hP hS lsA hL
  obtain ⟨ho, hxo⟩ := zon hz hst.hd h0
  obtain ⟨⟨q, hq1, hq2, hq3, hq4⟩, a, b, hf, hy⟩ := hF x.toNat hxo ho
  obtain ⟨q0, -, he⟩ := zat (G := G) (M := M) (zmem ho)
  rw [zce_o hr0] at he
  rw [List.map_cons, zv_ref (by omega)]
  have hv := zcst ho hf
  rw [hxo, hy] at hv
  refine va_get hx hb hts hq4 hown hK hP q0 he (C := q.1) (T := q.2.1) (N := q.2.2) hq1 k hq2 (by rw [hq3]; exact (hts _ hw)) (by rw [hq3]; exact fun _ h => h) (v := zv G (c, y)) ?_ hd (kk M r M' hX hM hl (hst.tl.cons hv) H locs hP hS lsA hL)
  rw [List.getElem?_map, hf]
  show some (zfv G x.toNat M (1, c, a, b)) = _
  unfold zfv
  rw [if_neg (show ¬ (1 : Nat) = 0 by decide), hxo, hy]
theorem r_put {K : zK} {cd : ByteArray} {own : String} {ret : Option FieldType} {d : Nat} (E : zE K cd own ret d) {pc : Nat} {ls : List (Nat × Nat × Int)} {st : List (Nat × Int)} {X : zX} {t c tc k idx : Nat} {x v a b : Int} {q : vw_C} {C nm ds : String} {ft : FieldType} (hz : zcn (t + 2) = zcnt (t + 2)) (hty : zty c = tc) (how : zown c = t + 2) (hd : decode cd pc = .ok (.putfield idx, 3)) (hw : Cond.fieldLink own idx C nm ds ∈ lw_all) (hr0 : zar (t + 2) = none) (hF : zFw (t + 2) q) (hpb : k < q.2.2 ∧ q.2.1 k = (C, nm, ds, false) ∧ (∀ o : Nat, (zfl (t + 2) o)[k]? = some (0, c, a, b)) ∧ parseFieldDescriptor ds = some ft) (hnar : ∀ G : zG, narrow ft (zv G (tc, v)) = zv G (tc, v)) (hfit : ∀ G : zG, fits ft (zv G (tc, v)) = true) (h0 : 0 ≤ x) (kk : zR K (pc + 3) ls st X) : zR K pc ls ((tc, v) :: (t + 2, x) :: st) (zpf c x v X) := by
  obtain ⟨p, l, e, R, s, m, args, below, meth, cde, G, nL, tr⟩ := K
  obtain ⟨hx, hb, hr, hlk, hml, hown, hts, hK, hN, hZ, hI, hR⟩ := E
  intro M r M' hX hM hl hst H locs hP hS lsA hL
  obtain ⟨ho, hxo⟩ := zon hz hst.tl.hd h0
  obtain ⟨hq1, hq4, ⟨ty0, hty0⟩, hnm⟩ := hF
  obtain ⟨hk, hT, hf, hft⟩ := hpb
  obtain ⟨q0, hq0, he⟩ := zat (G := G) (M := M) (zmem ho)
  have he' := he
  rw [zce_o hr0] at he
  rw [List.map_cons, List.map_cons, zv_ref (t := t) (x := x) (by omega)]
  have hv := hst.hd
  subst hty
  refine va_put hx hb hts hq4 ty0 hty0 hnm hown hK hP (zD hI) hS q0 he (C := q.1) (T := q.2.1) (N := q.2.2) (hq1 x.toNat) k hk (by rw [hT]; exact (hts _ hw)) (by rw [hT]; exact fun _ h => h) (by rw [hT]) (ty := ft) (by rw [hT]; exact hft) (hnar G) (hfit G) (by rw [List.length_map]; exact (List.getElem?_eq_some_iff.mp (hf x.toNat)).1) hd (fun H1 locs1 hP1 _ hS1 => ?_)
  have hset : (zwl G M).set q0 (G.2.1 (t + 2) x.toNat, .inr (zci (t + 2) x.toNat, ((zfl (t + 2) x.toNat).map (zfv G x.toNat M)).set k (zv G (zty c, v)))) = zwl G (zup M c x 0 v) := by
    rw [zfs_set (hf x.toNat), ← zce_o hr0]
    have := zwl_set (G := G) (M := M) (i := 0) (v := v) hq0 how rfl
    rw [hxo] at this
    rw [hxo]
    exact this
  rw [hset] at hP1
  refine kk (zup M c x 0 v) r M' hX (fun c' o' i' => ?_) hl hst.tl.tl H1 locs1 hP1 hS1 lsA hL
  unfold zup
  split
  · rename_i e1; rw [e1.1]; exact hv
  · exact hM c' o' i'
theorem r_getN {K : zK} {cd : ByteArray} {own : String} {ret : Option FieldType} {d : Nat} (E : zE K cd own ret d) {pc : Nat} {ls : List (Nat × Nat × Int)} {st : List (Nat × Int)} {t c tc k idx : Nat} {x a b : Int} {C nm ds : String} {fin : Bool} {f : Int → zX} (hz : zcn (t + 2) = zcnt (t + 2)) (hty : zty c = tc) (hd : decode cd pc = .ok (.getfield idx, 3)) {host : String} (hw : Cond.fieldLinkNest own idx C nm ds host ∈ lw_tbl) (hr0 : zar (t + 2) = none) (hF : ∀ o : Nat, (o : Int) = x → zFo (t + 2) o k (C, nm, ds, fin) ∧ (zfl (t + 2) o)[k]? = some (0, c, a, b)) (h0 : 0 ≤ x) (kk : ∀ v : Int, zR K (pc + 3) ls ((tc, v) :: st) (f v)) : zR K pc ls ((t + 2, x) :: st) (zgf c x f) := by
  obtain ⟨p, l, e, R, s, m, args, below, meth, cde, G, nL, tr⟩ := K
  obtain ⟨hx, hb, hr, hlk, hml, hown, hts, hK, hN, hZ, hI, hR⟩ := E
  intro M r M' hX hM hl hst H locs hP hS lsA hL
  obtain ⟨ho, hxo⟩ := zon hz hst.hd h0
  obtain ⟨⟨q, hq1, hq2, hq3, hq4⟩, hf⟩ := hF x.toNat hxo
  obtain ⟨q0, -, he⟩ := zat (G := G) (M := M) (zmem ho)
  rw [zce_o hr0] at he
  rw [List.map_cons, zv_ref (by omega)]
  subst hty
  have hv := hM c x 0
  refine va_getN hx hb hts hq4 hown hK hP q0 he (C := q.1) (T := q.2.1) (N := q.2.2) hq1 k hq2 (by rw [hq3]; exact (va_Nw.use rfl (hN _ hw rfl))) (by rw [hq3]; exact fun _ h => h) (v := zv G (zty c, M c x 0)) ?_ hd (kk (M c x 0) M r M' hX hM hl (hst.tl.cons hv) H locs hP hS lsA hL)
  rw [List.getElem?_map, hf]
  show some (zfv G x.toNat M (0, c, a, b)) = _
  unfold zfv
  rw [if_pos rfl, hxo]
theorem r_gecN {K : zK} {cd : ByteArray} {own : String} {ret : Option FieldType} {d : Nat} (E : zE K cd own ret d) {pc : Nat} {ls : List (Nat × Nat × Int)} {st : List (Nat × Int)} {X : zX} {t c k idx : Nat} {x y : Int} {C nm ds : String} {fin : Bool} (hz : zcn (t + 2) = zcnt (t + 2)) (hd : decode cd pc = .ok (.getfield idx, 3)) {host : String} (hw : Cond.fieldLinkNest own idx C nm ds host ∈ lw_tbl) (hr0 : zar (t + 2) = none) (hF : ∀ o : Nat, (o : Int) = x → o < zcnt (t + 2) → zFo (t + 2) o k (C, nm, ds, fin) ∧ ∃ a b : Int, (zfl (t + 2) o)[k]? = some (1, c, a, b) ∧ a * x + b = y) (h0 : 0 ≤ x) (kk : zR K (pc + 3) ls ((c, y) :: st) X) : zR K pc ls ((t + 2, x) :: st) X := by
  obtain ⟨p, l, e, R, s, m, args, below, meth, cde, G, nL, tr⟩ := K
  obtain ⟨hx, hb, hr, hlk, hml, hown, hts, hK, hN, hZ, hI, hR⟩ := E
  intro M r M' hX hM hl hst H locs hP hS lsA hL
  obtain ⟨ho, hxo⟩ := zon hz hst.hd h0
  obtain ⟨⟨q, hq1, hq2, hq3, hq4⟩, a, b, hf, hy⟩ := hF x.toNat hxo ho
  obtain ⟨q0, -, he⟩ := zat (G := G) (M := M) (zmem ho)
  rw [zce_o hr0] at he
  rw [List.map_cons, zv_ref (by omega)]
  have hv := zcst ho hf
  rw [hxo, hy] at hv
  refine va_getN hx hb hts hq4 hown hK hP q0 he (C := q.1) (T := q.2.1) (N := q.2.2) hq1 k hq2 (by rw [hq3]; exact (va_Nw.use rfl (hN _ hw rfl))) (by rw [hq3]; exact fun _ h => h) (v := zv G (c, y)) ?_ hd (kk M r M' hX hM hl (hst.tl.cons hv) H locs hP hS lsA hL)
  rw [List.getElem?_map, hf]
  show some (zfv G x.toNat M (1, c, a, b)) = _
  unfold zfv
  rw [if_neg (show ¬ (1 : Nat) = 0 by decide), hxo, hy]
theorem r_putN {K : zK} {cd : ByteArray} {own : String} {ret : Option FieldType} {d : Nat} (E : zE K cd own ret d) {pc : Nat} {ls : List (Nat × Nat × Int)} {st : List (Nat × Int)} {X : zX} {t c tc k idx : Nat} {x v a b : Int} {q : vw_C} {C nm ds : String} {ft : FieldType} (hz : zcn (t + 2) = zcnt (t + 2)) (hty : zty c = tc) (how : zown c = t + 2) (hd : decode cd pc = .ok (.putfield idx, 3)) {host : String} (hw : Cond.fieldLinkNest own idx C nm ds host ∈ lw_tbl) (hr0 : zar (t + 2) = none) (hF : zFw (t + 2) q) (hpb : k < q.2.2 ∧ q.2.1 k = (C, nm, ds, false) ∧ (∀ o : Nat, (zfl (t + 2) o)[k]? = some (0, c, a, b)) ∧ parseFieldDescriptor ds = some ft) (hnar : ∀ G : zG, narrow ft (zv G (tc, v)) = zv G (tc, v)) (hfit : ∀ G : zG, fits ft (zv G (tc, v)) = true) (h0 : 0 ≤ x) (kk : zR K (pc + 3) ls st X) : zR K pc ls ((tc, v) :: (t + 2, x) :: st) (zpf c x v X) := by
  obtain ⟨p, l, e, R, s, m, args, below, meth, cde, G, nL, tr⟩ := K
  obtain ⟨hx, hb, hr, hlk, hml, hown, hts, hK, hN, hZ, hI, hR⟩ := E
  intro M r M' hX hM hl hst H locs hP hS lsA hL
  obtain ⟨ho, hxo⟩ := zon hz hst.tl.hd h0
  obtain ⟨hq1, hq4, ⟨ty0, hty0⟩, hnm⟩ := hF
  obtain ⟨hk, hT, hf, hft⟩ := hpb
  obtain ⟨q0, hq0, he⟩ := zat (G := G) (M := M) (zmem ho)
  have he' := he
  rw [zce_o hr0] at he
  rw [List.map_cons, List.map_cons, zv_ref (t := t) (x := x) (by omega)]
  have hv := hst.hd
  subst hty
  refine va_putN hx hb hts hq4 ty0 hty0 hnm hown hK hP (zD hI) hS q0 he (C := q.1) (T := q.2.1) (N := q.2.2) (hq1 x.toNat) k hk (by rw [hT]; exact (va_Nw.use rfl (hN _ hw rfl))) (by rw [hT]; exact fun _ h => h) (by rw [hT]) (ty := ft) (by rw [hT]; exact hft) (hnar G) (hfit G) (by rw [List.length_map]; exact (List.getElem?_eq_some_iff.mp (hf x.toNat)).1) hd (fun H1 locs1 hP1 _ hS1 => ?_)
  have hset : (zwl G M).set q0 (G.2.1 (t + 2) x.toNat, .inr (zci (t + 2) x.toNat, ((zfl (t + 2) x.toNat).map (zfv G x.toNat M)).set k (zv G (zty c, v)))) = zwl G (zup M c x 0 v) := by
    rw [zfs_set (hf x.toNat), ← zce_o hr0]
    have := zwl_set (G := G) (M := M) (i := 0) (v := v) hq0 how rfl
    rw [hxo] at this
    rw [hxo]
    exact this
  rw [hset] at hP1
  refine kk (zup M c x 0 v) r M' hX (fun c' o' i' => ?_) hl hst.tl.tl H1 locs1 hP1 hS1 lsA hL
  unfold zup
  split
  · rename_i e1; rw [e1.1]; exact hv
  · exact hM c' o' i'
theorem zpb_pf {c : Nat} {x v : Int} {X : zX} {M : zM} {r : Int × zM} (h : zpb c x v X M = some r) : (v = 0 ∨ v = 1) ∧ zpf c x v X M = some r := by
  unfold zpb at h
  by_cases hv : v = 0 ∨ v = 1
  · rw [if_pos hv] at h; exact ⟨hv, h⟩
  · rw [if_neg hv] at h; cases h
theorem r_pb {K : zK} {pc c : Nat} {ls : List (Nat × Nat × Int)} {st : List (Nat × Int)} {x v : Int} {X : zX} (kk : v = 0 ∨ v = 1 → zR K pc ls st (zpf c x v X)) : zR K pc ls st (zpb c x v X) := by
  obtain ⟨p, l, e, R, s, m, args, below, meth, cde, G, nL, tr⟩ := K
  intro M r M' hX
  obtain ⟨h1, h2⟩ := zpb_pf hX
  exact kk h1 M r M' h2
theorem znb {v : Int} (h : v = 0 ∨ v = 1) (G : zG) : narrow .boolean (zv G (0, v)) = zv G (0, v) := by rcases h with rfl | rfl <;> rfl
theorem zfb {v : Int} (h : v = 0 ∨ v = 1) (G : zG) : fits .boolean (zv G (0, v)) = true := by rcases h with rfl | rfl <;> rfl
theorem zfo {t : Nat} {v : Int} {C : String} (G : zG) : fits (.object C) (zv G (t + 2, v)) = true := by
  by_cases h : v < 0
  · rw [zv_null h]; rfl
  · rw [zv_ref h]; rfl
theorem zin {i : Int} {n : Nat} (h0 : zOv (0, i)) (h1 : 0 ≤ i) (h2 : i < (n : Int)) : vp_in (Int32.ofInt i) n ∧ (Int32.ofInt i).toNatClampNeg = i.toNat := by
  have e : (Int32.ofInt i).toNatClampNeg = i.toNat := by
    show (Int32.ofInt i).toInt.toNat = _
    rw [zt32 h0]
  refine ⟨?_, e⟩
  rintro (h | h)
  · have := (zlt32 h0 (by simp only [zOv]; omega : zOv (0, 0))).mp h
    omega
  · rw [e] at h
    omega
theorem zac_i {G : zG} {t o : Nat} {M : zM} {a : Nat × Int × Int × Nat} (h : zty t = 0) : zac G t o M a = (zalen t o a.2.2.2, .inl (fun i => Int32.ofInt (zel t o M a i))) := by unfold zac; rw [h]
theorem zac_l {G : zG} {t o : Nat} {M : zM} {a : Nat × Int × Int × Nat} (h : zty t = 1) : zac G t o M a = (zalen t o a.2.2.2, .inr (.inl (fun i => Int64.ofInt (zel t o M a i)))) := by unfold zac; rw [h]
theorem zac_q {G : zG} {t o dd : Nat} {M : zM} {a : Nat × Int × Int × Nat} (h : zty t = dd + 2) : zac G t o M a = (zalen t o a.2.2.2, .inr (.inr (.inr (.inr (fun i => zad G (dd + 2) (zel t o M a i)))))) := by unfold zac; rw [h]
theorem zal_if {c : Nat} {x i n : Int} {f : Int → zX} {M : zM} {r : Int × zM} (h : zal c x i n f M = some r) : (0 ≤ i ∧ i < n) ∧ f (M c x i) M = some r := by
  unfold zal at h
  by_cases hv : 0 ≤ i ∧ i < n
  · rw [if_pos hv] at h; exact ⟨hv, h⟩
  · rw [if_neg hv] at h; cases h
theorem zas_if {c : Nat} {x i n v : Int} {X : zX} {M : zM} {r : Int × zM} (h : zas c x i n v X M = some r) : (0 ≤ i ∧ i < n) ∧ X (zup M c x i v) = some r := by
  unfold zas at h
  by_cases hv : 0 ≤ i ∧ i < n
  · rw [if_pos hv] at h; exact ⟨hv, h⟩
  · rw [if_neg hv] at h; cases h
theorem zct_if {c : Nat} {i n : Int} {f : Int → zX} {M : zM} {r : Int × zM} (h : zct c i n f M = some r) : (0 ≤ i ∧ i < n) ∧ f (zctv c i) M = some r := by
  unfold zct at h
  by_cases hv : 0 ≤ i ∧ i < n
  · rw [if_pos hv] at h; exact ⟨hv, h⟩
  · rw [if_neg hv] at h; cases h
theorem zib_if {i n : Int} {X : zX} {M : zM} {r : Int × zM} (h : zib i n X M = some r) : (0 ≤ i ∧ i < n) ∧ X M = some r := by
  unfold zib at h
  by_cases hv : 0 ≤ i ∧ i < n
  · rw [if_pos hv] at h; exact ⟨hv, h⟩
  · rw [if_neg hv] at h; cases h
theorem zOM.up {M : zM} {c : Nat} {x i v : Int} (h : zOM M) (hv : zOv (zty c, v)) : zOM (zup M c x i v) := fun c' o' i' => by
  unfold zup
  split
  · rename_i e1; rw [e1.1]; exact hv
  · exact h c' o' i'
theorem r_iaload {K : zK} {cd : ByteArray} {own : String} {ret : Option FieldType} {d : Nat} (E : zE K cd own ret d) {pc : Nat} {ls : List (Nat × Nat × Int)} {st : List (Nat × Int)} {c t0 : Nat} {x i n : Int} {a : Nat × Int × Int × Nat} {f : Int → zX} (hz : zcn (c + 2) = zcnt (c + 2)) (har : zar (c + 2) = some a) (hty : zty (c + 2) = 0) (hzt : zARt[t0]? = some (c + 2, .int)) (hk0 : a.1 = 0) (hln : n = (zalen (c + 2) x.toNat a.2.2.2 : Int)) (hd : decode cd pc = .ok (.iaload, 1)) (h0 : 0 ≤ x) (kk : ∀ v : Int, zR K (pc + 1) ls ((0, v) :: st) (f v)) : zR K pc ls ((0, i) :: (c + 2, x) :: st) (zal (c + 2) x i n f) := by
  obtain ⟨p, l, e, R, s, m, args, below, meth, cde, G, nL, tr⟩ := K
  obtain ⟨hx, hb, hr, hlk, hml, hown, hts, hK, hN, hZ, hI, hR⟩ := E
  intro M r M' hX hM hl hst H locs hP hS lsA hL
  have hX2 := zal_if hX
  clear hX
  obtain ⟨⟨hi1, hi2⟩, hX⟩ := hX2
  obtain ⟨ho, hxo⟩ := zon hz hst.tl.hd h0
  obtain ⟨q0, -, he⟩ := zat (G := G) (M := M) (zmem ho)
  rw [zce_a har, zac_i hty] at he
  have ht : (ztys G)[t0]? = some (G.2.2 (c + 2), .int) := by rw [ztys, List.getElem?_map, hzt]; rfl
  rw [List.map_cons, List.map_cons, zv_ref (t := c) (x := x) (by omega)]
  subst hln
  obtain ⟨hin, hcl⟩ := zin hst.hd hi1 hi2
  have hv := hM (c + 2) x i
  rw [hty] at hv
  refine va_iald hx hb hK hP q0 t0 he ht hin hd ?_
  have kk := kk _ M r M' hX hM hl (hst.tl.tl.cons hv) H locs hP hS lsA hL
  rw [hcl]
  have e : zel (c + 2) x.toNat M a i.toNat = M (c + 2) x i := by
    unfold zel
    rw [if_pos hk0, hxo, Int.toNat_of_nonneg hi1]
  rw [e]
  exact kk
theorem r_baload {K : zK} {cd : ByteArray} {own : String} {ret : Option FieldType} {d : Nat} (E : zE K cd own ret d) {pc : Nat} {ls : List (Nat × Nat × Int)} {st : List (Nat × Int)} {c t0 : Nat} {x i n : Int} {a : Nat × Int × Int × Nat} {f : Int → zX} (hz : zcn (c + 2) = zcnt (c + 2)) (har : zar (c + 2) = some a) (hty : zty (c + 2) = 0) (hzt : zARt[t0]? = some (c + 2, .byte)) (hk0 : a.1 = 0) (hln : n = (zalen (c + 2) x.toNat a.2.2.2 : Int)) (hd : decode cd pc = .ok (.baload, 1)) (h0 : 0 ≤ x) (kk : ∀ v : Int, zR K (pc + 1) ls ((0, v) :: st) (f v)) : zR K pc ls ((0, i) :: (c + 2, x) :: st) (zal (c + 2) x i n f) := by
  obtain ⟨p, l, e, R, s, m, args, below, meth, cde, G, nL, tr⟩ := K
  obtain ⟨hx, hb, hr, hlk, hml, hown, hts, hK, hN, hZ, hI, hR⟩ := E
  intro M r M' hX hM hl hst H locs hP hS lsA hL
  have hX2 := zal_if hX
  clear hX
  obtain ⟨⟨hi1, hi2⟩, hX⟩ := hX2
  obtain ⟨ho, hxo⟩ := zon hz hst.tl.hd h0
  obtain ⟨q0, -, he⟩ := zat (G := G) (M := M) (zmem ho)
  rw [zce_a har, zac_i hty] at he
  have ht : (ztys G)[t0]? = some (G.2.2 (c + 2), .byte) := by rw [ztys, List.getElem?_map, hzt]; rfl
  rw [List.map_cons, List.map_cons, zv_ref (t := c) (x := x) (by omega)]
  subst hln
  obtain ⟨hin, hcl⟩ := zin hst.hd hi1 hi2
  have hv := hM (c + 2) x i
  rw [hty] at hv
  refine va_bald hx hb hK hP q0 t0 he ht hin hd ?_
  have kk := kk _ M r M' hX hM hl (hst.tl.tl.cons hv) H locs hP hS lsA hL
  rw [hcl]
  have e : zel (c + 2) x.toNat M a i.toNat = M (c + 2) x i := by
    unfold zel
    rw [if_pos hk0, hxo, Int.toNat_of_nonneg hi1]
  rw [e]
  exact kk
theorem r_baloadz {K : zK} {cd : ByteArray} {own : String} {ret : Option FieldType} {d : Nat} (E : zE K cd own ret d) {pc : Nat} {ls : List (Nat × Nat × Int)} {st : List (Nat × Int)} {c t0 : Nat} {x i n : Int} {a : Nat × Int × Int × Nat} {f : Int → zX} (hz : zcn (c + 2) = zcnt (c + 2)) (har : zar (c + 2) = some a) (hty : zty (c + 2) = 0) (hzt : zARt[t0]? = some (c + 2, .boolean)) (hk0 : a.1 = 0) (hln : n = (zalen (c + 2) x.toNat a.2.2.2 : Int)) (hd : decode cd pc = .ok (.baload, 1)) (h0 : 0 ≤ x) (kk : ∀ v : Int, zR K (pc + 1) ls ((0, v) :: st) (f v)) : zR K pc ls ((0, i) :: (c + 2, x) :: st) (zal (c + 2) x i n f) := by
  obtain ⟨p, l, e, R, s, m, args, below, meth, cde, G, nL, tr⟩ := K
  obtain ⟨hx, hb, hr, hlk, hml, hown, hts, hK, hN, hZ, hI, hR⟩ := E
  intro M r M' hX hM hl hst H locs hP hS lsA hL
  have hX2 := zal_if hX
  clear hX
  obtain ⟨⟨hi1, hi2⟩, hX⟩ := hX2
  obtain ⟨ho, hxo⟩ := zon hz hst.tl.hd h0
  obtain ⟨q0, -, he⟩ := zat (G := G) (M := M) (zmem ho)
  rw [zce_a har, zac_i hty] at he
  have ht : (ztys G)[t0]? = some (G.2.2 (c + 2), .boolean) := by rw [ztys, List.getElem?_map, hzt]; rfl
  rw [List.map_cons, List.map_cons, zv_ref (t := c) (x := x) (by omega)]
  subst hln
  obtain ⟨hin, hcl⟩ := zin hst.hd hi1 hi2
  have hv := hM (c + 2) x i
  rw [hty] at hv
  refine va_zald hx hb hK hP q0 t0 he ht hin hd ?_
  have kk := kk _ M r M' hX hM hl (hst.tl.tl.cons hv) H locs hP hS lsA hL
  rw [hcl]
  have e : zel (c + 2) x.toNat M a i.toNat = M (c + 2) x i := by
    unfold zel
    rw [if_pos hk0, hxo, Int.toNat_of_nonneg hi1]
  rw [e]
  exact kk
theorem r_caload {K : zK} {cd : ByteArray} {own : String} {ret : Option FieldType} {d : Nat} (E : zE K cd own ret d) {pc : Nat} {ls : List (Nat × Nat × Int)} {st : List (Nat × Int)} {c t0 : Nat} {x i n : Int} {a : Nat × Int × Int × Nat} {f : Int → zX} (hz : zcn (c + 2) = zcnt (c + 2)) (har : zar (c + 2) = some a) (hty : zty (c + 2) = 0) (hzt : zARt[t0]? = some (c + 2, .char)) (hk0 : a.1 = 0) (hln : n = (zalen (c + 2) x.toNat a.2.2.2 : Int)) (hd : decode cd pc = .ok (.caload, 1)) (h0 : 0 ≤ x) (kk : ∀ v : Int, zR K (pc + 1) ls ((0, v) :: st) (f v)) : zR K pc ls ((0, i) :: (c + 2, x) :: st) (zal (c + 2) x i n f) := by
  obtain ⟨p, l, e, R, s, m, args, below, meth, cde, G, nL, tr⟩ := K
  obtain ⟨hx, hb, hr, hlk, hml, hown, hts, hK, hN, hZ, hI, hR⟩ := E
  intro M r M' hX hM hl hst H locs hP hS lsA hL
  have hX2 := zal_if hX
  clear hX
  obtain ⟨⟨hi1, hi2⟩, hX⟩ := hX2
  obtain ⟨ho, hxo⟩ := zon hz hst.tl.hd h0
  obtain ⟨q0, -, he⟩ := zat (G := G) (M := M) (zmem ho)
  rw [zce_a har, zac_i hty] at he
  have ht : (ztys G)[t0]? = some (G.2.2 (c + 2), .char) := by rw [ztys, List.getElem?_map, hzt]; rfl
  rw [List.map_cons, List.map_cons, zv_ref (t := c) (x := x) (by omega)]
  subst hln
  obtain ⟨hin, hcl⟩ := zin hst.hd hi1 hi2
  have hv := hM (c + 2) x i
  rw [hty] at hv
  refine va_cald hx hb hK hP q0 t0 he ht hin hd ?_
  have kk := kk _ M r M' hX hM hl (hst.tl.tl.cons hv) H locs hP hS lsA hL
  rw [hcl]
  have e : zel (c + 2) x.toNat M a i.toNat = M (c + 2) x i := by
    unfold zel
    rw [if_pos hk0, hxo, Int.toNat_of_nonneg hi1]
  rw [e]
  exact kk
theorem r_laload {K : zK} {cd : ByteArray} {own : String} {ret : Option FieldType} {d : Nat} (E : zE K cd own ret d) {pc : Nat} {ls : List (Nat × Nat × Int)} {st : List (Nat × Int)} {c t0 : Nat} {x i n : Int} {a : Nat × Int × Int × Nat} {f : Int → zX} (hz : zcn (c + 2) = zcnt (c + 2)) (har : zar (c + 2) = some a) (hty : zty (c + 2) = 1) (hzt : zARt[t0]? = some (c + 2, .long)) (hk0 : a.1 = 0) (hln : n = (zalen (c + 2) x.toNat a.2.2.2 : Int)) (hd : decode cd pc = .ok (.laload, 1)) (h0 : 0 ≤ x) (kk : ∀ v : Int, zR K (pc + 1) ls ((1, v) :: st) (f v)) : zR K pc ls ((0, i) :: (c + 2, x) :: st) (zal (c + 2) x i n f) := by
  obtain ⟨p, l, e, R, s, m, args, below, meth, cde, G, nL, tr⟩ := K
  obtain ⟨hx, hb, hr, hlk, hml, hown, hts, hK, hN, hZ, hI, hR⟩ := E
  intro M r M' hX hM hl hst H locs hP hS lsA hL
  have hX2 := zal_if hX
  clear hX
  obtain ⟨⟨hi1, hi2⟩, hX⟩ := hX2
  obtain ⟨ho, hxo⟩ := zon hz hst.tl.hd h0
  obtain ⟨q0, -, he⟩ := zat (G := G) (M := M) (zmem ho)
  rw [zce_a har, zac_l hty] at he
  have ht : (ztys G)[t0]? = some (G.2.2 (c + 2), .long) := by rw [ztys, List.getElem?_map, hzt]; rfl
  rw [List.map_cons, List.map_cons, zv_ref (t := c) (x := x) (by omega)]
  subst hln
  obtain ⟨hin, hcl⟩ := zin hst.hd hi1 hi2
  have hv := hM (c + 2) x i
  rw [hty] at hv
  refine va_lald hx hb hK hP q0 t0 he ht hin hd ?_
  have kk := kk _ M r M' hX hM hl (hst.tl.tl.cons hv) H locs hP hS lsA hL
  rw [hcl]
  have e : zel (c + 2) x.toNat M a i.toNat = M (c + 2) x i := by
    unfold zel
    rw [if_pos hk0, hxo, Int.toNat_of_nonneg hi1]
  rw [e]
  exact kk
theorem r_lact {K : zK} {cd : ByteArray} {own : String} {ret : Option FieldType} {d : Nat} (E : zE K cd own ret d) {pc : Nat} {ls : List (Nat × Nat × Int)} {st : List (Nat × Int)} {c t0 : Nat} {x i n : Int} {a : Nat × Int × Int × Nat} {f : Int → zX} (hz : zcn (c + 2) = zcnt (c + 2)) (har : zar (c + 2) = some a) (hty : zty (c + 2) = 1) (hzt : zARt[t0]? = some (c + 2, .long)) (hk0 : a.1 = 2) (hln : n = (zalen (c + 2) x.toNat a.2.2.2 : Int)) (hl0 : zalen (c + 2) x.toNat a.2.2.2 = a.2.2.2) (hd : decode cd pc = .ok (.laload, 1)) (h0 : 0 ≤ x) (kk : ∀ v : Int, zR K (pc + 1) ls ((1, v) :: st) (f v)) : zR K pc ls ((0, i) :: (c + 2, x) :: st) (zct (c + 2) i n f) := by
  obtain ⟨p, l, e, R, s, m, args, below, meth, cde, G, nL, tr⟩ := K
  obtain ⟨hx, hb, hr, hlk, hml, hown, hts, hK, hN, hZ, hI, hR⟩ := E
  intro M r M' hX hM hl hst H locs hP hS lsA hL
  have hX2 := zct_if hX
  clear hX
  obtain ⟨⟨hi1, hi2⟩, hX⟩ := hX2
  obtain ⟨ho, hxo⟩ := zon hz hst.tl.hd h0
  obtain ⟨q0, -, he⟩ := zat (G := G) (M := M) (zmem ho)
  rw [zce_a har, zac_l hty] at he
  have ht : (ztys G)[t0]? = some (G.2.2 (c + 2), .long) := by rw [ztys, List.getElem?_map, hzt]; rfl
  rw [List.map_cons, List.map_cons, zv_ref (t := c) (x := x) (by omega)]
  subst hln
  obtain ⟨hin, hcl⟩ := zin hst.hd hi1 hi2
  have hv : zOv (1, zctv (c + 2) i) := by
    have := zctb_ok (c + 2, a) (zlook_mem har) hk0 i.toNat (List.mem_range.mpr (by show i.toNat < a.2.2.2; omega))
    rw [Int.toNat_of_nonneg hi1] at this
    have h2 := zOvB_ok this
    rw [show zty (c + 2, a).1 = 1 from hty] at h2
    exact h2
  refine va_lald hx hb hK hP q0 t0 he ht hin hd ?_
  have kk := kk _ M r M' hX hM hl (hst.tl.tl.cons hv) H locs hP hS lsA hL
  rw [hcl]
  have e : zel (c + 2) x.toNat M a i.toNat = zctv (c + 2) i := by
    unfold zel
    rw [if_neg (by omega), if_neg (by omega), Int.toNat_of_nonneg hi1]
  rw [e]
  exact kk
theorem r_aaload {K : zK} {cd : ByteArray} {own : String} {ret : Option FieldType} {d : Nat} (E : zE K cd own ret d) {pc : Nat} {ls : List (Nat × Nat × Int)} {st : List (Nat × Int)} {c t0 : Nat} {x i n : Int} {a : Nat × Int × Int × Nat} {dd : Nat} {Cn : String} {f : Int → zX} (hz : zcn (c + 2) = zcnt (c + 2)) (har : zar (c + 2) = some a) (hty : zty (c + 2) = dd + 2) (hzt : zARt[t0]? = some (c + 2, .object Cn)) (hk0 : a.1 = 0) (hln : n = (zalen (c + 2) x.toNat a.2.2.2 : Int)) (hd : decode cd pc = .ok (.aaload, 1)) (h0 : 0 ≤ x) (kk : ∀ v : Int, zR K (pc + 1) ls ((dd + 2, v) :: st) (f v)) : zR K pc ls ((0, i) :: (c + 2, x) :: st) (zal (c + 2) x i n f) := by
  obtain ⟨p, l, e, R, s, m, args, below, meth, cde, G, nL, tr⟩ := K
  obtain ⟨hx, hb, hr, hlk, hml, hown, hts, hK, hN, hZ, hI, hR⟩ := E
  intro M r M' hX hM hl hst H locs hP hS lsA hL
  have hX2 := zal_if hX
  clear hX
  obtain ⟨⟨hi1, hi2⟩, hX⟩ := hX2
  obtain ⟨ho, hxo⟩ := zon hz hst.tl.hd h0
  obtain ⟨q0, -, he⟩ := zat (G := G) (M := M) (zmem ho)
  rw [zce_a har, zac_q hty] at he
  have ht : (ztys G)[t0]? = some (G.2.2 (c + 2), .object Cn) := by rw [ztys, List.getElem?_map, hzt]; rfl
  rw [List.map_cons, List.map_cons, zv_ref (t := c) (x := x) (by omega)]
  subst hln
  obtain ⟨hin, hcl⟩ := zin hst.hd hi1 hi2
  have hv := hM (c + 2) x i
  rw [hty] at hv
  refine va_aldq hx hb hK hP q0 t0 he ht hin hd ?_
  have kk := kk _ M r M' hX hM hl (hst.tl.tl.cons hv) H locs hP hS lsA hL
  rw [hcl]
  have e : zel (c + 2) x.toNat M a i.toNat = M (c + 2) x i := by
    unfold zel
    rw [if_pos hk0, hxo, Int.toNat_of_nonneg hi1]
  rw [e, ← zv_ad]
  exact kk
theorem r_aaloc {K : zK} {cd : ByteArray} {own : String} {ret : Option FieldType} {d : Nat} (E : zE K cd own ret d) {pc : Nat} {ls : List (Nat × Nat × Int)} {st : List (Nat × Int)} {X : zX} {c t0 : Nat} {x i n : Int} {a1 b1 : Int} {n0 : Nat} {dd : Nat} {Cn : String} {y : Int} (hz : zcn (c + 2) = zcnt (c + 2)) (har : zar (c + 2) = some (1, a1, b1, n0)) (hty : zty (c + 2) = dd + 2) (hzt : zARt[t0]? = some (c + 2, .object Cn)) (hln : n = (n0 : Int)) (hl0 : zalen (c + 2) x.toNat n0 = n0) (hy : a1 * x + b1 + i = y) (hd : decode cd pc = .ok (.aaload, 1)) (h0 : 0 ≤ x) (kk : 0 ≤ i → zR K (pc + 1) ls ((dd + 2, y) :: st) X) : zR K pc ls ((0, i) :: (c + 2, x) :: st) (zib i n X) := by
  obtain ⟨p, l, e, R, s, m, args, below, meth, cde, G, nL, tr⟩ := K
  obtain ⟨hx, hb, hr, hlk, hml, hown, hts, hK, hN, hZ, hI, hR⟩ := E
  intro M r M' hX hM hl hst H locs hP hS lsA hL
  have hX2 := zib_if hX
  clear hX
  obtain ⟨⟨hi1, hi2⟩, hX⟩ := hX2
  obtain ⟨ho, hxo⟩ := zon hz hst.tl.hd h0
  obtain ⟨q0, -, he⟩ := zat (G := G) (M := M) (zmem ho)
  rw [zce_a har, zac_q hty] at he
  have ht : (ztys G)[t0]? = some (G.2.2 (c + 2), .object Cn) := by rw [ztys, List.getElem?_map, hzt]; rfl
  rw [List.map_cons, List.map_cons, zv_ref (t := c) (x := x) (by omega)]
  subst hln
  obtain ⟨hin, hcl⟩ := zin (n := zalen (c + 2) x.toNat n0) hst.hd hi1 (by rw [hl0]; exact hi2)
  have hv : zOv (dd + 2, y) := by
    have := zcar_ok (c + 2, 1, a1, b1, n0) (zlook_mem har) rfl x.toNat (List.mem_range.mpr ho) i.toNat (List.mem_range.mpr (by show i.toNat < n0; omega))
    rw [Int.toNat_of_nonneg hi1, hxo] at this
    have h2 := zOvB_ok this
    rw [show zty (c + 2, (1 : Nat), a1, b1, n0).1 = dd + 2 from hty] at h2
    rw [← hy]
    exact h2
  refine va_aldq hx hb hK hP q0 t0 he ht hin hd ?_
  have kk := kk hi1 M r M' hX hM hl (hst.tl.tl.cons hv) H locs hP hS lsA hL
  rw [hcl]
  have e : zel (c + 2) x.toNat M (1, a1, b1, n0) i.toNat = y := by
    unfold zel
    rw [if_neg (show ¬ (1 : Nat) = 0 by decide), if_pos rfl, hxo, Int.toNat_of_nonneg hi1, hy]
  rw [e, ← zv_ad]
  exact kk
theorem r_alen {K : zK} {cd : ByteArray} {own : String} {ret : Option FieldType} {d : Nat} (E : zE K cd own ret d) {pc : Nat} {ls : List (Nat × Nat × Int)} {st : List (Nat × Int)} {X : zX} {c t0 : Nat} {x n : Int} {a : Nat × Int × Int × Nat} {ft : FieldType} (hz : zcn (c + 2) = zcnt (c + 2)) (har : zar (c + 2) = some a) (hzt : zARt[t0]? = some (c + 2, ft)) (hln : n = (zalen (c + 2) x.toNat a.2.2.2 : Int)) (hok : zOv (0, n)) (hd : decode cd pc = .ok (.arraylength, 1)) (h0 : 0 ≤ x) (kk : zR K (pc + 1) ls ((0, n) :: st) X) : zR K pc ls ((c + 2, x) :: st) X := by
  obtain ⟨p, l, e, R, s, m, args, below, meth, cde, G, nL, tr⟩ := K
  obtain ⟨hx, hb, hr, hlk, hml, hown, hts, hK, hN, hZ, hI, hR⟩ := E
  intro M r M' hX hM hl hst H locs hP hS lsA hL
  obtain ⟨ho, hxo⟩ := zon hz hst.hd h0
  obtain ⟨q0, -, he⟩ := zat (G := G) (M := M) (zmem ho)
  rw [zce_a har] at he
  have ht : (ztys G)[t0]? = some (G.2.2 (c + 2), ft) := by rw [ztys, List.getElem?_map, hzt]; rfl
  rw [List.map_cons, zv_ref (t := c) (x := x) (by omega)]
  exact va_alen (v := Int32.ofInt n) hx hb hK hP q0 t0 he ht (by rw [hln]; rfl) hd (kk M r M' hX hM hl (hst.tl.cons hok) H locs hP hS lsA hL)
theorem zel_up {t o : Nat} {M : zM} {a : Nat × Int × Int × Nat} {x i v : Int} (h : a.1 = 0) (hx : (o : Int) = x) (hi : 0 ≤ i) (j : Nat) : zel t o (zup M t x i v) a j = if j = i.toNat then v else zel t o M a j := by
  unfold zel zup
  rw [if_pos h, if_pos h]
  by_cases hj : j = i.toNat
  · rw [if_pos hj, if_pos ⟨rfl, hx, by omega⟩]
  · rw [if_neg hj, if_neg (fun q => hj (by omega))]
theorem zas_funi {t o : Nat} {M : zM} {a : Nat × Int × Int × Nat} {x i v : Int} {k : Nat} {w : Int32} (h : a.1 = 0) (hx : (o : Int) = x) (hi : 0 ≤ i) (hk : k = i.toNat) (hw : w = Int32.ofInt v) : upd (fun j => Int32.ofInt (zel t o M a j)) k w = fun j => Int32.ofInt (zel t o (zup M t x i v) a j) := by
  funext j
  unfold upd
  rw [zel_up h hx hi, hk, hw]
  split <;> rfl
theorem zas_funl {t o : Nat} {M : zM} {a : Nat × Int × Int × Nat} {x i v : Int} {k : Nat} {w : Int64} (h : a.1 = 0) (hx : (o : Int) = x) (hi : 0 ≤ i) (hk : k = i.toNat) (hw : w = Int64.ofInt v) : vp_updL (fun j => Int64.ofInt (zel t o M a j)) k w = fun j => Int64.ofInt (zel t o (zup M t x i v) a j) := by
  funext j
  unfold vp_updL
  rw [zel_up h hx hi, hk, hw]
  split <;> rfl
theorem zas_funq {G : zG} {t o dd : Nat} {M : zM} {a : Nat × Int × Int × Nat} {x i v : Int} {k : Nat} {w : Option Nat} (h : a.1 = 0) (hx : (o : Int) = x) (hi : 0 ≤ i) (hk : k = i.toNat) (hw : w = zad G dd v) : va_up (fun j => zad G dd (zel t o M a j)) k w = fun j => zad G dd (zel t o (zup M t x i v) a j) := by
  funext j
  unfold va_up
  rw [zel_up h hx hi, hk, hw]
  split <;> rfl
theorem zi2c16 (x : Int) : vp_nar .char (Int32.ofInt x) = Int32.ofInt (x % 65536) := by
  show (Int32.ofInt x).toUInt32.toUInt16.toUInt32.toInt32 = _
  rw [← zi2c]
  apply Int32.toBitVec.inj
  show ((BitVec.ofInt 32 x).setWidth 16).setWidth 32 = BitVec.ofInt 32 x % 65536#32
  apply BitVec.eq_of_toNat_eq
  rw [BitVec.toNat_setWidth, BitVec.toNat_setWidth, BitVec.toNat_umod]
  simp
  omega
theorem r_iastore {K : zK} {cd : ByteArray} {own : String} {ret : Option FieldType} {d : Nat} (E : zE K cd own ret d) {pc : Nat} {ls : List (Nat × Nat × Int)} {st : List (Nat × Int)} {X : zX} {c t0 : Nat} {x i n : Int} {a : Nat × Int × Int × Nat} {v : Int} (hz : zcn (c + 2) = zcnt (c + 2)) (har : zar (c + 2) = some a) (hty : zty (c + 2) = 0) (how : zown (c + 2) = c + 2) (hzt : zARt[t0]? = some (c + 2, .int)) (hk0 : a.1 = 0) (hln : n = (zalen (c + 2) x.toNat a.2.2.2 : Int)) (hd : decode cd pc = .ok (.iastore, 1)) (h0 : 0 ≤ x) (kk : zR K (pc + 1) ls st X) : zR K pc ls ((0, v) :: (0, i) :: (c + 2, x) :: st) (zas (c + 2) x i n (v) X) := by
  obtain ⟨p, l, e, R, s, m, args, below, meth, cde, G, nL, tr⟩ := K
  obtain ⟨hx, hb, hr, hlk, hml, hown, hts, hK, hN, hZ, hI, hR⟩ := E
  intro M r M' hX hM hl hst H locs hP hS lsA hL
  have hX2 := zas_if hX
  clear hX
  obtain ⟨⟨hi1, hi2⟩, hX⟩ := hX2
  obtain ⟨ho, hxo⟩ := zon hz hst.tl.tl.hd h0
  obtain ⟨q0, hq0, he⟩ := zat (G := G) (M := M) (zmem ho)
  rw [zce_a har, zac_i hty] at he
  have ht : (ztys G)[t0]? = some (G.2.2 (c + 2), .int) := by rw [ztys, List.getElem?_map, hzt]; rfl
  rw [List.map_cons, List.map_cons, List.map_cons, zv_ref (t := c) (x := x) (by omega)]
  subst hln
  obtain ⟨hin, hcl⟩ := zin hst.tl.hd hi1 hi2
  have hv := hst.hd
  refine va_iast hx hb hK hP (zD hI) hS q0 t0 he ht hin hd (fun H1 locs1 hP1 _ hS1 => ?_)
  have hset := zwl_set (G := G) (M := M) (i := i) (v := v) hq0 how rfl
  rw [hxo, zce_a har, zac_i hty] at hset
  have hup : upd (fun j => Int32.ofInt (zel (c + 2) x.toNat M a j)) (Int32.ofInt i).toNatClampNeg (Int32.ofInt v) = (fun j => Int32.ofInt (zel (c + 2) x.toNat (zup M (c + 2) x i (v)) a j)) := by
    apply zas_funi hk0 hxo hi1 hcl
    rfl
  rw [hup] at hP1
  rw [hset] at hP1
  exact kk _ r M' hX (hM.up (by rw [hty]; exact hv)) hl hst.tl.tl.tl H1 locs1 hP1 hS1 lsA hL
theorem r_bastore {K : zK} {cd : ByteArray} {own : String} {ret : Option FieldType} {d : Nat} (E : zE K cd own ret d) {pc : Nat} {ls : List (Nat × Nat × Int)} {st : List (Nat × Int)} {X : zX} {c t0 : Nat} {x i n : Int} {a : Nat × Int × Int × Nat} {v : Int} (hz : zcn (c + 2) = zcnt (c + 2)) (har : zar (c + 2) = some a) (hty : zty (c + 2) = 0) (how : zown (c + 2) = c + 2) (hzt : zARt[t0]? = some (c + 2, .byte)) (hk0 : a.1 = 0) (hln : n = (zalen (c + 2) x.toNat a.2.2.2 : Int)) (hd : decode cd pc = .ok (.bastore, 1)) (h0 : 0 ≤ x) (kk : zR K (pc + 1) ls st X) : zR K pc ls ((0, v) :: (0, i) :: (c + 2, x) :: st) (zas (c + 2) x i n (zb v) X) := by
  obtain ⟨p, l, e, R, s, m, args, below, meth, cde, G, nL, tr⟩ := K
  obtain ⟨hx, hb, hr, hlk, hml, hown, hts, hK, hN, hZ, hI, hR⟩ := E
  intro M r M' hX hM hl hst H locs hP hS lsA hL
  have hX2 := zas_if hX
  clear hX
  obtain ⟨⟨hi1, hi2⟩, hX⟩ := hX2
  obtain ⟨ho, hxo⟩ := zon hz hst.tl.tl.hd h0
  obtain ⟨q0, hq0, he⟩ := zat (G := G) (M := M) (zmem ho)
  rw [zce_a har, zac_i hty] at he
  have ht : (ztys G)[t0]? = some (G.2.2 (c + 2), .byte) := by rw [ztys, List.getElem?_map, hzt]; rfl
  rw [List.map_cons, List.map_cons, List.map_cons, zv_ref (t := c) (x := x) (by omega)]
  subst hln
  obtain ⟨hin, hcl⟩ := zin hst.tl.hd hi1 hi2
  have hv := hst.hd
  refine va_bast hx hb hK hP (zD hI) hS q0 t0 he ht hin hd (fun H1 locs1 hP1 _ hS1 => ?_)
  have hset := zwl_set (G := G) (M := M) (i := i) (v := zb v) hq0 how rfl
  rw [hxo, zce_a har, zac_i hty] at hset
  have hup : upd (fun j => Int32.ofInt (zel (c + 2) x.toNat M a j)) (Int32.ofInt i).toNatClampNeg (vp_nar .byte (Int32.ofInt v)) = (fun j => Int32.ofInt (zel (c + 2) x.toNat (zup M (c + 2) x i (zb v)) a j)) := by
    apply zas_funi hk0 hxo hi1 hcl
    exact zi2b v
  rw [hup] at hP1
  rw [hset] at hP1
  exact kk _ r M' hX (hM.up (by rw [hty]; exact by simp only [zOv, zb]; omega)) hl hst.tl.tl.tl H1 locs1 hP1 hS1 lsA hL
theorem r_zastore {K : zK} {cd : ByteArray} {own : String} {ret : Option FieldType} {d : Nat} (E : zE K cd own ret d) {pc : Nat} {ls : List (Nat × Nat × Int)} {st : List (Nat × Int)} {X : zX} {c t0 : Nat} {x i n : Int} {a : Nat × Int × Int × Nat} {v : Int} (hz : zcn (c + 2) = zcnt (c + 2)) (har : zar (c + 2) = some a) (hty : zty (c + 2) = 0) (how : zown (c + 2) = c + 2) (hzt : zARt[t0]? = some (c + 2, .boolean)) (hk0 : a.1 = 0) (hln : n = (zalen (c + 2) x.toNat a.2.2.2 : Int)) (hd : decode cd pc = .ok (.bastore, 1)) (h0 : 0 ≤ x) (kk : zR K (pc + 1) ls st X) : zR K pc ls ((0, v) :: (0, i) :: (c + 2, x) :: st) (zas (c + 2) x i n (v % 2) X) := by
  obtain ⟨p, l, e, R, s, m, args, below, meth, cde, G, nL, tr⟩ := K
  obtain ⟨hx, hb, hr, hlk, hml, hown, hts, hK, hN, hZ, hI, hR⟩ := E
  intro M r M' hX hM hl hst H locs hP hS lsA hL
  have hX2 := zas_if hX
  clear hX
  obtain ⟨⟨hi1, hi2⟩, hX⟩ := hX2
  obtain ⟨ho, hxo⟩ := zon hz hst.tl.tl.hd h0
  obtain ⟨q0, hq0, he⟩ := zat (G := G) (M := M) (zmem ho)
  rw [zce_a har, zac_i hty] at he
  have ht : (ztys G)[t0]? = some (G.2.2 (c + 2), .boolean) := by rw [ztys, List.getElem?_map, hzt]; rfl
  rw [List.map_cons, List.map_cons, List.map_cons, zv_ref (t := c) (x := x) (by omega)]
  subst hln
  obtain ⟨hin, hcl⟩ := zin hst.tl.hd hi1 hi2
  have hv := hst.hd
  refine va_zast hx hb hK hP (zD hI) hS q0 t0 he ht hin hd (fun H1 locs1 hP1 _ hS1 => ?_)
  have hset := zwl_set (G := G) (M := M) (i := i) (v := v % 2) hq0 how rfl
  rw [hxo, zce_a har, zac_i hty] at hset
  have hup : upd (fun j => Int32.ofInt (zel (c + 2) x.toNat M a j)) (Int32.ofInt i).toNatClampNeg (vp_nar .boolean (Int32.ofInt v)) = (fun j => Int32.ofInt (zel (c + 2) x.toNat (zup M (c + 2) x i (v % 2)) a j)) := by
    apply zas_funi hk0 hxo hi1 hcl
    exact (zmask32 (x := v) (m := 1) (P := 2) (k := 1) (by decide) (by decide) (by decide)).symm
  rw [hup] at hP1
  rw [hset] at hP1
  exact kk _ r M' hX (hM.up (by rw [hty]; exact by simp only [zOv]; omega)) hl hst.tl.tl.tl H1 locs1 hP1 hS1 lsA hL
theorem r_castore {K : zK} {cd : ByteArray} {own : String} {ret : Option FieldType} {d : Nat} (E : zE K cd own ret d) {pc : Nat} {ls : List (Nat × Nat × Int)} {st : List (Nat × Int)} {X : zX} {c t0 : Nat} {x i n : Int} {a : Nat × Int × Int × Nat} {v : Int} (hz : zcn (c + 2) = zcnt (c + 2)) (har : zar (c + 2) = some a) (hty : zty (c + 2) = 0) (how : zown (c + 2) = c + 2) (hzt : zARt[t0]? = some (c + 2, .char)) (hk0 : a.1 = 0) (hln : n = (zalen (c + 2) x.toNat a.2.2.2 : Int)) (hd : decode cd pc = .ok (.castore, 1)) (h0 : 0 ≤ x) (kk : zR K (pc + 1) ls st X) : zR K pc ls ((0, v) :: (0, i) :: (c + 2, x) :: st) (zas (c + 2) x i n (v % 65536) X) := by
  obtain ⟨p, l, e, R, s, m, args, below, meth, cde, G, nL, tr⟩ := K
  obtain ⟨hx, hb, hr, hlk, hml, hown, hts, hK, hN, hZ, hI, hR⟩ := E
  intro M r M' hX hM hl hst H locs hP hS lsA hL
  have hX2 := zas_if hX
  clear hX
  obtain ⟨⟨hi1, hi2⟩, hX⟩ := hX2
  obtain ⟨ho, hxo⟩ := zon hz hst.tl.tl.hd h0
  obtain ⟨q0, hq0, he⟩ := zat (G := G) (M := M) (zmem ho)
  rw [zce_a har, zac_i hty] at he
  have ht : (ztys G)[t0]? = some (G.2.2 (c + 2), .char) := by rw [ztys, List.getElem?_map, hzt]; rfl
  rw [List.map_cons, List.map_cons, List.map_cons, zv_ref (t := c) (x := x) (by omega)]
  subst hln
  obtain ⟨hin, hcl⟩ := zin hst.tl.hd hi1 hi2
  have hv := hst.hd
  refine va_cast hx hb hK hP (zD hI) hS q0 t0 he ht hin hd (fun H1 locs1 hP1 _ hS1 => ?_)
  have hset := zwl_set (G := G) (M := M) (i := i) (v := v % 65536) hq0 how rfl
  rw [hxo, zce_a har, zac_i hty] at hset
  have hup : upd (fun j => Int32.ofInt (zel (c + 2) x.toNat M a j)) (Int32.ofInt i).toNatClampNeg (vp_nar .char (Int32.ofInt v)) = (fun j => Int32.ofInt (zel (c + 2) x.toNat (zup M (c + 2) x i (v % 65536)) a j)) := by
    apply zas_funi hk0 hxo hi1 hcl
    exact zi2c16 v
  rw [hup] at hP1
  rw [hset] at hP1
  exact kk _ r M' hX (hM.up (by rw [hty]; exact by simp only [zOv]; omega)) hl hst.tl.tl.tl H1 locs1 hP1 hS1 lsA hL
theorem r_lastore {K : zK} {cd : ByteArray} {own : String} {ret : Option FieldType} {d : Nat} (E : zE K cd own ret d) {pc : Nat} {ls : List (Nat × Nat × Int)} {st : List (Nat × Int)} {X : zX} {c t0 : Nat} {x i n : Int} {a : Nat × Int × Int × Nat} {v : Int} (hz : zcn (c + 2) = zcnt (c + 2)) (har : zar (c + 2) = some a) (hty : zty (c + 2) = 1) (how : zown (c + 2) = c + 2) (hzt : zARt[t0]? = some (c + 2, .long)) (hk0 : a.1 = 0) (hln : n = (zalen (c + 2) x.toNat a.2.2.2 : Int)) (hd : decode cd pc = .ok (.lastore, 1)) (h0 : 0 ≤ x) (kk : zR K (pc + 1) ls st X) : zR K pc ls ((1, v) :: (0, i) :: (c + 2, x) :: st) (zas (c + 2) x i n (v) X) := by
  obtain ⟨p, l, e, R, s, m, args, below, meth, cde, G, nL, tr⟩ := K
  obtain ⟨hx, hb, hr, hlk, hml, hown, hts, hK, hN, hZ, hI, hR⟩ := E
  intro M r M' hX hM hl hst H locs hP hS lsA hL
  have hX2 := zas_if hX
  clear hX
  obtain ⟨⟨hi1, hi2⟩, hX⟩ := hX2
  obtain ⟨ho, hxo⟩ := zon hz hst.tl.tl.hd h0
  obtain ⟨q0, hq0, he⟩ := zat (G := G) (M := M) (zmem ho)
  rw [zce_a har, zac_l hty] at he
  have ht : (ztys G)[t0]? = some (G.2.2 (c + 2), .long) := by rw [ztys, List.getElem?_map, hzt]; rfl
  rw [List.map_cons, List.map_cons, List.map_cons, zv_ref (t := c) (x := x) (by omega)]
  subst hln
  obtain ⟨hin, hcl⟩ := zin hst.tl.hd hi1 hi2
  have hv := hst.hd
  refine va_last hx hb hK hP (zD hI) hS q0 t0 he ht hin hd (fun H1 locs1 hP1 _ hS1 => ?_)
  have hset := zwl_set (G := G) (M := M) (i := i) (v := v) hq0 how rfl
  rw [hxo, zce_a har, zac_l hty] at hset
  have hup : vp_updL (fun j => Int64.ofInt (zel (c + 2) x.toNat M a j)) (Int32.ofInt i).toNatClampNeg (Int64.ofInt v) = (fun j => Int64.ofInt (zel (c + 2) x.toNat (zup M (c + 2) x i v) a j)) := by
    apply zas_funl hk0 hxo hi1 hcl
    rfl
  rw [hup] at hP1
  rw [hset] at hP1
  exact kk _ r M' hX (hM.up (by rw [hty]; exact hv)) hl hst.tl.tl.tl H1 locs1 hP1 hS1 lsA hL
theorem r_aastore {K : zK} {cd : ByteArray} {own : String} {ret : Option FieldType} {d : Nat} (E : zE K cd own ret d) {pc : Nat} {ls : List (Nat × Nat × Int)} {st : List (Nat × Int)} {X : zX} {c t0 : Nat} {x i n : Int} {a : Nat × Int × Int × Nat} {dd : Nat} {q : vw_C} {v : Int} (hz : zcn (c + 2) = zcnt (c + 2)) (hz2 : zcn (dd + 2) = zcnt (dd + 2)) (har : zar (c + 2) = some a) (hty : zty (c + 2) = dd + 2) (how : zown (c + 2) = c + 2) (hzt : zARt[t0]? = some (c + 2, .object q.1)) (hr0 : zar (dd + 2) = none) (hF : zFw (dd + 2) q) (hk0 : a.1 = 0) (hln : n = (zalen (c + 2) x.toNat a.2.2.2 : Int)) (hd : decode cd pc = .ok (.aastore, 1)) (h0 : 0 ≤ x) (kk : zR K (pc + 1) ls st X) : zR K pc ls ((dd + 2, v) :: (0, i) :: (c + 2, x) :: st) (zas (c + 2) x i n v X) := by
  obtain ⟨p, l, e, R, s, m, args, below, meth, cde, G, nL, tr⟩ := K
  obtain ⟨hx, hb, hr, hlk, hml, hown, hts, hK, hN, hZ, hI, hR⟩ := E
  intro M r M' hX hM hl hst H locs hP hS lsA hL
  have hX2 := zas_if hX
  clear hX
  obtain ⟨⟨hi1, hi2⟩, hX⟩ := hX2
  obtain ⟨ho, hxo⟩ := zon hz hst.tl.tl.hd h0
  obtain ⟨q0, hq0, he⟩ := zat (G := G) (M := M) (zmem ho)
  rw [zce_a har, zac_q hty] at he
  have ht : (ztys G)[t0]? = some (G.2.2 (c + 2), .object q.1) := by rw [ztys, List.getElem?_map, hzt]; rfl
  rw [List.map_cons, List.map_cons, List.map_cons, zv_ref (t := c) (x := x) (by omega)]
  subst hln
  obtain ⟨hin, hcl⟩ := zin hst.tl.hd hi1 hi2
  have hv := hst.hd
  have hset := zwl_set (G := G) (M := M) (i := i) (v := v) hq0 how rfl
  rw [hxo, zce_a har, zac_q hty] at hset
  have go : ∀ (H1 : Heap) (locs1 : List Loc) (w : Option Nat), w = zad G (dd + 2) v → va_P G.1 zcs ((zwl G M).set q0 (G.2.1 (c + 2) x.toNat, .inl (G.2.2 (c + 2), zalen (c + 2) x.toNat a.2.2.2, .inr (.inr (.inr (.inr (va_up (fun j => zad G (dd + 2) (zel (c + 2) x.toNat M a j)) (Int32.ofInt i).toNatClampNeg w))))))) H1 → va_S (zA G) s.heap H1 locs1 → W p l e R s m args below meth cde H1 locs1 0 0 (MQ below (zQ G tr r M') args s 0 0 (zA G)) (F0 m (pc + 1) lsA (st.map (zv G))) := by
    intro H1 locs1 w hw hP1 hS1
    rw [zas_funq hk0 hxo hi1 hcl hw, hset] at hP1
    exact kk _ r M' hX (hM.up (by rw [hty]; exact hv)) hl hst.tl.tl.tl H1 locs1 hP1 hS1 lsA hL
  by_cases hneg : v < 0
  · rw [zv_null hneg]
    exact va_astqN hx hb hK hP (zD hI) hS q0 t0 he ht hin hd (fun H1 locs1 hP1 _ hS1 => go H1 locs1 none (by unfold zad; rw [if_pos hneg]) hP1 hS1)
  · rw [zv_ref hneg]
    obtain ⟨hov, hxv⟩ := zon hz2 hv (by omega)
    obtain ⟨qk, -, hek⟩ := zat (G := G) (M := M) (zmem hov)
    rw [zce_o hr0] at hek
    exact va_astq hx hb hK hP (zD hI) hS q0 t0 qk _ he ht hek (hF.1 v.toNat) hin hd (fun H1 locs1 hP1 _ hS1 => go H1 locs1 (some _) (by unfold zad; rw [if_neg hneg]) hP1 hS1)
theorem zv_nr {G : zG} {t : Nat} {v : Int} : zv G (t + 2, v) = .null ∨ ∃ a, zv G (t + 2, v) = .ref a := by
  by_cases h : v < 0
  · exact Or.inl (zv_null h)
  · exact Or.inr ⟨_, zv_ref h⟩
theorem r_ireturn {K : zK} {cd : ByteArray} {own : String} {ret : Option FieldType} {d : Nat} (E : zE K cd own ret d) {pc : Nat} {ls : List (Nat × Nat × Int)} {v : Int} (hrt : ret = some .int) (htr : zTr K = some 0) (hd : decode cd pc = .ok (.ireturn, 1)) : zR K pc ls [(0, v)] (zret v) := by
  obtain ⟨p, l, e, R, s, m, args, below, meth, cde, G, nL, tr⟩ := K
  obtain ⟨hx, hb, hr, hlk, hml, hown, hts, hK, hN, hZ, hI, hR⟩ := E
  intro M r M' hX hM hl hst H locs hP hS lsA hL
  cases hX
  subst hrt
  cases htr
  exact W.iret hx hb hr (fun t ht hW => ⟨rfl, by rw [ht]; exact hP, hS.F ht, hM, fun t ht => by cases ht; exact hst.hd⟩) hS.2.2 hd hlk
theorem r_zreturn {K : zK} {cd : ByteArray} {own : String} {ret : Option FieldType} {d : Nat} (E : zE K cd own ret d) {pc : Nat} {ls : List (Nat × Nat × Int)} {v : Int} (hrt : ret = some .boolean) (htr : zTr K = some 0) (h01 : v = 0 ∨ v = 1) (hd : decode cd pc = .ok (.ireturn, 1)) : zR K pc ls [(0, v)] (zret v) := by
  obtain ⟨p, l, e, R, s, m, args, below, meth, cde, G, nL, tr⟩ := K
  obtain ⟨hx, hb, hr, hlk, hml, hown, hts, hK, hN, hZ, hI, hR⟩ := E
  intro M r M' hX hM hl hst H locs hP hS lsA hL
  cases hX
  subst hrt
  cases htr
  exact W.zret hx hb hr (by rcases h01 with rfl | rfl <;> rfl) (fun t ht hW => ⟨rfl, by rw [ht]; exact hP, hS.F ht, hM, fun t ht => by cases ht; exact hst.hd⟩) hS.2.2 hd hlk
theorem r_zreturnb {K : zK} {cd : ByteArray} {own : String} {ret : Option FieldType} {d : Nat} (E : zE K cd own ret d) {pc : Nat} {ls : List (Nat × Nat × Int)} {v : Int} (hrt : ret = some .boolean) (htr : zTr K = some 0) (hd : decode cd pc = .ok (.ireturn, 1)) : zR K pc ls [(0, v)] (zrb v) := by
  have h2 : v = 0 ∨ v = 1 → zR K pc ls [(0, v)] (zret v) := fun h => r_zreturn E hrt htr h hd
  obtain ⟨p, l, e, R, s, m, args, below, meth, cde, G, nL, tr⟩ := K
  intro M r M' hX
  unfold zrb at hX
  by_cases h : v = 0 ∨ v = 1
  · rw [if_pos h] at hX
    exact h2 h M r M' hX
  · rw [if_neg h] at hX; cases hX
theorem r_lreturn {K : zK} {cd : ByteArray} {own : String} {ret : Option FieldType} {d : Nat} (E : zE K cd own ret d) {pc : Nat} {ls : List (Nat × Nat × Int)} {v : Int} (hrt : ret = some .long) (htr : zTr K = some 1) (hd : decode cd pc = .ok (.lreturn, 1)) : zR K pc ls [(1, v)] (zret v) := by
  obtain ⟨p, l, e, R, s, m, args, below, meth, cde, G, nL, tr⟩ := K
  obtain ⟨hx, hb, hr, hlk, hml, hown, hts, hK, hN, hZ, hI, hR⟩ := E
  intro M r M' hX hM hl hst H locs hP hS lsA hL
  cases hX
  subst hrt
  cases htr
  exact W.lret hx hb hr (fun t ht hW => ⟨rfl, by rw [ht]; exact hP, hS.F ht, hM, fun t ht => by cases ht; exact hst.hd⟩) hS.2.2 hd hlk
theorem r_areturn {K : zK} {cd : ByteArray} {own : String} {ret : Option FieldType} {d : Nat} (E : zE K cd own ret d) {pc : Nat} {ls : List (Nat × Nat × Int)} {t : Nat} {v : Int} {Cn : String} (hrt : ret = some (.object Cn)) (htr : zTr K = some (t + 2)) (hd : decode cd pc = .ok (.areturn, 1)) : zR K pc ls [(t + 2, v)] (zret v) := by
  obtain ⟨p, l, e, R, s, m, args, below, meth, cde, G, nL, tr⟩ := K
  obtain ⟨hx, hb, hr, hlk, hml, hown, hts, hK, hN, hZ, hI, hR⟩ := E
  intro M r M' hX hM hl hst H locs hP hS lsA hL
  cases hX
  subst hrt
  cases htr
  exact W.aret hx hb hr (Or.inl ⟨Cn, rfl⟩) zv_nr (fun t ht hW => ⟨rfl, by rw [ht]; exact hP, hS.F ht, hM, fun t ht => by cases ht; exact hst.hd⟩) hS.2.2 hd hlk
theorem r_return {K : zK} {cd : ByteArray} {own : String} {ret : Option FieldType} {d : Nat} (E : zE K cd own ret d) {pc : Nat} {ls : List (Nat × Nat × Int)} (hrt : ret = none) (htr : zTr K = none) (hd : decode cd pc = .ok (.return_, 1)) : zR K pc ls [] (zret 0) := by
  obtain ⟨p, l, e, R, s, m, args, below, meth, cde, G, nL, tr⟩ := K
  obtain ⟨hx, hb, hr, hlk, hml, hown, hts, hK, hN, hZ, hI, hR⟩ := E
  intro M r M' hX hM hl hst H locs hP hS lsA hL
  cases hX
  subst hrt
  cases htr
  exact W.vret hx hb hr (fun t ht hW => ⟨rfl, by rw [ht]; exact hP, hS.F ht, hM, fun t ht => by cases ht⟩) hS.2.2 hd hlk
