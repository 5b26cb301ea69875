/-! a lemma an instruction -/
theorem zOs.hd {q : Nat × Int} {l : List (Nat × Int)} (h : zOs (q :: l)) : zOv q := h q List.mem_cons_self
theorem zOs.tl {q : Nat × Int} {l : List (Nat × Int)} (h : zOs (q :: l)) : zOs l := fun a ha => h a (List.mem_cons_of_mem _ ha)
theorem zOs.cons {q : Nat × Int} {l : List (Nat × Int)} (h0 : zOv q) (h : zOs l) : zOs (q :: l) := fun a ha => by
  rcases List.mem_cons.mp ha with rfl | e
  · exact h0
  · exact h a e
theorem zstep {K : zK} {cd : ByteArray} {own : String} {ret : Option FieldType} {d : Nat} (E : zE K cd own ret d) {pc : Nat} {ls : List (Nat × Nat × Int)} {st : List (Nat × Int)} {X : zX} {pc' : Nat} {st' : List (Nat × Int)} (hok : zOs st → zOs st')
    (hs : ∀ {p : Program} {l : Launch} {e : Env} {R : Room} {s : State} {m : MethodId} {args : Array Value} {below : List Frame} {meth : Method} {c : Code} {G : zG} {H : Heap} {locs : List Loc} {Q : State → Prop} {lsA : Array Slot}, p.tables.exec = Jvm.exec → c.code = cd → s.vm.findClass own = some m.cls → (∀ w ∈ lw_all, w.before args s = true) → zOs st → W p l e R s m args below meth c H locs 0 0 Q (F0 m pc' lsA (st'.map (zv G))) → W p l e R s m args below meth c H locs 0 0 Q (F0 m pc lsA (st.map (zv G))))
    (k : zR K pc' ls st' X) : zR K pc ls st X := by
  obtain ⟨p, l, e, R, s, m, args, below, meth, c, G, nL, tr⟩ := K
  obtain ⟨hx, hb, -, -, -, hown, hts, -⟩ := E
  intro M r M' hX hM hl hst H locs hP hS lsA hL
  exact hs hx hb hown hts hst (k M r M' hX hM hl (hok hst) H locs hP hS lsA hL)
/-- a branch: what is known of the choice -/
theorem zbr {K : zK} {cd : ByteArray} {own : String} {ret : Option FieldType} {d : Nat} (E : zE K cd own ret d) {pc : Nat} {ls : List (Nat × Nat × Int)} {st : List (Nat × Int)} {pc1 pc2 : Nat} {st' : List (Nat × Int)} {P : Prop} {hdec : Decidable P} {X1 X2 : zX} (hok : zOs st → zOs st')
    (hs : ∀ {p : Program} {l : Launch} {e : Env} {R : Room} {s : State} {m : MethodId} {args : Array Value} {below : List Frame} {meth : Method} {c : Code} {G : zG} {H : Heap} {locs : List Loc} {Q : State → Prop} {lsA : Array Slot}, zInj G → p.tables.exec = Jvm.exec → c.code = cd → zOs st → (P → W p l e R s m args below meth c H locs 0 0 Q (F0 m pc1 lsA (st'.map (zv G)))) → (¬ P → W p l e R s m args below meth c H locs 0 0 Q (F0 m pc2 lsA (st'.map (zv G)))) → W p l e R s m args below meth c H locs 0 0 Q (F0 m pc lsA (st.map (zv G))))
    (k1 : P → zR K pc1 ls st' X1) (k2 : ¬ P → zR K pc2 ls st' X2) : zR K pc ls st (@ite _ P hdec X1 X2) := by
  obtain ⟨p, l, e, R, s, m, args, below, meth, c, G, nL, tr⟩ := K
  obtain ⟨hx, hb, -, -, -, -, -, -, -, -, hI, -⟩ := E
  intro M r M' hX hM hl hst H locs hP hS lsA hL
  refine hs hI hx hb hst (fun h => ?_) (fun h => ?_)
  · rw [if_pos h] at hX
    exact k1 h M r M' hX hM hl (hok hst) H locs hP hS lsA hL
  · rw [if_neg h] at hX
    exact k2 h M r M' hX hM hl (hok hst) H locs hP hS lsA hL
theorem ztm_ok32 {x y : Int} (hx : zOv (0, x)) (hy : zOv (0, y)) : zOv (0, Int.tmod x y) := by
  have h := zrem32 hx hy
  have h1 := hx.1
  have h2 := hx.2
  simp only at h1 h2
  rcases Int.lt_or_le x 0 with hn | hp
  · have a := Int.tmod_nonneg (a := -x) y (by omega)
    have b : Int.tmod (-x) y ≤ -x := by
      rw [← Int.natAbs_of_nonneg a]
      have := Int.natAbs_tmod (-x) y
      have q : (Int.tmod (-x) y).natAbs ≤ (-x).natAbs := by rw [Int.natAbs_tmod]; exact Nat.mod_le _ _
      omega
    rw [Int.neg_tmod] at a b
    simp only [zOv]
    omega
  · have a := Int.tmod_nonneg (a := x) y hp
    have q : (Int.tmod x y).natAbs ≤ x.natAbs := by rw [Int.natAbs_tmod]; exact Nat.mod_le _ _
    simp only [zOv]
    omega
theorem ztm_ok64 {x y : Int} (hx : zOv (1, x)) (hy : zOv (1, y)) : zOv (1, Int.tmod x y) := by
  have h1 := hx.1
  have h2 := hx.2
  simp only at h1 h2
  have q : (Int.tmod x y).natAbs ≤ x.natAbs := by rw [Int.natAbs_tmod]; exact Nat.mod_le _ _
  rcases Int.lt_or_le x 0 with hn | hp
  · have a := Int.tmod_nonneg (a := -x) y (by omega)
    rw [Int.neg_tmod] at a
    simp only [zOv]
    omega
  · have a := Int.tmod_nonneg (a := x) y hp
    simp only [zOv]
    omega
theorem zlg {x y : Int} (hx : zOv (1, x)) (hy : zOv (1, y)) : (y < x ∧ lg_cmp (Int64.ofInt x) (Int64.ofInt y) = 1) ∨ (x = y ∧ lg_cmp (Int64.ofInt x) (Int64.ofInt y) = 0) ∨ (x < y ∧ lg_cmp (Int64.ofInt x) (Int64.ofInt y) = -1) := by
  unfold lg_cmp
  rcases Int.lt_trichotomy x y with h | h | h
  · refine Or.inr (Or.inr ⟨h, ?_⟩)
    rw [if_neg (fun q => by have := (zlt64 hy hx).mp q; omega), if_neg (fun q => by have := (zeq64 hx hy).mp q; omega)]
  · subst h
    refine Or.inr (Or.inl ⟨rfl, ?_⟩)
    rw [if_neg (fun q => by have := (zlt64 hy hx).mp q; omega), if_pos rfl]
  · refine Or.inl ⟨h, ?_⟩
    rw [if_pos ((zlt64 hy hx).mpr h)]
theorem zv_null {G : zG} {t : Nat} {x : Int} (h : x < 0) : zv G (t + 2, x) = .null := by simp [zv, h]
theorem zv_ref {G : zG} {t : Nat} {x : Int} (h : ¬ x < 0) : zv G (t + 2, x) = .ref (G.2.1 (t + 2) x.toNat) := by simp [zv, h]
theorem zv_ad {G : zG} {t : Nat} {x : Int} : zv G (t + 2, x) = va_rf (zad G (t + 2) x) := by
  unfold zad
  by_cases h : x < 0
  · rw [zv_null h, if_pos h]; rfl
  · rw [zv_ref h, if_neg h]; rfl
theorem zad_inj {G : zG} {t : Nat} {x y : Int} (hI : zInj G) (ht : zcn (t + 2) = zcnt (t + 2)) (hx : zOv (t + 2, x)) (hy : zOv (t + 2, y)) : zad G (t + 2) x = zad G (t + 2) y ↔ x = y := by
  constructor
  · intro e
    have hx1 := hx.1
    have hx2 := hx.2
    have hy1 := hy.1
    have hy2 := hy.2
    simp only at hx1 hx2 hy1 hy2
    rw [ht] at hx2 hy2
    unfold zad at e
    split at e
    · split at e
      · omega
      · cases e
    · split at e
      · cases e
      · have := hI _ _ _ _ (zmem (t := t + 2) (o := x.toNat) (by omega)) (zmem (t := t + 2) (o := y.toNat) (by omega)) (Option.some.inj e)
        omega
  · rintro rfl; rfl
theorem r_iconst {K : zK} {cd : ByteArray} {own : String} {ret : Option FieldType} {d : Nat} (E : zE K cd own ret d) {pc : Nat} {ls : List (Nat × Nat × Int)} {st : List (Nat × Int)} {X : zX} {n : Int} (hd : decode cd pc = .ok (.iconst n, 1)) (h0 : zOv (0, n)) (k : zR K (pc + 1) ls ((0, n) :: st) X) : zR K pc ls st X :=
  zstep E (fun h => h.cons h0) (fun hx hb _ _ _ h => lv_iconst hx hb hd rfl h) k
theorem r_bipush {K : zK} {cd : ByteArray} {own : String} {ret : Option FieldType} {d : Nat} (E : zE K cd own ret d) {pc : Nat} {ls : List (Nat × Nat × Int)} {st : List (Nat × Int)} {X : zX} {n : Int} (hd : decode cd pc = .ok (.bipush n, 2)) (hv : (Int8.ofInt n).toInt32 = Int32.ofInt n) (h0 : zOv (0, n)) (k : zR K (pc + 2) ls ((0, n) :: st) X) : zR K pc ls st X :=
  zstep E (fun h => h.cons h0) (fun hx hb _ _ _ h => lv_bipush hx hb hd hv h) k
theorem r_sipush {K : zK} {cd : ByteArray} {own : String} {ret : Option FieldType} {d : Nat} (E : zE K cd own ret d) {pc : Nat} {ls : List (Nat × Nat × Int)} {st : List (Nat × Int)} {X : zX} {n : Int} (hd : decode cd pc = .ok (.sipush n, 3)) (hv : (Int16.ofInt n).toInt32 = Int32.ofInt n) (h0 : zOv (0, n)) (k : zR K (pc + 3) ls ((0, n) :: st) X) : zR K pc ls st X :=
  zstep E (fun h => h.cons h0) (fun hx hb _ _ _ h => lv_sipush hx hb hd hv h) k
theorem r_lconst {K : zK} {cd : ByteArray} {own : String} {ret : Option FieldType} {d : Nat} (E : zE K cd own ret d) {pc : Nat} {ls : List (Nat × Nat × Int)} {st : List (Nat × Int)} {X : zX} {n : Fin 2} {v : Int} (hd : decode cd pc = .ok (.lconst n, 1)) (hv : Int64.ofNat (n : Nat) = Int64.ofInt v) (h0 : zOv (1, v)) (k : zR K (pc + 1) ls ((1, v) :: st) X) : zR K pc ls st X :=
  zstep E (fun h => h.cons h0) (fun hx hb _ _ _ h => lv_lconst hx hb hd hv h) k
theorem r_ldc2 {K : zK} {cd : ByteArray} {own : String} {ret : Option FieldType} {d : Nat} (E : zE K cd own ret d) {pc : Nat} {ls : List (Nat × Nat × Int)} {st : List (Nat × Int)} {X : zX} {n : Nat} {v : Int} {w : Int64} (hd : decode cd pc = .ok (.ldc2_w n, 3)) (hw : Cond.constantLong own n w ∈ lw_all) (hv : w = Int64.ofInt v) (h0 : zOv (1, v)) (k : zR K (pc + 3) ls ((1, v) :: st) X) : zR K pc ls st X :=
  zstep E (fun h => h.cons h0) (fun hx hb ho hts _ h => lv_ldc2 hx hb ho (hts _ hw) hd (by rw [hv]; exact h)) k
theorem r_ldc {K : zK} {cd : ByteArray} {own : String} {ret : Option FieldType} {d : Nat} (E : zE K cd own ret d) {pc : Nat} {ls : List (Nat × Nat × Int)} {st : List (Nat × Int)} {X : zX} {n : Nat} {v : Int} {w : Int32} (hd : decode cd pc = .ok (.ldc n, 2)) (hw : Cond.constant own n w ∈ lw_all) (hv : w = Int32.ofInt v) (h0 : zOv (0, v)) (k : zR K (pc + 2) ls ((0, v) :: st) X) : zR K pc ls st X :=
  zstep E (fun h => h.cons h0) (fun hx hb ho hts _ h => lv_ldc hx hb ho (hts _ hw) hd (by rw [hv]; exact h)) k
theorem r_ldcw {K : zK} {cd : ByteArray} {own : String} {ret : Option FieldType} {d : Nat} (E : zE K cd own ret d) {pc : Nat} {ls : List (Nat × Nat × Int)} {st : List (Nat × Int)} {X : zX} {n : Nat} {v : Int} {w : Int32} (hd : decode cd pc = .ok (.ldc_w n, 3)) (hw : Cond.constant own n w ∈ lw_all) (hv : w = Int32.ofInt v) (h0 : zOv (0, v)) (k : zR K (pc + 3) ls ((0, v) :: st) X) : zR K pc ls st X :=
  zstep E (fun h => h.cons h0) (fun hx hb ho hts _ h => lv_ldcw hx hb ho (hts _ hw) hd (by rw [hv]; exact h)) k
theorem r_null {K : zK} {cd : ByteArray} {own : String} {ret : Option FieldType} {d : Nat} (E : zE K cd own ret d) {pc : Nat} {ls : List (Nat × Nat × Int)} {st : List (Nat × Int)} {X : zX} (t : Nat) (hd : decode cd pc = .ok (.aconst_null, 1)) (k : zR K (pc + 1) ls ((t + 2, -1) :: st) X) : zR K pc ls st X :=
  zstep E (fun h => h.cons (by refine ⟨?_, ?_⟩ <;> simp only [] <;> omega)) (fun hx hb _ _ _ h => lv_null hx hb hd h) k
theorem r_iadd {K : zK} {cd : ByteArray} {own : String} {ret : Option FieldType} {d : Nat} (E : zE K cd own ret d) {pc : Nat} {ls : List (Nat × Nat × Int)} {st : List (Nat × Int)} {X : zX} {x y : Int} (hd : decode cd pc = .ok (.iadd, 1)) (k : zR K (pc + 1) ls ((0, zi (x + y)) :: st) X) : zR K pc ls ((0, y) :: (0, x) :: st) X :=
  zstep E (fun h => h.tl.tl.cons (zi_ok _)) (fun hx hb _ _ hs h => lv_iadd hx hb hd (by rw [← Int32.ofInt_add, ← zo32]; exact h)) k
theorem r_isub {K : zK} {cd : ByteArray} {own : String} {ret : Option FieldType} {d : Nat} (E : zE K cd own ret d) {pc : Nat} {ls : List (Nat × Nat × Int)} {st : List (Nat × Int)} {X : zX} {x y : Int} (hd : decode cd pc = .ok (.isub, 1)) (k : zR K (pc + 1) ls ((0, zi (x - y)) :: st) X) : zR K pc ls ((0, y) :: (0, x) :: st) X :=
  zstep E (fun h => h.tl.tl.cons (zi_ok _)) (fun hx hb _ _ hs h => lv_isub hx hb hd (by rw [← Int32.ofInt_sub, ← zo32]; exact h)) k
theorem r_imul {K : zK} {cd : ByteArray} {own : String} {ret : Option FieldType} {d : Nat} (E : zE K cd own ret d) {pc : Nat} {ls : List (Nat × Nat × Int)} {st : List (Nat × Int)} {X : zX} {x y : Int} (hd : decode cd pc = .ok (.imul, 1)) (k : zR K (pc + 1) ls ((0, zi (x * y)) :: st) X) : zR K pc ls ((0, y) :: (0, x) :: st) X :=
  zstep E (fun h => h.tl.tl.cons (zi_ok _)) (fun hx hb _ _ hs h => lv_imul hx hb hd (by rw [← Int32.ofInt_mul, ← zo32]; exact h)) k
theorem r_ineg {K : zK} {cd : ByteArray} {own : String} {ret : Option FieldType} {d : Nat} (E : zE K cd own ret d) {pc : Nat} {ls : List (Nat × Nat × Int)} {st : List (Nat × Int)} {X : zX} {x : Int} (hd : decode cd pc = .ok (.ineg, 1)) (k : zR K (pc + 1) ls ((0, zi (-x)) :: st) X) : zR K pc ls ((0, x) :: st) X :=
  zstep E (fun h => h.tl.cons (zi_ok _)) (fun hx hb _ _ hs h => lv_ineg hx hb hd (by rw [← Int32.ofInt_neg, ← zo32]; exact h)) k
theorem r_idiv {K : zK} {cd : ByteArray} {own : String} {ret : Option FieldType} {d : Nat} (E : zE K cd own ret d) {pc : Nat} {ls : List (Nat × Nat × Int)} {st : List (Nat × Int)} {X : zX} {x y : Int} (hn : ¬ y = 0) (hd : decode cd pc = .ok (.idiv, 1)) (k : zR K (pc + 1) ls ((0, zi (Int.tdiv x y)) :: st) X) : zR K pc ls ((0, y) :: (0, x) :: st) X :=
  zstep E (fun h => h.tl.tl.cons (zi_ok _)) (fun hx hb _ _ hs h => lv_idiv hx hb hd (fun e => hn ((zeq32 hs.hd (by simp only [zOv]; omega)).mp e)) (by rw [← zdiv32 hs.tl.hd hs.hd]; exact h)) k
theorem r_irem {K : zK} {cd : ByteArray} {own : String} {ret : Option FieldType} {d : Nat} (E : zE K cd own ret d) {pc : Nat} {ls : List (Nat × Nat × Int)} {st : List (Nat × Int)} {X : zX} {x y : Int} (hn : ¬ y = 0) (hd : decode cd pc = .ok (.irem, 1)) (k : zR K (pc + 1) ls ((0, Int.tmod x y) :: st) X) : zR K pc ls ((0, y) :: (0, x) :: st) X :=
  zstep E (fun h => h.tl.tl.cons (ztm_ok32 h.tl.hd h.hd)) (fun hx hb _ _ hs h => lv_irem hx hb hd (fun e => hn ((zeq32 hs.hd (by simp only [zOv]; omega)).mp e)) (by rw [← zrem32 hs.tl.hd hs.hd]; exact h)) k
theorem r_iand {K : zK} {cd : ByteArray} {own : String} {ret : Option FieldType} {d : Nat} (E : zE K cd own ret d) {pc : Nat} {ls : List (Nat × Nat × Int)} {st : List (Nat × Int)} {X : zX} {x y : Int} (hd : decode cd pc = .ok (.iand, 1)) (k : zR K (pc + 1) ls ((0, zan x y) :: st) X) : zR K pc ls ((0, y) :: (0, x) :: st) X :=
  zstep E (fun h => h.tl.tl.cons (zand_ok _ _)) (fun hx hb _ _ hs h => lv_iand hx hb hd (by rw [← zand32]; exact h)) k
theorem r_ixor {K : zK} {cd : ByteArray} {own : String} {ret : Option FieldType} {d : Nat} (E : zE K cd own ret d) {pc : Nat} {ls : List (Nat × Nat × Int)} {st : List (Nat × Int)} {X : zX} {x y : Int} (hd : decode cd pc = .ok (.ixor, 1)) (k : zR K (pc + 1) ls ((0, zxr x y) :: st) X) : zR K pc ls ((0, y) :: (0, x) :: st) X :=
  zstep E (fun h => h.tl.tl.cons (zxr_ok _ _)) (fun hx hb _ _ hs h => lv_ixor hx hb hd (by rw [← zxor32]; exact h)) k
theorem r_imask {K : zK} {cd : ByteArray} {own : String} {ret : Option FieldType} {d : Nat} (E : zE K cd own ret d) {pc : Nat} {ls : List (Nat × Nat × Int)} {st : List (Nat × Int)} {X : zX} {x m P : Int} (n : Nat) (hn : n ≤ 31) (hP : P = 2 ^ n) (hm : m = P - 1) (hd : decode cd pc = .ok (.iand, 1)) (k : zR K (pc + 1) ls ((0, x % P) :: st) X) : zR K pc ls ((0, m) :: (0, x) :: st) X :=
  zstep E (fun h => h.tl.tl.cons (zmask32_ok hn hP)) (fun hx hb _ _ hs h => lv_iand hx hb hd (by rw [← zmask32 hn hP hm]; exact h)) k
theorem r_ladd {K : zK} {cd : ByteArray} {own : String} {ret : Option FieldType} {d : Nat} (E : zE K cd own ret d) {pc : Nat} {ls : List (Nat × Nat × Int)} {st : List (Nat × Int)} {X : zX} {x y : Int} (hd : decode cd pc = .ok (.ladd, 1)) (k : zR K (pc + 1) ls ((1, zl (x + y)) :: st) X) : zR K pc ls ((1, y) :: (1, x) :: st) X :=
  zstep E (fun h => h.tl.tl.cons (zl_ok _)) (fun hx hb _ _ hs h => lv_ladd hx hb hd (by rw [← Int64.ofInt_add, ← zo64]; exact h)) k
theorem r_lsub {K : zK} {cd : ByteArray} {own : String} {ret : Option FieldType} {d : Nat} (E : zE K cd own ret d) {pc : Nat} {ls : List (Nat × Nat × Int)} {st : List (Nat × Int)} {X : zX} {x y : Int} (hd : decode cd pc = .ok (.lsub, 1)) (k : zR K (pc + 1) ls ((1, zl (x - y)) :: st) X) : zR K pc ls ((1, y) :: (1, x) :: st) X :=
  zstep E (fun h => h.tl.tl.cons (zl_ok _)) (fun hx hb _ _ hs h => lv_lsub hx hb hd (by rw [← Int64.ofInt_sub, ← zo64]; exact h)) k
theorem r_lmul {K : zK} {cd : ByteArray} {own : String} {ret : Option FieldType} {d : Nat} (E : zE K cd own ret d) {pc : Nat} {ls : List (Nat × Nat × Int)} {st : List (Nat × Int)} {X : zX} {x y : Int} (hd : decode cd pc = .ok (.lmul, 1)) (k : zR K (pc + 1) ls ((1, zl (x * y)) :: st) X) : zR K pc ls ((1, y) :: (1, x) :: st) X :=
  zstep E (fun h => h.tl.tl.cons (zl_ok _)) (fun hx hb _ _ hs h => lv_lmul hx hb hd (by rw [← Int64.ofInt_mul, ← zo64]; exact h)) k
theorem r_lneg {K : zK} {cd : ByteArray} {own : String} {ret : Option FieldType} {d : Nat} (E : zE K cd own ret d) {pc : Nat} {ls : List (Nat × Nat × Int)} {st : List (Nat × Int)} {X : zX} {x : Int} (hd : decode cd pc = .ok (.lneg, 1)) (k : zR K (pc + 1) ls ((1, zl (-x)) :: st) X) : zR K pc ls ((1, x) :: st) X :=
  zstep E (fun h => h.tl.cons (zl_ok _)) (fun hx hb _ _ hs h => lv_lneg hx hb hd (by rw [← Int64.ofInt_neg, ← zo64]; exact h)) k
theorem r_ldiv {K : zK} {cd : ByteArray} {own : String} {ret : Option FieldType} {d : Nat} (E : zE K cd own ret d) {pc : Nat} {ls : List (Nat × Nat × Int)} {st : List (Nat × Int)} {X : zX} {x y : Int} (hn : ¬ y = 0) (hd : decode cd pc = .ok (.ldiv, 1)) (k : zR K (pc + 1) ls ((1, zl (Int.tdiv x y)) :: st) X) : zR K pc ls ((1, y) :: (1, x) :: st) X :=
  zstep E (fun h => h.tl.tl.cons (zl_ok _)) (fun hx hb _ _ hs h => lv_ldiv hx hb hd (fun e => hn ((zeq64 hs.hd (by simp only [zOv]; omega)).mp e)) (by rw [← zdiv64 hs.tl.hd hs.hd]; exact h)) k
theorem r_lrem {K : zK} {cd : ByteArray} {own : String} {ret : Option FieldType} {d : Nat} (E : zE K cd own ret d) {pc : Nat} {ls : List (Nat × Nat × Int)} {st : List (Nat × Int)} {X : zX} {x y : Int} (hn : ¬ y = 0) (hd : decode cd pc = .ok (.lrem, 1)) (k : zR K (pc + 1) ls ((1, Int.tmod x y) :: st) X) : zR K pc ls ((1, y) :: (1, x) :: st) X :=
  zstep E (fun h => h.tl.tl.cons (ztm_ok64 h.tl.hd h.hd)) (fun hx hb _ _ hs h => lv_lrem hx hb hd (fun e => hn ((zeq64 hs.hd (by simp only [zOv]; omega)).mp e)) (by rw [← zrem64 hs.tl.hd hs.hd]; exact h)) k
theorem r_land {K : zK} {cd : ByteArray} {own : String} {ret : Option FieldType} {d : Nat} (E : zE K cd own ret d) {pc : Nat} {ls : List (Nat × Nat × Int)} {st : List (Nat × Int)} {X : zX} {x y : Int} (hd : decode cd pc = .ok (.land, 1)) (k : zR K (pc + 1) ls ((1, zaN x y) :: st) X) : zR K pc ls ((1, y) :: (1, x) :: st) X :=
  zstep E (fun h => h.tl.tl.cons (zaN_ok _ _)) (fun hx hb _ _ hs h => lv_land hx hb hd (by rw [← zand64]; exact h)) k
theorem r_lor {K : zK} {cd : ByteArray} {own : String} {ret : Option FieldType} {d : Nat} (E : zE K cd own ret d) {pc : Nat} {ls : List (Nat × Nat × Int)} {st : List (Nat × Int)} {X : zX} {x y : Int} (hd : decode cd pc = .ok (.lor, 1)) (k : zR K (pc + 1) ls ((1, zoR x y) :: st) X) : zR K pc ls ((1, y) :: (1, x) :: st) X :=
  zstep E (fun h => h.tl.tl.cons (zoR_ok _ _)) (fun hx hb _ _ hs h => lv_lor hx hb hd (by rw [← zor64]; exact h)) k
theorem r_lxor {K : zK} {cd : ByteArray} {own : String} {ret : Option FieldType} {d : Nat} (E : zE K cd own ret d) {pc : Nat} {ls : List (Nat × Nat × Int)} {st : List (Nat × Int)} {X : zX} {x y : Int} (hd : decode cd pc = .ok (.lxor, 1)) (k : zR K (pc + 1) ls ((1, zxR x y) :: st) X) : zR K pc ls ((1, y) :: (1, x) :: st) X :=
  zstep E (fun h => h.tl.tl.cons (zxR_ok _ _)) (fun hx hb _ _ hs h => lv_lxor hx hb hd (by rw [← zxor64]; exact h)) k
theorem r_lmask {K : zK} {cd : ByteArray} {own : String} {ret : Option FieldType} {d : Nat} (E : zE K cd own ret d) {pc : Nat} {ls : List (Nat × Nat × Int)} {st : List (Nat × Int)} {X : zX} {x m P : Int} (n : Nat) (hn : n ≤ 63) (hP : P = 2 ^ n) (hm : m = P - 1) (hd : decode cd pc = .ok (.land, 1)) (k : zR K (pc + 1) ls ((1, x % P) :: st) X) : zR K pc ls ((1, m) :: (1, x) :: st) X :=
  zstep E (fun h => h.tl.tl.cons (zmask64_ok hn hP)) (fun hx hb _ _ hs h => lv_land hx hb hd (by rw [← zmask64 hn hP hm]; exact h)) k
theorem r_inot {K : zK} {cd : ByteArray} {own : String} {ret : Option FieldType} {d : Nat} (E : zE K cd own ret d) {pc : Nat} {ls : List (Nat × Nat × Int)} {st : List (Nat × Int)} {X : zX} {x : Int} (hd : decode cd pc = .ok (.ixor, 1)) (k : zR K (pc + 1) ls ((0, -1 - x) :: st) X) : zR K pc ls ((0, -1) :: (0, x) :: st) X :=
  zstep E (fun h => h.tl.tl.cons (by have a := h.tl.hd; simp only [zOv] at a ⊢; omega)) (fun hx hb _ _ hs h => lv_ixor hx hb hd (by rw [← znot32 hs.tl.hd]; exact h)) k
theorem r_ishl {K : zK} {cd : ByteArray} {own : String} {ret : Option FieldType} {d : Nat} (E : zE K cd own ret d) {pc : Nat} {ls : List (Nat × Nat × Int)} {st : List (Nat × Int)} {X : zX} {x s P : Int} (hP : P = 2 ^ (s % 32).toNat) (hd : decode cd pc = .ok (.ishl, 1)) (k : zR K (pc + 1) ls ((0, zi (x * P)) :: st) X) : zR K pc ls ((0, s) :: (0, x) :: st) X :=
  zstep E (fun h => h.tl.tl.cons (zi_ok _)) (fun hx hb _ _ hs h => lv_ishl hx hb hd (by rw [← zshl32, ← hP]; exact h)) k
theorem r_lshl {K : zK} {cd : ByteArray} {own : String} {ret : Option FieldType} {d : Nat} (E : zE K cd own ret d) {pc : Nat} {ls : List (Nat × Nat × Int)} {st : List (Nat × Int)} {X : zX} {x s P : Int} (hP : P = 2 ^ (s % 64).toNat) (hd : decode cd pc = .ok (.lshl, 1)) (k : zR K (pc + 1) ls ((1, zl (x * P)) :: st) X) : zR K pc ls ((0, s) :: (1, x) :: st) X :=
  zstep E (fun h => h.tl.tl.cons (zl_ok _)) (fun hx hb _ _ hs h => lv_lshl hx hb hd (by rw [zshl64 _ hs.hd, ← hP]) h) k
theorem r_ishr {K : zK} {cd : ByteArray} {own : String} {ret : Option FieldType} {d : Nat} (E : zE K cd own ret d) {pc : Nat} {ls : List (Nat × Nat × Int)} {st : List (Nat × Int)} {X : zX} {x s P : Int} (hP : P = 2 ^ (s % 32).toNat) (hd : decode cd pc = .ok (.ishr, 1)) (k : zR K (pc + 1) ls ((0, x / P) :: st) X) : zR K pc ls ((0, s) :: (0, x) :: st) X :=
  zstep E (fun h => h.tl.tl.cons (by rw [hP]; exact zshr_ok _ (by decide) (by decide) h.tl.hd.1 h.tl.hd.2)) (fun hx hb _ _ hs h => lv_ishr hx hb hd (by rw [← zshr32 hs.tl.hd, ← hP]; exact h)) k
theorem r_lshr {K : zK} {cd : ByteArray} {own : String} {ret : Option FieldType} {d : Nat} (E : zE K cd own ret d) {pc : Nat} {ls : List (Nat × Nat × Int)} {st : List (Nat × Int)} {X : zX} {x s P : Int} (hP : P = 2 ^ (s % 64).toNat) (hd : decode cd pc = .ok (.lshr, 1)) (k : zR K (pc + 1) ls ((1, x / P) :: st) X) : zR K pc ls ((0, s) :: (1, x) :: st) X :=
  zstep E (fun h => h.tl.tl.cons (by rw [hP]; exact zshr_ok _ (by decide) (by decide) h.tl.hd.1 h.tl.hd.2)) (fun hx hb _ _ hs h => lv_lshr hx hb hd (by rw [zshr64 hs.tl.hd hs.hd, ← hP]) h) k
theorem r_lushr {K : zK} {cd : ByteArray} {own : String} {ret : Option FieldType} {d : Nat} (E : zE K cd own ret d) {pc : Nat} {ls : List (Nat × Nat × Int)} {st : List (Nat × Int)} {X : zX} {x s P : Int} (n : Nat) (hs0 : s = (n : Int)) (hn : 0 < n ∧ n < 64) (hP : P = 2 ^ n) (hd : decode cd pc = .ok (.lushr, 1)) (k : zR K (pc + 1) ls ((1, x % 18446744073709551616 / P) :: st) X) : zR K pc ls ((0, s) :: (1, x) :: st) X :=
  zstep E (fun h => h.tl.tl.cons (zushr_ok x hn.1 hP)) (fun hx hb _ _ hs h => lv_lushr hx hb hd (zushr64 x hs0 hn hP) h) k
theorem r_i2l {K : zK} {cd : ByteArray} {own : String} {ret : Option FieldType} {d : Nat} (E : zE K cd own ret d) {pc : Nat} {ls : List (Nat × Nat × Int)} {st : List (Nat × Int)} {X : zX} {x : Int} (hd : decode cd pc = .ok (.i2l, 1)) (k : zR K (pc + 1) ls ((1, x) :: st) X) : zR K pc ls ((0, x) :: st) X :=
  zstep E (fun h => h.tl.cons (by have a := h.hd; simp only [zOv] at a ⊢; omega)) (fun hx hb _ _ hs h => lv_i2l hx hb hd (zi2l hs.hd) h) k
theorem r_l2i {K : zK} {cd : ByteArray} {own : String} {ret : Option FieldType} {d : Nat} (E : zE K cd own ret d) {pc : Nat} {ls : List (Nat × Nat × Int)} {st : List (Nat × Int)} {X : zX} {x : Int} (hd : decode cd pc = .ok (.l2i, 1)) (k : zR K (pc + 1) ls ((0, zi x) :: st) X) : zR K pc ls ((1, x) :: st) X :=
  zstep E (fun h => h.tl.cons (zi_ok _)) (fun hx hb _ _ hs h => lv_l2i hx hb hd (zl2i _) h) k
theorem r_i2b {K : zK} {cd : ByteArray} {own : String} {ret : Option FieldType} {d : Nat} (E : zE K cd own ret d) {pc : Nat} {ls : List (Nat × Nat × Int)} {st : List (Nat × Int)} {X : zX} {x : Int} (hd : decode cd pc = .ok (.i2b, 1)) (k : zR K (pc + 1) ls ((0, zb x) :: st) X) : zR K pc ls ((0, x) :: st) X :=
  zstep E (fun h => h.tl.cons (by simp only [zOv, zb]; omega)) (fun hx hb _ _ hs h => lv_i2b hx hb hd (zi2b _) h) k
theorem r_i2c {K : zK} {cd : ByteArray} {own : String} {ret : Option FieldType} {d : Nat} (E : zE K cd own ret d) {pc : Nat} {ls : List (Nat × Nat × Int)} {st : List (Nat × Int)} {X : zX} {x : Int} (hd : decode cd pc = .ok (.i2c, 1)) (k : zR K (pc + 1) ls ((0, x % 65536) :: st) X) : zR K pc ls ((0, x) :: st) X :=
  zstep E (fun h => h.tl.cons (by simp only [zOv]; omega)) (fun hx hb _ _ hs h => lv_i2c hx hb hd (zi2c _) h) k
theorem r_dup {K : zK} {cd : ByteArray} {own : String} {ret : Option FieldType} {d : Nat} (E : zE K cd own ret d) {pc : Nat} {ls : List (Nat × Nat × Int)} {st : List (Nat × Int)} {X : zX} {q : Nat × Int} (h1 : ¬ q.1 = 1) (hd : decode cd pc = .ok (.dup, 1)) (k : zR K (pc + 1) ls (q :: q :: st) X) : zR K pc ls (q :: st) X :=
  zstep E (fun h => h.cons h.hd) (fun hx hb _ _ _ h => lv_dup hx hb hd (by rw [zv_cat]; simp only [h1, if_false]) h) k
theorem r_dup2 {K : zK} {cd : ByteArray} {own : String} {ret : Option FieldType} {d : Nat} (E : zE K cd own ret d) {pc : Nat} {ls : List (Nat × Nat × Int)} {st : List (Nat × Int)} {X : zX} {q : Nat × Int} (h1 : q.1 = 1) (hd : decode cd pc = .ok (.dup2, 1)) (k : zR K (pc + 1) ls (q :: q :: st) X) : zR K pc ls (q :: st) X :=
  zstep E (fun h => h.cons h.hd) (fun hx hb _ _ _ h => lv_dup2_2 hx hb hd (by rw [zv_cat]; simp only [h1, if_true]) h) k
theorem r_dup22 {K : zK} {cd : ByteArray} {own : String} {ret : Option FieldType} {d : Nat} (E : zE K cd own ret d) {pc : Nat} {ls : List (Nat × Nat × Int)} {st : List (Nat × Int)} {X : zX} {q q2 : Nat × Int} (h1 : ¬ q.1 = 1) (h2 : ¬ q2.1 = 1) (hd : decode cd pc = .ok (.dup2, 1)) (k : zR K (pc + 1) ls (q :: q2 :: q :: q2 :: st) X) : zR K pc ls (q :: q2 :: st) X :=
  zstep E (fun h => (h.cons h.tl.hd).cons h.hd) (fun hx hb _ _ _ h => lv_dup2_11 hx hb hd (by rw [zv_cat]; simp only [h1, if_false]) (by rw [zv_cat]; simp only [h2, if_false]) h) k
theorem r_dupx1 {K : zK} {cd : ByteArray} {own : String} {ret : Option FieldType} {d : Nat} (E : zE K cd own ret d) {pc : Nat} {ls : List (Nat × Nat × Int)} {st : List (Nat × Int)} {X : zX} {q q2 : Nat × Int} (h1 : ¬ q.1 = 1) (h2 : ¬ q2.1 = 1) (hd : decode cd pc = .ok (.dup_x1, 1)) (k : zR K (pc + 1) ls (q :: q2 :: q :: st) X) : zR K pc ls (q :: q2 :: st) X :=
  zstep E (fun h => ((h.tl.tl.cons h.hd).cons h.tl.hd).cons h.hd) (fun hx hb _ _ _ h => lv_dup_x1 hx hb hd (by rw [zv_cat]; simp only [h1, if_false]) (by rw [zv_cat]; simp only [h2, if_false]) h) k
theorem r_pop {K : zK} {cd : ByteArray} {own : String} {ret : Option FieldType} {d : Nat} (E : zE K cd own ret d) {pc : Nat} {ls : List (Nat × Nat × Int)} {st : List (Nat × Int)} {X : zX} {q : Nat × Int} (h1 : ¬ q.1 = 1) (hd : decode cd pc = .ok (.pop, 1)) (k : zR K (pc + 1) ls st X) : zR K pc ls (q :: st) X :=
  zstep E (fun h => h.tl) (fun hx hb _ _ _ h => lv_pop hx hb hd (by rw [zv_cat]; simp only [h1, if_false]) h) k
theorem r_goto {K : zK} {cd : ByteArray} {own : String} {ret : Option FieldType} {d : Nat} (E : zE K cd own ret d) {pc : Nat} {ls : List (Nat × Nat × Int)} {st : List (Nat × Int)} {X : zX} {off : Int} (tgt : Nat) (ht : (pc : Int) + off = (tgt : Int)) (hd : decode cd pc = .ok (.goto off, 3)) (k : zR K tgt ls st X) : zR K pc ls st X :=
  zstep E (fun h => h) (fun hx hb _ _ _ h => lv_goto hx hb hd ht h) k
theorem r_eq {K : zK} {cd : ByteArray} {own : String} {ret : Option FieldType} {d : Nat} (E : zE K cd own ret d) {pc : Nat} {ls : List (Nat × Nat × Int)} {st : List (Nat × Int)} {X : zX} {t : Nat} {x y : Int} (e : x = y) (k : zR K pc ls ((t, y) :: st) X) : zR K pc ls ((t, x) :: st) X := e ▸ k
theorem r_let {K : zK} {cd : ByteArray} {own : String} {ret : Option FieldType} {d : Nat} (E : zE K cd own ret d) {pc : Nat} {ls : List (Nat × Nat × Int)} {st : List (Nat × Int)} {t : Nat} {x : Int} {f : Int → zX} (k : ∀ v : Int, v = x → zR K pc ls ((t, v) :: st) (f v)) : zR K pc ls ((t, x) :: st) (zlt x f) := k x rfl
theorem r_icmp_eq {K : zK} {cd : ByteArray} {own : String} {ret : Option FieldType} {d : Nat} (E : zE K cd own ret d) {pc : Nat} {ls : List (Nat × Nat × Int)} {st : List (Nat × Int)} {x y off : Int} {X1 X2 : zX} {hdec : Decidable (x = y)} (tgt : Nat) (ht : (pc : Int) + off = (tgt : Int)) (hd : decode cd pc = .ok (.if_icmp .eq off, 3)) (k1 : x = y → zR K tgt ls st X1) (k2 : ¬ (x = y) → zR K (pc + 3) ls st X2) : zR K pc ls ((0, y) :: (0, x) :: st) (@ite _ (x = y) hdec X1 X2) :=
  zbr E (fun h => h.tl.tl) (fun _ hx hb hs h1 h2 => lv_icmp_eq hx hb hd ht (fun e => h1 ((zeq32 hs.tl.hd hs.hd).mp e)) (fun e => h2 (fun q => e ((zeq32 hs.tl.hd hs.hd).mpr q)))) k1 k2
theorem r_if_eq {K : zK} {cd : ByteArray} {own : String} {ret : Option FieldType} {d : Nat} (E : zE K cd own ret d) {pc : Nat} {ls : List (Nat × Nat × Int)} {st : List (Nat × Int)} {x off : Int} {X1 X2 : zX} {hdec : Decidable (x = 0)} (tgt : Nat) (ht : (pc : Int) + off = (tgt : Int)) (hd : decode cd pc = .ok (.ifCond .eq off, 3)) (k1 : x = 0 → zR K tgt ls st X1) (k2 : ¬ (x = 0) → zR K (pc + 3) ls st X2) : zR K pc ls ((0, x) :: st) (@ite _ (x = 0) hdec X1 X2) :=
  zbr E (fun h => h.tl) (fun _ hx hb hs h1 h2 => lv_if_eq hx hb hd ht (fun e => h1 ((zeq32 hs.hd (show zOv (0, 0) by simp only [zOv]; omega)).mp e)) (fun e => h2 (fun q => e ((zeq32 hs.hd (show zOv (0, 0) by simp only [zOv]; omega)).mpr q)))) k1 k2
theorem r_lcmp_eq {K : zK} {cd : ByteArray} {own : String} {ret : Option FieldType} {d : Nat} (E : zE K cd own ret d) {pc : Nat} {ls : List (Nat × Nat × Int)} {st : List (Nat × Int)} {x y off : Int} {X1 X2 : zX} {hdec : Decidable (x = y)} (tgt : Nat) (ht : ((pc + 1 : Nat) : Int) + off = (tgt : Int)) (hd1 : decode cd pc = .ok (.lcmp, 1)) (hd : decode cd (pc + 1) = .ok (.ifCond .eq off, 3)) (k1 : x = y → zR K tgt ls st X1) (k2 : ¬ (x = y) → zR K (pc + 4) ls st X2) : zR K pc ls ((1, y) :: (1, x) :: st) (@ite _ (x = y) hdec X1 X2) :=
  zbr E (fun h => h.tl.tl) (fun _ hx hb hs h1 h2 => W.lcmp hx hb hd1 (lv_if_eq hx hb hd ht (fun e => h1 (by have q := zlg hs.tl.hd hs.hd; rcases q with ⟨q, z⟩ | ⟨q, z⟩ | ⟨q, z⟩ <;> rw [z] at e <;> first | omega | exact absurd e (by decide))) (fun e => h2 (by have q := zlg hs.tl.hd hs.hd; rcases q with ⟨q, z⟩ | ⟨q, z⟩ | ⟨q, z⟩ <;> rw [z] at e <;> first | omega | exact absurd e (by decide) | exact absurd (by decide) e)))) k1 k2
theorem r_icmp_ne {K : zK} {cd : ByteArray} {own : String} {ret : Option FieldType} {d : Nat} (E : zE K cd own ret d) {pc : Nat} {ls : List (Nat × Nat × Int)} {st : List (Nat × Int)} {x y off : Int} {X1 X2 : zX} {hdec : Decidable (¬ x = y)} (tgt : Nat) (ht : (pc : Int) + off = (tgt : Int)) (hd : decode cd pc = .ok (.if_icmp .ne off, 3)) (k1 : ¬ x = y → zR K tgt ls st X1) (k2 : ¬ (¬ x = y) → zR K (pc + 3) ls st X2) : zR K pc ls ((0, y) :: (0, x) :: st) (@ite _ (¬ x = y) hdec X1 X2) :=
  zbr E (fun h => h.tl.tl) (fun _ hx hb hs h1 h2 => lv_icmp_ne hx hb hd ht (fun e => h1 (fun q => e ((zeq32 hs.tl.hd hs.hd).mpr q))) (fun e => h2 (fun q => q ((zeq32 hs.tl.hd hs.hd).mp e)))) k1 k2
theorem r_if_ne {K : zK} {cd : ByteArray} {own : String} {ret : Option FieldType} {d : Nat} (E : zE K cd own ret d) {pc : Nat} {ls : List (Nat × Nat × Int)} {st : List (Nat × Int)} {x off : Int} {X1 X2 : zX} {hdec : Decidable (¬ x = 0)} (tgt : Nat) (ht : (pc : Int) + off = (tgt : Int)) (hd : decode cd pc = .ok (.ifCond .ne off, 3)) (k1 : ¬ x = 0 → zR K tgt ls st X1) (k2 : ¬ (¬ x = 0) → zR K (pc + 3) ls st X2) : zR K pc ls ((0, x) :: st) (@ite _ (¬ x = 0) hdec X1 X2) :=
  zbr E (fun h => h.tl) (fun _ hx hb hs h1 h2 => lv_if_ne hx hb hd ht (fun e => h1 (fun q => e ((zeq32 hs.hd (show zOv (0, 0) by simp only [zOv]; omega)).mpr q))) (fun e => h2 (fun q => q ((zeq32 hs.hd (show zOv (0, 0) by simp only [zOv]; omega)).mp e)))) k1 k2
theorem r_lcmp_ne {K : zK} {cd : ByteArray} {own : String} {ret : Option FieldType} {d : Nat} (E : zE K cd own ret d) {pc : Nat} {ls : List (Nat × Nat × Int)} {st : List (Nat × Int)} {x y off : Int} {X1 X2 : zX} {hdec : Decidable (¬ x = y)} (tgt : Nat) (ht : ((pc + 1 : Nat) : Int) + off = (tgt : Int)) (hd1 : decode cd pc = .ok (.lcmp, 1)) (hd : decode cd (pc + 1) = .ok (.ifCond .ne off, 3)) (k1 : ¬ x = y → zR K tgt ls st X1) (k2 : ¬ (¬ x = y) → zR K (pc + 4) ls st X2) : zR K pc ls ((1, y) :: (1, x) :: st) (@ite _ (¬ x = y) hdec X1 X2) :=
  zbr E (fun h => h.tl.tl) (fun _ hx hb hs h1 h2 => W.lcmp hx hb hd1 (lv_if_ne hx hb hd ht (fun e => h1 (by have q := zlg hs.tl.hd hs.hd; rcases q with ⟨q, z⟩ | ⟨q, z⟩ | ⟨q, z⟩ <;> rw [z] at e <;> first | omega | exact absurd e (by decide))) (fun e => h2 (by have q := zlg hs.tl.hd hs.hd; rcases q with ⟨q, z⟩ | ⟨q, z⟩ | ⟨q, z⟩ <;> rw [z] at e <;> first | omega | exact absurd e (by decide) | exact absurd (by decide) e)))) k1 k2
theorem r_icmp_lt {K : zK} {cd : ByteArray} {own : String} {ret : Option FieldType} {d : Nat} (E : zE K cd own ret d) {pc : Nat} {ls : List (Nat × Nat × Int)} {st : List (Nat × Int)} {x y off : Int} {X1 X2 : zX} {hdec : Decidable (x < y)} (tgt : Nat) (ht : (pc : Int) + off = (tgt : Int)) (hd : decode cd pc = .ok (.if_icmp .lt off, 3)) (k1 : x < y → zR K tgt ls st X1) (k2 : ¬ (x < y) → zR K (pc + 3) ls st X2) : zR K pc ls ((0, y) :: (0, x) :: st) (@ite _ (x < y) hdec X1 X2) :=
  zbr E (fun h => h.tl.tl) (fun _ hx hb hs h1 h2 => lv_icmp_lt hx hb hd ht (fun e => h1 ((zlt32 hs.tl.hd hs.hd).mp e)) (fun e => h2 (fun q => e ((zlt32 hs.tl.hd hs.hd).mpr q)))) k1 k2
theorem r_if_lt {K : zK} {cd : ByteArray} {own : String} {ret : Option FieldType} {d : Nat} (E : zE K cd own ret d) {pc : Nat} {ls : List (Nat × Nat × Int)} {st : List (Nat × Int)} {x off : Int} {X1 X2 : zX} {hdec : Decidable (x < 0)} (tgt : Nat) (ht : (pc : Int) + off = (tgt : Int)) (hd : decode cd pc = .ok (.ifCond .lt off, 3)) (k1 : x < 0 → zR K tgt ls st X1) (k2 : ¬ (x < 0) → zR K (pc + 3) ls st X2) : zR K pc ls ((0, x) :: st) (@ite _ (x < 0) hdec X1 X2) :=
  zbr E (fun h => h.tl) (fun _ hx hb hs h1 h2 => lv_if_lt hx hb hd ht (fun e => h1 ((zlt32 hs.hd (show zOv (0, 0) by simp only [zOv]; omega)).mp e)) (fun e => h2 (fun q => e ((zlt32 hs.hd (show zOv (0, 0) by simp only [zOv]; omega)).mpr q)))) k1 k2
theorem r_lcmp_lt {K : zK} {cd : ByteArray} {own : String} {ret : Option FieldType} {d : Nat} (E : zE K cd own ret d) {pc : Nat} {ls : List (Nat × Nat × Int)} {st : List (Nat × Int)} {x y off : Int} {X1 X2 : zX} {hdec : Decidable (x < y)} (tgt : Nat) (ht : ((pc + 1 : Nat) : Int) + off = (tgt : Int)) (hd1 : decode cd pc = .ok (.lcmp, 1)) (hd : decode cd (pc + 1) = .ok (.ifCond .lt off, 3)) (k1 : x < y → zR K tgt ls st X1) (k2 : ¬ (x < y) → zR K (pc + 4) ls st X2) : zR K pc ls ((1, y) :: (1, x) :: st) (@ite _ (x < y) hdec X1 X2) :=
  zbr E (fun h => h.tl.tl) (fun _ hx hb hs h1 h2 => W.lcmp hx hb hd1 (lv_if_lt hx hb hd ht (fun e => h1 (by have q := zlg hs.tl.hd hs.hd; rcases q with ⟨q, z⟩ | ⟨q, z⟩ | ⟨q, z⟩ <;> rw [z] at e <;> first | omega | exact absurd e (by decide))) (fun e => h2 (by have q := zlg hs.tl.hd hs.hd; rcases q with ⟨q, z⟩ | ⟨q, z⟩ | ⟨q, z⟩ <;> rw [z] at e <;> first | omega | exact absurd e (by decide) | exact absurd (by decide) e)))) k1 k2
theorem r_icmp_ge {K : zK} {cd : ByteArray} {own : String} {ret : Option FieldType} {d : Nat} (E : zE K cd own ret d) {pc : Nat} {ls : List (Nat × Nat × Int)} {st : List (Nat × Int)} {x y off : Int} {X1 X2 : zX} {hdec : Decidable (y ≤ x)} (tgt : Nat) (ht : (pc : Int) + off = (tgt : Int)) (hd : decode cd pc = .ok (.if_icmp .ge off, 3)) (k1 : y ≤ x → zR K tgt ls st X1) (k2 : ¬ (y ≤ x) → zR K (pc + 3) ls st X2) : zR K pc ls ((0, y) :: (0, x) :: st) (@ite _ (y ≤ x) hdec X1 X2) :=
  zbr E (fun h => h.tl.tl) (fun _ hx hb hs h1 h2 => lv_icmp_ge hx hb hd ht (fun e => h1 ((zle32 hs.hd hs.tl.hd).mp e)) (fun e => h2 (fun q => e ((zle32 hs.hd hs.tl.hd).mpr q)))) k1 k2
theorem r_if_ge {K : zK} {cd : ByteArray} {own : String} {ret : Option FieldType} {d : Nat} (E : zE K cd own ret d) {pc : Nat} {ls : List (Nat × Nat × Int)} {st : List (Nat × Int)} {x off : Int} {X1 X2 : zX} {hdec : Decidable (0 ≤ x)} (tgt : Nat) (ht : (pc : Int) + off = (tgt : Int)) (hd : decode cd pc = .ok (.ifCond .ge off, 3)) (k1 : 0 ≤ x → zR K tgt ls st X1) (k2 : ¬ (0 ≤ x) → zR K (pc + 3) ls st X2) : zR K pc ls ((0, x) :: st) (@ite _ (0 ≤ x) hdec X1 X2) :=
  zbr E (fun h => h.tl) (fun _ hx hb hs h1 h2 => lv_if_ge hx hb hd ht (fun e => h1 ((zle32 (show zOv (0, 0) by simp only [zOv]; omega) hs.hd).mp e)) (fun e => h2 (fun q => e ((zle32 (show zOv (0, 0) by simp only [zOv]; omega) hs.hd).mpr q)))) k1 k2
theorem r_lcmp_ge {K : zK} {cd : ByteArray} {own : String} {ret : Option FieldType} {d : Nat} (E : zE K cd own ret d) {pc : Nat} {ls : List (Nat × Nat × Int)} {st : List (Nat × Int)} {x y off : Int} {X1 X2 : zX} {hdec : Decidable (y ≤ x)} (tgt : Nat) (ht : ((pc + 1 : Nat) : Int) + off = (tgt : Int)) (hd1 : decode cd pc = .ok (.lcmp, 1)) (hd : decode cd (pc + 1) = .ok (.ifCond .ge off, 3)) (k1 : y ≤ x → zR K tgt ls st X1) (k2 : ¬ (y ≤ x) → zR K (pc + 4) ls st X2) : zR K pc ls ((1, y) :: (1, x) :: st) (@ite _ (y ≤ x) hdec X1 X2) :=
  zbr E (fun h => h.tl.tl) (fun _ hx hb hs h1 h2 => W.lcmp hx hb hd1 (lv_if_ge hx hb hd ht (fun e => h1 (by have q := zlg hs.tl.hd hs.hd; rcases q with ⟨q, z⟩ | ⟨q, z⟩ | ⟨q, z⟩ <;> rw [z] at e <;> first | omega | exact absurd e (by decide))) (fun e => h2 (by have q := zlg hs.tl.hd hs.hd; rcases q with ⟨q, z⟩ | ⟨q, z⟩ | ⟨q, z⟩ <;> rw [z] at e <;> first | omega | exact absurd e (by decide) | exact absurd (by decide) e)))) k1 k2
theorem r_icmp_gt {K : zK} {cd : ByteArray} {own : String} {ret : Option FieldType} {d : Nat} (E : zE K cd own ret d) {pc : Nat} {ls : List (Nat × Nat × Int)} {st : List (Nat × Int)} {x y off : Int} {X1 X2 : zX} {hdec : Decidable (y < x)} (tgt : Nat) (ht : (pc : Int) + off = (tgt : Int)) (hd : decode cd pc = .ok (.if_icmp .gt off, 3)) (k1 : y < x → zR K tgt ls st X1) (k2 : ¬ (y < x) → zR K (pc + 3) ls st X2) : zR K pc ls ((0, y) :: (0, x) :: st) (@ite _ (y < x) hdec X1 X2) :=
  zbr E (fun h => h.tl.tl) (fun _ hx hb hs h1 h2 => lv_icmp_gt hx hb hd ht (fun e => h1 ((zlt32 hs.hd hs.tl.hd).mp e)) (fun e => h2 (fun q => e ((zlt32 hs.hd hs.tl.hd).mpr q)))) k1 k2
theorem r_if_gt {K : zK} {cd : ByteArray} {own : String} {ret : Option FieldType} {d : Nat} (E : zE K cd own ret d) {pc : Nat} {ls : List (Nat × Nat × Int)} {st : List (Nat × Int)} {x off : Int} {X1 X2 : zX} {hdec : Decidable (0 < x)} (tgt : Nat) (ht : (pc : Int) + off = (tgt : Int)) (hd : decode cd pc = .ok (.ifCond .gt off, 3)) (k1 : 0 < x → zR K tgt ls st X1) (k2 : ¬ (0 < x) → zR K (pc + 3) ls st X2) : zR K pc ls ((0, x) :: st) (@ite _ (0 < x) hdec X1 X2) :=
  zbr E (fun h => h.tl) (fun _ hx hb hs h1 h2 => lv_if_gt hx hb hd ht (fun e => h1 ((zlt32 (show zOv (0, 0) by simp only [zOv]; omega) hs.hd).mp e)) (fun e => h2 (fun q => e ((zlt32 (show zOv (0, 0) by simp only [zOv]; omega) hs.hd).mpr q)))) k1 k2
theorem r_lcmp_gt {K : zK} {cd : ByteArray} {own : String} {ret : Option FieldType} {d : Nat} (E : zE K cd own ret d) {pc : Nat} {ls : List (Nat × Nat × Int)} {st : List (Nat × Int)} {x y off : Int} {X1 X2 : zX} {hdec : Decidable (y < x)} (tgt : Nat) (ht : ((pc + 1 : Nat) : Int) + off = (tgt : Int)) (hd1 : decode cd pc = .ok (.lcmp, 1)) (hd : decode cd (pc + 1) = .ok (.ifCond .gt off, 3)) (k1 : y < x → zR K tgt ls st X1) (k2 : ¬ (y < x) → zR K (pc + 4) ls st X2) : zR K pc ls ((1, y) :: (1, x) :: st) (@ite _ (y < x) hdec X1 X2) :=
  zbr E (fun h => h.tl.tl) (fun _ hx hb hs h1 h2 => W.lcmp hx hb hd1 (lv_if_gt hx hb hd ht (fun e => h1 (by have q := zlg hs.tl.hd hs.hd; rcases q with ⟨q, z⟩ | ⟨q, z⟩ | ⟨q, z⟩ <;> rw [z] at e <;> first | omega | exact absurd e (by decide))) (fun e => h2 (by have q := zlg hs.tl.hd hs.hd; rcases q with ⟨q, z⟩ | ⟨q, z⟩ | ⟨q, z⟩ <;> rw [z] at e <;> first | omega | exact absurd e (by decide) | exact absurd (by decide) e)))) k1 k2
theorem r_icmp_le {K : zK} {cd : ByteArray} {own : String} {ret : Option FieldType} {d : Nat} (E : zE K cd own ret d) {pc : Nat} {ls : List (Nat × Nat × Int)} {st : List (Nat × Int)} {x y off : Int} {X1 X2 : zX} {hdec : Decidable (x ≤ y)} (tgt : Nat) (ht : (pc : Int) + off = (tgt : Int)) (hd : decode cd pc = .ok (.if_icmp .le off, 3)) (k1 : x ≤ y → zR K tgt ls st X1) (k2 : ¬ (x ≤ y) → zR K (pc + 3) ls st X2) : zR K pc ls ((0, y) :: (0, x) :: st) (@ite _ (x ≤ y) hdec X1 X2) :=
  zbr E (fun h => h.tl.tl) (fun _ hx hb hs h1 h2 => lv_icmp_le hx hb hd ht (fun e => h1 ((zle32 hs.tl.hd hs.hd).mp e)) (fun e => h2 (fun q => e ((zle32 hs.tl.hd hs.hd).mpr q)))) k1 k2
theorem r_if_le {K : zK} {cd : ByteArray} {own : String} {ret : Option FieldType} {d : Nat} (E : zE K cd own ret d) {pc : Nat} {ls : List (Nat × Nat × Int)} {st : List (Nat × Int)} {x off : Int} {X1 X2 : zX} {hdec : Decidable (x ≤ 0)} (tgt : Nat) (ht : (pc : Int) + off = (tgt : Int)) (hd : decode cd pc = .ok (.ifCond .le off, 3)) (k1 : x ≤ 0 → zR K tgt ls st X1) (k2 : ¬ (x ≤ 0) → zR K (pc + 3) ls st X2) : zR K pc ls ((0, x) :: st) (@ite _ (x ≤ 0) hdec X1 X2) :=
  zbr E (fun h => h.tl) (fun _ hx hb hs h1 h2 => lv_if_le hx hb hd ht (fun e => h1 ((zle32 hs.hd (show zOv (0, 0) by simp only [zOv]; omega)).mp e)) (fun e => h2 (fun q => e ((zle32 hs.hd (show zOv (0, 0) by simp only [zOv]; omega)).mpr q)))) k1 k2
theorem r_lcmp_le {K : zK} {cd : ByteArray} {own : String} {ret : Option FieldType} {d : Nat} (E : zE K cd own ret d) {pc : Nat} {ls : List (Nat × Nat × Int)} {st : List (Nat × Int)} {x y off : Int} {X1 X2 : zX} {hdec : Decidable (x ≤ y)} (tgt : Nat) (ht : ((pc + 1 : Nat) : Int) + off = (tgt : Int)) (hd1 : decode cd pc = .ok (.lcmp, 1)) (hd : decode cd (pc + 1) = .ok (.ifCond .le off, 3)) (k1 : x ≤ y → zR K tgt ls st X1) (k2 : ¬ (x ≤ y) → zR K (pc + 4) ls st X2) : zR K pc ls ((1, y) :: (1, x) :: st) (@ite _ (x ≤ y) hdec X1 X2) :=
  zbr E (fun h => h.tl.tl) (fun _ hx hb hs h1 h2 => W.lcmp hx hb hd1 (lv_if_le hx hb hd ht (fun e => h1 (by have q := zlg hs.tl.hd hs.hd; rcases q with ⟨q, z⟩ | ⟨q, z⟩ | ⟨q, z⟩ <;> rw [z] at e <;> first | omega | exact absurd e (by decide))) (fun e => h2 (by have q := zlg hs.tl.hd hs.hd; rcases q with ⟨q, z⟩ | ⟨q, z⟩ | ⟨q, z⟩ <;> rw [z] at e <;> first | omega | exact absurd e (by decide) | exact absurd (by decide) e)))) k1 k2
theorem r_acmp_eq {K : zK} {cd : ByteArray} {own : String} {ret : Option FieldType} {d : Nat} (E : zE K cd own ret d) {pc : Nat} {ls : List (Nat × Nat × Int)} {st : List (Nat × Int)} {t : Nat} (hz : zcn (t + 2) = zcnt (t + 2)) {x y off : Int} {X1 X2 : zX} {hdec : Decidable (x = y)} (tgt : Nat) (ht : (pc : Int) + off = (tgt : Int)) (hd : decode cd pc = .ok (.if_acmp .eq off, 3)) (k1 : x = y → zR K tgt ls st X1) (k2 : ¬ (x = y) → zR K (pc + 3) ls st X2) : zR K pc ls ((t + 2, y) :: (t + 2, x) :: st) (@ite _ (x = y) hdec X1 X2) :=
  zbr E (fun h => h.tl.tl) (fun hI hx hb hs h1 h2 => by
    have h3 := lv_acmp_eq (rx := zad _ (t + 2) x) (ry := zad _ (t + 2) y) hx hb hd ht (fun e => h1 ((zad_inj hI hz hs.tl.hd hs.hd).mp e)) (fun e => h2 (fun q => e ((zad_inj hI hz hs.tl.hd hs.hd).mpr q)))
    rw [← zv_ad, ← zv_ad] at h3
    exact h3) k1 k2
theorem r_acmp_ne {K : zK} {cd : ByteArray} {own : String} {ret : Option FieldType} {d : Nat} (E : zE K cd own ret d) {pc : Nat} {ls : List (Nat × Nat × Int)} {st : List (Nat × Int)} {t : Nat} (hz : zcn (t + 2) = zcnt (t + 2)) {x y off : Int} {X1 X2 : zX} {hdec : Decidable (¬ x = y)} (tgt : Nat) (ht : (pc : Int) + off = (tgt : Int)) (hd : decode cd pc = .ok (.if_acmp .ne off, 3)) (k1 : ¬ x = y → zR K tgt ls st X1) (k2 : ¬ (¬ x = y) → zR K (pc + 3) ls st X2) : zR K pc ls ((t + 2, y) :: (t + 2, x) :: st) (@ite _ (¬ x = y) hdec X1 X2) :=
  zbr E (fun h => h.tl.tl) (fun hI hx hb hs h1 h2 => by
    have h3 := lv_acmp_ne (rx := zad _ (t + 2) x) (ry := zad _ (t + 2) y) hx hb hd ht (fun e => h1 (fun q => e ((zad_inj hI hz hs.tl.hd hs.hd).mpr q))) (fun e => h2 (fun q => q ((zad_inj hI hz hs.tl.hd hs.hd).mp e)))
    rw [← zv_ad, ← zv_ad] at h3
    exact h3) k1 k2
theorem r_ifnull {K : zK} {cd : ByteArray} {own : String} {ret : Option FieldType} {d : Nat} (E : zE K cd own ret d) {pc : Nat} {ls : List (Nat × Nat × Int)} {st : List (Nat × Int)} {t : Nat} {x off : Int} {X1 X2 : zX} {hdec : Decidable (x < 0)} (tgt : Nat) (ht : (pc : Int) + off = (tgt : Int)) (hd : decode cd pc = .ok (.ifnull off, 3)) (k1 : x < 0 → zR K tgt ls st X1) (k2 : ¬ x < 0 → zR K (pc + 3) ls st X2) : zR K pc ls ((t + 2, x) :: st) (@ite _ (x < 0) hdec X1 X2) :=
  zbr E (fun h => h.tl) (fun hI hx hb hs h1 h2 => by
    by_cases h : x < 0
    · rw [List.map_cons, zv_null h]
      exact lv_ifnullN hx hb hd ht (h1 h)
    · rw [List.map_cons, zv_ref h]
      exact lv_ifnull hx hb hd (h2 h)) k1 k2
theorem r_ifnonnull {K : zK} {cd : ByteArray} {own : String} {ret : Option FieldType} {d : Nat} (E : zE K cd own ret d) {pc : Nat} {ls : List (Nat × Nat × Int)} {st : List (Nat × Int)} {t : Nat} {x off : Int} {X1 X2 : zX} {hdec : Decidable (x < 0)} (tgt : Nat) (ht : (pc : Int) + off = (tgt : Int)) (hd : decode cd pc = .ok (.ifnonnull off, 3)) (k1 : x < 0 → zR K (pc + 3) ls st X1) (k2 : ¬ x < 0 → zR K tgt ls st X2) : zR K pc ls ((t + 2, x) :: st) (@ite _ (x < 0) hdec X1 X2) :=
  zbr E (fun h => h.tl) (fun hI hx hb hs h1 h2 => by
    by_cases h : x < 0
    · rw [List.map_cons, zv_null h]
      exact lv_ifnonnullN hx hb hd (h1 h)
    · rw [List.map_cons, zv_ref h]
      exact lv_ifnonnull hx hb hd ht (h2 h)) k1 k2
