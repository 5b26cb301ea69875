def zslen : List Nat := [3, 3, 3, 3, 3, 3, 3, 3, 3, 3, 3, 3, 3, 3, 3, 3, 3, 3, 3, 3, 3, 3, 3, 3, 3, 3, 3, 3, 3, 3, 3, 3, 3, 4, 3, 3, 3, 3, 5, 4, 6, 4, 6, 2]
def zsbyt : List (List Int32) := [[104, 108, 116], [110, 111, 112], [108, 100, 97], [108, 100, 113], [97, 100, 97], [115, 98, 97], [109, 112, 97], [100, 118, 97], [97, 110, 97], [111, 114, 97], [101, 114, 97], [99, 109, 97], [108, 100, 120], [97, 100, 120], [115, 116, 97], [115, 116, 113], [115, 116, 120], [115, 112, 112], [97, 111, 115], [115, 119, 97], [101, 97, 120], [101, 97, 97], [97, 108, 115], [97, 114, 115], [97, 114, 108], [101, 112, 112], [101, 112, 97], [116, 114, 97], [116, 122, 101], [116, 110, 122], [116, 109, 105], [116, 112, 108], [100, 106, 120], [99, 97, 108, 108], [114, 101, 116], [115, 118, 99], [120, 97, 113], [110, 101, 103], [46, 119, 111, 114, 100], [46, 112, 116, 114], [46, 115, 112, 97, 99, 101], [46, 100, 101, 102], [46, 119, 111, 114, 100, 32], [44, 120]]
def zSR : List (String × Nat × String × Nat) := [("RingHouse$Machine", 37, "hlt", 0), ("RingHouse$Machine", 42, "nop", 1), ("RingHouse$Machine", 46, "lda", 2), ("RingHouse$Machine", 49, "ldq", 3), ("RingHouse$Machine", 53, "ada", 4), ("RingHouse$Machine", 58, "sba", 5), ("RingHouse$Product", 1, "mpa", 6), ("RingHouse$Division", 3, "dva", 7), ("RingHouse$Machine", 68, "ana", 8), ("RingHouse$Machine", 71, "ora", 9), ("RingHouse$Machine", 73, "era", 10), ("RingHouse$Compare", 3, "cma", 11), ("RingHouse$Machine", 80, "ldx", 12), ("RingHouse$Machine", 83, "adx", 13), ("RingHouse$Machine", 87, "sta", 14), ("RingHouse$Machine", 92, "stq", 15), ("RingHouse$Machine", 94, "stx", 16), ("RingHouse$Machine", 96, "spp", 17), ("RingHouse$AddOne", 3, "aos", 18), ("RingHouse$Swap", 3, "swa", 19), ("RingHouse$Machine", 106, "eax", 20), ("RingHouse$Machine", 109, "eaa", 21), ("RingHouse$Machine", 113, "als", 22), ("RingHouse$Machine", 116, "ars", 23), ("RingHouse$Machine", 118, "arl", 24), ("RingHouse$Machine", 122, "epp", 25), ("RingHouse$Machine", 125, "epa", 26), ("RingHouse$Machine", 129, "tra", 27), ("RingHouse$Machine", 132, "tze", 28), ("RingHouse$Machine", 134, "tnz", 29), ("RingHouse$Machine", 136, "tmi", 30), ("RingHouse$Machine", 138, "tpl", 31), ("RingHouse$Machine", 140, "djx", 32), ("RingHouse$Call", 3, "call", 33), ("RingHouse$Return", 3, "ret", 34), ("RingHouse$Supervise", 3, "svc", 35), ("RingHouse$Exchange", 3, "xaq", 36), ("RingHouse$Negate", 3, "neg", 37), ("RingHouse$Assembler", 217, ".word", 38), ("RingHouse$Assembler", 226, ".ptr", 39), ("RingHouse$Assembler", 231, ".space", 40), ("RingHouse$Assembler", 236, ".def", 41), ("RingHouse$Lister", 75, ".word ", 42), ("RingHouse$Lister", 90, ",x", 43)]
/-! THE JUDGEMENT: the machine at a frame does what a computation over the abstract memory does -/
def zkw : Cond → Bool
  | .fieldLinkNest _ _ _ _ _ _ => true
  | .methodLinkNest _ _ _ _ => true
  | .declares _ => true
  | .castable _ _ => true
  | _ => false
def zNw (U : State) : Prop := ∀ w ∈ lw_tbl, zkw w = true → va_Nw w U
theorem zNw.warm {s U : State} (hW : s.WarmedH U.vm) (h : zNw s) : zNw U := by
  intro w hw hk
  have h1 := h w hw hk
  cases w <;> first | exact va_Nw.warmF hW h1 | exact va_Nw.warmM hW h1 | exact va_Nw.warmD hW h1 | exact va_Nw.warmC hW h1 | (exact absurd hk (by simp [zkw]))
theorem zNw.same {s U : State} (hv : s.vm = U.vm) (h : zNw s) : zNw U := by
  intro w hw hk
  have h1 := h w hw hk
  cases w <;> first | exact va_Nw.same rfl hv h1 | (exact absurd hk (by simp [zkw]))
def zSt (G : zG) (U : State) (H : Heap) : Prop :=
  vk_S 44 zslen zsbyt (G.2.1 70) (G.2.1 73) (zA G) U H ∧ (∀ q ∈ zSR, vk_R q.1 q.2.1 q.2.2.1 (G.2.1 70 q.2.2.2) U) ∧
  va_Z "RingHouse" "HEAD" "[I" (.ref (G.2.1 71 0)) (zA G) U H ∧ va_T .int (G.2.1 71 0) 3 (fun i => .int (Int32.ofInt (zhv i))) (zA G) U H ∧
  va_Z "java/lang/String" "COMPACT_STRINGS" "Z" (.int 1) (zA G) U H ∧ ∃ x : Int, zOv (74, x) ∧ va_Z "jdk/internal/util/Preconditions" "SIOOBE_FORMATTER" "Ljava/util/function/BiFunction;" (zv G (74, x)) (zA G) U H
theorem zSt.to {G : zG} {s U : State} {H H1 : Heap} (hW : s.WarmedH U.vm) (hq : ∀ a : Nat, a < H.size → ¬ zA G a → H1[a]? = H[a]?) (h : zSt G s H) : zSt G U H1 := by
  obtain ⟨h1, h2, h3, h4, h5, h6⟩ := h
  refine ⟨(h1.kept hq).moved hW.alike, fun q hq' => (h2 q hq').warm hW, (h3.kept hq).moved hW.alike, (h4.kept hq).moved hW.alike, (h5.kept hq).moved hW.alike, ?_⟩
  obtain ⟨x, h0, h⟩ := h6
  exact ⟨x, h0, (h.kept hq).moved hW.alike⟩
theorem zSt.same {G : zG} {s U : State} {H : Heap} (hv : s.vm = U.vm) (h : zSt G s H) : zSt G U H := by
  have ha : s.vm.Alike U.vm := by rw [hv]; exact Vm.Alike.refl _
  obtain ⟨h1, h2, h3, h4, h5, h6⟩ := h
  refine ⟨h1.moved ha, fun q hq' => (h2 q hq').same hv.symm, h3.moved ha, h4.moved ha, h5.moved ha, ?_⟩
  obtain ⟨x, h0, h⟩ := h6
  exact ⟨x, h0, h.moved ha⟩
def zPre (G : zG) (M : zM) (U : State) : Prop := va_P G.1 zcs (zwl G M) U.heap ∧ va_K G.1 zcs (ztys G) U ∧ zNw U ∧ zSt G U U.heap ∧ zInj G
def zrm (d : Nat) : Room := { frames := d + 1, cells := 0, slots := 0, locals := 100 * (d + 1) }
def zrv (G : zG) (tr : Option Nat) (r : Int) : Option Value := tr.map (fun t => zv G (t, r))
def zQ (G : zG) (tr : Option Nat) (r : Int) (M' : zM) : Array Value → State → Outcome → State → Prop := fun _ st oc t =>
  oc = .returned (zrv G tr r) ∧ va_P G.1 zcs (zwl G M') t.heap ∧ va_F (zA G) st t ∧ zOM M' ∧ ∀ t ∈ tr, zOv (t, r)
def zCt (l : Launch) (G : zG) (y : MethodName) (cd : ByteArray) (nL : Nat) (ret : Option FieldType) (d : Nat) (As : List (Nat × Int)) (tr : Option Nat) (X : zX) : Prop :=
  ∀ (M : zM) (r : Int) (M' : zM), X M = some (r, M') → zOM M → zOs As → Met l y (ws_ y cd nL ret) (zrm d) (va_Pc (As.map (zv G)) (zPre G M)) (zQ G tr r M') 0 0 (zA G)
abbrev zK := Program × Launch × Env × Room × State × MethodId × Array Value × List Frame × Method × Code × zG × Nat × Option Nat
def zR : zK → Nat → List (Nat × Nat × Int) → List (Nat × Int) → zX → Prop
  | (p, l, e, R, s, m, args, below, meth, c, G, nL, tr), pc, ls, st, X => ∀ (M : zM) (r : Int) (M' : zM), X M = some (r, M') → zOM M → zOs (ls.map Prod.snd) → zOs st → ∀ (H : Heap) (locs : List Loc), va_P G.1 zcs (zwl G M) H → va_S (zA G) s.heap H locs →
    ∀ lsA : Array Slot, lv_has lsA nL (ls.map (fun q => (q.1, zv G q.2))) → W p l e R s m args below meth c H locs 0 0 (MQ below (zQ G tr r M') args s 0 0 (zA G)) (F0 m pc lsA (st.map (zv G)))
def zE : zK → ByteArray → String → Option FieldType → Nat → Prop
  | (p, l, e, R, s, m, args, below, meth, c, G, nL, tr), cd, own, ret, d => p.tables.exec = Jvm.exec ∧ c.code = cd ∧ meth.sig.returnType = ret ∧ meth.locks = false ∧ c.maxLocals = nL ∧ s.vm.findClass own = some m.cls ∧ (∀ w ∈ lw_all, w.before args s = true) ∧ va_K G.1 zcs (ztys G) s ∧ zNw s ∧ zSt G s s.heap ∧ zInj G ∧ R = zrm d
def zLa (K : zK) : Launch := K.2.1
def zGa (K : zK) : zG := K.2.2.2.2.2.2.2.2.2.2.1
def zNl (K : zK) : Nat := K.2.2.2.2.2.2.2.2.2.2.2.1
def zTr (K : zK) : Option Nat := K.2.2.2.2.2.2.2.2.2.2.2.2
def zargs : Nat → List (Nat × Int) → List (Nat × Nat × Int)
  | _, [] => []
  | i, q :: qs => (i, q) :: zargs (if q.1 = 1 then i + 2 else i + 1) qs
theorem zv_cat (G : zG) (q : Nat × Int) : (zv G q).category = if q.1 = 1 then 2 else 1 := by
  obtain ⟨t, x⟩ := q
  match t with
  | 0 => rfl
  | 1 => rfl
  | t + 2 =>
    have h : ¬ t + 2 = 1 := by omega
    simp only [h, if_false]
    unfold zv
    by_cases hx : x < 0
    · simp [hx, Value.category]
    · simp [hx, Value.category]
theorem zargs_eq (G : zG) (As : List (Nat × Int)) (i : Nat) : lv_args i (As.map (zv G)) = (zargs i As).map (fun q => (q.1, zv G q.2)) := by
  induction As generalizing i with
  | nil => rfl
  | cons q qs ih =>
    simp only [List.map_cons, lv_args, zargs, zv_cat]
    rw [ih]
    by_cases h : q.1 = 1 <;> simp [h]
theorem zargs_snd (As : List (Nat × Int)) (i : Nat) : (zargs i As).map Prod.snd = As := by
  induction As generalizing i with
  | nil => rfl
  | cons q qs ih => simp [zargs, ih]
def zcat : List (Nat × Int) → Nat
  | [] => 0
  | q :: qs => (if q.1 = 1 then 2 else 1) + zcat qs
theorem zcat_lg (G : zG) (As : List (Nat × Int)) : (lg_sl (As.map (zv G))).length = zcat As := by
  induction As with
  | nil => rfl
  | cons q qs ih =>
    simp only [List.map_cons, lg_sl, List.flatMap_cons, List.length_append, zcat, zv_cat] at ih ⊢
    rw [← ih]
    by_cases h : q.1 = 1 <;> simp [h]
theorem zcat_sum (G : zG) (st : List (Nat × Int)) : ((st.map (zv G)).map fun v => v.category).sum = zcat st := by
  induction st with
  | nil => rfl
  | cons q qs ih => simp only [List.map_cons, List.sum_cons, zcat, zv_cat, ih]
theorem zpre_blind {G : zG} {M : zM} {vs : List Value} : FrameBlind (va_Pc vs (zPre G M)) := by
  intro a U g mk h
  obtain ⟨h0, h1, h2, h3, h4, h5⟩ := h
  exact ⟨h0, h1, va_K.moved (u := U) (U := U.calling g mk a) (Vm.Alike.refl U.vm) h2, zNw.same (s := U) (U := U.calling g mk a) rfl h3, zSt.same (s := U) (U := U.calling g mk a) rfl h4, h5⟩
theorem zpre_of {G : zG} {M : zM} {s : State} {H : Heap} {locs : List Loc} (hP : va_P G.1 zcs (zwl G M) H) (hS : va_S (zA G) s.heap H locs) (hK : va_K G.1 zcs (ztys G) s) (hN : zNw s) (hZ : zSt G s s.heap) (hI : zInj G) {U : State} (hU : U.heap = H) (hW : s.WarmedH U.vm) : zPre G M U := by
  subst hU
  exact ⟨hP, va_K.moved hW.alike hK, hN.warm hW, hZ.to hW hS.2.1, hI⟩
/-- a contract out of the walk of a body -/
theorem zCt.of {l : Launch} {G : zG} {y : MethodName} {cd : ByteArray} {nL : Nat} {ret : Option FieldType} {d : Nat} {As : List (Nat × Int)} {tr : Option Nat} {X : zX} (hy : plainName y.cls = true) (hn : zcat As ≤ nL)
    (body : ∀ K : zK, zE K cd y.cls ret d → zLa K = l → zGa K = G → zNl K = nL → zTr K = tr → zR K 0 (zargs 0 As) [] X) : zCt l G y cd nL ret d As tr X := by
  intro M r M' hX hM hA
  refine Met.ofW (cc := cd) (maxL := nL) (ret := ret) hy rfl ?_
  intro p e s m args below meth c s₁ B hml hv
  obtain ⟨rfl, hP, hK, hN, hZ, hI⟩ := hv
  have hts := atoms_spec (ws := ws_ y cd nL ret) B.pre
  have hts : ∀ w ∈ lw_all, w.before _ s = true := fun w h => hts w (List.mem_cons_of_mem _ h)
  have hown : s.vm.findClass y.cls = some m.cls := findClass_of_methodNamed B.named
  have hl := lv_entry (As.map (zv G)) (n := nL) (by rw [zcat_lg]; exact hn)
  rw [zargs_eq] at hl
  rw [lg_entry_eq]
  exact body (p, l, e, (headSpec (ws_ y cd nL ret) (zrm d)).room, s, m, _, below, meth, c, G, nL, tr) ⟨B.exec, B.bytes, B.returns, B.notSynchronized, hml, hown, hts, hK, hN, hZ, hI, rfl⟩ rfl rfl rfl rfl M r M' hX hM (by rw [zargs_snd]; exact hA) (fun _ h => by cases h) s.heap [] hP va_S.rf _ hl
section
variable {p : Program} {l : Launch} {e : Env} {R : Room} {s : State} {m : MethodId} {args : Array Value} {below : List Frame} {meth : Method} {c : Code} {H : Heap} {locs : List Loc} {Q : State → Prop}
theorem zcont {pc : Nat} {lsA : Array Slot} {st0 rest : List Value} {G : zG} {tr1 : Option Nat} {r1 : Int} {M1 : zM} {a : Array Value} (hr : va_Run p l e R s m args below meth c H locs 0 0 0 0 (F0 m pc lsA st0) rest (zQ G tr1 r1 M1 a) (zA G)) (hS : va_S (zA G) s.heap H locs)
    (kk : ∀ (H1 : Heap) (locs1 : List Loc), va_P G.1 zcs (zwl G M1) H1 → va_S (zA G) s.heap H1 locs1 → zOM M1 → (∀ t ∈ tr1, zOv (t, r1)) → W p l e R s m args below meth c H1 locs1 0 0 Q (F0 m (pc + 3) lsA ((zrv G tr1 r1).toList ++ rest))) : W p l e R s m args below meth c H locs 0 0 Q (F0 m pc lsA st0) := by
  intro T hT X
  obtain ⟨v, st₀, t, T', L, h0, X', hL, e1, e2, ⟨hv, hP1, ⟨hz, hk⟩, hM1, hr1⟩, st⟩ := hr T hT X
  cases hv
  rw [h0] at hz hk
  obtain ⟨t2, a1, b1⟩ := kk T'.heap (locs ++ L) (by rw [e1]; exact hP1) ⟨Nat.le_trans hS.1 (by rw [e1]; exact hz), fun q h1 h2 => by rw [e1, hk q (Nat.lt_of_lt_of_le h1 hS.1) h2]; exact hS.2.1 q h1 h2, fun q hq => by
      rcases List.mem_append.mp hq with h | h
      · exact hS.2.2 q h
      · exact hL q h⟩ hM1 hr1 T' rfl X'
  exact ⟨t2, st t2 a1, b1⟩
end
