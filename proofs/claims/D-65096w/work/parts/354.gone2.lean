set_option linter.unusedSimpArgs false
set_option linter.unusedVariables false
/-! a node goes: lists, index, store, boxes, accounts -/
theorem T_go_lv {A A' : zM} {n d a c : Int} (fa : yGoA A A' n d a c) : ∀ m, yLv A' m → yLv A m ∧ m ≠ n := by
  intro m hm
  have := hm.2
  rw [fa.c501] at this
  by_cases e : m = n
  · rw [if_pos e] at this; omega
  · rw [if_neg e] at this; exact ⟨⟨hm.1, this⟩, e⟩
theorem T_go_ls {A B A' B' : zM} {n d a c : Int} (h : I_ls A B) (fa : yGoA A A' n d a c) (fb : yGoB B B' n a c) : I_ls A' B' := by
  have lv := T_go_lv fa
  have ha : ∀ f x i, f = 600 ∨ f = 601 ∨ f = 602 → A' f x i = A f x i := by
    intro f x i hf
    rcases hf with rfl | rfl | rfl
    · rw [fa.cco 600 (by decide)]
    · rw [fa.cco 601 (by decide)]
    · rw [fa.cco 602 (by decide)]
  have b12 : B' 6812 = B 6812 := fb.cco 6812 (by decide)
  have b13 : B' 6813 = B 6813 := fb.cco 6813 (by decide)
  have b14 : B' 6814 = B 6814 := fb.cco 6814 (by decide)
  have b15 : B' 6815 = B 6815 := fb.cco 6815 (by decide)
  refine ⟨fun m hm => ?_, fun m hm => ?_, fun m hm => ?_⟩
  · exact I_al_fr (fun f i hf => ha f _ i hf) (fun i _ _ => by rw [b13]) (by rw [b12]) (h.ac m (lv m hm).1)
  · exact I_al_fr (fun f i hf => ha f _ i hf) (fun i _ _ => by rw [b15]) (by rw [b14]) (h.fs m (lv m hm).1)
  · exact I_al_fr (fun f i hf => ha f _ i hf) (fun i _ _ => by rw [b15]) (by rw [b14]) (h.fd m (lv m hm).1)
theorem T_go_ix {A A' : zM} {rho : Int → Int} {K n : Int} (h : I_ixW A rho K n) (h1 : ∀ i, A' 501 i 0 = if i = n then 0 else A 501 i 0) (ca : yCo [300, 502, 504, 507] A A') : I_ix A' rho K := by
  have a3 : A' 300 = A 300 := ca 300 (by decide)
  have a2 : A' 502 = A 502 := ca 502 (by decide)
  have a4 : A' 504 = A 504 := ca 504 (by decide)
  have a7 : A' 507 = A 507 := ca 507 (by decide)
  have lv : ∀ m, yLv A' m → yLv A m ∧ m ≠ n := by
    intro m hm
    have := hm.2
    rw [h1] at this
    by_cases e : m = n
    · rw [if_pos e] at this; omega
    · rw [if_neg e] at this; exact ⟨⟨hm.1, this⟩, e⟩
  have en : ∀ b m, (yBm A b m ∧ m ≠ n) ↔ yBm A' b m := by
    intro b m
    show _ ↔ ((0 < m ∧ m < 256) ∧ 0 < A' 501 m 0 ∧ ybk (A' 504 m 0) (A' 502 m 0) = b)
    rw [h1, a4, a2]
    by_cases e : m = n
    · rw [if_pos e]; exact ⟨fun q => absurd e q.2, fun q => by omega⟩
    · rw [if_neg e]; exact ⟨fun q => q.1, fun q => ⟨q, e⟩⟩
  refine ⟨?_, ?_, ?_, ?_⟩
  · intro b b0 b1; rw [a3]; exact zPv_congr (en b) (fun _ _ => rfl) (h.hd b b0 b1)
  · intro m hm m0; rw [a7, a4, a2]; exact zPv_congr (en _) (fun _ _ => rfl) (h.al m (lv m hm).1 m0 (lv m hm).2)
  · intro m hm m0; exact h.rg m (lv m hm).1 m0 (lv m hm).2
  · intro x y hx hy x0 y0; exact h.ij x y (lv x hx).1 (lv y hy).1 x0 y0 (lv x hx).2 (lv y hy).2
theorem T_go_st {A B A' B' : zM} {n d a c : Int} (h : I_st A B) (n0 : yLv A n) (hl : A 501 n 0 = 2 → A 522 n 0 = 0) (fa : yGoA A A' n d a c) (fb : yGoB B B' n a c) : I_st A' B' := by
  have lv := T_go_lv fa
  have a400 : A' 400 = A 400 := fa.cco 400 (by decide)
  have a401 : A' 401 = A 401 := fa.cco 401 (by decide)
  have a402 : A' 402 = A 402 := fa.cco 402 (by decide)
  have a522 : A' 522 = A 522 := fa.cco 522 (by decide)
  have a523 : A' 523 = A 523 := fa.cco 523 (by decide)
  have b16 : B' 6816 = B 6816 := fb.cco 6816 (by decide)
  have k : ∀ m, yLv A' m → A' 501 m 0 = A 501 m 0 := fun m hm => by rw [fa.c501, if_neg (lv m hm).2]
  have rc : ∀ m j, yRc A' m j → yRc A m j := by
    rintro m j ⟨q1, q2, q3, q4⟩
    rw [k m q1] at q2
    rw [a522] at q4
    exact ⟨(lv m q1).1, q2, q3, q4⟩
  have z0 : zrec 0 = 0 := by decide
  refine ⟨?_, ?_, ?_, ?_, ?_, ?_, ?_, ?_, ?_⟩
  · intro m i hm hk; rw [k m hm] at hk; rw [a400, a522, a523, b16]; exact h.wd m i (lv m hm).1 hk
  · intro m i hm hk; rw [k m hm] at hk; rw [a400, a522, a523]; exact h.tl m i (lv m hm).1 hk
  · intro m j q; rw [a523]; exact h.rg m j (rc m j q)
  · intro m j m' j' q q'; rw [a523]; exact h.ij m j m' j' (rc m j q) (rc m' j' q')
  · rw [a402]; exact h.fr
  · rw [a402, a401]; exact h.fg
  · rw [a402, a401]; exact h.fi
  · intro i m j i0 i1 q; rw [a402] at i1; rw [a401, a523]; exact h.fu i m j i0 i1 (rc m j q)
  · rw [a402, a522, ← h.ct]
    refine congrArg (fun z => A 402 0 0 + z) (zsm_congr 256 (fun m _ _ => ?_))
    show (if A' 501 m 0 = 2 then zrec (A 522 m 0) else 0) = (if A 501 m 0 = 2 then zrec (A 522 m 0) else 0)
    rw [fa.c501]
    by_cases e : m = n
    · rw [if_pos e, if_neg (by omega), e]
      by_cases q : A 501 n 0 = 2
      · rw [if_pos q, hl q, z0]
      · rw [if_neg q]
    · rw [if_neg e]
theorem T_go_bx {A B A' B' : zM} {n d a c : Int} (h : I_bx A B) (n0 : yLv A n) (fa : yGoA A A' n d a c) (fb : yGoB B B' n a c) : I_bx A' B' := by
  have lv := T_go_lv fa
  have a520 : A' 520 = A 520 := fa.cco 520 (by decide)
  have a700 : A' 700 = A 700 := fa.cco 700 (by decide)
  have a701 : A' 701 = A 701 := fa.cco 701 (by decide)
  have a702 : A' 702 = A 702 := fa.cco 702 (by decide)
  have b17 : B' 6817 = B 6817 := fb.cco 6817 (by decide)
  have b18 : B' 6818 = B 6818 := fb.cco 6818 (by decide)
  have b19 : B' 6819 = B 6819 := fb.cco 6819 (by decide)
  have mb : ∀ m, yMb A' m → yMb A m ∧ m ≠ n := by
    rintro m ⟨q1, q2⟩
    rw [fa.c501, if_neg (lv m q1).2] at q2
    exact ⟨⟨(lv m q1).1, q2⟩, (lv m q1).2⟩
  have fr := h.fr
  have ct := h.ct
  have u := zsm_upd (f := fun n => if A 501 n 0 = 3 then 1 else 0) (g := fun n => if A' 501 n 0 = 3 then 1 else 0) (i := n) 256 n0.1.1 n0.1.2 (by
    intro m _ _ mn
    show (if A' 501 m 0 = 3 then (1 : Int) else 0) = (if A 501 m 0 = 3 then 1 else 0)
    rw [fa.c501, if_neg mn])
  have u : zsm (fun n => if A' 501 n 0 = 3 then 1 else 0) 256 = zsm (fun n => if A 501 n 0 = 3 then 1 else 0) 256 + ((if A' 501 n 0 = 3 then 1 else 0) - (if A 501 n 0 = 3 then 1 else 0)) := u
  rw [fa.c501, if_pos rfl, if_neg (c := (0 : Int) = 3) (by omega)] at u
  have pos := zsm_nn (f := fun n => if A' 501 n 0 = 3 then 1 else 0) 256 (fun m _ _ => by show (0 : Int) ≤ if A' 501 m 0 = 3 then 1 else 0; split <;> omega)
  refine ⟨?_, ?_, ?_, ?_, ?_, ?_, ?_, ?_, ?_, ?_, ?_, ?_⟩
  · intro m hm; rw [a520]; exact h.bo m (mb m hm).1
  · intro x y hx hy; rw [a520]; exact h.ij x y (mb x hx).1 (mb y hy).1
  · rw [fa.c204]
    by_cases q : A 501 n 0 = 3
    · rw [if_pos q] at u ⊢; omega
    · rw [if_neg q]; exact fr
  · intro i i0 i1
    rw [fa.c204] at i1
    rw [fa.c203]
    by_cases q : A 501 n 0 = 3
    · rw [if_pos q] at i1
      by_cases e : i = A 204 0 0
      · rw [if_pos ⟨q, e⟩]; exact h.bo n ⟨n0, q⟩
      · rw [if_neg (fun x => e x.2)]; exact h.fg i i0 (by omega)
    · rw [if_neg q] at i1
      rw [if_neg (fun x => q x.1)]; exact h.fg i i0 i1
  · intro i j i0 ij j1
    rw [fa.c204] at j1
    rw [fa.c203, fa.c203]
    by_cases q : A 501 n 0 = 3
    · rw [if_pos q] at j1
      rw [if_neg (fun x => by omega)]
      by_cases e : j = A 204 0 0
      · rw [if_pos ⟨q, e⟩]; exact h.fu i n i0 (by omega) ⟨n0, q⟩
      · rw [if_neg (fun x => e x.2)]; exact h.fi i j i0 ij (by omega)
    · rw [if_neg q] at j1
      rw [if_neg (fun x => q x.1), if_neg (fun x => q x.1)]; exact h.fi i j i0 ij j1
  · intro i m i0 i1 hm
    obtain ⟨m1, m2⟩ := mb m hm
    rw [fa.c204] at i1
    rw [fa.c203, a520]
    by_cases q : A 501 n 0 = 3
    · rw [if_pos q] at i1
      by_cases e : i = A 204 0 0
      · rw [if_pos ⟨q, e⟩]
        exact fun z => m2 (h.ij n m ⟨n0, q⟩ m1 z).symm
      · rw [if_neg (fun x => e x.2)]; exact h.fu i m i0 (by omega) m1
    · rw [if_neg q] at i1
      rw [if_neg (fun x => q x.1)]; exact h.fu i m i0 i1 m1
  · rw [u, fa.c204]
    by_cases q : A 501 n 0 = 3
    · rw [if_pos q, if_pos q]; omega
    · rw [if_neg q, if_neg q]; omega
  · intro m hm; rw [a702, a520, b17]; exact h.le m (mb m hm).1
  · intro m i hm; rw [a700, a520, b17, b18]; exact h.wo m i (mb m hm).1
  · intro m i hm; rw [a701, a520, b17, b19]; exact h.lb m i (mb m hm).1
  · intro m x hm; rw [b17, b19]; exact h.al m x (mb m hm).1
  · intro m hm hk
    rw [fa.c501, if_neg (lv m hm).2] at hk
    rw [b17]; exact h.no m (lv m hm).1 hk
theorem T_go_ac {A B A' : zM} {acc : Int → Int} {n d a c : Int} (hn : I_nd A B) (h : I_ac A acc) (n0 : yLv A n) (nz : n ≠ 0) (lf : ∀ m, ¬ yEn A n m) (ha : a = acc (A 504 n 0)) (hc : c = yco A n) (fa : yGoA A A' n d a c) : I_ac A' acc := by
  have lv := T_go_lv fa
  have a504 : A' 504 = A 504 := fa.cco 504 (by decide)
  have a516 : A' 516 = A 516 := fa.cco 516 (by decide)
  have a522 : A' 522 = A 522 := fa.cco 522 (by decide)
  have cn : 0 ≤ yco A n := yco_nn hn n0
  have yc : ∀ m, m ≠ n → yco A' m = yco A m := by
    intro m e
    unfold yco
    rw [fa.c501, if_neg e, a516, a522]
  refine ⟨?_, ?_, ?_⟩
  · intro x hx hk
    rw [fa.c501, if_neg (lv x hx).2] at hk
    rw [a516, a504]
    exact h.eq x (lv x hx).1 hk
  · intro x hx hk hl
    obtain ⟨l1, l2⟩ := lv x hx
    rw [fa.c501, if_neg l2] at hk
    rw [a516] at hl
    rw [fa.c517]
    have u := zsm_upd (f := fun m => if ((0 < m ∧ m < 256) ∧ 0 < A 501 m 0) ∧ acc (A 504 m 0) = x then yco A m else 0) (g := fun m => if ((0 < m ∧ m < 256) ∧ 0 < A' 501 m 0) ∧ acc (A' 504 m 0) = x then yco A' m else 0) (i := n) 256 n0.1.1 n0.1.2 (by
      intro m _ _ mn
      show (if ((0 < m ∧ m < 256) ∧ 0 < A' 501 m 0) ∧ acc (A' 504 m 0) = x then yco A' m else 0) = (if ((0 < m ∧ m < 256) ∧ 0 < A 501 m 0) ∧ acc (A 504 m 0) = x then yco A m else 0)
      rw [fa.c501, if_neg mn, a504, yc m mn])
    refine Eq.trans ?_ u.symm
    rw [← h.us x l1 hk hl]
    show _ = _ + ((if ((0 < n ∧ n < 256) ∧ 0 < A' 501 n 0) ∧ acc (A' 504 n 0) = x then yco A' n else 0) - (if ((0 < n ∧ n < 256) ∧ 0 < A 501 n 0) ∧ acc (A 504 n 0) = x then yco A n else 0))
    rw [if_neg (c := ((0 < n ∧ n < 256) ∧ 0 < A' 501 n 0) ∧ acc (A' 504 n 0) = x) (fun z => by have := z.1.2; rw [fa.c501, if_pos rfl] at this; omega), ← ha]
    by_cases e : a = x
    · rw [if_pos e.symm, if_pos ⟨⟨by omega, n0.2⟩, e⟩, e, hc]; omega
    · rw [if_neg (fun q => e q.symm), if_neg (fun q => e q.2)]; omega
  · intro x hx hk hl
    obtain ⟨l1, l2⟩ := lv x hx
    rw [fa.c501, if_neg l2] at hk
    rw [a516] at hl
    have := h.le x l1 hk hl
    rw [fa.c517, a516]
    by_cases e : x = a
    · rw [if_pos e]; rw [e] at this; rw [e]; omega
    · rw [if_neg e]; exact this
theorem T_go {A B A1 A' B' : zM} {acc rho : Int → Int} {K n d a c : Int} (h : I_T A B acc rho K) (n0 : yLv A n) (nz : n ≠ 0) (lf : ∀ m, ¬ yEn A n m) (hd : d = A 504 n 0) (ha : a = acc d) (hc : c = yco A n) (hl : A 501 n 0 = 2 → A 522 n 0 = 0)
    (fa : yGoA A A' n d a c) (fb : yGoB B B' n a c) (hx : I_ixW A1 rho K n) (hx1 : ∀ i, A' 501 i 0 = if i = n then 0 else A1 501 i 0) (hxc : yCo [300, 502, 504, 507] A1 A') (vb : 1 ≤ A' 207 0 0 ∧ A' 207 0 0 < 2000000000) : I_T A' B' acc rho K := by
  obtain ⟨pd, pk, -⟩ := h.nd.pr n n0 nz
  have ad := y_ac h.nd h.cb h.ac pd pk
  rw [← hd, ← ha] at ad
  refine ⟨T_go_nd h.nd n0 nz lf ad.1 fa fb, T_go_sb h.nd h.sb n0 nz lf hd fa fb, T_go_ls h.ls fa fb, T_go_ix hx hx1 hxc, T_go_st h.st n0 hl fa fb, T_go_bx h.bx n0 fa fb, T_go_ac h.nd h.ac n0 nz lf (by rw [ha, hd]) hc fa, ?_, h.kb, by rw [fb.cco 6811 (by decide)]; exact h.cb, vb⟩
  rw [fa.c206, h.mn]
  have u := zsm_upd (f := fun n => if 0 < A 501 n 0 then 1 else 0) (g := fun n => if 0 < A' 501 n 0 then 1 else 0) (i := n) 256 n0.1.1 n0.1.2 (by
    intro m _ _ mn
    show (if 0 < A' 501 m 0 then (1 : Int) else 0) = (if 0 < A 501 m 0 then 1 else 0)
    rw [fa.c501, if_neg mn])
  have u : zsm (fun n => if 0 < A' 501 n 0 then 1 else 0) 256 = zsm (fun n => if 0 < A 501 n 0 then 1 else 0) 256 + ((if 0 < A' 501 n 0 then 1 else 0) - (if 0 < A 501 n 0 then 1 else 0)) := u
  rw [u, fa.c501, if_pos rfl, if_pos n0.2]
  rfl
