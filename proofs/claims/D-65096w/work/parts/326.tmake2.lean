set_option linter.unusedSimpArgs false
set_option linter.unusedVariables false
/-! a node more: lists, index, store, boxes, accounts -/
theorem T_mk_lv {A A' : zM} {n d k w l lim a c bx : Int} (fa : yMkA A A' n d k w l lim a c bx) (hn : A 501 n 0 = 0) : (∀ m, yLv A' m → m ≠ n → yLv A m) ∧ (∀ m, yLv A m → m ≠ n) := by
  constructor
  · intro m hm e
    have := hm.2
    rw [fa.c501, if_neg e] at this
    exact ⟨hm.1, this⟩
  · intro m hm e
    rw [e] at hm; omega
theorem I_al_nil {A B : zM} {c : Int} {C : Nat} {b m : Int} (ha : A 602 c 0 = 0) (hm : m = 0) : I_al A B c C b m := by
  subst hm
  have hz := zacl_rng c
  exact ⟨ha, by omega, fun k a b => by omega, fun k a b => by omega, fun k a b => by omega, fun j k a b e => by omega⟩
theorem T_mk_ls {A B A' B' : zM} {acc : Int → Int} {n d k w l lim a c bx : Int} (h : I_ls A B) (p : yMk0 A B acc n d k w l lim a c) (fa : yMkA A A' n d k w l lim a c bx) (fb : yMkB B B' n d k w l lim a c 0) (hl : I_al A' B' (3 * n) 6813 (18 * n) (B' 6812 0 n)) : I_ls A' B' := by
  have pn := p.n
  obtain ⟨lv, ln⟩ := T_mk_lv fa pn.2
  have c15 : B' 6815 = B 6815 := fb.cco 6815 (by decide)
  have z0 : ∀ m : Int, zacl (3 * m) = 6 := fun m => by unfold zacl; rw [if_pos (by omega)]
  have z1 : ∀ m : Int, zacl (3 * m + 1) = 3 := fun m => by unfold zacl; rw [if_neg (by omega)]
  have z2 : ∀ m : Int, zacl (3 * m + 2) = 3 := fun m => by unfold zacl; rw [if_neg (by omega)]
  refine ⟨?_, ?_, ?_⟩
  · intro m hm
    by_cases e : m = n
    · rw [e]; exact hl
    · refine I_al_fr ?_ ?_ (fb.c6812 m e) (h.ac m (lv m hm e))
      · intro f i hf
        exact fa.c600 f _ i hf (by omega)
      · intro i i0 i1
        rw [z0] at i1
        exact fb.c6813 i (by omega)
  · intro m hm
    by_cases e : m = n
    · rw [e]; exact I_al_nil fa.c601.1 (by rw [fb.c6814, if_pos (by omega)])
    · refine I_al_fr ?_ ?_ (by rw [fb.c6814, if_neg (by omega)]) (h.fs m (lv m hm e))
      · intro f i hf
        exact fa.c600 f _ i hf (by omega)
      · intro i i0 i1
        rw [c15]
  · intro m hm
    by_cases e : m = n
    · rw [e]; exact I_al_nil fa.c601.2 (by rw [fb.c6814, if_pos (by omega)])
    · refine I_al_fr ?_ ?_ (by rw [fb.c6814, if_neg (by omega)]) (h.fd m (lv m hm e))
      · intro f i hf
        exact fa.c600 f _ i hf (by omega)
      · intro i i0 i1
        rw [c15]
theorem T_mk_ix {A B A' : zM} {acc rho : Int → Int} {K n d k w l lim a c bx : Int} (h : I_ix A rho K) (p : yMk0 A B acc n d k w l lim a c) (fa : yMkA A A' n d k w l lim a c bx) (hK : 0 ≤ K) : I_ix A' (fun x => if x = n then K else rho x) (K + 1) := by
  have pn := p.n
  have pk := p.k
  obtain ⟨lv, ln⟩ := T_mk_lv fa pn.2
  have bl : ∀ {b m}, yBm A b m → yLv A m := fun hm => ⟨by omega, hm.2.1⟩
  have en : ∀ b m, yBm A' b m ↔ yBm A b m ∨ (m = n ∧ b = ybk d w) := by
    intro b m
    show ((0 < m ∧ m < 256) ∧ 0 < A' 501 m 0 ∧ ybk (A' 504 m 0) (A' 502 m 0) = b) ↔ _
    rw [fa.c501, fa.c504, fa.c502]
    by_cases e : m = n
    · rw [if_pos e, if_pos e, if_pos e]
      constructor
      · rintro ⟨-, -, q⟩; exact Or.inr ⟨e, q.symm⟩
      · rintro (q | q)
        · have := q.2.1; rw [e] at this; omega
        · exact ⟨by omega, by omega, q.2.symm⟩
    · rw [if_neg e, if_neg e, if_neg e]
      exact ⟨fun q => Or.inl q, fun q => q.elim id (fun x => absurd x.1 e)⟩
  have e1 : ∀ b, b ≠ ybk d w → ∀ m, yBm A b m ↔ yBm A' b m := fun b q m => by
    rw [en]; exact ⟨fun x => Or.inl x, fun x => x.elim id (fun y => absurd y.2 q)⟩
  have e2 : ∀ m, yBm A' (ybk d w) m ↔ yBm A (ybk d w) m ∨ m = n := fun m => by
    rw [en]; exact ⟨fun x => x.elim Or.inl (fun y => Or.inr y.1), fun x => x.elim Or.inl (fun y => Or.inr ⟨y, rfl⟩)⟩
  have kk : ∀ {b m}, yBm A b m → rho m = if m = n then K else rho m := fun hm => by
    rw [if_neg (ln _ (bl hm))]
  have kb : ∀ {b m}, yBm A b m → rho m < K := fun hm => (h.rg _ (bl hm) (by omega)).2
  refine ⟨?_, ?_, ?_, ?_⟩
  · intro b b0 b1
    by_cases q : b = ybk d w
    · rw [fa.c300, if_pos q, q]
      have := zPv_top (key := fun x => if x = n then K else rho x) e2 (by
        intro m hm
        rw [← kk hm, if_pos rfl]
        exact kb hm)
      rw [if_pos rfl] at this
      exact this
    · rw [fa.c300, if_neg q]
      have g := zPv_congr (e1 b q) (fun m hm => kk hm) (h.hd b b0 b1)
      refine zPv_bound ?_ ?_ g
      · intro m hm
        have hm := (e1 b q m).2 hm
        rw [← kk hm]; exact kb hm
      · intro m hm
        have hm := (e1 b q m).2 hm
        have := kb hm
        rw [← kk hm]; omega
  · intro m hm m0
    by_cases e : m = n
    · rw [fa.c507, if_pos e, fa.c504, if_pos e, fa.c502, if_pos e, e]
      show zPv _ _ (if n = n then K else rho n) _
      rw [if_pos rfl]
      have g := zPv_congr (fun m => Iff.rfl) (fun m hm => kk hm) (h.hd (ybk d w) (ybk_rng d w).1 (ybk_rng d w).2)
      exact zPv_under e2 (by rw [if_pos rfl]; exact Int.le_refl _) g
    · have hl := lv m hm e
      have g := h.al m hl m0
      rw [fa.c507, if_neg e, fa.c504, if_neg e, fa.c502, if_neg e]
      show zPv _ _ (if m = n then K else rho m) _
      rw [if_neg e]
      by_cases q : ybk (A 504 m 0) (A 502 m 0) = ybk d w
      · rw [q] at g ⊢
        have g := zPv_congr (fun m => Iff.rfl) (fun m hm => kk hm) g
        exact zPv_under e2 (by rw [if_pos rfl]; have := h.rg m hl m0; omega) g
      · exact zPv_congr (e1 _ q) (fun m hm => kk hm) g
  · intro m hm m0
    show 0 ≤ (if m = n then K else rho m) ∧ (if m = n then K else rho m) < K + 1
    by_cases e : m = n
    · rw [if_pos e]; omega
    · have := h.rg m (lv m hm e) m0
      rw [if_neg e]; omega
  · intro x y hx hy x0 y0
    show (if x = n then K else rho x) = (if y = n then K else rho y) → _
    by_cases e : x = n
    · by_cases e' : y = n
      · intro _; rw [e, e']
      · have := h.rg y (lv y hy e') y0
        rw [if_pos e, if_neg e']; intro q; omega
    · have := h.rg x (lv x hx e) x0
      by_cases e' : y = n
      · rw [if_neg e, if_pos e']; intro q; omega
      · rw [if_neg e, if_neg e']
        exact h.ij x y (lv x hx e) (lv y hy e') x0 y0
theorem T_mk_st {A B A' B' : zM} {acc : Int → Int} {n d k w l lim a c bx : Int} (hn : I_nd A B) (h : I_st A B) (p : yMk0 A B acc n d k w l lim a c) (fa : yMkA A A' n d k w l lim a c bx) (fb : yMkB B B' n d k w l lim a c 0) : I_st A' B' := by
  have pn := p.n
  obtain ⟨lv, ln⟩ := T_mk_lv fa pn.2
  have a400 : A' 400 = A 400 := fa.cco 400 (by decide)
  have a401 : A' 401 = A 401 := fa.cco 401 (by decide)
  have a402 : A' 402 = A 402 := fa.cco 402 (by decide)
  have a523 : A' 523 = A 523 := fa.cco 523 (by decide)
  have z0 : zrec 0 = 0 := by decide
  have rc : ∀ m j, yRc A' m j → yRc A m j := by
    rintro m j ⟨q1, q2, q3, q4⟩
    rw [fa.c522] at q4
    by_cases e : m = n
    · rw [if_pos e, z0] at q4; omega
    · rw [if_neg e] at q4
      rw [fa.c501, if_neg e] at q2
      exact ⟨lv m q1 e, q2, q3, q4⟩
  refine ⟨?_, ?_, ?_, ?_, ?_, ?_, ?_, ?_, ?_⟩
  · intro m i hm hk i0 i1
    rw [fa.c522] at i1
    by_cases e : m = n
    · rw [if_pos e] at i1; omega
    · rw [if_neg e] at i1
      rw [fa.c501, if_neg e] at hk
      have := h.wd m i (lv m hm e) hk i0 i1
      have hm1 := hm.1
      have le := hn.le m (lv m hm e)
      rw [if_pos hk] at le
      rw [a400, a523, fb.c6816, if_neg (by omega)]
      exact this
  · intro m i hm hk i0 i1
    rw [fa.c522] at i0 i1
    by_cases e : m = n
    · rw [if_pos e] at i0 i1
      rw [z0] at i1; omega
    · rw [if_neg e] at i0 i1
      rw [fa.c501, if_neg e] at hk
      rw [a400, a523]
      exact h.tl m i (lv m hm e) hk i0 i1
  · intro m j q
    rw [a523]
    exact h.rg m j (rc m j q)
  · intro m j m' j' q q'
    rw [a523]
    exact h.ij m j m' j' (rc m j q) (rc m' j' q')
  · rw [a402]; exact h.fr
  · rw [a402, a401]; exact h.fg
  · rw [a402, a401]; exact h.fi
  · intro i m j i0 i1 q
    rw [a402] at i1
    rw [a401, a523]
    exact h.fu i m j i0 i1 (rc m j q)
  · rw [a402, ← h.ct]
    refine congrArg (fun z => A 402 0 0 + z) (zsm_congr 256 (fun m _ _ => ?_))
    show (if A' 501 m 0 = 2 then zrec (A' 522 m 0) else 0) = (if A 501 m 0 = 2 then zrec (A 522 m 0) else 0)
    rw [fa.c501, fa.c522]
    by_cases e : m = n
    · rw [if_pos e, if_pos e, z0, e, pn.2, if_neg (show ¬ (0 : Int) = 2 by omega)]
      split <;> rfl
    · rw [if_neg e, if_neg e]
theorem T_mk_bx {A B A' B' : zM} {acc : Int → Int} {n d k w l lim a c bx : Int} (h : I_bx A B) (p : yMk0 A B acc n d k w l lim a c) (fa : yMkA A A' n d k w l lim a c bx) (fb : yMkB B B' n d k w l lim a c 0) (hb : k = 3 → 1 ≤ A 204 0 0 ∧ bx = A 203 0 (A 204 0 0 - 1)) : I_bx A' B' := by
  have pn := p.n
  have pk := p.k
  obtain ⟨lv, ln⟩ := T_mk_lv fa pn.2
  have a203 : A' 203 = A 203 := fa.cco 203 (by decide)
  have a700 : A' 700 = A 700 := fa.cco 700 (by decide)
  have a701 : A' 701 = A 701 := fa.cco 701 (by decide)
  have b18 : B' 6818 = B 6818 := fb.cco 6818 (by decide)
  have b19 : B' 6819 = B 6819 := fb.cco 6819 (by decide)
  have fr := h.fr
  have mb : ∀ m, yMb A' m → m ≠ n → yMb A m := by
    rintro m ⟨q1, q2⟩ e
    rw [fa.c501, if_neg e] at q2
    exact ⟨lv m q1 e, q2⟩
  have m3 : yMb A' n → k = 3 := by
    rintro ⟨q1, q2⟩
    rw [fa.c501, if_pos rfl] at q2
    exact q2
  have f4 : A' 204 0 0 ≤ A 204 0 0 ∧ (k = 3 → A' 204 0 0 = A 204 0 0 - 1) ∧ 0 ≤ A' 204 0 0 := by
    rw [fa.c204]
    by_cases q : k = 3
    · have := hb q
      rw [if_pos q]
      exact ⟨by omega, fun _ => rfl, by omega⟩
    · rw [if_neg q]
      exact ⟨by omega, fun x => absurd x q, by omega⟩
  have nb : ∀ m, yMb A m → k = 3 → A 520 m 0 ≠ bx := by
    intro m hm q e
    obtain ⟨u, v⟩ := hb q
    exact h.fu (A 204 0 0 - 1) m (by omega) (by omega) hm (by rw [← v, e])
  have l2 : ∀ m, yMb A m → A' 702 (A 520 m 0) 0 = A 702 (A 520 m 0) 0 := by
    intro m hm
    rw [fa.c702, if_neg (fun x => nb m hm x.1 x.2)]
  refine ⟨?_, ?_, ?_, ?_, ?_, ?_, ?_, ?_, ?_, ?_, ?_, ?_⟩
  · intro m hm
    rw [fa.c520]
    by_cases e : m = n
    · rw [if_pos e]
      obtain ⟨u, v⟩ := hb (m3 (e ▸ hm))
      rw [v]
      exact h.fg _ (by omega) (by omega)
    · rw [if_neg e]; exact h.bo m (mb m hm e)
  · intro x y hx hy
    rw [fa.c520, fa.c520]
    by_cases e : x = n
    · by_cases e' : y = n
      · intro _; rw [e, e']
      · rw [if_pos e, if_neg e']
        intro q
        exact absurd q.symm (nb y (mb y hy e') (m3 (e ▸ hx)))
    · by_cases e' : y = n
      · rw [if_neg e, if_pos e']
        intro q
        exact absurd q (nb x (mb x hx e) (m3 (e' ▸ hy)))
      · rw [if_neg e, if_neg e']
        exact h.ij x y (mb x hx e) (mb y hy e')
  · omega
  · intro i i0 i1
    rw [a203]; exact h.fg i i0 (by omega)
  · intro i j i0 ij j1
    rw [a203]; exact h.fi i j i0 ij (by omega)
  · intro i m i0 i1 hm
    rw [a203, fa.c520]
    by_cases e : m = n
    · have k3 := m3 (e ▸ hm)
      obtain ⟨u, v⟩ := hb k3
      rw [if_pos e, v]
      have := f4.2.1 k3
      exact h.fi i _ i0 (by omega) (by omega)
    · rw [if_neg e]
      exact h.fu i m i0 (by omega) (mb m hm e)
  · have ct := h.ct
    have u := zsm_upd (f := fun n => if A 501 n 0 = 3 then 1 else 0) (g := fun n => if A' 501 n 0 = 3 then 1 else 0) (i := n) 256 (by omega) (by omega) (by
      intro m _ _ mn
      show (if A' 501 m 0 = 3 then (1 : Int) else 0) = (if A 501 m 0 = 3 then 1 else 0)
      rw [fa.c501, if_neg mn])
    have u : zsm (fun n => if A' 501 n 0 = 3 then 1 else 0) 256 = zsm (fun n => if A 501 n 0 = 3 then 1 else 0) 256 + ((if A' 501 n 0 = 3 then 1 else 0) - (if A 501 n 0 = 3 then 1 else 0)) := u
    rw [u, fa.c501, if_pos rfl, fa.c204, pn.2]
    by_cases q : k = 3
    · rw [if_pos q, if_pos q]; simp only [show ¬ ((0 : Int) = 3) by omega, if_false]; omega
    · rw [if_neg q, if_neg q]; simp only [show ¬ ((0 : Int) = 3) by omega, if_false]; omega
  · intro m hm
    rw [fa.c520, fb.c6817]
    by_cases e : m = n
    · rw [if_pos e, if_pos e, fa.c702, if_pos ⟨m3 (e ▸ hm), rfl⟩]
      omega
    · rw [if_neg e, if_neg e, l2 m (mb m hm e)]
      exact h.le m (mb m hm e)
  · intro m i hm i0 i1
    rw [fb.c6817] at i1
    by_cases e : m = n
    · rw [if_pos e] at i1; omega
    · rw [if_neg e] at i1
      rw [a700, b18, fa.c520, if_neg e]
      exact h.wo m i (mb m hm e) i0 i1
  · intro m i hm i0 i1
    rw [fb.c6817] at i1
    by_cases e : m = n
    · rw [if_pos e] at i1; omega
    · rw [if_neg e] at i1
      rw [a701, b19, fa.c520, if_neg e]
      exact h.lb m i (mb m hm e) i0 i1
  · intro m x hm x0 x1
    rw [fb.c6817, b19]
    by_cases e : m = n
    · rw [if_pos e, zsm_zero 128 (fun i i0 _ => if_neg (by omega))]
      omega
    · rw [if_neg e]
      exact h.al m x (mb m hm e) x0 x1
  · intro m hm hk
    rw [fb.c6817]
    by_cases e : m = n
    · rw [if_pos e]
    · rw [if_neg e]
      rw [fa.c501, if_neg e] at hk
      exact h.no m (lv m hm e) hk
theorem T_mk_ac {A B A' : zM} {acc : Int → Int} {n d k w l lim a c bx : Int} (hn : I_nd A B) (hc : B 6811 0 0 < 900000) (h : I_ac A acc) (p : yMk0 A B acc n d k w l lim a c) (fa : yMkA A A' n d k w l lim a c bx) : I_ac A' (fun x => if x = n then (if lim = 0 then acc d else n) else acc x) := by
  have pn := p.n
  have pk := p.k
  have pd := p.d
  have pm := p.m
  have pa := p.a
  obtain ⟨lv, ln⟩ := T_mk_lv fa pn.2
  have hdn := ln d pd.1
  have ad := y_ac hn hc h pd.1 pd.2
  have han := ln _ ad.1
  have par : ∀ m, yLv A m → m ≠ 0 → A 504 m 0 ≠ n ∧ yLv A (acc (A 504 m 0)) := by
    intro m hm m0
    obtain ⟨q1, q2, -⟩ := hn.pr m hm m0
    exact ⟨ln _ q1, (y_ac hn hc h q1 q2).1⟩
  have yc : ∀ m, m ≠ n → yco A' m = yco A m := by
    intro m e
    unfold yco
    rw [fa.c501, fa.c522, fa.c516, if_neg e, if_neg e, if_neg e]
  have ycn : yco A' n = c := by
    unfold yco
    rw [fa.c501, fa.c522, fa.c516, if_pos rfl, if_pos rfl, if_pos rfl, p.c]
  have hcn : 0 ≤ c := by
    rw [p.c]; unfold zco zrec
    split
    · omega
    · split <;> omega
  refine ⟨?_, ?_, ?_⟩
  · intro x hx hk
    show (if x = n then _ else acc x) = if A' 516 x 0 = 0 then (if A' 504 x 0 = n then _ else acc (A' 504 x 0)) else x
    rw [fa.c516, fa.c504]
    by_cases e : x = n
    · rw [if_pos e, if_pos e, if_pos e, if_neg hdn, e]
    · rw [if_neg e, if_neg e, if_neg e]
      rw [fa.c501, if_neg e] at hk
      rw [h.eq x (lv x hx e) hk]
      by_cases z : A 516 x 0 = 0
      · rw [if_pos z, if_pos z]
        have : x ≠ 0 := fun q => by rw [q, hn.rt.2.2.1] at z; omega
        rw [if_neg (par x (lv x hx e) this).1]
      · rw [if_neg z, if_neg z]
  · intro x hx hk hl
    have S : zsm (fun m => if ((0 < m ∧ m < 256) ∧ 0 < A' 501 m 0) ∧ (if A' 504 m 0 = n then (if lim = 0 then acc d else n) else acc (A' 504 m 0)) = x then yco A' m else 0) 256 = zsm (fun m => if ((0 < m ∧ m < 256) ∧ 0 < A 501 m 0) ∧ acc (A 504 m 0) = x then yco A m else 0) 256 + (if acc d = x then c else 0) := by
      have u := zsm_upd (f := fun m => if ((0 < m ∧ m < 256) ∧ 0 < A 501 m 0) ∧ acc (A 504 m 0) = x then yco A m else 0) (g := fun m => if ((0 < m ∧ m < 256) ∧ 0 < A' 501 m 0) ∧ (if A' 504 m 0 = n then (if lim = 0 then acc d else n) else acc (A' 504 m 0)) = x then yco A' m else 0) (i := n) 256 (by omega) (by omega) (by
        intro m _ _ mn
        show (if ((0 < m ∧ m < 256) ∧ 0 < A' 501 m 0) ∧ (if A' 504 m 0 = n then (if lim = 0 then acc d else n) else acc (A' 504 m 0)) = x then yco A' m else 0) = (if ((0 < m ∧ m < 256) ∧ 0 < A 501 m 0) ∧ acc (A 504 m 0) = x then yco A m else 0)
        rw [fa.c501, fa.c504, if_neg mn, if_neg mn, yc m mn]
        by_cases q : (0 < m ∧ m < 256) ∧ 0 < A 501 m 0
        · rw [if_neg (par m ⟨by omega, q.2⟩ (by omega)).1]
        · rw [if_neg (fun z => q z.1), if_neg (fun z => q z.1)])
      rw [u]
      refine congrArg (fun z => zsm (fun m => if ((0 < m ∧ m < 256) ∧ 0 < A 501 m 0) ∧ acc (A 504 m 0) = x then yco A m else 0) 256 + z) ?_
      show (if ((0 < n ∧ n < 256) ∧ 0 < A' 501 n 0) ∧ (if A' 504 n 0 = n then (if lim = 0 then acc d else n) else acc (A' 504 n 0)) = x then yco A' n else 0) - (if ((0 < n ∧ n < 256) ∧ 0 < A 501 n 0) ∧ acc (A 504 n 0) = x then yco A n else 0) = _
      rw [fa.c501, fa.c504, if_pos rfl, if_pos rfl, if_neg hdn, ycn, pn.2, if_neg (c := ((0 < n ∧ n < 256) ∧ (0 : Int) < 0) ∧ acc (A 504 n 0) = x) (by omega)]
      by_cases q : acc d = x
      · rw [if_pos ⟨⟨pn.1, by omega⟩, q⟩, if_pos q]; omega
      · rw [if_neg (fun z => q z.2), if_neg q]; rfl
    refine Eq.trans ?_ S.symm
    rw [fa.c517]
    by_cases e : x = n
    · rw [if_pos e, e, if_neg han, zsm_zero 256 (fun m _ _ => if_neg ?_)]
      · rfl
      · rintro ⟨q1, q2⟩
        have := (par m ⟨by omega, q1.2⟩ (by omega)).2
        rw [q2] at this
        exact ln n this rfl
    · rw [if_neg e]
      rw [fa.c501, if_neg e] at hk
      rw [fa.c516, if_neg e] at hl
      rw [← h.us x (lv x hx e) hk hl]
      by_cases q : x = a
      · rw [if_pos q, q, pa, if_pos rfl]
      · rw [if_neg q, if_neg (fun z => q (by rw [pa, z]))]; omega
  · intro x hx hk hl
    rw [fa.c517, fa.c516]
    by_cases e : x = n
    · rw [if_pos e, if_pos e]; omega
    · rw [if_neg e, if_neg e]
      by_cases q : x = a
      · rw [if_pos q, q]; exact p.r
      · rw [if_neg q]
        rw [fa.c501, if_neg e] at hk
        rw [fa.c516, if_neg e] at hl
        exact h.le x (lv x hx e) hk hl
/-- a node more -/
theorem T_mk {A B A' B' : zM} {acc rho : Int → Int} {K n d k w l lim a c bx : Int} (h : I_T A B acc rho K) (p : yMk0 A B acc n d k w l lim a c) (fa : yMkA A A' n d k w l lim a c bx) (fb : yMkB B B' n d k w l lim a c 0) (hl : I_al A' B' (3 * n) 6813 (18 * n) (B' 6812 0 n)) (hb : k = 3 → 1 ≤ A 204 0 0 ∧ bx = A 203 0 (A 204 0 0 - 1))
    (kb : K + 1 < 900000) (cb : B 6811 0 0 + 1 < 900000) (vb : 1 ≤ A' 207 0 0 ∧ A' 207 0 0 < 2000000000) : I_T A' B' (fun x => if x = n then (if lim = 0 then acc d else n) else acc x) (fun x => if x = n then K else rho x) (K + 1) := by
  have pn := p.n
  have pk := p.k
  have pd := p.d
  have ad := y_ac h.nd h.cb h.ac pd.1 pd.2
  rw [← p.a] at ad
  have han : a ≠ n := fun e => by rw [e] at ad; omega
  refine ⟨T_mk_nd h.nd p fa fb han ad.1, T_mk_sb h.nd h.sb p fa fb, T_mk_ls h.ls p fa fb hl, T_mk_ix h.ix p fa h.kb.1, T_mk_st h.nd h.st p fa fb, T_mk_bx h.bx p fa fb hb, T_mk_ac h.nd h.cb h.ac p fa, ?_, by have := h.kb; omega, by rw [fb.c6811]; exact cb, vb⟩
  rw [fa.c206, h.mn]
  have u := zsm_upd (f := fun n => if 0 < A 501 n 0 then 1 else 0) (g := fun n => if 0 < A' 501 n 0 then 1 else 0) (i := n) 256 (by omega) (by omega) (by
    intro m _ _ mn
    show (if 0 < A' 501 m 0 then (1 : Int) else 0) = (if 0 < A 501 m 0 then 1 else 0)
    rw [fa.c501, if_neg mn])
  have u : zsm (fun n => if 0 < A' 501 n 0 then 1 else 0) 256 = zsm (fun n => if 0 < A 501 n 0 then 1 else 0) 256 + ((if 0 < A' 501 n 0 then 1 else 0) - (if 0 < A 501 n 0 then 1 else 0)) := u
  rw [u, fa.c501, if_pos rfl, pn.2, if_pos (by omega)]
  rfl
