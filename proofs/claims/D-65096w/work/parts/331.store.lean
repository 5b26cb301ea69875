set_option linter.unusedSimpArgs false
set_option linter.unusedVariables false
/-! a segment's length changes: the store -/
theorem y_ad {r o r' o' : Int} (h : 64 * r + o = 64 * r' + o') (h1 : 0 ≤ o ∧ o < 64) (h2 : 0 ≤ o' ∧ o' < 64) : r = r' ∧ o = o' := by omega
theorem T_shrink {A B A' B' : zM} {n len' : Int} (hn : I_nd A B) (h : I_st A B) (n0 : yLv A n) (nk : A 501 n 0 = 2) (hl : 0 ≤ len' ∧ len' ≤ 1024) (hh : zrec len' ≤ zrec (A 522 n 0))
    (s402 : A' 402 0 0 = A 402 0 0 + (zrec (A 522 n 0) - zrec len'))
    (s401 : ∀ j, A' 401 0 j = if A 402 0 0 ≤ j ∧ j < A 402 0 0 + (zrec (A 522 n 0) - zrec len') then A 523 n (zrec len' + (j - A 402 0 0)) else A 401 0 j)
    (s400 : ∀ i, A' 400 0 i = if (len' < A 522 n 0 ∧ 0 < len' % 64) ∧ 64 * A 523 n (zrec len' - 1) + len' % 64 ≤ i ∧ i < 64 * A 523 n (zrec len' - 1) + 64 then 0 else A 400 0 i)
    (s523 : A' 523 = A 523) (s501 : A' 501 = A 501) (s522 : ∀ i, A' 522 i 0 = if i = n then len' else A 522 i 0)
    (t16 : ∀ i, ¬ (1024 * n + A 522 n 0 ≤ i ∧ i < 1024 * n + len') → B' 6816 0 i = B 6816 0 i) (t0 : ∀ k, A 522 n 0 ≤ k → k < len' → B' 6816 0 (1024 * n + k) = 0) : I_st A' B' := by
  have le := hn.le n n0
  rw [if_pos nk] at le
  generalize hL : A 522 n 0 = L at *
  have f0 := h.fr
  have lv : ∀ m, yLv A' m ↔ yLv A m := fun m => by show _ ∧ 0 < A' 501 m 0 ↔ _; rw [s501]
  have rc : ∀ m j, yRc A' m j → yRc A m j ∧ (m = n → j < zrec len') := by
    rintro m j ⟨q1, q2, q3, q4⟩
    rw [s501] at q2
    rw [s522] at q4
    by_cases e : m = n
    · rw [if_pos e] at q4
      exact ⟨⟨(lv m).1 q1, q2, q3, by rw [e, hL]; omega⟩, fun _ => q4⟩
    · rw [if_neg e] at q4
      exact ⟨⟨(lv m).1 q1, q2, q3, q4⟩, fun x => absurd x e⟩
  have rcn : ∀ j, 0 ≤ j → j < zrec L → yRc A n j := fun j j0 j1 => ⟨n0, nk, j0, by rw [hL]; exact j1⟩
  have zr : zrec len' = (len' + 63) / 64 := rfl
  have zL : zrec L = (L + 63) / 64 := rfl
  have zne : ∀ m k, yLv A m → A 501 m 0 = 2 → 0 ≤ k → k < 64 * zrec (A 522 m 0) → m ≠ n → A' 400 0 (64 * A 523 m (k / 64) + k % 64) = A 400 0 (64 * A 523 m (k / 64) + k % 64) := by
    intro m k hm hk k0 k1 e
    rw [s400, if_neg]
    rintro ⟨⟨q1, q2⟩, q3, q4⟩
    have r1 : yRc A m (k / 64) := ⟨hm, hk, by omega, by omega⟩
    have r2 : yRc A n (zrec len' - 1) := rcn _ (by omega) (by omega)
    have := h.ij m (k / 64) n (zrec len' - 1) r1 r2 (by omega)
    exact e this.1
  have lz : ∀ m, yLv A m → A 501 m 0 = 2 → 0 ≤ A 522 m 0 ∧ A 522 m 0 ≤ 64 * zrec (A 522 m 0) := by
    intro m hm hk
    have := hn.le m hm
    unfold zrec
    omega
  refine ⟨?_, ?_, ?_, ?_, ?_, ?_, ?_, ?_, ?_⟩
  · intro m k hm hk k0 k1
    rw [s501] at hk
    have hm := (lv m).1 hm
    rw [s522] at k1
    rw [s523]
    by_cases e : m = n
    · rw [if_pos e] at k1
      subst e
      by_cases kL : k < L
      · have w := h.wd m k hm hk k0 (by rw [hL]; exact kL)
        rw [t16 _ (by omega), s400, if_neg]
        · exact w
        · rintro ⟨⟨q1, q2⟩, q3, q4⟩
          have r1 : yRc A m (k / 64) := rcn _ (by omega) (by omega)
          have r2 : yRc A m (zrec len' - 1) := rcn _ (by omega) (by omega)
          have := h.ij m (k / 64) m (zrec len' - 1) r1 r2 (by omega)
          omega
      · rw [t0 k (by omega) k1]
        have t := h.tl m k hm hk (by omega) (by rw [hL]; omega)
        rw [s400]
        split
        · omega
        · omega
    · rw [if_neg e] at k1
      have w := h.wd m k hm hk k0 k1
      have l := lz m hm hk
      have l2 := hn.le m hm
      rw [if_pos hk] at l2
      rw [zne m k hm hk k0 (by omega) e, t16 _ (by omega)]
      exact w
  · intro m k hm hk k0 k1
    rw [s501] at hk
    have hm := (lv m).1 hm
    rw [s522] at k0 k1
    rw [s523]
    by_cases e : m = n
    · rw [if_pos e] at k0 k1
      subst e
      rw [s400]
      split
      · rfl
      · rename_i q
        by_cases kL : L ≤ k
        · exact h.tl m k hm hk (by omega) (by rw [hL]; omega)
        · exfalso
          have e2 : k / 64 = zrec len' - 1 := by omega
          refine q ⟨⟨by omega, by omega⟩, ?_, ?_⟩
          · rw [e2]; omega
          · rw [e2]; omega
    · rw [if_neg e] at k0 k1
      have l := lz m hm hk
      rw [zne m k hm hk (by omega) k1 e]
      exact h.tl m k hm hk k0 k1
  · intro m j q
    rw [s523]
    exact h.rg m j (rc m j q).1
  · intro m j m' j' q q'
    rw [s523]
    exact h.ij m j m' j' (rc m j q).1 (rc m' j' q').1
  · have ct := h.ct
    rw [s402]
    have u := zsm_upd (f := fun _ => 0) (g := fun m => if A 501 m 0 = 2 then (if m = n then zrec L else 0) else 0) (i := n) 256 n0.1.1 n0.1.2 (by
      intro m _ _ mn
      show (if A 501 m 0 = 2 then (if m = n then zrec L else 0) else 0) = 0
      rw [if_neg mn]; split <;> rfl)
    have v : zsm (fun m => if A 501 m 0 = 2 then (if m = n then zrec L else 0) else 0) 256 ≤ zsm (fun n => if A 501 n 0 = 2 then zrec (A 522 n 0) else 0) 256 := by
      refine zsm_le 256 (fun m m0 m1 => ?_)
      show (if A 501 m 0 = 2 then (if m = n then zrec L else 0) else 0) ≤ if A 501 m 0 = 2 then zrec (A 522 m 0) else 0
      by_cases q : A 501 m 0 = 2
      · rw [if_pos q, if_pos q]
        by_cases e : m = n
        · rw [if_pos e, e, hL]; exact Int.le_refl _
        · rw [if_neg e]
          have := hn.le m ⟨⟨m0, m1⟩, by omega⟩
          unfold zrec; omega
      · rw [if_neg q, if_neg q]; exact Int.le_refl _
    have u : zsm (fun m => if A 501 m 0 = 2 then (if m = n then zrec L else 0) else 0) 256 = zsm (fun _ => 0) 256 + ((if A 501 n 0 = 2 then (if n = n then zrec L else 0) else 0) - 0) := u
    rw [zsm_zero 256 (fun _ _ _ => rfl), if_pos nk, if_pos rfl] at u
    omega
  · intro i i0 i1
    rw [s402] at i1
    rw [s401]
    split
    · exact h.rg n _ (rcn _ (by omega) (by omega))
    · exact h.fg i i0 (by omega)
  · intro i j i0 ij j1
    rw [s402] at j1
    rw [s401, s401]
    by_cases qi : A 402 0 0 ≤ i
    · rw [if_pos (by omega), if_pos (by omega)]
      intro e
      have := (h.ij _ _ _ _ (rcn _ (by omega) (by omega)) (rcn _ (by omega) (by omega)) e).2
      omega
    · rw [if_neg (by omega)]
      by_cases qj : A 402 0 0 ≤ j
      · rw [if_pos (by omega)]
        exact h.fu i n _ i0 (by omega) (rcn _ (by omega) (by omega))
      · rw [if_neg (by omega)]
        exact h.fi i j i0 ij (by omega)
  · intro i m j i0 i1 q
    obtain ⟨q1, q2⟩ := rc m j q
    rw [s402] at i1
    rw [s401, s523]
    by_cases qi : A 402 0 0 ≤ i
    · rw [if_pos (by omega)]
      intro e
      have := h.ij _ _ _ _ (rcn _ (by omega) (by omega)) q1 e
      have := q2 this.1.symm
      omega
    · rw [if_neg (by omega)]
      exact h.fu i m j i0 (by omega) q1
  · rw [s402, s501]
    have u := zsm_upd (f := fun n => if A 501 n 0 = 2 then zrec (A 522 n 0) else 0) (g := fun n => if A 501 n 0 = 2 then zrec (A' 522 n 0) else 0) (i := n) 256 n0.1.1 n0.1.2 (by
      intro m _ _ mn
      show (if A 501 m 0 = 2 then zrec (A' 522 m 0) else 0) = (if A 501 m 0 = 2 then zrec (A 522 m 0) else 0)
      rw [s522, if_neg mn])
    have u : zsm (fun n => if A 501 n 0 = 2 then zrec (A' 522 n 0) else 0) 256 = zsm (fun n => if A 501 n 0 = 2 then zrec (A 522 n 0) else 0) 256 + ((if A 501 n 0 = 2 then zrec (A' 522 n 0) else 0) - (if A 501 n 0 = 2 then zrec (A 522 n 0) else 0)) := u
    rw [if_pos nk, if_pos nk, s522, if_pos rfl, hL] at u
    have := h.ct
    omega
theorem T_grow {A B A' B' : zM} {n len' : Int} (hn : I_nd A B) (h : I_st A B) (n0 : yLv A n) (nk : A 501 n 0 = 2) (hl : 0 ≤ len' ∧ len' ≤ 1024) (hh : zrec (A 522 n 0) < zrec len') (hg : zrec len' - zrec (A 522 n 0) ≤ A 402 0 0)
    (s402 : A' 402 0 0 = A 402 0 0 - (zrec len' - zrec (A 522 n 0))) (s401 : A' 401 = A 401)
    (s523 : ∀ x k, A' 523 x k = if x = n ∧ zrec (A 522 n 0) ≤ k ∧ k < zrec len' then A 401 0 (A 402 0 0 - 1 - (k - zrec (A 522 n 0))) else A 523 x k)
    (s400 : ∀ j o, A 402 0 0 - (zrec len' - zrec (A 522 n 0)) ≤ j → j < A 402 0 0 → 0 ≤ o → o < 64 → A' 400 0 (64 * A 401 0 j + o) = 0)
    (s40n : ∀ i, (∀ j, A 402 0 0 - (zrec len' - zrec (A 522 n 0)) ≤ j → j < A 402 0 0 → ¬ (64 * A 401 0 j ≤ i ∧ i < 64 * A 401 0 j + 64)) → A' 400 0 i = A 400 0 i)
    (s501 : A' 501 = A 501) (s522 : ∀ i, A' 522 i 0 = if i = n then len' else A 522 i 0)
    (t16 : ∀ i, ¬ (1024 * n + A 522 n 0 ≤ i ∧ i < 1024 * n + len') → B' 6816 0 i = B 6816 0 i) (t0 : ∀ k, A 522 n 0 ≤ k → k < len' → B' 6816 0 (1024 * n + k) = 0) : I_st A' B' := by
  have le := hn.le n n0
  rw [if_pos nk] at le
  generalize hL : A 522 n 0 = L at *
  have f0 := h.fr
  have lv : ∀ m, yLv A' m ↔ yLv A m := fun m => by show _ ∧ 0 < A' 501 m 0 ↔ _; rw [s501]
  have zr : zrec len' = (len' + 63) / 64 := rfl
  have zL : zrec L = (L + 63) / 64 := rfl
  -- a record in use is one that was, or a new one
  have rc : ∀ m j, yRc A' m j → (yRc A m j ∧ A' 523 m j = A 523 m j) ∨ (m = n ∧ (zrec L ≤ j ∧ j < zrec len') ∧ A' 523 m j = A 401 0 (A 402 0 0 - 1 - (j - zrec L))) := by
    rintro m j ⟨q1, q2, q3, q4⟩
    rw [s501] at q2
    rw [s522] at q4
    rw [s523]
    by_cases e : m = n
    · rw [if_pos e] at q4
      by_cases q : zrec L ≤ j
      · rw [if_pos ⟨e, q, q4⟩]
        exact Or.inr ⟨e, ⟨q, q4⟩, rfl⟩
      · rw [if_neg (by omega)]
        exact Or.inl ⟨⟨(lv m).1 q1, q2, q3, by rw [e, hL]; omega⟩, rfl⟩
    · rw [if_neg e] at q4
      rw [if_neg (fun x => e x.1)]
      exact Or.inl ⟨⟨(lv m).1 q1, q2, q3, q4⟩, rfl⟩
  have old : ∀ m k, yRc A m (k / 64) → 0 ≤ k → A' 400 0 (64 * A 523 m (k / 64) + k % 64) = A 400 0 (64 * A 523 m (k / 64) + k % 64) := by
    intro m k q k0
    refine s40n _ (fun j j0 j1 z => ?_)
    exact h.fu j m (k / 64) (by omega) j1 q (by omega)
  have m523 : ∀ m k, (m = n → k < zrec L) → A' 523 m k = A 523 m k := by
    intro m k q
    rw [s523, if_neg]
    rintro ⟨e, q1, q2⟩
    have := q e
    omega
  have lz : ∀ m, yLv A m → A 501 m 0 = 2 → 0 ≤ A 522 m 0 ∧ A 522 m 0 ≤ 64 * zrec (A 522 m 0) := by
    intro m hm hk
    have := hn.le m hm
    unfold zrec
    omega
  refine ⟨?_, ?_, ?_, ?_, ?_, ?_, ?_, ?_, ?_⟩
  · intro m k hm hk k0 k1
    rw [s501] at hk
    have hm := (lv m).1 hm
    rw [s522] at k1
    by_cases e : m = n
    · rw [if_pos e] at k1
      subst e
      by_cases kL : k < L
      · have w := h.wd m k hm hk k0 (by rw [hL]; exact kL)
        rw [t16 _ (by omega), m523 m _ (fun _ => by omega), old m k ⟨hm, hk, by omega, by rw [hL]; omega⟩ k0]
        exact w
      · rw [t0 k (by omega) k1]
        by_cases q : k < 64 * zrec L
        · have t := h.tl m k hm hk (by omega) (by rw [hL]; exact q)
          rw [m523 m _ (fun _ => by omega), old m k ⟨hm, hk, by omega, by rw [hL]; omega⟩ k0, t]
          omega
        · rw [s523, if_pos ⟨rfl, by omega, by omega⟩, s400 _ _ (by omega) (by omega) (by omega) (by omega)]
          omega
    · rw [if_neg e] at k1
      have w := h.wd m k hm hk k0 k1
      have l := lz m hm hk
      have l2 := hn.le m hm
      rw [if_pos hk] at l2
      rw [m523 m _ (fun x => absurd x e), old m k ⟨hm, hk, by omega, by omega⟩ k0, t16 _ (by omega)]
      exact w
  · intro m k hm hk k0 k1
    rw [s501] at hk
    have hm := (lv m).1 hm
    rw [s522] at k0 k1
    by_cases e : m = n
    · rw [if_pos e] at k0 k1
      subst e
      by_cases q : k < 64 * zrec L
      · have t := h.tl m k hm hk (by omega) (by rw [hL]; exact q)
        rw [m523 m _ (fun _ => by omega), old m k ⟨hm, hk, by omega, by rw [hL]; omega⟩ (by omega), t]
      · rw [s523, if_pos ⟨rfl, by omega, by omega⟩]
        exact s400 _ _ (by omega) (by omega) (by omega) (by omega)
    · rw [if_neg e] at k0 k1
      have l := lz m hm hk
      rw [m523 m _ (fun x => absurd x e), old m k ⟨hm, hk, by omega, by omega⟩ (by omega)]
      exact h.tl m k hm hk k0 k1
  · intro m j q
    rcases rc m j q with ⟨q1, q2⟩ | ⟨q1, q2, q3⟩
    · rw [q2]; exact h.rg m j q1
    · rw [q3]; exact h.fg _ (by omega) (by omega)
  · intro m j m' j' q q'
    rcases rc m j q with ⟨q1, q2⟩ | ⟨q1, q2, q3⟩
    · rcases rc m' j' q' with ⟨p1, p2⟩ | ⟨p1, p2, p3⟩
      · rw [q2, p2]; exact h.ij m j m' j' q1 p1
      · rw [q2, p3]
        intro e
        exact absurd e.symm (h.fu _ m j (by omega) (by omega) q1)
    · rcases rc m' j' q' with ⟨p1, p2⟩ | ⟨p1, p2, p3⟩
      · rw [q3, p2]
        intro e
        exact absurd e (h.fu _ m' j' (by omega) (by omega) p1)
      · rw [q3, p3]
        intro e
        refine ⟨by omega, ?_⟩
        by_cases x : j = j'
        · exact x
        · exfalso
          by_cases y : j < j'
          · exact h.fi (A 402 0 0 - 1 - (j' - zrec L)) (A 402 0 0 - 1 - (j - zrec L)) (by omega) (by omega) (by omega) e.symm
          · exact h.fi (A 402 0 0 - 1 - (j - zrec L)) (A 402 0 0 - 1 - (j' - zrec L)) (by omega) (by omega) (by omega) e
  · rw [s402]; omega
  · intro i i0 i1
    rw [s402] at i1
    rw [s401]
    exact h.fg i i0 (by omega)
  · intro i j i0 ij j1
    rw [s402] at j1
    rw [s401]
    exact h.fi i j i0 ij (by omega)
  · intro i m j i0 i1 q
    rw [s402] at i1
    rw [s401]
    rcases rc m j q with ⟨q1, q2⟩ | ⟨q1, q2, q3⟩
    · rw [q2]; exact h.fu i m j i0 (by omega) q1
    · rw [q3]; exact h.fi i _ i0 (by omega) (by omega)
  · rw [s402, s501]
    have u := zsm_upd (f := fun n => if A 501 n 0 = 2 then zrec (A 522 n 0) else 0) (g := fun n => if A 501 n 0 = 2 then zrec (A' 522 n 0) else 0) (i := n) 256 n0.1.1 n0.1.2 (by
      intro m _ _ mn
      show (if A 501 m 0 = 2 then zrec (A' 522 m 0) else 0) = (if A 501 m 0 = 2 then zrec (A 522 m 0) else 0)
      rw [s522, if_neg mn])
    have u : zsm (fun n => if A 501 n 0 = 2 then zrec (A' 522 n 0) else 0) 256 = zsm (fun n => if A 501 n 0 = 2 then zrec (A 522 n 0) else 0) 256 + ((if A 501 n 0 = 2 then zrec (A' 522 n 0) else 0) - (if A 501 n 0 = 2 then zrec (A 522 n 0) else 0)) := u
    rw [if_pos nk, if_pos nk, s522, if_pos rfl, hL] at u
    have := h.ct
    omega
