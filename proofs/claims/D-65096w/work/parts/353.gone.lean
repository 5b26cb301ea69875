set_option linter.unusedSimpArgs false
set_option linter.unusedVariables false
/-! a node goes: what is told of the tree stays true -/
def yGoA (A A' : zM) (n d a c : Int) : Prop :=
  (∀ i, A' 501 i 0 = if i = n then 0 else A 501 i 0) ∧
  (∀ i, 0 ≤ i → A' 505 i 0 = if i = A 506 n 0 then A 505 n 0 else A 505 i 0) ∧
  (∀ i, 0 ≤ i → A' 506 i 0 = if i = A 505 n 0 then A 506 n 0 else A 506 i 0) ∧
  (∀ i, A' 513 i 0 = if i = d ∧ A 505 n 0 < 0 then A 506 n 0 else A 513 i 0) ∧
  (∀ i, A' 514 i 0 = if i = d ∧ A 506 n 0 < 0 then A 505 n 0 else A 514 i 0) ∧
  (∀ i, A' 515 i 0 = if i = d then A 515 d 0 - 1 else A 515 i 0) ∧
  (∀ i, A' 517 i 0 = if i = a then A 517 a 0 - c else A 517 i 0) ∧
  (∀ i, A' 203 0 i = if A 501 n 0 = 3 ∧ i = A 204 0 0 then A 520 n 0 else A 203 0 i) ∧
  (A' 204 0 0 = if A 501 n 0 = 3 then A 204 0 0 + 1 else A 204 0 0) ∧
  (A' 206 0 0 = A 206 0 0 - 1) ∧
  (yCo [400, 401, 402, 502, 503, 504, 509, 510, 511, 512, 516, 520, 521, 522, 523, 600, 601, 602, 700, 701, 702] A A')
theorem yGoA.c501 {A A' : zM} {n d a c : Int} (h : yGoA A A' n d a c) : ∀ i, A' 501 i 0 = if i = n then 0 else A 501 i 0 := h.1
theorem yGoA.c505 {A A' : zM} {n d a c : Int} (h : yGoA A A' n d a c) : ∀ i, 0 ≤ i → A' 505 i 0 = if i = A 506 n 0 then A 505 n 0 else A 505 i 0 := h.2.1
theorem yGoA.c506 {A A' : zM} {n d a c : Int} (h : yGoA A A' n d a c) : ∀ i, 0 ≤ i → A' 506 i 0 = if i = A 505 n 0 then A 506 n 0 else A 506 i 0 := h.2.2.1
theorem yGoA.c513 {A A' : zM} {n d a c : Int} (h : yGoA A A' n d a c) : ∀ i, A' 513 i 0 = if i = d ∧ A 505 n 0 < 0 then A 506 n 0 else A 513 i 0 := h.2.2.2.1
theorem yGoA.c514 {A A' : zM} {n d a c : Int} (h : yGoA A A' n d a c) : ∀ i, A' 514 i 0 = if i = d ∧ A 506 n 0 < 0 then A 505 n 0 else A 514 i 0 := h.2.2.2.2.1
theorem yGoA.c515 {A A' : zM} {n d a c : Int} (h : yGoA A A' n d a c) : ∀ i, A' 515 i 0 = if i = d then A 515 d 0 - 1 else A 515 i 0 := h.2.2.2.2.2.1
theorem yGoA.c517 {A A' : zM} {n d a c : Int} (h : yGoA A A' n d a c) : ∀ i, A' 517 i 0 = if i = a then A 517 a 0 - c else A 517 i 0 := h.2.2.2.2.2.2.1
theorem yGoA.c203 {A A' : zM} {n d a c : Int} (h : yGoA A A' n d a c) : ∀ i, A' 203 0 i = if A 501 n 0 = 3 ∧ i = A 204 0 0 then A 520 n 0 else A 203 0 i := h.2.2.2.2.2.2.2.1
theorem yGoA.c204 {A A' : zM} {n d a c : Int} (h : yGoA A A' n d a c) : A' 204 0 0 = if A 501 n 0 = 3 then A 204 0 0 + 1 else A 204 0 0 := h.2.2.2.2.2.2.2.2.1
theorem yGoA.c206 {A A' : zM} {n d a c : Int} (h : yGoA A A' n d a c) : A' 206 0 0 = A 206 0 0 - 1 := h.2.2.2.2.2.2.2.2.2.1
theorem yGoA.cco {A A' : zM} {n d a c : Int} (h : yGoA A A' n d a c) : yCo [400, 401, 402, 502, 503, 504, 509, 510, 511, 512, 516, 520, 521, 522, 523, 600, 601, 602, 700, 701, 702] A A' := h.2.2.2.2.2.2.2.2.2.2
def yGoB (B B' : zM) (n a c : Int) : Prop :=
  (∀ i, 0 ≤ i → i < 256 → B' 6800 0 i = if i = n then 0 else B 6800 0 i) ∧
  (∀ i, 0 ≤ i → i < 256 → B' 6808 0 i = if i = a then B 6808 0 a - c else B 6808 0 i) ∧
  (∀ i, i ≠ n → B' 6806 0 i = B 6806 0 i) ∧
  (yCo [6801, 6802, 6803, 6804, 6805, 6807, 6809, 6810, 6811, 6812, 6813, 6814, 6815, 6816, 6817, 6818, 6819] B B')
theorem yGoB.c6800 {B B' : zM} {n a c : Int} (h : yGoB B B' n a c) : ∀ i, 0 ≤ i → i < 256 → B' 6800 0 i = if i = n then 0 else B 6800 0 i := h.1
theorem yGoB.c6808 {B B' : zM} {n a c : Int} (h : yGoB B B' n a c) : ∀ i, 0 ≤ i → i < 256 → B' 6808 0 i = if i = a then B 6808 0 a - c else B 6808 0 i := h.2.1
theorem yGoB.c6806 {B B' : zM} {n a c : Int} (h : yGoB B B' n a c) : ∀ i, i ≠ n → B' 6806 0 i = B 6806 0 i := h.2.2.1
theorem yGoB.cco {B B' : zM} {n a c : Int} (h : yGoB B B' n a c) : yCo [6801, 6802, 6803, 6804, 6805, 6807, 6809, 6810, 6811, 6812, 6813, 6814, 6815, 6816, 6817, 6818, 6819] B B' := h.2.2.2
theorem T_go_nd {A B A' B' : zM} {n d a c : Int} (h : I_nd A B) (n0 : yLv A n) (nz : n ≠ 0) (lf : ∀ m, ¬ yEn A n m) (al : yLv A a) (fa : yGoA A A' n d a c) (fb : yGoB B B' n a c) : I_nd A' B' := by
  have lv : ∀ m, yLv A' m → yLv A m ∧ m ≠ n := by
    intro m hm
    have := hm.2
    rw [fa.c501] at this
    by_cases e : m = n
    · rw [if_pos e] at this; omega
    · rw [if_neg e] at this; exact ⟨⟨hm.1, this⟩, e⟩
  have vl : ∀ m, yLv A m → m ≠ n → yLv A' m := by
    intro m hm e
    exact ⟨hm.1, by rw [fa.c501, if_neg e]; exact hm.2⟩
  have pn : ∀ m, yLv A m → m ≠ 0 → A 504 m 0 ≠ n := fun m hm m0 e => lf m ⟨by omega, hm.2, e⟩
  have a502 : A' 502 = A 502 := fa.cco 502 (by decide)
  have a503 : A' 503 = A 503 := fa.cco 503 (by decide)
  have a504 : A' 504 = A 504 := fa.cco 504 (by decide)
  have a509 : A' 509 = A 509 := fa.cco 509 (by decide)
  have a510 : A' 510 = A 510 := fa.cco 510 (by decide)
  have a511 : A' 511 = A 511 := fa.cco 511 (by decide)
  have a512 : A' 512 = A 512 := fa.cco 512 (by decide)
  have a516 : A' 516 = A 516 := fa.cco 516 (by decide)
  have a521 : A' 521 = A 521 := fa.cco 521 (by decide)
  have a522 : A' 522 = A 522 := fa.cco 522 (by decide)
  have b1 : B' 6801 = B 6801 := fb.cco 6801 (by decide)
  have b2 : B' 6802 = B 6802 := fb.cco 6802 (by decide)
  have b3 : B' 6803 = B 6803 := fb.cco 6803 (by decide)
  have b4 : B' 6804 = B 6804 := fb.cco 6804 (by decide)
  have b5 : B' 6805 = B 6805 := fb.cco 6805 (by decide)
  have b7 : B' 6807 = B 6807 := fb.cco 6807 (by decide)
  have b9 : B' 6809 = B 6809 := fb.cco 6809 (by decide)
  have b10 : B' 6810 = B 6810 := fb.cco 6810 (by decide)
  have b11 : B' 6811 = B 6811 := fb.cco 6811 (by decide)
  refine ⟨?_, ?_, ?_, ?_, ?_, ?_, ?_, ?_, ?_, ?_, ?_, ?_, ?_, ?_, ?_, ?_, ?_, ?_⟩
  · intro m m0 m1
    have := h.k m m0 m1
    rw [fa.c501, fb.c6800 m m0 m1]
    by_cases e : m = n
    · rw [if_pos e, if_pos e]; omega
    · rw [if_neg e, if_neg e]; exact this
  · intro m hm; rw [a502, b1]; exact h.nm m (lv m hm).1
  · intro m hm; rw [a504, b2]; exact h.pa m (lv m hm).1
  · intro m hm; rw [a503, b3]; exact h.lb m (lv m hm).1
  · intro m hm; rw [a509, a510, a511, b4]; exact h.br m (lv m hm).1
  · intro m hm; rw [a509, a510, a511]; exact h.bo m (lv m hm).1
  · intro m hm; rw [a521, b5, fa.c501, if_neg (lv m hm).2]; exact h.ga m (lv m hm).1
  · intro m hm; rw [a522, fb.c6806 m (lv m hm).2, fa.c501, if_neg (lv m hm).2]; exact h.le m (lv m hm).1
  · intro m hm; rw [a516, b7, fa.c501, if_neg (lv m hm).2]; exact h.li m (lv m hm).1
  · intro m hm
    rw [fa.c517, fb.c6808 m hm.1.1 hm.1.2]
    by_cases e : m = a
    · rw [if_pos e, if_pos e, h.us a al]
    · rw [if_neg e, if_neg e]; exact h.us m (lv m hm).1
  · intro m hm; rw [a512, b9]; exact h.de m (lv m hm).1
  · rw [fa.c501, if_neg (fun e => nz e.symm), a504, a516, b10]; exact h.rt
  · intro m hm m0
    obtain ⟨q1, q2, q3⟩ := h.pr m (lv m hm).1 m0
    have q4 := pn m (lv m hm).1 m0
    rw [a504, b10, fa.c501, if_neg q4]
    exact ⟨vl _ q1 q4, q2, q3⟩
  · intro x y hx hy; rw [b10]; exact h.ci x y (lv x hx).1 (lv y hy).1
  · intro m hm; rw [b10, b11]; exact h.co m (lv m hm).1
  · intro m hm m0; rw [fa.c501, if_neg (lv m hm).2, a503, a504]; exact h.la m (lv m hm).1 m0
  · intro m hm m0; rw [a502]; exact h.na m (lv m hm).1 m0
  · intro x y hx hy; rw [a502, a504]; exact h.un x y (lv x hx).1 (lv y hy).1
theorem T_go_sb {A B A' B' : zM} {n d a c : Int} (h : I_nd A B) (hs : I_sb A B) (n0 : yLv A n) (nz : n ≠ 0) (lf : ∀ m, ¬ yEn A n m) (hd : d = A 504 n 0) (fa : yGoA A A' n d a c) (fb : yGoB B B' n a c) : I_sb A' B' := by
  have lv : ∀ m, yLv A' m → yLv A m ∧ m ≠ n := by
    intro m hm
    have := hm.2
    rw [fa.c501] at this
    by_cases e : m = n
    · rw [if_pos e] at this; omega
    · rw [if_neg e] at this; exact ⟨⟨hm.1, this⟩, e⟩
  have a504 : A' 504 = A 504 := fa.cco 504 (by decide)
  have b10 : B' 6810 = B 6810 := fb.cco 6810 (by decide)
  have b11 : B' 6811 = B 6811 := fb.cco 6811 (by decide)
  have en : ∀ d' m, yEn A' d' m ↔ yEn A d' m ∧ m ≠ n := by
    intro d' m
    show ((0 < m ∧ m < 256) ∧ 0 < A' 501 m 0 ∧ A' 504 m 0 = d') ↔ _
    rw [fa.c501, a504]
    by_cases e : m = n
    · rw [if_pos e]
      exact ⟨fun q => by omega, fun q => absurd e q.2⟩
    · rw [if_neg e]
      exact ⟨fun q => ⟨q, e⟩, fun q => q.1⟩
  have e1 : ∀ d', d' ≠ d → ∀ m, yEn A d' m ↔ yEn A' d' m := by
    intro d' q m
    rw [en]
    exact ⟨fun x => ⟨x, fun e => q (by rw [← x.2.2, e, hd])⟩, fun x => x.1⟩
  have S0 : ∀ {d' m}, yEn A d' m → 0 ≤ m := fun hm => by omega
  have el : ∀ {d' m}, yEn A d' m → yLv A m := fun hm => ⟨by omega, hm.2.1⟩
  have nS : yEn A d n := ⟨by omega, n0.2, hd.symm⟩
  have inj1 : ∀ x y, yEn A d x → yEn A d y → (fun m => B 6810 0 m) x = (fun m => B 6810 0 m) y → x = y := fun x y hx hy e => h.ci x y (el hx) (el hy) e
  have inj2 : ∀ x y, yEn A d x → yEn A d y → (fun m => - B 6810 0 m) x = (fun m => - B 6810 0 m) y → x = y := fun x y hx hy e => h.ci x y (el hx) (el hy) (by have e : - B 6810 0 x = - B 6810 0 y := e; omega)
  obtain ⟨pd, pk, -⟩ := h.pr n n0 nz
  rw [← hd] at pd pk
  have fid := hs.fi d pd pk
  have lad := hs.la d pd pk
  have bhn := hs.bh n n0 nz
  have bfn := hs.bf n n0 nz
  rw [← hd] at bhn bfn
  -- who is ahead of n has n behind it, and the other way round
  have nx : ∀ m, yEn A d m → (A 506 m 0 = n ↔ m = A 505 n 0) := by
    intro m hm
    have hb := hs.bh m (el hm) (by omega)
    rw [hm.2.2] at hb
    constructor
    · intro q
      rw [q] at hb
      obtain ⟨a1, a2, a3⟩ := zPv_mem hb (by omega)
      have a2 : - B 6810 0 n < - B 6810 0 m := a2
      have : zPv (yEn A d) (fun m => B 6810 0 m) (B 6810 0 n) m := by
        refine Or.inr ⟨hm, by show B 6810 0 m < _; omega, fun x hx hc => ?_⟩
        have hc : B 6810 0 x < B 6810 0 n := hc
        show B 6810 0 x ≤ B 6810 0 m
        by_cases w : B 6810 0 x ≤ B 6810 0 m
        · exact w
        · have := a3 x hx (by show - B 6810 0 x < - B 6810 0 m; omega)
          have this : - B 6810 0 x ≤ - B 6810 0 n := this
          omega
      exact zPv_uni inj1 this bfn
    · intro q
      rw [← q] at bfn
      obtain ⟨a1, a2, a3⟩ := zPv_mem bfn (by omega)
      have a2 : B 6810 0 m < B 6810 0 n := a2
      have : zPv (yEn A d) (fun m => - B 6810 0 m) (- B 6810 0 m) n := by
        refine Or.inr ⟨nS, by show - B 6810 0 n < _; omega, fun x hx hc => ?_⟩
        have hc : - B 6810 0 x < - B 6810 0 m := hc
        show - B 6810 0 x ≤ - B 6810 0 n
        by_cases w : B 6810 0 x < B 6810 0 n
        · have := a3 x hx w
          have this : B 6810 0 x ≤ B 6810 0 m := this
          omega
        · omega
      exact zPv_uni inj2 hb this
  have pv : ∀ m, yEn A d m → (A 505 m 0 = n ↔ m = A 506 n 0) := by
    intro m hm
    have hb := hs.bf m (el hm) (by omega)
    rw [hm.2.2] at hb
    constructor
    · intro q
      rw [q] at hb
      obtain ⟨a1, a2, a3⟩ := zPv_mem hb (by omega)
      have a2 : B 6810 0 n < B 6810 0 m := a2
      have : zPv (yEn A d) (fun m => - B 6810 0 m) (- B 6810 0 n) m := by
        refine Or.inr ⟨hm, by show - B 6810 0 m < _; omega, fun x hx hc => ?_⟩
        have hc : - B 6810 0 x < - B 6810 0 n := hc
        show - B 6810 0 x ≤ - B 6810 0 m
        by_cases w : B 6810 0 x < B 6810 0 m
        · have := a3 x hx w
          have this : B 6810 0 x ≤ B 6810 0 n := this
          omega
        · omega
      exact zPv_uni inj2 this bhn
    · intro q
      rw [← q] at bhn
      obtain ⟨a1, a2, a3⟩ := zPv_mem bhn (by omega)
      have a2 : - B 6810 0 m < - B 6810 0 n := a2
      have : zPv (yEn A d) (fun m => B 6810 0 m) (B 6810 0 m) n := by
        refine Or.inr ⟨nS, by show B 6810 0 n < _; omega, fun x hx hc => ?_⟩
        have hc : B 6810 0 x < B 6810 0 m := hc
        show B 6810 0 x ≤ B 6810 0 n
        by_cases w : B 6810 0 x ≤ B 6810 0 n
        · exact w
        · have := a3 x hx (by show - B 6810 0 x < - B 6810 0 n; omega)
          have this : - B 6810 0 x ≤ - B 6810 0 m := this
          omega
      exact zPv_uni inj1 hb this
  have fin : A 513 d 0 = n ↔ A 505 n 0 < 0 := by
    constructor
    · intro q
      rw [q] at fid
      obtain ⟨a1, a2, a3⟩ := zPv_mem fid (by omega)
      rcases bfn with ⟨b1, -⟩ | ⟨b1, b2, -⟩
      · omega
      · have b2 : B 6810 0 (A 505 n 0) < B 6810 0 n := b2
        have o := h.pr _ (el b1) (by omega)
        have o2 := h.co _ o.1
        have := a3 _ b1 (by show - B 6810 0 _ < 0; omega)
        have this : - B 6810 0 (A 505 n 0) ≤ - B 6810 0 n := this
        omega
    · intro q
      rcases bfn with ⟨b1, b2⟩ | ⟨b1, -⟩
      · have o := h.pr n n0 nz
        have o2 := h.co _ o.1
        refine zPv_uni inj2 fid (Or.inr ⟨nS, by show - B 6810 0 n < 0; omega, fun x hx _ => ?_⟩)
        have := b2 x hx
        have this : ¬ B 6810 0 x < B 6810 0 n := this
        show - B 6810 0 x ≤ - B 6810 0 n
        omega
      · omega
  have lan : A 514 d 0 = n ↔ A 506 n 0 < 0 := by
    constructor
    · intro q
      rw [q] at lad
      obtain ⟨a1, a2, a3⟩ := zPv_mem lad (by omega)
      rcases bhn with ⟨b1, -⟩ | ⟨b1, b2, -⟩
      · omega
      · have b2 : - B 6810 0 (A 506 n 0) < - B 6810 0 n := b2
        have o2 := h.co _ (el b1)
        have := a3 _ b1 (by show B 6810 0 _ < _; omega)
        have this : B 6810 0 (A 506 n 0) ≤ B 6810 0 n := this
        omega
    · intro q
      rcases bhn with ⟨b1, b2⟩ | ⟨b1, -⟩
      · have o2 := h.co n n0
        refine zPv_uni inj1 lad (Or.inr ⟨nS, by show B 6810 0 n < _; omega, fun x hx _ => ?_⟩)
        have := b2 x hx
        have this : ¬ - B 6810 0 x < - B 6810 0 n := this
        show B 6810 0 x ≤ B 6810 0 n
        omega
      · omega
  refine ⟨?_, ?_, ?_, ?_, ?_⟩
  · intro d' hd' hk
    obtain ⟨l1, l2⟩ := lv d' hd'
    rw [fa.c501, if_neg l2] at hk
    rw [b10, fa.c513]
    by_cases q : d' = d
    · rw [q]
      by_cases z : A 505 n 0 < 0
      · rw [if_pos ⟨rfl, z⟩]
        have g := fid
        rw [fin.2 z] at g
        exact zPv_delx (fun m hm => S0 hm) inj2 (en d) g (by omega) bhn
      · rw [if_neg (fun x => z x.2)]
        exact zPv_del (en d) (fun e => z (fin.1 e)) fid
    · rw [if_neg (fun x => q x.1)]
      exact zPv_congr (e1 d' q) (fun _ _ => rfl) (hs.fi d' l1 hk)
  · intro d' hd' hk
    obtain ⟨l1, l2⟩ := lv d' hd'
    rw [fa.c501, if_neg l2] at hk
    rw [b10, b11, fa.c514]
    by_cases q : d' = d
    · rw [q]
      by_cases z : A 506 n 0 < 0
      · rw [if_pos ⟨rfl, z⟩]
        have g := lad
        rw [lan.2 z] at g
        exact zPv_delx (fun m hm => S0 hm) inj1 (en d) g (by omega) bfn
      · rw [if_neg (fun x => z x.2)]
        exact zPv_del (en d) (fun e => z (lan.1 e)) lad
    · rw [if_neg (fun x => q x.1)]
      exact zPv_congr (e1 d' q) (fun _ _ => rfl) (hs.la d' l1 hk)
  · intro m hm m0
    obtain ⟨l1, l2⟩ := lv m hm
    have hb := hs.bh m l1 m0
    rw [b10, a504, fa.c506 m (by omega)]
    by_cases q : A 504 m 0 = d
    · rw [q] at hb ⊢
      have mm : yEn A d m := ⟨by omega, l1.2, q⟩
      by_cases z : m = A 505 n 0
      · rw [if_pos z]
        have g := hb
        rw [(nx m mm).2 z] at g
        exact zPv_delx (fun m hm => S0 hm) inj2 (en d) g (by omega) bhn
      · rw [if_neg z]
        exact zPv_del (en d) (fun e => z ((nx m mm).1 e)) hb
    · rw [if_neg]
      · exact zPv_congr (e1 _ q) (fun _ _ => rfl) hb
      · intro z
        rcases bfn with ⟨b1, -⟩ | ⟨b1, -⟩
        · omega
        · rw [← z] at b1; exact q b1.2.2
  · intro m hm m0
    obtain ⟨l1, l2⟩ := lv m hm
    have hb := hs.bf m l1 m0
    rw [b10, a504, fa.c505 m (by omega)]
    by_cases q : A 504 m 0 = d
    · rw [q] at hb ⊢
      have mm : yEn A d m := ⟨by omega, l1.2, q⟩
      by_cases z : m = A 506 n 0
      · rw [if_pos z]
        have g := hb
        rw [(pv m mm).2 z] at g
        exact zPv_delx (fun m hm => S0 hm) inj1 (en d) g (by omega) bfn
      · rw [if_neg z]
        exact zPv_del (en d) (fun e => z ((pv m mm).1 e)) hb
    · rw [if_neg]
      · exact zPv_congr (e1 _ q) (fun _ _ => rfl) hb
      · intro z
        rcases bhn with ⟨b1, -⟩ | ⟨b1, -⟩
        · omega
        · rw [← z] at b1; exact q b1.2.2
  · intro d' hd'
    obtain ⟨l1, l2⟩ := lv d' hd'
    rw [fa.c515]
    by_cases q : d' = d
    · rw [if_pos q, q, hs.en d pd]
      have u := zsm_upd (f := fun m => if yEn A d m then 1 else 0) (g := fun m => if yEn A' d m then 1 else 0) (i := n) 256 (by omega) n0.1.2 (by
        intro m _ _ mn
        show (if yEn A' d m then (1 : Int) else 0) = (if yEn A d m then 1 else 0)
        by_cases z : yEn A d m
        · rw [if_pos z, if_pos ((en d m).2 ⟨z, mn⟩)]
        · rw [if_neg z, if_neg (fun x => z ((en d m).1 x).1)])
      have u : zsm (fun m => if yEn A' d m then 1 else 0) 256 = zsm (fun m => if yEn A d m then 1 else 0) 256 + ((if yEn A' d n then 1 else 0) - (if yEn A d n then 1 else 0)) := u
      rw [u, if_pos nS, if_neg (fun x => ((en d n).1 x).2 rfl)]
      omega
    · rw [if_neg q, hs.en d' l1]
      refine zsm_congr 256 (fun m _ _ => ?_)
      by_cases z : yEn A d' m
      · rw [if_pos z, if_pos ((e1 d' q m).1 z)]
      · rw [if_neg z, if_neg (fun x => z ((e1 d' q m).2 x))]
