set_option linter.unusedSimpArgs false
set_option linter.unusedVariables false
/-! a node more: what is told of nodes, siblings, index stays true -/
theorem zPv_bound {S : Int → Prop} {key : Int → Int} {c c' r : Int} (h1 : ∀ m, S m → key m < c) (h2 : ∀ m, S m → key m < c') (h : zPv S key c r) : zPv S key c' r := by
  rcases h with ⟨a, b⟩ | ⟨a, b, d⟩
  · exact Or.inl ⟨a, fun m hm => absurd (h1 m hm) (b m hm)⟩
  · exact Or.inr ⟨a, h2 r a, fun m hm _ => d m hm (h1 m hm)⟩
theorem I_al_fr {A A' B B' : zM} {c : Int} {C : Nat} {b m m' : Int} (ha : ∀ f i, f = 600 ∨ f = 601 ∨ f = 602 → A' f c i = A f c i) (hb : ∀ i, b ≤ i → i < b + 3 * zacl c → B' C 0 i = B C 0 i) (hm : m' = m) (h : I_al A B c C b m) : I_al A' B' c C b m' := by
  subst hm
  have r := h.r
  refine ⟨(ha 602 0 (by simp)).trans h.n, r, ?_, ?_, ?_, ?_⟩
  · intro k k0 k1
    rw [ha 600 k (by simp), hb _ (by omega) (by omega), hb _ (by omega) (by omega)]
    exact h.w k k0 k1
  · intro k k0 k1
    rw [ha 601 k (by simp), hb _ (by omega) (by omega)]
    exact h.o k k0 k1
  · intro k k0 k1
    rw [hb _ (by omega) (by omega), hb _ (by omega) (by omega), hb _ (by omega) (by omega)]
    exact h.x k k0 k1
  · intro j k j0 jk k1
    rw [ha 600 j (by simp), ha 600 k (by simp)]
    exact h.d j k j0 jk k1
def yMkA (A A' : zM) (n d k w l lim a c bx : Int) : Prop :=
  (∀ i, A' 501 i 0 = if i = n then k else A 501 i 0) ∧
  (∀ i, A' 502 i 0 = if i = n then w else A 502 i 0) ∧
  (∀ i, A' 503 i 0 = if i = n then l else A 503 i 0) ∧
  (∀ i, A' 504 i 0 = if i = n then d else A 504 i 0) ∧
  (∀ i, A' 505 i 0 = if i = n then A 514 d 0 else A 505 i 0) ∧
  (∀ i, 0 ≤ i → A' 506 i 0 = if i = n then -1 else if i = A 514 d 0 then n else A 506 i 0) ∧
  (∀ i, A' 507 i 0 = if i = n then A 300 0 (ybk d w) else A 507 i 0) ∧
  (∀ i, A' 300 0 i = if i = ybk d w then n else A 300 0 i) ∧
  (∀ i, A' 509 i 0 = if i = n then 4 else A 509 i 0) ∧
  (∀ i, A' 510 i 0 = if i = n then 4 else A 510 i 0) ∧
  (∀ i, A' 511 i 0 = if i = n then 4 else A 511 i 0) ∧
  (∀ i, A' 512 i 0 = if i = n then 0 else A 512 i 0) ∧
  (∀ i, A' 513 i 0 = if i = n then -1 else if i = d ∧ A 514 d 0 < 0 then n else A 513 i 0) ∧
  (∀ i, A' 514 i 0 = if i = n then -1 else if i = d then n else A 514 i 0) ∧
  (∀ i, A' 515 i 0 = if i = n then 0 else if i = d then A 515 d 0 + 1 else A 515 i 0) ∧
  (∀ i, A' 516 i 0 = if i = n then lim else A 516 i 0) ∧
  (∀ i, A' 517 i 0 = if i = n then 0 else if i = a then A 517 a 0 + c else A 517 i 0) ∧
  (∀ i, A' 520 i 0 = if i = n then bx else A 520 i 0) ∧
  (∀ i, A' 521 i 0 = if i = n then 0 else A 521 i 0) ∧
  (∀ i, A' 522 i 0 = if i = n then 0 else A 522 i 0) ∧
  (A' 204 0 0 = if k = 3 then A 204 0 0 - 1 else A 204 0 0) ∧
  (∀ i, A' 702 i 0 = if k = 3 ∧ i = bx then 0 else A 702 i 0) ∧
  (A' 206 0 0 = A 206 0 0 + 1) ∧
  (∀ f x i, (f = 600 ∨ f = 601 ∨ f = 602) → ¬ (3 * n ≤ x ∧ x < 3 * n + 3) → A' f x i = A f x i) ∧
  (A' 602 (3 * n + 1) 0 = 0 ∧ A' 602 (3 * n + 2) 0 = 0) ∧
  (yCo [203, 400, 401, 402, 523, 700, 701] A A')
theorem yMkA.c501 {A A' : zM} {n d k w l lim a c bx : Int} (h : yMkA A A' n d k w l lim a c bx) : ∀ i, A' 501 i 0 = if i = n then k else A 501 i 0 := h.1
theorem yMkA.c502 {A A' : zM} {n d k w l lim a c bx : Int} (h : yMkA A A' n d k w l lim a c bx) : ∀ i, A' 502 i 0 = if i = n then w else A 502 i 0 := h.2.1
theorem yMkA.c503 {A A' : zM} {n d k w l lim a c bx : Int} (h : yMkA A A' n d k w l lim a c bx) : ∀ i, A' 503 i 0 = if i = n then l else A 503 i 0 := h.2.2.1
theorem yMkA.c504 {A A' : zM} {n d k w l lim a c bx : Int} (h : yMkA A A' n d k w l lim a c bx) : ∀ i, A' 504 i 0 = if i = n then d else A 504 i 0 := h.2.2.2.1
theorem yMkA.c505 {A A' : zM} {n d k w l lim a c bx : Int} (h : yMkA A A' n d k w l lim a c bx) : ∀ i, A' 505 i 0 = if i = n then A 514 d 0 else A 505 i 0 := h.2.2.2.2.1
theorem yMkA.c506 {A A' : zM} {n d k w l lim a c bx : Int} (h : yMkA A A' n d k w l lim a c bx) : ∀ i, 0 ≤ i → A' 506 i 0 = if i = n then -1 else if i = A 514 d 0 then n else A 506 i 0 := h.2.2.2.2.2.1
theorem yMkA.c507 {A A' : zM} {n d k w l lim a c bx : Int} (h : yMkA A A' n d k w l lim a c bx) : ∀ i, A' 507 i 0 = if i = n then A 300 0 (ybk d w) else A 507 i 0 := h.2.2.2.2.2.2.1
theorem yMkA.c300 {A A' : zM} {n d k w l lim a c bx : Int} (h : yMkA A A' n d k w l lim a c bx) : ∀ i, A' 300 0 i = if i = ybk d w then n else A 300 0 i := h.2.2.2.2.2.2.2.1
theorem yMkA.c509 {A A' : zM} {n d k w l lim a c bx : Int} (h : yMkA A A' n d k w l lim a c bx) : ∀ i, A' 509 i 0 = if i = n then 4 else A 509 i 0 := h.2.2.2.2.2.2.2.2.1
theorem yMkA.c510 {A A' : zM} {n d k w l lim a c bx : Int} (h : yMkA A A' n d k w l lim a c bx) : ∀ i, A' 510 i 0 = if i = n then 4 else A 510 i 0 := h.2.2.2.2.2.2.2.2.2.1
theorem yMkA.c511 {A A' : zM} {n d k w l lim a c bx : Int} (h : yMkA A A' n d k w l lim a c bx) : ∀ i, A' 511 i 0 = if i = n then 4 else A 511 i 0 := h.2.2.2.2.2.2.2.2.2.2.1
theorem yMkA.c512 {A A' : zM} {n d k w l lim a c bx : Int} (h : yMkA A A' n d k w l lim a c bx) : ∀ i, A' 512 i 0 = if i = n then 0 else A 512 i 0 := h.2.2.2.2.2.2.2.2.2.2.2.1
theorem yMkA.c513 {A A' : zM} {n d k w l lim a c bx : Int} (h : yMkA A A' n d k w l lim a c bx) : ∀ i, A' 513 i 0 = if i = n then -1 else if i = d ∧ A 514 d 0 < 0 then n else A 513 i 0 := h.2.2.2.2.2.2.2.2.2.2.2.2.1
theorem yMkA.c514 {A A' : zM} {n d k w l lim a c bx : Int} (h : yMkA A A' n d k w l lim a c bx) : ∀ i, A' 514 i 0 = if i = n then -1 else if i = d then n else A 514 i 0 := h.2.2.2.2.2.2.2.2.2.2.2.2.2.1
theorem yMkA.c515 {A A' : zM} {n d k w l lim a c bx : Int} (h : yMkA A A' n d k w l lim a c bx) : ∀ i, A' 515 i 0 = if i = n then 0 else if i = d then A 515 d 0 + 1 else A 515 i 0 := h.2.2.2.2.2.2.2.2.2.2.2.2.2.2.1
theorem yMkA.c516 {A A' : zM} {n d k w l lim a c bx : Int} (h : yMkA A A' n d k w l lim a c bx) : ∀ i, A' 516 i 0 = if i = n then lim else A 516 i 0 := h.2.2.2.2.2.2.2.2.2.2.2.2.2.2.2.1
theorem yMkA.c517 {A A' : zM} {n d k w l lim a c bx : Int} (h : yMkA A A' n d k w l lim a c bx) : ∀ i, A' 517 i 0 = if i = n then 0 else if i = a then A 517 a 0 + c else A 517 i 0 := h.2.2.2.2.2.2.2.2.2.2.2.2.2.2.2.2.1
theorem yMkA.c520 {A A' : zM} {n d k w l lim a c bx : Int} (h : yMkA A A' n d k w l lim a c bx) : ∀ i, A' 520 i 0 = if i = n then bx else A 520 i 0 := h.2.2.2.2.2.2.2.2.2.2.2.2.2.2.2.2.2.1
theorem yMkA.c521 {A A' : zM} {n d k w l lim a c bx : Int} (h : yMkA A A' n d k w l lim a c bx) : ∀ i, A' 521 i 0 = if i = n then 0 else A 521 i 0 := h.2.2.2.2.2.2.2.2.2.2.2.2.2.2.2.2.2.2.1
theorem yMkA.c522 {A A' : zM} {n d k w l lim a c bx : Int} (h : yMkA A A' n d k w l lim a c bx) : ∀ i, A' 522 i 0 = if i = n then 0 else A 522 i 0 := h.2.2.2.2.2.2.2.2.2.2.2.2.2.2.2.2.2.2.2.1
theorem yMkA.c204 {A A' : zM} {n d k w l lim a c bx : Int} (h : yMkA A A' n d k w l lim a c bx) : A' 204 0 0 = if k = 3 then A 204 0 0 - 1 else A 204 0 0 := h.2.2.2.2.2.2.2.2.2.2.2.2.2.2.2.2.2.2.2.2.1
theorem yMkA.c702 {A A' : zM} {n d k w l lim a c bx : Int} (h : yMkA A A' n d k w l lim a c bx) : ∀ i, A' 702 i 0 = if k = 3 ∧ i = bx then 0 else A 702 i 0 := h.2.2.2.2.2.2.2.2.2.2.2.2.2.2.2.2.2.2.2.2.2.1
theorem yMkA.c206 {A A' : zM} {n d k w l lim a c bx : Int} (h : yMkA A A' n d k w l lim a c bx) : A' 206 0 0 = A 206 0 0 + 1 := h.2.2.2.2.2.2.2.2.2.2.2.2.2.2.2.2.2.2.2.2.2.2.1
theorem yMkA.c600 {A A' : zM} {n d k w l lim a c bx : Int} (h : yMkA A A' n d k w l lim a c bx) : ∀ f x i, (f = 600 ∨ f = 601 ∨ f = 602) → ¬ (3 * n ≤ x ∧ x < 3 * n + 3) → A' f x i = A f x i := h.2.2.2.2.2.2.2.2.2.2.2.2.2.2.2.2.2.2.2.2.2.2.2.1
theorem yMkA.c601 {A A' : zM} {n d k w l lim a c bx : Int} (h : yMkA A A' n d k w l lim a c bx) : A' 602 (3 * n + 1) 0 = 0 ∧ A' 602 (3 * n + 2) 0 = 0 := h.2.2.2.2.2.2.2.2.2.2.2.2.2.2.2.2.2.2.2.2.2.2.2.2.1
theorem yMkA.cco {A A' : zM} {n d k w l lim a c bx : Int} (h : yMkA A A' n d k w l lim a c bx) : yCo [203, 400, 401, 402, 523, 700, 701] A A' := h.2.2.2.2.2.2.2.2.2.2.2.2.2.2.2.2.2.2.2.2.2.2.2.2.2
def yMkB (B B' : zM) (n d k w l lim a c len : Int) : Prop :=
  (∀ i, B' 6800 0 i = if i = n then k else B 6800 0 i) ∧
  (∀ i, B' 6801 0 i = if i = n then w else B 6801 0 i) ∧
  (∀ i, B' 6802 0 i = if i = n then d else B 6802 0 i) ∧
  (∀ i, B' 6803 0 i = if i = n then l else B 6803 0 i) ∧
  (∀ i, B' 6804 0 i = if 3 * n ≤ i ∧ i < 3 * n + 3 then 4 else B 6804 0 i) ∧
  (∀ i, B' 6805 0 i = if i = n then 0 else B 6805 0 i) ∧
  (∀ i, B' 6806 0 i = if i = n then len else B 6806 0 i) ∧
  (∀ i, B' 6807 0 i = if i = n then lim else B 6807 0 i) ∧
  (∀ i, B' 6808 0 i = if i = n then 0 else if i = a then B 6808 0 a + c else B 6808 0 i) ∧
  (∀ i, B' 6809 0 i = if i = n then 0 else B 6809 0 i) ∧
  (∀ i, B' 6810 0 i = if i = n then B 6811 0 0 + 1 else B 6810 0 i) ∧
  (B' 6811 0 0 = B 6811 0 0 + 1) ∧
  (∀ i, i ≠ n → B' 6812 0 i = B 6812 0 i) ∧
  (∀ i, ¬ (18 * n ≤ i ∧ i < 18 * n + 18) → B' 6813 0 i = B 6813 0 i) ∧
  (∀ i, B' 6814 0 i = if i = 2 * n ∨ i = 2 * n + 1 then 0 else B 6814 0 i) ∧
  (∀ i, B' 6816 0 i = if 1024 * n ≤ i ∧ i < 1024 * n + 1024 then 0 else B 6816 0 i) ∧
  (∀ i, B' 6817 0 i = if i = n then 0 else B 6817 0 i) ∧
  (yCo [6815, 6818, 6819] B B')
theorem yMkB.c6800 {B B' : zM} {n d k w l lim a c len : Int} (h : yMkB B B' n d k w l lim a c len) : ∀ i, B' 6800 0 i = if i = n then k else B 6800 0 i := h.1
theorem yMkB.c6801 {B B' : zM} {n d k w l lim a c len : Int} (h : yMkB B B' n d k w l lim a c len) : ∀ i, B' 6801 0 i = if i = n then w else B 6801 0 i := h.2.1
theorem yMkB.c6802 {B B' : zM} {n d k w l lim a c len : Int} (h : yMkB B B' n d k w l lim a c len) : ∀ i, B' 6802 0 i = if i = n then d else B 6802 0 i := h.2.2.1
theorem yMkB.c6803 {B B' : zM} {n d k w l lim a c len : Int} (h : yMkB B B' n d k w l lim a c len) : ∀ i, B' 6803 0 i = if i = n then l else B 6803 0 i := h.2.2.2.1
theorem yMkB.c6804 {B B' : zM} {n d k w l lim a c len : Int} (h : yMkB B B' n d k w l lim a c len) : ∀ i, B' 6804 0 i = if 3 * n ≤ i ∧ i < 3 * n + 3 then 4 else B 6804 0 i := h.2.2.2.2.1
theorem yMkB.c6805 {B B' : zM} {n d k w l lim a c len : Int} (h : yMkB B B' n d k w l lim a c len) : ∀ i, B' 6805 0 i = if i = n then 0 else B 6805 0 i := h.2.2.2.2.2.1
theorem yMkB.c6806 {B B' : zM} {n d k w l lim a c len : Int} (h : yMkB B B' n d k w l lim a c len) : ∀ i, B' 6806 0 i = if i = n then len else B 6806 0 i := h.2.2.2.2.2.2.1
theorem yMkB.c6807 {B B' : zM} {n d k w l lim a c len : Int} (h : yMkB B B' n d k w l lim a c len) : ∀ i, B' 6807 0 i = if i = n then lim else B 6807 0 i := h.2.2.2.2.2.2.2.1
theorem yMkB.c6808 {B B' : zM} {n d k w l lim a c len : Int} (h : yMkB B B' n d k w l lim a c len) : ∀ i, B' 6808 0 i = if i = n then 0 else if i = a then B 6808 0 a + c else B 6808 0 i := h.2.2.2.2.2.2.2.2.1
theorem yMkB.c6809 {B B' : zM} {n d k w l lim a c len : Int} (h : yMkB B B' n d k w l lim a c len) : ∀ i, B' 6809 0 i = if i = n then 0 else B 6809 0 i := h.2.2.2.2.2.2.2.2.2.1
theorem yMkB.c6810 {B B' : zM} {n d k w l lim a c len : Int} (h : yMkB B B' n d k w l lim a c len) : ∀ i, B' 6810 0 i = if i = n then B 6811 0 0 + 1 else B 6810 0 i := h.2.2.2.2.2.2.2.2.2.2.1
theorem yMkB.c6811 {B B' : zM} {n d k w l lim a c len : Int} (h : yMkB B B' n d k w l lim a c len) : B' 6811 0 0 = B 6811 0 0 + 1 := h.2.2.2.2.2.2.2.2.2.2.2.1
theorem yMkB.c6812 {B B' : zM} {n d k w l lim a c len : Int} (h : yMkB B B' n d k w l lim a c len) : ∀ i, i ≠ n → B' 6812 0 i = B 6812 0 i := h.2.2.2.2.2.2.2.2.2.2.2.2.1
theorem yMkB.c6813 {B B' : zM} {n d k w l lim a c len : Int} (h : yMkB B B' n d k w l lim a c len) : ∀ i, ¬ (18 * n ≤ i ∧ i < 18 * n + 18) → B' 6813 0 i = B 6813 0 i := h.2.2.2.2.2.2.2.2.2.2.2.2.2.1
theorem yMkB.c6814 {B B' : zM} {n d k w l lim a c len : Int} (h : yMkB B B' n d k w l lim a c len) : ∀ i, B' 6814 0 i = if i = 2 * n ∨ i = 2 * n + 1 then 0 else B 6814 0 i := h.2.2.2.2.2.2.2.2.2.2.2.2.2.2.1
theorem yMkB.c6816 {B B' : zM} {n d k w l lim a c len : Int} (h : yMkB B B' n d k w l lim a c len) : ∀ i, B' 6816 0 i = if 1024 * n ≤ i ∧ i < 1024 * n + 1024 then 0 else B 6816 0 i := h.2.2.2.2.2.2.2.2.2.2.2.2.2.2.2.1
theorem yMkB.c6817 {B B' : zM} {n d k w l lim a c len : Int} (h : yMkB B B' n d k w l lim a c len) : ∀ i, B' 6817 0 i = if i = n then 0 else B 6817 0 i := h.2.2.2.2.2.2.2.2.2.2.2.2.2.2.2.2.1
theorem yMkB.cco {B B' : zM} {n d k w l lim a c len : Int} (h : yMkB B B' n d k w l lim a c len) : yCo [6815, 6818, 6819] B B' := h.2.2.2.2.2.2.2.2.2.2.2.2.2.2.2.2.2
/-- what is asked of a node that is made -/
def yMk0 (A B : zM) (acc : Int → Int) (n d k w l lim a c : Int) : Prop :=
  ((0 < n ∧ n < 256) ∧ A 501 n 0 = 0) ∧
  (yLv A d ∧ A 501 d 0 = 1) ∧
  (1 ≤ k ∧ k ≤ 3) ∧
  (isNm w) ∧
  (∀ m, yEn A d m → A 502 m 0 ≠ w) ∧
  (0 ≤ l ∧ l < 32) ∧
  (k ≠ 1 → l = A 503 d 0) ∧
  (0 ≤ lim ∧ lim ≤ (if k = 1 then 255 else 0)) ∧
  (a = acc d) ∧
  (c = zco k (if k = 2 then 0 else lim)) ∧
  (A 517 a 0 + c ≤ A 516 a 0)
theorem yMk0.n {A B : zM} {acc : Int → Int} {n d k w l lim a c : Int} (h : yMk0 A B acc n d k w l lim a c) : (0 < n ∧ n < 256) ∧ A 501 n 0 = 0 := h.1
theorem yMk0.d {A B : zM} {acc : Int → Int} {n d k w l lim a c : Int} (h : yMk0 A B acc n d k w l lim a c) : yLv A d ∧ A 501 d 0 = 1 := h.2.1
theorem yMk0.k {A B : zM} {acc : Int → Int} {n d k w l lim a c : Int} (h : yMk0 A B acc n d k w l lim a c) : 1 ≤ k ∧ k ≤ 3 := h.2.2.1
theorem yMk0.w {A B : zM} {acc : Int → Int} {n d k w l lim a c : Int} (h : yMk0 A B acc n d k w l lim a c) : isNm w := h.2.2.2.1
theorem yMk0.u {A B : zM} {acc : Int → Int} {n d k w l lim a c : Int} (h : yMk0 A B acc n d k w l lim a c) : ∀ m, yEn A d m → A 502 m 0 ≠ w := h.2.2.2.2.1
theorem yMk0.l {A B : zM} {acc : Int → Int} {n d k w l lim a c : Int} (h : yMk0 A B acc n d k w l lim a c) : 0 ≤ l ∧ l < 32 := h.2.2.2.2.2.1
theorem yMk0.e {A B : zM} {acc : Int → Int} {n d k w l lim a c : Int} (h : yMk0 A B acc n d k w l lim a c) : k ≠ 1 → l = A 503 d 0 := h.2.2.2.2.2.2.1
theorem yMk0.m {A B : zM} {acc : Int → Int} {n d k w l lim a c : Int} (h : yMk0 A B acc n d k w l lim a c) : 0 ≤ lim ∧ lim ≤ (if k = 1 then 255 else 0) := h.2.2.2.2.2.2.2.1
theorem yMk0.a {A B : zM} {acc : Int → Int} {n d k w l lim a c : Int} (h : yMk0 A B acc n d k w l lim a c) : a = acc d := h.2.2.2.2.2.2.2.2.1
theorem yMk0.c {A B : zM} {acc : Int → Int} {n d k w l lim a c : Int} (h : yMk0 A B acc n d k w l lim a c) : c = zco k (if k = 2 then 0 else lim) := h.2.2.2.2.2.2.2.2.2.1
theorem yMk0.r {A B : zM} {acc : Int → Int} {n d k w l lim a c : Int} (h : yMk0 A B acc n d k w l lim a c) : A 517 a 0 + c ≤ A 516 a 0 := h.2.2.2.2.2.2.2.2.2.2
theorem T_mk_nd {A B A' B' : zM} {acc : Int → Int} {n d k w l lim a c bx : Int} (h : I_nd A B) (p : yMk0 A B acc n d k w l lim a c) (fa : yMkA A A' n d k w l lim a c bx) (fb : yMkB B B' n d k w l lim a c 0) (han : a ≠ n) (hal : yLv A a) : I_nd A' B' := by
  have pn := p.n
  have pd := p.d
  have pk := p.k
  have hdn : d ≠ n := fun e => by rw [e] at pd; omega
  have lv : ∀ m, yLv A' m → m ≠ n → yLv A m := by
    intro m hm e
    have := hm.2
    rw [fa.c501, if_neg e] at this
    exact ⟨hm.1, this⟩
  have vl : ∀ m, yLv A m → yLv A' m := by
    intro m hm
    refine ⟨hm.1, ?_⟩
    rw [fa.c501]
    split <;> omega
  have ln : ∀ m, yLv A m → m ≠ n := by intro m hm e; rw [e] at hm; omega
  refine ⟨?_, ?_, ?_, ?_, ?_, ?_, ?_, ?_, ?_, ?_, ?_, ?_, ?_, ?_, ?_, ?_, ?_, ?_⟩
  · intro m m0 m1
    have := h.k m m0 m1
    simp only [fa.c501, fb.c6800]
    by_cases e : m = n
    · simp only [if_pos e, true_and]; omega
    · simp only [if_neg e]; exact this
  · intro m hm
    simp only [fa.c502, fb.c6801]
    by_cases e : m = n
    · simp only [if_pos e]
    · simp only [if_neg e]; exact h.nm m (lv m hm e)
  · intro m hm
    simp only [fa.c504, fb.c6802]
    by_cases e : m = n
    · simp only [if_pos e]
    · simp only [if_neg e]; exact h.pa m (lv m hm e)
  · intro m hm
    simp only [fa.c503, fb.c6803]
    by_cases e : m = n
    · simp only [if_pos e]; exact ⟨trivial, p.l⟩
    · simp only [if_neg e]; exact h.lb m (lv m hm e)
  · intro m hm
    simp only [fa.c509, fa.c510, fa.c511, fb.c6804]
    by_cases e : m = n
    · simp only [if_pos e]
      rw [if_pos (by omega), if_pos (by omega), if_pos (by omega)]
      exact ⟨rfl, rfl, rfl⟩
    · simp only [if_neg e]
      rw [if_neg (by omega), if_neg (by omega), if_neg (by omega)]
      exact h.br m (lv m hm e)
  · intro m hm
    simp only [fa.c509, fa.c510, fa.c511]
    by_cases e : m = n
    · simp only [if_pos e]; omega
    · simp only [if_neg e]; exact h.bo m (lv m hm e)
  · intro m hm
    simp only [fa.c521, fa.c501, fb.c6805]
    by_cases e : m = n
    · simp only [if_pos e, true_and]
      split <;> omega
    · simp only [if_neg e]; exact h.ga m (lv m hm e)
  · intro m hm
    simp only [fa.c522, fa.c501, fb.c6806]
    by_cases e : m = n
    · simp only [if_pos e, true_and]
      split <;> omega
    · simp only [if_neg e]; exact h.le m (lv m hm e)
  · intro m hm
    simp only [fa.c516, fa.c501, fb.c6807]
    by_cases e : m = n
    · simp only [if_pos e]
      exact ⟨trivial, p.m⟩
    · simp only [if_neg e]; exact h.li m (lv m hm e)
  · intro m hm
    simp only [fa.c517, fb.c6808]
    by_cases e : m = n
    · simp only [if_pos e]
    · simp only [if_neg e]
      by_cases q : m = a
      · simp only [if_pos q]
        rw [h.us a hal]
      · simp only [if_neg q]
        exact h.us m (lv m hm e)
  · intro m hm
    simp only [fa.c512, fb.c6809]
    by_cases e : m = n
    · simp only [if_pos e]
    · simp only [if_neg e]; exact h.de m (lv m hm e)
  · have := h.rt
    simp only [fa.c501, fa.c504, fa.c516, fb.c6810]
    rw [if_neg (by omega), if_neg (by omega), if_neg (by omega), if_neg (by omega)]
    exact this
  · intro m hm m0
    by_cases e : m = n
    · have q := h.co d pd.1
      simp only [fa.c504, if_pos e]
      refine ⟨vl d pd.1, ?_, ?_⟩
      · rw [fa.c501, if_neg hdn]; exact pd.2
      · simp only [fb.c6810, if_neg hdn, if_pos e]; omega
    · obtain ⟨a1, a2, a3⟩ := h.pr m (lv m hm e) m0
      have q := ln _ a1
      simp only [fa.c504, if_neg e]
      refine ⟨vl _ a1, ?_, ?_⟩
      · rw [fa.c501, if_neg q]; exact a2
      · simp only [fb.c6810, if_neg q, if_neg e]; exact a3
  · intro x y hx hy
    simp only [fb.c6810]
    by_cases e : x = n
    · by_cases e' : y = n
      · intro _; rw [e, e']
      · have := h.co y (lv y hy e')
        simp only [if_pos e, if_neg e']
        intro q; omega
    · have := h.co x (lv x hx e)
      by_cases e' : y = n
      · simp only [if_pos e', if_neg e]
        intro q; omega
      · simp only [if_neg e', if_neg e]
        exact h.ci x y (lv x hx e) (lv y hy e')
  · intro m hm
    have q := h.co d pd.1
    simp only [fb.c6810, fb.c6811]
    by_cases e : m = n
    · simp only [if_pos e]; omega
    · have := h.co m (lv m hm e)
      simp only [if_neg e]; omega
  · intro m hm m0
    by_cases e : m = n
    · simp only [fa.c501, fa.c503, fa.c504, if_pos e, if_neg hdn]
      exact p.e
    · obtain ⟨a1, a2, a3⟩ := h.pr m (lv m hm e) m0
      simp only [fa.c501, fa.c503, fa.c504, if_neg e, if_neg (ln _ a1)]
      exact h.la m (lv m hm e) m0
  · intro m hm m0
    simp only [fa.c502]
    by_cases e : m = n
    · simp only [if_pos e]; exact p.w
    · simp only [if_neg e]; exact h.na m (lv m hm e) m0
  · intro x y hx hy x0 y0
    simp only [fa.c502, fa.c504]
    by_cases e : x = n
    · by_cases e' : y = n
      · intro _ _; rw [e, e']
      · simp only [if_pos e, if_neg e']
        intro q1 q2
        exact absurd q2.symm (p.u y ⟨⟨by omega, hy.1.2⟩, (lv y hy e').2, q1.symm⟩)
    · by_cases e' : y = n
      · simp only [if_neg e, if_pos e']
        intro q1 q2
        exact absurd q2 (p.u x ⟨⟨by omega, hx.1.2⟩, (lv x hx e).2, q1⟩)
      · simp only [if_neg e, if_neg e']
        exact h.un x y (lv x hx e) (lv y hy e') x0 y0
theorem T_mk_sb {A B A' B' : zM} {acc : Int → Int} {n d k w l lim a c bx : Int} (h : I_nd A B) (hs : I_sb A B) (p : yMk0 A B acc n d k w l lim a c) (fa : yMkA A A' n d k w l lim a c bx) (fb : yMkB B B' n d k w l lim a c 0) : I_sb A' B' := by
  have pn := p.n
  have pd := p.d
  have pk := p.k
  have hdn : d ≠ n := fun e => by rw [e] at pd; omega
  have lv : ∀ m, yLv A' m → m ≠ n → yLv A m := by
    intro m hm e
    have := hm.2
    rw [fa.c501, if_neg e] at this
    exact ⟨hm.1, this⟩
  have ln : ∀ m, yLv A m → m ≠ n := by intro m hm e; rw [e] at hm; omega
  have el : ∀ {d' m}, yEn A d' m → yLv A m := fun hm => ⟨by omega, hm.2.1⟩
  have en : ∀ d' m, yEn A' d' m ↔ yEn A d' m ∨ (m = n ∧ d' = d) := by
    intro d' m
    show ((0 < m ∧ m < 256) ∧ 0 < A' 501 m 0 ∧ A' 504 m 0 = d') ↔ _
    rw [fa.c501, fa.c504]
    by_cases e : m = n
    · rw [if_pos e, if_pos e]
      constructor
      · rintro ⟨-, -, q⟩; exact Or.inr ⟨e, q.symm⟩
      · rintro (q | q)
        · have := q.2.1; rw [e] at this; omega
        · exact ⟨by omega, by omega, q.2.symm⟩
    · rw [if_neg e, if_neg e]
      constructor
      · intro q; exact Or.inl q
      · rintro (q | q)
        · exact q
        · exact absurd q.1 e
  have e1 : ∀ d', d' ≠ d → ∀ m, yEn A d' m ↔ yEn A' d' m := by
    intro d' q m
    rw [en]
    exact ⟨fun x => Or.inl x, fun x => x.elim id (fun y => absurd y.2 q)⟩
  have e2 : ∀ m, yEn A' d m ↔ yEn A d m ∨ m = n := by
    intro m
    rw [en]
    exact ⟨fun x => x.elim Or.inl (fun y => Or.inr y.1), fun x => x.elim Or.inl (fun y => Or.inr ⟨y, rfl⟩)⟩
  have e3 : ∀ m, ¬ yEn A' n m := by
    intro m hm
    rcases (en n m).1 hm with q | q
    · obtain ⟨a1, -⟩ := h.pr m (el q) (by omega)
      rw [q.2.2] at a1
      exact ln n a1 rfl
    · exact hdn q.2.symm
  have kk : ∀ m, yLv A m → B' 6810 0 m = B 6810 0 m := fun m hm => by rw [fb.c6810, if_neg (ln m hm)]
  have kn : B' 6810 0 n = B 6811 0 0 + 1 := by rw [fb.c6810, if_pos rfl]
  have lad := hs.la d pd.1 pd.2
  have fid := hs.fi d pd.1 pd.2
  have h0 : ∀ m, yEn A d m → 0 ≤ m := fun m hm => by omega
  refine ⟨?_, ?_, ?_, ?_, ?_⟩
  · intro d' hd hk
    by_cases e : d' = n
    · rw [fa.c513, if_pos e]
      exact Or.inl ⟨rfl, fun m hm => absurd hm (by rw [e]; exact e3 m)⟩
    · by_cases q : d' = d
      · rw [fa.c513, if_neg e, q]
        by_cases z : A 514 d 0 < 0
        · rw [if_pos ⟨rfl, z⟩]
          have emp : ∀ m, ¬ yEn A d m := by
            intro m hm
            rcases lad with ⟨l1, l2⟩ | ⟨l1, -⟩
            · exact l2 m hm (by have := h.co m (el hm); show B 6810 0 m < _; omega)
            · omega
          refine Or.inr ⟨(e2 n).2 (Or.inr rfl), ?_, ?_⟩
          · have := h.co d pd.1
            show - B' 6810 0 n < 0
            omega
          · intro m hm _
            rcases (e2 m).1 hm with x | x
            · exact absurd x (emp m)
            · rw [x]; exact Int.le_refl _
        · rw [if_neg (fun x => z x.2)]
          have r1 : A 513 d 0 ≠ -1 := by
            intro r
            rw [r] at fid
            obtain ⟨l1, l2, l3⟩ := zPv_mem lad (by omega)
            have := zPv_none h0 fid _ l1
            have o := h.pr _ (el l1) (by omega)
            have o2 := h.co _ o.1
            exact this (by show - B 6810 0 _ < 0; omega)
          have f2 := zPv_congr (key' := fun m => - B' 6810 0 m) (fun m => Iff.rfl) (fun m hm => by show - B 6810 0 m = - B' 6810 0 m; rw [kk m (el hm)]) fid
          refine zPv_low e2 ?_ r1 f2
          intro m hm
          have := h.co m (el hm)
          show - B' 6810 0 n < - B' 6810 0 m
          rw [kn, kk m (el hm)]
          omega
      · rw [fa.c513, if_neg e, if_neg (fun x => q x.1)]
        refine zPv_congr (e1 d' q) ?_ (hs.fi d' (lv d' hd e) (by rw [fa.c501, if_neg e] at hk; exact hk))
        intro m hm
        show - B 6810 0 m = - B' 6810 0 m
        rw [kk m (el hm)]
  · intro d' hd hk
    by_cases e : d' = n
    · rw [fa.c514, if_pos e]
      exact Or.inl ⟨rfl, fun m hm => absurd hm (by rw [e]; exact e3 m)⟩
    · by_cases q : d' = d
      · rw [fa.c514, if_neg e, if_pos q, q]
        have := zPv_top (key := fun m => B' 6810 0 m) e2 (by
          intro m hm
          have := h.co m (el hm)
          show B' 6810 0 m < B' 6810 0 n
          rw [kn, kk m (el hm)]
          omega)
        rw [fb.c6811]
        rw [kn] at this
        exact this
      · rw [fa.c514, if_neg e, if_neg q]
        have g := hs.la d' (lv d' hd e) (by rw [fa.c501, if_neg e] at hk; exact hk)
        have g2 := zPv_congr (key' := fun m => B' 6810 0 m) (e1 d' q) (fun m hm => by show B 6810 0 m = B' 6810 0 m; rw [kk m (el hm)]) g
        refine zPv_bound ?_ ?_ g2
        · intro m hm
          have hm := (e1 d' q m).2 hm
          have := h.co m (el hm)
          show B' 6810 0 m < _
          rw [kk m (el hm)]; omega
        · intro m hm
          have hm := (e1 d' q m).2 hm
          have := h.co m (el hm)
          show B' 6810 0 m < _
          rw [kk m (el hm), fb.c6811]; omega
  · intro m hm m0
    by_cases e : m = n
    · rw [fa.c506 m (by omega), if_pos e, fa.c504, if_pos e, e, kn]
      refine Or.inl ⟨rfl, ?_⟩
      intro x hx
      show ¬ - B' 6810 0 x < _
      rcases (e2 x).1 hx with y | y
      · have := h.co x (el y)
        rw [kk x (el y)]; omega
      · rw [y, kn]; omega
    · have hb := hs.bh m (lv m hm e) m0
      rw [fa.c506 m (by omega), if_neg e, fa.c504, if_neg e, kk m (lv m hm e)]
      by_cases q : A 504 m 0 = d
      · rw [q] at hb ⊢
        have mem : yEn A d m := ⟨by omega, (lv m hm e).2, q⟩
        obtain ⟨l1, l2, l3⟩ := zPv_mem lad (fun z => by
          rw [z] at lad
          exact zPv_none h0 lad m mem (by have := h.co m (lv m hm e); show B 6810 0 m < _; omega))
        have f2 := zPv_congr (key' := fun m => - B' 6810 0 m) (fun m => Iff.rfl) (fun m hm => by show - B 6810 0 m = - B' 6810 0 m; rw [kk m (el hm)]) hb
        by_cases z : m = A 514 d 0
        · rw [if_pos z]
          refine zPv_low0 h0 e2 ?_ ?_
          · show - B' 6810 0 n < _
            rw [kn]
            have := h.co m (lv m hm e); omega
          · refine Or.inl ⟨rfl, ?_⟩
            intro x hx
            have y := l3 x hx (by have := h.co x (el hx); show B 6810 0 x < _; omega)
            have y : B 6810 0 x ≤ B 6810 0 (A 514 d 0) := y
            show ¬ - B' 6810 0 x < _
            rw [kk x (el hx), z]; omega
        · rw [if_neg z]
          refine zPv_low e2 ?_ ?_ f2
          · intro x hx
            have := h.co x (el hx)
            show - B' 6810 0 n < - B' 6810 0 x
            rw [kn, kk x (el hx)]; omega
          · intro y
            rw [y] at hb
            have u := zPv_none h0 hb (A 514 d 0) l1
            have u : ¬ - B 6810 0 (A 514 d 0) < - B 6810 0 m := u
            have v := l3 m mem (by have := h.co m (lv m hm e); show B 6810 0 m < _; omega)
            have v : B 6810 0 m ≤ B 6810 0 (A 514 d 0) := v
            exact z (h.ci m _ (lv m hm e) (el l1) (by omega))
      · have nz : m ≠ A 514 d 0 := by
          intro z
          rcases lad with ⟨l1, -⟩ | ⟨l1, -⟩
          · omega
          · exact q (by rw [z]; exact l1.2.2)
        rw [if_neg nz]
        refine zPv_congr (e1 _ q) ?_ hb
        intro x hx
        show - B 6810 0 x = - B' 6810 0 x
        rw [kk x (el hx)]
  · intro m hm m0
    by_cases e : m = n
    · rw [fa.c505, if_pos e, fa.c504, if_pos e, e, kn]
      have f2 := zPv_congr (key' := fun m => B' 6810 0 m) (fun m => Iff.rfl) (fun m hm => by show B 6810 0 m = B' 6810 0 m; rw [kk m (el hm)]) lad
      exact zPv_under e2 (by show _ ≤ B' 6810 0 n; rw [kn]; omega) f2
    · have hb := hs.bf m (lv m hm e) m0
      rw [fa.c505, if_neg e, fa.c504, if_neg e, kk m (lv m hm e)]
      by_cases q : A 504 m 0 = d
      · rw [q] at hb ⊢
        have f2 := zPv_congr (key' := fun m => B' 6810 0 m) (fun m => Iff.rfl) (fun m hm => by show B 6810 0 m = B' 6810 0 m; rw [kk m (el hm)]) hb
        exact zPv_under e2 (by have := h.co m (lv m hm e); show _ ≤ B' 6810 0 n; rw [kn]; omega) f2
      · refine zPv_congr (e1 _ q) ?_ hb
        intro x hx
        show B 6810 0 x = B' 6810 0 x
        rw [kk x (el hx)]
  · intro d' hd
    by_cases e : d' = n
    · rw [fa.c515, if_pos e]
      refine (zsm_zero 256 (fun m _ _ => if_neg ?_)).symm
      rw [e]; exact e3 m
    · by_cases q : d' = d
      · rw [fa.c515, if_neg e, if_pos q, q, hs.en d pd.1]
        rw [zsm_upd (f := fun m => if yEn A d m then 1 else 0) (g := fun m => if yEn A' d m then 1 else 0) (i := n) 256 (by omega) (by omega)]
        · show _ = _ + ((if yEn A' d n then 1 else 0) - (if yEn A d n then 1 else 0))
          rw [if_pos ((e2 n).2 (Or.inr rfl)), if_neg (fun x => by omega)]
          rfl
        · intro m _ _ mn
          show (if yEn A' d m then (1 : Int) else 0) = (if yEn A d m then 1 else 0)
          by_cases z : yEn A d m
          · rw [if_pos z, if_pos ((e2 m).2 (Or.inl z))]
          · rw [if_neg z, if_neg (fun x => ((e2 m).1 x).elim z mn)]
      · rw [fa.c515, if_neg e, if_neg q, hs.en d' (lv d' hd e)]
        refine zsm_congr 256 (fun m _ _ => ?_)
        by_cases z : yEn A d' m
        · rw [if_pos z, if_pos ((e1 d' q m).1 z)]
        · rw [if_neg z, if_neg (fun x => z ((e1 d' q m).2 x))]
