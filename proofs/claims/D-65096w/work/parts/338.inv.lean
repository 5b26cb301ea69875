set_option linter.unusedSimpArgs false
set_option linter.unusedVariables false
/-! the whole invariant -/
abbrev ytm (o m : Int) : Prop := zsort o = 0 ∨ (if m = 2 then zsort o = 1 ∨ zsort o = 3 ∨ zsort o = 6 else m < 7 ∧ zsort o ≠ 6)

/-- the operation of an instruction's word; -1 -/
def yop (w : Int) : Int := if w / 1073741824 ≤ 37 ∧ (zsort (w / 1073741824) = 0 ∨ (ytm (w / 1073741824) (w / 134217728 % 8) ∧ w / 262144 % 8 ≤ 4 ∧ (zregs (w / 1073741824) ≠ 4 ∨ w / 2097152 % 8 < 4))) then w / 1073741824 else -1
def yDec (A : zM) (d w : Int) : Prop :=
  (A 800 d 0 = w) ∧
  (A 801 d 0 = yop w) ∧
  (A 802 d 0 = w / 134217728 % 8) ∧
  (A 803 d 0 = w / 16777216 % 8) ∧
  (A 804 d 0 = w / 2097152 % 8) ∧
  (A 805 d 0 = w / 262144 % 8) ∧
  (A 806 d 0 = w % 262144)
theorem yDec.w {A : zM} {d w : Int} (h : yDec A d w) : A 800 d 0 = w := h.1
theorem yDec.o {A : zM} {d w : Int} (h : yDec A d w) : A 801 d 0 = yop w := h.2.1
theorem yDec.m {A : zM} {d w : Int} (h : yDec A d w) : A 802 d 0 = w / 134217728 % 8 := h.2.2.1
theorem yDec.p {A : zM} {d w : Int} (h : yDec A d w) : A 803 d 0 = w / 16777216 % 8 := h.2.2.2.1
theorem yDec.n {A : zM} {d w : Int} (h : yDec A d w) : A 804 d 0 = w / 2097152 % 8 := h.2.2.2.2.1
theorem yDec.i {A : zM} {d w : Int} (h : yDec A d w) : A 805 d 0 = w / 262144 % 8 := h.2.2.2.2.2.1
theorem yDec.f {A : zM} {d w : Int} (h : yDec A d w) : A 806 d 0 = w % 262144 := h.2.2.2.2.2.2
def I_dc (A : zM) : Prop := ∀ d, 0 ≤ d → d < 512 → A 800 d 0 = -1 ∨ ((0 ≤ A 800 d 0 ∧ A 800 d 0 ≤ 68719476735) ∧ yDec A d (A 800 d 0))
def yInv (j N : Int) (A B : zM) : Prop :=
  (I_TB N A B) ∧
  (I_p0 N A B) ∧
  (I_misc A B) ∧
  (I_text A B) ∧
  (I_lst A B) ∧
  (I_tape j A B) ∧
  (I_au N A B) ∧
  (I_dc A)
theorem yInv.t {j N : Int} {A B : zM} (h : yInv j N A B) : I_TB N A B := h.1
theorem yInv.p {j N : Int} {A B : zM} (h : yInv j N A B) : I_p0 N A B := h.2.1
theorem yInv.m {j N : Int} {A B : zM} (h : yInv j N A B) : I_misc A B := h.2.2.1
theorem yInv.x {j N : Int} {A B : zM} (h : yInv j N A B) : I_text A B := h.2.2.2.1
theorem yInv.l {j N : Int} {A B : zM} (h : yInv j N A B) : I_lst A B := h.2.2.2.2.1
theorem yInv.e {j N : Int} {A B : zM} (h : yInv j N A B) : I_tape j A B := h.2.2.2.2.2.1
theorem yInv.u {j N : Int} {A B : zM} (h : yInv j N A B) : I_au N A B := h.2.2.2.2.2.2.1
theorem yInv.d {j N : Int} {A B : zM} (h : yInv j N A B) : I_dc A := h.2.2.2.2.2.2.2
theorem I_dc_fr {A A' : zM} (h : yCo [800, 801, 802, 803, 804, 805, 806] A A') (q : I_dc A) : I_dc A' := by
  have a0 : A' 800 = A 800 := h 800 (by decide)
  have a1 : A' 801 = A 801 := h 801 (by decide)
  have a2 : A' 802 = A 802 := h 802 (by decide)
  have a3 : A' 803 = A 803 := h 803 (by decide)
  have a4 : A' 804 = A 804 := h 804 (by decide)
  have a5 : A' 805 = A 805 := h 805 (by decide)
  have a6 : A' 806 = A 806 := h 806 (by decide)
  simp only [I_dc, yDec] at q ⊢
  simp only [a0, a1, a2, a3, a4, a5, a6]
  exact q
theorem I_misc_fr {A A' B B' : zM} (ha : yCo [107, 108, 109] A A') (hb : yCo [6863, 6864, 6869] B B') (h : I_misc A B) : I_misc A' B' := by
  have a1 : A' 107 = A 107 := ha 107 (by decide)
  have a2 : A' 108 = A 108 := ha 108 (by decide)
  have a3 : A' 109 = A 109 := ha 109 (by decide)
  have b1 : B' 6863 = B 6863 := hb 6863 (by decide)
  have b2 : B' 6864 = B 6864 := hb 6864 (by decide)
  have b3 : B' 6869 = B 6869 := hb 6869 (by decide)
  simp only [I_misc, a1, a2, a3, b1, b2, b3] at h ⊢
  exact h
theorem I_text_fr {A A' B B' : zM} (ha : yCo [6502, 6503] A A') (hb : yCo [6867, 6868] B B') (h : I_text A B) : I_text A' B' := by
  have a1 : A' 6502 = A 6502 := ha 6502 (by decide)
  have a2 : A' 6503 = A 6503 := ha 6503 (by decide)
  have b1 : B' 6867 = B 6867 := hb 6867 (by decide)
  have b2 : B' 6868 = B 6868 := hb 6868 (by decide)
  simp only [I_text, a1, a2, b1, b2] at h ⊢
  exact h
theorem I_lst_fr {A A' B B' : zM} (ha : yCo [6701, 6702] A A') (hb : yCo [6870, 6871] B B') (h : I_lst A B) : I_lst A' B' := by
  have a1 : A' 6701 = A 6701 := ha 6701 (by decide)
  have a2 : A' 6702 = A 6702 := ha 6702 (by decide)
  have b1 : B' 6870 = B 6870 := hb 6870 (by decide)
  have b2 : B' 6871 = B 6871 := hb 6871 (by decide)
  simp only [I_lst, a1, a2, b1, b2] at h ⊢
  exact h
theorem I_tape_fr {j j' : Int} {A A' B B' : zM} (hj : j ≤ j') (ha : yCo [6601, 6602] A A') (hb : yCo [6872, 6873] B B') (h : I_tape j A B) : I_tape j' A' B' := by
  have a1 : A' 6601 = A 6601 := ha 6601 (by decide)
  have a2 : A' 6602 = A 6602 := ha 6602 (by decide)
  have b1 : B' 6872 = B 6872 := hb 6872 (by decide)
  have b2 : B' 6873 = B 6873 := hb 6873 (by decide)
  simp only [I_tape, a1, a2, b1, b2] at h ⊢
  exact ⟨h.1, by omega, h.2.2⟩
theorem I_au_fr {N N' : Int} {A A' B B' : zM} (hN : N ≤ N') (ha : yCo [1400, 1401] A A') (hb : yCo [6865, 6866] B B') (h : I_au N A B) : I_au N' A' B' := by
  have a1 : A' 1400 = A 1400 := ha 1400 (by decide)
  have a2 : A' 1401 = A 1401 := ha 1401 (by decide)
  have b1 : B' 6865 = B 6865 := hb 6865 (by decide)
  have b2 : B' 6866 = B 6866 := hb 6866 (by decide)
  simp only [I_au, a1, a2, b1, b2] at h ⊢
  exact ⟨⟨h.1.1, h.1.2.1, by omega⟩, h.2⟩
theorem yInv_up {j j' N N' : Int} {A B : zM} (h : yInv j N A B) (hj : j ≤ j') (hN : N ≤ N') : yInv j' N' A B :=
  ⟨I_TB_up h.t hN, I_p0_tr yCo_rf yCo_rf yTr_rf hN h.p, h.m, h.x, h.l, I_tape_fr hj yCo_rf yCo_rf h.e, I_au_fr hN yCo_rf yCo_rf h.u, h.d⟩
abbrev yNtA : List Nat := [107, 108, 109, 800, 801, 802, 803, 804, 805, 806, 6502, 6503, 6601, 6602, 6701, 6702, 1400, 1401]
abbrev yNtB : List Nat := [6863, 6864, 6865, 6866, 6867, 6868, 6869, 6870, 6871, 6872, 6873]
/-- the tree alone changes -/
theorem yInv_tree {j j' N N' : Int} {A A' B B' : zM} (h : yInv j N A B) (hj : j ≤ j') (hN : N ≤ N') (ht : I_TB N' A' B') (tr : yTr A A') (c1 : yCo yNtA A A') (c2 : yCo yNtB B B') (c3 : yCo yPcA A A') (c4 : yCo yPcB B B') : yInv j' N' A' B' :=
  ⟨ht, I_p0_tr c3 c4 tr hN h.p, I_misc_fr (yCo_sub c1 (by decide)) (yCo_sub c2 (by decide)) h.m, I_text_fr (yCo_sub c1 (by decide)) (yCo_sub c2 (by decide)) h.x, I_lst_fr (yCo_sub c1 (by decide)) (yCo_sub c2 (by decide)) h.l, I_tape_fr hj (yCo_sub c1 (by decide)) (yCo_sub c2 (by decide)) h.e, I_au_fr hN (yCo_sub c1 (by decide)) (yCo_sub c2 (by decide)) h.u, I_dc_fr (yCo_sub c1 (by decide)) h.d⟩
theorem yInv_nodes {j N : Int} {A B : zM} (h : yInv j N A B) : I_nd A B := by
  obtain ⟨_, _, _, q, -⟩ := h.t
  exact q.nd
/-- a node that is asked for: both sides say the same -/
theorem y_dir {A B : zM} (h : I_nd A B) (n : Int) : ((0 ≤ n ∧ n ≤ 255) ∧ B 6800 0 n = 1) ↔ ((0 ≤ n ∧ n ≤ 255) ∧ A 501 n 0 = 1) := by
  constructor
  · rintro ⟨a, b⟩; exact ⟨a, by rw [← (h.k n a.1 (by omega)).1]; exact b⟩
  · rintro ⟨a, b⟩; exact ⟨a, by rw [(h.k n a.1 (by omega)).1]; exact b⟩
theorem y_kd {A B : zM} (h : I_nd A B) (n k : Int) : ((0 ≤ n ∧ n ≤ 255) ∧ B 6800 0 n = k) ↔ ((0 ≤ n ∧ n ≤ 255) ∧ A 501 n 0 = k) := by
  constructor
  · rintro ⟨a, b⟩; exact ⟨a, by rw [← (h.k n a.1 (by omega)).1]; exact b⟩
  · rintro ⟨a, b⟩; exact ⟨a, by rw [(h.k n a.1 (by omega)).1]; exact b⟩
theorem y_nd {A B : zM} (h : I_nd A B) (n : Int) : ((0 ≤ n ∧ n ≤ 255) ∧ 0 < B 6800 0 n) ↔ ((0 ≤ n ∧ n ≤ 255) ∧ 0 < A 501 n 0) := by
  constructor
  · rintro ⟨a, b⟩; exact ⟨a, by rw [← (h.k n a.1 (by omega)).1]; exact b⟩
  · rintro ⟨a, b⟩; exact ⟨a, by rw [(h.k n a.1 (by omega)).1]; exact b⟩
/-- what an operation of the law owes -/
def yOp (j N : Int) (A B : zM) (X Y : zX) : Prop := ∃ r A' B', X A = some (r, A') ∧ Y B = some (r, B') ∧ yInv (j + 1) N A' B'
theorem yOp_same {j N N' : Int} {A B : zM} {X Y : zX} {r : Int} (h : yInv j N A B) (hN : N ≤ N') (h1 : X A = some (r, A)) (h2 : Y B = some (r, B)) : yOp j N' A B X Y :=
  ⟨r, A, B, h1, h2, yInv_up h (by omega) hN⟩
