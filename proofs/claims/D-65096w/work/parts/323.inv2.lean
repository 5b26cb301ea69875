set_option linter.unusedSimpArgs false
set_option linter.unusedVariables false
/-! records, boxes, accounts -/
abbrev yRc (A : zM) (n j : Int) : Prop := yLv A n ∧ A 501 n 0 = 2 ∧ 0 ≤ j ∧ j < zrec (A 522 n 0)
abbrev yMb (A : zM) (n : Int) : Prop := yLv A n ∧ A 501 n 0 = 3
def I_st (A B : zM) : Prop :=
  (∀ n k, yLv A n → A 501 n 0 = 2 → 0 ≤ k → k < A 522 n 0 → A 400 0 (64 * A 523 n (k / 64) + k % 64) = B 6816 0 (1024 * n + k) ∧ 0 ≤ B 6816 0 (1024 * n + k) ∧ B 6816 0 (1024 * n + k) ≤ 68719476735) ∧
  (∀ n k, yLv A n → A 501 n 0 = 2 → A 522 n 0 ≤ k → k < 64 * zrec (A 522 n 0) → A 400 0 (64 * A 523 n (k / 64) + k % 64) = 0) ∧
  (∀ n j, yRc A n j → 0 ≤ A 523 n j ∧ A 523 n j < 255) ∧
  (∀ n j n' j', yRc A n j → yRc A n' j' → A 523 n j = A 523 n' j' → n = n' ∧ j = j') ∧
  (0 ≤ A 402 0 0 ∧ A 402 0 0 ≤ 255) ∧
  (∀ i, 0 ≤ i → i < A 402 0 0 → 0 ≤ A 401 0 i ∧ A 401 0 i < 255) ∧
  (∀ i j, 0 ≤ i → i < j → j < A 402 0 0 → A 401 0 i ≠ A 401 0 j) ∧
  (∀ i n j, 0 ≤ i → i < A 402 0 0 → yRc A n j → A 401 0 i ≠ A 523 n j) ∧
  (A 402 0 0 + zsm (fun n => if A 501 n 0 = 2 then zrec (A 522 n 0) else 0) 256 = 255)
theorem I_st.wd {A B : zM} (h : I_st A B) : ∀ n k, yLv A n → A 501 n 0 = 2 → 0 ≤ k → k < A 522 n 0 → A 400 0 (64 * A 523 n (k / 64) + k % 64) = B 6816 0 (1024 * n + k) ∧ 0 ≤ B 6816 0 (1024 * n + k) ∧ B 6816 0 (1024 * n + k) ≤ 68719476735 := h.1
theorem I_st.tl {A B : zM} (h : I_st A B) : ∀ n k, yLv A n → A 501 n 0 = 2 → A 522 n 0 ≤ k → k < 64 * zrec (A 522 n 0) → A 400 0 (64 * A 523 n (k / 64) + k % 64) = 0 := h.2.1
theorem I_st.rg {A B : zM} (h : I_st A B) : ∀ n j, yRc A n j → 0 ≤ A 523 n j ∧ A 523 n j < 255 := h.2.2.1
theorem I_st.ij {A B : zM} (h : I_st A B) : ∀ n j n' j', yRc A n j → yRc A n' j' → A 523 n j = A 523 n' j' → n = n' ∧ j = j' := h.2.2.2.1
theorem I_st.fr {A B : zM} (h : I_st A B) : 0 ≤ A 402 0 0 ∧ A 402 0 0 ≤ 255 := h.2.2.2.2.1
theorem I_st.fg {A B : zM} (h : I_st A B) : ∀ i, 0 ≤ i → i < A 402 0 0 → 0 ≤ A 401 0 i ∧ A 401 0 i < 255 := h.2.2.2.2.2.1
theorem I_st.fi {A B : zM} (h : I_st A B) : ∀ i j, 0 ≤ i → i < j → j < A 402 0 0 → A 401 0 i ≠ A 401 0 j := h.2.2.2.2.2.2.1
theorem I_st.fu {A B : zM} (h : I_st A B) : ∀ i n j, 0 ≤ i → i < A 402 0 0 → yRc A n j → A 401 0 i ≠ A 523 n j := h.2.2.2.2.2.2.2.1
theorem I_st.ct {A B : zM} (h : I_st A B) : A 402 0 0 + zsm (fun n => if A 501 n 0 = 2 then zrec (A 522 n 0) else 0) 256 = 255 := h.2.2.2.2.2.2.2.2
def I_bx (A B : zM) : Prop :=
  (∀ n, yMb A n → 0 ≤ A 520 n 0 ∧ A 520 n 0 < 15) ∧
  (∀ m n, yMb A m → yMb A n → A 520 m 0 = A 520 n 0 → m = n) ∧
  (0 ≤ A 204 0 0 ∧ A 204 0 0 ≤ 15) ∧
  (∀ i, 0 ≤ i → i < A 204 0 0 → 0 ≤ A 203 0 i ∧ A 203 0 i < 15) ∧
  (∀ i j, 0 ≤ i → i < j → j < A 204 0 0 → A 203 0 i ≠ A 203 0 j) ∧
  (∀ i n, 0 ≤ i → i < A 204 0 0 → yMb A n → A 203 0 i ≠ A 520 n 0) ∧
  (A 204 0 0 + zsm (fun n => if A 501 n 0 = 3 then 1 else 0) 256 = 15) ∧
  (∀ n, yMb A n → A 702 (A 520 n 0) 0 = B 6817 0 n ∧ 0 ≤ B 6817 0 n ∧ B 6817 0 n ≤ 128) ∧
  (∀ n i, yMb A n → 0 ≤ i → i < B 6817 0 n → A 700 (A 520 n 0) i = B 6818 0 (128 * n + i) ∧ 0 ≤ B 6818 0 (128 * n + i) ∧ B 6818 0 (128 * n + i) ≤ 68719476735) ∧
  (∀ n i, yMb A n → 0 ≤ i → i < B 6817 0 n → A 701 (A 520 n 0) i = B 6819 0 (128 * n + i) ∧ 0 ≤ B 6819 0 (128 * n + i) ∧ B 6819 0 (128 * n + i) < 32) ∧
  (∀ n l, yMb A n → 0 ≤ l → l < 32 → zsm (fun i => if i < B 6817 0 n ∧ B 6819 0 (128 * n + i) = l then 1 else 0) 128 ≤ 4) ∧
  (∀ n, yLv A n → A 501 n 0 ≠ 3 → B 6817 0 n = 0)
theorem I_bx.bo {A B : zM} (h : I_bx A B) : ∀ n, yMb A n → 0 ≤ A 520 n 0 ∧ A 520 n 0 < 15 := h.1
theorem I_bx.ij {A B : zM} (h : I_bx A B) : ∀ m n, yMb A m → yMb A n → A 520 m 0 = A 520 n 0 → m = n := h.2.1
theorem I_bx.fr {A B : zM} (h : I_bx A B) : 0 ≤ A 204 0 0 ∧ A 204 0 0 ≤ 15 := h.2.2.1
theorem I_bx.fg {A B : zM} (h : I_bx A B) : ∀ i, 0 ≤ i → i < A 204 0 0 → 0 ≤ A 203 0 i ∧ A 203 0 i < 15 := h.2.2.2.1
theorem I_bx.fi {A B : zM} (h : I_bx A B) : ∀ i j, 0 ≤ i → i < j → j < A 204 0 0 → A 203 0 i ≠ A 203 0 j := h.2.2.2.2.1
theorem I_bx.fu {A B : zM} (h : I_bx A B) : ∀ i n, 0 ≤ i → i < A 204 0 0 → yMb A n → A 203 0 i ≠ A 520 n 0 := h.2.2.2.2.2.1
theorem I_bx.ct {A B : zM} (h : I_bx A B) : A 204 0 0 + zsm (fun n => if A 501 n 0 = 3 then 1 else 0) 256 = 15 := h.2.2.2.2.2.2.1
theorem I_bx.le {A B : zM} (h : I_bx A B) : ∀ n, yMb A n → A 702 (A 520 n 0) 0 = B 6817 0 n ∧ 0 ≤ B 6817 0 n ∧ B 6817 0 n ≤ 128 := h.2.2.2.2.2.2.2.1
theorem I_bx.wo {A B : zM} (h : I_bx A B) : ∀ n i, yMb A n → 0 ≤ i → i < B 6817 0 n → A 700 (A 520 n 0) i = B 6818 0 (128 * n + i) ∧ 0 ≤ B 6818 0 (128 * n + i) ∧ B 6818 0 (128 * n + i) ≤ 68719476735 := h.2.2.2.2.2.2.2.2.1
theorem I_bx.lb {A B : zM} (h : I_bx A B) : ∀ n i, yMb A n → 0 ≤ i → i < B 6817 0 n → A 701 (A 520 n 0) i = B 6819 0 (128 * n + i) ∧ 0 ≤ B 6819 0 (128 * n + i) ∧ B 6819 0 (128 * n + i) < 32 := h.2.2.2.2.2.2.2.2.2.1
theorem I_bx.al {A B : zM} (h : I_bx A B) : ∀ n l, yMb A n → 0 ≤ l → l < 32 → zsm (fun i => if i < B 6817 0 n ∧ B 6819 0 (128 * n + i) = l then 1 else 0) 128 ≤ 4 := h.2.2.2.2.2.2.2.2.2.2.1
theorem I_bx.no {A B : zM} (h : I_bx A B) : ∀ n, yLv A n → A 501 n 0 ≠ 3 → B 6817 0 n = 0 := h.2.2.2.2.2.2.2.2.2.2.2
def yco (A : zM) (m : Int) : Int := zco (A 501 m 0) (if A 501 m 0 = 2 then A 522 m 0 else A 516 m 0)
def yown (A : zM) (m : Int) : Int := if A 501 m 0 = 2 then 1 + zrec (A 522 m 0) else if A 501 m 0 = 3 then 17 else 1
def I_ac (A : zM) (acc : Int → Int) : Prop :=
  (∀ d, yLv A d → A 501 d 0 = 1 → acc d = if A 516 d 0 = 0 then acc (A 504 d 0) else d) ∧
  (∀ a, yLv A a → A 501 a 0 = 1 → 0 < A 516 a 0 → A 517 a 0 = zsm (fun m => if ((0 < m ∧ m < 256) ∧ 0 < A 501 m 0) ∧ acc (A 504 m 0) = a then yco A m else 0) 256) ∧
  (∀ a, yLv A a → A 501 a 0 = 1 → 0 < A 516 a 0 → A 517 a 0 ≤ A 516 a 0)
theorem I_ac.eq {A : zM} {acc : Int → Int} (h : I_ac A acc) : ∀ d, yLv A d → A 501 d 0 = 1 → acc d = if A 516 d 0 = 0 then acc (A 504 d 0) else d := h.1
theorem I_ac.us {A : zM} {acc : Int → Int} (h : I_ac A acc) : ∀ a, yLv A a → A 501 a 0 = 1 → 0 < A 516 a 0 → A 517 a 0 = zsm (fun m => if ((0 < m ∧ m < 256) ∧ 0 < A 501 m 0) ∧ acc (A 504 m 0) = a then yco A m else 0) 256 := h.2.1
theorem I_ac.le {A : zM} {acc : Int → Int} (h : I_ac A acc) : ∀ a, yLv A a → A 501 a 0 = 1 → 0 < A 516 a 0 → A 517 a 0 ≤ A 516 a 0 := h.2.2
def I_T (A B : zM) (acc rho : Int → Int) (K : Int) : Prop :=
  (I_nd A B) ∧
  (I_sb A B) ∧
  (I_ls A B) ∧
  (I_ix A rho K) ∧
  (I_st A B) ∧
  (I_bx A B) ∧
  (I_ac A acc) ∧
  (A 206 0 0 = zsm (fun n => if 0 < A 501 n 0 then 1 else 0) 256) ∧
  (0 ≤ K ∧ K < 900000) ∧
  (B 6811 0 0 < 900000) ∧
  (1 ≤ A 207 0 0 ∧ A 207 0 0 < 2000000000)
theorem I_T.nd {A B : zM} {acc rho : Int → Int} {K : Int} (h : I_T A B acc rho K) : I_nd A B := h.1
theorem I_T.sb {A B : zM} {acc rho : Int → Int} {K : Int} (h : I_T A B acc rho K) : I_sb A B := h.2.1
theorem I_T.ls {A B : zM} {acc rho : Int → Int} {K : Int} (h : I_T A B acc rho K) : I_ls A B := h.2.2.1
theorem I_T.ix {A B : zM} {acc rho : Int → Int} {K : Int} (h : I_T A B acc rho K) : I_ix A rho K := h.2.2.2.1
theorem I_T.st {A B : zM} {acc rho : Int → Int} {K : Int} (h : I_T A B acc rho K) : I_st A B := h.2.2.2.2.1
theorem I_T.bx {A B : zM} {acc rho : Int → Int} {K : Int} (h : I_T A B acc rho K) : I_bx A B := h.2.2.2.2.2.1
theorem I_T.ac {A B : zM} {acc rho : Int → Int} {K : Int} (h : I_T A B acc rho K) : I_ac A acc := h.2.2.2.2.2.2.1
theorem I_T.mn {A B : zM} {acc rho : Int → Int} {K : Int} (h : I_T A B acc rho K) : A 206 0 0 = zsm (fun n => if 0 < A 501 n 0 then 1 else 0) 256 := h.2.2.2.2.2.2.2.1
theorem I_T.kb {A B : zM} {acc rho : Int → Int} {K : Int} (h : I_T A B acc rho K) : 0 ≤ K ∧ K < 900000 := h.2.2.2.2.2.2.2.2.1
theorem I_T.cb {A B : zM} {acc rho : Int → Int} {K : Int} (h : I_T A B acc rho K) : B 6811 0 0 < 900000 := h.2.2.2.2.2.2.2.2.2.1
theorem I_T.vb {A B : zM} {acc rho : Int → Int} {K : Int} (h : I_T A B acc rho K) : 1 ≤ A 207 0 0 ∧ A 207 0 0 < 2000000000 := h.2.2.2.2.2.2.2.2.2.2
/-- an account is a directory with a limit -/
theorem y_ac {A B : zM} {acc : Int → Int} (h : I_nd A B) (hc : B 6811 0 0 < 900000) (ha : I_ac A acc) {d : Int} (hd : yLv A d) (hk : A 501 d 0 = 1) : yLv A (acc d) ∧ A 501 (acc d) 0 = 1 ∧ 0 < A 516 (acc d) 0 :=
  (p_acc h (by omega) ha.eq hd hk).2.2
theorem yco_own {A B : zM} (h : I_nd A B) {m : Int} (hm : yLv A m) : yco A m = yown A m + A 516 m 0 := by
  have hk := h.k m hm.1.1 hm.1.2
  have hl := h.li m hm
  unfold yco yown zco
  by_cases h2 : A 501 m 0 = 2
  · rw [if_pos h2, if_pos h2, if_pos h2]
    rw [if_neg (by omega)] at hl
    omega
  · rw [if_neg h2, if_neg h2, if_neg h2]
    by_cases h3 : A 501 m 0 = 3
    · rw [if_pos h3, if_pos h3]
      rw [if_neg (by omega)] at hl
      omega
    · rw [if_neg h3, if_neg h3]
theorem yown_pos {A B : zM} (h : I_nd A B) {m : Int} (hm : yLv A m) : 1 ≤ yown A m := by
  have hl := h.le m hm
  unfold yown
  by_cases h2 : A 501 m 0 = 2
  · rw [if_pos h2]
    rw [if_pos h2] at hl
    have := zrec_rng hl.2
    omega
  · rw [if_neg h2]
    split <;> omega
/-- all that is in the house has room within the root's limit -/
theorem y_cap {A B : zM} {acc : Int → Int} (h : I_nd A B) (hc : B 6811 0 0 < 900000) (ha : I_ac A acc) {a0 c : Int} (h0 : yLv A a0) (hk : A 501 a0 0 = 1) (hl : 0 < A 516 a0 0) (hcc : A 517 a0 0 + c ≤ A 516 a0 0) :
    zsm (fun m => if (0 < m ∧ m < 256) ∧ 0 < A 501 m 0 then yown A m else 0) 256 + c ≤ 255 := by
  have hr := h.rt
  -- what all entries cost, by accounts
  have e1 : zsm (fun a => zsm (fun m => if ((0 < m ∧ m < 256) ∧ 0 < A 501 m 0) ∧ acc (A 504 m 0) = a then yco A m else 0) 256) 256 = zsm (fun m => if (0 < m ∧ m < 256) ∧ 0 < A 501 m 0 then yco A m else 0) 256 := by
    rw [zsm_swap]
    refine zsm_congr 256 (fun m m0 m1 => ?_)
    by_cases hm : (0 < m ∧ m < 256) ∧ 0 < A 501 m 0
    · rw [if_pos hm]
      obtain ⟨p1, p2, -⟩ := h.pr m ⟨by omega, hm.2⟩ (by omega)
      have q := y_ac h hc ha p1 p2
      refine Eq.trans ?_ (zsm_one (c := yco A m) (i := acc (A 504 m 0)) 256 q.1.1)
      refine zsm_congr 256 (fun a a0 a1 => ?_)
      by_cases e : acc (A 504 m 0) = a
      · rw [if_pos ⟨hm, e⟩, if_pos e]
      · rw [if_neg (fun x => e x.2), if_neg e]
    · rw [if_neg hm]
      exact zsm_zero 256 (fun a _ _ => if_neg (fun x => hm x.1))
  have e2 : zsm (fun a => zsm (fun m => if ((0 < m ∧ m < 256) ∧ 0 < A 501 m 0) ∧ acc (A 504 m 0) = a then yco A m else 0) 256) 256 + c ≤ zsm (fun a => if 0 < A 501 a 0 then A 516 a 0 else 0) 256 := by
    have s1 : zsm (fun a => (zsm (fun m => if ((0 < m ∧ m < 256) ∧ 0 < A 501 m 0) ∧ acc (A 504 m 0) = a then yco A m else 0) 256) + (if a0 = a then c else 0)) 256 ≤ zsm (fun a => if 0 < A 501 a 0 then A 516 a 0 else 0) 256 := by
      refine zsm_le 256 (fun a b0 b1 => ?_)
      by_cases hx : yLv A a ∧ A 501 a 0 = 1 ∧ 0 < A 516 a 0
      · have u := ha.us a hx.1 hx.2.1 hx.2.2
        have v := ha.le a hx.1 hx.2.1 hx.2.2
        rw [if_pos hx.1.2, ← u]
        by_cases e : a0 = a
        · rw [if_pos e, ← e]; exact hcc
        · rw [if_neg e]; omega
      · have z : zsm (fun m => if ((0 < m ∧ m < 256) ∧ 0 < A 501 m 0) ∧ acc (A 504 m 0) = a then yco A m else 0) 256 = 0 := by
          refine zsm_zero 256 (fun m _ _ => if_neg ?_)
          rintro ⟨x, y⟩
          obtain ⟨p1, p2, -⟩ := h.pr m ⟨by omega, x.2⟩ (by omega)
          have q := y_ac h hc ha p1 p2
          rw [y] at q
          exact hx q
        rw [z, if_neg (fun (e : a0 = a) => hx (by rw [← e]; exact ⟨h0, hk, hl⟩))]
        by_cases lv : 0 < A 501 a 0
        · rw [if_pos lv]
          have := h.li a ⟨⟨b0, b1⟩, lv⟩
          omega
        · rw [if_neg lv]; omega
    rw [zsm_add, zsm_one 256 h0.1] at s1
    exact s1
  have e3 : zsm (fun m => if (0 < m ∧ m < 256) ∧ 0 < A 501 m 0 then yco A m else 0) 256 = zsm (fun m => if (0 < m ∧ m < 256) ∧ 0 < A 501 m 0 then yown A m else 0) 256 + zsm (fun m => if (0 < m ∧ m < 256) ∧ 0 < A 501 m 0 then A 516 m 0 else 0) 256 := by
    rw [← zsm_add]
    refine zsm_congr 256 (fun m _ _ => ?_)
    show (if _ then yco A m else 0) = (if _ then yown A m else 0) + (if _ then A 516 m 0 else 0)
    by_cases hm : (0 < m ∧ m < 256) ∧ 0 < A 501 m 0
    · rw [if_pos hm, if_pos hm, if_pos hm]
      exact yco_own h ⟨by omega, hm.2⟩
    · rw [if_neg hm, if_neg hm, if_neg hm]; rfl
  have e4 : zsm (fun a => if 0 < A 501 a 0 then A 516 a 0 else 0) 256 = zsm (fun m => if (0 < m ∧ m < 256) ∧ 0 < A 501 m 0 then A 516 m 0 else 0) 256 + 255 := by
    rw [zsm_upd (f := fun m => if (0 < m ∧ m < 256) ∧ 0 < A 501 m 0 then A 516 m 0 else 0) (g := fun a => if 0 < A 501 a 0 then A 516 a 0 else 0) (i := 0) 256 (by omega) (by omega)]
    · show _ + ((if 0 < A 501 0 0 then A 516 0 0 else 0) - (if ((0 : Int) < 0 ∧ (0 : Int) < 256) ∧ 0 < A 501 0 0 then A 516 0 0 else 0)) = _
      rw [if_pos (by omega), if_neg (by omega)]
      omega
    · intro k k0 k1 k2
      show (if 0 < A 501 k 0 then A 516 k 0 else 0) = (if (0 < k ∧ k < 256) ∧ 0 < A 501 k 0 then A 516 k 0 else 0)
      by_cases q : 0 < A 501 k 0
      · rw [if_pos q, if_pos ⟨by omega, q⟩]
      · rw [if_neg q, if_neg (fun x => q x.2)]
  omega
theorem zsm_const (c : Int) : ∀ n : Nat, zsm (fun _ => c) n = c * n := by
  intro n
  induction n with
  | zero => show (0 : Int) = c * ((0 : Nat) : Int); simp
  | succ n ih =>
    show zsm _ n + c = _
    rw [ih]
    have : ((n + 1 : Nat) : Int) = n + 1 := by omega
    rw [this, Int.mul_add]
    omega
/-- what is left when there is room for c -/
theorem y_room {A B : zM} {acc rho : Int → Int} {K : Int} (h : I_T A B acc rho K) {a0 c : Int} (h0 : yLv A a0) (hk : A 501 a0 0 = 1) (hl : 0 < A 516 a0 0) (hcc : A 517 a0 0 + c ≤ A 516 a0 0) :
    (1 ≤ c → ∃ k : Int, 0 ≤ k ∧ k < 256 ∧ ¬ 0 < A 501 k 0) ∧ (17 ≤ c → 1 ≤ A 204 0 0) ∧ c ≤ A 402 0 0 := by
  have cap := y_cap h.nd h.cb h.ac h0 hk hl hcc
  have hr := h.nd.rt
  refine ⟨?_, ?_, ?_⟩
  · intro c1
    refine Classical.byContradiction (fun q => ?_)
    have al : ∀ k : Int, 0 ≤ k → k < 256 → 0 < A 501 k 0 := fun k a b => Classical.byContradiction (fun x => q ⟨k, a, b, x⟩)
    have s : zsm (fun m => if m = 0 then 0 else 1) 256 ≤ zsm (fun m => if (0 < m ∧ m < 256) ∧ 0 < A 501 m 0 then yown A m else 0) 256 := by
      refine zsm_le 256 (fun m m0 m1 => ?_)
      by_cases e : m = 0
      · rw [if_pos e, if_neg (by omega)]
        exact Int.le_refl _
      · rw [if_neg e, if_pos ⟨by omega, al m m0 m1⟩]
        exact yown_pos h.nd ⟨⟨m0, m1⟩, al m m0 m1⟩
    have t : ∀ n : Nat, zsm (fun m => if m = 0 then 0 else 1) (n + 1) = n := by
      intro n
      induction n with
      | zero => rfl
      | succ n ih =>
        show zsm _ (n + 1) + (if ((n + 1 : Nat) : Int) = 0 then 0 else 1) = _
        rw [ih, if_neg (by omega)]
        omega
    have t : zsm (fun m => if m = 0 then 0 else 1) 256 = 255 := t 255
    omega
  · intro c1
    have ct := h.bx.ct
    have s : zsm (fun n => if A 501 n 0 = 3 then 17 else 0) 256 ≤ zsm (fun m => if (0 < m ∧ m < 256) ∧ 0 < A 501 m 0 then yown A m else 0) 256 := by
      refine zsm_le 256 (fun m m0 m1 => ?_)
      by_cases e : A 501 m 0 = 3
      · have : m ≠ 0 := fun x => by rw [x] at e; omega
        rw [if_pos e, if_pos ⟨by omega, by omega⟩]
        unfold yown
        rw [if_neg (by omega), if_pos e]
        exact Int.le_refl _
      · rw [if_neg e]
        by_cases q : (0 < m ∧ m < 256) ∧ 0 < A 501 m 0
        · rw [if_pos q]
          have := yown_pos h.nd (m := m) ⟨⟨m0, m1⟩, q.2⟩
          omega
        · rw [if_neg q]; exact Int.le_refl _
    have t : ∀ n : Nat, zsm (fun n => if A 501 n 0 = 3 then 17 else 0) n = 17 * zsm (fun n => if A 501 n 0 = 3 then 1 else 0) n := by
      intro n
      induction n with
      | zero => rfl
      | succ n ih =>
        show zsm _ n + (if A 501 n 0 = 3 then 17 else 0) = 17 * (zsm _ n + (if A 501 n 0 = 3 then 1 else 0))
        rw [ih]
        split <;> omega
    rw [t 256] at s
    omega
  · have ct := h.st.ct
    have s : zsm (fun n => if A 501 n 0 = 2 then zrec (A 522 n 0) else 0) 256 ≤ zsm (fun m => if (0 < m ∧ m < 256) ∧ 0 < A 501 m 0 then yown A m else 0) 256 := by
      refine zsm_le 256 (fun m m0 m1 => ?_)
      by_cases e : A 501 m 0 = 2
      · have : m ≠ 0 := fun x => by rw [x] at e; omega
        rw [if_pos e, if_pos ⟨by omega, by omega⟩]
        unfold yown
        rw [if_pos e]
        omega
      · rw [if_neg e]
        by_cases q : (0 < m ∧ m < 256) ∧ 0 < A 501 m 0
        · rw [if_pos q]
          have := yown_pos h.nd (m := m) ⟨⟨m0, m1⟩, q.2⟩
          omega
        · rw [if_neg q]; exact Int.le_refl _
    omega
