set_option linter.unusedSimpArgs false
set_option linter.unusedVariables false
/-! what keeps the columns keeps what is told of them -/
def yCo (L : List Nat) (A A' : zM) : Prop := ∀ c ∈ L, A' c = A c
theorem yCo_fr {L W : List Nat} {X : zX} (h : zFr W X) {A A' : zM} {r : Int} (e : X A = some (r, A')) (d : ∀ c ∈ L, ¬ c ∈ W) : yCo L A A' := fun c hc => h A r A' e c (d c hc)
theorem yCo_tr {L : List Nat} {A A' A'' : zM} (h : yCo L A A') (g : yCo L A' A'') : yCo L A A'' := fun c hc => (g c hc).trans (h c hc)
theorem yCo_rf {L : List Nat} {A : zM} : yCo L A A := fun _ _ => rfl
theorem yCo_up {L : List Nat} {A A' : zM} {f : Nat} {x i v : Int} (h : yCo L A A') (d : ∀ c ∈ L, ¬ c = f) : yCo L A (zup A' f x i v) := fun c hc => by rw [zup_col (d c hc)]; exact h c hc
theorem yCo_sub {L L' : List Nat} {A A' : zM} (h : yCo L A A') (d : ∀ c ∈ L', c ∈ L) : yCo L' A A' := fun c hc => h c (d c hc)
-- printed by cong.py
theorem I_nd_fr {A A' B B' : zM} (ha : yCo [501, 502, 503, 504, 509, 510, 511, 512, 516, 517, 521, 522] A A') (hb : yCo [6800, 6801, 6802, 6803, 6804, 6805, 6806, 6807, 6808, 6809, 6810, 6811] B B') (h : I_nd A B) : I_nd A' B' := by
  have a501 : A' 501 = A 501 := ha 501 (by decide)
  have a502 : A' 502 = A 502 := ha 502 (by decide)
  have a503 : A' 503 = A 503 := ha 503 (by decide)
  have a504 : A' 504 = A 504 := ha 504 (by decide)
  have a509 : A' 509 = A 509 := ha 509 (by decide)
  have a510 : A' 510 = A 510 := ha 510 (by decide)
  have a511 : A' 511 = A 511 := ha 511 (by decide)
  have a512 : A' 512 = A 512 := ha 512 (by decide)
  have a516 : A' 516 = A 516 := ha 516 (by decide)
  have a517 : A' 517 = A 517 := ha 517 (by decide)
  have a521 : A' 521 = A 521 := ha 521 (by decide)
  have a522 : A' 522 = A 522 := ha 522 (by decide)
  have b6800 : B' 6800 = B 6800 := hb 6800 (by decide)
  have b6801 : B' 6801 = B 6801 := hb 6801 (by decide)
  have b6802 : B' 6802 = B 6802 := hb 6802 (by decide)
  have b6803 : B' 6803 = B 6803 := hb 6803 (by decide)
  have b6804 : B' 6804 = B 6804 := hb 6804 (by decide)
  have b6805 : B' 6805 = B 6805 := hb 6805 (by decide)
  have b6806 : B' 6806 = B 6806 := hb 6806 (by decide)
  have b6807 : B' 6807 = B 6807 := hb 6807 (by decide)
  have b6808 : B' 6808 = B 6808 := hb 6808 (by decide)
  have b6809 : B' 6809 = B 6809 := hb 6809 (by decide)
  have b6810 : B' 6810 = B 6810 := hb 6810 (by decide)
  have b6811 : B' 6811 = B 6811 := hb 6811 (by decide)
  simp only [I_nd, yLv] at h ⊢
  simp only [a501, a502, a503, a504, a509, a510, a511, a512, a516, a517, a521, a522, b6800, b6801, b6802, b6803, b6804, b6805, b6806, b6807, b6808, b6809, b6810, b6811]
  exact h
theorem I_sb_fr {A A' B B' : zM} (ha : yCo [501, 504, 505, 506, 513, 514, 515] A A') (hb : yCo [6810, 6811] B B') (h : I_sb A B) : I_sb A' B' := by
  have a501 : A' 501 = A 501 := ha 501 (by decide)
  have a504 : A' 504 = A 504 := ha 504 (by decide)
  have a505 : A' 505 = A 505 := ha 505 (by decide)
  have a506 : A' 506 = A 506 := ha 506 (by decide)
  have a513 : A' 513 = A 513 := ha 513 (by decide)
  have a514 : A' 514 = A 514 := ha 514 (by decide)
  have a515 : A' 515 = A 515 := ha 515 (by decide)
  have b6810 : B' 6810 = B 6810 := hb 6810 (by decide)
  have b6811 : B' 6811 = B 6811 := hb 6811 (by decide)
  simp only [I_sb, yEn, yLv, zPv] at h ⊢
  simp only [a501, a504, a505, a506, a513, a514, a515, b6810, b6811]
  exact h
theorem I_ls_fr {A A' B B' : zM} (ha : yCo [501, 600, 601, 602] A A') (hb : yCo [6812, 6813, 6814, 6815] B B') (h : I_ls A B) : I_ls A' B' := by
  have a501 : A' 501 = A 501 := ha 501 (by decide)
  have a600 : A' 600 = A 600 := ha 600 (by decide)
  have a601 : A' 601 = A 601 := ha 601 (by decide)
  have a602 : A' 602 = A 602 := ha 602 (by decide)
  have b6812 : B' 6812 = B 6812 := hb 6812 (by decide)
  have b6813 : B' 6813 = B 6813 := hb 6813 (by decide)
  have b6814 : B' 6814 = B 6814 := hb 6814 (by decide)
  have b6815 : B' 6815 = B 6815 := hb 6815 (by decide)
  simp only [I_ls, yLv, I_al] at h ⊢
  simp only [a501, a600, a601, a602, b6812, b6813, b6814, b6815]
  exact h
theorem I_ix_fr {A A' B B' : zM} {rho : Int → Int} {K : Int} (ha : yCo [300, 501, 502, 504, 507] A A') (h : I_ix A rho K) : I_ix A' rho K := by
  have a300 : A' 300 = A 300 := ha 300 (by decide)
  have a501 : A' 501 = A 501 := ha 501 (by decide)
  have a502 : A' 502 = A 502 := ha 502 (by decide)
  have a504 : A' 504 = A 504 := ha 504 (by decide)
  have a507 : A' 507 = A 507 := ha 507 (by decide)
  simp only [I_ix, yBm, yLv, zPv] at h ⊢
  simp only [a300, a501, a502, a504, a507]
  exact h
theorem I_st_fr {A A' B B' : zM} (ha : yCo [400, 401, 402, 501, 522, 523] A A') (hb : yCo [6816] B B') (h : I_st A B) : I_st A' B' := by
  have a400 : A' 400 = A 400 := ha 400 (by decide)
  have a401 : A' 401 = A 401 := ha 401 (by decide)
  have a402 : A' 402 = A 402 := ha 402 (by decide)
  have a501 : A' 501 = A 501 := ha 501 (by decide)
  have a522 : A' 522 = A 522 := ha 522 (by decide)
  have a523 : A' 523 = A 523 := ha 523 (by decide)
  have b6816 : B' 6816 = B 6816 := hb 6816 (by decide)
  simp only [I_st, yRc, yLv] at h ⊢
  simp only [a400, a401, a402, a501, a522, a523, b6816]
  exact h
theorem I_bx_fr {A A' B B' : zM} (ha : yCo [203, 204, 501, 520, 700, 701, 702] A A') (hb : yCo [6817, 6818, 6819] B B') (h : I_bx A B) : I_bx A' B' := by
  have a203 : A' 203 = A 203 := ha 203 (by decide)
  have a204 : A' 204 = A 204 := ha 204 (by decide)
  have a501 : A' 501 = A 501 := ha 501 (by decide)
  have a520 : A' 520 = A 520 := ha 520 (by decide)
  have a700 : A' 700 = A 700 := ha 700 (by decide)
  have a701 : A' 701 = A 701 := ha 701 (by decide)
  have a702 : A' 702 = A 702 := ha 702 (by decide)
  have b6817 : B' 6817 = B 6817 := hb 6817 (by decide)
  have b6818 : B' 6818 = B 6818 := hb 6818 (by decide)
  have b6819 : B' 6819 = B 6819 := hb 6819 (by decide)
  simp only [I_bx, yMb, yLv] at h ⊢
  simp only [a203, a204, a501, a520, a700, a701, a702, b6817, b6818, b6819]
  exact h
theorem I_ac_fr {A A' B B' : zM} {acc : Int → Int} (ha : yCo [501, 504, 516, 517, 522] A A') (h : I_ac A acc) : I_ac A' acc := by
  have a501 : A' 501 = A 501 := ha 501 (by decide)
  have a504 : A' 504 = A 504 := ha 504 (by decide)
  have a516 : A' 516 = A 516 := ha 516 (by decide)
  have a517 : A' 517 = A 517 := ha 517 (by decide)
  have a522 : A' 522 = A 522 := ha 522 (by decide)
  simp only [I_ac, yco, yLv] at h ⊢
  simp only [a501, a504, a516, a517, a522]
  exact h
