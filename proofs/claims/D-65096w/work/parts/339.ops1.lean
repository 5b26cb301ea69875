set_option linter.unusedSimpArgs false
set_option linter.unusedVariables false
/-! operations of the tree from outside -/
theorem y_getDir {A B : zM} (h : I_nd A B) (n : Int) : (fX1_directory n A = some (n, A) ∧ fX67_isOf n 1 B = some (1, B) ∧ yLv A n ∧ A 501 n 0 = 1) ∨ (fX1_directory n A = some (-1, A) ∧ fX67_isOf n 1 B = some (0, B)) := by
  have e1 := p_dir0 n A
  have e2 := p_ofT n (k := 1) (by omega) B
  by_cases q : (0 ≤ n ∧ n ≤ 255) ∧ A 501 n 0 = 1
  · rw [if_pos q] at e1
    rw [zbi_pos ((y_kd h n 1).2 q)] at e2
    exact Or.inl ⟨e1, e2, ⟨by omega, by omega⟩, q.2⟩
  · rw [if_neg q] at e1
    rw [zbi_neg (fun x => q ((y_kd h n 1).1 x))] at e2
    exact Or.inr ⟨e1, e2⟩
theorem y_getSeg {A B : zM} (h : I_nd A B) (n : Int) : (fX1_segment n A = some (n, A) ∧ fX67_isOf n 2 B = some (1, B) ∧ yLv A n ∧ A 501 n 0 = 2) ∨ (fX1_segment n A = some (-1, A) ∧ fX67_isOf n 2 B = some (0, B)) := by
  have e1 := p_seg0 n A
  have e2 := p_ofT n (k := 2) (by omega) B
  by_cases q : (0 ≤ n ∧ n ≤ 255) ∧ A 501 n 0 = 2
  · rw [if_pos q] at e1
    rw [zbi_pos ((y_kd h n 2).2 q)] at e2
    exact Or.inl ⟨e1, e2, ⟨by omega, by omega⟩, q.2⟩
  · rw [if_neg q] at e1
    rw [zbi_neg (fun x => q ((y_kd h n 2).1 x))] at e2
    exact Or.inr ⟨e1, e2⟩
theorem y_getMb {A B : zM} (h : I_nd A B) (n : Int) : (fX1_mailbox n A = some (n, A) ∧ fX67_isOf n 3 B = some (1, B) ∧ yLv A n ∧ A 501 n 0 = 3) ∨ (fX1_mailbox n A = some (-1, A) ∧ fX67_isOf n 3 B = some (0, B)) := by
  have e1 := p_mbx0 n A
  have e2 := p_ofT n (k := 3) (by omega) B
  by_cases q : (0 ≤ n ∧ n ≤ 255) ∧ A 501 n 0 = 3
  · rw [if_pos q] at e1
    rw [zbi_pos ((y_kd h n 3).2 q)] at e2
    exact Or.inl ⟨e1, e2, ⟨by omega, by omega⟩, q.2⟩
  · rw [if_neg q] at e1
    rw [zbi_neg (fun x => q ((y_kd h n 3).1 x))] at e2
    exact Or.inr ⟨e1, e2⟩
theorem y_getNd {A B : zM} (h : I_nd A B) (n : Int) : (fX1_node n A = some (n, A) ∧ fX67_isNode n B = some (1, B) ∧ yLv A n) ∨ (fX1_node n A = some (-1, A) ∧ fX67_isNode n B = some (0, B)) := by
  have e1 := p_nd0 n A
  have e2 := p_ndT n B
  by_cases q : (0 ≤ n ∧ n ≤ 255) ∧ 0 < A 501 n 0
  · rw [if_pos q] at e1
    rw [zbi_pos ((y_nd h n).2 q)] at e2
    exact Or.inl ⟨e1, e2, ⟨by omega, by omega⟩⟩
  · rw [if_neg q] at e1
    rw [zbi_neg (fun x => q ((y_nd h n).1 x))] at e2
    exact Or.inr ⟨e1, e2⟩
theorem o_find {j N : Int} {A B : zM} (h : yInv j N A B) (n w : Int) : yOp j N A B (fX0_find n w) (fX67_find n w) := by
  obtain ⟨acc, rho, K, hT, -⟩ := h.t
  unfold fX0_find fX67_find
  rcases y_getDir hT.nd n with ⟨e1, e2, lv, kd⟩ | ⟨e1, e2⟩
  · obtain ⟨r, f1, f2, f3⟩ := p_fnd2 w hT lv.1.1
    have hn := lv.1
    refine yOp_same (r := r) h (Int.le_refl _) ?_ ?_
    · by_cases q : r < 0
      · simp (disch := omega) only [↓zal_in, ↓zas_in, ↓zib_in, ↓znn_in, ↓zne_in, ↓zgf_ap, ↓zpf_ap, ↓zpb_in, ↓zlt_ap, ↓zret_ap, ↓zrb_in, zitT, zitF, zi_of, zl_of, zrd_hit, zrd_miss, if_true, if_false, not_true_eq_false, not_false_eq_true, zcl_some e1, zcl_some f1]
        rcases f3 with ⟨x, -⟩ | ⟨x, -⟩
        · rw [x]
        · omega
      · simp (disch := omega) only [↓zal_in, ↓zas_in, ↓zib_in, ↓znn_in, ↓zne_in, ↓zgf_ap, ↓zpf_ap, ↓zpb_in, ↓zlt_ap, ↓zret_ap, ↓zrb_in, zitT, zitF, zi_of, zl_of, zrd_hit, zrd_miss, if_true, if_false, not_true_eq_false, not_false_eq_true, zcl_some e1, zcl_some f1]
    · simp (disch := omega) only [↓zal_in, ↓zas_in, ↓zib_in, ↓znn_in, ↓zne_in, ↓zgf_ap, ↓zpf_ap, ↓zpb_in, ↓zlt_ap, ↓zret_ap, ↓zrb_in, zitT, zitF, zi_of, zl_of, zrd_hit, zrd_miss, if_true, if_false, not_true_eq_false, not_false_eq_true, zcl_some e2, zcl_some f2]
  · exact yOp_same (r := -8) h (Int.le_refl _) (by simp (disch := omega) only [↓zal_in, ↓zas_in, ↓zib_in, ↓znn_in, ↓zne_in, ↓zgf_ap, ↓zpf_ap, ↓zpb_in, ↓zlt_ap, ↓zret_ap, ↓zrb_in, zitT, zitF, zi_of, zl_of, zrd_hit, zrd_miss, if_true, if_false, not_true_eq_false, not_false_eq_true, zcl_some e1]) (by simp (disch := omega) only [↓zal_in, ↓zas_in, ↓zib_in, ↓znn_in, ↓zne_in, ↓zgf_ap, ↓zpf_ap, ↓zpb_in, ↓zlt_ap, ↓zret_ap, ↓zrb_in, zitT, zitF, zi_of, zl_of, zrd_hit, zrd_miss, if_true, if_false, not_true_eq_false, not_false_eq_true, zcl_some e2])
theorem o_modes {j N : Int} {A B : zM} (h : yInv j N A B) (n p q : Int) : yOp j N A B (fX0_modes n p q) (fX67_modes n p q) := by
  obtain ⟨acc, rho, K, hT, -⟩ := h.t
  unfold fX0_modes fX67_modes
  rcases y_getNd hT.nd n with ⟨e1, e2, lv⟩ | ⟨e1, e2⟩
  · have hn := lv.1
    have al := hT.ls.ac n lv
    by_cases hp : 0 ≤ p ∧ p ≤ 15
    · by_cases hq : 0 ≤ q ∧ q ≤ 7
      · have of1 := p_of (A := A) (c := 3 * n) (p := p) (q := q) (by rw [al.n]; exact al.r) hp hq
        have of2 := p_moT (p := p) (q := q) al rfl lv.1 hp hq
        exact yOp_same h (Int.le_refl _) (by simp (disch := omega) only [↓zal_in, ↓zas_in, ↓zib_in, ↓znn_in, ↓zne_in, ↓zgf_ap, ↓zpf_ap, ↓zpb_in, ↓zlt_ap, ↓zret_ap, ↓zrb_in, zitT, zitF, zi_of, zl_of, zrd_hit, zrd_miss, if_true, if_false, not_true_eq_false, not_false_eq_true, zcl_some e1, zcl_some (p_in0 _ _ _ A), zbi_pos hp, zbi_pos hq, zcl_some of1]; rfl) (by simp (disch := omega) only [↓zal_in, ↓zas_in, ↓zib_in, ↓znn_in, ↓zne_in, ↓zgf_ap, ↓zpf_ap, ↓zpb_in, ↓zlt_ap, ↓zret_ap, ↓zrb_in, zitT, zitF, zi_of, zl_of, zrd_hit, zrd_miss, if_true, if_false, not_true_eq_false, not_false_eq_true, zcl_some e2, zcl_some (p_inT _ _ _ B), zbi_pos hp, zbi_pos hq, zcl_some of2])
      · exact yOp_same (r := -8) h (Int.le_refl _) (by simp (disch := omega) only [↓zal_in, ↓zas_in, ↓zib_in, ↓znn_in, ↓zne_in, ↓zgf_ap, ↓zpf_ap, ↓zpb_in, ↓zlt_ap, ↓zret_ap, ↓zrb_in, zitT, zitF, zi_of, zl_of, zrd_hit, zrd_miss, if_true, if_false, not_true_eq_false, not_false_eq_true, zcl_some e1, zcl_some (p_in0 _ _ _ A), zbi_pos hp, zbi_neg hq]) (by simp (disch := omega) only [↓zal_in, ↓zas_in, ↓zib_in, ↓znn_in, ↓zne_in, ↓zgf_ap, ↓zpf_ap, ↓zpb_in, ↓zlt_ap, ↓zret_ap, ↓zrb_in, zitT, zitF, zi_of, zl_of, zrd_hit, zrd_miss, if_true, if_false, not_true_eq_false, not_false_eq_true, zcl_some e2, zcl_some (p_inT _ _ _ B), zbi_pos hp, zbi_neg hq])
    · exact yOp_same (r := -8) h (Int.le_refl _) (by simp (disch := omega) only [↓zal_in, ↓zas_in, ↓zib_in, ↓znn_in, ↓zne_in, ↓zgf_ap, ↓zpf_ap, ↓zpb_in, ↓zlt_ap, ↓zret_ap, ↓zrb_in, zitT, zitF, zi_of, zl_of, zrd_hit, zrd_miss, if_true, if_false, not_true_eq_false, not_false_eq_true, zcl_some e1, zcl_some (p_in0 _ _ _ A), zbi_neg hp]) (by simp (disch := omega) only [↓zal_in, ↓zas_in, ↓zib_in, ↓znn_in, ↓zne_in, ↓zgf_ap, ↓zpf_ap, ↓zpb_in, ↓zlt_ap, ↓zret_ap, ↓zrb_in, zitT, zitF, zi_of, zl_of, zrd_hit, zrd_miss, if_true, if_false, not_true_eq_false, not_false_eq_true, zcl_some e2, zcl_some (p_inT _ _ _ B), zbi_neg hp])
  · exact yOp_same (r := -8) h (Int.le_refl _) (by simp (disch := omega) only [↓zal_in, ↓zas_in, ↓zib_in, ↓znn_in, ↓zne_in, ↓zgf_ap, ↓zpf_ap, ↓zpb_in, ↓zlt_ap, ↓zret_ap, ↓zrb_in, zitT, zitF, zi_of, zl_of, zrd_hit, zrd_miss, if_true, if_false, not_true_eq_false, not_false_eq_true, zcl_some e1]) (by simp (disch := omega) only [↓zal_in, ↓zas_in, ↓zib_in, ↓znn_in, ↓zne_in, ↓zgf_ap, ↓zpf_ap, ↓zpb_in, ↓zlt_ap, ↓zret_ap, ↓zrb_in, zitT, zitF, zi_of, zl_of, zrd_hit, zrd_miss, if_true, if_false, not_true_eq_false, not_false_eq_true, zcl_some e2])
theorem p_get {A B : zM} (hn : I_nd A B) (hs : I_st A B) {n i : Int} (lv : yLv A n) (kd : A 501 n 0 = 2) (hi : 0 ≤ i ∧ i < A 522 n 0) : fX1_get n i A = some (B 6816 0 (1024 * n + i), A) ∧ (0 ≤ B 6816 0 (1024 * n + i) ∧ B 6816 0 (1024 * n + i) ≤ 68719476735) := by
  have le := hn.le n lv
  rw [if_pos kd] at le
  have w := hs.wd n i lv kd hi.1 hi.2
  have rg := hs.rg n (i / 64) ⟨lv, kd, by omega, by unfold zrec; omega⟩
  refine ⟨?_, w.2⟩
  have t1 : Int.tdiv i 64 = i / 64 := Int.tdiv_eq_ediv_of_nonneg hi.1
  have t2 : Int.tmod i 64 = i % 64 := Int.tmod_eq_emod_of_nonneg hi.1
  have g : fX3_get (A 523 n (i / 64)) (i % 64) A = some (B 6816 0 (1024 * n + i), A) := by
    unfold fX3_get
    rw [zi_of (x := 64 * A 523 n (i / 64)) (by omega), zi_of (by omega), zal_in (by omega), zret_ap, w.1]
  unfold fX1_get
  rw [znn_in lv.1.1, t1, t2, zi_of (by omega), zal_in (by omega), zcl_some g, zret_ap]
theorem p_putC {A : zM} {B : zM} (hn : I_nd A B) (hs : I_st A B) {n i : Int} (lv : yLv A n) (kd : A 501 n 0 = 2) (hi : 0 ≤ i ∧ i < A 522 n 0) (w : Int) : fX1_put n i w A = some (0, zup A 400 0 (64 * A 523 n (i / 64) + i % 64) w) := by
  have le := hn.le n lv
  rw [if_pos kd] at le
  have rg := hs.rg n (i / 64) ⟨lv, kd, by omega, by unfold zrec; omega⟩
  have t1 : Int.tdiv i 64 = i / 64 := Int.tdiv_eq_ediv_of_nonneg hi.1
  have t2 : Int.tmod i 64 = i % 64 := Int.tmod_eq_emod_of_nonneg hi.1
  have g : fX3_put (A 523 n (i / 64)) (i % 64) w A = some (0, zup A 400 0 (64 * A 523 n (i / 64) + i % 64) w) := by
    unfold fX3_put
    rw [zi_of (x := 64 * A 523 n (i / 64)) (by omega), zi_of (by omega), zas_in (by omega), zret_ap]
  unfold fX1_put
  rw [znn_in lv.1.1, t1, t2, zi_of (by omega), zal_in (by omega), zcl_some g, zret_ap]
/-- a word is put -/
theorem T_put {A B : zM} (hn : I_nd A B) (h : I_st A B) {n i w : Int} (lv : yLv A n) (kd : A 501 n 0 = 2) (hi : 0 ≤ i ∧ i < A 522 n 0) (hw : 0 ≤ w ∧ w ≤ 68719476735) : I_st (zup A 400 0 (64 * A 523 n (i / 64) + i % 64) w) (zup B 6816 0 (1024 * n + i) w) := by
  have a : ∀ f, ¬ f = 400 → zup A 400 0 (64 * A 523 n (i / 64) + i % 64) w f = A f := fun f hf => zup_col hf
  have a1 := a 401 (by decide)
  have a2 := a 402 (by decide)
  have a3 := a 501 (by decide)
  have a4 := a 522 (by decide)
  have a5 := a 523 (by decide)
  have le := hn.le n lv
  rw [if_pos kd] at le
  have rci : yRc A n (i / 64) := ⟨lv, kd, by omega, by unfold zrec; omega⟩
  have hwd := h.wd
  have htl := h.tl
  simp only [I_st, yRc, yLv] at h hwd htl ⊢
  simp only [a1, a2, a3, a4, a5]
  obtain ⟨-, -, f3⟩ := h
  refine ⟨?_, ?_, f3⟩
  · intro m k hm hk k0 k1
    have lm := hn.le m hm
    rw [if_pos hk] at lm
    have w0 := hwd m k hm hk k0 k1
    by_cases e : m = n ∧ k = i
    · rw [e.1, e.2, zrd_hit ⟨rfl, rfl, rfl⟩, zrd_hit ⟨rfl, rfl, rfl⟩]
      exact ⟨rfl, hw⟩
    · have ne : ¬ (64 * A 523 m (k / 64) + k % 64 = 64 * A 523 n (i / 64) + i % 64) := by
        intro q
        obtain ⟨q1, q2⟩ := y_ad q (by omega) (by omega)
        obtain ⟨q3, q4⟩ := (show I_st A B from ⟨hwd, htl, f3⟩).ij m (k / 64) n (i / 64) ⟨hm, hk, by omega, by unfold zrec; omega⟩ rci q1
        exact e ⟨q3, by omega⟩
      rw [zrd_miss (fun x => ne x.2.2), zrd_miss (by omega)]
      exact w0
  · intro m k hm hk k0 k1
    have lm := hn.le m hm
    rw [if_pos hk] at lm
    have w0 := htl m k hm hk k0 k1
    have ne : ¬ (64 * A 523 m (k / 64) + k % 64 = 64 * A 523 n (i / 64) + i % 64) := by
      intro q
      obtain ⟨q1, q2⟩ := y_ad q (by omega) (by omega)
      obtain ⟨q3, q4⟩ := (show I_st A B from ⟨hwd, htl, f3⟩).ij m (k / 64) n (i / 64) ⟨hm, hk, by omega, by omega⟩ rci q1
      rw [q3] at k0
      omega
    rw [zrd_miss (fun x => ne x.2.2)]
    exact w0
theorem I_TB_put {N : Int} {A B : zM} (h : I_TB N A B) {n i w : Int} (lv : yLv A n) (kd : A 501 n 0 = 2) (hi : 0 ≤ i ∧ i < A 522 n 0) (hw : 0 ≤ w ∧ w ≤ 68719476735) : I_TB N (zup A 400 0 (64 * A 523 n (i / 64) + i % 64) w) (zup B 6816 0 (1024 * n + i) w) := by
  obtain ⟨acc, rho, K, hT, b1, b2, b3⟩ := h
  have ca : ∀ L : List Nat, (∀ c ∈ L, ¬ c = 400) → yCo L A (zup A 400 0 (64 * A 523 n (i / 64) + i % 64) w) := fun L d => yCo_up yCo_rf d
  have cb : ∀ L : List Nat, (∀ c ∈ L, ¬ c = 6816) → yCo L B (zup B 6816 0 (1024 * n + i) w) := fun L d => yCo_up yCo_rf d
  refine ⟨acc, rho, K, ⟨I_nd_fr (ca _ (by decide)) (cb _ (by decide)) hT.nd, I_sb_fr (ca _ (by decide)) (cb _ (by decide)) hT.sb, I_ls_fr (ca _ (by decide)) (cb _ (by decide)) hT.ls, I_ix_fr (B := B) (B' := B) (ca _ (by decide)) hT.ix, T_put hT.nd hT.st lv kd hi hw, I_bx_fr (ca _ (by decide)) (cb _ (by decide)) hT.bx, I_ac_fr (B := B) (B' := B) (ca _ (by decide)) hT.ac, ?_, hT.kb, ?_, ?_⟩, b1, ?_, ?_⟩
  · rw [zup_col (by decide), zup_col (by decide)]; exact hT.mn
  · rw [zup_col (by decide)]; exact hT.cb
  · rw [zup_col (by decide)]; exact hT.vb
  · rw [zup_col (by decide)]; exact b2
  · rw [zup_col (by decide)]; exact b3
theorem y_place {A B : zM} (h : I_nd A B) (n i : Int) : (fX1_segment n A = some (n, A) ∧ fX0_hasPlace n i A = some (1, A) ∧ fX67_isPlace n i B = some (1, B) ∧ yLv A n ∧ A 501 n 0 = 2 ∧ 0 ≤ i ∧ i < A 522 n 0) ∨ (∃ m, fX1_segment n A = some (m, A) ∧ fX0_hasPlace m i A = some (0, A) ∧ fX67_isPlace n i B = some (0, B)) := by
  unfold fX0_hasPlace fX67_isPlace
  rcases y_getSeg h n with ⟨e1, e2, lv, kd⟩ | ⟨e1, e2⟩
  · have hn := lv.1
    have le := h.le n lv
    rw [if_pos kd] at le
    by_cases q : 0 ≤ i ∧ i ≤ A 522 n 0 - 1
    · exact Or.inl ⟨e1, by simp (disch := omega) only [↓zal_in, ↓zas_in, ↓zib_in, ↓znn_in, ↓zne_in, ↓zgf_ap, ↓zpf_ap, ↓zpb_in, ↓zlt_ap, ↓zret_ap, ↓zrb_in, zitT, zitF, zi_of, zl_of, zrd_hit, zrd_miss, if_true, if_false, not_true_eq_false, not_false_eq_true, zcl_some (p_in0 _ _ _ A), zbi_pos q], by simp (disch := omega) only [↓zal_in, ↓zas_in, ↓zib_in, ↓znn_in, ↓zne_in, ↓zgf_ap, ↓zpf_ap, ↓zpb_in, ↓zlt_ap, ↓zret_ap, ↓zrb_in, zitT, zitF, zi_of, zl_of, zrd_hit, zrd_miss, if_true, if_false, not_true_eq_false, not_false_eq_true, zcl_some e2, le.1, zcl_some (p_inT _ _ _ B), zbi_pos q], lv, kd, by omega, by omega⟩
    · exact Or.inr ⟨n, e1, by simp (disch := omega) only [↓zal_in, ↓zas_in, ↓zib_in, ↓znn_in, ↓zne_in, ↓zgf_ap, ↓zpf_ap, ↓zpb_in, ↓zlt_ap, ↓zret_ap, ↓zrb_in, zitT, zitF, zi_of, zl_of, zrd_hit, zrd_miss, if_true, if_false, not_true_eq_false, not_false_eq_true, zcl_some (p_in0 _ _ _ A), zbi_neg q], by simp (disch := omega) only [↓zal_in, ↓zas_in, ↓zib_in, ↓znn_in, ↓zne_in, ↓zgf_ap, ↓zpf_ap, ↓zpb_in, ↓zlt_ap, ↓zret_ap, ↓zrb_in, zitT, zitF, zi_of, zl_of, zrd_hit, zrd_miss, if_true, if_false, not_true_eq_false, not_false_eq_true, zcl_some e2, le.1, zcl_some (p_inT _ _ _ B), zbi_neg q]⟩
  · exact Or.inr ⟨-1, e1, by simp (disch := omega) only [↓zal_in, ↓zas_in, ↓zib_in, ↓znn_in, ↓zne_in, ↓zgf_ap, ↓zpf_ap, ↓zpb_in, ↓zlt_ap, ↓zret_ap, ↓zrb_in, zitT, zitF, zi_of, zl_of, zrd_hit, zrd_miss, if_true, if_false, not_true_eq_false, not_false_eq_true], by simp (disch := omega) only [↓zal_in, ↓zas_in, ↓zib_in, ↓znn_in, ↓zne_in, ↓zgf_ap, ↓zpf_ap, ↓zpb_in, ↓zlt_ap, ↓zret_ap, ↓zrb_in, zitT, zitF, zi_of, zl_of, zrd_hit, zrd_miss, if_true, if_false, not_true_eq_false, not_false_eq_true, zcl_some e2]⟩
theorem o_word {j N : Int} {A B : zM} (h : yInv j N A B) (n i : Int) : yOp j N A B (fX0_word n i) (fX67_word n i) := by
  obtain ⟨acc, rho, K, hT, -⟩ := h.t
  unfold fX0_word fX67_word
  rcases y_place hT.nd n i with ⟨e1, e2, e3, lv, kd, hi⟩ | ⟨m, e1, e2, e3⟩
  · have hn := lv.1
    have le := hT.nd.le n lv
    rw [if_pos kd] at le
    have g := (p_get hT.nd hT.st lv kd hi).1
    exact yOp_same h (Int.le_refl _) (by simp (disch := omega) only [↓zal_in, ↓zas_in, ↓zib_in, ↓znn_in, ↓zne_in, ↓zgf_ap, ↓zpf_ap, ↓zpb_in, ↓zlt_ap, ↓zret_ap, ↓zrb_in, zitT, zitF, zi_of, zl_of, zrd_hit, zrd_miss, if_true, if_false, not_true_eq_false, not_false_eq_true, zcl_some e1, zcl_some e2, zcl_some g]; rfl) (by simp (disch := omega) only [↓zal_in, ↓zas_in, ↓zib_in, ↓znn_in, ↓zne_in, ↓zgf_ap, ↓zpf_ap, ↓zpb_in, ↓zlt_ap, ↓zret_ap, ↓zrb_in, zitT, zitF, zi_of, zl_of, zrd_hit, zrd_miss, if_true, if_false, not_true_eq_false, not_false_eq_true, zcl_some e3])
  · exact yOp_same (r := -1) h (Int.le_refl _) (by simp (disch := omega) only [↓zal_in, ↓zas_in, ↓zib_in, ↓znn_in, ↓zne_in, ↓zgf_ap, ↓zpf_ap, ↓zpb_in, ↓zlt_ap, ↓zret_ap, ↓zrb_in, zitT, zitF, zi_of, zl_of, zrd_hit, zrd_miss, if_true, if_false, not_true_eq_false, not_false_eq_true, zcl_some e1, zcl_some e2]) (by simp (disch := omega) only [↓zal_in, ↓zas_in, ↓zib_in, ↓znn_in, ↓zne_in, ↓zgf_ap, ↓zpf_ap, ↓zpb_in, ↓zlt_ap, ↓zret_ap, ↓zrb_in, zitT, zitF, zi_of, zl_of, zrd_hit, zrd_miss, if_true, if_false, not_true_eq_false, not_false_eq_true, zcl_some e3])
theorem o_put {j N : Int} {A B : zM} (h : yInv j N A B) (n i w : Int) : yOp j N A B (fX0_put n i w) (fX67_put n i w) := by
  obtain ⟨acc, rho, K, hT, -⟩ := h.t
  unfold fX0_put fX67_put
  rcases y_place hT.nd n i with ⟨e1, e2, e3, lv, kd, hi⟩ | ⟨m, e1, e2, e3⟩
  · have hn := lv.1
    have le := hT.nd.le n lv
    rw [if_pos kd] at le
    have g := (p_get hT.nd hT.st lv kd hi).1
    have p := p_putC hT.nd hT.st lv kd hi w
    by_cases hw : 0 ≤ w ∧ w ≤ 68719476735
    · refine ⟨_, _, _, by simp (disch := omega) only [↓zal_in, ↓zas_in, ↓zib_in, ↓znn_in, ↓zne_in, ↓zgf_ap, ↓zpf_ap, ↓zpb_in, ↓zlt_ap, ↓zret_ap, ↓zrb_in, zitT, zitF, zi_of, zl_of, zrd_hit, zrd_miss, if_true, if_false, not_true_eq_false, not_false_eq_true, zcl_some e1, zcl_some e2, zcl_some (p_wd0 w A), zbi_pos hw, zcl_some g, zcl_some p]; rfl, by simp (disch := omega) only [↓zal_in, ↓zas_in, ↓zib_in, ↓znn_in, ↓zne_in, ↓zgf_ap, ↓zpf_ap, ↓zpb_in, ↓zlt_ap, ↓zret_ap, ↓zrb_in, zitT, zitF, zi_of, zl_of, zrd_hit, zrd_miss, if_true, if_false, not_true_eq_false, not_false_eq_true, zcl_some e3, zcl_some (p_wdT w B), zbi_pos hw]; rfl, ?_⟩
      refine yInv_tree h (by omega) (Int.le_refl _) (I_TB_put h.t lv kd hi hw) (yTr_co (yCo_up yCo_rf (by decide))) (yCo_up yCo_rf (by decide)) (yCo_up yCo_rf (by decide)) (yCo_up yCo_rf (by decide)) (yCo_up yCo_rf (by decide))
    · exact yOp_same (r := -8) h (Int.le_refl _) (by simp (disch := omega) only [↓zal_in, ↓zas_in, ↓zib_in, ↓znn_in, ↓zne_in, ↓zgf_ap, ↓zpf_ap, ↓zpb_in, ↓zlt_ap, ↓zret_ap, ↓zrb_in, zitT, zitF, zi_of, zl_of, zrd_hit, zrd_miss, if_true, if_false, not_true_eq_false, not_false_eq_true, zcl_some e1, zcl_some e2, zcl_some (p_wd0 w A), zbi_neg hw]) (by simp (disch := omega) only [↓zal_in, ↓zas_in, ↓zib_in, ↓znn_in, ↓zne_in, ↓zgf_ap, ↓zpf_ap, ↓zpb_in, ↓zlt_ap, ↓zret_ap, ↓zrb_in, zitT, zitF, zi_of, zl_of, zrd_hit, zrd_miss, if_true, if_false, not_true_eq_false, not_false_eq_true, zcl_some e3, zcl_some (p_wdT w B), zbi_neg hw])
  · exact yOp_same (r := -1) h (Int.le_refl _) (by simp (disch := omega) only [↓zal_in, ↓zas_in, ↓zib_in, ↓znn_in, ↓zne_in, ↓zgf_ap, ↓zpf_ap, ↓zpb_in, ↓zlt_ap, ↓zret_ap, ↓zrb_in, zitT, zitF, zi_of, zl_of, zrd_hit, zrd_miss, if_true, if_false, not_true_eq_false, not_false_eq_true, zcl_some e1, zcl_some e2]) (by simp (disch := omega) only [↓zal_in, ↓zas_in, ↓zib_in, ↓znn_in, ↓zne_in, ↓zgf_ap, ↓zpf_ap, ↓zpb_in, ↓zlt_ap, ↓zret_ap, ↓zrb_in, zitT, zitF, zi_of, zl_of, zrd_hit, zrd_miss, if_true, if_false, not_true_eq_false, not_false_eq_true, zcl_some e3])
theorem o_letter {j N : Int} {A B : zM} (h : yInv j N A B) (n i w : Int) : yOp j N A B (fX0_letter n i w) (fX67_letter n i w) := by
  obtain ⟨acc, rho, K, hT, -⟩ := h.t
  unfold fX0_letter fX67_letter
  rcases y_getMb hT.nd n with ⟨e1, e2, lv, kd⟩ | ⟨e1, e2⟩
  · have hn := lv.1
    have bo := hT.bx.bo n ⟨lv, kd⟩
    have le := hT.bx.le n ⟨lv, kd⟩
    by_cases q : 0 ≤ i ∧ i ≤ B 6817 0 n - 1
    · have wo := hT.bx.wo n i ⟨lv, kd⟩ (by omega) (by omega)
      have lb := hT.bx.lb n i ⟨lv, kd⟩ (by omega) (by omega)
      by_cases w0 : w = 0
      · exact yOp_same h (Int.le_refl _) (by simp (disch := omega) only [↓zal_in, ↓zas_in, ↓zib_in, ↓znn_in, ↓zne_in, ↓zgf_ap, ↓zpf_ap, ↓zpb_in, ↓zlt_ap, ↓zret_ap, ↓zrb_in, zitT, zitF, zi_of, zl_of, zrd_hit, zrd_miss, if_true, if_false, not_true_eq_false, not_false_eq_true, zcl_some e1, le.1, zcl_some (p_in0 _ _ _ A), zbi_pos q]; rfl) (by simp (disch := omega) only [↓zal_in, ↓zas_in, ↓zib_in, ↓znn_in, ↓zne_in, ↓zgf_ap, ↓zpf_ap, ↓zpb_in, ↓zlt_ap, ↓zret_ap, ↓zrb_in, zitT, zitF, zi_of, zl_of, zrd_hit, zrd_miss, if_true, if_false, not_true_eq_false, not_false_eq_true, zcl_some e2, zcl_some (p_inT _ _ _ B), zbi_pos q]; rw [wo.1])
      · by_cases w1 : w = 1
        · exact yOp_same h (Int.le_refl _) (by simp (disch := omega) only [↓zal_in, ↓zas_in, ↓zib_in, ↓znn_in, ↓zne_in, ↓zgf_ap, ↓zpf_ap, ↓zpb_in, ↓zlt_ap, ↓zret_ap, ↓zrb_in, zitT, zitF, zi_of, zl_of, zrd_hit, zrd_miss, if_true, if_false, not_true_eq_false, not_false_eq_true, zcl_some e1, le.1, zcl_some (p_in0 _ _ _ A), zbi_pos q]; rfl) (by simp (disch := omega) only [↓zal_in, ↓zas_in, ↓zib_in, ↓znn_in, ↓zne_in, ↓zgf_ap, ↓zpf_ap, ↓zpb_in, ↓zlt_ap, ↓zret_ap, ↓zrb_in, zitT, zitF, zi_of, zl_of, zrd_hit, zrd_miss, if_true, if_false, not_true_eq_false, not_false_eq_true, zcl_some e2, zcl_some (p_inT _ _ _ B), zbi_pos q]; rw [lb.1])
        · exact yOp_same (r := -8) h (Int.le_refl _) (by simp (disch := omega) only [↓zal_in, ↓zas_in, ↓zib_in, ↓znn_in, ↓zne_in, ↓zgf_ap, ↓zpf_ap, ↓zpb_in, ↓zlt_ap, ↓zret_ap, ↓zrb_in, zitT, zitF, zi_of, zl_of, zrd_hit, zrd_miss, if_true, if_false, not_true_eq_false, not_false_eq_true, zcl_some e1, le.1, zcl_some (p_in0 _ _ _ A), zbi_pos q]) (by simp (disch := omega) only [↓zal_in, ↓zas_in, ↓zib_in, ↓znn_in, ↓zne_in, ↓zgf_ap, ↓zpf_ap, ↓zpb_in, ↓zlt_ap, ↓zret_ap, ↓zrb_in, zitT, zitF, zi_of, zl_of, zrd_hit, zrd_miss, if_true, if_false, not_true_eq_false, not_false_eq_true, zcl_some e2, zcl_some (p_inT _ _ _ B), zbi_pos q])
    · exact yOp_same (r := -1) h (Int.le_refl _) (by simp (disch := omega) only [↓zal_in, ↓zas_in, ↓zib_in, ↓znn_in, ↓zne_in, ↓zgf_ap, ↓zpf_ap, ↓zpb_in, ↓zlt_ap, ↓zret_ap, ↓zrb_in, zitT, zitF, zi_of, zl_of, zrd_hit, zrd_miss, if_true, if_false, not_true_eq_false, not_false_eq_true, zcl_some e1, le.1, zcl_some (p_in0 _ _ _ A), zbi_neg q]) (by simp (disch := omega) only [↓zal_in, ↓zas_in, ↓zib_in, ↓znn_in, ↓zne_in, ↓zgf_ap, ↓zpf_ap, ↓zpb_in, ↓zlt_ap, ↓zret_ap, ↓zrb_in, zitT, zitF, zi_of, zl_of, zrd_hit, zrd_miss, if_true, if_false, not_true_eq_false, not_false_eq_true, zcl_some e2, zcl_some (p_inT _ _ _ B), zbi_neg q])
  · exact yOp_same (r := -1) h (Int.le_refl _) (by simp (disch := omega) only [↓zal_in, ↓zas_in, ↓zib_in, ↓znn_in, ↓zne_in, ↓zgf_ap, ↓zpf_ap, ↓zpb_in, ↓zlt_ap, ↓zret_ap, ↓zrb_in, zitT, zitF, zi_of, zl_of, zrd_hit, zrd_miss, if_true, if_false, not_true_eq_false, not_false_eq_true, zcl_some e1]) (by simp (disch := omega) only [↓zal_in, ↓zas_in, ↓zib_in, ↓znn_in, ↓zne_in, ↓zgf_ap, ↓zpf_ap, ↓zpb_in, ↓zlt_ap, ↓zret_ap, ↓zrb_in, zitT, zitF, zi_of, zl_of, zrd_hit, zrd_miss, if_true, if_false, not_true_eq_false, not_false_eq_true, zcl_some e2])
theorem o_audit {j N : Int} {A B : zM} (h : yInv j N A B) (hN : N ≤ 900000) {i w : Int} (hi : i ≤ 2147483647) : yOp j N A B (fX0_audit i w) (fX67_audit i w) := by
  have m := h.u.m
  unfold fX0_audit fX67_audit
  by_cases c1 : i < 0
  · exact yOp_same (r := -1) h (Int.le_refl _) (by have e : fX13_has i A = some (0, A) := by unfold fX13_has; simp (disch := omega) only [↓zal_in, ↓zas_in, ↓zib_in, ↓znn_in, ↓zne_in, ↓zgf_ap, ↓zpf_ap, ↓zpb_in, ↓zlt_ap, ↓zret_ap, ↓zrb_in, zitT, zitF, zi_of, zl_of, zrd_hit, zrd_miss, if_true, if_false, not_true_eq_false, not_false_eq_true]
                                                   simp (disch := omega) only [↓zal_in, ↓zas_in, ↓zib_in, ↓znn_in, ↓zne_in, ↓zgf_ap, ↓zpf_ap, ↓zpb_in, ↓zlt_ap, ↓zret_ap, ↓zrb_in, zitT, zitF, zi_of, zl_of, zrd_hit, zrd_miss, if_true, if_false, not_true_eq_false, not_false_eq_true, zcl_some e]) (by simp (disch := omega) only [↓zal_in, ↓zas_in, ↓zib_in, ↓znn_in, ↓zne_in, ↓zgf_ap, ↓zpf_ap, ↓zpb_in, ↓zlt_ap, ↓zret_ap, ↓zrb_in, zitT, zitF, zi_of, zl_of, zrd_hit, zrd_miss, if_true, if_false, not_true_eq_false, not_false_eq_true])
  · by_cases c2 : A 1401 0 0 ≤ i
    · exact yOp_same (r := -1) h (Int.le_refl _) (by have e : fX13_has i A = some (0, A) := by unfold fX13_has; simp (disch := omega) only [↓zal_in, ↓zas_in, ↓zib_in, ↓znn_in, ↓zne_in, ↓zgf_ap, ↓zpf_ap, ↓zpb_in, ↓zlt_ap, ↓zret_ap, ↓zrb_in, zitT, zitF, zi_of, zl_of, zrd_hit, zrd_miss, if_true, if_false, not_true_eq_false, not_false_eq_true]
                                                     simp (disch := omega) only [↓zal_in, ↓zas_in, ↓zib_in, ↓znn_in, ↓zne_in, ↓zgf_ap, ↓zpf_ap, ↓zpb_in, ↓zlt_ap, ↓zret_ap, ↓zrb_in, zitT, zitF, zi_of, zl_of, zrd_hit, zrd_miss, if_true, if_false, not_true_eq_false, not_false_eq_true, zcl_some e]) (by simp (disch := omega) only [↓zal_in, ↓zas_in, ↓zib_in, ↓znn_in, ↓zne_in, ↓zgf_ap, ↓zpf_ap, ↓zpb_in, ↓zlt_ap, ↓zret_ap, ↓zrb_in, zitT, zitF, zi_of, zl_of, zrd_hit, zrd_miss, if_true, if_false, not_true_eq_false, not_false_eq_true, m.1])
    · by_cases c3 : i < A 1401 0 0 - 64
      · exact yOp_same (r := -1) h (Int.le_refl _) (by have e : fX13_has i A = some (0, A) := by unfold fX13_has; simp (disch := omega) only [↓zal_in, ↓zas_in, ↓zib_in, ↓znn_in, ↓zne_in, ↓zgf_ap, ↓zpf_ap, ↓zpb_in, ↓zlt_ap, ↓zret_ap, ↓zrb_in, zitT, zitF, zi_of, zl_of, zrd_hit, zrd_miss, if_true, if_false, not_true_eq_false, not_false_eq_true]
                                                       simp (disch := omega) only [↓zal_in, ↓zas_in, ↓zib_in, ↓znn_in, ↓zne_in, ↓zgf_ap, ↓zpf_ap, ↓zpb_in, ↓zlt_ap, ↓zret_ap, ↓zrb_in, zitT, zitF, zi_of, zl_of, zrd_hit, zrd_miss, if_true, if_false, not_true_eq_false, not_false_eq_true, zcl_some e]) (by simp (disch := omega) only [↓zal_in, ↓zas_in, ↓zib_in, ↓znn_in, ↓zne_in, ↓zgf_ap, ↓zpf_ap, ↓zpb_in, ↓zlt_ap, ↓zret_ap, ↓zrb_in, zitT, zitF, zi_of, zl_of, zrd_hit, zrd_miss, if_true, if_false, not_true_eq_false, not_false_eq_true, m.1])
      · have e : fX13_has i A = some (1, A) := by unfold fX13_has; simp (disch := omega) only [↓zal_in, ↓zas_in, ↓zib_in, ↓znn_in, ↓zne_in, ↓zgf_ap, ↓zpf_ap, ↓zpb_in, ↓zlt_ap, ↓zret_ap, ↓zrb_in, zitT, zitF, zi_of, zl_of, zrd_hit, zrd_miss, if_true, if_false, not_true_eq_false, not_false_eq_true]
        by_cases q : 0 ≤ w ∧ w ≤ 3
        · have t2 : Int.tmod i 64 = i % 64 := Int.tmod_eq_emod_of_nonneg (by omega)
          have r := h.u.r (4 * (i % 64) + w) (by omega) (by omega)
          exact yOp_same h (Int.le_refl _) (by simp (disch := omega) only [↓zal_in, ↓zas_in, ↓zib_in, ↓znn_in, ↓zne_in, ↓zgf_ap, ↓zpf_ap, ↓zpb_in, ↓zlt_ap, ↓zret_ap, ↓zrb_in, zitT, zitF, zi_of, zl_of, zrd_hit, zrd_miss, if_true, if_false, not_true_eq_false, not_false_eq_true, zcl_some e, zcl_some (p_in0 _ _ _ A), zbi_pos q, t2]; rfl) (by simp (disch := omega) only [↓zal_in, ↓zas_in, ↓zib_in, ↓znn_in, ↓zne_in, ↓zgf_ap, ↓zpf_ap, ↓zpb_in, ↓zlt_ap, ↓zret_ap, ↓zrb_in, zitT, zitF, zi_of, zl_of, zrd_hit, zrd_miss, if_true, if_false, not_true_eq_false, not_false_eq_true, m.1, zcl_some (p_inT _ _ _ B), zbi_pos q, t2]; rw [r])
        · exact yOp_same (r := -8) h (Int.le_refl _) (by simp (disch := omega) only [↓zal_in, ↓zas_in, ↓zib_in, ↓znn_in, ↓zne_in, ↓zgf_ap, ↓zpf_ap, ↓zpb_in, ↓zlt_ap, ↓zret_ap, ↓zrb_in, zitT, zitF, zi_of, zl_of, zrd_hit, zrd_miss, if_true, if_false, not_true_eq_false, not_false_eq_true, zcl_some e, zcl_some (p_in0 _ _ _ A), zbi_neg q]) (by simp (disch := omega) only [↓zal_in, ↓zas_in, ↓zib_in, ↓znn_in, ↓zne_in, ↓zgf_ap, ↓zpf_ap, ↓zpb_in, ↓zlt_ap, ↓zret_ap, ↓zrb_in, zitT, zitF, zi_of, zl_of, zrd_hit, zrd_miss, if_true, if_false, not_true_eq_false, not_false_eq_true, m.1, zcl_some (p_inT _ _ _ B), zbi_neg q])
