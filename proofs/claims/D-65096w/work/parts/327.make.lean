set_option linter.unusedSimpArgs false
set_option linter.unusedVariables false
/-! a node is made: the walk -/
theorem p_accM {A A3 : zM} {P : Int → Prop} (hP : ∀ x, P x → 0 ≤ x ∧ A3 516 x 0 = A 516 x 0 ∧ (A 516 x 0 = 0 → A3 504 x 0 = A 504 x 0 ∧ P (A 504 x 0))) :
    ∀ (fuel : Nat) (d r : Int), P d → zlp fX1_account_B2 fuel d A = some (r, A) → zlp fX1_account_B2 fuel d A3 = some (r, A3) := by
  intro fuel
  induction fuel with
  | zero => intro d r _ h; cases h
  | succ f ih =>
    intro d r hd h
    obtain ⟨q1, q2, q3⟩ := hP d hd
    have h : fX1_account_B2 (zlp fX1_account_B2 f) d A = some (r, A) := h
    show fX1_account_B2 (zlp fX1_account_B2 f) d A3 = some (r, A3)
    by_cases z : A 516 d 0 = 0
    · obtain ⟨q4, q5⟩ := q3 z
      have e : fX1_account_B2 (zlp fX1_account_B2 f) d A = zlp fX1_account_B2 f (A 504 d 0) A := by
        generalize zlp fX1_account_B2 f = g
        unfold fX1_account_B2
        simp (disch := omega) only [↓zal_in, ↓zas_in, ↓zib_in, ↓znn_in, ↓zne_in, ↓zgf_ap, ↓zpf_ap, ↓zpb_in, ↓zlt_ap, ↓zret_ap, ↓zrb_in, zitT, zitF, zi_of, zl_of, zrd_hit, zrd_miss, if_true, if_false, not_true_eq_false, not_false_eq_true, z]
      have e3 : fX1_account_B2 (zlp fX1_account_B2 f) d A3 = zlp fX1_account_B2 f (A 504 d 0) A3 := by
        generalize zlp fX1_account_B2 f = g
        unfold fX1_account_B2
        simp (disch := omega) only [↓zal_in, ↓zas_in, ↓zib_in, ↓znn_in, ↓zne_in, ↓zgf_ap, ↓zpf_ap, ↓zpb_in, ↓zlt_ap, ↓zret_ap, ↓zrb_in, zitT, zitF, zi_of, zl_of, zrd_hit, zrd_miss, if_true, if_false, not_true_eq_false, not_false_eq_true, z, q2, q4]
      rw [e] at h
      rw [e3]
      exact ih _ _ q5 h
    · have e : fX1_account_B2 (zlp fX1_account_B2 f) d A = some (d, A) := by
        generalize zlp fX1_account_B2 f = g
        unfold fX1_account_B2
        simp (disch := omega) only [↓zal_in, ↓zas_in, ↓zib_in, ↓znn_in, ↓zne_in, ↓zgf_ap, ↓zpf_ap, ↓zpb_in, ↓zlt_ap, ↓zret_ap, ↓zrb_in, zitT, zitF, zi_of, zl_of, zrd_hit, zrd_miss, if_true, if_false, not_true_eq_false, not_false_eq_true]
      have e3 : fX1_account_B2 (zlp fX1_account_B2 f) d A3 = some (d, A3) := by
        generalize zlp fX1_account_B2 f = g
        unfold fX1_account_B2
        simp (disch := omega) only [↓zal_in, ↓zas_in, ↓zib_in, ↓znn_in, ↓zne_in, ↓zgf_ap, ↓zpf_ap, ↓zpb_in, ↓zlt_ap, ↓zret_ap, ↓zrb_in, zitT, zitF, zi_of, zl_of, zrd_hit, zrd_miss, if_true, if_false, not_true_eq_false, not_false_eq_true, q2]
      rw [e] at h
      rw [e3]
      cases h
      rfl
theorem p_accMT {A A3 : zM} {P : Int → Prop} (hP : ∀ x, P x → (0 ≤ x ∧ x < 256) ∧ A3 6807 0 x = A 6807 0 x ∧ (A 6807 0 x = 0 → A3 6802 0 x = A 6802 0 x ∧ P (A 6802 0 x))) :
    ∀ (fuel : Nat) (d r : Int), P d → zlp fX67_account_B2 fuel d A = some (r, A) → zlp fX67_account_B2 fuel d A3 = some (r, A3) := by
  intro fuel
  induction fuel with
  | zero => intro d r _ h; cases h
  | succ f ih =>
    intro d r hd h
    obtain ⟨q1, q2, q3⟩ := hP d hd
    have h : fX67_account_B2 (zlp fX67_account_B2 f) d A = some (r, A) := h
    show fX67_account_B2 (zlp fX67_account_B2 f) d A3 = some (r, A3)
    by_cases z : A 6807 0 d = 0
    · obtain ⟨q4, q5⟩ := q3 z
      have e : fX67_account_B2 (zlp fX67_account_B2 f) d A = zlp fX67_account_B2 f (A 6802 0 d) A := by
        generalize zlp fX67_account_B2 f = g
        unfold fX67_account_B2
        simp (disch := omega) only [↓zal_in, ↓zas_in, ↓zib_in, ↓znn_in, ↓zne_in, ↓zgf_ap, ↓zpf_ap, ↓zpb_in, ↓zlt_ap, ↓zret_ap, ↓zrb_in, zitT, zitF, zi_of, zl_of, zrd_hit, zrd_miss, if_true, if_false, not_true_eq_false, not_false_eq_true, z]
      have e3 : fX67_account_B2 (zlp fX67_account_B2 f) d A3 = zlp fX67_account_B2 f (A 6802 0 d) A3 := by
        generalize zlp fX67_account_B2 f = g
        unfold fX67_account_B2
        simp (disch := omega) only [↓zal_in, ↓zas_in, ↓zib_in, ↓znn_in, ↓zne_in, ↓zgf_ap, ↓zpf_ap, ↓zpb_in, ↓zlt_ap, ↓zret_ap, ↓zrb_in, zitT, zitF, zi_of, zl_of, zrd_hit, zrd_miss, if_true, if_false, not_true_eq_false, not_false_eq_true, z, q2, q4]
      rw [e] at h
      rw [e3]
      exact ih _ _ q5 h
    · have e : fX67_account_B2 (zlp fX67_account_B2 f) d A = some (d, A) := by
        generalize zlp fX67_account_B2 f = g
        unfold fX67_account_B2
        simp (disch := omega) only [↓zal_in, ↓zas_in, ↓zib_in, ↓znn_in, ↓zne_in, ↓zgf_ap, ↓zpf_ap, ↓zpb_in, ↓zlt_ap, ↓zret_ap, ↓zrb_in, zitT, zitF, zi_of, zl_of, zrd_hit, zrd_miss, if_true, if_false, not_true_eq_false, not_false_eq_true]
      have e3 : fX67_account_B2 (zlp fX67_account_B2 f) d A3 = some (d, A3) := by
        generalize zlp fX67_account_B2 f = g
        unfold fX67_account_B2
        simp (disch := omega) only [↓zal_in, ↓zas_in, ↓zib_in, ↓znn_in, ↓zne_in, ↓zgf_ap, ↓zpf_ap, ↓zpb_in, ↓zlt_ap, ↓zret_ap, ↓zrb_in, zitT, zitF, zi_of, zl_of, zrd_hit, zrd_miss, if_true, if_false, not_true_eq_false, not_false_eq_true, q2]
      rw [e] at h
      rw [e3]
      cases h
      rfl
def yBg (A : zM) (n k w l : Int) : zM := zup (zup (zup (zup (zup (zup (zup (zup (zup (zup (zup (zup (zup (zup (zup (zup (zup (zup A 501 n 0 k) 502 n 0 w) 503 n 0 l) 602 (3 * n) 0 0) 602 (3 * n + 1) 0 0) 602 (3 * n + 2) 0 0) 520 n 0 (-1)) 509 n 0 4) 510 n 0 4) 511 n 0 4) 512 n 0 0) 513 n 0 (-1)) 514 n 0 (-1)) 515 n 0 0) 516 n 0 0) 517 n 0 0) 521 n 0 0) 522 n 0 0
theorem p_begin (A : zM) (n k w l : Int) : fX4_begin n k w l A = some (0, yBg A n k w l) := by
  unfold fX4_begin fX5_clear fX4_setBrackets yBg
  simp (disch := omega) only [↓zpf_ap, ↓zret_ap, zcl_ap]
theorem p_append {A : zM} {d n : Int} (hn : 0 ≤ n) (hd : 0 ≤ d) (hnd : n ≠ d) (he : 0 ≤ A 515 d 0 ∧ A 515 d 0 ≤ 256) (hl : A 514 d 0 = -1 ∨ (0 ≤ A 514 d 0 ∧ A 514 d 0 ≠ n)) :
    ∃ A', fX4_append d n A = some (0, A') ∧ (∀ i, A' 504 i 0 = if i = n then d else A 504 i 0) ∧ (∀ i, A' 505 i 0 = if i = n then A 514 d 0 else A 505 i 0) ∧ (∀ i, 0 ≤ i → A' 506 i 0 = if i = n then -1 else if i = A 514 d 0 then n else A 506 i 0) ∧
      (∀ i, A' 513 i 0 = if i = d ∧ A 514 d 0 < 0 then n else A 513 i 0) ∧ (∀ i, A' 514 i 0 = if i = d then n else A 514 i 0) ∧ (∀ i, A' 515 i 0 = if i = d then A 515 d 0 + 1 else A 515 i 0) := by
  unfold fX4_append fX4_append_J41
  rcases hl with hl | hl
  · simp (disch := omega) only [↓zal_in, ↓zas_in, ↓zib_in, ↓znn_in, ↓zne_in, ↓zgf_ap, ↓zpf_ap, ↓zpb_in, ↓zlt_ap, ↓zret_ap, ↓zrb_in, zitT, zitF, zi_of, zl_of, zrd_hit, zrd_miss, if_true, if_false, not_true_eq_false, not_false_eq_true, hl]
    refine ⟨_, rfl, ?_, ?_, ?_, ?_, ?_, ?_⟩
    · intro i
      by_cases e : i = n
      · rw [if_pos e]; simp (disch := omega) only [zrd_hit, zrd_miss]
      · rw [if_neg e]; simp (disch := omega) only [zrd_hit, zrd_miss]
    · intro i
      by_cases e : i = n
      · rw [if_pos e]; simp (disch := omega) only [zrd_hit, zrd_miss]
      · rw [if_neg e]; simp (disch := omega) only [zrd_hit, zrd_miss]
    · intro i i0
      by_cases e : i = n
      · rw [if_pos e]; simp (disch := omega) only [zrd_hit, zrd_miss]
      · rw [if_neg e, if_neg (by omega)]; simp (disch := omega) only [zrd_hit, zrd_miss]
    · intro i
      by_cases e : i = d
      · rw [if_pos ⟨e, by omega⟩]; simp (disch := omega) only [zrd_hit, zrd_miss]
      · rw [if_neg (fun x => e x.1)]; simp (disch := omega) only [zrd_hit, zrd_miss]
    · intro i
      by_cases e : i = d
      · rw [if_pos e]; simp (disch := omega) only [zrd_hit, zrd_miss]
      · rw [if_neg e]; simp (disch := omega) only [zrd_hit, zrd_miss]
    · intro i
      by_cases e : i = d
      · rw [if_pos e]; simp (disch := omega) only [zrd_hit, zrd_miss]
      · rw [if_neg e]; simp (disch := omega) only [zrd_hit, zrd_miss]
  · simp (disch := omega) only [↓zal_in, ↓zas_in, ↓zib_in, ↓znn_in, ↓zne_in, ↓zgf_ap, ↓zpf_ap, ↓zpb_in, ↓zlt_ap, ↓zret_ap, ↓zrb_in, zitT, zitF, zi_of, zl_of, zrd_hit, zrd_miss, if_true, if_false, not_true_eq_false, not_false_eq_true]
    refine ⟨_, rfl, ?_, ?_, ?_, ?_, ?_, ?_⟩
    · intro i
      by_cases e : i = n
      · rw [if_pos e]; simp (disch := omega) only [zrd_hit, zrd_miss]
      · rw [if_neg e]; simp (disch := omega) only [zrd_hit, zrd_miss]
    · intro i
      by_cases e : i = n
      · rw [if_pos e]; simp (disch := omega) only [zrd_hit, zrd_miss]
      · rw [if_neg e]; simp (disch := omega) only [zrd_hit, zrd_miss]
    · intro i i0
      by_cases e : i = n
      · rw [if_pos e]; simp (disch := omega) only [zrd_hit, zrd_miss]
      · rw [if_neg e]
        by_cases q : i = A 514 d 0
        · rw [if_pos q]; simp (disch := omega) only [zrd_hit, zrd_miss]
        · rw [if_neg q]; simp (disch := omega) only [zrd_hit, zrd_miss]
    · intro i
      rw [if_neg (by omega)]; simp (disch := omega) only [zrd_hit, zrd_miss]
    · intro i
      by_cases e : i = d
      · rw [if_pos e]; simp (disch := omega) only [zrd_hit, zrd_miss]
      · rw [if_neg e]; simp (disch := omega) only [zrd_hit, zrd_miss]
    · intro i
      by_cases e : i = d
      · rw [if_pos e]; simp (disch := omega) only [zrd_hit, zrd_miss]
      · rw [if_neg e]; simp (disch := omega) only [zrd_hit, zrd_miss]
theorem p_ixadd {A : zM} {n d w : Int} (hn : 0 ≤ n) (hd : A 504 n 0 = d) (hd0 : 0 ≤ d) (hw : A 502 n 0 = w) : fX2_add n A = some (0, zup (zup A 507 n 0 (A 300 0 (ybk d w))) 300 0 (ybk d w) n) := by
  have hr := ybk_rng d w
  unfold fX2_add
  simp (disch := omega) only [↓zal_in, ↓zas_in, ↓zib_in, ↓znn_in, ↓zne_in, ↓zgf_ap, ↓zpf_ap, ↓zpb_in, ↓zlt_ap, ↓zret_ap, ↓zrb_in, zitT, zitF, zi_of, zl_of, zrd_hit, zrd_miss, if_true, if_false, not_true_eq_false, not_false_eq_true, hd, hw, zcl_some (p_bk w hd0 _)]
theorem p_cost {A : zM} {n : Int} (hk : 1 ≤ A 501 n 0 ∧ A 501 n 0 ≤ 3) (hl : 0 ≤ A 522 n 0 ∧ A 522 n 0 ≤ 1024) (hm : 0 ≤ A 516 n 0 ∧ A 516 n 0 ≤ 255) : fX4_cost n A = some (yco A n, A) := by
  have hz := zrec_rng hl
  unfold fX4_cost fX4_cost_J34 yco zco
  by_cases h3 : A 501 n 0 = 3
  · simp (disch := omega) only [↓zal_in, ↓zas_in, ↓zib_in, ↓znn_in, ↓zne_in, ↓zgf_ap, ↓zpf_ap, ↓zpb_in, ↓zlt_ap, ↓zret_ap, ↓zrb_in, zitT, zitF, zi_of, zl_of, zrd_hit, zrd_miss, if_true, if_false, not_true_eq_false, not_false_eq_true, zcl_some (p_ism n A), zbi_pos h3, h3]
    rfl
  · by_cases h2 : A 501 n 0 = 2
    · simp (disch := omega) only [↓zal_in, ↓zas_in, ↓zib_in, ↓znn_in, ↓zne_in, ↓zgf_ap, ↓zpf_ap, ↓zpb_in, ↓zlt_ap, ↓zret_ap, ↓zrb_in, zitT, zitF, zi_of, zl_of, zrd_hit, zrd_miss, if_true, if_false, not_true_eq_false, not_false_eq_true, zcl_some (p_ism n A), zbi_neg h3, zcl_some (p_iss n A), zbi_pos h2, zcl_some (p_rec hl A), if_pos h2]
    · simp (disch := omega) only [↓zal_in, ↓zas_in, ↓zib_in, ↓znn_in, ↓zne_in, ↓zgf_ap, ↓zpf_ap, ↓zpb_in, ↓zlt_ap, ↓zret_ap, ↓zrb_in, zitT, zitF, zi_of, zl_of, zrd_hit, zrd_miss, if_true, if_false, not_true_eq_false, not_false_eq_true, zcl_some (p_ism n A), zbi_neg h3, zcl_some (p_iss n A), zbi_neg h2, if_neg h2, if_neg h3]
