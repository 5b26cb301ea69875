set_option linter.unusedSimpArgs false
set_option linter.unusedVariables false
/-! login -/
theorem p_hf0 (v : Int) (M : zM) : fX0_isHalf v M = some (zbi (0 ≤ v ∧ v ≤ 262143), M) := by
  unfold fX0_isHalf
  by_cases h1 : v < 0
  · rw [zitT h1, zret_ap, zbi_neg (by omega)]
  · by_cases h2 : 262143 < v
    · rw [zitF h1, zitT h2, zret_ap, zbi_neg (by omega)]
    · rw [zitF h1, zitF h2, zret_ap, zbi_pos (by omega)]
theorem r_login {j N : Int} {A B : zM} (h : yInv j N A B) (hN : 0 ≤ N) {pe pj l sg pl ri : Int} (hpe : 0 ≤ pe ∧ pe ≤ 15) (hpj : 0 ≤ pj ∧ pj ≤ 7) (hl : 0 ≤ l ∧ l ≤ 31) (hs : yLv A sg ∧ A 501 sg 0 = 2) (hpl : 0 ≤ pl ∧ pl ≤ 262143) (hri : 0 ≤ ri ∧ ri ≤ 7) :
    ∃ r A' B', zlp (fX0_login_B76 pe pj l pl ri sg) zBIG 0 A = some (r, A') ∧ zlp (fX67_login_B78 pe pj l sg pl ri) zBIG 0 B = some (r, B') ∧ yInv j N A' B' := by
  refine zsim_big (B1 := fX0_login_B76 pe pj l pl ri sg) (B2 := fX67_login_B78 pe pj l sg pl ri) (fun s t A' B' k => s = t ∧ A' = A ∧ B' = B ∧ (0 ≤ s ∧ s ≤ 8) ∧ k = (8 - s).toNat) (fun a b => ∃ r A' B', a = some (r, A') ∧ b = some (r, B') ∧ yInv j N A' B') ?_ (n := 8) ⟨rfl, rfl, rfl, by omega, rfl⟩ (by omega)
  rintro s t A' B' k ⟨rfl, rfl, rfl, hs2, rfl⟩
  by_cases e : 8 ≤ s
  · left
    intro f g
    refine ⟨-5, A', B', ?_, ?_, h⟩
    · unfold fX0_login_B76; rw [zitT e, zret_ap]
    · unfold fX67_login_B78 fX67_login_J101; rw [zitT e, zitF (by omega), zret_ap]
  · have hp : yPr s := ⟨hs2.1, by omega⟩
    have lv := h.p.lv s hp
    by_cases z : A' 902 s 0 = 0
    · left
      intro f g
      obtain ⟨A2, e1, e2⟩ := p_begC (A := A') (p := s) (pe := pe) (pj := pj) (l := l) (sg := sg) (pl := pl) (ri := ri) hp
      obtain ⟨B2, e3, e4⟩ := p_begT (B := B') (p := s) (pe := pe) (pj := pj) (l := l) (sg := sg) (pl := pl) (ri := ri) hp
      refine ⟨s, A2, B2, ?_, ?_, r_begin h hp hpe hpj hl hs hpl hri hN e2 (fr_fX8_begin s pe pj l sg pl ri A' 0 A2 e1) e4 (fr_fX67_login_J101 pe pj l sg pl ri s B' s B2 e3)⟩
      · unfold fX0_login_B76 fX0_login_J96
        rw [zitF e, zib_in (by omega), zgf_ap, zitF (fun x => x z), zib_in (by omega), zcl_some e1, zret_ap]
      · unfold fX67_login_B78
        rw [zitF e, zal_in (by omega), lv.1, zitT z]; exact e3
    · right
      refine ⟨s + 1, s + 1, A', B', (8 - (s + 1)).toNat, by omega, ⟨rfl, rfl, rfl, by omega, rfl⟩, ?_, ?_⟩
      · intro f
        unfold fX0_login_B76
        rw [zitF e, zib_in (by omega), zgf_ap, zitT z, zlt_ap, zi_of (by omega)]
      · intro g
        unfold fX67_login_B78
        rw [zitF e, zal_in (by omega), lv.1, zitF z, zlt_ap, zi_of (by omega)]
theorem o_login {j N : Int} {A B : zM} (h : yInv j N A B) (hN : 0 ≤ N) (pe pj l sg pl ri : Int) : yOp j N A B (fX0_login pe pj l sg pl ri) (fX67_login pe pj l sg pl ri) := by
  have nd := yInv_nodes h
  unfold fX0_login fX67_login
  rcases y_getSeg nd sg with ⟨e1, e2, lv, kd⟩ | ⟨e1, e2⟩
  · have hn := lv.1
    by_cases c1 : 0 ≤ pe ∧ pe ≤ 15
    · by_cases c2 : 0 ≤ pj ∧ pj ≤ 7
      · by_cases c3 : 0 ≤ l ∧ l ≤ 31
        · by_cases c4 : 0 ≤ pl ∧ pl ≤ 262143
          · by_cases c5 : 0 ≤ ri ∧ ri ≤ 7
            · obtain ⟨r, A', B', f1, f2, f3⟩ := r_login h hN c1 c2 c3 ⟨lv, kd⟩ c4 c5
              refine ⟨r, A', B', ?_, ?_, yInv_up f3 (by omega) (Int.le_refl _)⟩
              · rw [zcl_some e1, zcl_some (p_in0 _ _ _ A), zbi_pos c1, zitF (by omega), zcl_some (p_in0 _ _ _ A), zbi_pos c2, zitF (by omega), zcl_some (p_lb0 _ A), zbi_pos c3, zitF (by omega), zitF (by omega), zcl_some (p_hf0 _ A), zbi_pos c4, zitF (by omega), zcl_some (p_in0 _ _ _ A), zbi_pos c5, zitT (by omega)]; exact f1
              · rw [zcl_some (p_inT _ _ _ B), zbi_pos c1, zitF (by omega), zcl_some (p_inT _ _ _ B), zbi_pos c2, zitF (by omega), zcl_some (p_inT _ _ _ B), zbi_pos c3, zitF (by omega), zcl_some e2, zitF (by omega), zcl_some (p_inT _ _ _ B), zbi_pos c4, zitF (by omega), zcl_some (p_inT _ _ _ B), zbi_pos c5, zitT (by omega)]; exact f2
            · exact yOp_same (r := -8) h (Int.le_refl _) (by rw [zcl_some e1, zcl_some (p_in0 _ _ _ A), zbi_pos c1, zitF (by omega), zcl_some (p_in0 _ _ _ A), zbi_pos c2, zitF (by omega), zcl_some (p_lb0 _ A), zbi_pos c3, zitF (by omega), zitF (by omega), zcl_some (p_hf0 _ A), zbi_pos c4, zitF (by omega), zcl_some (p_in0 _ _ _ A), zbi_neg c5, zitF (fun x => x rfl), zret_ap]) (by rw [zcl_some (p_inT _ _ _ B), zbi_pos c1, zitF (by omega), zcl_some (p_inT _ _ _ B), zbi_pos c2, zitF (by omega), zcl_some (p_inT _ _ _ B), zbi_pos c3, zitF (by omega), zcl_some e2, zitF (by omega), zcl_some (p_inT _ _ _ B), zbi_pos c4, zitF (by omega), zcl_some (p_inT _ _ _ B), zbi_neg c5, zitF (fun x => x rfl), zret_ap])
          · exact yOp_same (r := -8) h (Int.le_refl _) (by rw [zcl_some e1, zcl_some (p_in0 _ _ _ A), zbi_pos c1, zitF (by omega), zcl_some (p_in0 _ _ _ A), zbi_pos c2, zitF (by omega), zcl_some (p_lb0 _ A), zbi_pos c3, zitF (by omega), zitF (by omega), zcl_some (p_hf0 _ A), zbi_neg c4, zitT rfl, zret_ap]) (by rw [zcl_some (p_inT _ _ _ B), zbi_pos c1, zitF (by omega), zcl_some (p_inT _ _ _ B), zbi_pos c2, zitF (by omega), zcl_some (p_inT _ _ _ B), zbi_pos c3, zitF (by omega), zcl_some e2, zitF (by omega), zcl_some (p_inT _ _ _ B), zbi_neg c4, zitT rfl, zret_ap])
        · exact yOp_same (r := -8) h (Int.le_refl _) (by rw [zcl_some e1, zcl_some (p_in0 _ _ _ A), zbi_pos c1, zitF (by omega), zcl_some (p_in0 _ _ _ A), zbi_pos c2, zitF (by omega), zcl_some (p_lb0 _ A), zbi_neg c3, zitT rfl, zret_ap]) (by rw [zcl_some (p_inT _ _ _ B), zbi_pos c1, zitF (by omega), zcl_some (p_inT _ _ _ B), zbi_pos c2, zitF (by omega), zcl_some (p_inT _ _ _ B), zbi_neg c3, zitT rfl, zret_ap])
      · exact yOp_same (r := -8) h (Int.le_refl _) (by rw [zcl_some e1, zcl_some (p_in0 _ _ _ A), zbi_pos c1, zitF (by omega), zcl_some (p_in0 _ _ _ A), zbi_neg c2, zitT rfl, zret_ap]) (by rw [zcl_some (p_inT _ _ _ B), zbi_pos c1, zitF (by omega), zcl_some (p_inT _ _ _ B), zbi_neg c2, zitT rfl, zret_ap])
    · exact yOp_same (r := -8) h (Int.le_refl _) (by rw [zcl_some e1, zcl_some (p_in0 _ _ _ A), zbi_neg c1, zitT rfl, zret_ap]) (by rw [zcl_some (p_inT _ _ _ B), zbi_neg c1, zitT rfl, zret_ap])
  · refine yOp_same (r := -8) h (Int.le_refl _) ?_ ?_
    · rw [zcl_some e1, zcl_some (p_in0 _ _ _ A)]
      by_cases c1 : 0 ≤ pe ∧ pe ≤ 15
      · rw [zbi_pos c1, zitF (by omega), zcl_some (p_in0 _ _ _ A)]
        by_cases c2 : 0 ≤ pj ∧ pj ≤ 7
        · rw [zbi_pos c2, zitF (by omega), zcl_some (p_lb0 _ A)]
          by_cases c3 : 0 ≤ l ∧ l ≤ 31
          · rw [zbi_pos c3, zitF (by omega), zitT (by omega), zret_ap]
          · rw [zbi_neg c3, zitT rfl, zret_ap]
        · rw [zbi_neg c2, zitT rfl, zret_ap]
      · rw [zbi_neg c1, zitT rfl, zret_ap]
    · rw [zcl_some (p_inT _ _ _ B)]
      by_cases c1 : 0 ≤ pe ∧ pe ≤ 15
      · rw [zbi_pos c1, zitF (by omega), zcl_some (p_inT _ _ _ B)]
        by_cases c2 : 0 ≤ pj ∧ pj ≤ 7
        · rw [zbi_pos c2, zitF (by omega), zcl_some (p_inT _ _ _ B)]
          by_cases c3 : 0 ≤ l ∧ l ≤ 31
          · rw [zbi_pos c3, zitF (by omega), zcl_some e2, zitT rfl, zret_ap]
          · rw [zbi_neg c3, zitT rfl, zret_ap]
        · rw [zbi_neg c2, zitT rfl, zret_ap]
      · rw [zbi_neg c1, zitT rfl, zret_ap]
