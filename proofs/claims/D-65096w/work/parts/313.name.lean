/-! the twin's test of names -/
theorem p_nmT_bad (w : Int) (M : zM) : ∀ (j : Nat) (o : Int) (fuel : Nat), j ≤ 6 → j < fuel → zlp (fX67_isName_B23 w) fuel (o, 0, 6 * (j : Int) - 6) M = some (0, M) := by
  intro j
  induction j with
  | zero =>
    intro o fuel _ hf
    obtain ⟨f, rfl⟩ : ∃ f, fuel = f + 1 := ⟨fuel - 1, by omega⟩
    show fX67_isName_B23 w (zlp _ f) _ M = _
    unfold fX67_isName_B23 fX67_isName_J91
    simp only [zit_ap, zret_ap, zrb_ap, zno_ap, znn_ap, zne_ap, zlt_ap, zgf_ap, zpf_ap, zpb_ap, zib_ap, zal_ap, zas_ap, zct_ap, zsc_ap, zhd_ap, zcl_ap]
    rw [if_pos (by omega), if_pos trivial]
  | succ j ih =>
    intro o fuel hj hf
    obtain ⟨f, rfl⟩ : ∃ f, fuel = f + 1 := ⟨fuel - 1, by omega⟩
    show fX67_isName_B23 w (zlp _ f) _ M = _
    have hk : (6 * ((j + 1 : Nat) : Int) - 6) = 6 * (j : Int) := by omega
    have hn : zi (6 * (j : Int) + (-6)) = 6 * (j : Int) - 6 := by unfold zi; omega
    unfold fX67_isName_B23 fX67_isName_J66 fX67_isName_J67 fX67_isName_J79 fX67_isName_J84
    simp only [zit_ap, zret_ap, zrb_ap, zno_ap, znn_ap, zne_ap, zlt_ap, zgf_ap, zpf_ap, zpb_ap, zib_ap, zal_ap, zas_ap, zct_ap, zsc_ap, zhd_ap, zcl_ap, hk, hn]
    rw [if_neg (by omega), if_pos trivial]
    by_cases h1 : o = 0
    · rw [if_neg (fun q => q h1)]
      split
      · exact ih 0 f (by omega) (by omega)
      · exact ih 1 f (by omega) (by omega)
    · rw [if_pos h1]
      exact ih 1 f (by omega) (by omega)
theorem p_nmT_loop (w : Int) (M : zM) : ∀ (j : Nat) (e fuel : Nat), j ≤ 6 → j < fuel → e ≤ 1 → zlp (fX67_isName_B23 w) fuel ((e : Int), 1, 6 * (j : Int) - 6) M = some (zbi (zgood w (decide (e = 1)) j = true ∧ w / 1073741824 > 0), M) := by
  intro j
  induction j with
  | zero =>
    intro e fuel _ hf _
    obtain ⟨f, rfl⟩ : ∃ f, fuel = f + 1 := ⟨fuel - 1, by omega⟩
    show fX67_isName_B23 w (zlp _ f) _ M = _
    unfold fX67_isName_B23 fX67_isName_J91
    simp only [zit_ap, zret_ap, zrb_ap, zno_ap, znn_ap, zne_ap, zlt_ap, zgf_ap, zpf_ap, zpb_ap, zib_ap, zal_ap, zas_ap, zct_ap, zsc_ap, zhd_ap, zcl_ap]
    rw [if_pos (by omega), if_neg (by omega)]
    by_cases h : w / 1073741824 ≤ 0
    · rw [if_pos h, zbi_neg (by omega)]
    · rw [if_neg h, zbi_pos ⟨rfl, by omega⟩]
  | succ j ih =>
    intro e fuel hj hf he
    obtain ⟨f, rfl⟩ : ∃ f, fuel = f + 1 := ⟨fuel - 1, by omega⟩
    show fX67_isName_B23 w (zlp _ f) _ M = _
    have hs := zsg_rng w j
    have hk : (6 * ((j + 1 : Nat) : Int) - 6) = 6 * (j : Int) := by omega
    have hm : (6 * j) % 64 = 6 * j := by omega
    have hn : zi (6 * (j : Int) + (-6)) = 6 * (j : Int) - 6 := by unfold zi; omega
    have hz : w / 2 ^ (6 * j) % 64 = zsg w j := rfl
    unfold fX67_isName_B23 fX67_isName_J66 fX67_isName_J62 fX67_isName_J67 fX67_isName_J79 fX67_isName_J84
    simp only [zit_ap, zret_ap, zrb_ap, zno_ap, znn_ap, zne_ap, zlt_ap, zgf_ap, zpf_ap, zpb_ap, zib_ap, zal_ap, zas_ap, zct_ap, zsc_ap, zhd_ap, zcl_ap, hk, zsg_at, hm, hn, hz]
    rw [if_neg (by omega), if_neg (by omega)]
    have hg : zgood w (decide (e = 1)) (j + 1) = if zsg w j > 38 ∨ (decide (e = 1) = true ∧ zsg w j > 0) then false else zgood w (decide (zsg w j = 0)) j := rfl
    have i0 := ih 0 f (by omega) (by omega) (by omega)
    have i1 := ih 1 f (by omega) (by omega) (by omega)
    simp only [Int.natCast_zero, Int.natCast_one] at i0 i1
    have b0 := p_nmT_bad w M j 0 f (by omega) (by omega)
    have b1 := p_nmT_bad w M j 1 f (by omega) (by omega)
    by_cases h1 : 38 < zsg w j
    · have h4 : zgood w (decide (e = 1)) (j + 1) = false := by rw [hg, if_pos (Or.inl h1)]
      rw [if_pos h1, h4, zbi_neg (by simp)]
      by_cases h2 : (e : Int) = 0
      · rw [if_neg (fun q => q h2), if_pos (by omega)]; exact b0
      · rw [if_pos h2]; exact b1
    · rw [if_neg h1]
      by_cases h2 : (e : Int) = 0
      · rw [if_pos h2, if_neg (fun q => q h2)]
        by_cases h3 : zsg w j = 0
        · have h4 : zgood w (decide (e = 1)) (j + 1) = zgood w true j := by rw [hg, if_neg (by omega)]; simp [h3]
          rw [h4, if_neg (fun q => q h3)]
          exact i1
        · have h4 : zgood w (decide (e = 1)) (j + 1) = zgood w false j := by rw [hg, if_neg (by simp; omega)]; simp [h3]
          rw [h4, if_pos h3]
          exact i0
      · rw [if_neg h2, if_pos h2, if_pos h2]
        by_cases h3 : zsg w j = 0
        · have h4 : zgood w (decide (e = 1)) (j + 1) = zgood w true j := by rw [hg, if_neg (by omega)]; simp [h3]
          rw [h4, if_neg (by omega)]
          exact i1
        · have h4 : zgood w (decide (e = 1)) (j + 1) = false := by rw [hg, if_pos (by right; exact ⟨by simp; omega, by omega⟩)]
          rw [h4, if_pos (by omega), zbi_neg (by simp)]
          exact b1
theorem p_nmT (w : Int) (M : zM) : fX67_isName w M = some (zbi (isNm w), M) := by
  unfold fX67_isName
  simp only [zit_ap, zret_ap, zrb_ap, zno_ap, znn_ap, zne_ap, zlt_ap, zgf_ap, zpf_ap, zpb_ap, zib_ap, zal_ap, zas_ap, zct_ap, zsc_ap, zhd_ap, zcl_ap, p_wdT, zbi_eq0]
  by_cases h1 : 0 ≤ w ∧ w ≤ 68719476735
  · rw [if_neg (fun q => q h1)]
    by_cases h2 : w = 0
    · rw [if_neg (fun q => q h2), zbi_neg]
      intro q
      have := q.2.1
      omega
    · rw [if_pos h2]
      have := p_nmT_loop w M 6 0 zBIG (by omega) (by decide) (by omega)
      simp only [Int.natCast_zero] at this
      rw [show (6 * ((6 : Nat) : Int) - 6) = 30 by decide] at this
      rw [this]
      have e : (zgood w (decide ((0 : Nat) = 1)) 6 = true ∧ w / 1073741824 > 0) = isNm w := by
        apply propext
        constructor
        · intro q
          exact ⟨h1, q.2, q.1⟩
        · intro q
          exact ⟨q.2.2, q.2.1⟩
      simp only [zbi, e]
  · rw [if_pos h1, zbi_neg]
    exact fun q => h1 q.1
