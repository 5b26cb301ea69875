/-! slots, places, texts, listings, tapes: what ties both sides -/
def I_misc (A B : zM) : Prop := B 6869 0 0 = A 109 0 0 ∧ B 6864 0 0 = A 108 0 0 ∧ (0 ≤ A 108 0 0 ∧ A 108 0 0 < 16) ∧ ∀ i, 0 ≤ i → i < 16 → B 6863 0 i = A 107 0 i ∧ -1 ≤ A 107 0 i ∧ A 107 0 i < 8
def I_text (A B : zM) : Prop := B 6867 0 0 = A 6503 0 0 ∧ (0 ≤ A 6503 0 0 ∧ A 6503 0 0 ≤ 4096) ∧ ∀ i, 0 ≤ i → i < A 6503 0 0 → B 6868 0 i = A 6502 0 i ∧ 0 ≤ A 6502 0 i ∧ A 6502 0 i < 256
def I_lst (A B : zM) : Prop := B 6870 0 0 = A 6702 0 0 ∧ (0 ≤ A 6702 0 0 ∧ A 6702 0 0 ≤ 40) ∧ ∀ i, 0 ≤ i → i < A 6702 0 0 → B 6871 0 i = A 6701 0 i
def I_tape (k : Int) (A B : zM) : Prop := B 6872 0 0 = A 6602 0 0 ∧ (0 ≤ A 6602 0 0 ∧ A 6602 0 0 ≤ 77500 + k) ∧ ∀ i, 0 ≤ i → i < A 6602 0 0 → B 6873 0 i = A 6601 0 i % 256
theorem o_place {A B : zM} (h : I_misc A B) : fX0_place A = some (A 109 0 0, A) ∧ fX67_place_2 B = some (A 109 0 0, B) := by
  unfold fX0_place fX67_place_2
  exact ⟨rfl, by simp only [zit_ap, zret_ap, zrb_ap, zno_ap, znn_ap, zne_ap, zlt_ap, zgf_ap, zpf_ap, zpb_ap, zib_ap, zal_ap, zas_ap, zct_ap, zsc_ap, zhd_ap, zcl_ap, h.1]⟩
theorem o_schedule {A B : zM} (h : I_misc A B) (s p : Int) : ∃ r A' B', fX0_schedule s p A = some (r, A') ∧ fX67_schedule s p B = some (r, B') ∧ I_misc A' B' := by
  unfold fX0_schedule fX67_schedule
  simp only [zit_ap, zret_ap, zrb_ap, zno_ap, znn_ap, zne_ap, zlt_ap, zgf_ap, zpf_ap, zpb_ap, zib_ap, zal_ap, zas_ap, zct_ap, zsc_ap, zhd_ap, zcl_ap, p_in0, p_inT, zbi_eq0]
  by_cases h1 : 0 ≤ s ∧ s ≤ 15
  · by_cases h2 : -1 ≤ p ∧ p ≤ 7
    · have hb : 0 ≤ s ∧ s < 16 := by omega
      obtain ⟨m1, m2, m3, m4⟩ := h
      have e := m4 s hb.1 hb.2
      refine ⟨A 107 0 s, zup A 107 0 s p, zup B 6863 0 s p, ?_, ?_, ?_⟩
      · simp [h1, h2, hb]
      · simp [h1, h2, hb, e.1]
      · refine ⟨m1, m2, m3, fun i hi hi' => ?_⟩
        by_cases q : i = s
        · subst q
          rw [zup_eq, zup_eq]
          omega
        · have a := m4 i hi hi'
          simp only [zup_ap, q, and_false, and_true, if_false, true_and]
          exact a
    · exact ⟨-8, A, B, by simp [h1, h2], by simp [h1, h2], h⟩
  · exact ⟨-8, A, B, by simp [h1], by simp [h1], h⟩
theorem o_type {A B : zM} (h : I_text A B) (w n : Int) : ∃ r A' B', fX0_type w n A = some (r, A') ∧ fX67_type w n B = some (r, B') ∧ I_text A' B' := by
  unfold fX0_type fX67_type
  simp only [zit_ap, zret_ap, zrb_ap, zno_ap, znn_ap, zne_ap, zlt_ap, zgf_ap, zpf_ap, zpb_ap, zib_ap, zal_ap, zas_ap, zct_ap, zsc_ap, zhd_ap, zcl_ap, p_in0, p_inT, zbi_eq0]
  obtain ⟨m1, m2, m3⟩ := h
  by_cases h1 : 1 ≤ n ∧ n ≤ 8
  · have hz : zi (A 6503 0 0 + n) = A 6503 0 0 + n := zi_of (by omega)
    simp only [h1, m1, hz, not_true_eq_false, not_false_eq_true, if_true, and_self]
    by_cases h2 : A 6503 0 0 + n ≤ 4096
    · simp only [h2, if_true]
      have key := zsim_big (B1 := fX0_type_B36 w n) (B2 := fX67_type_B33 w n) (fun s t A B k => s = t ∧ 0 ≤ s ∧ s ≤ n ∧ k = (n - s).toNat ∧ I_text A B ∧ A 6503 0 0 + (n - s) ≤ 4096)
        (fun a b => ∃ r A' B', a = some (r, A') ∧ b = some (r, B') ∧ I_text A' B')
        (by
          rintro s t A B k ⟨rfl, s0, s1, rfl, hI, hs⟩
          by_cases hd : n ≤ s
          · left
            intro f g
            refine ⟨A 6503 0 0, A, B, ?_, ?_, hI⟩
            · unfold fX0_type_B36 fX0_type_J88
              simp only [zit_ap, zret_ap, zrb_ap, zno_ap, znn_ap, zne_ap, zlt_ap, zgf_ap, zpf_ap, zpb_ap, zib_ap, zal_ap, zas_ap, zct_ap, zsc_ap, zhd_ap, zcl_ap, hd, if_true]
            · unfold fX67_type_B33 fX67_type_J76
              simp only [zit_ap, zret_ap, zrb_ap, zno_ap, znn_ap, zne_ap, zlt_ap, zgf_ap, zpf_ap, zpb_ap, zib_ap, zal_ap, zas_ap, zct_ap, zsc_ap, zhd_ap, zcl_ap, hd, if_true, hI.1]
          · right
            obtain ⟨q1, q2, q3⟩ := hI
            have hb : 0 ≤ A 6503 0 0 ∧ A 6503 0 0 < 4096 := by omega
            have e1 : zi (A 6503 0 0 + 1) = A 6503 0 0 + 1 := zi_of (by omega)
            have e2 : zi (s + 1) = s + 1 := zi_of (by omega)
            refine ⟨s + 1, s + 1, zup (zup A 6502 0 (A 6503 0 0) (zi ((w / 2 ^ ((zi (8 * s)) % 64).toNat) % 256))) 6503 0 0 (A 6503 0 0 + 1), zup (zup B 6868 0 (A 6503 0 0) (zi ((w / 2 ^ ((zi (8 * s)) % 64).toNat) % 256))) 6867 0 0 (A 6503 0 0 + 1), (n - (s + 1)).toNat, by omega, ⟨rfl, by omega, by omega, rfl, ?_, ?_⟩, ?_, ?_⟩
            · refine ⟨?_, ?_, ?_⟩
              · simp [zup_ap]
              · simp only [zup_eq]; omega
              · intro i hi hi'
                simp only [zup_eq] at hi'
                have hv : zi (w / 2 ^ ((zi (8 * s)) % 64).toNat % 256) = w / 2 ^ ((zi (8 * s)) % 64).toNat % 256 := zi_of (by omega)
                rw [hv]
                by_cases hq : i = A 6503 0 0
                · subst hq
                  simp only [zup_ap]
                  simp
                  omega
                · have a := q3 i hi (by omega)
                  simp only [zup_ap, hq, and_false, if_false]
                  simp
                  exact a
            · simp only [zup_eq]; omega
            · intro f
              unfold fX0_type_B36
              simp only [zit_ap, zret_ap, zrb_ap, zno_ap, znn_ap, zne_ap, zlt_ap, zgf_ap, zpf_ap, zpb_ap, zib_ap, zal_ap, zas_ap, zct_ap, zsc_ap, zhd_ap, zcl_ap, hd, if_false, hb, if_true, and_self, e2]
              simp [zup_ap, e1]
            · intro g
              unfold fX67_type_B33
              simp only [zit_ap, zret_ap, zrb_ap, zno_ap, znn_ap, zne_ap, zlt_ap, zgf_ap, zpf_ap, zpb_ap, zib_ap, zal_ap, zas_ap, zct_ap, zsc_ap, zhd_ap, zcl_ap, hd, if_false, q1, hb, if_true, and_self, e2]
              simp [zup_ap, q1, e1])
        (n := (n - 0).toNat) (s := 0) (t := 0) (A := A) (B := B) ⟨rfl, by omega, by omega, rfl, ⟨m1, m2, m3⟩, by omega⟩ (by omega)
      exact key
    · exact ⟨-5, A, B, by simp [h2], by simp [h2], m1, m2, m3⟩
  · exact ⟨-8, A, B, by simp [h1], by simp [h1], m1, m2, m3⟩
